set_option maxRecDepth 100000
/-! ===== where the fixed cells of both objects lie ===== -/
def xT : List (Nat × Nat) := [(0, 1), (1, 2), (2, 18), (3, 2), (4, 18), (5, 2), (6, 18), (7, 18), (8, 3), (9, 18), (10, 18), (11, 18), (12, 52), (13, 4), (14, 18), (15, 4), (16, 18), (17, 18), (18, 50), (19, 50), (20, 50), (21, 51), (22, 50), (23, 18), (24, 18), (25, 18), (26, 50), (27, 50)]
def xL : List (Nat × Nat) := [(12, 600), (18, 834), (19, 834), (20, 834), (21, 8), (22, 4), (26, 8784), (27, 128)]
/-- (class, field, cell, cell referred to) -/
def xR : List (Nat × Nat × Nat × Nat) := [(0, 1, 0, 1), (1, 2, 1, 2), (0, 2, 0, 3), (1, 2, 3, 4), (0, 3, 0, 5), (1, 2, 5, 6), (0, 4, 0, 7), (0, 5, 0, 8), (2, 8, 8, 9), (2, 9, 8, 10), (2, 10, 8, 11), (0, 6, 0, 12), (0, 16, 0, 13), (3, 0, 13, 14), (0, 17, 0, 15), (3, 0, 15, 16), (0, 18, 0, 17), (0, 30, 0, 18), (0, 31, 0, 19), (0, 32, 0, 20), (0, 33, 0, 21), (0, 34, 0, 22), (0, 37, 0, 23), (0, 38, 0, 24), (0, 39, 0, 25), (0, 40, 0, 26), (0, 41, 0, 27)]
/-- (field, cell, kind of the elements, length) of the model -/
def mT : List (Nat × Nat × Nat × Nat) := [(4, 1, 0, 3), (5, 2, 0, 240), (6, 3, 0, 240), (7, 4, 0, 240), (8, 5, 0, 4), (9, 6, 0, 4), (10, 7, 0, 4), (11, 8, 0, 4), (12, 9, 0, 4), (13, 10, 0, 4), (14, 11, 0, 4), (15, 12, 3, 4), (16, 13, 1, 4), (17, 14, 1, 13), (20, 15, 0, 2), (21, 16, 0, 2), (22, 17, 0, 2), (23, 18, 0, 2), (24, 19, 0, 2), (25, 20, 0, 2), (26, 21, 0, 2), (27, 22, 1, 2), (28, 23, 1, 2), (29, 24, 0, 1680), (30, 25, 0, 1680), (31, 26, 0, 1680), (32, 27, 0, 40), (33, 28, 0, 40), (34, 29, 0, 40), (35, 30, 0, 40), (36, 31, 0, 40), (37, 32, 0, 40), (38, 33, 0, 33360), (40, 34, 0, 4), (41, 35, 0, 834), (42, 36, 0, 834), (43, 37, 0, 834), (46, 38, 0, 60), (47, 39, 0, 60), (48, 40, 0, 60), (56, 41, 0, 9), (57, 42, 0, 9), (58, 43, 0, 216), (59, 44, 0, 216), (60, 45, 0, 216), (61, 46, 0, 216), (62, 47, 0, 5000), (63, 48, 0, 5000), (64, 49, 0, 5000), (65, 50, 0, 5000), (66, 51, 0, 5000), (67, 52, 0, 5000), (68, 53, 2, 600), (69, 54, 2, 600), (70, 55, 1, 8), (74, 56, 0, 20), (75, 57, 0, 20), (76, 58, 0, 20), (77, 59, 0, 8784), (78, 60, 0, 128)]
def xI : List (Nat × Nat × Nat × Int32) := [(1, 0, 1, 0), (1, 1, 1, 2000), (1, 0, 3, (-500)), (1, 1, 3, 500), (1, 0, 5, 0), (1, 1, 5, 100), (2, 0, 8, 0), (2, 1, 8, 1000), (2, 2, 8, 1500), (2, 3, 8, 20), (2, 4, 8, 4), (2, 5, 8, 100), (2, 6, 8, 0), (2, 7, 8, 0)]
/-- the fixed cells: WindGas from x on, WindGasModel from x + 28 on -/
def Lay (x : Nat) (M : Mem) : Prop :=
  (∀ e ∈ xT, M.k (x + e.1) = e.2) ∧ (∀ e ∈ xL, M.len (x + e.1) = e.2) ∧ (∀ e ∈ xR, M.r (128 * e.1 + e.2.1) (x + e.2.2.1) = x + e.2.2.2) ∧ M.k (x + 28) = 5 ∧ (∀ e ∈ mT, M.r (128 * 4 + e.1) (x + 28) = x + 28 + e.2.1 ∧ M.k (x + 28 + e.2.1) = 50 + e.2.2.1 ∧ M.len (x + 28 + e.2.1) = e.2.2.2) ∧ (∀ e ∈ xI, M.i (128 * e.1 + e.2.1) (x + e.2.2.1) = e.2.2.2) ∧ x + 88 ≤ M.n ∧ x ≠ 0
section
variable {x : Nat} {M : Mem} (h : Lay x M)
theorem Lay.k0 {x : Nat} {M : Mem} (h : Lay x M) : M.k (x) = 1 := h.1 (0, 1) (by decide)
theorem Lay.k1 {x : Nat} {M : Mem} (h : Lay x M) : M.k (x + 1) = 2 := h.1 (1, 2) (by decide)
theorem Lay.k2 {x : Nat} {M : Mem} (h : Lay x M) : M.k (x + 2) = 18 := h.1 (2, 18) (by decide)
theorem Lay.k3 {x : Nat} {M : Mem} (h : Lay x M) : M.k (x + 3) = 2 := h.1 (3, 2) (by decide)
theorem Lay.k4 {x : Nat} {M : Mem} (h : Lay x M) : M.k (x + 4) = 18 := h.1 (4, 18) (by decide)
theorem Lay.k5 {x : Nat} {M : Mem} (h : Lay x M) : M.k (x + 5) = 2 := h.1 (5, 2) (by decide)
theorem Lay.k6 {x : Nat} {M : Mem} (h : Lay x M) : M.k (x + 6) = 18 := h.1 (6, 18) (by decide)
theorem Lay.k7 {x : Nat} {M : Mem} (h : Lay x M) : M.k (x + 7) = 18 := h.1 (7, 18) (by decide)
theorem Lay.k8 {x : Nat} {M : Mem} (h : Lay x M) : M.k (x + 8) = 3 := h.1 (8, 3) (by decide)
theorem Lay.k9 {x : Nat} {M : Mem} (h : Lay x M) : M.k (x + 9) = 18 := h.1 (9, 18) (by decide)
theorem Lay.k10 {x : Nat} {M : Mem} (h : Lay x M) : M.k (x + 10) = 18 := h.1 (10, 18) (by decide)
theorem Lay.k11 {x : Nat} {M : Mem} (h : Lay x M) : M.k (x + 11) = 18 := h.1 (11, 18) (by decide)
theorem Lay.k12 {x : Nat} {M : Mem} (h : Lay x M) : M.k (x + 12) = 52 := h.1 (12, 52) (by decide)
theorem Lay.k13 {x : Nat} {M : Mem} (h : Lay x M) : M.k (x + 13) = 4 := h.1 (13, 4) (by decide)
theorem Lay.k14 {x : Nat} {M : Mem} (h : Lay x M) : M.k (x + 14) = 18 := h.1 (14, 18) (by decide)
theorem Lay.k15 {x : Nat} {M : Mem} (h : Lay x M) : M.k (x + 15) = 4 := h.1 (15, 4) (by decide)
theorem Lay.k16 {x : Nat} {M : Mem} (h : Lay x M) : M.k (x + 16) = 18 := h.1 (16, 18) (by decide)
theorem Lay.k17 {x : Nat} {M : Mem} (h : Lay x M) : M.k (x + 17) = 18 := h.1 (17, 18) (by decide)
theorem Lay.k18 {x : Nat} {M : Mem} (h : Lay x M) : M.k (x + 18) = 50 := h.1 (18, 50) (by decide)
theorem Lay.k19 {x : Nat} {M : Mem} (h : Lay x M) : M.k (x + 19) = 50 := h.1 (19, 50) (by decide)
theorem Lay.k20 {x : Nat} {M : Mem} (h : Lay x M) : M.k (x + 20) = 50 := h.1 (20, 50) (by decide)
theorem Lay.k21 {x : Nat} {M : Mem} (h : Lay x M) : M.k (x + 21) = 51 := h.1 (21, 51) (by decide)
theorem Lay.k22 {x : Nat} {M : Mem} (h : Lay x M) : M.k (x + 22) = 50 := h.1 (22, 50) (by decide)
theorem Lay.k23 {x : Nat} {M : Mem} (h : Lay x M) : M.k (x + 23) = 18 := h.1 (23, 18) (by decide)
theorem Lay.k24 {x : Nat} {M : Mem} (h : Lay x M) : M.k (x + 24) = 18 := h.1 (24, 18) (by decide)
theorem Lay.k25 {x : Nat} {M : Mem} (h : Lay x M) : M.k (x + 25) = 18 := h.1 (25, 18) (by decide)
theorem Lay.k26 {x : Nat} {M : Mem} (h : Lay x M) : M.k (x + 26) = 50 := h.1 (26, 50) (by decide)
theorem Lay.k27 {x : Nat} {M : Mem} (h : Lay x M) : M.k (x + 27) = 50 := h.1 (27, 50) (by decide)
theorem Lay.l12 {x : Nat} {M : Mem} (h : Lay x M) : M.len (x + 12) = 600 := h.2.1 (12, 600) (by decide)
theorem Lay.l18 {x : Nat} {M : Mem} (h : Lay x M) : M.len (x + 18) = 834 := h.2.1 (18, 834) (by decide)
theorem Lay.l19 {x : Nat} {M : Mem} (h : Lay x M) : M.len (x + 19) = 834 := h.2.1 (19, 834) (by decide)
theorem Lay.l20 {x : Nat} {M : Mem} (h : Lay x M) : M.len (x + 20) = 834 := h.2.1 (20, 834) (by decide)
theorem Lay.l21 {x : Nat} {M : Mem} (h : Lay x M) : M.len (x + 21) = 8 := h.2.1 (21, 8) (by decide)
theorem Lay.l22 {x : Nat} {M : Mem} (h : Lay x M) : M.len (x + 22) = 4 := h.2.1 (22, 4) (by decide)
theorem Lay.l26 {x : Nat} {M : Mem} (h : Lay x M) : M.len (x + 26) = 8784 := h.2.1 (26, 8784) (by decide)
theorem Lay.l27 {x : Nat} {M : Mem} (h : Lay x M) : M.len (x + 27) = 128 := h.2.1 (27, 128) (by decide)
theorem Lay.r0_1_0 {x : Nat} {M : Mem} (h : Lay x M) : M.r (128 * 0 + 1) (x) = x + 1 := h.2.2.1 (0, 1, 0, 1) (by decide)
theorem Lay.r1_2_1 {x : Nat} {M : Mem} (h : Lay x M) : M.r (128 * 1 + 2) (x + 1) = x + 2 := h.2.2.1 (1, 2, 1, 2) (by decide)
theorem Lay.r0_2_0 {x : Nat} {M : Mem} (h : Lay x M) : M.r (128 * 0 + 2) (x) = x + 3 := h.2.2.1 (0, 2, 0, 3) (by decide)
theorem Lay.r1_2_3 {x : Nat} {M : Mem} (h : Lay x M) : M.r (128 * 1 + 2) (x + 3) = x + 4 := h.2.2.1 (1, 2, 3, 4) (by decide)
theorem Lay.r0_3_0 {x : Nat} {M : Mem} (h : Lay x M) : M.r (128 * 0 + 3) (x) = x + 5 := h.2.2.1 (0, 3, 0, 5) (by decide)
theorem Lay.r1_2_5 {x : Nat} {M : Mem} (h : Lay x M) : M.r (128 * 1 + 2) (x + 5) = x + 6 := h.2.2.1 (1, 2, 5, 6) (by decide)
theorem Lay.r0_4_0 {x : Nat} {M : Mem} (h : Lay x M) : M.r (128 * 0 + 4) (x) = x + 7 := h.2.2.1 (0, 4, 0, 7) (by decide)
theorem Lay.r0_5_0 {x : Nat} {M : Mem} (h : Lay x M) : M.r (128 * 0 + 5) (x) = x + 8 := h.2.2.1 (0, 5, 0, 8) (by decide)
theorem Lay.r2_8_8 {x : Nat} {M : Mem} (h : Lay x M) : M.r (128 * 2 + 8) (x + 8) = x + 9 := h.2.2.1 (2, 8, 8, 9) (by decide)
theorem Lay.r2_9_8 {x : Nat} {M : Mem} (h : Lay x M) : M.r (128 * 2 + 9) (x + 8) = x + 10 := h.2.2.1 (2, 9, 8, 10) (by decide)
theorem Lay.r2_10_8 {x : Nat} {M : Mem} (h : Lay x M) : M.r (128 * 2 + 10) (x + 8) = x + 11 := h.2.2.1 (2, 10, 8, 11) (by decide)
theorem Lay.r0_6_0 {x : Nat} {M : Mem} (h : Lay x M) : M.r (128 * 0 + 6) (x) = x + 12 := h.2.2.1 (0, 6, 0, 12) (by decide)
theorem Lay.r0_16_0 {x : Nat} {M : Mem} (h : Lay x M) : M.r (128 * 0 + 16) (x) = x + 13 := h.2.2.1 (0, 16, 0, 13) (by decide)
theorem Lay.r3_0_13 {x : Nat} {M : Mem} (h : Lay x M) : M.r (128 * 3 + 0) (x + 13) = x + 14 := h.2.2.1 (3, 0, 13, 14) (by decide)
theorem Lay.r0_17_0 {x : Nat} {M : Mem} (h : Lay x M) : M.r (128 * 0 + 17) (x) = x + 15 := h.2.2.1 (0, 17, 0, 15) (by decide)
theorem Lay.r3_0_15 {x : Nat} {M : Mem} (h : Lay x M) : M.r (128 * 3 + 0) (x + 15) = x + 16 := h.2.2.1 (3, 0, 15, 16) (by decide)
theorem Lay.r0_18_0 {x : Nat} {M : Mem} (h : Lay x M) : M.r (128 * 0 + 18) (x) = x + 17 := h.2.2.1 (0, 18, 0, 17) (by decide)
theorem Lay.r0_30_0 {x : Nat} {M : Mem} (h : Lay x M) : M.r (128 * 0 + 30) (x) = x + 18 := h.2.2.1 (0, 30, 0, 18) (by decide)
theorem Lay.r0_31_0 {x : Nat} {M : Mem} (h : Lay x M) : M.r (128 * 0 + 31) (x) = x + 19 := h.2.2.1 (0, 31, 0, 19) (by decide)
theorem Lay.r0_32_0 {x : Nat} {M : Mem} (h : Lay x M) : M.r (128 * 0 + 32) (x) = x + 20 := h.2.2.1 (0, 32, 0, 20) (by decide)
theorem Lay.r0_33_0 {x : Nat} {M : Mem} (h : Lay x M) : M.r (128 * 0 + 33) (x) = x + 21 := h.2.2.1 (0, 33, 0, 21) (by decide)
theorem Lay.r0_34_0 {x : Nat} {M : Mem} (h : Lay x M) : M.r (128 * 0 + 34) (x) = x + 22 := h.2.2.1 (0, 34, 0, 22) (by decide)
theorem Lay.r0_37_0 {x : Nat} {M : Mem} (h : Lay x M) : M.r (128 * 0 + 37) (x) = x + 23 := h.2.2.1 (0, 37, 0, 23) (by decide)
theorem Lay.r0_38_0 {x : Nat} {M : Mem} (h : Lay x M) : M.r (128 * 0 + 38) (x) = x + 24 := h.2.2.1 (0, 38, 0, 24) (by decide)
theorem Lay.r0_39_0 {x : Nat} {M : Mem} (h : Lay x M) : M.r (128 * 0 + 39) (x) = x + 25 := h.2.2.1 (0, 39, 0, 25) (by decide)
theorem Lay.r0_40_0 {x : Nat} {M : Mem} (h : Lay x M) : M.r (128 * 0 + 40) (x) = x + 26 := h.2.2.1 (0, 40, 0, 26) (by decide)
theorem Lay.r0_41_0 {x : Nat} {M : Mem} (h : Lay x M) : M.r (128 * 0 + 41) (x) = x + 27 := h.2.2.1 (0, 41, 0, 27) (by decide)
theorem Lay.m0 {x : Nat} {M : Mem} (h : Lay x M) : M.k (x + 28) = 5 := h.2.2.2.1
theorem Lay.mr4 {x : Nat} {M : Mem} (h : Lay x M) : M.r (128 * 4 + 4) (x + 28) = x + 29 := (h.2.2.2.2.1 (4, 1, 0, 3) (by decide)).1
theorem Lay.mk4 {x : Nat} {M : Mem} (h : Lay x M) : M.k (x + 29) = 50 := (h.2.2.2.2.1 (4, 1, 0, 3) (by decide)).2.1
theorem Lay.ml4 {x : Nat} {M : Mem} (h : Lay x M) : M.len (x + 29) = 3 := (h.2.2.2.2.1 (4, 1, 0, 3) (by decide)).2.2
theorem Lay.mr5 {x : Nat} {M : Mem} (h : Lay x M) : M.r (128 * 4 + 5) (x + 28) = x + 30 := (h.2.2.2.2.1 (5, 2, 0, 240) (by decide)).1
theorem Lay.mk5 {x : Nat} {M : Mem} (h : Lay x M) : M.k (x + 30) = 50 := (h.2.2.2.2.1 (5, 2, 0, 240) (by decide)).2.1
theorem Lay.ml5 {x : Nat} {M : Mem} (h : Lay x M) : M.len (x + 30) = 240 := (h.2.2.2.2.1 (5, 2, 0, 240) (by decide)).2.2
theorem Lay.mr6 {x : Nat} {M : Mem} (h : Lay x M) : M.r (128 * 4 + 6) (x + 28) = x + 31 := (h.2.2.2.2.1 (6, 3, 0, 240) (by decide)).1
theorem Lay.mk6 {x : Nat} {M : Mem} (h : Lay x M) : M.k (x + 31) = 50 := (h.2.2.2.2.1 (6, 3, 0, 240) (by decide)).2.1
theorem Lay.ml6 {x : Nat} {M : Mem} (h : Lay x M) : M.len (x + 31) = 240 := (h.2.2.2.2.1 (6, 3, 0, 240) (by decide)).2.2
theorem Lay.mr7 {x : Nat} {M : Mem} (h : Lay x M) : M.r (128 * 4 + 7) (x + 28) = x + 32 := (h.2.2.2.2.1 (7, 4, 0, 240) (by decide)).1
theorem Lay.mk7 {x : Nat} {M : Mem} (h : Lay x M) : M.k (x + 32) = 50 := (h.2.2.2.2.1 (7, 4, 0, 240) (by decide)).2.1
theorem Lay.ml7 {x : Nat} {M : Mem} (h : Lay x M) : M.len (x + 32) = 240 := (h.2.2.2.2.1 (7, 4, 0, 240) (by decide)).2.2
theorem Lay.mr8 {x : Nat} {M : Mem} (h : Lay x M) : M.r (128 * 4 + 8) (x + 28) = x + 33 := (h.2.2.2.2.1 (8, 5, 0, 4) (by decide)).1
theorem Lay.mk8 {x : Nat} {M : Mem} (h : Lay x M) : M.k (x + 33) = 50 := (h.2.2.2.2.1 (8, 5, 0, 4) (by decide)).2.1
theorem Lay.ml8 {x : Nat} {M : Mem} (h : Lay x M) : M.len (x + 33) = 4 := (h.2.2.2.2.1 (8, 5, 0, 4) (by decide)).2.2
theorem Lay.mr9 {x : Nat} {M : Mem} (h : Lay x M) : M.r (128 * 4 + 9) (x + 28) = x + 34 := (h.2.2.2.2.1 (9, 6, 0, 4) (by decide)).1
theorem Lay.mk9 {x : Nat} {M : Mem} (h : Lay x M) : M.k (x + 34) = 50 := (h.2.2.2.2.1 (9, 6, 0, 4) (by decide)).2.1
theorem Lay.ml9 {x : Nat} {M : Mem} (h : Lay x M) : M.len (x + 34) = 4 := (h.2.2.2.2.1 (9, 6, 0, 4) (by decide)).2.2
theorem Lay.mr10 {x : Nat} {M : Mem} (h : Lay x M) : M.r (128 * 4 + 10) (x + 28) = x + 35 := (h.2.2.2.2.1 (10, 7, 0, 4) (by decide)).1
theorem Lay.mk10 {x : Nat} {M : Mem} (h : Lay x M) : M.k (x + 35) = 50 := (h.2.2.2.2.1 (10, 7, 0, 4) (by decide)).2.1
theorem Lay.ml10 {x : Nat} {M : Mem} (h : Lay x M) : M.len (x + 35) = 4 := (h.2.2.2.2.1 (10, 7, 0, 4) (by decide)).2.2
theorem Lay.mr11 {x : Nat} {M : Mem} (h : Lay x M) : M.r (128 * 4 + 11) (x + 28) = x + 36 := (h.2.2.2.2.1 (11, 8, 0, 4) (by decide)).1
theorem Lay.mk11 {x : Nat} {M : Mem} (h : Lay x M) : M.k (x + 36) = 50 := (h.2.2.2.2.1 (11, 8, 0, 4) (by decide)).2.1
theorem Lay.ml11 {x : Nat} {M : Mem} (h : Lay x M) : M.len (x + 36) = 4 := (h.2.2.2.2.1 (11, 8, 0, 4) (by decide)).2.2
theorem Lay.mr12 {x : Nat} {M : Mem} (h : Lay x M) : M.r (128 * 4 + 12) (x + 28) = x + 37 := (h.2.2.2.2.1 (12, 9, 0, 4) (by decide)).1
theorem Lay.mk12 {x : Nat} {M : Mem} (h : Lay x M) : M.k (x + 37) = 50 := (h.2.2.2.2.1 (12, 9, 0, 4) (by decide)).2.1
theorem Lay.ml12 {x : Nat} {M : Mem} (h : Lay x M) : M.len (x + 37) = 4 := (h.2.2.2.2.1 (12, 9, 0, 4) (by decide)).2.2
theorem Lay.mr13 {x : Nat} {M : Mem} (h : Lay x M) : M.r (128 * 4 + 13) (x + 28) = x + 38 := (h.2.2.2.2.1 (13, 10, 0, 4) (by decide)).1
theorem Lay.mk13 {x : Nat} {M : Mem} (h : Lay x M) : M.k (x + 38) = 50 := (h.2.2.2.2.1 (13, 10, 0, 4) (by decide)).2.1
theorem Lay.ml13 {x : Nat} {M : Mem} (h : Lay x M) : M.len (x + 38) = 4 := (h.2.2.2.2.1 (13, 10, 0, 4) (by decide)).2.2
theorem Lay.mr14 {x : Nat} {M : Mem} (h : Lay x M) : M.r (128 * 4 + 14) (x + 28) = x + 39 := (h.2.2.2.2.1 (14, 11, 0, 4) (by decide)).1
theorem Lay.mk14 {x : Nat} {M : Mem} (h : Lay x M) : M.k (x + 39) = 50 := (h.2.2.2.2.1 (14, 11, 0, 4) (by decide)).2.1
theorem Lay.ml14 {x : Nat} {M : Mem} (h : Lay x M) : M.len (x + 39) = 4 := (h.2.2.2.2.1 (14, 11, 0, 4) (by decide)).2.2
theorem Lay.mr15 {x : Nat} {M : Mem} (h : Lay x M) : M.r (128 * 4 + 15) (x + 28) = x + 40 := (h.2.2.2.2.1 (15, 12, 3, 4) (by decide)).1
theorem Lay.mk15 {x : Nat} {M : Mem} (h : Lay x M) : M.k (x + 40) = 53 := (h.2.2.2.2.1 (15, 12, 3, 4) (by decide)).2.1
theorem Lay.ml15 {x : Nat} {M : Mem} (h : Lay x M) : M.len (x + 40) = 4 := (h.2.2.2.2.1 (15, 12, 3, 4) (by decide)).2.2
theorem Lay.mr16 {x : Nat} {M : Mem} (h : Lay x M) : M.r (128 * 4 + 16) (x + 28) = x + 41 := (h.2.2.2.2.1 (16, 13, 1, 4) (by decide)).1
theorem Lay.mk16 {x : Nat} {M : Mem} (h : Lay x M) : M.k (x + 41) = 51 := (h.2.2.2.2.1 (16, 13, 1, 4) (by decide)).2.1
theorem Lay.ml16 {x : Nat} {M : Mem} (h : Lay x M) : M.len (x + 41) = 4 := (h.2.2.2.2.1 (16, 13, 1, 4) (by decide)).2.2
theorem Lay.mr17 {x : Nat} {M : Mem} (h : Lay x M) : M.r (128 * 4 + 17) (x + 28) = x + 42 := (h.2.2.2.2.1 (17, 14, 1, 13) (by decide)).1
theorem Lay.mk17 {x : Nat} {M : Mem} (h : Lay x M) : M.k (x + 42) = 51 := (h.2.2.2.2.1 (17, 14, 1, 13) (by decide)).2.1
theorem Lay.ml17 {x : Nat} {M : Mem} (h : Lay x M) : M.len (x + 42) = 13 := (h.2.2.2.2.1 (17, 14, 1, 13) (by decide)).2.2
theorem Lay.mr20 {x : Nat} {M : Mem} (h : Lay x M) : M.r (128 * 4 + 20) (x + 28) = x + 43 := (h.2.2.2.2.1 (20, 15, 0, 2) (by decide)).1
theorem Lay.mk20 {x : Nat} {M : Mem} (h : Lay x M) : M.k (x + 43) = 50 := (h.2.2.2.2.1 (20, 15, 0, 2) (by decide)).2.1
theorem Lay.ml20 {x : Nat} {M : Mem} (h : Lay x M) : M.len (x + 43) = 2 := (h.2.2.2.2.1 (20, 15, 0, 2) (by decide)).2.2
theorem Lay.mr21 {x : Nat} {M : Mem} (h : Lay x M) : M.r (128 * 4 + 21) (x + 28) = x + 44 := (h.2.2.2.2.1 (21, 16, 0, 2) (by decide)).1
theorem Lay.mk21 {x : Nat} {M : Mem} (h : Lay x M) : M.k (x + 44) = 50 := (h.2.2.2.2.1 (21, 16, 0, 2) (by decide)).2.1
theorem Lay.ml21 {x : Nat} {M : Mem} (h : Lay x M) : M.len (x + 44) = 2 := (h.2.2.2.2.1 (21, 16, 0, 2) (by decide)).2.2
theorem Lay.mr22 {x : Nat} {M : Mem} (h : Lay x M) : M.r (128 * 4 + 22) (x + 28) = x + 45 := (h.2.2.2.2.1 (22, 17, 0, 2) (by decide)).1
theorem Lay.mk22 {x : Nat} {M : Mem} (h : Lay x M) : M.k (x + 45) = 50 := (h.2.2.2.2.1 (22, 17, 0, 2) (by decide)).2.1
theorem Lay.ml22 {x : Nat} {M : Mem} (h : Lay x M) : M.len (x + 45) = 2 := (h.2.2.2.2.1 (22, 17, 0, 2) (by decide)).2.2
theorem Lay.mr23 {x : Nat} {M : Mem} (h : Lay x M) : M.r (128 * 4 + 23) (x + 28) = x + 46 := (h.2.2.2.2.1 (23, 18, 0, 2) (by decide)).1
theorem Lay.mk23 {x : Nat} {M : Mem} (h : Lay x M) : M.k (x + 46) = 50 := (h.2.2.2.2.1 (23, 18, 0, 2) (by decide)).2.1
theorem Lay.ml23 {x : Nat} {M : Mem} (h : Lay x M) : M.len (x + 46) = 2 := (h.2.2.2.2.1 (23, 18, 0, 2) (by decide)).2.2
theorem Lay.mr24 {x : Nat} {M : Mem} (h : Lay x M) : M.r (128 * 4 + 24) (x + 28) = x + 47 := (h.2.2.2.2.1 (24, 19, 0, 2) (by decide)).1
theorem Lay.mk24 {x : Nat} {M : Mem} (h : Lay x M) : M.k (x + 47) = 50 := (h.2.2.2.2.1 (24, 19, 0, 2) (by decide)).2.1
theorem Lay.ml24 {x : Nat} {M : Mem} (h : Lay x M) : M.len (x + 47) = 2 := (h.2.2.2.2.1 (24, 19, 0, 2) (by decide)).2.2
theorem Lay.mr25 {x : Nat} {M : Mem} (h : Lay x M) : M.r (128 * 4 + 25) (x + 28) = x + 48 := (h.2.2.2.2.1 (25, 20, 0, 2) (by decide)).1
theorem Lay.mk25 {x : Nat} {M : Mem} (h : Lay x M) : M.k (x + 48) = 50 := (h.2.2.2.2.1 (25, 20, 0, 2) (by decide)).2.1
theorem Lay.ml25 {x : Nat} {M : Mem} (h : Lay x M) : M.len (x + 48) = 2 := (h.2.2.2.2.1 (25, 20, 0, 2) (by decide)).2.2
theorem Lay.mr26 {x : Nat} {M : Mem} (h : Lay x M) : M.r (128 * 4 + 26) (x + 28) = x + 49 := (h.2.2.2.2.1 (26, 21, 0, 2) (by decide)).1
theorem Lay.mk26 {x : Nat} {M : Mem} (h : Lay x M) : M.k (x + 49) = 50 := (h.2.2.2.2.1 (26, 21, 0, 2) (by decide)).2.1
theorem Lay.ml26 {x : Nat} {M : Mem} (h : Lay x M) : M.len (x + 49) = 2 := (h.2.2.2.2.1 (26, 21, 0, 2) (by decide)).2.2
theorem Lay.mr27 {x : Nat} {M : Mem} (h : Lay x M) : M.r (128 * 4 + 27) (x + 28) = x + 50 := (h.2.2.2.2.1 (27, 22, 1, 2) (by decide)).1
theorem Lay.mk27 {x : Nat} {M : Mem} (h : Lay x M) : M.k (x + 50) = 51 := (h.2.2.2.2.1 (27, 22, 1, 2) (by decide)).2.1
theorem Lay.ml27 {x : Nat} {M : Mem} (h : Lay x M) : M.len (x + 50) = 2 := (h.2.2.2.2.1 (27, 22, 1, 2) (by decide)).2.2
theorem Lay.mr28 {x : Nat} {M : Mem} (h : Lay x M) : M.r (128 * 4 + 28) (x + 28) = x + 51 := (h.2.2.2.2.1 (28, 23, 1, 2) (by decide)).1
theorem Lay.mk28 {x : Nat} {M : Mem} (h : Lay x M) : M.k (x + 51) = 51 := (h.2.2.2.2.1 (28, 23, 1, 2) (by decide)).2.1
theorem Lay.ml28 {x : Nat} {M : Mem} (h : Lay x M) : M.len (x + 51) = 2 := (h.2.2.2.2.1 (28, 23, 1, 2) (by decide)).2.2
theorem Lay.mr29 {x : Nat} {M : Mem} (h : Lay x M) : M.r (128 * 4 + 29) (x + 28) = x + 52 := (h.2.2.2.2.1 (29, 24, 0, 1680) (by decide)).1
theorem Lay.mk29 {x : Nat} {M : Mem} (h : Lay x M) : M.k (x + 52) = 50 := (h.2.2.2.2.1 (29, 24, 0, 1680) (by decide)).2.1
theorem Lay.ml29 {x : Nat} {M : Mem} (h : Lay x M) : M.len (x + 52) = 1680 := (h.2.2.2.2.1 (29, 24, 0, 1680) (by decide)).2.2
theorem Lay.mr30 {x : Nat} {M : Mem} (h : Lay x M) : M.r (128 * 4 + 30) (x + 28) = x + 53 := (h.2.2.2.2.1 (30, 25, 0, 1680) (by decide)).1
theorem Lay.mk30 {x : Nat} {M : Mem} (h : Lay x M) : M.k (x + 53) = 50 := (h.2.2.2.2.1 (30, 25, 0, 1680) (by decide)).2.1
theorem Lay.ml30 {x : Nat} {M : Mem} (h : Lay x M) : M.len (x + 53) = 1680 := (h.2.2.2.2.1 (30, 25, 0, 1680) (by decide)).2.2
theorem Lay.mr31 {x : Nat} {M : Mem} (h : Lay x M) : M.r (128 * 4 + 31) (x + 28) = x + 54 := (h.2.2.2.2.1 (31, 26, 0, 1680) (by decide)).1
theorem Lay.mk31 {x : Nat} {M : Mem} (h : Lay x M) : M.k (x + 54) = 50 := (h.2.2.2.2.1 (31, 26, 0, 1680) (by decide)).2.1
theorem Lay.ml31 {x : Nat} {M : Mem} (h : Lay x M) : M.len (x + 54) = 1680 := (h.2.2.2.2.1 (31, 26, 0, 1680) (by decide)).2.2
theorem Lay.mr32 {x : Nat} {M : Mem} (h : Lay x M) : M.r (128 * 4 + 32) (x + 28) = x + 55 := (h.2.2.2.2.1 (32, 27, 0, 40) (by decide)).1
theorem Lay.mk32 {x : Nat} {M : Mem} (h : Lay x M) : M.k (x + 55) = 50 := (h.2.2.2.2.1 (32, 27, 0, 40) (by decide)).2.1
theorem Lay.ml32 {x : Nat} {M : Mem} (h : Lay x M) : M.len (x + 55) = 40 := (h.2.2.2.2.1 (32, 27, 0, 40) (by decide)).2.2
theorem Lay.mr33 {x : Nat} {M : Mem} (h : Lay x M) : M.r (128 * 4 + 33) (x + 28) = x + 56 := (h.2.2.2.2.1 (33, 28, 0, 40) (by decide)).1
theorem Lay.mk33 {x : Nat} {M : Mem} (h : Lay x M) : M.k (x + 56) = 50 := (h.2.2.2.2.1 (33, 28, 0, 40) (by decide)).2.1
theorem Lay.ml33 {x : Nat} {M : Mem} (h : Lay x M) : M.len (x + 56) = 40 := (h.2.2.2.2.1 (33, 28, 0, 40) (by decide)).2.2
theorem Lay.mr34 {x : Nat} {M : Mem} (h : Lay x M) : M.r (128 * 4 + 34) (x + 28) = x + 57 := (h.2.2.2.2.1 (34, 29, 0, 40) (by decide)).1
theorem Lay.mk34 {x : Nat} {M : Mem} (h : Lay x M) : M.k (x + 57) = 50 := (h.2.2.2.2.1 (34, 29, 0, 40) (by decide)).2.1
theorem Lay.ml34 {x : Nat} {M : Mem} (h : Lay x M) : M.len (x + 57) = 40 := (h.2.2.2.2.1 (34, 29, 0, 40) (by decide)).2.2
theorem Lay.mr35 {x : Nat} {M : Mem} (h : Lay x M) : M.r (128 * 4 + 35) (x + 28) = x + 58 := (h.2.2.2.2.1 (35, 30, 0, 40) (by decide)).1
theorem Lay.mk35 {x : Nat} {M : Mem} (h : Lay x M) : M.k (x + 58) = 50 := (h.2.2.2.2.1 (35, 30, 0, 40) (by decide)).2.1
theorem Lay.ml35 {x : Nat} {M : Mem} (h : Lay x M) : M.len (x + 58) = 40 := (h.2.2.2.2.1 (35, 30, 0, 40) (by decide)).2.2
theorem Lay.mr36 {x : Nat} {M : Mem} (h : Lay x M) : M.r (128 * 4 + 36) (x + 28) = x + 59 := (h.2.2.2.2.1 (36, 31, 0, 40) (by decide)).1
theorem Lay.mk36 {x : Nat} {M : Mem} (h : Lay x M) : M.k (x + 59) = 50 := (h.2.2.2.2.1 (36, 31, 0, 40) (by decide)).2.1
theorem Lay.ml36 {x : Nat} {M : Mem} (h : Lay x M) : M.len (x + 59) = 40 := (h.2.2.2.2.1 (36, 31, 0, 40) (by decide)).2.2
theorem Lay.mr37 {x : Nat} {M : Mem} (h : Lay x M) : M.r (128 * 4 + 37) (x + 28) = x + 60 := (h.2.2.2.2.1 (37, 32, 0, 40) (by decide)).1
theorem Lay.mk37 {x : Nat} {M : Mem} (h : Lay x M) : M.k (x + 60) = 50 := (h.2.2.2.2.1 (37, 32, 0, 40) (by decide)).2.1
theorem Lay.ml37 {x : Nat} {M : Mem} (h : Lay x M) : M.len (x + 60) = 40 := (h.2.2.2.2.1 (37, 32, 0, 40) (by decide)).2.2
theorem Lay.mr38 {x : Nat} {M : Mem} (h : Lay x M) : M.r (128 * 4 + 38) (x + 28) = x + 61 := (h.2.2.2.2.1 (38, 33, 0, 33360) (by decide)).1
theorem Lay.mk38 {x : Nat} {M : Mem} (h : Lay x M) : M.k (x + 61) = 50 := (h.2.2.2.2.1 (38, 33, 0, 33360) (by decide)).2.1
theorem Lay.ml38 {x : Nat} {M : Mem} (h : Lay x M) : M.len (x + 61) = 33360 := (h.2.2.2.2.1 (38, 33, 0, 33360) (by decide)).2.2
theorem Lay.mr40 {x : Nat} {M : Mem} (h : Lay x M) : M.r (128 * 4 + 40) (x + 28) = x + 62 := (h.2.2.2.2.1 (40, 34, 0, 4) (by decide)).1
theorem Lay.mk40 {x : Nat} {M : Mem} (h : Lay x M) : M.k (x + 62) = 50 := (h.2.2.2.2.1 (40, 34, 0, 4) (by decide)).2.1
theorem Lay.ml40 {x : Nat} {M : Mem} (h : Lay x M) : M.len (x + 62) = 4 := (h.2.2.2.2.1 (40, 34, 0, 4) (by decide)).2.2
theorem Lay.mr41 {x : Nat} {M : Mem} (h : Lay x M) : M.r (128 * 4 + 41) (x + 28) = x + 63 := (h.2.2.2.2.1 (41, 35, 0, 834) (by decide)).1
theorem Lay.mk41 {x : Nat} {M : Mem} (h : Lay x M) : M.k (x + 63) = 50 := (h.2.2.2.2.1 (41, 35, 0, 834) (by decide)).2.1
theorem Lay.ml41 {x : Nat} {M : Mem} (h : Lay x M) : M.len (x + 63) = 834 := (h.2.2.2.2.1 (41, 35, 0, 834) (by decide)).2.2
theorem Lay.mr42 {x : Nat} {M : Mem} (h : Lay x M) : M.r (128 * 4 + 42) (x + 28) = x + 64 := (h.2.2.2.2.1 (42, 36, 0, 834) (by decide)).1
theorem Lay.mk42 {x : Nat} {M : Mem} (h : Lay x M) : M.k (x + 64) = 50 := (h.2.2.2.2.1 (42, 36, 0, 834) (by decide)).2.1
theorem Lay.ml42 {x : Nat} {M : Mem} (h : Lay x M) : M.len (x + 64) = 834 := (h.2.2.2.2.1 (42, 36, 0, 834) (by decide)).2.2
theorem Lay.mr43 {x : Nat} {M : Mem} (h : Lay x M) : M.r (128 * 4 + 43) (x + 28) = x + 65 := (h.2.2.2.2.1 (43, 37, 0, 834) (by decide)).1
theorem Lay.mk43 {x : Nat} {M : Mem} (h : Lay x M) : M.k (x + 65) = 50 := (h.2.2.2.2.1 (43, 37, 0, 834) (by decide)).2.1
theorem Lay.ml43 {x : Nat} {M : Mem} (h : Lay x M) : M.len (x + 65) = 834 := (h.2.2.2.2.1 (43, 37, 0, 834) (by decide)).2.2
theorem Lay.mr46 {x : Nat} {M : Mem} (h : Lay x M) : M.r (128 * 4 + 46) (x + 28) = x + 66 := (h.2.2.2.2.1 (46, 38, 0, 60) (by decide)).1
theorem Lay.mk46 {x : Nat} {M : Mem} (h : Lay x M) : M.k (x + 66) = 50 := (h.2.2.2.2.1 (46, 38, 0, 60) (by decide)).2.1
theorem Lay.ml46 {x : Nat} {M : Mem} (h : Lay x M) : M.len (x + 66) = 60 := (h.2.2.2.2.1 (46, 38, 0, 60) (by decide)).2.2
theorem Lay.mr47 {x : Nat} {M : Mem} (h : Lay x M) : M.r (128 * 4 + 47) (x + 28) = x + 67 := (h.2.2.2.2.1 (47, 39, 0, 60) (by decide)).1
theorem Lay.mk47 {x : Nat} {M : Mem} (h : Lay x M) : M.k (x + 67) = 50 := (h.2.2.2.2.1 (47, 39, 0, 60) (by decide)).2.1
theorem Lay.ml47 {x : Nat} {M : Mem} (h : Lay x M) : M.len (x + 67) = 60 := (h.2.2.2.2.1 (47, 39, 0, 60) (by decide)).2.2
theorem Lay.mr48 {x : Nat} {M : Mem} (h : Lay x M) : M.r (128 * 4 + 48) (x + 28) = x + 68 := (h.2.2.2.2.1 (48, 40, 0, 60) (by decide)).1
theorem Lay.mk48 {x : Nat} {M : Mem} (h : Lay x M) : M.k (x + 68) = 50 := (h.2.2.2.2.1 (48, 40, 0, 60) (by decide)).2.1
theorem Lay.ml48 {x : Nat} {M : Mem} (h : Lay x M) : M.len (x + 68) = 60 := (h.2.2.2.2.1 (48, 40, 0, 60) (by decide)).2.2
theorem Lay.mr56 {x : Nat} {M : Mem} (h : Lay x M) : M.r (128 * 4 + 56) (x + 28) = x + 69 := (h.2.2.2.2.1 (56, 41, 0, 9) (by decide)).1
theorem Lay.mk56 {x : Nat} {M : Mem} (h : Lay x M) : M.k (x + 69) = 50 := (h.2.2.2.2.1 (56, 41, 0, 9) (by decide)).2.1
theorem Lay.ml56 {x : Nat} {M : Mem} (h : Lay x M) : M.len (x + 69) = 9 := (h.2.2.2.2.1 (56, 41, 0, 9) (by decide)).2.2
theorem Lay.mr57 {x : Nat} {M : Mem} (h : Lay x M) : M.r (128 * 4 + 57) (x + 28) = x + 70 := (h.2.2.2.2.1 (57, 42, 0, 9) (by decide)).1
theorem Lay.mk57 {x : Nat} {M : Mem} (h : Lay x M) : M.k (x + 70) = 50 := (h.2.2.2.2.1 (57, 42, 0, 9) (by decide)).2.1
theorem Lay.ml57 {x : Nat} {M : Mem} (h : Lay x M) : M.len (x + 70) = 9 := (h.2.2.2.2.1 (57, 42, 0, 9) (by decide)).2.2
theorem Lay.mr58 {x : Nat} {M : Mem} (h : Lay x M) : M.r (128 * 4 + 58) (x + 28) = x + 71 := (h.2.2.2.2.1 (58, 43, 0, 216) (by decide)).1
theorem Lay.mk58 {x : Nat} {M : Mem} (h : Lay x M) : M.k (x + 71) = 50 := (h.2.2.2.2.1 (58, 43, 0, 216) (by decide)).2.1
theorem Lay.ml58 {x : Nat} {M : Mem} (h : Lay x M) : M.len (x + 71) = 216 := (h.2.2.2.2.1 (58, 43, 0, 216) (by decide)).2.2
theorem Lay.mr59 {x : Nat} {M : Mem} (h : Lay x M) : M.r (128 * 4 + 59) (x + 28) = x + 72 := (h.2.2.2.2.1 (59, 44, 0, 216) (by decide)).1
theorem Lay.mk59 {x : Nat} {M : Mem} (h : Lay x M) : M.k (x + 72) = 50 := (h.2.2.2.2.1 (59, 44, 0, 216) (by decide)).2.1
theorem Lay.ml59 {x : Nat} {M : Mem} (h : Lay x M) : M.len (x + 72) = 216 := (h.2.2.2.2.1 (59, 44, 0, 216) (by decide)).2.2
theorem Lay.mr60 {x : Nat} {M : Mem} (h : Lay x M) : M.r (128 * 4 + 60) (x + 28) = x + 73 := (h.2.2.2.2.1 (60, 45, 0, 216) (by decide)).1
theorem Lay.mk60 {x : Nat} {M : Mem} (h : Lay x M) : M.k (x + 73) = 50 := (h.2.2.2.2.1 (60, 45, 0, 216) (by decide)).2.1
theorem Lay.ml60 {x : Nat} {M : Mem} (h : Lay x M) : M.len (x + 73) = 216 := (h.2.2.2.2.1 (60, 45, 0, 216) (by decide)).2.2
theorem Lay.mr61 {x : Nat} {M : Mem} (h : Lay x M) : M.r (128 * 4 + 61) (x + 28) = x + 74 := (h.2.2.2.2.1 (61, 46, 0, 216) (by decide)).1
theorem Lay.mk61 {x : Nat} {M : Mem} (h : Lay x M) : M.k (x + 74) = 50 := (h.2.2.2.2.1 (61, 46, 0, 216) (by decide)).2.1
theorem Lay.ml61 {x : Nat} {M : Mem} (h : Lay x M) : M.len (x + 74) = 216 := (h.2.2.2.2.1 (61, 46, 0, 216) (by decide)).2.2
theorem Lay.mr62 {x : Nat} {M : Mem} (h : Lay x M) : M.r (128 * 4 + 62) (x + 28) = x + 75 := (h.2.2.2.2.1 (62, 47, 0, 5000) (by decide)).1
theorem Lay.mk62 {x : Nat} {M : Mem} (h : Lay x M) : M.k (x + 75) = 50 := (h.2.2.2.2.1 (62, 47, 0, 5000) (by decide)).2.1
theorem Lay.ml62 {x : Nat} {M : Mem} (h : Lay x M) : M.len (x + 75) = 5000 := (h.2.2.2.2.1 (62, 47, 0, 5000) (by decide)).2.2
theorem Lay.mr63 {x : Nat} {M : Mem} (h : Lay x M) : M.r (128 * 4 + 63) (x + 28) = x + 76 := (h.2.2.2.2.1 (63, 48, 0, 5000) (by decide)).1
theorem Lay.mk63 {x : Nat} {M : Mem} (h : Lay x M) : M.k (x + 76) = 50 := (h.2.2.2.2.1 (63, 48, 0, 5000) (by decide)).2.1
theorem Lay.ml63 {x : Nat} {M : Mem} (h : Lay x M) : M.len (x + 76) = 5000 := (h.2.2.2.2.1 (63, 48, 0, 5000) (by decide)).2.2
theorem Lay.mr64 {x : Nat} {M : Mem} (h : Lay x M) : M.r (128 * 4 + 64) (x + 28) = x + 77 := (h.2.2.2.2.1 (64, 49, 0, 5000) (by decide)).1
theorem Lay.mk64 {x : Nat} {M : Mem} (h : Lay x M) : M.k (x + 77) = 50 := (h.2.2.2.2.1 (64, 49, 0, 5000) (by decide)).2.1
theorem Lay.ml64 {x : Nat} {M : Mem} (h : Lay x M) : M.len (x + 77) = 5000 := (h.2.2.2.2.1 (64, 49, 0, 5000) (by decide)).2.2
theorem Lay.mr65 {x : Nat} {M : Mem} (h : Lay x M) : M.r (128 * 4 + 65) (x + 28) = x + 78 := (h.2.2.2.2.1 (65, 50, 0, 5000) (by decide)).1
theorem Lay.mk65 {x : Nat} {M : Mem} (h : Lay x M) : M.k (x + 78) = 50 := (h.2.2.2.2.1 (65, 50, 0, 5000) (by decide)).2.1
theorem Lay.ml65 {x : Nat} {M : Mem} (h : Lay x M) : M.len (x + 78) = 5000 := (h.2.2.2.2.1 (65, 50, 0, 5000) (by decide)).2.2
theorem Lay.mr66 {x : Nat} {M : Mem} (h : Lay x M) : M.r (128 * 4 + 66) (x + 28) = x + 79 := (h.2.2.2.2.1 (66, 51, 0, 5000) (by decide)).1
theorem Lay.mk66 {x : Nat} {M : Mem} (h : Lay x M) : M.k (x + 79) = 50 := (h.2.2.2.2.1 (66, 51, 0, 5000) (by decide)).2.1
theorem Lay.ml66 {x : Nat} {M : Mem} (h : Lay x M) : M.len (x + 79) = 5000 := (h.2.2.2.2.1 (66, 51, 0, 5000) (by decide)).2.2
theorem Lay.mr67 {x : Nat} {M : Mem} (h : Lay x M) : M.r (128 * 4 + 67) (x + 28) = x + 80 := (h.2.2.2.2.1 (67, 52, 0, 5000) (by decide)).1
theorem Lay.mk67 {x : Nat} {M : Mem} (h : Lay x M) : M.k (x + 80) = 50 := (h.2.2.2.2.1 (67, 52, 0, 5000) (by decide)).2.1
theorem Lay.ml67 {x : Nat} {M : Mem} (h : Lay x M) : M.len (x + 80) = 5000 := (h.2.2.2.2.1 (67, 52, 0, 5000) (by decide)).2.2
theorem Lay.mr68 {x : Nat} {M : Mem} (h : Lay x M) : M.r (128 * 4 + 68) (x + 28) = x + 81 := (h.2.2.2.2.1 (68, 53, 2, 600) (by decide)).1
theorem Lay.mk68 {x : Nat} {M : Mem} (h : Lay x M) : M.k (x + 81) = 52 := (h.2.2.2.2.1 (68, 53, 2, 600) (by decide)).2.1
theorem Lay.ml68 {x : Nat} {M : Mem} (h : Lay x M) : M.len (x + 81) = 600 := (h.2.2.2.2.1 (68, 53, 2, 600) (by decide)).2.2
theorem Lay.mr69 {x : Nat} {M : Mem} (h : Lay x M) : M.r (128 * 4 + 69) (x + 28) = x + 82 := (h.2.2.2.2.1 (69, 54, 2, 600) (by decide)).1
theorem Lay.mk69 {x : Nat} {M : Mem} (h : Lay x M) : M.k (x + 82) = 52 := (h.2.2.2.2.1 (69, 54, 2, 600) (by decide)).2.1
theorem Lay.ml69 {x : Nat} {M : Mem} (h : Lay x M) : M.len (x + 82) = 600 := (h.2.2.2.2.1 (69, 54, 2, 600) (by decide)).2.2
theorem Lay.mr70 {x : Nat} {M : Mem} (h : Lay x M) : M.r (128 * 4 + 70) (x + 28) = x + 83 := (h.2.2.2.2.1 (70, 55, 1, 8) (by decide)).1
theorem Lay.mk70 {x : Nat} {M : Mem} (h : Lay x M) : M.k (x + 83) = 51 := (h.2.2.2.2.1 (70, 55, 1, 8) (by decide)).2.1
theorem Lay.ml70 {x : Nat} {M : Mem} (h : Lay x M) : M.len (x + 83) = 8 := (h.2.2.2.2.1 (70, 55, 1, 8) (by decide)).2.2
theorem Lay.mr74 {x : Nat} {M : Mem} (h : Lay x M) : M.r (128 * 4 + 74) (x + 28) = x + 84 := (h.2.2.2.2.1 (74, 56, 0, 20) (by decide)).1
theorem Lay.mk74 {x : Nat} {M : Mem} (h : Lay x M) : M.k (x + 84) = 50 := (h.2.2.2.2.1 (74, 56, 0, 20) (by decide)).2.1
theorem Lay.ml74 {x : Nat} {M : Mem} (h : Lay x M) : M.len (x + 84) = 20 := (h.2.2.2.2.1 (74, 56, 0, 20) (by decide)).2.2
theorem Lay.mr75 {x : Nat} {M : Mem} (h : Lay x M) : M.r (128 * 4 + 75) (x + 28) = x + 85 := (h.2.2.2.2.1 (75, 57, 0, 20) (by decide)).1
theorem Lay.mk75 {x : Nat} {M : Mem} (h : Lay x M) : M.k (x + 85) = 50 := (h.2.2.2.2.1 (75, 57, 0, 20) (by decide)).2.1
theorem Lay.ml75 {x : Nat} {M : Mem} (h : Lay x M) : M.len (x + 85) = 20 := (h.2.2.2.2.1 (75, 57, 0, 20) (by decide)).2.2
theorem Lay.mr76 {x : Nat} {M : Mem} (h : Lay x M) : M.r (128 * 4 + 76) (x + 28) = x + 86 := (h.2.2.2.2.1 (76, 58, 0, 20) (by decide)).1
theorem Lay.mk76 {x : Nat} {M : Mem} (h : Lay x M) : M.k (x + 86) = 50 := (h.2.2.2.2.1 (76, 58, 0, 20) (by decide)).2.1
theorem Lay.ml76 {x : Nat} {M : Mem} (h : Lay x M) : M.len (x + 86) = 20 := (h.2.2.2.2.1 (76, 58, 0, 20) (by decide)).2.2
theorem Lay.mr77 {x : Nat} {M : Mem} (h : Lay x M) : M.r (128 * 4 + 77) (x + 28) = x + 87 := (h.2.2.2.2.1 (77, 59, 0, 8784) (by decide)).1
theorem Lay.mk77 {x : Nat} {M : Mem} (h : Lay x M) : M.k (x + 87) = 50 := (h.2.2.2.2.1 (77, 59, 0, 8784) (by decide)).2.1
theorem Lay.ml77 {x : Nat} {M : Mem} (h : Lay x M) : M.len (x + 87) = 8784 := (h.2.2.2.2.1 (77, 59, 0, 8784) (by decide)).2.2
theorem Lay.mr78 {x : Nat} {M : Mem} (h : Lay x M) : M.r (128 * 4 + 78) (x + 28) = x + 88 := (h.2.2.2.2.1 (78, 60, 0, 128) (by decide)).1
theorem Lay.mk78 {x : Nat} {M : Mem} (h : Lay x M) : M.k (x + 88) = 50 := (h.2.2.2.2.1 (78, 60, 0, 128) (by decide)).2.1
theorem Lay.ml78 {x : Nat} {M : Mem} (h : Lay x M) : M.len (x + 88) = 128 := (h.2.2.2.2.1 (78, 60, 0, 128) (by decide)).2.2
theorem Lay.i1_0_1 {x : Nat} {M : Mem} (h : Lay x M) : M.i (128 * 1 + 0) (x + 1) = 0 := h.2.2.2.2.2.1 (1, 0, 1, 0) (by decide)
theorem Lay.i1_1_1 {x : Nat} {M : Mem} (h : Lay x M) : M.i (128 * 1 + 1) (x + 1) = 2000 := h.2.2.2.2.2.1 (1, 1, 1, 2000) (by decide)
theorem Lay.i1_0_3 {x : Nat} {M : Mem} (h : Lay x M) : M.i (128 * 1 + 0) (x + 3) = (-500) := h.2.2.2.2.2.1 (1, 0, 3, (-500)) (by decide)
theorem Lay.i1_1_3 {x : Nat} {M : Mem} (h : Lay x M) : M.i (128 * 1 + 1) (x + 3) = 500 := h.2.2.2.2.2.1 (1, 1, 3, 500) (by decide)
theorem Lay.i1_0_5 {x : Nat} {M : Mem} (h : Lay x M) : M.i (128 * 1 + 0) (x + 5) = 0 := h.2.2.2.2.2.1 (1, 0, 5, 0) (by decide)
theorem Lay.i1_1_5 {x : Nat} {M : Mem} (h : Lay x M) : M.i (128 * 1 + 1) (x + 5) = 100 := h.2.2.2.2.2.1 (1, 1, 5, 100) (by decide)
theorem Lay.i2_0_8 {x : Nat} {M : Mem} (h : Lay x M) : M.i (128 * 2 + 0) (x + 8) = 0 := h.2.2.2.2.2.1 (2, 0, 8, 0) (by decide)
theorem Lay.i2_1_8 {x : Nat} {M : Mem} (h : Lay x M) : M.i (128 * 2 + 1) (x + 8) = 1000 := h.2.2.2.2.2.1 (2, 1, 8, 1000) (by decide)
theorem Lay.i2_2_8 {x : Nat} {M : Mem} (h : Lay x M) : M.i (128 * 2 + 2) (x + 8) = 1500 := h.2.2.2.2.2.1 (2, 2, 8, 1500) (by decide)
theorem Lay.i2_3_8 {x : Nat} {M : Mem} (h : Lay x M) : M.i (128 * 2 + 3) (x + 8) = 20 := h.2.2.2.2.2.1 (2, 3, 8, 20) (by decide)
theorem Lay.i2_4_8 {x : Nat} {M : Mem} (h : Lay x M) : M.i (128 * 2 + 4) (x + 8) = 4 := h.2.2.2.2.2.1 (2, 4, 8, 4) (by decide)
theorem Lay.i2_5_8 {x : Nat} {M : Mem} (h : Lay x M) : M.i (128 * 2 + 5) (x + 8) = 100 := h.2.2.2.2.2.1 (2, 5, 8, 100) (by decide)
theorem Lay.i2_6_8 {x : Nat} {M : Mem} (h : Lay x M) : M.i (128 * 2 + 6) (x + 8) = 0 := h.2.2.2.2.2.1 (2, 6, 8, 0) (by decide)
theorem Lay.i2_7_8 {x : Nat} {M : Mem} (h : Lay x M) : M.i (128 * 2 + 7) (x + 8) = 0 := h.2.2.2.2.2.1 (2, 7, 8, 0) (by decide)
theorem Lay.top {x : Nat} {M : Mem} (h : Lay x M) : x + 88 ≤ M.n := h.2.2.2.2.2.2.1
theorem Lay.x0 {x : Nat} {M : Mem} (h : Lay x M) : x ≠ 0 := h.2.2.2.2.2.2.2
end
