set_option maxRecDepth 100000
/-! ===== steps for straight pieces ===== -/
theorem c64_0 : (0 : Int64) = (0 : Int32).toInt64 := by decide
theorem c64_1 : (1 : Int64) = (1 : Int32).toInt64 := by decide
theorem c64_2 : (2 : Int64) = (2 : Int32).toInt64 := by decide
theorem c64_4 : (4 : Int64) = (4 : Int32).toInt64 := by decide
theorem c64_8 : (8 : Int64) = (8 : Int32).toInt64 := by decide
theorem c64_9 : (9 : Int64) = (9 : Int32).toInt64 := by decide
theorem c64_10 : (10 : Int64) = (10 : Int32).toInt64 := by decide
theorem c64_20 : (20 : Int64) = (20 : Int32).toInt64 := by decide
theorem c64_50 : (50 : Int64) = (50 : Int32).toInt64 := by decide
theorem c64_60 : (60 : Int64) = (60 : Int32).toInt64 := by decide
theorem c64_99 : (99 : Int64) = (99 : Int32).toInt64 := by decide
theorem c64_100 : (100 : Int64) = (100 : Int32).toInt64 := by decide
theorem c64_200 : (200 : Int64) = (200 : Int32).toInt64 := by decide
theorem c64_500 : (500 : Int64) = (500 : Int32).toInt64 := by decide
theorem c64_833 : (833 : Int64) = (833 : Int32).toInt64 := by decide
theorem c64_4999 : (4999 : Int64) = (4999 : Int32).toInt64 := by decide
theorem c64_50000 : (50000 : Int64) = (50000 : Int32).toInt64 := by decide
theorem c64_100000 : (100000 : Int64) = (100000 : Int32).toInt64 := by decide
theorem c64_1000000 : (1000000 : Int64) = (1000000 : Int32).toInt64 := by decide
theorem sa_i (S : MS) (o i : Nat) (v : Int32) : (S.sa o i v).i = S.i := rfl
theorem sa_b (S : MS) (o i : Nat) (v : Int32) : (S.sa o i v).b = S.b := rfl
theorem sb_i (S : MS) (o i : Nat) (v : Int64) : (S.sb o i v).i = S.i := rfl
theorem sb_a (S : MS) (o i : Nat) (v : Int64) : (S.sb o i v).a = S.a := rfl
theorem si_a (S : MS) (j : Nat) (v : Int32) : (S.si j v).a = S.a := rfl
theorem si_b (S : MS) (j : Nat) (v : Int32) : (S.si j v).b = S.b := rfl
theorem i_ap1 (n : Nat) : Int32.ofNat (n + 1) - 1 = Int32.ofNat n := i_sub (a := n + 1) (b := 1) (by omega)
section
variable {α : Type} {x : Nat} {S : MS} {M : Mem}
theorem mT_f {p : Nat × Nat × Nat × Nat → Bool} {e : Nat × Nat × Nat × Nat} (h : mT.find? p = some e) : e ∈ mT := List.mem_of_find?_eq_some h
theorem m_getRt {f o q len : Nat} {Q : Nat → MS → Prop} (hm : mT.find? (fun e => Nat.beq e.1 f) = some (f, o, q, len)) (h : Q (x + 28 + o) S) : wm x (getR 4 f (x + 28)) S Q := m_getR (mT_f hm) h
theorem m_ldIt {f o q len i : Nat} {Q : Int32 → MS → Prop} (hm : mT.find? (fun e => Nat.beq e.2.1 o) = some (f, o, q, len)) (hi : i < len) (h : Q (S.a o i) S) : wm x (ldI q (x + 28 + o) (Int32.ofNat i)) S Q := m_ldI (mT_f hm) hi h
theorem m_ldLt {f o q len i : Nat} {Q : Int64 → MS → Prop} (hm : mT.find? (fun e => Nat.beq e.2.1 o) = some (f, o, q, len)) (hi : i < len) (h : Q (S.b o i) S) : wm x (ldL q (x + 28 + o) (Int32.ofNat i)) S Q := m_ldL (mT_f hm) hi h
theorem m_stIt {f o len i : Nat} {v : Int32} {Q : Unit → MS → Prop} (hm : mT.find? (fun e => Nat.beq e.2.1 o) = some (f, o, 0, len)) (hi : i < len) (h : Q () (S.sa o i v)) : wm x (stI 0 (x + 28 + o) (Int32.ofNat i) v) S Q := m_stI (mT_f hm) hi h
theorem m_stZt {f o len i : Nat} {v : Int32} {Q : Unit → MS → Prop} (hm : mT.find? (fun e => Nat.beq e.2.1 o) = some (f, o, 3, len)) (hi : i < len) (hv : v = 0 ∨ v = 1) (h : Q () (S.sa o i v)) : wm x (stI 3 (x + 28 + o) (Int32.ofNat i) v) S Q := m_stZ (mT_f hm) hi hv h
theorem m_stLt {f o q len i : Nat} {v : Int64} {Q : Unit → MS → Prop} (hm : mT.find? (fun e => Nat.beq e.2.1 o) = some (f, o, q, len)) (hi : i < len) (h : Q () (S.sb o i v)) : wm x (stL q (x + 28 + o) (Int32.ofNat i) v) S Q := m_stL (mT_f hm) hi h
theorem m_isstore {a : Int32} {Q : Int32 → MS → Prop} (h : Q (bz (0 ≤ a ∧ a ≤ 1)) S) : wm x (f_X4_isStore a) S Q := by
  unfold f_X4_isStore
  exact m_bnd (m_nt (m_isin (m_purZ bz_z h)))
theorem xT_f {o k : Nat} (hL : Lay x M) (h : xT.find? (fun e => Nat.beq e.1 o) = some (o, k)) : M.k (x + o) = k := hL.1 _ (List.mem_of_find?_eq_some h)
theorem w_getRx {M' : Mem} {ci f c o : Nat} {Q : Nat → Mem → Prop} (hL : Lay x M) (ek : M'.k (x + c) = M.k (x + c)) (er : M'.r (128 * ci + f) (x + c) = M.r (128 * ci + f) (x + c)) (hk : xT.find? (fun e => Nat.beq e.1 c) = some (c, ci + 1)) (hm : xR.find? (fun e => Nat.beq e.1 ci && Nat.beq e.2.1 f && Nat.beq e.2.2.1 c) = some (ci, f, c, o)) (h : Q (x + o) M') : wp (getR ci f (x + c)) M' Q := by
  refine w_getRv (ek.trans (xT_f hL hk)) (er.trans (hL.2.2.1 _ (List.mem_of_find?_eq_some hm))) h
theorem w_getR0 {M' : Mem} {f o : Nat} {Q : Nat → Mem → Prop} (hL : Lay x M) (ek : M'.k x = M.k x) (er : M'.r (128 * 0 + f) x = M.r (128 * 0 + f) x) (hm : xR.find? (fun e => Nat.beq e.1 0 && Nat.beq e.2.1 f && Nat.beq e.2.2.1 0) = some (0, f, 0, o)) (h : Q (x + o) M') : wp (getR 0 f x) M' Q := by
  refine w_getRv (ek.trans hL.k0) (er.trans (hL.2.2.1 _ (List.mem_of_find?_eq_some hm))) h
theorem w_getI0 {M' : Mem} {f : Nat} {Q : Int32 → Mem → Prop} (hL : Lay x M) (ek : M'.k x = M.k x) (h : Q (M'.i (128 * 0 + f) x) M') : wp (getI 0 f x) M' Q := w_getI (ek.trans hL.k0) h
theorem w_getL0 {M' : Mem} {f : Nat} {Q : Int64 → Mem → Prop} (hL : Lay x M) (ek : M'.k x = M.k x) (h : Q (M'.l (128 * 0 + f) x) M') : wp (getL 0 f x) M' Q := w_getL (ek.trans hL.k0) h
theorem sw_k {k : Nat} {fs : List (Act α)} {fd : Act α} (h : k < fs.length) (hN : fs.length ≤ 100) : sw (Int32.ofNat k) 0 fs fd = fs[k] := by
  unfold sw
  rw [i_toInt (by omega), if_pos (by omega), show ((k : Int) - 0).toNat = k by omega, List.getD_eq_getElem?_getD, List.getElem?_eq_getElem h]
  rfl
theorem sw_d {a : Int32} {fs : List (Act α)} {fd : Act α} (h : ∀ k, k < fs.length → a ≠ Int32.ofNat k) (hN : fs.length ≤ 100) : sw a 0 fs fd = fd := by
  unfold sw
  refine if_neg (fun z => h a.toInt.toNat (by omega) ?_)
  apply Int32.toInt_inj.mp
  rw [i_toInt (by omega)]
  omega
/-- which of the first N numbers, or none -/
theorem sw_c (a : Int32) (N : Nat) : (∃ k, k < N ∧ a = Int32.ofNat k) ∨ ∀ k, k < N → a ≠ Int32.ofNat k := by
  by_cases h : ∃ k, k < N ∧ a = Int32.ofNat k
  · exact Or.inl h
  · exact Or.inr (fun k hk e => h ⟨k, hk, e⟩)
theorem lenI {a : Int32} {n : Nat} (hn : n < 2147483647) (h : 0 ≤ a ∧ a ≤ Int32.ofNat n - 1) : ∃ k, k < n ∧ a = Int32.ofNat k := by
  cases n with
  | zero =>
    exfalso
    have h1 := Int32.le_iff_toInt_le.mp h.1
    have h2 := Int32.le_iff_toInt_le.mp h.2
    have e : (Int32.ofNat 0 - 1).toInt = -1 := by decide
    rw [e] at h2
    have e0 : (0 : Int32).toInt = 0 := rfl
    omega
  | succ n =>
    rw [show Int32.ofNat (n + 1) - 1 = Int32.ofNat n from i_sub (a := n + 1) (b := 1) (by omega)] at h
    obtain ⟨k, hk, e⟩ := i_nat h.1 (by omega) h.2
    exact ⟨k, by omega, e⟩
theorem lenI' {k n : Nat} (hn : n < 2147483647) (h : k < n) : 0 ≤ Int32.ofNat k ∧ Int32.ofNat k ≤ Int32.ofNat n - 1 := by
  rw [show Int32.ofNat n - 1 = Int32.ofNat (n - 1) from i_sub (a := n) (b := 1) (by omega)]
  exact ⟨Int32.not_lt.mp (i_nneg (by omega)), (i_le (by omega) (by omega)).mpr (by omega)⟩
end
