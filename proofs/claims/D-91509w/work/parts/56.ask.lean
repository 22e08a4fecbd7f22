set_option maxRecDepth 100000
/-! ===== what conditions ask ===== -/
theorem i_d6 {a : Nat} (h : a < 2147483648) : Int32.ofNat a / 6 = Int32.ofNat (a / 6) := i_div (b := 6) h (by omega) (by omega)
theorem i_d24 {a : Nat} (h : a < 2147483648) : Int32.ofNat a / 24 = Int32.ofNat (a / 24) := i_div (b := 24) h (by omega) (by omega)
theorem i_d144 {a : Nat} (h : a < 2147483648) : Int32.ofNat a / 144 = Int32.ofNat (a / 144) := i_div (b := 144) h (by omega) (by omega)
theorem i_m6 (a : Nat) : (6 : Int32) * Int32.ofNat a = Int32.ofNat (6 * a) := i_mul 6 a
theorem i_m24 (a : Nat) : Int32.ofNat a * 24 = Int32.ofNat (a * 24) := i_mul a 24
theorem i_m144 (a : Nat) : Int32.ofNat a * 144 = Int32.ofNat (a * 144) := i_mul a 144
theorem i_p5 (a : Nat) : Int32.ofNat a + 5 = Int32.ofNat (a + 5) := i_add a 5
theorem i_p6 (a : Nat) : Int32.ofNat a + 6 = Int32.ofNat (a + 6) := i_add a 6
theorem lcmp_eq (a b : Int64) : lg_cmp a b = 0 ↔ a = b := by
  unfold lg_cmp
  by_cases h : a > b
  · rw [if_pos h]
    refine ⟨fun z => absurd z (by decide), fun z => ?_⟩
    rw [gt_iff_lt, Int64.lt_iff_toInt_lt, z] at h
    omega
  · rw [if_neg h]
    by_cases e : a = b
    · rw [if_pos e]; exact ⟨fun _ => e, fun _ => rfl⟩
    · rw [if_neg e]; exact ⟨fun z => absurd z (by decide), fun z => absurd z e⟩
/-- what stands in the row that is asked at the ten t -/
def hereA (told : Nat → List Tri) (t : Nat) (s w r : Int64) : Nat → Int64
  | 0 => (say (told 0) (Int32.ofNat t)).toInt64
  | 1 => (say (told 1) (Int32.ofNat t)).toInt64
  | 2 => (say (told 2) (Int32.ofNat t)).toInt64
  | 3 => (Int32.ofNat (t / 6 % 24)).toInt64
  | 4 => (Int32.ofNat (t / 144)).toInt64
  | 5 => s
  | 6 => w
  | 7 => r
  | _ => 0
/-- nothing has changed but the array of longs at c -/
def Onl (M M' : Mem) (c : Nat) : Prop := Ag no no no (fun e => e = c) M M' ∧ M'.k = M.k ∧ M'.n = M.n ∧ M'.sl = M.sl ∧ M'.ls = M.ls ∧ M'.cap = M.cap ∧ M'.r = M.r ∧ M'.i = M.i ∧ M'.ai = M.ai ∧ M'.len = M.len ∧ M'.l = M.l
section
variable {x : Nat} {M M0 M1 M2 : Mem}
theorem Onl.rf {c : Nat} : Onl M M c := ⟨Ag.rf, rfl, rfl, rfl, rfl, rfl, rfl, rfl, rfl, rfl, rfl⟩
theorem Onl.tr {c : Nat} (h1 : Onl M0 M1 c) (h2 : Onl M1 M2 c) : Onl M0 M2 c := by
  obtain ⟨a0, a1, a2, a3, a4, a5, a6, a7, a8, a9, a10⟩ := h1
  obtain ⟨b0, b1, b2, b3, b4, b5, b6, b7, b8, b9, b10⟩ := h2
  exact ⟨a0.tr b0, b1.trans a1, b2.trans a2, b3.trans a3, b4.trans a4, b5.trans a5, b6.trans a6, b7.trans a7, b8.trans a8, b9.trans a9, b10.trans a10⟩
theorem Onl.al {c j : Nat} {v : Int64} (h : Onl M0 M c) : Onl M0 (M.setal c j v) c := ⟨h.1.al (Or.inl rfl), h.2⟩
theorem Onl.bas {c : Nat} (h : Onl M M1 c) (hB : Bas x M) : Bas x M1 := ⟨h.1.lay hB.1 (fun _ z => z.elim), hB.2.1.same h.2.1 h.2.2.1, hB.2.2.1.same h.2.1 h.2.2.2.2.1 h.2.2.2.2.2.1, hB.2.2.2.ag hB.2.1 h.1⟩
theorem Onl.ix {d : Dt} (h : Onl M M1 (x + 21)) (hB : Bas x M) (hX : IX x M d) : IX x M1 d := by
  have hf := hB.2.1
  have hn := hB.1.top
  have ha := h.1
  obtain ⟨h1, h2, h3, h4, h5, h6, h7, h8⟩ := hX
  exact ⟨h1.ag hf hn ha (fun t z => z.elim) (fun c z => z.elim), h2.ag hf hn ha (fun t z => z.elim) (fun t z => z.elim) (fun c z => z.elim), h3.ag hf hn ha (fun t z => z.elim) (fun t z => z.elim) (fun c z => z.elim), h4.ag hf hn ha (fun t z => z.elim) (fun c z => z.elim), h5.ag hf hn ha (fun t z => z.elim) (fun c z => z.elim), h6.ag hf hn ha (fun t z => z.elim) (fun c z => z.elim), h7.ag hn ha (fun t z => z.elim) (fun t z => z.elim) (fun c z => by omega), h8.ag hf hn ha (fun t z => z.elim) (fun c z => z.elim) (fun c z => z.elim)⟩
theorem Onl.okx {d : Dt} (h : Onl M M1 (x + 21)) (hB : Bas x M) (hX : IX x M d) : Okx x M d M1 := ⟨h.ix hB hX, (h.bas hB).2.1, (h.bas hB).2.2.1, AgX.of h.1 (fun _ z => z.elim) (fun c z => by omega)⟩
theorem w_stA (hL : Lay x M) {j : Nat} (hj : j < 8) {v : Int64} {Q : Unit → Mem → Prop} (ho : Onl M0 M (x + 21)) (hq : ∀ M', Onl M0 M' (x + 21) → (∀ i, M'.al (x + 21) i = if i = j then v else M.al (x + 21) i) → Q () M') : wp (stL 1 (x + 21) (Int32.ofNat j) v) M Q := by
  refine w_stLn hL.k21 hL.l21 hj (by decide) (hq _ ho.al (fun i => ?_))
  rw [setal_at]
  by_cases e : i = j
  · rw [if_pos ⟨rfl, e⟩, if_pos e]
  · rw [if_neg (fun z => e z.2), if_neg e]
theorem x_asked {n t : Nat} {d : Dt} {s w r : Int64} {Q : Unit → Mem → Prop} (hB : Bas x M) (hX : IX x M d) (hD : ID d) (hn : 100 ≤ n) (ht : t < 5000) (hq : ∀ M', Onl M M' (x + 21) → (∀ j, j < 8 → M'.al (x + 21) j = hereA d.told t s w r j) → Q () M') : wp (f_X0_asked n x (Int32.ofNat t) s w r) M Q := by
  have hL := hB.1
  have h80 := hD.2.1
  unfold f_X0_asked
  refine w_bnd (w_getR0 hL rfl rfl rfl (w_bnd (w_getR0 hL rfl rfl rfl (w_bnd (w_gd hL.k1 (w_nt (x_atw (w := 0) hB hX.1 h80 (by decide) hn ?_)))))))
  refine w_bnd (w_stA (j := 0) hL (by decide) Onl.rf (fun M1 o1 a1 => ?_))
  have b1 := o1.bas hB
  have hL1 := b1.1
  refine w_bnd (w_getR0 hL1 rfl rfl rfl (w_bnd (w_getR0 hL1 rfl rfl rfl (w_bnd (w_gd hL1.k3 (w_nt (x_atw (w := 1) b1 (o1.ix hB hX).1 h80 (by decide) hn ?_)))))))
  refine w_bnd (w_stA (j := 1) hL1 (by decide) o1 (fun M2 o2 a2 => ?_))
  have b2 := o2.bas hB
  have hL2 := b2.1
  refine w_bnd (w_getR0 hL2 rfl rfl rfl (w_bnd (w_getR0 hL2 rfl rfl rfl (w_bnd (w_gd hL2.k5 (w_nt (x_atw (w := 2) b2 (o2.ix hB hX).1 h80 (by decide) hn ?_)))))))
  refine w_bnd (w_stA (j := 2) hL2 (by decide) o2 (fun M3 o3 a3 => ?_))
  have hL3 := (o3.bas hB).1
  refine w_bnd (w_getR0 hL3 rfl rfl rfl (w_bnd (w_stA (j := 3) hL3 (by decide) o3 (fun M4 o4 a4 => ?_))))
  have hL4 := (o4.bas hB).1
  refine w_bnd (w_getR0 hL4 rfl rfl rfl (w_bnd (w_stA (j := 4) hL4 (by decide) o4 (fun M5 o5 a5 => ?_))))
  have hL5 := (o5.bas hB).1
  refine w_bnd (w_getR0 hL5 rfl rfl rfl (w_bnd (w_stA (j := 5) hL5 (by decide) o5 (fun M6 o6 a6 => ?_))))
  have hL6 := (o6.bas hB).1
  refine w_bnd (w_getR0 hL6 rfl rfl rfl (w_bnd (w_stA (j := 6) hL6 (by decide) o6 (fun M7 o7 a7 => ?_))))
  have hL7 := (o7.bas hB).1
  refine w_bnd (w_getR0 hL7 rfl rfl rfl (w_bnd (w_stA (j := 7) hL7 (by decide) o7 (fun M8 o8 a8 => ?_))))
  refine w_pur (hq M8 o8 (fun j hj => ?_))
  rw [a8, a7, a6, a5, a4, a3, a2, a1]
  have e3 : (Int32.ofNat t - Int32.ofNat t / 144 * 144) / 6 = Int32.ofNat (t / 6 % 24) := by
    rw [i_d144 (by omega), i_m144, i_sub (by omega), i_d6 (by omega)]
    congr 1
    omega
  have e4 : Int32.ofNat t / 144 = Int32.ofNat (t / 144) := i_d144 (by omega)
  rw [e3, e4]
  rcases (by omega : j = 0 ∨ j = 1 ∨ j = 2 ∨ j = 3 ∨ j = 4 ∨ j = 5 ∨ j = 6 ∨ j = 7) with rfl | rfl | rfl | rfl | rfl | rfl | rfl | rfl <;> rfl
end
