set_option maxRecDepth 100000
/-! ===== level 2: numbers ===== -/
/-- a truth as the machine has it -/
def bz (P : Prop) [Decidable P] : Int32 := if P then 1 else 0
theorem bz_t {P : Prop} [Decidable P] (h : P) : bz P = 1 := if_pos h
theorem bz_f {P : Prop} [Decidable P] (h : ¬ P) : bz P = 0 := if_neg h
theorem bz_z {P : Prop} [Decidable P] : bz P = 0 ∨ bz P = 1 := by
  by_cases h : P
  · exact Or.inr (bz_t h)
  · exact Or.inl (bz_f h)
theorem bz_0 {P : Prop} [Decidable P] : bz P = 0 ↔ ¬ P := by
  by_cases h : P
  · rw [bz_t h]; exact ⟨fun z => absurd z (by decide), fun z => absurd h z⟩
  · rw [bz_f h]; exact ⟨fun _ => h, fun _ => rfl⟩
theorem bz_congr {P R : Prop} [Decidable P] [Decidable R] (h : P ↔ R) : bz P = bz R := by
  by_cases p : P
  · rw [bz_t p, bz_t (h.mp p)]
  · rw [bz_f p, bz_f (fun r => p (h.mpr r))]
theorem l_le (a b : Int32) : a.toInt64 ≤ b.toInt64 ↔ a ≤ b := by
  rw [Int64.le_iff_toInt_le, Int32.le_iff_toInt_le, Int32.toInt_toInt64, Int32.toInt_toInt64]
theorem l_lt (a b : Int32) : a.toInt64 < b.toInt64 ↔ a < b := by
  rw [Int64.lt_iff_toInt_lt, Int32.lt_iff_toInt_lt, Int32.toInt_toInt64, Int32.toInt_toInt64]
theorem lcmp_lt (a b : Int64) : lg_cmp a b < 0 ↔ a < b := by
  unfold lg_cmp
  by_cases h : a > b
  · rw [if_pos h]
    refine ⟨fun z => absurd z (by decide), fun z => ?_⟩
    rw [gt_iff_lt, Int64.lt_iff_toInt_lt] at h
    rw [Int64.lt_iff_toInt_lt] at z
    omega
  · rw [if_neg h]
    by_cases e : a = b
    · rw [if_pos e, e]
      refine ⟨fun z => absurd z (by decide), fun z => ?_⟩
      rw [Int64.lt_iff_toInt_lt] at z
      omega
    · rw [if_neg e]
      refine ⟨fun _ => ?_, fun _ => by decide⟩
      rw [gt_iff_lt, Int64.lt_iff_toInt_lt] at h
      rw [← Int64.toInt_inj] at e
      rw [Int64.lt_iff_toInt_lt]
      omega
theorem lcmp_gt (a b : Int64) : 0 < lg_cmp a b ↔ b < a := by
  unfold lg_cmp
  by_cases h : a > b
  · rw [if_pos h]; exact ⟨fun _ => h, fun _ => by decide⟩
  · rw [if_neg h]
    by_cases e : a = b
    · rw [if_pos e]; exact ⟨fun z => absurd z (by decide), fun z => absurd z h⟩
    · rw [if_neg e]; exact ⟨fun z => absurd z (by decide), fun z => absurd z h⟩
section
variable {M : Mem} {Q : Int32 → Mem → Prop}
theorem x_isIn {a b c : Int32} {b' c' : Int64} (hb : b' = b.toInt64) (hc : c' = c.toInt64) (hq : Q (bz (b ≤ a ∧ a ≤ c)) M) : wp (f_X0_isIn a.toInt64 b' c') M Q := by
  subst hb hc
  unfold f_X0_isIn
  refine w_jn (w_jn (w_ite (fun h => ?_) (fun h => w_ite (fun h2 => ?_) (fun h2 => ?_))))
  · rw [lcmp_lt, l_lt] at h
    rw [bz_f (fun z => Int32.not_lt.mpr z.1 h)] at hq
    exact w_purZ (Or.inl rfl) hq
  · rw [lcmp_gt, l_lt] at h2
    rw [bz_f (fun z => Int32.not_lt.mpr z.2 h2)] at hq
    exact w_purZ (Or.inl rfl) hq
  · rw [lcmp_lt, l_lt] at h
    rw [lcmp_gt, l_lt] at h2
    rw [bz_t ⟨Int32.not_lt.mp h, Int32.not_lt.mp h2⟩] at hq
    exact w_purZ (Or.inr rfl) hq
theorem m_isIn {a b c : Int32} (hq : Q (bz (b ≤ a ∧ a ≤ c)) M) : wp (f_X4_isIn a b c) M Q := by
  unfold f_X4_isIn
  refine w_jn (w_jn (w_ite (fun h => ?_) (fun h => w_ite (fun h2 => ?_) (fun h2 => ?_))))
  · rw [bz_f (fun z => Int32.not_lt.mpr z.1 h)] at hq
    exact w_purZ (Or.inl rfl) hq
  · rw [bz_f (fun z => Int32.not_lt.mpr z.2 h2)] at hq
    exact w_purZ (Or.inl rfl) hq
  · rw [bz_t ⟨Int32.not_lt.mp h, Int32.not_lt.mp h2⟩] at hq
    exact w_purZ (Or.inr rfl) hq
theorem x_isTen {a : Int32} (hq : Q (bz (0 ≤ a ∧ a ≤ 4999)) M) : wp (f_X0_isTen a) M Q := by
  unfold f_X0_isTen
  exact w_bnd (w_nt (x_isIn (b := 0) (c := 4999) (by decide) (by decide) (w_purZ bz_z hq)))
theorem m_isTen {a : Int32} (hq : Q (bz (0 ≤ a ∧ a ≤ 4999)) M) : wp (f_X4_isTen a) M Q := by
  unfold f_X4_isTen
  exact w_bnd (w_nt (m_isIn (w_purZ bz_z hq)))
theorem m_one {a : Int32} (hq : Q (bz (a ≠ 0)) M) : wp (f_X4_one a) M Q := by
  unfold f_X4_one
  refine w_jn (w_ite (fun h => w_pur ?_) (fun h => w_pur ?_))
  · rw [bz_f (fun z => z h)] at hq; exact hq
  · rw [bz_t h] at hq; exact hq
end
/-! Int32 in a small range, by its whole number -/
theorem toInt_add' {a b : Int32} (h1 : -2147483648 ≤ a.toInt + b.toInt) (h2 : a.toInt + b.toInt < 2147483648) : (a + b).toInt = a.toInt + b.toInt := by
  rw [Int32.toInt_add, Int.bmod_eq_of_le] <;> omega
theorem toInt_sub' {a b : Int32} (h1 : -2147483648 ≤ a.toInt - b.toInt) (h2 : a.toInt - b.toInt < 2147483648) : (a - b).toInt = a.toInt - b.toInt := by
  rw [Int32.toInt_sub, Int.bmod_eq_of_le] <;> omega
theorem toInt_mul' {a b : Int32} (h1 : -2147483648 ≤ a.toInt * b.toInt) (h2 : a.toInt * b.toInt < 2147483648) : (a * b).toInt = a.toInt * b.toInt := by
  rw [Int32.toInt_mul, Int.bmod_eq_of_le] <;> omega
/-- a number between 0 and a Nat is one of the first Nats -/
theorem i_nat {a : Int32} {n : Nat} (h0 : 0 ≤ a) (hn : n < 2147483648) (h1 : a ≤ Int32.ofNat n) : ∃ k, k ≤ n ∧ a = Int32.ofNat k := by
  have h0 : (0 : Int) ≤ a.toInt := Int32.le_iff_toInt_le.mp h0
  have h1 := Int32.le_iff_toInt_le.mp h1
  rw [i_toInt hn] at h1
  refine ⟨a.toInt.toNat, by omega, ?_⟩
  apply Int32.toInt_inj.mp
  rw [i_toInt (by omega)]
  omega
theorem i_natlt {a : Int32} {n : Nat} (h0 : ¬ a < 0) (hn : n < 2147483648) (h1 : a < Int32.ofNat n) : ∃ k, k < n ∧ a = Int32.ofNat k := by
  have h0 : (0 : Int) ≤ a.toInt := Int32.le_iff_toInt_le.mp (Int32.not_lt.mp h0)
  have h1 := Int32.lt_iff_toInt_lt.mp h1
  rw [i_toInt hn] at h1
  refine ⟨a.toInt.toNat, by omega, ?_⟩
  apply Int32.toInt_inj.mp
  rw [i_toInt (by omega)]
  omega
theorem i_mul (a b : Nat) : Int32.ofNat a * Int32.ofNat b = Int32.ofNat (a * b) := (Int32.ofNat_mul a b).symm
theorem i_sub {a b : Nat} (h : b ≤ a) : Int32.ofNat a - Int32.ofNat b = Int32.ofNat (a - b) := pk_sub h
