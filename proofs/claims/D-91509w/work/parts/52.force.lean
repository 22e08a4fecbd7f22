set_option maxRecDepth 100000
/-! ===== the rules in force ===== -/
/-- of the first j rules the last that is in force at a ten -/
def frc (rs : List Ru) (t : Int32) : Nat → Option Nat
  | 0 => none
  | j + 1 => if h : j < rs.length then (if t < rs[j].from_ then frc rs t j else some j) else frc rs t j
def fcd : Option Nat → Int32
  | none => -1
  | some j => Int32.ofNat j
def frcA (rs : List Ru) (t : Int32) : Option Nat := frc rs t rs.length
theorem frc_lt {rs : List Ru} {t : Int32} : ∀ {j i : Nat}, frc rs t j = some i → i < rs.length := by
  intro j
  induction j with
  | zero => intro i h; exact absurd h (by simp [frc])
  | succ j ih =>
    intro i h
    unfold frc at h
    by_cases q : j < rs.length
    · rw [dif_pos q] at h
      by_cases c : t < rs[j].from_
      · rw [if_pos c] at h; exact ih h
      · rw [if_neg c] at h
        have := Option.some.inj h
        omega
    · rw [dif_neg q] at h; exact ih h
theorem frc_s {rs : List Ru} {t : Int32} {j : Nat} (h : j < rs.length) : frc rs t (j + 1) = if t < rs[j].from_ then frc rs t j else some j := by
  rw [frc, dif_pos h]
/-- the rules themselves -/
def ruA (rs : List Ru) (t : Int32) : Ru := match frcA rs t with
  | none => bareR
  | some i => rs.getD i bareR
section
variable {x : Nat} {M : Mem} {n0 k p L : Nat} {xs : Nat → Int32}
theorem x_numberAt_lp {rs : List Ru} (hB : Bas x M) (hR : XR x M rs) {t : Int32} {Q : Int32 → Mem → Prop} (hq : Q (fcd (frcA rs t)) M) :
    ∀ q j, j ≤ rs.length → rs.length < q + j → wp (lp_X0_numberAt_4 x t q (fcd (frc rs t j)) (Int32.ofNat j)) M Q := by
  have hL := hB.1
  have hg := hB.2.2.1
  obtain ⟨r0, r1, r2⟩ := hR
  have hb := hg.len hL.k7
  intro q
  induction q with
  | zero => intro j a b; omega
  | succ q ih =>
    intro j hj hq'
    rw [lp_X0_numberAt_4]
    refine w_bnd (w_getR0 hL rfl rfl rfl (w_bnd (w_gd hL.k7 (w_nt (w_size hg hL.k7 ?_)))))
    rw [r1]
    by_cases e : j = rs.length
    · refine w_t ((i_le (by omega) (by omega)).mpr (by omega)) (w_pur ?_)
      rw [e]; exact hq
    · have hj2 : j < rs.length := by omega
      have hj3 : j < (M.ls (x + 7)).length := by omega
      obtain ⟨u1, u2⟩ := r2 j hj2 hj3
      have K := ih (j + 1) (by omega) (by omega)
      rw [frc_s hj2] at K
      refine w_f (fun z => by have := (i_le (by omega) (by omega)).mp z; omega) ?_
      refine w_bnd (w_getR0 hL rfl rfl rfl (w_bnd (w_gd hL.k7 (w_nt (w_get hg hL.k7 hj3 (w_bnd (w_cst (Or.inr (by rw [u1.1]; decide)) (w_bnd (w_getIv u1.1 u1.2.1 (w_jn ?_))))))))))
      refine w_ite (fun hc => ?_) (fun hc => ?_)
      · rw [if_pos hc] at K
        show wp (lp_X0_numberAt_4 x t q _ (_ + 1)) M Q
        rw [i_add1]; exact K
      · rw [if_neg hc] at K
        show wp (lp_X0_numberAt_4 x t q _ (_ + 1)) M Q
        rw [i_add1]; exact K
theorem x_numberAt {n : Nat} {rs : List Ru} (hB : Bas x M) (hR : XR x M rs) (hn : 9100 ≤ n) {t : Int32} {Q : Int32 → Mem → Prop} (hq : Q (fcd (frcA rs t)) M) : wp (f_X0_numberAt n x t) M Q := by
  have hb := hB.2.2.1.len hB.1.k7
  have := hR.2.1
  unfold f_X0_numberAt
  exact x_numberAt_lp hB hR hq n 0 (Nat.zero_le _) (by omega)
theorem x_atR {n : Nat} {rs : List Ru} (hB : Bas x M) (hR : XR x M rs) (hn : 9100 ≤ n) (h8 : rs.length ≤ 8) {t : Int32} {Q : Nat → Mem → Prop} (hq : ∀ c, XR1 x M c (ruA rs t) → Q c M) : wp (f_X0_at n x t) M Q := by
  have hL := hB.1
  have hg := hB.2.2.1
  unfold f_X0_at
  refine w_bnd (w_gd hL.k0 (w_nt (x_numberAt hB hR hn (w_jn ?_))))
  unfold ruA at hq
  cases e : frcA rs t with
  | none =>
    rw [e] at hq
    refine w_f (by decide) (w_bnd (w_getR0 hL rfl rfl rfl (w_pur (hq _ hR.1))))
  | some i =>
    have hi : i < rs.length := frc_lt e
    have hi2 : i < (M.ls (x + 7)).length := by rw [hR.2.1]; exact hi
    obtain ⟨u1, u2⟩ := hR.2.2 i hi hi2
    rw [e] at hq
    refine w_t (Int32.not_lt.mp (i_nneg (by omega))) (w_bnd (w_getR0 hL rfl rfl rfl (w_bnd (w_gd hL.k0 (w_nt (x_numberAt hB hR hn ?_))))))
    rw [e]
    refine w_bnd (w_gd hL.k7 (w_nt (w_get hg hL.k7 hi2 (w_bnd (w_cst (Or.inr (by rw [u1.1]; decide)) (w_pur (hq _ ?_)))))))
    show XR1 x M _ (rs.getD i bareR)
    rw [List.getD_eq_getElem?_getD, List.getElem?_eq_getElem hi]
    exact u1
theorem m_inForce_lp {S : MS} {rs : List Ru} (hR : RU S rs) {t : Int32} {Q : Int32 → MS → Prop} (hq : Q (fcd (frcA rs t)) S) :
    ∀ q j, j ≤ rs.length → rs.length < q + j → wm x (lp_X4_inForce_4 (x + 28) t q (fcd (frc rs t j)) (Int32.ofNat j)) S Q := by
  obtain ⟨r1, r2, r3, r4⟩ := hR
  intro q
  induction q with
  | zero => intro j a b; omega
  | succ q ih =>
    intro j hj hq'
    rw [lp_X4_inForce_4]
    refine m_bnd (m_getI (by decide) ?_)
    rw [r1]
    by_cases e : j = rs.length
    · refine m_t ((i_le (by omega) (by omega)).mpr (by omega)) (m_pur ?_)
      rw [e]; exact hq
    · have hj2 : j < rs.length := by omega
      have K := ih (j + 1) (by omega) (by omega)
      rw [frc_s hj2] at K
      refine m_f (fun z => by have := (i_le (by omega) (by omega)).mp z; omega) ?_
      (repeat (first | (with_reducible refine m_bnd ?_) | (with_reducible refine m_jn ?_) | (with_reducible refine m_nt ?_) | (with_reducible refine m_gd ?_) | ((with_reducible apply m_getI); decide) | ((with_reducible apply m_putI); decide) | ((with_reducible apply m_getRt); exact rfl) | ((with_reducible apply m_ldIt); exact rfl; omega) | ((with_reducible apply m_ldLt); exact rfl; omega) | ((with_reducible apply m_stIt); exact rfl; omega) | ((with_reducible apply m_stZt); exact rfl; omega; (first | exact Or.inl rfl | exact Or.inr rfl | exact bz_z | assumption)) | ((with_reducible apply m_stLt); exact rfl; omega) | (with_reducible refine m_isin ?_) | (with_reducible refine m_isten ?_) | (with_reducible refine m_ones ?_) | (with_reducible refine m_isstore ?_) | ((with_reducible apply m_purZ); (first | exact Or.inl rfl | exact Or.inr rfl | exact bz_z | assumption)) | (with_reducible refine m_pur ?_)))
      rw [(r4 j hj2).2.2.1]
      refine m_ite (fun hc => ?_) (fun hc => ?_)
      · rw [if_pos hc] at K
        show wm x (lp_X4_inForce_4 (x + 28) t q _ (_ + 1)) S Q
        rw [i_add1]; exact K
      · rw [if_neg hc] at K
        show wm x (lp_X4_inForce_4 (x + 28) t q _ (_ + 1)) S Q
        rw [i_add1]; exact K
theorem m_inForce {n : Nat} {S : MS} {rs : List Ru} (hR : RU S rs) (hn : 100 ≤ n) {t : Int32} {Q : Int32 → MS → Prop} (hq : Q (fcd (frcA rs t)) S) : wm x (f_X4_inForce n (x + 28) t) S Q := by
  have := hR.2.1
  unfold f_X4_inForce
  exact m_inForce_lp hR hq n 0 (Nat.zero_le _) (by omega)
end
