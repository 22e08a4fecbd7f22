set_option maxRecDepth 100000
section
variable {x : Nat} {M : Mem} {n0 k p L : Nat} {xs : Nat → Int32}
/-- what is told where no rules tell it -/
def bare_ (w : Nat) : Int32 := if w = 0 then 1000 else if w = 1 then 1500 else if w = 2 then 20 else if w = 3 then 4 else if w = 4 then 100 else 0
def lawA (rs : List Ru) (t : Int32) (w : Nat) : Int32 := tel (ruA rs t).stm (Int32.ofNat w) (bare_ w)
theorem m_bare {S : MS} {w : Nat} (hw : w < 6) {Q : Int32 → MS → Prop} (hq : Q (bare_ w) S) : wm x (f_X4_bare (Int32.ofNat w)) S Q := by
  refine m_w (a := bare_ w) (fun M => ?_) hq
  unfold f_X4_bare
  rcases (by omega : w = 0 ∨ w = 1 ∨ w = 2 ∨ w = 3 ∨ w = 4 ∨ w = 5) with rfl | rfl | rfl | rfl | rfl | rfl
  · exact w_jn (w_f (fun z => z rfl) (w_pur ⟨rfl, rfl⟩))
  · exact w_jn (w_t (by decide) (w_f (fun z => z rfl) (w_pur ⟨rfl, rfl⟩)))
  · exact w_jn (w_t (by decide) (w_t (by decide) (w_f (fun z => z rfl) (w_pur ⟨rfl, rfl⟩))))
  · exact w_jn (w_t (by decide) (w_t (by decide) (w_t (by decide) (w_f (fun z => z rfl) (w_pur ⟨rfl, rfl⟩)))))
  · exact w_jn (w_t (by decide) (w_t (by decide) (w_t (by decide) (w_t (by decide) (w_f (fun z => z rfl) (w_pur ⟨rfl, rfl⟩))))))
  · exact w_jn (w_t (by decide) (w_t (by decide) (w_t (by decide) (w_t (by decide) (w_t (by decide) (w_pur ⟨rfl, rfl⟩))))))
theorem m_tells_lp {S : MS} {ru : Ru} {r w : Nat} (hr : r < 9) (hw : w < 6) (hR : RR1 S r ru) {b : Int32} {Q : Int32 → MS → Prop} (hq : Q (tel ru.stm (Int32.ofNat w) b) S) :
    ∀ q j, j ≤ ru.stm.length → ru.stm.length < q + j → wm x (lp_X4_tells_11 (x + 28) (Int32.ofNat r) (Int32.ofNat w) q ((ru.stm.take j).foldl (fun v s => if s.sort = Int32.ofNat w then s.a else v) b) (Int32.ofNat (24 * r + j))) S Q := by
  obtain ⟨r1, r2, r3, r4⟩ := hR
  have e24 : (24 : Int32) * Int32.ofNat r = Int32.ofNat (24 * r) := i_mul 24 r
  have hne : ¬ Int32.ofNat r = -1 := fun z => i_nneg (n := r) (by omega) (by rw [z]; decide)
  intro q
  induction q with
  | zero => intro j a b; omega
  | succ q ih =>
    intro j hj hq'
    rw [lp_X4_tells_11]
    refine m_jn (m_f hne ?_)
    (repeat (first | (with_reducible refine m_bnd ?_) | (with_reducible refine m_jn ?_) | (with_reducible refine m_nt ?_) | (with_reducible refine m_gd ?_) | ((with_reducible apply m_getI); decide) | ((with_reducible apply m_putI); decide) | ((with_reducible apply m_getRt); exact rfl) | ((with_reducible apply m_ldIt); exact rfl; omega) | ((with_reducible apply m_ldLt); exact rfl; omega) | ((with_reducible apply m_stIt); exact rfl; omega) | ((with_reducible apply m_stZt); exact rfl; omega; (first | exact Or.inl rfl | exact Or.inr rfl | exact bz_z | assumption)) | ((with_reducible apply m_stLt); exact rfl; omega) | (with_reducible refine m_isin ?_) | (with_reducible refine m_isten ?_) | (with_reducible refine m_ones ?_) | (with_reducible refine m_isstore ?_) | ((with_reducible apply m_purZ); (first | exact Or.inl rfl | exact Or.inr rfl | exact bz_z | assumption)) | (with_reducible refine m_pur ?_)))
    rw [r1, e24, i_add]
    by_cases e : j = ru.stm.length
    · refine m_t ((i_le (by omega) (by omega)).mpr (by omega)) (m_pur ?_)
      rw [e, List.take_length]; exact hq
    · have hj2 : j < ru.stm.length := by omega
      obtain ⟨u1, u2, u3⟩ := r4 j hj2
      have K := ih (j + 1) (by omega) (by omega)
      rw [foldl_take hj2] at K
      refine m_f (fun z => by have := (i_le (by omega) (by omega)).mp z; omega) ?_
      (repeat (first | (with_reducible refine m_bnd ?_) | (with_reducible refine m_jn ?_) | (with_reducible refine m_nt ?_) | (with_reducible refine m_gd ?_) | ((with_reducible apply m_getI); decide) | ((with_reducible apply m_putI); decide) | ((with_reducible apply m_getRt); exact rfl) | ((with_reducible apply m_ldIt); exact rfl; omega) | ((with_reducible apply m_ldLt); exact rfl; omega) | ((with_reducible apply m_stIt); exact rfl; omega) | ((with_reducible apply m_stZt); exact rfl; omega; (first | exact Or.inl rfl | exact Or.inr rfl | exact bz_z | assumption)) | ((with_reducible apply m_stLt); exact rfl; omega) | (with_reducible refine m_isin ?_) | (with_reducible refine m_isten ?_) | (with_reducible refine m_ones ?_) | (with_reducible refine m_isstore ?_) | ((with_reducible apply m_purZ); (first | exact Or.inl rfl | exact Or.inr rfl | exact bz_z | assumption)) | (with_reducible refine m_pur ?_)))
      rw [u1]
      refine m_ite (fun hc => ?_) (fun hc => ?_)
      · rw [if_neg hc] at K
        show wm x (lp_X4_tells_11 (x + 28) _ _ q _ (_ + 1)) S Q
        rw [i_add1]; exact K
      · rw [Decidable.not_not] at hc
        rw [if_pos hc] at K
        have n67 : ¬ (ru.stm[j].sort = 6 ∨ ru.stm[j].sort = 7) := fun z => by
          rw [hc] at z
          rcases z with z | z
          · have := (i_eq (a := w) (b := 6) (by omega) (by omega)).mp z; omega
          · have := (i_eq (a := w) (b := 7) (by omega) (by omega)).mp z; omega
        rw [if_neg n67] at u2
        (repeat (first | (with_reducible refine m_bnd ?_) | (with_reducible refine m_jn ?_) | (with_reducible refine m_nt ?_) | (with_reducible refine m_gd ?_) | ((with_reducible apply m_getI); decide) | ((with_reducible apply m_putI); decide) | ((with_reducible apply m_getRt); exact rfl) | ((with_reducible apply m_ldIt); exact rfl; omega) | ((with_reducible apply m_ldLt); exact rfl; omega) | ((with_reducible apply m_stIt); exact rfl; omega) | ((with_reducible apply m_stZt); exact rfl; omega; (first | exact Or.inl rfl | exact Or.inr rfl | exact bz_z | assumption)) | ((with_reducible apply m_stLt); exact rfl; omega) | (with_reducible refine m_isin ?_) | (with_reducible refine m_isten ?_) | (with_reducible refine m_ones ?_) | (with_reducible refine m_isstore ?_) | ((with_reducible apply m_purZ); (first | exact Or.inl rfl | exact Or.inr rfl | exact bz_z | assumption)) | (with_reducible refine m_pur ?_)))
        rw [u2]
        show wm x (lp_X4_tells_11 (x + 28) _ _ q _ (_ + 1)) S Q
        rw [i_add1]; exact K
theorem m_tells {n : Nat} {S : MS} {rs : List Ru} (hR : RU S rs) (hn : 100 ≤ n) {t : Int32} {w : Nat} (hw : w < 6) {Q : Int32 → MS → Prop} (hq : Q (lawA rs t w) S) : wm x (f_X4_tells n (x + 28) (fcd (frcA rs t)) (Int32.ofNat w)) S Q := by
  unfold f_X4_tells
  refine m_bnd (m_nt (m_bare hw ?_))
  unfold lawA ruA at hq
  cases e : frcA rs t with
  | none =>
    rw [e] at hq
    show wm x (lp_X4_tells_11 (x + 28) (-1) (Int32.ofNat w) n (bare_ w) (24 * (-1))) S Q
    cases n with
    | zero => omega
    | succ n =>
      rw [lp_X4_tells_11]
      exact m_jn (m_t rfl (m_pur hq))
  | some i =>
    rw [e] at hq
    have hi : i < rs.length := frc_lt e
    have hq : Q (tel (rs.getD i bareR).stm (Int32.ofNat w) (bare_ w)) S := hq
    rw [List.getD_eq_getElem?_getD, List.getElem?_eq_getElem hi] at hq
    have h8 := hR.2.1
    have h24 := (hR.2.2.2 i hi).2.1
    have e24 : (24 : Int32) * Int32.ofNat i = Int32.ofNat (24 * i) := i_mul 24 i
    show wm x (lp_X4_tells_11 (x + 28) (Int32.ofNat i) (Int32.ofNat w) n (bare_ w) (24 * Int32.ofNat i)) S Q
    rw [e24]
    exact m_tells_lp (by omega) hw (hR.2.2.2 i hi) hq n 0 (Nat.zero_le _) (by omega)
end
