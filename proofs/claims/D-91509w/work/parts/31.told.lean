set_option maxRecDepth 100000
/-! ===== what is told of tens ===== -/
/-- what the last telling that covers the ten says -/
def say (l : List Tri) (t : Int32) : Int32 := l.foldl (fun v e => if e.1 ≤ t ∧ t ≤ e.2.1 then e.2.2 else v) 0
theorem say_app (l : List Tri) (e : Tri) (t : Int32) : say (l ++ [e]) t = if e.1 ≤ t ∧ t ≤ e.2.1 then e.2.2 else say l t := by
  unfold say; rw [List.foldl_append]; rfl
theorem say_take {l : List Tri} {j : Nat} (h : j < l.length) (t : Int32) : say (l.take (j + 1)) t = if l[j].1 ≤ t ∧ t ≤ l[j].2.1 then l[j].2.2 else say (l.take j) t := by
  rw [List.take_succ_eq_append_getElem h, say_app]
def XT (x : Nat) (M : Mem) (told : Nat → List Tri) : Prop := ∀ w, w < 3 → (M.ls (x + 2 + 2 * w)).map (fun c => (M.i 640 c, M.i 641 c, M.i 642 c)) = told w ∧ ∀ c ∈ M.ls (x + 2 + 2 * w), M.k c = 6
def RT (S : MS) (told : Nat → List Tri) : Prop := ∀ w, w < 3 → S.a 1 w = Int32.ofNat (told w).length ∧ (told w).length ≤ 80 ∧ ∀ j (h : j < (told w).length), S.a 2 (80 * w + j) = ((told w)[j]).1 ∧ S.a 3 (80 * w + j) = ((told w)[j]).2.1 ∧ S.a 4 (80 * w + j) = ((told w)[j]).2.2
theorem sa_at (S : MS) (o i : Nat) (v : Int32) (o' i' : Nat) : (S.sa o i v).a o' i' = if o' = o ∧ i' = i then v else S.a o' i' := rfl
theorem sB_at (S : MS) (o i : Nat) (v : Int64) (o' i' : Nat) : (S.sb o i v).b o' i' = if o' = o ∧ i' = i then v else S.b o' i' := rfl
theorem si_at (S : MS) (j : Nat) (v : Int32) (j' : Nat) : (S.si j v).i j' = if j' = j then v else S.i j' := rfl
section
variable {x : Nat} {S : MS} {told : Nat → List Tri} {Q : Int32 → MS → Prop}
theorem m_saidOf_lp (hR : RT S told) {w : Nat} (hw : w < 3) {t : Int32} (hq : Q (say (told w) t) S) : ∀ q j v, j ≤ (told w).length → (told w).length < q + j → v = say ((told w).take j) t → wm x (lp_X4_saidOf_8 (x + 28) (Int32.ofNat w) t q v (Int32.ofNat (80 * w + j))) S Q := by
  obtain ⟨h1, h2, h3⟩ := hR w hw
  intro q
  induction q with
  | zero => intro j v a b; omega
  | succ q ih =>
    intro j v hj hq' hv
    rw [lp_X4_saidOf_8]
    have e80 : (80 : Int32) * Int32.ofNat w = Int32.ofNat (80 * w) := i_mul 80 w
    refine m_bnd (m_getR (f := 4) (o := 1) (q := 0) (len := 3) (by decide) (m_bnd (m_ldI (f := 4) (o := 1) (len := 3) (by decide) hw ?_)))
    rw [h1, e80, i_add]
    by_cases e : j = (told w).length
    · refine m_t ((i_le (by omega) (by omega)).mpr (by omega)) (m_pur ?_)
      rw [hv, e, List.take_length]; exact hq
    · have hj2 : j < (told w).length := by omega
      obtain ⟨g1, g2, g3⟩ := h3 j hj2
      refine m_f (fun z => by have := (i_le (by omega) (by omega)).mp z; omega) ?_
      refine m_bnd (m_getR (f := 5) (o := 2) (q := 0) (len := 240) (by decide) (m_bnd (m_ldI (f := 5) (o := 2) (len := 240) (by decide) (by omega) ?_)))
      refine m_bnd (m_getR (f := 6) (o := 3) (q := 0) (len := 240) (by decide) (m_bnd (m_ldI (f := 6) (o := 3) (len := 240) (by decide) (by omega) ?_)))
      rw [g1, g2]
      refine m_bnd (m_nt (m_isin (m_jn ?_)))
      have es := say_take hj2 t
      refine m_ite (fun hc => ?_) (fun hc => ?_)
      · rw [bz_0] at hc
        rw [i_add1]
        refine ih (j + 1) v (by omega) (by omega) ?_
        rw [es, if_neg hc]; exact hv
      · rw [bz_0, Decidable.not_not] at hc
        refine m_bnd (m_getR (f := 7) (o := 4) (q := 0) (len := 240) (by decide) (m_bnd (m_ldI (f := 7) (o := 4) (len := 240) (by decide) (by omega) ?_)))
        rw [i_add1, g3]
        refine ih (j + 1) _ (by omega) (by omega) ?_
        rw [es, if_pos hc]
theorem m_saidOf (hR : RT S told) {w n : Nat} (hw : w < 3) (hn : 100 ≤ n) {t : Int32} (hq : Q (say (told w) t) S) : wm x (f_X4_saidOf n (x + 28) (Int32.ofNat w) t) S Q := by
  unfold f_X4_saidOf
  have e80 : (80 : Int32) * Int32.ofNat w = Int32.ofNat (80 * w) := i_mul 80 w
  rw [e80]
  exact m_saidOf_lp hR hw hq n 0 0 (Nat.zero_le _) (by have := (hR w hw).2.1; omega) rfl
/-- the answer to 'said' -/
def saidD (told : Nat → List Tri) (w t : Int32) : Int32 := if (0 ≤ w ∧ w ≤ 2) ∧ 0 ≤ t ∧ t ≤ 4999 then say (told w.toNatClampNeg) t else -100000
theorem m_said (hR : RT S told) {n : Nat} (hn : 100 ≤ n) {w t : Int32} (hq : Q (saidD told w t) S) : wm x (f_X4_said n (x + 28) w t) S Q := by
  unfold f_X4_said
  refine m_bnd (m_nt (m_isin (m_jn (m_jn (m_ite (fun hc => ?_) (fun hc => m_bnd (m_nt (m_isten (m_ite (fun hd => ?_) (fun hd => ?_))))))))))
  · rw [bz_0] at hc
    rw [saidD, if_neg (fun z => hc z.1)] at hq
    exact m_pur hq
  · rw [bz_0] at hd
    rw [saidD, if_neg (fun z => hd z.2)] at hq
    exact m_pur hq
  · rw [bz_0, Decidable.not_not] at hc hd
    rw [saidD, if_pos ⟨hc, hd⟩] at hq
    obtain ⟨k, hk, rfl⟩ := i_nat (n := 2) hc.1 (by decide) hc.2
    rw [i_clamp (by omega)] at hq
    exact m_bnd (m_gd (m_nt (m_saidOf hR (by omega) hn (m_pur hq))))
/-- may it be told -/
def tellOk (told : Nat → List Tri) (w f t v : Int32) : Prop := (0 ≤ w ∧ w ≤ 2) ∧ (0 ≤ f ∧ f ≤ 4999) ∧ (0 ≤ t ∧ t ≤ 4999) ∧ f ≤ t ∧ (if w = 0 then 0 ≤ v ∧ v ≤ 2000 else if w = 1 then -500 ≤ v ∧ v ≤ 500 else 0 ≤ v ∧ v ≤ 100) ∧ (told w.toNatClampNeg).length ≠ 80
def tellD (told : Nat → List Tri) (w f t v : Int32) : Nat → List Tri := fun k => if k = w.toNatClampNeg then told k ++ [(f, t, v)] else told k
theorem RT_tell (hR : RT S told) {w : Nat} (hw : w < 3) (h80 : (told w).length ≠ 80) {f t v : Int32} : RT ((((S.sa 2 (80 * w + (told w).length) f).sa 3 (80 * w + (told w).length) t).sa 4 (80 * w + (told w).length) v).sa 1 w (Int32.ofNat ((told w).length + 1))) (fun k => if k = w then told k ++ [(f, t, v)] else told k) := by
  intro k hk
  obtain ⟨h1, h2, h3⟩ := hR k hk
  have hw2 := (hR w hw).2.1
  by_cases e : k = w
  · subst e
    simp only [if_pos]
    refine ⟨?_, by rw [List.length_append]; show _ + 1 ≤ 80; omega, fun j hj => ?_⟩
    · rw [sa_eq, List.length_append]; rfl
    · rw [List.length_append] at hj
      have hj : j < (told k).length + 1 := hj
      rw [sa_no _ _ _ _ (by decide : 2 ≠ 1), sa_no _ _ _ _ (by decide : 2 ≠ 4), sa_no _ _ _ _ (by decide : 2 ≠ 3), sa_no _ _ _ _ (by decide : 3 ≠ 1), sa_no _ _ _ _ (by decide : 3 ≠ 4), sa_no _ _ _ _ (by decide : 4 ≠ 1)]
      by_cases ej : j = (told k).length
      · subst ej
        rw [sa_eq, sa_eq, sa_eq, List.getElem_append_right (Nat.le_refl _)]
        simp
      · have hj2 : j < (told k).length := by omega
        obtain ⟨g1, g2, g3⟩ := h3 j hj2
        rw [List.getElem_append_left hj2]
        simp only [sa_at, ej, Nat.add_left_cancel_iff, and_false, if_false, Nat.reduceEqDiff, false_and]
        exact ⟨g1, g2, g3⟩
  · simp only [if_neg e]
    refine ⟨?_, h2, fun j hj => ?_⟩
    · rw [sa_ni _ _ _ _ e, sa_no _ _ _ _ (by decide : 1 ≠ 4), sa_no _ _ _ _ (by decide : 1 ≠ 3), sa_no _ _ _ _ (by decide : 1 ≠ 2)]; exact h1
    · obtain ⟨g1, g2, g3⟩ := h3 j hj
      have ne : 80 * k + j ≠ 80 * w + (told w).length := by omega
      simp only [sa_at, ne, and_false, if_false, Nat.reduceEqDiff, false_and]
      exact ⟨g1, g2, g3⟩
theorem m_isTold {w v : Int32} (hw : 0 ≤ w ∧ w ≤ 2) (hq : Q (bz (if w = 0 then 0 ≤ v ∧ v ≤ 2000 else if w = 1 then -500 ≤ v ∧ v ≤ 500 else 0 ≤ v ∧ v ≤ 100)) S) : wm x (f_X4_isTold w v) S Q := by
  unfold f_X4_isTold
  refine m_jn (m_ite (fun h0 => m_ite (fun h1 => m_bnd (m_nt (m_isin (m_purZ bz_z ?_)))) (fun h1 => m_bnd (m_nt (m_isin (m_purZ bz_z ?_))))) (fun h0 => m_bnd (m_nt (m_isin (m_purZ bz_z ?_)))))
  · simp only [if_neg h0, if_neg h1] at hq; exact hq
  · rw [Decidable.not_not] at h1
    simp only [if_neg h0, if_pos h1] at hq; exact hq
  · rw [Decidable.not_not] at h0
    simp only [if_pos h0] at hq; exact hq
theorem m_tell (hR : RT S told) {w f t v : Int32} (hq0 : ¬ tellOk told w f t v → Q 0 S)
    (hq1 : tellOk told w f t v → ∀ S', RT S' (tellD told w f t v) → S'.i = S.i → S'.b = S.b → (∀ o, 4 < o → S'.a o = S.a o) → Q 1 S') : wm x (f_X4_tell (x + 28) w f t v) S Q := by
  unfold f_X4_tell
  unfold tellOk at hq0 hq1
  refine m_bnd (m_nt (m_isin (m_jn (m_ite (fun h1 => ?_) (fun h1 => m_bnd (m_nt (m_isten (m_ite (fun h2 => ?_) (fun h2 => m_bnd (m_nt (m_isten (m_ite (fun h3 => ?_) (fun h3 => m_ite (fun h4 => ?_) (fun h4 => ?_))))))))))))))
  · rw [bz_0] at h1
    exact m_purZ (Or.inl rfl) (hq0 (fun z => h1 z.1))
  · rw [bz_0] at h2
    exact m_purZ (Or.inl rfl) (hq0 (fun z => h2 z.2.1))
  · rw [bz_0] at h3
    exact m_purZ (Or.inl rfl) (hq0 (fun z => h3 z.2.2.1))
  · exact m_purZ (Or.inl rfl) (hq0 (fun z => Int32.not_lt.mpr z.2.2.2.1 h4))
  · rw [bz_0, Decidable.not_not] at h1 h2 h3
    refine m_bnd (m_nt (m_isTold h1 (m_ite (fun h5 => ?_) (fun h5 => ?_))))
    · rw [bz_0] at h5
      exact m_purZ (Or.inl rfl) (hq0 (fun z => h5 z.2.2.2.2.1))
    · rw [bz_0, Decidable.not_not] at h5
      obtain ⟨k, hk, rfl⟩ := i_nat (n := 2) h1.1 (by decide) h1.2
      rw [i_clamp (by omega)] at hq0 hq1
      have hk3 : k < 3 := by omega
      obtain ⟨g1, g2, g3⟩ := hR k hk3
      have e80 : (80 : Int32) * Int32.ofNat k = Int32.ofNat (80 * k) := i_mul 80 k
      refine m_bnd (m_getR (f := 4) (o := 1) (q := 0) (len := 3) (by decide) (m_bnd (m_ldI (f := 4) (o := 1) (len := 3) (by decide) hk3 ?_)))
      rw [g1]
      refine m_ite (fun h6 => ?_) (fun h6 => ?_)
      · have h6 : (told k).length ≠ 80 := fun z => h6 (by rw [z]; rfl)
        refine m_bnd (m_getR (f := 4) (o := 1) (q := 0) (len := 3) (by decide) (m_bnd (m_ldI (f := 4) (o := 1) (len := 3) (by decide) hk3 ?_)))
        rw [g1, e80, i_add]
        refine m_bnd (m_getR (f := 5) (o := 2) (q := 0) (len := 240) (by decide) (m_bnd (m_stI (f := 5) (o := 2) (len := 240) (by decide) (by omega) ?_)))
        refine m_bnd (m_getR (f := 6) (o := 3) (q := 0) (len := 240) (by decide) (m_bnd (m_stI (f := 6) (o := 3) (len := 240) (by decide) (by omega) ?_)))
        refine m_bnd (m_getR (f := 7) (o := 4) (q := 0) (len := 240) (by decide) (m_bnd (m_stI (f := 7) (o := 4) (len := 240) (by decide) (by omega) ?_)))
        refine m_bnd (m_getR (f := 4) (o := 1) (q := 0) (len := 3) (by decide) (m_bnd (m_ldI (f := 4) (o := 1) (len := 3) (by decide) hk3 (m_bnd (m_stI (f := 4) (o := 1) (len := 3) (by decide) hk3 (m_purZ (Or.inr rfl) ?_))))))
        have e9 : (((S.sa 2 (80 * k + (told k).length) f).sa 3 (80 * k + (told k).length) t).sa 4 (80 * k + (told k).length) v).a 1 k + 1 = Int32.ofNat ((told k).length + 1) := by
          simp only [sa_at, Nat.reduceEqDiff, false_and, if_false]
          rw [g1]; exact i_add1 _
        rw [e9]
        refine hq1 ⟨h1, h2, h3, Int32.not_lt.mp h4, h5, h6⟩ _ ?_ rfl rfl (fun o ho => ?_)
        · have K := RT_tell hR hk3 h6 (f := f) (t := t) (v := v)
          unfold tellD
          rw [i_clamp (by omega)]
          exact K
        · rw [sa_no _ _ _ _ (by omega), sa_no _ _ _ _ (by omega), sa_no _ _ _ _ (by omega), sa_no _ _ _ _ (by omega)]
      · refine m_purZ (Or.inl rfl) (hq0 (fun z => z.2.2.2.2.2 ?_))
        rw [Decidable.not_not] at h6
        exact (i_eq (b := 80) (by omega) (by omega)).mp h6
end
