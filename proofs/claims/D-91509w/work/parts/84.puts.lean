set_option maxRecDepth 100000
/-! ===== what comes into a store: the model ===== -/
def puA (o : Nat) : Prop := 18 ≤ o ∧ o ≤ 26
section
variable {x : Nat} {S : MS}
theorem i_840 (s o : Nat) : (840 : Int32) * Int32.ofNat s + Int32.ofNat o = Int32.ofNat (840 * s + o) := by
  rw [show (840 : Int32) = Int32.ofNat 840 from rfl, i_mul, i_add]
/-- the last lot has more -/
theorem m_pu2 {s : Nat} {so : So} {m f : Int32} {l' : List Tri} {e : Tri} {o : Nat} {S0 : MS} (hs : s < 2) (hR : RG1 S s so) (hl : so.lots = l' ++ [e]) (ho : S.a 21 s = Int32.ofNat o) (ho2 : o + so.lots.length ≤ 834) (h0 : Sam no puA no S0 S) (hF : SoF s S0 S)
    {Q : Unit → MS → Prop} (hq : ∀ S', Sam no puA no S0 S' → SoF s S0 S' → RG1 S' s ((so.set_lots (incL so.lots m f)).set_grams (so.grams + m)) → Q () S') :
    wm x (bnd (getR 4 30 (x + 28)) fun v10 => bnd (ldI 0 v10 (Int32.ofNat (840 * s + (o + l'.length)))) fun v11 => bnd (stI 0 v10 (Int32.ofNat (840 * s + (o + l'.length))) (v11 + m)) fun _ => bnd (getR 4 31 (x + 28)) fun v12 => bnd (ldI 0 v12 (Int32.ofNat (840 * s + (o + l'.length)))) fun v13 => bnd (stI 0 v12 (Int32.ofNat (840 * s + (o + l'.length))) (v13 + f)) fun _ => bnd (getR 4 23 (x + 28)) fun v14 => bnd (ldI 0 v14 (Int32.ofNat s)) fun v15 => bnd (stI 0 v14 (Int32.ofNat s) (v15 + m)) fun _ => bnd (getR 4 24 (x + 28)) fun v16 => bnd (ldI 0 v16 (Int32.ofNat s)) fun v17 => bnd (stI 0 v16 (Int32.ofNat s) (v17 + f)) fun _ => pur ()) S Q := by
  obtain ⟨r1, r2, r3, r4, r5, r6, r7, r8, o', r9, r10, r11, r12⟩ := hR
  have hlen : so.lots.length = l'.length + 1 := by rw [hl, List.length_append]; rfl
  have eo : o' = o := (i_eq (by omega) (by omega)).mp (r9.symm.trans ho)
  subst eo
  obtain ⟨t1, t2, t3, t4⟩ := r12 l'.length (by omega)
  have ge : so.lots[l'.length]'(by omega) = e := by simp only [hl]; simp
  rw [ge] at t1 t2 t3 t4
  refine m_bnd (m_getRt rfl (m_bnd (m_ldIt rfl (by omega) (m_bnd (m_stIt rfl (by omega) (m_bnd (m_getRt rfl (m_bnd (m_ldIt rfl (by omega) (m_bnd (m_stIt rfl (by omega) ?_)))))))))))
  refine m_bnd (m_getRt rfl (m_bnd (m_ldIt rfl hs (m_bnd (m_stIt rfl hs (m_bnd (m_getRt rfl (m_bnd (m_ldIt rfl hs (m_bnd (m_stIt rfl hs (m_pur ?_))))))))))))
  simp only [sa_at, Nat.reduceEqDiff, false_and, if_false, t2, t3, r4, r5]
  have rd : ∀ o2 i, ((((S.sa 25 (840 * s + (o' + l'.length)) (e.2.1 + m)).sa 26 (840 * s + (o' + l'.length)) (e.2.2 + f)).sa 18 s (so.grams + m)).sa 19 s (sumF so.lots + f)).a o2 i = if o2 = 19 ∧ i = s then sumF so.lots + f else if o2 = 18 ∧ i = s then so.grams + m else if o2 = 26 ∧ i = 840 * s + (o' + l'.length) then e.2.2 + f else if o2 = 25 ∧ i = 840 * s + (o' + l'.length) then e.2.1 + m else S.a o2 i := fun o2 i => rfl
  have A : Sam no puA no S ((((S.sa 25 (840 * s + (o' + l'.length)) (e.2.1 + m)).sa 26 (840 * s + (o' + l'.length)) (e.2.2 + f)).sa 18 s (so.grams + m)).sa 19 s (sumF so.lots + f)) := (((Sam.rf.sa (by unfold puA; omega)).sa (by unfold puA; omega)).sa (by unfold puA; omega)).sa (by unfold puA; omega)
  have B : ((((S.sa 25 (840 * s + (o' + l'.length)) (e.2.1 + m)).sa 26 (840 * s + (o' + l'.length)) (e.2.2 + f)).sa 18 s (so.grams + m)).sa 19 s (sumF so.lots + f)).b = S.b := rfl
  revert rd A B
  generalize ((((S.sa 25 (840 * s + (o' + l'.length)) (e.2.1 + m)).sa 26 (840 * s + (o' + l'.length)) (e.2.2 + f)).sa 18 s (so.grams + m)).sa 19 s (sumF so.lots + f)) = T
  intro rd A B
  have sm : ∀ o2 i, o2 ≠ 18 → o2 ≠ 19 → o2 ≠ 25 → o2 ≠ 26 → T.a o2 i = S.a o2 i := fun o2 i z1 z2 z3 z4 => by rw [rd, if_neg (by omega), if_neg (by omega), if_neg (by omega), if_neg (by omega)]
  have hF2 : SoF s S T := by
    refine ⟨fun o2 a b i z => ?_, fun o2 a b i z => ?_, ⟨?_, ?_, ?_⟩, by rw [B], by rw [B]⟩
    · rw [rd, if_neg (fun q => z q.2), if_neg (fun q => z q.2), if_neg (by omega), if_neg (by omega)]
    · rw [rd, if_neg (by omega), if_neg (by omega), if_neg (by omega), if_neg (by omega)]
    · funext i; exact sm 15 i (by omega) (by omega) (by omega) (by omega)
    · funext i; exact sm 16 i (by omega) (by omega) (by omega) (by omega)
    · funext i; exact sm 17 i (by omega) (by omega) (by omega) (by omega)
  refine hq T (h0.tr A) (hF.tr hF2) ?_
  unfold RG1
  rw [B, sm 15 s (by omega) (by omega) (by omega) (by omega), sm 16 s (by omega) (by omega) (by omega) (by omega), sm 17 s (by omega) (by omega) (by omega) (by omega), sm 20 s (by omega) (by omega) (by omega) (by omega), sm 21 s (by omega) (by omega) (by omega) (by omega), rd 18, rd 19, if_neg (by omega), if_pos ⟨rfl, rfl⟩, if_pos ⟨rfl, rfl⟩]
  have el : ((so.set_lots (incL so.lots m f)).set_grams (so.grams + m)).lots = l' ++ [(e.1, e.2.1 + m, e.2.2 + f)] := by
    show incL so.lots m f = _
    rw [hl, incL_c]
  rw [el]
  have ell : (l' ++ [(e.1, e.2.1 + m, e.2.2 + f)]).length = so.lots.length := by rw [hlen, List.length_append]; rfl
  refine ⟨r1, r2, r3, rfl, ?_, ?_, r7, r8, o', r9, fun z => by rw [ell, hlen] at z; omega, by rw [ell]; exact ho2, fun j hj => ?_⟩
  · rw [hl, sumF_app, sumF_app, sumF_1, sumF_1, Int32.add_assoc]
  · rw [r6, ell]
  · rw [ell, hlen] at hj
    rw [sm 24 _ (by omega) (by omega) (by omega) (by omega), rd 25, rd 26]
    simp only [Nat.reduceEqDiff, false_and, true_and, if_false]
    by_cases c : j = l'.length
    · subst c
      rw [if_pos rfl, if_pos rfl, List.getElem_append_right (Nat.le_refl _)]
      simp only [Nat.sub_self, List.getElem_cons_zero]
      exact ⟨t1, trivial, trivial, t4⟩
    · have hj2 : j < l'.length := by omega
      rw [if_neg (by omega), if_neg (by omega), List.getElem_append_left hj2]
      have := r12 j (by omega)
      have g2 : so.lots[j]'(by omega) = l'[j] := by simp only [hl]; exact List.getElem_append_left hj2
      rw [g2] at this
      exact this
theorem m_puts {s : Nat} {so : So} {m f : Int32} {now : Nat} (hs : s < 2) (hR : RG1 S s so) (hok : lotsOk now so.lots) (hnow : now ≤ 4999) (h0 : S.i 0 = Int32.ofNat now) {Q : Unit → MS → Prop}
    (hq : ∀ S', Sam no puA no S S' → SoF s S S' → RG1 S' s (addSo so (Int32.ofNat (now / 6)) m f) → Q () S') : wm x (f_X4_puts (x + 28) (Int32.ofNat s) m f) S Q := by
  unfold f_X4_puts
  by_cases c : m = 0
  · refine m_f (fun z => z c) (m_pur (hq S Sam.rf SoF.rf ?_))
    have e : addSo so (Int32.ofNat (now / 6)) m f = so := by
      unfold addSo addL
      rw [if_pos c, c, Int32.add_zero]; rfl
    rw [e]; exact hR
  · have ea : addSo so (Int32.ofNat (now / 6)) m f = (so.set_lots (incL (ensL so.lots (Int32.ofNat (now / 6))) m f)).set_grams (so.grams + m) := by unfold addSo addL; rw [if_neg c]
    rw [ea] at hq
    have hR0 := hR
    obtain ⟨r1, r2, r3, r4, r5, r6, r7, r8, o, r9, r10, r11, r12⟩ := hR
    refine m_t c (m_bnd (m_getI (by decide) (m_bnd (m_getRt rfl (m_bnd (m_ldIt rfl hs (m_bnd (m_getRt rfl (m_bnd (m_ldIt rfl hs ?_))))))))))
    rw [h0, r9, r6, i_d6 (by omega), i_add]
    have hh : (Int32.ofNat (now / 6)).toInt = ((now / 6 : Nat) : Int) := i_toInt (by omega)
    -- a new lot
    have ph1 : ensL so.lots (Int32.ofNat (now / 6)) = so.lots ++ [(Int32.ofNat (now / 6), 0, 0)] → ((o + so.lots.length : Nat) : Int) ≤ ((now / 6 : Nat) : Int) →
        wm x (bnd (getR 4 25 (x + 28)) fun v18 => bnd (ldI 0 v18 (Int32.ofNat s)) fun v19 => bnd (stI 0 v18 (Int32.ofNat s) (v19 + 1)) fun _ => bnd (getR 4 26 (x + 28)) fun v20 => bnd (ldI 0 v20 (Int32.ofNat s)) fun v21 => bnd (getR 4 25 (x + 28)) fun v22 => bnd (ldI 0 v22 (Int32.ofNat s)) fun v23 => bnd (nt (f_X4_place (Int32.ofNat s) ((v21 + v23) - 1))) fun v24 => bnd (getR 4 29 (x + 28)) fun v25 => bnd (stI 0 v25 v24 (Int32.ofNat (now / 6))) fun _ => bnd (getR 4 30 (x + 28)) fun v26 => bnd (stI 0 v26 v24 0) fun _ => bnd (getR 4 31 (x + 28)) fun v27 => bnd (stI 0 v27 v24 0) fun _ => (bnd (getR 4 30 (x + 28)) fun v10 => bnd (ldI 0 v10 v24) fun v11 => bnd (stI 0 v10 v24 (v11 + m)) fun _ => bnd (getR 4 31 (x + 28)) fun v12 => bnd (ldI 0 v12 v24) fun v13 => bnd (stI 0 v12 v24 (v13 + f)) fun _ => bnd (getR 4 23 (x + 28)) fun v14 => bnd (ldI 0 v14 (Int32.ofNat s)) fun v15 => bnd (stI 0 v14 (Int32.ofNat s) (v15 + m)) fun _ => bnd (getR 4 24 (x + 28)) fun v16 => bnd (ldI 0 v16 (Int32.ofNat s)) fun v17 => bnd (stI 0 v16 (Int32.ofNat s) (v17 + f)) fun _ => pur ())) S Q := by
      intro he hle
      rw [he] at hq
      refine m_bnd (m_getRt rfl (m_bnd (m_ldIt rfl hs (m_bnd (m_stIt rfl hs (m_bnd (m_getRt rfl (m_bnd (m_ldIt rfl hs (m_bnd (m_getRt rfl (m_bnd (m_ldIt rfl hs ?_)))))))))))))
      rw [r6, i_add1, sa_at, if_neg (by omega), sa_at, if_pos ⟨rfl, rfl⟩, r9, i_add, show o + (so.lots.length + 1) = (o + so.lots.length) + 1 by omega, i_ap1]
      refine m_bnd (m_nt (m_placeAt (m_bnd (m_getRt rfl (m_bnd (m_stIt rfl (by omega) (m_bnd (m_getRt rfl (m_bnd (m_stIt rfl (by omega) (m_bnd (m_getRt rfl (m_bnd (m_stIt rfl (by omega) ?_))))))))))))))
      have rd : ∀ o2 i, ((((S.sa 20 s (Int32.ofNat (so.lots.length + 1))).sa 24 (840 * s + (o + so.lots.length)) (Int32.ofNat (now / 6))).sa 25 (840 * s + (o + so.lots.length)) 0).sa 26 (840 * s + (o + so.lots.length)) 0).a o2 i = if o2 = 26 ∧ i = 840 * s + (o + so.lots.length) then 0 else if o2 = 25 ∧ i = 840 * s + (o + so.lots.length) then 0 else if o2 = 24 ∧ i = 840 * s + (o + so.lots.length) then Int32.ofNat (now / 6) else if o2 = 20 ∧ i = s then Int32.ofNat (so.lots.length + 1) else S.a o2 i := fun o2 i => rfl
      have A : Sam no puA no S ((((S.sa 20 s (Int32.ofNat (so.lots.length + 1))).sa 24 (840 * s + (o + so.lots.length)) (Int32.ofNat (now / 6))).sa 25 (840 * s + (o + so.lots.length)) 0).sa 26 (840 * s + (o + so.lots.length)) 0) := (((Sam.rf.sa (by unfold puA; omega)).sa (by unfold puA; omega)).sa (by unfold puA; omega)).sa (by unfold puA; omega)
      have B : ((((S.sa 20 s (Int32.ofNat (so.lots.length + 1))).sa 24 (840 * s + (o + so.lots.length)) (Int32.ofNat (now / 6))).sa 25 (840 * s + (o + so.lots.length)) 0).sa 26 (840 * s + (o + so.lots.length)) 0).b = S.b := rfl
      revert rd A B
      generalize ((((S.sa 20 s (Int32.ofNat (so.lots.length + 1))).sa 24 (840 * s + (o + so.lots.length)) (Int32.ofNat (now / 6))).sa 25 (840 * s + (o + so.lots.length)) 0).sa 26 (840 * s + (o + so.lots.length)) 0) = T
      intro rd A B
      have sm : ∀ o2 i, o2 ≠ 20 → o2 ≠ 24 → o2 ≠ 25 → o2 ≠ 26 → T.a o2 i = S.a o2 i := fun o2 i z1 z2 z3 z4 => by rw [rd, if_neg (by omega), if_neg (by omega), if_neg (by omega), if_neg (by omega)]
      have hF2 : SoF s S T := by
        refine ⟨fun o2 a b i z => ?_, fun o2 a b i z => ?_, ⟨?_, ?_, ?_⟩, by rw [B], by rw [B]⟩
        · rw [rd, if_neg (by omega), if_neg (by omega), if_neg (by omega), if_neg (by omega)]
        · rw [rd, if_neg (by omega), if_neg (by omega), if_neg (by omega), if_neg (by omega)]
        · funext i; exact sm 15 i (by omega) (by omega) (by omega) (by omega)
        · funext i; exact sm 16 i (by omega) (by omega) (by omega) (by omega)
        · funext i; exact sm 17 i (by omega) (by omega) (by omega) (by omega)
      have z2 : sumF [((Int32.ofNat (now / 6), 0, 0) : Tri)] = 0 := by rw [sumF_1]
      have hRT : RG1 T s (so.set_lots (so.lots ++ [(Int32.ofNat (now / 6), 0, 0)])) := by
        unfold RG1
        rw [B, sm 15 s (by omega) (by omega) (by omega) (by omega), sm 16 s (by omega) (by omega) (by omega) (by omega), sm 17 s (by omega) (by omega) (by omega) (by omega), sm 18 s (by omega) (by omega) (by omega) (by omega), sm 19 s (by omega) (by omega) (by omega) (by omega), sm 21 s (by omega) (by omega) (by omega) (by omega)]
        have ell : (so.set_lots (so.lots ++ [(Int32.ofNat (now / 6), 0, 0)])).lots.length = so.lots.length + 1 := by
          show (so.lots ++ [((Int32.ofNat (now / 6), 0, 0) : Tri)]).length = _
          rw [List.length_append]; rfl
        refine ⟨r1, r2, r3, r4, ?_, ?_, r7, r8, o, r9, fun z => by rw [ell] at z; omega, by rw [ell]; omega, fun j hj => ?_⟩
        · show _ = sumF (so.lots ++ [((Int32.ofNat (now / 6), 0, 0) : Tri)])
          rw [sumF_app, z2, Int32.add_zero]; exact r5
        · rw [rd, if_neg (by omega), if_neg (by omega), if_neg (by omega), if_pos ⟨rfl, rfl⟩, ell]
        · rw [ell] at hj
          show T.a 24 (840 * s + (o + j)) = ((so.lots ++ [((Int32.ofNat (now / 6), 0, 0) : Tri)])[j]'(by rw [List.length_append]; exact hj)).1 ∧ T.a 25 (840 * s + (o + j)) = ((so.lots ++ [((Int32.ofNat (now / 6), 0, 0) : Tri)])[j]'(by rw [List.length_append]; exact hj)).2.1 ∧ T.a 26 (840 * s + (o + j)) = ((so.lots ++ [((Int32.ofNat (now / 6), 0, 0) : Tri)])[j]'(by rw [List.length_append]; exact hj)).2.2 ∧ ((o + j : Nat) : Int) ≤ (((so.lots ++ [((Int32.ofNat (now / 6), 0, 0) : Tri)])[j]'(by rw [List.length_append]; exact hj)).1).toInt
          rw [rd 24, rd 25, rd 26]
          simp only [Nat.reduceEqDiff, false_and, true_and, if_false]
          by_cases q : j = so.lots.length
          · subst q
            rw [if_pos rfl, if_pos rfl, if_pos rfl, List.getElem_append_right (Nat.le_refl _)]
            simp only [Nat.sub_self, List.getElem_cons_zero]
            exact ⟨trivial, trivial, trivial, by rw [hh]; exact hle⟩
          · rw [if_neg (by omega), if_neg (by omega), if_neg (by omega), List.getElem_append_left (by omega)]
            exact r12 j (by omega)
      refine m_pu2 (l' := so.lots) (e := (Int32.ofNat (now / 6), 0, 0)) (o := o) (S0 := S) hs hRT rfl ?_ ?_ A hF2 (fun S' b1 b2 b3 => hq S' b1 b2 b3)
      · rw [sm 21 s (by omega) (by omega) (by omega) (by omega)]; exact r9
      · show o + (so.lots ++ [((Int32.ofNat (now / 6), 0, 0) : Tri)]).length ≤ 834
        rw [List.length_append, List.length_singleton]
        omega
    rcases nil_app so.lots with hnil | ⟨l', e, hne⟩
    · -- an empty store
      have o0 : o = 0 := r10 (by rw [hnil]; rfl)
      refine m_bnd (m_nt (m_w (a := (840 : Int32) * Int32.ofNat s + (Int32.ofNat (o + so.lots.length) - 1)) (fun M => ?_) ?_))
      · unfold f_X4_place
        exact w_pur ⟨rfl, rfl⟩
      · refine m_bnd (m_getRt rfl (m_bnd (m_ldIt rfl hs (m_jn (m_jn ?_)))))
        rw [r6]
        refine m_t (by rw [hnil]; rfl) (ph1 (by rw [hnil, ensL_n]; rfl) ?_)
        rw [hnil, o0]
        show ((0 + 0 : Nat) : Int) ≤ _
        omega
    · have hlen : so.lots.length = l'.length + 1 := by rw [hne, List.length_append]; rfl
      obtain ⟨t1, t2, t3, t4⟩ := r12 l'.length (by omega)
      have ge : so.lots[l'.length]'(by omega) = e := by simp only [hne]; simp
      have he := hok.1 l'.length (by omega)
      rw [ge] at t1 t2 t3 t4 he
      rw [hlen, show o + (l'.length + 1) = (o + l'.length) + 1 by omega, i_ap1]
      refine m_bnd (m_nt (m_placeAt (m_bnd (m_getRt rfl (m_bnd (m_ldIt rfl hs (m_jn (m_jn ?_))))))))
      rw [r6, hlen]
      refine m_f (fun z => by have := (i_eq (b := 0) (by omega) (by omega)).mp z; omega) (m_bnd (m_getRt rfl (m_bnd (m_ldIt rfl (by omega) ?_))))
      rw [t1]
      refine m_ite (fun z => ?_) (fun z => ?_)
      · refine m_pu2 (l' := l') (e := e) (o := o) (S0 := S) hs hR0 hne r9 r11 Sam.rf SoF.rf (fun S' b1 b2 b3 => hq S' b1 b2 ?_)
        have ee : ensL so.lots (Int32.ofNat (now / 6)) = so.lots := by rw [hne, ensL_c, if_pos z]
        rw [ee]; exact b3
      · refine ph1 (by rw [hne, ensL_c, if_neg z]) ?_
        have lt : e.1.toInt < ((now / 6 : Nat) : Int) := by
          rcases Int.lt_or_eq_of_le he.2.2 with y | y
          · exact y
          · exact absurd (Int32.toInt_inj.mp (y.trans hh.symm)) z
        rw [hlen]
        omega
end
