set_option maxRecDepth 100000
/-- a run on one stack e: it, the water, gas and foul may have changed -/
def WkF (x e : Nat) (M M' : Mem) : Prop := Ag (fun t => t = 20 ∨ t = 35 ∨ t = 36 ∨ (772 ≤ t ∧ t ≤ 775)) (fun t => t = 776) no no M M' ∧ (M'.k = M.k ∧ M'.n = M.n ∧ M'.sl = M.sl ∧ M'.ls = M.ls ∧ M'.cap = M.cap) ∧ (∀ t c, c ≠ e → 772 ≤ t → M'.i t c = M.i t c) ∧ (∀ c, c ≠ e → M'.l 776 c = M.l 776 c)
section
variable {x e : Nat} {M M0 M1 M2 : Mem}
theorem WkF.rf : WkF x e M M := ⟨Ag.rf, ⟨rfl, rfl, rfl, rfl, rfl⟩, fun _ _ _ _ => rfl, fun _ _ => rfl⟩
theorem WkF.tr (h : WkF x e M M1) (h2 : WkF x e M1 M2) : WkF x e M M2 := by
  obtain ⟨a0, ⟨a1, a2, a3, a4, a5⟩, a6, a7⟩ := h
  obtain ⟨b0, ⟨b1, b2, b3, b4, b5⟩, b6, b7⟩ := h2
  exact ⟨a0.tr b0, ⟨b1.trans a1, b2.trans a2, b3.trans a3, b4.trans a4, b5.trans a5⟩, fun t c h1 h2 => (b6 t c h1 h2).trans (a6 t c h1 h2), fun c h => (b7 c h).trans (a7 c h)⟩
theorem WkF.pe {t : Nat} {v : Int32} (h : WkF x e M0 M) (ht : 772 ≤ t ∧ t ≤ 775) : WkF x e M0 (M.seti t e v) := ⟨h.1.i (Or.inl (Or.inr (Or.inr (Or.inr ht)))), h.2.1, fun t' c h1 h2 => (seti_nc _ _ _ _ h1).trans (h.2.2.1 t' c h1 h2), h.2.2.2⟩
theorem WkF.px {t : Nat} {v : Int32} (h : WkF x e M0 M) (ht : t = 20 ∨ t = 35 ∨ t = 36) : WkF x e M0 (M.seti t x v) := ⟨h.1.i (Or.inl (by omega)), h.2.1, fun t' c h1 h2 => (seti_ne _ _ _ _ (by omega)).trans (h.2.2.1 t' c h1 h2), h.2.2.2⟩
theorem WkF.pl {v : Int64} (h : WkF x e M0 M) : WkF x e M0 (M.setl 776 e v) := ⟨h.1.l (Or.inl rfl), h.2.1, h.2.2.1, fun c h1 => by
  rw [setl_at, if_neg (fun z => h1 z.2)]; exact h.2.2.2 c h1⟩
theorem iL {t c t' c' : Nat} {v : Int32} {w : Int64} (h : M.i t' c' = v) : (M.setl t c w).i t' c' = v := h
/-- what is read of the stack and of WindGas's numbers -/
def WkR (x e : Nat) (M : Mem) (s : Sk) (th g f : Int32) : Prop := (M.k e = 7 ∧ M.k x = 1) ∧ rdSk M e = s ∧ M.i 20 x = th ∧ M.i 35 x = g ∧ M.i 36 x = f
theorem WkR.f {s : Sk} {th g f : Int32} (h : WkR x e M s th g f) : M.i 769 e = s.size ∧ M.i 770 e = s.gives ∧ M.i 771 e = s.dirt ∧ M.i 772 e = s.wear ∧ M.i 775 e = s.on ∧ M.i 773 e = s.today ∧ M.i 774 e = s.ever ∧ M.l 776 e = s.made := by
  rw [← h.2.1]
  exact ⟨rfl, rfl, rfl, rfl, rfl, rfl, rfl, rfl⟩
theorem WkR.ne {s : Sk} {th g f : Int32} (h : WkR x e M s th g f) : e ≠ x := fun z => by
  have h1 := h.1.1
  rw [z, h.1.2] at h1
  exact absurd h1 (by decide)
theorem x_wk2 {s : Sk} {th g f left : Int32} {Q : Int32 → Mem → Prop} (hk : skOk s) (l0 : 0 ≤ left.toInt) (h : WkR x e M s th g f)
    (hq : ∀ M', WkF x e M M' → WkR x e M' (wrkS s th left).1 (wrkS s th left).2.1 (g + (wrkS s th left).2.2.1) (f + (wrkS s th left).2.2.2.1) → Q (wrkS s th left).2.2.2.2 M') :
    wp (if ¬ s.on = 0 then bnd (getI 6 1 e) fun v6 => bnd (gd 6 e (nt (f_X6_gas e (mn v6 left)))) fun v7 => bnd (getI 0 20 x) fun v8 => if (((9 * v7) + 999) / 1000) ≤ v8 then bnd (getI 0 20 x) fun v9 => bnd (putI 0 20 x (v9 - (((9 * v7) + 999) / 1000))) fun _ => bnd (getI 0 35 x) fun v10 => bnd (putI 0 35 x (v10 + v7)) fun _ => bnd (getI 0 36 x) fun v11 => bnd (gd 6 e (nt (f_X6_foul e v7))) fun v12 => bnd (putI 0 36 x (v11 + v12)) fun _ => bnd (getL 6 8 e) fun v13 => bnd (putL 6 8 e (v13 + v7.toInt64)) fun _ => bnd (gd 6 e (nt (f_X6_wears e (1 : Int32)))) fun _ => pur (mn v6 left) else bnd (putS .boolean 6 7 e 0) fun _ => pur 0 else pur 0) M Q := by
  obtain ⟨f1, f2, f3, f4, f5, f6, f7, f8⟩ := h.f
  have ne := h.ne
  obtain ⟨⟨k1, k2⟩, hr, h20, h35, h36⟩ := h
  unfold wrkS at hq
  by_cases c : s.on = 0
  · rw [if_pos c] at hq
    rw [Int32.add_zero, Int32.add_zero] at hq
    exact w_f (fun z => z c) (w_pur (hq M WkF.rf ⟨⟨k1, k2⟩, hr, h20, h35, h36⟩))
  · rw [if_neg c] at hq
    obtain ⟨u0, u1, u2⟩ := uni_i hk l0
    obtain ⟨g0, g1⟩ := gas_i hk u0 u1
    refine w_t c (w_bnd (w_getIv k1 f1 (w_bnd (w_gd k1 (w_nt ?_)))))
    unfold f_X6_gas
    refine w_bnd (w_getIv k1 f2 (w_bnd (w_getIv k1 f2 (w_bnd (w_getIv k1 f4 (w_pur ?_))))))
    rw [show (mn s.size left * s.gives) - (((mn s.size left * s.gives) * (mn (90 : Int32) (s.wear / 1000))) / 100) = gasS s (mn s.size left) from rfl]
    refine w_bnd (w_getIv k2 h20 ?_)
    rw [show ((9 * gasS s (mn s.size left)) + 999) / 1000 = watS (gasS s (mn s.size left)) from rfl]
    by_cases c2 : th < watS (gasS s (mn s.size left))
    · rw [if_pos c2, Int32.add_zero, Int32.add_zero] at hq
      refine w_f (fun z => Int32.not_lt.mpr z c2) (w_bnd (w_putZ k1 (Or.inl rfl) (w_pur (hq _ (WkF.rf.pe (by decide)) ⟨⟨k1, k2⟩, ?_, ?_, ?_, ?_⟩))))
      · rw [← hr]
        unfold rdSk
        simp only [seti_at, Nat.reduceMul, Nat.reduceAdd, Nat.reduceEqDiff, false_and, true_and, and_true, if_true, if_false]
        rfl
      · rw [seti_ne _ _ _ _ (by decide)]; exact h20
      · rw [seti_ne _ _ _ _ (by decide)]; exact h35
      · rw [seti_ne _ _ _ _ (by decide)]; exact h36
    · rw [if_neg c2] at hq
      refine w_t (Int32.not_lt.mp c2) (w_bnd (w_getIv k2 h20 (w_bnd (w_putI k2 ?_))))
      refine w_bnd (w_getIv (v := g) (kI k2) ((seti_ne _ _ _ _ (by decide)).trans h35) (w_bnd (w_putI (kI k2) ?_)))
      refine w_bnd (w_getIv (v := f) (kI (kI k2)) ((seti_ne _ _ _ _ (by decide)).trans ((seti_ne _ _ _ _ (by decide)).trans h36)) (w_bnd (w_gd (kI (kI k1)) (w_nt ?_))))
      unfold f_X6_foul
      refine w_bnd (w_getIv (v := s.dirt) (kI (kI k1)) ((seti_ne _ _ _ _ (by decide)).trans ((seti_ne _ _ _ _ (by decide)).trans f3)) (w_bnd (w_getIv (v := s.wear) (kI (kI k1)) ((seti_ne _ _ _ _ (by decide)).trans ((seti_ne _ _ _ _ (by decide)).trans f4)) (w_pur ?_))))
      rw [fou_l hk g0 g1]
      refine w_bnd (w_putI (kI (kI k2)) (w_bnd (w_getLv (v := s.made) (kI (kI (kI k1))) f8 (w_bnd (w_putL (kI (kI (kI k1))) (w_bnd (w_gd (kJ (kI (kI (kI k1)))) (w_nt ?_))))))))
      unfold f_X6_wears
      refine w_bnd (w_getIv (v := s.wear) (kJ (kI (kI (kI k1)))) (iL ((seti_ne _ _ _ _ (by decide)).trans ((seti_ne _ _ _ _ (by decide)).trans ((seti_ne _ _ _ _ (by decide)).trans f4)))) (w_bnd (w_putI (kJ (kI (kI (kI k1)))) (w_pur (w_pur ?_)))))
      refine hq _ ((((((WkF.rf).px (Or.inl rfl)).px (Or.inr (Or.inl rfl))).px (Or.inr (Or.inr rfl))).pl).pe (by decide)) ⟨⟨k1, k2⟩, ?_, ?_, ?_, ?_⟩
      · have sl : ∀ (N : Mem) (t c : Nat) (v : Int64), (N.setl t c v).i = N.i := fun _ _ _ _ => rfl
        have si' : ∀ (N : Mem) (t c : Nat) (v : Int32), (N.seti t c v).l = N.l := fun _ _ _ _ => rfl
        rw [← hr]
        unfold rdSk
        simp only [seti_at, sl, si', setl_at, Nat.reduceMul, Nat.reduceAdd, Nat.reduceEqDiff, false_and, true_and, and_true, if_true, if_false]
        rw [f4, f8]
        rfl
      · exact (seti_ne _ _ _ _ (by decide)).trans (iL ((seti_ne _ _ _ _ (by decide)).trans ((seti_ne _ _ _ _ (by decide)).trans (seti_eq _ _ _ _))))
      · exact (seti_ne _ _ _ _ (by decide)).trans (iL ((seti_ne _ _ _ _ (by decide)).trans (seti_eq _ _ _ _)))
      · exact (seti_ne _ _ _ _ (by decide)).trans (iL (seti_eq _ _ _ _))
theorem x_works {r : Nat} {ru : Ru} {s : Sk} {th g f left : Int32} {Q : Int32 → Mem → Prop} (hk : skOk s) (l0 : 0 ≤ left.toInt) (hr : XR1 x M r ru) (h : WkR x e M s th g f)
    (hq : ∀ M', WkF x e M M' → WkR x e M' (wkS s (tel ru.stm 2 20) (tel ru.stm 3 4) th left).1 (wkS s (tel ru.stm 2 20) (tel ru.stm 3 4) th left).2.1 (g + (wkS s (tel ru.stm 2 20) (tel ru.stm 3 4) th left).2.2.1) (f + (wkS s (tel ru.stm 2 20) (tel ru.stm 3 4) th left).2.2.2.1) → Q (wkS s (tel ru.stm 2 20) (tel ru.stm 3 4) th left).2.2.2.2 M') : wp (f_X0_works x e r left) M Q := by
  obtain ⟨f1, f2, f3, f4, f5, f6, f7, f8⟩ := h.f
  have h01 := hk.2.2.2.2.2.2.2.2
  have ne := h.ne
  unfold f_X0_works
  refine w_bnd (w_gd h.1.1 (w_nt (x_least h.1.1 hr ?_)))
  rw [f1, show mx 1 ((s.size * tel ru.stm 2 20) / 100) = leaS s (tel ru.stm 2 20) from rfl]
  -- behind the start, if any
  have rest : ∀ (N : Mem) (s1 : Sk) (v2 : Int32), WkF x e M N → WkR x e N s1 th g f → skOk s1 → (s1.on &&& v2 = 0 ∨ s1.on &&& v2 = 1) → s1.set_on (s1.on &&& v2) = onS s (tel ru.stm 2 20) (tel ru.stm 3 4) left → wp (bnd (getI 6 7 e) fun v4 => bnd (putS .boolean 6 7 e (v4 &&& v2)) fun _ => bnd (getI 6 7 e) fun v5 => if ¬ v5 = 0 then bnd (getI 6 1 e) fun v6 => bnd (gd 6 e (nt (f_X6_gas e (mn v6 left)))) fun v7 => bnd (getI 0 20 x) fun v8 => if (((9 * v7) + 999) / 1000) ≤ v8 then bnd (getI 0 20 x) fun v9 => bnd (putI 0 20 x (v9 - (((9 * v7) + 999) / 1000))) fun _ => bnd (getI 0 35 x) fun v10 => bnd (putI 0 35 x (v10 + v7)) fun _ => bnd (getI 0 36 x) fun v11 => bnd (gd 6 e (nt (f_X6_foul e v7))) fun v12 => bnd (putI 0 36 x (v11 + v12)) fun _ => bnd (getL 6 8 e) fun v13 => bnd (putL 6 8 e (v13 + v7.toInt64)) fun _ => bnd (gd 6 e (nt (f_X6_wears e (1 : Int32)))) fun _ => pur (mn v6 left) else bnd (putS .boolean 6 7 e 0) fun _ => pur 0 else pur 0) N Q := by
    intro N s1 v2 hF hR hk1 hz he
    obtain ⟨n1, n2, n3, n4, n5, n6, n7, n8⟩ := hR.f
    obtain ⟨⟨k1, k2⟩, hr1, h20, h35, h36⟩ := hR
    refine w_bnd (w_getIv k1 n5 (w_bnd (w_putZ k1 hz (w_bnd (w_getIv (v := s1.on &&& v2) (kI k1) (seti_eq _ _ _ _) ?_)))))
    have R2 : WkR x e (N.seti (128 * 6 + 7) e (s1.on &&& v2)) (onS s (tel ru.stm 2 20) (tel ru.stm 3 4) left) th g f := by
      rw [← he]
      refine ⟨⟨k1, k2⟩, ?_, (seti_ne _ _ _ _ (by decide)).trans h20, (seti_ne _ _ _ _ (by decide)).trans h35, (seti_ne _ _ _ _ (by decide)).trans h36⟩
      generalize s1.on &&& v2 = o
      rw [← hr1]
      unfold rdSk
      simp only [seti_at, Nat.reduceMul, Nat.reduceAdd, Nat.reduceEqDiff, false_and, true_and, and_true, if_true, if_false]
      rfl
    have e5 : s1.on &&& v2 = (onS s (tel ru.stm 2 20) (tel ru.stm 3 4) left).on := by rw [← he]; rfl
    have hF2 : WkF x e M (N.seti (128 * 6 + 7) e (s1.on &&& v2)) := hF.pe (by decide)
    have kN : (N.seti (128 * 6 + 7) e (s1.on &&& v2)).k = N.k := rfl
    revert R2 hF2 kN
    generalize N.seti (128 * 6 + 7) e (s1.on &&& v2) = N2
    intro R2 hF2 kN
    rw [e5]
    exact x_wk2 (onS_ok hk _ _ _) l0 R2 (fun M' h1 h2 => hq M' (hF2.tr h1) h2)
  have hon : s.on = 0 ∨ s.on = 1 := h01
  refine w_jn (w_ite (fun c => ?_) (fun c => ?_))
  · -- too little wind
    have eo : onS s (tel ru.stm 2 20) (tel ru.stm 3 4) left = s.set_on 0 := by unfold onS; rw [if_pos c]
    refine w_bnd (w_getIv h.1.1 f5 (w_jn ?_))
    have e0 : s.on &&& 0 = 0 := by rcases hon with z | z <;> (rw [z]; decide)
    have R := rest M s 0 WkF.rf h hk (Or.inl e0) (by rw [e0, eo])
    exact w_ite (fun _ => R) (fun _ => w_t rfl R)
  · refine w_bnd (w_getIv h.1.1 f5 (w_jn ?_))
    have e1 : s.on &&& 1 = s.on := by rcases hon with z | z <;> (rw [z]; decide)
    have es : s.set_on s.on = s := rfl
    refine w_ite (fun c2 => ?_) (fun c2 => ?_)
    · refine rest M s 1 WkF.rf h hk (by rw [e1]; exact hon) ?_
      rw [e1, es]
      unfold onS
      rw [if_neg c, if_neg c2]
    · rw [Decidable.not_not] at c2
      refine w_f (by decide) (w_bnd (w_getIv h.1.1 f6 (w_bnd (w_getIv hr.1 hr.2.2.2.2.2.1 (w_ite (fun c3 => ?_) (fun c3 => ?_))))))
      · refine rest M s 1 WkF.rf h hk (by rw [e1]; exact hon) ?_
        rw [e1, es]
        unfold onS
        rw [if_neg c, if_pos c2, if_neg (Int32.not_lt.mpr c3)]
      · have k1 := h.1.1
        refine w_bnd (w_putZ k1 (Or.inr rfl) (w_bnd (w_getIv (v := s.today) (kI k1) ((seti_ne _ _ _ _ (by decide)).trans f6) (w_bnd (w_putI (kI k1) (w_bnd (w_getIv (v := s.ever) (kI (kI k1)) ((seti_ne _ _ _ _ (by decide)).trans ((seti_ne _ _ _ _ (by decide)).trans f7)) (w_bnd (w_putI (kI (kI k1)) (w_bnd (w_gd (kI (kI (kI k1))) (w_nt ?_))))))))))))
        unfold f_X6_wears
        refine w_bnd (w_getIv (v := s.wear) (kI (kI (kI k1))) ((seti_ne _ _ _ _ (by decide)).trans ((seti_ne _ _ _ _ (by decide)).trans ((seti_ne _ _ _ _ (by decide)).trans f4))) (w_bnd (w_putI (kI (kI (kI k1))) (w_pur ?_))))
        refine rest _ (begS s) 1 ((((WkF.rf.pe (by decide)).pe (by decide)).pe (by decide)).pe (by decide)) ?_ (begS_ok hk) (Or.inr (show (1 : Int32) &&& 1 = 1 by decide)) ?_
        · obtain ⟨hkk, hr0, h20, h35, h36⟩ := h
          refine ⟨hkk, ?_, ?_, ?_, ?_⟩
          · unfold begS
            rw [← hr0]
            unfold rdSk
            simp only [seti_at, Nat.reduceMul, Nat.reduceAdd, Nat.reduceEqDiff, false_and, true_and, and_true, if_true, if_false]
            rw [f4, f6, f7, ← hr0]
            rfl
          · exact (seti_ne _ _ _ _ (by decide)).trans ((seti_ne _ _ _ _ (by decide)).trans ((seti_ne _ _ _ _ (by decide)).trans ((seti_ne _ _ _ _ (by decide)).trans h20)))
          · exact (seti_ne _ _ _ _ (by decide)).trans ((seti_ne _ _ _ _ (by decide)).trans ((seti_ne _ _ _ _ (by decide)).trans ((seti_ne _ _ _ _ (by decide)).trans h35)))
          · exact (seti_ne _ _ _ _ (by decide)).trans ((seti_ne _ _ _ _ (by decide)).trans ((seti_ne _ _ _ _ (by decide)).trans ((seti_ne _ _ _ _ (by decide)).trans h36)))
        · unfold onS
          rw [if_neg c, if_pos c2, if_pos (Int32.not_le.mp c3)]
          show (begS s).set_on ((1 : Int32) &&& 1) = begS s
          rw [show (1 : Int32) &&& 1 = 1 by decide]
          rfl
end
