set_option maxRecDepth 100000
/-! ===== a stack's ten: the model ===== -/
/-- what the model keeps of the stack j, in a ten of the day D -/
def RSI (S : MS) (D j : Nat) (s : Sk) : Prop := S.a 5 j = s.size ∧ S.a 6 j = s.gives ∧ S.a 7 j = s.dirt ∧ S.a 8 j = s.wear ∧ S.a 12 j = s.on ∧ S.a 11 j = s.ever ∧ S.b 13 j = s.made ∧ (if S.a 9 j = Int32.ofNat D then S.a 10 j else 0) = s.today ∧ (S.a 9 j).toInt ≤ (D : Int)
theorem RSI.of {S : MS} {now j : Nat} {stk : List Sk} (h : RS S (now + 1) stk) (hj : j < stk.length) : RSI S (now / 144) j stk[j] := by
  obtain ⟨h1, h2, h3, h4, h5, h6, h7, h8, h9⟩ := h.2.2.1 j hj
  refine ⟨h1, h2, h3, h4, h5, h6, h7, ?_, by omega⟩
  rw [← h8]
  by_cases c : S.a 9 j = Int32.ofNat (now / 144)
  · rw [if_pos c, if_pos ⟨by omega, c⟩]
  · rw [if_neg c, if_neg (fun z => c z.2)]
theorem RS.upd {S S' : MS} {now j : Nat} {stk : List Sk} {s : Sk} (h : RS S (now + 1) stk) (hj : j < stk.length) (e1 : S'.i 1 = S.i 1) (ea : ∀ o, 5 ≤ o → o ≤ 12 → ∀ i, i ≠ j → S'.a o i = S.a o i) (eb : ∀ i, i ≠ j → S'.b 13 i = S.b 13 i) (hs : RSI S' (now / 144) j s) : RS S' (now + 1) (stk.set j s) := by
  obtain ⟨r1, r2, r3, r4⟩ := h
  refine ⟨by rw [List.length_set, e1]; exact r1, by rw [List.length_set]; exact r2, fun i hi => ?_, fun i hi hi2 => ?_⟩
  · rw [List.length_set] at hi
    by_cases c : j = i
    · subst c
      obtain ⟨h1, h2, h3, h4, h5, h6, h7, h8, h9⟩ := hs
      simp only [List.getElem_set_self]
      refine ⟨h1, h2, h3, h4, h5, h6, h7, ?_, by omega⟩
      rw [← h8]
      by_cases c : S'.a 9 j = Int32.ofNat (now / 144)
      · rw [if_pos ⟨by omega, c⟩, if_pos c]
      · rw [if_neg (fun z => c z.2), if_neg c]
    · rw [List.getElem_set_ne c]
      have ne : i ≠ j := fun z => c z.symm
      rw [ea 5 (by omega) (by omega) i ne, ea 6 (by omega) (by omega) i ne, ea 7 (by omega) (by omega) i ne, ea 8 (by omega) (by omega) i ne, ea 9 (by omega) (by omega) i ne, ea 10 (by omega) (by omega) i ne, ea 11 (by omega) (by omega) i ne, ea 12 (by omega) (by omega) i ne, eb i ne]
      exact r3 i hi
  · rw [List.length_set] at hi
    have ne : i ≠ j := by omega
    rw [ea 8 (by omega) (by omega) i ne, ea 10 (by omega) (by omega) i ne, ea 11 (by omega) (by omega) i ne, ea 12 (by omega) (by omega) i ne, eb i ne]
    exact r4 i hi hi2
def TuF (j : Nat) (S S' : MS) : Prop := Sam (fun i => i = 19 ∨ i = 44 ∨ i = 45) (fun o => 8 ≤ o ∧ o ≤ 12) (fun o => o = 13 ∨ o = 14) S S' ∧ (∀ o i, i ≠ j → S'.a o i = S.a o i) ∧ (∀ i, i ≠ j → S'.b 13 i = S.b 13 i) ∧ (∀ i, i ≠ 4 → S'.b 14 i = S.b 14 i)
section
variable {x j : Nat} {S S0 S1 S2 : MS}
theorem TuF.rf : TuF j S S := ⟨Sam.rf, fun _ _ _ => rfl, fun _ _ => rfl, fun _ _ => rfl⟩
theorem TuF.tr (h : TuF j S S1) (h2 : TuF j S1 S2) : TuF j S S2 := ⟨h.1.tr h2.1, fun o i z => (h2.2.1 o i z).trans (h.2.1 o i z), fun i z => (h2.2.2.1 i z).trans (h.2.2.1 i z), fun i z => (h2.2.2.2 i z).trans (h.2.2.2 i z)⟩
theorem TuF.pa {o : Nat} {v : Int32} (h : TuF j S0 S) (ho : 8 ≤ o ∧ o ≤ 12) : TuF j S0 (S.sa o j v) := ⟨h.1.sa ho, fun o' i z => by rw [sa_at, if_neg (fun q => z q.2)]; exact h.2.1 o' i z, h.2.2⟩
theorem TuF.pi {i : Nat} {v : Int32} (h : TuF j S0 S) (hi : i = 19 ∨ i = 44 ∨ i = 45) : TuF j S0 (S.si i v) := ⟨h.1.si hi, h.2⟩
theorem TuF.pb {v : Int64} (h : TuF j S0 S) : TuF j S0 (S.sb 13 j v) := ⟨h.1.sb (Or.inl rfl), h.2.1, fun i z => by rw [sB_at, if_neg (fun q => z q.2)]; exact h.2.2.1 i z, fun i z => by rw [sB_at, if_neg (by omega)]; exact h.2.2.2 i z⟩
theorem TuF.pm {v : Int64} (h : TuF j S0 S) : TuF j S0 (S.sb 14 4 v) := ⟨h.1.sb (Or.inr rfl), h.2.1, fun i z => by rw [sB_at, if_neg (by omega)]; exact h.2.2.1 i z, fun i z => by rw [sB_at, if_neg (by omega)]; exact h.2.2.2 i z⟩
def TuR (S : MS) (now j : Nat) (s : Sk) (th g f : Int32) (mk : Int64) : Prop := RSI S (now / 144) j s ∧ S.i 0 = Int32.ofNat now ∧ S.i 19 = th ∧ S.i 44 = g ∧ S.i 45 = f ∧ S.b 14 4 = mk
theorem m_gasOf {now : Nat} {s : Sk} {u : Int32} (hj : j < 4) (h : RSI S now j s) {Q : Int32 → MS → Prop} (hq : Q (gasS s u) S) : wm x (f_X4_gasOf (x + 28) (Int32.ofNat j) u) S Q := by
  unfold f_X4_gasOf
  refine m_bnd (m_getRt rfl (m_bnd (m_ldIt rfl hj (m_bnd (m_getRt rfl (m_bnd (m_ldIt rfl hj (m_pur ?_))))))))
  rw [h.2.1, h.2.2.2.1]
  exact hq
theorem m_tu2 {now : Nat} {s : Sk} {th g f left : Int32} {mk : Int64} (hj : j < 4) (hon : s.on ≠ 0) (h : TuR S now j s th g f mk) {Q : Int32 → MS → Prop}
    (hq : ∀ S', TuF j S S' → TuR S' now j (wrkS s th left).1 (wrkS s th left).2.1 (g + (wrkS s th left).2.2.1) (f + (wrkS s th left).2.2.2.1) (mk + (wrkS s th left).2.2.1.toInt64) → Q (wrkS s th left).2.2.2.2 S') :
    wm x (bnd (getR 4 8 (x + 28)) fun v4 => bnd (ldI 0 v4 (Int32.ofNat j)) fun v5 => bnd (gd 4 (x + 28) (nt (f_X4_gasOf (x + 28) (Int32.ofNat j) (mn left v5)))) fun v6 => bnd (getI 4 19 (x + 28)) fun v7 => if (((9 * v6) + 999) / 1000) ≤ v7 then bnd (getI 4 19 (x + 28)) fun v8 => bnd (putI 4 19 (x + 28) (v8 - (((9 * v6) + 999) / 1000))) fun _ => bnd (getI 4 44 (x + 28)) fun v9 => bnd (putI 4 44 (x + 28) (v9 + v6)) fun _ => bnd (getI 4 45 (x + 28)) fun v10 => bnd (getR 4 10 (x + 28)) fun v11 => bnd (ldI 0 v11 (Int32.ofNat j)) fun v12 => bnd (getR 4 11 (x + 28)) fun v13 => bnd (ldI 0 v13 (Int32.ofNat j)) fun v14 => bnd (putI 4 45 (x + 28) (v10 + ((v6 * (mn (10000 : Int32) (v12 + (v14 / 500)))) / 10000))) fun _ => bnd (getR 4 16 (x + 28)) fun v15 => bnd (ldL 1 v15 (Int32.ofNat j)) fun v16 => bnd (stL 1 v15 (Int32.ofNat j) (v16 + v6.toInt64)) fun _ => bnd (getR 4 17 (x + 28)) fun v17 => bnd (ldL 1 v17 4) fun v18 => bnd (stL 1 v17 4 (v18 + v6.toInt64)) fun _ => bnd (getR 4 11 (x + 28)) fun v19 => bnd (getR 4 11 (x + 28)) fun v20 => bnd (ldI 0 v20 (Int32.ofNat j)) fun v21 => bnd (stI 0 v19 (Int32.ofNat j) (mn (50000 : Int32) (v21 + 1))) fun _ => pur (mn left v5) else bnd (getR 4 15 (x + 28)) fun v22 => bnd (stI 3 v22 (Int32.ofNat j) 0) fun _ => pur 0) S Q := by
  obtain ⟨hI, h0, h19, h44, h45, hmk⟩ := h
  have hI' := hI
  obtain ⟨a1, a2, a3, a4, a5, a6, a7, a8, a9⟩ := hI
  unfold wrkS at hq
  rw [if_neg hon] at hq
  refine m_bnd (m_getRt rfl (m_bnd (m_ldIt rfl hj ?_)))
  rw [a1, show mn left s.size = mn s.size left from mn_comm]
  refine m_bnd (m_gd (m_nt (m_gasOf hj hI' (m_bnd (m_getI (by decide) ?_)))))
  rw [h19, show ((9 * gasS s (mn s.size left)) + 999) / 1000 = watS (gasS s (mn s.size left)) from rfl]
  by_cases c2 : th < watS (gasS s (mn s.size left))
  · rw [if_pos c2, Int32.add_zero, Int32.add_zero, show (0 : Int32).toInt64 = 0 from rfl, Int64.add_zero] at hq
    refine m_f (fun z => Int32.not_lt.mpr z c2) (m_bnd (m_getRt rfl (m_bnd (m_stZt rfl hj (Or.inl rfl) (m_pur (hq _ (TuF.rf.pa (by decide)) ⟨⟨a1, a2, a3, a4, ?_, a6, a7, a8, a9⟩, h0, h19, h44, h45, hmk⟩))))))
    rw [sa_eq]; rfl
  · rw [if_neg c2] at hq
    refine m_t (Int32.not_lt.mp c2) (m_bnd (m_getI (by decide) (m_bnd (m_putI (by decide) (m_bnd (m_getI (by decide) (m_bnd (m_putI (by decide) (m_bnd (m_getI (by decide) (m_bnd (m_getRt rfl (m_bnd (m_ldIt rfl hj (m_bnd (m_getRt rfl (m_bnd (m_ldIt rfl hj (m_bnd (m_putI (by decide) ?_))))))))))))))))))))
    refine m_bnd (m_getRt rfl (m_bnd (m_ldLt rfl hj (m_bnd (m_stLt rfl hj (m_bnd (m_getRt rfl (m_bnd (m_ldLt (i := 4) rfl (by decide) (m_bnd (m_stLt (i := 4) rfl (by decide) ?_)))))))))))
    refine m_bnd (m_getRt rfl (m_bnd (m_getRt rfl (m_bnd (m_ldIt rfl hj (m_bnd (m_stIt rfl hj (m_pur ?_))))))))
    simp only [sa_i, sa_b, sb_i, sb_a, si_a, si_b, si_at, sa_at, sB_at, i_add1, and_self, true_and, and_true, false_and, and_false, if_true, if_false, ↓reduceIte, Nat.reduceEqDiff, Nat.add_left_cancel_iff, h19, h44, h45, a3, a4, a7, hmk]
    refine hq _ ((((((TuF.rf.pi (Or.inl rfl)).pi (Or.inr (Or.inl rfl))).pi (Or.inr (Or.inr rfl))).pb).pm).pa (by decide)) ⟨⟨a1, a2, a3, ?_, ?_, a6, ?_, a8, a9⟩, ?_, ?_, ?_, ?_, ?_⟩
    · rw [sa_eq]; rfl
    · simp only [sa_i, sa_b, sb_i, sb_a, si_a, si_b, si_at, sa_at, sB_at, i_add1, and_self, true_and, and_true, false_and, and_false, if_true, if_false, ↓reduceIte, Nat.reduceEqDiff, Nat.add_left_cancel_iff]; exact a5
    · simp only [sa_i, sa_b, sb_i, sb_a, si_a, si_b, si_at, sa_at, sB_at, i_add1, and_self, true_and, and_true, false_and, and_false, if_true, if_false, ↓reduceIte, Nat.reduceEqDiff, Nat.add_left_cancel_iff]; rfl
    · simp only [sa_i, sa_b, sb_i, sb_a, si_a, si_b, si_at, sa_at, sB_at, i_add1, and_self, true_and, and_true, false_and, and_false, if_true, if_false, ↓reduceIte, Nat.reduceEqDiff, Nat.add_left_cancel_iff]; exact h0
    · simp only [sa_i, sa_b, sb_i, sb_a, si_a, si_b, si_at, sa_at, sB_at, i_add1, and_self, true_and, and_true, false_and, and_false, if_true, if_false, ↓reduceIte, Nat.reduceEqDiff, Nat.add_left_cancel_iff]
    · simp only [sa_i, sa_b, sb_i, sb_a, si_a, si_b, si_at, sa_at, sB_at, i_add1, and_self, true_and, and_true, false_and, and_false, if_true, if_false, ↓reduceIte, Nat.reduceEqDiff, Nat.add_left_cancel_iff]
    · simp only [sa_i, sa_b, sb_i, sb_a, si_a, si_b, si_at, sa_at, sB_at, i_add1, and_self, true_and, and_true, false_and, and_false, if_true, if_false, ↓reduceIte, Nat.reduceEqDiff, Nat.add_left_cancel_iff]; rfl
    · simp only [sa_i, sa_b, sb_i, sb_a, si_a, si_b, si_at, sa_at, sB_at, i_add1, and_self, true_and, and_true, false_and, and_false, if_true, if_false, ↓reduceIte, Nat.reduceEqDiff, Nat.add_left_cancel_iff]
theorem m_turns {n now : Nat} {rs : List Ru} {t : Int32} {s : Sk} {th g f left : Int32} {mk : Int64} (hj : j < 4) (hn : 9100 ≤ n) (hk : skOk s) (hR : RU S rs) (h : TuR S now j s th g f mk) (hnow : now ≤ 4999) {Q : Int32 → MS → Prop}
    (hq : ∀ S', TuF j S S' → TuR S' now j (wkS s (lawA rs t 2) (lawA rs t 3) th left).1 (wkS s (lawA rs t 2) (lawA rs t 3) th left).2.1 (g + (wkS s (lawA rs t 2) (lawA rs t 3) th left).2.2.1) (f + (wkS s (lawA rs t 2) (lawA rs t 3) th left).2.2.2.1) (mk + (wkS s (lawA rs t 2) (lawA rs t 3) th left).2.2.1.toInt64) → Q (wkS s (lawA rs t 2) (lawA rs t 3) th left).2.2.2.2 S') : wm x (f_X4_turns n (x + 28) (Int32.ofNat j) left (fcd (frcA rs t))) S Q := by
  have hI := h.1
  obtain ⟨a1, a2, a3, a4, a5, a6, a7, a8, a9⟩ := h.1
  have hru : ∀ {S' : MS}, TuF j S S' → RU S' rs := fun {S'} hF => hR.fr (hF.1.1 _ (by decide)) (hF.1.1 _ (by decide)) (fun o p q => hF.1.2.1 o (by omega))
  unfold wkS onS at hq
  unfold f_X4_turns
  refine m_bnd (m_gd (m_nt (m_leastOf hR (by omega) hj ?_)))
  rw [a1, show mx 1 ((s.size * lawA rs t 2) / 100) = leaS s (lawA rs t 2) from rfl]
  by_cases c : left < leaS s (lawA rs t 2)
  · rw [if_pos c] at hq
    have ew : wrkS (s.set_on 0) th left = (s.set_on 0, th, 0, 0, 0) := by unfold wrkS; exact if_pos (show (s.set_on 0).on = 0 from rfl)
    rw [ew, Int32.add_zero, Int32.add_zero, show (0 : Int32).toInt64 = 0 from rfl, Int64.add_zero] at hq
    refine m_f (fun z => Int32.not_lt.mpr z c) (m_bnd (m_getRt rfl (m_bnd (m_stZt rfl hj (Or.inl rfl) (m_pur (hq _ (TuF.rf.pa (by decide)) ⟨⟨a1, a2, a3, a4, ?_, a6, a7, a8, a9⟩, h.2⟩))))))
    rw [sa_eq]; rfl
  · rw [if_neg c] at hq
    refine m_t (Int32.not_lt.mp c) (m_bnd (m_getRt rfl (m_bnd (m_ldIt rfl hj (m_jn ?_)))))
    rw [a5]
    by_cases c2 : s.on = 0
    · rw [if_pos c2] at hq
      refine m_f (fun z => z c2) (m_bnd (m_getI (by decide) (m_bnd (m_getRt rfl (m_bnd (m_ldIt rfl hj (m_jn ?_)))))))
      rw [h.2.1, i_d144 (by omega)]
      -- behind the day's change
      have rest : ∀ S1, TuF j S S1 → RSI S1 (now / 144) j s → S1.a 9 j = Int32.ofNat (now / 144) → S1.i = S.i → S1.b = S.b →
          wm x (bnd (getR 4 13 (x + 28)) fun v26 => bnd (ldI 0 v26 (Int32.ofNat j)) fun v27 => bnd (gd 4 (x + 28) (nt (f_X4_tells n (x + 28) (fcd (frcA rs t)) (3 : Int32)))) fun v28 => if v27 < v28 then bnd (getR 4 13 (x + 28)) fun v29 => bnd (ldI 0 v29 (Int32.ofNat j)) fun v30 => bnd (stI 0 v29 (Int32.ofNat j) (v30 + 1)) fun _ => bnd (getR 4 14 (x + 28)) fun v31 => bnd (ldI 0 v31 (Int32.ofNat j)) fun v32 => bnd (stI 0 v31 (Int32.ofNat j) (v32 + 1)) fun _ => bnd (getR 4 11 (x + 28)) fun v33 => bnd (getR 4 11 (x + 28)) fun v34 => bnd (ldI 0 v34 (Int32.ofNat j)) fun v35 => bnd (stI 0 v33 (Int32.ofNat j) (mn (50000 : Int32) (v35 + 100))) fun _ => bnd (getR 4 15 (x + 28)) fun v36 => bnd (stI 3 v36 (Int32.ofNat j) 1) fun _ => (bnd (getR 4 8 (x + 28)) fun v4 => bnd (ldI 0 v4 (Int32.ofNat j)) fun v5 => bnd (gd 4 (x + 28) (nt (f_X4_gasOf (x + 28) (Int32.ofNat j) (mn left v5)))) fun v6 => bnd (getI 4 19 (x + 28)) fun v7 => if (((9 * v6) + 999) / 1000) ≤ v7 then bnd (getI 4 19 (x + 28)) fun v8 => bnd (putI 4 19 (x + 28) (v8 - (((9 * v6) + 999) / 1000))) fun _ => bnd (getI 4 44 (x + 28)) fun v9 => bnd (putI 4 44 (x + 28) (v9 + v6)) fun _ => bnd (getI 4 45 (x + 28)) fun v10 => bnd (getR 4 10 (x + 28)) fun v11 => bnd (ldI 0 v11 (Int32.ofNat j)) fun v12 => bnd (getR 4 11 (x + 28)) fun v13 => bnd (ldI 0 v13 (Int32.ofNat j)) fun v14 => bnd (putI 4 45 (x + 28) (v10 + ((v6 * (mn (10000 : Int32) (v12 + (v14 / 500)))) / 10000))) fun _ => bnd (getR 4 16 (x + 28)) fun v15 => bnd (ldL 1 v15 (Int32.ofNat j)) fun v16 => bnd (stL 1 v15 (Int32.ofNat j) (v16 + v6.toInt64)) fun _ => bnd (getR 4 17 (x + 28)) fun v17 => bnd (ldL 1 v17 4) fun v18 => bnd (stL 1 v17 4 (v18 + v6.toInt64)) fun _ => bnd (getR 4 11 (x + 28)) fun v19 => bnd (getR 4 11 (x + 28)) fun v20 => bnd (ldI 0 v20 (Int32.ofNat j)) fun v21 => bnd (stI 0 v19 (Int32.ofNat j) (mn (50000 : Int32) (v21 + 1))) fun _ => pur (mn left v5) else bnd (getR 4 15 (x + 28)) fun v22 => bnd (stI 3 v22 (Int32.ofNat j) 0) fun _ => pur 0) else pur 0) S1 Q := by
        intro S1 hF hR1 h9 ei eb
        obtain ⟨b1, b2, b3, b4, b5, b6, b7, b8, b9⟩ := hR1
        rw [if_pos h9] at b8
        refine m_bnd (m_getRt rfl (m_bnd (m_ldIt rfl hj (m_bnd (m_gd (m_nt (m_tells (w := 3) (hru hF) (by omega) (by decide) ?_)))))))
        rw [b8]
        by_cases c3 : s.today < lawA rs t 3
        · rw [if_pos c3] at hq
          refine m_t c3 (m_bnd (m_getRt rfl (m_bnd (m_ldIt rfl hj (m_bnd (m_stIt rfl hj (m_bnd (m_getRt rfl (m_bnd (m_ldIt rfl hj (m_bnd (m_stIt rfl hj (m_bnd (m_getRt rfl (m_bnd (m_getRt rfl (m_bnd (m_ldIt rfl hj (m_bnd (m_stIt rfl hj (m_bnd (m_getRt rfl (m_bnd (m_stZt rfl hj (Or.inr rfl) ?_))))))))))))))))))))))))
          simp only [sa_i, sa_b, sb_i, sb_a, si_a, si_b, si_at, sa_at, sB_at, i_add1, and_self, true_and, and_true, false_and, and_false, if_true, if_false, ↓reduceIte, Nat.reduceEqDiff, Nat.add_left_cancel_iff, b4, b6, b8]
          refine m_tu2 (s := begS s) (th := th) (g := g) (f := f) (mk := mk) hj (by show (1 : Int32) ≠ 0; decide) ⟨⟨?_, ?_, ?_, ?_, ?_, ?_, ?_, ?_, ?_⟩, ?_, ?_, ?_, ?_, ?_⟩ (fun S' hF' hR' => hq S' (((((hF.pa (by decide)).pa (by decide)).pa (by decide)).pa (by decide)).tr hF') hR')
          · simp only [sa_i, sa_b, sb_i, sb_a, si_a, si_b, si_at, sa_at, sB_at, i_add1, and_self, true_and, and_true, false_and, and_false, if_true, if_false, ↓reduceIte, Nat.reduceEqDiff, Nat.add_left_cancel_iff]; exact b1
          · simp only [sa_i, sa_b, sb_i, sb_a, si_a, si_b, si_at, sa_at, sB_at, i_add1, and_self, true_and, and_true, false_and, and_false, if_true, if_false, ↓reduceIte, Nat.reduceEqDiff, Nat.add_left_cancel_iff]; exact b2
          · simp only [sa_i, sa_b, sb_i, sb_a, si_a, si_b, si_at, sa_at, sB_at, i_add1, and_self, true_and, and_true, false_and, and_false, if_true, if_false, ↓reduceIte, Nat.reduceEqDiff, Nat.add_left_cancel_iff]; exact b3
          · simp only [sa_i, sa_b, sb_i, sb_a, si_a, si_b, si_at, sa_at, sB_at, i_add1, and_self, true_and, and_true, false_and, and_false, if_true, if_false, ↓reduceIte, Nat.reduceEqDiff, Nat.add_left_cancel_iff]; rfl
          · simp only [sa_i, sa_b, sb_i, sb_a, si_a, si_b, si_at, sa_at, sB_at, i_add1, and_self, true_and, and_true, false_and, and_false, if_true, if_false, ↓reduceIte, Nat.reduceEqDiff, Nat.add_left_cancel_iff]; rfl
          · simp only [sa_i, sa_b, sb_i, sb_a, si_a, si_b, si_at, sa_at, sB_at, i_add1, and_self, true_and, and_true, false_and, and_false, if_true, if_false, ↓reduceIte, Nat.reduceEqDiff, Nat.add_left_cancel_iff]; rfl
          · simp only [sa_i, sa_b, sb_i, sb_a, si_a, si_b, si_at, sa_at, sB_at, i_add1, and_self, true_and, and_true, false_and, and_false, if_true, if_false, ↓reduceIte, Nat.reduceEqDiff, Nat.add_left_cancel_iff]; exact b7
          · simp only [sa_i, sa_b, sb_i, sb_a, si_a, si_b, si_at, sa_at, sB_at, i_add1, and_self, true_and, and_true, false_and, and_false, if_true, if_false, ↓reduceIte, Nat.reduceEqDiff, Nat.add_left_cancel_iff]
            rw [if_pos h9]; rfl
          · simp only [sa_i, sa_b, sb_i, sb_a, si_a, si_b, si_at, sa_at, sB_at, i_add1, and_self, true_and, and_true, false_and, and_false, if_true, if_false, ↓reduceIte, Nat.reduceEqDiff, Nat.add_left_cancel_iff]; exact b9
          · simp only [sa_i, sa_b, sb_i, sb_a, si_a, si_b, si_at, sa_at, sB_at, i_add1, and_self, true_and, and_true, false_and, and_false, if_true, if_false, ↓reduceIte, Nat.reduceEqDiff, Nat.add_left_cancel_iff, ei]; exact h.2.1
          · simp only [sa_i, sa_b, sb_i, sb_a, si_a, si_b, si_at, sa_at, sB_at, i_add1, and_self, true_and, and_true, false_and, and_false, if_true, if_false, ↓reduceIte, Nat.reduceEqDiff, Nat.add_left_cancel_iff, ei]; exact h.2.2.1
          · simp only [sa_i, sa_b, sb_i, sb_a, si_a, si_b, si_at, sa_at, sB_at, i_add1, and_self, true_and, and_true, false_and, and_false, if_true, if_false, ↓reduceIte, Nat.reduceEqDiff, Nat.add_left_cancel_iff, ei]; exact h.2.2.2.1
          · simp only [sa_i, sa_b, sb_i, sb_a, si_a, si_b, si_at, sa_at, sB_at, i_add1, and_self, true_and, and_true, false_and, and_false, if_true, if_false, ↓reduceIte, Nat.reduceEqDiff, Nat.add_left_cancel_iff, ei]; exact h.2.2.2.2.1
          · simp only [sa_i, sa_b, sb_i, sb_a, si_a, si_b, si_at, sa_at, sB_at, i_add1, and_self, true_and, and_true, false_and, and_false, if_true, if_false, ↓reduceIte, Nat.reduceEqDiff, Nat.add_left_cancel_iff, eb]; exact h.2.2.2.2.2
        · rw [if_neg c3] at hq
          have ew : wrkS s th left = (s, th, 0, 0, 0) := by unfold wrkS; rw [if_pos c2]
          rw [ew, Int32.add_zero, Int32.add_zero, show (0 : Int32).toInt64 = 0 from rfl, Int64.add_zero] at hq
          refine m_f c3 (m_pur (hq S1 hF ⟨⟨b1, b2, b3, b4, b5, b6, b7, ?_, b9⟩, ?_⟩))
          · rw [if_pos h9]; exact b8
          · rw [ei, eb]; exact h.2
      refine m_ite (fun c3 => rest S TuF.rf hI c3 rfl rfl) (fun c3 => ?_)
      refine m_bnd (m_getRt rfl (m_bnd (m_stIt rfl hj (m_bnd (m_getRt rfl (m_bnd (m_stIt rfl hj ?_)))))))
      refine rest _ ((TuF.rf.pa (by decide)).pa (by decide)) ⟨?_, ?_, ?_, ?_, ?_, ?_, ?_, ?_, ?_⟩ ?_ rfl rfl
      · simp only [sa_i, sa_b, sb_i, sb_a, si_a, si_b, si_at, sa_at, sB_at, i_add1, and_self, true_and, and_true, false_and, and_false, if_true, if_false, ↓reduceIte, Nat.reduceEqDiff, Nat.add_left_cancel_iff]; exact a1
      · simp only [sa_i, sa_b, sb_i, sb_a, si_a, si_b, si_at, sa_at, sB_at, i_add1, and_self, true_and, and_true, false_and, and_false, if_true, if_false, ↓reduceIte, Nat.reduceEqDiff, Nat.add_left_cancel_iff]; exact a2
      · simp only [sa_i, sa_b, sb_i, sb_a, si_a, si_b, si_at, sa_at, sB_at, i_add1, and_self, true_and, and_true, false_and, and_false, if_true, if_false, ↓reduceIte, Nat.reduceEqDiff, Nat.add_left_cancel_iff]; exact a3
      · simp only [sa_i, sa_b, sb_i, sb_a, si_a, si_b, si_at, sa_at, sB_at, i_add1, and_self, true_and, and_true, false_and, and_false, if_true, if_false, ↓reduceIte, Nat.reduceEqDiff, Nat.add_left_cancel_iff]; exact a4
      · simp only [sa_i, sa_b, sb_i, sb_a, si_a, si_b, si_at, sa_at, sB_at, i_add1, and_self, true_and, and_true, false_and, and_false, if_true, if_false, ↓reduceIte, Nat.reduceEqDiff, Nat.add_left_cancel_iff]; exact a5
      · simp only [sa_i, sa_b, sb_i, sb_a, si_a, si_b, si_at, sa_at, sB_at, i_add1, and_self, true_and, and_true, false_and, and_false, if_true, if_false, ↓reduceIte, Nat.reduceEqDiff, Nat.add_left_cancel_iff]; exact a6
      · simp only [sa_i, sa_b, sb_i, sb_a, si_a, si_b, si_at, sa_at, sB_at, i_add1, and_self, true_and, and_true, false_and, and_false, if_true, if_false, ↓reduceIte, Nat.reduceEqDiff, Nat.add_left_cancel_iff]; exact a7
      · simp only [sa_i, sa_b, sb_i, sb_a, si_a, si_b, si_at, sa_at, sB_at, i_add1, and_self, true_and, and_true, false_and, and_false, if_true, if_false, ↓reduceIte, Nat.reduceEqDiff, Nat.add_left_cancel_iff]
        rw [if_neg c3] at a8
        exact a8
      · simp only [sa_i, sa_b, sb_i, sb_a, si_a, si_b, si_at, sa_at, sB_at, i_add1, and_self, true_and, and_true, false_and, and_false, if_true, if_false, ↓reduceIte, Nat.reduceEqDiff, Nat.add_left_cancel_iff]
        rw [i_toInt (by omega)]
        omega
      · simp only [sa_i, sa_b, sb_i, sb_a, si_a, si_b, si_at, sa_at, sB_at, i_add1, and_self, true_and, and_true, false_and, and_false, if_true, if_false, ↓reduceIte, Nat.reduceEqDiff, Nat.add_left_cancel_iff]
    · rw [if_neg c2] at hq
      exact m_t c2 (m_tu2 hj c2 h hq)
end
