set_option maxRecDepth 100000
/-! ===== a ten of the model's ===== -/
section
variable {x : Nat} {S : MS} {d e : Dt}
/-- a new day: the starts of the day before don't count -/
theorem RS.day {now : Nat} {stk : List Sk} (h : RS S now stk) (hn : now ≤ 4999) : RS S (now + 1) (if now % 144 = 0 then stk.map (fun s => s.set_today 0) else stk) := by
  obtain ⟨r1, r2, r3, r4⟩ := h
  by_cases c : now % 144 = 0
  · rw [if_pos c]
    refine ⟨by rw [List.length_map]; exact r1, by rw [List.length_map]; exact r2, fun j hj => ?_, by rw [List.length_map]; exact r4⟩
    rw [List.length_map] at hj
    obtain ⟨h1, h2, h3, h4, h5, h6, h7, h8, h9⟩ := r3 j hj
    rw [List.getElem_map]
    refine ⟨h1, h2, h3, h4, h5, h6, h7, ?_, by omega⟩
    refine if_neg (fun z => ?_)
    have e1 := congrArg Int32.toInt z.2
    rw [i_toInt (by omega)] at e1
    omega
  · rw [if_neg c]
    refine ⟨r1, r2, fun j hj => ?_, r4⟩
    obtain ⟨h1, h2, h3, h4, h5, h6, h7, h8, h9⟩ := r3 j hj
    refine ⟨h1, h2, h3, h4, h5, h6, h7, ?_, by omega⟩
    rw [← h8]
    have e1 : (now + 1 - 1) / 144 = (now - 1) / 144 := by omega
    rw [e1]
    by_cases q : S.a 9 j = Int32.ofNat ((now - 1) / 144)
    · rw [if_pos ⟨by omega, q⟩, if_pos ⟨by omega, q⟩]
    · rw [if_neg (fun z => q z.2), if_neg (fun z => q z.2)]
/-- behind what is asked: the hour's end -/
theorem m_tnA {n : Nat} {F : Act Unit} {Q : Unit → MS → Prop} (hS : IM S d) (hnow : d.now ≤ 4999) (hn : 9100 ≤ n) (hq : ∀ S', IMk 1 S' (tB (tA d)) → wm x F S' Q) :
    wm x (if ¬ (Int32.ofNat d.now - Int32.ofNat d.now / 6 * 6) = 5 then F else bnd (getR 4 41 (x + 28)) fun v61 => bnd (getR 4 23 (x + 28)) fun v62 => bnd (ldI 0 v62 0) fun v63 => bnd (getR 4 23 (x + 28)) fun v64 => bnd (ldI 0 v64 1) fun v65 => bnd (stI 0 v61 (Int32.ofNat d.now / 6) (v63 + v65)) fun _ => bnd (getR 4 42 (x + 28)) fun v66 => bnd (getI 4 19 (x + 28)) fun v67 => bnd (stI 0 v66 (Int32.ofNat d.now / 6) v67) fun _ => bnd (getR 4 43 (x + 28)) fun v68 => bnd (gd 4 (x + 28) (nt (f_X4_runningNow n (x + 28)))) fun v69 => bnd (stI 0 v68 (Int32.ofNat d.now / 6) v69) fun _ => F) S Q := by
  have g0 := (hS.2.2.1.at (k := 0) (by decide)).2.2.2.1
  have g1 := (hS.2.2.1.at (k := 1) (by decide)).2.2.2.1
  have n19 := hS.2.2.2.2.2.2.1.2.2.1
  have hB : ∀ (S' : MS) (f : Dt), IM S' f → f.now = d.now → IMk 1 S' (tB f) := fun S' f h en => by
    obtain ⟨h1, h2, h3, h4, h5, h6, h7, h8⟩ := h
    exact ⟨h1, h2.day (by rw [en]; exact hnow), h3, h4, h5, h6, h7, h8⟩
  rw [i_r6 (by omega), i_d6 (by omega)]
  have ef : (tA d).now = d.now := (tA_f d).1.1.1
  by_cases c : d.now % 6 = 5
  · refine m_f (fun z => z (by rw [c]; rfl)) ?_
    refine m_bnd (m_getRt rfl (m_bnd (m_getRt rfl (m_bnd (m_ldIt (i := 0) rfl (by decide) (m_bnd (m_getRt rfl (m_bnd (m_ldIt (i := 1) rfl (by decide) (m_bnd (m_stIt rfl (by omega) (m_bnd (m_getRt rfl (m_bnd (m_getI (by decide) (m_bnd (m_stIt rfl (by omega) ?_)))))))))))))))))
    rw [g0, g1]
    simp only [sa_i]
    rw [n19]
    have hRS : RS ((S.sa 35 (d.now / 6) ((d.so 0).grams + (d.so 1).grams)).sa 36 (d.now / 6) d.thas) d.now d.stk := hS.2.1.fr rfl (fun o a b => by rw [sa_no _ _ _ _ (by omega), sa_no _ _ _ _ (by omega)]) rfl
    refine m_bnd (m_getRt rfl (m_bnd (m_gd (m_nt (m_runs hRS (by omega) (m_bnd (m_stIt rfl (by omega) ?_)))))))
    refine hq _ (hB _ _ ?_ ef)
    unfold tA
    rw [if_pos c]
    refine hS.cmb (I := no) (A := fun o => 35 ≤ o ∧ o ≤ 37) (B := no) (((Sam.rf.sa (by decide)).sa (by decide)).sa (by decide)) (Or.inl ⟨(by simp only [Dt.st_now, Dt.st_told, Dt.st_stk, Dt.st_troom, Dt.st_thas, Dt.st_so, Dt.st_trips, Dt.st_papers, Dt.st_places, Dt.st_rules, Dt.st_tape, Dt.st_fault, Dt.st_blew, Dt.st_taken, Dt.st_sold, Dt.st_unsold, Dt.st_made, Dt.st_vented, Dt.st_drunk, Dt.st_noRoom, Dt.st_coins, Dt.st_stored, Dt.st_water, Dt.st_running]), fun t z => (by first | exact trivial | exact z.elim | omega | (unfold tkTi at z; omega) | (unfold goA at z; omega)), fun t z => (by first | exact trivial | exact z.elim | omega | (unfold tkTi at z; omega) | (unfold goA at z; omega)), fun c z => (by first | exact trivial | exact z.elim | omega | (unfold tkTi at z; omega) | (unfold goA at z; omega))⟩) (Or.inl ⟨⟨(by simp only [Dt.st_now, Dt.st_told, Dt.st_stk, Dt.st_troom, Dt.st_thas, Dt.st_so, Dt.st_trips, Dt.st_papers, Dt.st_places, Dt.st_rules, Dt.st_tape, Dt.st_fault, Dt.st_blew, Dt.st_taken, Dt.st_sold, Dt.st_unsold, Dt.st_made, Dt.st_vented, Dt.st_drunk, Dt.st_noRoom, Dt.st_coins, Dt.st_stored, Dt.st_water, Dt.st_running]), (by simp only [Dt.st_now, Dt.st_told, Dt.st_stk, Dt.st_troom, Dt.st_thas, Dt.st_so, Dt.st_trips, Dt.st_papers, Dt.st_places, Dt.st_rules, Dt.st_tape, Dt.st_fault, Dt.st_blew, Dt.st_taken, Dt.st_sold, Dt.st_unsold, Dt.st_made, Dt.st_vented, Dt.st_drunk, Dt.st_noRoom, Dt.st_coins, Dt.st_stored, Dt.st_water, Dt.st_running])⟩, fun t z => (by first | exact trivial | exact z.elim | omega | (unfold tkTi at z; omega) | (unfold goA at z; omega)), fun t z => (by first | exact trivial | exact z.elim | omega | (unfold tkTi at z; omega) | (unfold goA at z; omega)), fun c z => (by first | exact trivial | exact z.elim | omega | (unfold tkTi at z; omega) | (unfold goA at z; omega))⟩) (Or.inl ⟨(by simp only [Dt.st_now, Dt.st_told, Dt.st_stk, Dt.st_troom, Dt.st_thas, Dt.st_so, Dt.st_trips, Dt.st_papers, Dt.st_places, Dt.st_rules, Dt.st_tape, Dt.st_fault, Dt.st_blew, Dt.st_taken, Dt.st_sold, Dt.st_unsold, Dt.st_made, Dt.st_vented, Dt.st_drunk, Dt.st_noRoom, Dt.st_coins, Dt.st_stored, Dt.st_water, Dt.st_running]), fun t z => (by first | exact trivial | exact z.elim | omega | (unfold tkTi at z; omega) | (unfold goA at z; omega)), fun t z => (by first | exact trivial | exact z.elim | omega | (unfold tkTi at z; omega) | (unfold goA at z; omega)), fun c z => (by first | exact trivial | exact z.elim | omega | (unfold tkTi at z; omega) | (unfold goA at z; omega))⟩) (Or.inl ⟨(by simp only [Dt.st_now, Dt.st_told, Dt.st_stk, Dt.st_troom, Dt.st_thas, Dt.st_so, Dt.st_trips, Dt.st_papers, Dt.st_places, Dt.st_rules, Dt.st_tape, Dt.st_fault, Dt.st_blew, Dt.st_taken, Dt.st_sold, Dt.st_unsold, Dt.st_made, Dt.st_vented, Dt.st_drunk, Dt.st_noRoom, Dt.st_coins, Dt.st_stored, Dt.st_water, Dt.st_running]), fun t z => (by first | exact trivial | exact z.elim | omega | (unfold tkTi at z; omega) | (unfold goA at z; omega)), fun t z => (by first | exact trivial | exact z.elim | omega | (unfold tkTi at z; omega) | (unfold goA at z; omega)), fun c z => (by first | exact trivial | exact z.elim | omega | (unfold tkTi at z; omega) | (unfold goA at z; omega))⟩) (Or.inl ⟨(by simp only [Dt.st_now, Dt.st_told, Dt.st_stk, Dt.st_troom, Dt.st_thas, Dt.st_so, Dt.st_trips, Dt.st_papers, Dt.st_places, Dt.st_rules, Dt.st_tape, Dt.st_fault, Dt.st_blew, Dt.st_taken, Dt.st_sold, Dt.st_unsold, Dt.st_made, Dt.st_vented, Dt.st_drunk, Dt.st_noRoom, Dt.st_coins, Dt.st_stored, Dt.st_water, Dt.st_running]), fun t z => (by first | exact trivial | exact z.elim | omega | (unfold tkTi at z; omega) | (unfold goA at z; omega)), fun t z => (by first | exact trivial | exact z.elim | omega | (unfold tkTi at z; omega) | (unfold goA at z; omega)), fun c z => (by first | exact trivial | exact z.elim | omega | (unfold tkTi at z; omega) | (unfold goA at z; omega))⟩) (Or.inl ⟨(by simp only [Dt.st_now, Dt.st_told, Dt.st_stk, Dt.st_troom, Dt.st_thas, Dt.st_so, Dt.st_trips, Dt.st_papers, Dt.st_places, Dt.st_rules, Dt.st_tape, Dt.st_fault, Dt.st_blew, Dt.st_taken, Dt.st_sold, Dt.st_unsold, Dt.st_made, Dt.st_vented, Dt.st_drunk, Dt.st_noRoom, Dt.st_coins, Dt.st_stored, Dt.st_water, Dt.st_running]), fun t z => (by first | exact trivial | exact z.elim | omega | (unfold tkTi at z; omega) | (unfold goA at z; omega)), fun t z => (by first | exact trivial | exact z.elim | omega | (unfold tkTi at z; omega) | (unfold goA at z; omega)), fun c z => (by first | exact trivial | exact z.elim | omega | (unfold tkTi at z; omega) | (unfold goA at z; omega))⟩) (Or.inr ?_) (Or.inl ⟨(by simp only [Dt.st_now, Dt.st_told, Dt.st_stk, Dt.st_troom, Dt.st_thas, Dt.st_so, Dt.st_trips, Dt.st_papers, Dt.st_places, Dt.st_rules, Dt.st_tape, Dt.st_fault, Dt.st_blew, Dt.st_taken, Dt.st_sold, Dt.st_unsold, Dt.st_made, Dt.st_vented, Dt.st_drunk, Dt.st_noRoom, Dt.st_coins, Dt.st_stored, Dt.st_water, Dt.st_running]), fun t z => (by first | exact trivial | exact z.elim | omega | (unfold tkTi at z; omega) | (unfold goA at z; omega)), fun t z => (by first | exact trivial | exact z.elim | omega | (unfold tkTi at z; omega) | (unfold goA at z; omega)), fun c z => (by first | exact trivial | exact z.elim | omega | (unfold tkTi at z; omega) | (unfold goA at z; omega))⟩)
    obtain ⟨b1, b2, b3, b4, b5, b6, b7, b8⟩ := hS.2.2.2.2.2.2.1
    unfold RN
    simp only [Dt.st_stored, Dt.st_water, Dt.st_running, sa_i, sa_b]
    refine ⟨b1, b2, b3, b4, fun h hh => ?_, b6, b7, b8⟩
    obtain ⟨q1, q2, q3⟩ := b5 h hh
    simp only [sa_at, Nat.reduceEqDiff, false_and, true_and, if_false, q1, q2, q3]
    exact ⟨rfl, rfl, rfl⟩
  · refine m_t (fun z => c ((i_eq (b := 5) (by omega) (by omega)).mp z)) (hq S (hB S _ ?_ ef))
    unfold tA
    rw [if_neg c]
    exact hS
/-- rain -/
theorem m_tnC {n : Nat} {F : Act Unit} {Q : Unit → MS → Prop} (hS : IMk 1 S e) (hn : 9100 ≤ n) (hq : ∀ S', IMk 1 S' (tC e) → wm x F S' Q) :
    wm x (bnd (getI 4 0 (x + 28)) fun v13 => bnd (gd 4 (x + 28) (nt (f_X4_saidOf n (x + 28) (2 : Int32) v13))) fun v14 => bnd (getI 4 18 (x + 28)) fun v15 => bnd (getI 4 19 (x + 28)) fun v16 => bnd (getI 4 19 (x + 28)) fun v17 => bnd (putI 4 19 (x + 28) (v17 + (mn v14 (v15 - v16)))) fun _ => bnd (getR 4 17 (x + 28)) fun v18 => bnd (ldL 1 v18 11) fun v19 => bnd (stL 1 v18 11 (v19 + ((v14 - (mn v14 (v15 - v16))).toInt64))) fun _ => F) S Q := by
  have hN := hS.2.2.2.2.2.2.1
  have n0 := hN.1
  have n18 := hN.2.1
  have n19 := hN.2.2.1
  have n11 := hN.2.2.2.1.2.2.2.2.2.2.2.1
  refine m_bnd (m_getI (by decide) ?_)
  rw [n0]
  refine m_bnd (m_gd (m_nt (m_saidOf (w := 2) hS.1 (by decide) (by omega) ?_)))
  refine m_bnd (m_getI (by decide) (m_bnd (m_getI (by decide) (m_bnd (m_getI (by decide) (m_bnd (m_putI (by decide) (m_bnd (m_getRt rfl (m_bnd (m_ldLt (i := 11) rfl (by decide) (m_bnd (m_stLt (i := 11) rfl (by decide) ?_)))))))))))))
  rw [n18, n19, si_b, n11]
  have h1 := (hN.i19 (v := e.thas + tWet e)).l11 (v := e.noRoom + (say (e.told 2) (Int32.ofNat e.now) - tWet e).toInt64)
  exact hq _ (hS.num (((Sam.rf).si (by decide)).sb (by decide)) (by unfold tC; exact ⟨(by simp only [Dt.st_now, Dt.st_told, Dt.st_stk, Dt.st_troom, Dt.st_thas, Dt.st_so, Dt.st_trips, Dt.st_papers, Dt.st_places, Dt.st_rules, Dt.st_tape, Dt.st_fault, Dt.st_blew, Dt.st_taken, Dt.st_sold, Dt.st_unsold, Dt.st_made, Dt.st_vented, Dt.st_drunk, Dt.st_noRoom, Dt.st_coins, Dt.st_stored, Dt.st_water, Dt.st_running]), (by simp only [Dt.st_now, Dt.st_told, Dt.st_stk, Dt.st_troom, Dt.st_thas, Dt.st_so, Dt.st_trips, Dt.st_papers, Dt.st_places, Dt.st_rules, Dt.st_tape, Dt.st_fault, Dt.st_blew, Dt.st_taken, Dt.st_sold, Dt.st_unsold, Dt.st_made, Dt.st_vented, Dt.st_drunk, Dt.st_noRoom, Dt.st_coins, Dt.st_stored, Dt.st_water, Dt.st_running]), (by simp only [Dt.st_now, Dt.st_told, Dt.st_stk, Dt.st_troom, Dt.st_thas, Dt.st_so, Dt.st_trips, Dt.st_papers, Dt.st_places, Dt.st_rules, Dt.st_tape, Dt.st_fault, Dt.st_blew, Dt.st_taken, Dt.st_sold, Dt.st_unsold, Dt.st_made, Dt.st_vented, Dt.st_drunk, Dt.st_noRoom, Dt.st_coins, Dt.st_stored, Dt.st_water, Dt.st_running]), (by simp only [Dt.st_now, Dt.st_told, Dt.st_stk, Dt.st_troom, Dt.st_thas, Dt.st_so, Dt.st_trips, Dt.st_papers, Dt.st_places, Dt.st_rules, Dt.st_tape, Dt.st_fault, Dt.st_blew, Dt.st_taken, Dt.st_sold, Dt.st_unsold, Dt.st_made, Dt.st_vented, Dt.st_drunk, Dt.st_noRoom, Dt.st_coins, Dt.st_stored, Dt.st_water, Dt.st_running]), (by simp only [Dt.st_now, Dt.st_told, Dt.st_stk, Dt.st_troom, Dt.st_thas, Dt.st_so, Dt.st_trips, Dt.st_papers, Dt.st_places, Dt.st_rules, Dt.st_tape, Dt.st_fault, Dt.st_blew, Dt.st_taken, Dt.st_sold, Dt.st_unsold, Dt.st_made, Dt.st_vented, Dt.st_drunk, Dt.st_noRoom, Dt.st_coins, Dt.st_stored, Dt.st_water, Dt.st_running]), (by simp only [Dt.st_now, Dt.st_told, Dt.st_stk, Dt.st_troom, Dt.st_thas, Dt.st_so, Dt.st_trips, Dt.st_papers, Dt.st_places, Dt.st_rules, Dt.st_tape, Dt.st_fault, Dt.st_blew, Dt.st_taken, Dt.st_sold, Dt.st_unsold, Dt.st_made, Dt.st_vented, Dt.st_drunk, Dt.st_noRoom, Dt.st_coins, Dt.st_stored, Dt.st_water, Dt.st_running]), (by simp only [Dt.st_now, Dt.st_told, Dt.st_stk, Dt.st_troom, Dt.st_thas, Dt.st_so, Dt.st_trips, Dt.st_papers, Dt.st_places, Dt.st_rules, Dt.st_tape, Dt.st_fault, Dt.st_blew, Dt.st_taken, Dt.st_sold, Dt.st_unsold, Dt.st_made, Dt.st_vented, Dt.st_drunk, Dt.st_noRoom, Dt.st_coins, Dt.st_stored, Dt.st_water, Dt.st_running])⟩) rfl h1)
/-- wind -/
theorem m_tnW {n : Nat} {F : Int32 → Act Unit} {Q : Unit → MS → Prop} (hS : IMk 1 S e) (hn : 9100 ≤ n) (hq : ∀ S', IMk 1 S' (e.set_blew (e.blew + (tW e).toInt64)) → S'.i 44 = 0 → S'.i 45 = 0 → wm x (F (tW e)) S' Q) :
    wm x (bnd (getI 4 0 (x + 28)) fun v20 => bnd (gd 4 (x + 28) (nt (f_X4_saidOf n (x + 28) (0 : Int32) v20))) fun v21 => bnd (getR 4 17 (x + 28)) fun v22 => bnd (ldL 1 v22 0) fun v23 => bnd (stL 1 v22 0 (v23 + v21.toInt64)) fun _ => bnd (putI 4 44 (x + 28) 0) fun _ => bnd (putI 4 45 (x + 28) 0) fun _ => F v21) S Q := by
  have hN := hS.2.2.2.2.2.2.1
  have n0 := hN.1
  have b0 := hN.2.2.2.1.1
  refine m_bnd (m_getI (by decide) ?_)
  rw [n0]
  refine m_bnd (m_gd (m_nt (m_saidOf (w := 0) hS.1 (by decide) (by omega) ?_)))
  refine m_bnd (m_getRt rfl (m_bnd (m_ldLt (i := 0) rfl (by decide) (m_bnd (m_stLt (i := 0) rfl (by decide) (m_bnd (m_putI (by decide) (m_bnd (m_putI (by decide) ?_)))))))))
  rw [b0]
  have h1 := (((hN.l0 (v := e.blew + (tW e).toInt64)).ot (j := 44) (v := 0) (by decide)).ot (j := 45) (v := 0) (by decide))
  refine hq _ (hS.num ((((Sam.rf).sb (by decide)).si (by decide)).si (by decide)) ⟨(by simp only [Dt.st_now, Dt.st_told, Dt.st_stk, Dt.st_troom, Dt.st_thas, Dt.st_so, Dt.st_trips, Dt.st_papers, Dt.st_places, Dt.st_rules, Dt.st_tape, Dt.st_fault, Dt.st_blew, Dt.st_taken, Dt.st_sold, Dt.st_unsold, Dt.st_made, Dt.st_vented, Dt.st_drunk, Dt.st_noRoom, Dt.st_coins, Dt.st_stored, Dt.st_water, Dt.st_running]), (by simp only [Dt.st_now, Dt.st_told, Dt.st_stk, Dt.st_troom, Dt.st_thas, Dt.st_so, Dt.st_trips, Dt.st_papers, Dt.st_places, Dt.st_rules, Dt.st_tape, Dt.st_fault, Dt.st_blew, Dt.st_taken, Dt.st_sold, Dt.st_unsold, Dt.st_made, Dt.st_vented, Dt.st_drunk, Dt.st_noRoom, Dt.st_coins, Dt.st_stored, Dt.st_water, Dt.st_running]), (by simp only [Dt.st_now, Dt.st_told, Dt.st_stk, Dt.st_troom, Dt.st_thas, Dt.st_so, Dt.st_trips, Dt.st_papers, Dt.st_places, Dt.st_rules, Dt.st_tape, Dt.st_fault, Dt.st_blew, Dt.st_taken, Dt.st_sold, Dt.st_unsold, Dt.st_made, Dt.st_vented, Dt.st_drunk, Dt.st_noRoom, Dt.st_coins, Dt.st_stored, Dt.st_water, Dt.st_running]), (by simp only [Dt.st_now, Dt.st_told, Dt.st_stk, Dt.st_troom, Dt.st_thas, Dt.st_so, Dt.st_trips, Dt.st_papers, Dt.st_places, Dt.st_rules, Dt.st_tape, Dt.st_fault, Dt.st_blew, Dt.st_taken, Dt.st_sold, Dt.st_unsold, Dt.st_made, Dt.st_vented, Dt.st_drunk, Dt.st_noRoom, Dt.st_coins, Dt.st_stored, Dt.st_water, Dt.st_running]), (by simp only [Dt.st_now, Dt.st_told, Dt.st_stk, Dt.st_troom, Dt.st_thas, Dt.st_so, Dt.st_trips, Dt.st_papers, Dt.st_places, Dt.st_rules, Dt.st_tape, Dt.st_fault, Dt.st_blew, Dt.st_taken, Dt.st_sold, Dt.st_unsold, Dt.st_made, Dt.st_vented, Dt.st_drunk, Dt.st_noRoom, Dt.st_coins, Dt.st_stored, Dt.st_water, Dt.st_running]), (by simp only [Dt.st_now, Dt.st_told, Dt.st_stk, Dt.st_troom, Dt.st_thas, Dt.st_so, Dt.st_trips, Dt.st_papers, Dt.st_places, Dt.st_rules, Dt.st_tape, Dt.st_fault, Dt.st_blew, Dt.st_taken, Dt.st_sold, Dt.st_unsold, Dt.st_made, Dt.st_vented, Dt.st_drunk, Dt.st_noRoom, Dt.st_coins, Dt.st_stored, Dt.st_water, Dt.st_running]), (by simp only [Dt.st_now, Dt.st_told, Dt.st_stk, Dt.st_troom, Dt.st_thas, Dt.st_so, Dt.st_trips, Dt.st_papers, Dt.st_places, Dt.st_rules, Dt.st_tape, Dt.st_fault, Dt.st_blew, Dt.st_taken, Dt.st_sold, Dt.st_unsold, Dt.st_made, Dt.st_vented, Dt.st_drunk, Dt.st_noRoom, Dt.st_coins, Dt.st_stored, Dt.st_water, Dt.st_running])⟩ rfl h1) ?_ ?_
  · exact (si_ne _ _ _ (by decide)).trans (si_eq _ _ _)
  · exact si_eq _ _ _
end
