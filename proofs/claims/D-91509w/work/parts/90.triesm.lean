set_option maxRecDepth 100000
def trA (o : Nat) : Prop := (18 ≤ o ∧ o ≤ 26) ∨ (30 ≤ o ∧ o ≤ 33)
section
variable {x : Nat} {S S' : MS}
/-- how a trip is, when it left -/
theorem RP.hl {tp : List Tp} {a : Nat} {h l : Int32} (hP : RP S tp) (ha : a < tp.length) : RP ((S.sa 30 a h).sa 31 a l) (tp.set a ((tp[a].set_how h).set_left l)) := by
  obtain ⟨p1, p2, p3, p4⟩ := hP
  refine ⟨by rw [List.length_set]; exact p1, by rw [List.length_set]; exact p2, fun j hj => ?_, fun j hj hj2 => ?_⟩
  · rw [List.length_set] at hj
    obtain ⟨q1, q2, q3, q4, q5, q6, q7⟩ := p3 j hj
    simp only [sa_at, Nat.reduceEqDiff, false_and, true_and, if_false]
    by_cases c : a = j
    · subst c
      simp only [List.getElem_set_self, if_true]
      exact ⟨q1, q2, q3, rfl, rfl, q6, q7⟩
    · rw [List.getElem_set_ne c, if_neg (fun z => c z.symm), if_neg (fun z => c z.symm)]
      exact ⟨q1, q2, q3, q4, q5, q6, q7⟩
  · rw [List.length_set] at hj
    obtain ⟨q1, q2, q3⟩ := p4 j hj hj2
    simp only [sa_at, Nat.reduceEqDiff, false_and, true_and, if_false]
    rw [if_neg (by omega)]
    exact ⟨q1, q2, q3⟩
theorem RP.hw {tp : List Tp} {a : Nat} {h : Int32} (hP : RP S tp) (ha : a < tp.length) : RP (S.sa 30 a h) (tp.set a (tp[a].set_how h)) := by
  obtain ⟨p1, p2, p3, p4⟩ := hP
  refine ⟨by rw [List.length_set]; exact p1, by rw [List.length_set]; exact p2, fun j hj => ?_, fun j hj hj2 => ?_⟩
  · rw [List.length_set] at hj
    obtain ⟨q1, q2, q3, q4, q5, q6, q7⟩ := p3 j hj
    simp only [sa_at, Nat.reduceEqDiff, false_and, true_and, if_false]
    by_cases c : a = j
    · subst c
      simp only [List.getElem_set_self, if_true]
      exact ⟨q1, q2, q3, rfl, q5, q6, q7⟩
    · rw [List.getElem_set_ne c, if_neg (fun z => c z.symm)]
      exact ⟨q1, q2, q3, q4, q5, q6, q7⟩
  · rw [List.length_set] at hj
    obtain ⟨q1, q2, q3⟩ := p4 j hj hj2
    simp only [sa_at, Nat.reduceEqDiff, false_and, true_and, if_false]
    rw [if_neg (by omega)]
    exact ⟨q1, q2, q3⟩
def TrM (S S' : MS) : Prop := Sam (fun i => i = 39) trA (fun o => o = 14) S S'
theorem TrM.tr {S S1 S2 : MS} (h : TrM S S1) (h2 : TrM S1 S2) : TrM S S2 := Sam.tr h h2
theorem m_tries {n a : Nat} {out pty : Int32} {d : Dt} (hS : IMk 1 S d) (o0 : soOk d.now (d.so 0)) (o1 : soOk d.now (d.so 1)) (hnow : d.now ≤ 4999) (hn : 9100 ≤ n) (ha : a < d.trips.length) (hok : tpOk d.now d.trips[a]) (hout : S.i 39 = out) {Q : Unit → MS → Prop}
    (hq : ∀ S', TrM S S' → IMk 1 S' (tryD d a out pty).1 → S'.i 39 = (tryD d a out pty).2 → Q () S') : wm x (f_X4_tries n (x + 28) (Int32.ofNat a) pty) S Q := by
  obtain ⟨p1, p2, p3, p4⟩ := hS.2.2.2.1
  obtain ⟨q1, q2, q3, q4, q5, q6, q7⟩ := p3 a ha
  have n0 := hS.2.2.2.2.2.2.1.1
  have g0 := (hS.2.2.1.at (k := 0) (by decide)).2.2.2.1
  have g1 := (hS.2.2.1.at (k := 1) (by decide)).2.2.2.1
  obtain ⟨t1, t2, t3, t4, t5, t6, t7, t8, t9, t10, t11, t12⟩ := hok
  obtain ⟨⟨i1, i2⟩, ⟨i3, i4⟩⟩ := tFR_i (d := d) o0.nn t4 t5
  have eA : tpA d.trips a = d.trips[a] := tpA_at ha
  have h40 : a < 40 := by omega
  unfold tryD at hq
  rw [eA] at hq
  unfold f_X4_tries
  refine m_bnd (m_getRt rfl (m_bnd (m_ldIt rfl h40 (m_bnd (m_getRt rfl (m_bnd (m_ldIt rfl h40 (m_jn ?_))))))))
  rw [q1, q2]
  -- behind the choice of the last ten
  have main : ∀ v5 : Int32, v5 = (if d.trips[a].kind = 0 then 11 else 0) → wm x (bnd (getR 4 35 (x + 28)) fun v6 => bnd (ldI 0 v6 (Int32.ofNat a)) fun v7 => jn (fun (_ : Unit) => pur ()) fun j45 => if ¬ v7 = 0 then j45 () else bnd (getI 4 0 (x + 28)) fun v8 => bnd (getR 4 33 (x + 28)) fun v9 => bnd (ldI 0 v9 (Int32.ofNat a)) fun v10 => if v10 ≤ v8 then bnd (getR 4 34 (x + 28)) fun v11 => bnd (ldI 0 v11 (Int32.ofNat a)) fun v12 => bnd (getR 4 23 (x + 28)) fun v13 => bnd (ldI 0 v13 0) fun v14 => bnd (getR 4 23 (x + 28)) fun v15 => bnd (ldI 0 v15 1) fun v16 => bnd (getI 4 39 (x + 28)) fun v17 => jn (fun (v18 : Int32) => jn (fun (v19 : Int32) => jn (fun (_ : Unit) => pur ()) fun j221 => if v19 = 0 then bnd (getI 4 0 (x + 28)) fun v20 => if ¬ v20 = (d.trips[a].ten + v5) then j221 () else bnd (getR 4 35 (x + 28)) fun v21 => bnd (stI 0 v21 (Int32.ofNat a) 2) fun _ => j221 () else bnd (gd 4 (x + 28) (nt (f_X4_goesOut n (x + 28) (0 : Int32) (mn v12 v14) (Int32.ofNat a)))) fun _ => bnd (gd 4 (x + 28) (nt (f_X4_goesOut n (x + 28) (1 : Int32) (v12 - (mn v12 v14)) (Int32.ofNat a)))) fun _ => bnd (getI 4 39 (x + 28)) fun v22 => bnd (putI 4 39 (x + 28) (v22 - (v12 - (mn v12 v14)))) fun _ => bnd (getR 4 35 (x + 28)) fun v23 => bnd (stI 0 v23 (Int32.ofNat a) 1) fun _ => bnd (getR 4 36 (x + 28)) fun v24 => bnd (getI 4 0 (x + 28)) fun v25 => bnd (stI 0 v24 (Int32.ofNat a) v25) fun _ => bnd (getR 4 17 (x + 28)) fun v26 => bnd (ldL 1 v26 6) fun v27 => bnd (stL 1 v26 6 (v27 + v12.toInt64)) fun _ => j221 ()) fun j141 => if v18 = 0 then j141 v18 else bnd (gd 4 (x + 28) (nt (f_X4_foulIn n (x + 28) (0 : Int32) (mn v12 v14)))) fun v28 => bnd (gd 4 (x + 28) (nt (f_X4_foulIn n (x + 28) (1 : Int32) (v12 - (mn v12 v14))))) fun v29 => nzl v12.toInt64 <| jn (fun (v30 : Int32) => j141 v30) fun j139 => if 0 < (lg_cmp ((((v28 + v29).toInt64) * 10000) / v12.toInt64) pty.toInt64) then j139 0 else j139 1) fun j97 => if (mn v16 v17) < (v12 - (mn v12 v14)) then j97 0 else j97 1 else j45 ()) S Q := by
    intro v5 hv5
    refine m_bnd (m_getRt rfl (m_bnd (m_ldIt rfl h40 (m_jn ?_))))
    rw [q4]
    by_cases c : ¬ d.trips[a].how = 0
    · rw [if_neg (fun z => c z.1)] at hq
      exact m_t c (m_pur (hq S Sam.rf hS hout))
    rw [Decidable.not_not] at c
    refine m_f (fun z => z c) (m_bnd (m_getI (by decide) (m_bnd (m_getRt rfl (m_bnd (m_ldIt rfl h40 ?_))))))
    rw [n0, q2]
    by_cases c2 : ¬ d.trips[a].ten ≤ Int32.ofNat d.now
    · rw [if_neg (fun z => c2 z.2)] at hq
      exact m_f c2 (m_pur (hq S Sam.rf hS hout))
    rw [Decidable.not_not] at c2
    rw [if_pos ⟨c, c2⟩] at hq
    refine m_t c2 (m_bnd (m_getRt rfl (m_bnd (m_ldIt rfl h40 (m_bnd (m_getRt rfl (m_bnd (m_ldIt (i := 0) rfl (by decide) (m_bnd (m_getRt rfl (m_bnd (m_ldIt (i := 1) rfl (by decide) (m_bnd (m_getI (by decide) (m_jn ?_)))))))))))))))
    rw [q3, g0, g1, hout, show mn d.trips[a].grams (d.so 0).grams = tF d d.trips[a] from rfl, show d.trips[a].grams - tF d d.trips[a] = tR d d.trips[a] from rfl]
    have elast : d.trips[a].ten + v5 = lastT d.trips[a] := by unfold lastT; rw [hv5]
    rw [elast]
    have lastI : (lastT d.trips[a]).toInt = d.trips[a].ten.toInt + (if d.trips[a].kind = 0 then 11 else 0) := by
      unfold lastT
      by_cases k0 : d.trips[a].kind = 0
      · rw [if_pos k0, if_pos k0, toInt_add' (by have : (11 : Int32).toInt = 11 := rfl; omega) (by have : (11 : Int32).toInt = 11 := rfl; omega)]; rfl
      · rw [if_neg k0, if_neg k0, Int32.add_zero, Int.add_zero]
    have hlast := t7 c
    have nowI : (Int32.ofNat d.now).toInt = d.now := i_toInt (by omega)
    -- it may not
    have no_ : ¬ tryOk d d.trips[a] out pty → wm x (jn (fun (_ : Unit) => pur ()) fun j221 => if (0 : Int32) = 0 then bnd (getI 4 0 (x + 28)) fun v20 => if ¬ v20 = lastT d.trips[a] then j221 () else bnd (getR 4 35 (x + 28)) fun v21 => bnd (stI 0 v21 (Int32.ofNat a) 2) fun _ => j221 () else bnd (gd 4 (x + 28) (nt (f_X4_goesOut n (x + 28) (0 : Int32) (tF d d.trips[a]) (Int32.ofNat a)))) fun _ => bnd (gd 4 (x + 28) (nt (f_X4_goesOut n (x + 28) (1 : Int32) (tR d d.trips[a]) (Int32.ofNat a)))) fun _ => bnd (getI 4 39 (x + 28)) fun v22 => bnd (putI 4 39 (x + 28) (v22 - (tR d d.trips[a]))) fun _ => bnd (getR 4 35 (x + 28)) fun v23 => bnd (stI 0 v23 (Int32.ofNat a) 1) fun _ => bnd (getR 4 36 (x + 28)) fun v24 => bnd (getI 4 0 (x + 28)) fun v25 => bnd (stI 0 v24 (Int32.ofNat a) v25) fun _ => bnd (getR 4 17 (x + 28)) fun v26 => bnd (ldL 1 v26 6) fun v27 => bnd (stL 1 v26 6 (v27 + d.trips[a].grams.toInt64)) fun _ => j221 ()) S Q := fun hno => by
      rw [if_neg hno] at hq
      refine m_jn (m_t rfl (m_bnd (m_getI (by decide) ?_)))
      rw [n0]
      refine m_ite (fun z => ?_) (fun z => ?_)
      · have lt : Int32.ofNat d.now < lastT d.trips[a] := by
          rw [Int32.lt_iff_toInt_lt, nowI, lastI]
          rcases Int.lt_or_eq_of_le hlast with y | y
          · exact y
          · exact absurd (Int32.toInt_inj.mp (by rw [nowI, lastI]; exact y)) z
        rw [if_pos lt] at hq
        exact m_pur (hq S Sam.rf hS hout)
      · rw [Decidable.not_not] at z
        rw [if_neg (by rw [z]; exact Int32.lt_irrefl)] at hq
        refine m_bnd (m_getRt rfl (m_bnd (m_stIt rfl h40 (m_pur ?_))))
        refine hq _ (Sam.rf.sa (by unfold trA; omega)) ?_ hout
        refine hS.cmb (I := no) (A := fun o => o = 30) (B := no) (Sam.rf.sa rfl) (Or.inl ⟨(by simp only [Dt.st_now, Dt.st_told, Dt.st_stk, Dt.st_troom, Dt.st_thas, Dt.st_so, Dt.st_trips, Dt.st_papers, Dt.st_places, Dt.st_rules, Dt.st_tape, Dt.st_fault, Dt.st_blew, Dt.st_taken, Dt.st_sold, Dt.st_unsold, Dt.st_made, Dt.st_vented, Dt.st_drunk, Dt.st_noRoom, Dt.st_coins, Dt.st_stored, Dt.st_water, Dt.st_running]), fun t z => (by first | exact trivial | exact z.elim | omega | (unfold tkTi at z; omega) | (unfold goA at z; omega)), fun t z => (by first | exact trivial | exact z.elim | omega | (unfold tkTi at z; omega) | (unfold goA at z; omega)), fun c z => (by first | exact trivial | exact z.elim | omega | (unfold tkTi at z; omega) | (unfold goA at z; omega))⟩) (Or.inl ⟨⟨(by simp only [Dt.st_now, Dt.st_told, Dt.st_stk, Dt.st_troom, Dt.st_thas, Dt.st_so, Dt.st_trips, Dt.st_papers, Dt.st_places, Dt.st_rules, Dt.st_tape, Dt.st_fault, Dt.st_blew, Dt.st_taken, Dt.st_sold, Dt.st_unsold, Dt.st_made, Dt.st_vented, Dt.st_drunk, Dt.st_noRoom, Dt.st_coins, Dt.st_stored, Dt.st_water, Dt.st_running]), (by simp only [Dt.st_now, Dt.st_told, Dt.st_stk, Dt.st_troom, Dt.st_thas, Dt.st_so, Dt.st_trips, Dt.st_papers, Dt.st_places, Dt.st_rules, Dt.st_tape, Dt.st_fault, Dt.st_blew, Dt.st_taken, Dt.st_sold, Dt.st_unsold, Dt.st_made, Dt.st_vented, Dt.st_drunk, Dt.st_noRoom, Dt.st_coins, Dt.st_stored, Dt.st_water, Dt.st_running])⟩, fun t z => (by first | exact trivial | exact z.elim | omega | (unfold tkTi at z; omega) | (unfold goA at z; omega)), fun t z => (by first | exact trivial | exact z.elim | omega | (unfold tkTi at z; omega) | (unfold goA at z; omega)), fun c z => (by first | exact trivial | exact z.elim | omega | (unfold tkTi at z; omega) | (unfold goA at z; omega))⟩) (Or.inl ⟨(by simp only [Dt.st_now, Dt.st_told, Dt.st_stk, Dt.st_troom, Dt.st_thas, Dt.st_so, Dt.st_trips, Dt.st_papers, Dt.st_places, Dt.st_rules, Dt.st_tape, Dt.st_fault, Dt.st_blew, Dt.st_taken, Dt.st_sold, Dt.st_unsold, Dt.st_made, Dt.st_vented, Dt.st_drunk, Dt.st_noRoom, Dt.st_coins, Dt.st_stored, Dt.st_water, Dt.st_running]), fun t z => (by first | exact trivial | exact z.elim | omega | (unfold tkTi at z; omega) | (unfold goA at z; omega)), fun t z => (by first | exact trivial | exact z.elim | omega | (unfold tkTi at z; omega) | (unfold goA at z; omega)), fun c z => (by first | exact trivial | exact z.elim | omega | (unfold tkTi at z; omega) | (unfold goA at z; omega))⟩) (Or.inr ?_) (Or.inl ⟨(by simp only [Dt.st_now, Dt.st_told, Dt.st_stk, Dt.st_troom, Dt.st_thas, Dt.st_so, Dt.st_trips, Dt.st_papers, Dt.st_places, Dt.st_rules, Dt.st_tape, Dt.st_fault, Dt.st_blew, Dt.st_taken, Dt.st_sold, Dt.st_unsold, Dt.st_made, Dt.st_vented, Dt.st_drunk, Dt.st_noRoom, Dt.st_coins, Dt.st_stored, Dt.st_water, Dt.st_running]), fun t z => (by first | exact trivial | exact z.elim | omega | (unfold tkTi at z; omega) | (unfold goA at z; omega)), fun t z => (by first | exact trivial | exact z.elim | omega | (unfold tkTi at z; omega) | (unfold goA at z; omega)), fun c z => (by first | exact trivial | exact z.elim | omega | (unfold tkTi at z; omega) | (unfold goA at z; omega))⟩) (Or.inl ⟨(by simp only [Dt.st_now, Dt.st_told, Dt.st_stk, Dt.st_troom, Dt.st_thas, Dt.st_so, Dt.st_trips, Dt.st_papers, Dt.st_places, Dt.st_rules, Dt.st_tape, Dt.st_fault, Dt.st_blew, Dt.st_taken, Dt.st_sold, Dt.st_unsold, Dt.st_made, Dt.st_vented, Dt.st_drunk, Dt.st_noRoom, Dt.st_coins, Dt.st_stored, Dt.st_water, Dt.st_running]), fun t z => (by first | exact trivial | exact z.elim | omega | (unfold tkTi at z; omega) | (unfold goA at z; omega)), fun t z => (by first | exact trivial | exact z.elim | omega | (unfold tkTi at z; omega) | (unfold goA at z; omega)), fun c z => (by first | exact trivial | exact z.elim | omega | (unfold tkTi at z; omega) | (unfold goA at z; omega))⟩) (Or.inl ⟨⟨⟨⟨(by simp only [Dt.st_now, Dt.st_told, Dt.st_stk, Dt.st_troom, Dt.st_thas, Dt.st_so, Dt.st_trips, Dt.st_papers, Dt.st_places, Dt.st_rules, Dt.st_tape, Dt.st_fault, Dt.st_blew, Dt.st_taken, Dt.st_sold, Dt.st_unsold, Dt.st_made, Dt.st_vented, Dt.st_drunk, Dt.st_noRoom, Dt.st_coins, Dt.st_stored, Dt.st_water, Dt.st_running]), (by simp only [Dt.st_now, Dt.st_told, Dt.st_stk, Dt.st_troom, Dt.st_thas, Dt.st_so, Dt.st_trips, Dt.st_papers, Dt.st_places, Dt.st_rules, Dt.st_tape, Dt.st_fault, Dt.st_blew, Dt.st_taken, Dt.st_sold, Dt.st_unsold, Dt.st_made, Dt.st_vented, Dt.st_drunk, Dt.st_noRoom, Dt.st_coins, Dt.st_stored, Dt.st_water, Dt.st_running]), (by simp only [Dt.st_now, Dt.st_told, Dt.st_stk, Dt.st_troom, Dt.st_thas, Dt.st_so, Dt.st_trips, Dt.st_papers, Dt.st_places, Dt.st_rules, Dt.st_tape, Dt.st_fault, Dt.st_blew, Dt.st_taken, Dt.st_sold, Dt.st_unsold, Dt.st_made, Dt.st_vented, Dt.st_drunk, Dt.st_noRoom, Dt.st_coins, Dt.st_stored, Dt.st_water, Dt.st_running])⟩, ⟨(by simp only [Dt.st_now, Dt.st_told, Dt.st_stk, Dt.st_troom, Dt.st_thas, Dt.st_so, Dt.st_trips, Dt.st_papers, Dt.st_places, Dt.st_rules, Dt.st_tape, Dt.st_fault, Dt.st_blew, Dt.st_taken, Dt.st_sold, Dt.st_unsold, Dt.st_made, Dt.st_vented, Dt.st_drunk, Dt.st_noRoom, Dt.st_coins, Dt.st_stored, Dt.st_water, Dt.st_running]), (by simp only [Dt.st_now, Dt.st_told, Dt.st_stk, Dt.st_troom, Dt.st_thas, Dt.st_so, Dt.st_trips, Dt.st_papers, Dt.st_places, Dt.st_rules, Dt.st_tape, Dt.st_fault, Dt.st_blew, Dt.st_taken, Dt.st_sold, Dt.st_unsold, Dt.st_made, Dt.st_vented, Dt.st_drunk, Dt.st_noRoom, Dt.st_coins, Dt.st_stored, Dt.st_water, Dt.st_running]), (by simp only [Dt.st_now, Dt.st_told, Dt.st_stk, Dt.st_troom, Dt.st_thas, Dt.st_so, Dt.st_trips, Dt.st_papers, Dt.st_places, Dt.st_rules, Dt.st_tape, Dt.st_fault, Dt.st_blew, Dt.st_taken, Dt.st_sold, Dt.st_unsold, Dt.st_made, Dt.st_vented, Dt.st_drunk, Dt.st_noRoom, Dt.st_coins, Dt.st_stored, Dt.st_water, Dt.st_running]), (by simp only [Dt.st_now, Dt.st_told, Dt.st_stk, Dt.st_troom, Dt.st_thas, Dt.st_so, Dt.st_trips, Dt.st_papers, Dt.st_places, Dt.st_rules, Dt.st_tape, Dt.st_fault, Dt.st_blew, Dt.st_taken, Dt.st_sold, Dt.st_unsold, Dt.st_made, Dt.st_vented, Dt.st_drunk, Dt.st_noRoom, Dt.st_coins, Dt.st_stored, Dt.st_water, Dt.st_running]), (by simp only [Dt.st_now, Dt.st_told, Dt.st_stk, Dt.st_troom, Dt.st_thas, Dt.st_so, Dt.st_trips, Dt.st_papers, Dt.st_places, Dt.st_rules, Dt.st_tape, Dt.st_fault, Dt.st_blew, Dt.st_taken, Dt.st_sold, Dt.st_unsold, Dt.st_made, Dt.st_vented, Dt.st_drunk, Dt.st_noRoom, Dt.st_coins, Dt.st_stored, Dt.st_water, Dt.st_running]), (by simp only [Dt.st_now, Dt.st_told, Dt.st_stk, Dt.st_troom, Dt.st_thas, Dt.st_so, Dt.st_trips, Dt.st_papers, Dt.st_places, Dt.st_rules, Dt.st_tape, Dt.st_fault, Dt.st_blew, Dt.st_taken, Dt.st_sold, Dt.st_unsold, Dt.st_made, Dt.st_vented, Dt.st_drunk, Dt.st_noRoom, Dt.st_coins, Dt.st_stored, Dt.st_water, Dt.st_running]), (by simp only [Dt.st_now, Dt.st_told, Dt.st_stk, Dt.st_troom, Dt.st_thas, Dt.st_so, Dt.st_trips, Dt.st_papers, Dt.st_places, Dt.st_rules, Dt.st_tape, Dt.st_fault, Dt.st_blew, Dt.st_taken, Dt.st_sold, Dt.st_unsold, Dt.st_made, Dt.st_vented, Dt.st_drunk, Dt.st_noRoom, Dt.st_coins, Dt.st_stored, Dt.st_water, Dt.st_running]), (by simp only [Dt.st_now, Dt.st_told, Dt.st_stk, Dt.st_troom, Dt.st_thas, Dt.st_so, Dt.st_trips, Dt.st_papers, Dt.st_places, Dt.st_rules, Dt.st_tape, Dt.st_fault, Dt.st_blew, Dt.st_taken, Dt.st_sold, Dt.st_unsold, Dt.st_made, Dt.st_vented, Dt.st_drunk, Dt.st_noRoom, Dt.st_coins, Dt.st_stored, Dt.st_water, Dt.st_running]), (by simp only [Dt.st_now, Dt.st_told, Dt.st_stk, Dt.st_troom, Dt.st_thas, Dt.st_so, Dt.st_trips, Dt.st_papers, Dt.st_places, Dt.st_rules, Dt.st_tape, Dt.st_fault, Dt.st_blew, Dt.st_taken, Dt.st_sold, Dt.st_unsold, Dt.st_made, Dt.st_vented, Dt.st_drunk, Dt.st_noRoom, Dt.st_coins, Dt.st_stored, Dt.st_water, Dt.st_running])⟩, (by simp only [Dt.st_now, Dt.st_told, Dt.st_stk, Dt.st_troom, Dt.st_thas, Dt.st_so, Dt.st_trips, Dt.st_papers, Dt.st_places, Dt.st_rules, Dt.st_tape, Dt.st_fault, Dt.st_blew, Dt.st_taken, Dt.st_sold, Dt.st_unsold, Dt.st_made, Dt.st_vented, Dt.st_drunk, Dt.st_noRoom, Dt.st_coins, Dt.st_stored, Dt.st_water, Dt.st_running]), (by simp only [Dt.st_now, Dt.st_told, Dt.st_stk, Dt.st_troom, Dt.st_thas, Dt.st_so, Dt.st_trips, Dt.st_papers, Dt.st_places, Dt.st_rules, Dt.st_tape, Dt.st_fault, Dt.st_blew, Dt.st_taken, Dt.st_sold, Dt.st_unsold, Dt.st_made, Dt.st_vented, Dt.st_drunk, Dt.st_noRoom, Dt.st_coins, Dt.st_stored, Dt.st_water, Dt.st_running]), (by simp only [Dt.st_now, Dt.st_told, Dt.st_stk, Dt.st_troom, Dt.st_thas, Dt.st_so, Dt.st_trips, Dt.st_papers, Dt.st_places, Dt.st_rules, Dt.st_tape, Dt.st_fault, Dt.st_blew, Dt.st_taken, Dt.st_sold, Dt.st_unsold, Dt.st_made, Dt.st_vented, Dt.st_drunk, Dt.st_noRoom, Dt.st_coins, Dt.st_stored, Dt.st_water, Dt.st_running]), (by simp only [Dt.st_now, Dt.st_told, Dt.st_stk, Dt.st_troom, Dt.st_thas, Dt.st_so, Dt.st_trips, Dt.st_papers, Dt.st_places, Dt.st_rules, Dt.st_tape, Dt.st_fault, Dt.st_blew, Dt.st_taken, Dt.st_sold, Dt.st_unsold, Dt.st_made, Dt.st_vented, Dt.st_drunk, Dt.st_noRoom, Dt.st_coins, Dt.st_stored, Dt.st_water, Dt.st_running]), (by simp only [Dt.st_now, Dt.st_told, Dt.st_stk, Dt.st_troom, Dt.st_thas, Dt.st_so, Dt.st_trips, Dt.st_papers, Dt.st_places, Dt.st_rules, Dt.st_tape, Dt.st_fault, Dt.st_blew, Dt.st_taken, Dt.st_sold, Dt.st_unsold, Dt.st_made, Dt.st_vented, Dt.st_drunk, Dt.st_noRoom, Dt.st_coins, Dt.st_stored, Dt.st_water, Dt.st_running])⟩, (by simp only [Dt.st_now, Dt.st_told, Dt.st_stk, Dt.st_troom, Dt.st_thas, Dt.st_so, Dt.st_trips, Dt.st_papers, Dt.st_places, Dt.st_rules, Dt.st_tape, Dt.st_fault, Dt.st_blew, Dt.st_taken, Dt.st_sold, Dt.st_unsold, Dt.st_made, Dt.st_vented, Dt.st_drunk, Dt.st_noRoom, Dt.st_coins, Dt.st_stored, Dt.st_water, Dt.st_running]), (by simp only [Dt.st_now, Dt.st_told, Dt.st_stk, Dt.st_troom, Dt.st_thas, Dt.st_so, Dt.st_trips, Dt.st_papers, Dt.st_places, Dt.st_rules, Dt.st_tape, Dt.st_fault, Dt.st_blew, Dt.st_taken, Dt.st_sold, Dt.st_unsold, Dt.st_made, Dt.st_vented, Dt.st_drunk, Dt.st_noRoom, Dt.st_coins, Dt.st_stored, Dt.st_water, Dt.st_running]), (by simp only [Dt.st_now, Dt.st_told, Dt.st_stk, Dt.st_troom, Dt.st_thas, Dt.st_so, Dt.st_trips, Dt.st_papers, Dt.st_places, Dt.st_rules, Dt.st_tape, Dt.st_fault, Dt.st_blew, Dt.st_taken, Dt.st_sold, Dt.st_unsold, Dt.st_made, Dt.st_vented, Dt.st_drunk, Dt.st_noRoom, Dt.st_coins, Dt.st_stored, Dt.st_water, Dt.st_running]), (by simp only [Dt.st_now, Dt.st_told, Dt.st_stk, Dt.st_troom, Dt.st_thas, Dt.st_so, Dt.st_trips, Dt.st_papers, Dt.st_places, Dt.st_rules, Dt.st_tape, Dt.st_fault, Dt.st_blew, Dt.st_taken, Dt.st_sold, Dt.st_unsold, Dt.st_made, Dt.st_vented, Dt.st_drunk, Dt.st_noRoom, Dt.st_coins, Dt.st_stored, Dt.st_water, Dt.st_running])⟩, fun t z => (by first | exact trivial | exact z.elim | omega | (unfold tkTi at z; omega) | (unfold goA at z; omega)), fun t z => (by first | exact trivial | exact z.elim | omega | (unfold tkTi at z; omega) | (unfold goA at z; omega)), fun c z => (by first | exact trivial | exact z.elim | omega | (unfold tkTi at z; omega) | (unfold goA at z; omega))⟩) (Or.inl ⟨(by simp only [Dt.st_now, Dt.st_told, Dt.st_stk, Dt.st_troom, Dt.st_thas, Dt.st_so, Dt.st_trips, Dt.st_papers, Dt.st_places, Dt.st_rules, Dt.st_tape, Dt.st_fault, Dt.st_blew, Dt.st_taken, Dt.st_sold, Dt.st_unsold, Dt.st_made, Dt.st_vented, Dt.st_drunk, Dt.st_noRoom, Dt.st_coins, Dt.st_stored, Dt.st_water, Dt.st_running]), fun t z => (by first | exact trivial | exact z.elim | omega | (unfold tkTi at z; omega) | (unfold goA at z; omega)), fun t z => (by first | exact trivial | exact z.elim | omega | (unfold tkTi at z; omega) | (unfold goA at z; omega)), fun c z => (by first | exact trivial | exact z.elim | omega | (unfold tkTi at z; omega) | (unfold goA at z; omega))⟩)
        simp only [Dt.st_trips]
        exact hS.2.2.2.1.hw ha
    refine m_ite (fun c3 => ?_) (fun c3 => ?_)
    · exact m_jn (m_t rfl (no_ (fun z => z.1 c3)))
    have hRle := tR_le c3
    refine m_jn (m_f (by decide) (m_bnd (m_gd (m_nt (m_foulIn (s := 0) (by decide) (hS.2.2.1.at (k := 0) (by decide)) o0.1.pos i1 (by rw [o0.2.1]; exact i2) hn ?_)))))
    refine m_bnd (m_gd (m_nt (m_foulIn (s := 1) (by decide) (hS.2.2.1.at (k := 1) (by decide)) o1.1.pos i3 (by rw [o1.2.1]; exact hRle) hn ?_)))
    rw [show flS (d.so 0).lots (tF d d.trips[a]) + flS (d.so 1).lots (tR d d.trips[a]) = tFo d d.trips[a] from rfl, Int64.mul_comm]
    refine m_nzl (l64_0 (by omega)) (m_jn (m_ite (fun c4 => no_ (fun z => z.2 c4)) (fun c4 => ?_)))
    rw [if_pos ⟨c3, c4⟩] at hq
    refine m_jn (m_f (by decide) (m_bnd (m_gd (m_nt (m_goesk (s := 0) (tr := some a) hS (by decide) o0.1.pos (o0.1.hrs hnow) i1 (by rw [o0.2.1]; exact i2) (fun b z => by rw [← Option.some.inj z]; exact ha) hn (fun S1 A1 hS1 => ?_))))))
    have so1 : (((d.set_so (sup d.so 0 (tkSo (d.so 0) (tF d d.trips[a])))).set_trips (tpU d.trips (some a) (tkL (d.so 0).lots (tF d d.trips[a])).2.1 (tkL (d.so 0).lots (tF d d.trips[a])).2.2))).so 1 = d.so 1 := rfl
    have len1 : (((d.set_so (sup d.so 0 (tkSo (d.so 0) (tF d d.trips[a])))).set_trips (tpU d.trips (some a) (tkL (d.so 0).lots (tF d d.trips[a])).2.1 (tkL (d.so 0).lots (tF d d.trips[a])).2.2))).trips.length = d.trips.length := by
      simp only [Dt.st_trips]
      exact tpU_len _ _ _ _
    refine m_bnd (m_gd (m_nt (m_goesk (s := 1) (tr := some a) hS1 (by decide) (by rw [so1]; exact o1.1.pos) (by rw [so1]; exact o1.1.hrs hnow) i3 (by rw [so1, o1.2.1]; exact hRle) (fun b z => by rw [len1, ← Option.some.inj z]; exact ha) hn (fun S2 A2 hS2 => ?_))))
    rw [so1] at hS2
    have eU : tpU (tpU d.trips (some a) (tkL (d.so 0).lots (tF d d.trips[a])).2.1 (tkL (d.so 0).lots (tF d d.trips[a])).2.2) (some a) (tkL (d.so 1).lots (tR d d.trips[a])).2.1 (tkL (d.so 1).lots (tR d d.trips[a])).2.2 = tpU d.trips (some a) ((tkL (d.so 0).lots (tF d d.trips[a])).2.1 ++ (tkL (d.so 1).lots (tR d d.trips[a])).2.1) ((tkL (d.so 0).lots (tF d d.trips[a])).2.2 + (tkL (d.so 1).lots (tR d d.trips[a])).2.2) := tpU_tr (fun b z => by rw [← Option.some.inj z]; exact ha)
    have hS2' : IMk 1 S2 ((d.set_so (sup (sup d.so 0 (tkSo (d.so 0) (tF d d.trips[a]))) 1 (tkSo (d.so 1) (tR d d.trips[a])))).set_trips (tpU (tpU d.trips (some a) (tkL (d.so 0).lots (tF d d.trips[a])).2.1 (tkL (d.so 0).lots (tF d d.trips[a])).2.2) (some a) (tkL (d.so 1).lots (tR d d.trips[a])).2.1 (tkL (d.so 1).lots (tR d d.trips[a])).2.2)) := hS2
    rw [eU] at hS2'
    have o39 : S2.i 39 = out := by rw [A2.1 39 (fun z => z), A1.1 39 (fun z => z)]; exact hout
    have n02 : S2.i 0 = Int32.ofNat d.now := by rw [A2.1 0 (fun z => z), A1.1 0 (fun z => z)]; exact n0
    have d146 : S2.b 14 6 = d.drunk := by
      rw [A2.2.2 14 (fun z => z), A1.2.2 14 (fun z => z)]
      exact hS.2.2.2.2.2.2.1.2.2.2.1.2.2.2.2.2.2.1
    refine m_bnd (m_getI (by decide) (m_bnd (m_putI (by decide) (m_bnd (m_getRt rfl (m_bnd (m_stIt rfl h40 (m_bnd (m_getRt rfl (m_bnd (m_getI (by decide) (m_bnd (m_stIt rfl h40 (m_bnd (m_getRt rfl (m_bnd (m_ldLt (i := 6) rfl (by decide) (m_bnd (m_stLt (i := 6) rfl (by decide) (m_pur ?_))))))))))))))))))))
    simp only [sa_i, sa_b, sb_i, sb_a, si_a, si_b, si_at, sa_at, sB_at, i_add1, and_self, true_and, and_true, false_and, and_false, if_true, if_false, ↓reduceIte, Nat.reduceEqDiff, Nat.add_left_cancel_iff, o39, n02, d146]
    have A : Sam (fun i => i = 39) trA (fun o => o = 14) S S2 := (A1.mono (fun _ z => z.elim) (fun o z => by unfold goA at z; unfold trA; omega) (fun _ z => z.elim)).tr (A2.mono (fun _ z => z.elim) (fun o z => by unfold goA at z; unfold trA; omega) (fun _ z => z.elim))
    refine hq _ ((((A.si rfl).sa (by unfold trA; omega)).sa (by unfold trA; omega)).sb rfl) ?_ ?_
    · refine hS2'.cmb (I := fun i => i = 39) (A := fun o => o = 30 ∨ o = 31) (B := fun o => o = 14) (((((Sam.rf (I := fun i => i = 39) (A := fun o => o = 30 ∨ o = 31) (B := fun o => o = 14)).si rfl).sa (Or.inl rfl)).sa (Or.inr rfl)).sb rfl) (Or.inl ⟨(by simp only [Dt.st_now, Dt.st_told, Dt.st_stk, Dt.st_troom, Dt.st_thas, Dt.st_so, Dt.st_trips, Dt.st_papers, Dt.st_places, Dt.st_rules, Dt.st_tape, Dt.st_fault, Dt.st_blew, Dt.st_taken, Dt.st_sold, Dt.st_unsold, Dt.st_made, Dt.st_vented, Dt.st_drunk, Dt.st_noRoom, Dt.st_coins, Dt.st_stored, Dt.st_water, Dt.st_running]), fun t z => (by first | exact trivial | exact z.elim | omega | (unfold tkTi at z; omega) | (unfold goA at z; omega)), fun t z => (by first | exact trivial | exact z.elim | omega | (unfold tkTi at z; omega) | (unfold goA at z; omega)), fun c z => (by first | exact trivial | exact z.elim | omega | (unfold tkTi at z; omega) | (unfold goA at z; omega))⟩) (Or.inl ⟨⟨(by simp only [Dt.st_now, Dt.st_told, Dt.st_stk, Dt.st_troom, Dt.st_thas, Dt.st_so, Dt.st_trips, Dt.st_papers, Dt.st_places, Dt.st_rules, Dt.st_tape, Dt.st_fault, Dt.st_blew, Dt.st_taken, Dt.st_sold, Dt.st_unsold, Dt.st_made, Dt.st_vented, Dt.st_drunk, Dt.st_noRoom, Dt.st_coins, Dt.st_stored, Dt.st_water, Dt.st_running]), (by simp only [Dt.st_now, Dt.st_told, Dt.st_stk, Dt.st_troom, Dt.st_thas, Dt.st_so, Dt.st_trips, Dt.st_papers, Dt.st_places, Dt.st_rules, Dt.st_tape, Dt.st_fault, Dt.st_blew, Dt.st_taken, Dt.st_sold, Dt.st_unsold, Dt.st_made, Dt.st_vented, Dt.st_drunk, Dt.st_noRoom, Dt.st_coins, Dt.st_stored, Dt.st_water, Dt.st_running])⟩, fun t z => (by first | exact trivial | exact z.elim | omega | (unfold tkTi at z; omega) | (unfold goA at z; omega)), fun t z => (by first | exact trivial | exact z.elim | omega | (unfold tkTi at z; omega) | (unfold goA at z; omega)), fun c z => (by first | exact trivial | exact z.elim | omega | (unfold tkTi at z; omega) | (unfold goA at z; omega))⟩) (Or.inl ⟨(by simp only [Dt.st_now, Dt.st_told, Dt.st_stk, Dt.st_troom, Dt.st_thas, Dt.st_so, Dt.st_trips, Dt.st_papers, Dt.st_places, Dt.st_rules, Dt.st_tape, Dt.st_fault, Dt.st_blew, Dt.st_taken, Dt.st_sold, Dt.st_unsold, Dt.st_made, Dt.st_vented, Dt.st_drunk, Dt.st_noRoom, Dt.st_coins, Dt.st_stored, Dt.st_water, Dt.st_running]), fun t z => (by first | exact trivial | exact z.elim | omega | (unfold tkTi at z; omega) | (unfold goA at z; omega)), fun t z => (by first | exact trivial | exact z.elim | omega | (unfold tkTi at z; omega) | (unfold goA at z; omega)), fun c z => (by first | exact trivial | exact z.elim | omega | (unfold tkTi at z; omega) | (unfold goA at z; omega))⟩) (Or.inr ?_) (Or.inl ⟨(by simp only [Dt.st_now, Dt.st_told, Dt.st_stk, Dt.st_troom, Dt.st_thas, Dt.st_so, Dt.st_trips, Dt.st_papers, Dt.st_places, Dt.st_rules, Dt.st_tape, Dt.st_fault, Dt.st_blew, Dt.st_taken, Dt.st_sold, Dt.st_unsold, Dt.st_made, Dt.st_vented, Dt.st_drunk, Dt.st_noRoom, Dt.st_coins, Dt.st_stored, Dt.st_water, Dt.st_running]), fun t z => (by first | exact trivial | exact z.elim | omega | (unfold tkTi at z; omega) | (unfold goA at z; omega)), fun t z => (by first | exact trivial | exact z.elim | omega | (unfold tkTi at z; omega) | (unfold goA at z; omega)), fun c z => (by first | exact trivial | exact z.elim | omega | (unfold tkTi at z; omega) | (unfold goA at z; omega))⟩) (Or.inl ⟨(by simp only [Dt.st_now, Dt.st_told, Dt.st_stk, Dt.st_troom, Dt.st_thas, Dt.st_so, Dt.st_trips, Dt.st_papers, Dt.st_places, Dt.st_rules, Dt.st_tape, Dt.st_fault, Dt.st_blew, Dt.st_taken, Dt.st_sold, Dt.st_unsold, Dt.st_made, Dt.st_vented, Dt.st_drunk, Dt.st_noRoom, Dt.st_coins, Dt.st_stored, Dt.st_water, Dt.st_running]), fun t z => (by first | exact trivial | exact z.elim | omega | (unfold tkTi at z; omega) | (unfold goA at z; omega)), fun t z => (by first | exact trivial | exact z.elim | omega | (unfold tkTi at z; omega) | (unfold goA at z; omega)), fun c z => (by first | exact trivial | exact z.elim | omega | (unfold tkTi at z; omega) | (unfold goA at z; omega))⟩) (Or.inr ?_) (Or.inl ⟨(by simp only [Dt.st_now, Dt.st_told, Dt.st_stk, Dt.st_troom, Dt.st_thas, Dt.st_so, Dt.st_trips, Dt.st_papers, Dt.st_places, Dt.st_rules, Dt.st_tape, Dt.st_fault, Dt.st_blew, Dt.st_taken, Dt.st_sold, Dt.st_unsold, Dt.st_made, Dt.st_vented, Dt.st_drunk, Dt.st_noRoom, Dt.st_coins, Dt.st_stored, Dt.st_water, Dt.st_running]), fun t z => (by first | exact trivial | exact z.elim | omega | (unfold tkTi at z; omega) | (unfold goA at z; omega)), fun t z => (by first | exact trivial | exact z.elim | omega | (unfold tkTi at z; omega) | (unfold goA at z; omega)), fun c z => (by first | exact trivial | exact z.elim | omega | (unfold tkTi at z; omega) | (unfold goA at z; omega))⟩)
      · have P2 := hS2'.2.2.2.1
        simp only [Dt.st_drunk, Dt.st_trips] at P2 ⊢
        have hlU : a < (tpU d.trips (some a) ((tkL (d.so 0).lots (tF d d.trips[a])).2.1 ++ (tkL (d.so 1).lots (tR d d.trips[a])).2.1) ((tkL (d.so 0).lots (tF d d.trips[a])).2.2 + (tkL (d.so 1).lots (tR d d.trips[a])).2.2)).length := by rw [tpU_len]; exact ha
        have P3 := (P2.hl (h := 1) (l := Int32.ofNat d.now) hlU)
        rw [tpU_at ha hlU] at P3
        have ef : d.trips[a].foul + ((tkL (d.so 0).lots (tF d d.trips[a])).2.2 + (tkL (d.so 1).lots (tR d d.trips[a])).2.2) = tFo d d.trips[a] := by
          unfold tFo
          rw [t8 c, Int32.zero_add, fl_eq _ _ o0.1.pos, fl_eq _ _ o1.1.pos]
        have eset : ∀ T : Tp, (tpU d.trips (some a) ((tkL (d.so 0).lots (tF d d.trips[a])).2.1 ++ (tkL (d.so 1).lots (tR d d.trips[a])).2.1) ((tkL (d.so 0).lots (tF d d.trips[a])).2.2 + (tkL (d.so 1).lots (tR d d.trips[a])).2.2)).set a T = d.trips.set a T := fun T => by
          show (d.trips.set a _).set a T = _
          rw [List.set_set]
        rw [eset, ef] at P3
        have eT : ((((d.trips[a].set_sips (d.trips[a].sips ++ ((tkL (d.so 0).lots (tF d d.trips[a])).2.1 ++ (tkL (d.so 1).lots (tR d d.trips[a])).2.1))).set_foul (tFo d d.trips[a])).set_how 1).set_left (Int32.ofNat d.now)) = tryT d d.trips[a] := by
          unfold tryT
          rw [List.append_assoc]
          rfl
        rw [eT] at P3
        exact P3.fr rfl (fun o _ _ => rfl)
      · obtain ⟨y1, y2, y3, ⟨z1, z2, z3, z4, z5, z6, z7, z8, z9, z10, z11⟩, y5, y6, y7, y8⟩ := hS2'.2.2.2.2.2.2.1
        unfold RN
        simp only [Dt.st_drunk, Dt.st_trips, Dt.st_so] at y1 y2 y3 z1 z2 z3 z4 z5 z6 z7 z8 z9 z10 z11 y5 y6 y7 y8 ⊢
        simp only [sa_i, sa_b, sb_i, sb_a, si_a, si_b, si_at, sa_at, sB_at, i_add1, and_self, true_and, and_true, false_and, and_false, if_true, if_false, ↓reduceIte, Nat.reduceEqDiff, Nat.add_left_cancel_iff]
        exact ⟨y1, y2, y3, ⟨z1, z2, z3, z4, z5, z6, z8, z9, z10, z11⟩, y5, y6, y7, y8⟩
    · simp only [sa_i, sa_b, sb_i, sb_a, si_a, si_b, si_at, sa_at, sB_at, i_add1, and_self, true_and, and_true, false_and, and_false, if_true, if_false, ↓reduceIte, Nat.reduceEqDiff, Nat.add_left_cancel_iff]
  refine m_ite (fun z => main 0 (by rw [if_neg z])) (fun z => ?_)
  rw [Decidable.not_not] at z
  exact main 11 (by rw [if_pos z])
end
