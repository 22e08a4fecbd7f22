set_option maxRecDepth 100000
theorem t5_eq (e : Dt) (R : List Sk × Int32 × Int32 × Int32 × Int32) (bl : Int32) : ((((e.set_blew (e.blew + bl.toInt64)).set_stk R.1).set_thas R.2.1).set_made (e.made + R.2.2.1.toInt64)).set_taken (e.taken + (bl - R.2.2.2.2).toInt64) = tE ((e.set_stk R.1).set_thas R.2.1) bl R.2.2.2.2 R.2.2.1 := Dt.ext (by unfold tE; simp only [Dt.st_blew, Dt.st_stk, Dt.st_thas, Dt.st_made, Dt.st_taken, and_self])
section
variable {x : Nat} {S : MS} {d : Dt}
/-- trips, leaks, the next ten -/
theorem m_tnH {n : Nat} {g : Dt} {Q : Unit → MS → Prop} (hS : IMk 1 S g) (hnow : g.now ≤ 4999) (o0 : soOk g.now (g.so 0)) (o1 : soOk g.now (g.so 1)) (hok : ∀ t ∈ g.trips, tpOk g.now t) (h39 : S.i 39 = (g.so 1).breath) (hn : 9100 ≤ n) (hq : ∀ S', IM S' (tJ (tI (tH g))) → Q () S') :
    wm x (jn (fun (_ : Unit) => jn (fun (_ : Unit) => bnd (getI 4 0 (x + 28)) fun v42 => bnd (putI 4 0 (x + 28) (v42 + 1)) fun _ => pur ()) fun j460 => lp_X4_ten_389 n (x + 28) j460 n 0) fun j386 => lp_X4_ten_359 n (x + 28) (fcd (frcA g.rules (Int32.ofNat g.now))) j386 n 0) S Q := by
  have h40 := hS.2.2.2.1.2.1
  obtain ⟨f1, ⟨s0, s1⟩, -⟩ := tH_f hnow o0 o1 hok
  refine m_jn (m_tryN (t := Int32.ofNat g.now) (out := (g.so 1).breath) hS hnow o0 o1 hok hn h39 (fun S1 hT hS1 => ?_) n 0 S (Nat.zero_le _) (by omega) Sam.rf hS h39)
  have hS1 : IMk 1 S1 (tH g) := hS1
  have en := f1.1.1
  refine m_jn (m_leaks hS1 (by rw [en]; exact s0) (by rw [en]; exact s1) (by rw [en]; exact hnow) hn (fun S2 A2 hS2 => ?_))
  have hS2 : IMk 1 S2 (tI (tH g)) := hS2
  generalize tI (tH g) = k at *
  have hN := hS2.2.2.2.2.2.2.1
  have n0 := hN.1
  refine m_bnd (m_getI (by decide) (m_bnd (m_putI (by decide) (m_pur ?_))))
  rw [n0, i_add1]
  have h0 : IMk 0 (S2.si 0 (Int32.ofNat (k.now + 1))) (k.set_now (k.now + 1)) := hS2.num (Sam.rf.si (by decide)) ⟨(by simp only [Dt.st_now, Dt.st_told, Dt.st_stk, Dt.st_troom, Dt.st_thas, Dt.st_so, Dt.st_trips, Dt.st_papers, Dt.st_places, Dt.st_rules, Dt.st_tape, Dt.st_fault, Dt.st_blew, Dt.st_taken, Dt.st_sold, Dt.st_unsold, Dt.st_made, Dt.st_vented, Dt.st_drunk, Dt.st_noRoom, Dt.st_coins, Dt.st_stored, Dt.st_water, Dt.st_running]), (by simp only [Dt.st_now, Dt.st_told, Dt.st_stk, Dt.st_troom, Dt.st_thas, Dt.st_so, Dt.st_trips, Dt.st_papers, Dt.st_places, Dt.st_rules, Dt.st_tape, Dt.st_fault, Dt.st_blew, Dt.st_taken, Dt.st_sold, Dt.st_unsold, Dt.st_made, Dt.st_vented, Dt.st_drunk, Dt.st_noRoom, Dt.st_coins, Dt.st_stored, Dt.st_water, Dt.st_running]), (by simp only [Dt.st_now, Dt.st_told, Dt.st_stk, Dt.st_troom, Dt.st_thas, Dt.st_so, Dt.st_trips, Dt.st_papers, Dt.st_places, Dt.st_rules, Dt.st_tape, Dt.st_fault, Dt.st_blew, Dt.st_taken, Dt.st_sold, Dt.st_unsold, Dt.st_made, Dt.st_vented, Dt.st_drunk, Dt.st_noRoom, Dt.st_coins, Dt.st_stored, Dt.st_water, Dt.st_running]), (by simp only [Dt.st_now, Dt.st_told, Dt.st_stk, Dt.st_troom, Dt.st_thas, Dt.st_so, Dt.st_trips, Dt.st_papers, Dt.st_places, Dt.st_rules, Dt.st_tape, Dt.st_fault, Dt.st_blew, Dt.st_taken, Dt.st_sold, Dt.st_unsold, Dt.st_made, Dt.st_vented, Dt.st_drunk, Dt.st_noRoom, Dt.st_coins, Dt.st_stored, Dt.st_water, Dt.st_running]), (by simp only [Dt.st_now, Dt.st_told, Dt.st_stk, Dt.st_troom, Dt.st_thas, Dt.st_so, Dt.st_trips, Dt.st_papers, Dt.st_places, Dt.st_rules, Dt.st_tape, Dt.st_fault, Dt.st_blew, Dt.st_taken, Dt.st_sold, Dt.st_unsold, Dt.st_made, Dt.st_vented, Dt.st_drunk, Dt.st_noRoom, Dt.st_coins, Dt.st_stored, Dt.st_water, Dt.st_running]), (by simp only [Dt.st_now, Dt.st_told, Dt.st_stk, Dt.st_troom, Dt.st_thas, Dt.st_so, Dt.st_trips, Dt.st_papers, Dt.st_places, Dt.st_rules, Dt.st_tape, Dt.st_fault, Dt.st_blew, Dt.st_taken, Dt.st_sold, Dt.st_unsold, Dt.st_made, Dt.st_vented, Dt.st_drunk, Dt.st_noRoom, Dt.st_coins, Dt.st_stored, Dt.st_water, Dt.st_running]), (by simp only [Dt.st_now, Dt.st_told, Dt.st_stk, Dt.st_troom, Dt.st_thas, Dt.st_so, Dt.st_trips, Dt.st_papers, Dt.st_places, Dt.st_rules, Dt.st_tape, Dt.st_fault, Dt.st_blew, Dt.st_taken, Dt.st_sold, Dt.st_unsold, Dt.st_made, Dt.st_vented, Dt.st_drunk, Dt.st_noRoom, Dt.st_coins, Dt.st_stored, Dt.st_water, Dt.st_running])⟩ (by simp only [Dt.st_now, Nat.add_zero]) (hN.i0 (v := k.now + 1))
  exact hq _ h0
theorem m_ten {n : Nat} {Q : Unit → MS → Prop} (hS : IM S d) (hD : ID d) (hn : 9100 ≤ n) (hq : ∀ S', IM S' (tenD d) → Q () S') : wm x (f_X4_ten n (x + 28)) S Q := by
  have hnow := hD.1
  have n0 := hS.2.2.2.2.2.2.1.1
  have n19 := hS.2.2.2.2.2.2.1.2.2.1
  have g0 := (hS.2.2.1.at (k := 0) (by decide)).2.2.2.1
  have g1 := (hS.2.2.1.at (k := 1) (by decide)).2.2.2.1
  have p0 := hD.so (k := 0) (by decide)
  have p1 := hD.so (k := 1) (by decide)
  have pn0 := p0.nn
  have pn1 := p1.nn
  have m0 : (d.so 0).grams.toInt ≤ 1000000 := Int.le_trans p0.2.2.1 p0.2.2.2.1
  have m1 : (d.so 1).grams.toInt ≤ 1000000 := Int.le_trans p1.2.2.1 p1.2.2.2.1
  obtain ⟨e3, e3s, e3t⟩ := t3_f d
  obtain ⟨e5, e5s, e5t, -⟩ := t5_f d
  obtain ⟨e6, e6s, e6t, -⟩ := t6_f d
  obtain ⟨e7, e7s, e7t, -⟩ := t7_f d
  obtain ⟨⟨k1, k2⟩, ⟨k3, k4⟩, k5⟩ := t3_ok hD
  obtain ⟨⟨q1, q2⟩, ⟨q3, q4⟩, q5⟩ := tS_ok hD
  obtain ⟨o70, o71⟩ := t7_ok hD
  have br := t7_br d
  unfold f_X4_ten
  refine m_bnd (m_getI (by decide) ?_)
  rw [n0]
  refine m_bnd (m_gd (m_nt (m_inForce hS.2.2.2.2.2.2.2 (by omega) ?_)))
  refine m_bnd (m_getI (by decide) (m_bnd (m_getI (by decide) (m_bnd (m_getRt rfl (m_bnd (m_ldIt (i := 0) rfl (by decide) (m_bnd (m_getRt rfl (m_bnd (m_ldIt (i := 1) rfl (by decide) (m_bnd (m_getI (by decide) (m_bnd (m_gd (m_nt (m_runs hS.2.1 (by omega) ?_)))))))))))))))))
  rw [n0, g0, g1, n19]
  refine m_bnd (m_gd (m_nt (m_asks hS hn (by omega) (Or.inr rfl) (fun S1 o1 => ?_))))
  rw [l_add (by omega) (by omega)]
  rw [show anyA (asks (ruA d.rules (Int32.ofNat d.now)).stm 7) (hereA d.told d.now ((d.so 0).grams.toInt64 + (d.so 1).grams.toInt64) d.thas.toInt64 (runsD d.stk).toInt64) = tSell d from rfl]
  have hS1 := o1.im hS
  refine m_bnd (m_getI (by decide) (m_jn ?_))
  rw [hS1.2.2.2.2.2.2.1.1]
  refine m_tnA hS1 hnow hn (fun S2 hS2 => ?_)
  refine m_tnC hS2 hn (fun S3 hS3 => ?_)
  have hS3 : IMk 1 S3 (t3 d) := hS3
  refine m_tnW hS3 hn (fun S4 hS4 h44 h45 => ?_)
  -- the data at hand
  have eE : ∀ E : Dt, E = (t3 d).set_blew ((t3 d).blew + (tW (t3 d)).toInt64) → (E.now = d.now ∧ E.rules = d.rules) ∧ (E.stk = (t3 d).stk ∧ E.thas = (t3 d).thas) ∧ E.made = (t3 d).made ∧ E.taken = (t3 d).taken := fun E hE => by
    rw [hE]
    simp only [Dt.st_blew]
    exact ⟨⟨e3.1.1, e3.1.2.2.2.2.2.1⟩, ⟨trivial, trivial⟩, trivial, trivial⟩
  obtain ⟨E, hE⟩ : ∃ E, E = (t3 d).set_blew ((t3 d).blew + (tW (t3 d)).toInt64) := ⟨_, rfl⟩
  obtain ⟨⟨En, Er⟩, ⟨Es, Eh⟩, Em, Et⟩ := eE E hE
  rw [← hE] at hS4
  rw [show fcd (frcA d.rules (Int32.ofNat d.now)) = fcd (frcA E.rules (Int32.ofNat E.now)) from by rw [Er, En]]
  refine m_tnD hS4 (by rw [En]; exact hnow) (by rw [Er, En]; exact lawA_01 hD _) (by rw [Es]; exact k2) (by rw [Eh]; exact k3) k5 h44 h45 hn (fun R hR S5 hS5 g44 g45 => ?_)
  have hRS : R = tS (t3 d) := by
    rw [hR, Es, Er, En, Eh]
    unfold tS
    rw [e3.1.2.2.2.2.2.1, e3.1.1]
  refine m_tnK (bl := tW (t3 d)) (left := R.2.2.2.2) hS5 (fun S6 hS6 i6 => ?_)
  have hS6' : IMk 1 S6 (t5 d) := by
    have key : (((E.set_stk R.1).set_thas R.2.1).set_made (E.made + R.2.2.1.toInt64)).set_taken ((((E.set_stk R.1).set_thas R.2.1).set_made (E.made + R.2.2.1.toInt64)).taken + (tW (t3 d) - R.2.2.2.2).toInt64) = t5 d := by
      have ek : (((E.set_stk R.1).set_thas R.2.1).set_made (E.made + R.2.2.1.toInt64)).taken = E.taken := by simp only [Dt.st_stk, Dt.st_thas, Dt.st_made]
      rw [ek, Em, Et, hE, t5_eq (t3 d) R (tW (t3 d)), hRS]
      rfl
    rw [key] at hS6
    exact hS6
  have h644 : S6.i 44 = (tS (t3 d)).2.2.1 := by rw [i6, g44, hRS]
  have h645 : S6.i 45 = (tS (t3 d)).2.2.2.1 := by rw [i6, g45, hRS]
  rw [hRS]
  refine m_tnF hS6' (by rw [e5.1.1, e5s]; exact p0) (by rw [e5.1.1, e5s]; exact p1) (by rw [e5.1.1]; exact hnow) q5 h644 h645 (fun S7 hS7 => ?_)
  have hS7 : IMk 1 S7 (t6 d) := hS7
  have hR7 : RU S7 d.rules := by rw [← e6.1.2.2.2.2.2.1]; exact hS7.2.2.2.2.2.2.2
  have br6 : ((t6 d).so 1).breath = ((t7 d).so 1).breath := by rw [e7s]
  have fin : ∀ goes : Int32, goes = tGo d (tS (t3 d)).2.2.2.2 → ∀ (F : Act Unit), (∀ S', IMk 1 S' (t7 d) → S'.i 39 = ((t7 d).so 1).breath → wm x F S' Q) → wm x (bnd (getR 4 17 (x + 28)) fun v30 => bnd (ldL 1 v30 2) fun v31 => bnd (stL 1 v30 2 (v31 + goes.toInt64)) fun _ => bnd (getR 4 17 (x + 28)) fun v32 => bnd (ldL 1 v32 3) fun v33 => bnd (stL 1 v32 3 (v33 + (((tS (t3 d)).2.2.2.2 - goes).toInt64))) fun _ => bnd (getR 4 17 (x + 28)) fun v34 => bnd (ldL 1 v34 12) fun v35 => bnd (getI 4 0 (x + 28)) fun v36 => bnd (gd 4 (x + 28) (nt (f_X4_saidOf n (x + 28) (1 : Int32) v36))) fun v37 => bnd (stL 1 v34 12 (v35 + (goes.toInt64 * v37.toInt64))) fun _ => bnd (getR 4 22 (x + 28)) fun v38 => bnd (ldI 0 v38 1) fun v39 => bnd (putI 4 39 (x + 28) v39) fun _ => F) S7 Q := fun goes hgo F hF => by
    refine m_tnG hS7 hn (fun S8 hS8 h39 => hF S8 ?_ (by rw [h39, br6]))
    rw [hgo] at hS8
    exact hS8
  have last : ∀ S', IMk 1 S' (t7 d) → S'.i 39 = ((t7 d).so 1).breath → wm x (jn (fun (_ : Unit) => jn (fun (_ : Unit) => bnd (getI 4 0 (x + 28)) fun v42 => bnd (putI 4 0 (x + 28) (v42 + 1)) fun _ => pur ()) fun j460 => lp_X4_ten_389 n (x + 28) j460 n 0) fun j386 => lp_X4_ten_359 n (x + 28) (fcd (frcA E.rules (Int32.ofNat E.now))) j386 n 0) S' Q := fun S' hS' h39 => by
    have en := e7.1.1
    rw [show fcd (frcA E.rules (Int32.ofNat E.now)) = fcd (frcA (t7 d).rules (Int32.ofNat (t7 d).now)) from by rw [Er, En, e7.1.2.2.2.2.2.1, en]]
    exact m_tnH hS' (by rw [en]; exact hnow) (by rw [en]; exact o70) (by rw [en]; exact o71) (by rw [en, e7t]; exact hD.2.2.2.2.2.1.2) h39 hn hq
  refine m_jn (m_ite (fun z => ?_) (fun z => ?_))
  · refine fin 0 ?_ _ last
    unfold tGo
    rw [if_neg (bzf z)]
  · rw [Er, En]
    refine m_bnd (m_gd (m_nt (m_tells (w := 4) hR7 (by omega) (by decide) ?_)))
    rw [← Er, ← En]
    refine fin _ ?_ _ last
    unfold tGo
    rw [if_pos (bzt z), Er, En]
end
