set_option maxRecDepth 100000
/-! ===== a ten: the data stay within bounds ===== -/
/-- what a ten doesn't change -/
def Fr0 (d e : Dt) : Prop := (e.now = d.now ∧ e.told = d.told ∧ e.troom = d.troom ∧ e.papers = d.papers ∧ e.places = d.places ∧ e.rules = d.rules ∧ e.tape = d.tape) ∧ e.trips.length = d.trips.length
theorem Fr0.rf {d : Dt} : Fr0 d d := ⟨⟨rfl, rfl, rfl, rfl, rfl, rfl, rfl⟩, rfl⟩
theorem Fr0.tr {d e f : Dt} (h : Fr0 d e) (h2 : Fr0 e f) : Fr0 d f := by
  obtain ⟨⟨a1, a2, a3, a4, a5, a6, a7⟩, a8⟩ := h
  obtain ⟨⟨b1, b2, b3, b4, b5, b6, b7⟩, b8⟩ := h2
  exact ⟨⟨b1.trans a1, b2.trans a2, b3.trans a3, b4.trans a4, b5.trans a5, b6.trans a6, b7.trans a7⟩, b8.trans a8⟩
theorem tA_f (d : Dt) : Fr0 d (tA d) ∧ (tA d).stk = d.stk ∧ (tA d).thas = d.thas ∧ (tA d).so = d.so ∧ (tA d).trips = d.trips := by
  unfold tA
  by_cases c : d.now % 6 = 5
  · rw [if_pos c]
    simp only [Fr0, Dt.st_stored, Dt.st_water, Dt.st_running, and_self]
  · rw [if_neg c]; exact ⟨Fr0.rf, rfl, rfl, rfl, rfl⟩
theorem tB_f (d : Dt) : Fr0 d (tB d) ∧ (tB d).thas = d.thas ∧ (tB d).so = d.so ∧ (tB d).trips = d.trips := by
  unfold tB
  simp only [Fr0, Dt.st_stk, and_self]
theorem tC_f (d : Dt) : Fr0 d (tC d) ∧ (tC d).stk = d.stk ∧ (tC d).so = d.so ∧ (tC d).trips = d.trips := by
  unfold tC
  simp only [Fr0, Dt.st_thas, Dt.st_noRoom, and_self]
theorem t3_f (d : Dt) : Fr0 d (t3 d) ∧ (t3 d).so = d.so ∧ (t3 d).trips = d.trips := by
  obtain ⟨a1, a2, a3, a4, a5⟩ := tA_f d
  obtain ⟨b1, b2, b3, b4⟩ := tB_f (tA d)
  obtain ⟨c1, c2, c3, c4⟩ := tC_f (tB (tA d))
  exact ⟨a1.tr (b1.tr c1), c3.trans (b3.trans a4), c4.trans (b4.trans a5)⟩
theorem tB_sk {d : Dt} (h : ∀ s ∈ d.stk, skOk s) : (tB d).stk.length = d.stk.length ∧ ∀ s ∈ (tB d).stk, skOk s := by
  unfold tB
  simp only [Dt.st_stk]
  by_cases c : d.now % 144 = 0
  · rw [if_pos c]
    refine ⟨List.length_map _, fun s hs => ?_⟩
    obtain ⟨s', h1, rfl⟩ := List.mem_map.mp hs
    exact h s' h1
  · rw [if_neg c]; exact ⟨rfl, h⟩
theorem tWet_i {d : Dt} (hr : 0 ≤ (say (d.told 2) (Int32.ofNat d.now)).toInt) (h0 : 0 ≤ d.thas.toInt) (h1 : d.thas.toInt ≤ d.troom.toInt) (h2 : d.troom.toInt ≤ 100000) : 0 ≤ (d.thas + tWet d).toInt ∧ (d.thas + tWet d).toInt ≤ d.troom.toInt := by
  have e : (d.troom - d.thas).toInt = d.troom.toInt - d.thas.toInt := toInt_sub' (by omega) (by omega)
  have w : 0 ≤ (tWet d).toInt ∧ (tWet d).toInt ≤ d.troom.toInt - d.thas.toInt := by
    unfold tWet
    rw [mn_i, e]
    split <;> omega
  rw [toInt_add' (by omega) (by omega)]
  omega
theorem say0 {d : Dt} (hD : ID d) (t : Int32) : 0 ≤ (say (d.told 0) t).toInt ∧ (say (d.told 0) t).toInt ≤ 2000 := say_b ⟨by decide, by decide⟩ (fun p hp => (hD.2.2.2.2.2.2.2.2.2.2 0 (by decide) p hp).1 rfl)
theorem say2 {d : Dt} (hD : ID d) (t : Int32) : 0 ≤ (say (d.told 2) t).toInt ∧ (say (d.told 2) t).toInt ≤ 100 := say_b ⟨by decide, by decide⟩ (fun p hp => (hD.2.2.2.2.2.2.2.2.2.2 2 (by decide) p hp).2.2 rfl)
theorem t3_ok {d : Dt} (hD : ID d) : ((t3 d).stk.length ≤ 4 ∧ ∀ s ∈ (t3 d).stk, skOk s) ∧ (0 ≤ (t3 d).thas.toInt ∧ (t3 d).thas.toInt ≤ d.troom.toInt) ∧ 0 ≤ (tW (t3 d)).toInt := by
  obtain ⟨a1, a2, a3, a4, a5⟩ := tA_f d
  obtain ⟨b1, b2, b3, b4⟩ := tB_f (tA d)
  obtain ⟨c1, c2, c3, c4⟩ := tC_f (tB (tA d))
  have f := t3_f d
  obtain ⟨k1, k2⟩ := tB_sk (d := tA d) (by rw [a2]; exact hD.2.2.1.2)
  have et : (tB (tA d)).thas = d.thas := b2.trans a3
  have er : (tB (tA d)).troom = d.troom := b1.1.2.2.1.trans a1.1.2.2.1
  have eo : (tB (tA d)).told = d.told := b1.1.2.1.trans a1.1.2.1
  refine ⟨⟨?_, ?_⟩, ?_, ?_⟩
  · show (tC (tB (tA d))).stk.length ≤ 4
    rw [c2, k1, a2]; exact hD.2.2.1.1
  · show ∀ s ∈ (tC (tB (tA d))).stk, skOk s
    rw [c2]; exact k2
  · have w := tWet_i (d := tB (tA d)) (by rw [eo]; exact (say2 hD _).1) (by rw [et]; exact hD.2.2.2.1.1) (by rw [et, er]; exact hD.2.2.2.1.2.1) (by rw [er]; exact hD.2.2.2.1.2.2)
    rw [er] at w
    have e2 : (t3 d).thas = (tB (tA d)).thas + tWet (tB (tA d)) := by
      show (tC (tB (tA d))).thas = _
      unfold tC
      simp only [Dt.st_thas, Dt.st_noRoom]
    rw [e2]; exact w
  · unfold tW
    rw [f.1.1.2.1]; exact (say0 hD _).1
theorem tD_f (d : Dt) : Fr0 d (tD d) ∧ (tD d).so = d.so ∧ (tD d).trips = d.trips ∧ (tD d).stk = (tS d).1 ∧ (tD d).thas = (tS d).2.1 := by
  unfold tD
  generalize tS d = R
  simp only [Fr0, Dt.st_stk, Dt.st_thas, and_self]
theorem tE_f (d : Dt) (a b c : Int32) : Fr0 d (tE d a b c) ∧ (tE d a b c).so = d.so ∧ (tE d a b c).trips = d.trips ∧ (tE d a b c).stk = d.stk ∧ (tE d a b c).thas = d.thas := by
  unfold tE
  simp only [Fr0, Dt.st_blew, Dt.st_taken, Dt.st_made, and_self]
theorem tFi_f (d : Dt) (a b : Int32) : Fr0 d (tFi d a b) ∧ (tFi d a b).so = (fil2 d.so d.now a b).1 ∧ (tFi d a b).trips = d.trips ∧ (tFi d a b).stk = d.stk ∧ (tFi d a b).thas = d.thas := by
  unfold tFi
  generalize fil2 d.so d.now a b = F
  simp only [Fr0, Dt.st_so, Dt.st_vented, and_self]
theorem tG_f (d : Dt) (a b : Int32) : Fr0 d (tG d a b) ∧ (tG d a b).so = d.so ∧ (tG d a b).trips = d.trips ∧ (tG d a b).stk = d.stk ∧ (tG d a b).thas = d.thas := by
  unfold tG
  simp only [Fr0, Dt.st_sold, Dt.st_coins, Dt.st_unsold, and_self]
theorem t5_f (d : Dt) : Fr0 d (t5 d) ∧ (t5 d).so = d.so ∧ (t5 d).trips = d.trips ∧ (t5 d).stk = (tS (t3 d)).1 ∧ (t5 d).thas = (tS (t3 d)).2.1 := by
  obtain ⟨a1, a2, a3⟩ := t3_f d
  obtain ⟨b1, b2, b3, b4, b5⟩ := tD_f (t3 d)
  unfold t5
  obtain ⟨c1, c2, c3, c4, c5⟩ := tE_f (tD (t3 d)) (tW (t3 d)) (tS (t3 d)).2.2.2.2 (tS (t3 d)).2.2.1
  exact ⟨a1.tr (b1.tr c1), c2.trans (b2.trans a2), c3.trans (b3.trans a3), c4.trans b4, c5.trans b5⟩
theorem t6_f (d : Dt) : Fr0 d (t6 d) ∧ (t6 d).so = (fil2 d.so d.now (tS (t3 d)).2.2.1 (tS (t3 d)).2.2.2.1).1 ∧ (t6 d).trips = d.trips ∧ (t6 d).stk = (tS (t3 d)).1 ∧ (t6 d).thas = (tS (t3 d)).2.1 := by
  obtain ⟨a1, a2, a3, a4, a5⟩ := t5_f d
  unfold t6
  obtain ⟨c1, c2, c3, c4, c5⟩ := tFi_f (t5 d) (tS (t3 d)).2.2.1 (tS (t3 d)).2.2.2.1
  rw [a2, a1.1.1] at c2
  exact ⟨a1.tr c1, c2, c3.trans a3, c4.trans a4, c5.trans a5⟩
theorem t7_f (d : Dt) : Fr0 d (t7 d) ∧ (t7 d).so = (t6 d).so ∧ (t7 d).trips = d.trips ∧ (t7 d).stk = (tS (t3 d)).1 ∧ (t7 d).thas = (tS (t3 d)).2.1 := by
  obtain ⟨a1, a2, a3, a4, a5⟩ := t6_f d
  unfold t7
  obtain ⟨c1, c2, c3, c4, c5⟩ := tG_f (t6 d) (tS (t3 d)).2.2.2.2 (tGo d (tS (t3 d)).2.2.2.2)
  exact ⟨a1.tr c1, c2, c3.trans a3, c4.trans a4, c5.trans a5⟩
theorem tS_ok {d : Dt} (hD : ID d) : ((tS (t3 d)).1.length ≤ 4 ∧ ∀ s ∈ (tS (t3 d)).1, skOk s) ∧ (0 ≤ (tS (t3 d)).2.1.toInt ∧ (tS (t3 d)).2.1.toInt ≤ d.troom.toInt) ∧ 0 ≤ (tS (t3 d)).2.2.1.toInt := by
  obtain ⟨⟨k1, k2⟩, ⟨k3, k4⟩, k5⟩ := t3_ok hD
  obtain ⟨⟨q1, q2⟩, ⟨q3, q4⟩, ⟨q5, q6⟩, q7⟩ := splD_ok (ru := ruA (t3 d).rules (Int32.ofNat (t3 d).now)) (blows := tW (t3 d)) k2 k1 k3 k5
  unfold tS
  exact ⟨⟨by rw [q1]; exact k1, q2⟩, ⟨q3, by omega⟩, q5⟩
theorem fil2_ok {so : Nat → So} {now : Nat} {gas foul : Int32} (o0 : soOk now (so 0)) (o1 : soOk now (so 1)) (hn : now ≤ 4999) (g0 : 0 ≤ gas.toInt) : soOk now ((fil2 so now gas foul).1 0) ∧ soOk now ((fil2 so now gas foul).1 1) := by
  obtain ⟨a1, a2, a3⟩ := filD_ok (foul := foul) (most := 1000000) o0 hn g0 (by decide)
  obtain ⟨b1, b2, b3⟩ := filD_ok (foul := (filD (so 0) (Int32.ofNat (now / 6)) gas foul 1000000).2.2) (most := (so 1).breath) o1 hn a2 o1.2.2.2.2.2.2.1
  exact ⟨a1, b1⟩
theorem soOk.up {now : Nat} {so : So} (h : soOk now so) : soOk (now + 1) so := by
  obtain ⟨⟨a1, a2⟩, a3⟩ := h
  exact ⟨⟨fun j hj => ⟨(a1 j hj).1, (a1 j hj).2.1, by have := (a1 j hj).2.2; omega⟩, a2⟩, a3⟩
theorem t7_ok {d : Dt} (hD : ID d) : soOk d.now ((t7 d).so 0) ∧ soOk d.now ((t7 d).so 1) := by
  obtain ⟨a1, a2, a3, a4, a5⟩ := t7_f d
  obtain ⟨b1, b2, b3, b4, b5⟩ := t6_f d
  rw [a2, b2]
  exact fil2_ok hD.2.2.2.2.1.1 hD.2.2.2.2.1.2 hD.1 (tS_ok hD).2.2
theorem tH_f {d : Dt} (hnow : d.now ≤ 4999) (o0 : soOk d.now (d.so 0)) (o1 : soOk d.now (d.so 1)) (hok : ∀ t ∈ d.trips, tpOk d.now t) : Frm d (tH d) ∧ (soOk d.now ((tH d).so 0) ∧ soOk d.now ((tH d).so 1)) ∧ ∀ t ∈ (tH d).trips, tpOk (d.now + 1) t := by
  obtain ⟨a1, a2, a3, a4⟩ := tryN_ok (out := (d.so 1).breath) (pty := lawA d.rules (Int32.ofNat d.now) 0) hnow o0 o1 hok d.trips.length (Nat.le_refl _)
  refine ⟨a1, a2, fun t ht => ?_⟩
  obtain ⟨j, hj, rfl⟩ := List.getElem_of_mem ht
  exact a4 j hj (by have := a1.2; have hj' : j < (tryN d (d.so 1).breath (lawA d.rules (Int32.ofNat d.now) 0) d.trips.length).1.trips.length := hj; omega)
/-- the frame of a whole ten -/
theorem ten_f {d : Dt} (hD : ID d) : Frm (t7 d) (tH (t7 d)) ∧ (soOk d.now ((tH (t7 d)).so 0) ∧ soOk d.now ((tH (t7 d)).so 1)) ∧ ∀ t ∈ (tH (t7 d)).trips, tpOk (d.now + 1) t := by
  obtain ⟨a1, a2, a3, a4, a5⟩ := t7_f d
  obtain ⟨o0, o1⟩ := t7_ok hD
  have en := a1.1.1
  have := tH_f (d := t7 d) (by rw [en]; exact hD.1) (by rw [en]; exact o0) (by rw [en]; exact o1) (by rw [en, a3]; exact hD.2.2.2.2.2.1.2)
  rw [en] at this
  exact this
theorem ten_ok {d : Dt} (hD : ID d) (h1 : d.now + 1 ≤ 4999) : ID (tenD d) ∧ (tenD d).now = d.now + 1 ∧ (tenD d).tape = d.tape ∧ (tenD d).trips = (tH (t7 d)).trips := by
  obtain ⟨a1, a2, a3, a4, a5⟩ := t7_f d
  obtain ⟨⟨⟨f1, f2, f3, f4, f5, f6, f7, f8, f9⟩, f10⟩, ⟨s0, s1⟩, ht⟩ := ten_f hD
  obtain ⟨⟨k1, k2⟩, ⟨k3, k4⟩, k5⟩ := tS_ok hD
  have e : tenD d = ((tH (t7 d)).set_so (lk2 (tH (t7 d)).so)).set_now ((tH (t7 d)).now + 1) := rfl
  have en : (tH (t7 d)).now = d.now := f1.trans a1.1.1
  rw [e]
  generalize tH (t7 d) = g at *
  have c : ID ((g.set_so (lk2 g.so)).set_now (g.now + 1)) := by
    refine ID.cmb hD (Or.inr ?_) (Or.inl ?_) (Or.inr ?_) (Or.inr ?_) (Or.inr ?_) (Or.inr ?_) (Or.inl ?_) (Or.inl ?_) (Or.inl ?_) (Or.inl ?_)
    all_goals simp only [Dt.st_so, Dt.st_now]
    · rw [en]; exact h1
    · exact f2.trans a1.1.2.1
    · rw [f3, a4]; exact ⟨k1, k2⟩
    · rw [f5, f4, a5, a1.1.2.2.1]
      exact ⟨k3, k4, hD.2.2.2.1.2.2⟩
    · rw [en]
      exact ⟨(lkD_ok s0).up, (lkD_ok s1).up⟩
    · rw [en]
      refine ⟨?_, ht⟩
      rw [f10, a3]; exact hD.2.2.2.2.2.1.1
    · exact ⟨f6.trans a1.1.2.2.2.1, by rw [f10, a3]; exact Nat.le_refl _⟩
    · exact f7.trans a1.1.2.2.2.2.1
    · exact f8.trans a1.1.2.2.2.2.2.1
    · exact f9.trans a1.1.2.2.2.2.2.2
  refine ⟨c, ?_, ?_, ?_⟩
  all_goals simp only [Dt.st_so, Dt.st_now]
  · rw [en]
  · exact f9.trans a1.1.2.2.2.2.2.2
