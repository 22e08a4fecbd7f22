set_option maxRecDepth 100000
theorem dry_c (t : Tp) (l : List Tp) : dry (t :: l) = (if t.how ≠ 1 then 1 else 0) + dry l := by
  unfold dry
  by_cases c : t.how ≠ 1
  · rw [if_pos c, List.filter_cons_of_pos (by simpa using c), List.length_cons]; omega
  · rw [if_neg c, List.filter_cons_of_neg (by simpa using c)]; omega
theorem dry_set {T : Tp} : ∀ (tp : List Tp) (a : Nat) (h : a < tp.length), dry (tp.set a T) + (if tp[a].how ≠ 1 then 1 else 0) = dry tp + (if T.how ≠ 1 then 1 else 0) := by
  intro tp
  induction tp with
  | nil => intro a h; exact absurd h (Nat.not_lt_zero _)
  | cons t l ih =>
    intro a h
    cases a with
    | zero =>
      rw [List.set_cons_zero, dry_c, dry_c]
      show _ + (if t.how ≠ 1 then 1 else 0) = _
      omega
    | succ a =>
      have h' : a < l.length := by simpa using h
      have := ih a h'
      rw [List.set_cons_succ, dry_c, dry_c]
      show _ + (if l[a].how ≠ 1 then 1 else 0) = _
      omega
theorem tpU_at {tp : List Tp} {a : Nat} {ss : List (Int32 × Int32)} {f : Int32} (ha : a < tp.length) (h : a < (tpU tp (some a) ss f).length) : (tpU tp (some a) ss f)[a]'h = (tp[a].set_sips (tp[a].sips ++ ss)).set_foul (tp[a].foul + f) := by
  have e : tpU tp (some a) ss f = tp.set a ((tp[a].set_sips (tp[a].sips ++ ss)).set_foul (tp[a].foul + f)) := by
    show tp.set a (((tp.getD a bareT).set_sips ((tp.getD a bareT).sips ++ ss)).set_foul ((tp.getD a bareT).foul + f)) = _
    rw [show tp.getD a bareT = tp[a] from tpA_at ha]
  simp only [e, List.getElem_set_self]
def trTi (t : Nat) : Prop := t = 1025 ∨ t = 1026 ∨ t = 388 ∨ t = 390 ∨ (900 ≤ t ∧ t ≤ 902)
/-- behind a trip's try -/
def TrF (x : Nat) (d d' : Dt) (M M' : Mem) : Prop := Ag trTi (fun t => t = 27) (fun _ => True) no M M' ∧ (M'.ls (x + 7) = M.ls (x + 7) ∧ M'.cap (x + 14) = M.cap (x + 14) ∧ M'.cap (x + 16) = M.cap (x + 16)) ∧ M'.n + 3400 * dry d'.trips ≤ M.n + 3400 * dry d.trips ∧ M'.sl + 40000 * dry d'.trips ≤ M.sl + 40000 * dry d.trips
section
variable {x : Nat} {M M1 M2 : Mem}
theorem TrF.rf {d : Dt} : TrF x d d M M := ⟨Ag.rf, ⟨rfl, rfl, rfl⟩, Nat.le_refl _, Nat.le_refl _⟩
theorem TrF.tr {d d1 d2 : Dt} (h : TrF x d d1 M M1) (h2 : TrF x d1 d2 M1 M2) : TrF x d d2 M M2 := by
  obtain ⟨a1, ⟨a2, a3, a4⟩, a5, a6⟩ := h
  obtain ⟨b1, ⟨b2, b3, b4⟩, b5, b6⟩ := h2
  exact ⟨a1.tr b1, ⟨b2.trans a2, b3.trans a3, b4.trans a4⟩, by omega, by omega⟩
theorem getE {l l' : List Nat} {i : Nat} {p : i < l.length} {p' : i < l'.length} (z : l' = l) : l'[i] = l[i] := by subst z; rfl
theorem x_tries {n a r : Nat} {out : Int32} {d : Dt} {ru : Ru} (hB : Bas x M) (hX : IX x M d) (o0 : soOk d.now (d.so 0)) (o1 : soOk d.now (d.so 1)) (hnow : d.now ≤ 4999) (hn : 9100 ≤ n) (ha : a < d.trips.length) (ha2 : a < (M.ls (x + 23)).length) (hok : tpOk d.now d.trips[a]) (hr : XR1 x M r ru) (hout : M.i 390 (x + 15) = out) {Q : Unit → Mem → Prop}
    (hq : ∀ M', Bas x M' → TrF x d (tryD d a out (tel ru.stm 0 1000)).1 M M' → IX x M' (tryD d a out (tel ru.stm 0 1000)).1 → M'.i 390 (x + 15) = (tryD d a out (tel ru.stm 0 1000)).2 → Q () M') : wp (f_X0_tries n x (M.ls (x + 23))[a] r) M Q := by
  have hL := hB.1
  have hg := hB.2.2.1
  have hfr := hB.2.1
  have top := hL.top
  obtain ⟨p1, p2, p3⟩ := hX.2.2.2.1
  obtain ⟨b1, b2, b3, b4, b5⟩ := p3 _ (List.getElem_mem ha2)
  have eT := map_get p1 ha ha2
  have ltc := hfr.le (c := (M.ls (x + 23))[a]) (by rw [b1]; decide)
  have ll2 := hfr.le (c := (M.ls (x + 23))[a] + 1) (by rw [b3]; decide)
  have n0 : M.i (128 * 0 + 0) x = Int32.ofNat d.now := hX.2.2.2.2.2.2.1.1
  have f0 : M.i (128 * 7 + 0) (M.ls (x + 23))[a] = d.trips[a].kind := by rw [← eT]; rfl
  have f1 : M.i (128 * 7 + 1) (M.ls (x + 23))[a] = d.trips[a].ten := by rw [← eT]; rfl
  have f2 : M.i (128 * 7 + 2) (M.ls (x + 23))[a] = d.trips[a].grams := by rw [← eT]; rfl
  have f4 : M.i (128 * 7 + 4) (M.ls (x + 23))[a] = d.trips[a].how := by rw [← eT]; rfl
  have g0 := (hX.2.2.1.at (k := 0) (by decide)).2.2.2.2.2.2.1
  have g1 := (hX.2.2.1.at (k := 1) (by decide)).2.2.2.2.2.2.1
  obtain ⟨t1, t2, t3, t4, t5, t6, t7, t8, t9, t10, t11, t12⟩ := hok
  obtain ⟨⟨i1, i2⟩, ⟨i3, i4⟩⟩ := tFR_i (d := d) o0.nn t4 t5
  have eA : tpA d.trips a = d.trips[a] := tpA_at ha
  unfold tryD at hq
  rw [eA] at hq
  unfold f_X0_tries
  refine w_bnd (w_getIv b1 f4 (w_jn (w_ite (fun c => ?_) (fun c => ?_))))
  · rw [if_neg (fun z => c z.1)] at hq
    exact w_pur (hq M hB TrF.rf hX hout)
  rw [Decidable.not_not] at c
  refine w_bnd (w_getIv hL.k0 n0 (w_bnd (w_getIv b1 f1 ?_)))
  by_cases c2 : ¬ d.trips[a].ten ≤ Int32.ofNat d.now
  · rw [if_neg (fun z => c2 z.2)] at hq
    exact w_f c2 (w_pur (hq M hB TrF.rf hX hout))
  rw [Decidable.not_not] at c2
  rw [if_pos ⟨c, c2⟩] at hq
  refine w_t c2 ?_
  refine w_bnd (w_getIv b1 f2 (w_bnd (w_getR0 hL rfl rfl rfl (w_bnd (w_getIv hL.k13 g0 (w_bnd (w_getIv b1 f2 (w_bnd (w_getR0 hL rfl rfl rfl (w_bnd (w_getIv hL.k15 g1 (w_bnd (w_getR0 hL rfl rfl rfl (w_bnd (w_getIv hL.k15 hout (w_jn ?_))))))))))))))))
  rw [show mn d.trips[a].grams (d.so 0).grams = tF d d.trips[a] from rfl, show d.trips[a].grams - tF d d.trips[a] = tR d d.trips[a] from rfl]
  -- it may not
  have no_ : ¬ tryOk d d.trips[a] out (tel ru.stm 0 1000) → wp (bnd (getI 0 0 x) fun v12 => bnd (gd 7 (M.ls (x + 23))[a] (nt (f_X7_last (M.ls (x + 23))[a]))) fun v13 => jn (fun (_ : Unit) => (fun (_ : Unit) => pur ()) ()) fun j189 => if v12 < v13 then j189 () else bnd (putI 7 4 (M.ls (x + 23))[a] 2) fun _ => j189 ()) M Q := fun hno => by
    rw [if_neg hno] at hq
    refine w_bnd (w_getIv hL.k0 n0 (w_bnd (w_gd b1 (w_nt ?_))))
    unfold f_X7_last
    have rest : wp (jn (fun (_ : Unit) => (fun (_ : Unit) => pur ()) ()) fun j189 => if Int32.ofNat d.now < lastT d.trips[a] then j189 () else bnd (putI 7 4 (M.ls (x + 23))[a] 2) fun _ => j189 ()) M Q := by
      refine w_jn (w_ite (fun z => ?_) (fun z => ?_))
      · rw [if_pos z] at hq
        exact w_pur (hq M hB TrF.rf hX hout)
      · rw [if_neg z] at hq
        refine w_bnd (w_putI b1 (w_pur ?_))
        have fa : Ag (fun t => t = 900) no no no M (M.seti (128 * 7 + 4) (M.ls (x + 23))[a] 2) := Ag.rf.i (Or.inl rfl)
        have fi : ∀ t c, ¬ (t = 900 ∧ c = (M.ls (x + 23))[a]) → (M.seti (128 * 7 + 4) (M.ls (x + 23))[a] 2).i t c = M.i t c := fun t c h => if_neg h
        have fT : rdTp (M.seti (128 * 7 + 4) (M.ls (x + 23))[a] 2) (M.ls (x + 23))[a] = d.trips[a].set_how 2 := by
          rw [← eT]
          unfold rdTp
          simp only [seti_at, Nat.reduceMul, Nat.reduceAdd, Nat.reduceEqDiff, false_and, true_and, and_true, if_true, if_false]
          have : (M.seti (128 * 7 + 4) (M.ls (x + 23))[a] 2).ls = M.ls := rfl
          have e2 : rdSp (M.seti (128 * 7 + 4) (M.ls (x + 23))[a] 2) = rdSp M := by
            funext c
            unfold rdSp
            rw [fi _ _ (by omega), fi _ _ (by omega)]
          rw [show M.seti 900 (M.ls (x + 23))[a] 2 = M.seti (128 * 7 + 4) (M.ls (x + 23))[a] 2 from rfl, this, e2]
          rfl
        have ff : (M.seti (128 * 7 + 4) (M.ls (x + 23))[a] 2).k = M.k ∧ (M.seti (128 * 7 + 4) (M.ls (x + 23))[a] 2).ls = M.ls ∧ (M.seti (128 * 7 + 4) (M.ls (x + 23))[a] 2).cap = M.cap ∧ (M.seti (128 * 7 + 4) (M.ls (x + 23))[a] 2).n = M.n ∧ (M.seti (128 * 7 + 4) (M.ls (x + 23))[a] 2).sl = M.sl := ⟨rfl, rfl, rfl, rfl, rfl⟩
        revert fa fi fT ff
        generalize M.seti (128 * 7 + 4) (M.ls (x + 23))[a] 2 = M1
        intro fa fi fT ff
        obtain ⟨q1, q2, q3, q4, q5⟩ := ff
        have hB1 : Bas x M1 := ⟨fa.lay hL (fun t z => by omega), hfr.same q1 q4, hg.same q1 q2 q3, hB.2.2.2.ag hfr fa⟩
        have dr := dry_set (T := d.trips[a].set_how 2) d.trips a ha
        have e1 : (if d.trips[a].how ≠ 1 then 1 else 0) = 1 := if_pos (by rw [c]; decide)
        have e2 : (if (d.trips[a].set_how 2).how ≠ 1 then 1 else 0) = 1 := if_pos (by show (2 : Int32) ≠ 1; decide)
        rw [e1, e2] at dr
        have dr2 : dry (d.set_trips (d.trips.set a (d.trips[a].set_how 2))).trips = dry d.trips := by
          simp only [Dt.st_trips]; omega
        refine hq M1 hB1 ⟨fa.mono (fun t z => by unfold trTi; omega) (fun _ z => z.elim) (fun _ z => z.elim) (fun _ z => z), ⟨by rw [q2], by rw [q3], by rw [q3]⟩, by rw [dr2, q4]; exact Nat.le_refl _, by rw [dr2, q5]; exact Nat.le_refl _⟩ ?_ ?_
        · refine hX.cmb hB fa (Or.inl ⟨(by simp only [Dt.st_now, Dt.st_told, Dt.st_stk, Dt.st_troom, Dt.st_thas, Dt.st_so, Dt.st_trips, Dt.st_papers, Dt.st_places, Dt.st_rules, Dt.st_tape, Dt.st_fault, Dt.st_blew, Dt.st_taken, Dt.st_sold, Dt.st_unsold, Dt.st_made, Dt.st_vented, Dt.st_drunk, Dt.st_noRoom, Dt.st_coins, Dt.st_stored, Dt.st_water, Dt.st_running]), fun t z => (by first | exact trivial | exact z.elim | omega | (unfold tkTi at z; omega) | (unfold goA at z; omega)), fun t z => (by first | exact trivial | exact z.elim | omega | (unfold tkTi at z; omega) | (unfold goA at z; omega)), fun c z => (by first | exact trivial | exact z.elim | omega | (unfold tkTi at z; omega) | (unfold goA at z; omega)), fun c z => (by first | exact trivial | exact z.elim | omega | (unfold tkTi at z; omega) | (unfold goA at z; omega))⟩) (Or.inl ⟨(by simp only [Dt.st_now, Dt.st_told, Dt.st_stk, Dt.st_troom, Dt.st_thas, Dt.st_so, Dt.st_trips, Dt.st_papers, Dt.st_places, Dt.st_rules, Dt.st_tape, Dt.st_fault, Dt.st_blew, Dt.st_taken, Dt.st_sold, Dt.st_unsold, Dt.st_made, Dt.st_vented, Dt.st_drunk, Dt.st_noRoom, Dt.st_coins, Dt.st_stored, Dt.st_water, Dt.st_running]), fun t z => (by first | exact trivial | exact z.elim | omega | (unfold tkTi at z; omega) | (unfold goA at z; omega)), fun t z => (by first | exact trivial | exact z.elim | omega | (unfold tkTi at z; omega) | (unfold goA at z; omega)), fun c z => (by first | exact trivial | exact z.elim | omega | (unfold tkTi at z; omega) | (unfold goA at z; omega)), fun c z => (by first | exact trivial | exact z.elim | omega | (unfold tkTi at z; omega) | (unfold goA at z; omega))⟩) (Or.inl ⟨(by simp only [Dt.st_now, Dt.st_told, Dt.st_stk, Dt.st_troom, Dt.st_thas, Dt.st_so, Dt.st_trips, Dt.st_papers, Dt.st_places, Dt.st_rules, Dt.st_tape, Dt.st_fault, Dt.st_blew, Dt.st_taken, Dt.st_sold, Dt.st_unsold, Dt.st_made, Dt.st_vented, Dt.st_drunk, Dt.st_noRoom, Dt.st_coins, Dt.st_stored, Dt.st_water, Dt.st_running]), fun t z => (by first | exact trivial | exact z.elim | omega | (unfold tkTi at z; omega) | (unfold goA at z; omega)), fun t z => (by first | exact trivial | exact z.elim | omega | (unfold tkTi at z; omega) | (unfold goA at z; omega)), fun c z => (by first | exact trivial | exact z.elim | omega | (unfold tkTi at z; omega) | (unfold goA at z; omega)), fun c z => (by first | exact trivial | exact z.elim | omega | (unfold tkTi at z; omega) | (unfold goA at z; omega))⟩) (Or.inr ?_) (Or.inl ⟨(by simp only [Dt.st_now, Dt.st_told, Dt.st_stk, Dt.st_troom, Dt.st_thas, Dt.st_so, Dt.st_trips, Dt.st_papers, Dt.st_places, Dt.st_rules, Dt.st_tape, Dt.st_fault, Dt.st_blew, Dt.st_taken, Dt.st_sold, Dt.st_unsold, Dt.st_made, Dt.st_vented, Dt.st_drunk, Dt.st_noRoom, Dt.st_coins, Dt.st_stored, Dt.st_water, Dt.st_running]), fun t z => (by first | exact trivial | exact z.elim | omega | (unfold tkTi at z; omega) | (unfold goA at z; omega)), fun t z => (by first | exact trivial | exact z.elim | omega | (unfold tkTi at z; omega) | (unfold goA at z; omega)), fun c z => (by first | exact trivial | exact z.elim | omega | (unfold tkTi at z; omega) | (unfold goA at z; omega)), fun c z => (by first | exact trivial | exact z.elim | omega | (unfold tkTi at z; omega) | (unfold goA at z; omega))⟩) (Or.inl ⟨(by simp only [Dt.st_now, Dt.st_told, Dt.st_stk, Dt.st_troom, Dt.st_thas, Dt.st_so, Dt.st_trips, Dt.st_papers, Dt.st_places, Dt.st_rules, Dt.st_tape, Dt.st_fault, Dt.st_blew, Dt.st_taken, Dt.st_sold, Dt.st_unsold, Dt.st_made, Dt.st_vented, Dt.st_drunk, Dt.st_noRoom, Dt.st_coins, Dt.st_stored, Dt.st_water, Dt.st_running]), fun t z => (by first | exact trivial | exact z.elim | omega | (unfold tkTi at z; omega) | (unfold goA at z; omega)), fun t z => (by first | exact trivial | exact z.elim | omega | (unfold tkTi at z; omega) | (unfold goA at z; omega)), fun c z => (by first | exact trivial | exact z.elim | omega | (unfold tkTi at z; omega) | (unfold goA at z; omega)), fun c z => (by first | exact trivial | exact z.elim | omega | (unfold tkTi at z; omega) | (unfold goA at z; omega))⟩) (Or.inl ⟨⟨⟨(by simp only [Dt.st_now, Dt.st_told, Dt.st_stk, Dt.st_troom, Dt.st_thas, Dt.st_so, Dt.st_trips, Dt.st_papers, Dt.st_places, Dt.st_rules, Dt.st_tape, Dt.st_fault, Dt.st_blew, Dt.st_taken, Dt.st_sold, Dt.st_unsold, Dt.st_made, Dt.st_vented, Dt.st_drunk, Dt.st_noRoom, Dt.st_coins, Dt.st_stored, Dt.st_water, Dt.st_running]), (by simp only [Dt.st_now, Dt.st_told, Dt.st_stk, Dt.st_troom, Dt.st_thas, Dt.st_so, Dt.st_trips, Dt.st_papers, Dt.st_places, Dt.st_rules, Dt.st_tape, Dt.st_fault, Dt.st_blew, Dt.st_taken, Dt.st_sold, Dt.st_unsold, Dt.st_made, Dt.st_vented, Dt.st_drunk, Dt.st_noRoom, Dt.st_coins, Dt.st_stored, Dt.st_water, Dt.st_running]), (by simp only [Dt.st_now, Dt.st_told, Dt.st_stk, Dt.st_troom, Dt.st_thas, Dt.st_so, Dt.st_trips, Dt.st_papers, Dt.st_places, Dt.st_rules, Dt.st_tape, Dt.st_fault, Dt.st_blew, Dt.st_taken, Dt.st_sold, Dt.st_unsold, Dt.st_made, Dt.st_vented, Dt.st_drunk, Dt.st_noRoom, Dt.st_coins, Dt.st_stored, Dt.st_water, Dt.st_running])⟩, ⟨(by simp only [Dt.st_now, Dt.st_told, Dt.st_stk, Dt.st_troom, Dt.st_thas, Dt.st_so, Dt.st_trips, Dt.st_papers, Dt.st_places, Dt.st_rules, Dt.st_tape, Dt.st_fault, Dt.st_blew, Dt.st_taken, Dt.st_sold, Dt.st_unsold, Dt.st_made, Dt.st_vented, Dt.st_drunk, Dt.st_noRoom, Dt.st_coins, Dt.st_stored, Dt.st_water, Dt.st_running]), (by simp only [Dt.st_now, Dt.st_told, Dt.st_stk, Dt.st_troom, Dt.st_thas, Dt.st_so, Dt.st_trips, Dt.st_papers, Dt.st_places, Dt.st_rules, Dt.st_tape, Dt.st_fault, Dt.st_blew, Dt.st_taken, Dt.st_sold, Dt.st_unsold, Dt.st_made, Dt.st_vented, Dt.st_drunk, Dt.st_noRoom, Dt.st_coins, Dt.st_stored, Dt.st_water, Dt.st_running]), (by simp only [Dt.st_now, Dt.st_told, Dt.st_stk, Dt.st_troom, Dt.st_thas, Dt.st_so, Dt.st_trips, Dt.st_papers, Dt.st_places, Dt.st_rules, Dt.st_tape, Dt.st_fault, Dt.st_blew, Dt.st_taken, Dt.st_sold, Dt.st_unsold, Dt.st_made, Dt.st_vented, Dt.st_drunk, Dt.st_noRoom, Dt.st_coins, Dt.st_stored, Dt.st_water, Dt.st_running]), (by simp only [Dt.st_now, Dt.st_told, Dt.st_stk, Dt.st_troom, Dt.st_thas, Dt.st_so, Dt.st_trips, Dt.st_papers, Dt.st_places, Dt.st_rules, Dt.st_tape, Dt.st_fault, Dt.st_blew, Dt.st_taken, Dt.st_sold, Dt.st_unsold, Dt.st_made, Dt.st_vented, Dt.st_drunk, Dt.st_noRoom, Dt.st_coins, Dt.st_stored, Dt.st_water, Dt.st_running]), (by simp only [Dt.st_now, Dt.st_told, Dt.st_stk, Dt.st_troom, Dt.st_thas, Dt.st_so, Dt.st_trips, Dt.st_papers, Dt.st_places, Dt.st_rules, Dt.st_tape, Dt.st_fault, Dt.st_blew, Dt.st_taken, Dt.st_sold, Dt.st_unsold, Dt.st_made, Dt.st_vented, Dt.st_drunk, Dt.st_noRoom, Dt.st_coins, Dt.st_stored, Dt.st_water, Dt.st_running]), (by simp only [Dt.st_now, Dt.st_told, Dt.st_stk, Dt.st_troom, Dt.st_thas, Dt.st_so, Dt.st_trips, Dt.st_papers, Dt.st_places, Dt.st_rules, Dt.st_tape, Dt.st_fault, Dt.st_blew, Dt.st_taken, Dt.st_sold, Dt.st_unsold, Dt.st_made, Dt.st_vented, Dt.st_drunk, Dt.st_noRoom, Dt.st_coins, Dt.st_stored, Dt.st_water, Dt.st_running]), (by simp only [Dt.st_now, Dt.st_told, Dt.st_stk, Dt.st_troom, Dt.st_thas, Dt.st_so, Dt.st_trips, Dt.st_papers, Dt.st_places, Dt.st_rules, Dt.st_tape, Dt.st_fault, Dt.st_blew, Dt.st_taken, Dt.st_sold, Dt.st_unsold, Dt.st_made, Dt.st_vented, Dt.st_drunk, Dt.st_noRoom, Dt.st_coins, Dt.st_stored, Dt.st_water, Dt.st_running]), (by simp only [Dt.st_now, Dt.st_told, Dt.st_stk, Dt.st_troom, Dt.st_thas, Dt.st_so, Dt.st_trips, Dt.st_papers, Dt.st_places, Dt.st_rules, Dt.st_tape, Dt.st_fault, Dt.st_blew, Dt.st_taken, Dt.st_sold, Dt.st_unsold, Dt.st_made, Dt.st_vented, Dt.st_drunk, Dt.st_noRoom, Dt.st_coins, Dt.st_stored, Dt.st_water, Dt.st_running]), (by simp only [Dt.st_now, Dt.st_told, Dt.st_stk, Dt.st_troom, Dt.st_thas, Dt.st_so, Dt.st_trips, Dt.st_papers, Dt.st_places, Dt.st_rules, Dt.st_tape, Dt.st_fault, Dt.st_blew, Dt.st_taken, Dt.st_sold, Dt.st_unsold, Dt.st_made, Dt.st_vented, Dt.st_drunk, Dt.st_noRoom, Dt.st_coins, Dt.st_stored, Dt.st_water, Dt.st_running])⟩, (by simp only [Dt.st_now, Dt.st_told, Dt.st_stk, Dt.st_troom, Dt.st_thas, Dt.st_so, Dt.st_trips, Dt.st_papers, Dt.st_places, Dt.st_rules, Dt.st_tape, Dt.st_fault, Dt.st_blew, Dt.st_taken, Dt.st_sold, Dt.st_unsold, Dt.st_made, Dt.st_vented, Dt.st_drunk, Dt.st_noRoom, Dt.st_coins, Dt.st_stored, Dt.st_water, Dt.st_running]), (by simp only [Dt.st_now, Dt.st_told, Dt.st_stk, Dt.st_troom, Dt.st_thas, Dt.st_so, Dt.st_trips, Dt.st_papers, Dt.st_places, Dt.st_rules, Dt.st_tape, Dt.st_fault, Dt.st_blew, Dt.st_taken, Dt.st_sold, Dt.st_unsold, Dt.st_made, Dt.st_vented, Dt.st_drunk, Dt.st_noRoom, Dt.st_coins, Dt.st_stored, Dt.st_water, Dt.st_running]), (by simp only [Dt.st_now, Dt.st_told, Dt.st_stk, Dt.st_troom, Dt.st_thas, Dt.st_so, Dt.st_trips, Dt.st_papers, Dt.st_places, Dt.st_rules, Dt.st_tape, Dt.st_fault, Dt.st_blew, Dt.st_taken, Dt.st_sold, Dt.st_unsold, Dt.st_made, Dt.st_vented, Dt.st_drunk, Dt.st_noRoom, Dt.st_coins, Dt.st_stored, Dt.st_water, Dt.st_running]), (by simp only [Dt.st_now, Dt.st_told, Dt.st_stk, Dt.st_troom, Dt.st_thas, Dt.st_so, Dt.st_trips, Dt.st_papers, Dt.st_places, Dt.st_rules, Dt.st_tape, Dt.st_fault, Dt.st_blew, Dt.st_taken, Dt.st_sold, Dt.st_unsold, Dt.st_made, Dt.st_vented, Dt.st_drunk, Dt.st_noRoom, Dt.st_coins, Dt.st_stored, Dt.st_water, Dt.st_running]), (by simp only [Dt.st_now, Dt.st_told, Dt.st_stk, Dt.st_troom, Dt.st_thas, Dt.st_so, Dt.st_trips, Dt.st_papers, Dt.st_places, Dt.st_rules, Dt.st_tape, Dt.st_fault, Dt.st_blew, Dt.st_taken, Dt.st_sold, Dt.st_unsold, Dt.st_made, Dt.st_vented, Dt.st_drunk, Dt.st_noRoom, Dt.st_coins, Dt.st_stored, Dt.st_water, Dt.st_running])⟩, fun t z => (by first | exact trivial | exact z.elim | omega | (unfold tkTi at z; omega) | (unfold goA at z; omega)), fun t z => (by first | exact trivial | exact z.elim | omega | (unfold tkTi at z; omega) | (unfold goA at z; omega)), fun c z => (by first | exact trivial | exact z.elim | omega | (unfold tkTi at z; omega) | (unfold goA at z; omega)), fun c z => (by first | exact trivial | exact z.elim | omega | (unfold tkTi at z; omega) | (unfold goA at z; omega))⟩) (Or.inl ⟨(by simp only [Dt.st_now, Dt.st_told, Dt.st_stk, Dt.st_troom, Dt.st_thas, Dt.st_so, Dt.st_trips, Dt.st_papers, Dt.st_places, Dt.st_rules, Dt.st_tape, Dt.st_fault, Dt.st_blew, Dt.st_taken, Dt.st_sold, Dt.st_unsold, Dt.st_made, Dt.st_vented, Dt.st_drunk, Dt.st_noRoom, Dt.st_coins, Dt.st_stored, Dt.st_water, Dt.st_running]), fun t z => (by first | exact trivial | exact z.elim | omega | (unfold tkTi at z; omega) | (unfold goA at z; omega)), fun t z => (by first | exact trivial | exact z.elim | omega | (unfold tkTi at z; omega) | (unfold goA at z; omega)), fun c z => (by first | exact trivial | exact z.elim | omega | (unfold tkTi at z; omega) | (unfold goA at z; omega)), fun c z => (by first | exact trivial | exact z.elim | omega | (unfold tkTi at z; omega) | (unfold goA at z; omega))⟩)
          simp only [Dt.st_trips]
          exact hX.2.2.2.1.set_ hfr top ha ha2 fa (fun t z => by omega) (fun c z => z) (fun t c _ _ h => fi t c (fun y => h y.2)) fT
        · show M1.i 390 (x + 15) = out
          rw [fi 390 _ (by omega)]; exact hout
    refine w_bnd (w_getIv b1 f1 (w_bnd (w_getIv b1 f0 (w_jn (w_ite (fun z => w_pur ?_) (fun z => w_pur ?_))))))
    · unfold lastT at rest
      rw [if_neg z] at rest
      exact rest
    · rw [Decidable.not_not] at z
      unfold lastT at rest
      rw [if_pos z] at rest
      exact rest
  refine w_ite (fun c3 => no_ (fun z => z.1 c3)) (fun c3 => ?_)
  have hRle := tR_le c3
  obtain ⟨a1, a2, a3, -⟩ := hX.2.2.1.at (k := 0) (by decide)
  obtain ⟨e1, e2, e3, -⟩ := hX.2.2.1.at (k := 1) (by decide)
  refine w_bnd (w_getR0 hL rfl rfl rfl (w_bnd (w_gd hL.k13 (w_nt (x_foulOf hg hL.k13 hL.r3_0_13 hL.k14 a1 a2 o0.1.pos hn ?_)))))
  refine w_bnd (w_getR0 hL rfl rfl rfl (w_bnd (w_gd hL.k15 (w_nt (x_foulOf hg hL.k15 hL.r3_0_15 hL.k16 e1 e2 o1.1.pos hn ?_)))))
  refine w_bnd (w_getIv b1 f2 (w_nzl (l64_0 (by omega)) (w_bnd (w_getIv hr.1 hr.2.2.1 ?_))))
  rw [show flS (d.so 0).lots (tF d d.trips[a]) + flS (d.so 1).lots (tR d d.trips[a]) = tFo d d.trips[a] from rfl]
  refine w_ite (fun c4 => no_ (fun z => z.2 c4)) (fun c4 => ?_)
  rw [if_pos ⟨c3, c4⟩] at hq
  have l0 := o0.1.len
  have l1 := o1.1.len
  have sl0 : d.trips[a].sips = [] := t9 (by rw [c]; decide)
  have L0 := tk_law (d.so 0).lots (tF d d.trips[a]) o0.1.pos i1 (by rw [o0.2.1]; exact i2)
  have L1 := tk_law (d.so 1).lots (tR d d.trips[a]) o1.1.pos i3 (by rw [o1.2.1]; exact hRle)
  refine w_bnd (w_getR0 hL rfl rfl rfl (w_bnd (w_gd hL.k13 (w_nt ?_))))
  refine x_takesT (s := 0) hB hX (by decide) o0.1.pos i1 (by rw [o0.2.1]; exact i2) hn ha ha2 (by rw [sl0]; show 0 + _ ≤ _; omega) (fun M1 hB1 hA1 hc1 hl1 hX1 => ?_)
  have hL1 := hB1.1
  have len1 : (((d.set_so (sup d.so 0 (tkSo (d.so 0) (tF d d.trips[a])))).set_trips (tpU d.trips (some a) (tkL (d.so 0).lots (tF d d.trips[a])).2.1 0))).trips.length = d.trips.length := by
    simp only [Dt.st_trips]
    exact tpU_len _ _ _ _
  have ha1 : a < (M1.ls (x + 23)).length := by rw [hl1]; exact ha2
  have ec1 : (M1.ls (x + 23))[a] = (M.ls (x + 23))[a] := getE hl1
  have sp1 : (((d.set_so (sup d.so 0 (tkSo (d.so 0) (tF d d.trips[a])))).set_trips (tpU d.trips (some a) (tkL (d.so 0).lots (tF d d.trips[a])).2.1 0))).trips[a]'(by rw [len1]; exact ha) = ((d.trips[a].set_sips (d.trips[a].sips ++ (tkL (d.so 0).lots (tF d d.trips[a])).2.1)).set_foul (d.trips[a].foul + 0)) := by
    exact tpU_at ha (by rw [tpU_len]; exact ha)
  refine w_bnd (w_getR0 hL1 rfl rfl rfl (w_bnd (w_gd hL1.k15 (w_nt ?_))))
  rw [← ec1]
  have so1 : (((d.set_so (sup d.so 0 (tkSo (d.so 0) (tF d d.trips[a])))).set_trips (tpU d.trips (some a) (tkL (d.so 0).lots (tF d d.trips[a])).2.1 0))).so 1 = d.so 1 := rfl
  refine x_takesT (s := 1) hB1 hX1 (by decide) (by rw [so1]; exact o1.1.pos) i3 (by rw [so1, o1.2.1]; exact hRle) hn (by rw [len1]; exact ha) ha1 (by rw [sp1, so1]; show (d.trips[a].sips ++ (tkL (d.so 0).lots (tF d d.trips[a])).2.1).length + _ ≤ 5000; rw [sl0, List.nil_append]; have := L0.2.1.2.1; omega) (fun M2 hB2 hA2 hc2 hl2 hX2 => ?_)
  have hL2 := hB2.1
  rw [so1] at hX2 hc2
  rw [ec1] at hA2 hc2
  have ha3 : a < (M2.ls (x + 23)).length := by rw [hl2, hl1]; exact ha2
  have ec2 : (M2.ls (x + 23))[a] = (M.ls (x + 23))[a] := (getE (hl2.trans hl1))
  rw [ec1]
  -- fields behind both
  have i2_ : ∀ t c, c ≤ M.n → ¬ tkTi t → M2.i t c = M.i t c := fun t c hc ht => (hA2.2.2.2.1 t c (Nat.le_trans hc hA1.1.1) ht).trans (hA1.2.2.2.1 t c hc ht)
  have l2_ : ∀ t c, c ≤ M.n → M2.l t c = M.l t c := fun t c hc => (hA2.2.2.2.2.1 t c (Nat.le_trans hc hA1.1.1) (fun z => z)).trans (hA1.2.2.2.2.1 t c hc (fun z => z))
  have ktc : M2.k (M.ls (x + 23))[a] = 8 := by rw [(hA2.2.1 _ (Nat.le_trans ltc hA1.1.1)).1, (hA1.2.1 _ ltc).1]; exact b1
  have o2 : M2.i (128 * 3 + 6) (x + 15) = out := (i2_ 390 _ (by omega) (by unfold tkTi; omega)).trans hout
  have d27 : M2.l (128 * 0 + 27) x = d.drunk := (l2_ 27 x (by omega)).trans hX.2.2.2.2.2.2.1.2.2.2.1.2.2.2.2.2.2.1
  have gr2 : M2.i (128 * 7 + 2) (M.ls (x + 23))[a] = d.trips[a].grams := (i2_ 898 _ ltc (by unfold tkTi; omega)).trans f2
  have n2 : M2.i (128 * 0 + 0) x = Int32.ofNat d.now := (i2_ 0 x (by omega) (by unfold tkTi; omega)).trans n0
  refine w_bnd (w_getR0 hL2 rfl rfl rfl (w_bnd (w_getIv hL2.k15 o2 (w_bnd (w_putI hL2.k15 ?_)))))
  refine w_bnd (w_getLv (v := d.drunk) (kI hL2.k0) d27 (w_bnd (w_getIv (v := d.trips[a].grams) (kI ktc) ((seti_ne _ _ _ _ (by decide)).trans gr2) (w_bnd (w_putL (kI hL2.k0) ?_)))))
  refine w_bnd (w_putI (kJ (kI ktc)) (w_bnd (w_getIv (v := Int32.ofNat d.now) (kI (kJ (kI hL2.k0))) ((seti_ne _ _ _ _ (by decide)).trans (iL ((seti_ne _ _ _ _ (by decide)).trans n2))) (w_bnd (w_putI (kI (kJ (kI ktc))) (w_bnd (w_putI (kI (kI (kJ (kI ktc)))) (w_pur ?_))))))))
  have fa : Ag (fun t => t = 390 ∨ (900 ≤ t ∧ t ≤ 902)) (fun t => t = 27) no no M2 (((((M2.seti (128 * 3 + 6) (x + 15) (out - tR d d.trips[a])).setl (128 * 0 + 27) x (d.drunk + d.trips[a].grams.toInt64)).seti (128 * 7 + 4) (M.ls (x + 23))[a] 1).seti (128 * 7 + 5) (M.ls (x + 23))[a] (Int32.ofNat d.now)).seti (128 * 7 + 6) (M.ls (x + 23))[a] (tFo d d.trips[a])) := (((((Ag.rf (ti := fun t => t = 390 ∨ (900 ≤ t ∧ t ≤ 902)) (tl := fun t => t = 27)).i (Or.inl (by omega))).l (Or.inl rfl)).i (Or.inl (by omega))).i (Or.inl (by omega))).i (Or.inl (by omega))
  have fi : ∀ t c, ¬ (t = 390 ∧ c = x + 15) → ¬ ((900 ≤ t ∧ t ≤ 902) ∧ c = (M.ls (x + 23))[a]) → (((((M2.seti (128 * 3 + 6) (x + 15) (out - tR d d.trips[a])).setl (128 * 0 + 27) x (d.drunk + d.trips[a].grams.toInt64)).seti (128 * 7 + 4) (M.ls (x + 23))[a] 1).seti (128 * 7 + 5) (M.ls (x + 23))[a] (Int32.ofNat d.now)).seti (128 * 7 + 6) (M.ls (x + 23))[a] (tFo d d.trips[a])).i t c = M2.i t c := fun t c z1 z2 => (if_neg (by omega)).trans ((if_neg (by omega)).trans ((if_neg (by omega)).trans (if_neg (by omega))))
  have fo : (((((M2.seti (128 * 3 + 6) (x + 15) (out - tR d d.trips[a])).setl (128 * 0 + 27) x (d.drunk + d.trips[a].grams.toInt64)).seti (128 * 7 + 4) (M.ls (x + 23))[a] 1).seti (128 * 7 + 5) (M.ls (x + 23))[a] (Int32.ofNat d.now)).seti (128 * 7 + 6) (M.ls (x + 23))[a] (tFo d d.trips[a])).i 390 (x + 15) = out - tR d d.trips[a] := (seti_ne _ _ _ _ (by decide)).trans ((seti_ne _ _ _ _ (by decide)).trans ((seti_ne _ _ _ _ (by decide)).trans (iL (seti_eq _ _ _ _))))
  have f900 : (((((M2.seti (128 * 3 + 6) (x + 15) (out - tR d d.trips[a])).setl (128 * 0 + 27) x (d.drunk + d.trips[a].grams.toInt64)).seti (128 * 7 + 4) (M.ls (x + 23))[a] 1).seti (128 * 7 + 5) (M.ls (x + 23))[a] (Int32.ofNat d.now)).seti (128 * 7 + 6) (M.ls (x + 23))[a] (tFo d d.trips[a])).i 900 (M.ls (x + 23))[a] = 1 := (seti_ne _ _ _ _ (by decide)).trans ((seti_ne _ _ _ _ (by decide)).trans (seti_eq _ _ _ _))
  have f901 : (((((M2.seti (128 * 3 + 6) (x + 15) (out - tR d d.trips[a])).setl (128 * 0 + 27) x (d.drunk + d.trips[a].grams.toInt64)).seti (128 * 7 + 4) (M.ls (x + 23))[a] 1).seti (128 * 7 + 5) (M.ls (x + 23))[a] (Int32.ofNat d.now)).seti (128 * 7 + 6) (M.ls (x + 23))[a] (tFo d d.trips[a])).i 901 (M.ls (x + 23))[a] = Int32.ofNat d.now := (seti_ne _ _ _ _ (by decide)).trans (seti_eq _ _ _ _)
  have f902 : (((((M2.seti (128 * 3 + 6) (x + 15) (out - tR d d.trips[a])).setl (128 * 0 + 27) x (d.drunk + d.trips[a].grams.toInt64)).seti (128 * 7 + 4) (M.ls (x + 23))[a] 1).seti (128 * 7 + 5) (M.ls (x + 23))[a] (Int32.ofNat d.now)).seti (128 * 7 + 6) (M.ls (x + 23))[a] (tFo d d.trips[a])).i 902 (M.ls (x + 23))[a] = tFo d d.trips[a] := seti_eq _ _ _ _
  have fl : (((((M2.seti (128 * 3 + 6) (x + 15) (out - tR d d.trips[a])).setl (128 * 0 + 27) x (d.drunk + d.trips[a].grams.toInt64)).seti (128 * 7 + 4) (M.ls (x + 23))[a] 1).seti (128 * 7 + 5) (M.ls (x + 23))[a] (Int32.ofNat d.now)).seti (128 * 7 + 6) (M.ls (x + 23))[a] (tFo d d.trips[a])).l = up2 M2.l 27 x (d.drunk + d.trips[a].grams.toInt64) := rfl
  have ff : (((((M2.seti (128 * 3 + 6) (x + 15) (out - tR d d.trips[a])).setl (128 * 0 + 27) x (d.drunk + d.trips[a].grams.toInt64)).seti (128 * 7 + 4) (M.ls (x + 23))[a] 1).seti (128 * 7 + 5) (M.ls (x + 23))[a] (Int32.ofNat d.now)).seti (128 * 7 + 6) (M.ls (x + 23))[a] (tFo d d.trips[a])).k = M2.k ∧ (((((M2.seti (128 * 3 + 6) (x + 15) (out - tR d d.trips[a])).setl (128 * 0 + 27) x (d.drunk + d.trips[a].grams.toInt64)).seti (128 * 7 + 4) (M.ls (x + 23))[a] 1).seti (128 * 7 + 5) (M.ls (x + 23))[a] (Int32.ofNat d.now)).seti (128 * 7 + 6) (M.ls (x + 23))[a] (tFo d d.trips[a])).ls = M2.ls ∧ (((((M2.seti (128 * 3 + 6) (x + 15) (out - tR d d.trips[a])).setl (128 * 0 + 27) x (d.drunk + d.trips[a].grams.toInt64)).seti (128 * 7 + 4) (M.ls (x + 23))[a] 1).seti (128 * 7 + 5) (M.ls (x + 23))[a] (Int32.ofNat d.now)).seti (128 * 7 + 6) (M.ls (x + 23))[a] (tFo d d.trips[a])).cap = M2.cap ∧ (((((M2.seti (128 * 3 + 6) (x + 15) (out - tR d d.trips[a])).setl (128 * 0 + 27) x (d.drunk + d.trips[a].grams.toInt64)).seti (128 * 7 + 4) (M.ls (x + 23))[a] 1).seti (128 * 7 + 5) (M.ls (x + 23))[a] (Int32.ofNat d.now)).seti (128 * 7 + 6) (M.ls (x + 23))[a] (tFo d d.trips[a])).n = M2.n ∧ (((((M2.seti (128 * 3 + 6) (x + 15) (out - tR d d.trips[a])).setl (128 * 0 + 27) x (d.drunk + d.trips[a].grams.toInt64)).seti (128 * 7 + 4) (M.ls (x + 23))[a] 1).seti (128 * 7 + 5) (M.ls (x + 23))[a] (Int32.ofNat d.now)).seti (128 * 7 + 6) (M.ls (x + 23))[a] (tFo d d.trips[a])).sl = M2.sl := ⟨rfl, rfl, rfl, rfl, rfl⟩
  revert fa fi fo f900 f901 f902 fl ff
  generalize (((((M2.seti (128 * 3 + 6) (x + 15) (out - tR d d.trips[a])).setl (128 * 0 + 27) x (d.drunk + d.trips[a].grams.toInt64)).seti (128 * 7 + 4) (M.ls (x + 23))[a] 1).seti (128 * 7 + 5) (M.ls (x + 23))[a] (Int32.ofNat d.now)).seti (128 * 7 + 6) (M.ls (x + 23))[a] (tFo d d.trips[a])) = M3
  intro fa fi fo f900 f901 f902 fl ff
  obtain ⟨q1, q2, q3, q4, q5⟩ := ff
  have hB3 : Bas x M3 := ⟨fa.lay hL2 (fun t z => by omega), hB2.2.1.same q1 q4, hB2.2.2.1.same q1 q2 q3, hB2.2.2.2.ag hB2.2.1 fa⟩
  have dr := dry_set (T := tryT d d.trips[a]) d.trips a ha
  have de1 : (if d.trips[a].how ≠ 1 then 1 else 0) = 1 := if_pos (by rw [c]; decide)
  have de2 : (if (tryT d d.trips[a]).how ≠ 1 then 1 else 0) = 0 := if_neg (by show ¬ (1 : Int32) ≠ 1; decide)
  rw [de1, de2] at dr
  have gcap : M2.cap ((M.ls (x + 23))[a] + 1) ≤ 9000 := by
    have hk : M2.k ((M.ls (x + 23))[a] + 1) = 18 := by rw [(hA2.2.1 _ (Nat.le_trans ll2 hA1.1.1)).1, (hA1.2.1 _ ll2).1]; exact b3
    exact (hB2.2.2.1 _ hk).2
  have psle : psi (M2.cap ((M.ls (x + 23))[a] + 1)) ≤ 36240 := by unfold psi; omega
  have K0 := L0.2.1.2.1
  have K1 := L1.2.1.2.1
  have ls7 : M3.ls (x + 7) = M.ls (x + 7) := by
    rw [q2, (hA2.2.2.2.2.2.1 _ (by have := hA1.1.1; omega) (by omega)).1, (hA1.2.2.2.2.2.1 _ (by omega) (by omega)).1]
  refine hq M3 hB3 ⟨?_, ⟨ls7, ?_, ?_⟩, ?_, ?_⟩ ?_ fo
  · have w1 : Ag trTi (fun t => t = 27) (fun _ => True) no M M1 := hA1.mono (fun t z => by unfold tkTi at z; unfold trTi; omega) (fun _ z => z.elim) (fun _ _ => trivial) (fun _ z => z)
    have w2 : Ag trTi (fun t => t = 27) (fun _ => True) no M1 M2 := hA2.mono (fun t z => by unfold tkTi at z; unfold trTi; omega) (fun _ z => z.elim) (fun _ _ => trivial) (fun _ z => z)
    have w3 : Ag trTi (fun t => t = 27) (fun _ => True) no M2 M3 := fa.mono (fun t z => by unfold trTi; omega) (fun _ z => z) (fun _ _ => trivial) (fun _ z => z)
    exact (w1.tr w2).tr w3
  · rw [q3, hc2.2.2.1, hc1.2.2.1]
  · rw [q3, hc2.2.2.2, hc1.2.2.2]
  · simp only [Dt.st_drunk, Dt.st_trips]
    rw [q4]
    have := hc1.1
    have := hc2.1
    omega
  · simp only [Dt.st_drunk, Dt.st_trips]
    rw [q5]
    have := hc1.2.1
    have := hc2.2.1
    omega
  · have eU : tpU (tpU d.trips (some a) (tkL (d.so 0).lots (tF d d.trips[a])).2.1 0) (some a) (tkL (d.so 1).lots (tR d d.trips[a])).2.1 0 = tpU d.trips (some a) ((tkL (d.so 0).lots (tF d d.trips[a])).2.1 ++ (tkL (d.so 1).lots (tR d d.trips[a])).2.1) (0 + 0) := tpU_tr (fun b z => by rw [← Option.some.inj z]; exact ha)
    have hX2' : IX x M2 ((d.set_so (sup (sup d.so 0 (tkSo (d.so 0) (tF d d.trips[a]))) 1 (tkSo (d.so 1) (tR d d.trips[a])))).set_trips (tpU (tpU d.trips (some a) (tkL (d.so 0).lots (tF d d.trips[a])).2.1 0) (some a) (tkL (d.so 1).lots (tR d d.trips[a])).2.1 0)) := hX2
    rw [eU] at hX2'
    have XP2 := hX2'.2.2.2.1
    refine hX2'.cmb hB2 fa (Or.inl ⟨(by simp only [Dt.st_now, Dt.st_told, Dt.st_stk, Dt.st_troom, Dt.st_thas, Dt.st_so, Dt.st_trips, Dt.st_papers, Dt.st_places, Dt.st_rules, Dt.st_tape, Dt.st_fault, Dt.st_blew, Dt.st_taken, Dt.st_sold, Dt.st_unsold, Dt.st_made, Dt.st_vented, Dt.st_drunk, Dt.st_noRoom, Dt.st_coins, Dt.st_stored, Dt.st_water, Dt.st_running]), fun t z => (by first | exact trivial | exact z.elim | omega | (unfold tkTi at z; omega) | (unfold goA at z; omega)), fun t z => (by first | exact trivial | exact z.elim | omega | (unfold tkTi at z; omega) | (unfold goA at z; omega)), fun c z => (by first | exact trivial | exact z.elim | omega | (unfold tkTi at z; omega) | (unfold goA at z; omega)), fun c z => (by first | exact trivial | exact z.elim | omega | (unfold tkTi at z; omega) | (unfold goA at z; omega))⟩) (Or.inl ⟨(by simp only [Dt.st_now, Dt.st_told, Dt.st_stk, Dt.st_troom, Dt.st_thas, Dt.st_so, Dt.st_trips, Dt.st_papers, Dt.st_places, Dt.st_rules, Dt.st_tape, Dt.st_fault, Dt.st_blew, Dt.st_taken, Dt.st_sold, Dt.st_unsold, Dt.st_made, Dt.st_vented, Dt.st_drunk, Dt.st_noRoom, Dt.st_coins, Dt.st_stored, Dt.st_water, Dt.st_running]), fun t z => (by first | exact trivial | exact z.elim | omega | (unfold tkTi at z; omega) | (unfold goA at z; omega)), fun t z => (by first | exact trivial | exact z.elim | omega | (unfold tkTi at z; omega) | (unfold goA at z; omega)), fun c z => (by first | exact trivial | exact z.elim | omega | (unfold tkTi at z; omega) | (unfold goA at z; omega)), fun c z => (by first | exact trivial | exact z.elim | omega | (unfold tkTi at z; omega) | (unfold goA at z; omega))⟩) (Or.inl ⟨(by simp only [Dt.st_now, Dt.st_told, Dt.st_stk, Dt.st_troom, Dt.st_thas, Dt.st_so, Dt.st_trips, Dt.st_papers, Dt.st_places, Dt.st_rules, Dt.st_tape, Dt.st_fault, Dt.st_blew, Dt.st_taken, Dt.st_sold, Dt.st_unsold, Dt.st_made, Dt.st_vented, Dt.st_drunk, Dt.st_noRoom, Dt.st_coins, Dt.st_stored, Dt.st_water, Dt.st_running]), fun t z => (by first | exact trivial | exact z.elim | omega | (unfold tkTi at z; omega) | (unfold goA at z; omega)), fun t z => (by first | exact trivial | exact z.elim | omega | (unfold tkTi at z; omega) | (unfold goA at z; omega)), fun c z => (by first | exact trivial | exact z.elim | omega | (unfold tkTi at z; omega) | (unfold goA at z; omega)), fun c z => (by first | exact trivial | exact z.elim | omega | (unfold tkTi at z; omega) | (unfold goA at z; omega))⟩) (Or.inr ?_) (Or.inl ⟨(by simp only [Dt.st_now, Dt.st_told, Dt.st_stk, Dt.st_troom, Dt.st_thas, Dt.st_so, Dt.st_trips, Dt.st_papers, Dt.st_places, Dt.st_rules, Dt.st_tape, Dt.st_fault, Dt.st_blew, Dt.st_taken, Dt.st_sold, Dt.st_unsold, Dt.st_made, Dt.st_vented, Dt.st_drunk, Dt.st_noRoom, Dt.st_coins, Dt.st_stored, Dt.st_water, Dt.st_running]), fun t z => (by first | exact trivial | exact z.elim | omega | (unfold tkTi at z; omega) | (unfold goA at z; omega)), fun t z => (by first | exact trivial | exact z.elim | omega | (unfold tkTi at z; omega) | (unfold goA at z; omega)), fun c z => (by first | exact trivial | exact z.elim | omega | (unfold tkTi at z; omega) | (unfold goA at z; omega)), fun c z => (by first | exact trivial | exact z.elim | omega | (unfold tkTi at z; omega) | (unfold goA at z; omega))⟩) (Or.inl ⟨(by simp only [Dt.st_now, Dt.st_told, Dt.st_stk, Dt.st_troom, Dt.st_thas, Dt.st_so, Dt.st_trips, Dt.st_papers, Dt.st_places, Dt.st_rules, Dt.st_tape, Dt.st_fault, Dt.st_blew, Dt.st_taken, Dt.st_sold, Dt.st_unsold, Dt.st_made, Dt.st_vented, Dt.st_drunk, Dt.st_noRoom, Dt.st_coins, Dt.st_stored, Dt.st_water, Dt.st_running]), fun t z => (by first | exact trivial | exact z.elim | omega | (unfold tkTi at z; omega) | (unfold goA at z; omega)), fun t z => (by first | exact trivial | exact z.elim | omega | (unfold tkTi at z; omega) | (unfold goA at z; omega)), fun c z => (by first | exact trivial | exact z.elim | omega | (unfold tkTi at z; omega) | (unfold goA at z; omega)), fun c z => (by first | exact trivial | exact z.elim | omega | (unfold tkTi at z; omega) | (unfold goA at z; omega))⟩) (Or.inr ?_) (Or.inl ⟨(by simp only [Dt.st_now, Dt.st_told, Dt.st_stk, Dt.st_troom, Dt.st_thas, Dt.st_so, Dt.st_trips, Dt.st_papers, Dt.st_places, Dt.st_rules, Dt.st_tape, Dt.st_fault, Dt.st_blew, Dt.st_taken, Dt.st_sold, Dt.st_unsold, Dt.st_made, Dt.st_vented, Dt.st_drunk, Dt.st_noRoom, Dt.st_coins, Dt.st_stored, Dt.st_water, Dt.st_running]), fun t z => (by first | exact trivial | exact z.elim | omega | (unfold tkTi at z; omega) | (unfold goA at z; omega)), fun t z => (by first | exact trivial | exact z.elim | omega | (unfold tkTi at z; omega) | (unfold goA at z; omega)), fun c z => (by first | exact trivial | exact z.elim | omega | (unfold tkTi at z; omega) | (unfold goA at z; omega)), fun c z => (by first | exact trivial | exact z.elim | omega | (unfold tkTi at z; omega) | (unfold goA at z; omega))⟩)
    · simp only [Dt.st_drunk, Dt.st_trips] at XP2 ⊢
      have hlU : a < (tpU d.trips (some a) ((tkL (d.so 0).lots (tF d d.trips[a])).2.1 ++ (tkL (d.so 1).lots (tR d d.trips[a])).2.1) (0 + 0)).length := by rw [tpU_len]; exact ha
      have eT2 := map_get XP2.1 hlU ha3
      rw [ec2] at eT2
      have U := XP2.set_ (T := tryT d d.trips[a]) hB2.2.1 hL2.top hlU ha3 fa (fun t z => by omega) (fun c z => z) (fun t c _ _ h => fi t c (by omega) (fun y => h (by rw [ec2]; exact y.2))) (by
        rw [ec2]
        have eU2 : (tpU d.trips (some a) ((tkL (d.so 0).lots (tF d d.trips[a])).2.1 ++ (tkL (d.so 1).lots (tR d d.trips[a])).2.1) (0 + 0))[a]'hlU = (d.trips[a].set_sips (d.trips[a].sips ++ ((tkL (d.so 0).lots (tF d d.trips[a])).2.1 ++ (tkL (d.so 1).lots (tR d d.trips[a])).2.1))).set_foul (d.trips[a].foul + (0 + 0)) := by
          exact tpU_at ha hlU
        rw [eU2] at eT2
        have rs : rdSp M3 = rdSp M2 := by
          funext b
          unfold rdSp
          rw [fi _ _ (by omega) (by omega), fi _ _ (by omega) (by omega)]
        unfold tryT
        rw [List.append_assoc]
        unfold rdTp at eT2 ⊢
        rw [f900, f901, f902, q2, rs, fi 896 _ (by omega) (by omega), fi 897 _ (by omega) (by omega), fi 898 _ (by omega) (by omega)]
        have s1 := congrArg Tp.kind eT2
        have s2 := congrArg Tp.ten eT2
        have s3 := congrArg Tp.grams eT2
        have s4 := congrArg Tp.sips eT2
        have s1 : M2.i 896 (M.ls (x + 23))[a] = d.trips[a].kind := s1
        have s2 : M2.i 897 (M.ls (x + 23))[a] = d.trips[a].ten := s2
        have s3 : M2.i 898 (M.ls (x + 23))[a] = d.trips[a].grams := s3
        have s4 : List.map (rdSp M2) (M2.ls ((M.ls (x + 23))[a] + 1)) = d.trips[a].sips ++ ((tkL (d.so 0).lots (tF d d.trips[a])).2.1 ++ (tkL (d.so 1).lots (tR d d.trips[a])).2.1) := s4
        rw [s1, s2, s3, s4]
        rfl)
      have eset : (tpU d.trips (some a) ((tkL (d.so 0).lots (tF d d.trips[a])).2.1 ++ (tkL (d.so 1).lots (tR d d.trips[a])).2.1) (0 + 0)).set a (tryT d d.trips[a]) = d.trips.set a (tryT d d.trips[a]) := by
        unfold tpU
        simp only [List.set_set]
      rw [eset] at U
      exact U
    · obtain ⟨y1, y2, y3, ⟨z1, z2, z3, z4, z5, z6, z7, z8, z9⟩, y5, y6, y7, y8⟩ := hX2'.2.2.2.2.2.2.1
      have top2 := hL2.top
      have hi : ∀ t, t < 128 → M3.i t x = M2.i t x := fun t ht => fi t x (by omega) (by omega)
      have hl : ∀ t, t ≠ 27 → M3.l t x = M2.l t x := fun t ht => by rw [fl, up2_nx _ _ _ _ ht]
      have h27 : M3.l 27 x = d.drunk + d.trips[a].grams.toInt64 := by rw [fl, up2_eq]
      have hai : ∀ c, c ≤ x + 88 → M3.ai c = M2.ai c := fun c hc => (fa.2.2.2.2.2.2 c (by omega) (fun z => z)).1
      unfold XN
      rw [hi 0 (by omega), hi 19 (by omega), hi 20 (by omega), hi 7 (by omega), hi 8 (by omega), hl 21 (by omega), hl 22 (by omega), hl 23 (by omega), hl 24 (by omega), hl 25 (by omega), hl 26 (by omega), h27, hl 28 (by omega), hl 29 (by omega), hai (x + 18) (by omega), hai (x + 19) (by omega), hai (x + 20) (by omega), hai (x + 12) (by omega)]
      exact ⟨y1, y2, y3, ⟨z1, z2, z3, z4, z5, z6, rfl, z8, z9⟩, y5, y6, y7, y8⟩
end
