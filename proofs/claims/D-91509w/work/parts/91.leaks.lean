set_option maxRecDepth 100000
/-! ===== leaks ===== -/
def lkN (so : So) : Int32 := ((so.grams.toInt64 * so.leak.toInt64) / 10000).toInt32
def lkD (so : So) : So := (tkSo so (lkN so)).set_leaked (so.leaked + (lkN so).toInt64)
theorem lk_i {now : Nat} {so : So} (h : soOk now so) : 0 ≤ (lkN so).toInt ∧ (lkN so).toInt ≤ so.grams.toInt := by
  have nn := h.nn
  obtain ⟨-, -, a3, a4, a5, a6, -⟩ := h
  have hp : 0 ≤ so.grams.toInt * so.leak.toInt := Int.mul_nonneg nn a5
  have hp2 : so.grams.toInt * so.leak.toInt ≤ so.grams.toInt * 100 := Int.mul_le_mul_of_nonneg_left a6 nn
  have e : (10000 : Int64).toInt = 10000 := rfl
  unfold lkN
  rw [mdv nn a5 (by rw [e]; decide) (by rw [e]; omega), e]
  omega
theorem lkD_ok {now : Nat} {so : So} (h : soOk now so) : soOk now (lkD so) := by
  obtain ⟨l0, l1⟩ := lk_i h
  exact h.tk l0 l1
def lkTl (t : Nat) : Prop := t = 391
section
variable {x : Nat} {M : Mem}
theorem x_leaks {n s : Nat} {d : Dt} (hB : Bas x M) (hX : IX x M d) (hs : s < 2) (ho : soOk d.now (d.so s)) (hn : 9100 ≤ n) {Q : Unit → Mem → Prop}
    (hq : ∀ M', Bas x M' → Ag tkTi lkTl (fun c => c = x + 14 + 2 * s) no M M' → (M'.n = M.n ∧ M'.sl = M.sl ∧ M'.cap = M.cap) → IX x M' (d.set_so (sup d.so s (lkD (d.so s)))) → Q () M') : wp (f_X3_leaks n (x + 13 + 2 * s)) M Q := by
  have hL := hB.1
  obtain ⟨s1, s2, s3⟩ := storeL hL hs
  obtain ⟨a1, a2, a3, a4, a5, a6, a7, a8, a9⟩ := hX.2.2.1.at hs
  obtain ⟨l0, l1⟩ := lk_i ho
  unfold f_X3_leaks
  refine w_bnd (w_getIv s1 a7 (w_bnd (w_getIv s1 a5 ?_)))
  rw [show (((d.so s).grams.toInt64 * (d.so s).leak.toInt64) / 10000).toInt32 = lkN (d.so s) from rfl]
  refine w_bnd (w_gd s1 (w_nt (x_takes0 hB hX hs ho.1.pos l0 (by rw [ho.2.1]; exact l1) hn (fun M1 hB1 hA hc hX1 => ?_))))
  have s1' := (storeL hB1.1 hs).1
  have e7 := (hX1.2.2.1.at hs).2.2.2.2.2.2.2.1
  simp only [Dt.st_so, sup_eq] at e7
  have e7 : M1.l (128 * 3 + 7) (x + 13 + 2 * s) = (d.so s).leaked := e7
  refine w_bnd (w_getLv s1' e7 (w_bnd (w_putL s1' (w_pur ?_))))
  have fa : Ag no lkTl no no M1 (M1.setl (128 * 3 + 7) (x + 13 + 2 * s) ((d.so s).leaked + (lkN (d.so s)).toInt64)) := Ag.rf.l (Or.inl rfl)
  have fl : ∀ t c, ¬ (t = 391 ∧ c = x + 13 + 2 * s) → (M1.setl (128 * 3 + 7) (x + 13 + 2 * s) ((d.so s).leaked + (lkN (d.so s)).toInt64)).l t c = M1.l t c := fun t c h => if_neg h
  have fv : (M1.setl (128 * 3 + 7) (x + 13 + 2 * s) ((d.so s).leaked + (lkN (d.so s)).toInt64)).l 391 (x + 13 + 2 * s) = (d.so s).leaked + (lkN (d.so s)).toInt64 := setl_eq _ _ _ _
  have ff : (M1.setl (128 * 3 + 7) (x + 13 + 2 * s) ((d.so s).leaked + (lkN (d.so s)).toInt64)).k = M1.k ∧ (M1.setl (128 * 3 + 7) (x + 13 + 2 * s) ((d.so s).leaked + (lkN (d.so s)).toInt64)).ls = M1.ls ∧ (M1.setl (128 * 3 + 7) (x + 13 + 2 * s) ((d.so s).leaked + (lkN (d.so s)).toInt64)).cap = M1.cap ∧ (M1.setl (128 * 3 + 7) (x + 13 + 2 * s) ((d.so s).leaked + (lkN (d.so s)).toInt64)).n = M1.n ∧ (M1.setl (128 * 3 + 7) (x + 13 + 2 * s) ((d.so s).leaked + (lkN (d.so s)).toInt64)).i = M1.i ∧ (M1.setl (128 * 3 + 7) (x + 13 + 2 * s) ((d.so s).leaked + (lkN (d.so s)).toInt64)).sl = M1.sl := ⟨rfl, rfl, rfl, rfl, rfl, rfl⟩
  revert fa fl fv ff
  generalize M1.setl (128 * 3 + 7) (x + 13 + 2 * s) ((d.so s).leaked + (lkN (d.so s)).toInt64) = M2
  intro fa fl fv ff
  obtain ⟨q1, q2, q3, q4, q5, q6⟩ := ff
  have hB2 : Bas x M2 := ⟨fa.lay hB1.1 (fun t z => z.elim), hB1.2.1.same q1 q4, hB1.2.2.1.same q1 q2 q3, hB1.2.2.2.ag hB1.2.1 fa⟩
  have hA2 : Ag tkTi lkTl (fun c => c = x + 14 + 2 * s) no M M2 := (hA.mono (fun _ z => z) (fun _ z => z.elim) (fun _ z => z) (fun _ z => z)).tr (fa.mono (fun _ z => z.elim) (fun _ z => z) (fun _ z => z.elim) (fun _ z => z))
  refine hq M2 hB2 hA2 ⟨by rw [q4]; exact hc.1, by rw [q6]; exact hc.2.1, by rw [q3]; exact hc.2.2⟩ ?_
  have hA3 : Ag no (fun t => t = 391) no no M1 M2 := fa
  refine hX1.cmb hB1 hA3 (Or.inl ⟨(by simp only [Dt.st_now, Dt.st_told, Dt.st_stk, Dt.st_troom, Dt.st_thas, Dt.st_so, Dt.st_trips, Dt.st_papers, Dt.st_places, Dt.st_rules, Dt.st_tape, Dt.st_fault, Dt.st_blew, Dt.st_taken, Dt.st_sold, Dt.st_unsold, Dt.st_made, Dt.st_vented, Dt.st_drunk, Dt.st_noRoom, Dt.st_coins, Dt.st_stored, Dt.st_water, Dt.st_running]), fun t z => (by first | exact trivial | exact z.elim | omega | (unfold tkTi at z; omega) | (unfold goA at z; omega)), fun t z => (by first | exact trivial | exact z.elim | omega | (unfold tkTi at z; omega) | (unfold goA at z; omega)), fun c z => (by first | exact trivial | exact z.elim | omega | (unfold tkTi at z; omega) | (unfold goA at z; omega)), fun c z => (by first | exact trivial | exact z.elim | omega | (unfold tkTi at z; omega) | (unfold goA at z; omega))⟩) (Or.inl ⟨(by simp only [Dt.st_now, Dt.st_told, Dt.st_stk, Dt.st_troom, Dt.st_thas, Dt.st_so, Dt.st_trips, Dt.st_papers, Dt.st_places, Dt.st_rules, Dt.st_tape, Dt.st_fault, Dt.st_blew, Dt.st_taken, Dt.st_sold, Dt.st_unsold, Dt.st_made, Dt.st_vented, Dt.st_drunk, Dt.st_noRoom, Dt.st_coins, Dt.st_stored, Dt.st_water, Dt.st_running]), fun t z => (by first | exact trivial | exact z.elim | omega | (unfold tkTi at z; omega) | (unfold goA at z; omega)), fun t z => (by first | exact trivial | exact z.elim | omega | (unfold tkTi at z; omega) | (unfold goA at z; omega)), fun c z => (by first | exact trivial | exact z.elim | omega | (unfold tkTi at z; omega) | (unfold goA at z; omega)), fun c z => (by first | exact trivial | exact z.elim | omega | (unfold tkTi at z; omega) | (unfold goA at z; omega))⟩) (Or.inr ?_) (Or.inl ⟨(by simp only [Dt.st_now, Dt.st_told, Dt.st_stk, Dt.st_troom, Dt.st_thas, Dt.st_so, Dt.st_trips, Dt.st_papers, Dt.st_places, Dt.st_rules, Dt.st_tape, Dt.st_fault, Dt.st_blew, Dt.st_taken, Dt.st_sold, Dt.st_unsold, Dt.st_made, Dt.st_vented, Dt.st_drunk, Dt.st_noRoom, Dt.st_coins, Dt.st_stored, Dt.st_water, Dt.st_running]), fun t z => (by first | exact trivial | exact z.elim | omega | (unfold tkTi at z; omega) | (unfold goA at z; omega)), fun t z => (by first | exact trivial | exact z.elim | omega | (unfold tkTi at z; omega) | (unfold goA at z; omega)), fun c z => (by first | exact trivial | exact z.elim | omega | (unfold tkTi at z; omega) | (unfold goA at z; omega)), fun c z => (by first | exact trivial | exact z.elim | omega | (unfold tkTi at z; omega) | (unfold goA at z; omega))⟩) (Or.inl ⟨(by simp only [Dt.st_now, Dt.st_told, Dt.st_stk, Dt.st_troom, Dt.st_thas, Dt.st_so, Dt.st_trips, Dt.st_papers, Dt.st_places, Dt.st_rules, Dt.st_tape, Dt.st_fault, Dt.st_blew, Dt.st_taken, Dt.st_sold, Dt.st_unsold, Dt.st_made, Dt.st_vented, Dt.st_drunk, Dt.st_noRoom, Dt.st_coins, Dt.st_stored, Dt.st_water, Dt.st_running]), fun t z => (by first | exact trivial | exact z.elim | omega | (unfold tkTi at z; omega) | (unfold goA at z; omega)), fun t z => (by first | exact trivial | exact z.elim | omega | (unfold tkTi at z; omega) | (unfold goA at z; omega)), fun c z => (by first | exact trivial | exact z.elim | omega | (unfold tkTi at z; omega) | (unfold goA at z; omega)), fun c z => (by first | exact trivial | exact z.elim | omega | (unfold tkTi at z; omega) | (unfold goA at z; omega))⟩) (Or.inl ⟨(by simp only [Dt.st_now, Dt.st_told, Dt.st_stk, Dt.st_troom, Dt.st_thas, Dt.st_so, Dt.st_trips, Dt.st_papers, Dt.st_places, Dt.st_rules, Dt.st_tape, Dt.st_fault, Dt.st_blew, Dt.st_taken, Dt.st_sold, Dt.st_unsold, Dt.st_made, Dt.st_vented, Dt.st_drunk, Dt.st_noRoom, Dt.st_coins, Dt.st_stored, Dt.st_water, Dt.st_running]), fun t z => (by first | exact trivial | exact z.elim | omega | (unfold tkTi at z; omega) | (unfold goA at z; omega)), fun t z => (by first | exact trivial | exact z.elim | omega | (unfold tkTi at z; omega) | (unfold goA at z; omega)), fun c z => (by first | exact trivial | exact z.elim | omega | (unfold tkTi at z; omega) | (unfold goA at z; omega)), fun c z => (by first | exact trivial | exact z.elim | omega | (unfold tkTi at z; omega) | (unfold goA at z; omega))⟩) (Or.inl ⟨⟨⟨(by simp only [Dt.st_now, Dt.st_told, Dt.st_stk, Dt.st_troom, Dt.st_thas, Dt.st_so, Dt.st_trips, Dt.st_papers, Dt.st_places, Dt.st_rules, Dt.st_tape, Dt.st_fault, Dt.st_blew, Dt.st_taken, Dt.st_sold, Dt.st_unsold, Dt.st_made, Dt.st_vented, Dt.st_drunk, Dt.st_noRoom, Dt.st_coins, Dt.st_stored, Dt.st_water, Dt.st_running]), (by simp only [Dt.st_now, Dt.st_told, Dt.st_stk, Dt.st_troom, Dt.st_thas, Dt.st_so, Dt.st_trips, Dt.st_papers, Dt.st_places, Dt.st_rules, Dt.st_tape, Dt.st_fault, Dt.st_blew, Dt.st_taken, Dt.st_sold, Dt.st_unsold, Dt.st_made, Dt.st_vented, Dt.st_drunk, Dt.st_noRoom, Dt.st_coins, Dt.st_stored, Dt.st_water, Dt.st_running]), (by simp only [Dt.st_now, Dt.st_told, Dt.st_stk, Dt.st_troom, Dt.st_thas, Dt.st_so, Dt.st_trips, Dt.st_papers, Dt.st_places, Dt.st_rules, Dt.st_tape, Dt.st_fault, Dt.st_blew, Dt.st_taken, Dt.st_sold, Dt.st_unsold, Dt.st_made, Dt.st_vented, Dt.st_drunk, Dt.st_noRoom, Dt.st_coins, Dt.st_stored, Dt.st_water, Dt.st_running])⟩, ⟨(by simp only [Dt.st_now, Dt.st_told, Dt.st_stk, Dt.st_troom, Dt.st_thas, Dt.st_so, Dt.st_trips, Dt.st_papers, Dt.st_places, Dt.st_rules, Dt.st_tape, Dt.st_fault, Dt.st_blew, Dt.st_taken, Dt.st_sold, Dt.st_unsold, Dt.st_made, Dt.st_vented, Dt.st_drunk, Dt.st_noRoom, Dt.st_coins, Dt.st_stored, Dt.st_water, Dt.st_running]), (by simp only [Dt.st_now, Dt.st_told, Dt.st_stk, Dt.st_troom, Dt.st_thas, Dt.st_so, Dt.st_trips, Dt.st_papers, Dt.st_places, Dt.st_rules, Dt.st_tape, Dt.st_fault, Dt.st_blew, Dt.st_taken, Dt.st_sold, Dt.st_unsold, Dt.st_made, Dt.st_vented, Dt.st_drunk, Dt.st_noRoom, Dt.st_coins, Dt.st_stored, Dt.st_water, Dt.st_running]), (by simp only [Dt.st_now, Dt.st_told, Dt.st_stk, Dt.st_troom, Dt.st_thas, Dt.st_so, Dt.st_trips, Dt.st_papers, Dt.st_places, Dt.st_rules, Dt.st_tape, Dt.st_fault, Dt.st_blew, Dt.st_taken, Dt.st_sold, Dt.st_unsold, Dt.st_made, Dt.st_vented, Dt.st_drunk, Dt.st_noRoom, Dt.st_coins, Dt.st_stored, Dt.st_water, Dt.st_running]), (by simp only [Dt.st_now, Dt.st_told, Dt.st_stk, Dt.st_troom, Dt.st_thas, Dt.st_so, Dt.st_trips, Dt.st_papers, Dt.st_places, Dt.st_rules, Dt.st_tape, Dt.st_fault, Dt.st_blew, Dt.st_taken, Dt.st_sold, Dt.st_unsold, Dt.st_made, Dt.st_vented, Dt.st_drunk, Dt.st_noRoom, Dt.st_coins, Dt.st_stored, Dt.st_water, Dt.st_running]), (by simp only [Dt.st_now, Dt.st_told, Dt.st_stk, Dt.st_troom, Dt.st_thas, Dt.st_so, Dt.st_trips, Dt.st_papers, Dt.st_places, Dt.st_rules, Dt.st_tape, Dt.st_fault, Dt.st_blew, Dt.st_taken, Dt.st_sold, Dt.st_unsold, Dt.st_made, Dt.st_vented, Dt.st_drunk, Dt.st_noRoom, Dt.st_coins, Dt.st_stored, Dt.st_water, Dt.st_running]), (by simp only [Dt.st_now, Dt.st_told, Dt.st_stk, Dt.st_troom, Dt.st_thas, Dt.st_so, Dt.st_trips, Dt.st_papers, Dt.st_places, Dt.st_rules, Dt.st_tape, Dt.st_fault, Dt.st_blew, Dt.st_taken, Dt.st_sold, Dt.st_unsold, Dt.st_made, Dt.st_vented, Dt.st_drunk, Dt.st_noRoom, Dt.st_coins, Dt.st_stored, Dt.st_water, Dt.st_running]), (by simp only [Dt.st_now, Dt.st_told, Dt.st_stk, Dt.st_troom, Dt.st_thas, Dt.st_so, Dt.st_trips, Dt.st_papers, Dt.st_places, Dt.st_rules, Dt.st_tape, Dt.st_fault, Dt.st_blew, Dt.st_taken, Dt.st_sold, Dt.st_unsold, Dt.st_made, Dt.st_vented, Dt.st_drunk, Dt.st_noRoom, Dt.st_coins, Dt.st_stored, Dt.st_water, Dt.st_running]), (by simp only [Dt.st_now, Dt.st_told, Dt.st_stk, Dt.st_troom, Dt.st_thas, Dt.st_so, Dt.st_trips, Dt.st_papers, Dt.st_places, Dt.st_rules, Dt.st_tape, Dt.st_fault, Dt.st_blew, Dt.st_taken, Dt.st_sold, Dt.st_unsold, Dt.st_made, Dt.st_vented, Dt.st_drunk, Dt.st_noRoom, Dt.st_coins, Dt.st_stored, Dt.st_water, Dt.st_running]), (by simp only [Dt.st_now, Dt.st_told, Dt.st_stk, Dt.st_troom, Dt.st_thas, Dt.st_so, Dt.st_trips, Dt.st_papers, Dt.st_places, Dt.st_rules, Dt.st_tape, Dt.st_fault, Dt.st_blew, Dt.st_taken, Dt.st_sold, Dt.st_unsold, Dt.st_made, Dt.st_vented, Dt.st_drunk, Dt.st_noRoom, Dt.st_coins, Dt.st_stored, Dt.st_water, Dt.st_running])⟩, (by simp only [Dt.st_now, Dt.st_told, Dt.st_stk, Dt.st_troom, Dt.st_thas, Dt.st_so, Dt.st_trips, Dt.st_papers, Dt.st_places, Dt.st_rules, Dt.st_tape, Dt.st_fault, Dt.st_blew, Dt.st_taken, Dt.st_sold, Dt.st_unsold, Dt.st_made, Dt.st_vented, Dt.st_drunk, Dt.st_noRoom, Dt.st_coins, Dt.st_stored, Dt.st_water, Dt.st_running]), (by simp only [Dt.st_now, Dt.st_told, Dt.st_stk, Dt.st_troom, Dt.st_thas, Dt.st_so, Dt.st_trips, Dt.st_papers, Dt.st_places, Dt.st_rules, Dt.st_tape, Dt.st_fault, Dt.st_blew, Dt.st_taken, Dt.st_sold, Dt.st_unsold, Dt.st_made, Dt.st_vented, Dt.st_drunk, Dt.st_noRoom, Dt.st_coins, Dt.st_stored, Dt.st_water, Dt.st_running]), (by simp only [Dt.st_now, Dt.st_told, Dt.st_stk, Dt.st_troom, Dt.st_thas, Dt.st_so, Dt.st_trips, Dt.st_papers, Dt.st_places, Dt.st_rules, Dt.st_tape, Dt.st_fault, Dt.st_blew, Dt.st_taken, Dt.st_sold, Dt.st_unsold, Dt.st_made, Dt.st_vented, Dt.st_drunk, Dt.st_noRoom, Dt.st_coins, Dt.st_stored, Dt.st_water, Dt.st_running]), (by simp only [Dt.st_now, Dt.st_told, Dt.st_stk, Dt.st_troom, Dt.st_thas, Dt.st_so, Dt.st_trips, Dt.st_papers, Dt.st_places, Dt.st_rules, Dt.st_tape, Dt.st_fault, Dt.st_blew, Dt.st_taken, Dt.st_sold, Dt.st_unsold, Dt.st_made, Dt.st_vented, Dt.st_drunk, Dt.st_noRoom, Dt.st_coins, Dt.st_stored, Dt.st_water, Dt.st_running]), (by simp only [Dt.st_now, Dt.st_told, Dt.st_stk, Dt.st_troom, Dt.st_thas, Dt.st_so, Dt.st_trips, Dt.st_papers, Dt.st_places, Dt.st_rules, Dt.st_tape, Dt.st_fault, Dt.st_blew, Dt.st_taken, Dt.st_sold, Dt.st_unsold, Dt.st_made, Dt.st_vented, Dt.st_drunk, Dt.st_noRoom, Dt.st_coins, Dt.st_stored, Dt.st_water, Dt.st_running])⟩, fun t z => (by first | exact trivial | exact z.elim | omega | (unfold tkTi at z; omega) | (unfold goA at z; omega)), fun t z => (by first | exact trivial | exact z.elim | omega | (unfold tkTi at z; omega) | (unfold goA at z; omega)), fun c z => (by first | exact trivial | exact z.elim | omega | (unfold tkTi at z; omega) | (unfold goA at z; omega)), fun c z => (by first | exact trivial | exact z.elim | omega | (unfold tkTi at z; omega) | (unfold goA at z; omega))⟩) (Or.inl ⟨(by simp only [Dt.st_now, Dt.st_told, Dt.st_stk, Dt.st_troom, Dt.st_thas, Dt.st_so, Dt.st_trips, Dt.st_papers, Dt.st_places, Dt.st_rules, Dt.st_tape, Dt.st_fault, Dt.st_blew, Dt.st_taken, Dt.st_sold, Dt.st_unsold, Dt.st_made, Dt.st_vented, Dt.st_drunk, Dt.st_noRoom, Dt.st_coins, Dt.st_stored, Dt.st_water, Dt.st_running]), fun t z => (by first | exact trivial | exact z.elim | omega | (unfold tkTi at z; omega) | (unfold goA at z; omega)), fun t z => (by first | exact trivial | exact z.elim | omega | (unfold tkTi at z; omega) | (unfold goA at z; omega)), fun c z => (by first | exact trivial | exact z.elim | omega | (unfold tkTi at z; omega) | (unfold goA at z; omega)), fun c z => (by first | exact trivial | exact z.elim | omega | (unfold tkTi at z; omega) | (unfold goA at z; omega))⟩)
  have hG := hX1.2.2.1
  simp only [Dt.st_so] at hG ⊢
  refine XG.of (fun i hi => ?_) (by rw [q2]; exact hG.2.2)
  have hGi := hG.at hi
  by_cases e : i = s
  · subst e
    rw [sup_eq] at hGi ⊢
    obtain ⟨v1, v2, v3, v4, v5, v6, v7, v8, v9⟩ := hGi
    unfold XG1
    rw [q1, q2, q5, fv, fl 392 _ (by omega)]
    refine ⟨?_, v2, v3, v4, v5, v6, v7, rfl, v9⟩
    exact (map_same (fun c _ => by unfold rdLt; rw [q5])).trans v1
  · rw [sup_ne e] at hGi ⊢
    obtain ⟨v1, v2, v3, v4, v5, v6, v7, v8, v9⟩ := hGi
    unfold XG1
    rw [q1, q2, q5, fl 391 _ (by omega), fl 392 _ (by omega)]
    refine ⟨?_, v2, v3, v4, v5, v6, v7, v8, v9⟩
    exact (map_same (fun c _ => by unfold rdLt; rw [q5])).trans v1
/-- leaks of both stores -/
def lk2 (so : Nat → So) : Nat → So := sup (sup so 0 (lkD (so 0))) 1 (lkD (so 1))
def lkA (o : Nat) : Prop := (18 ≤ o ∧ o ≤ 26) ∨ o = 32 ∨ o = 33
theorem m_leak1 {kk n s : Nat} {d : Dt} {S : MS} (hS : IMk kk S d) (hs : s < 2) (ho : soOk d.now (d.so s)) (hnow : d.now ≤ 4999) (hn : 9100 ≤ n) {β : Type} {F : Act β} {Q : β → MS → Prop}
    (hq : ∀ S', Sam no lkA (fun o => o = 14 ∨ o = 22) S S' → IMk kk S' (d.set_so (sup d.so s (lkD (d.so s)))) → wm x F S' Q) :
    wm x (bnd (getR 4 23 (x + 28)) fun v43 => bnd (ldI 0 v43 (Int32.ofNat s)) fun v44 => bnd (getR 4 21 (x + 28)) fun v45 => bnd (ldI 0 v45 (Int32.ofNat s)) fun v46 => bnd (gd 4 (x + 28) (nt (f_X4_goesOut n (x + 28) (Int32.ofNat s) (((v44.toInt64 * v46.toInt64) / 10000).toInt32) (-1 : Int32)))) fun _ => bnd (getR 4 27 (x + 28)) fun v47 => bnd (ldL 1 v47 (Int32.ofNat s)) fun v48 => bnd (stL 1 v47 (Int32.ofNat s) (v48 + ((((v44.toInt64 * v46.toInt64) / 10000).toInt32).toInt64))) fun _ => bnd (getR 4 17 (x + 28)) fun v49 => bnd (ldL 1 v49 7) fun v50 => bnd (stL 1 v49 7 (v50 + ((((v44.toInt64 * v46.toInt64) / 10000).toInt32).toInt64))) fun _ => F) S Q := by
  have r4 := (hS.2.2.1.at hs).2.2.2.1
  have r2 := (hS.2.2.1.at hs).2.1
  obtain ⟨l0, l1⟩ := lk_i ho
  refine m_bnd (m_getRt rfl (m_bnd (m_ldIt rfl hs (m_bnd (m_getRt rfl (m_bnd (m_ldIt rfl hs ?_)))))))
  rw [r4, r2, show (((d.so s).grams.toInt64 * (d.so s).leak.toInt64) / 10000).toInt32 = lkN (d.so s) from rfl]
  refine m_bnd (m_gd (m_nt (m_goesk (tr := none) hS hs ho.1.pos (ho.1.hrs hnow) l0 (by rw [ho.2.1]; exact l1) (fun _ z => absurd z (by simp)) hn (fun S1 a1 hS1 => ?_))))
  have hR := hS1.2.2.1
  have hN := hS1.2.2.2.2.2.2.1
  simp only [Dt.st_so, Dt.st_trips] at hR
  have hRs := hR.at hs
  rw [sup_eq] at hRs
  have l22 : S1.b 22 s = (d.so s).leaked := hRs.2.2.2.2.2.2.1
  refine m_bnd (m_getRt rfl (m_bnd (m_ldLt rfl hs (m_bnd (m_stLt rfl hs (m_bnd (m_getRt rfl (m_bnd (m_ldLt (i := 7) rfl (by decide) (m_bnd (m_stLt (i := 7) rfl (by decide) ?_)))))))))))
  rw [l22, sB_at, if_neg (by omega)]
  have hmid : IMk kk S1 (d.set_so (sup d.so s (tkSo (d.so s) (lkN (d.so s))))) := hS1
  refine hq _ ((((a1.mono (fun _ z => z) (fun o z => by unfold goA at z; unfold lkA; omega) (fun _ z => z.elim) : Sam no lkA (fun o => o = 14 ∨ o = 22) S S1)).sb (Or.inr rfl)).sb (Or.inl rfl)) ?_
  refine hmid.cmb (I := no) (A := no) (B := fun o => o = 22 ∨ o = 14) ((Sam.rf.sb (Or.inl rfl)).sb (Or.inr rfl)) (Or.inl ⟨(by simp only [Dt.st_now, Dt.st_told, Dt.st_stk, Dt.st_troom, Dt.st_thas, Dt.st_so, Dt.st_trips, Dt.st_papers, Dt.st_places, Dt.st_rules, Dt.st_tape, Dt.st_fault, Dt.st_blew, Dt.st_taken, Dt.st_sold, Dt.st_unsold, Dt.st_made, Dt.st_vented, Dt.st_drunk, Dt.st_noRoom, Dt.st_coins, Dt.st_stored, Dt.st_water, Dt.st_running]), fun t z => (by first | exact trivial | exact z.elim | omega | (unfold tkTi at z; omega) | (unfold goA at z; omega)), fun t z => (by first | exact trivial | exact z.elim | omega | (unfold tkTi at z; omega) | (unfold goA at z; omega)), fun c z => (by first | exact trivial | exact z.elim | omega | (unfold tkTi at z; omega) | (unfold goA at z; omega))⟩) (Or.inl ⟨⟨(by simp only [Dt.st_now, Dt.st_told, Dt.st_stk, Dt.st_troom, Dt.st_thas, Dt.st_so, Dt.st_trips, Dt.st_papers, Dt.st_places, Dt.st_rules, Dt.st_tape, Dt.st_fault, Dt.st_blew, Dt.st_taken, Dt.st_sold, Dt.st_unsold, Dt.st_made, Dt.st_vented, Dt.st_drunk, Dt.st_noRoom, Dt.st_coins, Dt.st_stored, Dt.st_water, Dt.st_running]), (by simp only [Dt.st_now, Dt.st_told, Dt.st_stk, Dt.st_troom, Dt.st_thas, Dt.st_so, Dt.st_trips, Dt.st_papers, Dt.st_places, Dt.st_rules, Dt.st_tape, Dt.st_fault, Dt.st_blew, Dt.st_taken, Dt.st_sold, Dt.st_unsold, Dt.st_made, Dt.st_vented, Dt.st_drunk, Dt.st_noRoom, Dt.st_coins, Dt.st_stored, Dt.st_water, Dt.st_running])⟩, fun t z => (by first | exact trivial | exact z.elim | omega | (unfold tkTi at z; omega) | (unfold goA at z; omega)), fun t z => (by first | exact trivial | exact z.elim | omega | (unfold tkTi at z; omega) | (unfold goA at z; omega)), fun c z => (by first | exact trivial | exact z.elim | omega | (unfold tkTi at z; omega) | (unfold goA at z; omega))⟩) (Or.inr ?_) (Or.inl ⟨(by simp only [Dt.st_now, Dt.st_told, Dt.st_stk, Dt.st_troom, Dt.st_thas, Dt.st_so, Dt.st_trips, Dt.st_papers, Dt.st_places, Dt.st_rules, Dt.st_tape, Dt.st_fault, Dt.st_blew, Dt.st_taken, Dt.st_sold, Dt.st_unsold, Dt.st_made, Dt.st_vented, Dt.st_drunk, Dt.st_noRoom, Dt.st_coins, Dt.st_stored, Dt.st_water, Dt.st_running]), fun t z => (by first | exact trivial | exact z.elim | omega | (unfold tkTi at z; omega) | (unfold goA at z; omega)), fun t z => (by first | exact trivial | exact z.elim | omega | (unfold tkTi at z; omega) | (unfold goA at z; omega)), fun c z => (by first | exact trivial | exact z.elim | omega | (unfold tkTi at z; omega) | (unfold goA at z; omega))⟩) (Or.inl ⟨(by simp only [Dt.st_now, Dt.st_told, Dt.st_stk, Dt.st_troom, Dt.st_thas, Dt.st_so, Dt.st_trips, Dt.st_papers, Dt.st_places, Dt.st_rules, Dt.st_tape, Dt.st_fault, Dt.st_blew, Dt.st_taken, Dt.st_sold, Dt.st_unsold, Dt.st_made, Dt.st_vented, Dt.st_drunk, Dt.st_noRoom, Dt.st_coins, Dt.st_stored, Dt.st_water, Dt.st_running]), fun t z => (by first | exact trivial | exact z.elim | omega | (unfold tkTi at z; omega) | (unfold goA at z; omega)), fun t z => (by first | exact trivial | exact z.elim | omega | (unfold tkTi at z; omega) | (unfold goA at z; omega)), fun c z => (by first | exact trivial | exact z.elim | omega | (unfold tkTi at z; omega) | (unfold goA at z; omega))⟩) (Or.inl ⟨(by simp only [Dt.st_now, Dt.st_told, Dt.st_stk, Dt.st_troom, Dt.st_thas, Dt.st_so, Dt.st_trips, Dt.st_papers, Dt.st_places, Dt.st_rules, Dt.st_tape, Dt.st_fault, Dt.st_blew, Dt.st_taken, Dt.st_sold, Dt.st_unsold, Dt.st_made, Dt.st_vented, Dt.st_drunk, Dt.st_noRoom, Dt.st_coins, Dt.st_stored, Dt.st_water, Dt.st_running]), fun t z => (by first | exact trivial | exact z.elim | omega | (unfold tkTi at z; omega) | (unfold goA at z; omega)), fun t z => (by first | exact trivial | exact z.elim | omega | (unfold tkTi at z; omega) | (unfold goA at z; omega)), fun c z => (by first | exact trivial | exact z.elim | omega | (unfold tkTi at z; omega) | (unfold goA at z; omega))⟩) (Or.inr ?_) (Or.inl ⟨(by simp only [Dt.st_now, Dt.st_told, Dt.st_stk, Dt.st_troom, Dt.st_thas, Dt.st_so, Dt.st_trips, Dt.st_papers, Dt.st_places, Dt.st_rules, Dt.st_tape, Dt.st_fault, Dt.st_blew, Dt.st_taken, Dt.st_sold, Dt.st_unsold, Dt.st_made, Dt.st_vented, Dt.st_drunk, Dt.st_noRoom, Dt.st_coins, Dt.st_stored, Dt.st_water, Dt.st_running]), fun t z => (by first | exact trivial | exact z.elim | omega | (unfold tkTi at z; omega) | (unfold goA at z; omega)), fun t z => (by first | exact trivial | exact z.elim | omega | (unfold tkTi at z; omega) | (unfold goA at z; omega)), fun c z => (by first | exact trivial | exact z.elim | omega | (unfold tkTi at z; omega) | (unfold goA at z; omega))⟩)
  · simp only [Dt.st_so]
    refine RG.of (fun i hi => ?_)
    have hRi := hR.at hi
    by_cases e : i = s
    · subst e
      rw [sup_eq] at hRi ⊢
      obtain ⟨v1, v2, v3, v4, v5, v6, v7, v8, v9⟩ := hRi
      refine ⟨v1, v2, v3, v4, v5, v6, ?_, ?_, v9⟩
      · rw [sB_at, if_neg (by omega), sB_at, if_pos ⟨rfl, rfl⟩]; rfl
      · rw [sB_at, if_neg (by omega), sB_at, if_neg (by omega)]; exact v8
    · rw [sup_ne e] at hRi ⊢
      obtain ⟨v1, v2, v3, v4, v5, v6, v7, v8, v9⟩ := hRi
      refine ⟨v1, v2, v3, v4, v5, v6, ?_, ?_, v9⟩
      · rw [sB_at, if_neg (by omega), sB_at, if_neg (by omega)]; exact v7
      · rw [sB_at, if_neg (by omega), sB_at, if_neg (by omega)]; exact v8
  · obtain ⟨y1, y2, y3, ⟨z1, z2, z3, z4, z5, z6, z7, z8, z9, z10, z11⟩, y5, y6, y7, y8⟩ := hN
    simp only [Dt.st_so, Dt.st_trips] at y1 y2 y3 z1 z2 z3 z4 z5 z6 z7 z8 z9 z10 z11 y5 y6 y7 y8
    unfold RN
    simp only [Dt.st_so, sb_i, sb_a, sB_at, Nat.reduceEqDiff, false_and, true_and, if_false, if_true]
    refine ⟨y1, y2, y3, ⟨z1, z2, z3, z4, z5, z6, z7, z8, z9, ?_, ?_⟩, y5, y6, y7, y8⟩
    · rw [z10]
      rcases (by omega : s = 0 ∨ s = 1) with rfl | rfl
      · show (d.so 0).leaked + (d.so 1).leaked + _ = (d.so 0).leaked + _ + (d.so 1).leaked
        ac_rfl
      · show (d.so 0).leaked + (d.so 1).leaked + _ = (d.so 0).leaked + ((d.so 1).leaked + _)
        ac_rfl
    · rw [z11]
      rcases (by omega : s = 0 ∨ s = 1) with rfl | rfl <;> rfl
theorem m_leaks {kk n : Nat} {d : Dt} {S : MS} (hS : IMk kk S d) (o0 : soOk d.now (d.so 0)) (o1 : soOk d.now (d.so 1)) (hnow : d.now ≤ 4999) (hn : 9100 ≤ n) {jj : Unit → Act Unit} {Q : Unit → MS → Prop}
    (hq : ∀ S', Sam no lkA (fun o => o = 14 ∨ o = 22) S S' → IMk kk S' (d.set_so (lk2 d.so)) → wm x (jj ()) S' Q) : wm x (lp_X4_ten_389 n (x + 28) jj n 0) S Q := by
  have go : ∀ q, 3 ≤ q → wm x (lp_X4_ten_389 n (x + 28) jj q (Int32.ofNat 0)) S Q := by
    intro q hq3
    obtain ⟨q, rfl⟩ : ∃ e, q = e + 3 := ⟨q - 3, by omega⟩
    rw [lp_X4_ten_389]
    refine m_f (by decide) (m_leak1 (s := 0) hS (by decide) o0 hnow hn (fun S1 A1 hS1 => ?_))
    rw [i_add1, lp_X4_ten_389]
    refine m_f (by decide) (m_leak1 (s := 1) hS1 (by decide) o1 hnow hn (fun S2 A2 hS2 => ?_))
    rw [i_add1, lp_X4_ten_389]
    exact m_t (by decide) (hq S2 (A1.tr A2) hS2)
  exact go n (by omega)
end
