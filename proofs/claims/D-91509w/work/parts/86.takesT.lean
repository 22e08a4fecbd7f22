set_option maxRecDepth 100000
section
variable {x : Nat} {M : Mem}
/-- so much of a store goes out to a trip -/
theorem x_takesT {n s a : Nat} {w : Int32} {d : Dt} (hB : Bas x M) (hX : IX x M d) (hs : s < 2) (hp : posL (d.so s).lots) (h0 : 0 ≤ w.toInt) (h1 : w.toInt ≤ sumG (d.so s).lots) (hn : 9100 ≤ n) (ha : a < d.trips.length) (ha2 : a < (M.ls (x + 23)).length) (hsp : d.trips[a].sips.length + (d.so s).lots.length ≤ 5000) {Q : Unit → Mem → Prop}
    (hq : ∀ M', Bas x M' → Ag tkTi no (fun c => c = x + 14 + 2 * s ∨ c = (M.ls (x + 23))[a] + 1) no M M' → (M'.n ≤ M.n + 2 * (tkL (d.so s).lots w).2.1.length ∧ M'.sl + psi (M.cap ((M.ls (x + 23))[a] + 1)) ≤ M.sl + 2 * (tkL (d.so s).lots w).2.1.length + psi (M'.cap ((M.ls (x + 23))[a] + 1)) ∧ M'.cap (x + 14) = M.cap (x + 14) ∧ M'.cap (x + 16) = M.cap (x + 16)) → M'.ls (x + 23) = M.ls (x + 23) → IX x M' ((d.set_so (sup d.so s (tkSo (d.so s) w))).set_trips (tpU d.trips (some a) (tkL (d.so s).lots w).2.1 0)) → Q () M') : wp (f_X3_takes n (x + 13 + 2 * s) w (M.ls (x + 23))[a]) M Q := by
  have hL := hB.1
  have hg := hB.2.2.1
  have hfr := hB.2.1
  have top := hL.top
  obtain ⟨s1, s2, s3⟩ := storeL hL hs
  obtain ⟨a1, a2, a3, a4, a5, a6, a7, a8, a9⟩ := hX.2.2.1.at hs
  obtain ⟨p1, p2, p3⟩ := hX.2.2.2.1
  obtain ⟨b1, b2, b3, b4, b5⟩ := p3 _ (List.getElem_mem ha2)
  have eT := map_get p1 ha ha2
  have hb := hg.len s3
  have hlen := map_len a1
  have eS : (M.ls ((M.ls (x + 23))[a] + 1)).map (rdSp M) = d.trips[a].sips := by rw [← eT]; rfl
  have lS := map_len eS
  have ltc := hfr.le (c := (M.ls (x + 23))[a]) (by rw [b1]; decide)
  have ll2 := hfr.le (c := (M.ls (x + 23))[a] + 1) (by rw [b3]; decide)
  unfold f_X3_takes
  refine w_bnd (w_getIv s1 a7 (w_bnd (w_putI s1 ?_)))
  have fa : Ag tkTi no (fun c => c = x + 14 + 2 * s ∨ c = (M.ls (x + 23))[a] + 1) no M (M.seti (128 * 3 + 4) (x + 13 + 2 * s) ((d.so s).grams - w)) := Ag.rf.i (Or.inl (Or.inr (Or.inr rfl)))
  have fi : ∀ t c, ¬ (t = 388 ∧ c = x + 13 + 2 * s) → (M.seti (128 * 3 + 4) (x + 13 + 2 * s) ((d.so s).grams - w)).i t c = M.i t c := fun t c h => i3 h
  have fv : (M.seti (128 * 3 + 4) (x + 13 + 2 * s) ((d.so s).grams - w)).i 388 (x + 13 + 2 * s) = (d.so s).grams - w := seti_eq _ _ _ _
  have ff : (M.seti (128 * 3 + 4) (x + 13 + 2 * s) ((d.so s).grams - w)).k = M.k ∧ (M.seti (128 * 3 + 4) (x + 13 + 2 * s) ((d.so s).grams - w)).ls = M.ls ∧ (M.seti (128 * 3 + 4) (x + 13 + 2 * s) ((d.so s).grams - w)).cap = M.cap ∧ (M.seti (128 * 3 + 4) (x + 13 + 2 * s) ((d.so s).grams - w)).n = M.n ∧ (M.seti (128 * 3 + 4) (x + 13 + 2 * s) ((d.so s).grams - w)).sl = M.sl ∧ (M.seti (128 * 3 + 4) (x + 13 + 2 * s) ((d.so s).grams - w)).r = M.r := ⟨rfl, rfl, rfl, rfl, rfl, rfl⟩
  revert fa fi fv ff
  generalize M.seti (128 * 3 + 4) (x + 13 + 2 * s) ((d.so s).grams - w) = M1
  intro fa fi fv ff
  obtain ⟨f1, f2, f3, f4, f5, f6⟩ := ff
  have rd1 : ∀ l : List Nat, l.map (rdLt M1) = l.map (rdLt M) := fun l => map_same (fun c _ => by
    unfold rdLt
    rw [fi _ _ (by omega), fi _ _ (by omega), fi _ _ (by omega)])
  have rs1 : ∀ l : List Nat, l.map (rdSp M1) = l.map (rdSp M) := fun l => map_same (fun c _ => by
    unfold rdSp
    rw [fi _ _ (by omega), fi _ _ (by omega)])
  refine x_tkT (l := x + 14 + 2 * s) (d.so s).lots n w M1 d.trips[a].sips (hfr.same f1 f4) (hg.same f1 f2 f3) (by rw [f1]; exact s1) (by rw [f6]; exact s2) (by rw [f1]; exact s3) (by rw [f2, rd1]; exact a1) (by rw [f2, f1]; exact a2) (by rw [f2]; exact a3) hp h0 h1 (by omega) (by omega) (by rw [f1]; exact b1) (by rw [f6]; exact b2) (by rw [f1]; exact b3) (by omega) ⟨by rw [f2, rs1]; exact eS, by rw [f2, f1]; exact b5⟩ (by rw [f2, lS]; exact hsp) (fun M' hF hr hSp => ?_)
  obtain ⟨u1, u7, ⟨pre, u8⟩, ⟨uf, ug⟩, ucap, un, usl⟩ := hF
  rw [f2] at u7 u8
  rw [f4] at u7 ucap un
  rw [f5, f3] at usl
  have hA : Ag tkTi no (fun c => c = x + 14 + 2 * s ∨ c = (M.ls (x + 23))[a] + 1) no M M' := fa.tr (u1.mono (fun t z => z.elim Or.inl (fun z => Or.inr (Or.inl z))) (fun _ z => z) (fun _ z => z) (fun _ z => z))
  have hL' : Lay x M' := hA.lay hL (fun t z => by unfold tkTi at z; omega)
  have hB' : Bas x M' := ⟨hL', uf, ug, hB.2.2.2.ag hfr hA⟩
  have lsame : ∀ c, c ≤ M.n → c ≠ x + 14 + 2 * s → c ≠ (M.ls (x + 23))[a] + 1 → M'.ls c = M.ls c := fun c hc n1 n2 => (hA.2.2.2.2.2.1 c hc (fun z => z.elim n1 n2)).1
  have l23 : M'.ls (x + 23) = M.ls (x + 23) := lsame _ (by omega) (by omega) (by omega)
  have knot : ∀ c, M.k c ≠ 9 → c ∉ M.ls (x + 14 + 2 * s) := fun c hk hc => hk (a2 c hc)
  have ii : ∀ t c, c ≤ M.n → M.k c ≠ 9 → ¬ (t = 388 ∧ c = x + 13 + 2 * s) → M'.i t c = M.i t c := fun t c hc hk h => by rw [u7 t c hc (knot c hk), fi t c h]
  refine hq M' hB' hA ⟨un, usl, ?_, ?_⟩ l23 ?_
  · rw [ucap _ (by omega) (by omega), f3]
  · rw [ucap _ (by omega) (by omega), f3]
  refine hX.cmb hB hA (Or.inl ⟨(by simp only [Dt.st_now, Dt.st_told, Dt.st_stk, Dt.st_troom, Dt.st_thas, Dt.st_so, Dt.st_trips, Dt.st_papers, Dt.st_places, Dt.st_rules, Dt.st_tape, Dt.st_fault, Dt.st_blew, Dt.st_taken, Dt.st_sold, Dt.st_unsold, Dt.st_made, Dt.st_vented, Dt.st_drunk, Dt.st_noRoom, Dt.st_coins, Dt.st_stored, Dt.st_water, Dt.st_running]), fun t z => (by first | exact trivial | exact z.elim | omega | (unfold tkTi at z; omega) | (unfold goA at z; omega)), fun t z => (by first | exact trivial | exact z.elim | omega | (unfold tkTi at z; omega) | (unfold goA at z; omega)), fun c z => (by first | exact trivial | exact z.elim | omega | (unfold tkTi at z; omega) | (unfold goA at z; omega)), fun c z => (by first | exact trivial | exact z.elim | omega | (unfold tkTi at z; omega) | (unfold goA at z; omega))⟩) (Or.inl ⟨(by simp only [Dt.st_now, Dt.st_told, Dt.st_stk, Dt.st_troom, Dt.st_thas, Dt.st_so, Dt.st_trips, Dt.st_papers, Dt.st_places, Dt.st_rules, Dt.st_tape, Dt.st_fault, Dt.st_blew, Dt.st_taken, Dt.st_sold, Dt.st_unsold, Dt.st_made, Dt.st_vented, Dt.st_drunk, Dt.st_noRoom, Dt.st_coins, Dt.st_stored, Dt.st_water, Dt.st_running]), fun t z => (by first | exact trivial | exact z.elim | omega | (unfold tkTi at z; omega) | (unfold goA at z; omega)), fun t z => (by first | exact trivial | exact z.elim | omega | (unfold tkTi at z; omega) | (unfold goA at z; omega)), fun c z => (by first | exact trivial | exact z.elim | omega | (unfold tkTi at z; omega) | (unfold goA at z; omega)), fun c z => (by first | exact trivial | exact z.elim | omega | (unfold tkTi at z; omega) | (unfold goA at z; omega))⟩) (Or.inr ?_) (Or.inr ?_) (Or.inl ⟨(by simp only [Dt.st_now, Dt.st_told, Dt.st_stk, Dt.st_troom, Dt.st_thas, Dt.st_so, Dt.st_trips, Dt.st_papers, Dt.st_places, Dt.st_rules, Dt.st_tape, Dt.st_fault, Dt.st_blew, Dt.st_taken, Dt.st_sold, Dt.st_unsold, Dt.st_made, Dt.st_vented, Dt.st_drunk, Dt.st_noRoom, Dt.st_coins, Dt.st_stored, Dt.st_water, Dt.st_running]), fun t z => (by first | exact trivial | exact z.elim | omega | (unfold tkTi at z; omega) | (unfold goA at z; omega)), fun t z => (by first | exact trivial | exact z.elim | omega | (unfold tkTi at z; omega) | (unfold goA at z; omega)), fun c z => (by first | exact trivial | exact z.elim | omega | (unfold tkTi at z; omega) | (unfold goA at z; omega)), fun c z => (by first | exact trivial | exact z.elim | omega | (unfold tkTi at z; omega) | (unfold goA at z; omega))⟩) (Or.inl ⟨(by simp only [Dt.st_now, Dt.st_told, Dt.st_stk, Dt.st_troom, Dt.st_thas, Dt.st_so, Dt.st_trips, Dt.st_papers, Dt.st_places, Dt.st_rules, Dt.st_tape, Dt.st_fault, Dt.st_blew, Dt.st_taken, Dt.st_sold, Dt.st_unsold, Dt.st_made, Dt.st_vented, Dt.st_drunk, Dt.st_noRoom, Dt.st_coins, Dt.st_stored, Dt.st_water, Dt.st_running]), fun t z => (by first | exact trivial | exact z.elim | omega | (unfold tkTi at z; omega) | (unfold goA at z; omega)), fun t z => (by first | exact trivial | exact z.elim | omega | (unfold tkTi at z; omega) | (unfold goA at z; omega)), fun c z => (by first | exact trivial | exact z.elim | omega | (unfold tkTi at z; omega) | (unfold goA at z; omega)), fun c z => (by first | exact trivial | exact z.elim | omega | (unfold tkTi at z; omega) | (unfold goA at z; omega))⟩) (Or.inl ⟨⟨⟨(by simp only [Dt.st_now, Dt.st_told, Dt.st_stk, Dt.st_troom, Dt.st_thas, Dt.st_so, Dt.st_trips, Dt.st_papers, Dt.st_places, Dt.st_rules, Dt.st_tape, Dt.st_fault, Dt.st_blew, Dt.st_taken, Dt.st_sold, Dt.st_unsold, Dt.st_made, Dt.st_vented, Dt.st_drunk, Dt.st_noRoom, Dt.st_coins, Dt.st_stored, Dt.st_water, Dt.st_running]), (by simp only [Dt.st_now, Dt.st_told, Dt.st_stk, Dt.st_troom, Dt.st_thas, Dt.st_so, Dt.st_trips, Dt.st_papers, Dt.st_places, Dt.st_rules, Dt.st_tape, Dt.st_fault, Dt.st_blew, Dt.st_taken, Dt.st_sold, Dt.st_unsold, Dt.st_made, Dt.st_vented, Dt.st_drunk, Dt.st_noRoom, Dt.st_coins, Dt.st_stored, Dt.st_water, Dt.st_running]), (by simp only [Dt.st_now, Dt.st_told, Dt.st_stk, Dt.st_troom, Dt.st_thas, Dt.st_so, Dt.st_trips, Dt.st_papers, Dt.st_places, Dt.st_rules, Dt.st_tape, Dt.st_fault, Dt.st_blew, Dt.st_taken, Dt.st_sold, Dt.st_unsold, Dt.st_made, Dt.st_vented, Dt.st_drunk, Dt.st_noRoom, Dt.st_coins, Dt.st_stored, Dt.st_water, Dt.st_running])⟩, ⟨(by simp only [Dt.st_now, Dt.st_told, Dt.st_stk, Dt.st_troom, Dt.st_thas, Dt.st_so, Dt.st_trips, Dt.st_papers, Dt.st_places, Dt.st_rules, Dt.st_tape, Dt.st_fault, Dt.st_blew, Dt.st_taken, Dt.st_sold, Dt.st_unsold, Dt.st_made, Dt.st_vented, Dt.st_drunk, Dt.st_noRoom, Dt.st_coins, Dt.st_stored, Dt.st_water, Dt.st_running]), (by simp only [Dt.st_now, Dt.st_told, Dt.st_stk, Dt.st_troom, Dt.st_thas, Dt.st_so, Dt.st_trips, Dt.st_papers, Dt.st_places, Dt.st_rules, Dt.st_tape, Dt.st_fault, Dt.st_blew, Dt.st_taken, Dt.st_sold, Dt.st_unsold, Dt.st_made, Dt.st_vented, Dt.st_drunk, Dt.st_noRoom, Dt.st_coins, Dt.st_stored, Dt.st_water, Dt.st_running]), (by simp only [Dt.st_now, Dt.st_told, Dt.st_stk, Dt.st_troom, Dt.st_thas, Dt.st_so, Dt.st_trips, Dt.st_papers, Dt.st_places, Dt.st_rules, Dt.st_tape, Dt.st_fault, Dt.st_blew, Dt.st_taken, Dt.st_sold, Dt.st_unsold, Dt.st_made, Dt.st_vented, Dt.st_drunk, Dt.st_noRoom, Dt.st_coins, Dt.st_stored, Dt.st_water, Dt.st_running]), (by simp only [Dt.st_now, Dt.st_told, Dt.st_stk, Dt.st_troom, Dt.st_thas, Dt.st_so, Dt.st_trips, Dt.st_papers, Dt.st_places, Dt.st_rules, Dt.st_tape, Dt.st_fault, Dt.st_blew, Dt.st_taken, Dt.st_sold, Dt.st_unsold, Dt.st_made, Dt.st_vented, Dt.st_drunk, Dt.st_noRoom, Dt.st_coins, Dt.st_stored, Dt.st_water, Dt.st_running]), (by simp only [Dt.st_now, Dt.st_told, Dt.st_stk, Dt.st_troom, Dt.st_thas, Dt.st_so, Dt.st_trips, Dt.st_papers, Dt.st_places, Dt.st_rules, Dt.st_tape, Dt.st_fault, Dt.st_blew, Dt.st_taken, Dt.st_sold, Dt.st_unsold, Dt.st_made, Dt.st_vented, Dt.st_drunk, Dt.st_noRoom, Dt.st_coins, Dt.st_stored, Dt.st_water, Dt.st_running]), (by simp only [Dt.st_now, Dt.st_told, Dt.st_stk, Dt.st_troom, Dt.st_thas, Dt.st_so, Dt.st_trips, Dt.st_papers, Dt.st_places, Dt.st_rules, Dt.st_tape, Dt.st_fault, Dt.st_blew, Dt.st_taken, Dt.st_sold, Dt.st_unsold, Dt.st_made, Dt.st_vented, Dt.st_drunk, Dt.st_noRoom, Dt.st_coins, Dt.st_stored, Dt.st_water, Dt.st_running]), (by simp only [Dt.st_now, Dt.st_told, Dt.st_stk, Dt.st_troom, Dt.st_thas, Dt.st_so, Dt.st_trips, Dt.st_papers, Dt.st_places, Dt.st_rules, Dt.st_tape, Dt.st_fault, Dt.st_blew, Dt.st_taken, Dt.st_sold, Dt.st_unsold, Dt.st_made, Dt.st_vented, Dt.st_drunk, Dt.st_noRoom, Dt.st_coins, Dt.st_stored, Dt.st_water, Dt.st_running]), (by simp only [Dt.st_now, Dt.st_told, Dt.st_stk, Dt.st_troom, Dt.st_thas, Dt.st_so, Dt.st_trips, Dt.st_papers, Dt.st_places, Dt.st_rules, Dt.st_tape, Dt.st_fault, Dt.st_blew, Dt.st_taken, Dt.st_sold, Dt.st_unsold, Dt.st_made, Dt.st_vented, Dt.st_drunk, Dt.st_noRoom, Dt.st_coins, Dt.st_stored, Dt.st_water, Dt.st_running]), (by simp only [Dt.st_now, Dt.st_told, Dt.st_stk, Dt.st_troom, Dt.st_thas, Dt.st_so, Dt.st_trips, Dt.st_papers, Dt.st_places, Dt.st_rules, Dt.st_tape, Dt.st_fault, Dt.st_blew, Dt.st_taken, Dt.st_sold, Dt.st_unsold, Dt.st_made, Dt.st_vented, Dt.st_drunk, Dt.st_noRoom, Dt.st_coins, Dt.st_stored, Dt.st_water, Dt.st_running])⟩, (by simp only [Dt.st_now, Dt.st_told, Dt.st_stk, Dt.st_troom, Dt.st_thas, Dt.st_so, Dt.st_trips, Dt.st_papers, Dt.st_places, Dt.st_rules, Dt.st_tape, Dt.st_fault, Dt.st_blew, Dt.st_taken, Dt.st_sold, Dt.st_unsold, Dt.st_made, Dt.st_vented, Dt.st_drunk, Dt.st_noRoom, Dt.st_coins, Dt.st_stored, Dt.st_water, Dt.st_running]), (by simp only [Dt.st_now, Dt.st_told, Dt.st_stk, Dt.st_troom, Dt.st_thas, Dt.st_so, Dt.st_trips, Dt.st_papers, Dt.st_places, Dt.st_rules, Dt.st_tape, Dt.st_fault, Dt.st_blew, Dt.st_taken, Dt.st_sold, Dt.st_unsold, Dt.st_made, Dt.st_vented, Dt.st_drunk, Dt.st_noRoom, Dt.st_coins, Dt.st_stored, Dt.st_water, Dt.st_running]), (by simp only [Dt.st_now, Dt.st_told, Dt.st_stk, Dt.st_troom, Dt.st_thas, Dt.st_so, Dt.st_trips, Dt.st_papers, Dt.st_places, Dt.st_rules, Dt.st_tape, Dt.st_fault, Dt.st_blew, Dt.st_taken, Dt.st_sold, Dt.st_unsold, Dt.st_made, Dt.st_vented, Dt.st_drunk, Dt.st_noRoom, Dt.st_coins, Dt.st_stored, Dt.st_water, Dt.st_running]), (by simp only [Dt.st_now, Dt.st_told, Dt.st_stk, Dt.st_troom, Dt.st_thas, Dt.st_so, Dt.st_trips, Dt.st_papers, Dt.st_places, Dt.st_rules, Dt.st_tape, Dt.st_fault, Dt.st_blew, Dt.st_taken, Dt.st_sold, Dt.st_unsold, Dt.st_made, Dt.st_vented, Dt.st_drunk, Dt.st_noRoom, Dt.st_coins, Dt.st_stored, Dt.st_water, Dt.st_running]), (by simp only [Dt.st_now, Dt.st_told, Dt.st_stk, Dt.st_troom, Dt.st_thas, Dt.st_so, Dt.st_trips, Dt.st_papers, Dt.st_places, Dt.st_rules, Dt.st_tape, Dt.st_fault, Dt.st_blew, Dt.st_taken, Dt.st_sold, Dt.st_unsold, Dt.st_made, Dt.st_vented, Dt.st_drunk, Dt.st_noRoom, Dt.st_coins, Dt.st_stored, Dt.st_water, Dt.st_running])⟩, fun t z => (by first | exact trivial | exact z.elim | omega | (unfold tkTi at z; omega) | (unfold goA at z; omega)), fun t z => (by first | exact trivial | exact z.elim | omega | (unfold tkTi at z; omega) | (unfold goA at z; omega)), fun c z => (by first | exact trivial | exact z.elim | omega | (unfold tkTi at z; omega) | (unfold goA at z; omega)), fun c z => (by first | exact trivial | exact z.elim | omega | (unfold tkTi at z; omega) | (unfold goA at z; omega))⟩) (Or.inl ⟨(by simp only [Dt.st_now, Dt.st_told, Dt.st_stk, Dt.st_troom, Dt.st_thas, Dt.st_so, Dt.st_trips, Dt.st_papers, Dt.st_places, Dt.st_rules, Dt.st_tape, Dt.st_fault, Dt.st_blew, Dt.st_taken, Dt.st_sold, Dt.st_unsold, Dt.st_made, Dt.st_vented, Dt.st_drunk, Dt.st_noRoom, Dt.st_coins, Dt.st_stored, Dt.st_water, Dt.st_running]), fun t z => (by unfold tkTi at z; omega), fun t z => z.elim, fun c z => ⟨fun _ => ?_, by omega⟩, fun c z => z.elim⟩)
  · simp only [Dt.st_so, Dt.st_trips]
    have st_i : ∀ t j, j < 2 → ¬ (t = 388 ∧ j = s) → M'.i t (x + 13 + 2 * j) = M.i t (x + 13 + 2 * j) := fun t j hj h => ii t _ (by omega) (by rw [(storeL hL hj).1]; decide) (by omega)
    have st_l : ∀ t j, j < 2 → M'.l t (x + 13 + 2 * j) = M.l t (x + 13 + 2 * j) := fun t j hj => hA.2.2.2.2.1 t _ (by omega) (fun z => z)
    have kk : ∀ c, M.k c = 9 → M'.k c = 9 := fun c hk => by rw [(hA.2.1 c (hfr.le (by rw [hk]; decide))).1]; exact hk
    refine XG.of (fun j hj => ?_) (fun c c1 c2 => ?_)
    · by_cases e : j = s
      · subst e
        rw [sup_eq]
        refine ⟨hr, fun c hc => ?_, ?_, ?_, ?_, ?_, ?_, ?_, ?_⟩
        · exact kk c (a2 c (by rw [u8]; exact List.mem_append_right _ hc))
        · rw [u8] at a3
          exact (List.nodup_append.mp a3).2.1
        · rw [st_i 385 j hj (by omega)]; exact a4
        · rw [st_i 386 j hj (by omega)]; exact a5
        · rw [st_i 387 j hj (by omega)]; exact a6
        · rw [u7 388 _ (by omega) (knot _ (by rw [s1]; decide)), fv]; rfl
        · rw [st_l 391 j hj]; exact a8
        · rw [st_l 392 j hj]; exact a9
      · rw [sup_ne e]
        obtain ⟨g1, g2, g3, g4, g5, g6, g7, g8, g9⟩ := hX.2.2.1.at hj
        unfold XG1
        rw [lsame (x + 14 + 2 * j) (by omega) (by omega) (by omega), st_i 385 j hj (by omega), st_i 386 j hj (by omega), st_i 387 j hj (by omega), st_i 388 j hj (by omega), st_l 391 j hj, st_l 392 j hj]
        refine ⟨?_, fun c hc => kk c (g2 c hc), g3, g4, g5, g6, g7, g8, g9⟩
        rw [← g1]
        refine map_same (fun c hc => ?_)
        have nc := hX.2.2.1.disj hs hj e c hc
        have lc := hfr.le (c := c) (by rw [g2 c hc]; decide)
        unfold rdLt
        rw [u7 _ c lc nc, u7 _ c lc nc, u7 _ c lc nc, fi _ _ (by omega), fi _ _ (by omega), fi _ _ (by omega)]
    · have sub : ∀ j, j < 2 → ∀ c, c ∈ M'.ls (x + 14 + 2 * j) → c ∈ M.ls (x + 14 + 2 * j) := fun j hj c hc => by
        by_cases e : j = s
        · subst e
          rw [u8]; exact List.mem_append_right _ hc
        · rw [lsame _ (by omega) (by omega) (by omega)] at hc; exact hc
      exact hX.2.2.1.2.2 c (sub 0 (by decide) c c1) (sub 1 (by decide) c c2)
  · simp only [Dt.st_so, Dt.st_trips]
    unfold XP
    rw [l23]
    have eg : d.trips.getD a bareT = d.trips[a] := by rw [List.getD_eq_getElem?_getD, List.getElem?_eq_getElem ha]; rfl
    have cf : ∀ c ∈ M.ls (x + 23), (∀ t, t ≠ 388 → M'.i t c = M.i t c) ∧ c ≤ M.n := fun c hc => by
      have kc := (p3 c hc).1
      have lc := hfr.le (c := c) (by rw [kc]; decide)
      exact ⟨fun t ht => ii t c lc (by rw [kc]; decide) (by omega), lc⟩
    refine ⟨?_, p2, fun c hc => ?_⟩
    · apply List.ext_getElem
      · rw [List.length_map, tpU_len]; exact map_len p1
      · intro i i1 i2
        rw [List.length_map] at i1
        rw [tpU_len] at i2
        have ci := cf _ (List.getElem_mem i1)
        rw [List.getElem_map]
        unfold tpU
        simp only [eg]
        rw [List.getElem_set]
        by_cases c : a = i
        · subst c
          rw [if_pos rfl]
          unfold rdTp
          rw [ci.1 896 (by decide), ci.1 897 (by decide), ci.1 898 (by decide), ci.1 900 (by decide), ci.1 901 (by decide), ci.1 902 (by decide), hSp.1, ← eT, Int32.add_zero]
          rfl
        · rw [if_neg c]
          have ei := map_get p1 i2 i1
          rw [← ei]
          obtain ⟨q1, q2, q3, q4, q5⟩ := p3 _ (List.getElem_mem i1)
          have ne : (M.ls (x + 23))[i] ≠ (M.ls (x + 23))[a] := fun z => c ((List.getElem_inj (h₀ := i1) (h₁ := ha2) p2).mp z).symm
          have li := hfr.le (c := (M.ls (x + 23))[i] + 1) (by rw [q3]; decide)
          unfold rdTp
          rw [ci.1 896 (by decide), ci.1 897 (by decide), ci.1 898 (by decide), ci.1 900 (by decide), ci.1 901 (by decide), ci.1 902 (by decide), lsame _ li (by omega) (by omega)]
          congr 1
          refine map_same (fun b hb => ?_)
          have kb := q5 b hb
          have lb := hfr.le (c := b) (by rw [kb]; decide)
          unfold rdSp
          rw [ii 1152 b lb (by rw [kb]; decide) (by omega), ii 1153 b lb (by rw [kb]; decide) (by omega)]
    · obtain ⟨q1, q2, q3, q4, q5⟩ := p3 c hc
      have lc := (cf c hc).2
      have lc1 := hfr.le (c := c + 1) (by rw [q3]; decide)
      refine ⟨by rw [(hA.2.1 c lc).1]; exact q1, by rw [hA.2.2.1 899 c lc (by decide)]; exact q2, by rw [(hA.2.1 _ lc1).1]; exact q3, q4, fun b hb => ?_⟩
      by_cases e : c = (M.ls (x + 23))[a]
      · subst e
        exact hSp.2 b hb
      · rw [lsame _ lc1 (by omega) (by omega)] at hb
        have kb := q5 b hb
        rw [(hA.2.1 b (hfr.le (by rw [kb]; decide))).1]; exact kb
  · rcases z with z | z
    · exact Or.inr (by omega)
    · left
      rw [z, Nat.add_sub_cancel]; exact b1
end
