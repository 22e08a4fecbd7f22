set_option maxRecDepth 100000
/-! ===== the stacks' ten ===== -/
/-- stacks, water, gas, foul, wind left, behind k stacks -/
def splS (ord : Nat → Nat) (lst sts : Int32) (stk : List Sk) (th left : Int32) : Nat → List Sk × Int32 × Int32 × Int32 × Int32
  | 0 => (stk, th, 0, 0, left)
  | k + 1 => ((splS ord lst sts stk th left k).1.set (ord k) (wkS (skA (splS ord lst sts stk th left k).1 (ord k)) lst sts (splS ord lst sts stk th left k).2.1 (splS ord lst sts stk th left k).2.2.2.2).1,
      (wkS (skA (splS ord lst sts stk th left k).1 (ord k)) lst sts (splS ord lst sts stk th left k).2.1 (splS ord lst sts stk th left k).2.2.2.2).2.1,
      (splS ord lst sts stk th left k).2.2.1 + (wkS (skA (splS ord lst sts stk th left k).1 (ord k)) lst sts (splS ord lst sts stk th left k).2.1 (splS ord lst sts stk th left k).2.2.2.2).2.2.1,
      (splS ord lst sts stk th left k).2.2.2.1 + (wkS (skA (splS ord lst sts stk th left k).1 (ord k)) lst sts (splS ord lst sts stk th left k).2.1 (splS ord lst sts stk th left k).2.2.2.2).2.2.2.1,
      (splS ord lst sts stk th left k).2.2.2.2 - (wkS (skA (splS ord lst sts stk th left k).1 (ord k)) lst sts (splS ord lst sts stk th left k).2.1 (splS ord lst sts stk th left k).2.2.2.2).2.2.2.2)
theorem splS_s (ord : Nat → Nat) (lst sts : Int32) (stk : List Sk) (th left : Int32) (k : Nat) (R : List Sk × Int32 × Int32 × Int32 × Int32) (hR : splS ord lst sts stk th left k = R) : splS ord lst sts stk th left (k + 1) = (R.1.set (ord k) (wkS (skA R.1 (ord k)) lst sts R.2.1 R.2.2.2.2).1, (wkS (skA R.1 (ord k)) lst sts R.2.1 R.2.2.2.2).2.1, R.2.2.1 + (wkS (skA R.1 (ord k)) lst sts R.2.1 R.2.2.2.2).2.2.1, R.2.2.2.1 + (wkS (skA R.1 (ord k)) lst sts R.2.1 R.2.2.2.2).2.2.2.1, R.2.2.2.2 - (wkS (skA R.1 (ord k)) lst sts R.2.1 R.2.2.2.2).2.2.2.2) := by
  rw [← hR]; rfl
theorem skA_ok {stk : List Sk} (h : ∀ s ∈ stk, skOk s) {i : Nat} (hi : i < stk.length) : skOk (skA stk i) := by
  rw [skA_at hi]; exact h _ (List.getElem_mem hi)
theorem splS_ok {ord : Nat → Nat} {lst sts : Int32} {stk : List Sk} {th left : Int32} (hs : ∀ s ∈ stk, skOk s) (ho : ∀ k, k < stk.length → ord k < stk.length) (t0 : 0 ≤ th.toInt) (l0 : 0 ≤ left.toInt) : ∀ k, k ≤ stk.length → k ≤ 4 →
    ((splS ord lst sts stk th left k).1.length = stk.length ∧ ∀ s ∈ (splS ord lst sts stk th left k).1, skOk s) ∧ (0 ≤ (splS ord lst sts stk th left k).2.1.toInt ∧ (splS ord lst sts stk th left k).2.1.toInt ≤ th.toInt) ∧ (0 ≤ (splS ord lst sts stk th left k).2.2.1.toInt ∧ (splS ord lst sts stk th left k).2.2.1.toInt ≤ 10000 * k) ∧ (0 ≤ (splS ord lst sts stk th left k).2.2.2.2.toInt ∧ (splS ord lst sts stk th left k).2.2.2.2.toInt ≤ left.toInt) := by
  intro k
  induction k with
  | zero => intro _ _; exact ⟨⟨rfl, hs⟩, ⟨t0, Int.le_refl _⟩, ⟨z00, by show (0 : Int32).toInt ≤ 10000 * ((0 : Nat) : Int); decide⟩, ⟨l0, Int.le_refl _⟩⟩
  | succ k ih =>
    intro hk h4
    obtain ⟨⟨a1, a2⟩, ⟨b1, b2⟩, ⟨c1, c2⟩, ⟨d1, d2⟩⟩ := ih (by omega) (by omega)
    rw [splS_s ord lst sts stk th left k _ rfl]
    generalize splS ord lst sts stk th left k = R at *
    have hsk := skA_ok a2 (i := ord k) (by rw [a1]; exact ho k (by omega))
    obtain ⟨w1, ⟨w2, w3⟩, ⟨w4, w5⟩, w6, w7⟩ := wkS_ok hsk (lst := lst) (sts := sts) d1 b1
    have e1 : (R.2.2.1 + (wkS (skA R.1 (ord k)) lst sts R.2.1 R.2.2.2.2).2.2.1).toInt = R.2.2.1.toInt + (wkS (skA R.1 (ord k)) lst sts R.2.1 R.2.2.2.2).2.2.1.toInt := toInt_add' (by omega) (by omega)
    have e2 : (R.2.2.2.2 - (wkS (skA R.1 (ord k)) lst sts R.2.1 R.2.2.2.2).2.2.2.2).toInt = R.2.2.2.2.toInt - (wkS (skA R.1 (ord k)) lst sts R.2.1 R.2.2.2.2).2.2.2.2.toInt := by
      have := R.2.2.2.2.toInt_lt
      exact toInt_sub' (by omega) (by omega)
    refine ⟨⟨?_, fun s hs => ?_⟩, ⟨w2, by show (wkS _ _ _ _ _).2.1.toInt ≤ _; omega⟩, ⟨?_, ?_⟩, ⟨?_, ?_⟩⟩
    · rw [List.length_set]; exact a1
    · rcases List.mem_or_eq_of_mem_set hs with z | z
      · exact a2 s z
      · rw [z]; exact w1
    · simp only [e1]; omega
    · simp only [e1]; omega
    · simp only [e2]; omega
    · simp only [e2]; omega
def splD (stk : List Sk) (ru : Ru) (th blows : Int32) : List Sk × Int32 × Int32 × Int32 × Int32 := if blows < tel ru.stm 1 1500 then splS (ordD stk (tel ru.stm 5 0)) (tel ru.stm 2 20) (tel ru.stm 3 4) stk th blows stk.length else (stk.map (fun s => s.set_on 0), th, 0, 0, blows)
theorem splD_ok {ru : Ru} {stk : List Sk} {th blows : Int32} (hs : ∀ s ∈ stk, skOk s) (h4 : stk.length ≤ 4) (t0 : 0 ≤ th.toInt) (l0 : 0 ≤ blows.toInt) :
    ((splD stk ru th blows).1.length = stk.length ∧ ∀ s ∈ (splD stk ru th blows).1, skOk s) ∧ (0 ≤ (splD stk ru th blows).2.1.toInt ∧ (splD stk ru th blows).2.1.toInt ≤ th.toInt) ∧ (0 ≤ (splD stk ru th blows).2.2.1.toInt ∧ (splD stk ru th blows).2.2.1.toInt ≤ 40000) ∧ (0 ≤ (splD stk ru th blows).2.2.2.2.toInt ∧ (splD stk ru th blows).2.2.2.2.toInt ≤ blows.toInt) := by
  unfold splD
  by_cases c : blows < tel ru.stm 1 1500
  · rw [if_pos c]
    obtain ⟨a, b, ⟨c1, c2⟩, e⟩ := splS_ok (ord := ordD stk (tel ru.stm 5 0)) (lst := tel ru.stm 2 20) (sts := tel ru.stm 3 4) hs (fun k hk => ordF_lt _ _ _ hk) t0 l0 stk.length (Nat.le_refl _) h4
    exact ⟨a, b, ⟨c1, by omega⟩, e⟩
  · rw [if_neg c]
    refine ⟨⟨List.length_map _, fun s h => ?_⟩, ⟨t0, Int.le_refl _⟩, ⟨z00, by show (0 : Int32).toInt ≤ 40000; decide⟩, ⟨l0, Int.le_refl _⟩⟩
    obtain ⟨s', h1, rfl⟩ := List.mem_map.mp h
    exact on0_ok (hs s' h1)
def spTi (t : Nat) : Prop := t = 20 ∨ t = 35 ∨ t = 36 ∨ (772 ≤ t ∧ t ≤ 775)
def SpF (x : Nat) (M M' : Mem) : Prop := Ag spTi (fun t => t = 776) no (fun c => c = x + 22) M M' ∧ M'.k = M.k ∧ M'.n = M.n ∧ M'.sl = M.sl ∧ M'.ls = M.ls ∧ M'.cap = M.cap
section
variable {x : Nat} {M M0 M1 M2 : Mem}
theorem SpF.rf : SpF x M M := ⟨Ag.rf, rfl, rfl, rfl, rfl, rfl⟩
theorem SpF.tr (h : SpF x M M1) (h2 : SpF x M1 M2) : SpF x M M2 := by
  obtain ⟨a0, a1, a2, a3, a4, a5⟩ := h
  obtain ⟨b0, b1, b2, b3, b4, b5⟩ := h2
  exact ⟨a0.tr b0, b1.trans a1, b2.trans a2, b3.trans a3, b4.trans a4, b5.trans a5⟩
theorem SpF.bas (h : SpF x M M1) (hB : Bas x M) : Bas x M1 := ⟨h.1.lay hB.1 (fun t z => by unfold spTi at z; omega), hB.2.1.same h.2.1 h.2.2.1, hB.2.2.1.same h.2.1 h.2.2.2.2.1 h.2.2.2.2.2, hB.2.2.2.ag hB.2.1 h.1⟩
theorem SpF.wk {e : Nat} (h : WkF x e M M1) : SpF x M M1 := ⟨h.1.mono (fun _ z => z) (fun _ z => z) (fun _ z => z) (fun _ z => z.elim), h.2.1.1, h.2.1.2.1, h.2.1.2.2.1, h.2.1.2.2.2.1, h.2.1.2.2.2.2⟩
theorem SpF.ony (h : Ony M M1 (x + 22)) : SpF x M M1 := ⟨h.1.mono (fun _ z => z.elim) (fun _ z => z.elim) (fun _ z => z) (fun _ z => z), h.2.1, h.2.2.1, h.2.2.2.1, h.2.2.2.2.1, h.2.2.2.2.2.1⟩
theorem SpF.xr {r : Nat} {ru : Ru} (h : SpF x M M1) (hB : Bas x M) (hr : XR1 x M r ru) : XR1 x M1 r ru := hr.ag hB.2.1 hB.1.top h.1 (fun t z => by unfold spTi at z; omega) (fun c z => z.elim) ⟨fun z => z, fun z => z, fun z => z⟩
/-- one stack anew -/
theorem XS.upd {stk : List Sk} {s : Sk} {j : Nat} (h : XS x M stk) (hj : j < stk.length) (hj2 : j < (M.ls (x + 17)).length) (hF : WkF x (M.ls (x + 17))[j] M M1) (hs : rdSk M1 (M.ls (x + 17))[j] = s) (hx : ∀ c ∈ M.ls (x + 17), c ≤ M.n) : XS x M1 (stk.set j s) := by
  obtain ⟨a1, a2, a3, a4⟩ := h
  obtain ⟨b0, ⟨b1, b2, b3, b4, b5⟩, b6, b7⟩ := hF
  unfold XS
  rw [b4, b1]
  refine ⟨?_, a2, a3, fun i hi => ?_⟩
  · apply List.ext_getElem
    · rw [List.length_map, List.length_set, ← a1, List.length_map]
    · intro i h1 h2
      rw [List.length_map] at h1
      rw [List.getElem_map, List.getElem_set]
      by_cases c : j = i
      · subst c
        rw [if_pos rfl]; exact hs
      · rw [if_neg c]
        have hi : i < stk.length := by rw [List.length_set] at h2; exact h2
        rw [← map_get a1 hi h1]
        have ne : (M.ls (x + 17))[i] ≠ (M.ls (x + 17))[j] := fun z => c ((List.getElem_inj (h₀ := h1) (h₁ := hj2) a3).mp z).symm
        have le := hx _ (List.getElem_mem h1)
        unfold rdSk
        rw [b0.2.2.2.1 769 _ le (by omega), b0.2.2.2.1 770 _ le (by omega), b0.2.2.2.1 771 _ le (by omega), b6 772 _ ne (by omega), b6 775 _ ne (by omega), b6 773 _ ne (by omega), b6 774 _ ne (by omega), b7 _ ne]
  · rw [b0.2.2.2.1 768 _ (hx _ (List.getElem_mem hi)) (by omega)]
    exact a4 i hi
theorem XS.le {stk : List Sk} (h : XS x M stk) (hf : Fre M) : ∀ c ∈ M.ls (x + 17), c ≤ M.n := fun c hc => hf.le (by rw [h.2.1 c hc]; decide)
/-- stacks and water anew -/
theorem IX.spl {d : Dt} {stk : List Sk} {th : Int32} (hX : IX x M d) (hB : Bas x M) (hF : SpF x M M1) (hS : XS x M1 stk) (h20 : M1.i 20 x = th) : IX x M1 ((d.set_stk stk).set_thas th) := by
  have hA : Ag (fun t => t = 20 ∨ t = 35 ∨ t = 36 ∨ (772 ≤ t ∧ t ≤ 775)) (fun t => t = 776) no (fun c => c = x + 22) M M1 := hF.1
  have top := hB.1.top
  refine hX.cmb hB hA (Or.inl ⟨(by simp only [Dt.st_now, Dt.st_told, Dt.st_stk, Dt.st_troom, Dt.st_thas, Dt.st_so, Dt.st_trips, Dt.st_papers, Dt.st_places, Dt.st_rules, Dt.st_tape, Dt.st_fault, Dt.st_blew, Dt.st_taken, Dt.st_sold, Dt.st_unsold, Dt.st_made, Dt.st_vented, Dt.st_drunk, Dt.st_noRoom, Dt.st_coins, Dt.st_stored, Dt.st_water, Dt.st_running]), fun t z => (by first | exact trivial | exact z.elim | omega | (unfold tkTi at z; omega) | (unfold goA at z; omega)), fun t z => (by first | exact trivial | exact z.elim | omega | (unfold tkTi at z; omega) | (unfold goA at z; omega)), fun c z => (by first | exact trivial | exact z.elim | omega | (unfold tkTi at z; omega) | (unfold goA at z; omega)), fun c z => (by first | exact trivial | exact z.elim | omega | (unfold tkTi at z; omega) | (unfold goA at z; omega))⟩) (Or.inr hS) (Or.inl ⟨(by simp only [Dt.st_now, Dt.st_told, Dt.st_stk, Dt.st_troom, Dt.st_thas, Dt.st_so, Dt.st_trips, Dt.st_papers, Dt.st_places, Dt.st_rules, Dt.st_tape, Dt.st_fault, Dt.st_blew, Dt.st_taken, Dt.st_sold, Dt.st_unsold, Dt.st_made, Dt.st_vented, Dt.st_drunk, Dt.st_noRoom, Dt.st_coins, Dt.st_stored, Dt.st_water, Dt.st_running]), fun t z => (by first | exact trivial | exact z.elim | omega | (unfold tkTi at z; omega) | (unfold goA at z; omega)), fun t z => (by first | exact trivial | exact z.elim | omega | (unfold tkTi at z; omega) | (unfold goA at z; omega)), fun c z => (by first | exact trivial | exact z.elim | omega | (unfold tkTi at z; omega) | (unfold goA at z; omega)), fun c z => (by first | exact trivial | exact z.elim | omega | (unfold tkTi at z; omega) | (unfold goA at z; omega))⟩) (Or.inl ⟨(by simp only [Dt.st_now, Dt.st_told, Dt.st_stk, Dt.st_troom, Dt.st_thas, Dt.st_so, Dt.st_trips, Dt.st_papers, Dt.st_places, Dt.st_rules, Dt.st_tape, Dt.st_fault, Dt.st_blew, Dt.st_taken, Dt.st_sold, Dt.st_unsold, Dt.st_made, Dt.st_vented, Dt.st_drunk, Dt.st_noRoom, Dt.st_coins, Dt.st_stored, Dt.st_water, Dt.st_running]), fun t z => (by first | exact trivial | exact z.elim | omega | (unfold tkTi at z; omega) | (unfold goA at z; omega)), fun t z => (by first | exact trivial | exact z.elim | omega | (unfold tkTi at z; omega) | (unfold goA at z; omega)), fun c z => (by first | exact trivial | exact z.elim | omega | (unfold tkTi at z; omega) | (unfold goA at z; omega)), fun c z => (by first | exact trivial | exact z.elim | omega | (unfold tkTi at z; omega) | (unfold goA at z; omega))⟩) (Or.inl ⟨(by simp only [Dt.st_now, Dt.st_told, Dt.st_stk, Dt.st_troom, Dt.st_thas, Dt.st_so, Dt.st_trips, Dt.st_papers, Dt.st_places, Dt.st_rules, Dt.st_tape, Dt.st_fault, Dt.st_blew, Dt.st_taken, Dt.st_sold, Dt.st_unsold, Dt.st_made, Dt.st_vented, Dt.st_drunk, Dt.st_noRoom, Dt.st_coins, Dt.st_stored, Dt.st_water, Dt.st_running]), fun t z => (by first | exact trivial | exact z.elim | omega | (unfold tkTi at z; omega) | (unfold goA at z; omega)), fun t z => (by first | exact trivial | exact z.elim | omega | (unfold tkTi at z; omega) | (unfold goA at z; omega)), fun c z => (by first | exact trivial | exact z.elim | omega | (unfold tkTi at z; omega) | (unfold goA at z; omega)), fun c z => (by first | exact trivial | exact z.elim | omega | (unfold tkTi at z; omega) | (unfold goA at z; omega))⟩) (Or.inl ⟨(by simp only [Dt.st_now, Dt.st_told, Dt.st_stk, Dt.st_troom, Dt.st_thas, Dt.st_so, Dt.st_trips, Dt.st_papers, Dt.st_places, Dt.st_rules, Dt.st_tape, Dt.st_fault, Dt.st_blew, Dt.st_taken, Dt.st_sold, Dt.st_unsold, Dt.st_made, Dt.st_vented, Dt.st_drunk, Dt.st_noRoom, Dt.st_coins, Dt.st_stored, Dt.st_water, Dt.st_running]), fun t z => (by first | exact trivial | exact z.elim | omega | (unfold tkTi at z; omega) | (unfold goA at z; omega)), fun t z => (by first | exact trivial | exact z.elim | omega | (unfold tkTi at z; omega) | (unfold goA at z; omega)), fun c z => (by first | exact trivial | exact z.elim | omega | (unfold tkTi at z; omega) | (unfold goA at z; omega)), fun c z => (by first | exact trivial | exact z.elim | omega | (unfold tkTi at z; omega) | (unfold goA at z; omega))⟩) (Or.inr ?_) (Or.inl ⟨(by simp only [Dt.st_now, Dt.st_told, Dt.st_stk, Dt.st_troom, Dt.st_thas, Dt.st_so, Dt.st_trips, Dt.st_papers, Dt.st_places, Dt.st_rules, Dt.st_tape, Dt.st_fault, Dt.st_blew, Dt.st_taken, Dt.st_sold, Dt.st_unsold, Dt.st_made, Dt.st_vented, Dt.st_drunk, Dt.st_noRoom, Dt.st_coins, Dt.st_stored, Dt.st_water, Dt.st_running]), fun t z => (by first | exact trivial | exact z.elim | omega | (unfold tkTi at z; omega) | (unfold goA at z; omega)), fun t z => (by first | exact trivial | exact z.elim | omega | (unfold tkTi at z; omega) | (unfold goA at z; omega)), fun c z => (by first | exact trivial | exact z.elim | omega | (unfold tkTi at z; omega) | (unfold goA at z; omega)), fun c z => (by first | exact trivial | exact z.elim | omega | (unfold tkTi at z; omega) | (unfold goA at z; omega))⟩)
  obtain ⟨b1, b2, b3, ⟨c1, c2, c3, c4, c5, c6, c7, c8, c9⟩, b5, b6, b7, b8⟩ := hX.2.2.2.2.2.2.1
  have hi : ∀ t, t < 128 → t ≠ 20 → t ≠ 35 → t ≠ 36 → M1.i t x = M.i t x := fun t z1 z2 z3 z4 => hA.2.2.2.1 t x (by omega) (by omega)
  have hl : ∀ t, t < 128 → M1.l t x = M.l t x := fun t z => hA.2.2.2.2.1 t x (by omega) (by omega)
  have ha : ∀ c, c ≤ x + 20 → M1.ai c = M.ai c := fun c z => (hA.2.2.2.2.2.2 c (by omega) (by omega)).1
  unfold XN
  rw [hi 0 (by omega) (by omega) (by omega) (by omega), hi 19 (by omega) (by omega) (by omega) (by omega), hi 7 (by omega) (by omega) (by omega) (by omega), hi 8 (by omega) (by omega) (by omega) (by omega), hl 21 (by omega), hl 22 (by omega), hl 23 (by omega), hl 24 (by omega), hl 25 (by omega), hl 26 (by omega), hl 27 (by omega), hl 28 (by omega), hl 29 (by omega), ha (x + 18) (by omega), ha (x + 19) (by omega), ha (x + 20) (by omega), ha (x + 12) (by omega)]
  exact ⟨b1, b2, h20, ⟨c1, c2, c3, c4, c5, c6, c7, c8, c9⟩, b5, b6, b7, b8⟩
theorem x_spl_lp {r : Nat} {ru : Ru} {d : Dt} {th blows : Int32} {ord : Nat → Nat} (hB : Bas x M0) (hX : IX x M0 d) (hs : ∀ s ∈ d.stk, skOk s) (h4 : d.stk.length ≤ 4) (t0 : 0 ≤ th.toInt) (l0 : 0 ≤ blows.toInt) (hr : XR1 x M0 r ru) (ho : ∀ k, k < d.stk.length → ord k < d.stk.length) (hA : ∀ j, j < d.stk.length → M0.ai (x + 22) j = Int32.ofNat (ord j)) {Q : Int32 → Mem → Prop}
    (hq : ∀ M', SpF x M0 M' → XS x M' (splS ord (tel ru.stm 2 20) (tel ru.stm 3 4) d.stk th blows d.stk.length).1 → M'.i 20 x = (splS ord (tel ru.stm 2 20) (tel ru.stm 3 4) d.stk th blows d.stk.length).2.1 → M'.i 35 x = (splS ord (tel ru.stm 2 20) (tel ru.stm 3 4) d.stk th blows d.stk.length).2.2.1 → M'.i 36 x = (splS ord (tel ru.stm 2 20) (tel ru.stm 3 4) d.stk th blows d.stk.length).2.2.2.1 → Q (splS ord (tel ru.stm 2 20) (tel ru.stm 3 4) d.stk th blows d.stk.length).2.2.2.2 M') :
    ∀ q k M, k ≤ d.stk.length → d.stk.length < q + k → SpF x M0 M → M.ai (x + 22) = M0.ai (x + 22) → XS x M (splS ord (tel ru.stm 2 20) (tel ru.stm 3 4) d.stk th blows k).1 → M.i 20 x = (splS ord (tel ru.stm 2 20) (tel ru.stm 3 4) d.stk th blows k).2.1 → M.i 35 x = (splS ord (tel ru.stm 2 20) (tel ru.stm 3 4) d.stk th blows k).2.2.1 → M.i 36 x = (splS ord (tel ru.stm 2 20) (tel ru.stm 3 4) d.stk th blows k).2.2.2.1 → wp (lp_X0_splits_64 x r q (splS ord (tel ru.stm 2 20) (tel ru.stm 3 4) d.stk th blows k).2.2.2.2 (Int32.ofNat k)) M Q := by
  intro q
  induction q with
  | zero => intro k M _ _; omega
  | succ q ih =>
    intro k M hk hq' hF hai hXS h20 h35 h36
    have hB1 := hF.bas hB
    have hL := hB1.1
    have ok := splS_ok (lst := tel ru.stm 2 20) (sts := tel ru.stm 3 4) hs ho t0 l0 k hk (by omega)
    rw [lp_X0_splits_64]
    refine w_bnd (w_getR0 hL rfl rfl rfl (w_bnd (w_gd hL.k17 (w_nt (w_size hB1.2.2.1 hL.k17 ?_)))))
    rw [map_len hXS.1, ok.1.1]
    by_cases e : k = d.stk.length
    · subst e
      exact w_t ((i_le (by omega) (by omega)).mpr (by omega)) (w_pur (hq M hF hXS h20 h35 h36))
    · have hk2 : k < d.stk.length := by omega
      have hok := ho k hk2
      refine w_f (fun z => by have := (i_le (by omega) (by omega)).mp z; omega) ?_
      refine w_bnd (w_getR0 hL rfl rfl rfl (w_bnd (w_getR0 hL rfl rfl rfl (w_bnd (w_ldn hL.k22 hL.l22 (by omega) (by decide) ?_)))))
      rw [hai, hA k hk2]
      refine w_stk hB1 hXS (by rw [ok.1.1]; exact hok) (fun e ⟨hj2, ee⟩ ke ge _ => ?_)
      have es := splS_s ord (tel ru.stm 2 20) (tel ru.stm 3 4) d.stk th blows k _ rfl
      have K := ih (k + 1)
      rw [es] at K
      generalize splS ord (tel ru.stm 2 20) (tel ru.stm 3 4) d.stk th blows k = R at *
      have hsk := skA_ok ok.1.2 (i := ord k) (by rw [ok.1.1]; exact hok)
      refine w_bnd (w_gd hL.k0 (w_nt (x_works hsk ok.2.2.2.1 (hF.xr hB hr) ⟨⟨ke, hL.k0⟩, ge, h20, h35, h36⟩ (fun M' hW hR => ?_))))
      obtain ⟨-, hRs, hR20, hR35, hR36⟩ := hR
      rw [i_add1]
      refine K M' (by omega) (by omega) (hF.tr (SpF.wk hW)) ?_ ?_ hR20 hR35 hR36
      · rw [(hW.1.2.2.2.2.2.2 (x + 22) (by have := hL.top; omega) (fun z => z)).1]; exact hai
      · subst ee
        exact hXS.upd (by rw [ok.1.1]; exact hok) hj2 hW hRs (hXS.le hB1.2.1)
theorem x_storm_lp {stk0 : List Sk} {p2 : Int32} (hB : Bas x M0) (hX : XS x M0 stk0) (h4 : stk0.length ≤ 4) {Q : Int32 → Mem → Prop}
    (hq : ∀ M', SpF x M0 M' → XS x M' (stk0.map (fun s => s.set_on 0)) → (∀ t, t < 128 → M'.i t x = M0.i t x) → Q p2 M') :
    ∀ q k M, k ≤ stk0.length → stk0.length < q + k → SpF x M0 M → XS x M ((stk0.take k).map (fun s => s.set_on 0) ++ stk0.drop k) → (∀ t, t < 128 → M.i t x = M0.i t x) → wp (lp_X0_splits_20 x p2 q (Int32.ofNat k)) M Q := by
  intro q
  induction q with
  | zero => intro k M _ _; omega
  | succ q ih =>
    intro k M hk hq' hF hXS hxi
    have hB1 := hF.bas hB
    have hL := hB1.1
    have hlen : ((stk0.take k).map (fun s => s.set_on 0) ++ stk0.drop k).length = stk0.length := by
      rw [List.length_append, List.length_map, List.length_take, List.length_drop]; omega
    rw [lp_X0_splits_20]
    refine w_bnd (w_getR0 hL rfl rfl rfl (w_bnd (w_gd hL.k17 (w_nt (w_size hB1.2.2.1 hL.k17 ?_)))))
    rw [map_len hXS.1, hlen]
    by_cases e : k = stk0.length
    · refine w_t ((i_le (by omega) (by omega)).mpr (by omega)) (w_pur (hq M hF ?_ hxi))
      rw [e, List.take_length, List.drop_length, List.append_nil] at hXS
      exact hXS
    · have hk2 : k < stk0.length := by omega
      refine w_f (fun z => by have := (i_le (by omega) (by omega)).mp z; omega) ?_
      refine w_bnd (w_getR0 hL rfl rfl rfl (w_stk hB1 hXS (by rw [hlen]; exact hk2) (fun e ⟨hj2, ee⟩ ke ge _ => w_bnd (w_putZ ke (Or.inl rfl) ?_))))
      rw [i_add1]
      have hW : WkF x e M (M.seti (128 * 6 + 7) e 0) := WkF.rf.pe (by decide)
      have hnx : x ≠ e := fun z => by rw [← z, hL.k0] at ke; exact absurd ke (by decide)
      refine ih (k + 1) _ (by omega) (by omega) (hF.tr (SpF.wk hW)) ?_ (fun t ht => (seti_nc _ _ _ _ hnx).trans (hxi t ht))
      subst ee
      have hk3 : k < ((stk0.take k).map (fun s => s.set_on 0) ++ stk0.drop k).length := by rw [hlen]; exact hk2
      have hl : ((stk0.take k).map (fun s => s.set_on 0)).length = k := by rw [List.length_map, List.length_take]; omega
      have e0 : skA ((stk0.take k).map (fun s => s.set_on 0) ++ stk0.drop k) k = stk0[k] := by
        rw [skA_at hk3, List.getElem_append_right (by omega)]
        simp only [hl, Nat.sub_self, List.getElem_drop, Nat.add_zero]
      have U := hXS.upd (s := stk0[k].set_on 0) hk3 hj2 hW (by
        rw [← e0, ← ge]
        unfold rdSk
        simp only [seti_at, Nat.reduceMul, Nat.reduceAdd, Nat.reduceEqDiff, false_and, true_and, and_true, if_true, if_false]
        rfl) (hXS.le hB1.2.1)
      have e1 : ((stk0.take k).map (fun s => s.set_on 0) ++ stk0.drop k).set k (stk0[k].set_on 0) = (stk0.take (k + 1)).map (fun s => s.set_on 0) ++ stk0.drop (k + 1) := by
        rw [List.set_append_right _ _ (by omega), hl, Nat.sub_self, drop_s hk2, List.set_cons_zero, List.take_succ_eq_append_getElem hk2, List.map_append, List.append_assoc]
        rfl
      rw [e1] at U
      exact U
theorem x_splits {n r : Nat} {ru : Ru} {d : Dt} {blows : Int32} (hB : Bas x M) (hX : IX x M d) (hs : ∀ s ∈ d.stk, skOk s) (h4 : d.stk.length ≤ 4) (t0 : 0 ≤ d.thas.toInt) (l0 : 0 ≤ blows.toInt) (hr : XR1 x M r ru) (hn : 9100 ≤ n) {Q : Int32 → Mem → Prop}
    (hq : ∀ M', Bas x M' → SpF x M M' → IX x M' ((d.set_stk (splD d.stk ru d.thas blows).1).set_thas (splD d.stk ru d.thas blows).2.1) → M'.i 35 x = (splD d.stk ru d.thas blows).2.2.1 → M'.i 36 x = (splD d.stk ru d.thas blows).2.2.2.1 → Q (splD d.stk ru d.thas blows).2.2.2.2 M') : wp (f_X0_splits n x r blows) M Q := by
  have hL := hB.1
  unfold f_X0_splits
  refine w_bnd (w_putI hL.k0 (w_bnd (w_putI (kI hL.k0) ?_)))
  have hF : SpF x M ((M.seti (128 * 0 + 35) x 0).seti (128 * 0 + 36) x 0) := ⟨((Ag.rf (ti := spTi)).i (Or.inl (Or.inr (Or.inl rfl)))).i (Or.inl (Or.inr (Or.inr (Or.inl rfl)))), rfl, rfl, rfl, rfl, rfl⟩
  have h20 : ((M.seti (128 * 0 + 35) x 0).seti (128 * 0 + 36) x 0).i 20 x = d.thas := ((seti_ne _ _ _ _ (by decide)).trans (seti_ne _ _ _ _ (by decide))).trans hX.2.2.2.2.2.2.1.2.2.1
  have h35 : ((M.seti (128 * 0 + 35) x 0).seti (128 * 0 + 36) x 0).i 35 x = 0 := (seti_ne _ _ _ _ (by decide)).trans (seti_eq _ _ _ _)
  have h36 : ((M.seti (128 * 0 + 35) x 0).seti (128 * 0 + 36) x 0).i 36 x = 0 := seti_eq _ _ _ _
  have hXS1 : XS x ((M.seti (128 * 0 + 35) x 0).seti (128 * 0 + 36) x 0) d.stk := hX.2.1.ag hB.2.1 hB.1.top (((Ag.rf (ti := fun t => t < 128) (tl := no) (ls := no) (ar := no)).i (Or.inl (by decide))).i (Or.inl (by decide))) (fun t z => by omega) (fun t z => z.elim) (fun c z => z.elim)
  revert hF h20 h35 h36 hXS1
  generalize (M.seti (128 * 0 + 35) x 0).seti (128 * 0 + 36) x 0 = M1
  intro hF h20 h35 h36 hXS1
  have hB1 := hF.bas hB
  have hr1 := hF.xr hB hr
  have hX1 : IX x M1 ((d.set_stk d.stk).set_thas d.thas) := hX.spl hB hF hXS1 h20
  refine w_bnd (w_getIv hr1.1 hr1.2.2.2.1 ?_)
  unfold splD at hq
  by_cases c : blows < tel ru.stm 1 1500
  · rw [if_pos c] at hq
    refine w_t c (w_bnd (w_gd hB1.1.k0 (w_nt (x_orders (wn := tel ru.stm 5 0) hB1 hXS1 h4 hr1.1 hr1.2.2.2.2.2.2.2.2.1 hn (fun M2 o2 hA => ?_)))))
    have hF2 := SpF.ony o2
    have hB2 := hF2.bas hB1
    have hXS2 : XS x M2 d.stk := hXS1.ag hB1.2.1 hB1.1.top o2.1 (fun t z => z.elim) (fun t z => z.elim) (fun c z => z.elim)
    have e2 : ∀ t, M2.i t x = M1.i t x := fun t => by rw [o2.2.2.2.2.2.2.2.1]
    have hX2 : IX x M2 d := hX.spl hB (hF.tr hF2) hXS2 ((e2 20).trans h20)
    refine x_spl_lp (ord := ordD d.stk (tel ru.stm 5 0)) (th := d.thas) (blows := blows) hB2 hX2 hs h4 t0 l0 (hF2.xr hB1 hr1) (fun k hk => ordF_lt _ _ _ hk) hA (fun M' hF' g1 g2 g3 g4 => ?_) n 0 M2 (Nat.zero_le _) (by omega) SpF.rf rfl hXS2 ((e2 20).trans h20) ((e2 35).trans h35) ((e2 36).trans h36)
    have hF3 := (hF.tr hF2).tr hF'
    exact hq M' (hF3.bas hB) hF3 (hX.spl hB hF3 g1 g2) g3 g4
  · rw [if_neg c] at hq
    refine w_f c (x_storm_lp hB1 hXS1 h4 (fun M' hF' g1 gi => ?_) n 0 M1 (Nat.zero_le _) (by omega) SpF.rf hXS1 (fun _ _ => rfl))
    have hF3 := hF.tr hF'
    exact hq M' (hF3.bas hB) hF3 (hX.spl hB hF3 g1 ((gi 20 (by decide)).trans h20)) ((gi 35 (by decide)).trans h35) ((gi 36 (by decide)).trans h36)
end
