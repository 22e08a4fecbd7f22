set_option maxRecDepth 100000
/-! ===== what goes out of a store, the oldest first ===== -/
/-- the foul ones of so much of a lot -/
def prt (f m g : Int32) : Int32 := if m = g then f else ((f.toInt64 * m.toInt64) / g.toInt64).toInt32
/-- what is left, what went out by hours, how much of it is foul -/
def tkL : List Tri → Int32 → List Tri × List (Int32 × Int32) × Int32
  | [], _ => ([], [], 0)
  | e :: l, w => if w ≤ 0 then (e :: l, [], 0) else
      if e.2.1 - mn w e.2.1 = 0 then ((tkL l (w - mn w e.2.1)).1, (e.1, mn w e.2.1) :: (tkL l (w - mn w e.2.1)).2.1, prt e.2.2 (mn w e.2.1) e.2.1 + (tkL l (w - mn w e.2.1)).2.2)
      else ((e.1, e.2.1 - mn w e.2.1, e.2.2 - prt e.2.2 (mn w e.2.1) e.2.1) :: l, [(e.1, mn w e.2.1)], prt e.2.2 (mn w e.2.1) e.2.1)
theorem tk_0 {l : List Tri} {w : Int32} (h : w ≤ 0) : tkL l w = (l, [], 0) := by
  cases l with
  | nil => rfl
  | cons e l => unfold tkL; rw [if_pos h]
theorem tk_a {e : Tri} {l : List Tri} {w : Int32} (h : ¬ w ≤ 0) (h2 : e.2.1 - mn w e.2.1 = 0) : tkL (e :: l) w = ((tkL l (w - mn w e.2.1)).1, (e.1, mn w e.2.1) :: (tkL l (w - mn w e.2.1)).2.1, prt e.2.2 (mn w e.2.1) e.2.1 + (tkL l (w - mn w e.2.1)).2.2) := by
  show (if w ≤ 0 then _ else _) = _
  rw [if_neg h, if_pos h2]
theorem tk_b {e : Tri} {l : List Tri} {w : Int32} (h : ¬ w ≤ 0) (h2 : ¬ e.2.1 - mn w e.2.1 = 0) : tkL (e :: l) w = ((e.1, e.2.1 - mn w e.2.1, e.2.2 - prt e.2.2 (mn w e.2.1) e.2.1) :: l, [(e.1, mn w e.2.1)], prt e.2.2 (mn w e.2.1) e.2.1) := by
  show (if w ≤ 0 then _ else _) = _
  rw [if_neg h, if_neg h2]
theorem mn_i (a b : Int32) : (mn a b).toInt = if b.toInt < a.toInt then b.toInt else a.toInt := by
  unfold mn
  by_cases c : b < a
  · rw [if_pos c, if_pos (Int32.lt_iff_toInt_lt.mp c)]
  · rw [if_neg c, if_neg (fun z => c (Int32.lt_iff_toInt_lt.mpr z))]
/-- one step: the lot is used up, or what is wanted is had -/
theorem mn_c {w g : Int32} (hg : 0 < g.toInt) (hw : ¬ w ≤ 0) : (mn w g = g ∧ g.toInt ≤ w.toInt ∧ g - mn w g = 0 ∧ (w - mn w g).toInt = w.toInt - g.toInt) ∨ (mn w g = w ∧ w.toInt < g.toInt ∧ ¬ g - mn w g = 0 ∧ w - mn w g = 0 ∧ (g - mn w g).toInt = g.toInt - w.toInt) := by
  have hw1 : 0 < w.toInt := Int32.lt_iff_toInt_lt.mp (Int32.not_le.mp hw)
  have g1 := g.toInt_lt
  have w1 := w.toInt_lt
  by_cases c : g.toInt ≤ w.toInt
  · left
    have e : mn w g = g := by
      apply Int32.toInt_inj.mp
      rw [mn_i]
      by_cases c2 : g.toInt < w.toInt
      · rw [if_pos c2]
      · rw [if_neg c2]; omega
    rw [e]
    exact ⟨rfl, c, Int32.sub_self _, toInt_sub' (by omega) (by omega)⟩
  · right
    have e : mn w g = w := by
      apply Int32.toInt_inj.mp
      rw [mn_i, if_neg (by omega)]
    rw [e]
    have e2 : (g - w).toInt = g.toInt - w.toInt := toInt_sub' (by omega) (by omega)
    refine ⟨rfl, by omega, fun z => ?_, Int32.sub_self _, e2⟩
    rw [z] at e2
    have : (0 : Int32).toInt = 0 := rfl
    omega
def posL (l : List Tri) : Prop := ∀ e ∈ l, 0 < e.2.1.toInt
theorem sumG_c (e : Tri) (l : List Tri) : sumG (e :: l) = e.2.1.toInt + sumG l := rfl
theorem sumS_c (e : Int32 × Int32) (l : List (Int32 × Int32)) : sumS (e :: l) = e.2.toInt + sumS l := rfl
theorem posL.sum {l : List Tri} (h : posL l) : 0 ≤ sumG l := by
  induction l with
  | nil => exact Int.le_refl _
  | cons e l ih =>
    have h1 := h e List.mem_cons_self
    have h2 := ih (fun e he => h e (List.mem_cons_of_mem _ he))
    rw [sumG_c]; omega
theorem sumF_fold : ∀ (l : List Tri) (v : Int32), l.foldl (fun v e => v + e.2.2) v = v + sumF l := by
  intro l
  induction l with
  | nil => intro v; exact (Int32.add_zero v).symm
  | cons e l ih =>
    intro v
    unfold sumF
    rw [List.foldl_cons, List.foldl_cons, ih, ih, Int32.zero_add, Int32.add_assoc]
theorem sumF_c (e : Tri) (l : List Tri) : sumF (e :: l) = e.2.2 + sumF l := by
  show (e :: l).foldl (fun v e => v + e.2.2) 0 = _
  rw [List.foldl_cons, sumF_fold, Int32.zero_add]
theorem tk_law : ∀ (l : List Tri) (w : Int32), posL l → 0 ≤ w.toInt → w.toInt ≤ sumG l →
    (sumG (tkL l w).1 = sumG l - w.toInt ∧ posL (tkL l w).1) ∧ (sumS (tkL l w).2.1 = w.toInt ∧ (tkL l w).2.1.length ≤ l.length ∧ ∀ s ∈ (tkL l w).2.1, 0 < s.2.toInt ∧ ∃ e ∈ l, s.1 = e.1) ∧ sumF (tkL l w).1 = sumF l - (tkL l w).2.2 ∧ ((tkL l w).1.length ≤ l.length ∧ ∀ i (h : i < (tkL l w).1.length) (h2 : l.length - (tkL l w).1.length + i < l.length), (tkL l w).1[i].1 = l[l.length - (tkL l w).1.length + i].1) := by
  intro l
  induction l with
  | nil =>
    intro w _ h0 h1
    have : sumG [] = 0 := rfl
    have hw : w = 0 := Int32.toInt_inj.mp (show w.toInt = 0 by omega)
    subst hw
    exact ⟨⟨rfl, fun e he => absurd he List.not_mem_nil⟩, ⟨rfl, Nat.le_refl _, fun s hs => absurd hs List.not_mem_nil⟩, rfl, Nat.le_refl _, fun i h => absurd h (Nat.not_lt_zero _)⟩
  | cons e l ih =>
    intro w hp h0 h1
    have hpl : posL l := fun e he => hp e (List.mem_cons_of_mem _ he)
    have hpe := hp e List.mem_cons_self
    by_cases hw : w ≤ 0
    · have hw0 : w.toInt = 0 := by
        have h2 : w.toInt ≤ 0 := Int32.le_iff_toInt_le.mp hw
        omega
      rw [tk_0 hw]
      refine ⟨⟨by rw [hw0]; show sumG (e :: l) = _; omega, hp⟩, ⟨hw0.symm, Nat.zero_le _, fun s hs => absurd hs List.not_mem_nil⟩, ?_, Nat.le_refl _, fun i h h2 => ?_⟩
      · show sumF (e :: l) = sumF (e :: l) - 0
        rw [Int32.sub_zero]
      · show (e :: l)[i].1 = _
        congr 2
        show i = (l.length + 1) - (l.length + 1) + i
        omega
    · rcases mn_c hpe hw with ⟨m1, m2, m3, m4⟩ | ⟨m1, m2, m3, m4, m5⟩
      · rw [tk_a hw m3]
        rw [sumG_c] at h1
        obtain ⟨⟨a1, a2⟩, ⟨b1, b2, b3⟩, c1, d1, d2⟩ := ih (w - mn w e.2.1) hpl (by omega) (by omega)
        refine ⟨⟨by rw [sumG_c]; simp only; omega, a2⟩, ⟨?_, ?_, fun s hs => ?_⟩, ?_, ?_, fun i h h2 => ?_⟩
        · simp only [sumS_c]
          rw [b1, m4, m1]
          omega
        · simp only [List.length_cons]; omega
        · rcases List.mem_cons.mp hs with rfl | hs
          · exact ⟨by rw [m1]; exact hpe, e, List.mem_cons_self, rfl⟩
          · obtain ⟨s1, f, hf, s2⟩ := b3 s hs
            exact ⟨s1, f, List.mem_cons_of_mem _ hf, s2⟩
        · simp only
          rw [c1, sumF_c, m1]
          unfold prt
          rw [if_pos rfl]
          grind
        · simp only [List.length_cons]; omega
        · simp only at h h2 ⊢
          have h3 : l.length - (tkL l (w - mn w e.2.1)).1.length + i < l.length := by
            simp only [List.length_cons] at h2
            omega
          rw [d2 i h h3]
          have e1 : (e :: l).length - (tkL l (w - mn w e.2.1)).1.length + i = (l.length - (tkL l (w - mn w e.2.1)).1.length + i) + 1 := by
            rw [List.length_cons]; omega
          simp only [e1, List.getElem_cons_succ]
      · rw [tk_b hw m3]
        refine ⟨⟨?_, fun f hf => ?_⟩, ⟨?_, ?_, fun s hs => ?_⟩, ?_, ?_, fun i h h2 => ?_⟩
        · simp only [sumG_c]; omega
        · rcases List.mem_cons.mp hf with rfl | hf
          · simp only; omega
          · exact hpl f hf
        · simp only [sumS_c]
          rw [m1]
          show w.toInt + 0 = _
          omega
        · simp only [List.length_cons, List.length_nil]; omega
        · rw [List.mem_singleton.mp hs]
          refine ⟨?_, e, List.mem_cons_self, rfl⟩
          simp only [m1]
          exact Int32.lt_iff_toInt_lt.mp (Int32.not_le.mp hw)
        · simp only [sumF_c]
          grind
        · simp only [List.length_cons]; omega
        · simp only
          have e1 : (e :: l).length - ((e.1, e.2.1 - mn w e.2.1, e.2.2 - prt e.2.2 (mn w e.2.1) e.2.1) :: l).length + i = i := by
            simp only [List.length_cons]; omega
          simp only [e1]
          cases i with
          | zero => rfl
          | succ i => rfl
/-- how much is foul of what would go out -/
def flS : List Tri → Int32 → Int32
  | [], _ => 0
  | e :: l, w => if w ≤ 0 then 0 else prt e.2.2 (mn w e.2.1) e.2.1 + flS l (w - mn w e.2.1)
theorem fl_0 {l : List Tri} {w : Int32} (h : w ≤ 0) : flS l w = 0 := by
  cases l with
  | nil => rfl
  | cons e l => unfold flS; rw [if_pos h]
theorem fl_s {e : Tri} {l : List Tri} {w : Int32} (h : ¬ w ≤ 0) : flS (e :: l) w = prt e.2.2 (mn w e.2.1) e.2.1 + flS l (w - mn w e.2.1) := by
  show (if w ≤ 0 then _ else _) = _
  rw [if_neg h]
theorem fl_eq : ∀ (l : List Tri) (w : Int32), posL l → flS l w = (tkL l w).2.2 := by
  intro l
  induction l with
  | nil => intro w _; rfl
  | cons e l ih =>
    intro w hp
    by_cases hw : w ≤ 0
    · rw [tk_0 hw, fl_0 hw]
    · rw [fl_s hw]
      rcases mn_c (hp e List.mem_cons_self) hw with ⟨m1, m2, m3, m4⟩ | ⟨m1, m2, m3, m4, m5⟩
      · rw [tk_a hw m3, ih _ (fun e he => hp e (List.mem_cons_of_mem _ he))]
      · rw [tk_b hw m3, m4, fl_0 (by decide), Int32.add_zero]
theorem lotsOk.pos {now : Nat} {l : List Tri} (h : lotsOk now l) : posL l := fun e he => by
  obtain ⟨j, hj, rfl⟩ := List.getElem_of_mem he
  exact (h.1 j hj).1
/-- lots behind what goes out -/
theorem lotsOk.tk {now : Nat} {l : List Tri} (h : lotsOk now l) {w : Int32} (h0 : 0 ≤ w.toInt) (h1 : w.toInt ≤ sumG l) : lotsOk now (tkL l w).1 := by
  obtain ⟨⟨a1, a2⟩, -, -, d1, d2⟩ := tk_law l w h.pos h0 h1
  refine ⟨fun j hj => ⟨a2 _ (List.getElem_mem hj), ?_⟩, fun i j hi hj hij => ?_⟩
  · rw [d2 j hj (by omega)]
    exact (h.1 _ (by omega)).2
  · rw [d2 i hi (by omega), d2 j hj (by omega)]
    exact h.2 _ _ (by omega) (by omega) (by omega)
/-- there is one lot an hour at most -/
theorem lotsOk.len {now : Nat} {l : List Tri} (h : lotsOk now l) : l.length ≤ now / 6 + 1 := by
  have key : ∀ j (hj : j < l.length), (j : Int) ≤ l[j].1.toInt := by
    intro j
    induction j with
    | zero => intro hj; exact (h.1 0 hj).2.1
    | succ j ih =>
      intro hj
      have := ih (by omega)
      have := h.2 j (j + 1) (by omega) hj (by omega)
      omega
  rcases Nat.eq_zero_or_pos l.length with z | z
  · omega
  · have h1 := key (l.length - 1) (by omega)
    have h2 := (h.1 (l.length - 1) (by omega)).2.2
    omega
