set_option maxRecDepth 100000
/-! ===== sums by hours, sums by sips ===== -/
def drS : List (Int32 × Int32) → Int32 → Int32
  | [], _ => 0
  | e :: l, h => (if e.1 = h then e.2 else 0) + drS l h
theorem drS_fold (h : Int32) : ∀ (l : List (Int32 × Int32)) (v : Int32), l.foldl (fun v e => if e.1 = h then v + e.2 else v) v = v + drS l h := by
  intro l
  induction l with
  | nil => intro v; exact (Int32.add_zero v).symm
  | cons e l ih =>
    intro v
    rw [List.foldl_cons, ih]
    show _ = v + ((if e.1 = h then e.2 else 0) + drS l h)
    by_cases c : e.1 = h
    · rw [if_pos c, if_pos c, Int32.add_assoc]
    · rw [if_neg c, if_neg c, Int32.zero_add]
theorem drunkAt_eq (l : List (Int32 × Int32)) (h : Int32) : drunkAt l h = drS l h := by
  unfold drunkAt
  rw [drS_fold, Int32.zero_add]
def prS (g : Int32 → Bool) : List (Int32 × Int32) → Int32
  | [] => 0
  | e :: l => (if g e.1 = true then e.2 else 0) + prS g l
theorem prS_app (g : Int32 → Bool) (l : List (Int32 × Int32)) (e : Int32 × Int32) : prS g (l ++ [e]) = prS g l + (if g e.1 = true then e.2 else 0) := by
  induction l with
  | nil =>
    show (if g e.1 = true then e.2 else 0) + 0 = 0 + (if g e.1 = true then e.2 else 0)
    rw [Int32.add_zero, Int32.zero_add]
  | cons f l ih =>
    show (if g f.1 = true then f.2 else 0) + prS g (l ++ [e]) = (if g f.1 = true then f.2 else 0) + prS g l + _
    rw [ih, Int32.add_assoc]
theorem prS_take {g : Int32 → Bool} {l : List (Int32 × Int32)} {j : Nat} (h : j < l.length) : prS g (l.take (j + 1)) = prS g (l.take j) + (if g l[j].1 = true then l[j].2 else 0) := by
  rw [List.take_succ_eq_append_getElem h, prS_app]
def sumN (f : Nat → Int32) : Nat → Int32
  | 0 => 0
  | k + 1 => sumN f k + f k
theorem sumN_zero {f : Nat → Int32} : ∀ N, (∀ k, k < N → f k = 0) → sumN f N = 0 := by
  intro N
  induction N with
  | zero => intro _; rfl
  | succ N ih =>
    intro h
    show sumN f N + f N = 0
    rw [ih (fun k hk => h k (by omega)), h N (by omega)]
    rfl
theorem sumN_congr {f g : Nat → Int32} : ∀ N, (∀ k, k < N → f k = g k) → sumN f N = sumN g N := by
  intro N
  induction N with
  | zero => intro _; rfl
  | succ N ih =>
    intro h
    show sumN f N + f N = sumN g N + g N
    rw [ih (fun k hk => h k (by omega)), h N (by omega)]
theorem sumN_add {f g : Nat → Int32} : ∀ N, sumN (fun k => f k + g k) N = sumN f N + sumN g N := by
  intro N
  induction N with
  | zero => rfl
  | succ N ih =>
    show sumN (fun k => f k + g k) N + (f N + g N) = (sumN f N + f N) + (sumN g N + g N)
    rw [ih]
    ac_rfl
theorem sumN_one {m : Nat} {v : Int32} : ∀ N, m < N → sumN (fun k => if k = m then v else 0) N = v := by
  intro N
  induction N with
  | zero => intro h; omega
  | succ N ih =>
    intro h
    show sumN (fun k => if k = m then v else 0) N + (if N = m then v else 0) = v
    by_cases c : N = m
    · rw [if_pos c, sumN_zero N (fun k hk => if_neg (by omega)), Int32.zero_add]
    · rw [if_neg c, ih (by omega), Int32.add_zero]
/-- what was drunk of green hours, by hours and by sips -/
theorem prov_eq {g : Int32 → Bool} {N : Nat} (hN : N ≤ 100000) : ∀ (l : List (Int32 × Int32)), (∀ e ∈ l, ∃ k, k < N ∧ e.1 = Int32.ofNat k) → sumN (fun h => if g (Int32.ofNat h) = true then drS l (Int32.ofNat h) else 0) N = prS g l := by
  intro l
  induction l with
  | nil =>
    intro _
    refine sumN_zero N (fun k _ => ?_)
    show (if g (Int32.ofNat k) = true then (0 : Int32) else 0) = 0
    split <;> rfl
  | cons e l ih =>
    intro h
    obtain ⟨m, hm, em⟩ := h e List.mem_cons_self
    have h2 := ih (fun e he => h e (List.mem_cons_of_mem _ he))
    show _ = (if g e.1 = true then e.2 else 0) + prS g l
    rw [← h2, ← sumN_one (m := m) (v := if g e.1 = true then e.2 else 0) N hm, ← sumN_add]
    refine sumN_congr N (fun k hk => ?_)
    show (if g (Int32.ofNat k) = true then (if e.1 = Int32.ofNat k then e.2 else 0) + drS l (Int32.ofNat k) else 0) = _
    by_cases c : k = m
    · subst c
      rw [← em, if_pos rfl, if_pos rfl]
      by_cases q : g e.1 = true
      · rw [if_pos q, if_pos q, if_pos q]
      · rw [if_neg q, if_neg q, if_neg q]; rfl
    · have ne : ¬ e.1 = Int32.ofNat k := fun z => c (by rw [em] at z; exact ((i_eq (by omega) (by omega)).mp z).symm)
      rw [if_neg ne, if_neg c, Int32.zero_add, Int32.zero_add]
theorem drS_pos {h : Int32} : ∀ (l : List (Int32 × Int32)), (∀ e ∈ l, 0 < e.2.toInt) → sumS l ≤ 50000 → (0 ≤ (drS l h).toInt ∧ (drS l h).toInt ≤ sumS l) ∧ ((drS l h).toInt = 0 ↔ ∀ e ∈ l, e.1 ≠ h) := by
  intro l
  induction l with
  | nil => intro _ _; exact ⟨⟨Int.le_refl _, Int.le_refl _⟩, fun _ e he => absurd he List.not_mem_nil, fun _ => rfl⟩
  | cons e l ih =>
    intro hp hs
    have e1 : sumS (e :: l) = e.2.toInt + sumS l := rfl
    have p := hp e List.mem_cons_self
    obtain ⟨⟨a1, a2⟩, a3⟩ := ih (fun e he => hp e (List.mem_cons_of_mem _ he)) (by omega)
    by_cases c : e.1 = h
    · have e2 : drS (e :: l) h = e.2 + drS l h := by show (if e.1 = h then e.2 else 0) + _ = _; rw [if_pos c]
      rw [e2, toInt_add' (by omega) (by omega)]
      refine ⟨⟨by omega, by omega⟩, fun z => by omega, fun z => absurd c (z e List.mem_cons_self)⟩
    · have e2 : drS (e :: l) h = drS l h := by show (if e.1 = h then e.2 else 0) + _ = _; rw [if_neg c, Int32.zero_add]
      rw [e2]
      refine ⟨⟨a1, by omega⟩, fun z f hf => ?_, fun z => a3.mpr (fun f hf => z f (List.mem_cons_of_mem _ hf))⟩
      rcases List.mem_cons.mp hf with rfl | hf
      · exact c
      · exact a3.mp z f hf
theorem drS_le0 {h : Int32} {l : List (Int32 × Int32)} (hp : ∀ e ∈ l, 0 < e.2.toInt) (hs : sumS l ≤ 50000) : drS l h ≤ 0 ↔ drS l h = 0 := by
  have := (drS_pos (h := h) l hp hs).1.1
  constructor
  · intro z
    have z2 : (drS l h).toInt ≤ 0 := Int32.le_iff_toInt_le.mp z
    exact Int32.toInt_inj.mp (show (drS l h).toInt = 0 by omega)
  · intro z; rw [z]; decide
/-- how many hours -/
def newH (l : List (Int32 × Int32)) (j : Nat) (h : Int32) : Bool := (l.take j).all (fun e => decide (e.1 ≠ h))
theorem newH_s {l : List (Int32 × Int32)} {j : Nat} (hj : j < l.length) (h : Int32) : newH l (j + 1) h = (newH l j h && decide (l[j].1 ≠ h)) := by
  unfold newH
  rw [List.take_succ_eq_append_getElem hj, List.all_append]
  simp
def cntH (l : List (Int32 × Int32)) : Nat → Int32
  | 0 => 0
  | j + 1 => cntH l j + (if h : j < l.length then (if newH l j l[j].1 = true then 1 else 0) else 0)
theorem cntH_s {l : List (Int32 × Int32)} {j : Nat} (hj : j < l.length) : cntH l (j + 1) = cntH l j + (if newH l j l[j].1 = true then 1 else 0) := by
  show cntH l j + (if h : j < l.length then (if newH l j l[j].1 = true then 1 else 0) else 0) = _
  rw [dif_pos hj]
theorem cnt_eq {l : List (Int32 × Int32)} {N : Nat} (hN : N ≤ 100000) (hh : ∀ e ∈ l, ∃ k, k < N ∧ e.1 = Int32.ofNat k) : ∀ j, j ≤ l.length → sumN (fun h => if newH l j (Int32.ofNat h) = true then 0 else 1) N = cntH l j := by
  intro j
  induction j with
  | zero =>
    intro _
    exact sumN_zero N (fun k _ => if_pos rfl)
  | succ j ih =>
    intro hj
    have hj2 : j < l.length := by omega
    obtain ⟨m, hm, em⟩ := hh l[j] (List.getElem_mem hj2)
    rw [cntH_s hj2, ← ih (by omega), ← sumN_one (m := m) (v := if newH l j l[j].1 = true then 1 else 0) N hm, ← sumN_add]
    refine sumN_congr N (fun k hk => ?_)
    show (if newH l (j + 1) (Int32.ofNat k) = true then (0 : Int32) else 1) = (if newH l j (Int32.ofNat k) = true then 0 else 1) + (if k = m then _ else 0)
    rw [newH_s hj2, em]
    by_cases c : k = m
    · subst c
      rw [if_pos rfl]
      cases q : newH l j (Int32.ofNat k) <;> simp
    · have ne : Int32.ofNat m ≠ Int32.ofNat k := fun z => c ((i_eq (by omega) (by omega)).mp z).symm
      rw [if_neg c, Int32.add_zero]
      cases q : newH l j (Int32.ofNat k) <;> simp [ne]
theorem new_all {l : List (Int32 × Int32)} {h : Int32} : newH l l.length h = true ↔ ∀ e ∈ l, e.1 ≠ h := by
  unfold newH
  rw [List.take_length, List.all_eq_true]
  exact ⟨fun z e he => of_decide_eq_true (z e he), fun z e he => decide_eq_true (z e he)⟩
