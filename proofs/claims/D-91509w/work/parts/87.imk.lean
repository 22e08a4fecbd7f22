set_option maxRecDepth 100000
/-! ===== the model in the midst of a ten ===== -/
/-- as IM, the stacks as they are kk tens later -/
def IMk (kk : Nat) (S : MS) (d : Dt) : Prop := RT S d.told ∧ RS S (d.now + kk) d.stk ∧ RG S d.so ∧ RP S d.trips ∧ RQ S d.papers ∧ RL S d.places ∧ RN S d ∧ RU S d.rules
section
variable {S S' S0 : MS} {I A B : Nat → Prop}
theorem IMk.cmb {kk : Nat} {d d' : Dt} (h : IMk kk S d) (ha : Sam I A B S S')
    (h1 : (d'.told = d.told ∧ (∀ j, I j → True) ∧ (∀ o, A o → ¬ (1 ≤ o ∧ o ≤ 4)) ∧ ∀ o, B o → True) ∨ RT S' d'.told)
    (h2 : ((d'.now = d.now ∧ d'.stk = d.stk) ∧ (∀ j, I j → j ≠ 1) ∧ (∀ o, A o → ¬ (5 ≤ o ∧ o ≤ 12)) ∧ ∀ o, B o → o ≠ 13) ∨ RS S' (d'.now + kk) d'.stk)
    (h3 : (d'.so = d.so ∧ (∀ j, I j → True) ∧ (∀ o, A o → ¬ (15 ≤ o ∧ o ≤ 26)) ∧ ∀ o, B o → o ≠ 22 ∧ o ≠ 23) ∨ RG S' d'.so)
    (h4 : (d'.trips = d.trips ∧ (∀ j, I j → j ≠ 2) ∧ (∀ o, A o → ¬ (27 ≤ o ∧ o ≤ 33)) ∧ ∀ o, B o → True) ∨ RP S' d'.trips)
    (h5 : (d'.papers = d.papers ∧ (∀ j, I j → j ≠ 3) ∧ (∀ o, A o → ¬ (38 ≤ o ∧ o ≤ 40)) ∧ ∀ o, B o → True) ∨ RQ S' d'.papers)
    (h6 : (d'.places = d.places ∧ (∀ j, I j → j ≠ 73) ∧ (∀ o, A o → ¬ (56 ≤ o ∧ o ≤ 58)) ∧ ∀ o, B o → True) ∨ RL S' d'.places)
    (h7 : ((Nums d d' ∧ (d'.so 0).leaked = (d.so 0).leaked ∧ (d'.so 1).leaked = (d.so 1).leaked ∧ (d'.so 0).lost = (d.so 0).lost ∧ (d'.so 1).lost = (d.so 1).lost) ∧ (∀ j, I j → ¬ (j = 0 ∨ j = 18 ∨ j = 19 ∨ j = 51 ∨ j = 55)) ∧ (∀ o, A o → ¬ (o = 35 ∨ o = 36 ∨ o = 37 ∨ o = 53)) ∧ ∀ o, B o → o ≠ 14) ∨ RN S' d')
    (h8 : (d'.rules = d.rules ∧ (∀ j, I j → j ≠ 49 ∧ j ≠ 50) ∧ (∀ o, A o → ¬ (41 ≤ o ∧ o ≤ 52)) ∧ ∀ o, B o → True) ∨ RU S' d'.rules) : IMk kk S' d' := by
  obtain ⟨g1, g2, g3, g4, g5, g6, g7, g8⟩ := h
  obtain ⟨e1, e2, e3⟩ := ha
  refine ⟨?_, ?_, ?_, ?_, ?_, ?_, ?_, ?_⟩
  · rcases h1 with ⟨e, p1, p2, p3⟩ | h1
    · rw [e]; exact g1.fr (fun o a b => e2 o (fun z => p2 o z ⟨a, b⟩))
    · exact h1
  · rcases h2 with ⟨⟨e, e'⟩, p1, p2, p3⟩ | h2
    · rw [e, e']; exact g2.fr (e1 _ (fun z => p1 _ z rfl)) (fun o a b => e2 o (fun z => p2 o z ⟨a, b⟩)) (e3 _ (fun z => p3 _ z rfl))
    · exact h2
  · rcases h3 with ⟨e, p1, p2, p3⟩ | h3
    · rw [e]; exact g3.fr (fun o a b => e2 o (fun z => p2 o z ⟨a, b⟩)) (e3 _ (fun z => (p3 _ z).1 rfl)) (e3 _ (fun z => (p3 _ z).2 rfl))
    · exact h3
  · rcases h4 with ⟨e, p1, p2, p3⟩ | h4
    · rw [e]; exact g4.fr (e1 _ (fun z => p1 _ z rfl)) (fun o a b => e2 o (fun z => p2 o z ⟨a, b⟩))
    · exact h4
  · rcases h5 with ⟨e, p1, p2, p3⟩ | h5
    · rw [e]; exact g5.fr (e1 _ (fun z => p1 _ z rfl)) (fun o a b => e2 o (fun z => p2 o z ⟨a, b⟩))
    · exact h5
  · rcases h6 with ⟨e, p1, p2, p3⟩ | h6
    · rw [e]; exact g6.fr (e1 _ (fun z => p1 _ z rfl)) (fun o a b => e2 o (fun z => p2 o z ⟨a, b⟩))
    · exact h6
  · rcases h7 with ⟨⟨⟨⟨n1, n2, n3⟩, ⟨m1, m2, m3, m4, m5, m6, m7, m8, m9⟩, k1, k2, k3, k4, k5⟩, s1, s2, s3, s4⟩, p1, p2, p3⟩ | h7
    · have g := g7.fr (S' := S') (fun j z => e1 j (fun q => p1 j q z)) (fun o z => e2 o (fun q => p2 o q z)) (e3 _ (fun z => p3 _ z rfl))
      unfold RN at g ⊢
      rw [n1, n2, n3, m1, m2, m3, m4, m5, m6, m7, m8, m9, k1, k2, k3, k4, k5, s1, s2, s3, s4]
      exact g
    · exact h7
  · rcases h8 with ⟨e, p1, p2, p3⟩ | h8
    · rw [e]; exact g8.fr (e1 _ (fun z => (p1 _ z).1 rfl)) (e1 _ (fun z => (p1 _ z).2 rfl)) (fun o a b => e2 o (fun z => p2 o z ⟨a, b⟩))
    · exact h8
end
section
variable {x : Nat}
/-- the model: so much of a store goes out -/
theorem m_goesk {kk n s : Nat} {w : Int32} {d : Dt} {S : MS} {tr : Option Nat} (hS : IMk kk S d) (hs : s < 2) (hp : posL (d.so s).lots) (hh : ∀ e ∈ (d.so s).lots, 0 ≤ e.1.toInt ∧ e.1.toInt ≤ 833) (h0 : 0 ≤ w.toInt) (h1 : w.toInt ≤ sumG (d.so s).lots) (htr : ∀ a, tr = some a → a < d.trips.length) (hn : 9100 ≤ n) {Q : Unit → MS → Prop}
    (hq : ∀ S', Sam no goA no S S' → IMk kk S' ((d.set_so (sup d.so s (tkSo (d.so s) w))).set_trips (tpU d.trips tr (tkL (d.so s).lots w).2.1 (tkL (d.so s).lots w).2.2)) → Q () S') : wm x (f_X4_goesOut n (x + 28) (Int32.ofNat s) w (trC tr)) S Q := by
  have hG := hS.2.2.1.at hs
  have hl : (d.so s).lots.length ≤ 834 := by
    obtain ⟨-, -, -, -, -, -, -, -, o, -, -, r11, -⟩ := hG
    omega
  unfold f_X4_goesOut
  refine m_go hs (d.so s).lots n w S (d.so s) d.trips rfl hG hS.2.2.2.1 htr hh hp h0 h1 (by omega) (fun S' a1 a2 a3 a4 => hq S' a1 ?_)
  have lk : ∀ j, (sup d.so s (tkSo (d.so s) w) j).leaked = (d.so j).leaked ∧ (sup d.so s (tkSo (d.so s) w) j).lost = (d.so j).lost := fun j => by
    by_cases e : j = s
    · rw [e, sup_eq]; exact ⟨rfl, rfl⟩
    · rw [sup_ne e]; exact ⟨rfl, rfl⟩
  refine hS.cmb a1 (Or.inl ⟨(by simp only [Dt.st_now, Dt.st_told, Dt.st_stk, Dt.st_troom, Dt.st_thas, Dt.st_so, Dt.st_trips, Dt.st_papers, Dt.st_places, Dt.st_rules, Dt.st_tape, Dt.st_fault, Dt.st_blew, Dt.st_taken, Dt.st_sold, Dt.st_unsold, Dt.st_made, Dt.st_vented, Dt.st_drunk, Dt.st_noRoom, Dt.st_coins, Dt.st_stored, Dt.st_water, Dt.st_running]), fun t z => (by first | exact trivial | exact z.elim | omega | (unfold tkTi at z; omega) | (unfold goA at z; omega)), fun t z => (by first | exact trivial | exact z.elim | omega | (unfold tkTi at z; omega) | (unfold goA at z; omega)), fun c z => (by first | exact trivial | exact z.elim | omega | (unfold tkTi at z; omega) | (unfold goA at z; omega))⟩) (Or.inl ⟨⟨(by simp only [Dt.st_now, Dt.st_told, Dt.st_stk, Dt.st_troom, Dt.st_thas, Dt.st_so, Dt.st_trips, Dt.st_papers, Dt.st_places, Dt.st_rules, Dt.st_tape, Dt.st_fault, Dt.st_blew, Dt.st_taken, Dt.st_sold, Dt.st_unsold, Dt.st_made, Dt.st_vented, Dt.st_drunk, Dt.st_noRoom, Dt.st_coins, Dt.st_stored, Dt.st_water, Dt.st_running]), (by simp only [Dt.st_now, Dt.st_told, Dt.st_stk, Dt.st_troom, Dt.st_thas, Dt.st_so, Dt.st_trips, Dt.st_papers, Dt.st_places, Dt.st_rules, Dt.st_tape, Dt.st_fault, Dt.st_blew, Dt.st_taken, Dt.st_sold, Dt.st_unsold, Dt.st_made, Dt.st_vented, Dt.st_drunk, Dt.st_noRoom, Dt.st_coins, Dt.st_stored, Dt.st_water, Dt.st_running])⟩, fun t z => (by first | exact trivial | exact z.elim | omega | (unfold tkTi at z; omega) | (unfold goA at z; omega)), fun t z => (by first | exact trivial | exact z.elim | omega | (unfold tkTi at z; omega) | (unfold goA at z; omega)), fun c z => (by first | exact trivial | exact z.elim | omega | (unfold tkTi at z; omega) | (unfold goA at z; omega))⟩) (Or.inr ?_) (Or.inr ?_) (Or.inl ⟨(by simp only [Dt.st_now, Dt.st_told, Dt.st_stk, Dt.st_troom, Dt.st_thas, Dt.st_so, Dt.st_trips, Dt.st_papers, Dt.st_places, Dt.st_rules, Dt.st_tape, Dt.st_fault, Dt.st_blew, Dt.st_taken, Dt.st_sold, Dt.st_unsold, Dt.st_made, Dt.st_vented, Dt.st_drunk, Dt.st_noRoom, Dt.st_coins, Dt.st_stored, Dt.st_water, Dt.st_running]), fun t z => (by first | exact trivial | exact z.elim | omega | (unfold tkTi at z; omega) | (unfold goA at z; omega)), fun t z => (by first | exact trivial | exact z.elim | omega | (unfold tkTi at z; omega) | (unfold goA at z; omega)), fun c z => (by first | exact trivial | exact z.elim | omega | (unfold tkTi at z; omega) | (unfold goA at z; omega))⟩) (Or.inl ⟨(by simp only [Dt.st_now, Dt.st_told, Dt.st_stk, Dt.st_troom, Dt.st_thas, Dt.st_so, Dt.st_trips, Dt.st_papers, Dt.st_places, Dt.st_rules, Dt.st_tape, Dt.st_fault, Dt.st_blew, Dt.st_taken, Dt.st_sold, Dt.st_unsold, Dt.st_made, Dt.st_vented, Dt.st_drunk, Dt.st_noRoom, Dt.st_coins, Dt.st_stored, Dt.st_water, Dt.st_running]), fun t z => (by first | exact trivial | exact z.elim | omega | (unfold tkTi at z; omega) | (unfold goA at z; omega)), fun t z => (by first | exact trivial | exact z.elim | omega | (unfold tkTi at z; omega) | (unfold goA at z; omega)), fun c z => (by first | exact trivial | exact z.elim | omega | (unfold tkTi at z; omega) | (unfold goA at z; omega))⟩) (Or.inl ⟨⟨⟨⟨(by simp only [Dt.st_now, Dt.st_told, Dt.st_stk, Dt.st_troom, Dt.st_thas, Dt.st_so, Dt.st_trips, Dt.st_papers, Dt.st_places, Dt.st_rules, Dt.st_tape, Dt.st_fault, Dt.st_blew, Dt.st_taken, Dt.st_sold, Dt.st_unsold, Dt.st_made, Dt.st_vented, Dt.st_drunk, Dt.st_noRoom, Dt.st_coins, Dt.st_stored, Dt.st_water, Dt.st_running]), (by simp only [Dt.st_now, Dt.st_told, Dt.st_stk, Dt.st_troom, Dt.st_thas, Dt.st_so, Dt.st_trips, Dt.st_papers, Dt.st_places, Dt.st_rules, Dt.st_tape, Dt.st_fault, Dt.st_blew, Dt.st_taken, Dt.st_sold, Dt.st_unsold, Dt.st_made, Dt.st_vented, Dt.st_drunk, Dt.st_noRoom, Dt.st_coins, Dt.st_stored, Dt.st_water, Dt.st_running]), (by simp only [Dt.st_now, Dt.st_told, Dt.st_stk, Dt.st_troom, Dt.st_thas, Dt.st_so, Dt.st_trips, Dt.st_papers, Dt.st_places, Dt.st_rules, Dt.st_tape, Dt.st_fault, Dt.st_blew, Dt.st_taken, Dt.st_sold, Dt.st_unsold, Dt.st_made, Dt.st_vented, Dt.st_drunk, Dt.st_noRoom, Dt.st_coins, Dt.st_stored, Dt.st_water, Dt.st_running])⟩, ⟨(by simp only [Dt.st_now, Dt.st_told, Dt.st_stk, Dt.st_troom, Dt.st_thas, Dt.st_so, Dt.st_trips, Dt.st_papers, Dt.st_places, Dt.st_rules, Dt.st_tape, Dt.st_fault, Dt.st_blew, Dt.st_taken, Dt.st_sold, Dt.st_unsold, Dt.st_made, Dt.st_vented, Dt.st_drunk, Dt.st_noRoom, Dt.st_coins, Dt.st_stored, Dt.st_water, Dt.st_running]), (by simp only [Dt.st_now, Dt.st_told, Dt.st_stk, Dt.st_troom, Dt.st_thas, Dt.st_so, Dt.st_trips, Dt.st_papers, Dt.st_places, Dt.st_rules, Dt.st_tape, Dt.st_fault, Dt.st_blew, Dt.st_taken, Dt.st_sold, Dt.st_unsold, Dt.st_made, Dt.st_vented, Dt.st_drunk, Dt.st_noRoom, Dt.st_coins, Dt.st_stored, Dt.st_water, Dt.st_running]), (by simp only [Dt.st_now, Dt.st_told, Dt.st_stk, Dt.st_troom, Dt.st_thas, Dt.st_so, Dt.st_trips, Dt.st_papers, Dt.st_places, Dt.st_rules, Dt.st_tape, Dt.st_fault, Dt.st_blew, Dt.st_taken, Dt.st_sold, Dt.st_unsold, Dt.st_made, Dt.st_vented, Dt.st_drunk, Dt.st_noRoom, Dt.st_coins, Dt.st_stored, Dt.st_water, Dt.st_running]), (by simp only [Dt.st_now, Dt.st_told, Dt.st_stk, Dt.st_troom, Dt.st_thas, Dt.st_so, Dt.st_trips, Dt.st_papers, Dt.st_places, Dt.st_rules, Dt.st_tape, Dt.st_fault, Dt.st_blew, Dt.st_taken, Dt.st_sold, Dt.st_unsold, Dt.st_made, Dt.st_vented, Dt.st_drunk, Dt.st_noRoom, Dt.st_coins, Dt.st_stored, Dt.st_water, Dt.st_running]), (by simp only [Dt.st_now, Dt.st_told, Dt.st_stk, Dt.st_troom, Dt.st_thas, Dt.st_so, Dt.st_trips, Dt.st_papers, Dt.st_places, Dt.st_rules, Dt.st_tape, Dt.st_fault, Dt.st_blew, Dt.st_taken, Dt.st_sold, Dt.st_unsold, Dt.st_made, Dt.st_vented, Dt.st_drunk, Dt.st_noRoom, Dt.st_coins, Dt.st_stored, Dt.st_water, Dt.st_running]), (by simp only [Dt.st_now, Dt.st_told, Dt.st_stk, Dt.st_troom, Dt.st_thas, Dt.st_so, Dt.st_trips, Dt.st_papers, Dt.st_places, Dt.st_rules, Dt.st_tape, Dt.st_fault, Dt.st_blew, Dt.st_taken, Dt.st_sold, Dt.st_unsold, Dt.st_made, Dt.st_vented, Dt.st_drunk, Dt.st_noRoom, Dt.st_coins, Dt.st_stored, Dt.st_water, Dt.st_running]), (by simp only [Dt.st_now, Dt.st_told, Dt.st_stk, Dt.st_troom, Dt.st_thas, Dt.st_so, Dt.st_trips, Dt.st_papers, Dt.st_places, Dt.st_rules, Dt.st_tape, Dt.st_fault, Dt.st_blew, Dt.st_taken, Dt.st_sold, Dt.st_unsold, Dt.st_made, Dt.st_vented, Dt.st_drunk, Dt.st_noRoom, Dt.st_coins, Dt.st_stored, Dt.st_water, Dt.st_running]), (by simp only [Dt.st_now, Dt.st_told, Dt.st_stk, Dt.st_troom, Dt.st_thas, Dt.st_so, Dt.st_trips, Dt.st_papers, Dt.st_places, Dt.st_rules, Dt.st_tape, Dt.st_fault, Dt.st_blew, Dt.st_taken, Dt.st_sold, Dt.st_unsold, Dt.st_made, Dt.st_vented, Dt.st_drunk, Dt.st_noRoom, Dt.st_coins, Dt.st_stored, Dt.st_water, Dt.st_running]), (by simp only [Dt.st_now, Dt.st_told, Dt.st_stk, Dt.st_troom, Dt.st_thas, Dt.st_so, Dt.st_trips, Dt.st_papers, Dt.st_places, Dt.st_rules, Dt.st_tape, Dt.st_fault, Dt.st_blew, Dt.st_taken, Dt.st_sold, Dt.st_unsold, Dt.st_made, Dt.st_vented, Dt.st_drunk, Dt.st_noRoom, Dt.st_coins, Dt.st_stored, Dt.st_water, Dt.st_running])⟩, (by simp only [Dt.st_now, Dt.st_told, Dt.st_stk, Dt.st_troom, Dt.st_thas, Dt.st_so, Dt.st_trips, Dt.st_papers, Dt.st_places, Dt.st_rules, Dt.st_tape, Dt.st_fault, Dt.st_blew, Dt.st_taken, Dt.st_sold, Dt.st_unsold, Dt.st_made, Dt.st_vented, Dt.st_drunk, Dt.st_noRoom, Dt.st_coins, Dt.st_stored, Dt.st_water, Dt.st_running]), (by simp only [Dt.st_now, Dt.st_told, Dt.st_stk, Dt.st_troom, Dt.st_thas, Dt.st_so, Dt.st_trips, Dt.st_papers, Dt.st_places, Dt.st_rules, Dt.st_tape, Dt.st_fault, Dt.st_blew, Dt.st_taken, Dt.st_sold, Dt.st_unsold, Dt.st_made, Dt.st_vented, Dt.st_drunk, Dt.st_noRoom, Dt.st_coins, Dt.st_stored, Dt.st_water, Dt.st_running]), (by simp only [Dt.st_now, Dt.st_told, Dt.st_stk, Dt.st_troom, Dt.st_thas, Dt.st_so, Dt.st_trips, Dt.st_papers, Dt.st_places, Dt.st_rules, Dt.st_tape, Dt.st_fault, Dt.st_blew, Dt.st_taken, Dt.st_sold, Dt.st_unsold, Dt.st_made, Dt.st_vented, Dt.st_drunk, Dt.st_noRoom, Dt.st_coins, Dt.st_stored, Dt.st_water, Dt.st_running]), (by simp only [Dt.st_now, Dt.st_told, Dt.st_stk, Dt.st_troom, Dt.st_thas, Dt.st_so, Dt.st_trips, Dt.st_papers, Dt.st_places, Dt.st_rules, Dt.st_tape, Dt.st_fault, Dt.st_blew, Dt.st_taken, Dt.st_sold, Dt.st_unsold, Dt.st_made, Dt.st_vented, Dt.st_drunk, Dt.st_noRoom, Dt.st_coins, Dt.st_stored, Dt.st_water, Dt.st_running]), (by simp only [Dt.st_now, Dt.st_told, Dt.st_stk, Dt.st_troom, Dt.st_thas, Dt.st_so, Dt.st_trips, Dt.st_papers, Dt.st_places, Dt.st_rules, Dt.st_tape, Dt.st_fault, Dt.st_blew, Dt.st_taken, Dt.st_sold, Dt.st_unsold, Dt.st_made, Dt.st_vented, Dt.st_drunk, Dt.st_noRoom, Dt.st_coins, Dt.st_stored, Dt.st_water, Dt.st_running])⟩, ?_, ?_, ?_, ?_⟩, fun t z => z.elim, fun o z => by unfold goA at z; omega, fun c z => z.elim⟩) (Or.inl ⟨(by simp only [Dt.st_now, Dt.st_told, Dt.st_stk, Dt.st_troom, Dt.st_thas, Dt.st_so, Dt.st_trips, Dt.st_papers, Dt.st_places, Dt.st_rules, Dt.st_tape, Dt.st_fault, Dt.st_blew, Dt.st_taken, Dt.st_sold, Dt.st_unsold, Dt.st_made, Dt.st_vented, Dt.st_drunk, Dt.st_noRoom, Dt.st_coins, Dt.st_stored, Dt.st_water, Dt.st_running]), fun t z => (by first | exact trivial | exact z.elim | omega | (unfold tkTi at z; omega) | (unfold goA at z; omega)), fun t z => (by first | exact trivial | exact z.elim | omega | (unfold tkTi at z; omega) | (unfold goA at z; omega)), fun c z => (by first | exact trivial | exact z.elim | omega | (unfold tkTi at z; omega) | (unfold goA at z; omega))⟩)
  all_goals simp only [Dt.st_so, Dt.st_trips]
  · refine RG.of (fun j hj => ?_)
    by_cases e : j = s
    · subst e
      rw [sup_eq]; exact a3
    · rw [sup_ne e]; exact (hS.2.2.1.at hj).oth hs hj e a2
  · exact a4
  · exact (lk 0).1
  · exact (lk 1).1
  · exact (lk 0).2
  · exact (lk 1).2
end
