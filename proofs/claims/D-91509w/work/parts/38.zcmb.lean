set_option maxRecDepth 100000
/-! ===== from one state to the next, component by component: the same, or anew ===== -/
def Nums (d d' : Dt) : Prop := (d'.now = d.now ∧ d'.troom = d.troom ∧ d'.thas = d.thas) ∧ (d'.blew = d.blew ∧ d'.taken = d.taken ∧ d'.sold = d.sold ∧ d'.unsold = d.unsold ∧ d'.made = d.made ∧ d'.vented = d.vented ∧ d'.drunk = d.drunk ∧ d'.noRoom = d.noRoom ∧ d'.coins = d.coins) ∧ d'.stored = d.stored ∧ d'.water = d.water ∧ d'.running = d.running ∧ d'.tape = d.tape ∧ d'.fault = d.fault
def Sam (I A B : Nat → Prop) (S S' : MS) : Prop := (∀ j, ¬ I j → S'.i j = S.i j) ∧ (∀ o, ¬ A o → S'.a o = S.a o) ∧ ∀ o, ¬ B o → S'.b o = S.b o
section
variable {S S' S0 : MS} {I A B : Nat → Prop}
theorem Sam.rf : Sam I A B S S := ⟨fun _ _ => rfl, fun _ _ => rfl, fun _ _ => rfl⟩
theorem Sam.tr (h : Sam I A B S0 S) (h2 : Sam I A B S S') : Sam I A B S0 S' := ⟨fun j z => (h2.1 j z).trans (h.1 j z), fun o z => (h2.2.1 o z).trans (h.2.1 o z), fun o z => (h2.2.2 o z).trans (h.2.2 o z)⟩
theorem Sam.mono {I' A' B' : Nat → Prop} (h : Sam I A B S S') (h1 : ∀ j, I j → I' j) (h2 : ∀ j, A j → A' j) (h3 : ∀ j, B j → B' j) : Sam I' A' B' S S' := ⟨fun j z => h.1 j (fun q => z (h1 j q)), fun j z => h.2.1 j (fun q => z (h2 j q)), fun j z => h.2.2 j (fun q => z (h3 j q))⟩
theorem Sam.si (h : Sam I A B S0 S) {j : Nat} {v : Int32} (hj : I j) : Sam I A B S0 (S.si j v) := ⟨fun k z => (si_ne S j v (k := k) (fun e => z (e ▸ hj))).trans (h.1 k z), h.2.1, h.2.2⟩
theorem Sam.sa (h : Sam I A B S0 S) {o i : Nat} {v : Int32} (ho : A o) : Sam I A B S0 (S.sa o i v) := ⟨h.1, fun k z => (sa_no S o i v (o' := k) (fun e => z (e ▸ ho))).trans (h.2.1 k z), h.2.2⟩
theorem Sam.sb (h : Sam I A B S0 S) {o i : Nat} {v : Int64} (ho : B o) : Sam I A B S0 (S.sb o i v) := ⟨h.1, h.2.1, fun k z => (sb_no S o i v (o' := k) (fun e => z (e ▸ ho))).trans (h.2.2 k z)⟩
theorem IM.cmb {d d' : Dt} (h : IM S d) (ha : Sam I A B S S')
    (h1 : (d'.told = d.told ∧ (∀ j, I j → True) ∧ (∀ o, A o → ¬ (1 ≤ o ∧ o ≤ 4)) ∧ ∀ o, B o → True) ∨ RT S' d'.told)
    (h2 : ((d'.now = d.now ∧ d'.stk = d.stk) ∧ (∀ j, I j → j ≠ 1) ∧ (∀ o, A o → ¬ (5 ≤ o ∧ o ≤ 12)) ∧ ∀ o, B o → o ≠ 13) ∨ RS S' d'.now d'.stk)
    (h3 : (d'.so = d.so ∧ (∀ j, I j → True) ∧ (∀ o, A o → ¬ (15 ≤ o ∧ o ≤ 26)) ∧ ∀ o, B o → o ≠ 22 ∧ o ≠ 23) ∨ RG S' d'.so)
    (h4 : (d'.trips = d.trips ∧ (∀ j, I j → j ≠ 2) ∧ (∀ o, A o → ¬ (27 ≤ o ∧ o ≤ 33)) ∧ ∀ o, B o → True) ∨ RP S' d'.trips)
    (h5 : (d'.papers = d.papers ∧ (∀ j, I j → j ≠ 3) ∧ (∀ o, A o → ¬ (38 ≤ o ∧ o ≤ 40)) ∧ ∀ o, B o → True) ∨ RQ S' d'.papers)
    (h6 : (d'.places = d.places ∧ (∀ j, I j → j ≠ 73) ∧ (∀ o, A o → ¬ (56 ≤ o ∧ o ≤ 58)) ∧ ∀ o, B o → True) ∨ RL S' d'.places)
    (h7 : ((Nums d d' ∧ (d'.so 0).leaked = (d.so 0).leaked ∧ (d'.so 1).leaked = (d.so 1).leaked ∧ (d'.so 0).lost = (d.so 0).lost ∧ (d'.so 1).lost = (d.so 1).lost) ∧ (∀ j, I j → ¬ (j = 0 ∨ j = 18 ∨ j = 19 ∨ j = 51 ∨ j = 55)) ∧ (∀ o, A o → ¬ (o = 35 ∨ o = 36 ∨ o = 37 ∨ o = 53)) ∧ ∀ o, B o → o ≠ 14) ∨ RN S' d')
    (h8 : (d'.rules = d.rules ∧ (∀ j, I j → j ≠ 49 ∧ j ≠ 50) ∧ (∀ o, A o → ¬ (41 ≤ o ∧ o ≤ 52)) ∧ ∀ o, B o → True) ∨ RU S' d'.rules) : IM S' d' := by
  obtain ⟨g1, g2, g3, g4, g5, g6, g7, g8⟩ := h
  obtain ⟨e1, e2, e3⟩ := ha
  refine ⟨?_, ?_, ?_, ?_, ?_, ?_, ?_, ?_⟩
  · rcases h1 with ⟨e, p1, p2, p3⟩ | h1
    · rw [e]; exact g1.fr (fun o a b => e2 o (fun z => p2 o z ⟨a, b⟩))
    · exact h1
  · rcases h2 with ⟨⟨e, e'⟩, p1, p2, p3⟩ | h2
    · rw [e, e']; exact g2.fr (e1 _ (fun z => p1 _ z rfl)) (fun o a b => e2 o (fun z => p2 o z ⟨a, b⟩)) (e3 _ (fun z => p3 _ z rfl))
    · exact h2
  · rcases h3 with ⟨e, p1, p2, p3⟩ | h3
    · rw [e]; exact g3.fr (fun o a b => e2 o (fun z => p2 o z ⟨a, b⟩)) (e3 _ (fun z => (p3 _ z).1 rfl)) (e3 _ (fun z => (p3 _ z).2 rfl))
    · exact h3
  · rcases h4 with ⟨e, p1, p2, p3⟩ | h4
    · rw [e]; exact g4.fr (e1 _ (fun z => p1 _ z rfl)) (fun o a b => e2 o (fun z => p2 o z ⟨a, b⟩))
    · exact h4
  · rcases h5 with ⟨e, p1, p2, p3⟩ | h5
    · rw [e]; exact g5.fr (e1 _ (fun z => p1 _ z rfl)) (fun o a b => e2 o (fun z => p2 o z ⟨a, b⟩))
    · exact h5
  · rcases h6 with ⟨e, p1, p2, p3⟩ | h6
    · rw [e]; exact g6.fr (e1 _ (fun z => p1 _ z rfl)) (fun o a b => e2 o (fun z => p2 o z ⟨a, b⟩))
    · exact h6
  · rcases h7 with ⟨⟨⟨⟨n1, n2, n3⟩, ⟨m1, m2, m3, m4, m5, m6, m7, m8, m9⟩, k1, k2, k3, k4, k5⟩, s1, s2, s3, s4⟩, p1, p2, p3⟩ | h7
    · have g := g7.fr (S' := S') (fun j z => e1 j (fun q => p1 j q z)) (fun o z => e2 o (fun q => p2 o q z)) (e3 _ (fun z => p3 _ z rfl))
      unfold RN at g ⊢
      rw [n1, n2, n3, m1, m2, m3, m4, m5, m6, m7, m8, m9, k1, k2, k3, k4, k5, s1, s2, s3, s4]
      exact g
    · exact h7
  · rcases h8 with ⟨e, p1, p2, p3⟩ | h8
    · rw [e]; exact g8.fr (e1 _ (fun z => (p1 _ z).1 rfl)) (e1 _ (fun z => (p1 _ z).2 rfl)) (fun o a b => e2 o (fun z => p2 o z ⟨a, b⟩))
    · exact h8
end
section
variable {x : Nat} {M M' : Mem} {ti tl ls ar : Nat → Prop}
theorem IX.cmb {d d' : Dt} (h : IX x M d) (hB : Bas x M) (ha : Ag ti tl ls ar M M')
    (h1 : (d'.told = d.told ∧ (∀ t, ti t → ¬ (640 ≤ t ∧ t < 643)) ∧ (∀ t, tl t → True) ∧ (∀ c, ls c → c ≠ x + 2 ∧ c ≠ x + 4 ∧ c ≠ x + 6) ∧ ∀ c, ar c → True) ∨ XT x M' d'.told)
    (h2 : (d'.stk = d.stk ∧ (∀ t, ti t → ¬ (768 ≤ t ∧ t < 777)) ∧ (∀ t, tl t → t ≠ 776) ∧ (∀ c, ls c → c ≠ x + 17) ∧ ∀ c, ar c → True) ∨ XS x M' d'.stk)
    (h3 : (d'.so = d.so ∧ (∀ t, ti t → ¬ (1024 ≤ t ∧ t < 1027) ∧ ¬ (385 ≤ t ∧ t < 389)) ∧ (∀ t, tl t → t ≠ 391 ∧ t ≠ 392) ∧ (∀ c, ls c → c ≠ x + 14 ∧ c ≠ x + 16) ∧ ∀ c, ar c → True) ∨ XG x M' d'.so)
    (h4 : (d'.trips = d.trips ∧ (∀ t, ti t → ¬ (896 ≤ t ∧ t < 903) ∧ t ≠ 1152 ∧ t ≠ 1153) ∧ (∀ t, tl t → True) ∧ (∀ c, ls c → c ≠ x + 23 ∧ (x + 89 < c → M.k (c - 1) ≠ 8)) ∧ ∀ c, ar c → True) ∨ XP x M' d'.trips)
    (h5 : (d'.papers = d.papers ∧ (∀ t, ti t → ¬ (1280 ≤ t ∧ t < 1283)) ∧ (∀ t, tl t → True) ∧ (∀ c, ls c → c ≠ x + 24) ∧ ∀ c, ar c → True) ∨ XQ x M' d'.papers)
    (h6 : (d'.places = d.places ∧ (∀ t, ti t → ¬ (2048 ≤ t ∧ t < 2051)) ∧ (∀ t, tl t → True) ∧ (∀ c, ls c → c ≠ x + 25) ∧ ∀ c, ar c → True) ∨ XL x M' d'.places)
    (h7 : (Nums d d' ∧ (∀ t, ti t → t ≠ 0 ∧ t ≠ 19 ∧ t ≠ 20 ∧ t ≠ 7 ∧ t ≠ 8) ∧ (∀ t, tl t → ¬ (21 ≤ t ∧ t < 30)) ∧ (∀ c, ls c → True) ∧ ∀ c, ar c → c ≠ x + 12 ∧ c ≠ x + 18 ∧ c ≠ x + 19 ∧ c ≠ x + 20) ∨ XN x M' d')
    (h8 : (d'.rules = d.rules ∧ (∀ t, ti t → t ≠ 1536 ∧ ¬ (1792 ≤ t ∧ t < 1795) ∧ ¬ (256 ≤ t ∧ t < 264) ∧ ¬ (1920 ≤ t ∧ t < 1924)) ∧ (∀ t, tl t → True) ∧ (∀ c, ls c → (c ≤ M.n → M.k (c - 1) = 8 ∨ c ≤ x + 88) ∧ ¬ (x + 7 ≤ c ∧ c ≤ x + 11)) ∧ ∀ c, ar c → True) ∨ XR x M' d'.rules) : IX x M' d' := by
  have hf := hB.2.1
  have hn := hB.1.top
  obtain ⟨g1, g2, g3, g4, g5, g6, g7, g8⟩ := h
  refine ⟨?_, ?_, ?_, ?_, ?_, ?_, ?_, ?_⟩
  · rcases h1 with ⟨e, p1, p2, p3, p4⟩ | h1
    · rw [e]; exact g1.ag hf hn ha p1 p3
    · exact h1
  · rcases h2 with ⟨e, p1, p2, p3, p4⟩ | h2
    · rw [e]; exact g2.ag hf hn ha p1 p2 p3
    · exact h2
  · rcases h3 with ⟨e, p1, p2, p3, p4⟩ | h3
    · rw [e]; exact g3.ag hf hn ha p1 p2 p3
    · exact h3
  · rcases h4 with ⟨e, p1, p2, p3, p4⟩ | h4
    · rw [e]; exact g4.ag hf hn ha p1 p3
    · exact h4
  · rcases h5 with ⟨e, p1, p2, p3, p4⟩ | h5
    · rw [e]; exact g5.ag hf hn ha p1 p3
    · exact h5
  · rcases h6 with ⟨e, p1, p2, p3, p4⟩ | h6
    · rw [e]; exact g6.ag hf hn ha p1 p3
    · exact h6
  · rcases h7 with ⟨⟨⟨n1, n2, n3⟩, ⟨m1, m2, m3, m4, m5, m6, m7, m8, m9⟩, k1, k2, k3, k4, k5⟩, p1, p2, p3, p4⟩ | h7
    · have g := g7.ag hn ha p1 p2 p4
      unfold XN at g ⊢
      rw [n1, n2, n3, m1, m2, m3, m4, m5, m6, m7, m8, m9, k1, k2, k3, k4, k5]
      exact g
    · exact h7
  · rcases h8 with ⟨e, p1, p2, p3, p4⟩ | h8
    · rw [e]; exact g8.ag hf hn ha p1 (fun c z => (p3 c z).1) (fun c z => (p3 c z).2)
    · exact h8
theorem ID.cmb {d d' : Dt} (h : ID d) (h1 : d'.now = d.now ∨ d'.now ≤ 4999)
    (h2 : d'.told = d.told ∨ ((∀ w, w < 3 → (d'.told w).length ≤ 80) ∧ ∀ w, w < 3 → ∀ e ∈ d'.told w, (w = 0 → 0 ≤ e.2.2.toInt ∧ e.2.2.toInt ≤ 2000) ∧ (w = 1 → -500 ≤ e.2.2.toInt ∧ e.2.2.toInt ≤ 500) ∧ (w = 2 → 0 ≤ e.2.2.toInt ∧ e.2.2.toInt ≤ 100)))
    (h3 : d'.stk = d.stk ∨ (d'.stk.length ≤ 4 ∧ ∀ s ∈ d'.stk, skOk s)) (h4 : (d'.thas = d.thas ∧ d'.troom = d.troom) ∨ (0 ≤ d'.thas.toInt ∧ d'.thas.toInt ≤ d'.troom.toInt ∧ d'.troom.toInt ≤ 100000))
    (h5 : (d'.now = d.now ∧ d'.so = d.so) ∨ (soOk d'.now (d'.so 0) ∧ soOk d'.now (d'.so 1))) (h6 : (d'.now = d.now ∧ d'.trips = d.trips) ∨ (d'.trips.length ≤ 40 ∧ ∀ t ∈ d'.trips, tpOk d'.now t))
    (h7 : (d'.papers = d.papers ∧ d.trips.length ≤ d'.trips.length) ∨ (d'.papers.length ≤ 60 ∧ ∀ p ∈ d'.papers, 0 ≤ p.1.toInt ∧ p.1.toInt < (d'.trips.length : Int)))
    (h8 : d'.places = d.places ∨ d'.places.length ≤ 20) (h9 : d'.rules = d.rules ∨ (d'.rules.length ≤ 8 ∧ ∀ r ∈ d'.rules, r.stm.length ≤ 24 ∧ ∀ s ∈ r.stm, smOk s))
    (h10 : d'.tape = d.tape ∨ (d'.tape.length ≤ 600 ∧ ∀ b ∈ d'.tape, -128 ≤ b.toInt ∧ b.toInt ≤ 127)) : ID d' := by
  obtain ⟨a1, a2, a3, a4, a5, a6, a7, a8, a9, a10, a11⟩ := h
  refine ⟨?_, ?_, ?_, ?_, ?_, ?_, ?_, ?_, ?_, ?_, ?_⟩
  · rcases h1 with e | e
    · rw [e]; exact a1
    · exact e
  · rcases h2 with e | e
    · rw [e]; exact a2
    · exact e.1
  · rcases h3 with e | e
    · rw [e]; exact a3
    · exact e
  · rcases h4 with e | e
    · rw [e.1, e.2]; exact a4
    · exact e
  · rcases h5 with e | e
    · rw [e.1, e.2]; exact a5
    · exact e
  · rcases h6 with e | e
    · rw [e.1, e.2]; exact a6
    · exact e
  · rcases h7 with e | e
    · rw [e.1]
      exact ⟨a7.1, fun p hp => ⟨(a7.2 p hp).1, by have := (a7.2 p hp).2; have := e.2; omega⟩⟩
    · exact e
  · rcases h8 with e | e
    · rw [e]; exact a8
    · exact e
  · rcases h9 with e | e
    · rw [e]; exact a9
    · exact e
  · rcases h10 with e | e
    · rw [e]; exact a10
    · exact e
  · rcases h2 with e | e
    · rw [e]; exact a11
    · exact e.2
end
