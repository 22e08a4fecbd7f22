set_option maxRecDepth 100000
/-! ===== a call of both ===== -/
def isNt (t : Nat) : Prop := ¬ (512 ≤ t ∧ t < 640) ∧ ¬ (128 ≤ t ∧ t < 264)
/-- what a call of WindGas's may change -/
def AgX (x : Nat) (M M' : Mem) : Prop := Ag isNt (fun _ => True) (fun _ => True) (fun c => x ≤ c ∧ c ≤ x + 27) M M'
/-- the data are d' behind a call of WindGas's -/
def Okx (x : Nat) (M : Mem) (d' : Dt) (M1 : Mem) : Prop := IX x M1 d' ∧ Fre M1 ∧ GL M1 ∧ AgX x M M1
/-- the script: L ints xs at the code p -/
def Scr (p L : Nat) (xs : Nat → Int32) (M : Mem) : Prop := M.k p = 60 ∧ M.len p = L ∧ ∀ j, j < L → M.ai p j = xs j
/-- trips that haven't drunk -/
def dry (tp : List Tp) : Nat := (tp.filter (fun t => t.how ≠ 1)).length
/-- what has been spent, behind k calls -/
def Cst (x n0 k : Nat) (M : Mem) (d : Dt) : Prop := M.n + 3400 * dry d.trips + 20 * d.tape.length ≤ n0 + 600 + 9000 * k ∧ M.sl + 40000 * dry d.trips + 600 * d.tape.length ≤ 110000 + 100000 * k + 4 * (M.cap (x + 14) + M.cap (x + 16))
def skOk (s : Sk) : Prop := 10 ≤ s.size.toInt ∧ s.size.toInt ≤ 500 ∧ 1 ≤ s.gives.toInt ∧ s.gives.toInt ≤ 20 ∧ 0 ≤ s.dirt.toInt ∧ s.dirt.toInt ≤ 200 ∧ 0 ≤ s.wear.toInt ∧ s.wear.toInt ≤ 50000 ∧ (s.on = 0 ∨ s.on = 1)
def sumG (l : List Tri) : Int := (l.map (fun e => e.2.1.toInt)).sum
/-- the hours of lots rise, none is later than the hour of the ten at hand, each lot holds something -/
def lotsOk (now : Nat) (l : List Tri) : Prop := (∀ j (h : j < l.length), 0 < l[j].2.1.toInt ∧ 0 ≤ l[j].1.toInt ∧ l[j].1.toInt ≤ ((now / 6 : Nat) : Int)) ∧ ∀ i j (hi : i < l.length) (hj : j < l.length), i < j → l[i].1.toInt < l[j].1.toInt
def soOk (now : Nat) (s : So) : Prop := lotsOk now s.lots ∧ sumG s.lots = s.grams.toInt ∧ s.grams.toInt ≤ s.room.toInt ∧ s.room.toInt ≤ 1000000 ∧ 0 ≤ s.leak.toInt ∧ s.leak.toInt ≤ 100 ∧ 0 ≤ s.breath.toInt ∧ s.breath.toInt ≤ 1000000
def sumS (l : List (Int32 × Int32)) : Int := (l.map (fun e => e.2.toInt)).sum
def tpOk (now : Nat) (t : Tp) : Prop := (t.kind = 0 ∨ t.kind = 1) ∧ 0 ≤ t.ten.toInt ∧ t.ten.toInt ≤ 4999 ∧ 1 ≤ t.grams.toInt ∧ t.grams.toInt ≤ 50000 ∧
  (t.how = 0 ∨ t.how = 1 ∨ t.how = 2) ∧ (t.how = 0 → (now : Int) ≤ t.ten.toInt + (if t.kind = 0 then 11 else 0)) ∧ (t.how = 0 → t.foul = 0) ∧ (t.how ≠ 1 → t.sips = []) ∧ (∀ e ∈ t.sips, 0 < e.2.toInt ∧ 0 ≤ e.1.toInt ∧ e.1.toInt ≤ 833) ∧ sumS t.sips ≤ 50000 ∧ t.sips.length ≤ 3000
def smOk (s : Sm) : Prop := 0 ≤ s.sort.toInt ∧ s.sort.toInt ≤ 8 ∧ 0 ≤ s.a.toInt ∧ s.a.toInt ≤ 999999 ∧ (s.sort = 2 → 1 ≤ s.a.toInt ∧ s.a.toInt ≤ 100) ∧ (s.sort = 5 → s.a = 0 ∨ s.a = 1)
def ID (d : Dt) : Prop := d.now ≤ 4999 ∧ (∀ w, w < 3 → (d.told w).length ≤ 80) ∧ (d.stk.length ≤ 4 ∧ ∀ s ∈ d.stk, skOk s) ∧ (0 ≤ d.thas.toInt ∧ d.thas.toInt ≤ d.troom.toInt ∧ d.troom.toInt ≤ 100000) ∧ (soOk d.now (d.so 0) ∧ soOk d.now (d.so 1)) ∧ (d.trips.length ≤ 40 ∧ ∀ t ∈ d.trips, tpOk d.now t) ∧
  (d.papers.length ≤ 60 ∧ ∀ p ∈ d.papers, 0 ≤ p.1.toInt ∧ p.1.toInt < (d.trips.length : Int)) ∧ d.places.length ≤ 20 ∧ (d.rules.length ≤ 8 ∧ ∀ r ∈ d.rules, r.stm.length ≤ 24 ∧ ∀ s ∈ r.stm, smOk s) ∧ (d.tape.length ≤ 600 ∧ ∀ b ∈ d.tape, -128 ≤ b.toInt ∧ b.toInt ≤ 127) ∧
  (∀ w, w < 3 → ∀ e ∈ d.told w, (w = 0 → 0 ≤ e.2.2.toInt ∧ e.2.2.toInt ≤ 2000) ∧ (w = 1 → -500 ≤ e.2.2.toInt ∧ e.2.2.toInt ≤ 500) ∧ (w = 2 → 0 ≤ e.2.2.toInt ∧ e.2.2.toInt ≤ 100))
/-- both keep the same data -/
def Inv (x n0 k p L : Nat) (xs : Nat → Int32) (M : Mem) : Prop := ∃ d, Bas x M ∧ Scr p L xs M ∧ IX x M d ∧ IM (vw x M) d ∧ ID d ∧ Cst x n0 k M d
section
variable {x : Nat} {M M' : Mem}
theorem Monly.ag (h : Monly x M M') : Ag (fun t => 512 ≤ t ∧ t < 640) no no (fun c => x + 28 < c ∧ c ≤ x + 88) M M' := by
  obtain ⟨a1, a2, a3, a4, a5, a6, a7, a8, a9, a10, a11, a12⟩ := h
  refine ⟨⟨Nat.le_of_eq a7.symm, Nat.le_of_eq a8.symm⟩, fun c _ => by rw [a1, a2, a5]; exact ⟨rfl, rfl, rfl⟩, fun t c _ _ => by rw [a3], fun t c _ ht => by rw [a11 t ht], fun t c _ _ => by rw [a9], fun c _ _ => by rw [a4, a6]; exact ⟨rfl, rfl⟩, fun c _ hc => ?_⟩
  rw [(a12 c hc).1, (a12 c hc).2, a10]
  exact ⟨rfl, rfl, rfl⟩
theorem IX.monly {d : Dt} (h : IX x M d) (hB : Bas x M) (hm : Monly x M M') : IX x M' d := by
  have ha := hm.ag
  have hf := hB.2.1
  have hn := hB.1.top
  obtain ⟨h1, h2, h3, h4, h5, h6, h7, h8⟩ := h
  exact ⟨h1.ag hf hn ha (fun t z => by omega) (fun c z => z.elim), h2.ag hf hn ha (fun t z => by omega) (fun t z => z.elim) (fun c z => z.elim), h3.ag hf hn ha (fun t z => by omega) (fun t z => z.elim) (fun c z => z.elim), h4.ag hf hn ha (fun t z => by omega) (fun c z => z.elim), h5.ag hf hn ha (fun t z => by omega) (fun c z => z.elim), h6.ag hf hn ha (fun t z => by omega) (fun c z => z.elim), h7.ag hn ha (fun t z => by omega) (fun t z => z.elim) (fun c z => by omega), h8.ag hf hn ha (fun t z => by omega) (fun c z => z.elim) (fun c z => z.elim)⟩
theorem Bas.monly (hB : Bas x M) (hm : Monly x M M') : Bas x M' := by
  refine ⟨hm.lay hB.1, fun c hc => ?_, hB.2.2.1.same hm.1 hm.2.2.2.1 hm.2.2.2.2.2.1, hB.2.2.2.ag hB.2.1 hm.ag⟩
  rw [hm.1]; rw [hm.2.2.2.2.2.2.1] at hc; exact hB.2.1 c hc
theorem Okx.bas {d : Dt} (h : Okx x M d M') (hB : Bas x M) : Bas x M' := ⟨h.2.2.2.lay hB.1 (fun t z => z.2), h.2.1, h.2.2.1, hB.2.2.2.ag hB.2.1 h.2.2.2⟩
theorem Okx.vw {d : Dt} (h : Okx x M d M') (hB : Bas x M) : vw x M' = vw x M := (h.2.2.2.xonly hB.1.top (fun t z => z.1) (fun c z => by omega)).vw
theorem Scr.ag {p L : Nat} {xs : Nat → Int32} (h : Scr p L xs M) (hB : Bas x M) (ha : AgX x M M') : Scr p L xs M' := by
  obtain ⟨a1, a2, a3⟩ := h
  have hp := hB.2.1.le (c := p) (by rw [a1]; decide)
  have hne : ¬ (x ≤ p ∧ p ≤ x + 27) := fun z => by
    obtain ⟨o, rfl⟩ : ∃ o, p = x + o := ⟨p - x, by omega⟩
    have : ∀ e ∈ xT, e.2 ≠ 60 := by decide
    have h2 : ∃ e ∈ xT, e.1 = o := by
      have h3 : ∀ o, o < 28 → ∃ e ∈ xT, e.1 = o := by decide
      exact h3 o (by omega)
    obtain ⟨e, he, rfl⟩ := h2
    exact this e he ((hB.1.1 e he).symm.trans a1)
  unfold Scr
  rw [(ha.2.1 p hp).1, (ha.2.1 p hp).2.1, (ha.2.2.2.2.2.2 p hp hne).1]
  exact ⟨a1, a2, a3⟩
theorem Scr.monly {p L : Nat} {xs : Nat → Int32} (h : Scr p L xs M) (hB : Bas x M) (hm : Monly x M M') : Scr p L xs M' := by
  obtain ⟨a1, a2, a3⟩ := h
  have hne : ¬ (x + 28 < p ∧ p ≤ x + 88) := fun z => by
    obtain ⟨o, rfl⟩ : ∃ o, p = x + 28 + o := ⟨p - (x + 28), by omega⟩
    have : ∀ e ∈ mT, 50 + e.2.2.1 ≠ 60 := by decide
    have h2 : ∃ e ∈ mT, e.2.1 = o := by
      have h3 : ∀ o, o < 61 → 0 < o → ∃ e ∈ mT, e.2.1 = o := by decide
      exact h3 o (by omega) (by omega)
    obtain ⟨e, he, rfl⟩ := h2
    exact this e he ((hB.1.2.2.2.2.1 e he).2.1.symm.trans a1)
  unfold Scr
  rw [hm.1, hm.2.1, (hm.2.2.2.2.2.2.2.2.2.2.2 p hne).1]
  exact ⟨a1, a2, a3⟩
/-- a call of both, told of each alone -/
theorem op_join {α : Type} {fx fm : Act α} {n0 k p L : Nat} {xs : Nat → Int32} {Q : α → Mem → Prop} (hI : Inv x n0 k p L xs M)
    (H : ∀ d, Bas x M → IX x M d → ID d → Cst x n0 k M d → ∃ a d', ID d' ∧ wp fx M (fun b M1 => b = a ∧ Okx x M d' M1 ∧ Cst x n0 (k + 1) M1 d') ∧ ∀ S, IM S d → wm x fm S (fun b S' => b = a ∧ IM S' d'))
    (hq : ∀ a M1, Scr p L xs M1 → wp (gd 4 (x + 28) (nt fm)) M1 (fun b M2 => b = a ∧ Inv x n0 (k + 1) p L xs M2) → Q a M1) : wp (gd 0 x (nt fx)) M Q := by
  obtain ⟨d, hB, hS, hX, hM, hD, hC⟩ := hI
  obtain ⟨a, d', hD', h1, h2⟩ := H d hB hX hD hC
  refine w_gd hB.1.k0 (w_nt (w_mono h1 ?_))
  intro b M1 ⟨e, ho, hc⟩
  subst e
  have hB1 := ho.bas hB
  refine hq _ _ (hS.ag hB ho.2.2.2) ?_
  have hM1 : IM (vw x M1) d := by rw [ho.vw hB]; exact hM
  obtain ⟨b2, M2, r1, r2, r3, r4⟩ := m_gd (m_nt (h2 _ hM1)) M1 hB1.1 rfl
  refine ⟨b2, M2, r1, r3, d', hB1.monly r2, (hS.ag hB ho.2.2.2).monly hB1 r2, ho.1.monly hB1 r2, r4, hD', ?_⟩
  unfold Cst
  rw [r2.2.2.2.2.2.2.1, r2.2.2.2.2.2.2.2.1, r2.2.2.2.2.2.1]
  exact hc
theorem Cst.step {n0 k : Nat} {d : Dt} (h : Cst x n0 k M d) (h1 : M'.n ≤ M.n + 8000) (h2 : M'.sl + 4 * (M.cap (x + 14) + M.cap (x + 16)) ≤ M.sl + 90000 + 4 * (M'.cap (x + 14) + M'.cap (x + 16))) : Cst x n0 (k + 1) M' d := by
  unfold Cst at h ⊢
  omega
theorem Okx.rf {d : Dt} (hB : Bas x M) (h : IX x M d) : Okx x M d M := ⟨h, hB.2.1, hB.2.2.1, Ag.rf⟩
/-- a question: nothing changes -/
theorem op_ask {α : Type} {fx fm : Act α} {n0 k p L : Nat} {xs : Nat → Int32} {Q : α → Mem → Prop} (hI : Inv x n0 k p L xs M)
    (H : ∀ d, Bas x M → IX x M d → ID d → ∃ a, wp fx M (fun b M1 => b = a ∧ Okx x M d M1 ∧ M1.n = M.n ∧ M1.sl = M.sl ∧ M1.cap = M.cap) ∧ ∀ S, IM S d → wm x fm S (fun b S' => b = a ∧ IM S' d))
    (hq : ∀ a M1, Scr p L xs M1 → wp (gd 4 (x + 28) (nt fm)) M1 (fun b M2 => b = a ∧ Inv x n0 (k + 1) p L xs M2) → Q a M1) : wp (gd 0 x (nt fx)) M Q := by
  refine op_join hI (fun d hB hX hD hC => ?_) hq
  obtain ⟨a, h1, h2⟩ := H d hB hX hD
  refine ⟨a, d, hD, w_mono h1 ?_, h2⟩
  intro b M1 ⟨e, ho, c1, c2, c3⟩
  exact ⟨e, ho, hC.step (by omega) (by rw [c2, c3]; omega)⟩
end
