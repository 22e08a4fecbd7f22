set_option maxRecDepth 100000
/-! ===== what the model keeps stays, where other things have changed ===== -/
section
variable {S S' : MS}
theorem RT.fr {told : Nat → List Tri} (h : RT S told) (e : ∀ o, 1 ≤ o → o ≤ 4 → S'.a o = S.a o) : RT S' told := by
  unfold RT at h ⊢
  rw [e 1 (by omega) (by omega), e 2 (by omega) (by omega), e 3 (by omega) (by omega), e 4 (by omega) (by omega)]
  exact h
theorem RS.fr {now : Nat} {stk : List Sk} (h : RS S now stk) (e1 : S'.i 1 = S.i 1) (e : ∀ o, 5 ≤ o → o ≤ 12 → S'.a o = S.a o) (e3 : S'.b 13 = S.b 13) : RS S' now stk := by
  unfold RS at h ⊢
  rw [e 5 (by omega) (by omega), e 6 (by omega) (by omega), e 7 (by omega) (by omega), e 8 (by omega) (by omega), e 9 (by omega) (by omega), e 10 (by omega) (by omega), e 11 (by omega) (by omega), e 12 (by omega) (by omega), e1, e3]
  exact h
theorem RG1.fr {s : Nat} {so : So} (h : RG1 S s so) (e : ∀ o, 15 ≤ o → o ≤ 26 → S'.a o = S.a o) (e2 : S'.b 22 = S.b 22) (e3 : S'.b 23 = S.b 23) : RG1 S' s so := by
  unfold RG1 at h ⊢
  rw [e 15 (by omega) (by omega), e 16 (by omega) (by omega), e 17 (by omega) (by omega), e 18 (by omega) (by omega), e 19 (by omega) (by omega), e 20 (by omega) (by omega), e 21 (by omega) (by omega), e 24 (by omega) (by omega), e 25 (by omega) (by omega), e 26 (by omega) (by omega), e2, e3]
  exact h
theorem RG.fr {so : Nat → So} (h : RG S so) (e : ∀ o, 15 ≤ o → o ≤ 26 → S'.a o = S.a o) (e2 : S'.b 22 = S.b 22) (e3 : S'.b 23 = S.b 23) : RG S' so := ⟨h.1.fr e e2 e3, h.2.fr e e2 e3⟩
theorem RP.fr {tp : List Tp} (h : RP S tp) (e1 : S'.i 2 = S.i 2) (e : ∀ o, 27 ≤ o → o ≤ 33 → S'.a o = S.a o) : RP S' tp := by
  unfold RP at h ⊢
  rw [e 27 (by omega) (by omega), e 28 (by omega) (by omega), e 29 (by omega) (by omega), e 30 (by omega) (by omega), e 31 (by omega) (by omega), e 32 (by omega) (by omega), e 33 (by omega) (by omega), e1]
  exact h
theorem RQ.fr {pa : List Tri} (h : RQ S pa) (e1 : S'.i 3 = S.i 3) (e : ∀ o, 38 ≤ o → o ≤ 40 → S'.a o = S.a o) : RQ S' pa := by
  unfold RQ at h ⊢
  rw [e 38 (by omega) (by omega), e 39 (by omega) (by omega), e 40 (by omega) (by omega), e1]
  exact h
theorem RL.fr {pl : List Tri} (h : RL S pl) (e1 : S'.i 73 = S.i 73) (e : ∀ o, 56 ≤ o → o ≤ 58 → S'.a o = S.a o) : RL S' pl := by
  unfold RL at h ⊢
  rw [e 56 (by omega) (by omega), e 57 (by omega) (by omega), e 58 (by omega) (by omega), e1]
  exact h
theorem RN.fr {d : Dt} (h : RN S d) (e1 : ∀ j, j = 0 ∨ j = 18 ∨ j = 19 ∨ j = 51 ∨ j = 55 → S'.i j = S.i j) (e : ∀ o, o = 35 ∨ o = 36 ∨ o = 37 ∨ o = 53 → S'.a o = S.a o) (e3 : S'.b 14 = S.b 14) : RN S' d := by
  unfold RN at h ⊢
  rw [e1 0 (by omega), e1 18 (by omega), e1 19 (by omega), e1 51 (by omega), e1 55 (by omega), e 35 (by omega), e 36 (by omega), e 37 (by omega), e 53 (by omega), e3]
  exact h
theorem Chn.fr {P P' : Nat → Nat → Int32 → Ask → Prop} {B : Nat} (hP : ∀ lo hi k φ, hi ≤ B → P lo hi k φ → P' lo hi k φ) (e : ∀ i, i < B → S'.a 49 i = S.a 49 i) : ∀ (ψs : List Ask) (lo hi : Nat) (k : Int32), hi ≤ B → Chn S P lo hi k ψs → Chn S' P' lo hi k ψs := by
  intro ψs
  induction ψs with
  | nil => intro lo hi k _ h; exact h
  | cons ψ ψs ih =>
    intro lo hi k hB ⟨kn, mid, h1, h2, h3, h4, h5, h6⟩
    exact ⟨kn, mid, h1, h2, h3, h4, hP _ _ _ _ (by omega) h5, by rw [e kn (by omega)]; exact ih _ _ _ hB h6⟩
/-- a condition stays where the nodes ahead of B stay -/
theorem CM.up {B : Nat} (e : ∀ o, 47 ≤ o → o ≤ 52 → ∀ i, i < B → S'.a o i = S.a o i) : ∀ (d lo hi : Nat) (k : Int32) (φ : Ask), hi ≤ B → CM S d lo hi k φ → CM S' d lo hi k φ := by
  intro d
  induction d with
  | zero => intro lo hi k φ _ h; exact h
  | succ d ih =>
    intro lo hi k φ hB h
    obtain ⟨kn, h0, h1, h2, h3⟩ := h
    refine ⟨kn, h0, h1, h2, ?_⟩
    rw [e 47 (by omega) (by omega) kn (by omega), e 48 (by omega) (by omega) kn (by omega), e 50 (by omega) (by omega) kn (by omega), e 51 (by omega) (by omega) kn (by omega), e 52 (by omega) (by omega) kn (by omega)]
    rcases h3 with h3 | ⟨h3, ψ, h4, h5⟩ | ⟨ψs, h4, h5⟩
    · exact Or.inl h3
    · exact Or.inr (Or.inl ⟨h3, ψ, ih _ _ _ _ hB h4, h5⟩)
    · exact Or.inr (Or.inr ⟨ψs, Chn.fr ih (e 49 (by omega) (by omega)) ψs _ _ _ hB h4, h5⟩)
theorem CM.fr (e : ∀ o, 47 ≤ o → o ≤ 52 → S'.a o = S.a o) (d lo hi : Nat) (k : Int32) (φ : Ask) (h : CM S d lo hi k φ) : CM S' d lo hi k φ := CM.up (B := hi) (fun o a b i _ => by rw [e o a b]) d lo hi k φ (Nat.le_refl _) h
/-- a chain is no longer than the nodes are many -/
theorem Chn.len {P : Nat → Nat → Int32 → Ask → Prop} : ∀ (ψs : List Ask) (lo hi : Nat) (k : Int32), Chn S P lo hi k ψs → ψs.length ≤ hi - lo := by
  intro ψs
  induction ψs with
  | nil => intro lo hi k _; exact Nat.zero_le _
  | cons ψ ψs ih =>
    intro lo hi k ⟨kn, mid, h1, h2, h3, h4, h5, h6⟩
    have := ih _ _ _ h6
    rw [List.length_cons]
    omega
theorem RU.fr {rs : List Ru} (h : RU S rs) (e1 : S'.i 49 = S.i 49) (e2 : S'.i 50 = S.i 50) (e : ∀ o, 41 ≤ o → o ≤ 52 → S'.a o = S.a o) : RU S' rs := by
  obtain ⟨h1, h2, h3, h4⟩ := h
  refine ⟨by rw [e1]; exact h1, h2, by rw [e2]; exact h3, fun r hr => ?_⟩
  obtain ⟨g1, g2, g3, g4⟩ := h4 r hr
  unfold RR1
  rw [e 41 (by omega) (by omega), e 42 (by omega) (by omega), e 43 (by omega) (by omega), e 44 (by omega) (by omega), e 45 (by omega) (by omega), e 46 (by omega) (by omega)]
  refine ⟨g1, g2, g3, fun k hk => ?_⟩
  obtain ⟨q1, q2, q3⟩ := g4 k hk
  refine ⟨q1, ?_, q3⟩
  by_cases c : rs[r].stm[k].sort = 6 ∨ rs[r].stm[k].sort = 7
  · rw [if_pos c] at q2 ⊢
    rw [e2]
    exact CM.fr (fun o a b => e o (by omega) b) _ _ _ _ _ q2
  · rw [if_neg c] at q2 ⊢
    exact q2
end
/-! WindGas: numbers alone have changed -/
section
variable {x : Nat} {M M' : Mem}
def Rest (d d' : Dt) : Prop := d'.told = d.told ∧ d'.stk = d.stk ∧ d'.so = d.so ∧ d'.trips = d.trips ∧ d'.papers = d.papers ∧ d'.places = d.places ∧ d'.rules = d.rules
theorem Rest.rf {d : Dt} : Rest d d := ⟨rfl, rfl, rfl, rfl, rfl, rfl, rfl⟩
theorem IX.num {d d' : Dt} (h : IX x M d) (hB : Bas x M) {ls : Nat → Prop} (ha : Ag (fun t => t < 128) (fun t => t < 128) ls (fun c => x ≤ c ∧ c ≤ x + 27) M M') (hl : ∀ c, ¬ ls c) (hd : Rest d d') (hN : XN x M' d') : IX x M' d' := by
  have hf := hB.2.1
  have hn := hB.1.top
  obtain ⟨h1, h2, h3, h4, h5, h6, h7, h8⟩ := h
  obtain ⟨e1, e2, e3, e4, e5, e6, e7⟩ := hd
  unfold IX
  rw [e1, e2, e3, e4, e5, e6, e7]
  exact ⟨h1.ag hf hn ha (fun t z => by omega) (fun c z => (hl c z).elim), h2.ag hf hn ha (fun t z => by omega) (fun t z => by omega) (fun c z => (hl c z).elim), h3.ag hf hn ha (fun t z => by omega) (fun t z => by omega) (fun c z => (hl c z).elim), h4.ag hf hn ha (fun t z => by omega) (fun c z => (hl c z).elim), h5.ag hf hn ha (fun t z => by omega) (fun c z => (hl c z).elim), h6.ag hf hn ha (fun t z => by omega) (fun c z => (hl c z).elim), hN, h8.ag hf hn ha (fun t z => by omega) (fun c z => (hl c z).elim) (fun c z => (hl c z).elim)⟩
theorem AgX.of {ti tl ls ar : Nat → Prop} (ha : Ag ti tl ls ar M M') (h1 : ∀ t, ti t → isNt t) (h2 : ∀ c, ar c → x ≤ c ∧ c ≤ x + 27) : AgX x M M' := ha.mono h1 (fun _ _ => trivial) (fun _ _ => trivial) h2
theorem Okx.num {d d' : Dt} (h : IX x M d) (hB : Bas x M) (ha : Ag (fun t => t < 128) (fun t => t < 128) no (fun c => x ≤ c ∧ c ≤ x + 27) M M') (hk : M'.k = M.k) (hn : M'.n = M.n) (hls : M'.ls = M.ls) (hc : M'.cap = M.cap) (hd : Rest d d') (hN : XN x M' d') : Okx x M d' M' := by
  refine ⟨h.num hB ha (fun _ z => z) hd hN, fun c z => ?_, hB.2.2.1.same hk hls hc, AgX.of ha (fun t z => ?_) (fun c z => z)⟩
  · rw [hk]; rw [hn] at z; exact hB.2.1 c z
  · unfold isNt; omega
end
