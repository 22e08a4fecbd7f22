set_option maxRecDepth 100000
/-! ===== what WindGas keeps stays, where a run has changed other things ===== -/
section
variable {x : Nat} {M M' : Mem} {ti tl ls ar : Nat → Prop}
theorem map_same {α β : Type} {l : List α} {f g : α → β} (h : ∀ c ∈ l, f c = g c) : l.map f = l.map g := List.map_congr_left h
theorem XT.ag {told : Nat → List Tri} (h : XT x M told) (hf : Fre M) (hn : x + 88 ≤ M.n) (ha : Ag ti tl ls ar M M') (h1 : ∀ t, ti t → ¬ (640 ≤ t ∧ t < 643)) (h2 : ∀ c, ls c → c ≠ x + 2 ∧ c ≠ x + 4 ∧ c ≠ x + 6) : XT x M' told := by
  intro w hw
  obtain ⟨a1, a2⟩ := h w hw
  have e := ha.2.2.2.2.2.1 (x + 2 + 2 * w) (by omega) (fun z => by have := h2 _ z; omega)
  have hc : ∀ c ∈ M.ls (x + 2 + 2 * w), c ≤ M.n := fun c hc => hf.le (by rw [a2 c hc]; decide)
  rw [e.1]
  refine ⟨?_, fun c hc' => by rw [(ha.2.1 c (hc c hc')).1]; exact a2 c hc'⟩
  rw [← a1]
  refine map_same (fun c hc' => ?_)
  rw [ha.2.2.2.1 640 c (hc c hc') (fun z => h1 _ z (by omega)), ha.2.2.2.1 641 c (hc c hc') (fun z => h1 _ z (by omega)), ha.2.2.2.1 642 c (hc c hc') (fun z => h1 _ z (by omega))]
theorem XS.ag {stk : List Sk} (h : XS x M stk) (hf : Fre M) (hn : x + 88 ≤ M.n) (ha : Ag ti tl ls ar M M') (h1 : ∀ t, ti t → ¬ (768 ≤ t ∧ t < 777)) (h3 : ∀ t, tl t → t ≠ 776) (h2 : ∀ c, ls c → c ≠ x + 17) : XS x M' stk := by
  obtain ⟨a1, a2, a3, a4⟩ := h
  have e := ha.2.2.2.2.2.1 (x + 17) (by omega) (fun z => h2 _ z rfl)
  have hc : ∀ c ∈ M.ls (x + 17), c ≤ M.n := fun c hc => hf.le (by rw [a2 c hc]; decide)
  have hi : ∀ t, 768 ≤ t → t < 777 → ∀ c ∈ M.ls (x + 17), M'.i t c = M.i t c := fun t p q c hc' => ha.2.2.2.1 t c (hc c hc') (fun z => h1 _ z ⟨p, q⟩)
  unfold XS
  rw [e.1]
  refine ⟨?_, fun c hc' => by rw [(ha.2.1 c (hc c hc')).1]; exact a2 c hc', a3, fun j hj => by rw [hi 768 (by omega) (by omega) _ (List.getElem_mem hj)]; exact a4 j hj⟩
  rw [← a1]
  refine map_same (fun c hc' => ?_)
  unfold rdSk
  rw [hi 769 (by omega) (by omega) c hc', hi 770 (by omega) (by omega) c hc', hi 771 (by omega) (by omega) c hc', hi 772 (by omega) (by omega) c hc', hi 773 (by omega) (by omega) c hc', hi 774 (by omega) (by omega) c hc', hi 775 (by omega) (by omega) c hc', ha.2.2.2.2.1 776 c (hc c hc') (fun z => h3 _ z rfl)]
theorem XG1.ag {s : Nat} {so : So} (hs : s < 2) (h : XG1 x M s so) (hf : Fre M) (hn : x + 88 ≤ M.n) (ha : Ag ti tl ls ar M M') (h1 : ∀ t, ti t → ¬ (1024 ≤ t ∧ t < 1027) ∧ ¬ (385 ≤ t ∧ t < 389)) (h3 : ∀ t, tl t → t ≠ 391 ∧ t ≠ 392) (h2 : ∀ c, ls c → c ≠ x + 14 + 2 * s) : XG1 x M' s so := by
  obtain ⟨a1, a2, a3, a4, a5, a6, a7, a8, a9⟩ := h
  have e := ha.2.2.2.2.2.1 (x + 14 + 2 * s) (by omega) (fun z => h2 _ z rfl)
  have hc : ∀ c ∈ M.ls (x + 14 + 2 * s), c ≤ M.n := fun c hc => hf.le (by rw [a2 c hc]; decide)
  have hi : ∀ t, 1024 ≤ t → t < 1027 → ∀ c ∈ M.ls (x + 14 + 2 * s), M'.i t c = M.i t c := fun t p q c hc' => ha.2.2.2.1 t c (hc c hc') (fun z => (h1 _ z).1 ⟨p, q⟩)
  have hj : ∀ t, 385 ≤ t → t < 389 → M'.i t (x + 13 + 2 * s) = M.i t (x + 13 + 2 * s) := fun t p q => ha.2.2.2.1 t _ (by omega) (fun z => (h1 _ z).2 ⟨p, q⟩)
  unfold XG1
  rw [e.1, hj 385 (by omega) (by omega), hj 386 (by omega) (by omega), hj 387 (by omega) (by omega), hj 388 (by omega) (by omega), ha.2.2.2.2.1 391 _ (by omega) (fun z => (h3 _ z).1 rfl), ha.2.2.2.2.1 392 _ (by omega) (fun z => (h3 _ z).2 rfl)]
  refine ⟨?_, fun c hc' => by rw [(ha.2.1 c (hc c hc')).1]; exact a2 c hc', a3, a4, a5, a6, a7, a8, a9⟩
  rw [← a1]
  refine map_same (fun c hc' => ?_)
  unfold rdLt
  rw [hi 1024 (by omega) (by omega) c hc', hi 1025 (by omega) (by omega) c hc', hi 1026 (by omega) (by omega) c hc']
theorem XG.ag {so : Nat → So} (h : XG x M so) (hf : Fre M) (hn : x + 88 ≤ M.n) (ha : Ag ti tl ls ar M M') (h1 : ∀ t, ti t → ¬ (1024 ≤ t ∧ t < 1027) ∧ ¬ (385 ≤ t ∧ t < 389)) (h3 : ∀ t, tl t → t ≠ 391 ∧ t ≠ 392) (h2 : ∀ c, ls c → c ≠ x + 14 ∧ c ≠ x + 16) : XG x M' so := by
  obtain ⟨a1, a2, a3⟩ := h
  have e0 := ha.2.2.2.2.2.1 (x + 14) (by omega) (fun z => (h2 _ z).1 rfl)
  have e1 := ha.2.2.2.2.2.1 (x + 16) (by omega) (fun z => (h2 _ z).2 rfl)
  exact ⟨a1.ag (by omega) hf hn ha h1 h3 (fun c z => (h2 c z).1), a2.ag (by omega) hf hn ha h1 h3 (fun c z => (h2 c z).2), by rw [e0.1, e1.1]; exact a3⟩
theorem XP.ag {tp : List Tp} (h : XP x M tp) (hf : Fre M) (hn : x + 88 ≤ M.n) (ha : Ag ti tl ls ar M M') (h1 : ∀ t, ti t → ¬ (896 ≤ t ∧ t < 903) ∧ t ≠ 1152 ∧ t ≠ 1153) (h2 : ∀ c, ls c → c ≠ x + 23 ∧ (x + 89 < c → M.k (c - 1) ≠ 8)) : XP x M' tp := by
  obtain ⟨a1, a2, a3⟩ := h
  have e := ha.2.2.2.2.2.1 (x + 23) (by omega) (fun z => (h2 _ z).1 rfl)
  have hc : ∀ c ∈ M.ls (x + 23), c ≤ M.n ∧ c + 1 ≤ M.n ∧ M'.ls (c + 1) = M.ls (c + 1) := fun c hc => by
    obtain ⟨b1, b2, b3, b4, b5⟩ := a3 c hc
    have l1 := hf.le (c := c + 1) (by rw [b3]; decide)
    refine ⟨by omega, l1, (ha.2.2.2.2.2.1 (c + 1) l1 (fun z => (h2 _ z).2 (by omega) ?_)).1⟩
    rw [Nat.add_sub_cancel]; exact b1
  have hi : ∀ t, 896 ≤ t → t < 903 → ∀ c ∈ M.ls (x + 23), M'.i t c = M.i t c := fun t p q c hc' => ha.2.2.2.1 t c (hc c hc').1 (fun z => (h1 _ z).1 ⟨p, q⟩)
  unfold XP
  rw [e.1]
  refine ⟨?_, a2, fun c hc' => ?_⟩
  · rw [← a1]
    refine map_same (fun c hc' => ?_)
    unfold rdTp
    rw [hi 896 (by omega) (by omega) c hc', hi 897 (by omega) (by omega) c hc', hi 898 (by omega) (by omega) c hc', hi 900 (by omega) (by omega) c hc', hi 901 (by omega) (by omega) c hc', hi 902 (by omega) (by omega) c hc', (hc c hc').2.2]
    congr 1
    refine map_same (fun s hs => ?_)
    have ls := hf.le (c := s) (by rw [(a3 c hc').2.2.2.2 s hs]; decide)
    unfold rdSp
    rw [ha.2.2.2.1 1152 s ls (fun z => (h1 _ z).2.1 rfl), ha.2.2.2.1 1153 s ls (fun z => (h1 _ z).2.2 rfl)]
  · obtain ⟨b1, b2, b3, b4, b5⟩ := a3 c hc'
    obtain ⟨l1, l2, l3⟩ := hc c hc'
    rw [(ha.2.1 c l1).1, ha.2.2.1 899 c l1 (by omega), (ha.2.1 (c + 1) l2).1, l3]
    exact ⟨b1, b2, b3, b4, fun s hs => by rw [(ha.2.1 s (hf.le (by rw [b5 s hs]; decide))).1]; exact b5 s hs⟩
theorem XQ.ag {pa : List Tri} (h : XQ x M pa) (hf : Fre M) (hn : x + 88 ≤ M.n) (ha : Ag ti tl ls ar M M') (h1 : ∀ t, ti t → ¬ (1280 ≤ t ∧ t < 1283)) (h2 : ∀ c, ls c → c ≠ x + 24) : XQ x M' pa := by
  obtain ⟨a1, a2⟩ := h
  have e := ha.2.2.2.2.2.1 (x + 24) (by omega) (fun z => h2 _ z rfl)
  have hc : ∀ c ∈ M.ls (x + 24), c ≤ M.n := fun c hc => hf.le (by rw [a2 c hc]; decide)
  unfold XQ
  rw [e.1]
  refine ⟨?_, fun c hc' => by rw [(ha.2.1 c (hc c hc')).1]; exact a2 c hc'⟩
  rw [← a1]
  refine map_same (fun c hc' => ?_)
  unfold rdPa
  rw [ha.2.2.2.1 1280 c (hc c hc') (fun z => h1 _ z (by omega)), ha.2.2.2.1 1281 c (hc c hc') (fun z => h1 _ z (by omega)), ha.2.2.2.1 1282 c (hc c hc') (fun z => h1 _ z (by omega))]
theorem XL.ag {pl : List Tri} (h : XL x M pl) (hf : Fre M) (hn : x + 88 ≤ M.n) (ha : Ag ti tl ls ar M M') (h1 : ∀ t, ti t → ¬ (2048 ≤ t ∧ t < 2051)) (h2 : ∀ c, ls c → c ≠ x + 25) : XL x M' pl := by
  obtain ⟨a1, a2⟩ := h
  have e := ha.2.2.2.2.2.1 (x + 25) (by omega) (fun z => h2 _ z rfl)
  have hc : ∀ c ∈ M.ls (x + 25), c ≤ M.n := fun c hc => hf.le (by rw [a2 c hc]; decide)
  unfold XL
  rw [e.1]
  refine ⟨?_, fun c hc' => by rw [(ha.2.1 c (hc c hc')).1]; exact a2 c hc'⟩
  rw [← a1]
  refine map_same (fun c hc' => ?_)
  unfold rdPl
  rw [ha.2.2.2.1 2048 c (hc c hc') (fun z => h1 _ z (by omega)), ha.2.2.2.1 2049 c (hc c hc') (fun z => h1 _ z (by omega)), ha.2.2.2.1 2050 c (hc c hc') (fun z => h1 _ z (by omega))]
theorem XN.ag {d : Dt} (h : XN x M d) (hn : x + 88 ≤ M.n) (ha : Ag ti tl ls ar M M') (h1 : ∀ t, ti t → t ≠ 0 ∧ t ≠ 19 ∧ t ≠ 20 ∧ t ≠ 7 ∧ t ≠ 8) (h3 : ∀ t, tl t → ¬ (21 ≤ t ∧ t < 30)) (h4 : ∀ c, ar c → c ≠ x + 12 ∧ c ≠ x + 18 ∧ c ≠ x + 19 ∧ c ≠ x + 20) : XN x M' d := by
  obtain ⟨a1, a2, a3, ⟨b1, b2, b3, b4, b5, b6, b7, b8, b9⟩, a5, a6, a7, a8⟩ := h
  have hi : ∀ t, (t = 0 ∨ t = 19 ∨ t = 20 ∨ t = 7 ∨ t = 8) → M'.i t x = M.i t x := fun t p => ha.2.2.2.1 t x (by omega) (fun z => by have := h1 _ z; omega)
  have hl : ∀ t, 21 ≤ t → t < 30 → M'.l t x = M.l t x := fun t p q => ha.2.2.2.2.1 t x (by omega) (fun z => h3 _ z ⟨p, q⟩)
  have hA : ∀ c, (c = x + 12 ∨ c = x + 18 ∨ c = x + 19 ∨ c = x + 20) → M'.ai c = M.ai c := fun c p => (ha.2.2.2.2.2.2 c (by omega) (fun z => by have := h4 _ z; omega)).1
  unfold XN
  rw [hi 0 (by omega), hi 19 (by omega), hi 20 (by omega), hi 7 (by omega), hi 8 (by omega), hl 21 (by omega) (by omega), hl 22 (by omega) (by omega), hl 23 (by omega) (by omega), hl 24 (by omega) (by omega), hl 25 (by omega) (by omega), hl 26 (by omega) (by omega), hl 27 (by omega) (by omega), hl 28 (by omega) (by omega), hl 29 (by omega) (by omega), hA (x + 12) (by omega), hA (x + 18) (by omega), hA (x + 19) (by omega), hA (x + 20) (by omega)]
  exact ⟨a1, a2, a3, ⟨b1, b2, b3, b4, b5, b6, b7, b8, b9⟩, a5, a6, a7, a8⟩
theorem CX.le {d c : Nat} {φ : Ask} (h : CX x M d c φ) (hf : Fre M) : c ≤ M.n := by
  cases d with
  | zero => exact h.elim
  | succ d =>
    rcases h with ⟨h, -⟩ | ⟨h, -⟩ | ⟨h, -⟩
    · exact hf.le (by rw [h]; decide)
    · exact hf.le (by rw [h]; decide)
    · exact hf.le (by rw [h]; decide)
/-- lists that are neither fixed nor a trip's stay -/
theorem CX.ag (hf : Fre M) (hn : x + 88 ≤ M.n) (ha : Ag ti tl ls ar M M') (h1 : ∀ t, ti t → t ≠ 1536 ∧ ¬ (1792 ≤ t ∧ t < 1795)) (h2 : ∀ c, ls c → c ≤ M.n → M.k (c - 1) = 8 ∨ c ≤ x + 88) : ∀ (d c : Nat) (φ : Ask), CX x M d c φ → CX x M' d c φ := by
  intro d
  induction d with
  | zero => intro c φ h; exact h
  | succ d ih =>
    intro c φ h
    have hc := CX.le h hf
    rcases h with ⟨k, wd, w1, w2, w3⟩ | ⟨k, ψ, w1, w2⟩ | ⟨k, w1, w2, ψs, w3, w4, w5⟩
    · left
      rw [(ha.2.1 c hc).1, ha.2.2.2.1 1792 c hc (fun z => (h1 _ z).2 (by omega)), ha.2.2.2.1 1793 c hc (fun z => (h1 _ z).2 (by omega)), ha.2.2.2.1 1794 c hc (fun z => (h1 _ z).2 (by omega))]
      exact ⟨k, wd, w1, w2, w3⟩
    · right; left
      rw [(ha.2.1 c hc).1, ha.2.2.1 1664 c hc (by omega)]
      exact ⟨k, ψ, ih _ _ w1, w2⟩
    · right; right
      have hl := hf.le (c := M.r 1537 c) (by rw [w1]; decide)
      have e := ha.2.2.2.2.2.1 (M.r 1537 c) hl (fun z => by
        rcases h2 _ z hl with q | q
        · exact w2.1 q
        · have := w2.2; omega)
      rw [(ha.2.1 c hc).1, ha.2.2.1 1537 c hc (by omega), (ha.2.1 _ hl).1, (ha.2.1 _ (by omega)).1, e.1, ha.2.2.2.1 1536 c hc (fun z => (h1 _ z).1 rfl)]
      exact ⟨k, w1, w2, ψs, w3, fun j h h2 => ih _ _ (w4 j h h2), w5⟩
theorem CL.ag {l : Nat} {φs : List Ask} (h : CL x M l φs) (hf : Fre M) (hn : x + 88 ≤ M.n) (ha : Ag ti tl ls ar M M') (h1 : ∀ t, ti t → t ≠ 1536 ∧ ¬ (1792 ≤ t ∧ t < 1795)) (h2 : ∀ c, ls c → c ≤ M.n → M.k (c - 1) = 8 ∨ c ≤ x + 88) (hl : ¬ ls l) : CL x M' l φs := by
  obtain ⟨a1, a2, a3⟩ := h
  have le := hf.le (c := l) (by rw [a1]; decide)
  have e := ha.2.2.2.2.2.1 l le hl
  unfold CL
  rw [(ha.2.1 l le).1, e.1]
  exact ⟨a1, a2, fun j p q => CX.ag hf hn ha h1 h2 _ _ _ (a3 j p q)⟩
theorem XR1.ag {c : Nat} {ru : Ru} (h : XR1 x M c ru) (hf : Fre M) (hn : x + 88 ≤ M.n) (ha : Ag ti tl ls ar M M') (h1 : ∀ t, ti t → t ≠ 1536 ∧ ¬ (1792 ≤ t ∧ t < 1795) ∧ ¬ (256 ≤ t ∧ t < 264) ∧ ¬ (1920 ≤ t ∧ t < 1924)) (h2 : ∀ c, ls c → c ≤ M.n → M.k (c - 1) = 8 ∨ c ≤ x + 88) (h3 : ¬ ls (c + 1) ∧ ¬ ls (c + 2) ∧ ¬ ls (c + 3)) : XR1 x M' c ru := by
  obtain ⟨a0, a1, a2, a3, a4, a5, a6, a7, a8, a9, b1, b2, b3, b4, b5⟩ := h
  have le := hf.le (c := c) (by rw [a0]; decide)
  have le3 := hf.le (c := c + 3) (by rw [b3]; decide)
  have hi : ∀ t, 256 ≤ t → t < 264 → M'.i t c = M.i t c := fun t p q => ha.2.2.2.1 t c le (fun z => (h1 _ z).2.2.1 ⟨p, q⟩)
  have e := ha.2.2.2.2.2.1 (c + 3) le3 h3.2.2
  have he : ∀ e ∈ M.ls (c + 3), e ≤ M.n := fun s hs => hf.le (by rw [b5 s hs]; decide)
  have h1' : ∀ t, ti t → t ≠ 1536 ∧ ¬ (1792 ≤ t ∧ t < 1795) := fun t z => ⟨(h1 t z).1, (h1 t z).2.1⟩
  unfold XR1
  rw [(ha.2.1 c le).1, hi 256 (by omega) (by omega), hi 257 (by omega) (by omega), hi 258 (by omega) (by omega), hi 259 (by omega) (by omega), hi 260 (by omega) (by omega), hi 261 (by omega) (by omega), hi 262 (by omega) (by omega), hi 263 (by omega) (by omega), ha.2.2.1 264 c le (by omega), ha.2.2.1 265 c le (by omega), ha.2.2.1 266 c le (by omega), (ha.2.1 (c + 3) le3).1, e.1]
  refine ⟨a0, a1, a2, a3, a4, a5, a6, a7, a8, a9, b1.ag hf hn ha h1' h2 h3.1, b2.ag hf hn ha h1' h2 h3.2.1, b3, ?_, fun s hs => by rw [(ha.2.1 s (he s hs)).1]; exact b5 s hs⟩
  rw [← b4]
  refine map_same (fun s hs => ?_)
  have q : ∀ t, 1920 ≤ t → t < 1924 → M'.i t s = M.i t s := fun t p q => ha.2.2.2.1 t s (he s hs) (fun z => (h1 _ z).2.2.2 ⟨p, q⟩)
  rw [q 1920 (by omega) (by omega), q 1921 (by omega) (by omega), q 1922 (by omega) (by omega), q 1923 (by omega) (by omega)]
/-- the rules stay where no list but fixed ones (and not theirs) and trips' have changed -/
theorem XR.ag {rs : List Ru} (h : XR x M rs) (hf : Fre M) (hn : x + 88 ≤ M.n) (ha : Ag ti tl ls ar M M') (h1 : ∀ t, ti t → t ≠ 1536 ∧ ¬ (1792 ≤ t ∧ t < 1795) ∧ ¬ (256 ≤ t ∧ t < 264) ∧ ¬ (1920 ≤ t ∧ t < 1924)) (h2 : ∀ c, ls c → c ≤ M.n → M.k (c - 1) = 8 ∨ c ≤ x + 88) (h3 : ∀ c, ls c → ¬ (x + 7 ≤ c ∧ c ≤ x + 11)) : XR x M' rs := by
  obtain ⟨a1, a2, a3⟩ := h
  have e := ha.2.2.2.2.2.1 (x + 7) (by omega) (fun z => h3 _ z (by omega))
  refine ⟨a1.ag hf hn ha h1 h2 ⟨fun z => h3 _ z (by omega), fun z => h3 _ z (by omega), fun z => h3 _ z (by omega)⟩, by rw [e.1]; exact a2, ?_⟩
  rw [e.1]
  intro j p q
  obtain ⟨b1, b2⟩ := a3 j p q
  have k0 := b1.1
  have k1 := b1.2.2.2.2.2.2.2.2.2.2.1.1
  have k2 := b1.2.2.2.2.2.2.2.2.2.2.2.1.1
  have k3 := b1.2.2.2.2.2.2.2.2.2.2.2.2.1
  have l1 := hf.le (c := (M.ls (x + 7))[j] + 3) (by rw [k3]; decide)
  refine ⟨b1.ag hf hn ha h1 h2 ⟨fun z => ?_, fun z => ?_, fun z => ?_⟩, b2⟩
  · rcases h2 _ z (by omega) with w | w
    · rw [show (M.ls (x + 7))[j] + 1 - 1 = (M.ls (x + 7))[j] by omega, k0] at w; omega
    · omega
  · rcases h2 _ z (by omega) with w | w
    · rw [show (M.ls (x + 7))[j] + 2 - 1 = (M.ls (x + 7))[j] + 1 by omega, k1] at w; omega
    · omega
  · rcases h2 _ z (by omega) with w | w
    · rw [show (M.ls (x + 7))[j] + 3 - 1 = (M.ls (x + 7))[j] + 2 by omega, k2] at w; omega
    · omega
end
