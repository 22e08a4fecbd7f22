set_option maxRecDepth 100000
/-! ===== the picture: lists and texts as such, their arrays hidden ===== -/
def Mem.setls (M : Mem) (c : Nat) (xs : List Nat) : Mem := mk_ M.i M.l M.r M.ai M.al M.ar M.k M.len (up1 M.ls c xs) M.tx M.cap M.n M.sl
def Mem.settx (M : Mem) (c : Nat) (xs : List Int32) : Mem := mk_ M.i M.l M.r M.ai M.al M.ar M.k M.len M.ls (up1 M.tx c xs) M.cap M.n M.sl
def Mem.setcap (M : Mem) (c v : Nat) : Mem := mk_ M.i M.l M.r M.ai M.al M.ar M.k M.len M.ls M.tx (up1 M.cap c v) M.n M.sl
def Mem.addn (M : Mem) (a b : Nat) : Mem := mk_ M.i M.l M.r M.ai M.al M.ar M.k M.len M.ls M.tx M.cap (M.n + a) (M.sl + b)
def ksO : List Nat := [1, 2, 3, 4, 5, 6, 7, 8, 9, 10, 11, 12, 13, 14, 15, 16, 17, 18, 19, 20, 40]
theorem elO_of {Rp : Mem → Mem → Prop} (hK : ∀ kd, kd ≠ 0 → CpK Rp kd) : ElOk Rp "java/lang/Object" ksO := by
  intro kd hkd
  simp only [ksO, List.mem_cons, List.not_mem_nil, or_false] at hkd
  rcases hkd with rfl | rfl | rfl | rfl | rfl | rfl | rfl | rfl | rfl | rfl | rfl | rfl | rfl | rfl | rfl | rfl | rfl | rfl | rfl | rfl | rfl
  · exact ⟨by decide, by decide, Or.inr q2116, hK _ (by decide)⟩
  · exact ⟨by decide, by decide, Or.inr q2117, hK _ (by decide)⟩
  · exact ⟨by decide, by decide, Or.inr q2119, hK _ (by decide)⟩
  · exact ⟨by decide, by decide, Or.inr q2120, hK _ (by decide)⟩
  · exact ⟨by decide, by decide, Or.inr q2121, hK _ (by decide)⟩
  · exact ⟨by decide, by decide, Or.inr q2122, hK _ (by decide)⟩
  · exact ⟨by decide, by decide, Or.inr q2123, hK _ (by decide)⟩
  · exact ⟨by decide, by decide, Or.inr q2124, hK _ (by decide)⟩
  · exact ⟨by decide, by decide, Or.inr q2125, hK _ (by decide)⟩
  · exact ⟨by decide, by decide, Or.inr q2126, hK _ (by decide)⟩
  · exact ⟨by decide, by decide, Or.inr q2127, hK _ (by decide)⟩
  · exact ⟨by decide, by decide, Or.inr q2129, hK _ (by decide)⟩
  · exact ⟨by decide, by decide, Or.inr q2131, hK _ (by decide)⟩
  · exact ⟨by decide, by decide, Or.inr q2132, hK _ (by decide)⟩
  · exact ⟨by decide, by decide, Or.inr q2133, hK _ (by decide)⟩
  · exact ⟨by decide, by decide, Or.inr q2134, hK _ (by decide)⟩
  · exact ⟨by decide, by decide, Or.inr q2135, hK _ (by decide)⟩
  · exact ⟨by decide, by decide, Or.inr q2118, hK _ (by decide)⟩
  · exact ⟨by decide, by decide, Or.inr q2128, hK _ (by decide)⟩
  · exact ⟨by decide, by decide, Or.inr q2115, hK _ (by decide)⟩
  · exact ⟨by decide, by decide, Or.inr q2115, hK _ (by decide)⟩
theorem elS_of {Rp : Mem → Mem → Prop} (hK : ∀ kd, kd ≠ 0 → CpK Rp kd) : ElOk Rp "java/lang/String" [20, 40] := by
  intro kd hkd
  simp only [List.mem_cons, List.not_mem_nil, or_false] at hkd
  rcases hkd with rfl | rfl
  · exact ⟨by decide, by decide, Or.inl rfl, hK _ (by decide)⟩
  · exact ⟨by decide, by decide, Or.inl rfl, hK _ (by decide)⟩
theorem elO : ElOk (@Eq Mem) "java/lang/Object" ksO := elO_of (fun kd _ => eqK kd)
theorem elS2 : ElOk (@Eq Mem) "java/lang/String" [20, 40] := elS_of (fun kd _ => eqK kd)
/-- the hash of a text -/
def hashT (xs : List Int32) : Int32 := xs.foldl (fun h b => 31 * h + (b &&& 255)) 0
/-- a list: its array e is hidden, and its own (or the constant empty one) -/
def PL (M Z : Mem) (own : Nat → Nat) (c : Nat) : Prop :=
  (M.cap c = 0 ∧ M.ls c = [] ∧ Z.i 2178 c = 0) ∨
  (M.cap c ≠ 0 ∧ Z.i 2178 c = Int32.ofNat (M.ls c).length ∧ (M.ls c).length ≤ Z.len (Z.r 2177 c) ∧ Z.len (Z.r 2177 c) + 1 = M.cap c ∧
    ((Z.k (Z.r 2177 c) = 54 ∧ own (Z.r 2177 c) = c ∧ 1 ≤ Z.len (Z.r 2177 c)) ∨ (Z.r 2177 c = M.r 9000 0 ∧ Z.len (Z.r 2177 c) = 0)) ∧ M.k (Z.r 2177 c) = 0 ∧
    (∀ j (h : j < (M.ls c).length), Z.ar (Z.r 2177 c) j = (M.ls c)[j]) ∧ ∀ x ∈ M.ls c, M.k x ∈ ksO)
def PB (M Z : Mem) (own : Nat → Nat) (c : Nat) : Prop :=
  (M.cap c = 0 ∧ M.tx c = [] ∧ Z.i 2307 c = 0) ∨
  (M.cap c ≠ 0 ∧ Z.i 2307 c = Int32.ofNat (M.tx c).length ∧ (M.tx c).length ≤ Z.len (Z.r 2304 c) ∧ Z.len (Z.r 2304 c) + 1 = M.cap c ∧
    Z.k (Z.r 2304 c) = 52 ∧ own (Z.r 2304 c) = c ∧ M.k (Z.r 2304 c) = 0 ∧ Z.i 2305 c = 0 ∧
    (∀ j (h : j < (M.tx c).length), Z.ai (Z.r 2304 c) j = (M.tx c)[j]) ∧ ∀ j, j < Z.len (Z.r 2304 c) → fits .byte (.int (Z.ai (Z.r 2304 c) j)) = true)
def PS (M Z : Mem) (own : Nat → Nat) (c : Nat) : Prop :=
  ((Z.k (Z.r 2432 c) = 52 ∧ own (Z.r 2432 c) = c) ∨ Z.k (Z.r 2432 c) = 62) ∧ M.k (Z.r 2432 c) = 0 ∧ Z.i 2433 c = 0 ∧ Z.len (Z.r 2432 c) = (M.tx c).length ∧
  (∀ j (h : j < (M.tx c).length), Z.ai (Z.r 2432 c) j = (M.tx c)[j]) ∧
  ((Z.i 2434 c = 0 ∧ Z.i 2435 c = 0 ∧ M.k c = 20) ∨ (Z.i 2434 c = hashT (M.tx c) ∧ hashT (M.tx c) ≠ 0) ∨ (Z.i 2434 c = 0 ∧ hashT (M.tx c) = 0 ∧ Z.i 2435 c ≠ 0))
def PT (M Z : Mem) (own : Nat → Nat) (c : Nat) : Prop := (M.k c = 18 → PL M Z own c) ∧ (M.k c = 19 → PB M Z own c) ∧ (M.k c = 20 ∨ M.k c = 40 → PS M Z own c)
def Pic (M Z : Mem) : Prop :=
  (Z.n = M.n ∧ Z.sl = M.sl) ∧ (∀ k, Z.r (9000 + k) 0 = M.r (9000 + k) 0) ∧ (∀ c, M.k c ≠ 0 → Z.k c = M.k c) ∧
  (∀ c t, M.k c ≠ 0 → M.k c ≤ 17 → Z.i t c = M.i t c ∧ Z.l t c = M.l t c ∧ Z.r t c = M.r t c) ∧
  (∀ c, 50 ≤ M.k c → Z.len c = M.len c ∧ Z.ai c = M.ai c ∧ Z.al c = M.al c ∧ Z.ar c = M.ar c) ∧
  (∃ own : Nat → Nat, ∀ c, PT M Z own c) ∧ (∀ c, Z.n < c → Z.k c = 0) ∧ (M.k 0 = 0 ∧ Z.k (M.r 9000 0) = 64 ∧ Z.len (M.r 9000 0) = 0 ∧ M.k (M.r 9000 0) = 0)
theorem pcZ : ∀ M Z : Mem, Pic M Z → Z.n = M.n ∧ Z.sl = M.sl := fun _ _ h => h.1
theorem pcK (kd : Nat) (h0 : kd ≠ 0 := by decide) : CpK Pic kd := fun M Z c h hk => by rw [h.2.2.1 c (by rw [hk]; exact h0), hk]
theorem pcS : CpS Pic := fun M Z h k => h.2.1 k
theorem pcG (ci : Nat) (h0 : ci ≤ 16 := by decide) : CpG Pic ci := by
  intro M Z c h hk
  have hk : M.k c = ci + 1 := by
    rcases hk with hk | ⟨h1, -⟩
    · exact hk
    · omega
  refine ⟨Or.inl ?_, fun j _ => h.2.2.2.1 c _ (by omega) (by omega)⟩
  rw [h.2.2.1 c (by omega), hk]
/-- what a list's picture rests on -/
theorem PT_congr {M Z M' Z' : Mem} {own own' : Nat → Nat} {c : Nat} (h : PT M Z own c) (hv : ∀ x, M.k x ≠ 0 → Z.k x = M.k x) (h64 : Z.k (M.r 9000 0) = 64) (hkc : M'.k c = M.k c) (hk : ∀ x, Z.k x ≠ 0 → M'.k x = M.k x) (hls : M'.ls c = M.ls c) (htx : M'.tx c = M.tx c) (hcap : M'.cap c = M.cap c) (hr0 : M'.r 9000 0 = M.r 9000 0)
    (hi : ∀ t, 2176 ≤ t → t < 2560 → Z'.i t c = Z.i t c) (hr : ∀ t, 2176 ≤ t → t < 2560 → Z'.r t c = Z.r t c)
    (hh : ∀ x, M.k x = 0 → Z.k x ≠ 0 → (Z.k x = 52 ∨ Z.k x = 54 → own x = c) → Z'.k x = Z.k x ∧ Z'.len x = Z.len x ∧ Z'.ai x = Z.ai x ∧ Z'.ar x = Z.ar x ∧ own' x = own x) : PT M' Z' own' c := by
  refine ⟨fun h1 => ?_, fun h1 => ?_, fun h1 => ?_⟩
  · rw [hkc] at h1
    rcases h.1 h1 with ⟨a1, a2, a3⟩ | ⟨a1, a2, a3, a4, a5, a6, a7, a8⟩
    · exact Or.inl ⟨by rw [hcap]; exact a1, by rw [hls]; exact a2, by rw [hi 2178 (by omega) (by omega)]; exact a3⟩
    · have hz : Z.k (Z.r 2177 c) ≠ 0 := by
        rcases a5 with ⟨a5, -⟩ | ⟨a5, -⟩
        · rw [a5]; decide
        · rw [a5, h64]; decide
      have ho : Z.k (Z.r 2177 c) = 52 ∨ Z.k (Z.r 2177 c) = 54 → own (Z.r 2177 c) = c := fun q => by
        rcases a5 with ⟨-, a5, -⟩ | ⟨a5, -⟩
        · exact a5
        · rw [a5, h64] at q; omega
      obtain ⟨b1, b2, b3, b4, b5⟩ := hh _ a6 hz ho
      have er := hr 2177 (by omega) (by omega)
      refine Or.inr ⟨by rw [hcap]; exact a1, by rw [hi 2178 (by omega) (by omega), hls]; exact a2, by rw [er, b2, hls]; exact a3, by rw [er, b2, hcap]; exact a4, by rw [er, b1, b2, hr0, b5]; exact a5, by rw [er, hk _ hz]; exact a6, ?_, ?_⟩
      · rw [er, b4, hls]; exact a7
      · rw [hls]; intro x hx
        have h9 : M.k x ≠ 0 := fun e => by have := a8 x hx; rw [e] at this; revert this; decide
        rw [hk x (by rw [hv x h9]; exact h9)]; exact a8 x hx
  · rw [hkc] at h1
    rcases h.2.1 h1 with ⟨a1, a2, a3⟩ | ⟨a1, a2, a3, a4, a5, a6, a7, a8, a9, a10⟩
    · exact Or.inl ⟨by rw [hcap]; exact a1, by rw [htx]; exact a2, by rw [hi 2307 (by omega) (by omega)]; exact a3⟩
    · have hz : Z.k (Z.r 2304 c) ≠ 0 := by rw [a5]; decide
      obtain ⟨b1, b2, b3, b4, b5⟩ := hh _ a7 hz (fun _ => a6)
      have er := hr 2304 (by omega) (by omega)
      refine Or.inr ⟨by rw [hcap]; exact a1, by rw [hi 2307 (by omega) (by omega), htx]; exact a2, by rw [er, b2, htx]; exact a3, by rw [er, b2, hcap]; exact a4, by rw [er, b1]; exact a5, by rw [er, b5]; exact a6, by rw [er, hk _ hz]; exact a7, by rw [hi 2305 (by omega) (by omega)]; exact a8, ?_, ?_⟩
      · rw [er, b3, htx]; exact a9
      · rw [er, b3, b2]; exact a10
  · rw [hkc] at h1
    obtain ⟨a1, a2, a3, a4, a5, a6⟩ := h.2.2 h1
    have hz : Z.k (Z.r 2432 c) ≠ 0 := by
      rcases a1 with ⟨a1, -⟩ | a1
      · rw [a1]; decide
      · rw [a1]; decide
    have ho : Z.k (Z.r 2432 c) = 52 ∨ Z.k (Z.r 2432 c) = 54 → own (Z.r 2432 c) = c := fun q => by
      rcases a1 with ⟨-, a1⟩ | a1
      · exact a1
      · omega
    obtain ⟨b1, b2, b3, b4, b5⟩ := hh _ a2 hz ho
    have er := hr 2432 (by omega) (by omega)
    refine ⟨by rw [er, b1, b5]; exact a1, by rw [er, hk _ hz]; exact a2, by rw [hi 2433 (by omega) (by omega)]; exact a3, by rw [er, b2, htx]; exact a4, ?_, ?_⟩
    · rw [er, b3, htx]; exact a5
    · rw [hi 2434 (by omega) (by omega), hi 2435 (by omega) (by omega), htx, hkc]; exact a6
theorem pcP (ci : Nat) (h0 : ci ≤ 16 := by decide) : CpP Pic ci := by
  intro M Z c h hk
  have hk : M.k c = ci + 1 := hk
  have hkZ : Z.k c = ci + 1 := by rw [h.2.2.1 c (by omega), hk]
  have hc0 : c ≠ 0 := fun e => by rw [e, h.2.2.2.2.2.2.2.1] at hk; omega
  obtain ⟨h1, h2, h3, h4, h5, ⟨own, h6⟩, h7, h8⟩ := h
  refine ⟨hkZ, fun j hj => ⟨fun v => ?_, fun v => ?_, fun v => ?_⟩⟩
  · refine ⟨h1, h2, h3, fun c' t a b => ⟨?_, (h4 c' t a b).2⟩, h5, ⟨own, fun c' => PT_congr (h6 c') h3 h8.2.1 rfl (fun _ _ => rfl) rfl rfl rfl rfl (fun t _ _ => ?_) (fun _ _ _ => rfl) (fun _ _ _ _ => ⟨rfl, rfl, rfl, rfl, rfl⟩)⟩, h7, h8⟩
    · show up2 Z.i _ _ _ _ _ = up2 M.i _ _ _ _ _
      unfold up2
      rw [(h4 c' t a b).1]
    · exact up2_nx _ _ _ _ (by omega)
  · refine ⟨h1, h2, h3, fun c' t a b => ⟨(h4 c' t a b).1, ?_, (h4 c' t a b).2.2⟩, h5, ⟨own, fun c' => PT_congr (h6 c') h3 h8.2.1 rfl (fun _ _ => rfl) rfl rfl rfl rfl (fun _ _ _ => rfl) (fun _ _ _ => rfl) (fun _ _ _ _ => ⟨rfl, rfl, rfl, rfl, rfl⟩)⟩, h7, h8⟩
    show up2 Z.l _ _ _ _ _ = up2 M.l _ _ _ _ _
    unfold up2
    rw [(h4 c' t a b).2.1]
  · have e0 : ∀ k, up2 M.r (128 * ci + j) c v (9000 + k) 0 = M.r (9000 + k) 0 := fun k => up2_ny _ _ _ _ (Ne.symm hc0)
    have e1 : ∀ k, up2 Z.r (128 * ci + j) c v (9000 + k) 0 = Z.r (9000 + k) 0 := fun k => up2_ny _ _ _ _ (Ne.symm hc0)
    refine ⟨h1, fun k => (e1 k).trans ((h2 k).trans (e0 k).symm), h3, fun c' t a b => ⟨(h4 c' t a b).1, (h4 c' t a b).2.1, ?_⟩, h5, ⟨own, fun c' => PT_congr (h6 c') h3 h8.2.1 rfl (fun _ _ => rfl) rfl rfl rfl (e0 0) (fun _ _ _ => rfl) (fun t _ _ => up2_nx _ _ _ _ (by omega)) (fun _ _ _ _ => ⟨rfl, rfl, rfl, rfl, rfl⟩)⟩, h7, ?_⟩
    · show up2 Z.r _ _ _ _ _ = up2 M.r _ _ _ _ _
      unfold up2
      rw [(h4 c' t a b).2.2]
    · have e2 : (M.setr (128 * ci + j) c v).r 9000 0 = M.r 9000 0 := e0 0
      rw [e2]
      exact h8
theorem pcA (q : Nat) : CpA Pic q := fun M Z c h hk => ⟨h.2.2.1 c (by omega), h.2.2.2.2.1 c (by omega)⟩
theorem pcB (q : Nat) : CpB Pic q := by
  intro M Z c h hk
  have hkZ : Z.k c = 50 + q := by rw [h.2.2.1 c (by omega), hk]
  obtain ⟨h1, h2, h3, h4, h5, ⟨own, h6⟩, h7, h8⟩ := h
  have ne : ∀ x, M.k x = 0 → x ≠ c := fun x hx e => by rw [e] at hx; omega
  refine ⟨fun j v => ?_, fun j v => ?_, fun j v => ?_⟩
  · refine ⟨h1, h2, h3, h4, fun c' a => ⟨(h5 c' a).1, ?_, (h5 c' a).2.2⟩, ⟨own, fun c' => PT_congr (h6 c') h3 h8.2.1 rfl (fun _ _ => rfl) rfl rfl rfl rfl (fun _ _ _ => rfl) (fun _ _ _ => rfl) (fun x hx _ _ => ⟨rfl, rfl, funext fun y => up2_nx _ _ _ _ (ne x hx), rfl, rfl⟩)⟩, h7, h8⟩
    funext y
    show up2 Z.ai _ _ _ _ _ = up2 M.ai _ _ _ _ _
    unfold up2
    rw [(h5 c' a).2.1]
  · refine ⟨h1, h2, h3, h4, fun c' a => ⟨(h5 c' a).1, (h5 c' a).2.1, ?_, (h5 c' a).2.2.2⟩, ⟨own, fun c' => PT_congr (h6 c') h3 h8.2.1 rfl (fun _ _ => rfl) rfl rfl rfl rfl (fun _ _ _ => rfl) (fun _ _ _ => rfl) (fun x hx _ _ => ⟨rfl, rfl, rfl, rfl, rfl⟩)⟩, h7, h8⟩
    funext y
    show up2 Z.al _ _ _ _ _ = up2 M.al _ _ _ _ _
    unfold up2
    rw [(h5 c' a).2.2.1]
  · refine ⟨h1, h2, h3, h4, fun c' a => ⟨(h5 c' a).1, (h5 c' a).2.1, (h5 c' a).2.2.1, ?_⟩, ⟨own, fun c' => PT_congr (h6 c') h3 h8.2.1 rfl (fun _ _ => rfl) rfl rfl rfl rfl (fun _ _ _ => rfl) (fun _ _ _ => rfl) (fun x hx _ _ => ⟨rfl, rfl, rfl, funext fun y => up2_nx _ _ _ _ (ne x hx), rfl⟩)⟩, h7, h8⟩
    funext y
    show up2 Z.ar _ _ _ _ _ = up2 M.ar _ _ _ _ _
    unfold up2
    rw [(h5 c' a).2.2.2]
theorem pcN (ci : Nat) (h0 : ci ≤ 18 := by decide) : CpN Pic ci := by
  intro M Z w H h hR
  have hf := rep_fresh hR
  obtain ⟨⟨h1, h1'⟩, h2, h3, h4, h5, ⟨own, h6⟩, h7, h8⟩ := h
  have hfM : M.k (M.n + 1) = 0 := by
    by_cases e : M.k (M.n + 1) = 0
    · exact e
    · have := h3 _ e
      rw [← h1, hf] at this
      rw [← h1]; exact this.symm
  have kM : ∀ x, x ≠ M.n + 1 → (M.newo ci (NN ci)).k x = M.k x := fun x hx => up1_ne _ _ _ hx
  have kZ : ∀ x, x ≠ M.n + 1 → (Z.newo ci (NN ci)).k x = Z.k x := fun x hx => up1_ne _ _ _ (by rw [h1]; exact hx)
  have kM1 : (M.newo ci (NN ci)).k (M.n + 1) = ci + 1 := up1_eq _ _ _
  have kZ1 : (Z.newo ci (NN ci)).k (M.n + 1) = ci + 1 := by rw [← h1]; exact up1_eq _ _ _
  have hz0 : ∀ x, Z.k x ≠ 0 → x ≠ M.n + 1 := fun x hx e => by rw [e, ← h1] at hx; exact hx hf
  have r0 : ∀ k, (M.newo ci (NN ci)).r (9000 + k) 0 = M.r (9000 + k) 0 := fun k => newo_st M ci (NN ci) k
  refine ⟨⟨by show Z.n + 1 = M.n + 1; omega, by show Z.sl + _ = M.sl + _; omega⟩, fun k => (newo_st Z ci (NN ci) k).trans ((h2 k).trans (r0 k).symm), fun c hc => ?_, fun c t a b => ?_, fun c a => ?_, ⟨own, fun c => ?_⟩, fun c hc => ?_, ?_⟩
  · by_cases e : c = M.n + 1
    · rw [e, kM1, kZ1]
    · rw [kM c e, kZ c e]; rw [kM c e] at hc; exact h3 c hc
  · by_cases e : c = M.n + 1
    · subst e
      refine ⟨?_, ?_, ?_⟩
      · exact (if_pos (by rw [h1])).trans (if_pos rfl).symm
      · exact (if_pos (by rw [h1])).trans (if_pos rfl).symm
      · exact (if_pos (by rw [h1])).trans (if_pos rfl).symm
    · rw [kM c e] at a b
      obtain ⟨g1, g2, g3⟩ := h4 c t a b
      have e' : c ≠ Z.n + 1 := by rw [h1]; exact e
      exact ⟨(if_neg e').trans (g1.trans (if_neg e).symm), (if_neg e').trans (g2.trans (if_neg e).symm), (if_neg e').trans (g3.trans (if_neg e).symm)⟩
  · by_cases e : c = M.n + 1
    · rw [e, kM1] at a; omega
    · rw [kM c e] at a; exact h5 c a
  · by_cases e : c = M.n + 1
    · subst e
      have ls0 : (M.newo ci (NN ci)).ls (M.n + 1) = [] := up1_eq _ _ _
      have tx0 : (M.newo ci (NN ci)).tx (M.n + 1) = [] := up1_eq _ _ _
      have cp0 : (M.newo ci (NN ci)).cap (M.n + 1) = 0 := up1_eq _ _ _
      have i0 : ∀ t, (Z.newo ci (NN ci)).i t (M.n + 1) = 0 := fun t => if_pos (by rw [h1])
      refine ⟨fun _ => Or.inl ⟨cp0, ls0, i0 _⟩, fun _ => Or.inl ⟨cp0, tx0, i0 _⟩, fun q => ?_⟩
      rw [kM1] at q
      omega
    · have e' : c ≠ Z.n + 1 := by rw [h1]; exact e
      exact PT_congr (h6 c) h3 h8.2.1 (kM c e) (fun x hx => kM x (hz0 x hx)) (up1_ne _ _ _ e) (up1_ne _ _ _ e) (up1_ne _ _ _ e) (r0 0) (fun t _ _ => if_neg e') (fun t _ _ => if_neg e') (fun x hx hx2 _ => ⟨kZ x (hz0 x hx2), rfl, rfl, rfl, rfl⟩)
  · have hc : Z.n + 1 < c := hc
    rw [kZ c (by omega)]
    exact h7 c (by omega)
  · have e9 : M.r 9000 0 ≠ M.n + 1 := hz0 _ (by rw [h8.2.1]; decide)
    rw [show (M.newo ci (NN ci)).r 9000 0 = M.r 9000 0 from r0 0]
    exact ⟨by rw [kM 0 (by omega)]; exact h8.1, by rw [kZ _ e9]; exact h8.2.1, h8.2.2.1, by rw [kM _ e9]; exact h8.2.2.2⟩
theorem pcM (q : Nat) : CpM Pic q := by
  intro M Z w H N h hR
  have hf := rep_fresh hR
  obtain ⟨⟨h1, h1'⟩, h2, h3, h4, h5, ⟨own, h6⟩, h7, h8⟩ := h
  have kM : ∀ x, x ≠ M.n + 1 → (M.newa q N).k x = M.k x := fun x hx => up1_ne _ _ _ hx
  have kZ : ∀ x, x ≠ M.n + 1 → (Z.newa q N).k x = Z.k x := fun x hx => up1_ne _ _ _ (by rw [h1]; exact hx)
  have lM : ∀ x, x ≠ M.n + 1 → (M.newa q N).len x = M.len x := fun x hx => up1_ne _ _ _ hx
  have lZ : ∀ x, x ≠ M.n + 1 → (Z.newa q N).len x = Z.len x := fun x hx => up1_ne _ _ _ (by rw [h1]; exact hx)
  have kM1 : (M.newa q N).k (M.n + 1) = 50 + q := up1_eq _ _ _
  have kZ1 : (Z.newa q N).k (M.n + 1) = 50 + q := by rw [← h1]; exact up1_eq _ _ _
  have hz0 : ∀ x, Z.k x ≠ 0 → x ≠ M.n + 1 := fun x hx e => by rw [e, ← h1] at hx; exact hx hf
  have aM : ∀ x, x ≠ M.n + 1 → (M.newa q N).ai x = M.ai x ∧ (M.newa q N).al x = M.al x ∧ (M.newa q N).ar x = M.ar x := fun x hx => ⟨funext fun _ => if_neg hx, funext fun _ => if_neg hx, funext fun _ => if_neg hx⟩
  have aZ : ∀ x, x ≠ M.n + 1 → (Z.newa q N).ai x = Z.ai x ∧ (Z.newa q N).al x = Z.al x ∧ (Z.newa q N).ar x = Z.ar x := fun x hx => by
    have hx' : x ≠ Z.n + 1 := by rw [h1]; exact hx
    exact ⟨funext fun _ => if_neg hx', funext fun _ => if_neg hx', funext fun _ => if_neg hx'⟩
  refine ⟨⟨by show Z.n + 1 = M.n + 1; omega, by show Z.sl + _ = M.sl + _; omega⟩, h2, fun c hc => ?_, fun c t a b => ?_, fun c a => ?_, ⟨own, fun c => ?_⟩, fun c hc => ?_, ?_⟩
  · by_cases e : c = M.n + 1
    · rw [e, kM1, kZ1]
    · rw [kM c e, kZ c e]; rw [kM c e] at hc; exact h3 c hc
  · by_cases e : c = M.n + 1
    · rw [e, kM1] at b; omega
    · rw [kM c e] at a b; exact h4 c t a b
  · by_cases e : c = M.n + 1
    · subst e
      refine ⟨?_, funext fun j => ?_, funext fun j => ?_, funext fun j => ?_⟩
      · rw [← h1]
        have e2 : (M.newa q N).len (Z.n + 1) = N := by rw [h1]; exact up1_eq _ _ _
        rw [e2]; exact up1_eq _ _ _
      · exact (if_pos (by rw [h1])).trans (if_pos rfl).symm
      · exact (if_pos (by rw [h1])).trans (if_pos rfl).symm
      · exact (if_pos (by rw [h1])).trans (if_pos rfl).symm
    · rw [kM c e] at a
      rw [lM c e, lZ c e, (aM c e).1, (aM c e).2.1, (aM c e).2.2, (aZ c e).1, (aZ c e).2.1, (aZ c e).2.2]
      exact h5 c a
  · by_cases e : c = M.n + 1
    · subst e
      exact ⟨fun q1 => by rw [kM1] at q1; omega, fun q1 => by rw [kM1] at q1; omega, fun q1 => by rw [kM1] at q1; omega⟩
    · exact PT_congr (h6 c) h3 h8.2.1 (kM c e) (fun x hx => kM x (hz0 x hx)) rfl rfl rfl rfl (fun _ _ _ => rfl) (fun _ _ _ => rfl) (fun x hx hx2 _ => ⟨kZ x (hz0 x hx2), lZ x (hz0 x hx2), (aZ x (hz0 x hx2)).1, (aZ x (hz0 x hx2)).2.2, rfl⟩)
  · have hc : Z.n + 1 < c := hc
    rw [kZ c (by omega)]
    exact h7 c (by omega)
  · have e9 : M.r 9000 0 ≠ M.n + 1 := hz0 _ (by rw [h8.2.1]; decide)
    show (M.newa q N).k 0 = 0 ∧ (Z.newa q N).k (M.r 9000 0) = 64 ∧ (Z.newa q N).len (M.r 9000 0) = 0 ∧ (M.newa q N).k (M.r 9000 0) = 0
    exact ⟨by rw [kM 0 (by omega)]; exact h8.1, by rw [kZ _ e9]; exact h8.2.1, by rw [lZ _ e9]; exact h8.2.2.1, by rw [kM _ e9]; exact h8.2.2.2⟩
theorem elOp : ElOk Pic "java/lang/Object" ksO := elO_of (fun kd h => pcK kd h)
theorem elS2p : ElOk Pic "java/lang/String" [20, 40] := elS_of (fun kd h => pcK kd h)
theorem elS1p : ElOk Pic "java/lang/String" [40] := fun kd h => elS2p kd (List.mem_cons_of_mem _ h)
/-- a contract over the raw memory gives one over the picture -/
theorem Ct.pic {α : Type} {l : Launch} {y : MethodName} {ws : List Cond} {fr lo : Nat} {cv : α → Option Value} {args : List Value} {f fP : Act α} (h : Ct l (@Eq Mem) y ws fr lo cv args f)
    (hs : ∀ M Z rr M', Pic M Z → fP.run M = some (rr, M') → ∃ Z', f.run Z = some (rr, Z') ∧ Pic M' Z') : Ct l Pic y ws fr lo cv args fP := by
  intro w M M' rr hf p e h1 h2 h3 s m a below h4 h5 h6 h7
  obtain ⟨ha, hb, hw, Z, hZ, hR⟩ := h6
  obtain ⟨Z', hr, hZ'⟩ := hs M Z rr M' hZ hf
  have K := h w Z Z' rr hr
  rw [hZ.1.1, hZ.1.2, hZ'.1.1, hZ'.1.2] at K
  obtain ⟨n, o, a1, a2, a3, ⟨b1, ⟨Z2, c1, c2⟩, b3⟩, d⟩ := K p e h1 h2 h3 s m a below h4 h5 ⟨ha, hb, hw, Z, rfl, hR⟩ h7
  exact ⟨n, o, a1, a2, a3, ⟨b1, ⟨Z', hZ', by rw [c1]; exact c2⟩, b3⟩, d⟩
/-- what changes at the list, builder or text l alone (and in its own hidden array) -/
theorem Pic_upd {M Z M' Z' : Mem} {own own' : Nat → Nat} {l : Nat} (h : Pic M Z) (h6 : ∀ c, PT M Z own c) (hl : 18 ≤ M.k l) (hl2 : M.k l ≤ 20)
    (hn : Z'.n = M'.n ∧ Z'.sl = M'.sl) (hi : M'.i = M.i) (hll : M'.l = M.l) (hr : M'.r = M.r) (hai : M'.ai = M.ai) (hal : M'.al = M.al) (har : M'.ar = M.ar) (hk : M'.k = M.k) (hlen : M'.len = M.len)
    (hls : ∀ c, c ≠ l → M'.ls c = M.ls c) (htx : ∀ c, c ≠ l → M'.tx c = M.tx c) (hcap : ∀ c, c ≠ l → M'.cap c = M.cap c)
    (zi : ∀ t c, c ≠ l → Z'.i t c = Z.i t c) (zl : ∀ t c, c ≠ l → Z'.l t c = Z.l t c) (zr : ∀ t c, c ≠ l → Z'.r t c = Z.r t c)
    (zk : ∀ x, Z.k x ≠ 0 → Z'.k x = Z.k x ∧ Z'.len x = Z.len x)
    (za : ∀ x, Z.k x ≠ 0 → (Z'.ai x = Z.ai x ∧ Z'.al x = Z.al x ∧ Z'.ar x = Z.ar x) ∨ (own x = l ∧ M.k x = 0 ∧ (Z.k x = 52 ∨ Z.k x = 54)))
    (zo : ∀ x, Z.k x ≠ 0 → own' x = own x) (zf : ∀ c, Z'.n < c → Z'.k c = 0) (hPT : PT M' Z' own' l) : Pic M' Z' := by
  obtain ⟨h1, h2, h3, h4, h5, -, h7, h8⟩ := h
  have l0 : l ≠ 0 := fun e => by rw [e, h8.1] at hl; omega
  have nz : ∀ c, M.k c ≠ 0 → Z.k c ≠ 0 := fun c hc => by rw [h3 c hc]; exact hc
  refine ⟨hn, fun k => ?_, fun c hc => ?_, fun c t a b => ?_, fun c a => ?_, ⟨own', fun c => ?_⟩, zf, ?_⟩
  · rw [zr _ _ (Ne.symm l0), hr]; exact h2 k
  · rw [hk] at hc ⊢; rw [(zk c (nz c hc)).1]; exact h3 c hc
  · rw [hk] at a b
    have hne : c ≠ l := fun e => by rw [e] at b; omega
    rw [zi t c hne, zl t c hne, zr t c hne, hi, hll, hr]; exact h4 c t a b
  · rw [hk] at a
    have hz := nz c (by omega)
    obtain ⟨g1, g2, g3, g4⟩ := h5 c a
    rw [(zk c hz).2, hlen, hai, hal, har]
    rcases za c hz with ⟨e1, e2, e3⟩ | ⟨-, e2, -⟩
    · rw [e1, e2, e3]; exact ⟨g1, g2, g3, g4⟩
    · omega
  · by_cases e : c = l
    · rw [e]; exact hPT
    · refine PT_congr (h6 c) h3 h8.2.1 (by rw [hk]) (fun x _ => by rw [hk]) (hls c e) (htx c e) (hcap c e) (by rw [hr]) (fun t _ _ => zi t c e) (fun t _ _ => zr t c e) (fun x hx hz ho => ?_)
      rcases za x hz with ⟨e1, e2, e3⟩ | ⟨e1, e2, e3⟩
      · exact ⟨(zk x hz).1, (zk x hz).2, e1, e3, zo x hz⟩
      · exact absurd ((ho e3).symm.trans e1) e
  · rw [hr, hk]
    have hz : Z.k (M.r 9000 0) ≠ 0 := by rw [h8.2.1]; decide
    exact ⟨h8.1, by rw [(zk _ hz).1]; exact h8.2.1, by rw [(zk _ hz).2]; exact h8.2.2.1, h8.2.2.2⟩
