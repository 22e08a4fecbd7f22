set_option maxRecDepth 100000
/-! ===== lists, seen as lists ===== -/
def okl (l : Nat) (M : Mem) : Prop := M.k l = 18 ∧ M.cap l ≠ 0 ∧ M.cap l ≤ 1000000
noncomputable def P_init (l : Nat) : Act Unit := wrm (fun M => M.k l = 18 ∧ M.cap l = 0) (fun _ => Classical.propDecidable _) (fun _ => ()) (fun M => M.setcap l 1) (fun _ => ⟨Nat.le_refl _, Nat.le_refl _⟩)
noncomputable def P_size (l : Nat) : Act Int32 := rdm (okl l) (fun _ => Classical.propDecidable _) (fun M => Int32.ofNat (M.ls l).length)
noncomputable def P_isEmpty (l : Nat) : Act Int32 := rdm (okl l) (fun _ => Classical.propDecidable _) (fun M => if (M.ls l).length = 0 then 1 else 0)
noncomputable def P_get (l : Nat) (i : Int32) : Act Nat := rdm (fun M => okl l M ∧ ¬ i < 0 ∧ i.toNatClampNeg < (M.ls l).length) (fun _ => Classical.propDecidable _) (fun M => (M.ls l).getD i.toNatClampNeg 0)
def gcap (c : Nat) : Nat := if c = 1 then 10 else (c - 1) + max 1 ((c - 1) / 2)
def addM (M : Mem) (l v : Nat) : Mem := if (M.ls l).length + 1 < M.cap l then M.setls l (M.ls l ++ [v]) else ((M.setls l (M.ls l ++ [v])).setcap l (gcap (M.cap l) + 1)).addn 1 (gcap (M.cap l))
theorem addM_mono (M : Mem) (l v : Nat) : M.n ≤ (addM M l v).n ∧ M.sl ≤ (addM M l v).sl := by
  unfold addM
  by_cases h : (M.ls l).length + 1 < M.cap l
  · rw [if_pos h]; exact ⟨Nat.le_refl _, Nat.le_refl _⟩
  · rw [if_neg h]; exact ⟨Nat.le_add_right _ _, Nat.le_add_right _ _⟩
noncomputable def P_add (l v : Nat) : Act Int32 := wrm (fun M => okl l M ∧ M.k v ∈ ksO) (fun _ => Classical.propDecidable _) (fun _ => 1) (fun M => addM M l v) (fun M => addM_mono M l v)
noncomputable def P_rem (l : Nat) (i : Int32) : Act Nat := wrm (fun M => okl l M ∧ i = 0 ∧ (M.ls l).length ≠ 0) (fun _ => Classical.propDecidable _) (fun M => (M.ls l).getD 0 0) (fun M => M.setls l (M.ls l).tail) (fun _ => ⟨Nat.le_refl _, Nat.le_refl _⟩)
theorem rdm_inv {α : Type} {ok : Mem → Prop} {hd : ∀ M, Decidable (ok M)} {f : Mem → α} {M M' : Mem} {r : α ⊕ Nat} (h : (rdm ok hd f).run M = some (r, M')) : ok M ∧ r = .inl (f M) ∧ M' = M := by
  rw [rdm_run] at h
  by_cases q : ok M
  · rw [if_pos q] at h; cases h; exact ⟨q, rfl, rfl⟩
  · rw [if_neg q] at h; cases h
theorem wrm_inv {α : Type} {ok : Mem → Prop} {hd : ∀ M, Decidable (ok M)} {a : Mem → α} {f : Mem → Mem} {hm} {M M' : Mem} {r : α ⊕ Nat} (h : (wrm ok hd a f hm).run M = some (r, M')) : ok M ∧ r = .inl (a M) ∧ M' = f M := by
  rw [wrm_run] at h
  by_cases q : ok M
  · rw [if_pos q] at h; cases h; exact ⟨q, rfl, rfl⟩
  · rw [if_neg q] at h; cases h
theorem psim_of {α : Type} {f : Act α} {M' Z : Mem} {a : α} (h : wp f Z (fun b Z' => b = a ∧ Pic M' Z')) : ∃ Z', f.run Z = some (.inl a, Z') ∧ Pic M' Z' := by
  obtain ⟨b, Z', h1, rfl, h2⟩ := h
  exact ⟨Z', h1, h2⟩
/-- a list that has been set up, in the raw memory -/
theorem pl_of {M Z : Mem} {own : Nat → Nat} {l : Nat} (h : ∀ c, PT M Z own c) (ho : okl l M) : Z.i 2178 l = Int32.ofNat (M.ls l).length ∧ (M.ls l).length ≤ Z.len (Z.r 2177 l) ∧ Z.len (Z.r 2177 l) + 1 = M.cap l ∧
    ((Z.k (Z.r 2177 l) = 54 ∧ own (Z.r 2177 l) = l ∧ 1 ≤ Z.len (Z.r 2177 l)) ∨ (Z.r 2177 l = M.r 9000 0 ∧ Z.len (Z.r 2177 l) = 0)) ∧ M.k (Z.r 2177 l) = 0 ∧
    (∀ j (h : j < (M.ls l).length), Z.ar (Z.r 2177 l) j = (M.ls l)[j]) ∧ ∀ x ∈ M.ls l, M.k x ∈ ksO := by
  rcases (h l).1 ho.1 with ⟨a1, -⟩ | ⟨-, a⟩
  · exact absurd a1 ho.2.1
  · exact a
theorem pic_k {M Z : Mem} (h : Pic M Z) {c kd : Nat} (hk : M.k c = kd) (h0 : kd ≠ 0) : Z.k c = kd := by rw [h.2.2.1 c (by rw [hk]; exact h0), hk]
theorem ps_init (l : Nat) : ∀ M Z rr M', Pic M Z → (P_init l).run M = some (rr, M') → ∃ Z', (f_J2_init l).run Z = some (rr, Z') ∧ Pic M' Z' := by
  intro M Z rr M' h hf
  obtain ⟨⟨k1, k2⟩, rfl, rfl⟩ := wrm_inv hf
  have kz := pic_k h k1 (by decide)
  have l0 : l ≠ 0 := fun e => by rw [e, h.2.2.2.2.2.2.2.1] at k1; omega
  obtain ⟨own, h6⟩ := h.2.2.2.2.2.1
  refine psim_of ?_
  unfold f_J2_init f_J1_init f_J0_init
  refine w_bnd (w_gd kz (w_nt (w_bnd (w_gd kz (w_nt (w_nn l0 (w_pur ?_)))))))
  refine w_bnd (w_putI kz (w_pur ?_))
  refine w_bnd (w_gst (w_bnd (w_putR kz (w_pur ⟨rfl, ?_⟩))))
  refine Pic_upd h h6 (by omega) (by omega) h.1 rfl rfl rfl rfl rfl rfl rfl rfl (fun _ _ => rfl) (fun _ _ => rfl) (fun c hc => up1_ne _ _ _ hc) (fun t c hc => up2_ny _ _ _ _ hc) (fun _ _ _ => rfl) (fun t c hc => up2_ny _ _ _ _ hc) (fun _ _ => ⟨rfl, rfl⟩) (fun _ _ => Or.inl ⟨rfl, rfl, rfl⟩) (fun _ _ => rfl) h.2.2.2.2.2.2.1 ?_
  have hst : M.r 9000 0 = Z.r 9000 0 := (h.2.1 0).symm
  have e1 : ((Z.seti (128 * 17 + 0) l 0).setr (128 * 17 + 1) l ((Z.seti (128 * 17 + 0) l 0).r (9000 + 0) 0)).r 2177 l = M.r 9000 0 := (up2_eq _ _ _ _).trans (h.2.1 0)
  have e2 : ((Z.seti (128 * 17 + 0) l 0).setr (128 * 17 + 1) l ((Z.seti (128 * 17 + 0) l 0).r (9000 + 0) 0)).i 2178 l = Z.i 2178 l := up2_nx Z.i (128 * 17 + 0) l 0 (x := 2178) (y := l) (by decide)
  have e3 : M.ls l = [] ∧ Z.i 2178 l = 0 := by
    rcases (h6 l).1 k1 with ⟨-, a2, a3⟩ | ⟨a1, -⟩
    · exact ⟨a2, a3⟩
    · exact absurd k2 a1
  refine ⟨fun _ => Or.inr ⟨?_, ?_, ?_, ?_, ?_, ?_, ?_, ?_⟩, fun q => ?_, fun q => ?_⟩
  · rw [show (M.setcap l 1).cap l = 1 from up1_eq _ _ _]; decide
  · rw [e2, e3.2]
    show _ = Int32.ofNat (M.ls l).length
    rw [e3.1]; rfl
  · show (M.ls l).length ≤ _
    rw [e3.1]; exact Nat.zero_le _
  · rw [e1, show (M.setcap l 1).cap l = 1 from up1_eq _ _ _]
    show Z.len (M.r 9000 0) + 1 = 1
    rw [h.2.2.2.2.2.2.2.2.2.1]
  · right
    rw [e1]
    exact ⟨rfl, h.2.2.2.2.2.2.2.2.2.1⟩
  · rw [e1]; exact h.2.2.2.2.2.2.2.2.2.2
  · intro j hj
    have hj : j < (M.ls l).length := hj
    rw [e3.1] at hj; exact absurd hj (Nat.not_lt_zero _)
  · intro x hx
    have hx : x ∈ M.ls l := hx
    rw [e3.1] at hx; cases hx
  · have q : M.k l = 19 := q
    omega
  · have q : M.k l = 20 ∨ M.k l = 40 := q
    omega
theorem ps_size (l : Nat) : ∀ M Z rr M', Pic M Z → (P_size l).run M = some (rr, M') → ∃ Z', (f_J2_size l).run Z = some (rr, Z') ∧ Pic M' Z' := by
  intro M Z rr M' h hf
  obtain ⟨ho, rfl, rfl⟩ := rdm_inv hf
  obtain ⟨own, h6⟩ := h.2.2.2.2.2.1
  have hp := pl_of h6 ho
  refine psim_of ?_
  unfold f_J2_size
  exact w_bnd (w_getI (pic_k h ho.1 (by decide)) (w_pur ⟨hp.1, h⟩))
theorem ps_isEmpty (l : Nat) : ∀ M Z rr M', Pic M Z → (P_isEmpty l).run M = some (rr, M') → ∃ Z', (f_J2_isEmpty l).run Z = some (rr, Z') ∧ Pic M' Z' := by
  intro M Z rr M' h hf
  obtain ⟨ho, rfl, rfl⟩ := rdm_inv hf
  obtain ⟨own, h6⟩ := h.2.2.2.2.2.1
  have hp := pl_of h6 ho
  have hb : (M'.ls l).length < 2147483648 := by have := ho.2.2; omega
  refine psim_of ?_
  unfold f_J2_isEmpty
  refine w_bnd (w_getI (pic_k h ho.1 (by decide)) (w_jn (w_ite (fun hc => ?_) (fun hc => ?_))))
  · refine w_purZ (Or.inl rfl) ⟨?_, h⟩
    rw [if_neg]
    intro e
    exact hc (hp.1.trans (by rw [e]; rfl))
  · refine w_purZ (Or.inr rfl) ⟨?_, h⟩
    rw [if_pos]
    have hc : Z.i 2178 l = 0 := Decidable.not_not.mp hc
    rw [hp.1] at hc
    exact (i_eq hb (by decide : 0 < 2147483648)).mp hc
theorem w_ldRe {Z : Mem} {e : Nat} {i : Int32} {Q : Nat → Mem → Prop} (hk : Z.k e = 54) (hi : ¬ i < 0) (hl : i.toNatClampNeg < Z.len e) (hq : Q (Z.ar e i.toNatClampNeg) Z) : wp (ldR 4 e i) Z Q := w_ldR hk ⟨hi, hl⟩ hq
theorem w_chk {Z : Mem} {i s : Int32} {Q : Int32 → Mem → Prop} (hi : ¬ i < 0) (hs : i < s) (hq : Q i Z) : wp (f_J7_checkIndex i s) Z Q := by
  unfold f_J7_checkIndex f_J8_checkIndex
  exact w_bnd (w_nt (w_jn (w_f hi (w_t hs (w_pur (w_pur hq))))))
theorem ps_get (l : Nat) (i : Int32) : ∀ M Z rr M', Pic M Z → (P_get l i).run M = some (rr, M') → ∃ Z', (f_J2_get l i).run Z = some (rr, Z') ∧ Pic M' Z' := by
  intro M Z rr M' h hf
  obtain ⟨⟨ho, hi, hlt⟩, rfl, rfl⟩ := rdm_inv hf
  obtain ⟨own, h6⟩ := h.2.2.2.2.2.1
  obtain ⟨p1, p2, p3, p4, p5, p6, p7⟩ := pl_of h6 ho
  have hb : (M'.ls l).length < 2147483648 := by have := ho.2.2; omega
  have kz := pic_k h ho.1 (by decide)
  have ke : Z.k (Z.r 2177 l) = 54 := by
    rcases p4 with ⟨p4, -⟩ | ⟨-, p4⟩
    · exact p4
    · omega
  refine psim_of ?_
  unfold f_J2_get
  refine w_bnd (w_getI kz (w_bnd (w_nt (w_chk hi ?_ ?_))))
  · show i < Z.i 2178 l
    rw [p1, Int32.lt_iff_toInt_lt, i_toInt hb, i_nn i hi]
    omega
  · unfold f_J2_elementData
    refine w_bnd (w_gd kz (w_nt (w_bnd (w_getR kz (w_bnd (w_ldRe ke hi (by show _ < Z.len (Z.r 2177 l); omega) (w_pur (w_pur ⟨?_, h⟩))))))))
    show Z.ar (Z.r 2177 l) i.toNatClampNeg = (M'.ls l).getD i.toNatClampNeg 0
    rw [p6 _ hlt, List.getD_eq_getElem?_getD, List.getElem?_eq_getElem hlt]
    rfl
/-- the new array of a list that is full -/
theorem w_newLen {Z : Mem} {a b c : Nat} {Q : Int32 → Mem → Prop} (h0 : 0 < a + max b c) (hb : a + max b c ≤ 2000000) (hq : Q (Int32.ofNat (a + max b c)) Z) : wp (f_J4_newLength (Int32.ofNat a) (Int32.ofNat b) (Int32.ofNat c)) Z Q := by
  have e1 : mx (Int32.ofNat b) (Int32.ofNat c) = Int32.ofNat (max b c) := by
    unfold mx
    by_cases q : b < c
    · rw [if_pos ((i_lt (by omega) (by omega)).mpr q), Nat.max_eq_right (by omega)]
    · rw [if_neg (fun z => q ((i_lt (by omega) (by omega)).mp z)), Nat.max_eq_left (by omega)]
  unfold f_J4_newLength
  rw [e1, i_add]
  refine w_jn (w_f ?_ (w_f ?_ (w_pur hq)))
  · intro z
    have := (i_le (a := a + max b c) (b := 0) (by omega) (by omega)).mp z
    omega
  · intro z
    have := (i_lt (a := 2147483639) (b := a + max b c) (by omega) (by omega)).mp z
    omega
