set_option maxRecDepth 100000
/-! ===== builders of texts ===== -/
def okb (c : Nat) (M : Mem) : Prop := M.k c = 19 ∧ M.cap c ≠ 0 ∧ M.cap c ≤ 100000
def btc (ch : Int32) : Int32 := narq 2 ch.toInt8.toInt32
noncomputable def P_binit (c : Nat) : Act Unit := wrm (fun M => M.k c = 19 ∧ M.cap c = 0) (fun _ => Classical.propDecidable _) (fun _ => ()) (fun M => (M.setcap c 17).addn 1 16) (fun _ => ⟨Nat.le_add_right _ _, Nat.le_add_right _ _⟩)
def appM (M : Mem) (c : Nat) (b : Int32) : Mem := if (M.tx c).length + 1 < M.cap c then M.settx c (M.tx c ++ [b]) else ((M.settx c (M.tx c ++ [b])).setcap c (2 * M.cap c + 1)).addn 1 (2 * M.cap c)
theorem appM_mono (M : Mem) (c : Nat) (b : Int32) : M.n ≤ (appM M c b).n ∧ M.sl ≤ (appM M c b).sl := by
  unfold appM
  by_cases h : (M.tx c).length + 1 < M.cap c
  · rw [if_pos h]; exact ⟨Nat.le_refl _, Nat.le_refl _⟩
  · rw [if_neg h]; exact ⟨Nat.le_add_right _ _, Nat.le_add_right _ _⟩
noncomputable def P_append (c : Nat) (ch : Int32) : Act Nat := wrm (fun M => okb c M ∧ ¬ 255 < ch) (fun _ => Classical.propDecidable _) (fun _ => c) (fun M => appM M c (btc ch)) (fun M => appM_mono M c _)
/-- the text of a builder as a String: a new cell, and a hidden array -/
def strM (M : Mem) (c : Nat) : Mem := (((M.newo 19 4).settx (M.n + 1) (M.tx c)).addn 1 (M.tx c).length)
noncomputable def P_toString (c : Nat) : Act Nat := wrm (fun M => okb c M ∧ (M.tx c).length ≤ 50000) (fun _ => Classical.propDecidable _) (fun M => M.n + 1) (fun M => strM M c) (fun M => ⟨by show M.n ≤ M.n + 1 + 1; omega, by show M.sl ≤ M.sl + 4 + _; omega⟩)
theorem fits_b8 (x : Int8) : fits .byte (.int x.toInt32) = true := by
  have h1 : (-128 : Int32) ≤ x.toInt32 := by
    rw [Int32.le_iff_toInt_le, Int8.toInt_toInt32]
    have := Int8.le_toInt x
    exact this
  have h2 : x.toInt32 ≤ (127 : Int32) := by
    rw [Int32.le_iff_toInt_le, Int8.toInt_toInt32]
    have := Int8.toInt_lt x
    show x.toInt ≤ 127
    omega
  show (decide ((-128 : Int32) ≤ x.toInt32) && decide (x.toInt32 ≤ (127 : Int32))) = true
  simp [h1, h2]
theorem fits_bt (ch : Int32) : fits .byte (.int (btc ch)) = true := fits_b8 (ch.toInt8.toInt32.toInt8)
theorem fits_b0 : fits .byte (.int 0) = true := by decide
theorem pb_of {M Z : Mem} {own : Nat → Nat} {c : Nat} (h : ∀ c, PT M Z own c) (ho : okb c M) : Z.i 2307 c = Int32.ofNat (M.tx c).length ∧ (M.tx c).length ≤ Z.len (Z.r 2304 c) ∧ Z.len (Z.r 2304 c) + 1 = M.cap c ∧
    Z.k (Z.r 2304 c) = 52 ∧ own (Z.r 2304 c) = c ∧ M.k (Z.r 2304 c) = 0 ∧ Z.i 2305 c = 0 ∧
    (∀ j (h : j < (M.tx c).length), Z.ai (Z.r 2304 c) j = (M.tx c)[j]) ∧ ∀ j, j < Z.len (Z.r 2304 c) → fits .byte (.int (Z.ai (Z.r 2304 c) j)) = true := by
  rcases (h c).2.1 ho.1 with ⟨a1, -⟩ | ⟨-, a⟩
  · exact absurd a1 ho.2.1
  · exact a
theorem ps_binit (c : Nat) : ∀ M Z rr M', Pic M Z → (P_binit c).run M = some (rr, M') → ∃ Z', (f_J10_init c).run Z = some (rr, Z') ∧ Pic M' Z' := by
  intro M Z rr M' h hf
  obtain ⟨⟨k1, k2⟩, rfl, rfl⟩ := wrm_inv hf
  have kz := pic_k h k1 (by decide)
  have c0 : c ≠ 0 := fun e => by rw [e, h.2.2.2.2.2.2.2.1] at k1; omega
  obtain ⟨own, h6⟩ := h.2.2.2.2.2.1
  have hf1 : Z.k (Z.n + 1) = 0 := h.2.2.2.2.2.2.1 _ (Nat.lt_succ_self _)
  have hl : c ≠ Z.n + 1 := fun e => by rw [e, hf1] at kz; omega
  have nz : ∀ c, Z.k c ≠ 0 → c ≠ Z.n + 1 := fun c hc e => by rw [e] at hc; exact hc hf1
  have kn : (Z.newa 2 16).k c = 19 := (up1_ne _ _ _ hl).trans kz
  have e3 : M.tx c = [] ∧ Z.i 2307 c = 0 := by
    rcases (h6 c).2.1 k1 with ⟨-, a2, a3⟩ | ⟨a1, -⟩
    · exact ⟨a2, a3⟩
    · exact absurd k2 a1
  refine psim_of ?_
  unfold f_J10_init f_J9_init
  refine w_bnd (w_gd kz (w_nt (w_nn c0 (w_f (by decide) (w_bnd (w_newA ⟨by decide, by decide⟩ (w_bnd (w_putR kn (w_bnd (w_putS kn ⟨rfl, rfl⟩ (w_pur (w_pur ⟨rfl, ?_⟩))))))))))))
  have e16 : (16 : Int32).toNatClampNeg = 16 := by decide
  rw [e16]
  refine Pic_upd (own' := up1 own (Z.n + 1) c) h h6 (by omega) (by omega) ⟨?_, ?_⟩ rfl rfl rfl rfl rfl rfl rfl rfl (fun _ _ => rfl) (fun _ _ => rfl) (fun c hc => up1_ne _ _ _ hc) (fun t c hc => up2_ny _ _ _ _ hc) (fun _ _ _ => rfl) (fun t c hc => up2_ny _ _ _ _ hc) (fun x hx => ⟨up1_ne _ _ _ (nz x hx), up1_ne _ _ _ (nz x hx)⟩) (fun x hx => Or.inl ⟨funext fun _ => if_neg (nz x hx), funext fun _ => if_neg (nz x hx), funext fun _ => if_neg (nz x hx)⟩) (fun x hx => up1_ne _ _ _ (nz x hx)) (fun x hx => ?_) ?_
  · show Z.n + 1 = M.n + 1
    rw [h.1.1]
  · show Z.sl + 16 = M.sl + 16
    rw [h.1.2]
  · have hx : Z.n + 1 < x := hx
    exact (up1_ne _ _ _ (by omega)).trans (h.2.2.2.2.2.2.1 x (by omega))
  generalize hW : (((Z.newa 2 16).setr (128 * 18 + 0) c (Z.n + 1)).seti (128 * 18 + 1) c 0) = W
  have wr : W.r 2304 c = Z.n + 1 := by rw [← hW]; exact up2_eq _ _ _ _
  have wlen : W.len (Z.n + 1) = 16 := by rw [← hW]; exact up1_eq _ _ _
  have wk : W.k (Z.n + 1) = 52 := by rw [← hW]; exact up1_eq _ _ _
  have wi : W.i 2307 c = 0 := by rw [← hW]; exact (up2_nx Z.i (128 * 18 + 1) c 0 (x := 2307) (y := c) (by decide)).trans e3.2
  have wi2 : W.i 2305 c = 0 := by rw [← hW]; exact up2_eq _ _ _ _
  have wa : ∀ j, W.ai (Z.n + 1) j = 0 := fun j => by rw [← hW]; exact if_pos rfl
  have cp : ((M.setcap c 17).addn 1 16).cap c = 17 := up1_eq _ _ _
  refine ⟨fun q => ?_, fun _ => Or.inr ⟨?_, ?_, ?_, ?_, ?_, ?_, ?_, ?_, ?_, ?_⟩, fun q => ?_⟩
  · have q : M.k c = 18 := q
    omega
  · rw [cp]; decide
  · rw [wi]
    show _ = Int32.ofNat (M.tx c).length
    rw [e3.1]; rfl
  · show (M.tx c).length ≤ _
    rw [e3.1]; exact Nat.zero_le _
  · rw [wr, wlen, cp]
  · rw [wr]; exact wk
  · rw [wr]; exact up1_eq _ _ _
  · rw [wr]
    show M.k (Z.n + 1) = 0
    by_cases q : M.k (Z.n + 1) = 0
    · exact q
    · rw [← h.2.2.1 _ q]; exact hf1
  · exact wi2
  · intro j hj
    have hj : j < (M.tx c).length := hj
    rw [e3.1] at hj; exact absurd hj (Nat.not_lt_zero _)
  · intro j _
    rw [wr, wa]; exact fits_b0
  · have q : M.k c = 20 ∨ M.k c = 40 := q
    omega
theorem shr0 (x : Int32) : x >>> ((0 : Int32) &&& 31) = x := by
  rw [show (0 : Int32) &&& 31 = 0 from by decide]; exact Int32.shiftRight_zero
theorem shl0 (x : Int32) : x <<< ((0 : Int32) &&& 31) = x := by
  rw [show (0 : Int32) &&& 31 = 0 from by decide]; exact Int32.shiftLeft_zero
/-- the builder's array has room behind this -/
theorem w_ensure {Z : Mem} {c s len : Nat} {Q : Unit → Mem → Prop} (kz : Z.k c = 19) (hlen : Z.len (Z.r 2304 c) = len) (hb : len ≤ 100000) (hk : Z.k (Z.r 2304 c) = 52) (hc0 : Z.i 2305 c = 0) (hs : s ≤ len) (hfit : ∀ j, j < len → fits .byte (.int (Z.ai (Z.r 2304 c) j)) = true) (hf : Z.k (Z.n + 1) = 0)
    (hq1 : s < len → Q () Z) (hq2 : s = len → ∀ g, (∀ j, j < len → g j = Z.ai (Z.r 2304 c) j) → (∀ j, len ≤ j → g j = 0) → Q () (((Z.newa 2 (2 * len + 2)).setaia (Z.n + 1) g).setr 2304 c (Z.n + 1))) : wp (f_J9_ensureCapacityInternal c (Int32.ofNat (s + 1))) Z Q := by
  have hl : c ≠ Z.n + 1 := fun e => by rw [e, hf] at kz; omega
  have he : Z.r 2304 c ≠ Z.n + 1 := fun e => by rw [e, hf] at hk; omega
  unfold f_J9_ensureCapacityInternal
  refine w_bnd (w_getR kz (w_bnd (w_len (Or.inl hk) (w_bnd (w_getI kz (w_jn ?_))))))
  have e0 : Z.i (128 * 18 + 1) c = 0 := hc0
  have e1 : Int32.ofNat (Z.len (Z.r (128 * 18 + 0) c)) = Int32.ofNat len := by rw [show Z.len (Z.r (128 * 18 + 0) c) = len from hlen]
  rw [e0, e1, shr0]
  have e2 : (Int32.ofNat (s + 1) - Int32.ofNat len).toInt = ((s + 1 : Nat) : Int) - (len : Int) := pk_sub_toInt (a := s + 1) (b := len) (by omega) (by omega)
  by_cases hlt : s < len
  · refine w_t ?_ (w_pur (hq1 hlt))
    rw [Int32.le_iff_toInt_le, e2]
    show _ ≤ (0 : Int)
    omega
  · have hsl : s = len := by omega
    refine w_f (fun z => ?_) ?_
    · rw [Int32.le_iff_toInt_le, e2] at z
      have z : ((s + 1 : Nat) : Int) - (len : Int) ≤ 0 := z
      omega
    refine w_bnd (w_getR kz (w_bnd (w_gd kz (w_nt ?_))))
    unfold f_J9_newCapacity
    refine w_bnd (w_getR kz (w_bnd (w_len (Or.inl hk) (w_bnd (w_getI kz (w_bnd (w_getI kz ?_)))))))
    rw [e0, e1, shl0, shl0, hsl]
    have e3 : Int32.ofNat (len + 1) - Int32.ofNat len = Int32.ofNat 1 := by
      have := pk_sub (a := len + 1) (b := len) (by omega)
      rw [Nat.add_sub_cancel_left] at this
      exact this
    have e4 : Int32.ofNat len + 2 = Int32.ofNat (len + 2) := i_add len 2
    rw [e3, e4]
    have e5 : len + max 1 (len + 2) = 2 * len + 2 := by omega
    refine w_bnd (w_nt (w_newLen (by omega) (by omega) ?_))
    rw [e5]
    refine w_t (fun z => ?_) (w_bnd (w_getI kz (w_pur ?_)))
    · have := (i_eq (a := 2 * len + 2) (b := 2147483647) (by omega) (by omega)).mp z
      omega
    rw [e0, shr0]
    refine w_bnd (w_getI kz (w_bnd (w_nt ?_)))
    rw [e0, shl0]
    unfold f_J6_copyOf_3
    refine w_bnd (w_len (Or.inl hk) (w_t (fun z => ?_) (w_bnd (w_newA ⟨i_nneg (by omega), by rw [i_clamp (by omega)]; omega⟩ ?_))))
    · rw [e1] at z
      have := (i_eq (by omega) (by omega)).mp z
      omega
    rw [i_clamp (by omega)]
    have ke : (Z.newa 2 (2 * len + 2)).k (Z.r (128 * 18 + 0) c) = 52 := (up1_ne _ _ _ he).trans hk
    have le : (Z.newa 2 (2 * len + 2)).len (Z.r (128 * 18 + 0) c) = len := (up1_ne _ _ _ he).trans hlen
    have ln : (Z.newa 2 (2 * len + 2)).len (Z.n + 1) = 2 * len + 2 := up1_eq _ _ _
    have ae : (Z.newa 2 (2 * len + 2)).ai (Z.r (128 * 18 + 0) c) = Z.ai (Z.r 2304 c) := funext fun _ => if_neg he
    refine w_bnd (w_len (Or.inl ke) ?_)
    have em : mn (Int32.ofNat ((Z.newa 2 (2 * len + 2)).len (Z.r (128 * 18 + 0) c))) (Int32.ofNat (2 * len + 2)) = Int32.ofNat len := by
      rw [le]
      unfold mn
      rw [if_neg (fun z => by have := (i_lt (by omega) (by omega)).mp z; omega)]
    rw [em]
    have ec : (Int32.ofNat len).toNatClampNeg = len := i_clamp (by omega)
    refine w_bnd (w_wrm ⟨⟨Or.inl ke, up1_eq _ _ _, by decide, by decide, i_nneg (by omega), ?_, ?_⟩, fun j hj => ?_⟩ ?_)
    · rw [ec, le]
      show 0 + len ≤ len
      omega
    · rw [ec, ln]
      show 0 + len ≤ _
      omega
    · rw [ec] at hj
      rw [show (0 : Int32).toNatClampNeg + j = j from Nat.zero_add j, ae]
      exact hfit j hj
    · refine w_pur (w_bnd (w_putR ((up1_ne _ _ _ hl).trans kz) (w_pur (hq2 hsl _ (fun j hj => ?_) (fun j hj => ?_)))))
      · rw [ec, ae]
        unfold va_cpy
        rw [if_pos ⟨Nat.zero_le _, by show j < 0 + len; omega⟩]
        show Z.ai _ (0 + (j - 0)) = _
        rw [Nat.sub_zero, Nat.zero_add]
      · rw [ec, ae]
        unfold va_cpy
        rw [if_neg (fun q => by have q2 : j < 0 + len := q.2; omega)]
        exact if_pos rfl
