set_option maxRecDepth 100000
/-! ===== texts ===== -/
def oks (a : Nat) (M : Mem) : Prop := (M.k a = 20 ∨ M.k a = 40) ∧ (M.tx a).length ≤ 50000
noncomputable def P_equals (a b : Nat) : Act Int32 := rdm (fun M => oks a M ∧ oks b M) (fun _ => Classical.propDecidable _) (fun M => if M.tx a = M.tx b then 1 else 0)
noncomputable def P_hash (a : Nat) : Act Int32 := rdm (fun M => oks a M) (fun _ => Classical.propDecidable _) (fun M => hashT (M.tx a))
theorem w_ldC {Z : Mem} {e : Nat} {i : Nat} {Q : Int32 → Mem → Prop} (hk : Z.k e = 52 ∨ Z.k e = 62) (hi : i < Z.len e) (hb : Z.len e ≤ 100000) (hq : Q (Z.ai e i) Z) : wp (ldI 2 e (Int32.ofNat i)) Z Q := by
  have ec : (Int32.ofNat i).toNatClampNeg = i := i_clamp (by omega)
  refine w_rdm ⟨hk, fun z => ?_⟩ ?_
  · rw [ec] at z
    rcases z with z | z
    · exact i_nneg (by omega) z
    · omega
  · rw [ec]; exact hq
theorem eq_loop {Z : Mem} {p0 p1 L : Nat} (h0 : Z.k p0 = 52 ∨ Z.k p0 = 62) (h1 : Z.k p1 = 52 ∨ Z.k p1 = 62) (l0 : Z.len p0 = L) (l1 : Z.len p1 = L) (hb : L ≤ 100000) {Q : Int32 → Mem → Prop} :
    ∀ (q j : Nat), j ≤ L → L < q + j → (∀ i, i < j → Z.ai p0 i = Z.ai p1 i) → ((∀ i, i < L → Z.ai p0 i = Z.ai p1 i) → Q 1 Z) → (¬ (∀ i, i < L → Z.ai p0 i = Z.ai p1 i) → Q 0 Z) → wp (lp_J13_equals_9 p0 p1 q (Int32.ofNat j)) Z Q := by
  intro q
  induction q with
  | zero => intro j h1 h2; omega
  | succ q ih =>
    intro j hj hq hall hy hn
    rw [lp_J13_equals_9]
    refine w_bnd (w_len h0 ?_)
    rw [l0]
    by_cases e : j = L
    · refine w_t ((i_le (by omega) (by omega)).mpr (by omega)) (w_purZ (Or.inr rfl) (hy (fun i hi => hall i (by omega))))
    · refine w_f (fun z => by have := (i_le (by omega) (by omega)).mp z; omega) (w_bnd (w_ldC h0 (by omega) (by omega) (w_bnd (w_ldC h1 (by omega) (by omega) (w_ite (fun hc => ?_) (fun hc => ?_))))))
      · rw [i_add1]
        refine ih (j + 1) (by omega) (by omega) (fun i hi => ?_) hy hn
        by_cases ei : i = j
        · rw [ei]; exact hc
        · exact hall i (by omega)
      · exact w_purZ (Or.inl rfl) (hn (fun z => hc (z j (by omega))))
theorem ps_of {M Z : Mem} {own : Nat → Nat} {a : Nat} (h : ∀ c, PT M Z own c) (ho : oks a M) : PS M Z own a := (h a).2.2 ho.1
theorem tx_eq {xs ys : List Int32} (hl : xs.length = ys.length) (f g : Nat → Int32) (hf : ∀ j (h : j < xs.length), f j = xs[j]) (hg : ∀ j (h : j < ys.length), g j = ys[j]) : xs = ys ↔ ∀ i, i < xs.length → f i = g i := by
  constructor
  · intro e i hi
    rw [hf i hi, hg i (by omega)]
    simp only [e]
  · intro h
    refine List.ext_getElem hl (fun i h1 h2 => ?_)
    rw [← hf i h1, ← hg i h2]
    exact h i h1
theorem okr_s {M Z : Mem} (h : Pic M Z) {a : Nat} (ho : oks a M) : okr 19 a Z := by
  rcases ho.1 with q | q
  · exact Or.inl (pic_k h q (by decide))
  · exact Or.inr ⟨rfl, pic_k h q (by decide)⟩
theorem ps_equals (a b : Nat) : ∀ M Z rr M', Pic M Z → (P_equals a b).run M = some (rr, M') → ∃ Z', (f_J11_equals 60000 a b).run Z = some (rr, Z') ∧ Pic M' Z' := by
  intro M Z rr M' h hf
  obtain ⟨⟨ha, hb⟩, rfl, rfl⟩ := rdm_inv hf
  obtain ⟨own, h6⟩ := h.2.2.2.2.2.1
  obtain ⟨a1, a2, a3, a4, a5, a6⟩ := ps_of h6 ha
  obtain ⟨b1, b2, b3, b4, b5, b6⟩ := ps_of h6 hb
  have ka : Z.k (Z.r 2432 a) = 52 ∨ Z.k (Z.r 2432 a) = 62 := by
    rcases a1 with ⟨a1, -⟩ | a1
    · exact Or.inl a1
    · exact Or.inr a1
  have kb : Z.k (Z.r 2432 b) = 52 ∨ Z.k (Z.r 2432 b) = 62 := by
    rcases b1 with ⟨b1, -⟩ | b1
    · exact Or.inl b1
    · exact Or.inr b1
  have la := ha.2
  have lb := hb.2
  have oa := okr_s h ha
  have ob := okr_s h hb
  refine psim_of ?_
  unfold f_J11_equals
  by_cases e : a = b
  · refine w_f (fun z => z e) (w_purZ (Or.inr rfl) ⟨?_, h⟩)
    rw [e, if_pos rfl]
  · have kbb : Z.k b ∈ [20, 40] := by
      rcases hb.1 with q | q
      · rw [pic_k h q (by decide)]; decide
      · rw [pic_k h q (by decide)]; decide
    refine w_t e (w_bnd (w_rdm kbb (w_jn (w_jn (w_f (by decide) (w_bnd (w_cst (Or.inr kbb) (w_jn (w_f (by decide) (w_bnd (w_getIo oa (w_bnd (w_getIo ob (w_f ?_ (w_bnd (w_getRo oa (w_bnd (w_getRo ob (w_bnd (w_nt ?_))))))))))))))))))))
    · intro z
      exact z (a3.trans b3.symm)
    unfold f_J13_equals
    refine w_bnd (w_len ka (w_bnd (w_len kb ?_)))
    have e1 : Z.len (Z.r (128 * 19 + 0) a) = (M'.tx a).length := a4
    have e2 : Z.len (Z.r (128 * 19 + 0) b) = (M'.tx b).length := b4
    rw [e1, e2]
    by_cases hl : (M'.tx a).length = (M'.tx b).length
    · refine w_f (fun z => z (by rw [hl])) ?_
      have tq := tx_eq hl (Z.ai (Z.r 2432 a)) (Z.ai (Z.r 2432 b)) a5 b5
      refine eq_loop (L := (M'.tx a).length) ka kb a4 (by rw [hl]; exact b4) (by omega) 60000 0 (Nat.zero_le _) (by omega) (fun i hi => absurd hi (Nat.not_lt_zero _)) (fun hy => ?_) (fun hn => ?_)
      · refine w_f (by decide) (w_purZ (Or.inr rfl) ⟨?_, h⟩)
        rw [if_pos (tq.mpr hy)]
      · refine w_t rfl (w_purZ (Or.inl rfl) ⟨?_, h⟩)
        rw [if_neg (fun z => hn (tq.mp z))]
    · refine w_t (fun z => hl ((i_eq (by omega) (by omega)).mp z)) (w_purZ (Or.inl rfl) (w_t rfl (w_purZ (Or.inl rfl) ⟨?_, h⟩)))
      rw [if_neg (fun z => hl (by rw [z]))]
theorem hash_loop {Z : Mem} {e : Nat} {xs : List Int32} (hk : Z.k e = 52 ∨ Z.k e = 62) (hl : Z.len e = xs.length) (hb : xs.length ≤ 100000) (hx : ∀ j (h : j < xs.length), Z.ai e j = xs[j]) {Q : Int32 → Mem → Prop} (hq : Q (hashT xs) Z) :
    ∀ (q j : Nat) (hh : Int32), j ≤ xs.length → xs.length < q + j → hh = (xs.take j).foldl (fun h b => 31 * h + (b &&& 255)) 0 → wp (lp_J4_signedHashCode_8 e 0 (Int32.ofNat xs.length) q hh (Int32.ofNat j)) Z Q := by
  intro q
  induction q with
  | zero => intro j hh h1 h2; omega
  | succ q ih =>
    intro j hh hj hq' hhe
    rw [lp_J4_signedHashCode_8]
    have e0 : (0 : Int32) + Int32.ofNat xs.length = Int32.ofNat xs.length := by
      have := i_add 0 xs.length
      rw [Nat.zero_add] at this
      exact this
    rw [e0]
    by_cases ej : j = xs.length
    · refine w_t ((i_le (by omega) (by omega)).mpr (by omega)) (w_pur ?_)
      rw [hhe, ej, List.take_length]
      exact hq
    · refine w_f (fun z => by have := (i_le (by omega) (by omega)).mp z; omega) (w_bnd (w_ldC hk (by omega) (by omega) ?_))
      rw [i_add1]
      refine ih (j + 1) _ (by omega) (by omega) ?_
      rw [List.take_succ_eq_append_getElem (by omega), List.foldl_append, ← hhe, hx j (by omega)]
      rfl
theorem ps_hash (a : Nat) : ∀ M Z rr M', Pic M Z → (P_hash a).run M = some (rr, M') → ∃ Z', (f_J11_hashCode 60000 a).run Z = some (rr, Z') ∧ Pic M' Z' := by
  intro M Z rr M' h hf
  obtain ⟨ha, rfl, rfl⟩ := rdm_inv hf
  obtain ⟨own, h6⟩ := h.2.2.2.2.2.1
  obtain ⟨a1, a2, a3, a4, a5, a6⟩ := ps_of h6 ha
  have la := ha.2
  have ka : Z.k (Z.r 2432 a) = 52 ∨ Z.k (Z.r 2432 a) = 62 := by
    rcases a1 with ⟨a1, -⟩ | a1
    · exact Or.inl a1
    · exact Or.inr a1
  have oa := okr_s h ha
  refine psim_of ?_
  unfold f_J11_hashCode
  refine w_bnd (w_getIo oa (w_jn ?_))
  rcases a6 with ⟨c1, c2, c3⟩ | ⟨c1, c2⟩ | ⟨c1, c2, c3⟩
  · have kz : Z.k a = 20 := pic_k h c3 (by decide)
    refine w_f (fun z => z c1) (w_bnd (w_getIo oa (w_f (fun z => z c2) (w_bnd (w_gd kz (w_nt ?_))))))
    unfold f_J11_isLatin1
    refine w_jn (w_jn (w_f (by decide) (w_bnd (w_getIo oa (w_f (fun z => z a3) (w_purZ (Or.inr rfl) (w_f (by decide) (w_bnd (w_getRo oa (w_bnd (w_nt ?_)))))))))))
    have go : wp (if ¬ hashT (M'.tx a) = 0 then bnd (putI 19 2 a (hashT (M'.tx a))) fun _ => pur (hashT (M'.tx a)) else bnd (putS .boolean 19 3 a 1) fun _ => pur (hashT (M'.tx a))) Z (fun b Z' => b = hashT (M'.tx a) ∧ Pic M' Z') := by
      refine w_ite (fun hc => w_bnd (w_putI kz (w_pur ⟨rfl, ?_⟩))) (fun hc => w_bnd (w_putZ kz (Or.inr rfl) (w_pur ⟨rfl, ?_⟩)))
      · refine Pic_upd h h6 (by rw [c3]; decide) (by rw [c3]; decide) h.1 rfl rfl rfl rfl rfl rfl rfl rfl (fun _ _ => rfl) (fun _ _ => rfl) (fun _ _ => rfl) (fun t c hc => up2_ny _ _ _ _ hc) (fun _ _ _ => rfl) (fun _ _ _ => rfl) (fun _ _ => ⟨rfl, rfl⟩) (fun _ _ => Or.inl ⟨rfl, rfl, rfl⟩) (fun _ _ => rfl) h.2.2.2.2.2.2.1 ?_
        refine ⟨fun q => by rw [c3] at q; omega, fun q => by rw [c3] at q; omega, fun _ => ⟨a1, a2, ?_, a4, a5, Or.inr (Or.inl ⟨?_, hc⟩)⟩⟩
        · exact (up2_nx Z.i (128 * 19 + 2) a (hashT (M'.tx a)) (x := 2433) (y := a) (by decide)).trans a3
        · exact up2_eq Z.i (128 * 19 + 2) a (hashT (M'.tx a))
      · refine Pic_upd h h6 (by rw [c3]; decide) (by rw [c3]; decide) h.1 rfl rfl rfl rfl rfl rfl rfl rfl (fun _ _ => rfl) (fun _ _ => rfl) (fun _ _ => rfl) (fun t c hc => up2_ny _ _ _ _ hc) (fun _ _ _ => rfl) (fun _ _ _ => rfl) (fun _ _ => ⟨rfl, rfl⟩) (fun _ _ => Or.inl ⟨rfl, rfl, rfl⟩) (fun _ _ => rfl) h.2.2.2.2.2.2.1 ?_
        have hc : hashT (M'.tx a) = 0 := Decidable.not_not.mp hc
        refine ⟨fun q => by rw [c3] at q; omega, fun q => by rw [c3] at q; omega, fun _ => ⟨a1, a2, ?_, a4, a5, Or.inr (Or.inr ⟨?_, hc, ?_⟩)⟩⟩
        · exact (up2_nx Z.i (128 * 19 + 3) a 1 (x := 2433) (y := a) (by decide)).trans a3
        · exact (up2_nx Z.i (128 * 19 + 3) a 1 (x := 2434) (y := a) (by decide)).trans c1
        · rw [show (Z.seti (128 * 19 + 3) a 1).i 2435 a = 1 from up2_eq Z.i (128 * 19 + 3) a 1]; decide
    unfold f_J13_hashCode
    refine w_bnd (w_len ka (w_jn ?_))
    have e1 : Z.len (Z.r (128 * 19 + 0) a) = (M'.tx a).length := a4
    rw [e1]
    by_cases l0 : (M'.tx a).length = 0
    · have e2 : hashT (M'.tx a) = 0 := by rw [List.length_eq_zero_iff.mp l0]; rfl
      rw [e2] at go
      refine w_t (by rw [l0]; rfl) (w_pur ?_)
      rw [e2]
      exact go
    · refine w_f (fun z => l0 ((i_eq (b := 0) (by omega) (by omega)).mp z)) ?_
      by_cases l1 : (M'.tx a).length = 1
      · obtain ⟨x, hx⟩ := List.length_eq_one_iff.mp l1
        have e2 : hashT (M'.tx a) = Z.ai (Z.r 2432 a) 0 &&& 255 := by
          rw [a5 0 (by omega)]
          simp only [hx]
          show 31 * 0 + (x &&& 255) = x &&& 255
          simp
        refine w_t (by rw [l1]; rfl) (w_bnd (w_ldC (i := 0) ka (by rw [e1]; omega) (by rw [e1]; omega) (w_pur ?_)))
        rw [e2] at go
        rw [e2]
        exact go
      · refine w_f (fun z => l1 ((i_eq (b := 1) (by omega) (by omega)).mp z)) (w_bnd (w_len ka (w_bnd (w_nt ?_))))
        rw [e1]
        unfold f_J4_vectorizedHashCode f_J4_signedHashCode
        unfold sw
        rw [if_pos ⟨by decide, by show (4 : Int) < 4 + 7; decide⟩]
        show wp (bnd (cstB _) _) _ _
        refine w_bnd (w_rdm ka (w_bnd (w_nt (hash_loop (xs := M'.tx a) ka a4 (by omega) a5 ?_ 60000 0 0 (Nat.zero_le _) (by omega) rfl))))
        refine w_pur (w_pur ?_)
        exact go
  · refine w_t (fun z => c2 (c1.symm.trans z)) (w_pur ⟨c1, h⟩)
  · refine w_f (fun z => z c1) (w_bnd (w_getIo oa (w_t c3 (w_pur ⟨?_, h⟩))))
    exact c1.trans c2.symm
