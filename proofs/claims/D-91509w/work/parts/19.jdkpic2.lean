set_option maxRecDepth 100000
theorem ps_rem (l : Nat) (i : Int32) : ∀ M Z rr M', Pic M Z → (P_rem l i).run M = some (rr, M') → ∃ Z', (f_J2_remove l i).run Z = some (rr, Z') ∧ Pic M' Z' := by
  intro M Z rr M' h hf
  obtain ⟨⟨ho, rfl, hne⟩, rfl, rfl⟩ := wrm_inv hf
  obtain ⟨own, h6⟩ := h.2.2.2.2.2.1
  obtain ⟨p1, p2, p3, p4, p5, p6, p7⟩ := pl_of h6 ho
  have hcap := ho.2.2
  have kz := pic_k h ho.1 (by decide)
  have ke : Z.k (Z.r 2177 l) = 54 ∧ own (Z.r 2177 l) = l := by
    rcases p4 with ⟨p4, p4', -⟩ | ⟨-, p4⟩
    · exact ⟨p4, p4'⟩
    · omega
  obtain ⟨s, hs⟩ : ∃ s, (M.ls l).length = s + 1 := ⟨(M.ls l).length - 1, by omega⟩
  refine psim_of ?_
  unfold f_J2_remove
  refine w_bnd (w_getI kz (w_bnd (w_nt (w_chk (by decide) ?_ (w_bnd (w_getR kz (w_bnd (w_ldRe ke.1 (by decide) ?_ (w_bnd (w_gd kz (w_nt ?_)))))))))))
  · show (0 : Int32) < Z.i 2178 l
    rw [p1]
    exact (i_lt (a := 0) (by omega) (by omega)).mpr (by omega)
  · show 0 < Z.len (Z.r 2177 l)
    omega
  have ehd : Z.ar (Z.r 2177 l) 0 = (M.ls l).getD 0 0 := by
    rw [p6 0 (by omega), List.getD_eq_getElem?_getD, List.getElem?_eq_getElem (by omega)]
    rfl
  unfold f_J2_fastRemove
  refine w_bnd (w_getI kz (w_bnd (w_putI kz (w_bnd (w_getI kz ?_)))))
  have e1 : (Z.seti (128 * 17 + 0) l (Z.i (128 * 17 + 0) l + 1)).i (128 * 17 + 2) l = Int32.ofNat (s + 1) := (up2_nx Z.i (128 * 17 + 0) l (Z.i (128 * 17 + 0) l + 1) (x := 2178) (y := l) (by decide)).trans (by rw [← hs]; exact p1)
  rw [e1]
  have e2 : Int32.ofNat (s + 1) - 1 = Int32.ofNat s := by
    have := pk_sub (a := s + 1) (b := 1) (by omega)
    exact this
  have e3 : Int32.ofNat s - 0 = Int32.ofNat s := by
    have := pk_sub (a := s) (b := 0) (by omega)
    exact this
  rw [e2, e3]
  generalize hY : Z.seti (128 * 17 + 0) l (Z.i (128 * 17 + 0) l + 1) = Y
  have yk : Y.k = Z.k := by rw [← hY]; rfl
  have yr : Y.r = Z.r := by rw [← hY]; rfl
  have yl : Y.l = Z.l := by rw [← hY]; rfl
  have yn : Y.n = Z.n ∧ Y.sl = Z.sl := by rw [← hY]; exact ⟨rfl, rfl⟩
  have ylen : Y.len = Z.len := by rw [← hY]; rfl
  have ya : Y.ai = Z.ai ∧ Y.al = Z.al ∧ Y.ar = Z.ar := by rw [← hY]; exact ⟨rfl, rfl, rfl⟩
  have yi : ∀ t c, c ≠ l → Y.i t c = Z.i t c := fun t c hc => by rw [← hY]; exact up2_ny _ _ _ _ hc
  have kY : Y.k l = 18 := by rw [yk]; exact kz
  have ec : (Int32.ofNat s).toNatClampNeg = s := i_clamp (by omega)
  -- the end, from a memory whose array has been moved
  have fin : ∀ W : Mem, W.k = Z.k → W.r = Z.r → W.l = Z.l → (W.n = Z.n ∧ W.sl = Z.sl) → W.len = Z.len → (W.ai = Z.ai ∧ W.al = Z.al) → (∀ x, x ≠ Z.r 2177 l → W.ar x = Z.ar x) → (∀ t c, c ≠ l → W.i t c = Z.i t c) → (∀ j, j < s → W.ar (Z.r 2177 l) j = Z.ar (Z.r 2177 l) (j + 1)) →
      wp (bnd (putI 17 2 l (Int32.ofNat s)) fun _ => bnd (stN 4 (Z.r (128 * 17 + 1) l) (Int32.ofNat s)) fun _ => pur ()) W (fun _ M1 => wp (pur (Z.ar (Z.r (128 * 17 + 1) l) (0 : Int32).toNatClampNeg)) M1 fun b Z' => b = (M.ls l).getD 0 0 ∧ Pic (M.setls l (M.ls l).tail) Z') := by
    intro W wk wr wl wn wlen wa war wi wm
    refine w_bnd (w_putI (by rw [wk]; exact kz) (w_bnd (w_stN (by show W.k _ = _; rw [wk]; exact ke.1) ⟨i_nneg (by omega), by rw [ec]; show s < W.len _; rw [wlen]; show s < Z.len (Z.r 2177 l); omega⟩ (w_pur (w_pur ⟨ehd, ?_⟩)))))
    rw [ec]
    refine Pic_upd h h6 (by rw [ho.1]; decide) (by rw [ho.1]; decide) ⟨?_, ?_⟩ rfl rfl rfl rfl rfl rfl rfl rfl (fun c hc => up1_ne _ _ _ hc) (fun _ _ => rfl) (fun _ _ => rfl) (fun t c hc => (up2_ny _ _ _ _ hc).trans (wi t c hc)) (fun t c _ => congrFun (congrFun wl t) c) (fun t c _ => congrFun (congrFun wr t) c) (fun x _ => ⟨congrFun wk x, congrFun wlen x⟩) (fun x hx => ?_) (fun _ _ => rfl) (fun c hc => ?_) ?_
    · show W.n = M.n
      rw [wn.1]; exact h.1.1
    · show W.sl = M.sl
      rw [wn.2]; exact h.1.2
    · by_cases ex : x = Z.r 2177 l
      · right
        rw [ex]
        exact ⟨ke.2, p5, Or.inr ke.1⟩
      · left
        exact ⟨congrFun wa.1 x, congrFun wa.2 x, (funext fun y => up2_nx _ _ _ _ ex).trans (war x ex)⟩
    · have hc : W.n < c := hc
      show W.k c = 0
      rw [wk]
      exact h.2.2.2.2.2.2.1 c (by rw [wn.1] at hc; exact hc)
    · have r2 : ((W.seti (128 * 17 + 2) l (Int32.ofNat s)).setar (Z.r (128 * 17 + 1) l) s 0).r 2177 l = Z.r 2177 l := congrFun (congrFun wr 2177) l
      have ls2 : (M.setls l (M.ls l).tail).ls l = (M.ls l).tail := up1_eq _ _ _
      have tl : (M.ls l).tail.length = s := by rw [List.length_tail]; omega
      refine ⟨fun _ => Or.inr ⟨ho.2.1, ?_, ?_, ?_, ?_, ?_, ?_, ?_⟩, fun q => ?_, fun q => ?_⟩
      · rw [ls2, tl]
        exact up2_eq _ _ _ _
      · rw [ls2, r2, tl]
        show s ≤ W.len (Z.r 2177 l)
        rw [wlen]; omega
      · rw [r2]
        show W.len (Z.r 2177 l) + 1 = M.cap l
        rw [wlen]; exact p3
      · rw [r2]
        left
        show W.k (Z.r 2177 l) = 54 ∧ own (Z.r 2177 l) = l ∧ 1 ≤ W.len (Z.r 2177 l)
        rw [wk, wlen]; exact ⟨ke.1, ke.2, by omega⟩
      · rw [r2]; exact p5
      · rw [r2, ls2]
        intro j hj
        rw [tl] at hj
        have e5 : (M.ls l).tail[j] = (M.ls l)[j + 1] := List.getElem_tail _
        rw [e5, ← p6 (j + 1) (by omega), ← wm j hj]
        show up2 W.ar _ _ _ _ _ = _
        rw [up2, if_neg (fun q => by omega)]
      · rw [ls2]
        intro x hx
        exact p7 x (List.mem_of_mem_tail hx)
      · have q : M.k l = 19 := q
        rw [ho.1] at q; omega
      · have q : M.k l = 20 ∨ M.k l = 40 := q
        rw [ho.1] at q; omega
  refine w_jn (w_ite (fun hc => ?_) (fun hc => ?_))
  · have hs0 : s = 0 := by
      have := (i_le (a := s) (b := 0) (by omega) (by omega)).mp hc
      omega
    refine fin Y yk yr yl yn ylen ⟨ya.1, ya.2.1⟩ (fun x _ => congrFun ya.2.2 x) yi (fun j hj => by omega)
  · have e5 : (0 : Int32) + 1 = Int32.ofNat 1 := rfl
    refine w_bnd (w_wrm ⟨⟨Or.inl (by show Y.k _ = _; rw [yk]; exact ke.1), by show Y.k _ = _; rw [yk]; exact ke.1, by decide, by decide, i_nneg (by omega), ?_, ?_⟩, fun j hj => Or.inr ?_⟩ ?_)
    · rw [ec]
      show 1 + s ≤ Y.len (Z.r 2177 l)
      rw [ylen]; omega
    · rw [ec]
      show 0 + s ≤ Y.len (Z.r 2177 l)
      rw [ylen]; omega
    · rw [ec] at hj
      show Y.k (Y.ar (Z.r 2177 l) (1 + j)) ∈ ksO
      rw [yk, ya.2.2, p6 (1 + j) (by omega)]
      have := p7 _ (List.getElem_mem (by omega : 1 + j < (M.ls l).length))
      rw [h.2.2.1 _ (fun e => by rw [e] at this; revert this; decide)]
      exact this
    · refine fin _ yk yr yl yn ylen ⟨ya.1, ya.2.1⟩ (fun x hx => ?_) yi (fun j hj => ?_)
      · exact (if_neg hx).trans (congrFun ya.2.2 x)
      · refine (congrFun (if_pos (rfl : Z.r 2177 l = Z.r (128 * 17 + 1) l)) j).trans ?_
        rw [ec]
        unfold va_cpy
        rw [if_pos ⟨Nat.zero_le _, by show j < 0 + s; omega⟩]
        show Y.ar (Z.r 2177 l) (1 + (j - 0)) = _
        rw [ya.2.2, Nat.sub_zero, Nat.add_comm]
