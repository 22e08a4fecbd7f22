set_option maxRecDepth 100000
theorem w_copyR {Z : Mem} {e s : Nat} {Q : Nat → Mem → Prop} (hk : Z.k e = 52) (hs : s ≤ Z.len e) (hb : Z.len e ≤ 100000) (hfit : ∀ j, j < Z.len e → fits .byte (.int (Z.ai e j)) = true) (hf : Z.k (Z.n + 1) = 0)
    (hq : ∀ g, (∀ j, j < s → g j = Z.ai e j) → Q (Z.n + 1) ((Z.newa 2 s).setaia (Z.n + 1) g)) : wp (f_J6_copyOfRange e 0 (Int32.ofNat s)) Z Q := by
  have he : e ≠ Z.n + 1 := fun q => by rw [q, hf] at hk; omega
  have ec : (Int32.ofNat s).toNatClampNeg = s := i_clamp (by omega)
  have sub0 : ∀ n : Nat, Int32.ofNat n - 0 = Int32.ofNat n := fun n => by
    have := pk_sub (a := n) (b := 0) (by omega)
    exact this
  unfold f_J6_copyOfRange
  refine w_jn (w_f (fun z => z rfl) (w_bnd (w_len (Or.inl hk) (w_ite (fun hc => ?_) (fun hc => ?_)))))
  · have hsl : s = Z.len e := (i_eq (by omega) (by omega)).mp hc
    refine w_bnd (w_wrm ⟨Or.inl hk, hfit⟩ (w_bnd (w_rdm (Or.inl ?_) (w_pur ?_))))
    · exact up1_eq _ _ _
    · have K := hq (Z.ai e) (fun _ _ => rfl)
      rw [hsl] at K
      exact K
  · unfold f_J6_copyOfRangeByte f_J6_checkLength
    refine w_bnd (w_nt (w_bnd (w_nt (w_t ?_ (w_pur ?_)))))
    · rw [Int32.le_iff_toInt_le, i_toInt (by omega)]
      show (0 : Int) ≤ _
      omega
    rw [sub0]
    refine w_bnd (w_newA ⟨i_nneg (by omega), by rw [ec]; omega⟩ ?_)
    rw [ec]
    have ke : (Z.newa 2 s).k e = 52 := (up1_ne _ _ _ he).trans hk
    have le : (Z.newa 2 s).len e = Z.len e := up1_ne _ _ _ he
    have ln : (Z.newa 2 s).len (Z.n + 1) = s := up1_eq _ _ _
    have ae : (Z.newa 2 s).ai e = Z.ai e := funext fun _ => if_neg he
    refine w_bnd (w_len (Or.inl ke) ?_)
    have em : mn (Int32.ofNat ((Z.newa 2 s).len e) - 0) (Int32.ofNat s) = Int32.ofNat s := by
      rw [le, sub0]
      unfold mn
      by_cases q : Int32.ofNat s < Int32.ofNat (Z.len e)
      · rw [if_pos q]
      · rw [if_neg q]
        have : ¬ s < Z.len e := fun z => q ((i_lt (by omega) (by omega)).mpr z)
        rw [show Z.len e = s by omega]
    rw [em]
    refine w_bnd (w_wrm ⟨⟨Or.inl ke, up1_eq _ _ _, by decide, by decide, i_nneg (by omega), ?_, ?_⟩, fun j hj => ?_⟩ (w_pur (w_pur ?_)))
    · rw [ec, le]
      show 0 + s ≤ _
      omega
    · rw [ec, ln]
      show 0 + s ≤ _
      omega
    · rw [ec] at hj
      rw [show (0 : Int32).toNatClampNeg + j = j from Nat.zero_add j, ae]
      exact hfit j (by omega)
    · rw [ec, ae]
      refine hq _ (fun j hj => ?_)
      unfold va_cpy
      rw [if_pos ⟨Nat.zero_le _, by show j < 0 + s; omega⟩]
      show Z.ai _ (0 + (j - 0)) = _
      rw [Nat.sub_zero, Nat.zero_add]
theorem ps_toString (c : Nat) : ∀ M Z rr M', Pic M Z → (P_toString c).run M = some (rr, M') → ∃ Z', (f_J10_toString c).run Z = some (rr, Z') ∧ Pic M' Z' := by
  intro M Z rr M' h hf
  obtain ⟨⟨ho, hlt⟩, rfl, rfl⟩ := wrm_inv hf
  obtain ⟨own, h6⟩ := h.2.2.2.2.2.1
  obtain ⟨p1, p2, p3, p4, p5, p6, p7, p8, p9⟩ := pb_of h6 ho
  have hcap := ho.2.2
  have kz := pic_k h ho.1 (by decide)
  have hfr := h.2.2.2.2.2.2.1
  have hf1 : Z.k (Z.n + 1) = 0 := hfr _ (Nat.lt_succ_self _)
  have hf2 : Z.k (Z.n + 1 + 1) = 0 := hfr _ (by omega)
  have hl : c ≠ Z.n + 1 := fun e => by rw [e, hf1] at kz; omega
  have nz : ∀ c, Z.k c ≠ 0 → c ≠ Z.n + 1 := fun c hc e => by rw [e] at hc; exact hc hf1
  have nz2 : ∀ c, Z.k c ≠ 0 → c ≠ Z.n + 1 + 1 := fun c hc e => by rw [e] at hc; exact hc hf2
  have hen : Z.r 2304 c ≠ Z.n + 1 := nz _ (by rw [p4]; decide)
  refine psim_of ?_
  unfold f_J10_toString f_J11_init f_J11_init_2
  generalize hY : Z.newo 19 4 = Y
  have yk : ∀ x, x ≠ Z.n + 1 → Y.k x = Z.k x := fun x hx => by rw [← hY]; exact up1_ne _ _ _ hx
  have yk1 : Y.k (Z.n + 1) = 20 := by rw [← hY]; exact up1_eq _ _ _
  have yi : ∀ t x, x ≠ Z.n + 1 → Y.i t x = Z.i t x := fun t x hx => by rw [← hY]; exact if_neg hx
  have yi1 : ∀ t, Y.i t (Z.n + 1) = 0 := fun t => by rw [← hY]; exact if_pos rfl
  have yl : ∀ t x, x ≠ Z.n + 1 → Y.l t x = Z.l t x := fun t x hx => by rw [← hY]; exact if_neg hx
  have yr : ∀ t x, x ≠ Z.n + 1 → Y.r t x = Z.r t x := fun t x hx => by rw [← hY]; exact if_neg hx
  have ya : Y.ai = Z.ai ∧ Y.al = Z.al ∧ Y.ar = Z.ar ∧ Y.len = Z.len := by rw [← hY]; exact ⟨rfl, rfl, rfl, rfl⟩
  have yn : Y.n = Z.n + 1 ∧ Y.sl = Z.sl + 4 := by rw [← hY]; exact ⟨rfl, rfl⟩
  have kY : Y.k c = 19 := (yk c hl).trans kz
  have gy : wp (newO 19 4) Z = wp (newO 19 4) Z := rfl
  refine w_bnd (w_newO ?_)
  rw [hY]
  refine w_bnd (w_gd yk1 (w_nt (w_bnd (w_gd yk1 (w_nt (w_nn (Nat.succ_ne_zero _) (w_bnd (w_gd kY (w_nt ?_)))))))))
  unfold f_J9_getValue f_J10_length f_J9_length
  refine w_bnd (w_getR kY (w_pur (w_bnd (w_gd kY (w_nt (w_bnd (w_gd kY (w_nt (w_bnd (w_getI kY (w_pur (w_pur (w_bnd (w_gd kY (w_nt (w_lat kY ?_ (w_f (by decide) (w_bnd (w_putS yk1 ⟨rfl, rfl⟩ (w_bnd (w_nt ?_)))))))))))))))))))))
  · rw [yi _ _ hl]; exact p7
  have e1 : Y.r (128 * 18 + 0) c = Z.r 2304 c := yr _ _ hl
  have e2 : Y.i (128 * 18 + 3) c = Int32.ofNat (M.tx c).length := (yi _ _ hl).trans p1
  rw [e1, e2]
  have ke : Y.k (Z.r 2304 c) = 52 := (yk _ hen).trans p4
  refine w_copyR (Z := Y.seti (128 * 19 + 1) (Z.n + 1) 0) ke ?_ ?_ ?_ ?_ (fun g hg => ?_)
  · show _ ≤ Y.len _
    rw [ya.2.2.2]; exact p2
  · show Y.len _ ≤ _
    rw [ya.2.2.2]; omega
  · intro j hj
    have hj : j < Y.len (Z.r 2304 c) := hj
    show fits .byte (.int (Y.ai (Z.r 2304 c) j)) = true
    rw [ya.1]
    rw [ya.2.2.2] at hj
    exact p9 j hj
  · show Y.k (Y.n + 1) = 0
    rw [yn.1, yk _ (by omega)]; exact hf2
  have en : (Y.seti (128 * 19 + 1) (Z.n + 1) 0).n + 1 = Z.n + 1 + 1 := by show Y.n + 1 = _; rw [yn.1]
  rw [en]
  refine w_bnd (w_putR ?_ (w_pur (w_pur (w_pur ⟨by rw [h.1.1], ?_⟩))))
  · exact (up1_ne _ _ _ (by rw [en]; omega)).trans yk1
  generalize hW : (((Y.seti (128 * 19 + 1) (Z.n + 1) 0).newa 2 (M.tx c).length).setaia (Z.n + 1 + 1) g).setr (128 * 19 + 0) (Z.n + 1) (Z.n + 1 + 1) = W
  have wk : ∀ x, x ≠ Z.n + 1 → x ≠ Z.n + 1 + 1 → W.k x = Z.k x := fun x h1 h2 => by
    rw [← hW]; exact (up1_ne _ _ _ (by rw [en]; exact h2)).trans (yk x h1)
  have wk1 : W.k (Z.n + 1) = 20 := by rw [← hW]; exact (up1_ne _ _ _ (by rw [en]; omega)).trans yk1
  have wk2 : W.k (Z.n + 1 + 1) = 52 := by rw [← hW, ← en]; exact up1_eq _ _ _
  have wlen : ∀ x, x ≠ Z.n + 1 + 1 → W.len x = Z.len x := fun x h2 => by
    rw [← hW]; exact (up1_ne _ _ _ (by rw [en]; exact h2)).trans (congrFun ya.2.2.2 x)
  have wlen2 : W.len (Z.n + 1 + 1) = (M.tx c).length := by rw [← hW, ← en]; exact up1_eq _ _ _
  have wi : ∀ t x, x ≠ Z.n + 1 → W.i t x = Z.i t x := fun t x hx => by rw [← hW]; exact (up2_ny _ _ _ _ hx).trans (yi t x hx)
  have wi1 : ∀ t, W.i t (Z.n + 1) = 0 := fun t => by
    rw [← hW]
    show up2 Y.i (128 * 19 + 1) (Z.n + 1) 0 t (Z.n + 1) = 0
    unfold up2
    by_cases q : t = 128 * 19 + 1 ∧ Z.n + 1 = Z.n + 1
    · rw [if_pos q]
    · rw [if_neg q]; exact yi1 t
  have wl : ∀ t x, x ≠ Z.n + 1 → W.l t x = Z.l t x := fun t x hx => by rw [← hW]; exact yl t x hx
  have wr : ∀ t x, x ≠ Z.n + 1 → W.r t x = Z.r t x := fun t x hx => by rw [← hW]; exact (up2_ny _ _ _ _ hx).trans (yr t x hx)
  have wr1 : W.r 2432 (Z.n + 1) = Z.n + 1 + 1 := by rw [← hW]; exact up2_eq _ _ _ _
  have wa : ∀ x, x ≠ Z.n + 1 + 1 → W.ai x = Z.ai x ∧ W.al x = Z.al x ∧ W.ar x = Z.ar x := fun x hx => by
    have hx' : x ≠ (Y.seti (128 * 19 + 1) (Z.n + 1) 0).n + 1 := by rw [en]; exact hx
    rw [← hW]
    exact ⟨(if_neg hx).trans ((funext fun _ => if_neg hx').trans (congrFun ya.1 x)), (funext fun _ => if_neg hx').trans (congrFun ya.2.1 x), (funext fun _ => if_neg hx').trans (congrFun ya.2.2.1 x)⟩
  have wa2 : W.ai (Z.n + 1 + 1) = g := by rw [← hW]; exact if_pos rfl
  have wn : W.n = Z.n + 1 + 1 ∧ W.sl = Z.sl + 4 + (M.tx c).length := by
    rw [← hW]
    exact ⟨en, by show Y.sl + _ = _; rw [yn.2]⟩
  have hM1 : M.k (Z.n + 1) = 0 := by
    by_cases q : M.k (Z.n + 1) = 0
    · exact q
    · rw [← h.2.2.1 _ q]; exact hf1
  have hM2 : M.k (Z.n + 1 + 1) = 0 := by
    by_cases q : M.k (Z.n + 1 + 1) = 0
    · exact q
    · rw [← h.2.2.1 _ q]; exact hf2
  obtain ⟨⟨h1, h1'⟩, h2, h3, h4, h5, -, h7, h8⟩ := h
  have sk : ∀ x, x ≠ Z.n + 1 → (strM M c).k x = M.k x := fun x hx => up1_ne _ _ _ (by rw [← h1]; exact hx)
  have sk1 : (strM M c).k (Z.n + 1) = 20 := by rw [h1]; exact up1_eq _ _ _
  have st1 : (strM M c).tx (Z.n + 1) = M.tx c := by rw [h1]; exact up1_eq _ _ _
  have l0 : (0 : Nat) ≠ Z.n + 1 := by omega
  have r0 : ∀ k, (strM M c).r (9000 + k) 0 = M.r (9000 + k) 0 := fun k => newo_st M 19 4 k
  have vn : ∀ x, M.k x ≠ 0 → x ≠ Z.n + 1 ∧ x ≠ Z.n + 1 + 1 := fun x hx => ⟨fun e => by rw [e] at hx; exact hx hM1, fun e => by rw [e] at hx; exact hx hM2⟩
  refine ⟨⟨?_, ?_⟩, fun k => ?_, fun x hx => ?_, fun x t a b => ?_, fun x a => ?_, ⟨up1 own (Z.n + 1 + 1) (Z.n + 1), fun x => ?_⟩, fun x hx => ?_, ?_⟩
  · rw [wn.1]
    show Z.n + 1 + 1 = M.n + 1 + 1
    rw [h1]
  · rw [wn.2]
    show Z.sl + 4 + _ = M.sl + 4 + _
    rw [h1']
  · rw [wr _ _ l0, r0]; exact h2 k
  · by_cases e : x = Z.n + 1
    · rw [e, wk1, sk1]
    · rw [sk x e] at hx ⊢
      rw [wk x e (vn x hx).2]; exact h3 x hx
  · by_cases e : x = Z.n + 1
    · rw [e, sk1] at b; omega
    · rw [sk x e] at a b
      rw [wi t x e, wl t x e, wr t x e]
      have e' : x ≠ M.n + 1 := by rw [← h1]; exact e
      rw [show (strM M c).i t x = M.i t x from if_neg e', show (strM M c).l t x = M.l t x from if_neg e', show (strM M c).r t x = M.r t x from if_neg e']
      exact h4 x t a b
  · by_cases e : x = Z.n + 1
    · rw [e, sk1] at a; omega
    · rw [sk x e] at a
      have e2 := (vn x (by omega)).2
      rw [wlen x e2, (wa x e2).1, (wa x e2).2.1, (wa x e2).2.2]
      exact h5 x a
  · by_cases e : x = Z.n + 1
    · subst e
      refine ⟨fun q => by rw [sk1] at q; omega, fun q => by rw [sk1] at q; omega, fun _ => ⟨Or.inl ?_, ?_, wi1 _, ?_, ?_, Or.inl ⟨wi1 _, wi1 _, sk1⟩⟩⟩
      · rw [wr1]; exact ⟨wk2, up1_eq _ _ _⟩
      · rw [wr1, sk _ (by omega)]; exact hM2
      · rw [wr1, st1, wlen2]
      · rw [wr1, st1, wa2]
        intro j hj
        rw [hg j hj]
        show Y.ai _ _ = _
        rw [ya.1]; exact p8 j hj
    · by_cases e2 : x = Z.n + 1 + 1
      · refine ⟨fun q => ?_, fun q => ?_, fun q => ?_⟩
        · rw [sk x e, e2, hM2] at q; omega
        · rw [sk x e, e2, hM2] at q; omega
        · rw [sk x e, e2, hM2] at q; omega
      · have e' : x ≠ M.n + 1 := by rw [← h1]; exact e
        exact PT_congr (h6 x) h3 h8.2.1 (sk x e) (fun y hy => sk y (nz y hy)) (up1_ne _ _ _ e') ((up1_ne _ _ _ e').trans (up1_ne _ _ _ e')) (up1_ne _ _ _ e') (r0 0) (fun t _ _ => wi t x e) (fun t _ _ => wr t x e) (fun y hy hz _ => ⟨wk y (nz y hz) (nz2 y hz), wlen y (nz2 y hz), (wa y (nz2 y hz)).1, (wa y (nz2 y hz)).2.2, up1_ne _ _ _ (nz2 y hz)⟩)
  · rw [wn.1] at hx
    rw [wk x (by omega) (by omega)]
    exact h7 x (by omega)
  · have hz : Z.k (M.r 9000 0) ≠ 0 := by rw [h8.2.1]; decide
    rw [show (strM M c).r 9000 0 = M.r 9000 0 from r0 0, sk 0 l0, wk _ (nz _ hz) (nz2 _ hz), wlen _ (nz2 _ hz), sk _ (nz _ hz)]
    exact h8
