set_option maxRecDepth 100000
theorem setarr_self (M : Mem) (c : Nat) : M.setarr c (M.ar c) = M := by
  have e : (fun c' => if c' = c then M.ar c else M.ar c') = M.ar := funext fun c' => by
    by_cases h : c' = c
    · rw [if_pos h, h]
    · rw [if_neg h]
  show mk_ M.i M.l M.r M.ai M.al (fun c' => if c' = c then M.ar c else M.ar c') M.k M.len M.ls M.tx M.cap M.n M.sl = M
  rw [e]
  rfl
theorem w_grow {Z : Mem} {l len : Nat} {Q : Nat → Mem → Prop} (kz : Z.k l = 18) (hsz : Z.i 2178 l = Int32.ofNat len) (hlen : Z.len (Z.r 2177 l) = len) (hb : len ≤ 1000000)
    (hk : (Z.k (Z.r 2177 l) = 54 ∧ 1 ≤ len ∧ ∀ j, j < len → Z.k (Z.ar (Z.r 2177 l) j) ∈ ksO) ∨ (Z.r 2177 l = Z.r 9000 0 ∧ Z.k (Z.r 2177 l) = 64 ∧ len = 0)) (hf : Z.k (Z.n + 1) = 0)
    (hq : ∀ g, (∀ j, j < len → g j = Z.ar (Z.r 2177 l) j) → Q (Z.n + 1) (((Z.newa 4 (gcap (len + 1))).setarr (Z.n + 1) g).setr 2177 l (Z.n + 1))) : wp (f_J2_grow l) Z Q := by
  have hl : l ≠ Z.n + 1 := fun e => by rw [e, hf] at kz; omega
  have he : Z.r 2177 l ≠ Z.n + 1 := fun e => by
    rcases hk with ⟨hk, -⟩ | ⟨-, hk, -⟩
    · rw [e, hf] at hk; omega
    · rw [e, hf] at hk; omega
  have kn : ∀ N, (Z.newa 4 N).k l = 18 := fun N => (up1_ne _ _ _ hl).trans kz
  unfold f_J2_grow
  refine w_bnd (w_getI kz (w_bnd (w_gd kz (w_nt ?_))))
  have es : Z.i (128 * 17 + 2) l + 1 = Int32.ofNat (len + 1) := by
    rw [show Z.i (128 * 17 + 2) l = Int32.ofNat len from hsz]; exact i_add1 len
  rw [es]
  unfold f_J2_grow_2
  refine w_bnd (w_getR kz (w_bnd (w_len ?_ (w_jn ?_))))
  · rcases hk with ⟨hk, -⟩ | ⟨-, hk, -⟩
    · exact Or.inl hk
    · exact Or.inr hk
  have el : Int32.ofNat (Z.len (Z.r (128 * 17 + 1) l)) = Int32.ofNat len := by
    rw [show Z.len (Z.r (128 * 17 + 1) l) = len from hlen]
  rw [el]
  rcases hk with ⟨k1, k2, k3⟩ | ⟨k1, k2, k3⟩
  · refine w_t ((i_lt (a := 0) (b := len) (by omega) (by omega)).mpr (by omega)) ?_
    have e1 : Int32.ofNat (len + 1) - Int32.ofNat len = Int32.ofNat 1 := by
      have := pk_sub (a := len + 1) (b := len) (by omega)
      rw [Nat.add_sub_cancel_left] at this
      exact this
    have e2 : Int32.ofNat len >>> ((1 : Int32) &&& 31) = Int32.ofNat (len / 2) := by
      have k := pk_shrN (n := len) (by omega) ((1 : Int32) &&& 31) 1 (by decide)
      rw [Nat.pow_one] at k
      exact k
    rw [e1, e2]
    refine w_bnd (w_nt (w_newLen (by omega) (by omega) ?_))
    have eg : len + max 1 (len / 2) = gcap (len + 1) := by
      unfold gcap
      rw [if_neg (by omega), Nat.add_sub_cancel]
    rw [eg]
    have hg : gcap (len + 1) ≤ 2000000 ∧ len ≤ gcap (len + 1) := by omega
    refine w_bnd (w_getR kz (w_bnd (w_nt ?_)))
    unfold f_J6_copyOf f_J6_copyOf_2
    refine w_bnd (w_rdm (Or.inl k1) (w_bnd (w_nt (w_bnd (w_gst (w_f (fun z => z rfl) (w_bnd (w_newA ⟨i_nneg (by omega), by rw [i_clamp (by omega)]; omega⟩ ?_))))))))
    rw [i_clamp (by omega)]
    have ke : (Z.newa 4 (gcap (len + 1))).k (Z.r (128 * 17 + 1) l) = 54 := (up1_ne _ _ _ he).trans k1
    have le : (Z.newa 4 (gcap (len + 1))).len (Z.r (128 * 17 + 1) l) = len := (up1_ne _ _ _ he).trans hlen
    have ln : (Z.newa 4 (gcap (len + 1))).len (Z.n + 1) = gcap (len + 1) := up1_eq _ _ _
    have ae : (Z.newa 4 (gcap (len + 1))).ar (Z.r (128 * 17 + 1) l) = Z.ar (Z.r 2177 l) := funext fun _ => if_neg he
    refine w_bnd (w_len (Or.inl ke) ?_)
    have em : mn (Int32.ofNat ((Z.newa 4 (gcap (len + 1))).len (Z.r (128 * 17 + 1) l))) (Int32.ofNat (gcap (len + 1))) = Int32.ofNat len := by
      rw [le]
      unfold mn
      rw [if_neg (fun z => by have := (i_lt (by omega) (by omega)).mp z; omega)]
    rw [em]
    have ec : (Int32.ofNat len).toNatClampNeg = len := i_clamp (by omega)
    refine w_bnd (w_wrm ⟨⟨Or.inl ke, up1_eq _ _ _, by decide, by decide, i_nneg (by omega), ?_, ?_⟩, fun j hj => Or.inr ?_⟩ ?_)
    · rw [ec, le]
      show 0 + len ≤ len
      omega
    · rw [ec, ln]
      show 0 + len ≤ _
      omega
    · rw [ec] at hj
      have e9 : (0 : Int32).toNatClampNeg + j = j := Nat.zero_add j
      rw [e9, ae]
      have k9 := k3 j hj
      have n9 : Z.ar (Z.r 2177 l) j ≠ Z.n + 1 := fun e => by rw [e, hf] at k9; revert k9; decide
      rw [show (Z.newa 4 (gcap (len + 1))).k (Z.ar (Z.r 2177 l) j) = Z.k (Z.ar (Z.r 2177 l) j) from up1_ne _ _ _ n9]
      exact k9
    · refine w_pur (w_pur (w_bnd (w_putR (kn _) (w_pur (w_pur (hq _ (fun j hj => ?_)))))))
      rw [ec, ae]
      unfold va_cpy
      rw [if_pos ⟨Nat.zero_le _, by show j < 0 + len; omega⟩]
      show Z.ar _ (0 + (j - 0)) = _
      rw [Nat.sub_zero, Nat.zero_add]
  · subst k3
    refine w_f (fun z => by have := (i_lt (a := 0) (b := 0) (by omega) (by omega)).mp z; omega) ?_
    refine w_bnd (w_getR kz (w_bnd (w_gst (w_t k1 (w_bnd (w_newA ⟨by decide, by decide⟩ (w_bnd (w_putR (kn _) (w_pur (w_pur ?_))))))))))
    have e10 : (mx (10 : Int32) (Int32.ofNat (0 + 1))).toNatClampNeg = gcap (0 + 1) := by decide
    rw [e10]
    have K := hq ((Z.newa 4 (gcap (0 + 1))).ar (Z.n + 1)) (fun j hj => absurd hj (Nat.not_lt_zero _))
    rw [setarr_self] at K
    exact K
theorem w_add2 {Z : Mem} {l v e s : Nat} {Q : Unit → Mem → Prop} (kz : Z.k l = 18) (ke : Z.k e = 54) (hs : s < Z.len e) (hb : Z.len e ≤ 1000000) (hv : Z.k v ∈ ksO) (hq : Q () ((Z.setar e s v).seti 2178 l (Int32.ofNat (s + 1)))) : wp (f_J2_add_2 l v e (Int32.ofNat s)) Z Q := by
  unfold f_J2_add_2
  have ec : (Int32.ofNat s).toNatClampNeg = s := i_clamp (by omega)
  refine w_bnd (w_len (Or.inl ke) (w_jn (w_t (fun z => ?_) (w_bnd (w_stK ke ⟨i_nneg (by omega), by rw [ec]; exact hs⟩ hv (w_bnd (w_putI kz (w_pur ?_))))))))
  · have := (i_eq (by omega) (by omega)).mp z
    omega
  · rw [ec, i_add1]
    exact hq
theorem ps_add (l v : Nat) : ∀ M Z rr M', Pic M Z → (P_add l v).run M = some (rr, M') → ∃ Z', (f_J2_add l v).run Z = some (rr, Z') ∧ Pic M' Z' := by
  intro M Z rr M' h hf
  obtain ⟨⟨ho, hv⟩, rfl, rfl⟩ := wrm_inv hf
  obtain ⟨own, h6⟩ := h.2.2.2.2.2.1
  obtain ⟨p1, p2, p3, p4, p5, p6, p7⟩ := pl_of h6 ho
  have hcap := ho.2.2
  have kz := pic_k h ho.1 (by decide)
  have hv0 : M.k v ≠ 0 := fun e => by rw [e] at hv; revert hv; decide
  have kv : Z.k v = M.k v := h.2.2.1 v hv0
  have h64 := h.2.2.2.2.2.2.2
  have hf1 : Z.k (Z.n + 1) = 0 := h.2.2.2.2.2.2.1 _ (Nat.lt_succ_self _)
  have hl : l ≠ Z.n + 1 := fun e => by rw [e, hf1] at kz; omega
  have nz : ∀ c, Z.k c ≠ 0 → c ≠ Z.n + 1 := fun c hc e => by rw [e] at hc; exact hc hf1
  refine psim_of ?_
  unfold f_J2_add
  refine w_bnd (w_getI kz (w_bnd (w_putI kz (w_bnd (w_getR kz (w_bnd (w_getI kz ?_)))))))
  have e1 : (Z.seti (128 * 17 + 0) l (Z.i (128 * 17 + 0) l + 1)).i (128 * 17 + 2) l = Int32.ofNat (M.ls l).length := (up2_nx Z.i (128 * 17 + 0) l (Z.i (128 * 17 + 0) l + 1) (x := 2178) (y := l) (by decide)).trans p1
  rw [e1]
  refine w_bnd (w_gd kz (w_nt ?_))
  generalize hY : Z.seti (128 * 17 + 0) l (Z.i (128 * 17 + 0) l + 1) = Y
  have yk : Y.k = Z.k := by rw [← hY]; rfl
  have yr : Y.r = Z.r := by rw [← hY]; rfl
  have yl : Y.l = Z.l := by rw [← hY]; rfl
  have yn : Y.n = Z.n ∧ Y.sl = Z.sl := by rw [← hY]; exact ⟨rfl, rfl⟩
  have ylen : Y.len = Z.len := by rw [← hY]; rfl
  have ya : Y.ai = Z.ai ∧ Y.al = Z.al ∧ Y.ar = Z.ar := by rw [← hY]; exact ⟨rfl, rfl, rfl⟩
  have yi : ∀ t c, c ≠ l → Y.i t c = Z.i t c := fun t c hc => by rw [← hY]; exact up2_ny _ _ _ _ hc
  have yi2 : Y.i 2178 l = Int32.ofNat (M.ls l).length := by rw [← hY]; exact e1
  have er : Y.r (128 * 17 + 1) l = Z.r 2177 l := by rw [yr]
  rw [er]
  have kY : Y.k l = 18 := by rw [yk]; exact kz
  have hz : Z.k (Z.r 2177 l) ≠ 0 := by
    rcases p4 with ⟨p4, -⟩ | ⟨p4, -⟩
    · rw [p4]; decide
    · rw [p4, h64.2.1]; decide
  by_cases hroom : (M.ls l).length + 1 < M.cap l
  · have ke : Z.k (Z.r 2177 l) = 54 ∧ own (Z.r 2177 l) = l := by
      rcases p4 with ⟨p4, p4', -⟩ | ⟨-, p4⟩
      · exact ⟨p4, p4'⟩
      · omega
    have em : addM M l v = M.setls l (M.ls l ++ [v]) := if_pos hroom
    refine w_add2 kY (by rw [yk]; exact ke.1) (by rw [ylen]; omega) (by rw [ylen]; omega) (by rw [yk, kv]; exact hv) (w_purZ (Or.inr rfl) ⟨rfl, ?_⟩)
    rw [em]
    refine Pic_upd h h6 (by rw [ho.1]; decide) (by rw [ho.1]; decide) (by rw [show ((Y.setar (Z.r 2177 l) (M.ls l).length v).seti 2178 l (Int32.ofNat ((M.ls l).length + 1))).n = Y.n from rfl, show ((Y.setar (Z.r 2177 l) (M.ls l).length v).seti 2178 l (Int32.ofNat ((M.ls l).length + 1))).sl = Y.sl from rfl, yn.1, yn.2]; exact h.1) rfl rfl rfl rfl rfl rfl rfl rfl (fun c hc => up1_ne _ _ _ hc) (fun _ _ => rfl) (fun _ _ => rfl) (fun t c hc => (up2_ny _ _ _ _ hc).trans (yi t c hc)) (fun t c _ => congrFun (congrFun yl t) c) (fun t c _ => congrFun (congrFun yr t) c) (fun x _ => ⟨congrFun yk x, congrFun ylen x⟩) (fun x hx => ?_) (fun _ _ => rfl) (fun c hc => ?_) ?_
    · by_cases ex : x = Z.r 2177 l
      · right
        rw [ex]
        exact ⟨ke.2, p5, Or.inr ke.1⟩
      · left
        exact ⟨congrFun ya.1 x, congrFun ya.2.1 x, (funext fun y => up2_nx _ _ _ _ ex).trans (congrFun ya.2.2 x)⟩
    · show Y.k c = 0
      rw [yk]
      exact h.2.2.2.2.2.2.1 c (by have hc : Y.n < c := hc; rw [yn.1] at hc; exact hc)
    · have r2 : ((Y.setar (Z.r 2177 l) (M.ls l).length v).seti 2178 l (Int32.ofNat ((M.ls l).length + 1))).r 2177 l = Z.r 2177 l := congrFun (congrFun yr 2177) l
      have ls2 : (M.setls l (M.ls l ++ [v])).ls l = M.ls l ++ [v] := up1_eq _ _ _
      refine ⟨fun _ => Or.inr ⟨ho.2.1, ?_, ?_, ?_, ?_, ?_, ?_, ?_⟩, fun q => ?_, fun q => ?_⟩
      · rw [ls2, List.length_append]
        exact up2_eq _ _ _ _
      · rw [ls2, r2, List.length_append]
        show (M.ls l).length + 1 ≤ Y.len (Z.r 2177 l)
        rw [ylen]; omega
      · rw [r2]
        show Y.len (Z.r 2177 l) + 1 = M.cap l
        rw [ylen]; exact p3
      · rw [r2]
        left
        show Y.k (Z.r 2177 l) = 54 ∧ own (Z.r 2177 l) = l ∧ 1 ≤ Y.len (Z.r 2177 l)
        rw [yk, ylen]; exact ⟨ke.1, ke.2, by omega⟩
      · rw [r2]; exact p5
      · rw [r2, ls2]
        intro j hj
        rw [List.length_append] at hj
        have hj : j < (M.ls l).length + 1 := hj
        by_cases ej : j = (M.ls l).length
        · subst ej
          rw [List.getElem_append_right (Nat.le_refl _)]
          simp only [Nat.sub_self, List.getElem_cons_zero]
          exact up2_eq _ _ _ _
        · have hj2 : j < (M.ls l).length := by omega
          rw [List.getElem_append_left hj2, ← p6 j hj2]
          show up2 Y.ar _ _ _ _ _ = _
          rw [up2, if_neg (fun q => ej q.2), ya.2.2]
      · rw [ls2]
        intro x hx
        rcases List.mem_append.mp hx with hx | hx
        · exact p7 x hx
        · rw [List.mem_singleton.mp hx]; exact hv
      · have q : M.k l = 19 := q
        rw [ho.1] at q; omega
      · have q : M.k l = 20 ∨ M.k l = 40 := q
        rw [ho.1] at q; omega
  · have hfull : (M.ls l).length = Z.len (Z.r 2177 l) := by omega
    have em : addM M l v = ((M.setls l (M.ls l ++ [v])).setcap l (gcap (M.cap l) + 1)).addn 1 (gcap (M.cap l)) := if_neg hroom
    have hcap2 : (M.ls l).length + 1 = M.cap l := by omega
    unfold f_J2_add_2
    refine w_bnd (w_len (q := 4) (c := Z.r 2177 l) ?_ (w_jn (w_f (fun z => z ?_) (w_bnd (w_gd kY (w_nt (w_grow (len := (M.ls l).length) kY yi2 (by rw [yr, ylen]; exact hfull.symm) (by omega) ?_ (by rw [yk, yn.1]; exact hf1) (fun g hg => ?_))))))))
    · rw [yk]
      rcases p4 with ⟨p4, -⟩ | ⟨p4, -⟩
      · exact Or.inl p4
      · rw [p4]; exact Or.inr h64.2.1
    · rw [ylen, ← hfull]
    · rw [yk, yr, ya.2.2]
      rcases p4 with ⟨p4, -, p4'⟩ | ⟨p4, p4'⟩
      · left
        refine ⟨p4, by omega, fun j hj => ?_⟩
        rw [p6 j hj]
        have := p7 _ (List.getElem_mem hj)
        rw [h.2.2.1 _ (fun e => by rw [e] at this; revert this; decide)]
        exact this
      · right
        exact ⟨p4.trans (h.2.1 0).symm, by rw [p4]; exact h64.2.1, by omega⟩
    · generalize hN : gcap ((M.ls l).length + 1) = N
      have hNl : (M.ls l).length < N := by
        rw [← hN]; unfold gcap
        by_cases q : (M.ls l).length + 1 = 1
        · rw [if_pos q]; omega
        · rw [if_neg q]; omega
      have hYN : Y.n + 1 = Z.n + 1 := by rw [yn.1]
      rw [hYN]
      generalize hW : ((Y.newa 4 N).setarr (Z.n + 1) g).setr 2177 l (Z.n + 1) = W
      have wk : ∀ x, x ≠ Z.n + 1 → W.k x = Z.k x := fun x hx => by
        rw [← hW]
        exact (up1_ne _ _ _ (by rw [hYN]; exact hx)).trans (congrFun yk x)
      have wk1 : W.k (Z.n + 1) = 54 := by
        rw [← hW, ← hYN]; exact up1_eq _ _ _
      have wlen : ∀ x, x ≠ Z.n + 1 → W.len x = Z.len x := fun x hx => by
        rw [← hW]
        exact (up1_ne _ _ _ (by rw [hYN]; exact hx)).trans (congrFun ylen x)
      have wlen1 : W.len (Z.n + 1) = N := by
        rw [← hW, ← hYN]; exact up1_eq _ _ _
      have wi : ∀ t c, W.i t c = Y.i t c := fun t c => by rw [← hW]; rfl
      have wl : ∀ t c, W.l t c = Z.l t c := fun t c => by rw [← hW]; exact congrFun (congrFun yl t) c
      have wr : ∀ t c, c ≠ l → W.r t c = Z.r t c := fun t c hc => by rw [← hW]; exact (up2_ny _ _ _ _ hc).trans (congrFun (congrFun yr t) c)
      have wr1 : W.r 2177 l = Z.n + 1 := by rw [← hW]; exact up2_eq _ _ _ _
      have wa : ∀ x, x ≠ Z.n + 1 → W.ai x = Z.ai x ∧ W.al x = Z.al x ∧ W.ar x = Z.ar x := fun x hx => by
        have hx' : x ≠ Y.n + 1 := by rw [hYN]; exact hx
        rw [← hW]
        exact ⟨(funext fun _ => if_neg hx').trans (congrFun ya.1 x), (funext fun _ => if_neg hx').trans (congrFun ya.2.1 x), (if_neg hx).trans ((funext fun _ => if_neg hx').trans (congrFun ya.2.2 x))⟩
      have wa1 : W.ar (Z.n + 1) = g := by rw [← hW]; exact if_pos rfl
      have wn : W.n = Z.n + 1 ∧ W.sl = Z.sl + N := by
        rw [← hW]
        exact ⟨hYN, by show Y.sl + N = _; rw [yn.2]⟩
      have kW : W.k l = 18 := (wk l hl).trans kz
      have vn : v ≠ Z.n + 1 := nz v (by rw [kv]; exact hv0)
      refine w_bnd (w_stK wk1 ⟨i_nneg (by omega), by rw [i_clamp (by omega), wlen1]; exact hNl⟩ (by rw [wk v vn, kv]; exact hv) (w_bnd (w_putI kW (w_pur (w_purZ (Or.inr rfl) ⟨rfl, ?_⟩)))))
      rw [em, i_clamp (by omega), i_add1]
      have eg : gcap (M.cap l) = N := by rw [← hcap2]; exact hN
      rw [eg]
      refine Pic_upd (own' := up1 own (Z.n + 1) l) h h6 (by rw [ho.1]; decide) (by rw [ho.1]; decide) ⟨?_, ?_⟩ rfl rfl rfl rfl rfl rfl rfl rfl (fun c hc => up1_ne _ _ _ hc) (fun _ _ => rfl) (fun c hc => up1_ne _ _ _ hc) (fun t c hc => (up2_ny _ _ _ _ hc).trans ((wi t c).trans (yi t c hc))) (fun t c _ => wl t c) (fun t c hc => wr t c hc) (fun x hx => ⟨wk x (nz x hx), wlen x (nz x hx)⟩) (fun x hx => Or.inl ⟨(wa x (nz x hx)).1, (wa x (nz x hx)).2.1, ?_⟩) (fun x hx => up1_ne _ _ _ (nz x hx)) (fun c hc => ?_) ?_
      · show W.n = M.n + 1
        rw [wn.1, h.1.1]
      · show W.sl = M.sl + N
        rw [wn.2, h.1.2]
      · exact (funext fun y => up2_nx _ _ _ _ (nz x hx)).trans (wa x (nz x hx)).2.2
      · have hc : W.n < c := hc
        show W.k c = 0
        rw [wk c (by omega)]
        exact h.2.2.2.2.2.2.1 c (by omega)
      · have r2 : ((W.setar (Z.n + 1) (M.ls l).length v).seti (128 * 17 + 2) l (Int32.ofNat ((M.ls l).length + 1))).r 2177 l = Z.n + 1 := wr1
        have ls2 : (((M.setls l (M.ls l ++ [v])).setcap l (N + 1)).addn 1 N).ls l = M.ls l ++ [v] := up1_eq _ _ _
        have cp2 : (((M.setls l (M.ls l ++ [v])).setcap l (N + 1)).addn 1 N).cap l = N + 1 := up1_eq _ _ _
        refine ⟨fun _ => Or.inr ⟨?_, ?_, ?_, ?_, ?_, ?_, ?_, ?_⟩, fun q => ?_, fun q => ?_⟩
        · rw [cp2]; omega
        · rw [ls2, List.length_append]
          exact up2_eq _ _ _ _
        · rw [ls2, r2, List.length_append]
          show (M.ls l).length + 1 ≤ W.len (Z.n + 1)
          rw [wlen1]; omega
        · rw [r2, cp2]
          show W.len (Z.n + 1) + 1 = N + 1
          rw [wlen1]
        · rw [r2]
          left
          refine ⟨wk1, up1_eq _ _ _, ?_⟩
          show 1 ≤ W.len (Z.n + 1)
          rw [wlen1]; omega
        · rw [r2]
          show M.k (Z.n + 1) = 0
          by_cases q : M.k (Z.n + 1) = 0
          · exact q
          · rw [← h.2.2.1 _ q]; exact hf1
        · rw [r2, ls2]
          intro j hj
          rw [List.length_append] at hj
          have hj : j < (M.ls l).length + 1 := hj
          by_cases ej : j = (M.ls l).length
          · subst ej
            rw [List.getElem_append_right (Nat.le_refl _)]
            simp only [Nat.sub_self, List.getElem_cons_zero]
            exact up2_eq _ _ _ _
          · have hj2 : j < (M.ls l).length := by omega
            rw [List.getElem_append_left hj2, ← p6 j hj2]
            show up2 W.ar _ _ _ _ _ = _
            rw [up2, if_neg (fun q => ej q.2), wa1, hg j hj2, yr, ya.2.2]
        · rw [ls2]
          intro x hx
          rcases List.mem_append.mp hx with hx | hx
          · exact p7 x hx
          · rw [List.mem_singleton.mp hx]; exact hv
        · have q : M.k l = 19 := q
          rw [ho.1] at q; omega
        · have q : M.k l = 20 ∨ M.k l = 40 := q
          rw [ho.1] at q; omega
