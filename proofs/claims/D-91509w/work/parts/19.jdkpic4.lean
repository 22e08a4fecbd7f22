set_option maxRecDepth 100000
theorem w_lat {Z : Mem} {c : Nat} {Q : Int32 → Mem → Prop} (kz : Z.k c = 19) (h0 : Z.i 2305 c = 0) (hq : Q 1 Z) : wp (f_J9_isLatin1 c) Z Q := by
  unfold f_J9_isLatin1
  exact w_jn (w_jn (w_f (by decide) (w_bnd (w_getI kz (w_f (fun z => z h0) (w_purZ (Or.inr rfl) hq))))))
theorem ps_append (c : Nat) (ch : Int32) : ∀ M Z rr M', Pic M Z → (P_append c ch).run M = some (rr, M') → ∃ Z', (f_J10_append c ch).run Z = some (rr, Z') ∧ Pic M' Z' := by
  intro M Z rr M' h hf
  obtain ⟨⟨ho, hch⟩, rfl, rfl⟩ := wrm_inv hf
  obtain ⟨own, h6⟩ := h.2.2.2.2.2.1
  obtain ⟨p1, p2, p3, p4, p5, p6, p7, p8, p9⟩ := pb_of h6 ho
  have hcap := ho.2.2
  have kz := pic_k h ho.1 (by decide)
  have hf1 : Z.k (Z.n + 1) = 0 := h.2.2.2.2.2.2.1 _ (Nat.lt_succ_self _)
  have hl : c ≠ Z.n + 1 := fun e => by rw [e, hf1] at kz; omega
  have nz : ∀ c, Z.k c ≠ 0 → c ≠ Z.n + 1 := fun c hc e => by rw [e] at hc; exact hc hf1
  have ec : (Int32.ofNat (M.tx c).length).toNatClampNeg = (M.tx c).length := i_clamp (by omega)
  refine psim_of ?_
  unfold f_J10_append f_J9_append
  refine w_bnd (w_gd kz (w_nt (w_bnd (w_getI kz (w_bnd (w_gd kz (w_nt ?_)))))))
  have e1 : Z.i (128 * 18 + 3) c + 1 = Int32.ofNat ((M.tx c).length + 1) := by
    rw [show Z.i (128 * 18 + 3) c = Int32.ofNat (M.tx c).length from p1]; exact i_add1 _
  rw [e1]
  -- behind the room: the memory Y, whose builder has an array e of length N
  have fin : ∀ (Y : Mem) (own' : Nat → Nat) (e N : Nat), (∀ x, Z.k x ≠ 0 → Y.k x = Z.k x ∧ Y.len x = Z.len x ∧ own' x = own x) → (∀ x, Z.k x ≠ 0 → x ≠ e → Y.ai x = Z.ai x) → Y.al = Z.al ∨ (∀ x, Z.k x ≠ 0 → Y.al x = Z.al x) → (∀ x, Z.k x ≠ 0 → Y.ar x = Z.ar x) → Y.i = Z.i → Y.l = Z.l → (∀ t d, d ≠ c → Y.r t d = Z.r t d) → Y.r 2304 c = e → Y.k e = 52 → Y.len e = N → (M.tx c).length < N → N ≤ 300000 → own' e = c → M.k e = 0 → (Z.k e ≠ 0 → own e = c ∧ Z.k e = 52) →
      (∀ j, j < (M.tx c).length → Y.ai e j = Z.ai (Z.r 2304 c) j) → (∀ j, j < N → fits .byte (.int (Y.ai e j)) = true) → (∀ x, Y.n < x → Y.k x = 0) → (Y.n = (appM M c (btc ch)).n ∧ Y.sl = (appM M c (btc ch)).sl) → N + 1 = (appM M c (btc ch)).cap c →
      wp (bnd (gd 18 c (nt (f_J9_isLatin1 c))) fun v2 => jn (fun (_ : Unit) => (fail : Act Nat)) fun j45 => if v2 = 0 then j45 () else bnd (nt (f_J13_canEncode ch)) fun v3 => if v3 = 0 then j45 () else bnd (getR 18 0 c) fun v4 => bnd (getI 18 3 c) fun v5 => bnd (putI 18 3 c (v5 + 1)) fun _ => bnd (stI 2 v4 v5 ch.toInt8.toInt32) fun _ => pur c) Y (fun _ M1 => wp (pur c) M1 fun b Z' => b = c ∧ Pic (appM M c (btc ch)) Z') := by
    intro Y own' e N yk yai yal yar yi yl yr yre yke ylen hN hN2 hoe hme hze yte yfit yf yn ycap
    have kY : Y.k c = 19 := (yk c (by rw [kz]; decide)).1.trans kz
    have i5 : Y.i 2305 c = 0 := by rw [yi]; exact p7
    have i7 : Y.i 2307 c = Int32.ofNat (M.tx c).length := by rw [yi]; exact p1
    have hce : c ≠ e := fun q => by rw [← q, kY] at yke; omega
    refine w_bnd (w_gd kY (w_nt (w_lat kY i5 (w_jn (w_f (by decide) (w_bnd (w_nt ?_)))))))
    unfold f_J13_canEncode
    refine w_jn (w_f hch (w_purZ (Or.inr rfl) (w_f (by decide) (w_bnd (w_getR kY (w_bnd (w_getI kY (w_bnd (w_putI kY (w_bnd (w_stI (q := 2) ?_ ?_ (w_pur (w_pur ⟨rfl, ?_⟩)))))))))))))
    · show Y.k (Y.r 2304 c) = 52
      rw [yre]; exact yke
    · rw [show Y.i (128 * 18 + 3) c = Int32.ofNat (M.tx c).length from i7, ec]
      refine ⟨i_nneg (by omega), ?_⟩
      show _ < Y.len (Y.r 2304 c)
      rw [yre, ylen]; exact hN
    · rw [show Y.i (128 * 18 + 3) c = Int32.ofNat (M.tx c).length from i7, ec, i_add1, show Y.r (128 * 18 + 0) c = e from yre]
      have mtx : (appM M c (btc ch)).tx c = M.tx c ++ [btc ch] := by
        unfold appM
        by_cases q : (M.tx c).length + 1 < M.cap c
        · rw [if_pos q]; exact up1_eq _ _ _
        · rw [if_neg q]; exact up1_eq _ _ _
      have mk : ∀ P : Mem → Prop, (P (M.settx c (M.tx c ++ [btc ch]))) → P (((M.settx c (M.tx c ++ [btc ch])).setcap c (2 * M.cap c + 1)).addn 1 (2 * M.cap c)) → P (appM M c (btc ch)) := fun P a b => by
        unfold appM
        by_cases q : (M.tx c).length + 1 < M.cap c
        · rw [if_pos q]; exact a
        · rw [if_neg q]; exact b
      refine Pic_upd (own' := own') h h6 (by rw [ho.1]; decide) (by rw [ho.1]; decide) yn (mk (fun X => X.i = M.i) rfl rfl) (mk (fun X => X.l = M.l) rfl rfl) (mk (fun X => X.r = M.r) rfl rfl) (mk (fun X => X.ai = M.ai) rfl rfl) (mk (fun X => X.al = M.al) rfl rfl) (mk (fun X => X.ar = M.ar) rfl rfl) (mk (fun X => X.k = M.k) rfl rfl) (mk (fun X => X.len = M.len) rfl rfl) (mk (fun X => ∀ d, d ≠ c → X.ls d = M.ls d) (fun _ _ => rfl) (fun _ _ => rfl)) (mk (fun X => ∀ d, d ≠ c → X.tx d = M.tx d) (fun d hd => up1_ne _ _ _ hd) (fun d hd => up1_ne _ _ _ hd)) (mk (fun X => ∀ d, d ≠ c → X.cap d = M.cap d) (fun _ _ => rfl) (fun d hd => up1_ne _ _ _ hd))
        (fun t d hd => (up2_ny _ _ _ _ hd).trans (by rw [yi])) (fun t d _ => congrFun (congrFun yl t) d) (fun t d hd => yr t d hd) (fun x hx => ⟨(yk x hx).1, (yk x hx).2.1⟩) (fun x hx => ?_) (fun x hx => (yk x hx).2.2) yf ?_
      · by_cases ex : x = e
        · right
          rw [ex] at hx ⊢
          exact ⟨(hze hx).1, hme, Or.inl (hze hx).2⟩
        · left
          refine ⟨(funext fun y => up2_nx _ _ _ _ ex).trans (yai x hx ex), ?_, yar x hx⟩
          rcases yal with q | q
          · exact congrFun q x
          · exact q x hx
      · have r2 : ((Y.seti (128 * 18 + 3) c (Int32.ofNat ((M.tx c).length + 1))).setai e (M.tx c).length (narq 2 ch.toInt8.toInt32)).r 2304 c = e := yre
        refine ⟨fun q => ?_, fun _ => Or.inr ⟨?_, ?_, ?_, ?_, ?_, ?_, ?_, ?_, ?_, ?_⟩, fun q => ?_⟩
        · have q : M.k c = 18 := (congrFun (mk (fun X => X.k = M.k) rfl rfl) c).symm.trans q
          rw [ho.1] at q; omega
        · omega
        · rw [mtx, List.length_append]
          exact up2_eq _ _ _ _
        · rw [mtx, r2, List.length_append]
          show (M.tx c).length + 1 ≤ Y.len e
          omega
        · rw [r2]
          show Y.len e + 1 = _
          rw [ylen]; exact ycap
        · rw [r2]; exact yke
        · rw [r2]; exact hoe
        · rw [r2, (mk (fun X => X.k = M.k) rfl rfl : (appM M c (btc ch)).k = M.k)]; exact hme
        · exact (up2_nx Y.i (128 * 18 + 3) c (Int32.ofNat ((M.tx c).length + 1)) (x := 2305) (y := c) (by decide)).trans i5
        · rw [r2, mtx]
          intro j hj
          rw [List.length_append] at hj
          have hj : j < (M.tx c).length + 1 := hj
          by_cases ej : j = (M.tx c).length
          · subst ej
            rw [List.getElem_append_right (Nat.le_refl _)]
            simp only [Nat.sub_self, List.getElem_cons_zero]
            exact up2_eq _ _ _ _
          · have hj2 : j < (M.tx c).length := by omega
            rw [List.getElem_append_left hj2, ← p8 j hj2, ← yte j hj2]
            show up2 Y.ai _ _ _ _ _ = _
            rw [up2, if_neg (fun q => ej q.2)]
        · rw [r2]
          intro j hj
          have hj : j < Y.len e := hj
          show fits .byte (.int (up2 Y.ai e (M.tx c).length _ e j)) = true
          unfold up2
          by_cases ej : j = (M.tx c).length
          · rw [if_pos ⟨rfl, ej⟩]; exact fits_bt ch
          · rw [if_neg (fun q => ej q.2)]; exact yfit j (by omega)
        · have q : M.k c = 20 ∨ M.k c = 40 := by
            rw [show (appM M c (btc ch)).k = M.k from mk (fun X => X.k = M.k) rfl rfl] at q; exact q
          rw [ho.1] at q; omega
  refine w_ensure kz rfl (by omega) p4 p7 p2 p9 hf1 (fun hlt => ?_) (fun heq g hg hg0 => ?_)
  · have em : appM M c (btc ch) = M.settx c (M.tx c ++ [btc ch]) := if_pos (by omega)
    refine fin Z own (Z.r 2304 c) (Z.len (Z.r 2304 c)) (fun _ _ => ⟨rfl, rfl, rfl⟩) (fun _ _ _ => rfl) (Or.inl rfl) (fun _ _ => rfl) rfl rfl (fun _ _ _ => rfl) rfl p4 rfl hlt (by omega) p5 p6 (fun _ => ⟨p5, p4⟩) (fun _ _ => rfl) p9 h.2.2.2.2.2.2.1 (by rw [em]; exact h.1) (by rw [em]; exact p3)
  · have em : appM M c (btc ch) = ((M.settx c (M.tx c ++ [btc ch])).setcap c (2 * M.cap c + 1)).addn 1 (2 * M.cap c) := if_neg (by omega)
    have hN : 2 * Z.len (Z.r 2304 c) + 2 = 2 * M.cap c := by omega
    refine fin _ (up1 own (Z.n + 1) c) (Z.n + 1) (2 * M.cap c) (fun x hx => ⟨up1_ne _ _ _ (nz x hx), up1_ne _ _ _ (nz x hx), up1_ne _ _ _ (nz x hx)⟩) (fun x hx hx2 => (if_neg hx2).trans (funext fun _ => if_neg hx2)) (Or.inr (fun x hx => funext fun _ => if_neg (nz x hx))) (fun x hx => funext fun _ => if_neg (nz x hx)) rfl rfl (fun t d hd => up2_ny _ _ _ _ hd) (up2_eq _ _ _ _) (up1_eq _ _ _) (by rw [← hN]; exact up1_eq _ _ _) (by omega) (by omega) (up1_eq _ _ _) ?_ (fun q => absurd hf1 q) (fun j hj => ?_) (fun j hj => ?_) (fun x hx => ?_) ?_ ?_
    · by_cases q : M.k (Z.n + 1) = 0
      · exact q
      · rw [← h.2.2.1 _ q]; exact hf1
    · rw [← hg j (by omega)]
      exact congrFun (if_pos rfl) j
    · have e9 : (((Z.newa 2 (2 * Z.len (Z.r 2304 c) + 2)).setaia (Z.n + 1) g).setr 2304 c (Z.n + 1)).ai (Z.n + 1) = g := if_pos rfl
      rw [e9]
      by_cases q : j < Z.len (Z.r 2304 c)
      · rw [hg j q]; exact p9 j q
      · rw [hg0 j (by omega)]; exact fits_b0
    · have hx : Z.n + 1 < x := hx
      exact (up1_ne _ _ _ (by omega)).trans (h.2.2.2.2.2.2.1 x (by omega))
    · rw [em]
      refine ⟨?_, ?_⟩
      · show Z.n + 1 = M.n + 1
        rw [h.1.1]
      · show Z.sl + (2 * Z.len (Z.r 2304 c) + 2) = M.sl + 2 * M.cap c
        rw [h.1.2, hN]
    · rw [em]
      exact (up1_eq _ _ _).symm
