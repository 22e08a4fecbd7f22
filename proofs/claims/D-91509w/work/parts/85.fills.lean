set_option maxRecDepth 100000
/-! ===== what was made goes into the stores ===== -/
def filN (so : So) (gas most : Int32) : Int32 := mn gas (mn most (so.room - so.grams))
def filF (foul n gas : Int32) : Int32 := if n = 0 then 0 else ((foul.toInt64 * n.toInt64) / gas.toInt64).toInt32
theorem pos_ne {n : Int32} (h : 0 ≤ n.toInt) (h0 : ¬ n = 0) : 0 < n.toInt := by
  rcases Int.lt_or_eq_of_le h with z | z
  · exact z
  · exact absurd (Int32.toInt_inj.mp (show n.toInt = (0 : Int32).toInt from z.symm)) h0
theorem filD_eq {so : So} {h gas foul most : Int32} (hn : 0 ≤ (filN so gas most).toInt) (hg : (filN so gas most).toInt ≤ gas.toInt) : filD so h gas foul most = (addSo so h (filN so gas most) (filF foul (filN so gas most) gas), gas - filN so gas most, foul - filF foul (filN so gas most) gas) := by
  unfold filD
  rw [show mn gas (mn most (so.room - so.grams)) = filN so gas most from rfl]
  generalize filN so gas most = n at *
  by_cases c : n = 0
  · rw [if_neg (by rw [c]; decide)]
    unfold filF
    rw [if_pos c, c, Int32.sub_zero, Int32.sub_zero]
    have e : addSo so h 0 0 = so := by
      unfold addSo addL
      rw [if_pos rfl, Int32.add_zero]; rfl
    rw [e]
  · have np := pos_ne hn c
    have np2 : (0 : Int32) < n := Int32.lt_iff_toInt_lt.mpr np
    rw [if_pos np2]
    have ef : prt foul n gas = filF foul n gas := by
      unfold prt filF
      rw [if_neg c]
      by_cases q : n = gas
      · rw [if_pos q, q]
        exact (fdv (by omega)).symm
      · rw [if_neg q]
    rw [ef]
theorem filN_i {now : Nat} {so : So} {gas most : Int32} (h : soOk now so) (g0 : 0 ≤ gas.toInt) (m0 : 0 ≤ most.toInt) : 0 ≤ (filN so gas most).toInt ∧ (filN so gas most).toInt ≤ gas.toInt ∧ (filN so gas most).toInt ≤ so.room.toInt - so.grams.toInt := by
  have nn := h.nn
  have h3 := h.2.2.1
  have h4 := h.2.2.2.1
  have e : (so.room - so.grams).toInt = so.room.toInt - so.grams.toInt := toInt_sub' (by omega) (by omega)
  unfold filN
  rw [mn_i, mn_i, e]
  split <;> split <;> omega
theorem filN_t {now : Nat} {so : So} {gas : Int32} (h : soOk now so) : filN so gas 1000000 = mn gas (so.room - so.grams) := by
  have nn := h.nn
  have h3 := h.2.2.1
  have h4 := h.2.2.2.1
  have e : (so.room - so.grams).toInt = so.room.toInt - so.grams.toInt := toInt_sub' (by omega) (by omega)
  have e1 : (1000000 : Int32).toInt = 1000000 := rfl
  unfold filN
  congr 1
  apply Int32.toInt_inj.mp
  rw [mn_i, e, e1]
  split <;> omega
theorem filD_ok {now : Nat} {so : So} {gas foul most : Int32} (h : soOk now so) (hn : now ≤ 4999) (g0 : 0 ≤ gas.toInt) (m0 : 0 ≤ most.toInt) : soOk now (filD so (Int32.ofNat (now / 6)) gas foul most).1 ∧ 0 ≤ (filD so (Int32.ofNat (now / 6)) gas foul most).2.1.toInt ∧ (filD so (Int32.ofNat (now / 6)) gas foul most).2.1.toInt ≤ gas.toInt := by
  obtain ⟨n0, n1, n2⟩ := filN_i (most := most) h g0 m0
  rw [filD_eq n0 n1]
  have e : (gas - filN so gas most).toInt = gas.toInt - (filN so gas most).toInt := by
    have := gas.toInt_lt
    exact toInt_sub' (by omega) (by omega)
  refine ⟨addSo_ok h hn n0 n2, ?_, ?_⟩
  · simp only [e]; omega
  · simp only [e]; omega
def fiTi (t : Nat) : Prop := t = 1025 ∨ t = 1026 ∨ t = 388 ∨ t = 35 ∨ t = 36
def FiF (x s : Nat) (M M' : Mem) : Prop := Ag fiTi no (fun c => c = x + 14 + 2 * s) no M M' ∧ M'.n ≤ M.n + 2 ∧ M'.sl + 4 * (M.cap (x + 14) + M.cap (x + 16)) ≤ M.sl + 63 + 4 * (M'.cap (x + 14) + M'.cap (x + 16))
theorem sup_self (so : Nat → So) (s : Nat) : sup so s (so s) = so := by
  funext j
  unfold sup
  by_cases c : j = s
  · rw [if_pos c, c]
  · rw [if_neg c]
section
variable {x : Nat} {M : Mem}
/-- gas and foul of the ten at hand change -/
theorem IX.gf {M' : Mem} {d : Dt} (hX : IX x M d) (hB : Bas x M) (hA : Ag (fun t => t = 35 ∨ t = 36) no no no M M') : IX x M' d := by
  have hf := hB.2.1
  have hn := hB.1.top
  obtain ⟨h1, h2, h3, h4, h5, h6, h7, h8⟩ := hX
  exact ⟨h1.ag hf hn hA (fun t z => by omega) (fun c z => z.elim), h2.ag hf hn hA (fun t z => by omega) (fun t z => z.elim) (fun c z => z.elim), h3.ag hf hn hA (fun t z => by omega) (fun t z => z.elim) (fun c z => z.elim), h4.ag hf hn hA (fun t z => by omega) (fun c z => z.elim), h5.ag hf hn hA (fun t z => by omega) (fun c z => z.elim), h6.ag hf hn hA (fun t z => by omega) (fun c z => z.elim), h7.ag hn hA (fun t z => by omega) (fun t z => z.elim) (fun c z => z.elim), h8.ag hf hn hA (fun t z => by omega) (fun c z => z.elim) (fun c z => z.elim)⟩
theorem x_fills {s : Nat} {d : Dt} {gas foul most : Int32} (hB : Bas x M) (hX : IX x M d) (hs : s < 2) (ho : soOk d.now (d.so s)) (hnow : d.now ≤ 4999) (g0 : 0 ≤ gas.toInt) (m0 : 0 ≤ most.toInt) (h35 : M.i 35 x = gas) (h36 : M.i 36 x = foul) {Q : Unit → Mem → Prop}
    (hq : ∀ M', Bas x M' → FiF x s M M' → IX x M' (d.set_so (sup d.so s (filD (d.so s) (Int32.ofNat (d.now / 6)) gas foul most).1)) → M'.i 35 x = (filD (d.so s) (Int32.ofNat (d.now / 6)) gas foul most).2.1 → M'.i 36 x = (filD (d.so s) (Int32.ofNat (d.now / 6)) gas foul most).2.2 → Q () M') : wp (f_X0_fills x (x + 13 + 2 * s) most) M Q := by
  have hL := hB.1
  have top := hL.top
  obtain ⟨s1, s2, s3⟩ := storeL hL hs
  obtain ⟨a1, a2, a3, a4, a5, a6, a7, a8, a9⟩ := hX.2.2.1.at hs
  have h0 : M.i (128 * 0 + 0) x = Int32.ofNat d.now := hX.2.2.2.2.2.2.1.1
  obtain ⟨n0, n1, n2⟩ := filN_i (most := most) ho g0 m0
  have hll := ho.1.len
  unfold f_X0_fills
  refine w_bnd (w_getIv hL.k0 h35 (w_bnd (w_getIv s1 a4 (w_bnd (w_getIv s1 a7 ?_)))))
  rw [show mn gas (mn most ((d.so s).room - (d.so s).grams)) = filN (d.so s) gas most from rfl]
  unfold filD at hq
  rw [show mn gas (mn most ((d.so s).room - (d.so s).grams)) = filN (d.so s) gas most from rfl] at hq
  generalize filN (d.so s) gas most = n at *
  by_cases c : 0 < n
  · rw [if_pos c] at hq
    have np : 0 < n.toInt := Int32.lt_iff_toInt_lt.mp c
    refine w_t c (w_bnd (w_getIv hL.k0 h35 (w_jn ?_)))
    have rest : wp (bnd (getI 0 0 x) fun v6 => bnd (gd 3 (x + 13 + 2 * s) (nt (f_X3_adds (x + 13 + 2 * s) (v6 / 6) n (prt foul n gas)))) fun _ => bnd (getI 0 35 x) fun v7 => bnd (putI 0 35 x (v7 - n)) fun _ => bnd (getI 0 36 x) fun v8 => bnd (putI 0 36 x (v8 - prt foul n gas)) fun _ => pur ()) M Q := by
      refine w_bnd (w_getIv hL.k0 h0 (w_bnd (w_gd s1 (w_nt ?_))))
      rw [i_d6 (by omega)]
      refine x_adds hB hX hs (fun z => by rw [z] at np; exact absurd np (by decide)) (by omega) (fun M1 hB1 hF hX1 => ?_)
      have hL1 := hB1.1
      have g35 : M1.i (128 * 0 + 35) x = gas := (hF.1.2.2.2.1 35 x (by omega) (by unfold tkTi; omega)).trans h35
      have g36 : M1.i (128 * 0 + 36) x = foul := (hF.1.2.2.2.1 36 x (by omega) (by unfold tkTi; omega)).trans h36
      refine w_bnd (w_getIv hL1.k0 g35 (w_bnd (w_putI hL1.k0 (w_bnd (w_getIv (v := foul) (kI hL1.k0) ((seti_ne _ _ _ _ (by decide)).trans g36) (w_bnd (w_putI (kI hL1.k0) (w_pur ?_))))))))
      have fa : Ag (fun t => t = 35 ∨ t = 36) no no no M1 ((M1.seti (128 * 0 + 35) x (gas - n)).seti (128 * 0 + 36) x (foul - prt foul n gas)) := ((Ag.rf (ti := fun t => t = 35 ∨ t = 36)).i (Or.inl (Or.inl rfl))).i (Or.inl (Or.inr rfl))
      have fb : Ag fiTi no (fun c => c = x + 14 + 2 * s) no M ((M1.seti (128 * 0 + 35) x (gas - n)).seti (128 * 0 + 36) x (foul - prt foul n gas)) := ((hF.1.mono (ti' := fiTi) (fun t z => by unfold tkTi at z; unfold fiTi; omega) (fun _ z => z) (fun _ z => z) (fun _ z => z)).i (Or.inl (by unfold fiTi; omega))).i (Or.inl (by unfold fiTi; omega))
      have e35 : ((M1.seti (128 * 0 + 35) x (gas - n)).seti (128 * 0 + 36) x (foul - prt foul n gas)).i 35 x = gas - n := (seti_ne _ _ _ _ (by decide)).trans (seti_eq _ _ _ _)
      have e36 : ((M1.seti (128 * 0 + 35) x (gas - n)).seti (128 * 0 + 36) x (foul - prt foul n gas)).i 36 x = foul - prt foul n gas := seti_eq _ _ _ _
      have ff : ((M1.seti (128 * 0 + 35) x (gas - n)).seti (128 * 0 + 36) x (foul - prt foul n gas)).k = M1.k ∧ ((M1.seti (128 * 0 + 35) x (gas - n)).seti (128 * 0 + 36) x (foul - prt foul n gas)).ls = M1.ls ∧ ((M1.seti (128 * 0 + 35) x (gas - n)).seti (128 * 0 + 36) x (foul - prt foul n gas)).cap = M1.cap ∧ ((M1.seti (128 * 0 + 35) x (gas - n)).seti (128 * 0 + 36) x (foul - prt foul n gas)).n = M1.n ∧ ((M1.seti (128 * 0 + 35) x (gas - n)).seti (128 * 0 + 36) x (foul - prt foul n gas)).sl = M1.sl := ⟨rfl, rfl, rfl, rfl, rfl⟩
      revert fa fb e35 e36 ff
      generalize (M1.seti (128 * 0 + 35) x (gas - n)).seti (128 * 0 + 36) x (foul - prt foul n gas) = M2
      intro fa fb e35 e36 ff
      obtain ⟨f1, f2, f3, f4, f5⟩ := ff
      have hB2 : Bas x M2 := ⟨fa.lay hL1 (fun t z => by omega), hB1.2.1.same f1 f4, hB1.2.2.1.same f1 f2 f3, hB1.2.2.2.ag hB1.2.1 fa⟩
      exact hq M2 hB2 ⟨fb, by rw [f4]; exact hF.2.1, by rw [f5, f3]; exact hF.2.2⟩ (hX1.gf hB1 fa) e35 e36
    refine w_ite (fun z => ?_) (fun z => ?_)
    · refine w_bnd (w_getIv hL.k0 h36 (w_bnd (w_getIv hL.k0 h35 (w_nzl (l64_0 (by omega)) ?_))))
      have ep : prt foul n gas = ((foul.toInt64 * n.toInt64) / gas.toInt64).toInt32 := by unfold prt; rw [if_neg z]
      rw [ep] at rest
      exact rest
    · rw [Decidable.not_not] at z
      refine w_bnd (w_getIv hL.k0 h36 ?_)
      have ep : prt foul n gas = foul := by unfold prt; rw [if_pos z]
      rw [ep] at rest
      exact rest
  · rw [if_neg c] at hq
    refine w_f c (w_pur (hq M hB ⟨Ag.rf, by omega, by omega⟩ ?_ h35 h36))
    rw [show (sup d.so s ((d.so s, gas, foul) : So × Int32 × Int32).1) = d.so from sup_self d.so s]
    exact hX
/-- both stores: what they hold then, what goes off -/
def fil2 (so : Nat → So) (now : Nat) (gas foul : Int32) : (Nat → So) × Int32 × Int32 :=
  (sup (sup so 0 (filD (so 0) (Int32.ofNat (now / 6)) gas foul 1000000).1) 1 (filD (so 1) (Int32.ofNat (now / 6)) (filD (so 0) (Int32.ofNat (now / 6)) gas foul 1000000).2.1 (filD (so 0) (Int32.ofNat (now / 6)) gas foul 1000000).2.2 (so 1).breath).1,
   (filD (so 1) (Int32.ofNat (now / 6)) (filD (so 0) (Int32.ofNat (now / 6)) gas foul 1000000).2.1 (filD (so 0) (Int32.ofNat (now / 6)) gas foul 1000000).2.2 (so 1).breath).2.1,
   (filD (so 1) (Int32.ofNat (now / 6)) (filD (so 0) (Int32.ofNat (now / 6)) gas foul 1000000).2.1 (filD (so 0) (Int32.ofNat (now / 6)) gas foul 1000000).2.2 (so 1).breath).2.2)
theorem m_stores {S : MS} {so : Nat → So} {now : Nat} {gas foul : Int32} (hR : RG S so) (o0 : soOk now (so 0)) (o1 : soOk now (so 1)) (hnow : now ≤ 4999) (g0 : 0 ≤ gas.toInt) (h0 : S.i 0 = Int32.ofNat now) (h44 : S.i 44 = gas) (h45 : S.i 45 = foul) {Q : Unit → MS → Prop}
    (hq : ∀ S', Sam no puA (fun o => o = 14) S S' → RG S' (fil2 so now gas foul).1 → (∀ i, S'.b 14 i = if i = 5 then S.b 14 5 + (fil2 so now gas foul).2.1.toInt64 else S.b 14 i) → Q () S') : wm x (f_X4_stores (x + 28)) S Q := by
  obtain ⟨r0, r1⟩ := hR
  obtain ⟨n0, n1, n2⟩ := filN_i (most := 1000000) o0 g0 (by decide)
  have e0 := filD_eq (h := Int32.ofNat (now / 6)) (foul := foul) n0 n1
  have et := filN_t (gas := gas) o0
  have eg : (gas - filN (so 0) gas 1000000).toInt = gas.toInt - (filN (so 0) gas 1000000).toInt := by
    have := gas.toInt_lt
    exact toInt_sub' (by omega) (by omega)
  obtain ⟨m0, m1, m2⟩ := filN_i (gas := gas - filN (so 0) gas 1000000) (most := (so 1).breath) o1 (by omega) o1.2.2.2.2.2.2.1
  have e1 := filD_eq (h := Int32.ofNat (now / 6)) (foul := foul - filF foul (filN (so 0) gas 1000000) gas) m0 m1
  unfold fil2 at hq
  rw [e0] at hq
  simp only at hq
  rw [e1] at hq
  simp only at hq
  have ec : ∀ g : Int32, filN (so 1) g (so 1).breath = mn g (mn ((so 1).room - (so 1).grams) (so 1).breath) := fun g => by
    unfold filN
    rw [show mn (so 1).breath ((so 1).room - (so 1).grams) = mn ((so 1).room - (so 1).grams) (so 1).breath from mn_comm]
  unfold f_X4_stores
  refine m_bnd (m_getI (by decide) (m_bnd (m_getRt rfl (m_bnd (m_ldIt (i := 0) rfl (by decide) (m_bnd (m_getRt rfl (m_bnd (m_ldIt (i := 0) rfl (by decide) ?_)))))))))
  rw [h44, r0.1, r0.2.2.2.1, ← et]
  generalize filN (so 0) gas 1000000 = a at *
  -- behind the share of foul ones
  have go : wm x (bnd (gd 4 (x + 28) (nt (f_X4_puts (x + 28) (0 : Int32) a (filF foul a gas)))) fun _ => bnd (getI 4 44 (x + 28)) fun v7 => bnd (getI 4 45 (x + 28)) fun v8 => bnd (getR 4 20 (x + 28)) fun v9 => bnd (ldI 0 v9 1) fun v10 => bnd (getR 4 23 (x + 28)) fun v11 => bnd (ldI 0 v11 1) fun v12 => bnd (getR 4 22 (x + 28)) fun v13 => bnd (ldI 0 v13 1) fun v14 => jn (fun (v15 : Int32) => bnd (gd 4 (x + 28) (nt (f_X4_puts (x + 28) (1 : Int32) (mn (v7 - a) (mn (v10 - v12) v14)) v15))) fun _ => bnd (getR 4 17 (x + 28)) fun v16 => bnd (ldL 1 v16 5) fun v17 => bnd (stL 1 v16 5 (v17 + (((v7 - a) - (mn (v7 - a) (mn (v10 - v12) v14))).toInt64))) fun _ => pur ()) fun j119 => if ¬ (mn (v7 - a) (mn (v10 - v12) v14)) = 0 then nzl ((v7 - a).toInt64) <| j119 (((((v8 - filF foul a gas).toInt64) * ((mn (v7 - a) (mn (v10 - v12) v14)).toInt64)) / ((v7 - a).toInt64)).toInt32) else j119 0) S Q := by
    refine m_bnd (m_gd (m_nt (m_puts (s := 0) (by decide) r0 o0.1 hnow h0 (fun S1 A1 F1 R1 => ?_))))
    have r1' := r1.oth (s := 0) (by decide) (by decide) (by decide) F1
    refine m_bnd (m_getI (by decide) (m_bnd (m_getI (by decide) (m_bnd (m_getRt rfl (m_bnd (m_ldIt (i := 1) rfl (by decide) (m_bnd (m_getRt rfl (m_bnd (m_ldIt (i := 1) rfl (by decide) (m_bnd (m_getRt rfl (m_bnd (m_ldIt (i := 1) rfl (by decide) (m_jn ?_))))))))))))))))
    rw [A1.1 44 (fun z => z), h44, A1.1 45 (fun z => z), h45, r1'.1, r1'.2.2.2.1, r1'.2.2.1, ← ec]
    generalize filN (so 1) (gas - a) (so 1).breath = b at *
    have go2 : wm x (bnd (gd 4 (x + 28) (nt (f_X4_puts (x + 28) (1 : Int32) b (filF (foul - filF foul a gas) b (gas - a))))) fun _ => bnd (getR 4 17 (x + 28)) fun v16 => bnd (ldL 1 v16 5) fun v17 => bnd (stL 1 v16 5 (v17 + (((gas - a) - b).toInt64))) fun _ => pur ()) S1 Q := by
      refine m_bnd (m_gd (m_nt (m_puts (s := 1) (by decide) r1' o1.1 hnow (by rw [A1.1 0 (fun z => z)]; exact h0) (fun S2 A2 F2 R2 => ?_))))
      have R1' := R1.oth (s := 1) (by decide) (by decide) (by decide) F2
      have eb : S2.b = S.b := funext fun o => (A2.2.2 o (fun z => z)).trans (A1.2.2 o (fun z => z))
      refine m_bnd (m_getRt rfl (m_bnd (m_ldLt (i := 5) rfl (by decide) (m_bnd (m_stLt (i := 5) rfl (by decide) (m_pur ?_))))))
      refine hq _ (((A1.tr A2).mono (fun _ z => z) (fun _ z => z) (fun _ z => z.elim)).sb rfl) ?_ (fun i => ?_)
      · refine RG.of (fun j hj => ?_)
        rcases (by omega : j = 0 ∨ j = 1) with rfl | rfl
        · exact RG1.fr (S := S2) R1' (fun _ _ _ => rfl) (sb_no _ _ _ _ (by decide)) (sb_no _ _ _ _ (by decide))
        · exact RG1.fr (S := S2) R2 (fun _ _ _ => rfl) (sb_no _ _ _ _ (by decide)) (sb_no _ _ _ _ (by decide))
      · rw [sB_at, eb]
        by_cases q : i = 5
        · rw [if_pos ⟨rfl, q⟩, if_pos q]
        · rw [if_neg (fun z => q z.2), if_neg q]
    refine m_ite (fun z => ?_) (fun z => ?_)
    · have bp := pos_ne m0 z
      refine m_nzl (l64_0 (by omega)) ?_
      have ef : filF (foul - filF foul a gas) b (gas - a) = (((foul - filF foul a gas).toInt64 * b.toInt64) / (gas - a).toInt64).toInt32 := by
        show (if b = 0 then 0 else _) = _
        rw [if_neg z]
      rw [ef] at go2
      exact go2
    · rw [Decidable.not_not] at z
      have ef : filF (foul - filF foul a gas) b (gas - a) = 0 := by
        show (if b = 0 then 0 else _) = _
        rw [if_pos z]
      rw [ef] at go2
      exact go2
  refine m_jn (m_ite (fun z => ?_) (fun z => ?_))
  · have ap := pos_ne n0 z
    refine m_bnd (m_getI (by decide) (m_bnd (m_getI (by decide) ?_)))
    rw [h44, h45]
    refine m_nzl (l64_0 (by omega)) ?_
    have ef : filF foul a gas = ((foul.toInt64 * a.toInt64) / gas.toInt64).toInt32 := by unfold filF; rw [if_neg z]
    rw [ef] at go
    exact go
  · rw [Decidable.not_not] at z
    have ef : filF foul a gas = 0 := by unfold filF; rw [if_pos z]
    rw [ef] at go
    exact go
end
