set_option maxRecDepth 100000
/-! ===== numbers, one by one ===== -/
section
variable {x : Nat} {M : Mem} {d : Dt}
theorem XN.l21 {v : Int64} (h : XN x M d) : XN x (M.setl (128 * 0 + 21) x v) (d.set_blew v) := by
  obtain ⟨b1, b2, b3, ⟨c1, c2, c3, c4, c5, c6, c7, c8, c9⟩, b5, b6, b7, b8⟩ := h
  exact ⟨b1, b2, b3, ⟨setl_eq _ _ _ _, (setl_ne _ _ _ _ (by decide)).trans c2, (setl_ne _ _ _ _ (by decide)).trans c3, (setl_ne _ _ _ _ (by decide)).trans c4, (setl_ne _ _ _ _ (by decide)).trans c5, (setl_ne _ _ _ _ (by decide)).trans c6, (setl_ne _ _ _ _ (by decide)).trans c7, (setl_ne _ _ _ _ (by decide)).trans c8, (setl_ne _ _ _ _ (by decide)).trans c9⟩, b5, b6, b7, b8⟩
theorem XN.l22 {v : Int64} (h : XN x M d) : XN x (M.setl (128 * 0 + 22) x v) (d.set_taken v) := by
  obtain ⟨b1, b2, b3, ⟨c1, c2, c3, c4, c5, c6, c7, c8, c9⟩, b5, b6, b7, b8⟩ := h
  exact ⟨b1, b2, b3, ⟨(setl_ne _ _ _ _ (by decide)).trans c1, setl_eq _ _ _ _, (setl_ne _ _ _ _ (by decide)).trans c3, (setl_ne _ _ _ _ (by decide)).trans c4, (setl_ne _ _ _ _ (by decide)).trans c5, (setl_ne _ _ _ _ (by decide)).trans c6, (setl_ne _ _ _ _ (by decide)).trans c7, (setl_ne _ _ _ _ (by decide)).trans c8, (setl_ne _ _ _ _ (by decide)).trans c9⟩, b5, b6, b7, b8⟩
theorem XN.l23 {v : Int64} (h : XN x M d) : XN x (M.setl (128 * 0 + 23) x v) (d.set_sold v) := by
  obtain ⟨b1, b2, b3, ⟨c1, c2, c3, c4, c5, c6, c7, c8, c9⟩, b5, b6, b7, b8⟩ := h
  exact ⟨b1, b2, b3, ⟨(setl_ne _ _ _ _ (by decide)).trans c1, (setl_ne _ _ _ _ (by decide)).trans c2, setl_eq _ _ _ _, (setl_ne _ _ _ _ (by decide)).trans c4, (setl_ne _ _ _ _ (by decide)).trans c5, (setl_ne _ _ _ _ (by decide)).trans c6, (setl_ne _ _ _ _ (by decide)).trans c7, (setl_ne _ _ _ _ (by decide)).trans c8, (setl_ne _ _ _ _ (by decide)).trans c9⟩, b5, b6, b7, b8⟩
theorem XN.l24 {v : Int64} (h : XN x M d) : XN x (M.setl (128 * 0 + 24) x v) (d.set_unsold v) := by
  obtain ⟨b1, b2, b3, ⟨c1, c2, c3, c4, c5, c6, c7, c8, c9⟩, b5, b6, b7, b8⟩ := h
  exact ⟨b1, b2, b3, ⟨(setl_ne _ _ _ _ (by decide)).trans c1, (setl_ne _ _ _ _ (by decide)).trans c2, (setl_ne _ _ _ _ (by decide)).trans c3, setl_eq _ _ _ _, (setl_ne _ _ _ _ (by decide)).trans c5, (setl_ne _ _ _ _ (by decide)).trans c6, (setl_ne _ _ _ _ (by decide)).trans c7, (setl_ne _ _ _ _ (by decide)).trans c8, (setl_ne _ _ _ _ (by decide)).trans c9⟩, b5, b6, b7, b8⟩
theorem XN.l25 {v : Int64} (h : XN x M d) : XN x (M.setl (128 * 0 + 25) x v) (d.set_made v) := by
  obtain ⟨b1, b2, b3, ⟨c1, c2, c3, c4, c5, c6, c7, c8, c9⟩, b5, b6, b7, b8⟩ := h
  exact ⟨b1, b2, b3, ⟨(setl_ne _ _ _ _ (by decide)).trans c1, (setl_ne _ _ _ _ (by decide)).trans c2, (setl_ne _ _ _ _ (by decide)).trans c3, (setl_ne _ _ _ _ (by decide)).trans c4, setl_eq _ _ _ _, (setl_ne _ _ _ _ (by decide)).trans c6, (setl_ne _ _ _ _ (by decide)).trans c7, (setl_ne _ _ _ _ (by decide)).trans c8, (setl_ne _ _ _ _ (by decide)).trans c9⟩, b5, b6, b7, b8⟩
theorem XN.l26 {v : Int64} (h : XN x M d) : XN x (M.setl (128 * 0 + 26) x v) (d.set_vented v) := by
  obtain ⟨b1, b2, b3, ⟨c1, c2, c3, c4, c5, c6, c7, c8, c9⟩, b5, b6, b7, b8⟩ := h
  exact ⟨b1, b2, b3, ⟨(setl_ne _ _ _ _ (by decide)).trans c1, (setl_ne _ _ _ _ (by decide)).trans c2, (setl_ne _ _ _ _ (by decide)).trans c3, (setl_ne _ _ _ _ (by decide)).trans c4, (setl_ne _ _ _ _ (by decide)).trans c5, setl_eq _ _ _ _, (setl_ne _ _ _ _ (by decide)).trans c7, (setl_ne _ _ _ _ (by decide)).trans c8, (setl_ne _ _ _ _ (by decide)).trans c9⟩, b5, b6, b7, b8⟩
theorem XN.l27 {v : Int64} (h : XN x M d) : XN x (M.setl (128 * 0 + 27) x v) (d.set_drunk v) := by
  obtain ⟨b1, b2, b3, ⟨c1, c2, c3, c4, c5, c6, c7, c8, c9⟩, b5, b6, b7, b8⟩ := h
  exact ⟨b1, b2, b3, ⟨(setl_ne _ _ _ _ (by decide)).trans c1, (setl_ne _ _ _ _ (by decide)).trans c2, (setl_ne _ _ _ _ (by decide)).trans c3, (setl_ne _ _ _ _ (by decide)).trans c4, (setl_ne _ _ _ _ (by decide)).trans c5, (setl_ne _ _ _ _ (by decide)).trans c6, setl_eq _ _ _ _, (setl_ne _ _ _ _ (by decide)).trans c8, (setl_ne _ _ _ _ (by decide)).trans c9⟩, b5, b6, b7, b8⟩
theorem XN.l28 {v : Int64} (h : XN x M d) : XN x (M.setl (128 * 0 + 28) x v) (d.set_noRoom v) := by
  obtain ⟨b1, b2, b3, ⟨c1, c2, c3, c4, c5, c6, c7, c8, c9⟩, b5, b6, b7, b8⟩ := h
  exact ⟨b1, b2, b3, ⟨(setl_ne _ _ _ _ (by decide)).trans c1, (setl_ne _ _ _ _ (by decide)).trans c2, (setl_ne _ _ _ _ (by decide)).trans c3, (setl_ne _ _ _ _ (by decide)).trans c4, (setl_ne _ _ _ _ (by decide)).trans c5, (setl_ne _ _ _ _ (by decide)).trans c6, (setl_ne _ _ _ _ (by decide)).trans c7, setl_eq _ _ _ _, (setl_ne _ _ _ _ (by decide)).trans c9⟩, b5, b6, b7, b8⟩
theorem XN.l29 {v : Int64} (h : XN x M d) : XN x (M.setl (128 * 0 + 29) x v) (d.set_coins v) := by
  obtain ⟨b1, b2, b3, ⟨c1, c2, c3, c4, c5, c6, c7, c8, c9⟩, b5, b6, b7, b8⟩ := h
  exact ⟨b1, b2, b3, ⟨(setl_ne _ _ _ _ (by decide)).trans c1, (setl_ne _ _ _ _ (by decide)).trans c2, (setl_ne _ _ _ _ (by decide)).trans c3, (setl_ne _ _ _ _ (by decide)).trans c4, (setl_ne _ _ _ _ (by decide)).trans c5, (setl_ne _ _ _ _ (by decide)).trans c6, (setl_ne _ _ _ _ (by decide)).trans c7, (setl_ne _ _ _ _ (by decide)).trans c8, setl_eq _ _ _ _⟩, b5, b6, b7, b8⟩
theorem XN.i20 {v : Int32} (h : XN x M d) : XN x (M.seti (128 * 0 + 20) x v) (d.set_thas v) := by
  obtain ⟨b1, b2, b3, b4, b5, b6, b7, b8⟩ := h
  exact ⟨(seti_ne _ _ _ _ (by decide)).trans b1, (seti_ne _ _ _ _ (by decide)).trans b2, seti_eq _ _ _ _, b4, b5, (seti_ne _ _ _ _ (by decide)).trans b6, b7, (seti_ne _ _ _ _ (by decide)).trans b8⟩
theorem XN.i0 {v : Nat} (h : XN x M d) : XN x (M.seti (128 * 0 + 0) x (Int32.ofNat v)) (d.set_now v) := by
  obtain ⟨b1, b2, b3, b4, b5, b6, b7, b8⟩ := h
  exact ⟨seti_eq _ _ _ _, (seti_ne _ _ _ _ (by decide)).trans b2, (seti_ne _ _ _ _ (by decide)).trans b3, b4, b5, (seti_ne _ _ _ _ (by decide)).trans b6, b7, (seti_ne _ _ _ _ (by decide)).trans b8⟩
/-- numbers change, the rest stays -/
def NuF (M M' : Mem) : Prop := M'.k = M.k ∧ M'.n = M.n ∧ M'.sl = M.sl ∧ M'.ls = M.ls ∧ M'.cap = M.cap
theorem w_pl {j : Nat} {v : Int64} {d' : Dt} {Q : Unit → Mem → Prop} (hj : j < 128) (hB : Bas x M) (hX : IX x M d) (hd : Rest d d') (hN : XN x (M.setl (128 * 0 + j) x v) d') (hq : ∀ M', Bas x M' → IX x M' d' → M'.i = M.i → NuF M M' → AgX x M M' → Q () M') : wp (putL 0 j x v) M Q := by
  refine w_putL hB.1.k0 ?_
  have fa : Ag no (fun t => t < 128) no no M (M.setl (128 * 0 + j) x v) := Ag.rf.l (Or.inl (by omega))
  have hX' : IX x (M.setl (128 * 0 + j) x v) d' := hX.num hB (fa.mono (ls' := no) (fun _ z => z.elim) (fun _ z => z) (fun _ z => z) (fun _ z => z.elim)) (fun _ z => z) hd hN
  have ff : NuF M (M.setl (128 * 0 + j) x v) := ⟨rfl, rfl, rfl, rfl, rfl⟩
  have fi : (M.setl (128 * 0 + j) x v).i = M.i := rfl
  revert fa hX' ff fi hN
  generalize M.setl (128 * 0 + j) x v = M'
  intro hN fa hX' ff fi
  obtain ⟨f1, f2, f3, f4, f5⟩ := ff
  exact hq M' ⟨fa.lay hB.1 (fun _ z => z.elim), hB.2.1.same f1 f2, hB.2.2.1.same f1 f4 f5, hB.2.2.2.ag hB.2.1 fa⟩ hX' fi ⟨f1, f2, f3, f4, f5⟩ (AgX.of fa (fun _ z => z.elim) (fun _ z => z.elim))
theorem w_pi {j : Nat} {v : Int32} {d' : Dt} {Q : Unit → Mem → Prop} (hj : j < 128) (hB : Bas x M) (hX : IX x M d) (hd : Rest d d') (hN : XN x (M.seti (128 * 0 + j) x v) d') (hq : ∀ M', Bas x M' → IX x M' d' → (∀ t c, ¬ (t = j ∧ c = x) → M'.i t c = M.i t c) → NuF M M' → AgX x M M' → Q () M') : wp (putI 0 j x v) M Q := by
  refine w_putI hB.1.k0 ?_
  have fa : Ag (fun t => t < 128) no no no M (M.seti (128 * 0 + j) x v) := Ag.rf.i (Or.inl (by omega))
  have hX' : IX x (M.seti (128 * 0 + j) x v) d' := hX.num hB (fa.mono (ls' := no) (fun _ z => z) (fun _ z => z.elim) (fun _ z => z) (fun _ z => z.elim)) (fun _ z => z) hd hN
  have ff : NuF M (M.seti (128 * 0 + j) x v) := ⟨rfl, rfl, rfl, rfl, rfl⟩
  have fi : ∀ t c, ¬ (t = j ∧ c = x) → (M.seti (128 * 0 + j) x v).i t c = M.i t c := fun t c h => i3 (by omega)
  revert fa hX' ff fi hN
  generalize M.seti (128 * 0 + j) x v = M'
  intro hN fa hX' ff fi
  obtain ⟨f1, f2, f3, f4, f5⟩ := ff
  exact hq M' ⟨fa.lay hB.1 (fun t z => by omega), hB.2.1.same f1 f2, hB.2.2.1.same f1 f4 f5, hB.2.2.2.ag hB.2.1 fa⟩ hX' fi ⟨f1, f2, f3, f4, f5⟩ (AgX.of fa (fun t z => by unfold isNt; omega) (fun _ z => z.elim))
/-- what may come in and go out in the ten at hand -/
theorem w_pio {j : Nat} {v : Int32} {Q : Unit → Mem → Prop} (hj : j = 5 ∨ j = 6) (hB : Bas x M) (hX : IX x M d) (hq : ∀ M', Bas x M' → IX x M' d → (∀ t c, ¬ (t = 384 + j ∧ c = x + 15) → M'.i t c = M.i t c) → M'.i (384 + j) (x + 15) = v → NuF M M' → AgX x M M' → Q () M') : wp (putI 3 j (x + 15) v) M Q := by
  refine w_putI hB.1.k15 ?_
  have fa : Ag (fun t => t = 389 ∨ t = 390) no no no M (M.seti (128 * 3 + j) (x + 15) v) := Ag.rf.i (Or.inl (by omega))
  have ff : NuF M (M.seti (128 * 3 + j) (x + 15) v) := ⟨rfl, rfl, rfl, rfl, rfl⟩
  have fi : ∀ t c, ¬ (t = 384 + j ∧ c = x + 15) → (M.seti (128 * 3 + j) (x + 15) v).i t c = M.i t c := fun t c h => i3 (by omega)
  have fv : (M.seti (128 * 3 + j) (x + 15) v).i (384 + j) (x + 15) = v := seti_eq _ _ _ _
  revert fa ff fi fv
  generalize M.seti (128 * 3 + j) (x + 15) v = M'
  intro fa ff fi fv
  obtain ⟨f1, f2, f3, f4, f5⟩ := ff
  have hf := hB.2.1
  have hn := hB.1.top
  obtain ⟨h1, h2, h3, h4, h5, h6, h7, h8⟩ := hX
  exact hq M' ⟨fa.lay hB.1 (fun t z => by omega), hf.same f1 f2, hB.2.2.1.same f1 f4 f5, hB.2.2.2.ag hf fa⟩ ⟨h1.ag hf hn fa (fun t z => by omega) (fun c z => z.elim), h2.ag hf hn fa (fun t z => by omega) (fun t z => z.elim) (fun c z => z.elim), h3.ag hf hn fa (fun t z => by omega) (fun t z => z.elim) (fun c z => z.elim), h4.ag hf hn fa (fun t z => by omega) (fun c z => z.elim), h5.ag hf hn fa (fun t z => by omega) (fun c z => z.elim), h6.ag hf hn fa (fun t z => by omega) (fun c z => z.elim), h7.ag hn fa (fun t z => by omega) (fun t z => z.elim) (fun c z => z.elim), h8.ag hf hn fa (fun t z => by omega) (fun c z => z.elim) (fun c z => z.elim)⟩ fi fv ⟨f1, f2, f3, f4, f5⟩ (AgX.of fa (fun t z => by unfold isNt; omega) (fun _ z => z.elim))
theorem AgX.tr {M1 M2 : Mem} (h : AgX x M M1) (h2 : AgX x M1 M2) : AgX x M M2 := Ag.tr h h2
end
section
variable {S S' : MS} {d d' : Dt} {kk k2 : Nat}
theorem IMk.num (h : IMk kk S d) (ha : Sam (fun i => i = 0 ∨ i = 19 ∨ i = 39 ∨ i = 44 ∨ i = 45) (fun o => 34 ≤ o ∧ o ≤ 37) (fun o => o = 14 ∨ o = 55) S S') (hd : Rest d d') (hn : d'.now + k2 = d.now + kk) (hN : RN S' d') : IMk k2 S' d' := by
  obtain ⟨e1, e2, e3⟩ := ha
  obtain ⟨g1, g2, g3, g4, g5, g6, g7, g8⟩ := h
  obtain ⟨r1, r2, r3, r4, r5, r6, r7⟩ := hd
  unfold IMk
  rw [r1, r2, r3, r4, r5, r6, r7, hn]
  exact ⟨g1.fr (fun o a b => e2 o (by omega)), g2.fr (e1 _ (by decide)) (fun o a b => e2 o (by omega)) (e3 _ (by decide)), g3.fr (fun o a b => e2 o (by omega)) (e3 _ (by decide)) (e3 _ (by decide)), g4.fr (e1 _ (by decide)) (fun o a b => e2 o (by omega)), g5.fr (e1 _ (by decide)) (fun o a b => e2 o (by omega)), g6.fr (e1 _ (by decide)) (fun o a b => e2 o (by omega)), hN, g8.fr (e1 _ (by decide)) (e1 _ (by decide)) (fun o a b => e2 o (by omega))⟩

theorem RN.l0 {v : Int64} (h : RN S d) : RN (S.sb 14 0 v) (d.set_blew v) := by
  obtain ⟨b1, b2, b3, ⟨c1, c2, c3, c4, c5, c6, c7, c8, c9, c10, c11⟩, b5, b6, b7, b8⟩ := h
  exact ⟨b1, b2, b3, ⟨sb_eq _ _ _ _, (sb_ni _ _ _ _ (by decide)).trans c2, (sb_ni _ _ _ _ (by decide)).trans c3, (sb_ni _ _ _ _ (by decide)).trans c4, (sb_ni _ _ _ _ (by decide)).trans c5, (sb_ni _ _ _ _ (by decide)).trans c6, (sb_ni _ _ _ _ (by decide)).trans c7, (sb_ni _ _ _ _ (by decide)).trans c8, (sb_ni _ _ _ _ (by decide)).trans c9, (sb_ni _ _ _ _ (by decide)).trans c10, (sb_ni _ _ _ _ (by decide)).trans c11⟩, b5, b6, b7, b8⟩
theorem RN.l1 {v : Int64} (h : RN S d) : RN (S.sb 14 1 v) (d.set_taken v) := by
  obtain ⟨b1, b2, b3, ⟨c1, c2, c3, c4, c5, c6, c7, c8, c9, c10, c11⟩, b5, b6, b7, b8⟩ := h
  exact ⟨b1, b2, b3, ⟨(sb_ni _ _ _ _ (by decide)).trans c1, sb_eq _ _ _ _, (sb_ni _ _ _ _ (by decide)).trans c3, (sb_ni _ _ _ _ (by decide)).trans c4, (sb_ni _ _ _ _ (by decide)).trans c5, (sb_ni _ _ _ _ (by decide)).trans c6, (sb_ni _ _ _ _ (by decide)).trans c7, (sb_ni _ _ _ _ (by decide)).trans c8, (sb_ni _ _ _ _ (by decide)).trans c9, (sb_ni _ _ _ _ (by decide)).trans c10, (sb_ni _ _ _ _ (by decide)).trans c11⟩, b5, b6, b7, b8⟩
theorem RN.l2 {v : Int64} (h : RN S d) : RN (S.sb 14 2 v) (d.set_sold v) := by
  obtain ⟨b1, b2, b3, ⟨c1, c2, c3, c4, c5, c6, c7, c8, c9, c10, c11⟩, b5, b6, b7, b8⟩ := h
  exact ⟨b1, b2, b3, ⟨(sb_ni _ _ _ _ (by decide)).trans c1, (sb_ni _ _ _ _ (by decide)).trans c2, sb_eq _ _ _ _, (sb_ni _ _ _ _ (by decide)).trans c4, (sb_ni _ _ _ _ (by decide)).trans c5, (sb_ni _ _ _ _ (by decide)).trans c6, (sb_ni _ _ _ _ (by decide)).trans c7, (sb_ni _ _ _ _ (by decide)).trans c8, (sb_ni _ _ _ _ (by decide)).trans c9, (sb_ni _ _ _ _ (by decide)).trans c10, (sb_ni _ _ _ _ (by decide)).trans c11⟩, b5, b6, b7, b8⟩
theorem RN.l3 {v : Int64} (h : RN S d) : RN (S.sb 14 3 v) (d.set_unsold v) := by
  obtain ⟨b1, b2, b3, ⟨c1, c2, c3, c4, c5, c6, c7, c8, c9, c10, c11⟩, b5, b6, b7, b8⟩ := h
  exact ⟨b1, b2, b3, ⟨(sb_ni _ _ _ _ (by decide)).trans c1, (sb_ni _ _ _ _ (by decide)).trans c2, (sb_ni _ _ _ _ (by decide)).trans c3, sb_eq _ _ _ _, (sb_ni _ _ _ _ (by decide)).trans c5, (sb_ni _ _ _ _ (by decide)).trans c6, (sb_ni _ _ _ _ (by decide)).trans c7, (sb_ni _ _ _ _ (by decide)).trans c8, (sb_ni _ _ _ _ (by decide)).trans c9, (sb_ni _ _ _ _ (by decide)).trans c10, (sb_ni _ _ _ _ (by decide)).trans c11⟩, b5, b6, b7, b8⟩
theorem RN.l4 {v : Int64} (h : RN S d) : RN (S.sb 14 4 v) (d.set_made v) := by
  obtain ⟨b1, b2, b3, ⟨c1, c2, c3, c4, c5, c6, c7, c8, c9, c10, c11⟩, b5, b6, b7, b8⟩ := h
  exact ⟨b1, b2, b3, ⟨(sb_ni _ _ _ _ (by decide)).trans c1, (sb_ni _ _ _ _ (by decide)).trans c2, (sb_ni _ _ _ _ (by decide)).trans c3, (sb_ni _ _ _ _ (by decide)).trans c4, sb_eq _ _ _ _, (sb_ni _ _ _ _ (by decide)).trans c6, (sb_ni _ _ _ _ (by decide)).trans c7, (sb_ni _ _ _ _ (by decide)).trans c8, (sb_ni _ _ _ _ (by decide)).trans c9, (sb_ni _ _ _ _ (by decide)).trans c10, (sb_ni _ _ _ _ (by decide)).trans c11⟩, b5, b6, b7, b8⟩
theorem RN.l5 {v : Int64} (h : RN S d) : RN (S.sb 14 5 v) (d.set_vented v) := by
  obtain ⟨b1, b2, b3, ⟨c1, c2, c3, c4, c5, c6, c7, c8, c9, c10, c11⟩, b5, b6, b7, b8⟩ := h
  exact ⟨b1, b2, b3, ⟨(sb_ni _ _ _ _ (by decide)).trans c1, (sb_ni _ _ _ _ (by decide)).trans c2, (sb_ni _ _ _ _ (by decide)).trans c3, (sb_ni _ _ _ _ (by decide)).trans c4, (sb_ni _ _ _ _ (by decide)).trans c5, sb_eq _ _ _ _, (sb_ni _ _ _ _ (by decide)).trans c7, (sb_ni _ _ _ _ (by decide)).trans c8, (sb_ni _ _ _ _ (by decide)).trans c9, (sb_ni _ _ _ _ (by decide)).trans c10, (sb_ni _ _ _ _ (by decide)).trans c11⟩, b5, b6, b7, b8⟩
theorem RN.l6 {v : Int64} (h : RN S d) : RN (S.sb 14 6 v) (d.set_drunk v) := by
  obtain ⟨b1, b2, b3, ⟨c1, c2, c3, c4, c5, c6, c7, c8, c9, c10, c11⟩, b5, b6, b7, b8⟩ := h
  exact ⟨b1, b2, b3, ⟨(sb_ni _ _ _ _ (by decide)).trans c1, (sb_ni _ _ _ _ (by decide)).trans c2, (sb_ni _ _ _ _ (by decide)).trans c3, (sb_ni _ _ _ _ (by decide)).trans c4, (sb_ni _ _ _ _ (by decide)).trans c5, (sb_ni _ _ _ _ (by decide)).trans c6, sb_eq _ _ _ _, (sb_ni _ _ _ _ (by decide)).trans c8, (sb_ni _ _ _ _ (by decide)).trans c9, (sb_ni _ _ _ _ (by decide)).trans c10, (sb_ni _ _ _ _ (by decide)).trans c11⟩, b5, b6, b7, b8⟩
theorem RN.l11 {v : Int64} (h : RN S d) : RN (S.sb 14 11 v) (d.set_noRoom v) := by
  obtain ⟨b1, b2, b3, ⟨c1, c2, c3, c4, c5, c6, c7, c8, c9, c10, c11⟩, b5, b6, b7, b8⟩ := h
  exact ⟨b1, b2, b3, ⟨(sb_ni _ _ _ _ (by decide)).trans c1, (sb_ni _ _ _ _ (by decide)).trans c2, (sb_ni _ _ _ _ (by decide)).trans c3, (sb_ni _ _ _ _ (by decide)).trans c4, (sb_ni _ _ _ _ (by decide)).trans c5, (sb_ni _ _ _ _ (by decide)).trans c6, (sb_ni _ _ _ _ (by decide)).trans c7, sb_eq _ _ _ _, (sb_ni _ _ _ _ (by decide)).trans c9, (sb_ni _ _ _ _ (by decide)).trans c10, (sb_ni _ _ _ _ (by decide)).trans c11⟩, b5, b6, b7, b8⟩
theorem RN.l12 {v : Int64} (h : RN S d) : RN (S.sb 14 12 v) (d.set_coins v) := by
  obtain ⟨b1, b2, b3, ⟨c1, c2, c3, c4, c5, c6, c7, c8, c9, c10, c11⟩, b5, b6, b7, b8⟩ := h
  exact ⟨b1, b2, b3, ⟨(sb_ni _ _ _ _ (by decide)).trans c1, (sb_ni _ _ _ _ (by decide)).trans c2, (sb_ni _ _ _ _ (by decide)).trans c3, (sb_ni _ _ _ _ (by decide)).trans c4, (sb_ni _ _ _ _ (by decide)).trans c5, (sb_ni _ _ _ _ (by decide)).trans c6, (sb_ni _ _ _ _ (by decide)).trans c7, (sb_ni _ _ _ _ (by decide)).trans c8, sb_eq _ _ _ _, (sb_ni _ _ _ _ (by decide)).trans c10, (sb_ni _ _ _ _ (by decide)).trans c11⟩, b5, b6, b7, b8⟩
theorem RN.i19 {v : Int32} (h : RN S d) : RN (S.si 19 v) (d.set_thas v) := by
  obtain ⟨b1, b2, b3, b4, b5, b6, b7, b8⟩ := h
  exact ⟨(si_ne _ _ _ (by decide)).trans b1, (si_ne _ _ _ (by decide)).trans b2, si_eq _ _ _, b4, b5, (si_ne _ _ _ (by decide)).trans b6, b7, (si_ne _ _ _ (by decide)).trans b8⟩
theorem RN.i0 {v : Nat} (h : RN S d) : RN (S.si 0 (Int32.ofNat v)) (d.set_now v) := by
  obtain ⟨b1, b2, b3, b4, b5, b6, b7, b8⟩ := h
  exact ⟨si_eq _ _ _, (si_ne _ _ _ (by decide)).trans b2, (si_ne _ _ _ (by decide)).trans b3, b4, b5, (si_ne _ _ _ (by decide)).trans b6, b7, (si_ne _ _ _ (by decide)).trans b8⟩
theorem RN.ot {j : Nat} {v : Int32} (h : RN S d) (hj : j = 39 ∨ j = 44 ∨ j = 45) : RN (S.si j v) d := h.fr (fun i z => si_ne _ _ _ (by omega)) (fun _ _ => rfl) rfl
end
