set_option maxRecDepth 100000
def gB (d : Dt) (h : Int32) : Bool := gr d h.toNatClampNeg
def provD (d : Dt) (t : Tp) : Int32 := prS (gB d) t.sips
def SipsAt (M : Mem) (c l : Nat) (sips : List (Int32 × Int32)) : Prop := M.k c = 8 ∧ M.r (128 * 7 + 3) c = l ∧ M.k l = 18 ∧ (M.ls l).map (rdSp M) = sips ∧ ∀ e ∈ M.ls l, M.k e = 10
section
variable {x : Nat} {M : Mem} {n0 k p L : Nat} {xs : Nat → Int32}
theorem SipsAt.onl {M' : Mem} {c l e : Nat} {sips : List (Int32 × Int32)} (h : SipsAt M c l sips) (o : Onl M M' e) : SipsAt M' c l sips := by
  obtain ⟨-, o1, -, -, o4, -, o6, o7, -⟩ := o
  obtain ⟨a1, a2, a3, a4, a5⟩ := h
  refine ⟨by rw [o1]; exact a1, by rw [o6]; exact a2, by rw [o1]; exact a3, ?_, by rw [o4, o1]; exact a5⟩
  show (M'.ls l).map (fun c => (M'.i 1152 c, M'.i 1153 c)) = sips
  rw [o4, o7]; exact a4
theorem tpSips {d : Dt} (hX : IX x M d) {a : Nat} (ha : a < d.trips.length) (ha2 : a < (M.ls (x + 23)).length) : SipsAt M (M.ls (x + 23))[a] ((M.ls (x + 23))[a] + 1) d.trips[a].sips := by
  obtain ⟨b1, b2, b3, b4, b5⟩ := hX.2.2.2.1.2.2 _ (List.getElem_mem ha2)
  have er := map_get hX.2.2.2.1.1 ha ha2
  exact ⟨b1, b2, b3, by rw [← er]; rfl, b5⟩
/-- the j-th sip -/
theorem w_sip {c l j : Nat} {sips : List (Int32 × Int32)} (hg : GL M) (h : SipsAt M c l sips) (hj : j < sips.length) {β : Type} {f : Nat → Act β} {Q : β → Mem → Prop} (hq : ∀ e, M.k e = 10 → M.i 1152 e = sips[j].1 → M.i 1153 e = sips[j].2 → wp (f e) M Q) : wp (bnd (getR 7 3 c) fun v => bnd (gd 17 v (nt (P_get v (Int32.ofNat j)))) fun w => bnd (cst [10] w) fun _ => f w) M Q := by
  obtain ⟨a1, a2, a3, a4, a5⟩ := h
  have hlen := map_len a4
  have hj3 : j < (M.ls l).length := by omega
  have hk := a5 _ (List.getElem_mem hj3)
  have er := map_get a4 hj hj3
  refine w_bnd (w_getRv a1 a2 (w_bnd (w_gd a3 (w_nt (w_get hg a3 hj3 (w_bnd (w_cst (Or.inr (by rw [hk]; decide)) (hq _ hk ?_ ?_))))))))
  · rw [← er]; rfl
  · rw [← er]; rfl
theorem x_proved_lp {n c l : Nat} {d : Dt} {sips : List (Int32 × Int32)} (hB : Bas x M) (hX : IX x M d) (hD : ID d) (hn : 9100 ≤ n) (hs : SipsAt M c l sips) (hh : ∀ e ∈ sips, 0 ≤ e.1.toInt ∧ e.1.toInt ≤ 833) {Q : Int32 → Mem → Prop} (hq : ∀ M', Onl M M' (x + 21) → Q (prS (gB d) sips) M') :
    ∀ q j M1, Onl M M1 (x + 21) → j ≤ sips.length → sips.length < q + j → wp (lp_X0_proved_4 n x c q (prS (gB d) (sips.take j)) (Int32.ofNat j)) M1 Q := by
  have hlen := map_len hs.2.2.2.1
  have hb := hB.2.2.1.len hs.2.2.1
  intro q
  induction q with
  | zero => intro j _ _ _ _; omega
  | succ q ih =>
    intro j M1 o hj hq'
    have hs1 := hs.onl o
    have hB1 := o.bas hB
    have hg := hB1.2.2.1
    rw [lp_X0_proved_4]
    refine w_bnd (w_getRv hs1.1 hs1.2.1 (w_bnd (w_gd hs1.2.2.1 (w_nt (w_size hg hs1.2.2.1 ?_)))))
    rw [map_len hs1.2.2.2.1]
    by_cases e : j = sips.length
    · refine w_t ((i_le (by omega) (by omega)).mpr (by omega)) (w_pur ?_)
      rw [e, List.take_length]; exact hq M1 o
    · have hj2 : j < sips.length := by omega
      obtain ⟨e1, e2⟩ := hh _ (List.getElem_mem hj2)
      obtain ⟨m, hm, em⟩ := i_nat (a := sips[j].1) (n := 833) (Int32.le_iff_toInt_le.mpr e1) (by decide) (Int32.le_iff_toInt_le.mpr e2)
      refine w_f (fun z => by have := (i_le (by omega) (by omega)).mp z; omega) ?_
      refine w_sip hg hs1 hj2 (fun c1 k1 f1 f2 => w_bnd (w_gd k1 (w_nt (x_hour k1 ?_))))
      rw [f1, em]
      refine w_bnd (w_gd hB1.1.k0 (w_nt (x_isGreen hB1 (o.ix hB hX) hD hn (by omega) (fun M2 o2 => w_jn ?_))))
      have o3 := o.tr o2
      have hs3 := hs.onl o3
      have K := ih (j + 1) M2 o3 (by omega) (by omega)
      rw [prS_take hj2] at K
      have eg : gB d sips[j].1 = gr d m := by unfold gB; rw [em, i_clamp (by omega)]
      rw [eg] at K
      rw [i_add1]
      cases eb : gr d m with
      | true =>
        rw [eb] at K
        refine w_f (by decide) (w_sip (o3.bas hB).2.2.1 hs3 hj2 (fun c2 k2 g1 g2 => w_bnd (w_gd k2 (w_nt (x_grams k2 ?_)))))
        rw [g2]
        exact K
      | false =>
        rw [eb] at K
        exact w_t (by rfl) K
theorem x_proved {n a : Nat} {d : Dt} (hB : Bas x M) (hX : IX x M d) (hD : ID d) (hn : 9100 ≤ n) (ha : a < d.trips.length) (ha2 : a < (M.ls (x + 23)).length) {Q : Int32 → Mem → Prop} (hq : ∀ M', Onl M M' (x + 21) → Q (provD d d.trips[a]) M') : wp (f_X0_proved n x (M.ls (x + 23))[a]) M Q := by
  have hs := tpSips hX ha ha2
  have ht := hD.2.2.2.2.2.1.2 _ (List.getElem_mem ha)
  have hl := ht.2.2.2.2.2.2.2.2.2.2.2
  unfold f_X0_proved
  exact x_proved_lp hB hX hD hn hs (fun e he => (ht.2.2.2.2.2.2.2.2.2.1 e he).2) hq n 0 M Onl.rf (Nat.zero_le _) (by omega)
theorem i_834 (a b : Nat) : (834 : Int32) * Int32.ofNat a + Int32.ofNat b = Int32.ofNat (834 * a + b) := by
  rw [show (834 : Int32) = Int32.ofNat 834 from rfl, i_mul, i_add]
theorem sipK {d : Dt} (hD : ID d) {a : Nat} (ha : a < d.trips.length) : ∀ e ∈ d.trips[a].sips, ∃ k, k < 834 ∧ e.1 = Int32.ofNat k := fun e he => by
  obtain ⟨-, e1, e2⟩ := (hD.2.2.2.2.2.1.2 _ (List.getElem_mem ha)).2.2.2.2.2.2.2.2.2.1 e he
  obtain ⟨m, hm, em⟩ := i_nat (a := e.1) (n := 833) (Int32.le_iff_toInt_le.mpr e1) (by decide) (Int32.le_iff_toInt_le.mpr e2)
  exact ⟨m, by omega, em⟩
theorem m_drunk {S : MS} {d : Dt} (hS : IM S d) {a j : Nat} (ha : a < d.trips.length) (hj : j < 834) : S.a 33 (834 * a + j) = drS d.trips[a].sips (Int32.ofNat j) := by
  rw [(hS.2.2.2.1.2.2.1 a ha).2.2.2.2.2.2 j hj, drunkAt_eq]
theorem m_proved_lp {n a : Nat} {S : MS} {d : Dt} (hS : IM S d) (hD : ID d) (hn : 9100 ≤ n) (ha : a < d.trips.length) {Q : Int32 → MS → Prop} (hq : ∀ S', Hon S S' → Q (provD d d.trips[a]) S') :
    ∀ q j S1, Hon S S1 → j ≤ 834 → 834 < q + j → wm x (lp_X4_proved_4 n (x + 28) (Int32.ofNat a) q (sumN (fun h => if gB d (Int32.ofNat h) = true then drS d.trips[a].sips (Int32.ofNat h) else 0) j) (Int32.ofNat j)) S1 Q := by
  have h40 := hD.2.2.2.2.2.1.1
  have ht := hD.2.2.2.2.2.1.2 _ (List.getElem_mem ha)
  have hpos : ∀ e ∈ d.trips[a].sips, 0 < e.2.toInt := fun e he => (ht.2.2.2.2.2.2.2.2.2.1 e he).1
  have hsum := ht.2.2.2.2.2.2.2.2.2.2.1
  intro q
  induction q with
  | zero => intro j _ _ _ _; omega
  | succ q ih =>
    intro j S1 o hj hq'
    have hS1 := o.im hS
    rw [lp_X4_proved_4]
    by_cases e : j = 834
    · refine m_t ((i_le (a := 834) (by omega) (by omega)).mpr (by omega)) (m_pur ?_)
      rw [e, prov_eq (by decide) _ (sipK hD ha)]
      exact hq S1 o
    · have hj2 : j < 834 := by omega
      refine m_f (fun z => by have := (i_le (a := 834) (by omega) (by omega)).mp z; omega) ?_
      rw [i_834, i_add1]
      refine m_bnd (m_getRt rfl (m_bnd (m_ldIt rfl (by omega) (m_jn ?_))))
      rw [m_drunk hS1 ha hj2]
      have eg : gB d (Int32.ofNat j) = gr d j := by unfold gB; rw [i_clamp (by omega)]
      refine m_ite (fun z => ?_) (fun z => ?_)
      · have K := ih (j + 1) S1 o (by omega) (by omega)
        have e0 := (drS_le0 hpos hsum).mp z
        have es : sumN (fun h => if gB d (Int32.ofNat h) = true then drS d.trips[a].sips (Int32.ofNat h) else 0) (j + 1) = sumN (fun h => if gB d (Int32.ofNat h) = true then drS d.trips[a].sips (Int32.ofNat h) else 0) j := by
          show _ + (if gB d (Int32.ofNat j) = true then drS d.trips[a].sips (Int32.ofNat j) else 0) = _
          rw [e0, ite_self, Int32.add_zero]
        rw [es] at K
        exact K
      · refine m_bnd (m_gd (m_nt (m_isGreen hS1 hD hn hj2 (fun S2 o2 => ?_))))
        have o3 := o.tr o2
        have K := ih (j + 1) S2 o3 (by omega) (by omega)
        have K : wm x (lp_X4_proved_4 n (x + 28) (Int32.ofNat a) q (sumN (fun h => if gB d (Int32.ofNat h) = true then drS d.trips[a].sips (Int32.ofNat h) else 0) j + (if gB d (Int32.ofNat j) = true then drS d.trips[a].sips (Int32.ofNat j) else 0)) (Int32.ofNat (j + 1))) S2 Q := K
        rw [eg] at K
        cases eb : gr d j with
        | true =>
          rw [eb, if_pos rfl] at K
          refine m_f (by decide) (m_bnd (m_getRt rfl (m_bnd (m_ldIt rfl (by omega) ?_))))
          rw [m_drunk (o3.im hS) ha hj2]
          exact K
        | false =>
          rw [eb, if_neg (by decide), Int32.add_zero] at K
          exact m_t (by rfl) K
theorem m_proved {n a : Nat} {S : MS} {d : Dt} (hS : IM S d) (hD : ID d) (hn : 9100 ≤ n) (ha : a < d.trips.length) {Q : Int32 → MS → Prop} (hq : ∀ S', Hon S S' → Q (provD d d.trips[a]) S') : wm x (f_X4_proved n (x + 28) (Int32.ofNat a)) S Q := by
  unfold f_X4_proved
  exact m_proved_lp hS hD hn ha hq n 0 S Hon.rf (Nat.zero_le _) (by omega)
end
