set_option maxRecDepth 100000
section
variable {x : Nat} {M : Mem} {n0 k p L : Nat} {xs : Nat → Int32}
theorem x_hours_in {c l m : Nat} {w1 : Int32} {sips : List (Int32 × Int32)} (hg : GL M) (hs : SipsAt M c l sips) (hm : m < sips.length) {Q : Int32 → Mem → Prop} {j72 : Int32 → Act Int32} (hq : wp (j72 (bz (newH sips m sips[m].1 = true))) M Q) :
    ∀ q j, j ≤ m → m < q + j → wp (lp_X0_hoursOf_20 c w1 (Int32.ofNat m) j72 q (bz (newH sips j sips[m].1 = true)) (Int32.ofNat j)) M Q := by
  have hlen := map_len hs.2.2.2.1
  have hb := hg.len hs.2.2.1
  intro q
  induction q with
  | zero => intro j _ _; omega
  | succ q ih =>
    intro j hj hq'
    rw [lp_X0_hoursOf_20]
    by_cases e : j = m
    · refine w_t ((i_le (by omega) (by omega)).mpr (by omega)) ?_
      rw [e]; exact hq
    · have hj2 : j < sips.length := by omega
      refine w_f (fun z => by have := (i_le (by omega) (by omega)).mp z; omega) ?_
      refine w_sip hg hs hj2 (fun c1 k1 f1 f2 => w_bnd (w_gd k1 (w_nt (x_hour k1 ?_))))
      refine w_sip hg hs hm (fun c2 k2 g1 g2 => w_bnd (w_gd k2 (w_nt (x_hour k2 (w_jn ?_)))))
      rw [f1, g1, i_add1]
      have K := ih (j + 1) (by omega) (by omega)
      rw [newH_s hj2] at K
      by_cases c : sips[j].1 = sips[m].1
      · rw [decide_eq_false (fun z => z c), Bool.and_false] at K
        refine w_t c ?_
        have e0 : bz (newH sips j sips[m].1 = true) &&& 0 = bz (false = true) := by
          rcases bz_z (P := newH sips j sips[m].1 = true) with z | z <;> (rw [z]; decide)
        show wp (lp_X0_hoursOf_20 _ w1 (Int32.ofNat m) j72 q (bz (newH sips j sips[m].1 = true) &&& 0) (Int32.ofNat (j + 1))) M Q
        rw [e0]; exact K
      · rw [decide_eq_true c, Bool.and_true] at K
        refine w_f c ?_
        have e0 : bz (newH sips j sips[m].1 = true) &&& 1 = bz (newH sips j sips[m].1 = true) := by
          rcases bz_z (P := newH sips j sips[m].1 = true) with z | z <;> (rw [z]; decide)
        show wp (lp_X0_hoursOf_20 _ w1 (Int32.ofNat m) j72 q (bz (newH sips j sips[m].1 = true) &&& 1) (Int32.ofNat (j + 1))) M Q
        rw [e0]; exact K
theorem x_hours_lp {n c l : Nat} {sips : List (Int32 × Int32)} (hg : GL M) (hs : SipsAt M c l sips) (hn : 9100 ≤ n) {Q : Int32 → Mem → Prop} (hq : Q (cntH sips sips.length) M) :
    ∀ q j, j ≤ sips.length → sips.length < q + j → wp (lp_X0_hoursOf_4 n c q (cntH sips j) (Int32.ofNat j)) M Q := by
  have hlen := map_len hs.2.2.2.1
  have hb := hg.len hs.2.2.1
  intro q
  induction q with
  | zero => intro j _ _; omega
  | succ q ih =>
    intro j hj hq'
    rw [lp_X0_hoursOf_4]
    refine w_bnd (w_getRv hs.1 hs.2.1 (w_bnd (w_gd hs.2.2.1 (w_nt (w_size hg hs.2.2.1 ?_)))))
    rw [hlen]
    by_cases e : j = sips.length
    · refine w_t ((i_le (by omega) (by omega)).mpr (by omega)) (w_pur ?_)
      rw [e]; exact hq
    · have hj2 : j < sips.length := by omega
      refine w_f (fun z => by have := (i_le (by omega) (by omega)).mp z; omega) (w_jn ?_)
      refine x_hours_in hg hs hj2 (w_jn ?_) n 0 (Nat.zero_le _) (by omega)
      rw [i_add1]
      have K := ih (j + 1) (by omega) (by omega)
      rw [cntH_s hj2] at K
      cases eb : newH sips j sips[j].1 with
      | true =>
        rw [eb] at K
        exact w_f (by decide) K
      | false =>
        rw [eb] at K
        exact w_t (by rfl) K
theorem m_hours_lp {a : Nat} {S : MS} {d : Dt} (hS : IM S d) (hD : ID d) (ha : a < d.trips.length) {Q : Int32 → MS → Prop} (hq : Q (cntH d.trips[a].sips d.trips[a].sips.length) S) :
    ∀ q j, j ≤ 834 → 834 < q + j → wm x (lp_X4_tripOf_109 (x + 28) (Int32.ofNat a) q (sumN (fun h => if newH d.trips[a].sips d.trips[a].sips.length (Int32.ofNat h) = true then 0 else 1) j) (Int32.ofNat j)) S Q := by
  have h40 := hD.2.2.2.2.2.1.1
  have ht := hD.2.2.2.2.2.1.2 _ (List.getElem_mem ha)
  have hpos : ∀ e ∈ d.trips[a].sips, 0 < e.2.toInt := fun e he => (ht.2.2.2.2.2.2.2.2.2.1 e he).1
  have hsum := ht.2.2.2.2.2.2.2.2.2.2.1
  intro q
  induction q with
  | zero => intro j _ _; omega
  | succ q ih =>
    intro j hj hq'
    rw [lp_X4_tripOf_109]
    by_cases e : j = 834
    · refine m_t ((i_le (a := 834) (by omega) (by omega)).mpr (by omega)) (m_pur ?_)
      rw [e, cnt_eq (by decide) (sipK hD ha) _ (Nat.le_refl _)]
      exact hq
    · have hj2 : j < 834 := by omega
      refine m_f (fun z => by have := (i_le (a := 834) (by omega) (by omega)).mp z; omega) ?_
      rw [i_834, i_add1]
      refine m_bnd (m_getRt rfl (m_bnd (m_ldIt rfl (by omega) (m_jn ?_))))
      rw [m_drunk hS ha hj2]
      have K := ih (j + 1) (by omega) (by omega)
      have K : wm x (lp_X4_tripOf_109 (x + 28) (Int32.ofNat a) q (sumN (fun h => if newH d.trips[a].sips d.trips[a].sips.length (Int32.ofNat h) = true then 0 else 1) j + (if newH d.trips[a].sips d.trips[a].sips.length (Int32.ofNat j) = true then 0 else 1)) (Int32.ofNat (j + 1))) S Q := K
      have P := drS_pos (h := Int32.ofNat j) _ hpos hsum
      refine m_ite (fun z => ?_) (fun z => ?_)
      · have e0 := (drS_le0 hpos hsum).mp z
        have e1 := new_all.mpr (P.2.mp (by rw [e0]; rfl))
        rw [if_pos e1] at K
        exact m_bnd (m_nt (m_ones K))
      · have e1 : ¬ newH d.trips[a].sips d.trips[a].sips.length (Int32.ofNat j) = true := fun w => z ((drS_le0 hpos hsum).mpr (Int32.toInt_inj.mp (P.2.mpr (new_all.mp w))))
        rw [if_neg e1] at K
        exact m_bnd (m_nt (m_ones K))
theorem op_tripOf {n : Nat} {Q : Int32 → Mem → Prop} (hI : Inv x n0 k p L xs M) (hn : 9100 ≤ n) {t w : Int32}
    (hq : ∀ v M1, Scr p L xs M1 → wp (gd 4 (x + 28) (nt (f_X4_tripOf n (x + 28) t w))) M1 (fun w M2 => w = v ∧ Inv x n0 (k + 1) p L xs M2) → Q v M1) : wp (gd 0 x (nt (f_X0_tripOf n x t w))) M Q := by
  refine op_ask hI (fun d hB hX hD => ?_) hq
  have hL := hB.1
  have hg := hB.2.2.1
  have h40 := hD.2.2.2.2.2.1.1
  have fin : ∀ {v : Int32}, v = v ∧ Okx x M d M ∧ M.n = M.n ∧ M.sl = M.sl ∧ M.cap = M.cap := fun {v} => ⟨rfl, Okx.rf hB hX, rfl, rfl, rfl⟩
  by_cases co : ∃ a, a < d.trips.length ∧ t = Int32.ofNat a
  · obtain ⟨a, ha, rfl⟩ := co
    have inj : ∀ i, i < d.trips.length → Int32.ofNat a = Int32.ofNat i → a = i := fun i hi z => (i_eq (by omega) (by omega)).mp z
    have hlen := map_len hX.2.2.2.1.1
    have ha2 : a < (M.ls (x + 23)).length := by omega
    obtain ⟨b1, b2, b3, b4, b5⟩ := hX.2.2.2.1.2.2 _ (List.getElem_mem ha2)
    have er := map_get hX.2.2.2.1.1 ha ha2
    have hx : ∀ {F : Nat → Act Int32} {g f : Act Int32} {R : Int32 → Mem → Prop}, F (M.ls (x + 23))[a] = f → wp f M R → wp (bnd (gd 0 x (nt (f_X0_tripAt x (Int32.ofNat a)))) fun v1 => if ¬ v1 = 0 then F v1 else g) M R := fun {F g f R} e h => by
      refine w_bnd (w_gd hL.k0 (w_nt (x_tripAt hB hX hD (fun z => absurd rfl (z a ha)) (fun b hb hb' z er ek => ?_))))
      have e2 := inj b hb z
      subst e2
      exact w_t (by omega) (by rw [e]; exact h)
    have hm : ∀ {S : MS} {f g : Act Int32} {R : Int32 → MS → Prop}, IM S d → wm x f S R → wm x (bnd (gd 4 (x + 28) (nt (f_X4_isTrip (x + 28) (Int32.ofNat a)))) fun v1 => if ¬ v1 = 0 then f else g) S R := fun hS h => m_bnd (m_gd (m_nt (m_isTrip hS (fun z => absurd rfl (z a ha)) (fun b hb z => m_t (by decide) h))))
    unfold f_X0_tripOf f_X4_tripOf
    rcases sw_c w 8 with ⟨i, hi, rfl⟩ | hw
    · have f0 : M.i (128 * 7 + 0) (M.ls (x + 23))[a] = d.trips[a].kind := by rw [← er]; rfl
      have f1 : M.i (128 * 7 + 1) (M.ls (x + 23))[a] = d.trips[a].ten := by rw [← er]; rfl
      have f2 : M.i (128 * 7 + 2) (M.ls (x + 23))[a] = d.trips[a].grams := by rw [← er]; rfl
      have f4 : M.i (128 * 7 + 4) (M.ls (x + 23))[a] = d.trips[a].how := by rw [← er]; rfl
      have f5 : M.i (128 * 7 + 5) (M.ls (x + 23))[a] = d.trips[a].left := by rw [← er]; rfl
      have f6 : M.i (128 * 7 + 6) (M.ls (x + 23))[a] = d.trips[a].foul := by rw [← er]; rfl
      rcases (by omega : i = 0 ∨ i = 1 ∨ i = 2 ∨ i = 3 ∨ i = 4 ∨ i = 5 ∨ i = 6 ∨ i = 7) with rfl | rfl | rfl | rfl | rfl | rfl | rfl | rfl
      · exact ⟨d.trips[a].kind, hx (sw_kN 8 rfl hi (by decide)) (w_bnd (w_getIv b1 f0 (w_pur fin))), fun S hS => hm hS (by
          rw [sw_kN 8 rfl hi (by decide)]
          exact m_bnd (m_getRt rfl (m_bnd (m_ldIt rfl (by omega) (m_pur ⟨(hS.2.2.2.1.2.2.1 a ha).1, hS⟩)))))⟩
      · exact ⟨d.trips[a].ten, hx (sw_kN 8 rfl hi (by decide)) (w_bnd (w_getIv b1 f1 (w_pur fin))), fun S hS => hm hS (by
          rw [sw_kN 8 rfl hi (by decide)]
          exact m_bnd (m_getRt rfl (m_bnd (m_ldIt rfl (by omega) (m_pur ⟨(hS.2.2.2.1.2.2.1 a ha).2.1, hS⟩)))))⟩
      · exact ⟨d.trips[a].grams, hx (sw_kN 8 rfl hi (by decide)) (w_bnd (w_getIv b1 f2 (w_pur fin))), fun S hS => hm hS (by
          rw [sw_kN 8 rfl hi (by decide)]
          exact m_bnd (m_getRt rfl (m_bnd (m_ldIt rfl (by omega) (m_pur ⟨(hS.2.2.2.1.2.2.1 a ha).2.2.1, hS⟩)))))⟩
      · exact ⟨d.trips[a].how, hx (sw_kN 8 rfl hi (by decide)) (w_bnd (w_getIv b1 f4 (w_pur fin))), fun S hS => hm hS (by
          rw [sw_kN 8 rfl hi (by decide)]
          exact m_bnd (m_getRt rfl (m_bnd (m_ldIt rfl (by omega) (m_pur ⟨(hS.2.2.2.1.2.2.1 a ha).2.2.2.1, hS⟩)))))⟩
      · exact ⟨d.trips[a].left, hx (sw_kN 8 rfl hi (by decide)) (w_bnd (w_getIv b1 f5 (w_pur fin))), fun S hS => hm hS (by
          rw [sw_kN 8 rfl hi (by decide)]
          exact m_bnd (m_getRt rfl (m_bnd (m_ldIt rfl (by omega) (m_pur ⟨(hS.2.2.2.1.2.2.1 a ha).2.2.2.2.1, hS⟩)))))⟩
      · exact ⟨d.trips[a].foul, hx (sw_kN 8 rfl hi (by decide)) (w_bnd (w_getIv b1 f6 (w_pur fin))), fun S hS => hm hS (by
          rw [sw_kN 8 rfl hi (by decide)]
          exact m_bnd (m_getRt rfl (m_bnd (m_ldIt rfl (by omega) (m_pur ⟨(hS.2.2.2.1.2.2.1 a ha).2.2.2.2.2.1, hS⟩)))))⟩
      · exact ⟨provD d d.trips[a], hx (sw_kN 8 rfl hi (by decide)) (w_bnd (w_gd hL.k0 (w_nt (x_proved hB hX hD hn ha ha2 (fun M' o => w_pur ⟨rfl, o.okx hB hX, o.2.2.1, o.2.2.2.1, o.2.2.2.2.2.1⟩))))), fun S hS => hm hS (by
          rw [sw_kN 8 rfl hi (by decide)]
          exact m_bnd (m_gd (m_nt (m_proved hS hD hn ha (fun S' o => m_pur ⟨rfl, o.im hS⟩)))))⟩
      · have hs := tpSips hX ha ha2
        have hl := (hD.2.2.2.2.2.1.2 _ (List.getElem_mem ha)).2.2.2.2.2.2.2.2.2.2.2
        refine ⟨cntH d.trips[a].sips d.trips[a].sips.length, hx (sw_kN 8 rfl hi (by decide)) (w_bnd (w_nt ?_)), fun S hS => hm hS ?_⟩
        · unfold f_X0_hoursOf
          exact x_hours_lp hg hs hn (w_pur fin) n 0 (Nat.zero_le _) (by omega)
        · rw [sw_kN 8 rfl hi (by decide)]
          exact m_hours_lp hS hD ha ⟨rfl, hS⟩ n 0 (Nat.zero_le _) (by omega)
    · exact ⟨-1, hx (sw_dN 8 rfl hw (by decide)) (w_pur fin), fun S hS => hm hS (by
          rw [sw_dN 8 rfl hw (by decide)]
          exact m_pur ⟨rfl, hS⟩)⟩
  · refine ⟨-1, ?_, fun S hS => ?_⟩
    · unfold f_X0_tripOf
      exact w_bnd (w_gd hL.k0 (w_nt (x_tripAt hB hX hD (fun z => w_f (fun q => q rfl) (w_pur fin)) (fun b hb hb' z er ek => absurd ⟨b, hb, z⟩ co))))
    · unfold f_X4_tripOf
      exact m_bnd (m_gd (m_nt (m_isTrip hS (fun z => m_f (by decide) (m_pur ⟨rfl, hS⟩)) (fun b hb z => absurd ⟨b, hb, z⟩ co))))
end
