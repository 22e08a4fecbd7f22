set_option maxRecDepth 100000
/-- papers of a trip one by one: what is used, whether the last is good -/
def vst (t most : Int32) (v : Int32 × Int32) (e : Tri) : Int32 × Int32 := if e.1 = t then (if most < v.1 + e.2.2 then (v.1, 0) else (v.1 + e.2.2, 1)) else v
def vfd (t most : Int32) (l : List Tri) : Int32 × Int32 := l.foldl (vst t most) (0, 0)
theorem vfd_s {t most : Int32} {l : List Tri} {j : Nat} (h : j < l.length) : vfd t most (l.take (j + 1)) = vst t most (vfd t most (l.take j)) l[j] := foldl_take h
theorem vfd_01 (t most : Int32) (l : List Tri) : (vfd t most l).2 = 0 ∨ (vfd t most l).2 = 1 := by
  have H : ∀ (l : List Tri) (v : Int32 × Int32), (v.2 = 0 ∨ v.2 = 1) → (l.foldl (vst t most) v).2 = 0 ∨ (l.foldl (vst t most) v).2 = 1 := by
    intro l
    induction l with
    | nil => intro v hv; exact hv
    | cons e l ih =>
      intro v hv
      rw [List.foldl_cons]
      apply ih
      unfold vst
      by_cases c : e.1 = t
      · rw [if_pos c]
        by_cases c2 : most < v.1 + e.2.2
        · rw [if_pos c2]; exact Or.inl rfl
        · rw [if_neg c2]; exact Or.inr rfl
      · rw [if_neg c]; exact hv
  exact H l (0, 0) (Or.inl rfl)
def bareT : Tp := mkTp 0 0 0 0 0 0 []
/-- is the paper good -/
def valD (d : Dt) (i : Nat) : Int32 := if h : i < d.papers.length then (vfd d.papers[i].1 (provD d (d.trips.getD (d.papers[i].1).toNatClampNeg bareT)) (d.papers.take (i + 1))).2 else 0
theorem valD_01 (d : Dt) (i : Nat) : valD d i = 0 ∨ valD d i = 1 := by
  unfold valD
  by_cases h : i < d.papers.length
  · rw [dif_pos h]; exact vfd_01 _ _ _
  · rw [dif_neg h]; exact Or.inl rfl
section
variable {x : Nat} {M : Mem} {n0 k p L : Nat} {xs : Nat → Int32}
theorem x_ptrip {c : Nat} {Q : Int32 → Mem → Prop} (hk : M.k c = 11) (hq : Q (M.i 1280 c) M) : wp (f_X10_trip c) M Q := by
  unfold f_X10_trip
  exact w_bnd (w_getI hk (w_pur hq))
theorem x_pbuyer {c : Nat} {Q : Int32 → Mem → Prop} (hk : M.k c = 11) (hq : Q (M.i 1281 c) M) : wp (f_X10_buyer c) M Q := by
  unfold f_X10_buyer
  exact w_bnd (w_getI hk (w_pur hq))
theorem x_pgrams {c : Nat} {Q : Int32 → Mem → Prop} (hk : M.k c = 11) (hq : Q (M.i 1282 c) M) : wp (f_X10_grams c) M Q := by
  unfold f_X10_grams
  exact w_bnd (w_getI hk (w_pur hq))
/-- the j-th paper -/
theorem w_pap {j : Nat} {d : Dt} (hB : Bas x M) (hX : IX x M d) (hj : j < d.papers.length) {β : Type} {f : Nat → Act β} {Q : β → Mem → Prop} (hq : ∀ e, M.k e = 11 → M.i 1280 e = d.papers[j].1 → M.i 1281 e = d.papers[j].2.1 → M.i 1282 e = d.papers[j].2.2 → wp (f e) M Q) : wp (bnd (getR 0 38 x) fun v => bnd (gd 17 v (nt (P_get v (Int32.ofNat j)))) fun w => bnd (cst [11] w) fun _ => f w) M Q := by
  obtain ⟨a1, a2⟩ := hX.2.2.2.2.1
  have hL := hB.1
  have hg := hB.2.2.1
  have hlen := map_len a1
  have hj3 : j < (M.ls (x + 24)).length := by omega
  have hk := a2 _ (List.getElem_mem hj3)
  have er := map_get a1 hj hj3
  refine w_bnd (w_getR0 hL rfl rfl rfl (w_bnd (w_gd hL.k24 (w_nt (w_get hg hL.k24 hj3 (w_bnd (w_cst (Or.inr (by rw [hk]; decide)) (hq _ hk ?_ ?_ ?_))))))))
  · rw [← er]; rfl
  · rw [← er]; rfl
  · rw [← er]; rfl
theorem x_valid_lp {i : Nat} {t most : Int32} {d : Dt} (hB : Bas x M) (hX : IX x M d) (hD : ID d) (hi : i < d.papers.length) {Q : Int32 → Mem → Prop} (hq : Q (vfd t most (d.papers.take (i + 1))).2 M) :
    ∀ q j, j ≤ i + 1 → i + 1 < q + j → wp (lp_X0_isValid_40 x (Int32.ofNat i) t most q (vfd t most (d.papers.take j)).1 (vfd t most (d.papers.take j)).2 (Int32.ofNat j)) M Q := by
  have h60 := hD.2.2.2.2.2.2.1.1
  intro q
  induction q with
  | zero => intro j _ _; omega
  | succ q ih =>
    intro j hj hq'
    rw [lp_X0_isValid_40]
    by_cases e : j = i + 1
    · refine w_t ((i_lt (by omega) (by omega)).mpr (by omega)) (w_purZ (vfd_01 _ _ _) ?_)
      rw [e]; exact hq
    · have hj2 : j < d.papers.length := by omega
      refine w_f (fun z => by have := (i_lt (by omega) (by omega)).mp z; omega) ?_
      refine w_pap hB hX hj2 (fun c1 k1 f1 f2 f3 => w_bnd (w_gd k1 (w_nt (x_ptrip k1 (w_jn ?_)))))
      rw [f1, i_add1]
      have K := ih (j + 1) (by omega) (by omega)
      rw [vfd_s hj2] at K
      unfold vst at K
      by_cases c : d.papers[j].1 = t
      · rw [if_pos c] at K
        refine w_t c (w_pap hB hX hj2 (fun c2 k2 g1 g2 g3 => w_bnd (w_gd k2 (w_nt (x_pgrams k2 (w_jn ?_))))))
        rw [g3]
        by_cases c2 : most < (vfd t most (d.papers.take j)).1 + d.papers[j].2.2
        · rw [if_pos c2] at K
          refine w_t c2 (w_jn (w_t rfl ?_))
          show wp (lp_X0_isValid_40 x (Int32.ofNat i) t most q ((vfd t most (d.papers.take j)).1 + 0) 0 (Int32.ofNat (j + 1))) M Q
          rw [Int32.add_zero]
          exact K
        · rw [if_neg c2] at K
          refine w_f c2 (w_jn (w_f (by decide) (w_pap hB hX hj2 (fun c3 k3 e1 e2 e3 => w_bnd (w_gd k3 (w_nt (x_pgrams k3 ?_)))))))
          rw [e3]
          exact K
      · rw [if_neg c] at K
        exact w_f c K
/-- the trip of a paper -/
theorem pap_t {d : Dt} (hD : ID d) {i : Nat} (hi : i < d.papers.length) : ∃ a, ∃ h : a < d.trips.length, d.papers[i].1 = Int32.ofNat a ∧ valD d i = (vfd (Int32.ofNat a) (provD d d.trips[a]) (d.papers.take (i + 1))).2 := by
  obtain ⟨e1, e2⟩ := hD.2.2.2.2.2.2.1.2 _ (List.getElem_mem hi)
  have h40 := hD.2.2.2.2.2.1.1
  obtain ⟨a, ha, ea⟩ := i_natlt (a := d.papers[i].1) (n := d.trips.length) (Int32.not_lt.mpr (Int32.le_iff_toInt_le.mpr e1)) (by omega) (Int32.lt_iff_toInt_lt.mpr (by rw [i_toInt (by omega)]; exact e2))
  refine ⟨a, ha, ea, ?_⟩
  unfold valD
  rw [dif_pos hi]
  rw [ea, i_clamp (by omega), List.getD_eq_getElem?_getD, List.getElem?_eq_getElem ha]
  rfl
theorem x_isValid {n i : Nat} {d : Dt} (hB : Bas x M) (hX : IX x M d) (hD : ID d) (hn : 9100 ≤ n) (hi : i < d.papers.length) {Q : Int32 → Mem → Prop} (hq : ∀ M', Onl M M' (x + 21) → Q (valD d i) M') : wp (f_X0_isValid n x (Int32.ofNat i)) M Q := by
  obtain ⟨a, ha, ea, ev⟩ := pap_t hD hi
  have hL := hB.1
  have hg := hB.2.2.1
  have h60 := hD.2.2.2.2.2.2.1.1
  have hlen := map_len hX.2.2.2.1.1
  have ha2 : a < (M.ls (x + 23)).length := by omega
  obtain ⟨b1, b2⟩ := hX.2.2.2.1.2.2 _ (List.getElem_mem ha2)
  unfold f_X0_isValid
  refine w_pap hB hX hi (fun c1 k1 f1 f2 f3 => w_bnd (w_gd k1 (w_nt (x_ptrip k1 ?_))))
  rw [f1, ea]
  refine w_bnd (w_getR0 hL rfl rfl rfl (w_bnd (w_gd hL.k23 (w_nt (w_get hg hL.k23 ha2 (w_bnd (w_cst (Or.inr (by rw [b1]; decide)) (w_bnd (w_gd hL.k0 (w_nt (x_proved hB hX hD hn ha ha2 (fun M' o => ?_))))))))))))
  refine x_valid_lp (o.bas hB) (o.ix hB hX) hD hi ?_ n 0 (Nat.zero_le _) (by omega)
  rw [← ev]
  exact hq M' o
theorem m_valid_lp {i : Nat} {t most : Int32} {S : MS} {d : Dt} (hS : IM S d) (hi : i < d.papers.length) {Q : Int32 → MS → Prop} (hq : Q (vfd t most (d.papers.take (i + 1))).2 S) :
    ∀ q j, j ≤ i + 1 → i + 1 < q + j → wm x (lp_X4_isValid_22 (x + 28) (Int32.ofNat i) t most q (vfd t most (d.papers.take j)).1 (vfd t most (d.papers.take j)).2 (Int32.ofNat j)) S Q := by
  obtain ⟨r1, h60, r3⟩ := hS.2.2.2.2.1
  intro q
  induction q with
  | zero => intro j _ _; omega
  | succ q ih =>
    intro j hj hq'
    rw [lp_X4_isValid_22]
    by_cases e : j = i + 1
    · refine m_t ((i_lt (by omega) (by omega)).mpr (by omega)) (m_purZ (vfd_01 _ _ _) ?_)
      rw [e]; exact hq
    · have hj2 : j < d.papers.length := by omega
      obtain ⟨q1, q2, q3⟩ := r3 j hj2
      refine m_f (fun z => by have := (i_lt (by omega) (by omega)).mp z; omega) ?_
      refine m_bnd (m_getRt rfl (m_bnd (m_ldIt rfl (by omega) (m_jn ?_))))
      rw [q1, i_add1]
      have K := ih (j + 1) (by omega) (by omega)
      rw [vfd_s hj2] at K
      unfold vst at K
      by_cases c : d.papers[j].1 = t
      · rw [if_pos c] at K
        refine m_t c (m_bnd (m_getRt rfl (m_bnd (m_ldIt rfl (by omega) (m_jn ?_)))))
        rw [q3]
        by_cases c2 : most < (vfd t most (d.papers.take j)).1 + d.papers[j].2.2
        · rw [if_pos c2] at K
          exact m_t c2 (m_t rfl K)
        · rw [if_neg c2] at K
          refine m_f c2 (m_f (by decide) (m_bnd (m_getRt rfl (m_bnd (m_ldIt rfl (by omega) ?_)))))
          rw [q3]
          exact K
      · rw [if_neg c] at K
        exact m_f c K
theorem m_isValid {n i : Nat} {S : MS} {d : Dt} (hS : IM S d) (hD : ID d) (hn : 9100 ≤ n) (hi : i < d.papers.length) {Q : Int32 → MS → Prop} (hq : ∀ S', Hon S S' → Q (valD d i) S') : wm x (f_X4_isValid n (x + 28) (Int32.ofNat i)) S Q := by
  obtain ⟨a, ha, ea, ev⟩ := pap_t hD hi
  obtain ⟨r1, h60, r3⟩ := hS.2.2.2.2.1
  unfold f_X4_isValid
  refine m_bnd (m_getRt rfl (m_bnd (m_ldIt rfl (by omega) ?_)))
  rw [(r3 i hi).1, ea]
  refine m_bnd (m_gd (m_nt (m_proved hS hD hn ha (fun S' o => ?_))))
  refine m_valid_lp (o.im hS) hi ?_ n 0 (Nat.zero_le _) (by omega)
  rw [← ev]
  exact hq S' o
theorem op_paperOf {n : Nat} {Q : Int32 → Mem → Prop} (hI : Inv x n0 k p L xs M) (hn : 9100 ≤ n) {i w : Int32}
    (hq : ∀ v M1, Scr p L xs M1 → wp (gd 4 (x + 28) (nt (f_X4_paperOf n (x + 28) i w))) M1 (fun w M2 => w = v ∧ Inv x n0 (k + 1) p L xs M2) → Q v M1) : wp (gd 0 x (nt (f_X0_paperOf n x i w))) M Q := by
  refine op_ask hI (fun d hB hX hD => ?_) hq
  have hL := hB.1
  have hg := hB.2.2.1
  have h60 := hD.2.2.2.2.2.2.1.1
  have hlen := map_len hX.2.2.2.2.1.1
  have fin : ∀ {v : Int32}, v = v ∧ Okx x M d M ∧ M.n = M.n ∧ M.sl = M.sl ∧ M.cap = M.cap := fun {v} => ⟨rfl, Okx.rf hB hX, rfl, rfl, rfl⟩
  unfold f_X0_paperOf f_X4_paperOf
  have hx : ∀ {f : Int32 → Act Int32} {R : Int32 → Mem → Prop}, wp (f (bz (0 ≤ i ∧ i ≤ Int32.ofNat d.papers.length - 1))) M R → wp (bnd (getR 0 38 x) fun v1 => bnd (gd 17 v1 (nt (P_size v1))) fun v2 => bnd (nt (f_X0_isIn i.toInt64 (0 : Int64) ((v2 - 1).toInt64))) f) M R := fun {f R} h => by
    refine w_bnd (w_getR0 hL rfl rfl rfl (w_bnd (w_gd hL.k24 (w_nt (w_size hg hL.k24 ?_)))))
    rw [hlen]
    exact w_bnd (w_nt (x_isIn (c := Int32.ofNat d.papers.length - 1) c64_0 rfl h))
  have hm : ∀ {S : MS} {f : Int32 → Act Int32} {R : Int32 → MS → Prop}, IM S d → wm x (f (bz (0 ≤ i ∧ i ≤ Int32.ofNat d.papers.length - 1))) S R → wm x (bnd (getI 4 3 (x + 28)) fun v1 => bnd (nt (f_X4_isIn i (0 : Int32) (v1 - 1))) f) S R := fun {S f R} hS h => by
    refine m_bnd (m_getI (by decide) ?_)
    rw [hS.2.2.2.2.1.1]
    exact m_bnd (m_nt (m_isin h))
  by_cases ci : 0 ≤ i ∧ i ≤ Int32.ofNat d.papers.length - 1
  · obtain ⟨j, hj, rfl⟩ := lenI (by omega) ci
    refine ⟨if w = 0 then d.papers[j].1 else if w = 1 then d.papers[j].2.1 else if w = 2 then d.papers[j].2.2 else if w = 3 then valD d j else -1, hx (w_t (fun z => bzf z ci) (w_pap hB hX hj (fun c1 k1 f1 f2 f3 => w_jn ?_))), fun S hS => hm hS (m_t (fun z => bzf z ci) (m_jn ?_))⟩
    · refine w_ite (fun h0 => w_ite (fun h1 => w_ite (fun h2 => w_ite (fun h3 => w_pur ?_) (fun h3 => ?_)) (fun h2 => ?_)) (fun h1 => ?_)) (fun h0 => ?_)
      · rw [if_neg h0, if_neg h1, if_neg h2, if_neg h3]; exact fin
      · rw [Decidable.not_not] at h3; rw [if_neg h0, if_neg h1, if_neg h2, if_pos h3]
        refine w_bnd (w_gd hL.k0 (w_nt (x_isValid hB hX hD hn hj (fun M' o => ?_))))
        have fn := o.okx hB hX
        refine w_ite (fun z => w_pur ⟨z.symm, fn, o.2.2.1, o.2.2.2.1, o.2.2.2.2.2.1⟩) (fun z => w_pur ⟨((valD_01 d j).resolve_left z).symm, fn, o.2.2.1, o.2.2.2.1, o.2.2.2.2.2.1⟩)
      · rw [Decidable.not_not] at h2; rw [if_neg h0, if_neg h1, if_pos h2]
        exact w_bnd (w_gd k1 (w_nt (x_pgrams k1 (w_pur (by rw [f3]; exact fin)))))
      · rw [Decidable.not_not] at h1; rw [if_neg h0, if_pos h1]
        exact w_bnd (w_gd k1 (w_nt (x_pbuyer k1 (w_pur (by rw [f2]; exact fin)))))
      · rw [Decidable.not_not] at h0; rw [if_pos h0]
        exact w_bnd (w_gd k1 (w_nt (x_ptrip k1 (w_pur (by rw [f1]; exact fin)))))
    · obtain ⟨q1, q2, q3⟩ := hS.2.2.2.2.1.2.2 j hj
      refine m_ite (fun h0 => m_ite (fun h1 => m_ite (fun h2 => m_ite (fun h3 => m_pur ?_) (fun h3 => ?_)) (fun h2 => ?_)) (fun h1 => ?_)) (fun h0 => ?_)
      · rw [if_neg h0, if_neg h1, if_neg h2, if_neg h3]; exact ⟨rfl, hS⟩
      · rw [Decidable.not_not] at h3; rw [if_neg h0, if_neg h1, if_neg h2, if_pos h3]
        refine m_bnd (m_gd (m_nt (m_isValid hS hD hn hj (fun S' o => m_bnd (m_nt (m_ones (m_pur ⟨?_, o.im hS⟩)))))))
        rcases valD_01 d j with z | z <;> (rw [z]; rfl)
      · rw [Decidable.not_not] at h2; rw [if_neg h0, if_neg h1, if_pos h2]
        exact m_bnd (m_getRt rfl (m_bnd (m_ldIt rfl (by omega) (m_pur ⟨q3, hS⟩))))
      · rw [Decidable.not_not] at h1; rw [if_neg h0, if_pos h1]
        exact m_bnd (m_getRt rfl (m_bnd (m_ldIt rfl (by omega) (m_pur ⟨q2, hS⟩))))
      · rw [Decidable.not_not] at h0; rw [if_pos h0]
        exact m_bnd (m_getRt rfl (m_bnd (m_ldIt rfl (by omega) (m_pur ⟨q1, hS⟩))))
  · exact ⟨-1, hx (w_f (fun z => z (bz_0.mpr ci)) (w_pur fin)), fun S hS => hm hS (m_f (fun z => z (bz_0.mpr ci)) (m_pur ⟨rfl, hS⟩))⟩
end
