set_option maxRecDepth 100000
def runsD (stk : List Sk) : Int32 := stk.foldl (fun v s => if s.on = 0 then v else v + 1) 0
def leftD (tp : List Tp) : Int32 := tp.foldl (fun v t => if t.how = 1 then v + 1 else v) 0
theorem sumN_tail {f : Nat → Int32} {j : Nat} : ∀ N, j ≤ N → (∀ k, j ≤ k → k < N → f k = 0) → sumN f N = sumN f j := by
  intro N
  induction N with
  | zero => intro h _; rw [show j = 0 by omega]
  | succ N ih =>
    intro h hz
    by_cases e : j = N + 1
    · rw [e]
    · show sumN f N + f N = _
      rw [ih (by omega) (fun k h1 h2 => hz k h1 (by omega)), hz N (by omega) (by omega), Int32.add_zero]
section
variable {x : Nat} {M : Mem} {n0 k p L : Nat} {xs : Nat → Int32}
theorem x_runs_lp {stk : List Sk} (hB : Bas x M) (hX : XS x M stk) {Q : Int32 → Mem → Prop} (hq : Q (runsD stk) M) :
    ∀ q j, j ≤ stk.length → stk.length < q + j → wp (lp_X0_runs_4 x q (runsD (stk.take j)) (Int32.ofNat j)) M Q := by
  have hL := hB.1
  have hg := hB.2.2.1
  obtain ⟨g1, g2, g3, g4⟩ := hX
  have hlen := map_len g1
  have hb := hg.len hL.k17
  intro q
  induction q with
  | zero => intro j _ _; omega
  | succ q ih =>
    intro j hj hq'
    rw [lp_X0_runs_4]
    refine w_bnd (w_getR0 hL rfl rfl rfl (w_bnd (w_gd hL.k17 (w_nt (w_size hg hL.k17 ?_)))))
    rw [hlen]
    by_cases e : j = stk.length
    · refine w_t ((i_le (by omega) (by omega)).mpr (by omega)) (w_pur ?_)
      rw [e, List.take_length]; exact hq
    · have hj2 : j < stk.length := by omega
      have hj3 : j < (M.ls (x + 17)).length := by omega
      have hk := g2 _ (List.getElem_mem hj3)
      have er := map_get g1 hj2 hj3
      have f7 : M.i (128 * 6 + 7) (M.ls (x + 17))[j] = stk[j].on := by rw [← er]; rfl
      have K := ih (j + 1) (by omega) (by omega)
      unfold runsD at K
      rw [foldl_take hj2] at K
      refine w_f (fun z => by have := (i_le (by omega) (by omega)).mp z; omega) ?_
      refine w_bnd (w_getR0 hL rfl rfl rfl (w_bnd (w_gd hL.k17 (w_nt (w_get hg hL.k17 hj3 (w_bnd (w_cst (Or.inr (by rw [hk]; decide)) (w_bnd (w_getIv hk f7 (w_jn ?_))))))))))
      rw [i_add1]
      refine w_ite (fun c => ?_) (fun c => ?_)
      · rw [if_pos c] at K
        show wp (lp_X0_runs_4 x q (runsD (stk.take j) + 0) (Int32.ofNat (j + 1))) M Q
        rw [Int32.add_zero]; exact K
      · rw [if_neg c] at K
        exact K
theorem x_runs {n : Nat} {stk : List Sk} (hB : Bas x M) (hX : XS x M stk) (hn : 9100 ≤ n) {Q : Int32 → Mem → Prop} (hq : Q (runsD stk) M) : wp (f_X0_runs n x) M Q := by
  have hb := hB.2.2.1.len hB.1.k17
  have hlen := map_len hX.1
  unfold f_X0_runs
  exact x_runs_lp hB hX hq n 0 (Nat.zero_le _) (by omega)
theorem m_runs_lp {S : MS} {now : Nat} {stk : List Sk} (hS : RS S now stk) {Q : Int32 → MS → Prop} (hq : Q (runsD stk) S) :
    ∀ q j, j ≤ stk.length → stk.length < q + j → wm x (lp_X4_runningNow_4 (x + 28) q (runsD (stk.take j)) (Int32.ofNat j)) S Q := by
  obtain ⟨r1, r2, r3, r4⟩ := hS
  intro q
  induction q with
  | zero => intro j _ _; omega
  | succ q ih =>
    intro j hj hq'
    rw [lp_X4_runningNow_4]
    refine m_bnd (m_getI (by decide) ?_)
    rw [r1]
    by_cases e : j = stk.length
    · refine m_t ((i_le (by omega) (by omega)).mpr (by omega)) (m_pur ?_)
      rw [e, List.take_length]; exact hq
    · have hj2 : j < stk.length := by omega
      have K := ih (j + 1) (by omega) (by omega)
      unfold runsD at K
      rw [foldl_take hj2] at K
      refine m_f (fun z => by have := (i_le (by omega) (by omega)).mp z; omega) (m_bnd (m_getRt rfl (m_bnd (m_ldIt rfl (by omega) (m_bnd (m_nt (m_ones ?_)))))))
      rw [(r3 j hj2).2.2.2.2.1, i_add1]
      by_cases c : stk[j].on = 0
      · rw [if_pos c] at K
        rw [bz_f (fun z => z c), Int32.add_zero]; exact K
      · rw [if_neg c] at K
        rw [bz_t c]; exact K
theorem m_runs {n : Nat} {S : MS} {now : Nat} {stk : List Sk} (hS : RS S now stk) (hn : 100 ≤ n) {Q : Int32 → MS → Prop} (hq : Q (runsD stk) S) : wm x (f_X4_runningNow n (x + 28)) S Q := by
  have := hS.2.1
  unfold f_X4_runningNow
  exact m_runs_lp hS hq n 0 (Nat.zero_le _) (by omega)
theorem x_left_lp {d : Dt} (hB : Bas x M) (hX : IX x M d) {Q : Int32 → Mem → Prop} (hq : Q (leftD d.trips) M) :
    ∀ q j, j ≤ d.trips.length → d.trips.length < q + j → wp (lp_X0_leftMany_4 x q (leftD (d.trips.take j)) (Int32.ofNat j)) M Q := by
  have hL := hB.1
  have hg := hB.2.2.1
  obtain ⟨g1, g2, g3⟩ := hX.2.2.2.1
  have hlen := map_len g1
  have hb := hg.len hL.k23
  intro q
  induction q with
  | zero => intro j _ _; omega
  | succ q ih =>
    intro j hj hq'
    rw [lp_X0_leftMany_4]
    refine w_bnd (w_getR0 hL rfl rfl rfl (w_bnd (w_gd hL.k23 (w_nt (w_size hg hL.k23 ?_)))))
    rw [hlen]
    by_cases e : j = d.trips.length
    · refine w_t ((i_le (by omega) (by omega)).mpr (by omega)) (w_pur ?_)
      rw [e, List.take_length]; exact hq
    · have hj2 : j < d.trips.length := by omega
      have hj3 : j < (M.ls (x + 23)).length := by omega
      have hk := (g3 _ (List.getElem_mem hj3)).1
      have er := map_get g1 hj2 hj3
      have f4 : M.i (128 * 7 + 4) (M.ls (x + 23))[j] = d.trips[j].how := by rw [← er]; rfl
      have K := ih (j + 1) (by omega) (by omega)
      unfold leftD at K
      rw [foldl_take hj2] at K
      refine w_f (fun z => by have := (i_le (by omega) (by omega)).mp z; omega) ?_
      refine w_bnd (w_getR0 hL rfl rfl rfl (w_bnd (w_gd hL.k23 (w_nt (w_get hg hL.k23 hj3 (w_bnd (w_cst (Or.inr (by rw [hk]; decide)) (w_bnd (w_getIv hk f4 (w_jn ?_))))))))))
      rw [i_add1]
      refine w_ite (fun c => ?_) (fun c => ?_)
      · rw [if_neg c] at K
        show wp (lp_X0_leftMany_4 x q (leftD (d.trips.take j) + 0) (Int32.ofNat (j + 1))) M Q
        rw [Int32.add_zero]; exact K
      · rw [Decidable.not_not] at c
        rw [if_pos c] at K
        exact K
theorem m_left_lp {S : MS} {d : Dt} (hS : IM S d) {Q : Int32 → MS → Prop} (hq : Q (leftD d.trips) S) :
    ∀ q j, j ≤ d.trips.length → d.trips.length < q + j → wm x (lp_X4_count_82 (x + 28) q (leftD (d.trips.take j)) (Int32.ofNat j)) S Q := by
  obtain ⟨r1, r2, r3, r4⟩ := hS.2.2.2.1
  intro q
  induction q with
  | zero => intro j _ _; omega
  | succ q ih =>
    intro j hj hq'
    rw [lp_X4_count_82]
    refine m_bnd (m_getI (by decide) ?_)
    rw [r1]
    by_cases e : j = d.trips.length
    · refine m_t ((i_le (by omega) (by omega)).mpr (by omega)) (m_pur ?_)
      rw [e, List.take_length]; exact hq
    · have hj2 : j < d.trips.length := by omega
      have K := ih (j + 1) (by omega) (by omega)
      unfold leftD at K
      rw [foldl_take hj2] at K
      refine m_f (fun z => by have := (i_le (by omega) (by omega)).mp z; omega) (m_bnd (m_getRt rfl (m_bnd (m_ldIt rfl (by omega) (m_jn ?_)))))
      rw [(r3 j hj2).2.2.2.1, i_add1]
      refine m_ite (fun c => ?_) (fun c => ?_)
      · rw [if_neg c] at K
        refine m_bnd (m_nt (m_ones ?_))
        show wm x (lp_X4_count_82 (x + 28) q (leftD (d.trips.take j) + 0) (Int32.ofNat (j + 1))) S Q
        rw [Int32.add_zero]; exact K
      · rw [Decidable.not_not] at c
        rw [if_pos c] at K
        exact m_bnd (m_nt (m_ones K))
theorem x_vmany_lp {n : Nat} {d : Dt} (hB : Bas x M) (hX : IX x M d) (hD : ID d) (hn : 9100 ≤ n) {Q : Int32 → Mem → Prop} (hq : ∀ M', Onl M M' (x + 21) → Q (sumN (valD d) d.papers.length) M') :
    ∀ q j M1, Onl M M1 (x + 21) → j ≤ d.papers.length → d.papers.length < q + j → wp (lp_X0_validMany_4 n x q (sumN (valD d) j) (Int32.ofNat j)) M1 Q := by
  have h60 := hD.2.2.2.2.2.2.1.1
  intro q
  induction q with
  | zero => intro j _ _ _ _; omega
  | succ q ih =>
    intro j M1 o hj hq'
    have hB1 := o.bas hB
    have hX1 := o.ix hB hX
    have hL := hB1.1
    rw [lp_X0_validMany_4]
    refine w_bnd (w_getR0 hL rfl rfl rfl (w_bnd (w_gd hL.k24 (w_nt (w_size hB1.2.2.1 hL.k24 ?_)))))
    rw [map_len hX1.2.2.2.2.1.1]
    by_cases e : j = d.papers.length
    · refine w_t ((i_le (by omega) (by omega)).mpr (by omega)) (w_pur ?_)
      rw [e]; exact hq M1 o
    · have hj2 : j < d.papers.length := by omega
      refine w_f (fun z => by have := (i_le (by omega) (by omega)).mp z; omega) (w_bnd (w_gd hL.k0 (w_nt (x_isValid hB1 hX1 hD hn hj2 (fun M2 o2 => w_jn ?_)))))
      have K := ih (j + 1) M2 (o.tr o2) (by omega) (by omega)
      have K : wp (lp_X0_validMany_4 n x q (sumN (valD d) j + valD d j) (Int32.ofNat (j + 1))) M2 Q := K
      rw [i_add1]
      refine w_ite (fun c => ?_) (fun c => ?_)
      · rw [c] at K; exact K
      · rw [(valD_01 d j).resolve_left c] at K; exact K
theorem m_vmany_lp {n : Nat} {S : MS} {d : Dt} (hS : IM S d) (hD : ID d) (hn : 9100 ≤ n) {Q : Int32 → MS → Prop} (hq : ∀ S', Hon S S' → Q (sumN (valD d) d.papers.length) S') :
    ∀ q j S1, Hon S S1 → j ≤ d.papers.length → d.papers.length < q + j → wm x (lp_X4_count_126 n (x + 28) q (sumN (valD d) j) (Int32.ofNat j)) S1 Q := by
  have h60 := hD.2.2.2.2.2.2.1.1
  intro q
  induction q with
  | zero => intro j _ _ _ _; omega
  | succ q ih =>
    intro j S1 o hj hq'
    have hS1 := o.im hS
    rw [lp_X4_count_126]
    refine m_bnd (m_getI (by decide) ?_)
    rw [hS1.2.2.2.2.1.1]
    by_cases e : j = d.papers.length
    · refine m_t ((i_le (by omega) (by omega)).mpr (by omega)) (m_pur ?_)
      rw [e]; exact hq S1 o
    · have hj2 : j < d.papers.length := by omega
      refine m_f (fun z => by have := (i_le (by omega) (by omega)).mp z; omega) (m_bnd (m_gd (m_nt (m_isValid hS1 hD hn hj2 (fun S2 o2 => m_bnd (m_nt (m_ones ?_)))))))
      have K := ih (j + 1) S2 (o.tr o2) (by omega) (by omega)
      have K : wm x (lp_X4_count_126 n (x + 28) q (sumN (valD d) j + valD d j) (Int32.ofNat (j + 1))) S2 Q := K
      have e1 : bz (valD d j ≠ 0) = valD d j := by
        rcases valD_01 d j with z | z <;> (rw [z]; rfl)
      rw [i_add1, e1]
      exact K
theorem x_gmany_lp {n : Nat} {d : Dt} (hB : Bas x M) (hX : IX x M d) (hD : ID d) (hn : 9100 ≤ n) {Q : Int32 → Mem → Prop} (hq : ∀ M', Onl M M' (x + 21) → Q (sumN (fun h => bz (gr d h = true)) 834) M') :
    ∀ q j M1, Onl M M1 (x + 21) → j ≤ 833 → 833 < q + j → wp (lp_X0_greenMany_4 n x q (sumN (fun h => bz (gr d h = true)) j) (Int32.ofNat j)) M1 Q := by
  have hnow := hD.1
  intro q
  induction q with
  | zero => intro j _ _ _ _; omega
  | succ q ih =>
    intro j M1 o hj hq'
    have hB1 := o.bas hB
    have hX1 := o.ix hB hX
    have hL := hB1.1
    rw [lp_X0_greenMany_4]
    refine w_bnd (w_gd hL.k0 (w_nt (x_isHour hB1 hX1 hD (by omega) ?_)))
    by_cases c : 6 * j + 6 ≤ d.now
    · refine w_f (fun z => bzf z c) (w_bnd (w_gd hL.k0 (w_nt (x_isGreen hB1 hX1 hD hn (by omega) (fun M2 o2 => w_jn ?_)))))
      have K := ih (j + 1) M2 (o.tr o2) (by omega) (by omega)
      have K : wp (lp_X0_greenMany_4 n x q (sumN (fun h => bz (gr d h = true)) j + bz (gr d j = true)) (Int32.ofNat (j + 1))) M2 Q := K
      rw [i_add1]
      refine w_ite (fun c => ?_) (fun c => ?_)
      · rw [c] at K; exact K
      · rw [bz_z.resolve_left c] at K; exact K
    · refine w_t (bz_0.mpr c) (w_pur ?_)
      have hq := hq M1 o
      rw [sumN_tail (j := j) 834 (by omega) (fun h h1 h2 => by
        refine bz_f (fun z => ?_)
        unfold gr at z
        rw [decide_eq_false (by omega), Bool.false_and] at z
        exact absurd z (by decide))] at hq
      exact hq
theorem m_gmany_lp {n : Nat} {S : MS} {d : Dt} (hS : IM S d) (hD : ID d) (hn : 9100 ≤ n) {Q : Int32 → MS → Prop} (hq : ∀ S', Hon S S' → Q (sumN (fun h => bz (gr d h = true)) 834) S') :
    ∀ q j S1, Hon S S1 → j ≤ 834 → 834 < q + j → wm x (lp_X4_count_170 n (x + 28) q (sumN (fun h => bz (gr d h = true)) j) (Int32.ofNat j)) S1 Q := by
  intro q
  induction q with
  | zero => intro j _ _ _ _; omega
  | succ q ih =>
    intro j S1 o hj hq'
    have hS1 := o.im hS
    rw [lp_X4_count_170]
    by_cases e : j = 834
    · refine m_t ((i_le (a := 834) (by omega) (by omega)).mpr (by omega)) (m_pur ?_)
      rw [e]; exact hq S1 o
    · refine m_f (fun z => by have := (i_le (a := 834) (by omega) (by omega)).mp z; omega) (m_bnd (m_gd (m_nt (m_isGreen hS1 hD hn (by omega) (fun S2 o2 => m_bnd (m_nt (m_ones ?_)))))))
      have K := ih (j + 1) S2 (o.tr o2) (by omega) (by omega)
      have K : wm x (lp_X4_count_170 n (x + 28) q (sumN (fun h => bz (gr d h = true)) j + bz (gr d j = true)) (Int32.ofNat (j + 1))) S2 Q := K
      have e1 : bz (bz (gr d j = true) ≠ 0) = bz (gr d j = true) := by
        rcases bz_z (P := gr d j = true) with z | z <;> (rw [z]; rfl)
      rw [i_add1, e1]
      exact K
theorem op_count {n : Nat} {Q : Int32 → Mem → Prop} (hI : Inv x n0 k p L xs M) (hn : 9100 ≤ n) {w : Int32}
    (hq : ∀ v M1, Scr p L xs M1 → wp (gd 4 (x + 28) (nt (f_X4_count n (x + 28) w))) M1 (fun w M2 => w = v ∧ Inv x n0 (k + 1) p L xs M2) → Q v M1) : wp (gd 0 x (nt (f_X0_count n x w))) M Q := by
  refine op_ask hI (fun d hB hX hD => ?_) hq
  have hL := hB.1
  have hg := hB.2.2.1
  have h40 := hD.2.2.2.2.2.1.1
  have h60 := hD.2.2.2.2.2.2.1.1
  have fin : ∀ {v : Int32}, v = v ∧ Okx x M d M ∧ M.n = M.n ∧ M.sl = M.sl ∧ M.cap = M.cap := fun {v} => ⟨rfl, Okx.rf hB hX, rfl, rfl, rfl⟩
  have fix : ∀ {v : Int32} {M' : Mem}, Onl M M' (x + 21) → v = v ∧ Okx x M d M' ∧ M'.n = M.n ∧ M'.sl = M.sl ∧ M'.cap = M.cap := fun {v M'} o => ⟨rfl, o.okx hB hX, o.2.2.1, o.2.2.2.1, o.2.2.2.2.2.1⟩
  unfold f_X0_count f_X4_count
  rcases sw_c w 11 with ⟨i, hi, rfl⟩ | hw
  · rw [sw_kN 11 rfl hi (by decide), sw_kN 11 rfl hi (by decide)]
    rcases (by omega : i = 0 ∨ i = 1 ∨ i = 2 ∨ i = 3 ∨ i = 4 ∨ i = 5 ∨ i = 6 ∨ i = 7 ∨ i = 8 ∨ i = 9 ∨ i = 10) with rfl | rfl | rfl | rfl | rfl | rfl | rfl | rfl | rfl | rfl | rfl
    · exact ⟨Int32.ofNat d.now, w_bnd (w_getIv hL.k0 hX.2.2.2.2.2.2.1.1 (w_pur fin)), fun S hS => m_bnd (m_getI (by decide) (m_pur ⟨hS.2.2.2.2.2.2.1.1, hS⟩))⟩
    · exact ⟨Int32.ofNat d.stk.length, w_bnd (w_getR0 hL rfl rfl rfl (w_bnd (w_gd hL.k17 (w_nt (w_size hg hL.k17 (w_pur (by rw [map_len hX.2.1.1]; exact fin))))))), fun S hS => m_bnd (m_getI (by decide) (m_pur ⟨hS.2.1.1, hS⟩))⟩
    · exact ⟨runsD d.stk, w_bnd (w_gd hL.k0 (w_nt (x_runs hB hX.2.1 hn (w_pur fin)))), fun S hS => m_bnd (m_gd (m_nt (m_runs hS.2.1 (by omega) (m_pur ⟨rfl, hS⟩))))⟩
    · exact ⟨Int32.ofNat d.trips.length, w_bnd (w_getR0 hL rfl rfl rfl (w_bnd (w_gd hL.k23 (w_nt (w_size hg hL.k23 (w_pur (by rw [map_len hX.2.2.2.1.1]; exact fin))))))), fun S hS => m_bnd (m_getI (by decide) (m_pur ⟨hS.2.2.2.1.1, hS⟩))⟩
    · refine ⟨leftD d.trips, w_bnd (w_gd hL.k0 (w_nt ?_)), fun S hS => m_left_lp hS ⟨rfl, hS⟩ n 0 (Nat.zero_le _) (by omega)⟩
      unfold f_X0_leftMany
      exact x_left_lp hB hX (w_pur fin) n 0 (Nat.zero_le _) (by omega)
    · exact ⟨Int32.ofNat d.papers.length, w_bnd (w_getR0 hL rfl rfl rfl (w_bnd (w_gd hL.k24 (w_nt (w_size hg hL.k24 (w_pur (by rw [map_len hX.2.2.2.2.1.1]; exact fin))))))), fun S hS => m_bnd (m_getI (by decide) (m_pur ⟨hS.2.2.2.2.1.1, hS⟩))⟩
    · refine ⟨sumN (valD d) d.papers.length, w_bnd (w_gd hL.k0 (w_nt ?_)), fun S hS => m_vmany_lp hS hD hn (fun S' o => ⟨rfl, o.im hS⟩) n 0 S Hon.rf (Nat.zero_le _) (by omega)⟩
      unfold f_X0_validMany
      exact x_vmany_lp hB hX hD hn (fun M' o => w_pur (fix o)) n 0 M Onl.rf (Nat.zero_le _) (by omega)
    · exact ⟨Int32.ofNat d.rules.length, w_bnd (w_getR0 hL rfl rfl rfl (w_bnd (w_gd hL.k7 (w_nt (w_size hg hL.k7 (w_pur (by rw [hX.2.2.2.2.2.2.2.2.1]; exact fin))))))), fun S hS => m_bnd (m_getI (by decide) (m_pur ⟨hS.2.2.2.2.2.2.2.1, hS⟩))⟩
    · exact ⟨Int32.ofNat d.places.length, w_bnd (w_getR0 hL rfl rfl rfl (w_bnd (w_gd hL.k25 (w_nt (w_size hg hL.k25 (w_pur (by rw [map_len hX.2.2.2.2.2.1.1]; exact fin))))))), fun S hS => m_bnd (m_getI (by decide) (m_pur ⟨hS.2.2.2.2.2.1.1, hS⟩))⟩
    · exact ⟨Int32.ofNat d.tape.length, w_bnd (w_getIv hL.k0 hX.2.2.2.2.2.2.1.2.2.2.2.2.1 (w_pur fin)), fun S hS => m_bnd (m_getI (by decide) (m_pur ⟨hS.2.2.2.2.2.2.1.2.2.2.2.2.1, hS⟩))⟩
    · refine ⟨sumN (fun h => bz (gr d h = true)) 834, w_bnd (w_gd hL.k0 (w_nt ?_)), fun S hS => m_gmany_lp hS hD hn (fun S' o => ⟨rfl, o.im hS⟩) n 0 S Hon.rf (Nat.zero_le _) (by omega)⟩
      unfold f_X0_greenMany
      exact x_gmany_lp hB hX hD hn (fun M' o => w_pur (fix o)) n 0 M Onl.rf (Nat.zero_le _) (by omega)
  · rw [sw_dN 11 rfl hw (by decide), sw_dN 11 rfl hw (by decide)]
    exact ⟨-1, w_pur fin, fun S hS => m_pur ⟨rfl, hS⟩⟩
end
