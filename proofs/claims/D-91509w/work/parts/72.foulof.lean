set_option maxRecDepth 100000
section
variable {x : Nat} {M : Mem} {S : MS}
theorem x_foulOf_lp {st l : Nat} {lots : List Tri} (hg : GL M) (k1 : M.k st = 4) (k2 : M.r (128 * 3 + 0) st = l) (k3 : M.k l = 18) (hm : (M.ls l).map (rdLt M) = lots) (hk : ∀ c ∈ M.ls l, M.k c = 9) (hp : posL lots) {Q : Int32 → Mem → Prop} :
    ∀ q j v w, j ≤ lots.length → lots.length < q + j → Q (v + flS (lots.drop j) w) M → wp (lp_X3_foulOf_7 st q v w (Int32.ofNat j)) M Q := by
  have hlen := map_len hm
  have hb := hg.len k3
  intro q
  induction q with
  | zero => intro j _ _ _ _; omega
  | succ q ih =>
    intro j v w hj hq' hq
    rw [lp_X3_foulOf_7]
    refine w_bnd (w_getRv k1 k2 (w_bnd (w_gd k3 (w_nt (w_size hg k3 (w_jn ?_))))))
    rw [hlen]
    by_cases e : j = lots.length
    · rw [e, List.drop_length] at hq
      refine w_t ((i_le (by omega) (by omega)).mpr (by omega)) (w_pur ?_)
      have : v + flS [] w = v := Int32.add_zero v
      rw [this] at hq; exact hq
    · have hj2 : j < lots.length := by omega
      have hj3 : j < (M.ls l).length := by omega
      have kc := hk _ (List.getElem_mem hj3)
      have er := map_get hm hj2 hj3
      have e1 : M.i 1025 (M.ls l)[j] = lots[j].2.1 := by rw [← er]; rfl
      have e2 : M.i 1026 (M.ls l)[j] = lots[j].2.2 := by rw [← er]; rfl
      have hpe := hp _ (List.getElem_mem hj2)
      rw [drop_s hj2] at hq
      refine w_f (fun z => by have := (i_le (by omega) (by omega)).mp z; omega) (w_ite (fun hw => ?_) (fun hw => ?_))
      · rw [fl_0 hw, Int32.add_zero] at hq
        exact w_pur hq
      · rw [fl_s hw, ← Int32.add_assoc] at hq
        refine w_bnd (w_getRv k1 k2 (w_bnd (w_gd k3 (w_nt (w_get hg k3 hj3 (w_bnd (w_cst (Or.inr (by rw [kc]; decide)) (w_bnd (w_getIv kc e1 ?_)))))))))
        refine w_bnd (w_getRv k1 k2 (w_bnd (w_gd k3 (w_nt (w_get hg k3 hj3 (w_bnd (w_cst (Or.inr (by rw [kc]; decide)) (w_bnd (w_gd kc (w_nt (x_8foul kc e1 e2 (by omega) ?_)))))))))))
        rw [i_add1]
        exact ih (j + 1) _ _ (by omega) (by omega) hq
theorem x_foulOf {n st l : Nat} {lots : List Tri} {w : Int32} (hg : GL M) (k1 : M.k st = 4) (k2 : M.r (128 * 3 + 0) st = l) (k3 : M.k l = 18) (hm : (M.ls l).map (rdLt M) = lots) (hk : ∀ c ∈ M.ls l, M.k c = 9) (hp : posL lots) (hn : 9100 ≤ n) {Q : Int32 → Mem → Prop} (hq : Q (flS lots w) M) : wp (f_X3_foulOf n st w) M Q := by
  have hlen := map_len hm
  have hb := hg.len k3
  unfold f_X3_foulOf
  refine x_foulOf_lp hg k1 k2 k3 hm hk hp n 0 0 w (Nat.zero_le _) (by omega) ?_
  rw [Int32.zero_add]; exact hq
theorem m_part {f m g : Int32} (g0 : g.toInt ≠ 0) {Q : Int32 → MS → Prop} (hq : Q (prt f m g) S) : wm x (f_X4_part f m g) S Q := by
  unfold f_X4_part
  unfold prt at hq
  refine m_jn (m_ite (fun h => ?_) (fun h => ?_))
  · rw [if_neg h] at hq
    exact m_nzl (l64_0 g0) (m_pur hq)
  · rw [Decidable.not_not] at h
    rw [if_pos h] at hq
    exact m_pur hq
theorem m_foulIn_lp {s : Nat} {so : So} (hs : s < 2) (hG : RG1 S s so) (hp : posL so.lots) {Q : Int32 → MS → Prop} :
    ∀ q j v w, j ≤ so.lots.length → so.lots.length + 1 < q + j → 0 ≤ w.toInt → w.toInt ≤ sumG (so.lots.drop j) → Q (v + flS (so.lots.drop j) w) S → wm x (lp_X4_foulIn_8 (x + 28) (Int32.ofNat s) q w v (Int32.ofNat j)) S Q := by
  obtain ⟨r1, r2, r3, r4, r5, r6, r7, r8, o, r9, r10, r11, r12⟩ := hG
  intro q
  induction q with
  | zero => intro j _ _ _ _; omega
  | succ q ih =>
    intro j v w hj hq' h0 h1 hq
    rw [lp_X4_foulIn_8]
    refine m_ite (fun hw => ?_) (fun hw => ?_)
    · rw [fl_0 hw, Int32.add_zero] at hq
      exact m_pur hq
    · have hw1 : 0 < w.toInt := Int32.lt_iff_toInt_lt.mp (Int32.not_le.mp hw)
      have hj2 : j < so.lots.length := by
        rcases Nat.lt_or_ge j so.lots.length with z | z
        · exact z
        · rw [List.drop_of_length_le z] at h1
          have : sumG [] = 0 := rfl
          omega
      obtain ⟨t1, t2, t3, t4⟩ := r12 j hj2
      have hpe := hp _ (List.getElem_mem hj2)
      rw [drop_s hj2] at hq h1
      rw [fl_s hw, ← Int32.add_assoc] at hq
      rw [sumG_c] at h1
      refine m_bnd (m_getRt rfl (m_bnd (m_ldIt rfl hs ?_)))
      rw [r9, i_add]
      refine m_bnd (m_nt (m_placeAt ?_))
      refine m_bnd (m_getRt rfl (m_bnd (m_ldIt rfl (by omega) (m_bnd (m_getRt rfl (m_bnd (m_ldIt rfl (by omega) (m_bnd (m_getRt rfl (m_bnd (m_ldIt rfl (by omega) ?_)))))))))))
      rw [t2, t3]
      refine m_bnd (m_nt (m_part (by omega) ?_))
      rw [i_add1]
      have hpos : ∀ e ∈ so.lots.drop (j + 1), 0 < e.2.1.toInt := fun e he => hp e (List.mem_of_mem_drop he)
      have hsum := posL.sum hpos
      rcases mn_c hpe hw with ⟨m1, m2, m3, m4⟩ | ⟨m1, m2, m3, m4, m5⟩
      · exact ih (j + 1) _ _ (by omega) (by omega) (by omega) (by omega) hq
      · refine ih (j + 1) _ _ (by omega) (by omega) (by rw [m4]; decide) ?_ hq
        rw [m4]; exact hsum
theorem m_foulIn {n s : Nat} {so : So} {w : Int32} (hs : s < 2) (hG : RG1 S s so) (hp : posL so.lots) (h0 : 0 ≤ w.toInt) (h1 : w.toInt ≤ sumG so.lots) (hn : 9100 ≤ n) {Q : Int32 → MS → Prop} (hq : Q (flS so.lots w) S) : wm x (f_X4_foulIn n (x + 28) (Int32.ofNat s) w) S Q := by
  have hl : so.lots.length ≤ 834 := by
    obtain ⟨-, -, -, -, -, -, -, -, o, -, -, r11, -⟩ := hG
    omega
  unfold f_X4_foulIn
  refine m_foulIn_lp hs hG hp n 0 0 w (Nat.zero_le _) (by omega) h0 h1 ?_
  rw [Int32.zero_add]; exact hq
end
