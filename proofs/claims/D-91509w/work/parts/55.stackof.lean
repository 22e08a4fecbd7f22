set_option maxRecDepth 100000
section
variable {x : Nat} {M : Mem} {n0 k p L : Nat} {xs : Nat → Int32}
theorem i_div {a b : Nat} (ha : a < 2147483648) (hb : b < 2147483648) (h0 : 0 < b) : Int32.ofNat a / Int32.ofNat b = Int32.ofNat (a / b) := by
  have hd : a / b ≤ a := Nat.div_le_self a b
  have e : (a : Int).tdiv (b : Int) = ((a / b : Nat) : Int) := rfl
  apply Int32.toInt_inj.mp
  rw [Int32.toInt_div, i_toInt ha, i_toInt hb, i_toInt (by omega), e]
  generalize a / b = c at *
  rw [Int.bmod_eq_of_le]
  · omega
  · omega
theorem x_least {c r : Nat} {ru : Ru} {Q : Int32 → Mem → Prop} (hc : M.k c = 7) (hr : XR1 x M r ru) (hq : Q (mx 1 ((M.i 769 c * tel ru.stm 2 20) / 100)) M) : wp (f_X6_least c r) M Q := by
  unfold f_X6_least
  exact w_bnd (w_getI hc (w_bnd (w_getIv hr.1 hr.2.2.2.2.1 (w_pur hq))))
theorem m_leastOf {n : Nat} {S : MS} {rs : List Ru} {j : Nat} (hR : RU S rs) (hn : 100 ≤ n) (hj : j < 4) {t : Int32} {Q : Int32 → MS → Prop} (hq : Q (mx 1 ((S.a 5 j * lawA rs t 2) / 100)) S) : wm x (f_X4_leastOf n (x + 28) (Int32.ofNat j) (fcd (frcA rs t))) S Q := by
  unfold f_X4_leastOf
  refine m_bnd (m_getRt rfl (m_bnd (m_ldIt rfl (by omega) (m_bnd (m_gd (m_nt (m_tells (w := 2) hR hn (by decide) (m_pur hq))))))))
theorem op_stackOf {n : Nat} {Q : Int64 → Mem → Prop} (hI : Inv x n0 k p L xs M) (hn : 9100 ≤ n) {s w : Int32}
    (hq : ∀ v M1, Scr p L xs M1 → wp (gd 4 (x + 28) (nt (f_X4_stackOf n (x + 28) s w))) M1 (fun w M2 => w = v ∧ Inv x n0 (k + 1) p L xs M2) → Q v M1) : wp (gd 0 x (nt (f_X0_stackOf n x s w))) M Q := by
  refine op_ask hI (fun d hB hX hD => ?_) hq
  have hL := hB.1
  have hg := hB.2.2.1
  have fin : ∀ {v : Int64}, v = v ∧ Okx x M d M ∧ M.n = M.n ∧ M.sl = M.sl ∧ M.cap = M.cap := fun {v} => ⟨rfl, Okx.rf hB hX, rfl, rfl, rfl⟩
  have h8 := hD.2.2.2.2.2.2.2.2.1.1
  obtain ⟨g1, g2, g3, g4⟩ := hX.2.1
  have hlen := map_len g1
  have h4 := hD.2.2.1.1
  have hnow := hD.1
  by_cases cj : 0 ≤ s ∧ s ≤ Int32.ofNat d.stk.length - 1
  · obtain ⟨j, hj, rfl⟩ := lenI (by omega) cj
    have hj2 : j < (M.ls (x + 17)).length := by omega
    have hk := g2 _ (List.getElem_mem hj2)
    have er := map_get g1 hj hj2
    have hx : ∀ {F : Nat → Act Int64} {g f : Act Int64} {R : Int64 → Mem → Prop}, F (M.ls (x + 17))[j] = f → wp f M R → wp (bnd (getR 0 18 x) fun v1 => bnd (gd 17 v1 (nt (P_size v1))) fun v2 => bnd (nt (f_X0_isIn (Int32.ofNat j).toInt64 (0 : Int64) ((v2 - 1).toInt64))) fun v3 => if ¬ v3 = 0 then bnd (getR 0 18 x) fun v4 => bnd (gd 17 v4 (nt (P_get v4 (Int32.ofNat j)))) fun v5 => bnd (cst [7] v5) fun _ => F v5 else g) M R := fun {F g f R} e h => by
      refine w_bnd (w_getR0 hL rfl rfl rfl (w_bnd (w_gd hL.k17 (w_nt (w_size hg hL.k17 ?_)))))
      rw [hlen]
      refine w_bnd (w_nt (x_isIn (c := Int32.ofNat d.stk.length - 1) c64_0 rfl (w_t (fun z => bzf z cj) ?_)))
      refine w_bnd (w_getR0 hL rfl rfl rfl (w_bnd (w_gd hL.k17 (w_nt (w_get hg hL.k17 hj2 (w_bnd (w_cst (Or.inr (by rw [hk]; decide)) ?_)))))))
      rw [e]; exact h
    have hm : ∀ {S : MS} {f g : Act Int64} {R : Int64 → MS → Prop}, IM S d → wm x f S R → wm x (bnd (gd 4 (x + 28) (nt (f_X4_isStack (x + 28) (Int32.ofNat j)))) fun v1 => if ¬ v1 = 0 then f else g) S R := fun {S f g R} hS h => by
      refine m_bnd (m_gd (m_nt ?_))
      unfold f_X4_isStack
      refine m_bnd (m_getI (by decide) ?_)
      rw [hS.2.1.1]
      exact m_bnd (m_nt (m_isin (m_purZ bz_z (m_t (fun z => bzf z cj) h))))
    unfold f_X0_stackOf f_X4_stackOf
    rcases sw_c w 7 with ⟨i, hi, rfl⟩ | hw
    · have f1 : M.i (128 * 6 + 1) (M.ls (x + 17))[j] = d.stk[j].size := by rw [← er]; rfl
      have f4 : M.i (128 * 6 + 4) (M.ls (x + 17))[j] = d.stk[j].wear := by rw [← er]; rfl
      have f7 : M.i (128 * 6 + 7) (M.ls (x + 17))[j] = d.stk[j].on := by rw [← er]; rfl
      have f5 : M.i (128 * 6 + 5) (M.ls (x + 17))[j] = d.stk[j].today := by rw [← er]; rfl
      have f6 : M.i (128 * 6 + 6) (M.ls (x + 17))[j] = d.stk[j].ever := by rw [← er]; rfl
      have f8 : M.l (128 * 6 + 8) (M.ls (x + 17))[j] = d.stk[j].made := by rw [← er]; rfl
      rcases (by omega : i = 0 ∨ i = 1 ∨ i = 2 ∨ i = 3 ∨ i = 4 ∨ i = 5 ∨ i = 6) with rfl | rfl | rfl | rfl | rfl | rfl | rfl
      · exact ⟨d.stk[j].size.toInt64, hx (sw_kN 7 rfl hi (by decide)) (w_bnd (w_getIv hk f1 (w_pur fin))), fun S hS => hm hS (by
          rw [sw_kN 7 rfl hi (by decide)]
          exact m_bnd (m_getRt rfl (m_bnd (m_ldIt rfl (by omega) (m_pur ⟨by rw [(hS.2.1.2.2.1 j hj).1], hS⟩)))))⟩
      · exact ⟨d.stk[j].wear.toInt64, hx (sw_kN 7 rfl hi (by decide)) (w_bnd (w_getIv hk f4 (w_pur fin))), fun S hS => hm hS (by
          rw [sw_kN 7 rfl hi (by decide)]
          exact m_bnd (m_getRt rfl (m_bnd (m_ldIt rfl (by omega) (m_pur ⟨by rw [(hS.2.1.2.2.1 j hj).2.2.2.1], hS⟩)))))⟩
      · have h01 := (hD.2.2.1.2 _ (List.getElem_mem hj)).2.2.2.2.2.2.2.2
        refine ⟨d.stk[j].on.toInt64, hx (sw_kN 7 rfl hi (by decide)) (w_bnd (w_getIv hk f7 (w_jn (w_ite (fun z => w_pur ?_) (fun z => w_pur ?_))))), fun S hS => hm hS ?_⟩
        · rw [z]; exact fin
        · rw [h01.resolve_left z]; exact fin
        · rw [sw_kN 7 rfl hi (by decide)]
          refine m_bnd (m_getRt rfl (m_bnd (m_ldIt rfl (by omega) (m_bnd (m_nt (m_ones (m_pur ⟨?_, hS⟩)))))))
          rw [(hS.2.1.2.2.1 j hj).2.2.2.2.1]
          rcases h01 with e | e
          · rw [e]; rfl
          · rw [e]; rfl
      · refine ⟨d.stk[j].today.toInt64, hx (sw_kN 7 rfl hi (by decide)) (w_bnd (w_getIv hk f5 (w_pur fin))), fun S hS => hm hS ?_⟩
        rw [sw_kN 7 rfl hi (by decide)]
        obtain ⟨-, -, -, -, -, -, -, t8, t9⟩ := hS.2.1.2.2.1 j hj
        have en := hS.2.2.2.2.2.2.1.1
        refine m_bnd (m_getI (by decide) (m_jn (m_jn ?_)))
        rw [en]
        refine m_ite (fun hc => ?_) (fun hc => ?_)
        · have h0 : d.now = 0 := by
            have := (i_le (a := d.now) (b := 0) (by omega) (by omega)).mp hc
            omega
          rw [if_neg (by omega)] at t8
          refine m_pur ⟨?_, hS⟩
          rw [← t8]; rfl
        · have h0 : 0 < d.now := by
            rcases Nat.eq_zero_or_pos d.now with z | z
            · exact absurd (by rw [z]; decide) hc
            · exact z
          refine m_bnd (m_getRt rfl (m_bnd (m_ldIt rfl (by omega) (m_bnd (m_getI (by decide) ?_)))))
          rw [en, show Int32.ofNat d.now - 1 = Int32.ofNat (d.now - 1) from i_sub (a := d.now) (b := 1) (by omega), show Int32.ofNat (d.now - 1) / 144 = Int32.ofNat ((d.now - 1) / 144) from i_div (b := 144) (by omega) (by omega) (by omega)]
          refine m_ite (fun hd => m_pur ?_) (fun hd => ?_)
          · rw [if_neg (fun z => hd z.2)] at t8
            refine ⟨?_, hS⟩
            rw [← t8]; rfl
          · rw [Decidable.not_not] at hd
            rw [if_pos ⟨h0, hd⟩] at t8
            refine m_bnd (m_getRt rfl (m_bnd (m_ldIt rfl (by omega) (m_pur ⟨?_, hS⟩))))
            rw [t8]
      · exact ⟨d.stk[j].ever.toInt64, hx (sw_kN 7 rfl hi (by decide)) (w_bnd (w_getIv hk f6 (w_pur fin))), fun S hS => hm hS (by
          rw [sw_kN 7 rfl hi (by decide)]
          exact m_bnd (m_getRt rfl (m_bnd (m_ldIt rfl (by omega) (m_pur ⟨by rw [(hS.2.1.2.2.1 j hj).2.2.2.2.2.1], hS⟩)))))⟩
      · exact ⟨d.stk[j].made, hx (sw_kN 7 rfl hi (by decide)) (w_bnd (w_getLv hk f8 (w_pur fin))), fun S hS => hm hS (by
          rw [sw_kN 7 rfl hi (by decide)]
          exact m_bnd (m_getRt rfl (m_bnd (m_ldLt rfl (by omega) (m_pur ⟨by rw [(hS.2.1.2.2.1 j hj).2.2.2.2.2.2.1], hS⟩)))))⟩
      · refine ⟨(mx 1 ((d.stk[j].size * lawA d.rules (Int32.ofNat d.now) 2) / 100)).toInt64, hx (sw_kN 7 rfl hi (by decide)) (w_bnd (w_getIv hL.k0 hX.2.2.2.2.2.2.1.1 (w_bnd (w_gd hL.k0 (w_nt (x_atR hB hX.2.2.2.2.2.2.2 hn h8 (fun c hc => ?_))))))), fun S hS => hm hS ?_⟩
        · refine w_bnd (w_gd hk (w_nt (x_least hk hc (w_pur ?_))))
          rw [show M.i 769 (M.ls (x + 17))[j] = d.stk[j].size from f1]; exact fin
        · rw [sw_kN 7 rfl hi (by decide)]
          refine m_bnd (m_getI (by decide) ?_)
          rw [hS.2.2.2.2.2.2.1.1]
          refine m_bnd (m_gd (m_nt (m_inForce hS.2.2.2.2.2.2.2 (by omega) (m_bnd (m_gd (m_nt (m_leastOf hS.2.2.2.2.2.2.2 (by omega) (by omega) (m_pur ⟨?_, hS⟩))))))))
          rw [(hS.2.1.2.2.1 j hj).1]
    · exact ⟨-1, hx (sw_dN 7 rfl hw (by decide)) (w_pur fin), fun S hS => hm hS (by
          rw [sw_dN 7 rfl hw (by decide)]
          exact m_pur ⟨rfl, hS⟩)⟩
  · refine ⟨-1, ?_, fun S hS => ?_⟩
    · unfold f_X0_stackOf
      refine w_bnd (w_getR0 hL rfl rfl rfl (w_bnd (w_gd hL.k17 (w_nt (w_size hg hL.k17 ?_)))))
      rw [hlen]
      exact w_bnd (w_nt (x_isIn (c := Int32.ofNat d.stk.length - 1) c64_0 rfl (w_f (fun z => z (bz_0.mpr cj)) (w_pur fin))))
    · unfold f_X4_stackOf
      refine m_bnd (m_gd (m_nt ?_))
      unfold f_X4_isStack
      refine m_bnd (m_getI (by decide) ?_)
      rw [hS.2.1.1]
      exact m_bnd (m_nt (m_isin (m_purZ bz_z (m_f (fun z => z (bz_0.mpr cj)) (m_pur ⟨rfl, hS⟩)))))
end
