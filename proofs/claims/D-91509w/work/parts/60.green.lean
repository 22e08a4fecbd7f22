set_option maxRecDepth 100000
/-- what an hour's last ten asks -/
def hrA (d : Dt) (h : Nat) : Nat → Int64 := hereA d.told (6 * h + 5) (d.stored h).toInt64 (d.water h).toInt64 (d.running h).toInt64
/-- an hour that is through, and green -/
def gr (d : Dt) (h : Nat) : Bool := decide (6 * h + 6 ≤ d.now) && anyA (asks (ruA d.rules (Int32.ofNat (6 * h + 5))).stm 6) (hrA d h)
section
variable {x : Nat} {M : Mem} {n0 k p L : Nat} {xs : Nat → Int32}
theorem x_isHour {d : Dt} {h : Nat} (hB : Bas x M) (hX : IX x M d) (hD : ID d) (hh : h < 834) {Q : Int32 → Mem → Prop} (hq : Q (bz (6 * h + 6 ≤ d.now)) M) : wp (f_X0_isHour x (Int32.ofNat h)) M Q := by
  have hL := hB.1
  have hnow := hD.1
  have hin : 0 ≤ Int32.ofNat h ∧ Int32.ofNat h ≤ 833 := lenI' (n := 834) (by decide) hh
  have en : M.i (128 * 0 + 0) x = Int32.ofNat d.now := hX.2.2.2.2.2.2.1.1
  unfold f_X0_isHour
  refine w_bnd (w_nt (x_isIn c64_0 c64_833 (w_jn (w_jn (w_f (fun z => bzf z hin) (w_bnd (w_getIv hL.k0 en ?_)))))))
  rw [i_m6, i_p6, show Int32.ofNat (6 * h + 6) - 1 = Int32.ofNat (6 * h + 5) from i_ap1 _]
  refine w_ite (fun c => ?_) (fun c => ?_)
  · have := (i_le (by omega) (by omega)).mp c
    rw [bz_f (by omega)] at hq
    exact w_purZ (Or.inl rfl) hq
  · have c2 : ¬ d.now ≤ 6 * h + 5 := fun z => c ((i_le (by omega) (by omega)).mpr z)
    rw [bz_t (by omega)] at hq
    exact w_purZ (Or.inr rfl) hq
theorem x_isHour0 {h : Int32} (hh : ¬ (0 ≤ h ∧ h ≤ 833)) {Q : Int32 → Mem → Prop} (hq : Q 0 M) : wp (f_X0_isHour x h) M Q := by
  unfold f_X0_isHour
  exact w_bnd (w_nt (x_isIn c64_0 c64_833 (w_jn (w_jn (w_t (bz_0.mpr hh) (w_purZ (Or.inl rfl) hq))))))
theorem x_isGreen {n h : Nat} {d : Dt} (hB : Bas x M) (hX : IX x M d) (hD : ID d) (hn : 9100 ≤ n) (hh : h < 834) {Q : Int32 → Mem → Prop} (hq : ∀ M', Onl M M' (x + 21) → Q (bz (gr d h = true)) M') : wp (f_X0_isGreen n x (Int32.ofNat h)) M Q := by
  have hL := hB.1
  have hnow := hD.1
  have h8 := hD.2.2.2.2.2.2.2.2.1.1
  obtain ⟨s1, s2, s3⟩ := hX.2.2.2.2.2.2.1.2.2.2.2.1 h hh
  unfold f_X0_isGreen
  refine w_bnd (w_gd hL.k0 (w_nt (x_isHour hB hX hD hh ?_)))
  by_cases c : 6 * h + 6 ≤ d.now
  · refine w_t (fun z => bzf z c) (w_bnd (w_getR0 hL rfl rfl rfl (w_bnd (w_ldn hL.k18 hL.l18 hh (by decide) (w_bnd (w_getR0 hL rfl rfl rfl (w_bnd (w_ldn hL.k19 hL.l19 hh (by decide) (w_bnd (w_getR0 hL rfl rfl rfl (w_bnd (w_ldn hL.k20 hL.l20 hh (by decide) ?_))))))))))))
    rw [s1, s2, s3, i_m6, i_p6, show Int32.ofNat (6 * h + 6) - 1 = Int32.ofNat (6 * h + 5) from i_ap1 _]
    refine w_bnd (w_gd hL.k0 (w_nt (x_asked hB hX hD (by omega) (by omega) (fun M' o a => ?_))))
    have hB' := o.bas hB
    have hX' := o.ix hB hX
    refine w_bnd (w_gd hB'.1.k0 (w_nt (x_atR hB' hX'.2.2.2.2.2.2.2 hn h8 (fun cr hc => ?_))))
    have hr : M'.r (128 * 2 + 8) cr = cr + 1 := hc.2.2.2.2.2.2.2.2.2.1.1
    refine w_bnd (w_getRv hc.1 hr (w_bnd (w_getR0 hB'.1 rfl rfl rfl (w_bnd (w_nt (x_any hB'.2.2.1 hB'.1.k21 hB'.1.l21 a hn hc.2.2.2.2.2.2.2.2.2.2.1 (w_purZ bz_z ?_)))))))
    have hq := hq M' o
    unfold gr at hq
    rw [decide_eq_true c, Bool.true_and] at hq
    exact hq
  · refine w_f (fun z => z (bz_0.mpr c)) (w_purZ (Or.inl rfl) ?_)
    have hq := hq M Onl.rf
    unfold gr at hq
    rw [decide_eq_false c, Bool.false_and] at hq
    exact hq
theorem m_isThrough {S : MS} {d : Dt} {h : Nat} (hS : IM S d) (hD : ID d) (hh : h < 834) {Q : Int32 → MS → Prop} (hq : Q (bz (6 * h + 6 ≤ d.now)) S) : wm x (f_X4_isThrough (x + 28) (Int32.ofNat h)) S Q := by
  have hnow := hD.1
  have hin : 0 ≤ Int32.ofNat h ∧ Int32.ofNat h ≤ 833 := lenI' (n := 834) (by decide) hh
  have en := hS.2.2.2.2.2.2.1.1
  unfold f_X4_isThrough
  refine m_bnd (m_nt (m_isin (m_jn (m_jn (m_f (fun z => bzf z hin) (m_bnd (m_getI (by decide) ?_)))))))
  rw [en, i_m6, i_p6]
  refine m_ite (fun c => ?_) (fun c => ?_)
  · have := (i_lt (by omega) (by omega)).mp c
    rw [bz_f (by omega)] at hq
    exact m_purZ (Or.inl rfl) hq
  · have c2 : ¬ d.now < 6 * h + 6 := fun z => c ((i_lt (by omega) (by omega)).mpr z)
    rw [bz_t (by omega)] at hq
    exact m_purZ (Or.inr rfl) hq
theorem m_isThrough0 {S : MS} {h : Int32} (hh : ¬ (0 ≤ h ∧ h ≤ 833)) {Q : Int32 → MS → Prop} (hq : Q 0 S) : wm x (f_X4_isThrough (x + 28) h) S Q := by
  unfold f_X4_isThrough
  exact m_bnd (m_nt (m_isin (m_jn (m_jn (m_t (bz_0.mpr hh) (m_purZ (Or.inl rfl) hq))))))
theorem m_isGreen {n h : Nat} {S : MS} {d : Dt} (hS : IM S d) (hD : ID d) (hn : 9100 ≤ n) (hh : h < 834) {Q : Int32 → MS → Prop} (hq : ∀ S', Hon S S' → Q (bz (gr d h = true)) S') : wm x (f_X4_isGreen n (x + 28) (Int32.ofNat h)) S Q := by
  have hnow := hD.1
  obtain ⟨s1, s2, s3⟩ := hS.2.2.2.2.2.2.1.2.2.2.2.1 h hh
  unfold f_X4_isGreen
  refine m_bnd (m_gd (m_nt (m_isThrough hS hD hh (m_jn (m_jn ?_)))))
  by_cases c : 6 * h + 6 ≤ d.now
  · rw [i_m6, i_p5]
    refine m_f (fun z => bzf z c) (m_bnd (m_gd (m_nt (m_inForce hS.2.2.2.2.2.2.2 (by omega) (m_bnd (m_getRt rfl (m_bnd (m_ldIt rfl hh (m_bnd (m_getRt rfl (m_bnd (m_ldIt rfl hh (m_bnd (m_getRt rfl (m_bnd (m_ldIt rfl hh ?_))))))))))))))))
    rw [s1, s2, s3]
    refine m_bnd (m_gd (m_nt (m_asks hS hn (by omega) (Or.inl rfl) (fun S' o => ?_))))
    have hq := hq S' o
    unfold gr at hq
    rw [decide_eq_true c, Bool.true_and] at hq
    have hq : Q (bz (anyA (asks (ruA d.rules (Int32.ofNat (6 * h + 5))).stm 6) (hereA d.told (6 * h + 5) (d.stored h).toInt64 (d.water h).toInt64 (d.running h).toInt64) = true)) S' := hq
    refine m_ite (fun z => ?_) (fun z => ?_)
    · rw [z] at hq; exact m_purZ (Or.inl rfl) hq
    · rw [(bz_z.resolve_left z)] at hq; exact m_purZ (Or.inr rfl) hq
  · refine m_t (bz_0.mpr c) (m_purZ (Or.inl rfl) ?_)
    have hq := hq S Hon.rf
    unfold gr at hq
    rw [decide_eq_false c, Bool.false_and] at hq
    exact hq
theorem op_green {n : Nat} {Q : Int32 → Mem → Prop} (hI : Inv x n0 k p L xs M) (hn : 9100 ≤ n) {h : Int32}
    (hq : ∀ v M1, Scr p L xs M1 → wp (gd 4 (x + 28) (nt (f_X4_green n (x + 28) h))) M1 (fun w M2 => w = v ∧ Inv x n0 (k + 1) p L xs M2) → Q v M1) : wp (gd 0 x (nt (f_X0_green n x h))) M Q := by
  refine op_ask hI (fun d hB hX hD => ?_) hq
  have hL := hB.1
  unfold f_X0_green f_X4_green
  by_cases ch : 0 ≤ h ∧ h ≤ 833
  · obtain ⟨j, hj, rfl⟩ := i_nat (n := 833) ch.1 (by decide) ch.2
    have hh : j < 834 := by omega
    by_cases c : 6 * j + 6 ≤ d.now
    · refine ⟨bz (gr d j = true), w_bnd (w_gd hL.k0 (w_nt (x_isHour hB hX hD hh (w_jn (w_f (fun z => bzf z c) (w_bnd (w_gd hL.k0 (w_nt (x_isGreen hB hX hD hn hh (fun M' o => ?_)))))))))), fun S hS => m_bnd (m_gd (m_nt (m_isThrough hS hD hh (m_jn (m_f (fun z => bzf z c) (m_bnd (m_gd (m_nt (m_isGreen hS hD hn hh (fun S' o => ?_))))))))))⟩
      · have fin := o.okx hB hX
        refine w_ite (fun z => w_pur ⟨z.symm, fin, o.2.2.1, o.2.2.2.1, o.2.2.2.2.2.1⟩) (fun z => w_pur ⟨(bz_z.resolve_left z).symm, fin, o.2.2.1, o.2.2.2.1, o.2.2.2.2.2.1⟩)
      · refine m_bnd (m_nt (m_ones (m_pur ⟨?_, o.im hS⟩)))
        rcases bz_z (P := gr d j = true) with e | e
        · rw [e]; rfl
        · rw [e]; rfl
    · exact ⟨-1, w_bnd (w_gd hL.k0 (w_nt (x_isHour hB hX hD hh (w_jn (w_t (bz_0.mpr c) (w_pur ⟨rfl, Okx.rf hB hX, rfl, rfl, rfl⟩)))))), fun S hS => m_bnd (m_gd (m_nt (m_isThrough hS hD hh (m_jn (m_t (bz_0.mpr c) (m_pur ⟨rfl, hS⟩))))))⟩
  · exact ⟨-1, w_bnd (w_gd hL.k0 (w_nt (x_isHour0 ch (w_jn (w_t rfl (w_pur ⟨rfl, Okx.rf hB hX, rfl, rfl, rfl⟩)))))), fun S hS => m_bnd (m_gd (m_nt (m_isThrough0 ch (m_jn (m_t rfl (m_pur ⟨rfl, hS⟩))))))⟩
end
