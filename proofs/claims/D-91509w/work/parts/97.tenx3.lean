set_option maxRecDepth 100000
/-- what a ten costs -/
def TenC (x : Nat) (d d' : Dt) (M M' : Mem) : Prop := M'.n + 3400 * dry d'.trips ≤ M.n + 3400 * dry d.trips + 4 ∧ M'.sl + 40000 * dry d'.trips + 4 * (M.cap (x + 14) + M.cap (x + 16)) ≤ M.sl + 40000 * dry d.trips + 126 + 4 * (M'.cap (x + 14) + M'.cap (x + 16))
theorem filD_br (so : So) (h g f m : Int32) : (filD so h g f m).1.breath = so.breath := by
  unfold filD
  by_cases c : 0 < mn g (mn m (so.room - so.grams))
  · rw [if_pos c]; rfl
  · rw [if_neg c]
theorem fil2_br (so : Nat → So) (now : Nat) (g f : Int32) : ((fil2 so now g f).1 1).breath = (so 1).breath := filD_br _ _ _ _ _
theorem t7_br (d : Dt) : ((t7 d).so 1).breath = (d.so 1).breath := by
  obtain ⟨e7, e7s, -⟩ := t7_f d
  obtain ⟨e6, e6s, -⟩ := t6_f d
  rw [e7s, e6s]
  exact fil2_br _ _ _ _
section
variable {x : Nat} {M : Mem} {d : Dt}
/-- behind what was stored -/
theorem x_ten2 {n r : Nat} {goes : Int32} {Q : Unit → Mem → Prop} (hB : Bas x M) (hX : IX x M (t6 d)) (hD : ID d) (h1 : d.now + 1 ≤ 4999) (hn : 9100 ≤ n) (hr : RuAt x M r d.rules (Int32.ofNat d.now)) (hout : M.i 390 (x + 15) = (d.so 1).breath) (hgo : goes = tGo d (tS (t3 d)).2.2.2.2)
    (hq : ∀ M', Bas x M' → IX x M' (tenD d) → AgX x M M' → (M'.n + 3400 * dry (tenD d).trips ≤ M.n + 3400 * dry d.trips ∧ M'.sl + 40000 * dry (tenD d).trips ≤ M.sl + 40000 * dry d.trips ∧ M'.cap (x + 14) = M.cap (x + 14) ∧ M'.cap (x + 16) = M.cap (x + 16)) → Q () M') :
    wp (bnd (getL 0 23 x) fun v46 => bnd (putL 0 23 x (v46 + goes.toInt64)) fun _ => bnd (getL 0 29 x) fun v47 => bnd (getR 0 2 x) fun v48 => bnd (getI 0 0 x) fun v49 => bnd (gd 1 v48 (nt (f_X1_at n v48 v49))) fun v50 => bnd (putL 0 29 x (v47 + (goes.toInt64 * v50.toInt64))) fun _ => bnd (getL 0 24 x) fun v51 => bnd (putL 0 24 x (v51 + (((tS (t3 d)).2.2.2.2 - goes).toInt64))) fun _ => jn (fun (_ : Unit) => bnd (getR 0 16 x) fun v53 => bnd (gd 3 v53 (nt (f_X3_leaks n v53))) fun _ => bnd (getR 0 17 x) fun v54 => bnd (gd 3 v54 (nt (f_X3_leaks n v54))) fun _ => bnd (getI 0 0 x) fun v55 => bnd (putI 0 0 x (v55 + 1)) fun _ => pur ()) fun j468 => lp_X0_ten_433 n x r j468 n 0) M Q := by
  have hnow := hD.1
  obtain ⟨e6, -⟩ := t6_f d
  obtain ⟨e7, -, e7t, -⟩ := t7_f d
  obtain ⟨o70, o71⟩ := t7_ok hD
  obtain ⟨⟨hF7, -⟩, ⟨s80, s81⟩, -⟩ := ten_f hD
  have et9 := (ten_ok hD h1).2.2.2
  have br := t7_br d
  have en := e7.1.1
  refine x_stG hB hX (by rw [e6.1.2.1]; exact hD.2.1) hn (fun M7 hB7 hX7 i7 f7 g7 => ?_)
  rw [hgo] at hX7
  have hX7 : IX x M7 (t7 d) := hX7
  have etd : tenD d = tJ (tI (tH (t7 d))) := rfl
  rw [etd] at hq et9
  have hr7 : RuAt x M7 r (t7 d).rules (Int32.ofNat (t7 d).now) := by
    rw [e7.1.2.2.2.2.2.1, en]
    exact hr.same (by rw [f7.2.2.2.1])
  have out7 : M7.i 390 (x + 15) = ((t7 d).so 1).breath := by
    rw [i7, hout, br]
  generalize t7 d = g at *
  refine w_jn (x_tryN (out := (g.so 1).breath) hB7 hX7 (by rw [en]; exact hnow) (by rw [en]; exact o70) (by rw [en]; exact o71) (by rw [e7t]; exact hD.2.2.2.2.2.1.1) (by rw [en, e7t]; exact hD.2.2.2.2.2.1.2) hn hr7 out7 (fun M8 hB8 hF8 hX8 => ?_) n 0 M7 (Nat.zero_le _) (by have := hD.2.2.2.2.2.1.1; rw [e7t]; omega) hB7 TrF.rf hX7 out7)
  have hX8 : IX x M8 (tH g) := hX8
  have hF8 : TrF x g (tH g) M7 M8 := hF8
  have en8 : (tH g).now = d.now := hF7.1.trans en
  generalize tH g = k at *
  refine x_stI hB8 hX8 (by rw [en8]; exact s80) (by rw [en8]; exact s81) (by rw [en8]; exact hnow) hn (fun M9 hB9 hX9 c9 g9 => ?_)
  have a8 : AgX x M7 M8 := hF8.1.mono (fun t z => by unfold trTi at z; unfold isNt; omega) (fun _ _ => trivial) (fun _ z => z) (fun _ z => z.elim)
  refine hq M9 hB9 hX9 ((g7.tr a8).tr g9) ?_
  have d8 := hF8.2.2
  rw [e7t, f7.2.1, f7.2.2.1] at d8
  rw [et9, c9.1, c9.2.1, c9.2.2, hF8.2.1.2.1, hF8.2.1.2.2, f7.2.2.2.2]
  exact ⟨d8.1, d8.2, rfl, rfl⟩
theorem x_ten {n : Nat} {Q : Unit → Mem → Prop} (hB : Bas x M) (hX : IX x M d) (hD : ID d) (h1 : d.now + 1 ≤ 4999) (hn : 9100 ≤ n) (hq : ∀ M', Bas x M' → IX x M' (tenD d) → AgX x M M' → TenC x d (tenD d) M M' → Q () M') : wp (f_X0_ten n x) M Q := by
  have hL := hB.1
  have h8 := hD.2.2.2.2.2.2.2.2.1.1
  have hnow := hD.1
  have n0 : M.i (128 * 0 + 0) x = Int32.ofNat d.now := hX.2.2.2.2.2.2.1.1
  have n20 : M.i (128 * 0 + 20) x = d.thas := hX.2.2.2.2.2.2.1.2.2.1
  have g0 := (hX.2.2.1.at (k := 0) (by decide)).2.2.2.2.2.2.1
  have g1 := (hX.2.2.1.at (k := 1) (by decide)).2.2.2.2.2.2.1
  obtain ⟨e3, e3s, e3t⟩ := t3_f d
  obtain ⟨e5, e5s, e5t, -⟩ := t5_f d
  obtain ⟨e6, e6s, e6t, -⟩ := t6_f d
  obtain ⟨⟨k1, k2⟩, ⟨k3, k4⟩, k5⟩ := t3_ok hD
  obtain ⟨⟨q1, q2⟩, ⟨q3, q4⟩, q5⟩ := tS_ok hD
  unfold f_X0_ten
  refine w_bnd (w_getIv hL.k0 n0 (w_bnd (w_gd hL.k0 (w_nt (x_atR2 hB hX.2.2.2.2.2.2.2 hn h8 (fun r hr => ?_))))))
  refine w_bnd (w_getIv hL.k0 n0 (w_bnd (w_getR0 hL rfl rfl rfl (w_bnd (w_getIv hL.k13 g0 (w_bnd (w_getR0 hL rfl rfl rfl (w_bnd (w_getIv hL.k15 g1 (w_bnd (w_getIv hL.k0 n20 (w_bnd (w_gd hL.k0 (w_nt (x_runs hB hX.2.1 hn ?_)))))))))))))))
  refine w_bnd (w_gd hL.k0 (w_nt (x_asked hB hX hD (by omega) (by omega) (fun M1 o1 a1 => ?_))))
  have hB1 := o1.bas hB
  have hX1 := o1.ix hB hX
  have hL1 := hB1.1
  have hr1 : RuAt x M1 r d.rules (Int32.ofNat d.now) := hr.same (by rw [o1.2.2.2.2.1])
  have hR1 := hr1.xr hX1.2.2.2.2.2.2.2
  have rr : M1.r (128 * 2 + 9) r = r + 2 := hR1.2.2.2.2.2.2.2.2.2.1.2.1
  have n01 : M1.i (128 * 0 + 0) x = Int32.ofNat d.now := hX1.2.2.2.2.2.2.1.1
  refine w_bnd (w_getRv hR1.1 rr (w_bnd (w_getR0 hL1 rfl rfl rfl (w_bnd (w_nt (x_any hB1.2.2.1 hL1.k21 hL1.l21 a1 hn hR1.2.2.2.2.2.2.2.2.2.2.2.1 (w_bnd (w_getIv hL1.k0 n01 (w_jn ?_)))))))))
  have es : (asks (ruA d.rules (Int32.ofNat d.now)).stm 7).any (fun φ => φ (hereA d.told d.now ((d.so 0).grams.toInt64 + (d.so 1).grams.toInt64) d.thas.toInt64 (runsD d.stk).toInt64)) = tSell d := rfl
  rw [es]
  refine x_stA hB1 hX1 hnow hn (fun M2 hB2 hX2 i2 f2 g2 => ?_)
  obtain ⟨c1, c2, c3, c4, c5⟩ := tA_f d
  have n02 : M2.i (128 * 0 + 0) x = Int32.ofNat (tA d).now := hX2.2.2.2.2.2.2.1.1
  refine w_bnd (w_getIv hB2.1.k0 n02 (w_jn ?_))
  refine x_stB rfl hB2 hX2 (by rw [c2]; exact hD.2.2.1.1) (by rw [c1.1.1]; exact hnow) hn (fun M3 hB3 hX3 f3 g3 => ?_)
  obtain ⟨d1, d2, d3, d4⟩ := tB_f (tA d)
  refine x_stC hB3 hX3 (by rw [d1.1.2.1, c1.1.2.1]; exact hD.2.1) hn (fun M4 hB4 hX4 f4 g4 => ?_)
  have hX4 : IX x M4 (t3 d) := hX4
  have hr4 : RuAt x M4 r (t3 d).rules (Int32.ofNat (t3 d).now) := by
    rw [e3.1.2.2.2.2.2.1, e3.1.1]
    exact hr1.same (by rw [f4.2.2.2.1, f3.2.2.2.1, f2.2.2.2.1])
  refine x_stD hB4 hX4 (by rw [e3.1.2.1]; exact hD.2.1) k2 k1 k3 k5 (hr4.xr hX4.2.2.2.2.2.2.2) hn (fun M5 hB5 hX5 q35 q36 f5 g5 => ?_)
  have hX5 : IX x M5 (t5 d) := hX5
  refine x_stF (n := n) hB5 hX5 (by rw [e5.1.1, e5s]; exact hD.2.2.2.2.1.1) (by rw [e5.1.1, e5s]; exact hD.2.2.2.2.1.2) (by rw [e5.1.1]; exact hnow) q5 q35 q36 (fun M6 hB6 hX6 out6 ls6 n6 sl6 g6 => ?_)
  have hX6 : IX x M6 (t6 d) := hX6
  have hr6 : RuAt x M6 r d.rules (Int32.ofNat d.now) := hr1.same (by rw [ls6, f5.2.2.2.1, f4.2.2.2.1, f3.2.2.2.1, f2.2.2.2.1])
  have hR6 := hr6.xr (by rw [← e6.1.2.2.2.2.2.1]; exact hX6.2.2.2.2.2.2.2)
  have a0 : AgX x M M1 := AgX.of o1.1 (fun _ z => z.elim) (fun c z => by omega)
  have a6 : AgX x M M6 := ((((a0.tr g2).tr g3).tr g4).tr g5).tr g6
  have nn : M5.n = M.n := by rw [f5.2.1, f4.2.1, f3.2.1, f2.2.1, o1.2.2.1]
  have ss : M5.sl = M.sl := by rw [f5.2.2.1, f4.2.2.1, f3.2.2.1, f2.2.2.1, o1.2.2.2.1]
  have cc : M5.cap = M.cap := by rw [f5.2.2.2.2, f4.2.2.2.2, f3.2.2.2.2, f2.2.2.2.2, o1.2.2.2.2.2.1]
  rw [nn] at n6
  rw [ss, cc] at sl6
  have go : ∀ M', Bas x M' → IX x M' (tenD d) → AgX x M6 M' → (M'.n + 3400 * dry (tenD d).trips ≤ M6.n + 3400 * dry d.trips ∧ M'.sl + 40000 * dry (tenD d).trips ≤ M6.sl + 40000 * dry d.trips ∧ M'.cap (x + 14) = M6.cap (x + 14) ∧ M'.cap (x + 16) = M6.cap (x + 16)) → Q () M' := fun M' w1 w2 w3 ⟨w4, w5, w6, w7⟩ => hq M' w1 w2 (a6.tr w3) ⟨by omega, by rw [w6, w7]; omega⟩
  have out6' : M6.i 390 (x + 15) = (d.so 1).breath := by rw [out6, e5s]
  refine w_jn (w_ite (fun z => ?_) (fun z => ?_))
  · refine x_ten2 (goes := 0) hB6 hX6 hD h1 hn hr6 out6' ?_ go
    unfold tGo
    rw [if_neg (bzf z)]
  · refine w_bnd (w_getIv hR6.1 hR6.2.2.2.2.2.2.1 (x_ten2 hB6 hX6 hD h1 hn hr6 out6' ?_ go))
    unfold tGo
    rw [if_pos (bzt z)]
    rfl
end
