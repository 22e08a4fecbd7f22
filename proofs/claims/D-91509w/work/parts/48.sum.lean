set_option maxRecDepth 100000
section
variable {x : Nat} {M : Mem} {n0 k p L : Nat} {xs : Nat → Int32}
theorem sw_kN {α : Type} (N : Nat) {j : Nat} {fs : List (Act α)} {fd : Act α} (hN : fs.length = N) (h : j < N) (h100 : N ≤ 100) : sw (Int32.ofNat j) 0 fs fd = fs[j]'(by omega) := sw_k (by omega) (by omega)
theorem sw_dN {α : Type} (N : Nat) {a : Int32} {fs : List (Act α)} {fd : Act α} (hN : fs.length = N) (h : ∀ k, k < N → a ≠ Int32.ofNat k) (h100 : N ≤ 100) : sw a 0 fs fd = fd := sw_d (fun k hk => h k (by omega)) (by omega)
theorem op_fault {Q : Int32 → Mem → Prop} (hI : Inv x n0 k p L xs M)
    (hq : ∀ v M1, Scr p L xs M1 → wp (gd 4 (x + 28) (nt (f_X4_fault (x + 28)))) M1 (fun w M2 => w = v ∧ Inv x n0 (k + 1) p L xs M2) → Q v M1) : wp (gd 0 x (nt (f_X0_fault x))) M Q := by
  refine op_ask hI (fun d hB hX hD => ⟨d.fault, ?_, fun S hS => ?_⟩) hq
  · unfold f_X0_fault
    exact w_bnd (w_getIv hB.1.k0 hX.2.2.2.2.2.2.1.2.2.2.2.2.2.2 (w_pur ⟨rfl, Okx.rf hB hX, rfl, rfl, rfl⟩))
  · unfold f_X4_fault
    refine m_bnd (m_getI (by decide) (m_pur ⟨?_, hS⟩))
    exact hS.2.2.2.2.2.2.1.2.2.2.2.2.2.2
theorem l_add {a b : Int32} (h1 : -2147483648 ≤ a.toInt + b.toInt) (h2 : a.toInt + b.toInt < 2147483648) : (a + b).toInt64 = a.toInt64 + b.toInt64 := by
  apply Int64.toInt_inj.mp
  rw [Int32.toInt_toInt64, toInt_add' h1 h2, Int64.toInt_add, Int32.toInt_toInt64, Int32.toInt_toInt64, Int.bmod_eq_of_le]
  · omega
  · omega
theorem op_sum {Q : Int64 → Mem → Prop} (hI : Inv x n0 k p L xs M) {w : Int32}
    (hq : ∀ v M1, Scr p L xs M1 → wp (gd 4 (x + 28) (nt (f_X4_sum (x + 28) w))) M1 (fun w M2 => w = v ∧ Inv x n0 (k + 1) p L xs M2) → Q v M1) : wp (gd 0 x (nt (f_X0_sum x w))) M Q := by
  refine op_ask hI (fun d hB hX hD => ?_) hq
  have hL := hB.1
  obtain ⟨x1, x2, x3, ⟨y1, y2, y3, y4, y5, y6, y7, y8, y9⟩, x5, x6, x7, x8⟩ := hX.2.2.2.2.2.2.1
  obtain ⟨p1, p2, p3, p4, p5, p6, p7, p8, p9⟩ := hX.2.2.1.at (k := 0) (by decide)
  obtain ⟨q1, q2, q3, q4, q5, q6, q7, q8, q9⟩ := hX.2.2.1.at (k := 1) (by decide)
  have ok : ∀ (S : MS), IM S d → ∀ {a : Int64}, S.b 14 0 = d.blew ∧ S.b 14 1 = d.taken ∧ S.b 14 2 = d.sold ∧ S.b 14 3 = d.unsold ∧ S.b 14 4 = d.made ∧ S.b 14 5 = d.vented ∧ S.b 14 6 = d.drunk ∧ S.b 14 11 = d.noRoom ∧ S.b 14 12 = d.coins ∧ S.b 14 7 = (d.so 0).leaked + (d.so 1).leaked ∧ S.b 14 8 = (d.so 0).lost + (d.so 1).lost := fun S hS a => hS.2.2.2.2.2.2.1.2.2.2.1
  have fin : ∀ {v : Int64}, v = v ∧ Okx x M d M ∧ M.n = M.n ∧ M.sl = M.sl ∧ M.cap = M.cap := fun {v} => ⟨rfl, Okx.rf hB hX, rfl, rfl, rfl⟩
  have g0 := hD.so (k := 0) (by decide)
  have g1 := hD.so (k := 1) (by decide)
  have n0 := g0.nn
  have n1 := g1.nn
  have m0 : (d.so 0).grams.toInt ≤ 1000000 := Int.le_trans g0.2.2.1 g0.2.2.2.1
  have m1 : (d.so 1).grams.toInt ≤ 1000000 := Int.le_trans g1.2.2.1 g1.2.2.2.1
  unfold f_X0_sum f_X4_sum
  rcases sw_c w 13 with ⟨j, hj, rfl⟩ | hw
  · have hin : 0 ≤ Int32.ofNat j ∧ Int32.ofNat j ≤ 12 := lenI' (n := 13) (by decide) hj
    rw [sw_kN 13 rfl hj (by decide)]
    have step : ∀ {S : MS} {R : Int64 → MS → Prop} {f g : Act Int64}, wm x f S R → wm x (bnd (nt (f_X4_isIn (Int32.ofNat j) (0 : Int32) (12 : Int32))) fun v1 => if ¬ v1 = 0 then f else g) S R := fun h => m_bnd (m_nt (m_isin (m_t (fun z => bzf z hin) h)))
    have sums : ∀ {S : MS} {v : Int64}, IM S d → j ≠ 9 → j ≠ 10 → S.b 14 j = v → wm x (bnd (nt (f_X4_isIn (Int32.ofNat j) (0 : Int32) (12 : Int32))) fun v1 => if ¬ v1 = 0 then jn (fun (v2 : Int64) => pur v2) fun j57 => if ¬ Int32.ofNat j = 9 then if ¬ Int32.ofNat j = 10 then bnd (getR 4 17 (x + 28)) fun v3 => bnd (ldL 1 v3 (Int32.ofNat j)) fun v4 => j57 v4 else bnd (getI 4 19 (x + 28)) fun v5 => j57 v5.toInt64 else bnd (getR 4 23 (x + 28)) fun v6 => bnd (ldI 0 v6 0) fun v7 => bnd (getR 4 23 (x + 28)) fun v8 => bnd (ldI 0 v8 1) fun v9 => j57 ((v7 + v9).toInt64) else pur (-1000000000000)) S (fun b S' => b = v ∧ IM S' d) := fun {S v} hS h9 h10 e => by
      refine step (m_jn (m_t (fun z => h9 ((i_eq (b := 9) (by omega) (by omega)).mp z)) (m_t (fun z => h10 ((i_eq (b := 10) (by omega) (by omega)).mp z)) ?_)))
      (repeat (first | (with_reducible refine m_bnd ?_) | (with_reducible refine m_jn ?_) | (with_reducible refine m_nt ?_) | (with_reducible refine m_gd ?_) | ((with_reducible apply m_getI); decide) | ((with_reducible apply m_putI); decide) | ((with_reducible apply m_getRt); exact rfl) | ((with_reducible apply m_ldIt); exact rfl; omega) | ((with_reducible apply m_ldLt); exact rfl; omega) | ((with_reducible apply m_stIt); exact rfl; omega) | ((with_reducible apply m_stZt); exact rfl; omega; (first | exact Or.inl rfl | exact Or.inr rfl | exact bz_z | assumption)) | ((with_reducible apply m_stLt); exact rfl; omega) | (with_reducible refine m_isin ?_) | (with_reducible refine m_isten ?_) | (with_reducible refine m_ones ?_) | (with_reducible refine m_isstore ?_) | ((with_reducible apply m_purZ); (first | exact Or.inl rfl | exact Or.inr rfl | exact bz_z | assumption)) | (with_reducible refine m_pur ?_)))
      exact ⟨e, hS⟩
    rcases (by omega : j = 0 ∨ j = 1 ∨ j = 2 ∨ j = 3 ∨ j = 4 ∨ j = 5 ∨ j = 6 ∨ j = 7 ∨ j = 8 ∨ j = 9 ∨ j = 10 ∨ j = 11 ∨ j = 12) with rfl | rfl | rfl | rfl | rfl | rfl | rfl | rfl | rfl | rfl | rfl | rfl | rfl
    · exact ⟨d.blew, w_bnd (w_getLv hL.k0 y1 (w_pur fin)), fun S hS => sums hS (by decide) (by decide) (ok S hS (a := 0)).1⟩
    · exact ⟨d.taken, w_bnd (w_getLv hL.k0 y2 (w_pur fin)), fun S hS => sums hS (by decide) (by decide) (ok S hS (a := 0)).2.1⟩
    · exact ⟨d.sold, w_bnd (w_getLv hL.k0 y3 (w_pur fin)), fun S hS => sums hS (by decide) (by decide) (ok S hS (a := 0)).2.2.1⟩
    · exact ⟨d.unsold, w_bnd (w_getLv hL.k0 y4 (w_pur fin)), fun S hS => sums hS (by decide) (by decide) (ok S hS (a := 0)).2.2.2.1⟩
    · exact ⟨d.made, w_bnd (w_getLv hL.k0 y5 (w_pur fin)), fun S hS => sums hS (by decide) (by decide) (ok S hS (a := 0)).2.2.2.2.1⟩
    · exact ⟨d.vented, w_bnd (w_getLv hL.k0 y6 (w_pur fin)), fun S hS => sums hS (by decide) (by decide) (ok S hS (a := 0)).2.2.2.2.2.1⟩
    · exact ⟨d.drunk, w_bnd (w_getLv hL.k0 y7 (w_pur fin)), fun S hS => sums hS (by decide) (by decide) (ok S hS (a := 0)).2.2.2.2.2.2.1⟩
    · exact ⟨(d.so 0).leaked + (d.so 1).leaked, w_bnd (w_getR0 hL rfl rfl rfl (w_bnd (w_getLv hL.k13 p8 (w_bnd (w_getR0 hL rfl rfl rfl (w_bnd (w_getLv hL.k15 q8 (w_pur fin)))))))), fun S hS => sums hS (by decide) (by decide) (ok S hS (a := 0)).2.2.2.2.2.2.2.2.2.1⟩
    · exact ⟨(d.so 0).lost + (d.so 1).lost, w_bnd (w_getR0 hL rfl rfl rfl (w_bnd (w_getLv hL.k13 p9 (w_bnd (w_getR0 hL rfl rfl rfl (w_bnd (w_getLv hL.k15 q9 (w_pur fin)))))))), fun S hS => sums hS (by decide) (by decide) (ok S hS (a := 0)).2.2.2.2.2.2.2.2.2.2⟩
    · refine ⟨(d.so 0).grams.toInt64 + (d.so 1).grams.toInt64, w_bnd (w_getR0 hL rfl rfl rfl (w_bnd (w_getIv hL.k13 p7 (w_bnd (w_getR0 hL rfl rfl rfl (w_bnd (w_getIv hL.k15 q7 (w_pur fin)))))))), fun S hS => step (m_jn (m_f (fun z => z rfl) ?_))⟩
      refine m_bnd (m_getRt rfl (m_bnd (m_ldIt (i := 0) rfl (by decide) (m_bnd (m_getRt rfl (m_bnd (m_ldIt (i := 1) rfl (by decide) (m_pur ⟨?_, hS⟩))))))))
      rw [hS.2.2.1.1.2.2.2.1, hS.2.2.1.2.2.2.2.1]
      exact l_add (by omega) (by omega)
    · refine ⟨d.thas.toInt64, w_bnd (w_getIv hL.k0 x3 (w_pur fin)), fun S hS => step (m_jn (m_t (by decide) (m_f (fun z => z rfl) ?_)))⟩
      refine m_bnd (m_getI (by decide) (m_pur ⟨?_, hS⟩))
      rw [hS.2.2.2.2.2.2.1.2.2.1]
    · exact ⟨d.noRoom, w_bnd (w_getLv hL.k0 y8 (w_pur fin)), fun S hS => sums hS (by decide) (by decide) (ok S hS (a := 0)).2.2.2.2.2.2.2.1⟩
    · exact ⟨d.coins, w_bnd (w_getLv hL.k0 y9 (w_pur fin)), fun S hS => sums hS (by decide) (by decide) (ok S hS (a := 0)).2.2.2.2.2.2.2.2.1⟩
  · rw [sw_dN 13 rfl hw (by decide)]
    have hin : ¬ (0 ≤ w ∧ w ≤ 12) := fun z => by
      obtain ⟨j, hj, e⟩ := i_nat (n := 12) z.1 (by decide) z.2
      exact hw j (by omega) e
    exact ⟨-1000000000000, w_pur fin, fun S hS => m_bnd (m_nt (m_isin (m_f (fun z => z (bz_0.mpr hin)) (m_pur ⟨rfl, hS⟩))))⟩
end
