set_option maxRecDepth 100000
/-! ===== pass ===== -/
def tenN (d : Dt) : Nat → Dt
  | 0 => d
  | k + 1 => tenD (tenN d k)
theorem tenN_ok {d : Dt} (hD : ID d) : ∀ k, d.now + k ≤ 4999 → ID (tenN d k) ∧ (tenN d k).now = d.now + k ∧ (tenN d k).tape = d.tape := by
  intro k
  induction k with
  | zero => intro _; exact ⟨hD, rfl, rfl⟩
  | succ k ih =>
    intro h
    obtain ⟨a1, a2, a3⟩ := ih (by omega)
    obtain ⟨b1, b2, b3, -⟩ := ten_ok a1 (by rw [a2]; omega)
    exact ⟨b1, by show (tenD (tenN d k)).now = _; rw [b2, a2]; omega, b3.trans a3⟩
section
variable {x : Nat} {M : Mem} {n0 k p L : Nat} {xs : Nat → Int32}
theorem x_pass_lp {n N : Nat} {d : Dt} {M0 : Mem} (hD : ID d) (hN : d.now + N ≤ 4999) (hN2 : N ≤ 200) (hn : 9100 ≤ n) {Q : Int32 → Mem → Prop} (hq : ∀ M', Bas x M' → IX x M' (tenN d N) → AgX x M0 M' → (M'.n + 3400 * dry (tenN d N).trips ≤ M0.n + 3400 * dry d.trips + 4 * N ∧ M'.sl + 40000 * dry (tenN d N).trips + 4 * (M0.cap (x + 14) + M0.cap (x + 16)) ≤ M0.sl + 40000 * dry d.trips + 126 * N + 4 * (M'.cap (x + 14) + M'.cap (x + 16))) → Q (Int32.ofNat (d.now + N)) M') :
    ∀ q j M, j ≤ N → N < q + j → Bas x M → IX x M (tenN d j) → AgX x M0 M → (M.n + 3400 * dry (tenN d j).trips ≤ M0.n + 3400 * dry d.trips + 4 * j ∧ M.sl + 40000 * dry (tenN d j).trips + 4 * (M0.cap (x + 14) + M0.cap (x + 16)) ≤ M0.sl + 40000 * dry d.trips + 126 * j + 4 * (M.cap (x + 14) + M.cap (x + 16))) → wp (lp_X0_pass_28 n x (Int32.ofNat N) q (Int32.ofNat j)) M Q := by
  intro q
  induction q with
  | zero => intro j M _ _; omega
  | succ q ih =>
    intro j M hj hq' hB hX hA hC
    obtain ⟨a1, a2, a3⟩ := tenN_ok hD j (by omega)
    rw [lp_X0_pass_28]
    by_cases e : j = N
    · subst e
      have n0 : M.i (128 * 0 + 0) x = Int32.ofNat (d.now + j) := by rw [← a2]; exact hX.2.2.2.2.2.2.1.1
      exact w_t ((i_le (by omega) (by omega)).mpr (by omega)) (w_bnd (w_getIv hB.1.k0 n0 (w_pur (hq M hB hX hA hC))))
    · refine w_f (fun z => by have := (i_le (by omega) (by omega)).mp z; omega) (w_bnd (w_gd hB.1.k0 (w_nt (x_ten hB hX a1 (by rw [a2]; omega) hn (fun M' hB' hX' hA' hC' => ?_)))))
      rw [i_add1]
      have hC' : M'.n + 3400 * dry (tenN d (j + 1)).trips ≤ M.n + 3400 * dry (tenN d j).trips + 4 ∧ M'.sl + 40000 * dry (tenN d (j + 1)).trips + 4 * (M.cap (x + 14) + M.cap (x + 16)) ≤ M.sl + 40000 * dry (tenN d j).trips + 126 + 4 * (M'.cap (x + 14) + M'.cap (x + 16)) := hC'
      exact ih (j + 1) M' (by omega) (by omega) hB' hX' (hA.tr hA') ⟨by omega, by omega⟩
theorem m_pass_lp {n N : Nat} {d : Dt} (hD : ID d) (hN : d.now + N ≤ 4999) (hn : 9100 ≤ n) {Q : Int32 → MS → Prop} (hq : ∀ S', IM S' (tenN d N) → Q (Int32.ofNat (d.now + N)) S') :
    ∀ q j S, j ≤ N → N < q + j → IM S (tenN d j) → wm x (lp_X4_pass_27 n (x + 28) (Int32.ofNat N) q (Int32.ofNat j)) S Q := by
  intro q
  induction q with
  | zero => intro j S _ _; omega
  | succ q ih =>
    intro j S hj hq' hS
    obtain ⟨a1, a2, a3⟩ := tenN_ok hD j (by omega)
    rw [lp_X4_pass_27]
    by_cases e : j = N
    · subst e
      refine m_t ((i_le (by omega) (by omega)).mpr (by omega)) (m_bnd (m_getI (by decide) (m_pur ?_)))
      rw [hS.2.2.2.2.2.2.1.1, a2]
      exact hq S hS
    · refine m_f (fun z => by have := (i_le (by omega) (by omega)).mp z; omega) (m_bnd (m_gd (m_nt (m_ten hS a1 hn (fun S' hS' => ?_)))))
      rw [i_add1]
      exact ih (j + 1) S' (by omega) (by omega) hS'
theorem op_pass {n : Nat} {Q : Int32 → Mem → Prop} (hI : Inv x n0 k p L xs M) (hn : 9100 ≤ n) {w : Int32}
    (hq : ∀ v M1, Scr p L xs M1 → wp (gd 4 (x + 28) (nt (f_X4_pass n (x + 28) w))) M1 (fun w M2 => w = v ∧ Inv x n0 (k + 1) p L xs M2) → Q v M1) : wp (gd 0 x (nt (f_X0_pass n x w))) M Q := by
  refine op_join hI (fun d hB hX hD hC => ?_) hq
  have hL := hB.1
  have hnow := hD.1
  have m0 : M.i (128 * 0 + 0) x = Int32.ofNat d.now := hX.2.2.2.2.2.2.1.1
  have fin : ∀ {v : Int32}, v = v ∧ Okx x M d M ∧ Cst x n0 (k + 1) M d := fun {v} => ⟨rfl, Okx.rf hB hX, hC.step (by omega) (by omega)⟩
  unfold f_X0_pass f_X4_pass
  by_cases c1 : 1 ≤ w ∧ w ≤ 200
  · obtain ⟨N, hN, rfl⟩ := i_nat (a := w) (n := 200) (Int32.le_trans (by decide) c1.1) (by decide) c1.2
    have hN1 : 1 ≤ N := by
      have := (i_le (a := 1) (b := N) (by omega) (by omega)).mp c1.1
      omega
    by_cases c2 : d.now + N ≤ 4999
    · obtain ⟨a1, a2, a3⟩ := tenN_ok hD N c2
      refine ⟨Int32.ofNat (d.now + N), tenN d N, a1, w_bnd (w_nt (x_isIn c64_1 c64_200 (w_jn (w_f (fun z => bzf z c1) (w_bnd (w_getIv hL.k0 m0 ?_)))))), fun S hS => m_bnd (m_nt (m_isin (m_jn (m_f (fun z => bzf z c1) (m_bnd (m_getI (by decide) ?_))))))⟩
      · rw [i_add]
        refine w_t ((i_le (b := 4999) (by omega) (by omega)).mpr c2) (x_pass_lp hD c2 hN hn (fun M' hB' hX' hA' hC' => ⟨rfl, ⟨hX', hB'.2.1, hB'.2.2.1, hA'⟩, ?_⟩) n 0 M (Nat.zero_le _) (by omega) hB hX Ag.rf ⟨by show M.n + 3400 * dry d.trips ≤ _; omega, by show M.sl + 40000 * dry d.trips + _ ≤ _; omega⟩)
        unfold Cst at hC ⊢
        rw [a3]
        omega
      · rw [hS.2.2.2.2.2.2.1.1, show (4999 : Int32) - Int32.ofNat N = Int32.ofNat (4999 - N) from i_sub (a := 4999) (b := N) (by omega)]
        exact m_t ((i_le (by omega) (by omega)).mpr (by omega)) (m_pass_lp hD c2 hn (fun S' hS' => ⟨rfl, hS'⟩) n 0 S (Nat.zero_le _) (by omega) hS)
    · refine ⟨-1, d, hD, w_bnd (w_nt (x_isIn c64_1 c64_200 (w_jn (w_f (fun z => bzf z c1) (w_bnd (w_getIv hL.k0 m0 ?_)))))), fun S hS => m_bnd (m_nt (m_isin (m_jn (m_f (fun z => bzf z c1) (m_bnd (m_getI (by decide) ?_))))))⟩
      · rw [i_add]
        exact w_f (fun z => c2 ((i_le (b := 4999) (by omega) (by omega)).mp z)) (w_pur fin)
      · rw [hS.2.2.2.2.2.2.1.1, show (4999 : Int32) - Int32.ofNat N = Int32.ofNat (4999 - N) from i_sub (a := 4999) (b := N) (by omega)]
        exact m_f (fun z => c2 (by have := (i_le (by omega) (by omega)).mp z; omega)) (m_pur ⟨rfl, hS⟩)
  · exact ⟨-1, d, hD, w_bnd (w_nt (x_isIn c64_1 c64_200 (w_jn (w_t (bz_0.mpr c1) (w_pur fin))))), fun S hS => m_bnd (m_nt (m_isin (m_jn (m_t (bz_0.mpr c1) (m_pur ⟨rfl, hS⟩)))))⟩
end
