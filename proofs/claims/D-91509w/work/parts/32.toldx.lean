set_option maxRecDepth 100000
/-! ===== what is told of tens: WindGas ===== -/
def spn (M : Mem) (c : Nat) : Tri := (M.i 640 c, M.i 641 c, M.i 642 c)
section
variable {M : Mem} {Q : Int32 → Mem → Prop}
theorem x_at_lp {o l : Nat} (hg : GL M) (ho : M.k o = 2) (hr : M.r (128 * 1 + 2) o = l) (hl : M.k l = 18) (he : ∀ c ∈ M.ls l, M.k c = 6) {t : Int32} {j50 : Int32 → Act Int32} (hj : ∀ k (h : k < (M.ls l).length), Q (M.i 642 (M.ls l)[k]) M → wp (j50 (Int32.ofNat k)) M Q) :
    ∀ q j, j ≤ (M.ls l).length → j < q → Q (say (((M.ls l).map (spn M)).take j) t) M → wp (lp_X1_at_10 o t j50 q (Int32.ofNat j - 1)) M Q := by
  have hb := hg.len hl
  intro q
  induction q with
  | zero => intro j _ h; omega
  | succ q ih =>
    intro j hjl hjq hq
    rw [lp_X1_at_10]
    cases j with
    | zero =>
      refine w_t (by decide) (w_pur ?_)
      rw [List.take_zero] at hq
      exact hq
    | succ k =>
      have ek : Int32.ofNat (k + 1) - 1 = Int32.ofNat k := i_sub (a := k + 1) (b := 1) (by omega)
      rw [ek]
      have hk : k < (M.ls l).length := by omega
      have hkm : k < ((M.ls l).map (spn M)).length := by rw [List.length_map]; exact hk
      have hke := he _ (List.getElem_mem hk)
      rw [say_take hkm, List.getElem_map] at hq
      have e1 : Int32.ofNat k + (-1) = Int32.ofNat k - 1 := (Int32.sub_eq_add_neg _ _).symm
      refine w_f (i_nneg (by omega)) (w_bnd (w_getRv ho hr (w_bnd (w_gd hl (w_nt (w_get hg hl hk (w_bnd (w_cst (Or.inr (by rw [hke]; decide)) (w_bnd (w_gd hke (w_nt ?_)))))))))))
      unfold f_X5_from
      refine w_bnd (w_getI hke (w_pur (w_jn (w_ite (fun hc => ?_) (fun hc => ?_)))))
      · rw [if_neg (fun z => Int32.not_lt.mpr z.1 hc)] at hq
        rw [e1]
        exact ih k (by omega) (by omega) hq
      · refine w_bnd (w_getRv ho hr (w_bnd (w_gd hl (w_nt (w_get hg hl hk (w_bnd (w_cst (Or.inr (by rw [hke]; decide)) (w_bnd (w_gd hke (w_nt ?_))))))))))
        unfold f_X5_to
        refine w_bnd (w_getI hke (w_pur (w_ite (fun hd => ?_) (fun hd => ?_))))
        · rw [if_neg (fun z => Int32.not_lt.mpr z.2 hd)] at hq
          rw [e1]
          exact ih k (by omega) (by omega) hq
        · rw [if_pos ⟨Int32.not_lt.mp hc, Int32.not_lt.mp hd⟩] at hq
          exact hj k hk hq
theorem x_at {o l n : Nat} (hg : GL M) (ho : M.k o = 2) (hr : M.r (128 * 1 + 2) o = l) (hl : M.k l = 18) (he : ∀ c ∈ M.ls l, M.k c = 6) (hn : (M.ls l).length < n) {t : Int32} (hq : Q (say ((M.ls l).map (spn M)) t) M) : wp (f_X1_at n o t) M Q := by
  unfold f_X1_at
  refine w_bnd (w_getRv ho hr (w_bnd (w_gd hl (w_nt (w_size hg hl (w_jn ?_))))))
  refine x_at_lp hg ho hr hl he (fun k hk hq => ?_) n _ (Nat.le_refl _) hn (by rw [show (M.ls l).length = ((M.ls l).map (spn M)).length from (List.length_map _).symm, List.take_length]; exact hq)
  have hke := he _ (List.getElem_mem hk)
  refine w_bnd (w_getRv ho hr (w_bnd (w_gd hl (w_nt (w_get hg hl hk (w_bnd (w_cst (Or.inr (by rw [hke]; decide)) (w_bnd (w_gd hke (w_nt ?_))))))))))
  unfold f_X5_v
  exact w_bnd (w_getI hke (w_pur (w_pur hq)))
/-- wind (0), price (1), rain (2) at a ten -/
theorem x_atw {x n w : Nat} {told : Nat → List Tri} (hB : Bas x M) (hT : XT x M told) (h80 : ∀ w, w < 3 → (told w).length ≤ 80) (hw : w < 3) (hn : 100 ≤ n) {t : Int32} (hq : Q (say (told w) t) M) : wp (f_X1_at n (x + 1 + 2 * w) t) M Q := by
  obtain ⟨h1, h2⟩ := hT w hw
  have e1 : M.k (x + 1 + 2 * w) = 2 ∧ M.r (128 * 1 + 2) (x + 1 + 2 * w) = x + 2 + 2 * w ∧ M.k (x + 2 + 2 * w) = 18 := by
    have hL := hB.1
    rcases (by omega : w = 0 ∨ w = 1 ∨ w = 2) with rfl | rfl | rfl
    · exact ⟨hL.k1, hL.r1_2_1, hL.k2⟩
    · exact ⟨hL.k3, hL.r1_2_3, hL.k4⟩
    · exact ⟨hL.k5, hL.r1_2_5, hL.k6⟩
  have hlen : (M.ls (x + 2 + 2 * w)).length ≤ 80 := by
    have := h80 w hw
    rw [← h1, List.length_map] at this
    exact this
  refine x_at hB.2.2.1 e1.1 e1.2.1 e1.2.2 h2 (by omega) ?_
  rw [show (M.ls (x + 2 + 2 * w)).map (spn M) = told w from h1]
  exact hq
theorem x_tellings {x k : Nat} {Q : Nat → Mem → Prop} (hB : Bas x M) (hk : k < 3) (hq : Q (x + 1 + 2 * k) M) : wp (f_X0_tellings x (Int32.ofNat k)) M Q := by
  have hL := hB.1
  unfold f_X0_tellings
  rcases (by omega : k = 0 ∨ k = 1 ∨ k = 2) with rfl | rfl | rfl
  · exact w_jn (w_f (fun z => z rfl) (w_bnd (w_getRv hL.k0 hL.r0_1_0 (w_pur hq))))
  · exact w_jn (w_t (by decide) (w_f (fun z => z rfl) (w_bnd (w_getRv hL.k0 hL.r0_2_0 (w_pur hq)))))
  · exact w_jn (w_t (by decide) (w_t (by decide) (w_bnd (w_getRv hL.k0 hL.r0_3_0 (w_pur hq)))))
theorem x_said {x n : Nat} {told : Nat → List Tri} (hB : Bas x M) (hT : XT x M told) (h80 : ∀ w, w < 3 → (told w).length ≤ 80) (hn : 100 ≤ n) {w t : Int32} (hq : Q (saidD told w t) M) : wp (f_X0_said n x w t) M Q := by
  unfold f_X0_said
  refine w_bnd (w_nt (x_isIn (b := 0) (c := 2) (by decide) (by decide) (w_jn (w_jn (w_ite (fun hc => ?_) (fun hc => w_bnd (w_nt (x_isTen (w_ite (fun hd => ?_) (fun hd => ?_))))))))))
  · rw [bz_0] at hc
    rw [saidD, if_neg (fun z => hc z.1)] at hq
    exact w_pur hq
  · rw [bz_0] at hd
    rw [saidD, if_neg (fun z => hd z.2)] at hq
    exact w_pur hq
  · rw [bz_0, Decidable.not_not] at hc hd
    rw [saidD, if_pos ⟨hc, hd⟩] at hq
    obtain ⟨k, hk, rfl⟩ := i_nat (n := 2) hc.1 (by decide) hc.2
    rw [i_clamp (by omega)] at hq
    have hk3 : k < 3 := by omega
    refine w_bnd (w_gd hB.1.k0 (w_nt (x_tellings hB hk3 (w_bnd (w_gd ?_ (w_nt (x_atw hB hT h80 hk3 hn (w_pur hq))))))))
    have hL := hB.1
    rcases (by omega : k = 0 ∨ k = 1 ∨ k = 2) with rfl | rfl | rfl
    · exact hL.k1
    · exact hL.k3
    · exact hL.k5
end
