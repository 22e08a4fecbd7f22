set_option maxRecDepth 100000
section
variable {x : Nat} {M : Mem} {n0 k p L : Nat} {xs : Nat → Int32}
theorem x_hour {c : Nat} {Q : Int32 → Mem → Prop} (hk : M.k c = 10) (hq : Q (M.i 1152 c) M) : wp (f_X9_hour c) M Q := by
  unfold f_X9_hour
  exact w_bnd (w_getI hk (w_pur hq))
theorem x_grams {c : Nat} {Q : Int32 → Mem → Prop} (hk : M.k c = 10) (hq : Q (M.i 1153 c) M) : wp (f_X9_grams c) M Q := by
  unfold f_X9_grams
  exact w_bnd (w_getI hk (w_pur hq))
theorem x_of_lp {o l : Nat} {sips : List (Int32 × Int32)} {h : Int32} (hg : GL M) (ho : M.k o = 8) (hr : M.r (128 * 7 + 3) o = l) (hl : M.k l = 18) (h1 : (M.ls l).map (rdSp M) = sips) (he : ∀ c ∈ M.ls l, M.k c = 10) {Q : Int32 → Mem → Prop} (hq : Q (drunkAt sips h) M) :
    ∀ q j, j ≤ sips.length → sips.length < q + j → wp (lp_X7_of_4 o h q ((sips.take j).foldl (fun v e => if e.1 = h then v + e.2 else v) 0) (Int32.ofNat j)) M Q := by
  have hlen := map_len h1
  have hb := hg.len hl
  intro q
  induction q with
  | zero => intro j a b; omega
  | succ q ih =>
    intro j hj hq'
    rw [lp_X7_of_4]
    refine w_bnd (w_getRv ho hr (w_bnd (w_gd hl (w_nt (w_size hg hl ?_)))))
    rw [hlen]
    by_cases e : j = sips.length
    · refine w_t ((i_le (by omega) (by omega)).mpr (by omega)) (w_pur ?_)
      rw [e, List.take_length]; exact hq
    · have hj2 : j < sips.length := by omega
      have hj3 : j < (M.ls l).length := by omega
      have hk := he _ (List.getElem_mem hj3)
      have er := map_get h1 hj2 hj3
      have ev : M.i 1152 (M.ls l)[j] = sips[j].1 := by rw [← er]; rfl
      have eg : M.i 1153 (M.ls l)[j] = sips[j].2 := by rw [← er]; rfl
      have K := ih (j + 1) (by omega) (by omega)
      rw [foldl_take hj2] at K
      refine w_f (fun z => by have := (i_le (by omega) (by omega)).mp z; omega) ?_
      refine w_bnd (w_getRv ho hr (w_bnd (w_gd hl (w_nt (w_get hg hl hj3 (w_bnd (w_cst (Or.inr (by rw [hk]; decide)) (w_bnd (w_gd hk (w_nt (x_hour hk (w_jn ?_))))))))))))
      rw [ev]
      refine w_ite (fun hc => ?_) (fun hc => ?_)
      · rw [if_neg hc] at K
        show wp (lp_X7_of_4 o h q (_ + 0) (_ + 1)) M Q
        rw [Int32.add_zero, i_add1]
        exact K
      · rw [Decidable.not_not] at hc
        rw [if_pos hc] at K
        refine w_bnd (w_getRv ho hr (w_bnd (w_gd hl (w_nt (w_get hg hl hj3 (w_bnd (w_cst (Or.inr (by rw [hk]; decide)) (w_bnd (w_gd hk (w_nt (x_grams hk ?_)))))))))))
        rw [eg, i_add1]
        exact K
theorem op_drank {n : Nat} {Q : Int32 → Mem → Prop} (hI : Inv x n0 k p L xs M) (hn : 9100 ≤ n) {t h : Int32}
    (hq : ∀ v M1, Scr p L xs M1 → wp (gd 4 (x + 28) (nt (f_X4_drank (x + 28) t h))) M1 (fun w M2 => w = v ∧ Inv x n0 (k + 1) p L xs M2) → Q v M1) : wp (gd 0 x (nt (f_X0_drank n x t h))) M Q := by
  refine op_ask hI (fun d hB hX hD => ?_) hq
  have hL := hB.1
  have hg := hB.2.2.1
  have fin : ∀ {v : Int32}, v = v ∧ Okx x M d M ∧ M.n = M.n ∧ M.sl = M.sl ∧ M.cap = M.cap := fun {v} => ⟨rfl, Okx.rf hB hX, rfl, rfl, rfl⟩
  have h40 := hD.2.2.2.2.2.1.1
  by_cases co : ∃ a, a < d.trips.length ∧ t = Int32.ofNat a
  · obtain ⟨a, ha, rfl⟩ := co
    have inj : ∀ i, i < d.trips.length → Int32.ofNat a = Int32.ofNat i → a = i := fun i hi z => (i_eq (by omega) (by omega)).mp z
    by_cases ch : 0 ≤ h ∧ h ≤ 833
    · obtain ⟨j, hj, rfl⟩ := i_nat (n := 833) ch.1 (by decide) ch.2
      refine ⟨drunkAt d.trips[a].sips (Int32.ofNat j), ?_, fun S hS => ?_⟩
      · unfold f_X0_drank
        refine w_bnd (w_gd hL.k0 (w_nt (x_tripAt hB hX hD (fun z => absurd rfl (z a ha)) (fun b hb hb' z er ek => ?_))))
        have e2 := inj b hb z
        subst e2
        obtain ⟨b1, b2, b3, b4, b5⟩ := hX.2.2.2.1.2.2 _ (List.getElem_mem hb')
        have es : (M.ls ((M.ls (x + 23))[a] + 1)).map (rdSp M) = d.trips[a].sips := by rw [← er]; rfl
        have hlen := map_len es
        have hb2 := hg.len b3
        refine w_jn (w_jn (w_f (by omega) (w_bnd (w_nt (x_isIn c64_0 c64_833 (w_t (fun z => bzf z ch) ?_))))))
        refine w_bnd (w_getR0 hL rfl rfl rfl (w_bnd (w_gd hL.k23 (w_nt (w_get hg hL.k23 hb' (w_bnd (w_cst (Or.inr (by rw [b1]; decide)) (w_bnd (w_gd b1 (w_nt ?_))))))))))
        unfold f_X7_of
        exact x_of_lp hg b1 b2 b3 es b5 (w_pur fin) n 0 (Nat.zero_le _) (by omega)
      · unfold f_X4_drank
        refine m_bnd (m_gd (m_nt (m_isTrip hS (fun z => absurd rfl (z a ha)) (fun b hb z => ?_))))
        have e2 := inj b hb z
        subst e2
        refine m_jn (m_jn (m_f (by decide) ?_))
        (repeat (first | (with_reducible refine m_bnd ?_) | (with_reducible refine m_jn ?_) | (with_reducible refine m_nt ?_) | (with_reducible refine m_gd ?_) | ((with_reducible apply m_getI); decide) | ((with_reducible apply m_putI); decide) | ((with_reducible apply m_getRt); exact rfl) | ((with_reducible apply m_ldIt); exact rfl; omega) | ((with_reducible apply m_ldLt); exact rfl; omega) | ((with_reducible apply m_stIt); exact rfl; omega) | ((with_reducible apply m_stZt); exact rfl; omega; (first | exact Or.inl rfl | exact Or.inr rfl | exact bz_z | assumption)) | ((with_reducible apply m_stLt); exact rfl; omega) | (with_reducible refine m_isin ?_) | (with_reducible refine m_isten ?_) | (with_reducible refine m_ones ?_) | (with_reducible refine m_isstore ?_) | ((with_reducible apply m_purZ); (first | exact Or.inl rfl | exact Or.inr rfl | exact bz_z | assumption)) | (with_reducible refine m_pur ?_)))
        refine m_f (fun z => bzf z ch) ?_
        refine m_bnd (m_getRt rfl (m_bnd ?_))
        rw [show (834 : Int32) = Int32.ofNat 834 from rfl, i_mul, i_add]
        (repeat (first | (with_reducible refine m_bnd ?_) | (with_reducible refine m_jn ?_) | (with_reducible refine m_nt ?_) | (with_reducible refine m_gd ?_) | ((with_reducible apply m_getI); decide) | ((with_reducible apply m_putI); decide) | ((with_reducible apply m_getRt); exact rfl) | ((with_reducible apply m_ldIt); exact rfl; omega) | ((with_reducible apply m_ldLt); exact rfl; omega) | ((with_reducible apply m_stIt); exact rfl; omega) | ((with_reducible apply m_stZt); exact rfl; omega; (first | exact Or.inl rfl | exact Or.inr rfl | exact bz_z | assumption)) | ((with_reducible apply m_stLt); exact rfl; omega) | (with_reducible refine m_isin ?_) | (with_reducible refine m_isten ?_) | (with_reducible refine m_ones ?_) | (with_reducible refine m_isstore ?_) | ((with_reducible apply m_purZ); (first | exact Or.inl rfl | exact Or.inr rfl | exact bz_z | assumption)) | (with_reducible refine m_pur ?_)))
        exact ⟨(hS.2.2.2.1.2.2.1 a ha).2.2.2.2.2.2 j (by omega), hS⟩
    · refine ⟨-1, ?_, fun S hS => ?_⟩
      · unfold f_X0_drank
        refine w_bnd (w_gd hL.k0 (w_nt (x_tripAt hB hX hD (fun z => absurd rfl (z a ha)) (fun b hb hb' z er ek => ?_))))
        obtain ⟨b1, b2, b3, b4, b5⟩ := hX.2.2.2.1.2.2 _ (List.getElem_mem hb')
        exact w_jn (w_jn (w_f (by omega) (w_bnd (w_nt (x_isIn c64_0 c64_833 (w_f (fun z => z (bz_0.mpr ch)) (w_pur fin)))))))
      · unfold f_X4_drank
        refine m_bnd (m_gd (m_nt (m_isTrip hS (fun z => absurd rfl (z a ha)) (fun b hb z => ?_))))
        refine m_jn (m_jn (m_f (by decide) ?_))
        (repeat (first | (with_reducible refine m_bnd ?_) | (with_reducible refine m_jn ?_) | (with_reducible refine m_nt ?_) | (with_reducible refine m_gd ?_) | ((with_reducible apply m_getI); decide) | ((with_reducible apply m_putI); decide) | ((with_reducible apply m_getRt); exact rfl) | ((with_reducible apply m_ldIt); exact rfl; omega) | ((with_reducible apply m_ldLt); exact rfl; omega) | ((with_reducible apply m_stIt); exact rfl; omega) | ((with_reducible apply m_stZt); exact rfl; omega; (first | exact Or.inl rfl | exact Or.inr rfl | exact bz_z | assumption)) | ((with_reducible apply m_stLt); exact rfl; omega) | (with_reducible refine m_isin ?_) | (with_reducible refine m_isten ?_) | (with_reducible refine m_ones ?_) | (with_reducible refine m_isstore ?_) | ((with_reducible apply m_purZ); (first | exact Or.inl rfl | exact Or.inr rfl | exact bz_z | assumption)) | (with_reducible refine m_pur ?_)))
        refine m_t (bz_0.mpr ch) (m_pur ⟨rfl, hS⟩)
  · refine ⟨-1, ?_, fun S hS => ?_⟩
    · unfold f_X0_drank
      exact w_bnd (w_gd hL.k0 (w_nt (x_tripAt hB hX hD (fun z => w_jn (w_jn (w_t rfl (w_pur fin)))) (fun b hb hb' z er ek => absurd ⟨b, hb, z⟩ co))))
    · unfold f_X4_drank
      exact m_bnd (m_gd (m_nt (m_isTrip hS (fun z => m_jn (m_jn (m_t rfl (m_pur ⟨rfl, hS⟩)))) (fun b hb z => absurd ⟨b, hb, z⟩ co))))
end
