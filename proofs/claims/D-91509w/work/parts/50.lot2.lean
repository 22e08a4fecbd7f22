set_option maxRecDepth 100000
section
variable {x : Nat} {M : Mem} {n0 k p L : Nat} {xs : Nat → Int32}
theorem m_placeAt {S : MS} {s o : Nat} {Q : Int32 → MS → Prop} (h : Q (Int32.ofNat (840 * s + o)) S) : wm x (f_X4_place (Int32.ofNat s) (Int32.ofNat o)) S Q := by
  unfold f_X4_place
  refine m_pur ?_
  rw [show (840 : Int32) = Int32.ofNat 840 from rfl, i_mul, i_add]; exact h
theorem op_lot {Q : Int32 → Mem → Prop} (hI : Inv x n0 k p L xs M) {s j w : Int32}
    (hq : ∀ v M1, Scr p L xs M1 → wp (gd 4 (x + 28) (nt (f_X4_lot (x + 28) s j w))) M1 (fun w M2 => w = v ∧ Inv x n0 (k + 1) p L xs M2) → Q v M1) : wp (gd 0 x (nt (f_X0_lot x s j w))) M Q := by
  refine op_ask hI (fun d hB hX hD => ?_) hq
  have hL := hB.1
  have hg := hB.2.2.1
  have fin : ∀ {v : Int32}, v = v ∧ Okx x M d M ∧ M.n = M.n ∧ M.sl = M.sl ∧ M.cap = M.cap := fun {v} => ⟨rfl, Okx.rf hB hX, rfl, rfl, rfl⟩
  by_cases co : ∃ a, a < 2 ∧ s = Int32.ofNat a
  · obtain ⟨a, ha, rfl⟩ := co
    obtain ⟨s1, s2, s3⟩ := storeL hB.1 ha
    obtain ⟨g1, g2, g3, g4⟩ := hX.2.2.1.at ha
    have inj : ∀ i, i < 2 → Int32.ofNat a = Int32.ofNat i → a = i := fun i hi z => (i_eq (by omega) (by omega)).mp z
    have hlen := map_len g1
    have hb := hg.len s3
    by_cases cj : 0 ≤ j ∧ j ≤ Int32.ofNat (d.so a).lots.length - 1
    · obtain ⟨i, hi, rfl⟩ := lenI (by omega) cj
      have hi2 : i < (M.ls (x + 14 + 2 * a)).length := by omega
      have hk := g2 _ (List.getElem_mem hi2)
      have er := map_get g1 hi hi2
      have e0 : M.i (128 * 8 + 0) (M.ls (x + 14 + 2 * a))[i] = (d.so a).lots[i].1 := by rw [← er]; rfl
      have e1 : M.i (128 * 8 + 1) (M.ls (x + 14 + 2 * a))[i] = (d.so a).lots[i].2.1 := by rw [← er]; rfl
      have e2 : M.i (128 * 8 + 2) (M.ls (x + 14 + 2 * a))[i] = (d.so a).lots[i].2.2 := by rw [← er]; rfl
      refine ⟨if w = 0 then (d.so a).lots[i].1 else if w = 1 then (d.so a).lots[i].2.1 else if w = 2 then (d.so a).lots[i].2.2 else -1, ?_, fun S hS => ?_⟩
      · unfold f_X0_lot
        refine w_bnd (w_gd hL.k0 (w_nt (x_storeAt hL (fun z => absurd rfl (z a ha)) (fun b hb z => ?_))))
        rw [← inj b hb z]
        refine w_jn (w_f (by omega) (w_bnd (w_getRv s1 s2 (w_bnd (w_gd s3 (w_nt (w_size hg s3 ?_)))))))
        rw [hlen]
        refine w_bnd (w_nt (x_isIn (c := Int32.ofNat (d.so a).lots.length - 1) c64_0 rfl (w_t (fun z => bzf z cj) ?_)))
        refine w_bnd (w_getRv s1 s2 (w_bnd (w_gd s3 (w_nt (w_get hg s3 hi2 (w_bnd (w_cst (Or.inr (by rw [hk]; decide)) (w_jn ?_))))))))
        refine w_ite (fun h0 => w_ite (fun h1 => w_ite (fun h2 => w_pur ?_) (fun h2 => w_bnd (w_getIv hk e2 (w_pur ?_)))) (fun h1 => w_bnd (w_getIv hk e1 (w_pur ?_)))) (fun h0 => w_bnd (w_getIv hk e0 (w_pur ?_)))
        · rw [if_neg h0, if_neg h1, if_neg h2]; exact fin
        · rw [Decidable.not_not] at h2; rw [if_neg h0, if_neg h1, if_pos h2]; exact fin
        · rw [Decidable.not_not] at h1; rw [if_neg h0, if_pos h1]; exact fin
        · rw [Decidable.not_not] at h0; rw [if_pos h0]; exact fin
      · obtain ⟨r1, r2, r3, r4, r5, r6, r7, r8, o, r9, r10, r11, r12⟩ := hS.2.2.1.at ha
        obtain ⟨t1, t2, t3, t4⟩ := r12 i hi
        unfold f_X4_lot
        refine m_bnd (m_nt (m_isstore (m_jn (m_f (fun z => bzf z (st_c.mp ⟨a, ha, rfl⟩)) ?_))))
        (repeat (first | (with_reducible refine m_bnd ?_) | (with_reducible refine m_jn ?_) | (with_reducible refine m_nt ?_) | (with_reducible refine m_gd ?_) | ((with_reducible apply m_getI); decide) | ((with_reducible apply m_putI); decide) | ((with_reducible apply m_getRt); exact rfl) | ((with_reducible apply m_ldIt); exact rfl; omega) | ((with_reducible apply m_ldLt); exact rfl; omega) | ((with_reducible apply m_stIt); exact rfl; omega) | ((with_reducible apply m_stZt); exact rfl; omega; (first | exact Or.inl rfl | exact Or.inr rfl | exact bz_z | assumption)) | ((with_reducible apply m_stLt); exact rfl; omega) | (with_reducible refine m_isin ?_) | (with_reducible refine m_isten ?_) | (with_reducible refine m_ones ?_) | (with_reducible refine m_isstore ?_) | ((with_reducible apply m_purZ); (first | exact Or.inl rfl | exact Or.inr rfl | exact bz_z | assumption)) | (with_reducible refine m_pur ?_)))
        rw [r6]
        refine m_t (fun z => bzf z cj) ?_
        (repeat (first | (with_reducible refine m_bnd ?_) | (with_reducible refine m_jn ?_) | (with_reducible refine m_nt ?_) | (with_reducible refine m_gd ?_) | ((with_reducible apply m_getI); decide) | ((with_reducible apply m_putI); decide) | ((with_reducible apply m_getRt); exact rfl) | ((with_reducible apply m_ldIt); exact rfl; omega) | ((with_reducible apply m_ldLt); exact rfl; omega) | ((with_reducible apply m_stIt); exact rfl; omega) | ((with_reducible apply m_stZt); exact rfl; omega; (first | exact Or.inl rfl | exact Or.inr rfl | exact bz_z | assumption)) | ((with_reducible apply m_stLt); exact rfl; omega) | (with_reducible refine m_isin ?_) | (with_reducible refine m_isten ?_) | (with_reducible refine m_ones ?_) | (with_reducible refine m_isstore ?_) | ((with_reducible apply m_purZ); (first | exact Or.inl rfl | exact Or.inr rfl | exact bz_z | assumption)) | (with_reducible refine m_pur ?_)))
        rw [r9, i_add]
        refine m_placeAt (m_jn ?_)
        refine m_ite (fun h0 => m_ite (fun h1 => m_ite (fun h2 => m_pur ?_) (fun h2 => ?_)) (fun h1 => ?_)) (fun h0 => ?_)
        · rw [if_neg h0, if_neg h1, if_neg h2]; exact ⟨rfl, hS⟩
        · rw [Decidable.not_not] at h2; rw [if_neg h0, if_neg h1, if_pos h2]
          (repeat (first | (with_reducible refine m_bnd ?_) | (with_reducible refine m_jn ?_) | (with_reducible refine m_nt ?_) | (with_reducible refine m_gd ?_) | ((with_reducible apply m_getI); decide) | ((with_reducible apply m_putI); decide) | ((with_reducible apply m_getRt); exact rfl) | ((with_reducible apply m_ldIt); exact rfl; omega) | ((with_reducible apply m_ldLt); exact rfl; omega) | ((with_reducible apply m_stIt); exact rfl; omega) | ((with_reducible apply m_stZt); exact rfl; omega; (first | exact Or.inl rfl | exact Or.inr rfl | exact bz_z | assumption)) | ((with_reducible apply m_stLt); exact rfl; omega) | (with_reducible refine m_isin ?_) | (with_reducible refine m_isten ?_) | (with_reducible refine m_ones ?_) | (with_reducible refine m_isstore ?_) | ((with_reducible apply m_purZ); (first | exact Or.inl rfl | exact Or.inr rfl | exact bz_z | assumption)) | (with_reducible refine m_pur ?_)))
          exact ⟨t3, hS⟩
        · rw [Decidable.not_not] at h1; rw [if_neg h0, if_pos h1]
          (repeat (first | (with_reducible refine m_bnd ?_) | (with_reducible refine m_jn ?_) | (with_reducible refine m_nt ?_) | (with_reducible refine m_gd ?_) | ((with_reducible apply m_getI); decide) | ((with_reducible apply m_putI); decide) | ((with_reducible apply m_getRt); exact rfl) | ((with_reducible apply m_ldIt); exact rfl; omega) | ((with_reducible apply m_ldLt); exact rfl; omega) | ((with_reducible apply m_stIt); exact rfl; omega) | ((with_reducible apply m_stZt); exact rfl; omega; (first | exact Or.inl rfl | exact Or.inr rfl | exact bz_z | assumption)) | ((with_reducible apply m_stLt); exact rfl; omega) | (with_reducible refine m_isin ?_) | (with_reducible refine m_isten ?_) | (with_reducible refine m_ones ?_) | (with_reducible refine m_isstore ?_) | ((with_reducible apply m_purZ); (first | exact Or.inl rfl | exact Or.inr rfl | exact bz_z | assumption)) | (with_reducible refine m_pur ?_)))
          exact ⟨t2, hS⟩
        · rw [Decidable.not_not] at h0; rw [if_pos h0]
          (repeat (first | (with_reducible refine m_bnd ?_) | (with_reducible refine m_jn ?_) | (with_reducible refine m_nt ?_) | (with_reducible refine m_gd ?_) | ((with_reducible apply m_getI); decide) | ((with_reducible apply m_putI); decide) | ((with_reducible apply m_getRt); exact rfl) | ((with_reducible apply m_ldIt); exact rfl; omega) | ((with_reducible apply m_ldLt); exact rfl; omega) | ((with_reducible apply m_stIt); exact rfl; omega) | ((with_reducible apply m_stZt); exact rfl; omega; (first | exact Or.inl rfl | exact Or.inr rfl | exact bz_z | assumption)) | ((with_reducible apply m_stLt); exact rfl; omega) | (with_reducible refine m_isin ?_) | (with_reducible refine m_isten ?_) | (with_reducible refine m_ones ?_) | (with_reducible refine m_isstore ?_) | ((with_reducible apply m_purZ); (first | exact Or.inl rfl | exact Or.inr rfl | exact bz_z | assumption)) | (with_reducible refine m_pur ?_)))
          exact ⟨t1, hS⟩
    · refine ⟨-1, ?_, fun S hS => ?_⟩
      · unfold f_X0_lot
        refine w_bnd (w_gd hL.k0 (w_nt (x_storeAt hL (fun z => absurd rfl (z a ha)) (fun b hb z => ?_))))
        rw [← inj b hb z]
        refine w_jn (w_f (by omega) (w_bnd (w_getRv s1 s2 (w_bnd (w_gd s3 (w_nt (w_size hg s3 ?_)))))))
        rw [hlen]
        exact w_bnd (w_nt (x_isIn (c := Int32.ofNat (d.so a).lots.length - 1) c64_0 rfl (w_f (fun z => z (bz_0.mpr cj)) (w_pur fin))))
      · obtain ⟨r1, r2, r3, r4, r5, r6, r7⟩ := hS.2.2.1.at ha
        unfold f_X4_lot
        refine m_bnd (m_nt (m_isstore (m_jn (m_f (fun z => bzf z (st_c.mp ⟨a, ha, rfl⟩)) ?_))))
        (repeat (first | (with_reducible refine m_bnd ?_) | (with_reducible refine m_jn ?_) | (with_reducible refine m_nt ?_) | (with_reducible refine m_gd ?_) | ((with_reducible apply m_getI); decide) | ((with_reducible apply m_putI); decide) | ((with_reducible apply m_getRt); exact rfl) | ((with_reducible apply m_ldIt); exact rfl; omega) | ((with_reducible apply m_ldLt); exact rfl; omega) | ((with_reducible apply m_stIt); exact rfl; omega) | ((with_reducible apply m_stZt); exact rfl; omega; (first | exact Or.inl rfl | exact Or.inr rfl | exact bz_z | assumption)) | ((with_reducible apply m_stLt); exact rfl; omega) | (with_reducible refine m_isin ?_) | (with_reducible refine m_isten ?_) | (with_reducible refine m_ones ?_) | (with_reducible refine m_isstore ?_) | ((with_reducible apply m_purZ); (first | exact Or.inl rfl | exact Or.inr rfl | exact bz_z | assumption)) | (with_reducible refine m_pur ?_)))
        rw [r6]
        refine m_f (fun z => z (bz_0.mpr cj)) ?_
        (repeat (first | (with_reducible refine m_bnd ?_) | (with_reducible refine m_jn ?_) | (with_reducible refine m_nt ?_) | (with_reducible refine m_gd ?_) | ((with_reducible apply m_getI); decide) | ((with_reducible apply m_putI); decide) | ((with_reducible apply m_getRt); exact rfl) | ((with_reducible apply m_ldIt); exact rfl; omega) | ((with_reducible apply m_ldLt); exact rfl; omega) | ((with_reducible apply m_stIt); exact rfl; omega) | ((with_reducible apply m_stZt); exact rfl; omega; (first | exact Or.inl rfl | exact Or.inr rfl | exact bz_z | assumption)) | ((with_reducible apply m_stLt); exact rfl; omega) | (with_reducible refine m_isin ?_) | (with_reducible refine m_isten ?_) | (with_reducible refine m_ones ?_) | (with_reducible refine m_isstore ?_) | ((with_reducible apply m_purZ); (first | exact Or.inl rfl | exact Or.inr rfl | exact bz_z | assumption)) | (with_reducible refine m_pur ?_)))
        exact ⟨rfl, hS⟩
  · refine ⟨-1, ?_, fun S hS => ?_⟩
    · unfold f_X0_lot
      exact w_bnd (w_gd hL.k0 (w_nt (x_storeAt hL (fun z => w_jn (w_t rfl (w_pur fin))) (fun i hi z => absurd ⟨i, hi, z⟩ co))))
    · unfold f_X4_lot
      exact m_bnd (m_nt (m_isstore (m_jn (m_t (bz_0.mpr (fun q => co (st_c.mpr q))) (m_pur ⟨rfl, hS⟩)))))
end
