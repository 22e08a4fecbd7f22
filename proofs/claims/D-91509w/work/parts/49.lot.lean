set_option maxRecDepth 100000
section
variable {x : Nat} {M : Mem} {n0 k p L : Nat} {xs : Nat → Int32}
theorem foldl_take {α β : Type} {f : β → α → β} {b : β} {l : List α} {j : Nat} (h : j < l.length) : (l.take (j + 1)).foldl f b = f ((l.take j).foldl f b) l[j] := by
  rw [List.take_succ_eq_append_getElem h, List.foldl_append]; rfl
/-- sums over a list of WindGas's: one step of the walk -/
theorem x_foul_lp {o l : Nat} {lots : List Tri} (hg : GL M) (ho : M.k o = 4) (hr : M.r (128 * 3 + 0) o = l) (hl : M.k l = 18) (h1 : (M.ls l).map (rdLt M) = lots) (he : ∀ c ∈ M.ls l, M.k c = 9) {Q : Int32 → Mem → Prop} (hq : Q (sumF lots) M) :
    ∀ q j, j ≤ lots.length → lots.length < q + j → wp (lp_X3_foul_4 o q ((lots.take j).foldl (fun v e => v + e.2.2) 0) (Int32.ofNat j)) M Q := by
  have hlen := map_len h1
  have hb := hg.len hl
  intro q
  induction q with
  | zero => intro j a b; omega
  | succ q ih =>
    intro j hj hq'
    rw [lp_X3_foul_4]
    refine w_bnd (w_getRv ho hr (w_bnd (w_gd hl (w_nt (w_size hg hl ?_)))))
    rw [hlen]
    by_cases e : j = lots.length
    · refine w_t ((i_le (by omega) (by omega)).mpr (by omega)) (w_pur ?_)
      rw [e, List.take_length]; exact hq
    · have hj2 : j < lots.length := by omega
      have hj3 : j < (M.ls l).length := by omega
      have hk := he _ (List.getElem_mem hj3)
      have ev : M.i (128 * 8 + 2) (M.ls l)[j] = lots[j].2.2 := by rw [← map_get h1 hj2 hj3]; rfl
      refine w_f (fun z => by have := (i_le (by omega) (by omega)).mp z; omega) ?_
      refine w_bnd (w_getRv ho hr (w_bnd (w_gd hl (w_nt (w_get hg hl hj3 (w_bnd (w_cst (Or.inr (by rw [hk]; decide)) (w_bnd (w_getIv hk ev ?_)))))))))
      have K := ih (j + 1) (by omega) (by omega)
      rw [foldl_take hj2] at K
      rw [i_add1]
      exact K
theorem x_foul {n s : Nat} {d : Dt} (hB : Bas x M) (hX : IX x M d) (hs : s < 2) (hn : 9100 ≤ n) {Q : Int32 → Mem → Prop} (hq : Q (sumF (d.so s).lots) M) : wp (f_X3_foul n (x + 13 + 2 * s)) M Q := by
  obtain ⟨s1, s2, s3⟩ := storeL hB.1 hs
  obtain ⟨g1, g2, g3⟩ := hX.2.2.1.at hs
  have hb := hB.2.2.1.len s3
  have hlen := map_len g1
  unfold f_X3_foul
  exact x_foul_lp hB.2.2.1 s1 s2 s3 g1 g2 hq n 0 (Nat.zero_le _) (by omega)
theorem op_storeOf {n : Nat} {Q : Int64 → Mem → Prop} (hI : Inv x n0 k p L xs M) (hn : 9100 ≤ n) {s w : Int32}
    (hq : ∀ v M1, Scr p L xs M1 → wp (gd 4 (x + 28) (nt (f_X4_storeOf (x + 28) s w))) M1 (fun w M2 => w = v ∧ Inv x n0 (k + 1) p L xs M2) → Q v M1) : wp (gd 0 x (nt (f_X0_storeOf n x s w))) M Q := by
  refine op_ask hI (fun d hB hX hD => ?_) hq
  have hL := hB.1
  have fin : ∀ {v : Int64}, v = v ∧ Okx x M d M ∧ M.n = M.n ∧ M.sl = M.sl ∧ M.cap = M.cap := fun {v} => ⟨rfl, Okx.rf hB hX, rfl, rfl, rfl⟩
  by_cases co : ∃ j, j < 2 ∧ s = Int32.ofNat j
  · obtain ⟨j, hj, rfl⟩ := co
    obtain ⟨s1, s2, s3⟩ := storeL hB.1 hj
    obtain ⟨g1, g2, g3, g4, g5, g6, g7, g8, g9⟩ := hX.2.2.1.at hj
    have inj : ∀ i, i < 2 → Int32.ofNat j = Int32.ofNat i → j = i := fun i hi z => (i_eq (by omega) (by omega)).mp z
    have hlen := map_len g1
    have hx : ∀ {f g : Act Int64} {F : Nat → Act Int64} {R : Int64 → Mem → Prop}, (F (x + 13 + 2 * j) = f) → wp f M R → wp (bnd (gd 0 x (nt (f_X0_storeAt x (Int32.ofNat j)))) fun v1 => if ¬ v1 = 0 then F v1 else g) M R := fun {f g F R} e h => w_bnd (w_gd hL.k0 (w_nt (x_storeAt hL (fun z => absurd rfl (z j hj)) (fun i hi z => by
      rw [← inj i hi z]
      exact w_t (by omega) (by rw [e]; exact h)))))
    have hm : ∀ {S : MS} {f g : Act Int64} {R : Int64 → MS → Prop}, wm x f S R → wm x (bnd (nt (f_X4_isStore (Int32.ofNat j))) fun v1 => if ¬ v1 = 0 then f else g) S R := fun h => m_bnd (m_nt (m_isstore (m_t (fun z => bzf z (st_c.mp ⟨j, hj, rfl⟩)) h)))
    unfold f_X0_storeOf f_X4_storeOf
    rcases sw_c w 6 with ⟨i, hi, rfl⟩ | hw
    · rcases (by omega : i = 0 ∨ i = 1 ∨ i = 2 ∨ i = 3 ∨ i = 4 ∨ i = 5) with rfl | rfl | rfl | rfl | rfl | rfl
      · exact ⟨(d.so j).grams.toInt64, hx (sw_kN 6 rfl hi (by decide)) (w_bnd (w_getIv s1 g7 (w_pur fin))), fun S hS => hm (by
          rw [sw_kN 6 rfl hi (by decide)]
          show wm x (bnd _ _) S _
          (repeat (first | (with_reducible refine m_bnd ?_) | (with_reducible refine m_jn ?_) | (with_reducible refine m_nt ?_) | (with_reducible refine m_gd ?_) | ((with_reducible apply m_getI); decide) | ((with_reducible apply m_putI); decide) | ((with_reducible apply m_getRt); exact rfl) | ((with_reducible apply m_ldIt); exact rfl; omega) | ((with_reducible apply m_ldLt); exact rfl; omega) | ((with_reducible apply m_stIt); exact rfl; omega) | ((with_reducible apply m_stZt); exact rfl; omega; (first | exact Or.inl rfl | exact Or.inr rfl | exact bz_z | assumption)) | ((with_reducible apply m_stLt); exact rfl; omega) | (with_reducible refine m_isin ?_) | (with_reducible refine m_isten ?_) | (with_reducible refine m_ones ?_) | (with_reducible refine m_isstore ?_) | ((with_reducible apply m_purZ); (first | exact Or.inl rfl | exact Or.inr rfl | exact bz_z | assumption)) | (with_reducible refine m_pur ?_)))
          exact ⟨by rw [(hS.2.2.1.at hj).2.2.2.1], hS⟩)⟩
      · exact ⟨(sumF (d.so j).lots).toInt64, hx (sw_kN 6 rfl hi (by decide)) (w_bnd (w_gd s1 (w_nt (x_foul hB hX hj hn (w_pur fin))))), fun S hS => hm (by
          rw [sw_kN 6 rfl hi (by decide)]
          show wm x (bnd _ _) S _
          (repeat (first | (with_reducible refine m_bnd ?_) | (with_reducible refine m_jn ?_) | (with_reducible refine m_nt ?_) | (with_reducible refine m_gd ?_) | ((with_reducible apply m_getI); decide) | ((with_reducible apply m_putI); decide) | ((with_reducible apply m_getRt); exact rfl) | ((with_reducible apply m_ldIt); exact rfl; omega) | ((with_reducible apply m_ldLt); exact rfl; omega) | ((with_reducible apply m_stIt); exact rfl; omega) | ((with_reducible apply m_stZt); exact rfl; omega; (first | exact Or.inl rfl | exact Or.inr rfl | exact bz_z | assumption)) | ((with_reducible apply m_stLt); exact rfl; omega) | (with_reducible refine m_isin ?_) | (with_reducible refine m_isten ?_) | (with_reducible refine m_ones ?_) | (with_reducible refine m_isstore ?_) | ((with_reducible apply m_purZ); (first | exact Or.inl rfl | exact Or.inr rfl | exact bz_z | assumption)) | (with_reducible refine m_pur ?_)))
          exact ⟨by rw [(hS.2.2.1.at hj).2.2.2.2.1], hS⟩)⟩
      · exact ⟨(Int32.ofNat (d.so j).lots.length).toInt64, hx (sw_kN 6 rfl hi (by decide)) (w_bnd (w_getRv s1 s2 (w_bnd (w_gd s3 (w_nt (w_size hB.2.2.1 s3 (w_pur (by rw [hlen]; exact fin)))))))), fun S hS => hm (by
          rw [sw_kN 6 rfl hi (by decide)]
          show wm x (bnd _ _) S _
          (repeat (first | (with_reducible refine m_bnd ?_) | (with_reducible refine m_jn ?_) | (with_reducible refine m_nt ?_) | (with_reducible refine m_gd ?_) | ((with_reducible apply m_getI); decide) | ((with_reducible apply m_putI); decide) | ((with_reducible apply m_getRt); exact rfl) | ((with_reducible apply m_ldIt); exact rfl; omega) | ((with_reducible apply m_ldLt); exact rfl; omega) | ((with_reducible apply m_stIt); exact rfl; omega) | ((with_reducible apply m_stZt); exact rfl; omega; (first | exact Or.inl rfl | exact Or.inr rfl | exact bz_z | assumption)) | ((with_reducible apply m_stLt); exact rfl; omega) | (with_reducible refine m_isin ?_) | (with_reducible refine m_isten ?_) | (with_reducible refine m_ones ?_) | (with_reducible refine m_isstore ?_) | ((with_reducible apply m_purZ); (first | exact Or.inl rfl | exact Or.inr rfl | exact bz_z | assumption)) | (with_reducible refine m_pur ?_)))
          exact ⟨by rw [(hS.2.2.1.at hj).2.2.2.2.2.1], hS⟩)⟩
      · exact ⟨(d.so j).room.toInt64, hx (sw_kN 6 rfl hi (by decide)) (w_bnd (w_getIv s1 g4 (w_pur fin))), fun S hS => hm (by
          rw [sw_kN 6 rfl hi (by decide)]
          show wm x (bnd _ _) S _
          (repeat (first | (with_reducible refine m_bnd ?_) | (with_reducible refine m_jn ?_) | (with_reducible refine m_nt ?_) | (with_reducible refine m_gd ?_) | ((with_reducible apply m_getI); decide) | ((with_reducible apply m_putI); decide) | ((with_reducible apply m_getRt); exact rfl) | ((with_reducible apply m_ldIt); exact rfl; omega) | ((with_reducible apply m_ldLt); exact rfl; omega) | ((with_reducible apply m_stIt); exact rfl; omega) | ((with_reducible apply m_stZt); exact rfl; omega; (first | exact Or.inl rfl | exact Or.inr rfl | exact bz_z | assumption)) | ((with_reducible apply m_stLt); exact rfl; omega) | (with_reducible refine m_isin ?_) | (with_reducible refine m_isten ?_) | (with_reducible refine m_ones ?_) | (with_reducible refine m_isstore ?_) | ((with_reducible apply m_purZ); (first | exact Or.inl rfl | exact Or.inr rfl | exact bz_z | assumption)) | (with_reducible refine m_pur ?_)))
          exact ⟨by rw [(hS.2.2.1.at hj).1], hS⟩)⟩
      · exact ⟨(d.so j).leaked, hx (sw_kN 6 rfl hi (by decide)) (w_bnd (w_getLv s1 g8 (w_pur fin))), fun S hS => hm (by
          rw [sw_kN 6 rfl hi (by decide)]
          show wm x (bnd _ _) S _
          (repeat (first | (with_reducible refine m_bnd ?_) | (with_reducible refine m_jn ?_) | (with_reducible refine m_nt ?_) | (with_reducible refine m_gd ?_) | ((with_reducible apply m_getI); decide) | ((with_reducible apply m_putI); decide) | ((with_reducible apply m_getRt); exact rfl) | ((with_reducible apply m_ldIt); exact rfl; omega) | ((with_reducible apply m_ldLt); exact rfl; omega) | ((with_reducible apply m_stIt); exact rfl; omega) | ((with_reducible apply m_stZt); exact rfl; omega; (first | exact Or.inl rfl | exact Or.inr rfl | exact bz_z | assumption)) | ((with_reducible apply m_stLt); exact rfl; omega) | (with_reducible refine m_isin ?_) | (with_reducible refine m_isten ?_) | (with_reducible refine m_ones ?_) | (with_reducible refine m_isstore ?_) | ((with_reducible apply m_purZ); (first | exact Or.inl rfl | exact Or.inr rfl | exact bz_z | assumption)) | (with_reducible refine m_pur ?_)))
          exact ⟨by rw [(hS.2.2.1.at hj).2.2.2.2.2.2.1], hS⟩)⟩
      · exact ⟨(d.so j).lost, hx (sw_kN 6 rfl hi (by decide)) (w_bnd (w_getLv s1 g9 (w_pur fin))), fun S hS => hm (by
          rw [sw_kN 6 rfl hi (by decide)]
          show wm x (bnd _ _) S _
          (repeat (first | (with_reducible refine m_bnd ?_) | (with_reducible refine m_jn ?_) | (with_reducible refine m_nt ?_) | (with_reducible refine m_gd ?_) | ((with_reducible apply m_getI); decide) | ((with_reducible apply m_putI); decide) | ((with_reducible apply m_getRt); exact rfl) | ((with_reducible apply m_ldIt); exact rfl; omega) | ((with_reducible apply m_ldLt); exact rfl; omega) | ((with_reducible apply m_stIt); exact rfl; omega) | ((with_reducible apply m_stZt); exact rfl; omega; (first | exact Or.inl rfl | exact Or.inr rfl | exact bz_z | assumption)) | ((with_reducible apply m_stLt); exact rfl; omega) | (with_reducible refine m_isin ?_) | (with_reducible refine m_isten ?_) | (with_reducible refine m_ones ?_) | (with_reducible refine m_isstore ?_) | ((with_reducible apply m_purZ); (first | exact Or.inl rfl | exact Or.inr rfl | exact bz_z | assumption)) | (with_reducible refine m_pur ?_)))
          exact ⟨by rw [(hS.2.2.1.at hj).2.2.2.2.2.2.2.1], hS⟩)⟩
    · exact ⟨-1, hx (sw_dN 6 rfl hw (by decide)) (w_pur fin), fun S hS => hm (by
          rw [sw_dN 6 rfl hw (by decide)]
          exact m_pur ⟨rfl, hS⟩)⟩
  · refine ⟨-1, ?_, fun S hS => ?_⟩
    · unfold f_X0_storeOf
      exact w_bnd (w_gd hL.k0 (w_nt (x_storeAt hL (fun z => w_f (fun q => q rfl) (w_pur fin)) (fun i hi z => absurd ⟨i, hi, z⟩ co))))
    · unfold f_X4_storeOf
      exact m_bnd (m_nt (m_isstore (m_f (fun z => z (bz_0.mpr (fun q => co (st_c.mpr q)))) (m_pur ⟨rfl, hS⟩))))
end
