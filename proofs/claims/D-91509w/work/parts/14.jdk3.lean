set_option maxRecDepth 100000
theorem setarr_cell (w : Wd) (M : Mem) (c : Nat) (f : Nat → Nat) {c' : Nat} (h : c' ≠ c) : cellOf w (M.setarr c f) c' = cellOf w M c' := by
  refine cell_congr w rfl rfl (fun _ _ => rfl) (fun r => ?_)
  have e1 : (M.setarr c f).ar c' = M.ar c' := if_neg h
  unfold acont
  rw [e1]; rfl
theorem setaia_cell (w : Wd) (M : Mem) (c : Nat) (f : Nat → Int32) {c' : Nat} (h : c' ≠ c) : cellOf w (M.setaia c f) c' = cellOf w M c' := by
  refine cell_congr w rfl rfl (fun _ _ => rfl) (fun r => ?_)
  have e1 : (M.setaia c f).ai c' = M.ai c' := if_neg h
  unfold acont
  rw [e1]; rfl
theorem cpy_dc (f g : Nat → Nat) (sp dp n : Nat) : (fun j => dc (va_cpy f g sp dp n j)) = va_cpy (fun j => dc (f j)) (fun j => dc (g j)) sp dp n := by
  funext j
  unfold va_cpy
  by_cases h : dp ≤ j ∧ j < dp + n
  · rw [if_pos h, if_pos h]
  · rw [if_neg h, if_neg h]
theorem i_nn (z : Int32) (hz : ¬ z < 0) : z.toInt = (z.toNatClampNeg : Int) := by
  have hz0 : (0 : Int) ≤ z.toInt := by
    have := Int32.not_lt.mp hz
    simpa using Int32.le_iff_toInt_le.mp this
  show z.toInt = ((z.toInt.toNat : Nat) : Int)
  omega
section JR3
variable {α : Type} {X : Cx} {cc : ByteArray} {own : String} {nL : Nat} {rt : Option FieldType} {fr lo : Nat} {cv : α → Option Value} {pc : Nat} {L : List (Nat × Value)} {st : List Value} {index : Nat}
theorem s_copyR (hX : Ok X (@Eq Mem) cc own nL rt fr lo) {ks : List Nat} (hE : ElOk (@Eq Mem) "java/lang/Object" ks) {src dst : Nat} {sp dp n : Int32} (q1 : Cond.methodLink own index arraycopyName ∈ lw_all) (q2 : Cond.native arraycopyName ∈ lw_all) (q3 : Cond.static arraycopyName ∈ lw_all) (q4 : Cond.initialized "java/lang/System" ∈ lw_all) (hf1 : 1 ≤ fr) (hl1 : (st.map fun v => v.category).sum + (nativeFrameWords "java/lang/System" "arraycopy" 5 + 11) ≤ lo) (hd : decode cc pc = .ok (.invokestatic index, 3))
    {k : Unit → Act α} (h : Sim X cv (pc + 3) L st (k ())) : Sim X cv pc L (.int n :: .int dp :: rv dst :: .int sp :: rv src :: st) (bnd (cpR ks src sp dst dp n) k) := by
  intro M Z H locs ls rr h1 h2 h3 h4 h5 h6 h7 h8 h9 h10
  obtain ⟨⟨⟨o1, o2, o3, o4, o5, o6, o7⟩, oe⟩, r2⟩ := bnd_wrm h1
  have e3 : M = Z := hX.hRp ▸ h3
  subst e3
  obtain ⟨a0, rfl, hc0⟩ := rep_arr h4 (q := 4) (by omega) o1
  obtain ⟨a, rfl, hc1⟩ := rep_arr h4 (q := 4) (by omega) (Or.inl o2)
  have ec0 : acont M (a0 + 1) 4 = .inr (.inr (.inr (.inr (fun j => dc (M.ar (a0 + 1) j))))) := rfl
  have ec1 : acont M (a + 1) 4 = .inr (.inr (.inr (.inr (fun j => dc (M.ar (a + 1) j))))) := rfl
  rw [ec0] at hc0
  rw [ec1] at hc1
  have hA : X.w.A a := h4.2.2.1 a ⟨by rw [o2]; omega, by rw [o2]; omega, by rw [o2]; omega⟩
  generalize hf : (fun j => dc (M.ar (a0 + 1) j)) = f at hc0
  generalize hg : (fun j => dc (M.ar (a + 1) j)) = g at hc1
  obtain ⟨-, k0, hk0, cm0, hkk0⟩ := (hX.hK.2 4 _ rfl).1 (M.len (a0 + 1)) (fun j => va_rf (f j))
  obtain ⟨-, k1, hk1, cm1, hkk1⟩ := (hX.hK.2 4 _ rfl).1 (M.len (a + 1)) (fun j => va_rf (g j))
  intro T hT XX
  obtain ⟨vm', X', step⟩ := XX.arraycopy hX.hx hX.hown (hX.hts _ q1) (hX.hts _ q2) (hX.hts _ q3) (hX.hts _ q4) (src := a0) (dst := a) (cs := vp_cell (X.w.dA 4) (M.len (a0 + 1), .inr (.inr (.inr (.inr f))))) (cd := vp_cell (X.w.dA 4) (M.len (a + 1), .inr (.inr (.inr (.inr g))))) (srcPos := sp) (destPos := dp) (n := n) (by rw [hT]; exact hc0) (by rw [hT]; exact hc1)
    (fun _ h => by cases h) (fun _ h => by cases h) (fun h => by cases h) (fun h => by cases h) hk0 hk1 hkk0 hkk1 rfl o3 o4 o5
    (by rw [i_nn sp o3, i_nn n o5]; show ¬ _ > ((arrV _ _ (fun j => va_rf (f j))).slots.size : Int); rw [arrV_size]; omega)
    (by rw [i_nn dp o4, i_nn n o5]; show ¬ _ > ((arrV _ _ (fun j => va_rf (g j))).slots.size : Int); rw [arrV_size]; omega)
    (fun vm₁ hal i hi => by
      have e : (vp_cell (X.w.dA 4) (M.len (a0 + 1), .inr (.inr (.inr (.inr f))))).slots.getD (sp.toNatClampNeg + i) .null = va_rf (f (sp.toNatClampNeg + i)) := by
        show (arrV _ _ (fun j => va_rf (f j))).slots.getD _ _ = _
        rw [Array.getD_eq_getD_getElem?, arrV_read _ _ (by omega)]
        rfl
      rw [e]
      cases hy : f (sp.toNatClampNeg + i) with
      | none => exact ⟨rfl, trivial⟩
      | some y =>
        have hy' : dc (M.ar (a0 + 1) (sp.toNatClampNeg + i)) = some y := by rw [← hf] at hy; exact hy
        have hany : va_Any "java/lang/Object" X.s H y := by
          rcases oe i hi with oe | oe
          · rw [oe] at hy'; cases hy'
          · obtain ⟨b, eb, hb⟩ := el_any hX hE rfl h4 oe
            rw [eb] at hy'
            cases hy'
            exact hb
        obtain ⟨cellV, g1, g2, ⟨kC, hkC⟩, hasg⟩ := hany
        obtain ⟨kA, comp, r1, r2, r3, -⟩ := (hX.hK.2 4 _ rfl).2
        cases hk1.symm.trans r1
        cases hkk1.symm.trans r2
        obtain ⟨kE, hkE, -⟩ := Vm.findClass_spec r3
        obtain ⟨kC', hkC', -⟩ := hal.2.2 _ _ hkC
        obtain ⟨kE', hkE', -⟩ := hal.2.2 _ _ hkE
        refine ⟨rfl, cellV, (show T.heap[y]? = some cellV by rw [hT]; exact g1), (fun q h => by rw [h] at g2; cases g2), ⟨kC', hkC'⟩, ?_, ?_⟩
        · exact ⟨kE', hkE'⟩
        · show vm₁.assignable _ _ = true
          rw [hal.assignable]
          exact hasg _ r3)
    (g := F0 X.m pc ls (.int n :: .int dp :: .ref a :: .int sp :: .ref a0 :: st)) rfl (by rw [hX.hml, ← hX.hnL]; exact h6.1) (rest := st) rfl (by rw [hX.hb]; exact hd) (by rw [hX.hfr]; exact hf1) (by rw [hX.hlo]; show 2 * 0 + _ + _ ≤ _; omega)
  have e1 : copied (vp_cell (X.w.dA 4) (M.len (a0 + 1), .inr (.inr (.inr (.inr f))))) (vp_cell (X.w.dA 4) (M.len (a + 1), .inr (.inr (.inr (.inr g))))) sp dp n = vp_cell (X.w.dA 4) (M.len (a + 1), .inr (.inr (.inr (.inr (va_cpy f g sp.toNatClampNeg dp.toNatClampNeg n.toNatClampNeg))))) := by
    rw [vp_cell_q, vp_cell_q, vp_cell_q]
    exact va_copied (fun z => va_rf z) _ _ f g o6
  rw [e1] at X' step
  have hl : a < H.size := (Array.getElem?_eq_some_iff.mp hc1).1
  generalize hH1 : H.setIfInBounds a (vp_cell (X.w.dA 4) (M.len (a + 1), .inr (.inr (.inr (.inr (va_cpy f g sp.toNatClampNeg dp.toNatClampNeg n.toNatClampNeg)))))) = H1
  have hheap : ((T.setVm vm').setCell a (vp_cell (X.w.dA 4) (M.len (a + 1), .inr (.inr (.inr (.inr (va_cpy f g sp.toNatClampNeg dp.toNatClampNeg n.toNatClampNeg))))))).heap = H1 := by rw [← hH1, ← hT]; rfl
  have oq : ∀ q : Nat, q ≠ a → H1[q]? = H[q]? := fun q hq => by rw [← hH1]; simp [Array.getElem?_setIfInBounds, Ne.symm hq]
  have oa : H1[a]? = some (vp_cell (X.w.dA 4) (M.len (a + 1), .inr (.inr (.inr (.inr (va_cpy f g sp.toNatClampNeg dp.toNatClampNeg n.toNatClampNeg)))))) := by rw [← hH1]; simp [Array.getElem?_setIfInBounds, hl]
  have oz : H1.size = H.size := by rw [← hH1]; simp
  have hR1 : Rep0 X.w (M.setarr (a + 1) (va_cpy (M.ar (a0 + 1)) (M.ar (a + 1)) sp.toNatClampNeg dp.toNatClampNeg n.toNatClampNeg)) H1 := by
    refine rep_seta h4 (q := 4) (by omega) o2 rfl rfl (fun _ => rfl) (fun c hc => setarr_cell _ _ _ _ hc) ?_ oz oq
    rw [oa]
    have e9 : (M.setarr (a + 1) (va_cpy (M.ar (a0 + 1)) (M.ar (a + 1)) sp.toNatClampNeg dp.toNatClampNeg n.toNatClampNeg)).ar (a + 1) = va_cpy (M.ar (a0 + 1)) (M.ar (a + 1)) sp.toNatClampNeg dp.toNatClampNeg n.toNatClampNeg := if_pos rfl
    have ea : acont (M.setarr (a + 1) (va_cpy (M.ar (a0 + 1)) (M.ar (a + 1)) sp.toNatClampNeg dp.toNatClampNeg n.toNatClampNeg)) (a + 1) 4 = .inr (.inr (.inr (.inr (va_cpy f g sp.toNatClampNeg dp.toNatClampNeg n.toNatClampNeg)))) := by
      show Sum.inr (Sum.inr (Sum.inr (Sum.inr (fun j => dc ((M.setarr (a + 1) _).ar (a + 1) j))))) = _
      rw [e9, cpy_dc, hf, hg]
    rw [ea]
    rfl
  obtain ⟨t, a1, b1⟩ := h (M.setarr (a + 1) (va_cpy (M.ar (a0 + 1)) (M.ar (a + 1)) sp.toNatClampNeg dp.toNatClampNeg n.toNatClampNeg)) (M.setarr (a + 1) (va_cpy (M.ar (a0 + 1)) (M.ar (a + 1)) sp.toNatClampNeg dp.toNatClampNeg n.toNatClampNeg)) H1 _ ls rr r2 h2 (hX.hRp.symm ▸ rfl) hR1 ⟨by rw [oz]; exact h5.1, fun q g1 g2 => by
      rw [oq q (fun e => g2 (by rw [e]; exact hA))]
      exact h5.2.1 q g1 g2, fun q hq => by
      rcases List.mem_append.mp hq with h | h
      · exact h5.2.2 q h
      · obtain ⟨z, -, hz⟩ := List.mem_map.mp h
        rw [← hz]
        exact hA⟩ h6 h7 h8 rfl rfl _ hheap X'
  exact ⟨t, step t a1, b1⟩
theorem s_copyB (hX : Ok X (@Eq Mem) cc own nL rt fr lo) {src dst : Nat} {sp dp n : Int32} (q1 : Cond.methodLink own index arraycopyName ∈ lw_all) (q2 : Cond.native arraycopyName ∈ lw_all) (q3 : Cond.static arraycopyName ∈ lw_all) (q4 : Cond.initialized "java/lang/System" ∈ lw_all) (hf1 : 1 ≤ fr) (hl1 : (st.map fun v => v.category).sum + (nativeFrameWords "java/lang/System" "arraycopy" 5 + 11) ≤ lo) (hd : decode cc pc = .ok (.invokestatic index, 3))
    {k : Unit → Act α} (h : Sim X cv (pc + 3) L st (k ())) : Sim X cv pc L (.int n :: .int dp :: rv dst :: .int sp :: rv src :: st) (bnd (cpB src sp dst dp n) k) := by
  intro M Z H locs ls rr h1 h2 h3 h4 h5 h6 h7 h8 h9 h10
  obtain ⟨⟨⟨o1, o2, o3, o4, o5, o6, o7⟩, oe⟩, r2⟩ := bnd_wrm h1
  have e3 : M = Z := hX.hRp ▸ h3
  subst e3
  obtain ⟨a0, rfl, hc0⟩ := rep_arr h4 (q := 2) (by omega) o1
  obtain ⟨a, rfl, hc1⟩ := rep_arr h4 (q := 2) (by omega) (Or.inl o2)
  have ec0 : acont M (a0 + 1) 2 = .inl (M.ai (a0 + 1)) := rfl
  have ec1 : acont M (a + 1) 2 = .inl (M.ai (a + 1)) := rfl
  rw [ec0] at hc0
  rw [ec1] at hc1
  have hA : X.w.A a := h4.2.2.1 a ⟨by rw [o2]; omega, by rw [o2]; omega, by rw [o2]; omega⟩
  obtain ⟨-, k0, hk0, cm0, hkk0⟩ := (hX.hK.2 2 _ rfl).1 (M.len (a0 + 1)) (fun j => .int (M.ai (a0 + 1) j))
  obtain ⟨-, k1, hk1, cm1, hkk1⟩ := (hX.hK.2 2 _ rfl).1 (M.len (a + 1)) (fun j => .int (M.ai (a + 1) j))
  intro T hT XX
  obtain ⟨vm', X', step⟩ := XX.arraycopy hX.hx hX.hown (hX.hts _ q1) (hX.hts _ q2) (hX.hts _ q3) (hX.hts _ q4) (src := a0) (dst := a) (cs := vp_cell (X.w.dA 2) (M.len (a0 + 1), .inl (M.ai (a0 + 1)))) (cd := vp_cell (X.w.dA 2) (M.len (a + 1), .inl (M.ai (a + 1)))) (srcPos := sp) (destPos := dp) (n := n) (by rw [hT]; exact hc0) (by rw [hT]; exact hc1)
    (fun _ h => by cases h) (fun _ h => by cases h) (fun h => by cases h) (fun h => by cases h) hk0 hk1 hkk0 hkk1 rfl o3 o4 o5
    (by rw [i_nn sp o3, i_nn n o5]; show ¬ _ > ((arrV _ _ (fun j => .int (M.ai (a0 + 1) j))).slots.size : Int); rw [arrV_size]; omega)
    (by rw [i_nn dp o4, i_nn n o5]; show ¬ _ > ((arrV _ _ (fun j => .int (M.ai (a + 1) j))).slots.size : Int); rw [arrV_size]; omega)
    (fun vm₁ hal i hi => by
      have e : (vp_cell (X.w.dA 2) (M.len (a0 + 1), .inl (M.ai (a0 + 1)))).slots.getD (sp.toNatClampNeg + i) .null = .int (M.ai (a0 + 1) (sp.toNatClampNeg + i)) := by
        show (arrV _ _ (fun j => .int (M.ai (a0 + 1) j))).slots.getD _ _ = _
        rw [Array.getD_eq_getD_getElem?, arrV_read _ _ (by omega)]
        rfl
      refine ⟨?_, ?_⟩
      · rw [e]
        exact oe i hi
      · rw [e]
        exact trivial)
    (g := F0 X.m pc ls (.int n :: .int dp :: .ref a :: .int sp :: .ref a0 :: st)) rfl (by rw [hX.hml, ← hX.hnL]; exact h6.1) (rest := st) rfl (by rw [hX.hb]; exact hd) (by rw [hX.hfr]; exact hf1) (by rw [hX.hlo]; show 2 * 0 + _ + _ ≤ _; omega)
  have e1 : copied (vp_cell (X.w.dA 2) (M.len (a0 + 1), .inl (M.ai (a0 + 1)))) (vp_cell (X.w.dA 2) (M.len (a + 1), .inl (M.ai (a + 1)))) sp dp n = vp_cell (X.w.dA 2) (M.len (a + 1), .inl (va_cpy (M.ai (a0 + 1)) (M.ai (a + 1)) sp.toNatClampNeg dp.toNatClampNeg n.toNatClampNeg)) := by
    rw [vp_cell_i, vp_cell_i, vp_cell_i]
    exact va_copied (fun z => .int z) _ _ _ _ o6
  rw [e1] at X' step
  have hl : a < H.size := (Array.getElem?_eq_some_iff.mp hc1).1
  generalize hH1 : H.setIfInBounds a (vp_cell (X.w.dA 2) (M.len (a + 1), .inl (va_cpy (M.ai (a0 + 1)) (M.ai (a + 1)) sp.toNatClampNeg dp.toNatClampNeg n.toNatClampNeg))) = H1
  have hheap : ((T.setVm vm').setCell a (vp_cell (X.w.dA 2) (M.len (a + 1), .inl (va_cpy (M.ai (a0 + 1)) (M.ai (a + 1)) sp.toNatClampNeg dp.toNatClampNeg n.toNatClampNeg)))).heap = H1 := by rw [← hH1, ← hT]; rfl
  have oq : ∀ q : Nat, q ≠ a → H1[q]? = H[q]? := fun q hq => by rw [← hH1]; simp [Array.getElem?_setIfInBounds, Ne.symm hq]
  have oa : H1[a]? = some (vp_cell (X.w.dA 2) (M.len (a + 1), .inl (va_cpy (M.ai (a0 + 1)) (M.ai (a + 1)) sp.toNatClampNeg dp.toNatClampNeg n.toNatClampNeg))) := by rw [← hH1]; simp [Array.getElem?_setIfInBounds, hl]
  have oz : H1.size = H.size := by rw [← hH1]; simp
  have hR1 : Rep0 X.w (M.setaia (a + 1) (va_cpy (M.ai (a0 + 1)) (M.ai (a + 1)) sp.toNatClampNeg dp.toNatClampNeg n.toNatClampNeg)) H1 := by
    refine rep_seta h4 (q := 2) (by omega) o2 rfl rfl (fun _ => rfl) (fun c hc => setaia_cell _ _ _ _ hc) ?_ oz oq
    rw [oa]
    have e9 : (M.setaia (a + 1) (va_cpy (M.ai (a0 + 1)) (M.ai (a + 1)) sp.toNatClampNeg dp.toNatClampNeg n.toNatClampNeg)).ai (a + 1) = va_cpy (M.ai (a0 + 1)) (M.ai (a + 1)) sp.toNatClampNeg dp.toNatClampNeg n.toNatClampNeg := if_pos rfl
    have ea : acont (M.setaia (a + 1) (va_cpy (M.ai (a0 + 1)) (M.ai (a + 1)) sp.toNatClampNeg dp.toNatClampNeg n.toNatClampNeg)) (a + 1) 2 = .inl (va_cpy (M.ai (a0 + 1)) (M.ai (a + 1)) sp.toNatClampNeg dp.toNatClampNeg n.toNatClampNeg) := by
      show Sum.inl ((M.setaia (a + 1) _).ai (a + 1)) = _
      rw [e9]
    rw [ea]
    rfl
  obtain ⟨t, a1, b1⟩ := h (M.setaia (a + 1) (va_cpy (M.ai (a0 + 1)) (M.ai (a + 1)) sp.toNatClampNeg dp.toNatClampNeg n.toNatClampNeg)) (M.setaia (a + 1) (va_cpy (M.ai (a0 + 1)) (M.ai (a + 1)) sp.toNatClampNeg dp.toNatClampNeg n.toNatClampNeg)) H1 _ ls rr r2 h2 (hX.hRp.symm ▸ rfl) hR1 ⟨by rw [oz]; exact h5.1, fun q g1 g2 => by
      rw [oq q (fun e => g2 (by rw [e]; exact hA))]
      exact h5.2.1 q g1 g2, fun q hq => by
      rcases List.mem_append.mp hq with h | h
      · exact h5.2.2 q h
      · obtain ⟨z, -, hz⟩ := List.mem_map.mp h
        rw [← hz]
        exact hA⟩ h6 h7 h8 rfl rfl _ hheap X'
  exact ⟨t, step t a1, b1⟩
end JR3
