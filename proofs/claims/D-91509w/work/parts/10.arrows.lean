set_option maxRecDepth 100000
def dfl (n : Nat) : Value := if n = 0 then .int 0 else if n = 1 then .long 0 else .null
theorem newo_cell (w : Wd) (M : Mem) (ci N : Nat) {c : Nat} (h : c ≠ M.n + 1) : cellOf w (M.newo ci N) c = cellOf w M c := cell_congr w (up1_ne _ _ _ h) rfl (fun _ _ => fval_congr (if_neg h) (if_neg h) (if_neg h)) (fun _ => rfl)
theorem newo_st (M : Mem) (ci N k : Nat) : (M.newo ci N).r (9000 + k) 0 = M.r (9000 + k) 0 := by
  show (if 0 = M.n + 1 then 0 else M.r (9000 + k) 0) = _
  rw [if_neg (by omega)]
theorem newa_cell (w : Wd) (M : Mem) (q N : Nat) {c : Nat} (h : c ≠ M.n + 1) : cellOf w (M.newa q N) c = cellOf w M c := by
  refine cell_congr w (up1_ne _ _ _ h) (up1_ne _ _ _ h) (fun _ _ => rfl) (fun r => ?_)
  have e1 : (M.newa q N).ai c = M.ai c := funext fun j => if_neg h
  have e2 : (M.newa q N).al c = M.al c := funext fun j => if_neg h
  have e3 : (M.newa q N).ar c = M.ar c := funext fun j => if_neg h
  unfold acont
  rw [e1, e2, e3]
theorem newo_fval (M : Mem) (ci N k : Nat) : fval (M.newo ci N) ci (M.n + 1) k = dfl (FT ci k) := by
  unfold fval dfl
  rw [show (M.newo ci N).i (128 * ci + k) (M.n + 1) = 0 from if_pos rfl, show (M.newo ci N).l (128 * ci + k) (M.n + 1) = 0 from if_pos rfl, show (M.newo ci N).r (128 * ci + k) (M.n + 1) = 0 from if_pos rfl]
  rfl
theorem setai_cell (w : Wd) (M : Mem) (c j : Nat) (v : Int32) {c' : Nat} (h : c' ≠ c) : cellOf w (M.setai c j v) c' = cellOf w M c' := by
  refine cell_congr w rfl rfl (fun _ _ => rfl) (fun r => ?_)
  have e1 : (M.setai c j v).ai c' = M.ai c' := funext fun j => up2_nx _ _ _ _ h
  unfold acont
  rw [e1]; rfl
theorem setal_cell (w : Wd) (M : Mem) (c j : Nat) (v : Int64) {c' : Nat} (h : c' ≠ c) : cellOf w (M.setal c j v) c' = cellOf w M c' := by
  refine cell_congr w rfl rfl (fun _ _ => rfl) (fun r => ?_)
  have e1 : (M.setal c j v).al c' = M.al c' := funext fun j => up2_nx _ _ _ _ h
  unfold acont
  rw [e1]; rfl
theorem setar_cell (w : Wd) (M : Mem) (c j v : Nat) {c' : Nat} (h : c' ≠ c) : cellOf w (M.setar c j v) c' = cellOf w M c' := by
  refine cell_congr w rfl rfl (fun _ _ => rfl) (fun r => ?_)
  have e1 : (M.setar c j v).ar c' = M.ar c' := funext fun j => up2_nx _ _ _ _ h
  unfold acont
  rw [e1]; rfl
theorem setai_upd (M : Mem) (c j : Nat) (v : Int32) : (M.setai c j v).ai c = upd (M.ai c) j v := by
  funext k
  show up2 M.ai c j v c k = _
  unfold up2 upd
  by_cases e : k = j
  · rw [if_pos ⟨rfl, e⟩, if_pos e]
  · rw [if_neg (fun q => e q.2), if_neg e]
theorem setal_upd (M : Mem) (c j : Nat) (v : Int64) : (M.setal c j v).al c = vp_updL (M.al c) j v := by
  funext k
  show up2 M.al c j v c k = _
  unfold up2 vp_updL
  by_cases e : k = j
  · rw [if_pos ⟨rfl, e⟩, if_pos e]
  · rw [if_neg (fun q => e q.2), if_neg e]
section AR
variable {α : Type} {X : Cx} {Rp : Mem → Mem → Prop} {cc : ByteArray} {own : String} {nL : Nat} {rt : Option FieldType} {fr lo : Nat} {cv : α → Option Value} {pc : Nat} {L : List (Nat × Value)} {st : List Value}
theorem s_new (hX : Ok X Rp cc own nL rt fr lo) {ci index : Nat} (hC : CpN Rp ci) (hin : ∀ w ∈ u_ws (RR ci) (TT ci) (NN ci), w ∈ lw_all) (hty : ∀ k, k < NN ci → parseFieldDescriptor (TT ci k).2.2.1 = some (TY ci k)) (hdf : ∀ k, k < NN ci → defaultValue (TY ci k) = dfl (FT ci k)) (hci : ci < 20) (q1 : Cond.classLink own index (RR ci) ∈ lw_all) (q2 : Cond.instantiable (RR ci) (NN ci) ∈ lw_all) (q3 : Cond.initialized (RR ci) ∈ lw_all) (hd : decode cc pc = .ok (.new index, 3))
    {k : Nat → Act α} (h : ∀ v, Sim X cv (pc + 3) L (rv v :: st) (k v)) : Sim X cv pc L st (bnd (newO ci (NN ci)) k) := by
  intro M Z H locs ls rr h1 h2 h3 h4 h5 h6 h7 h8 h9 h10
  obtain ⟨-, r2⟩ := bnd_wrm h1
  have m2 := (k (M.n + 1)).mono r2
  have m3 : (M.newo ci (NN ci)).n = M.n + 1 ∧ (M.newo ci (NN ci)).sl = M.sl + NN ci := ⟨rfl, rfl⟩
  have hc := hX.hcells
  have hs := hX.hslots
  refine b_new hX.hx hX.hb hX.hts hX.hK hX.hown h4 h5 hci hin hty (hX.hts _ q1) (hX.hts _ q2) (hX.hts _ q3) (by omega) (by omega) hd (fun H1 e1 e2 e3 e4 => ?_)
  have hz : H.size = Z.n := h4.2.2.2.1
  have hR : Rep0 X.w (Z.newo ci (NN ci)) H1 := by
    refine rep_push h4 (fun c hc => up1_ne _ _ _ hc) rfl ?_ (fun k => newo_st Z ci (NN ci) k) (fun c hc _ => newo_cell _ _ _ _ hc) ?_ e2 e3
    · rw [show (Z.newo ci (NN ci)).k (Z.n + 1) = ci + 1 from up1_eq _ _ _]
      exact ⟨by omega, by omega, by omega⟩
    · rw [okr_cell (M := Z.newo ci (NN ci)) (c := Z.n + 1) hci (Or.inl (up1_eq Z.k (Z.n + 1) (ci + 1)))]
      refine ⟨_, cl_at ci hci, ?_⟩
      rw [hz] at e1
      exact e1.to (fun k hk => by rw [vpV_at _ _ _ hk, newo_fval, hdf k hk])
  have K := h (M.n + 1) (M.newo ci (NN ci)) (Z.newo ci (NN ci)) H1 locs ls rr r2 h2 (hX.hRp.symm ▸ hC M Z _ _ (hX.hRp ▸ h3) h4) hR e4 h6 (by omega) (by omega) (show Z.n + 1 = M.n + 1 by omega) (show Z.sl + NN ci = M.sl + NN ci by omega)
  rw [m3.1, m3.2] at K
  have e5 : M.n - X.n0 + 1 = M.n + 1 - X.n0 := by omega
  have e6 : M.sl - X.sl0 + NN ci = M.sl + NN ci - X.sl0 := by omega
  rw [e5, e6, hz, h9]
  exact K

theorem s_newI (hX : Ok X Rp cc own nL rt fr lo) (hC : CpM Rp 0) (q1 : Cond.arrayClass .int ∈ lw_all) {n : Int32} (hd : decode cc pc = .ok (.newarray .int, 2)) {k : Nat → Act α} (h : ∀ v, Sim X cv (pc + 2) L (rv v :: st) (k v)) : Sim X cv pc L (.int n :: st) (bnd (newA 0 n) k) := by
  intro M Z H locs ls rr h1 h2 h3 h4 h5 h6 h7 h8 h9 h10
  obtain ⟨⟨g1, g2⟩, r2⟩ := bnd_wrm h1
  have m2 := (k (M.n + 1)).mono r2
  have m3 : (M.newa 0 n.toNatClampNeg).n = M.n + 1 ∧ (M.newa 0 n.toNatClampNeg).sl = M.sl + n.toNatClampNeg := ⟨rfl, rfl⟩
  have hc := hX.hcells
  have hs := hX.hslots
  have hz : H.size = Z.n := h4.2.2.2.1
  refine va_newaK (atype := .int) hX.hx hX.hb (hX.hts _ q1) rfl hd rfl g1 rfl (by show _ * 4 ≤ _; omega) (by omega) (by omega) rfl fun H1 cA e1 e2 e3 hAr hNm => ?_
  have ecA : cA = X.w.dA 0 := Option.some.inj (hNm.symm.trans (hX.hK.2 0 _ rfl).2)
  subst ecA
  have hR : Rep0 X.w (Z.newa 0 n.toNatClampNeg) H1 := by
    refine rep_push h4 (fun c hc => up1_ne _ _ _ hc) rfl ?_ (fun _ => rfl) (fun c hc _ => newa_cell _ _ _ _ hc) ?_ e2 e3
    · rw [show (Z.newa 0 n.toNatClampNeg).k (Z.n + 1) = 50 + 0 from up1_eq _ _ _]
      exact ⟨by omega, by omega, by omega⟩
    · rw [arr_cell (M := Z.newa 0 n.toNatClampNeg) (c := Z.n + 1) (q := 0) (by omega) (Or.inl (up1_eq Z.k (Z.n + 1) (50 + 0)))]
      show H1[Z.n]? = some (vp_cell _ _)
      have el : (Z.newa 0 n.toNatClampNeg).len (Z.n + 1) = n.toNatClampNeg := up1_eq _ _ _
      have ea : acont (Z.newa 0 n.toNatClampNeg) (Z.n + 1) 0 = .inl (fun _ => 0) := by
        show _ = _
        have e9 : (Z.newa 0 n.toNatClampNeg).ai (Z.n + 1) = fun _ => 0 := funext fun j => if_pos rfl
        unfold acont
        simp only [Nat.reduceEqDiff, Nat.reduceLeDiff, if_true, if_false, e9]
      rw [el, ea, vp_cell_i, ← hz]
      exact e1
  have hS1 : va_S X.w.A X.s.heap H1 locs := ⟨Nat.le_trans h5.1 (by omega), fun x h1 h2 => (e3 x (Nat.lt_of_lt_of_le h1 h5.1)).trans (h5.2.1 x h1 h2), h5.2.2⟩
  have K := h (M.n + 1) (M.newa 0 n.toNatClampNeg) (Z.newa 0 n.toNatClampNeg) H1 locs ls rr r2 h2 (hX.hRp.symm ▸ hC M Z _ _ _ (hX.hRp ▸ h3) h4) hR hS1 h6 (by omega) (by omega) (show Z.n + 1 = M.n + 1 by omega) (show Z.sl + _ = M.sl + _ by omega)
  rw [m3.1, m3.2] at K
  have e5 : M.n - X.n0 + 1 = M.n + 1 - X.n0 := by omega
  have e6 : M.sl - X.sl0 + n.toNatClampNeg = M.sl + n.toNatClampNeg - X.sl0 := by omega
  rw [e5, e6, hz, h9]
  exact K
theorem s_newL (hX : Ok X Rp cc own nL rt fr lo) (hC : CpM Rp 1) (q1 : Cond.arrayClass .long ∈ lw_all) {n : Int32} (hd : decode cc pc = .ok (.newarray .long, 2)) {k : Nat → Act α} (h : ∀ v, Sim X cv (pc + 2) L (rv v :: st) (k v)) : Sim X cv pc L (.int n :: st) (bnd (newA 1 n) k) := by
  intro M Z H locs ls rr h1 h2 h3 h4 h5 h6 h7 h8 h9 h10
  obtain ⟨⟨g1, g2⟩, r2⟩ := bnd_wrm h1
  have m2 := (k (M.n + 1)).mono r2
  have m3 : (M.newa 1 n.toNatClampNeg).n = M.n + 1 ∧ (M.newa 1 n.toNatClampNeg).sl = M.sl + n.toNatClampNeg := ⟨rfl, rfl⟩
  have hc := hX.hcells
  have hs := hX.hslots
  have hz : H.size = Z.n := h4.2.2.2.1
  refine va_newaK (atype := .long) hX.hx hX.hb (hX.hts _ q1) rfl hd rfl g1 rfl (by show _ * 8 ≤ _; omega) (by omega) (by omega) rfl fun H1 cA e1 e2 e3 hAr hNm => ?_
  have ecA : cA = X.w.dA 1 := Option.some.inj (hNm.symm.trans (hX.hK.2 1 _ rfl).2)
  subst ecA
  have hR : Rep0 X.w (Z.newa 1 n.toNatClampNeg) H1 := by
    refine rep_push h4 (fun c hc => up1_ne _ _ _ hc) rfl ?_ (fun _ => rfl) (fun c hc _ => newa_cell _ _ _ _ hc) ?_ e2 e3
    · rw [show (Z.newa 1 n.toNatClampNeg).k (Z.n + 1) = 50 + 1 from up1_eq _ _ _]
      exact ⟨by omega, by omega, by omega⟩
    · rw [arr_cell (M := Z.newa 1 n.toNatClampNeg) (c := Z.n + 1) (q := 1) (by omega) (Or.inl (up1_eq Z.k (Z.n + 1) (50 + 1)))]
      show H1[Z.n]? = some (vp_cell _ _)
      have el : (Z.newa 1 n.toNatClampNeg).len (Z.n + 1) = n.toNatClampNeg := up1_eq _ _ _
      have ea : acont (Z.newa 1 n.toNatClampNeg) (Z.n + 1) 1 = .inr (.inl (fun _ => 0)) := by
        show _ = _
        have e9 : (Z.newa 1 n.toNatClampNeg).al (Z.n + 1) = fun _ => 0 := funext fun j => if_pos rfl
        unfold acont
        simp only [Nat.reduceEqDiff, Nat.reduceLeDiff, if_true, if_false, e9]
      rw [el, ea, vp_cell_l, ← hz]
      exact e1
  have hS1 : va_S X.w.A X.s.heap H1 locs := ⟨Nat.le_trans h5.1 (by omega), fun x h1 h2 => (e3 x (Nat.lt_of_lt_of_le h1 h5.1)).trans (h5.2.1 x h1 h2), h5.2.2⟩
  have K := h (M.n + 1) (M.newa 1 n.toNatClampNeg) (Z.newa 1 n.toNatClampNeg) H1 locs ls rr r2 h2 (hX.hRp.symm ▸ hC M Z _ _ _ (hX.hRp ▸ h3) h4) hR hS1 h6 (by omega) (by omega) (show Z.n + 1 = M.n + 1 by omega) (show Z.sl + _ = M.sl + _ by omega)
  rw [m3.1, m3.2] at K
  have e5 : M.n - X.n0 + 1 = M.n + 1 - X.n0 := by omega
  have e6 : M.sl - X.sl0 + n.toNatClampNeg = M.sl + n.toNatClampNeg - X.sl0 := by omega
  rw [e5, e6, hz, h9]
  exact K
theorem s_newB (hX : Ok X Rp cc own nL rt fr lo) (hC : CpM Rp 2) (q1 : Cond.arrayClass .byte ∈ lw_all) {n : Int32} (hd : decode cc pc = .ok (.newarray .byte, 2)) {k : Nat → Act α} (h : ∀ v, Sim X cv (pc + 2) L (rv v :: st) (k v)) : Sim X cv pc L (.int n :: st) (bnd (newA 2 n) k) := by
  intro M Z H locs ls rr h1 h2 h3 h4 h5 h6 h7 h8 h9 h10
  obtain ⟨⟨g1, g2⟩, r2⟩ := bnd_wrm h1
  have m2 := (k (M.n + 1)).mono r2
  have m3 : (M.newa 2 n.toNatClampNeg).n = M.n + 1 ∧ (M.newa 2 n.toNatClampNeg).sl = M.sl + n.toNatClampNeg := ⟨rfl, rfl⟩
  have hc := hX.hcells
  have hs := hX.hslots
  have hz : H.size = Z.n := h4.2.2.2.1
  refine va_newaK (atype := .byte) hX.hx hX.hb (hX.hts _ q1) rfl hd rfl g1 rfl (by show _ * 1 ≤ _; omega) (by omega) (by omega) rfl fun H1 cA e1 e2 e3 hAr hNm => ?_
  have ecA : cA = X.w.dA 2 := Option.some.inj (hNm.symm.trans (hX.hK.2 2 _ rfl).2)
  subst ecA
  have hR : Rep0 X.w (Z.newa 2 n.toNatClampNeg) H1 := by
    refine rep_push h4 (fun c hc => up1_ne _ _ _ hc) rfl ?_ (fun _ => rfl) (fun c hc _ => newa_cell _ _ _ _ hc) ?_ e2 e3
    · rw [show (Z.newa 2 n.toNatClampNeg).k (Z.n + 1) = 50 + 2 from up1_eq _ _ _]
      exact ⟨by omega, by omega, by omega⟩
    · rw [arr_cell (M := Z.newa 2 n.toNatClampNeg) (c := Z.n + 1) (q := 2) (by omega) (Or.inl (up1_eq Z.k (Z.n + 1) (50 + 2)))]
      show H1[Z.n]? = some (vp_cell _ _)
      have el : (Z.newa 2 n.toNatClampNeg).len (Z.n + 1) = n.toNatClampNeg := up1_eq _ _ _
      have ea : acont (Z.newa 2 n.toNatClampNeg) (Z.n + 1) 2 = .inl (fun _ => 0) := by
        show _ = _
        have e9 : (Z.newa 2 n.toNatClampNeg).ai (Z.n + 1) = fun _ => 0 := funext fun j => if_pos rfl
        unfold acont
        simp only [Nat.reduceEqDiff, Nat.reduceLeDiff, if_true, if_false, e9]
      rw [el, ea, vp_cell_i, ← hz]
      exact e1
  have hS1 : va_S X.w.A X.s.heap H1 locs := ⟨Nat.le_trans h5.1 (by omega), fun x h1 h2 => (e3 x (Nat.lt_of_lt_of_le h1 h5.1)).trans (h5.2.1 x h1 h2), h5.2.2⟩
  have K := h (M.n + 1) (M.newa 2 n.toNatClampNeg) (Z.newa 2 n.toNatClampNeg) H1 locs ls rr r2 h2 (hX.hRp.symm ▸ hC M Z _ _ _ (hX.hRp ▸ h3) h4) hR hS1 h6 (by omega) (by omega) (show Z.n + 1 = M.n + 1 by omega) (show Z.sl + _ = M.sl + _ by omega)
  rw [m3.1, m3.2] at K
  have e5 : M.n - X.n0 + 1 = M.n + 1 - X.n0 := by omega
  have e6 : M.sl - X.sl0 + n.toNatClampNeg = M.sl + n.toNatClampNeg - X.sl0 := by omega
  rw [e5, e6, hz, h9]
  exact K
theorem s_newZ (hX : Ok X Rp cc own nL rt fr lo) (hC : CpM Rp 3) (q1 : Cond.arrayClass .boolean ∈ lw_all) {n : Int32} (hd : decode cc pc = .ok (.newarray .boolean, 2)) {k : Nat → Act α} (h : ∀ v, Sim X cv (pc + 2) L (rv v :: st) (k v)) : Sim X cv pc L (.int n :: st) (bnd (newA 3 n) k) := by
  intro M Z H locs ls rr h1 h2 h3 h4 h5 h6 h7 h8 h9 h10
  obtain ⟨⟨g1, g2⟩, r2⟩ := bnd_wrm h1
  have m2 := (k (M.n + 1)).mono r2
  have m3 : (M.newa 3 n.toNatClampNeg).n = M.n + 1 ∧ (M.newa 3 n.toNatClampNeg).sl = M.sl + n.toNatClampNeg := ⟨rfl, rfl⟩
  have hc := hX.hcells
  have hs := hX.hslots
  have hz : H.size = Z.n := h4.2.2.2.1
  refine va_newaK (atype := .boolean) hX.hx hX.hb (hX.hts _ q1) rfl hd rfl g1 rfl (by show _ * 1 ≤ _; omega) (by omega) (by omega) rfl fun H1 cA e1 e2 e3 hAr hNm => ?_
  have ecA : cA = X.w.dA 3 := Option.some.inj (hNm.symm.trans (hX.hK.2 3 _ rfl).2)
  subst ecA
  have hR : Rep0 X.w (Z.newa 3 n.toNatClampNeg) H1 := by
    refine rep_push h4 (fun c hc => up1_ne _ _ _ hc) rfl ?_ (fun _ => rfl) (fun c hc _ => newa_cell _ _ _ _ hc) ?_ e2 e3
    · rw [show (Z.newa 3 n.toNatClampNeg).k (Z.n + 1) = 50 + 3 from up1_eq _ _ _]
      exact ⟨by omega, by omega, by omega⟩
    · rw [arr_cell (M := Z.newa 3 n.toNatClampNeg) (c := Z.n + 1) (q := 3) (by omega) (Or.inl (up1_eq Z.k (Z.n + 1) (50 + 3)))]
      show H1[Z.n]? = some (vp_cell _ _)
      have el : (Z.newa 3 n.toNatClampNeg).len (Z.n + 1) = n.toNatClampNeg := up1_eq _ _ _
      have ea : acont (Z.newa 3 n.toNatClampNeg) (Z.n + 1) 3 = .inl (fun _ => 0) := by
        show _ = _
        have e9 : (Z.newa 3 n.toNatClampNeg).ai (Z.n + 1) = fun _ => 0 := funext fun j => if_pos rfl
        unfold acont
        simp only [Nat.reduceEqDiff, Nat.reduceLeDiff, if_true, if_false, e9]
      rw [el, ea, vp_cell_i, ← hz]
      exact e1
  have hS1 : va_S X.w.A X.s.heap H1 locs := ⟨Nat.le_trans h5.1 (by omega), fun x h1 h2 => (e3 x (Nat.lt_of_lt_of_le h1 h5.1)).trans (h5.2.1 x h1 h2), h5.2.2⟩
  have K := h (M.n + 1) (M.newa 3 n.toNatClampNeg) (Z.newa 3 n.toNatClampNeg) H1 locs ls rr r2 h2 (hX.hRp.symm ▸ hC M Z _ _ _ (hX.hRp ▸ h3) h4) hR hS1 h6 (by omega) (by omega) (show Z.n + 1 = M.n + 1 by omega) (show Z.sl + _ = M.sl + _ by omega)
  rw [m3.1, m3.2] at K
  have e5 : M.n - X.n0 + 1 = M.n + 1 - X.n0 := by omega
  have e6 : M.sl - X.sl0 + n.toNatClampNeg = M.sl + n.toNatClampNeg - X.sl0 := by omega
  rw [e5, e6, hz, h9]
  exact K
theorem s_iald (hX : Ok X Rp cc own nL rt fr lo) (hC : CpA Rp 0) {x : Nat} {i : Int32} (hd : decode cc pc = .ok (.iaload, 1)) {k : Int32 → Act α} (h : ∀ v, Sim X cv (pc + 1) L (.int v :: st) (k v)) : Sim X cv pc L (.int i :: rv x :: st) (bnd (ldI 0 x i) k) := by
  intro M Z H locs ls rr h1 h2 h3 h4 h5 h6 h7 h8 h9 h10
  obtain ⟨q1, q2⟩ := bnd_rdm h1
  have g := hC M Z x (hX.hRp ▸ h3) q1.1
  refine b_iald hX.hx hX.hb hX.hK h4 (M := Z) ⟨by rw [g.1]; exact q1.1, by rw [g.2.1]; exact q1.2⟩ hd ?_
  rw [g.2.2.1]
  exact h _ M Z H locs ls rr q2 h2 h3 h4 h5 h6 h7 h8 h9 h10
theorem s_bald (hX : Ok X Rp cc own nL rt fr lo) (hC : CpA Rp 2) {x : Nat} {i : Int32} (hd : decode cc pc = .ok (.baload, 1)) {k : Int32 → Act α} (h : ∀ v, Sim X cv (pc + 1) L (.int v :: st) (k v)) : Sim X cv pc L (.int i :: rv x :: st) (bnd (ldI 2 x i) k) := by
  intro M Z H locs ls rr h1 h2 h3 h4 h5 h6 h7 h8 h9 h10
  obtain ⟨q1, q2⟩ := bnd_rdm h1
  have g := hC M Z x (hX.hRp ▸ h3) q1.1
  refine b_bald hX.hx hX.hb hX.hK h4 (M := Z) ⟨by rw [g.1]; exact q1.1, by rw [g.2.1]; exact q1.2⟩ hd ?_
  rw [g.2.2.1]
  exact h _ M Z H locs ls rr q2 h2 h3 h4 h5 h6 h7 h8 h9 h10
theorem s_zald (hX : Ok X Rp cc own nL rt fr lo) (hC : CpA Rp 3) {x : Nat} {i : Int32} (hd : decode cc pc = .ok (.baload, 1)) {k : Int32 → Act α} (h : ∀ v, Sim X cv (pc + 1) L (.int v :: st) (k v)) : Sim X cv pc L (.int i :: rv x :: st) (bnd (ldI 3 x i) k) := by
  intro M Z H locs ls rr h1 h2 h3 h4 h5 h6 h7 h8 h9 h10
  obtain ⟨q1, q2⟩ := bnd_rdm h1
  have g := hC M Z x (hX.hRp ▸ h3) q1.1
  refine b_zald hX.hx hX.hb hX.hK h4 (M := Z) ⟨by rw [g.1]; exact q1.1, by rw [g.2.1]; exact q1.2⟩ hd ?_
  rw [g.2.2.1]
  exact h _ M Z H locs ls rr q2 h2 h3 h4 h5 h6 h7 h8 h9 h10
theorem s_lald (hX : Ok X Rp cc own nL rt fr lo) (hC : CpA Rp 1) {x : Nat} {i : Int32} (hd : decode cc pc = .ok (.laload, 1)) {k : Int64 → Act α} (h : ∀ v, Sim X cv (pc + 1) L (.long v :: st) (k v)) : Sim X cv pc L (.int i :: rv x :: st) (bnd (ldL 1 x i) k) := by
  intro M Z H locs ls rr h1 h2 h3 h4 h5 h6 h7 h8 h9 h10
  obtain ⟨q1, q2⟩ := bnd_rdm h1
  have g := hC M Z x (hX.hRp ▸ h3) q1.1
  refine b_lald hX.hx hX.hb hX.hK h4 (M := Z) ⟨by rw [g.1]; exact q1.1, by rw [g.2.1]; exact q1.2⟩ hd ?_
  rw [g.2.2.2.1]
  exact h _ M Z H locs ls rr q2 h2 h3 h4 h5 h6 h7 h8 h9 h10
theorem s_aald (hX : Ok X Rp cc own nL rt fr lo) {q : Nat} {C : String} (hq : 4 ≤ q) (hq2 : q < 6) (hCc : ∀ w : Wd, (tys_ w)[q]? = some (w.dA q, .object C)) (hC : CpA Rp q) {x : Nat} {i : Int32} (hd : decode cc pc = .ok (.aaload, 1)) {k : Nat → Act α} (h : ∀ v, Sim X cv (pc + 1) L (rv v :: st) (k v)) : Sim X cv pc L (.int i :: rv x :: st) (bnd (ldR q x i) k) := by
  intro M Z H locs ls rr h1 h2 h3 h4 h5 h6 h7 h8 h9 h10
  obtain ⟨q1, q2⟩ := bnd_rdm h1
  have g := hC M Z x (hX.hRp ▸ h3) q1.1
  refine b_aald hq hq2 (hCc X.w) hX.hx hX.hb hX.hK h4 (M := Z) ⟨by rw [g.1]; exact q1.1, by rw [g.2.1]; exact q1.2⟩ hd ?_
  rw [g.2.2.2.2]
  exact h _ M Z H locs ls rr q2 h2 h3 h4 h5 h6 h7 h8 h9 h10
/-- an array's length -/
def lenq (q c : Nat) : Act Int32 := rdm (fun M => M.k c = 50 + q ∨ M.k c = 60 + q) (fun _ => inferInstanceAs (Decidable (_ ∨ _))) (fun M => Int32.ofNat (M.len c))
theorem s_alen (hX : Ok X Rp cc own nL rt fr lo) {q : Nat} (hq : q < 6) (hC : CpA Rp q) {x : Nat} (hd : decode cc pc = .ok (.arraylength, 1)) {k : Int32 → Act α} (h : ∀ v, Sim X cv (pc + 1) L (.int v :: st) (k v)) : Sim X cv pc L (rv x :: st) (bnd (lenq q x) k) := by
  intro M Z H locs ls rr h1 h2 h3 h4 h5 h6 h7 h8 h9 h10
  obtain ⟨q1, q2⟩ := bnd_rdm h1
  have g := hC M Z x (hX.hRp ▸ h3) q1
  refine b_alen hX.hx hX.hb hX.hK h4 (M := Z) hq (by rw [g.1]; exact q1) hd ?_
  rw [g.2.1]
  exact h _ M Z H locs ls rr q2 h2 h3 h4 h5 h6 h7 h8 h9 h10
theorem s_iast (hX : Ok X Rp cc own nL rt fr lo) (hC : CpA Rp 0) (hB : CpB Rp 0) {x : Nat} {i : Int32} {v : Int32} (hd : decode cc pc = .ok (.iastore, 1)) {k : Unit → Act α} (h : Sim X cv (pc + 1) L st (k ())) : Sim X cv pc L (.int v :: .int i :: rv x :: st) (bnd (stI 0 x i v) k) := by
  intro M Z H locs ls rr h1 h2 h3 h4 h5 h6 h7 h8 h9 h10
  obtain ⟨q1, q2⟩ := bnd_wrm h1
  have g := hC M Z x (hX.hRp ▸ h3) (Or.inl q1.1)
  have gZ : okaw 0 x i Z := ⟨by rw [g.1]; exact q1.1, by rw [g.2.1]; exact q1.2⟩
  refine b_iast hX.hx hX.hb hX.hK h4 h5 gZ hd (fun H1 locs1 e1 e2 => ?_)
  obtain ⟨a, rfl, -⟩ := rep_arr h4 (by omega) (Or.inl gZ.1)
  obtain ⟨e3, e4, e5⟩ := e1 a rfl
  refine h (M.setai (a + 1) i.toNatClampNeg (narq 0 v)) (Z.setai (a + 1) i.toNatClampNeg (narq 0 v)) H1 locs1 ls rr q2 h2 (hX.hRp.symm ▸ ((hB M Z _ (hX.hRp ▸ h3) q1.1).1 _ _)) ?_ e2 h6 h7 h8 h9 h10
  refine rep_seta h4 (q := 0) (by omega) gZ.1 rfl rfl (fun _ => rfl) (fun c hc => setai_cell _ _ _ _ _ hc) ?_ e4 e5
  rw [e3]
  congr 2
  have e9 := setai_upd Z (a + 1) i.toNatClampNeg (narq 0 v)
  show (Z.len (a + 1), _) = (Z.len (a + 1), acont (Z.setai (a + 1) i.toNatClampNeg (narq 0 v)) (a + 1) 0)
  unfold acont
  simp only [Nat.reduceEqDiff, Nat.reduceLeDiff, if_true, if_false, e9]
  try rfl
theorem s_bast (hX : Ok X Rp cc own nL rt fr lo) (hC : CpA Rp 2) (hB : CpB Rp 2) {x : Nat} {i : Int32} {v : Int32} (hd : decode cc pc = .ok (.bastore, 1)) {k : Unit → Act α} (h : Sim X cv (pc + 1) L st (k ())) : Sim X cv pc L (.int v :: .int i :: rv x :: st) (bnd (stI 2 x i v) k) := by
  intro M Z H locs ls rr h1 h2 h3 h4 h5 h6 h7 h8 h9 h10
  obtain ⟨q1, q2⟩ := bnd_wrm h1
  have g := hC M Z x (hX.hRp ▸ h3) (Or.inl q1.1)
  have gZ : okaw 2 x i Z := ⟨by rw [g.1]; exact q1.1, by rw [g.2.1]; exact q1.2⟩
  refine b_bast hX.hx hX.hb hX.hK h4 h5 gZ hd (fun H1 locs1 e1 e2 => ?_)
  obtain ⟨a, rfl, -⟩ := rep_arr h4 (by omega) (Or.inl gZ.1)
  obtain ⟨e3, e4, e5⟩ := e1 a rfl
  refine h (M.setai (a + 1) i.toNatClampNeg (narq 2 v)) (Z.setai (a + 1) i.toNatClampNeg (narq 2 v)) H1 locs1 ls rr q2 h2 (hX.hRp.symm ▸ ((hB M Z _ (hX.hRp ▸ h3) q1.1).1 _ _)) ?_ e2 h6 h7 h8 h9 h10
  refine rep_seta h4 (q := 2) (by omega) gZ.1 rfl rfl (fun _ => rfl) (fun c hc => setai_cell _ _ _ _ _ hc) ?_ e4 e5
  rw [e3]
  congr 2
  have e9 := setai_upd Z (a + 1) i.toNatClampNeg (narq 2 v)
  show (Z.len (a + 1), _) = (Z.len (a + 1), acont (Z.setai (a + 1) i.toNatClampNeg (narq 2 v)) (a + 1) 2)
  unfold acont
  simp only [Nat.reduceEqDiff, Nat.reduceLeDiff, if_true, if_false, e9]
  try rfl
theorem s_zast (hX : Ok X Rp cc own nL rt fr lo) (hC : CpA Rp 3) (hB : CpB Rp 3) {x : Nat} {i : Int32} {v : Int32} (hd : decode cc pc = .ok (.bastore, 1)) {k : Unit → Act α} (h : Sim X cv (pc + 1) L st (k ())) : Sim X cv pc L (.int v :: .int i :: rv x :: st) (bnd (stI 3 x i v) k) := by
  intro M Z H locs ls rr h1 h2 h3 h4 h5 h6 h7 h8 h9 h10
  obtain ⟨q1, q2⟩ := bnd_wrm h1
  have g := hC M Z x (hX.hRp ▸ h3) (Or.inl q1.1)
  have gZ : okaw 3 x i Z := ⟨by rw [g.1]; exact q1.1, by rw [g.2.1]; exact q1.2⟩
  refine b_zast hX.hx hX.hb hX.hK h4 h5 gZ hd (fun H1 locs1 e1 e2 => ?_)
  obtain ⟨a, rfl, -⟩ := rep_arr h4 (by omega) (Or.inl gZ.1)
  obtain ⟨e3, e4, e5⟩ := e1 a rfl
  refine h (M.setai (a + 1) i.toNatClampNeg (narq 3 v)) (Z.setai (a + 1) i.toNatClampNeg (narq 3 v)) H1 locs1 ls rr q2 h2 (hX.hRp.symm ▸ ((hB M Z _ (hX.hRp ▸ h3) q1.1).1 _ _)) ?_ e2 h6 h7 h8 h9 h10
  refine rep_seta h4 (q := 3) (by omega) gZ.1 rfl rfl (fun _ => rfl) (fun c hc => setai_cell _ _ _ _ _ hc) ?_ e4 e5
  rw [e3]
  congr 2
  have e9 := setai_upd Z (a + 1) i.toNatClampNeg (narq 3 v)
  show (Z.len (a + 1), _) = (Z.len (a + 1), acont (Z.setai (a + 1) i.toNatClampNeg (narq 3 v)) (a + 1) 3)
  unfold acont
  simp only [Nat.reduceEqDiff, Nat.reduceLeDiff, if_true, if_false, e9]
  try rfl
theorem s_last (hX : Ok X Rp cc own nL rt fr lo) (hC : CpA Rp 1) (hB : CpB Rp 1) {x : Nat} {i : Int32} {v : Int64} (hd : decode cc pc = .ok (.lastore, 1)) {k : Unit → Act α} (h : Sim X cv (pc + 1) L st (k ())) : Sim X cv pc L (.long v :: .int i :: rv x :: st) (bnd (stL 1 x i v) k) := by
  intro M Z H locs ls rr h1 h2 h3 h4 h5 h6 h7 h8 h9 h10
  obtain ⟨q1, q2⟩ := bnd_wrm h1
  have g := hC M Z x (hX.hRp ▸ h3) (Or.inl q1.1)
  have gZ : okaw 1 x i Z := ⟨by rw [g.1]; exact q1.1, by rw [g.2.1]; exact q1.2⟩
  refine b_last hX.hx hX.hb hX.hK h4 h5 gZ hd (fun H1 locs1 e1 e2 => ?_)
  obtain ⟨a, rfl, -⟩ := rep_arr h4 (by omega) (Or.inl gZ.1)
  obtain ⟨e3, e4, e5⟩ := e1 a rfl
  refine h (M.setal (a + 1) i.toNatClampNeg v) (Z.setal (a + 1) i.toNatClampNeg v) H1 locs1 ls rr q2 h2 (hX.hRp.symm ▸ ((hB M Z _ (hX.hRp ▸ h3) q1.1).2.1 _ _)) ?_ e2 h6 h7 h8 h9 h10
  refine rep_seta h4 (q := 1) (by omega) gZ.1 rfl rfl (fun _ => rfl) (fun c hc => setal_cell _ _ _ _ _ hc) ?_ e4 e5
  rw [e3]
  congr 2
  have e9 := setal_upd Z (a + 1) i.toNatClampNeg v
  show (Z.len (a + 1), _) = (Z.len (a + 1), acont (Z.setal (a + 1) i.toNatClampNeg v) (a + 1) 1)
  unfold acont
  simp only [Nat.reduceEqDiff, Nat.reduceLeDiff, if_true, if_false, e9]
  try rfl
end AR
