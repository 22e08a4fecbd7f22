set_option maxRecDepth 100000
/-- elements of these kinds may stand in an array of C -/
def ElOk (Rp : Mem → Mem → Prop) (C : String) (ks : List Nat) : Prop := ∀ kd ∈ ks, ciOf kd < 20 ∧ (kd = ciOf kd + 1 ∨ (ciOf kd = 19 ∧ kd = 40)) ∧ (RR (ciOf kd) = C ∨ Cond.castable (RR (ciOf kd)) C ∈ lw_tbl) ∧ CpK Rp kd
def stK (ks : List Nat) (q c : Nat) (i : Int32) (v : Nat) : Act Unit := wrm (fun M => okaw q c i M ∧ M.k v ∈ ks) (fun _ => inferInstanceAs (Decidable ((_ ∧ _) ∧ _))) (fun _ => ()) (fun M => M.setar c i.toNatClampNeg v) (fun _ => ⟨Nat.le_refl _, Nat.le_refl _⟩)
def stN (q c : Nat) (i : Int32) : Act Unit := wrm (okaw q c i) (fun _ => inferInstanceAs (Decidable (_ ∧ _))) (fun _ => ()) (fun M => M.setar c i.toNatClampNeg 0) (fun _ => ⟨Nat.le_refl _, Nat.le_refl _⟩)
theorem setar_upd (M : Mem) (c j v : Nat) : (fun k => dc ((M.setar c j v).ar c k)) = va_up (fun k => dc (M.ar c k)) j (dc v) := by
  funext k
  show dc (up2 M.ar c j v c k) = _
  unfold up2 va_up
  by_cases e : k = j
  · rw [if_pos ⟨rfl, e⟩, if_pos e]
  · rw [if_neg (fun q => e q.2), if_neg e]
/-- so many places of an array of references come from another -/
def Mem.setarr (M : Mem) (c : Nat) (f : Nat → Nat) : Mem := mk_ M.i M.l M.r M.ai M.al (fun c' => if c' = c then f else M.ar c') M.k M.len M.ls M.tx M.cap M.n M.sl
def Mem.setaia (M : Mem) (c : Nat) (f : Nat → Int32) : Mem := mk_ M.i M.l M.r (fun c' => if c' = c then f else M.ai c') M.al M.ar M.k M.len M.ls M.tx M.cap M.n M.sl
def okcp (q src dst : Nat) (sp dp n : Int32) (M : Mem) : Prop := (M.k src = 50 + q ∨ M.k src = 60 + q) ∧ M.k dst = 50 + q ∧ ¬ sp < 0 ∧ ¬ dp < 0 ∧ ¬ n < 0 ∧ sp.toNatClampNeg + n.toNatClampNeg ≤ M.len src ∧ dp.toNatClampNeg + n.toNatClampNeg ≤ M.len dst
def cpR (ks : List Nat) (src : Nat) (sp : Int32) (dst : Nat) (dp n : Int32) : Act Unit := wrm (fun M => okcp 4 src dst sp dp n M ∧ ∀ i, i < n.toNatClampNeg → M.ar src (sp.toNatClampNeg + i) = 0 ∨ M.k (M.ar src (sp.toNatClampNeg + i)) ∈ ks) (fun M => inferInstanceAs (Decidable ((_ ∧ _ ∧ _ ∧ _ ∧ _ ∧ _ ∧ _) ∧ (∀ i, i < n.toNatClampNeg → _)))) (fun _ => ()) (fun M => M.setarr dst (va_cpy (M.ar src) (M.ar dst) sp.toNatClampNeg dp.toNatClampNeg n.toNatClampNeg)) (fun _ => ⟨Nat.le_refl _, Nat.le_refl _⟩)
def cpB (src : Nat) (sp : Int32) (dst : Nat) (dp n : Int32) : Act Unit := wrm (fun M => okcp 2 src dst sp dp n M ∧ ∀ i, i < n.toNatClampNeg → fits .byte (.int (M.ai src (sp.toNatClampNeg + i))) = true) (fun M => inferInstanceAs (Decidable ((_ ∧ _ ∧ _ ∧ _ ∧ _ ∧ _ ∧ _) ∧ (∀ i, i < n.toNatClampNeg → _)))) (fun _ => ()) (fun M => M.setaia dst (va_cpy (M.ai src) (M.ai dst) sp.toNatClampNeg dp.toNatClampNeg n.toNatClampNeg)) (fun _ => ⟨Nat.le_refl _, Nat.le_refl _⟩)
/-- a cast that must hold: null, or one of these kinds -/
def cst (ks : List Nat) (x : Nat) : Act Unit := rdm (fun M => x = 0 ∨ M.k x ∈ ks) (fun _ => inferInstanceAs (Decidable (_ ∨ _))) (fun _ => ())
/-- 'instanceof' that holds -/
def ins (ks : List Nat) (x : Nat) : Act Unit := rdm (fun M => M.k x ∈ ks) (fun _ => inferInstanceAs (Decidable (_ ∈ _))) (fun _ => ())
section JR2
variable {α : Type} {X : Cx} {Rp : Mem → Mem → Prop} {cc : ByteArray} {own : String} {nL : Nat} {rt : Option FieldType} {fr lo : Nat} {cv : α → Option Value} {pc : Nat} {L : List (Nat × Value)} {st : List Value}
theorem el_cell (hX : Ok X Rp cc own nL rt fr lo) {C : String} {ks : List Nat} (hE : ElOk Rp C ks) {M Z : Mem} {H : Heap} (h3 : Rp M Z) (h4 : Rep0 X.w Z H) {x : Nat} (hk : M.k x ∈ ks) : ∃ a ci, x = a + 1 ∧ (∃ cell : Cell, H[a]? = some cell ∧ cell.vm.isStatics = false ∧ X.s.vm.findClass (RR ci) = some cell.cls) ∧ (RR ci = C ∨ Cond.castable (RR ci) C ∈ lw_tbl) := by
  obtain ⟨h1, h2, h5, h6⟩ := hE _ hk
  have g0 := h6 M Z x h3 rfl
  have g1 : okr (ciOf (M.k x)) x Z := by
    rcases h2 with h2 | ⟨h2, h7⟩
    · exact Or.inl (by rw [g0]; exact h2)
    · exact Or.inr ⟨h2, by rw [g0]; exact h7⟩
  obtain ⟨a, rfl, cell, o1, o2, o3, o4⟩ := rep_obj h4 h1 g1
  exact ⟨a, _, rfl, ⟨cell, o1, by rw [o3]; rfl, by rw [o2]; exact (hX.hK.1 _ _ (cl_at _ h1)).2.1⟩, h5⟩
theorem el_any (hX : Ok X Rp cc own nL rt fr lo) {C : String} {ks : List Nat} (hE : ElOk Rp C ks) {M Z : Mem} {H : Heap} (h3 : Rp M Z) (h4 : Rep0 X.w Z H) {x : Nat} (hk : M.k x ∈ ks) : ∃ a, x = a + 1 ∧ va_Any C X.s H a := by
  obtain ⟨a, ci, rfl, ⟨cell, o1, o2, o3⟩, h5⟩ := el_cell hX hE h3 h4 hk
  obtain ⟨kC, hkC, -⟩ := Vm.findClass_spec o3
  refine ⟨a, rfl, cell, o1, o2, ⟨kC, hkC⟩, fun comp hcomp => ?_⟩
  rcases h5 with h5 | h5
  · rw [h5] at o3
    cases o3.symm.trans hcomp
    exact va_asg _ _
  · obtain ⟨c0, t0, f1, f2, f3⟩ := Cond.castable_spec (va_Nw.use (A := X.args) rfl (hX.castable h5))
    cases f1.symm.trans o3
    cases f2.symm.trans hcomp
    exact f3
theorem s_aast (hX : Ok X Rp cc own nL rt fr lo) {q : Nat} {C : String} {ks : List Nat} (hq : 4 ≤ q) (hq2 : q < 6) (hCc : ∀ w : Wd, (tys_ w)[q]? = some (w.dA q, .object C)) (hE : ElOk Rp C ks) (hC : CpA Rp q) (hB : CpB Rp q) {x v : Nat} {i : Int32} (hd : decode cc pc = .ok (.aastore, 1)) {k : Unit → Act α} (h : Sim X cv (pc + 1) L st (k ())) : Sim X cv pc L (rv v :: .int i :: rv x :: st) (bnd (stK ks q x i v) k) := by
  intro M Z H locs ls rr h1 h2 h3 h4 h5 h6 h7 h8 h9 h10
  obtain ⟨⟨q1, qk⟩, q2⟩ := bnd_wrm h1
  have g := hC M Z x (hX.hRp ▸ h3) (Or.inl q1.1)
  have gZ : okaw q x i Z := ⟨by rw [g.1]; exact q1.1, by rw [g.2.1]; exact q1.2⟩
  obtain ⟨a, rfl, hc⟩ := rep_arr h4 (by omega) (Or.inl gZ.1)
  obtain ⟨b, rfl, cellV, g1, g3, ⟨kC, hkC⟩, hasg⟩ := el_any hX hE (hX.hRp ▸ h3) h4 qk
  have hA : X.w.A a := h4.2.2.1 a ⟨by rw [gZ.1]; omega, by rw [gZ.1]; omega, by rw [gZ.1]; omega⟩
  have ec : acont Z (a + 1) q = .inr (.inr (.inr (.inr (fun j => dc (Z.ar (a + 1) j))))) := by unfold acont; rw [if_neg (by omega), if_pos hq]
  rw [ec, vp_cell_q] at hc
  obtain ⟨kA, comp, k1, k2, k3, -⟩ := (hX.hK.2 q _ (hCc X.w)).2
  obtain ⟨kE, hkE, -⟩ := Vm.findClass_spec k3
  have hlt : i.toNatClampNeg < Z.len (a + 1) := Nat.not_le.mp fun q => gZ.2 (Or.inr q)
  refine W.aast hX.hx hX.hb hc (fun q h => by cases h) (fun h => by cases h) k1 k2 rfl hkE ⟨fun q => gZ.2 (Or.inl q), by rw [arrV_size]; exact hlt⟩ g1 (fun q h => by rw [h] at g3; cases g3) hkC (hasg _ k3) rfl rfl hd fun H1 e z oq => ?_
  refine h (M.setar (a + 1) i.toNatClampNeg (b + 1)) (Z.setar (a + 1) i.toNatClampNeg (b + 1)) H1 _ ls rr q2 h2 (hX.hRp.symm ▸ ((hB M Z _ (hX.hRp ▸ h3) q1.1).2.2 _ _)) ?_ (h5.put z oq hA) h6 h7 h8 h9 h10
  refine rep_seta h4 (q := q) (by omega) gZ.1 rfl rfl (fun _ => rfl) (fun c hc => setar_cell _ _ _ _ _ hc) ?_ z oq
  have e9 := setar_upd Z (a + 1) i.toNatClampNeg (b + 1)
  have ea : acont (Z.setar (a + 1) i.toNatClampNeg (b + 1)) (a + 1) q = .inr (.inr (.inr (.inr (va_up (fun k => dc (Z.ar (a + 1) k)) i.toNatClampNeg (dc (b + 1)))))) := by unfold acont; rw [if_neg (by omega), if_pos hq, e9]
  rw [e, ea, vp_cell_q, arrV_store]
  congr 2
  funext j
  by_cases hj : j = i.toNatClampNeg
  · subst hj; simp [updV, va_up, va_rf, dc]
  · simp [updV, va_up, hj]
theorem s_aastN (hX : Ok X Rp cc own nL rt fr lo) {q : Nat} {C : String} (hq : 4 ≤ q) (hq2 : q < 6) (hCc : ∀ w : Wd, (tys_ w)[q]? = some (w.dA q, .object C)) (hC : CpA Rp q) (hB : CpB Rp q) {x : Nat} {i : Int32} (hd : decode cc pc = .ok (.aastore, 1)) {k : Unit → Act α} (h : Sim X cv (pc + 1) L st (k ())) : Sim X cv pc L (rv 0 :: .int i :: rv x :: st) (bnd (stN q x i) k) := by
  intro M Z H locs ls rr h1 h2 h3 h4 h5 h6 h7 h8 h9 h10
  obtain ⟨q1, q2⟩ := bnd_wrm h1
  have g := hC M Z x (hX.hRp ▸ h3) (Or.inl q1.1)
  have gZ : okaw q x i Z := ⟨by rw [g.1]; exact q1.1, by rw [g.2.1]; exact q1.2⟩
  obtain ⟨a, rfl, hc⟩ := rep_arr h4 (by omega) (Or.inl gZ.1)
  have hA : X.w.A a := h4.2.2.1 a ⟨by rw [gZ.1]; omega, by rw [gZ.1]; omega, by rw [gZ.1]; omega⟩
  have ec : acont Z (a + 1) q = .inr (.inr (.inr (.inr (fun j => dc (Z.ar (a + 1) j))))) := by unfold acont; rw [if_neg (by omega), if_pos hq]
  rw [ec, vp_cell_q] at hc
  refine va_WaastN (C := C) hX.hx hX.hb hc ((hX.hK.2 q _ (hCc X.w)).1 _ (fun j => va_rf (dc (Z.ar (a + 1) j)))) (fun h => by cases h) (by rw [arrV_size]; exact gZ.2) rfl rfl hd fun H1 e z oq => ?_
  refine h (M.setar (a + 1) i.toNatClampNeg 0) (Z.setar (a + 1) i.toNatClampNeg 0) H1 _ ls rr q2 h2 (hX.hRp.symm ▸ ((hB M Z _ (hX.hRp ▸ h3) q1.1).2.2 _ _)) ?_ (h5.put z oq hA) h6 h7 h8 h9 h10
  refine rep_seta h4 (q := q) (by omega) gZ.1 rfl rfl (fun _ => rfl) (fun c hc => setar_cell _ _ _ _ _ hc) ?_ z oq
  have e9 := setar_upd Z (a + 1) i.toNatClampNeg 0
  have ea : acont (Z.setar (a + 1) i.toNatClampNeg 0) (a + 1) q = .inr (.inr (.inr (.inr (va_up (fun k => dc (Z.ar (a + 1) k)) i.toNatClampNeg (dc 0))))) := by unfold acont; rw [if_neg (by omega), if_pos hq, e9]
  rw [e, ea, vp_cell_q, arrV_store]
  congr 2
  funext j
  by_cases hj : j = i.toNatClampNeg
  · subst hj; simp [updV, va_up, va_rf, dc]
  · simp [updV, va_up, hj]
/-- a cast to a class of which all that comes is, or to an interface -/
theorem s_cast (hX : Ok X Rp cc own nL rt fr lo) {C : String} {ks : List Nat} (hE : ElOk Rp C ks) {x index : Nat} (q1 : Cond.classLink own index C ∈ lw_all) (hd : decode cc pc = .ok (.checkcast index, 3)) {k : Unit → Act α} (h : Sim X cv (pc + 3) L (rv x :: st) (k ())) : Sim X cv pc L (rv x :: st) (bnd (cst ks x) k) := by
  intro M Z H locs ls rr h1 h2 h3 h4 h5 h6 h7 h8 h9 h10
  obtain ⟨qk, q2⟩ := bnd_rdm h1
  have K := h M Z H locs ls rr q2 h2 h3 h4 h5 h6 h7 h8 h9 h10
  rcases qk with rfl | qk
  · exact lv_castN hX.hx hX.hb hd K
  · obtain ⟨a, ci, rfl, hr, h9⟩ := el_cell hX hE (hX.hRp ▸ h3) h4 qk
    rcases h9 with h9 | h9
    · obtain ⟨cell, r1, r2, r3⟩ := hr
      rw [h9] at r3
      intro T hT XX
      obtain ⟨vm', X', stp⟩ := XX.checkcastYes hX.hx hX.hown (hX.hts _ q1) (by rw [hT]; exact r1) r2 r3 (va_asg _ _) (g := F0 X.m pc ls (.ref a :: st)) rfl rfl (by rw [hX.hb]; exact hd)
      obtain ⟨t, a1, b1⟩ := K (T.setVm vm') hT X'
      exact ⟨t, stp t a1, b1⟩
    · exact va_castY hX.hx hX.hb hX.hown (hX.hts _ q1) (hX.castable h9) hr hd K
theorem s_inst (hX : Ok X Rp cc own nL rt fr lo) {C : String} {ks : List Nat} (hE : ElOk Rp C ks) {x index : Nat} (q1 : Cond.classLink own index C ∈ lw_all) (hd : decode cc pc = .ok (.instanceof index, 3)) {k : Unit → Act α} (h : Sim X cv (pc + 3) L (.int 1 :: st) (k ())) : Sim X cv pc L (rv x :: st) (bnd (ins ks x) k) := by
  intro M Z H locs ls rr h1 h2 h3 h4 h5 h6 h7 h8 h9 h10
  obtain ⟨qk, q2⟩ := bnd_rdm h1
  have K := h M Z H locs ls rr q2 h2 h3 h4 h5 h6 h7 h8 h9 h10
  obtain ⟨a, ci, rfl, hr, h9⟩ := el_cell hX hE (hX.hRp ▸ h3) h4 qk
  rcases h9 with h9 | h9
  · obtain ⟨cell, r1, r2, r3⟩ := hr
    rw [h9] at r3
    exact va_instE hX.hx hX.hb hX.hown (hX.hts _ q1) ⟨cell, r1, r2, r3⟩ hd K
  · exact va_instY hX.hx hX.hb hX.hown (hX.hts _ q1) (hX.castable h9) hr hd K
end JR2
