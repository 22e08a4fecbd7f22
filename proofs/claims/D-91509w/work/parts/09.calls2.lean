set_option maxRecDepth 100000
section CS2
variable {α β : Type} {X : Cx} {Rp : Mem → Mem → Prop} {cc bytes : ByteArray} {own : String} {nL : Nat} {rt rt2 : Option FieldType} {fr lo fr2 lo2 maxL index n : Nat} {cv : α → Option Value} {cw : β → Option Value} {pc : Nat} {L : List (Nat × Value)} {st : List Value} {y : MethodName} {fc : Act β} {k : β → Act α}
theorem bnd_gd {γ : Type} {ci x : Nat} {f : Act γ} {k : γ → Act α} {M M' : Mem} {r : α ⊕ Nat} (h1 : (bnd (gd ci x f) k).run M = some (r, M')) : M.k x = ci + 1 ∧ (bnd f k).run M = some (r, M') := by
  rw [bnd_run] at h1
  cases hg : (gd ci x f).run M with
  | none => rw [hg] at h1; cases h1
  | some z =>
    obtain ⟨g1, g2⟩ := gd_run hg
    rw [hg] at h1
    exact ⟨g1, by rw [bnd_run, g2]; exact h1⟩
/-- behind a call -/
theorem s_core (hX : Ok X Rp cc own nL rt fr lo) (h : ∀ v, Sim X cv (pc + 3) L ((cw v).toList ++ st) (k v)) {M M1 : Mem} {H : Heap} {locs : List Loc} {ls : Array Slot} {rr : α ⊕ Nat} {v : β} {st0 : List Value} {a : Array Value} (h2 : Out cv rr = X.o) (h5 : va_S X.w.A X.s.heap H locs) (h6 : lv_has ls X.nL L) (h7 : X.n0 ≤ M.n) (h8 : X.sl0 ≤ M.sl) (m1 : M.n ≤ M1.n ∧ M.sl ≤ M1.sl) (r2 : (k v).run M1 = some (rr, X.Mf))
    (hrun : va_Run X.p X.l X.e X.R X.s X.m X.args X.below X.meth X.c H locs (M.n - X.n0) (M.sl - X.sl0) (M1.n - M.n) (M1.sl - M.sl) (F0 X.m pc ls st0) st (Post_ X.w Rp M1 (.returned (cw v)) a) X.w.A) : WX X H locs (M.n - X.n0) (M.sl - X.sl0) (F0 X.m pc ls st0) := by
  refine run_go (ov := cw v) (PP := fun H => ∃ Z, Rp M1 Z ∧ Rep0 X.w Z H) hrun (fun st o t q => q) h5 (fun H1 locs1 hp hs => ?_)
  obtain ⟨Z1, z1, z2⟩ := hp
  obtain ⟨n1, n2⟩ := hX.hnz (M := M1) (Z := Z1) (hX.hRp.symm ▸ z1)
  have K := h v M1 Z1 H1 locs1 ls rr r2 h2 (hX.hRp.symm ▸ z1) z2 hs h6 (by omega) (by omega) n1 n2
  have e1 : M.n - X.n0 + (M1.n - M.n) = M1.n - X.n0 := by omega
  have e2 : M.sl - X.sl0 + (M1.sl - M.sl) = M1.sl - X.sl0 := by omega
  rw [e1, e2]
  exact K
theorem s_core5 (hX : Ok X Rp cc own nL rt fr lo) (h : ∀ v, Sim X cv (pc + 5) L ((cw v).toList ++ st) (k v)) {M M1 : Mem} {H : Heap} {locs : List Loc} {ls : Array Slot} {rr : α ⊕ Nat} {v : β} {st0 : List Value} {a : Array Value} (h2 : Out cv rr = X.o) (h5 : va_S X.w.A X.s.heap H locs) (h6 : lv_has ls X.nL L) (h7 : X.n0 ≤ M.n) (h8 : X.sl0 ≤ M.sl) (m1 : M.n ≤ M1.n ∧ M.sl ≤ M1.sl) (r2 : (k v).run M1 = some (rr, X.Mf))
    (hrun : va_Run5 X.p X.l X.e X.R X.s X.m X.args X.below X.meth X.c H locs (M.n - X.n0) (M.sl - X.sl0) (M1.n - M.n) (M1.sl - M.sl) (F0 X.m pc ls st0) st (Post_ X.w Rp M1 (.returned (cw v)) a) X.w.A) : WX X H locs (M.n - X.n0) (M.sl - X.sl0) (F0 X.m pc ls st0) := by
  refine run_go5 (ov := cw v) (PP := fun H => ∃ Z, Rp M1 Z ∧ Rep0 X.w Z H) hrun (fun st o t q => q) h5 (fun H1 locs1 hp hs => ?_)
  obtain ⟨Z1, z1, z2⟩ := hp
  obtain ⟨n1, n2⟩ := hX.hnz (M := M1) (Z := Z1) (hX.hRp.symm ▸ z1)
  have K := h v M1 Z1 H1 locs1 ls rr r2 h2 (hX.hRp.symm ▸ z1) z2 hs h6 (by omega) (by omega) n1 n2
  have e1 : M.n - X.n0 + (M1.n - M.n) = M1.n - X.n0 := by omega
  have e2 : M.sl - X.sl0 + (M1.sl - M.sl) = M1.sl - X.sl0 := by omega
  rw [e1, e2]
  exact K
theorem Ok.nest (hX : Ok X Rp cc own nL rt fr lo) {y : MethodName} {host : String} (h : Cond.methodLinkNest own index y host ∈ lw_tbl) : va_Nw (.methodLinkNest own index y host) X.s := va_Nw.warmM hX.warm (va_Nw.of rfl (hX.base.1 _ h))
theorem Ok.castable (hX : Ok X Rp cc own nL rt fr lo) {C T : String} (h : Cond.castable C T ∈ lw_tbl) : va_Nw (.castable C T) X.s := va_Nw.warmC hX.warm (va_Nw.of rfl (hX.base.1 _ h))

theorem s_callS (hX : Ok X Rp cc own nL rt fr lo) {As : List Value} (hCt : Ct X.l Rp y (ws_ y bytes maxL rt2) fr2 lo2 cw As fc) (q1 : Cond.methodLink own index y ∈ lw_all) (q2 : Cond.static y ∈ lw_all) (q3 : Cond.initialized y.cls ∈ lw_all) (q5 : Cond.code y bytes maxL rt2 ∈ lw_all) (hyc : y.cls ≠ "java/lang/invoke/MethodHandle" ∧ y.cls ≠ "java/lang/invoke/VarHandle" ∧ (parseMethodDescriptor y.desc).map (fun d => d.parameters.length) = some n) (hR : fr2 + 1 ≤ fr ∧ 8 + (maxL + 11) + lo2 ≤ lo) (hn : As.length = n) (hst : (st.map fun v => v.category).sum ≤ 8) (hd : decode cc pc = .ok (.invokestatic index, 3)) (h : ∀ v, Sim X cv (pc + 3) L ((cw v).toList ++ st) (k v)) : Sim X cv pc L (As.reverse ++ st) (bnd (nt fc) k) := by
  intro M Z H locs ls rr h1 h2 h3 h4 h5 h6 h7 h8 h9 h10
  obtain ⟨v, M1, r1, r2⟩ := bnd_nt h1
  have m1 := fc.mono r1
  have m2 := (k v).mono r2
  have hf : M.n - X.n0 + (M1.n - M.n) ≤ X.R.cells ∧ M.sl - X.sl0 + (M1.sl - M.sl) ≤ X.R.slots := ⟨by have := hX.hcells; omega, by have := hX.hslots; omega⟩
  exact s_core hX h h2 h5 h6 h7 h8 m1 r2 (va_runS (As := As) (rest := st) ⟨hX.hx, hX.hb, hX.hml, hX.hown, hX.hts⟩ (hCt.met X.w r1) (va_cwS n hX.hts (lw_S q1 q2 q3 q5) rfl rfl rfl hyc ⟨by rw [hX.hfr]; exact hR.1, by rw [hX.hlo]; exact hR.2⟩) ⟨pre_blind, fun U hU hW => ⟨rfl, hX.base, hX.warm.trans hW, Z, hX.hRp ▸ h3, by rw [hU]; exact h4⟩⟩ rfl hn (by rw [h6.1, hX.hnL]) rfl (lv_room hst) hd hf)
theorem s_callSN (hX : Ok X Rp cc own nL rt fr lo) {As : List Value} {host : String} (hCt : Ct X.l Rp y (ws_ y bytes maxL rt2) fr2 lo2 cw As fc) (q1 : Cond.methodLinkNest own index y host ∈ lw_tbl) (q2 : Cond.static y ∈ lw_all) (q3 : Cond.initialized y.cls ∈ lw_all) (q5 : Cond.code y bytes maxL rt2 ∈ lw_all) (hyc : y.cls ≠ "java/lang/invoke/MethodHandle" ∧ y.cls ≠ "java/lang/invoke/VarHandle" ∧ (parseMethodDescriptor y.desc).map (fun d => d.parameters.length) = some n) (hR : fr2 + 1 ≤ fr ∧ 8 + (maxL + 11) + lo2 ≤ lo) (hn : As.length = n) (hst : (st.map fun v => v.category).sum ≤ 8) (hd : decode cc pc = .ok (.invokestatic index, 3)) (h : ∀ v, Sim X cv (pc + 3) L ((cw v).toList ++ st) (k v)) : Sim X cv pc L (As.reverse ++ st) (bnd (nt fc) k) := by
  intro M Z H locs ls rr h1 h2 h3 h4 h5 h6 h7 h8 h9 h10
  obtain ⟨v, M1, r1, r2⟩ := bnd_nt h1
  have m1 := fc.mono r1
  have m2 := (k v).mono r2
  have hf : M.n - X.n0 + (M1.n - M.n) ≤ X.R.cells ∧ M.sl - X.sl0 + (M1.sl - M.sl) ≤ X.R.slots := ⟨by have := hX.hcells; omega, by have := hX.hslots; omega⟩
  exact s_core hX h h2 h5 h6 h7 h8 m1 r2 (va_runSN (As := As) (rest := st) ⟨hX.hx, hX.hb, hX.hml, hX.hown, hX.hts⟩ (hCt.met X.w r1) ⟨va_cnB n hX.hts (lw_meth q5) rfl rfl rfl (hX.nest q1) (hX.hts _ q3) hyc ⟨by rw [hX.hfr]; exact hR.1, by rw [hX.hlo]; exact hR.2⟩, hX.hts _ q2, trivial⟩ ⟨pre_blind, fun U hU hW => ⟨rfl, hX.base, hX.warm.trans hW, Z, hX.hRp ▸ h3, by rw [hU]; exact h4⟩⟩ rfl hn (by rw [h6.1, hX.hnL]) rfl (lv_room hst) hd hf)
theorem s_callVN (hX : Ok X Rp cc own nL rt fr lo) {ci x : Nat} {As : List Value} {host : String} (hC : CpK Rp (ci + 1)) (hci : ci < 20) (hCt : Ct X.l Rp y (ws_ y bytes maxL rt2) fr2 lo2 cw (rv x :: As) fc) (q1 : Cond.methodLinkNest own index y host ∈ lw_tbl) (q2 : Cond.instanceMethod y ∈ lw_all) (q3 : Cond.selects (RR ci) y y ∈ lw_all) (q4 : Cond.initialized y.cls ∈ lw_all) (q5 : Cond.code y bytes maxL rt2 ∈ lw_all) (hyc : y.cls ≠ "java/lang/invoke/MethodHandle" ∧ y.cls ≠ "java/lang/invoke/VarHandle" ∧ (parseMethodDescriptor y.desc).map (fun d => d.parameters.length) = some n) (hR : fr2 + 1 ≤ fr ∧ 8 + (maxL + 11) + lo2 ≤ lo) (hn : As.length = n) (hst : (st.map fun v => v.category).sum ≤ 8) (hd : decode cc pc = .ok (.invokevirtual index, 3)) (h : ∀ v, Sim X cv (pc + 3) L ((cw v).toList ++ st) (k v)) : Sim X cv pc L (As.reverse ++ rv x :: st) (bnd (gd ci x (nt fc)) k) := by
  intro M Z H locs ls rr h1 h2 h3 h4 h5 h6 h7 h8 h9 h10
  obtain ⟨hk, h1⟩ := bnd_gd h1
  obtain ⟨v, M1, r1, r2⟩ := bnd_nt h1
  have m1 := fc.mono r1
  have m2 := (k v).mono r2
  have hf : M.n - X.n0 + (M1.n - M.n) ≤ X.R.cells ∧ M.sl - X.sl0 + (M1.sl - M.sl) ≤ X.R.slots := ⟨by have := hX.hcells; omega, by have := hX.hslots; omega⟩
  have g1 : okr ci x Z := Or.inl (hC M Z x (hX.hRp ▸ h3) hk)
  obtain ⟨a, rfl, cell, o1, o2, o3, o4⟩ := rep_obj h4 (by omega : ci < 20) g1
  have hcl := (hX.hK.1 ci _ (cl_at ci (by omega))).2.1
  exact s_core hX h h2 h5 h6 h7 h8 m1 r2 (va_runVN (C := RR ci) (b := a) (As := As) (rest := st) ⟨hX.hx, hX.hb, hX.hml, hX.hown, hX.hts⟩ (hCt.met X.w r1) ⟨va_cnB n hX.hts (lw_meth q5) rfl rfl rfl (hX.nest q1) (hX.hts _ q4) hyc ⟨by rw [hX.hfr]; exact hR.1, by rw [hX.hlo]; exact hR.2⟩, hX.hts _ q2, hX.hts _ q3⟩ ⟨pre_blind, ⟨cell, o1, by rw [o3]; rfl, by rw [o2]; exact hcl⟩, fun U hU hW => ⟨rfl, hX.base, hX.warm.trans hW, Z, hX.hRp ▸ h3, by rw [hU]; exact h4⟩⟩ rfl hn (by rw [h6.1, hX.hnL]) rfl (lv_room hst) hd hf)
theorem s_callI (hX : Ok X Rp cc own nL rt fr lo) {ci x : Nat} {As : List Value} (hC : CpK Rp (ci + 1)) (hci : ci < 20) (hCt : Ct X.l Rp y (ws_ y bytes maxL none) fr2 lo2 cw (rv x :: As) fc) (q1 : Cond.methodLink own index y ∈ lw_all) (q2 : Cond.instanceMethod y ∈ lw_all) (q4 : Cond.initialized y.cls ∈ lw_all) (q5 : Cond.code y bytes maxL none ∈ lw_all) (hy1 : y.name = "<init>") (hyc : y.cls ≠ "java/lang/invoke/MethodHandle" ∧ y.cls ≠ "java/lang/invoke/VarHandle" ∧ (parseMethodDescriptor y.desc).map (fun d => d.parameters.length) = some n) (hR : fr2 + 1 ≤ fr ∧ 8 + (maxL + 11) + lo2 ≤ lo) (hn : As.length = n) (hst : (st.map fun v => v.category).sum ≤ 8) (hd : decode cc pc = .ok (.invokespecial index, 3)) (h : ∀ v, Sim X cv (pc + 3) L ((cw v).toList ++ st) (k v)) : Sim X cv pc L (As.reverse ++ rv x :: st) (bnd (gd ci x (nt fc)) k) := by
  intro M Z H locs ls rr h1 h2 h3 h4 h5 h6 h7 h8 h9 h10
  obtain ⟨hk, h1⟩ := bnd_gd h1
  obtain ⟨v, M1, r1, r2⟩ := bnd_nt h1
  have m1 := fc.mono r1
  have m2 := (k v).mono r2
  have hf : M.n - X.n0 + (M1.n - M.n) ≤ X.R.cells ∧ M.sl - X.sl0 + (M1.sl - M.sl) ≤ X.R.slots := ⟨by have := hX.hcells; omega, by have := hX.hslots; omega⟩
  have g1 : okr ci x Z := Or.inl (hC M Z x (hX.hRp ▸ h3) hk)
  obtain ⟨a, rfl, cell, o1, o2, o3, o4⟩ := rep_obj h4 (by omega : ci < 20) g1
  have hcl := (hX.hK.1 ci _ (cl_at ci (by omega))).2.1
  exact s_core hX h h2 h5 h6 h7 h8 m1 r2 (va_runI (b := a) (As := As) (rest := st) ⟨hX.hx, hX.hb, hX.hml, hX.hown, hX.hts⟩ (hCt.met X.w r1) (cwI n hX.hts (lw_meth q5) rfl rfl rfl (hX.hts _ q4) (hX.hts _ q1) (hX.hts _ q2) hy1 hyc ⟨by rw [hX.hfr]; exact hR.1, by rw [hX.hlo]; exact hR.2⟩) ⟨pre_blind, fun U hU hW => ⟨rfl, hX.base, hX.warm.trans hW, Z, hX.hRp ▸ h3, by rw [hU]; exact h4⟩⟩ rfl hn (by rw [h6.1, hX.hnL]) rfl (lv_room hst) hd hf)
theorem s_callIN (hX : Ok X Rp cc own nL rt fr lo) {ci x : Nat} {As : List Value} (hC : CpK Rp (ci + 1)) (hci : ci < 20) (hCt : Ct X.l Rp y (ws_ y bytes maxL none) fr2 lo2 cw (rv x :: As) fc) {host : String} (q1 : Cond.methodLinkNest own index y host ∈ lw_tbl) (q2 : Cond.instanceMethod y ∈ lw_all) (q4 : Cond.initialized y.cls ∈ lw_all) (q5 : Cond.code y bytes maxL none ∈ lw_all) (hy1 : y.name = "<init>") (hyc : y.cls ≠ "java/lang/invoke/MethodHandle" ∧ y.cls ≠ "java/lang/invoke/VarHandle" ∧ (parseMethodDescriptor y.desc).map (fun d => d.parameters.length) = some n) (hR : fr2 + 1 ≤ fr ∧ 8 + (maxL + 11) + lo2 ≤ lo) (hn : As.length = n) (hst : (st.map fun v => v.category).sum ≤ 8) (hd : decode cc pc = .ok (.invokespecial index, 3)) (h : ∀ v, Sim X cv (pc + 3) L ((cw v).toList ++ st) (k v)) : Sim X cv pc L (As.reverse ++ rv x :: st) (bnd (gd ci x (nt fc)) k) := by
  intro M Z H locs ls rr h1 h2 h3 h4 h5 h6 h7 h8 h9 h10
  obtain ⟨hk, h1⟩ := bnd_gd h1
  obtain ⟨v, M1, r1, r2⟩ := bnd_nt h1
  have m1 := fc.mono r1
  have m2 := (k v).mono r2
  have hf : M.n - X.n0 + (M1.n - M.n) ≤ X.R.cells ∧ M.sl - X.sl0 + (M1.sl - M.sl) ≤ X.R.slots := ⟨by have := hX.hcells; omega, by have := hX.hslots; omega⟩
  have g1 : okr ci x Z := Or.inl (hC M Z x (hX.hRp ▸ h3) hk)
  obtain ⟨a, rfl, cell, o1, o2, o3, o4⟩ := rep_obj h4 (by omega : ci < 20) g1
  have hcl := (hX.hK.1 ci _ (cl_at ci (by omega))).2.1
  exact s_core hX h h2 h5 h6 h7 h8 m1 r2 (va_runIN (b := a) (As := As) (rest := st) ⟨hX.hx, hX.hb, hX.hml, hX.hown, hX.hts⟩ (hCt.met X.w r1) ⟨va_cnB n hX.hts (lw_meth q5) rfl rfl rfl (hX.nest q1) (hX.hts _ q4) hyc ⟨by rw [hX.hfr]; exact hR.1, by rw [hX.hlo]; exact hR.2⟩, hy1, hX.hts _ q2⟩ ⟨pre_blind, fun U hU hW => ⟨rfl, hX.base, hX.warm.trans hW, Z, hX.hRp ▸ h3, by rw [hU]; exact h4⟩⟩ rfl hn (by rw [h6.1, hX.hnL]) rfl (lv_room hst) hd hf)
theorem s_objInit (hX : Ok X Rp cc own nL rt fr lo) {x : Nat} {f : Act α} (hnl : nL ≤ 100000) (q1 : Cond.methodLink own index Lib.objectInit ∈ lw_all) (q2 : Cond.instanceMethod Lib.objectInit ∈ lw_all) (q3 : Cond.code Lib.objectInit ⟨#[0xb1]⟩ 1 none ∈ lw_all) (hf1 : 1 ≤ fr) (hl1 : (st.map fun v => v.category).sum + 12 ≤ lo) (hd : decode cc pc = .ok (.invokespecial index, 3)) (h : Sim X cv (pc + 3) L st f) : Sim X cv pc L (rv (x + 1) :: st) f := by
  intro M Z H locs ls rr h1 h2 h3 h4 h5 h6 h7 h8 h9 h10
  refine W.objInit (g := F0 X.m pc ls (.ref x :: st)) hX.hx hX.hb hX.hown (hX.hts _ q1) (hX.hts _ q2) (hX.hts _ q3) rfl (by rw [hX.hml]; exact h6.1.trans hX.hnL) rfl hd (by rw [hX.hfr]; exact hf1) (by rw [hX.hlo]; show 2 * 0 + _ + 12 ≤ lo; omega) ?_
  exact h M Z H locs ls rr h1 h2 h3 h4 h5 h6 h7 h8 h9 h10
/-- the reference isn't null (Object's constructor is called on it) -/
def nn {α : Type} (x : Nat) (f : Act α) : Act α := if x = 0 then fail else f
theorem s_oinit (hX : Ok X Rp cc own nL rt fr lo) {x : Nat} {f : Act α} (hnl : nL ≤ 100000) (q1 : Cond.methodLink own index Lib.objectInit ∈ lw_all) (q2 : Cond.instanceMethod Lib.objectInit ∈ lw_all) (q3 : Cond.code Lib.objectInit ⟨#[0xb1]⟩ 1 none ∈ lw_all) (hf1 : 1 ≤ fr) (hl1 : (st.map fun v => v.category).sum + 12 ≤ lo) (hd : decode cc pc = .ok (.invokespecial index, 3)) (h : Sim X cv (pc + 3) L st f) : Sim X cv pc L (rv x :: st) (nn x f) := by
  unfold nn
  cases x with
  | zero => rw [if_pos rfl]; exact s_fail
  | succ a => rw [if_neg (Nat.succ_ne_zero a)]; exact s_objInit hX hnl q1 q2 q3 hf1 hl1 hd h
theorem s_iret {X : Cx} {Rp : Mem → Mem → Prop} {cc : ByteArray} {own : String} {nL : Nat} {fr lo : Nat} {pc : Nat} {L : List (Nat × Value)} {v : Int32} (hX : Ok X Rp cc own nL (some .int) fr lo)  (hd : decode cc pc = .ok (.ireturn, 1)) : Sim X cvI pc L [.int v] (pur v) := by
  intro M Z H locs ls rr h1 h2 h3 h4 h5 h6 h7 h8 h9 h10
  cases h1
  refine W.mono ?_ (W.iret (Qc := fun _ s o t => t.heap = H ∧ o = X.o) (free := X.w.A) hX.hx hX.hb hX.hr  (fun t ht hW => ⟨ht, h2⟩) h5.2.2 hd hX.hlocks)
  intro t ⟨o, a1, a2, ⟨a3, a4⟩, LL, ⟨_, a5, a6⟩, a7⟩
  subst a4
  exact hX.hQ t a1 a2 ⟨Z, h3, by rw [a3]; exact h4⟩ a5 (h5.F a3) ⟨LL, a6, a7⟩
theorem s_lret {X : Cx} {Rp : Mem → Mem → Prop} {cc : ByteArray} {own : String} {nL : Nat} {fr lo : Nat} {pc : Nat} {L : List (Nat × Value)} {v : Int64} (hX : Ok X Rp cc own nL (some .long) fr lo)  (hd : decode cc pc = .ok (.lreturn, 1)) : Sim X cvL pc L [.long v] (pur v) := by
  intro M Z H locs ls rr h1 h2 h3 h4 h5 h6 h7 h8 h9 h10
  cases h1
  refine W.mono ?_ (W.lret (Qc := fun _ s o t => t.heap = H ∧ o = X.o) (free := X.w.A) hX.hx hX.hb hX.hr  (fun t ht hW => ⟨ht, h2⟩) h5.2.2 hd hX.hlocks)
  intro t ⟨o, a1, a2, ⟨a3, a4⟩, LL, ⟨_, a5, a6⟩, a7⟩
  subst a4
  exact hX.hQ t a1 a2 ⟨Z, h3, by rw [a3]; exact h4⟩ a5 (h5.F a3) ⟨LL, a6, a7⟩
theorem s_vret {X : Cx} {Rp : Mem → Mem → Prop} {cc : ByteArray} {own : String} {nL : Nat} {fr lo : Nat} {pc : Nat} {L : List (Nat × Value)}  (hX : Ok X Rp cc own nL none fr lo)  (hd : decode cc pc = .ok (.return_, 1)) : Sim X cvU pc L [] (pur ()) := by
  intro M Z H locs ls rr h1 h2 h3 h4 h5 h6 h7 h8 h9 h10
  cases h1
  refine W.mono ?_ (W.vret (Qc := fun _ s o t => t.heap = H ∧ o = X.o) (free := X.w.A) hX.hx hX.hb hX.hr  (fun t ht hW => ⟨ht, h2⟩) h5.2.2 hd hX.hlocks)
  intro t ⟨o, a1, a2, ⟨a3, a4⟩, LL, ⟨_, a5, a6⟩, a7⟩
  subst a4
  exact hX.hQ t a1 a2 ⟨Z, h3, by rw [a3]; exact h4⟩ a5 (h5.F a3) ⟨LL, a6, a7⟩
theorem s_aret {X : Cx} {Rp : Mem → Mem → Prop} {cc : ByteArray} {own : String} {nL : Nat} {fr lo : Nat} {pc : Nat} {L : List (Nat × Value)} {v : Nat} {rt : FieldType} (hX : Ok X Rp cc own nL (some rt) fr lo) (hrt : (∃ n, rt = .object n) ∨ ∃ t, rt = .array t) (hd : decode cc pc = .ok (.areturn, 1)) : Sim X cvR pc L [rv v] (pur v) := by
  intro M Z H locs ls rr h1 h2 h3 h4 h5 h6 h7 h8 h9 h10
  cases h1
  refine W.mono ?_ (W.aret (Qc := fun _ s o t => t.heap = H ∧ o = X.o) (free := X.w.A) hX.hx hX.hb hX.hr hrt (va_rf_or _) (fun t ht hW => ⟨ht, h2⟩) h5.2.2 hd hX.hlocks)
  intro t ⟨o, a1, a2, ⟨a3, a4⟩, LL, ⟨_, a5, a6⟩, a7⟩
  subst a4
  exact hX.hQ t a1 a2 ⟨Z, h3, by rw [a3]; exact h4⟩ a5 (h5.F a3) ⟨LL, a6, a7⟩
/-- an answer of a small type: the number must fit it -/
def purS {ty : FieldType} (v : Int32) : Act Int32 := if narrow ty (.int v) = .int v then pur v else fail
theorem s_zret {ty : FieldType} {v : Int32} (hX : Ok X Rp cc own nL (some ty) fr lo) (hd : decode cc pc = .ok (.ireturn, 1)) : Sim X cvI pc L [.int v] (purS (ty := ty) v) := by
  unfold purS
  by_cases hnar : narrow ty (.int v) = .int v
  · rw [if_pos hnar]
    intro M Z H locs ls rr h1 h2 h3 h4 h5 h6 h7 h8 h9 h10
    cases h1
    refine W.mono ?_ (W.zret (Qc := fun _ s o t => t.heap = H ∧ o = X.o) (free := X.w.A) hX.hx hX.hb hX.hr hnar (fun t ht hW => ⟨ht, h2⟩) h5.2.2 hd hX.hlocks)
    intro t ⟨o, a1, a2, ⟨a3, a4⟩, LL, ⟨_, a5, a6⟩, a7⟩
    subst a4
    exact hX.hQ t a1 a2 ⟨Z, h3, by rw [a3]; exact h4⟩ a5 (h5.F a3) ⟨LL, a6, a7⟩
  · rw [if_neg hnar]
    exact s_fail
end CS2
section CS3
variable {α : Type} {X : Cx} {Rp : Mem → Mem → Prop} {cc bytes : ByteArray} {own : String} {nL : Nat} {rt rt2 : Option FieldType} {fr lo fr2 lo2 maxL index n : Nat} {cv : α → Option Value} {pc : Nat} {L : List (Nat × Value)} {st : List Value} {y : MethodName}
theorem s_callS_I {fc : Act Int32} {k : Int32 → Act α} (hX : Ok X Rp cc own nL rt fr lo) {As : List Value} (hCt : Ct X.l Rp y (ws_ y bytes maxL rt2) fr2 lo2 cvI As fc) (q1 : Cond.methodLink own index y ∈ lw_all) (q2 : Cond.static y ∈ lw_all) (q3 : Cond.initialized y.cls ∈ lw_all) (q5 : Cond.code y bytes maxL rt2 ∈ lw_all) (hyc : y.cls ≠ "java/lang/invoke/MethodHandle" ∧ y.cls ≠ "java/lang/invoke/VarHandle" ∧ (parseMethodDescriptor y.desc).map (fun d => d.parameters.length) = some n) (hR : fr2 + 1 ≤ fr ∧ 8 + (maxL + 11) + lo2 ≤ lo) (hn : As.length = n) (hst : (st.map fun v => v.category).sum ≤ 8) (hd : decode cc pc = .ok (.invokestatic index, 3)) (h : ∀ v, Sim X cv (pc + 3) L (.int v :: st) (k v)) : Sim X cv pc L (As.reverse ++ st) (bnd (nt fc) k) := s_callS hX hCt q1 q2 q3 q5 hyc hR hn hst hd h
theorem s_callS_L {fc : Act Int64} {k : Int64 → Act α} (hX : Ok X Rp cc own nL rt fr lo) {As : List Value} (hCt : Ct X.l Rp y (ws_ y bytes maxL rt2) fr2 lo2 cvL As fc) (q1 : Cond.methodLink own index y ∈ lw_all) (q2 : Cond.static y ∈ lw_all) (q3 : Cond.initialized y.cls ∈ lw_all) (q5 : Cond.code y bytes maxL rt2 ∈ lw_all) (hyc : y.cls ≠ "java/lang/invoke/MethodHandle" ∧ y.cls ≠ "java/lang/invoke/VarHandle" ∧ (parseMethodDescriptor y.desc).map (fun d => d.parameters.length) = some n) (hR : fr2 + 1 ≤ fr ∧ 8 + (maxL + 11) + lo2 ≤ lo) (hn : As.length = n) (hst : (st.map fun v => v.category).sum ≤ 8) (hd : decode cc pc = .ok (.invokestatic index, 3)) (h : ∀ v, Sim X cv (pc + 3) L (.long v :: st) (k v)) : Sim X cv pc L (As.reverse ++ st) (bnd (nt fc) k) := s_callS hX hCt q1 q2 q3 q5 hyc hR hn hst hd h
theorem s_callS_R {fc : Act Nat} {k : Nat → Act α} (hX : Ok X Rp cc own nL rt fr lo) {As : List Value} (hCt : Ct X.l Rp y (ws_ y bytes maxL rt2) fr2 lo2 cvR As fc) (q1 : Cond.methodLink own index y ∈ lw_all) (q2 : Cond.static y ∈ lw_all) (q3 : Cond.initialized y.cls ∈ lw_all) (q5 : Cond.code y bytes maxL rt2 ∈ lw_all) (hyc : y.cls ≠ "java/lang/invoke/MethodHandle" ∧ y.cls ≠ "java/lang/invoke/VarHandle" ∧ (parseMethodDescriptor y.desc).map (fun d => d.parameters.length) = some n) (hR : fr2 + 1 ≤ fr ∧ 8 + (maxL + 11) + lo2 ≤ lo) (hn : As.length = n) (hst : (st.map fun v => v.category).sum ≤ 8) (hd : decode cc pc = .ok (.invokestatic index, 3)) (h : ∀ v, Sim X cv (pc + 3) L (rv v :: st) (k v)) : Sim X cv pc L (As.reverse ++ st) (bnd (nt fc) k) := s_callS hX hCt q1 q2 q3 q5 hyc hR hn hst hd h
theorem s_callS_U {fc : Act Unit} {k : Unit → Act α} (hX : Ok X Rp cc own nL rt fr lo) {As : List Value} (hCt : Ct X.l Rp y (ws_ y bytes maxL rt2) fr2 lo2 cvU As fc) (q1 : Cond.methodLink own index y ∈ lw_all) (q2 : Cond.static y ∈ lw_all) (q3 : Cond.initialized y.cls ∈ lw_all) (q5 : Cond.code y bytes maxL rt2 ∈ lw_all) (hyc : y.cls ≠ "java/lang/invoke/MethodHandle" ∧ y.cls ≠ "java/lang/invoke/VarHandle" ∧ (parseMethodDescriptor y.desc).map (fun d => d.parameters.length) = some n) (hR : fr2 + 1 ≤ fr ∧ 8 + (maxL + 11) + lo2 ≤ lo) (hn : As.length = n) (hst : (st.map fun v => v.category).sum ≤ 8) (hd : decode cc pc = .ok (.invokestatic index, 3)) (h : ∀ v, Sim X cv (pc + 3) L (st) (k v)) : Sim X cv pc L (As.reverse ++ st) (bnd (nt fc) k) := s_callS hX hCt q1 q2 q3 q5 hyc hR hn hst hd h
theorem s_callSN_I {fc : Act Int32} {k : Int32 → Act α} (hX : Ok X Rp cc own nL rt fr lo) {As : List Value} {host : String} (hCt : Ct X.l Rp y (ws_ y bytes maxL rt2) fr2 lo2 cvI As fc) (q1 : Cond.methodLinkNest own index y host ∈ lw_tbl) (q2 : Cond.static y ∈ lw_all) (q3 : Cond.initialized y.cls ∈ lw_all) (q5 : Cond.code y bytes maxL rt2 ∈ lw_all) (hyc : y.cls ≠ "java/lang/invoke/MethodHandle" ∧ y.cls ≠ "java/lang/invoke/VarHandle" ∧ (parseMethodDescriptor y.desc).map (fun d => d.parameters.length) = some n) (hR : fr2 + 1 ≤ fr ∧ 8 + (maxL + 11) + lo2 ≤ lo) (hn : As.length = n) (hst : (st.map fun v => v.category).sum ≤ 8) (hd : decode cc pc = .ok (.invokestatic index, 3)) (h : ∀ v, Sim X cv (pc + 3) L (.int v :: st) (k v)) : Sim X cv pc L (As.reverse ++ st) (bnd (nt fc) k) := s_callSN hX hCt q1 q2 q3 q5 hyc hR hn hst hd h
theorem s_callSN_L {fc : Act Int64} {k : Int64 → Act α} (hX : Ok X Rp cc own nL rt fr lo) {As : List Value} {host : String} (hCt : Ct X.l Rp y (ws_ y bytes maxL rt2) fr2 lo2 cvL As fc) (q1 : Cond.methodLinkNest own index y host ∈ lw_tbl) (q2 : Cond.static y ∈ lw_all) (q3 : Cond.initialized y.cls ∈ lw_all) (q5 : Cond.code y bytes maxL rt2 ∈ lw_all) (hyc : y.cls ≠ "java/lang/invoke/MethodHandle" ∧ y.cls ≠ "java/lang/invoke/VarHandle" ∧ (parseMethodDescriptor y.desc).map (fun d => d.parameters.length) = some n) (hR : fr2 + 1 ≤ fr ∧ 8 + (maxL + 11) + lo2 ≤ lo) (hn : As.length = n) (hst : (st.map fun v => v.category).sum ≤ 8) (hd : decode cc pc = .ok (.invokestatic index, 3)) (h : ∀ v, Sim X cv (pc + 3) L (.long v :: st) (k v)) : Sim X cv pc L (As.reverse ++ st) (bnd (nt fc) k) := s_callSN hX hCt q1 q2 q3 q5 hyc hR hn hst hd h
theorem s_callSN_R {fc : Act Nat} {k : Nat → Act α} (hX : Ok X Rp cc own nL rt fr lo) {As : List Value} {host : String} (hCt : Ct X.l Rp y (ws_ y bytes maxL rt2) fr2 lo2 cvR As fc) (q1 : Cond.methodLinkNest own index y host ∈ lw_tbl) (q2 : Cond.static y ∈ lw_all) (q3 : Cond.initialized y.cls ∈ lw_all) (q5 : Cond.code y bytes maxL rt2 ∈ lw_all) (hyc : y.cls ≠ "java/lang/invoke/MethodHandle" ∧ y.cls ≠ "java/lang/invoke/VarHandle" ∧ (parseMethodDescriptor y.desc).map (fun d => d.parameters.length) = some n) (hR : fr2 + 1 ≤ fr ∧ 8 + (maxL + 11) + lo2 ≤ lo) (hn : As.length = n) (hst : (st.map fun v => v.category).sum ≤ 8) (hd : decode cc pc = .ok (.invokestatic index, 3)) (h : ∀ v, Sim X cv (pc + 3) L (rv v :: st) (k v)) : Sim X cv pc L (As.reverse ++ st) (bnd (nt fc) k) := s_callSN hX hCt q1 q2 q3 q5 hyc hR hn hst hd h
theorem s_callSN_U {fc : Act Unit} {k : Unit → Act α} (hX : Ok X Rp cc own nL rt fr lo) {As : List Value} {host : String} (hCt : Ct X.l Rp y (ws_ y bytes maxL rt2) fr2 lo2 cvU As fc) (q1 : Cond.methodLinkNest own index y host ∈ lw_tbl) (q2 : Cond.static y ∈ lw_all) (q3 : Cond.initialized y.cls ∈ lw_all) (q5 : Cond.code y bytes maxL rt2 ∈ lw_all) (hyc : y.cls ≠ "java/lang/invoke/MethodHandle" ∧ y.cls ≠ "java/lang/invoke/VarHandle" ∧ (parseMethodDescriptor y.desc).map (fun d => d.parameters.length) = some n) (hR : fr2 + 1 ≤ fr ∧ 8 + (maxL + 11) + lo2 ≤ lo) (hn : As.length = n) (hst : (st.map fun v => v.category).sum ≤ 8) (hd : decode cc pc = .ok (.invokestatic index, 3)) (h : ∀ v, Sim X cv (pc + 3) L (st) (k v)) : Sim X cv pc L (As.reverse ++ st) (bnd (nt fc) k) := s_callSN hX hCt q1 q2 q3 q5 hyc hR hn hst hd h
theorem s_callV_I {fc : Act Int32} {k : Int32 → Act α} (hX : Ok X Rp cc own nL rt fr lo) {ci x : Nat} {As : List Value} (hC : CpK Rp (ci + 1)) (hci : ci < 20) (hCt : Ct X.l Rp y (ws_ y bytes maxL rt2) fr2 lo2 cvI (rv x :: As) fc)
    (q1 : Cond.methodLink own index y ∈ lw_all) (q2 : Cond.instanceMethod y ∈ lw_all) (q3 : Cond.selects (RR ci) y y ∈ lw_all) (q4 : Cond.initialized (RR ci) ∈ lw_all) (q5 : Cond.code y bytes maxL rt2 ∈ lw_all)
    (hyc : y.cls = RR ci ∧ y.cls ≠ "java/lang/invoke/MethodHandle" ∧ y.cls ≠ "java/lang/invoke/VarHandle" ∧ (parseMethodDescriptor y.desc).map (fun d => d.parameters.length) = some n) (hR : fr2 + 1 ≤ fr ∧ 8 + (maxL + 11) + lo2 ≤ lo) (hn : As.length = n) (hst : (st.map fun v => v.category).sum ≤ 8)
    (hd : decode cc pc = .ok (.invokevirtual index, 3)) (h : ∀ v, Sim X cv (pc + 3) L (.int v :: st) (k v)) : Sim X cv pc L (As.reverse ++ rv x :: st) (bnd (gd ci x (nt fc)) k) := s_callV hX hC hci hCt q1 q2 q3 q4 q5 hyc hR hn hst hd h
theorem s_callV_L {fc : Act Int64} {k : Int64 → Act α} (hX : Ok X Rp cc own nL rt fr lo) {ci x : Nat} {As : List Value} (hC : CpK Rp (ci + 1)) (hci : ci < 20) (hCt : Ct X.l Rp y (ws_ y bytes maxL rt2) fr2 lo2 cvL (rv x :: As) fc)
    (q1 : Cond.methodLink own index y ∈ lw_all) (q2 : Cond.instanceMethod y ∈ lw_all) (q3 : Cond.selects (RR ci) y y ∈ lw_all) (q4 : Cond.initialized (RR ci) ∈ lw_all) (q5 : Cond.code y bytes maxL rt2 ∈ lw_all)
    (hyc : y.cls = RR ci ∧ y.cls ≠ "java/lang/invoke/MethodHandle" ∧ y.cls ≠ "java/lang/invoke/VarHandle" ∧ (parseMethodDescriptor y.desc).map (fun d => d.parameters.length) = some n) (hR : fr2 + 1 ≤ fr ∧ 8 + (maxL + 11) + lo2 ≤ lo) (hn : As.length = n) (hst : (st.map fun v => v.category).sum ≤ 8)
    (hd : decode cc pc = .ok (.invokevirtual index, 3)) (h : ∀ v, Sim X cv (pc + 3) L (.long v :: st) (k v)) : Sim X cv pc L (As.reverse ++ rv x :: st) (bnd (gd ci x (nt fc)) k) := s_callV hX hC hci hCt q1 q2 q3 q4 q5 hyc hR hn hst hd h
theorem s_callV_R {fc : Act Nat} {k : Nat → Act α} (hX : Ok X Rp cc own nL rt fr lo) {ci x : Nat} {As : List Value} (hC : CpK Rp (ci + 1)) (hci : ci < 20) (hCt : Ct X.l Rp y (ws_ y bytes maxL rt2) fr2 lo2 cvR (rv x :: As) fc)
    (q1 : Cond.methodLink own index y ∈ lw_all) (q2 : Cond.instanceMethod y ∈ lw_all) (q3 : Cond.selects (RR ci) y y ∈ lw_all) (q4 : Cond.initialized (RR ci) ∈ lw_all) (q5 : Cond.code y bytes maxL rt2 ∈ lw_all)
    (hyc : y.cls = RR ci ∧ y.cls ≠ "java/lang/invoke/MethodHandle" ∧ y.cls ≠ "java/lang/invoke/VarHandle" ∧ (parseMethodDescriptor y.desc).map (fun d => d.parameters.length) = some n) (hR : fr2 + 1 ≤ fr ∧ 8 + (maxL + 11) + lo2 ≤ lo) (hn : As.length = n) (hst : (st.map fun v => v.category).sum ≤ 8)
    (hd : decode cc pc = .ok (.invokevirtual index, 3)) (h : ∀ v, Sim X cv (pc + 3) L (rv v :: st) (k v)) : Sim X cv pc L (As.reverse ++ rv x :: st) (bnd (gd ci x (nt fc)) k) := s_callV hX hC hci hCt q1 q2 q3 q4 q5 hyc hR hn hst hd h
theorem s_callV_U {fc : Act Unit} {k : Unit → Act α} (hX : Ok X Rp cc own nL rt fr lo) {ci x : Nat} {As : List Value} (hC : CpK Rp (ci + 1)) (hci : ci < 20) (hCt : Ct X.l Rp y (ws_ y bytes maxL rt2) fr2 lo2 cvU (rv x :: As) fc)
    (q1 : Cond.methodLink own index y ∈ lw_all) (q2 : Cond.instanceMethod y ∈ lw_all) (q3 : Cond.selects (RR ci) y y ∈ lw_all) (q4 : Cond.initialized (RR ci) ∈ lw_all) (q5 : Cond.code y bytes maxL rt2 ∈ lw_all)
    (hyc : y.cls = RR ci ∧ y.cls ≠ "java/lang/invoke/MethodHandle" ∧ y.cls ≠ "java/lang/invoke/VarHandle" ∧ (parseMethodDescriptor y.desc).map (fun d => d.parameters.length) = some n) (hR : fr2 + 1 ≤ fr ∧ 8 + (maxL + 11) + lo2 ≤ lo) (hn : As.length = n) (hst : (st.map fun v => v.category).sum ≤ 8)
    (hd : decode cc pc = .ok (.invokevirtual index, 3)) (h : ∀ v, Sim X cv (pc + 3) L (st) (k v)) : Sim X cv pc L (As.reverse ++ rv x :: st) (bnd (gd ci x (nt fc)) k) := s_callV hX hC hci hCt q1 q2 q3 q4 q5 hyc hR hn hst hd h
theorem s_callVN_I {fc : Act Int32} {k : Int32 → Act α} (hX : Ok X Rp cc own nL rt fr lo) {ci x : Nat} {As : List Value} {host : String} (hC : CpK Rp (ci + 1)) (hci : ci < 20) (hCt : Ct X.l Rp y (ws_ y bytes maxL rt2) fr2 lo2 cvI (rv x :: As) fc) (q1 : Cond.methodLinkNest own index y host ∈ lw_tbl) (q2 : Cond.instanceMethod y ∈ lw_all) (q3 : Cond.selects (RR ci) y y ∈ lw_all) (q4 : Cond.initialized y.cls ∈ lw_all) (q5 : Cond.code y bytes maxL rt2 ∈ lw_all) (hyc : y.cls ≠ "java/lang/invoke/MethodHandle" ∧ y.cls ≠ "java/lang/invoke/VarHandle" ∧ (parseMethodDescriptor y.desc).map (fun d => d.parameters.length) = some n) (hR : fr2 + 1 ≤ fr ∧ 8 + (maxL + 11) + lo2 ≤ lo) (hn : As.length = n) (hst : (st.map fun v => v.category).sum ≤ 8) (hd : decode cc pc = .ok (.invokevirtual index, 3)) (h : ∀ v, Sim X cv (pc + 3) L (.int v :: st) (k v)) : Sim X cv pc L (As.reverse ++ rv x :: st) (bnd (gd ci x (nt fc)) k) := s_callVN hX hC hci hCt q1 q2 q3 q4 q5 hyc hR hn hst hd h
theorem s_callVN_L {fc : Act Int64} {k : Int64 → Act α} (hX : Ok X Rp cc own nL rt fr lo) {ci x : Nat} {As : List Value} {host : String} (hC : CpK Rp (ci + 1)) (hci : ci < 20) (hCt : Ct X.l Rp y (ws_ y bytes maxL rt2) fr2 lo2 cvL (rv x :: As) fc) (q1 : Cond.methodLinkNest own index y host ∈ lw_tbl) (q2 : Cond.instanceMethod y ∈ lw_all) (q3 : Cond.selects (RR ci) y y ∈ lw_all) (q4 : Cond.initialized y.cls ∈ lw_all) (q5 : Cond.code y bytes maxL rt2 ∈ lw_all) (hyc : y.cls ≠ "java/lang/invoke/MethodHandle" ∧ y.cls ≠ "java/lang/invoke/VarHandle" ∧ (parseMethodDescriptor y.desc).map (fun d => d.parameters.length) = some n) (hR : fr2 + 1 ≤ fr ∧ 8 + (maxL + 11) + lo2 ≤ lo) (hn : As.length = n) (hst : (st.map fun v => v.category).sum ≤ 8) (hd : decode cc pc = .ok (.invokevirtual index, 3)) (h : ∀ v, Sim X cv (pc + 3) L (.long v :: st) (k v)) : Sim X cv pc L (As.reverse ++ rv x :: st) (bnd (gd ci x (nt fc)) k) := s_callVN hX hC hci hCt q1 q2 q3 q4 q5 hyc hR hn hst hd h
theorem s_callVN_R {fc : Act Nat} {k : Nat → Act α} (hX : Ok X Rp cc own nL rt fr lo) {ci x : Nat} {As : List Value} {host : String} (hC : CpK Rp (ci + 1)) (hci : ci < 20) (hCt : Ct X.l Rp y (ws_ y bytes maxL rt2) fr2 lo2 cvR (rv x :: As) fc) (q1 : Cond.methodLinkNest own index y host ∈ lw_tbl) (q2 : Cond.instanceMethod y ∈ lw_all) (q3 : Cond.selects (RR ci) y y ∈ lw_all) (q4 : Cond.initialized y.cls ∈ lw_all) (q5 : Cond.code y bytes maxL rt2 ∈ lw_all) (hyc : y.cls ≠ "java/lang/invoke/MethodHandle" ∧ y.cls ≠ "java/lang/invoke/VarHandle" ∧ (parseMethodDescriptor y.desc).map (fun d => d.parameters.length) = some n) (hR : fr2 + 1 ≤ fr ∧ 8 + (maxL + 11) + lo2 ≤ lo) (hn : As.length = n) (hst : (st.map fun v => v.category).sum ≤ 8) (hd : decode cc pc = .ok (.invokevirtual index, 3)) (h : ∀ v, Sim X cv (pc + 3) L (rv v :: st) (k v)) : Sim X cv pc L (As.reverse ++ rv x :: st) (bnd (gd ci x (nt fc)) k) := s_callVN hX hC hci hCt q1 q2 q3 q4 q5 hyc hR hn hst hd h
theorem s_callVN_U {fc : Act Unit} {k : Unit → Act α} (hX : Ok X Rp cc own nL rt fr lo) {ci x : Nat} {As : List Value} {host : String} (hC : CpK Rp (ci + 1)) (hci : ci < 20) (hCt : Ct X.l Rp y (ws_ y bytes maxL rt2) fr2 lo2 cvU (rv x :: As) fc) (q1 : Cond.methodLinkNest own index y host ∈ lw_tbl) (q2 : Cond.instanceMethod y ∈ lw_all) (q3 : Cond.selects (RR ci) y y ∈ lw_all) (q4 : Cond.initialized y.cls ∈ lw_all) (q5 : Cond.code y bytes maxL rt2 ∈ lw_all) (hyc : y.cls ≠ "java/lang/invoke/MethodHandle" ∧ y.cls ≠ "java/lang/invoke/VarHandle" ∧ (parseMethodDescriptor y.desc).map (fun d => d.parameters.length) = some n) (hR : fr2 + 1 ≤ fr ∧ 8 + (maxL + 11) + lo2 ≤ lo) (hn : As.length = n) (hst : (st.map fun v => v.category).sum ≤ 8) (hd : decode cc pc = .ok (.invokevirtual index, 3)) (h : ∀ v, Sim X cv (pc + 3) L (st) (k v)) : Sim X cv pc L (As.reverse ++ rv x :: st) (bnd (gd ci x (nt fc)) k) := s_callVN hX hC hci hCt q1 q2 q3 q4 q5 hyc hR hn hst hd h
theorem s_callI_U {fc : Act Unit} {k : Unit → Act α} (hX : Ok X Rp cc own nL rt fr lo) {ci x : Nat} {As : List Value} (hC : CpK Rp (ci + 1)) (hci : ci < 20) (hCt : Ct X.l Rp y (ws_ y bytes maxL none) fr2 lo2 cvU (rv x :: As) fc) (q1 : Cond.methodLink own index y ∈ lw_all) (q2 : Cond.instanceMethod y ∈ lw_all) (q4 : Cond.initialized y.cls ∈ lw_all) (q5 : Cond.code y bytes maxL none ∈ lw_all) (hy1 : y.name = "<init>") (hyc : y.cls ≠ "java/lang/invoke/MethodHandle" ∧ y.cls ≠ "java/lang/invoke/VarHandle" ∧ (parseMethodDescriptor y.desc).map (fun d => d.parameters.length) = some n) (hR : fr2 + 1 ≤ fr ∧ 8 + (maxL + 11) + lo2 ≤ lo) (hn : As.length = n) (hst : (st.map fun v => v.category).sum ≤ 8) (hd : decode cc pc = .ok (.invokespecial index, 3)) (h : ∀ v, Sim X cv (pc + 3) L (st) (k v)) : Sim X cv pc L (As.reverse ++ rv x :: st) (bnd (gd ci x (nt fc)) k) := s_callI hX hC hci hCt q1 q2 q4 q5 hy1 hyc hR hn hst hd h
theorem s_callIN_U {fc : Act Unit} {k : Unit → Act α} (hX : Ok X Rp cc own nL rt fr lo) {ci x : Nat} {As : List Value} (hC : CpK Rp (ci + 1)) (hci : ci < 20) (hCt : Ct X.l Rp y (ws_ y bytes maxL none) fr2 lo2 cvU (rv x :: As) fc) {host : String} (q1 : Cond.methodLinkNest own index y host ∈ lw_tbl) (q2 : Cond.instanceMethod y ∈ lw_all) (q4 : Cond.initialized y.cls ∈ lw_all) (q5 : Cond.code y bytes maxL none ∈ lw_all) (hy1 : y.name = "<init>") (hyc : y.cls ≠ "java/lang/invoke/MethodHandle" ∧ y.cls ≠ "java/lang/invoke/VarHandle" ∧ (parseMethodDescriptor y.desc).map (fun d => d.parameters.length) = some n) (hR : fr2 + 1 ≤ fr ∧ 8 + (maxL + 11) + lo2 ≤ lo) (hn : As.length = n) (hst : (st.map fun v => v.category).sum ≤ 8) (hd : decode cc pc = .ok (.invokespecial index, 3)) (h : ∀ v, Sim X cv (pc + 3) L (st) (k v)) : Sim X cv pc L (As.reverse ++ rv x :: st) (bnd (gd ci x (nt fc)) k) := s_callIN hX hC hci hCt q1 q2 q4 q5 hy1 hyc hR hn hst hd h
end CS3
