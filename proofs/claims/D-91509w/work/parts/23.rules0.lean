set_option maxRecDepth 100000
/-! ===== a handler whose class may have to be resolved first ===== -/
theorem go_cold {E : CtlPost} {e : Env} {d : Bool} {acts : List Action} {s : State} {f : JFrame} {a : Addr} {Q : Handler → Pre} {x : ExceptionTableEntry} {t : List ExceptionTableEntry} {c : ClassId} {cell : Cell} (hx : covers x f.pc = true) (h0 : x.catchType ≠ 0)
    (hr : s.vm.ClassLinks e.platform f.method.cls x.catchType c) (hcell : s.heap[a]? = some cell) (hobj : ∀ k, cell.vm ≠ .statics k) (hk : ∃ k, (s.vm.noted f.method.cls x.catchType (.cls c)).classes[cell.cls]? = some k) (hc : ∃ k, (s.vm.noted f.method.cls x.catchType (.cls c)).classes[c]? = some k) (hfit : (s.vm.noted f.method.cls x.catchType (.cls c)).assignable cell.cls c = true)
    (hsz : ¬ s.vm.classes.size < (s.vm.noted f.method.cls x.catchType (.cls c)).classes.size) :
    Jvm.Sem.wp (findHandler.go f a (x :: t)) Q E e d acts s ↔ Q (.found x.handlerPc) d acts (s.setVm (s.vm.noted f.method.cls x.catchType (.cls c))) := by
  simp only [covers] at hx
  have h9 : (VmOp.resolveClass f.method.cls x.catchType).answer e s.vm = .ok c ∧ (VmOp.resolveClass f.method.cls x.catchType).tables e s.vm = s.vm.noted f.method.cls x.catchType (.cls c) := (resolveClass_links e.toSetting hr).op rfl
  obtain ⟨ha, ht⟩ := h9
  simp [findHandler.go, hx, h0, ha, ht, hcell, hobj, hk, hc, hfit, hsz, VmOp.dirties, VmOp.acts, VmOp.lands]
theorem step_cold {e : Env} {s : State} {a : Addr} {f : JFrame} {r : List Frame} {pc : Nat} {vm' : Vm} (hfind : ∀ (Q : Handler → Pre) (E : CtlPost) (d : Bool) (acts : List Action), Jvm.Sem.wp (findHandler f a) Q E e d acts s ↔ Q (.found pc) d acts (s.setVm vm')) :
    (stepThrowing e s a (.java f :: r)).Is ((s.setVm vm').setFrames (.java { f with pc := pc, stack := [.ref a] } :: r)) [] := by
  simp only [stepThrowing, searchFrame, vmDo]
  generalize hr : Sem.go _ e false [] s = res
  obtain ⟨as, rfl, ha⟩ := Sem.eq_ok_of hr (a := Handler.found pc) (s' := s.setVm vm') (acts' := []) (by simp [hfind _ _ _ _])
  exact ⟨rfl, ha⟩
theorem catchCold {p : Program} {l : Launch} {e : Env} {R : Room} {s : State} {m : MethodId} {args : Array Value} {below : List Frame} {meth : Method} {c : Code} {T : State} {locs : List Loc} {cells slots : Nat} (X : Stand p l e R s m args below meth c T locs cells slots) (a : Addr) {g : JFrame} (hg : g.method = m) {own name : String} (hown : s.vm.findClass own = some m.cls)
    {x : ExceptionTableEntry} {t : List ExceptionTableEntry} (htab : c.exceptionTable.toList = x :: t) (hx : covers x g.pc = true) (h0 : x.catchType ≠ 0) (hlink : (Cond.classLink own x.catchType name).before args s = true) {cell : Cell} (hcell : T.heap[a]? = some cell) (hobj : cell.vm.isStatics = false) {cT : ClassId} (hcT : s.vm.findClass name = some cT) (hasg : s.vm.assignable cell.cls cT = true) :
    ∃ vm', Stand p l e R s m args below meth c (T.setVm vm') locs cells slots ∧ ∀ target, Steps p.tables e below ((T.setVm vm').setTop { g with pc := x.handlerPc, stack := [.ref a] }) target → Steps p.tables e below ((T.setTop g).pushFrame (.throwing a)) target := by
  have hpl : e.platform.magicAccessors = ({} : Platform).magicAccessors := by rw [X.admits.platform]
  obtain ⟨c', hc', hcl⟩ := Cond.classLink_spec hown hlink e.platform hpl
  cases hcT.symm.trans hc'
  obtain ⟨dk, _, _, kt, hd, _, _, _, _, hkt, _, hopen⟩ := hcl.here
  have hcl₀ := X.warmed.classLinks hcl
  have hW' : s.WarmedH (T.vm.noted m.cls x.catchType (.cls cT)) := X.warmed.noted hd hopen (State.rightAt_cls hcl)
  obtain ⟨ks, hks⟩ := Vm.classAt_of_assignable hasg ⟨kt, hkt⟩
  obtain ⟨ks', hks', -⟩ := hW'.alike.2.2 _ _ hks
  obtain ⟨kt', hkt', -⟩ := hW'.alike.2.2 _ _ hkt
  refine ⟨_, X.noted hW', fun target hrest => ?_⟩
  have h : At T g.method c below := by rw [hg]; exact X.here
  obtain ⟨hgo, hw⟩ := h.throwing a
  have hvm : ((T.setTop g).pushFrame (.throwing a)).vm = T.vm := Stand.throwing_vm T g a
  have hhp : ((T.setTop g).pushFrame (.throwing a)).heap = T.heap := Stand.throwing_heap T g a
  have hfind : ∀ (Q : Handler → Pre) (E : CtlPost) (d : Bool) (acts : List Action), Jvm.Sem.wp (findHandler g a) Q E e d acts ((T.setTop g).pushFrame (.throwing a)) ↔ Q (.found x.handlerPc) d acts (((T.setTop g).pushFrame (.throwing a)).setVm (T.vm.noted m.cls x.catchType (.cls cT))) := by
    intro Q E d acts
    rw [Jvm.W.findHandler_eq (meth := meth) (code := c) (by rw [hvm, hg]; exact X.method') X.code, htab]
    have K := go_cold (E := E) (e := e) (d := d) (acts := acts) (s := (T.setTop g).pushFrame (.throwing a)) (f := g) (a := a) (Q := Q) (x := x) (t := t) (c := cT) (cell := cell) hx h0 (by rw [hvm, hg]; exact hcl₀) (by rw [hhp]; exact hcell) (VmData.ne_statics_of hobj) (by rw [hvm, hg]; exact ⟨_, hks'⟩) (by rw [hvm, hg]; exact ⟨_, hkt'⟩) (by rw [hvm, hg, hW'.alike.assignable]; exact hasg) (by rw [hvm]; simp)
    rw [hvm, hg] at K
    exact K
  refine Steps.head hgo hw ?_
  rw [stepThread_throwing (frames_entered h.top _), (step_cold (s := (T.setTop g).pushFrame (.throwing a)) hfind).1]
  obtain ⟨g₀, hg0⟩ := Option.isSome_iff_exists.mp h.top
  obtain ⟨r, hr⟩ := State.topJava?_eq_some.mp hg0
  have hr' : (T.setVm (T.vm.noted m.cls x.catchType (.cls cT))).frames = .java g₀ :: r := hr
  rw [State.setTop_of_frames _ hr'] at hrest
  have e1 : (((T.setTop g).pushFrame (.throwing a)).setVm (T.vm.noted m.cls x.catchType (.cls cT))).setFrames (.java { g with pc := x.handlerPc, stack := [.ref a] } :: T.frames.tail) = (T.setVm (T.vm.noted m.cls x.catchType (.cls cT))).setFrames (.java { g with pc := x.handlerPc, stack := [.ref a] } :: r) := by
    rw [hr]
    rw [State.pushFrame, State.setTop_of_frames _ hr]
    show ((((T.setVm (T.vm.noted m.cls x.catchType (.cls cT))).setFrames _).setFrames _).setFrames _) = _
    rw [State.setFrames_setFrames, State.setFrames_setFrames]
    rfl
  rw [e1]
  exact hrest
/-- the handlers of WindGas.rules -/
def Hnd (X : Cx) : Prop := X.c.exceptionTable.toList.map (fun h => (h.startPc, h.endPc, h.handlerPc, h.catchType)) = [(59, 120, 127, 214), (59, 120, 147, 0), (127, 139, 147, 0), (147, 149, 147, 0)]
theorem Hnd.first {X : Cx} (h : Hnd X) : ∃ x t, X.c.exceptionTable.toList = x :: t ∧ x.startPc = 59 ∧ x.endPc = 120 ∧ x.handlerPc = 127 ∧ x.catchType = 214 := by
  unfold Hnd at h
  cases ht : X.c.exceptionTable.toList with
  | nil => rw [ht] at h; cases h
  | cons x t =>
    rw [ht] at h
    simp only [List.map_cons, List.cons.injEq, Prod.mk.injEq] at h
    exact ⟨x, t, rfl, h.1.1, h.1.2.1, h.1.2.2.1, h.1.2.2.2⟩
/-- an action, and what is done with what it throws -/
def cat {α β : Type} (x : Act β) (h : Nat → Act α) (k : β → Act α) : Act α := act (fun M => match x.run M with
  | some (.inl a, M1) => (k a).run M1
  | some (.inr c, M1) => (h c).run M1
  | none => none) (fun M r M' q => by
    cases hx : x.run M with
    | none => rw [hx] at q; cases q
    | some y =>
      obtain ⟨z, M1⟩ := y
      have h1 := x.mono hx
      rw [hx] at q
      cases z with
      | inl a => exact ⟨Nat.le_trans h1.1 ((k a).mono q).1, Nat.le_trans h1.2 ((k a).mono q).2⟩
      | inr c => exact ⟨Nat.le_trans h1.1 ((h c).mono q).1, Nat.le_trans h1.2 ((h c).mono q).2⟩)
theorem athrow_go {p : Program} {l : Launch} {e : Env} {R : Room} {s : State} {m : MethodId} {args : Array Value} {below : List Frame} {meth : Method} {c : Code} {T : State} {locs : List Loc} {cells slots : Nat} (X : Stand p l e R s m args below meth c T locs cells slots) (hexec : p.tables.exec = Jvm.exec) {g : JFrame} (hg : g.method = m) {a : Addr} {rest : List Value} (hstack : g.stack = .ref a :: rest) (hdg : decode c.code g.pc = .ok (.athrow, 1))
    {t : State} (hwalk : Steps p.tables e below ((T.setTop { g with stack := rest }).pushFrame (.throwing a)) t) : Steps p.tables e below (T.setTop g) t := by
  subst hg
  jvm_step X.here [hexec, hdg, athrow.wp_sem, hstack]
  exact hwalk
section CATCH
variable {α β : Type} {X : Cx} {Rp : Mem → Mem → Prop} {cc bytes : ByteArray} {nL : Nat} {rt rt2 : Option FieldType} {fr lo fr2 lo2 maxL index n : Nat} {cv : α → Option Value} {cw : β → Option Value} {pc : Nat} {L : List (Nat × Value)} {st : List Value} {y : MethodName} {fc : Act β} {k : β → Act α} {hh : Nat → Act α}
theorem s_athrowC (hX : Ok X Rp cc "WindGas" nL rt fr lo) (hnh : Hnd X) (hK : CpK Rp 12) (qc : Cond.classLink "WindGas" 214 "WindGas$Wrong" ∈ lw_all) (hpc : 59 ≤ pc ∧ pc < 120) {x : Nat} {f : Act α} (hd : decode cc pc = .ok (.athrow, 1)) (h : Sim X cv 127 L [rv x] f) : Sim X cv pc L (rv x :: st) (gd 11 x f) := by
  intro M Z H locs ls rr h1 h2 h3 h4 h5 h6 h7 h8 h9 h10
  obtain ⟨hk, hf1⟩ := gd_run h1
  clear h1
  obtain ⟨x0, t0, ht, p1, p2, p3, p4⟩ := hnh.first
  have g1 : okr 11 x Z := Or.inl (hK M Z x (hX.hRp ▸ h3) hk)
  obtain ⟨a, rfl, cell, o1, o2, o3, o4⟩ := rep_obj h4 (by omega : 11 < 20) g1
  have hcl := (hX.hK.1 11 _ (cl_at 11 (by omega))).2.1
  intro T hT XX
  obtain ⟨vm', X', stp⟩ := catchCold XX a (g := { F0 X.m pc ls (.ref a :: st) with stack := st }) rfl hX.hown ht (by simp [covers, p1, p2, hpc.1, hpc.2]) (by rw [p4]; decide) (by rw [p4]; exact hX.hts _ qc) (by rw [hT]; exact o1) (by rw [o3]; rfl) hcl (by rw [o2]; exact va_asg _ _)
  obtain ⟨t, a1, b1⟩ := h M Z H locs ls rr hf1 h2 h3 h4 h5 h6 h7 h8 h9 h10 (T.setVm vm') hT X'
  refine ⟨t, ?_, b1⟩
  have e1 := stp t (by rw [p3]; exact a1)
  exact athrow_go XX hX.hx (g := F0 X.m pc ls (.ref a :: st)) rfl rfl (by rw [hX.hb]; exact hd) e1
/-- a call through an object of class ci, of a method that may throw, in the handler's range -/
theorem s_callVC (hX : Ok X Rp cc "WindGas" nL rt fr lo) (hnh : Hnd X) (hK : CpK Rp 12) (qc : Cond.classLink "WindGas" 214 "WindGas$Wrong" ∈ lw_all) (hpc : 59 ≤ pc ∧ pc < 120) {ci x : Nat} {As : List Value} (hC : CpK Rp (ci + 1)) (hci : ci < 20) (hCt : Ct X.l Rp y (ws_ y bytes maxL rt2) fr2 lo2 cw (rv x :: As) fc)
    (q1 : Cond.methodLink "WindGas" index y ∈ lw_all) (q2 : Cond.instanceMethod y ∈ lw_all) (q3 : Cond.selects (RR ci) y y ∈ lw_all) (q4 : Cond.initialized (RR ci) ∈ lw_all) (q5 : Cond.code y bytes maxL rt2 ∈ lw_all)
    (hyc : y.cls = RR ci ∧ y.cls ≠ "java/lang/invoke/MethodHandle" ∧ y.cls ≠ "java/lang/invoke/VarHandle" ∧ (parseMethodDescriptor y.desc).map (fun d => d.parameters.length) = some n) (hR : fr2 + 1 ≤ fr ∧ 8 + (maxL + 11) + lo2 ≤ lo) (hn : As.length = n) (hst : (st.map fun v => v.category).sum ≤ 8)
    (hd : decode cc pc = .ok (.invokevirtual index, 3)) (hc : ∀ c, Sim X cv 127 L [rv c] (hh c)) (h : ∀ v, Sim X cv (pc + 3) L ((cw v).toList ++ st) (k v)) : Sim X cv pc L (As.reverse ++ rv x :: st) (cat (gd ci x fc) (fun c => gd 11 c (hh c)) k) := by
  intro M Z H locs ls rr h1 h2 h3 h4 h5 h6 h7 h8 h9 h10
  have h1 : (match (gd ci x fc).run M with
    | some (.inl a, M1) => (k a).run M1
    | some (.inr c, M1) => (gd 11 c (hh c)).run M1
    | none => none) = some (rr, X.Mf) := h1
  cases hg : (gd ci x fc).run M with
  | none => rw [hg] at h1; cases h1
  | some z =>
    obtain ⟨z, M1⟩ := z
    rw [hg] at h1
    obtain ⟨hk, hfc⟩ := gd_run hg
    cases z with
    | inl v =>
      refine s_callV hX hC hci hCt q1 q2 q3 q4 q5 hyc hR hn hst hd h M Z H locs ls rr ?_ h2 h3 h4 h5 h6 h7 h8 h9 h10
      rw [bnd_run, gd_of hk, nt_of hfc]
      exact h1
    | inr cx =>
      obtain ⟨hk12, hf1⟩ := gd_run h1
      clear h1
      have m1 := fc.mono hfc
      have m2 := (hh cx).mono hf1
      have g1 : okr ci x Z := Or.inl (hC M Z x (hX.hRp ▸ h3) hk)
      obtain ⟨a, rfl, cellB, o1, o2, o3, o4⟩ := rep_obj h4 (by omega : ci < 20) g1
      have hcl := (hX.hK.1 ci _ (cl_at ci (by omega))).2.1
      have hc9 := hX.hcells
      have hs9 := hX.hslots
      have hinst := hX.hts _ q2
      have hcode := hX.hts _ q5
      obtain ⟨x0, t0, ht, p1', p2', p3', p4'⟩ := hnh.first
      intro T hT XX
      obtain ⟨mk, methM, hnamed, hmethM, hstM, habM⟩ := Cond.instanceMethod_spec hinst
      obtain ⟨methM', cM, hmethM', -, -, -, -, -, -, hsigM⟩ := Cond.code_spec hnamed hcode
      cases hmethM.symm.trans hmethM'
      obtain ⟨c2, r2, m2', p1, p2, p3, p4, kP, hkP, hkPi⟩ := Cond.selects_spec (hX.hts _ q3)
      have hcls : X.s.vm.findClass (RR ci) = some cellB.cls := by rw [o2]; exact hcl
      cases hcls.symm.trans p1
      cases (State.methodFound?_of_named hnamed ⟨hyc.2.1, hyc.2.2.1⟩).symm.trans p2
      cases hnamed.symm.trans p3
      have hselP : selectMethod X.e.platform X.s.vm cellB.cls mk = .method mk := by rw [Launch.admits_selectMethod XX.admits]; exact p4
      have hlen : As.length = ‹Method›.sig.parameters.length := by
        have h9 := hyc.2.2.2
        rw [hsigM] at h9
        rw [hn]
        exact (Option.some.inj h9).symm
      obtain ⟨vm₁, X₁, hstep₁⟩ := XX.invokevirtual hX.hx hX.hown (hX.hts _ q1) hnamed hmethM hstM hkP hkPi ⟨hyc.2.1, hyc.2.2.1⟩ (a := a) (cell := cellB) (by rw [hT]; exact o1)
        (fun z h => by rw [o3] at h; cases h) hselP hmethM habM hkP hkPi (g := F0 X.m pc ls (As.reverse ++ rv (a + 1) :: st)) rfl (argsL := As) (rest := st) hlen rfl (by rw [hX.hb]; exact hd)
      have hgood := lw_meth q5
      obtain ⟨t, B, LL, X', hLL, eB, hq, hsteps⟩ := callT (W := 8) (bytes := bytes) (maxL := maxL) (ret := rt2) (x := cx - 1) (k := M1.n - M.n) (n := M1.sl - M.sl) (A := X.w.A) (g := { F0 X.m pc ls (As.reverse ++ rv (a + 1) :: st) with stack := st }) (a := (Value.ref a :: As).toArray) (ig := .invokevirtual index) (len := 3) (hCt X.w M M1 (.inr cx) hfc) (by rw [hX.hfr]; exact hR.1) (by rw [hX.hlo]; exact hR.2) X₁ rfl (by rw [hX.hml, ← hX.hnL]; exact h6.1) (by rw [hX.hb]; exact hd) (lv_room hst) (X₁.named hnamed)
        (atoms_intro fun w hw => word_at X₁.warmed (hgood w hw).2 (hX.hts _ (hgood w hw).1)) (word_at X₁.warmed (lw_self _ q5).2 hcode) (by rw [hyc.1]; exact word_at X₁.warmed (lw_self _ q4).2 (hX.hts _ q4)) (show M.n - X.n0 + (M1.n - M.n) ≤ X.R.cells by omega) (show M.sl - X.sl0 + (M1.sl - M.sl) ≤ X.R.slots by omega)
        ⟨rfl, hX.base, hX.warm.trans X₁.warmed, Z, hX.hRp ▸ h3, by show Rep0 X.w Z T.heap; rw [hT]; exact h4⟩ (fun o t q => ⟨q.1.1, q.2.1, q.2.2⟩)
      obtain ⟨⟨_, ⟨Z1, z1, z2⟩, vF⟩, _, _⟩ := hq
      have e1 : M.n - X.n0 + (M1.n - M.n) = M1.n - X.n0 := by omega
      have e2 : M.sl - X.sl0 + (M1.sl - M.sl) = M1.sl - X.sl0 := by omega
      rw [e1, e2] at X'
      have g12 : okr 11 cx Z1 := Or.inl (hK M1 Z1 cx z1 hk12)
      obtain ⟨b, rfl, cellW, w1, w2, w3, w4⟩ := rep_obj z2 (by omega : 11 < 20) g12
      have hclW := (hX.hK.1 11 _ (cl_at 11 (by omega))).2.1
      obtain ⟨vm', X'', stp⟩ := catchCold X' b (g := { F0 X.m pc ls (As.reverse ++ rv (a + 1) :: st) with stack := st }) rfl hX.hown ht (by simp [covers, p1', p2', hpc.1, hpc.2]) (by rw [p4']; decide) (by rw [p4']; exact hX.hts _ qc) (by rw [eB]; exact w1) (by rw [w3]; rfl) hclW (by rw [w2]; exact va_asg _ _)
      obtain ⟨n1, n2⟩ := hX.hnz (M := M1) (Z := Z1) (hX.hRp.symm ▸ z1)
      have hz : ∀ q, q < H.size → ¬ X.w.A q → t.heap[q]? = H[q]? := fun q hq hA => by
        have := vF.2 q (by show q < T.heap.size; rw [hT]; exact hq) hA
        rw [this]; show T.heap[q]? = _; rw [hT]
      have hsz : H.size ≤ t.heap.size := by have := vF.1; rw [← hT]; exact this
      have hS' : va_S X.w.A X.s.heap B.heap (locs ++ LL) := by
        refine ⟨?_, fun q hq hA => ?_, fun q hq => ?_⟩
        · rw [eB]; exact Nat.le_trans h5.1 hsz
        · rw [eB, hz q (Nat.lt_of_lt_of_le hq h5.1) hA]
          exact h5.2.1 q hq hA
        · rcases List.mem_append.mp hq with h | h
          · exact h5.2.2 q h
          · exact hLL q h
      obtain ⟨t2, a1, b1⟩ := hc (b + 1) M1 Z1 B.heap (locs ++ LL) ls rr hf1 h2 (hX.hRp.symm ▸ z1) (by rw [eB]; exact z2) hS' h6 (by omega) (by omega) n1 n2 (B.setVm vm') rfl X''
      refine ⟨t2, hstep₁ _ fun acts => ?_, b1⟩
      rw [doInvoke_state]
      exact hsteps.trans (stp t2 (by rw [p3']; exact a1))
end CATCH
theorem s_callVC_U {α : Type} {X : Cx} {Rp : Mem → Mem → Prop} {cc bytes : ByteArray} {nL : Nat} {rt rt2 : Option FieldType} {fr lo fr2 lo2 maxL index n : Nat} {cv : α → Option Value} {pc : Nat} {L : List (Nat × Value)} {st : List Value} {y : MethodName} {fc : Act Unit} {k : Unit → Act α} {hh : Nat → Act α} (hX : Ok X Rp cc "WindGas" nL rt fr lo) (hnh : Hnd X) (hK : CpK Rp 12) (qc : Cond.classLink "WindGas" 214 "WindGas$Wrong" ∈ lw_all) (hpc : 59 ≤ pc ∧ pc < 120) {ci x : Nat} {As : List Value} (hC : CpK Rp (ci + 1)) (hci : ci < 20) (hCt : Ct X.l Rp y (ws_ y bytes maxL rt2) fr2 lo2 cvU (rv x :: As) fc)
    (q1 : Cond.methodLink "WindGas" index y ∈ lw_all) (q2 : Cond.instanceMethod y ∈ lw_all) (q3 : Cond.selects (RR ci) y y ∈ lw_all) (q4 : Cond.initialized (RR ci) ∈ lw_all) (q5 : Cond.code y bytes maxL rt2 ∈ lw_all)
    (hyc : y.cls = RR ci ∧ y.cls ≠ "java/lang/invoke/MethodHandle" ∧ y.cls ≠ "java/lang/invoke/VarHandle" ∧ (parseMethodDescriptor y.desc).map (fun d => d.parameters.length) = some n) (hR : fr2 + 1 ≤ fr ∧ 8 + (maxL + 11) + lo2 ≤ lo) (hn : As.length = n) (hst : (st.map fun v => v.category).sum ≤ 8)
    (hd : decode cc pc = .ok (.invokevirtual index, 3)) (hc : ∀ c, Sim X cv 127 L [rv c] (hh c)) (h : ∀ v, Sim X cv (pc + 3) L st (k v)) : Sim X cv pc L (As.reverse ++ rv x :: st) (cat (gd ci x fc) (fun c => gd 11 c (hh c)) k) := s_callVC hX hnh hK qc hpc hC hci hCt q1 q2 q3 q4 q5 hyc hR hn hst hd hc h
/-- a contract of a method with handlers, out of its walk -/
theorem Ct.ofW {α : Type} {l : Launch} {Rp : Mem → Mem → Prop} {y : MethodName} {cc : ByteArray} {maxL : Nat} {rt : Option FieldType} {hh : List (Nat × Nat × Nat × Nat)} {fr lo : Nat} {cv : α → Option Value} {args : List Value} {f : Act α} {own : String} (hy : plainFor y = true) (hown : y.cls = own) {L : List (Nat × Value)} (hn : (lg_sl args).length ≤ maxL) (hL : lv_args 0 args = L)
    (hnz : ∀ M Z, Rp M Z → Z.n = M.n ∧ Z.sl = M.sl)
    (body : ∀ X : Cx, X.l = l → Ok X Rp cc own maxL rt fr lo → X.c.exceptionTable.toList.map (fun h => (h.startPc, h.endPc, h.handlerPc, h.catchType)) = hh → Sim X cv 0 L [] f) : Ct l Rp y (wsW_ y cc maxL rt hh) fr lo cv args f := by
  intro w M M' rr hf
  refine MetFree.of_bodySF (code := cc) (maxLocals := maxL) (ret := rt) hy ?_ ?_
  · intro args s m h hn
    obtain ⟨m', meth, c, h0, h1, h2, h3, h4, -, h5, h6, -⟩ := Cond.codeWith_spec (atoms_spec (ws := wsW_ y cc maxL rt hh) h _ List.mem_cons_self)
    cases h0.symm.trans hn
    exact ⟨meth, c, h1, h2, h3, h4, h5, h6⟩
  · intro p e s m a below meth c s₁ B hml hP _
    obtain ⟨rfl, hb, hW, Z, hZ, hR⟩ := hP
    have hh0 : s₁.heap = s.heap := by rw [B.state]; rfl
    have hts0 := atoms_spec (ws := wsW_ y cc maxL rt hh) B.pre
    have hts : ∀ w ∈ lw_all, w.before _ s = true := fun w h => hts0 w (List.mem_cons_of_mem _ h)
    have hnoh : c.exceptionTable.toList.map (fun h => (h.startPc, h.endPc, h.handlerPc, h.catchType)) = hh := by
      obtain ⟨m', meth', c', h0, h1, h2, -, -, h5, -⟩ := Cond.codeWith_spec (hts0 _ List.mem_cons_self)
      cases h0.symm.trans B.named
      cases h1.symm.trans B.method
      have St := Stand.of_body B
      cases h2.symm.trans St.code
      exact h5
    have hl := lv_entry args (n := maxL) hn
    rw [hL] at hl
    have K := body (p, l, e, (headSpec (wsW_ y cc maxL rt hh) { frames := fr, cells := M'.n - M.n, slots := M'.sl - M.sl, locals := lo }).room, s, m, args.toArray, below, meth, c, (fun t => ∃ o, t.status = .running ∧ Ended t below o ∧ Post_ w Rp M' (Out cv rr) args.toArray s o t ∧ s.WarmedH t.vm ∧ ∃ L : List Loc, s.sameButNew ({ t with vm := s.vm } : State) L (M'.n - M.n) (M'.sl - M.sl) ∧ ∀ q ∈ L, w.A q.base), w, M.n, M.sl, maxL, Out cv rr, M', Rp) rfl
      ⟨⟨B.exec, B.bytes, hml, rfl⟩, ⟨by rw [← hown]; exact findClass_of_methodNamed B.named, hts, B.returns, B.notSynchronized⟩, ⟨hb, hW⟩, ⟨rfl, rfl, Nat.le_refl _, Nat.le_refl _⟩, fun t a1 a2 a3 a4 a5 a6 => ⟨_, a1, a2, ⟨rfl, a3, a5⟩, a4, a6⟩, hnz, rfl⟩ hnoh
    have hWW : W p l e (headSpec (wsW_ y cc maxL rt hh) { frames := fr, cells := M'.n - M.n, slots := M'.sl - M.sl, locals := lo }).room s m args.toArray below meth c s.heap [] 0 0 (fun t => ∃ o, t.status = .running ∧ Ended t below o ∧ Post_ w Rp M' (Out cv rr) args.toArray s o t ∧ s.WarmedH t.vm ∧ ∃ L : List Loc, s.sameButNew ({ t with vm := s.vm } : State) L (M'.n - M.n) (M'.sl - M.sl) ∧ ∀ q ∈ L, w.A q.base) (entryFrame m args.toArray maxL) := by
      rw [lg_entry_eq]
      have this : W p l e (headSpec (wsW_ y cc maxL rt hh) { frames := fr, cells := M'.n - M.n, slots := M'.sl - M.sl, locals := lo }).room s m args.toArray below meth c s.heap [] (M.n - M.n) (M.sl - M.sl) (fun t => ∃ o, t.status = .running ∧ Ended t below o ∧ Post_ w Rp M' (Out cv rr) args.toArray s o t ∧ s.WarmedH t.vm ∧ ∃ L : List Loc, s.sameButNew ({ t with vm := s.vm } : State) L (M'.n - M.n) (M'.sl - M.sl) ∧ ∀ q ∈ L, w.A q.base) (F0 m 0 _ []) := K M Z s.heap [] _ rr hf rfl hZ hR va_S.rf hl (Nat.le_refl _) (Nat.le_refl _) (hnz M Z hZ).1 (hnz M Z hZ).2
      rw [Nat.sub_self, Nat.sub_self] at this
      exact this
    obtain ⟨t, a1, o, b1, b2, b3, b4⟩ := hWW s₁ hh0 (Stand.of_body B)
    exact ⟨t, o, a1, b1, b2, b3, b4⟩
section CALLW
variable {α β : Type} {X : Cx} {Rp : Mem → Mem → Prop} {cc bytes : ByteArray} {own : String} {nL : Nat} {rt rt2 : Option FieldType} {fr lo fr2 lo2 maxL index n : Nat} {cv : α → Option Value} {cw : β → Option Value} {pc : Nat} {L : List (Nat × Value)} {st : List Value} {y : MethodName} {fc : Act β} {k : β → Act α} {hh : List (Nat × Nat × Nat × Nat)}
/-- a call of a method with handlers -/
theorem s_callVW (hX : Ok X Rp cc own nL rt fr lo) {ci x : Nat} {As : List Value} (hC : CpK Rp (ci + 1)) (hci : ci < 20) (hCt : Ct X.l Rp y (wsW_ y bytes maxL rt2 hh) fr2 lo2 cw (rv x :: As) fc)
    (q1 : Cond.methodLink own index y ∈ lw_all) (q2 : Cond.instanceMethod y ∈ lw_all) (q3 : Cond.selects (RR ci) y y ∈ lw_all) (q4 : Cond.initialized y.cls ∈ lw_all) (q5 : Cond.codeWith y bytes maxL rt2 hh ∈ lw_all)
    (hyc : y.cls ≠ "java/lang/invoke/MethodHandle" ∧ y.cls ≠ "java/lang/invoke/VarHandle" ∧ (parseMethodDescriptor y.desc).map (fun d => d.parameters.length) = some n) (hR : fr2 + 1 ≤ fr ∧ 8 + (maxL + 11) + lo2 ≤ lo) (hn : As.length = n) (hst : (st.map fun v => v.category).sum ≤ 8)
    (hd : decode cc pc = .ok (.invokevirtual index, 3)) (h : ∀ v, Sim X cv (pc + 3) L ((cw v).toList ++ st) (k v)) : Sim X cv pc L (As.reverse ++ rv x :: st) (bnd (gd ci x (nt fc)) k) := by
  intro M Z H locs ls rr h1 h2 h3 h4 h5 h6 h7 h8 h9 h10
  obtain ⟨hk, h1⟩ := bnd_gd h1
  obtain ⟨v, M1, r1, r2⟩ := bnd_nt h1
  have m1 := fc.mono r1
  have m2 := (k v).mono r2
  have hf : M.n - X.n0 + (M1.n - M.n) ≤ X.R.cells ∧ M.sl - X.sl0 + (M1.sl - M.sl) ≤ X.R.slots := ⟨by have := hX.hcells; omega, by have := hX.hslots; omega⟩
  have g1 : okr ci x Z := Or.inl (hC M Z x (hX.hRp ▸ h3) hk)
  obtain ⟨a, rfl, cellB, o1, o2, o3, o4⟩ := rep_obj h4 (by omega : ci < 20) g1
  have hcl := (hX.hK.1 ci _ (cl_at ci (by omega))).2.1
  have hK : Back X.l X.R X.p X.e X.below X.s X.args y 3 8 (PreOf X.R (M1.n - M.n) (M1.sl - M.sl) (Pre_ X.w Rp M (rv (a + 1) :: As))) (PostOf (Post_ X.w Rp M1 (.returned (cw v))) (M1.n - M.n) (M1.sl - M.sl) X.w.A) :=
    va_backW (hh := hh) (bytes := bytes) (maxL := maxL) (ret := rt2) (hCt.met X.w r1) pre_blind rfl rfl (by rw [hX.hfr]; exact hR.1) (by rw [hX.hlo]; exact hR.2) (pay_in hX.hts (lw_methW q5)) List.mem_cons_self (fun a' U hW => word_at hW (Or.inl (by first | rfl | simp [Cond.onTables, Cond.keeps, Cond.steady])) (hX.hts _ q4))
  have hinst := hX.hts _ q2
  have hcode := hX.hts _ q5
  refine s_core (st0 := As.reverse ++ rv (a + 1) :: st) (a := (Value.ref a :: As).toArray) hX h h2 h5 h6 h7 h8 m1 r2 ?_
  intro T hT XX
  obtain ⟨mk, methM, hnamed, hmethM, hstM, habM⟩ := Cond.instanceMethod_spec hinst
  obtain ⟨mk', methM', cM, hnamed', hmethM', -, -, -, -, -, -, hsigM⟩ := Cond.codeWith_spec hcode
  cases hnamed.symm.trans hnamed'
  cases hmethM.symm.trans hmethM'
  obtain ⟨c2, r2', m2', p1, p2, p3, p4, kP, hkP, hkPi⟩ := Cond.selects_spec (hX.hts _ q3)
  have hcls : X.s.vm.findClass (RR ci) = some cellB.cls := by rw [o2]; exact hcl
  cases hcls.symm.trans p1
  cases (State.methodFound?_of_named hnamed ⟨hyc.1, hyc.2.1⟩).symm.trans p2
  cases hnamed.symm.trans p3
  have hselP : selectMethod X.e.platform X.s.vm cellB.cls mk = .method mk := by rw [Launch.admits_selectMethod XX.admits]; exact p4
  have hlen : As.length = ‹Method›.sig.parameters.length := by
    have h9 := hyc.2.2
    rw [hsigM] at h9
    rw [hn]
    exact (Option.some.inj h9).symm
  obtain ⟨vm₁, X₁, hstep₁⟩ := XX.invokevirtual hX.hx hX.hown (hX.hts _ q1) hnamed hmethM hstM hkP hkPi ⟨hyc.1, hyc.2.1⟩ (a := a) (cell := cellB) (by rw [hT]; exact o1)
    (fun z h => by rw [o3] at h; cases h) hselP hmethM habM hkP hkPi (g := F0 X.m pc ls (As.reverse ++ rv (a + 1) :: st)) rfl (argsL := As) (rest := st) hlen rfl (by rw [hX.hb]; exact hd)
  obtain ⟨v', ⟨U', l2, c2, s2⟩, X', ⟨g', mk', t, L', e1, e2, hq, w1, hL, w2, w3⟩, hsteps⟩ := hK X.m X.meth X.c ⟨T.setVm vm₁, locs, M.n - X.n0, M.sl - X.sl0⟩ { F0 X.m pc ls (As.reverse ++ rv (a + 1) :: st) with stack := st } (.invokevirtual index) mk (Value.ref a :: As).toArray X₁ rfl (by rw [hX.hml, ← hX.hnL]; exact h6.1) (by rw [hX.hb]; exact hd) (lv_room hst) (X₁.named hnamed) ⟨hf.1, hf.2, rfl, hX.base, hX.warm.trans X₁.warmed, Z, hX.hRp ▸ h3, by show Rep0 X.w Z T.heap; rw [hT]; exact h4⟩
  dsimp only [Pt.U, Pt.locs, Pt.cells, Pt.slots] at X' e1 e2 w1 w2 w3 hsteps
  subst w1; subst w2; subst w3
  exact ⟨v', (T.setVm vm₁).calling g' mk' (Value.ref a :: As).toArray, t, U', L', hT, X', hL, e1, e2, hq, fun target h => hstep₁ _ fun acts => by rw [doInvoke_state]; exact hsteps.trans h⟩
end CALLW
theorem s_callVW_I {α : Type} {X : Cx} {Rp : Mem → Mem → Prop} {cc bytes : ByteArray} {own : String} {nL : Nat} {rt rt2 : Option FieldType} {fr lo fr2 lo2 maxL index n : Nat} {cv : α → Option Value} {pc : Nat} {L : List (Nat × Value)} {st : List Value} {y : MethodName} {fc : Act Int32} {k : Int32 → Act α} {hh : List (Nat × Nat × Nat × Nat)} (hX : Ok X Rp cc own nL rt fr lo) {ci x : Nat} {As : List Value} (hC : CpK Rp (ci + 1)) (hci : ci < 20) (hCt : Ct X.l Rp y (wsW_ y bytes maxL rt2 hh) fr2 lo2 cvI (rv x :: As) fc)
    (q1 : Cond.methodLink own index y ∈ lw_all) (q2 : Cond.instanceMethod y ∈ lw_all) (q3 : Cond.selects (RR ci) y y ∈ lw_all) (q4 : Cond.initialized y.cls ∈ lw_all) (q5 : Cond.codeWith y bytes maxL rt2 hh ∈ lw_all)
    (hyc : y.cls ≠ "java/lang/invoke/MethodHandle" ∧ y.cls ≠ "java/lang/invoke/VarHandle" ∧ (parseMethodDescriptor y.desc).map (fun d => d.parameters.length) = some n) (hR : fr2 + 1 ≤ fr ∧ 8 + (maxL + 11) + lo2 ≤ lo) (hn : As.length = n) (hst : (st.map fun v => v.category).sum ≤ 8)
    (hd : decode cc pc = .ok (.invokevirtual index, 3)) (h : ∀ v, Sim X cv (pc + 3) L (.int v :: st) (k v)) : Sim X cv pc L (As.reverse ++ rv x :: st) (bnd (gd ci x (nt fc)) k) := s_callVW hX hC hci hCt q1 q2 q3 q4 q5 hyc hR hn hst hd h
