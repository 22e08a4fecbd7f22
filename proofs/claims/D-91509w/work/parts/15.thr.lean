set_option maxRecDepth 100000
section TH
variable {l : Launch} {R : Room} {p : Program} {e : Env} {below : List Frame} {s : State} {sargs : Array Value} {m : MethodId} {meth : Method} {c : Code}
/-- a call that ends with an exception: the exception is under way over the caller's frame -/
theorem callT {y : MethodName} {S : Spec} {P : Array Value → State → Prop} {Q : Array Value → State → Outcome → State → Prop} {bytes : ByteArray} {maxL len W : Nat} {ret : Option FieldType} {ig : Instr} {mk : MethodId} {a : Array Value} {U : State} {Ls : List Loc} {c0 s0 k n : Nat} {g : JFrame} {x : Addr} {A : Nat → Prop}
    (hM : MetFree l y S P (fun _ _ _ _ _ => True) Q) (hframes : S.room.frames + 1 ≤ R.frames) (hlocals : W + (maxL + 11) + S.room.locals ≤ R.locals)
    (X : Stand p l e R s m sargs below meth c U Ls c0 s0) (hg : g.method = m) (hsize : g.locals.size = c.maxLocals) (hdg : decode c.code g.pc = .ok (ig, len)) (hW : 2 * g.monitorRoom + (g.stack.map fun v => v.category).sum ≤ W) (hn : U.methodNamed? y = some mk)
    (h1 : S.pre.before a U = true) (h2 : (Cond.code y bytes maxL ret).before a U = true) (h3 : (Cond.initialized y.cls).before a U = true) (h4 : c0 + S.room.cells ≤ R.cells) (h5 : s0 + S.room.slots ≤ R.slots) (hP : P a (U.calling g mk a))
    (hQ : ∀ o t, Q a (U.calling g mk a) o t → o = .threw x ∧ (U.calling g mk a).WarmedH t.vm ∧ ∃ L : List Loc, (U.calling g mk a).sameButNew ({ t with vm := (U.calling g mk a).vm } : State) L k n ∧ ∀ q ∈ L, A q.base) :
    ∃ (t B : State) (L : List Loc), Stand p l e R s m sargs below meth c B (Ls ++ L) (c0 + k) (s0 + n) ∧ (∀ q ∈ L, A q.base) ∧ B.heap = t.heap ∧ Q a (U.calling g mk a) (.threw x) t ∧ Steps p.tables e below (doInvoke e (U.setTop g) [] mk a).1 ((B.setTop g).pushFrame (.throwing x)) := by
  obtain ⟨methY, cY, hmY, hcY, -, hlY, -, -, -, -⟩ := Cond.code_spec hn h2
  obtain ⟨kY, hkY, -⟩ := className_of_methodNamed hn
  have hinitY : kY.init = .initialized := Cond.initialized_spec (findClass_of_methodNamed hn) hkY h3
  have h : At U g.method c below := by rw [hg]; exact X.here
  have happ : S.appliesLoose y e.platform (U.calling g mk a) = true :=
    Spec.appliesLoose_calling (g := g) h hdg hn hkY hinitY
      (X.room_calling (g := g) (R' := S.room) hsize hmY hcY hframes (by rw [hlY]; omega) h4 h5) h1
  obtain ⟨mid, hmid⟩ := h.above
  have hfr : (U.setTop g).frames = (.java g :: mid) ++ below := by rw [State.frames_setTop' g h.top, hmid]; rfl
  obtain ⟨o, s₂, hsteps, -, hend, hq⟩ := Steps.callFree hM p X.admits X.cas X.clock (acts := []) hfr happ hP trivial
  have hq' : Q a (U.calling g mk a) o s₂ := hq
  rw [State.frames_setTop' g h.top] at hend
  obtain ⟨rfl, hW₂, L, ⟨e2, q2, q3, q4, q5, q6⟩, hL⟩ := hQ _ _ hq'
  have e3 : s₂ = ({ (U.calling g mk a).setFrames s₂.frames with heap := s₂.heap, slotsUsed := s₂.slotsUsed } : State).setVm s₂.vm := by
    have : s₂ = ({ s₂ with vm := (U.calling g mk a).vm } : State).setVm s₂.vm := rfl
    rw [e2] at this
    exact this
  have hf₂ : s₂.frames = .throwing x :: .java g :: U.frames.tail := hend
  have hW' : U.WarmedH s₂.vm := hW₂
  obtain ⟨g₀, hg0⟩ := Option.isSome_iff_exists.mp h.top
  obtain ⟨r, hr⟩ := State.topJava?_eq_some.mp hg0
  have hs₂ : s₂ = ((({ U with heap := s₂.heap, slotsUsed := s₂.slotsUsed } : State).setVm s₂.vm).setTop g).pushFrame (.throwing x) := by
    have hr' : (({ U with heap := s₂.heap, slotsUsed := s₂.slotsUsed } : State).setVm s₂.vm).frames = .java g₀ :: r := hr
    refine e3.trans ?_
    rw [State.pushFrame, State.frames_setTop _ hr', State.setTop_of_frames _ hr', State.setFrames_setFrames, hf₂, State.calling_eq h.top, State.setFrames_setFrames, hr]
    rfl
  have hsame : U.sameButNew ({ U with heap := s₂.heap, slotsUsed := s₂.slotsUsed } : State) L k n := by
    refine ⟨?_, q2, q3, q4, q5, q6⟩
    obtain ⟨t, ht, -⟩ := State.frames_cons hr
    show ({ U with heap := s₂.heap, slotsUsed := s₂.slotsUsed } : State) = { U.setFrames U.frames with heap := s₂.heap, slotsUsed := s₂.slotsUsed }
    rw [State.setFrames_self ht]
  subst hg
  refine ⟨s₂, ({ U with heap := s₂.heap, slotsUsed := s₂.slotsUsed } : State).setVm s₂.vm, L,
    ⟨X.admits, X.cas, X.clock, X.frames, X.room, X.hears, X.method, X.code, (X.here.setHeapUsed s₂.heap s₂.slotsUsed).setVm hW'.alike, X.tail, State.WarmedH.trans X.warmed hW', X.limits, X.bytes, X.same.trans (hsame.setVm s.vm)⟩,
    hL, rfl, hq', ?_⟩
  rw [← hs₂]
  exact hsteps
end TH
section TH2
variable {α β : Type} {X : Cx} {Rp : Mem → Mem → Prop} {cc bytes : ByteArray} {own : String} {nL : Nat} {rt rt2 : Option FieldType} {fr lo fr2 lo2 maxL index n : Nat} {cv : α → Option Value} {cw : β → Option Value} {pc : Nat} {L : List (Nat × Value)} {st : List Value} {y : MethodName} {fc : Act β} {k : β → Act α}
/-- 'athrow' -/
theorem s_athrow (hX : Ok X Rp cc own nL rt fr lo) (hnh : Noh X) {x : Nat} (hd : decode cc pc = .ok (.athrow, 1)) : Sim X cv pc L (rv x :: st) (nn x (thr x) : Act α) := by
  intro M Z H locs ls rr h1 h2 h3 h4 h5 h6 h7 h8 h9 h10
  cases x with
  | zero => cases h1
  | succ a =>
    cases h1
    intro T hT XX
    obtain ⟨w1, w2, w3, w4, w5⟩ := XX.athrowLeaves hX.hx (g := F0 X.m pc ls (.ref a :: st)) rfl rfl rfl (fun x hx => hnh x hx _) (a := a) (rest := st) rfl (by rw [hX.hb]; exact hd) hX.hlocks
    refine ⟨_, w1, hX.hQ _ w2 (by rw [← h2]; exact w3) ⟨Z, h3, ?_⟩ w4 (h5.F ?_) ⟨locs, w5, h5.2.2⟩⟩
    · show Rep0 X.w Z T.heap
      rw [hT]; exact h4
    · exact hT
/-- a call through an object of class ci, of a method that may throw -/
theorem s_callVT (hX : Ok X Rp cc own nL rt fr lo) (hnh : Noh X) {ci x : Nat} {As : List Value} (hC : CpK Rp (ci + 1)) (hci : ci < 20) (hCt : Ct X.l Rp y (ws_ y bytes maxL rt2) fr2 lo2 cw (rv x :: As) fc)
    (q1 : Cond.methodLink own index y ∈ lw_all) (q2 : Cond.instanceMethod y ∈ lw_all) (q3 : Cond.selects (RR ci) y y ∈ lw_all) (q4 : Cond.initialized (RR ci) ∈ lw_all) (q5 : Cond.code y bytes maxL rt2 ∈ lw_all)
    (hyc : y.cls = RR ci ∧ y.cls ≠ "java/lang/invoke/MethodHandle" ∧ y.cls ≠ "java/lang/invoke/VarHandle" ∧ (parseMethodDescriptor y.desc).map (fun d => d.parameters.length) = some n) (hR : fr2 + 1 ≤ fr ∧ 8 + (maxL + 11) + lo2 ≤ lo) (hn : As.length = n) (hst : (st.map fun v => v.category).sum ≤ 8)
    (hd : decode cc pc = .ok (.invokevirtual index, 3)) (h : ∀ v, Sim X cv (pc + 3) L ((cw v).toList ++ st) (k v)) : Sim X cv pc L (As.reverse ++ rv x :: st) (bnd (gd ci x fc) k) := by
  intro M Z H locs ls rr h1 h2 h3 h4 h5 h6 h7 h8 h9 h10
  obtain ⟨hk, h1⟩ := bnd_gd h1
  cases hfc : fc.run M with
  | none => rw [bnd_run, hfc] at h1; cases h1
  | some z =>
    obtain ⟨z, M1⟩ := z
    cases z with
    | inl v =>
      refine s_callV hX hC hci hCt q1 q2 q3 q4 q5 hyc hR hn hst hd h M Z H locs ls rr ?_ h2 h3 h4 h5 h6 h7 h8 h9 h10
      rw [bnd_run, gd_of hk, nt_of hfc]
      rw [bnd_run, hfc] at h1
      exact h1
    | inr cx =>
      rw [bnd_run, hfc] at h1
      cases h1
      have m1 := fc.mono hfc
      have g1 : okr ci x Z := Or.inl (hC M Z x (hX.hRp ▸ h3) hk)
      obtain ⟨a, rfl, cellB, o1, o2, o3, o4⟩ := rep_obj h4 (by omega : ci < 20) g1
      have hcl := (hX.hK.1 ci _ (cl_at ci (by omega))).2.1
      have hc9 := hX.hcells
      have hs9 := hX.hslots
      have hinst := hX.hts _ q2
      have hcode := hX.hts _ q5
      intro T hT XX
      obtain ⟨mk, methM, hnamed, hmethM, hstM, habM⟩ := Cond.instanceMethod_spec hinst
      obtain ⟨methM', cM, hmethM', -, -, -, -, -, -, hsigM⟩ := Cond.code_spec hnamed hcode
      cases hmethM.symm.trans hmethM'
      obtain ⟨c2, r2, m2, p1, p2, p3, p4, kP, hkP, hkPi⟩ := Cond.selects_spec (hX.hts _ q3)
      have hcls : X.s.vm.findClass (RR ci) = some cellB.cls := by rw [o2]; exact hcl
      cases hcls.symm.trans p1
      cases (State.methodFound?_of_named hnamed ⟨hyc.2.1, hyc.2.2.1⟩).symm.trans p2
      cases hnamed.symm.trans p3
      have hselP : selectMethod X.e.platform X.s.vm cellB.cls mk = .method mk := by rw [Launch.admits_selectMethod XX.admits]; exact p4
      have hlen : As.length = ‹Method›.sig.parameters.length := by
        have h9 := hyc.2.2.2
        rw [hsigM] at h9
        rw [hn]
        exact (Option.some.inj h9).symm
      obtain ⟨vm₁, X₁, hstep₁⟩ := XX.invokevirtual hX.hx hX.hown (hX.hts _ q1) hnamed hmethM hstM hkP hkPi ⟨hyc.2.1, hyc.2.2.1⟩ (a := a) (cell := cellB) (by rw [hT]; exact o1)
        (fun z h => by rw [o3] at h; cases h) hselP hmethM habM hkP hkPi (g := F0 X.m pc ls (As.reverse ++ rv (a + 1) :: st)) rfl (argsL := As) (rest := st) hlen rfl (by rw [hX.hb]; exact hd)
      have hgood := lw_meth q5
      obtain ⟨t, B, LL, X', hLL, eB, hq, hsteps⟩ := callT (W := 8) (bytes := bytes) (maxL := maxL) (ret := rt2) (x := cx - 1) (k := X.Mf.n - M.n) (n := X.Mf.sl - M.sl) (A := X.w.A) (g := { F0 X.m pc ls (As.reverse ++ rv (a + 1) :: st) with stack := st }) (a := (Value.ref a :: As).toArray) (ig := .invokevirtual index) (len := 3) (hCt X.w M X.Mf (.inr cx) hfc) (by rw [hX.hfr]; exact hR.1) (by rw [hX.hlo]; exact hR.2) X₁ rfl (by rw [hX.hml, ← hX.hnL]; exact h6.1) (by rw [hX.hb]; exact hd) (lv_room hst) (X₁.named hnamed)
        (atoms_intro fun w hw => word_at X₁.warmed (hgood w hw).2 (hX.hts _ (hgood w hw).1)) (word_at X₁.warmed (lw_self _ q5).2 hcode) (by rw [hyc.1]; exact word_at X₁.warmed (lw_self _ q4).2 (hX.hts _ q4)) (show M.n - X.n0 + (X.Mf.n - M.n) ≤ X.R.cells by omega) (show M.sl - X.sl0 + (X.Mf.sl - M.sl) ≤ X.R.slots by omega)
        ⟨rfl, hX.base, hX.warm.trans X₁.warmed, Z, hX.hRp ▸ h3, by show Rep0 X.w Z T.heap; rw [hT]; exact h4⟩ (fun o t q => ⟨q.1.1, q.2.1, q.2.2⟩)
      obtain ⟨w1, w2, w3, w4, w5⟩ := X'.leaveThrown (cx - 1) (g := { F0 X.m pc ls (As.reverse ++ rv (a + 1) :: st) with stack := st }) rfl rfl rfl (fun x hx => hnh x hx _) hX.hlocks
      obtain ⟨⟨_, ⟨Z1, z1, z2⟩, vF⟩, _, _⟩ := hq
      have e1 : M.n - X.n0 + (X.Mf.n - M.n) = X.Mf.n - X.n0 := by omega
      have e2 : M.sl - X.sl0 + (X.Mf.sl - M.sl) = X.Mf.sl - X.sl0 := by omega
      rw [e1, e2] at w5
      refine ⟨_, hstep₁ _ fun acts => by rw [doInvoke_state]; exact hsteps.trans w1, hX.hQ _ w2 (by rw [← h2]; exact w3) ⟨Z1, hX.hRp.symm ▸ z1, ?_⟩ w4 ?_ ⟨locs ++ LL, w5, fun q hq => ?_⟩⟩
      · show Rep0 X.w Z1 B.heap
        rw [eB]; exact z2
      · have hz : ∀ q, q < H.size → ¬ X.w.A q → t.heap[q]? = H[q]? := fun q hq hA => by
          have := vF.2 q (by show q < T.heap.size; rw [hT]; exact hq) hA
          rw [this]; show T.heap[q]? = _; rw [hT]
        have hsz : H.size ≤ t.heap.size := by have := vF.1; rw [← hT]; exact this
        refine ⟨?_, fun q hq hA => ?_⟩
        · show X.s.heap.size ≤ B.heap.size
          rw [eB]; exact Nat.le_trans h5.1 hsz
        · show B.heap[q]? = _
          rw [eB, hz q (Nat.lt_of_lt_of_le hq h5.1) hA]
          exact h5.2.1 q hq hA
      · rcases List.mem_append.mp hq with h | h
        · exact h5.2.2 q h
        · exact hLL q h
end TH2
