set_option maxRecDepth 100000
/-! ===== contracts over the memory ===== -/
def Pre_ (w : Wd) (Rp : Mem → Mem → Prop) (M : Mem) (args : List Value) : Array Value → State → Prop := fun a U => a = args.toArray ∧ Base w ∧ w.s0.WarmedH U.vm ∧ ∃ Z, Rp M Z ∧ Rep0 w Z U.heap
def Post_ (w : Wd) (Rp : Mem → Mem → Prop) (M : Mem) (o : Outcome) : Array Value → State → Outcome → State → Prop := fun _ st o' t => o' = o ∧ (∃ Z, Rp M Z ∧ Rep0 w Z t.heap) ∧ va_F w.A st t
/-- the method y, called with these arguments, runs as the action f says -/
def Ct {α : Type} (l : Launch) (Rp : Mem → Mem → Prop) (y : MethodName) (ws : List Cond) (fr lo : Nat) (cv : α → Option Value) (args : List Value) (f : Act α) : Prop :=
  ∀ (w : Wd) (M M' : Mem) (rr : α ⊕ Nat), f.run M = some (rr, M') →
    MetFree l y (headSpec ws { frames := fr, cells := M'.n - M.n, slots := M'.sl - M.sl, locals := lo }) (Pre_ w Rp M args) (fun _ _ _ _ _ => True)
      (fun a st o t => Post_ w Rp M' (Out cv rr) a st o t ∧ st.WarmedH t.vm ∧ ∃ L : List Loc, st.sameButNew ({ t with vm := st.vm } : State) L (M'.n - M.n) (M'.sl - M.sl) ∧ ∀ q ∈ L, w.A q.base)
theorem MetFree.mono {l : Launch} {x : MethodName} {S : Spec} {P : Array Value → State → Prop} {K : Program → Env → List Frame → State → Array Value → Prop} {Q Q' : Array Value → State → Outcome → State → Prop} (hQ : ∀ a s o t, Q a s o t → Q' a s o t) (h : MetFree l x S P K Q) : MetFree l x S P K Q' := by
  intro p e h1 h2 h3 s m args below h4 h5 h6 h7
  obtain ⟨n, o, a, b, c, d⟩ := h p e h1 h2 h3 s m args below h4 h5 h6 h7
  exact ⟨n, o, a, b, c, hQ _ _ _ _ d⟩
theorem Ct.met {α : Type} {l : Launch} {Rp : Mem → Mem → Prop} {y : MethodName} {ws : List Cond} {fr lo : Nat} {cv : α → Option Value} {args : List Value} {f : Act α} (h : Ct l Rp y ws fr lo cv args f) (w : Wd) {M M' : Mem} {v : α} (hf : f.run M = some (.inl v, M')) :
    Met l y ws { frames := fr, cells := M'.n - M.n, slots := M'.sl - M.sl, locals := lo } (Pre_ w Rp M args) (Post_ w Rp M' (.returned (cv v))) (M'.n - M.n) (M'.sl - M.sl) w.A := by
  refine MetFree.mono ?_ (h w M M' (.inl v) hf)
  intro a s o t ⟨h1, h2, L, h3, h4⟩
  exact ⟨h1, L, ⟨⟨_, h1.1⟩, h2, h3⟩, h4⟩
/-- a method's contract out of its walk -/
theorem Ct.of {α : Type} {l : Launch} {Rp : Mem → Mem → Prop} {y : MethodName} {cc : ByteArray} {maxL : Nat} {rt : Option FieldType} {fr lo : Nat} {cv : α → Option Value} {args : List Value} {f : Act α} {own : String} (hy : plainFor y = true) (hown : y.cls = own) {L : List (Nat × Value)} (hn : (lg_sl args).length ≤ maxL) (hL : lv_args 0 args = L)
    (hnz : ∀ M Z, Rp M Z → Z.n = M.n ∧ Z.sl = M.sl)
    (body : ∀ X : Cx, X.l = l → Ok X Rp cc own maxL rt fr lo → Noh X → (y.name = "<init>" → X.meth.name = "<init>") → Sim X cv 0 L [] f) : Ct l Rp y (ws_ y cc maxL rt) fr lo cv args f := by
  intro w M M' rr hf
  refine MetFree.of_bodySF (code := cc) (maxLocals := maxL) (ret := rt) hy ?_ ?_
  · intro args s m h hn
    obtain ⟨meth, c, h1, h2, h3, h4, h5, h6, -, -⟩ := Cond.code_spec hn (atoms_spec (ws := ws_ y cc maxL rt) h _ List.mem_cons_self)
    exact ⟨meth, c, h1, h2, h3, h4, h5, h6⟩
  · intro p e s m a below meth c s₁ B hml hP _
    obtain ⟨rfl, hb, hW, Z, hZ, hR⟩ := hP
    have hh0 : s₁.heap = s.heap := by rw [B.state]; rfl
    have hts0 := atoms_spec (ws := ws_ y cc maxL rt) B.pre
    have hts : ∀ w ∈ lw_all, w.before _ s = true := fun w h => hts0 w (List.mem_cons_of_mem _ h)
    have hnoh := B.noHandlers (hts0 _ List.mem_cons_self)
    have hnoh2 : ∀ x ∈ c.exceptionTable.toList, ∀ pc, covers x pc = false := by
      have e : c.exceptionTable.toList = [] := by simpa using hnoh
      intro x hx
      rw [e] at hx
      cases hx
    have hnm : y.name = "<init>" → meth.name = "<init>" := fun h => by
      rw [(name_of_methodNamed B.named B.method).1]
      exact h
    have hl := lv_entry args (n := maxL) hn
    rw [hL] at hl
    have K := body (p, l, e, (headSpec (ws_ y cc maxL rt) { frames := fr, cells := M'.n - M.n, slots := M'.sl - M.sl, locals := lo }).room, s, m, args.toArray, below, meth, c, (fun t => ∃ o, t.status = .running ∧ Ended t below o ∧ Post_ w Rp M' (Out cv rr) args.toArray s o t ∧ s.WarmedH t.vm ∧ ∃ L : List Loc, s.sameButNew ({ t with vm := s.vm } : State) L (M'.n - M.n) (M'.sl - M.sl) ∧ ∀ q ∈ L, w.A q.base), w, M.n, M.sl, maxL, Out cv rr, M', Rp) rfl
      ⟨⟨B.exec, B.bytes, hml, rfl⟩, ⟨by rw [← hown]; exact findClass_of_methodNamed B.named, hts, B.returns, B.notSynchronized⟩, ⟨hb, hW⟩, ⟨rfl, rfl, Nat.le_refl _, Nat.le_refl _⟩, fun t a1 a2 a3 a4 a5 a6 => ⟨_, a1, a2, ⟨rfl, a3, a5⟩, a4, a6⟩, hnz, rfl⟩ hnoh2 hnm
    have hWW : W p l e (headSpec (ws_ y cc maxL rt) { frames := fr, cells := M'.n - M.n, slots := M'.sl - M.sl, locals := lo }).room s m args.toArray below meth c s.heap [] 0 0 (fun t => ∃ o, t.status = .running ∧ Ended t below o ∧ Post_ w Rp M' (Out cv rr) args.toArray s o t ∧ s.WarmedH t.vm ∧ ∃ L : List Loc, s.sameButNew ({ t with vm := s.vm } : State) L (M'.n - M.n) (M'.sl - M.sl) ∧ ∀ q ∈ L, w.A q.base) (entryFrame m args.toArray maxL) := by
      rw [lg_entry_eq]
      have this : W p l e (headSpec (ws_ y cc maxL rt) { frames := fr, cells := M'.n - M.n, slots := M'.sl - M.sl, locals := lo }).room s m args.toArray below meth c s.heap [] (M.n - M.n) (M.sl - M.sl) (fun t => ∃ o, t.status = .running ∧ Ended t below o ∧ Post_ w Rp M' (Out cv rr) args.toArray s o t ∧ s.WarmedH t.vm ∧ ∃ L : List Loc, s.sameButNew ({ t with vm := s.vm } : State) L (M'.n - M.n) (M'.sl - M.sl) ∧ ∀ q ∈ L, w.A q.base) (F0 m 0 _ []) := K M Z s.heap [] _ rr hf rfl hZ hR va_S.rf hl (Nat.le_refl _) (Nat.le_refl _) (hnz M Z hZ).1 (hnz M Z hZ).2
      rw [Nat.sub_self, Nat.sub_self] at this
      exact this
    obtain ⟨t, a1, o, b1, b2, b3, b4⟩ := hWW s₁ hh0 (Stand.of_body B)
    exact ⟨t, o, a1, b1, b2, b3, b4⟩

section CR
/-- an action that ends with an answer (the call of a method that doesn't throw) -/
def nt {α : Type} (f : Act α) : Act α := act (fun M => match f.run M with
  | some (.inl a, M') => some (.inl a, M')
  | _ => none) (fun M r M' h => by
    cases hf : f.run M with
    | none => rw [hf] at h; cases h
    | some y =>
      obtain ⟨z, M1⟩ := y
      rw [hf] at h
      cases z with
      | inl a => cases h; exact f.mono hf
      | inr c => cases h)
theorem nt_run {α : Type} {f : Act α} {M : Mem} {r : α ⊕ Nat} {M' : Mem} (h : (nt f).run M = some (r, M')) : ∃ v, r = .inl v ∧ f.run M = some (.inl v, M') := by
  cases hf : f.run M with
  | none =>
    have h : (match f.run M with | some (.inl a, M') => some ((Sum.inl a : α ⊕ Nat), M') | _ => none) = some (r, M') := h
    rw [hf] at h; cases h
  | some y =>
    obtain ⟨z, M1⟩ := y
    have h : (match f.run M with | some (.inl a, M') => some ((Sum.inl a : α ⊕ Nat), M') | _ => none) = some (r, M') := h
    rw [hf] at h
    cases z with
    | inl a => cases h; exact ⟨a, rfl, rfl⟩
    | inr c => cases h
theorem nt_of {α : Type} {f : Act α} {M M' : Mem} {v : α} (h : f.run M = some (.inl v, M')) : (nt f).run M = some (.inl v, M') := by
  show (match f.run M with | some (.inl a, M') => some ((Sum.inl a : α ⊕ Nat), M') | _ => none) = _
  rw [h]
/-- the action, where the cell c is of class ci -/
def gd {α : Type} (ci c : Nat) (f : Act α) : Act α := act (fun M => if M.k c = ci + 1 then f.run M else none) (fun M r M' h => by
  by_cases q : M.k c = ci + 1
  · rw [if_pos q] at h; exact f.mono h
  · rw [if_neg q] at h; cases h)
theorem gd_run {α : Type} {ci c : Nat} {f : Act α} {M : Mem} {x : (α ⊕ Nat) × Mem} (h : (gd ci c f).run M = some x) : M.k c = ci + 1 ∧ f.run M = some x := by
  have h : (if M.k c = ci + 1 then f.run M else none) = some x := h
  by_cases q : M.k c = ci + 1
  · rw [if_pos q] at h; exact ⟨q, h⟩
  · rw [if_neg q] at h; cases h
theorem gd_of {α : Type} {ci c : Nat} {f : Act α} {M : Mem} (h : M.k c = ci + 1) : (gd ci c f).run M = f.run M := if_pos h
theorem bnd_nt {α β : Type} {f : Act α} {k : α → Act β} {M M' : Mem} {r : β ⊕ Nat} (h : (bnd (nt f) k).run M = some (r, M')) : ∃ v M1, f.run M = some (.inl v, M1) ∧ (k v).run M1 = some (r, M') := by
  rw [bnd_run] at h
  cases hn : (nt f).run M with
  | none => rw [hn] at h; cases h
  | some y =>
    obtain ⟨z, M1⟩ := y
    obtain ⟨v, rfl, hv⟩ := nt_run hn
    rw [hn] at h
    exact ⟨v, M1, hv, h⟩
variable {p : Program} {l : Launch} {e : Env} {R : Room} {s : State} {m : MethodId} {args : Array Value} {below : List Frame} {meth : Method} {c : Code} {H : Heap} {locs : List Loc} {cells slots : Nat} {Q : State → Prop}
theorem run_go {pc : Nat} {ls : Array Slot} {rest st0 : List Value} {A : Nat → Prop} {mc ms : Nat} {ov : Option Value} {PP : Heap → Prop} {Qa : State → Outcome → State → Prop} (hr : va_Run p l e R s m args below meth c H locs cells slots mc ms (F0 m pc ls st0) rest Qa A) (hQa : ∀ st o t, Qa st o t → o = .returned ov ∧ PP t.heap ∧ va_F A st t) (hS : va_S A s.heap H locs)
    (kk : ∀ (H1 : Heap) (locs1 : List Loc), PP H1 → va_S A s.heap H1 locs1 → W p l e R s m args below meth c H1 locs1 (cells + mc) (slots + ms) Q (F0 m (pc + 3) ls (ov.toList ++ rest))) : W p l e R s m args below meth c H locs cells slots Q (F0 m pc ls st0) := by
  intro T hT X
  obtain ⟨v, st₀, t, T', L, h0, X', hL, e1, e2, hq, st⟩ := hr T hT X
  obtain ⟨hv, hp, hz, hk⟩ := hQa _ _ _ hq
  cases hv
  rw [h0] at hz hk
  obtain ⟨t2, a1, b1⟩ := kk T'.heap (locs ++ L) (by rw [e1]; exact hp)
    ⟨Nat.le_trans hS.1 (by rw [e1]; exact hz), fun q h1 h2 => by rw [e1, hk q (Nat.lt_of_lt_of_le h1 hS.1) h2]; exact hS.2.1 q h1 h2, fun q hq => by
      rcases List.mem_append.mp hq with h | h
      · exact hS.2.2 q h
      · exact hL q h⟩ T' rfl X'
  exact ⟨t2, st t2 a1, b1⟩
theorem run_go5 {pc : Nat} {ls : Array Slot} {rest st0 : List Value} {A : Nat → Prop} {mc ms : Nat} {ov : Option Value} {PP : Heap → Prop} {Qa : State → Outcome → State → Prop} (hr : va_Run5 p l e R s m args below meth c H locs cells slots mc ms (F0 m pc ls st0) rest Qa A) (hQa : ∀ st o t, Qa st o t → o = .returned ov ∧ PP t.heap ∧ va_F A st t) (hS : va_S A s.heap H locs)
    (kk : ∀ (H1 : Heap) (locs1 : List Loc), PP H1 → va_S A s.heap H1 locs1 → W p l e R s m args below meth c H1 locs1 (cells + mc) (slots + ms) Q (F0 m (pc + 5) ls (ov.toList ++ rest))) : W p l e R s m args below meth c H locs cells slots Q (F0 m pc ls st0) := by
  intro T hT X
  obtain ⟨v, st₀, t, T', L, h0, X', hL, e1, e2, hq, st⟩ := hr T hT X
  obtain ⟨hv, hp, hz, hk⟩ := hQa _ _ _ hq
  cases hv
  rw [h0] at hz hk
  obtain ⟨t2, a1, b1⟩ := kk T'.heap (locs ++ L) (by rw [e1]; exact hp)
    ⟨Nat.le_trans hS.1 (by rw [e1]; exact hz), fun q h1 h2 => by rw [e1, hk q (Nat.lt_of_lt_of_le h1 hS.1) h2]; exact hS.2.1 q h1 h2, fun q hq => by
      rcases List.mem_append.mp hq with h | h
      · exact hS.2.2 q h
      · exact hL q h⟩ T' rfl X'
  exact ⟨t2, st t2 a1, b1⟩
theorem pre_blind {w : Wd} {Rp : Mem → Mem → Prop} {M : Mem} {as : List Value} : FrameBlind (Pre_ w Rp M as) := fun _ _ _ _ h => h
end CR
section CS
variable {α β : Type} {X : Cx} {Rp : Mem → Mem → Prop} {cc bytes : ByteArray} {own : String} {nL : Nat} {rt rt2 : Option FieldType} {fr lo fr2 lo2 maxL index n : Nat} {cv : α → Option Value} {cw : β → Option Value} {pc : Nat} {L : List (Nat × Value)} {st : List Value} {y : MethodName} {fc : Act β} {k : β → Act α}
theorem room_st {X : Cx} {M M1 Mf : Mem} {R n0 : Nat} (hm : M.n ≤ M1.n) (hm2 : M1.n ≤ Mf.n) (hn0 : n0 ≤ M.n) (hR : Mf.n - n0 ≤ R) : M.n - n0 + (M1.n - M.n) ≤ R := by omega
/-- a call through an object of class ci -/
theorem s_callV (hX : Ok X Rp cc own nL rt fr lo) {ci x : Nat} {As : List Value} (hC : CpK Rp (ci + 1)) (hci : ci < 20) (hCt : Ct X.l Rp y (ws_ y bytes maxL rt2) fr2 lo2 cw (rv x :: As) fc)
    (q1 : Cond.methodLink own index y ∈ lw_all) (q2 : Cond.instanceMethod y ∈ lw_all) (q3 : Cond.selects (RR ci) y y ∈ lw_all) (q4 : Cond.initialized (RR ci) ∈ lw_all) (q5 : Cond.code y bytes maxL rt2 ∈ lw_all)
    (hyc : y.cls = RR ci ∧ y.cls ≠ "java/lang/invoke/MethodHandle" ∧ y.cls ≠ "java/lang/invoke/VarHandle" ∧ (parseMethodDescriptor y.desc).map (fun d => d.parameters.length) = some n) (hR : fr2 + 1 ≤ fr ∧ 8 + (maxL + 11) + lo2 ≤ lo) (hn : As.length = n) (hst : (st.map fun v => v.category).sum ≤ 8)
    (hd : decode cc pc = .ok (.invokevirtual index, 3)) (h : ∀ v, Sim X cv (pc + 3) L ((cw v).toList ++ st) (k v)) : Sim X cv pc L (As.reverse ++ rv x :: st) (bnd (gd ci x (nt fc)) k) := by
  intro M Z H locs ls rr h1 h2 h3 h4 h5 h6 h7 h8 h9 h10
  have hkx : M.k x = ci + 1 ∧ (bnd (nt fc) k).run M = some (rr, X.Mf) := by
    rw [bnd_run] at h1
    cases hg : (gd ci x (nt fc)).run M with
    | none => rw [hg] at h1; cases h1
    | some z =>
      obtain ⟨g1, g2⟩ := gd_run hg
      rw [hg] at h1
      exact ⟨g1, by rw [bnd_run, g2]; exact h1⟩
  obtain ⟨hk, h1⟩ := hkx
  obtain ⟨v, M1, r1, r2⟩ := bnd_nt h1
  have m1 := fc.mono r1
  have m2 := (k v).mono r2
  have g1 : okr ci x Z := Or.inl (hC M Z x (hX.hRp ▸ h3) hk)
  obtain ⟨a, rfl, cell, o1, o2, o3, o4⟩ := rep_obj h4 (by omega : ci < 20) g1
  have hcl := (hX.hK.1 ci _ (cl_at ci (by omega))).2.1
  have hf : M.n - X.n0 + (M1.n - M.n) ≤ X.R.cells ∧ M.sl - X.sl0 + (M1.sl - M.sl) ≤ X.R.slots := ⟨by have := hX.hcells; omega, by have := hX.hslots; omega⟩
  refine run_go (ov := cw v) (PP := fun H => ∃ Z, Rp M1 Z ∧ Rep0 X.w Z H) (va_runV (C := RR ci) (b := a) (As := As) (rest := st) ⟨hX.hx, hX.hb, hX.hml, hX.hown, hX.hts⟩ (hCt.met X.w r1) (cwV n hX.hts (lw_V q1 q2 q3 q4 q5) rfl rfl rfl hyc ⟨by rw [hX.hfr]; exact hR.1, by rw [hX.hlo]; exact hR.2⟩)
    ⟨pre_blind, ⟨cell, o1, by rw [o3]; rfl, by rw [o2]; exact hcl⟩, fun U hU hW => ⟨rfl, hX.base, hX.warm.trans hW, Z, hX.hRp ▸ h3, by rw [hU]; exact h4⟩⟩ rfl hn (by rw [h6.1, hX.hnL]) rfl (lv_room hst) hd hf) (fun st o t q => q) h5 (fun H1 locs1 hp hs => ?_)
  obtain ⟨Z1, z1, z2⟩ := hp
  obtain ⟨n1, n2⟩ := hX.hnz (M := M1) (Z := Z1) (hX.hRp.symm ▸ z1)
  have K := h v M1 Z1 H1 locs1 ls rr r2 h2 (hX.hRp.symm ▸ z1) z2 hs h6 (by omega) (by omega) n1 n2
  have e1 : M.n - X.n0 + (M1.n - M.n) = M1.n - X.n0 := by omega
  have e2 : M.sl - X.sl0 + (M1.sl - M.sl) = M1.sl - X.sl0 := by omega
  rw [e1, e2]
  exact K
end CS
