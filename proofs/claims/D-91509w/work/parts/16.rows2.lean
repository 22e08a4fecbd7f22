set_option maxRecDepth 100000
theorem sel_priv {y : MethodName} {C : String} {s : State} {args : Array Value} (hy : y.cls ≠ "java/lang/invoke/MethodHandle" ∧ y.cls ≠ "java/lang/invoke/VarHandle") {c : ClassId} (hc : s.vm.findClass C = some c)
    (hpriv : (Cond.privateMethod y).before args s = true) (hinst : (Cond.instanceMethod y).before args s = true) (hsame : (Cond.sameMethod y.cls y.cls y.name y.desc).before args s = true) : (Cond.selects C y y).before args s = true := by
  obtain ⟨mk, methM, hnamed, hmethM, -, -⟩ := Cond.instanceMethod_spec hinst
  have hfound : s.methodFound? y.cls y.name y.desc = some mk := State.methodFound?_of_named hnamed hy
  obtain ⟨-, k, hk, hni⟩ := Cond.sameMethod_spec (findClass_of_methodNamed hnamed) hfound hsame
  have hsel : selectMethod {} s.vm c mk = .method mk := selectMethod_private hmethM (Cond.privateMethod_at hpriv mk methM hnamed hmethM)
  simp only [Cond.before, Cond.holds, Cond.value, hc, hfound, hnamed, hsel, hk]
  simp; exact hni
/-- the action, where the cell c is a String -/
def gs {α : Type} (c : Nat) (f : Act α) : Act α := act (fun M => if M.k c = 20 ∨ M.k c = 40 then f.run M else none) (fun M r M' h => by
  by_cases q : M.k c = 20 ∨ M.k c = 40
  · rw [if_pos q] at h; exact f.mono h
  · rw [if_neg q] at h; cases h)
theorem bnd_gs {α γ : Type} {x : Nat} {f : Act γ} {k : γ → Act α} {M M' : Mem} {r : α ⊕ Nat} (h1 : (bnd (gs x f) k).run M = some (r, M')) : (M.k x = 20 ∨ M.k x = 40) ∧ (bnd f k).run M = some (r, M') := by
  by_cases q : M.k x = 20 ∨ M.k x = 40
  · refine ⟨q, ?_⟩
    rw [bnd_run] at h1 ⊢
    have e : (gs x f).run M = f.run M := if_pos q
    rw [e] at h1
    exact h1
  · rw [bnd_run] at h1
    have e : (gs x f).run M = none := if_neg q
    rw [e] at h1
    cases h1
section CU
variable {α β : Type} {X : Cx} {Rp : Mem → Mem → Prop} {cc bytes : ByteArray} {own : String} {nL : Nat} {rt rt2 : Option FieldType} {fr lo fr2 lo2 maxL index n : Nat} {cv : α → Option Value} {cw : β → Option Value} {pc : Nat} {L : List (Nat × Value)} {st : List Value} {y : MethodName} {fc : Act β} {k : β → Act α}
theorem Ok.selP (hX : Ok X Rp cc own nL rt fr lo) {ci : Nat} (hci : ci < 20) {y : MethodName} (hy : y.cls ≠ "java/lang/invoke/MethodHandle" ∧ y.cls ≠ "java/lang/invoke/VarHandle") (hp : Cond.privateMethod y ∈ lw_tbl) (hi : Cond.instanceMethod y ∈ lw_all) (hs : Cond.sameMethod y.cls y.cls y.name y.desc ∈ lw_all) : (Cond.selects (RR ci) y y).before X.args X.s = true :=
  word_at hX.warm (Or.inl (by first | rfl | simp [Cond.onTables, Cond.keeps, Cond.steady])) (sel_priv hy (hX.base.2.1.1 ci _ (cl_at ci hci)).2.1 (hX.base.1 _ hp) (hX.base.1 _ (lw_all_tbl hi)) (hX.base.1 _ (lw_all_tbl hs)))
/-- a call of an inherited method (or of one that overrides the named one) -/
theorem s_callU (hX : Ok X Rp cc own nL rt fr lo) {z : MethodName} {ci x : Nat} {As : List Value} {b0 : ByteArray} {m0 : Nat} {r0 : Option FieldType} (hC : CpK Rp (ci + 1)) (hci : ci < 20) (hCt : Ct X.l Rp y (ws_ y bytes maxL rt2) fr2 lo2 cw (rv x :: As) fc)
    (q1 : Cond.methodLink own index z ∈ lw_all) (q2 : Cond.instanceMethod y ∈ lw_all) (q6 : Cond.sameMethod z.cls z.cls z.name z.desc ∈ lw_all) (q7 : Cond.instanceMethod z ∈ lw_all) (q8 : Cond.code z b0 m0 r0 ∈ lw_all) (q3 : (Cond.selects (RR ci) z y).before X.args X.s = true) (q4 : Cond.initialized y.cls ∈ lw_all) (q5 : Cond.code y bytes maxL rt2 ∈ lw_all)
    (hyc : z.cls ≠ "java/lang/invoke/MethodHandle" ∧ z.cls ≠ "java/lang/invoke/VarHandle" ∧ (parseMethodDescriptor z.desc).map (fun d => d.parameters.length) = some n) (hR : fr2 + 1 ≤ fr ∧ 8 + (maxL + 11) + lo2 ≤ lo) (hn : As.length = n) (hst : (st.map fun v => v.category).sum ≤ 8)
    (hd : decode cc pc = .ok (.invokevirtual index, 3)) (h : ∀ v, Sim X cv (pc + 3) L ((cw v).toList ++ st) (k v)) : Sim X cv pc L (As.reverse ++ rv x :: st) (bnd (gd ci x (nt fc)) k) := by
  intro M Z H locs ls rr h1 h2 h3 h4 h5 h6 h7 h8 h9 h10
  obtain ⟨hk, h1⟩ := bnd_gd h1
  obtain ⟨v, M1, r1, r2⟩ := bnd_nt h1
  have m1 := fc.mono r1
  have m2 := (k v).mono r2
  have hf : M.n - X.n0 + (M1.n - M.n) ≤ X.R.cells ∧ M.sl - X.sl0 + (M1.sl - M.sl) ≤ X.R.slots := ⟨by have := hX.hcells; omega, by have := hX.hslots; omega⟩
  have g1 : okr ci x Z := Or.inl (hC M Z x (hX.hRp ▸ h3) hk)
  obtain ⟨a, rfl, cell, o1, o2, o3, o4⟩ := rep_obj h4 (by omega : ci < 20) g1
  have hcl := (hX.hK.1 ci _ (cl_at ci (by omega))).2.1
  exact s_core hX h h2 h5 h6 h7 h8 m1 r2 (va_runU (x := z) (C := RR ci) (owner := z.cls) (b := a) (As := As) (rest := st) ⟨hX.hx, hX.hb, hX.hml, hX.hown, hX.hts⟩ (hCt.met X.w r1)
    ⟨⟨rfl, rfl, by rw [hX.hfr]; exact hR.1, by rw [hX.hlo]; exact hR.2, pay_in hX.hts (lw_meth q5), List.mem_cons_self⟩, hX.hts _ q5, hX.hts _ q4, ⟨hyc.1, hyc.2.1⟩, fun sig h0 => by
      have h9 := hyc.2.2
      rw [h0] at h9
      exact (Option.some.inj h9).symm, hX.hts _ q1, hX.hts _ q6, va_Decl.of (hX.hts _ q7) (hX.hts _ q8), q3, hX.hts _ q2⟩
    ⟨pre_blind, ⟨cell, o1, by rw [o3]; rfl, by rw [o2]; exact hcl⟩, fun U hU hW => ⟨rfl, hX.base, hX.warm.trans hW, Z, hX.hRp ▸ h3, by rw [hU]; exact h4⟩⟩ rfl hn (by rw [h6.1, hX.hnL]) rfl (lv_room hst) hd hf)
/-- a call of a method of String -/
theorem s_callVS (hX : Ok X Rp cc own nL rt fr lo) {x : Nat} {As : List Value} (hC : CpK Rp 20) (hC2 : CpK Rp 40) (hCt : Ct X.l Rp y (ws_ y bytes maxL rt2) fr2 lo2 cw (rv x :: As) fc)
    (q1 : Cond.methodLink own index y ∈ lw_all) (q2 : Cond.instanceMethod y ∈ lw_all) (q3 : Cond.selects (RR 19) y y ∈ lw_all) (q4 : Cond.initialized (RR 19) ∈ lw_all) (q5 : Cond.code y bytes maxL rt2 ∈ lw_all)
    (hyc : y.cls = RR 19 ∧ y.cls ≠ "java/lang/invoke/MethodHandle" ∧ y.cls ≠ "java/lang/invoke/VarHandle" ∧ (parseMethodDescriptor y.desc).map (fun d => d.parameters.length) = some n) (hR : fr2 + 1 ≤ fr ∧ 8 + (maxL + 11) + lo2 ≤ lo) (hn : As.length = n) (hst : (st.map fun v => v.category).sum ≤ 8)
    (hd : decode cc pc = .ok (.invokevirtual index, 3)) (h : ∀ v, Sim X cv (pc + 3) L ((cw v).toList ++ st) (k v)) : Sim X cv pc L (As.reverse ++ rv x :: st) (bnd (gs x (nt fc)) k) := by
  intro M Z H locs ls rr h1 h2 h3 h4 h5 h6 h7 h8 h9 h10
  obtain ⟨hk, h1⟩ := bnd_gs h1
  obtain ⟨v, M1, r1, r2⟩ := bnd_nt h1
  have m1 := fc.mono r1
  have m2 := (k v).mono r2
  have hf : M.n - X.n0 + (M1.n - M.n) ≤ X.R.cells ∧ M.sl - X.sl0 + (M1.sl - M.sl) ≤ X.R.slots := ⟨by have := hX.hcells; omega, by have := hX.hslots; omega⟩
  have g1 : okr 19 x Z := by
    rcases hk with hk | hk
    · exact Or.inl (hC M Z x (hX.hRp ▸ h3) hk)
    · exact Or.inr ⟨rfl, hC2 M Z x (hX.hRp ▸ h3) hk⟩
  obtain ⟨a, rfl, cell, o1, o2, o3, o4⟩ := rep_obj h4 (by omega : 19 < 20) g1
  have hcl := (hX.hK.1 19 _ (cl_at 19 (by omega))).2.1
  exact s_core hX h h2 h5 h6 h7 h8 m1 r2 (va_runV (C := RR 19) (b := a) (As := As) (rest := st) ⟨hX.hx, hX.hb, hX.hml, hX.hown, hX.hts⟩ (hCt.met X.w r1) (cwV n hX.hts (lw_V q1 q2 q3 q4 q5) rfl rfl rfl hyc ⟨by rw [hX.hfr]; exact hR.1, by rw [hX.hlo]; exact hR.2⟩)
    ⟨pre_blind, ⟨cell, o1, by rw [o3]; rfl, by rw [o2]; exact hcl⟩, fun U hU hW => ⟨rfl, hX.base, hX.warm.trans hW, Z, hX.hRp ▸ h3, by rw [hU]; exact h4⟩⟩ rfl hn (by rw [h6.1, hX.hnL]) rfl (lv_room hst) hd hf)
/-- a call of a method of the superclass -/
theorem s_callSU (hX : Ok X Rp cc own nL rt fr lo) {ci x : Nat} {As : List Value} (hC : CpK Rp (ci + 1)) (hci : ci < 20) (hCt : Ct X.l Rp y (ws_ y bytes maxL rt2) fr2 lo2 cw (rv x :: As) fc)
    (q1 : Cond.methodLink own index y ∈ lw_all) (q2 : Cond.instanceMethod y ∈ lw_all) (q6 : Cond.sameMethod y.cls y.cls y.name y.desc ∈ lw_all) (q7 : Cond.superclass own y.cls ∈ lw_all) (q4 : Cond.initialized y.cls ∈ lw_all) (q5 : Cond.code y bytes maxL rt2 ∈ lw_all) (hno : y.name ≠ "<init>")
    (hyc : y.cls ≠ "java/lang/invoke/MethodHandle" ∧ y.cls ≠ "java/lang/invoke/VarHandle" ∧ (parseMethodDescriptor y.desc).map (fun d => d.parameters.length) = some n) (hR : fr2 + 1 ≤ fr ∧ 8 + (maxL + 11) + lo2 ≤ lo) (hn : As.length = n) (hst : (st.map fun v => v.category).sum ≤ 8)
    (hd : decode cc pc = .ok (.invokespecial index, 3)) (h : ∀ v, Sim X cv (pc + 3) L ((cw v).toList ++ st) (k v)) : Sim X cv pc L (As.reverse ++ rv x :: st) (bnd (gd ci x (nt fc)) k) := by
  intro M Z H locs ls rr h1 h2 h3 h4 h5 h6 h7 h8 h9 h10
  obtain ⟨hk, h1⟩ := bnd_gd h1
  obtain ⟨v, M1, r1, r2⟩ := bnd_nt h1
  have m1 := fc.mono r1
  have m2 := (k v).mono r2
  have hf : M.n - X.n0 + (M1.n - M.n) ≤ X.R.cells ∧ M.sl - X.sl0 + (M1.sl - M.sl) ≤ X.R.slots := ⟨by have := hX.hcells; omega, by have := hX.hslots; omega⟩
  have g1 : okr ci x Z := Or.inl (hC M Z x (hX.hRp ▸ h3) hk)
  obtain ⟨a, rfl, cell, o1, o2, o3, o4⟩ := rep_obj h4 (by omega : ci < 20) g1
  obtain ⟨-, hcl, kC, hkC, hkind⟩ := hX.hK.1 ci _ (cl_at ci (by omega))
  exact s_core hX h h2 h5 h6 h7 h8 m1 r2 (va_runSU (C := RR ci) (b := a) (As := As) (rest := st) ⟨hcl, kC, hkC, hkind⟩ ⟨hX.hx, hX.hb, hX.hml, hX.hown, hX.hts⟩ (hCt.met X.w r1)
    ⟨⟨rfl, rfl, by rw [hX.hfr]; exact hR.1, by rw [hX.hlo]; exact hR.2, pay_in hX.hts (lw_meth q5), List.mem_cons_self⟩, hX.hts _ q1, hX.hts _ q6, hX.hts _ q7, hX.hts _ q2, hX.hts _ q4, hX.hts _ q5, hno, fun sig h0 => by
      have h9 := hyc.2.2
      rw [h0] at h9
      exact (Option.some.inj h9).symm⟩
    ⟨pre_blind, ⟨cell, o1, by rw [o3]; rfl, by rw [o2]; exact hcl⟩, fun U hU hW => ⟨rfl, hX.base, hX.warm.trans hW, Z, hX.hRp ▸ h3, by rw [hU]; exact h4⟩⟩ rfl hn (by rw [h6.1, hX.hnL]) rfl (lv_room hst) hd hf)
/-- a call through the interface: the receiver is of class ci -/
theorem s_callF1 (hX : Ok X Rp cc own nL rt fr lo) {z : MethodName} {ci x count : Nat} {As : List Value} (hC : CpK Rp (ci + 1)) (hci : ci < 20) (hCt : Ct X.l Rp y (ws_ y bytes maxL rt2) fr2 lo2 cw (rv x :: As) fc)
    (q1 : Cond.methodLink own index z ∈ lw_all) (q2 : Cond.instanceMethod y ∈ lw_all) (q3 : Cond.selects (RR ci) z y ∈ lw_all) (q4 : Cond.initialized y.cls ∈ lw_all) (q5 : Cond.code y bytes maxL rt2 ∈ lw_all)
    (t1 : Cond.declares z ∈ lw_tbl) (t2 : Cond.interfaceMethod z.cls z.cls z.name z.desc ∈ lw_tbl) (t3 : Cond.publicMethod y ∈ lw_tbl) (t4 : Cond.unhidden (RR ci) z.name z.desc ∈ lw_tbl) (t5 : Cond.castable (RR ci) z.cls ∈ lw_tbl)
    (hyc : z.cls ≠ "java/lang/invoke/MethodHandle" ∧ z.cls ≠ "java/lang/invoke/VarHandle" ∧ (parseMethodDescriptor z.desc).map (fun d => d.parameters.length) = some n) (hR : fr2 + 1 ≤ fr ∧ 8 + (maxL + 11) + lo2 ≤ lo) (hn : As.length = n) (hst : (st.map fun v => v.category).sum ≤ 8)
    (hd : decode cc pc = .ok (.invokeinterface index count, 5)) (h : ∀ v, Sim X cv (pc + 5) L ((cw v).toList ++ st) (k v)) : Sim X cv pc L (As.reverse ++ rv x :: st) (bnd (gd ci x (nt fc)) k) := by
  intro M Z H locs ls rr h1 h2 h3 h4 h5 h6 h7 h8 h9 h10
  obtain ⟨hk, h1⟩ := bnd_gd h1
  obtain ⟨v, M1, r1, r2⟩ := bnd_nt h1
  have m1 := fc.mono r1
  have m2 := (k v).mono r2
  have hf : M.n - X.n0 + (M1.n - M.n) ≤ X.R.cells ∧ M.sl - X.sl0 + (M1.sl - M.sl) ≤ X.R.slots := ⟨by have := hX.hcells; omega, by have := hX.hslots; omega⟩
  have g1 : okr ci x Z := Or.inl (hC M Z x (hX.hRp ▸ h3) hk)
  obtain ⟨a, rfl, cell, o1, o2, o3, o4⟩ := rep_obj h4 (by omega : ci < 20) g1
  obtain ⟨-, hcl, kC, hkC, hkind⟩ := hX.hK.1 ci _ (cl_at ci (by omega))
  have hF : va_Fw (RR ci) z y X.s := va_Fw.moved ⟨hyc.1, hyc.2.1⟩ hX.warm.alike (va_Fw.of (hX.base.1 _ t1) (hX.base.1 _ t2) (hX.base.1 _ t3) (hX.base.1 _ t4) (hX.base.1 _ t5))
  exact s_core5 hX h h2 h5 h6 h7 h8 m1 r2 (va_runF (x := z) (C := RR ci) (b := a) (As := As) (rest := st) ⟨hcl, kC, hkC, hkind⟩ ⟨hX.hx, hX.hb, hX.hml, hX.hown, hX.hts⟩ (hCt.met X.w r1)
    (va_cwF n hX.hts (fun w hw => by
      rcases List.mem_append.mp hw with hw | hw
      · simp only [List.mem_cons, List.not_mem_nil, or_false] at hw
        rcases hw with rfl | rfl | rfl | rfl
        · exact lw_self _ q1
        · exact lw_self _ q3
        · exact lw_self _ q2
        · exact lw_self _ q4
      · exact lw_meth q5 w hw) rfl rfl rfl hF hyc ⟨by rw [hX.hfr]; exact hR.1, by rw [hX.hlo]; exact hR.2⟩)
    ⟨pre_blind, ⟨cell, o1, by rw [o3]; rfl, by rw [o2]; exact hcl⟩, fun U hU hW => ⟨rfl, hX.base, hX.warm.trans hW, Z, hX.hRp ▸ h3, by rw [hU]; exact h4⟩⟩ rfl hn (by rw [h6.1, hX.hnL]) rfl (lv_room hst) hd hf)
end CU
section CL
variable {α : Type} {X : Cx} {Rp : Mem → Mem → Prop} {cc : ByteArray} {own : String} {nL : Nat} {rt : Option FieldType} {fr lo : Nat} {cv : α → Option Value} {pc : Nat} {L : List (Nat × Value)} {st : List Value} {index : Nat}
/-- a cast to byte[] -/
def cstB (x : Nat) : Act Unit := rdm (fun M => M.k x = 52 ∨ M.k x = 62) (fun _ => inferInstanceAs (Decidable (_ ∨ _))) (fun _ => ())
theorem s_castB (hX : Ok X Rp cc own nL rt fr lo) (hC : CpA Rp 2) {x : Nat} (q1 : Cond.classLink own index "[B" ∈ lw_all) (hd : decode cc pc = .ok (.checkcast index, 3)) {k : Unit → Act α} (h : Sim X cv (pc + 3) L (rv x :: st) (k ())) : Sim X cv pc L (rv x :: st) (bnd (cstB x) k) := by
  intro M Z H locs ls rr h1 h2 h3 h4 h5 h6 h7 h8 h9 h10
  obtain ⟨qk, q2⟩ := bnd_rdm h1
  have K := h M Z H locs ls rr q2 h2 h3 h4 h5 h6 h7 h8 h9 h10
  have g := hC M Z x (hX.hRp ▸ h3) qk
  obtain ⟨a, rfl, hc⟩ := rep_arr h4 (q := 2) (by omega) (by rw [g.1]; exact qk)
  exact va_castA hX.hx hX.hb hX.hown (hX.hts _ q1) (one_P (w := X.w) (E := .inl (_, _, _)) hc) 0 rfl (va_nm_byte (hX.hK.2 2 _ rfl).2) hd K
/-- a copy of a byte array -/
def Mem.clo (M : Mem) (x : Nat) : Mem := (M.newa 2 (M.len x)).setaia (M.n + 1) (M.ai x)
def cloB (x : Nat) : Act Nat := wrm (fun M => (M.k x = 52 ∨ M.k x = 62) ∧ ∀ i, i < M.len x → fits .byte (.int (M.ai x i)) = true) (fun M => inferInstanceAs (Decidable ((_ ∨ _) ∧ (∀ i, i < M.len x → _)))) (fun M => M.n + 1) (fun M => M.clo x) (fun _ => ⟨Nat.le_succ _, Nat.le_add_right _ _⟩)
theorem s_clone (hX : Ok X (@Eq Mem) cc own nL rt fr lo) {x : Nat} (q1 : Cond.methodLink own index ⟨"[B", "clone", "()Ljava/lang/Object;"⟩ ∈ lw_all) (q2 : Cond.sameMethod "[B" "java/lang/Object" "clone" "()Ljava/lang/Object;" ∈ lw_all) (q3 : Cond.native ⟨"java/lang/Object", "clone", "()Ljava/lang/Object;"⟩ ∈ lw_all) (q4 : Cond.instanceMethod ⟨"java/lang/Object", "clone", "()Ljava/lang/Object;"⟩ ∈ lw_all)
    (q5 : Cond.selects "[B" ⟨"[B", "clone", "()Ljava/lang/Object;"⟩ ⟨"java/lang/Object", "clone", "()Ljava/lang/Object;"⟩ ∈ lw_all) (q6 : Cond.castable "[B" "java/lang/Cloneable" ∈ lw_tbl) (hf1 : 1 ≤ fr) (hl1 : (st.map fun v => v.category).sum + 14 ≤ lo) (hd : decode cc pc = .ok (.invokevirtual index, 3))
    {k : Nat → Act α} (h : ∀ v, Sim X cv (pc + 3) L (rv v :: st) (k v)) : Sim X cv pc L (rv x :: st) (bnd (cloB x) k) := by
  intro M Z H locs ls rr h1 h2 h3 h4 h5 h6 h7 h8 h9 h10
  obtain ⟨⟨o1, oe⟩, r2⟩ := bnd_wrm h1
  have e3 : M = Z := hX.hRp ▸ h3
  subst e3
  have m2 := (k (M.n + 1)).mono r2
  have m3 : (M.clo x).n = M.n + 1 ∧ (M.clo x).sl = M.sl + M.len x := ⟨rfl, rfl⟩
  have hc := hX.hcells
  have hs := hX.hslots
  have hz : H.size = M.n := h4.2.2.2.1
  obtain ⟨a, rfl, hc0⟩ := rep_arr h4 (q := 2) (by omega) o1
  have ec0 : acont M (a + 1) 2 = .inl (M.ai (a + 1)) := rfl
  rw [ec0] at hc0
  have hnm := va_nm_byte (hX.hK.2 2 _ rfl).2
  obtain ⟨c0, t0', f1, f2, f3⟩ := Cond.castable_spec (va_Nw.use (A := X.args) rfl (hX.castable q6))
  cases hnm.symm.trans f1
  intro T hT XX
  obtain ⟨-, kA, hkA, comp, hkind⟩ := State.isArrayOf_alike XX.warmed.alike ((hX.hK.2 2 _ rfl).1 0 (fun _ => .null))
  obtain ⟨-, kS, hkS, compS, hkindS⟩ := (hX.hK.2 2 _ rfl).1 0 (fun _ => .null)
  have hsz : (vp_cell (X.w.dA 2) (M.len (a + 1), .inl (M.ai (a + 1)))).slots.size = M.len (a + 1) := arrV_size _ _ _
  obtain ⟨vm', X', stp⟩ := XX.cloneArray hX.hx hX.hown (hX.hts _ q1) (hX.hts _ q2) (hX.hts _ q3) (hX.hts _ q4) (hX.hts _ q5) (a := a) (cell := vp_cell (X.w.dA 2) (M.len (a + 1), .inl (M.ai (a + 1)))) (by rw [hT]; exact hc0) (fun k h => by cases h) (fun h => by cases h) hnm f2 f3
    (fun i v hv => by
      have hi : i < M.len (a + 1) := by
        have := (Array.getElem?_eq_some_iff.mp hv).1
        rw [hsz] at this
        exact this
      have hv' : v = .int (M.ai (a + 1) i) := by
        have e9 : (vp_cell (X.w.dA 2) (M.len (a + 1), .inl (M.ai (a + 1)))).slots[i]? = some (.int (M.ai (a + 1) i)) := by
          show (arrV _ _ (fun j => .int (M.ai (a + 1) j))).slots[i]? = _
          rw [arrV_read _ _ hi]
        rw [e9] at hv
        exact (Option.some.inj hv).symm
      subst hv'
      have hk' : T.vm.classes[X.w.dA 2]? = some kA := hkA
      have hcl0 : (vp_cell (X.w.dA 2) (M.len (a + 1), .inl (M.ai (a + 1)))).cls = X.w.dA 2 := rfl
      rw [hcl0]
      simpa [State.fitsSlot, State.slotType?, hk', hkind] using oe i hi)
    (g := F0 X.m pc ls (.ref a :: st)) rfl (by rw [hX.hml, ← hX.hnL]; exact h6.1) rfl (by rw [hX.hb]; exact hd) (by rw [hX.hfr]; exact hf1) (by rw [hX.hlo]; show 2 * 0 + _ + 14 ≤ _; omega) (by omega) (by rw [hsz]; omega) (hloader := Vm.clonesLoader_of_array hkS hkindS)
  rw [hsz] at X'
  generalize hH1 : H.push (vp_cell (X.w.dA 2) (M.len (a + 1), .inl (M.ai (a + 1)))) = H1
  have z1 : H1.size = H.size + 1 := by rw [← hH1, Array.size_push]
  have e1 : H1[H.size]? = some (vp_cell (X.w.dA 2) (M.len (a + 1), .inl (M.ai (a + 1)))) := by rw [← hH1, Array.getElem?_push_size]
  have e3 : ∀ q : Nat, q < H.size → H1[q]? = H[q]? := fun q hq => by rw [← hH1, Array.getElem?_push, if_neg (Nat.ne_of_lt hq)]
  have hR : Rep0 X.w (M.clo (a + 1)) H1 := by
    refine rep_push h4 (fun c hc => up1_ne _ _ _ hc) rfl ?_ (fun _ => rfl) (fun c hc _ => (setaia_cell _ _ _ _ hc).trans (newa_cell _ _ _ _ hc)) ?_ z1 e3
    · rw [show (M.clo (a + 1)).k (M.n + 1) = 50 + 2 from up1_eq _ _ _]
      exact ⟨by omega, by omega, by omega⟩
    · rw [arr_cell (M := M.clo (a + 1)) (c := M.n + 1) (q := 2) (by omega) (Or.inl (up1_eq M.k (M.n + 1) (50 + 2)))]
      show H1[M.n]? = some (vp_cell _ _)
      have el : (M.clo (a + 1)).len (M.n + 1) = M.len (a + 1) := up1_eq _ _ _
      have ea : acont (M.clo (a + 1)) (M.n + 1) 2 = .inl (M.ai (a + 1)) := by
        show Sum.inl ((M.clo (a + 1)).ai (M.n + 1)) = _
        rw [show (M.clo (a + 1)).ai (M.n + 1) = M.ai (a + 1) from if_pos rfl]
      rw [el, ea, ← hz]
      exact e1
  have hS1 : va_S X.w.A X.s.heap H1 locs := ⟨Nat.le_trans h5.1 (by omega), fun x h1 h2 => (e3 x (Nat.lt_of_lt_of_le h1 h5.1)).trans (h5.2.1 x h1 h2), h5.2.2⟩
  have K := h (M.n + 1) (M.clo (a + 1)) (M.clo (a + 1)) H1 locs ls rr r2 h2 (hX.hRp.symm ▸ rfl) hR hS1 h6 (by omega) (by omega) rfl rfl
  rw [m3.1, m3.2] at K
  have e5 : M.n - X.n0 + 1 = M.n + 1 - X.n0 := by omega
  have e6 : M.sl - X.sl0 + M.len (a + 1) = M.sl + M.len (a + 1) - X.sl0 := by omega
  rw [e5, e6] at X'
  obtain ⟨t, b1, b2⟩ := K _ (by rw [← hH1, ← hT]; rfl) X'
  refine ⟨t, stp t ?_, b2⟩
  have e7 : T.heap.size = M.n := by rw [hT]; exact hz
  rw [e7]
  exact b1
end CL
