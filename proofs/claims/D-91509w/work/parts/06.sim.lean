set_option maxRecDepth 100000
abbrev Cx : Type := Program × Launch × Env × Room × State × MethodId × Array Value × List Frame × Method × Code × (State → Prop) × Wd × Nat × Nat × Nat × Outcome × Mem × (Mem → Mem → Prop)
def Cx.p (X : Cx) : Program := X.1
def Cx.l (X : Cx) : Launch := X.2.1
def Cx.e (X : Cx) : Env := X.2.2.1
def Cx.R (X : Cx) : Room := X.2.2.2.1
def Cx.s (X : Cx) : State := X.2.2.2.2.1
def Cx.m (X : Cx) : MethodId := X.2.2.2.2.2.1
def Cx.args (X : Cx) : Array Value := X.2.2.2.2.2.2.1
def Cx.below (X : Cx) : List Frame := X.2.2.2.2.2.2.2.1
def Cx.meth (X : Cx) : Method := X.2.2.2.2.2.2.2.2.1
def Cx.c (X : Cx) : Code := X.2.2.2.2.2.2.2.2.2.1
def Cx.Q (X : Cx) : State → Prop := X.2.2.2.2.2.2.2.2.2.2.1
def Cx.w (X : Cx) : Wd := X.2.2.2.2.2.2.2.2.2.2.2.1
def Cx.n0 (X : Cx) : Nat := X.2.2.2.2.2.2.2.2.2.2.2.2.1
def Cx.sl0 (X : Cx) : Nat := X.2.2.2.2.2.2.2.2.2.2.2.2.2.1
def Cx.nL (X : Cx) : Nat := X.2.2.2.2.2.2.2.2.2.2.2.2.2.2.1
def Cx.o (X : Cx) : Outcome := X.2.2.2.2.2.2.2.2.2.2.2.2.2.2.2.1
def Cx.Mf (X : Cx) : Mem := X.2.2.2.2.2.2.2.2.2.2.2.2.2.2.2.2.1
def Cx.Rp (X : Cx) : Mem → Mem → Prop := X.2.2.2.2.2.2.2.2.2.2.2.2.2.2.2.2.2
abbrev WX (X : Cx) (H : Heap) (locs : List Loc) (cells slots : Nat) (g : JFrame) : Prop := W X.p X.l X.e X.R X.s X.m X.args X.below X.meth X.c H locs cells slots X.Q g
/-- how an end is told to the machine -/
def Out {α : Type} (cv : α → Option Value) : α ⊕ Nat → Outcome
  | .inl a => .returned (cv a)
  | .inr c => .threw (c - 1)
def cvI : Int32 → Option Value := fun v => some (.int v)
def cvL : Int64 → Option Value := fun v => some (.long v)
def cvR : Nat → Option Value := fun c => some (rv c)
def cvU : Unit → Option Value := fun _ => none
/-- the machine at pc runs as the action f says -/
def Sim {α : Type} (X : Cx) (cv : α → Option Value) (pc : Nat) (L : List (Nat × Value)) (st : List Value) (f : Act α) : Prop :=
  ∀ (M Z : Mem) (H : Heap) (locs : List Loc) (ls : Array Slot) (rr : α ⊕ Nat), f.run M = some (rr, X.Mf) → Out cv rr = X.o → X.Rp M Z → Rep0 X.w Z H → va_S X.w.A X.s.heap H locs → lv_has ls X.nL L → X.n0 ≤ M.n → X.sl0 ≤ M.sl → Z.n = M.n → Z.sl = M.sl →
    WX X H locs (M.n - X.n0) (M.sl - X.sl0) (F0 X.m pc ls st)
def QOk (X : Cx) : Prop := ∀ t : State, t.status = .running → Ended t X.below X.o → (∃ Z, X.Rp X.Mf Z ∧ Rep0 X.w Z t.heap) → X.s.WarmedH t.vm → va_F X.w.A X.s t → (∃ L : List Loc, X.s.sameButNew ({ t with vm := X.s.vm } : State) L (X.Mf.n - X.n0) (X.Mf.sl - X.sl0) ∧ ∀ q ∈ L, X.w.A q.base) → X.Q t
/-- the machine stands in the method with this code, of the class own, answer ret, with so much room -/
def Ok (X : Cx) (Rp : Mem → Mem → Prop) (cc : ByteArray) (own : String) (nL : Nat) (rt : Option FieldType) (fr lo : Nat) : Prop :=
  (X.p.tables.exec = Jvm.exec ∧ X.c.code = cc ∧ X.c.maxLocals = nL ∧ X.nL = nL) ∧ (X.s.vm.findClass own = some X.m.cls ∧ (∀ w ∈ lw_all, w.before X.args X.s = true) ∧ X.meth.sig.returnType = rt ∧ X.meth.locks = false) ∧ (Base X.w ∧ X.w.s0.WarmedH X.s.vm) ∧
  (X.R.frames = fr ∧ X.R.locals = lo ∧ X.Mf.n - X.n0 ≤ X.R.cells ∧ X.Mf.sl - X.sl0 ≤ X.R.slots) ∧ QOk X ∧ (∀ M Z, X.Rp M Z → Z.n = M.n ∧ Z.sl = M.sl) ∧ X.Rp = Rp
/-- no handler of the method covers a place -/
def Noh (X : Cx) : Prop := ∀ x ∈ X.c.exceptionTable.toList, ∀ pc, covers x pc = false
section OKS
variable {X : Cx} {Rp : Mem → Mem → Prop} {cc : ByteArray} {own : String} {nL : Nat} {rt : Option FieldType} {fr lo : Nat}
theorem Ok.hx (h : Ok X Rp cc own nL rt fr lo) : X.p.tables.exec = Jvm.exec := h.1.1
theorem Ok.hb (h : Ok X Rp cc own nL rt fr lo) : X.c.code = cc := h.1.2.1
theorem Ok.hml (h : Ok X Rp cc own nL rt fr lo) : X.c.maxLocals = nL := h.1.2.2.1
theorem Ok.hnL (h : Ok X Rp cc own nL rt fr lo) : X.nL = nL := h.1.2.2.2
theorem Ok.hown (h : Ok X Rp cc own nL rt fr lo) : X.s.vm.findClass own = some X.m.cls := h.2.1.1
theorem Ok.hts (h : Ok X Rp cc own nL rt fr lo) : ∀ w ∈ lw_all, w.before X.args X.s = true := h.2.1.2.1
theorem Ok.hr (h : Ok X Rp cc own nL rt fr lo) : X.meth.sig.returnType = rt := h.2.1.2.2.1
theorem Ok.hlocks (h : Ok X Rp cc own nL rt fr lo) : X.meth.locks = false := h.2.1.2.2.2
theorem Ok.base (h : Ok X Rp cc own nL rt fr lo) : Base X.w := h.2.2.1.1
theorem Ok.warm (h : Ok X Rp cc own nL rt fr lo) : X.w.s0.WarmedH X.s.vm := h.2.2.1.2
theorem Ok.hK (h : Ok X Rp cc own nL rt fr lo) : va_K X.w.G cl_ (tys_ X.w) X.s := va_K.moved h.warm.alike h.base.2.1
theorem Ok.hfr (h : Ok X Rp cc own nL rt fr lo) : X.R.frames = fr := h.2.2.2.1.1
theorem Ok.hlo (h : Ok X Rp cc own nL rt fr lo) : X.R.locals = lo := h.2.2.2.1.2.1
theorem Ok.hcells (h : Ok X Rp cc own nL rt fr lo) : X.Mf.n - X.n0 ≤ X.R.cells := h.2.2.2.1.2.2.1
theorem Ok.hslots (h : Ok X Rp cc own nL rt fr lo) : X.Mf.sl - X.sl0 ≤ X.R.slots := h.2.2.2.1.2.2.2
theorem Ok.hQ (h : Ok X Rp cc own nL rt fr lo) : QOk X := h.2.2.2.2.1
theorem Ok.hnz (h : Ok X Rp cc own nL rt fr lo) {M Z : Mem} (hr : X.Rp M Z) : Z.n = M.n ∧ Z.sl = M.sl := h.2.2.2.2.2.1 M Z hr
theorem Ok.hRp (h : Ok X Rp cc own nL rt fr lo) : X.Rp = Rp := h.2.2.2.2.2.2
end OKS
theorem rv_cat (x : Nat) : (rv x).category = 1 := by cases x <;> rfl
theorem fail_run {α : Type} (M : Mem) : (fail : Act α).run M = none := rfl
section SR
variable {α : Type} {X : Cx} {Rp : Mem → Mem → Prop} {cc : ByteArray} {own : String} {nL : Nat} {rt : Option FieldType} {fr lo : Nat} {cv : α → Option Value} {pc : Nat} {L : List (Nat × Value)} {st : List Value} {f g : Act α}
/-- a place that isn't reached -/
theorem s_fail : Sim X cv pc L st (fail : Act α) := by
  intro M Z H locs ls rr h
  cases h
theorem s_ite {C : Prop} [Decidable C] (ht : C → Sim X cv pc L st f) (hf : ¬ C → Sim X cv pc L st g) : Sim X cv pc L st (if C then f else g) := by
  by_cases h : C
  · rw [if_pos h]; exact ht h
  · rw [if_neg h]; exact hf h
/-- fewer locals, in any order -/
theorem s_sub {L' : List (Nat × Value)} (ks : List Nat) (hl : lv_pick L ks = L') (h : Sim X cv pc L' st f) : Sim X cv pc L st f := by
  intro M Z H locs ls rr h1 h2 h3 h4 h5 h6
  exact h M Z H locs ls rr h1 h2 h3 h4 h5 (lv_sub h6 ks hl)

theorem s_iconst (hX : Ok X Rp cc own nL rt fr lo) {n : Int} {v : Int32} (hd : decode cc pc = .ok (.iconst n, 1)) (hv : Int32.ofInt n = v) (h : Sim X cv (pc + 1) L (.int v :: st) f) : Sim X cv pc L st f := by
  intro M Z H locs ls rr h1 h2 h3 h4 h5 h6 h7 h8 h9 h10
  exact lv_iconst hX.hx hX.hb hd hv (h M Z H locs ls rr h1 h2 h3 h4 h5 h6 h7 h8 h9 h10)
theorem s_lconst (hX : Ok X Rp cc own nL rt fr lo) {n : Fin 2} {v : Int64} (hd : decode cc pc = .ok (.lconst n, 1)) (hv : Int64.ofInt (n : Nat) = v) (h : Sim X cv (pc + 1) L (.long v :: st) f) : Sim X cv pc L st f := by
  intro M Z H locs ls rr h1 h2 h3 h4 h5 h6 h7 h8 h9 h10
  exact lv_lconst hX.hx hX.hb hd hv (h M Z H locs ls rr h1 h2 h3 h4 h5 h6 h7 h8 h9 h10)
theorem s_bipush (hX : Ok X Rp cc own nL rt fr lo) {n : Int} {v : Int32} (hd : decode cc pc = .ok (.bipush n, 2)) (hv : (Int8.ofInt n).toInt32 = v) (h : Sim X cv (pc + 2) L (.int v :: st) f) : Sim X cv pc L st f := by
  intro M Z H locs ls rr h1 h2 h3 h4 h5 h6 h7 h8 h9 h10
  exact lv_bipush hX.hx hX.hb hd hv (h M Z H locs ls rr h1 h2 h3 h4 h5 h6 h7 h8 h9 h10)
theorem s_sipush (hX : Ok X Rp cc own nL rt fr lo) {n : Int} {v : Int32} (hd : decode cc pc = .ok (.sipush n, 3)) (hv : (Int16.ofInt n).toInt32 = v) (h : Sim X cv (pc + 3) L (.int v :: st) f) : Sim X cv pc L st f := by
  intro M Z H locs ls rr h1 h2 h3 h4 h5 h6 h7 h8 h9 h10
  exact lv_sipush hX.hx hX.hb hd hv (h M Z H locs ls rr h1 h2 h3 h4 h5 h6 h7 h8 h9 h10)
theorem s_ldc (hX : Ok X Rp cc own nL rt fr lo) {index : Nat} {v : Int32} (hd : decode cc pc = .ok (.ldc index, 2)) (hc : Cond.constant own index v ∈ lw_all) (h : Sim X cv (pc + 2) L (.int v :: st) f) : Sim X cv pc L st f := by
  intro M Z H locs ls rr h1 h2 h3 h4 h5 h6 h7 h8 h9 h10
  exact lv_ldc hX.hx hX.hb hX.hown (hX.hts _ hc) hd (h M Z H locs ls rr h1 h2 h3 h4 h5 h6 h7 h8 h9 h10)
theorem s_ldcw (hX : Ok X Rp cc own nL rt fr lo) {index : Nat} {v : Int32} (hd : decode cc pc = .ok (.ldc_w index, 3)) (hc : Cond.constant own index v ∈ lw_all) (h : Sim X cv (pc + 3) L (.int v :: st) f) : Sim X cv pc L st f := by
  intro M Z H locs ls rr h1 h2 h3 h4 h5 h6 h7 h8 h9 h10
  exact lv_ldcw hX.hx hX.hb hX.hown (hX.hts _ hc) hd (h M Z H locs ls rr h1 h2 h3 h4 h5 h6 h7 h8 h9 h10)
theorem s_ldc2 (hX : Ok X Rp cc own nL rt fr lo) {index : Nat} {v : Int64} (hd : decode cc pc = .ok (.ldc2_w index, 3)) (hc : Cond.constantLong own index v ∈ lw_all) (h : Sim X cv (pc + 3) L (.long v :: st) f) : Sim X cv pc L st f := by
  intro M Z H locs ls rr h1 h2 h3 h4 h5 h6 h7 h8 h9 h10
  exact lv_ldc2 hX.hx hX.hb hX.hown (hX.hts _ hc) hd (h M Z H locs ls rr h1 h2 h3 h4 h5 h6 h7 h8 h9 h10)
theorem s_null (hX : Ok X Rp cc own nL rt fr lo) (hd : decode cc pc = .ok (.aconst_null, 1)) (h : Sim X cv (pc + 1) L (rv 0 :: st) f) : Sim X cv pc L st f := by
  intro M Z H locs ls rr h1 h2 h3 h4 h5 h6 h7 h8 h9 h10
  exact lv_null hX.hx hX.hb hd (h M Z H locs ls rr h1 h2 h3 h4 h5 h6 h7 h8 h9 h10)
theorem s_iload_n (hX : Ok X Rp cc own nL rt fr lo) {k : Fin 4} {i : Nat} {x : Int32} (hd : decode cc pc = .ok (.iload_n k, 1)) (hi : (k : Nat) = i) (j : Nat) (hj : L[j]? = some (i, .int x)) (h : Sim X cv (pc + 1) L (.int x :: st) f) : Sim X cv pc L st f := by
  intro M Z H locs ls rr h1 h2 h3 h4 h5 h6 h7 h8 h9 h10
  exact lv_iload_n hX.hx hX.hb hd hi (lv_at h6 j hj) (h M Z H locs ls rr h1 h2 h3 h4 h5 h6 h7 h8 h9 h10)
theorem s_iload (hX : Ok X Rp cc own nL rt fr lo) {i : Nat} {x : Int32} (hd : decode cc pc = .ok (.iload i, 2)) (j : Nat) (hj : L[j]? = some (i, .int x)) (h : Sim X cv (pc + 2) L (.int x :: st) f) : Sim X cv pc L st f := by
  intro M Z H locs ls rr h1 h2 h3 h4 h5 h6 h7 h8 h9 h10
  exact lv_iload hX.hx hX.hb hd (lv_at h6 j hj) (h M Z H locs ls rr h1 h2 h3 h4 h5 h6 h7 h8 h9 h10)
theorem s_lload_n (hX : Ok X Rp cc own nL rt fr lo) {k : Fin 4} {i : Nat} {x : Int64} (hd : decode cc pc = .ok (.lload_n k, 1)) (hi : (k : Nat) = i) (j : Nat) (hj : L[j]? = some (i, .long x)) (h : Sim X cv (pc + 1) L (.long x :: st) f) : Sim X cv pc L st f := by
  intro M Z H locs ls rr h1 h2 h3 h4 h5 h6 h7 h8 h9 h10
  exact lv_lload_n hX.hx hX.hb hd hi (lv_at h6 j hj) (h M Z H locs ls rr h1 h2 h3 h4 h5 h6 h7 h8 h9 h10)
theorem s_lload (hX : Ok X Rp cc own nL rt fr lo) {i : Nat} {x : Int64} (hd : decode cc pc = .ok (.lload i, 2)) (j : Nat) (hj : L[j]? = some (i, .long x)) (h : Sim X cv (pc + 2) L (.long x :: st) f) : Sim X cv pc L st f := by
  intro M Z H locs ls rr h1 h2 h3 h4 h5 h6 h7 h8 h9 h10
  exact lv_lload hX.hx hX.hb hd (lv_at h6 j hj) (h M Z H locs ls rr h1 h2 h3 h4 h5 h6 h7 h8 h9 h10)
theorem s_aload_n (hX : Ok X Rp cc own nL rt fr lo) {k : Fin 4} {i x : Nat} (hd : decode cc pc = .ok (.aload_n k, 1)) (hi : (k : Nat) = i) (j : Nat) (hj : L[j]? = some (i, rv x)) (h : Sim X cv (pc + 1) L (rv x :: st) f) : Sim X cv pc L st f := by
  intro M Z H locs ls rr h1 h2 h3 h4 h5 h6 h7 h8 h9 h10
  cases x with
  | zero => exact lv_aload_nN hX.hx hX.hb hd hi (lv_at h6 j hj) (h M Z H locs ls rr h1 h2 h3 h4 h5 h6 h7 h8 h9 h10)
  | succ a => exact lv_aload_n hX.hx hX.hb hd hi (lv_at h6 j hj) (h M Z H locs ls rr h1 h2 h3 h4 h5 h6 h7 h8 h9 h10)
theorem s_aload (hX : Ok X Rp cc own nL rt fr lo) {i x : Nat} (hd : decode cc pc = .ok (.aload i, 2)) (j : Nat) (hj : L[j]? = some (i, rv x)) (h : Sim X cv (pc + 2) L (rv x :: st) f) : Sim X cv pc L st f := by
  intro M Z H locs ls rr h1 h2 h3 h4 h5 h6 h7 h8 h9 h10
  cases x with
  | zero => exact lv_aloadN hX.hx hX.hb hd (lv_at h6 j hj) (h M Z H locs ls rr h1 h2 h3 h4 h5 h6 h7 h8 h9 h10)
  | succ a => exact lv_aload hX.hx hX.hb hd (lv_at h6 j hj) (h M Z H locs ls rr h1 h2 h3 h4 h5 h6 h7 h8 h9 h10)
theorem s_istore_n (hX : Ok X Rp cc own nL rt fr lo) {k : Fin 4} {i : Nat} {x : Int32} {L2 : List (Nat × Value)} (hd : decode cc pc = .ok (.istore_n k, 1)) (hi : (k : Nat) = i) (hn : i < nL) (hl : (i, Value.int x) :: L.filter (fun q => !(q.1 == i) && !(q.1 + 1 == i && q.2.category == 2)) = L2) (h : Sim X cv (pc + 1) L2 st f) : Sim X cv pc L (.int x :: st) f := by
  intro M Z H locs ls rr h1 h2 h3 h4 h5 h6 h7 h8 h9 h10
  exact lv_istore_n hX.hx hX.hb hd hi h6 (by rw [hX.hnL]; exact hn) hl (fun ls9 h69 => h M Z H locs ls9 rr h1 h2 h3 h4 h5 h69 h7 h8 h9 h10)
theorem s_istore (hX : Ok X Rp cc own nL rt fr lo) {i : Nat} {x : Int32} {L2 : List (Nat × Value)} (hd : decode cc pc = .ok (.istore i, 2)) (hn : i < nL) (hl : (i, Value.int x) :: L.filter (fun q => !(q.1 == i) && !(q.1 + 1 == i && q.2.category == 2)) = L2) (h : Sim X cv (pc + 2) L2 st f) : Sim X cv pc L (.int x :: st) f := by
  intro M Z H locs ls rr h1 h2 h3 h4 h5 h6 h7 h8 h9 h10
  exact lv_istore hX.hx hX.hb hd h6 (by rw [hX.hnL]; exact hn) hl (fun ls9 h69 => h M Z H locs ls9 rr h1 h2 h3 h4 h5 h69 h7 h8 h9 h10)
theorem s_lstore_n (hX : Ok X Rp cc own nL rt fr lo) {k : Fin 4} {i : Nat} {x : Int64} {L2 : List (Nat × Value)} (hd : decode cc pc = .ok (.lstore_n k, 1)) (hi : (k : Nat) = i) (hn : i + 1 < nL) (hl : (i, Value.long x) :: L.filter (fun q => !(q.1 == i) && (!(q.1 == i + 1) && !(q.1 + 1 == i && q.2.category == 2))) = L2) (h : Sim X cv (pc + 1) L2 st f) : Sim X cv pc L (.long x :: st) f := by
  intro M Z H locs ls rr h1 h2 h3 h4 h5 h6 h7 h8 h9 h10
  exact lv_lstore_n hX.hx hX.hb hd hi h6 (by rw [hX.hnL]; exact hn) hl (fun ls9 h69 => h M Z H locs ls9 rr h1 h2 h3 h4 h5 h69 h7 h8 h9 h10)
theorem s_lstore (hX : Ok X Rp cc own nL rt fr lo) {i : Nat} {x : Int64} {L2 : List (Nat × Value)} (hd : decode cc pc = .ok (.lstore i, 2)) (hn : i + 1 < nL) (hl : (i, Value.long x) :: L.filter (fun q => !(q.1 == i) && (!(q.1 == i + 1) && !(q.1 + 1 == i && q.2.category == 2))) = L2) (h : Sim X cv (pc + 2) L2 st f) : Sim X cv pc L (.long x :: st) f := by
  intro M Z H locs ls rr h1 h2 h3 h4 h5 h6 h7 h8 h9 h10
  exact lv_lstore hX.hx hX.hb hd h6 (by rw [hX.hnL]; exact hn) hl (fun ls9 h69 => h M Z H locs ls9 rr h1 h2 h3 h4 h5 h69 h7 h8 h9 h10)
theorem s_astore_n (hX : Ok X Rp cc own nL rt fr lo) {k : Fin 4} {i x : Nat} {L2 : List (Nat × Value)} (hd : decode cc pc = .ok (.astore_n k, 1)) (hi : (k : Nat) = i) (hn : i < nL) (hl : (i, rv x) :: L.filter (fun q => !(q.1 == i) && !(q.1 + 1 == i && q.2.category == 2)) = L2) (h : Sim X cv (pc + 1) L2 st f) : Sim X cv pc L (rv x :: st) f := by
  intro M Z H locs ls rr h1 h2 h3 h4 h5 h6 h7 h8 h9 h10
  cases x with
  | zero => exact lv_astore_nN hX.hx hX.hb hd hi h6 (by rw [hX.hnL]; exact hn) hl (fun ls9 h69 => h M Z H locs ls9 rr h1 h2 h3 h4 h5 h69 h7 h8 h9 h10)
  | succ a => exact lv_astore_n hX.hx hX.hb hd hi h6 (by rw [hX.hnL]; exact hn) hl (fun ls9 h69 => h M Z H locs ls9 rr h1 h2 h3 h4 h5 h69 h7 h8 h9 h10)
theorem s_astore (hX : Ok X Rp cc own nL rt fr lo) {i x : Nat} {L2 : List (Nat × Value)} (hd : decode cc pc = .ok (.astore i, 2)) (hn : i < nL) (hl : (i, rv x) :: L.filter (fun q => !(q.1 == i) && !(q.1 + 1 == i && q.2.category == 2)) = L2) (h : Sim X cv (pc + 2) L2 st f) : Sim X cv pc L (rv x :: st) f := by
  intro M Z H locs ls rr h1 h2 h3 h4 h5 h6 h7 h8 h9 h10
  cases x with
  | zero => exact lv_astoreN hX.hx hX.hb hd h6 (by rw [hX.hnL]; exact hn) hl (fun ls9 h69 => h M Z H locs ls9 rr h1 h2 h3 h4 h5 h69 h7 h8 h9 h10)
  | succ a => exact lv_astore hX.hx hX.hb hd h6 (by rw [hX.hnL]; exact hn) hl (fun ls9 h69 => h M Z H locs ls9 rr h1 h2 h3 h4 h5 h69 h7 h8 h9 h10)
theorem s_iinc (hX : Ok X Rp cc own nL rt fr lo) {i k : Nat} {n : Int} {x v : Int32} {L2 : List (Nat × Value)} (hd : decode cc pc = .ok (.iinc i n, 3)) (hk : L[k]? = some (i, .int x)) (hv : x + Int32.ofInt n = v) (hn : i < nL) (hl : (i, Value.int v) :: L.filter (fun q => !(q.1 == i) && !(q.1 + 1 == i && q.2.category == 2)) = L2) (h : Sim X cv (pc + 3) L2 st f) : Sim X cv pc L st f := by
  intro M Z H locs ls rr h1 h2 h3 h4 h5 h6 h7 h8 h9 h10
  exact lv_iinc hX.hx hX.hb hd h6 hk hv (by rw [hX.hnL]; exact hn) hl (fun ls9 h69 => h M Z H locs ls9 rr h1 h2 h3 h4 h5 h69 h7 h8 h9 h10)
theorem s_iadd (hX : Ok X Rp cc own nL rt fr lo) {x y : Int32} (hd : decode cc pc = .ok (.iadd, 1)) (h : Sim X cv (pc + 1) L (.int (x + y) :: st) f) : Sim X cv pc L (.int y :: .int x :: st) f := by
  intro M Z H locs ls rr h1 h2 h3 h4 h5 h6 h7 h8 h9 h10
  exact lv_iadd hX.hx hX.hb hd (h M Z H locs ls rr h1 h2 h3 h4 h5 h6 h7 h8 h9 h10)
theorem s_isub (hX : Ok X Rp cc own nL rt fr lo) {x y : Int32} (hd : decode cc pc = .ok (.isub, 1)) (h : Sim X cv (pc + 1) L (.int (x - y) :: st) f) : Sim X cv pc L (.int y :: .int x :: st) f := by
  intro M Z H locs ls rr h1 h2 h3 h4 h5 h6 h7 h8 h9 h10
  exact lv_isub hX.hx hX.hb hd (h M Z H locs ls rr h1 h2 h3 h4 h5 h6 h7 h8 h9 h10)
theorem s_imul (hX : Ok X Rp cc own nL rt fr lo) {x y : Int32} (hd : decode cc pc = .ok (.imul, 1)) (h : Sim X cv (pc + 1) L (.int (x * y) :: st) f) : Sim X cv pc L (.int y :: .int x :: st) f := by
  intro M Z H locs ls rr h1 h2 h3 h4 h5 h6 h7 h8 h9 h10
  exact lv_imul hX.hx hX.hb hd (h M Z H locs ls rr h1 h2 h3 h4 h5 h6 h7 h8 h9 h10)
theorem s_iand (hX : Ok X Rp cc own nL rt fr lo) {x y : Int32} (hd : decode cc pc = .ok (.iand, 1)) (h : Sim X cv (pc + 1) L (.int (x &&& y) :: st) f) : Sim X cv pc L (.int y :: .int x :: st) f := by
  intro M Z H locs ls rr h1 h2 h3 h4 h5 h6 h7 h8 h9 h10
  exact lv_iand hX.hx hX.hb hd (h M Z H locs ls rr h1 h2 h3 h4 h5 h6 h7 h8 h9 h10)
theorem s_ior (hX : Ok X Rp cc own nL rt fr lo) {x y : Int32} (hd : decode cc pc = .ok (.ior, 1)) (h : Sim X cv (pc + 1) L (.int (x ||| y) :: st) f) : Sim X cv pc L (.int y :: .int x :: st) f := by
  intro M Z H locs ls rr h1 h2 h3 h4 h5 h6 h7 h8 h9 h10
  exact lv_ior hX.hx hX.hb hd (h M Z H locs ls rr h1 h2 h3 h4 h5 h6 h7 h8 h9 h10)
theorem s_ixor (hX : Ok X Rp cc own nL rt fr lo) {x y : Int32} (hd : decode cc pc = .ok (.ixor, 1)) (h : Sim X cv (pc + 1) L (.int (x ^^^ y) :: st) f) : Sim X cv pc L (.int y :: .int x :: st) f := by
  intro M Z H locs ls rr h1 h2 h3 h4 h5 h6 h7 h8 h9 h10
  exact lv_ixor hX.hx hX.hb hd (h M Z H locs ls rr h1 h2 h3 h4 h5 h6 h7 h8 h9 h10)
theorem s_ishl (hX : Ok X Rp cc own nL rt fr lo) {x y : Int32} (hd : decode cc pc = .ok (.ishl, 1)) (h : Sim X cv (pc + 1) L (.int (x <<< (y &&& 31)) :: st) f) : Sim X cv pc L (.int y :: .int x :: st) f := by
  intro M Z H locs ls rr h1 h2 h3 h4 h5 h6 h7 h8 h9 h10
  exact lv_ishl hX.hx hX.hb hd (h M Z H locs ls rr h1 h2 h3 h4 h5 h6 h7 h8 h9 h10)
theorem s_ishr (hX : Ok X Rp cc own nL rt fr lo) {x y : Int32} (hd : decode cc pc = .ok (.ishr, 1)) (h : Sim X cv (pc + 1) L (.int (x >>> (y &&& 31)) :: st) f) : Sim X cv pc L (.int y :: .int x :: st) f := by
  intro M Z H locs ls rr h1 h2 h3 h4 h5 h6 h7 h8 h9 h10
  exact lv_ishr hX.hx hX.hb hd (h M Z H locs ls rr h1 h2 h3 h4 h5 h6 h7 h8 h9 h10)
theorem s_iushr (hX : Ok X Rp cc own nL rt fr lo) {x y : Int32} (hd : decode cc pc = .ok (.iushr, 1)) (h : Sim X cv (pc + 1) L (.int (x.toUInt32 >>> (y.toUInt32 &&& Int32.toUInt32 31)).toInt32 :: st) f) : Sim X cv pc L (.int y :: .int x :: st) f := by
  intro M Z H locs ls rr h1 h2 h3 h4 h5 h6 h7 h8 h9 h10
  exact lv_iushr hX.hx hX.hb hd rfl (h M Z H locs ls rr h1 h2 h3 h4 h5 h6 h7 h8 h9 h10)
theorem s_ineg (hX : Ok X Rp cc own nL rt fr lo) {x : Int32} (hd : decode cc pc = .ok (.ineg, 1)) (h : Sim X cv (pc + 1) L (.int (-x) :: st) f) : Sim X cv pc L (.int x :: st) f := by
  intro M Z H locs ls rr h1 h2 h3 h4 h5 h6 h7 h8 h9 h10
  exact lv_ineg hX.hx hX.hb hd (h M Z H locs ls rr h1 h2 h3 h4 h5 h6 h7 h8 h9 h10)
theorem s_ladd (hX : Ok X Rp cc own nL rt fr lo) {x y : Int64} (hd : decode cc pc = .ok (.ladd, 1)) (h : Sim X cv (pc + 1) L (.long (x + y) :: st) f) : Sim X cv pc L (.long y :: .long x :: st) f := by
  intro M Z H locs ls rr h1 h2 h3 h4 h5 h6 h7 h8 h9 h10
  exact lv_ladd hX.hx hX.hb hd (h M Z H locs ls rr h1 h2 h3 h4 h5 h6 h7 h8 h9 h10)
theorem s_lsub (hX : Ok X Rp cc own nL rt fr lo) {x y : Int64} (hd : decode cc pc = .ok (.lsub, 1)) (h : Sim X cv (pc + 1) L (.long (x - y) :: st) f) : Sim X cv pc L (.long y :: .long x :: st) f := by
  intro M Z H locs ls rr h1 h2 h3 h4 h5 h6 h7 h8 h9 h10
  exact lv_lsub hX.hx hX.hb hd (h M Z H locs ls rr h1 h2 h3 h4 h5 h6 h7 h8 h9 h10)
theorem s_lmul (hX : Ok X Rp cc own nL rt fr lo) {x y : Int64} (hd : decode cc pc = .ok (.lmul, 1)) (h : Sim X cv (pc + 1) L (.long (x * y) :: st) f) : Sim X cv pc L (.long y :: .long x :: st) f := by
  intro M Z H locs ls rr h1 h2 h3 h4 h5 h6 h7 h8 h9 h10
  exact lv_lmul hX.hx hX.hb hd (h M Z H locs ls rr h1 h2 h3 h4 h5 h6 h7 h8 h9 h10)
theorem s_land (hX : Ok X Rp cc own nL rt fr lo) {x y : Int64} (hd : decode cc pc = .ok (.land, 1)) (h : Sim X cv (pc + 1) L (.long (x &&& y) :: st) f) : Sim X cv pc L (.long y :: .long x :: st) f := by
  intro M Z H locs ls rr h1 h2 h3 h4 h5 h6 h7 h8 h9 h10
  exact lv_land hX.hx hX.hb hd (h M Z H locs ls rr h1 h2 h3 h4 h5 h6 h7 h8 h9 h10)
theorem s_lor (hX : Ok X Rp cc own nL rt fr lo) {x y : Int64} (hd : decode cc pc = .ok (.lor, 1)) (h : Sim X cv (pc + 1) L (.long (x ||| y) :: st) f) : Sim X cv pc L (.long y :: .long x :: st) f := by
  intro M Z H locs ls rr h1 h2 h3 h4 h5 h6 h7 h8 h9 h10
  exact lv_lor hX.hx hX.hb hd (h M Z H locs ls rr h1 h2 h3 h4 h5 h6 h7 h8 h9 h10)
theorem s_lxor (hX : Ok X Rp cc own nL rt fr lo) {x y : Int64} (hd : decode cc pc = .ok (.lxor, 1)) (h : Sim X cv (pc + 1) L (.long (x ^^^ y) :: st) f) : Sim X cv pc L (.long y :: .long x :: st) f := by
  intro M Z H locs ls rr h1 h2 h3 h4 h5 h6 h7 h8 h9 h10
  exact lv_lxor hX.hx hX.hb hd (h M Z H locs ls rr h1 h2 h3 h4 h5 h6 h7 h8 h9 h10)
theorem s_i2l (hX : Ok X Rp cc own nL rt fr lo) {x : Int32} (hd : decode cc pc = .ok (.i2l, 1)) (h : Sim X cv (pc + 1) L (.long x.toInt64 :: st) f) : Sim X cv pc L (.int x :: st) f := by
  intro M Z H locs ls rr h1 h2 h3 h4 h5 h6 h7 h8 h9 h10
  exact lv_i2l hX.hx hX.hb hd rfl (h M Z H locs ls rr h1 h2 h3 h4 h5 h6 h7 h8 h9 h10)
theorem s_l2i (hX : Ok X Rp cc own nL rt fr lo) {x : Int64} (hd : decode cc pc = .ok (.l2i, 1)) (h : Sim X cv (pc + 1) L (.int x.toInt32 :: st) f) : Sim X cv pc L (.long x :: st) f := by
  intro M Z H locs ls rr h1 h2 h3 h4 h5 h6 h7 h8 h9 h10
  exact lv_l2i hX.hx hX.hb hd rfl (h M Z H locs ls rr h1 h2 h3 h4 h5 h6 h7 h8 h9 h10)
theorem s_i2b (hX : Ok X Rp cc own nL rt fr lo) {x : Int32} (hd : decode cc pc = .ok (.i2b, 1)) (h : Sim X cv (pc + 1) L (.int x.toInt8.toInt32 :: st) f) : Sim X cv pc L (.int x :: st) f := by
  intro M Z H locs ls rr h1 h2 h3 h4 h5 h6 h7 h8 h9 h10
  exact lv_i2b hX.hx hX.hb hd rfl (h M Z H locs ls rr h1 h2 h3 h4 h5 h6 h7 h8 h9 h10)
theorem s_i2c (hX : Ok X Rp cc own nL rt fr lo) {x : Int32} (hd : decode cc pc = .ok (.i2c, 1)) (h : Sim X cv (pc + 1) L (.int (x.toUInt32 % 65536).toInt32 :: st) f) : Sim X cv pc L (.int x :: st) f := by
  intro M Z H locs ls rr h1 h2 h3 h4 h5 h6 h7 h8 h9 h10
  exact lv_i2c hX.hx hX.hb hd rfl (h M Z H locs ls rr h1 h2 h3 h4 h5 h6 h7 h8 h9 h10)
theorem s_lcmp (hX : Ok X Rp cc own nL rt fr lo) {x y : Int64} (hd : decode cc pc = .ok (.lcmp, 1)) (h : Sim X cv (pc + 1) L (.int (lg_cmp x y) :: st) f) : Sim X cv pc L (.long y :: .long x :: st) f := by
  intro M Z H locs ls rr h1 h2 h3 h4 h5 h6 h7 h8 h9 h10
  exact W.lcmp hX.hx hX.hb hd (h M Z H locs ls rr h1 h2 h3 h4 h5 h6 h7 h8 h9 h10)
theorem s_lshl (hX : Ok X Rp cc own nL rt fr lo) {x : Int64} {y : Int32} (hd : decode cc pc = .ok (.lshl, 1)) (h : Sim X cv (pc + 1) L (.long (x <<< (y.toInt64 &&& 63)) :: st) f) : Sim X cv pc L (.int y :: .long x :: st) f := by
  intro M Z H locs ls rr h1 h2 h3 h4 h5 h6 h7 h8 h9 h10
  exact lv_lshl hX.hx hX.hb hd rfl (h M Z H locs ls rr h1 h2 h3 h4 h5 h6 h7 h8 h9 h10)
/-- a divisor that isn't 0 -/
def nz {α : Type} (y : Int32) (f : Act α) : Act α := if y = 0 then fail else f
def nzl {α : Type} (y : Int64) (f : Act α) : Act α := if y = 0 then fail else f
theorem s_idiv (hX : Ok X Rp cc own nL rt fr lo) {x y : Int32} (hd : decode cc pc = .ok (.idiv, 1)) (h : Sim X cv (pc + 1) L (.int (x / y) :: st) f) : Sim X cv pc L (.int y :: .int x :: st) (nz y f) := by
  intro M Z H locs ls rr h1 h2 h3 h4 h5 h6 h7 h8 h9 h10
  unfold nz at h1
  by_cases hy : y = 0
  · rw [if_pos hy] at h1; cases h1
  · rw [if_neg hy] at h1
    exact lv_idiv hX.hx hX.hb hd hy (h M Z H locs ls rr h1 h2 h3 h4 h5 h6 h7 h8 h9 h10)
theorem s_irem (hX : Ok X Rp cc own nL rt fr lo) {x y : Int32} (hd : decode cc pc = .ok (.irem, 1)) (h : Sim X cv (pc + 1) L (.int (x - x / y * y) :: st) f) : Sim X cv pc L (.int y :: .int x :: st) (nz y f) := by
  intro M Z H locs ls rr h1 h2 h3 h4 h5 h6 h7 h8 h9 h10
  unfold nz at h1
  by_cases hy : y = 0
  · rw [if_pos hy] at h1; cases h1
  · rw [if_neg hy] at h1
    exact lv_irem hX.hx hX.hb hd hy (h M Z H locs ls rr h1 h2 h3 h4 h5 h6 h7 h8 h9 h10)
theorem s_ldiv (hX : Ok X Rp cc own nL rt fr lo) {x y : Int64} (hd : decode cc pc = .ok (.ldiv, 1)) (h : Sim X cv (pc + 1) L (.long (x / y) :: st) f) : Sim X cv pc L (.long y :: .long x :: st) (nzl y f) := by
  intro M Z H locs ls rr h1 h2 h3 h4 h5 h6 h7 h8 h9 h10
  unfold nzl at h1
  by_cases hy : y = 0
  · rw [if_pos hy] at h1; cases h1
  · rw [if_neg hy] at h1
    exact lv_ldiv hX.hx hX.hb hd hy (h M Z H locs ls rr h1 h2 h3 h4 h5 h6 h7 h8 h9 h10)
theorem s_lrem (hX : Ok X Rp cc own nL rt fr lo) {x y : Int64} (hd : decode cc pc = .ok (.lrem, 1)) (h : Sim X cv (pc + 1) L (.long (x - x / y * y) :: st) f) : Sim X cv pc L (.long y :: .long x :: st) (nzl y f) := by
  intro M Z H locs ls rr h1 h2 h3 h4 h5 h6 h7 h8 h9 h10
  unfold nzl at h1
  by_cases hy : y = 0
  · rw [if_pos hy] at h1; cases h1
  · rw [if_neg hy] at h1
    exact lv_lrem hX.hx hX.hb hd hy (h M Z H locs ls rr h1 h2 h3 h4 h5 h6 h7 h8 h9 h10)
theorem s_dup (hX : Ok X Rp cc own nL rt fr lo) {a : Value} (hd : decode cc pc = .ok (.dup, 1)) (ha : a.category = 1) (h : Sim X cv (pc + 1) L (a :: a :: st) f) : Sim X cv pc L (a :: st) f := by
  intro M Z H locs ls rr h1 h2 h3 h4 h5 h6 h7 h8 h9 h10
  exact lv_dup hX.hx hX.hb hd ha (h M Z H locs ls rr h1 h2 h3 h4 h5 h6 h7 h8 h9 h10)
theorem s_pop (hX : Ok X Rp cc own nL rt fr lo) {a : Value} (hd : decode cc pc = .ok (.pop, 1)) (ha : a.category = 1) (h : Sim X cv (pc + 1) L st f) : Sim X cv pc L (a :: st) f := by
  intro M Z H locs ls rr h1 h2 h3 h4 h5 h6 h7 h8 h9 h10
  exact lv_pop hX.hx hX.hb hd ha (h M Z H locs ls rr h1 h2 h3 h4 h5 h6 h7 h8 h9 h10)
theorem s_dup_x1 (hX : Ok X Rp cc own nL rt fr lo) {a b : Value} (hd : decode cc pc = .ok (.dup_x1, 1)) (ha : a.category = 1) (hb2 : b.category = 1) (h : Sim X cv (pc + 1) L (a :: b :: a :: st) f) : Sim X cv pc L (a :: b :: st) f := by
  intro M Z H locs ls rr h1 h2 h3 h4 h5 h6 h7 h8 h9 h10
  exact lv_dup_x1 hX.hx hX.hb hd ha hb2 (h M Z H locs ls rr h1 h2 h3 h4 h5 h6 h7 h8 h9 h10)
theorem s_dup2 (hX : Ok X Rp cc own nL rt fr lo) {a b : Value} (hd : decode cc pc = .ok (.dup2, 1)) (ha : a.category = 1) (hb2 : b.category = 1) (h : Sim X cv (pc + 1) L (a :: b :: a :: b :: st) f) : Sim X cv pc L (a :: b :: st) f := by
  intro M Z H locs ls rr h1 h2 h3 h4 h5 h6 h7 h8 h9 h10
  exact lv_dup2_11 hX.hx hX.hb hd ha hb2 (h M Z H locs ls rr h1 h2 h3 h4 h5 h6 h7 h8 h9 h10)
theorem s_if_eq (hX : Ok X Rp cc own nL rt fr lo) {x : Int32} {off : Int} {tgt : Nat} (hd : decode cc pc = .ok (.ifCond .eq off, 3)) (ht : (pc : Int) + off = (tgt : Int)) (kt : Sim X cv tgt L st f) (kf : Sim X cv (pc + 3) L st g) : Sim X cv pc L (.int x :: st) (if x = 0 then f else g) := by
  intro M Z H locs ls rr h1 h2 h3 h4 h5 h6 h7 h8 h9 h10
  refine lv_if_eq hX.hx hX.hb hd ht (fun hc => ?_) (fun hc => ?_)
  · rw [if_pos hc] at h1
    exact kt M Z H locs ls rr h1 h2 h3 h4 h5 h6 h7 h8 h9 h10
  · rw [if_neg hc] at h1
    exact kf M Z H locs ls rr h1 h2 h3 h4 h5 h6 h7 h8 h9 h10
theorem s_icmp_eq (hX : Ok X Rp cc own nL rt fr lo) {x y : Int32} {off : Int} {tgt : Nat} (hd : decode cc pc = .ok (.if_icmp .eq off, 3)) (ht : (pc : Int) + off = (tgt : Int)) (kt : Sim X cv tgt L st f) (kf : Sim X cv (pc + 3) L st g) : Sim X cv pc L (.int y :: .int x :: st) (if x = y then f else g) := by
  intro M Z H locs ls rr h1 h2 h3 h4 h5 h6 h7 h8 h9 h10
  refine lv_icmp_eq hX.hx hX.hb hd ht (fun hc => ?_) (fun hc => ?_)
  · rw [if_pos hc] at h1
    exact kt M Z H locs ls rr h1 h2 h3 h4 h5 h6 h7 h8 h9 h10
  · rw [if_neg hc] at h1
    exact kf M Z H locs ls rr h1 h2 h3 h4 h5 h6 h7 h8 h9 h10
theorem s_if_ne (hX : Ok X Rp cc own nL rt fr lo) {x : Int32} {off : Int} {tgt : Nat} (hd : decode cc pc = .ok (.ifCond .ne off, 3)) (ht : (pc : Int) + off = (tgt : Int)) (kt : Sim X cv tgt L st f) (kf : Sim X cv (pc + 3) L st g) : Sim X cv pc L (.int x :: st) (if ¬ x = 0 then f else g) := by
  intro M Z H locs ls rr h1 h2 h3 h4 h5 h6 h7 h8 h9 h10
  refine lv_if_ne hX.hx hX.hb hd ht (fun hc => ?_) (fun hc => ?_)
  · rw [if_pos hc] at h1
    exact kt M Z H locs ls rr h1 h2 h3 h4 h5 h6 h7 h8 h9 h10
  · rw [if_neg (fun q => q hc)] at h1
    exact kf M Z H locs ls rr h1 h2 h3 h4 h5 h6 h7 h8 h9 h10
theorem s_icmp_ne (hX : Ok X Rp cc own nL rt fr lo) {x y : Int32} {off : Int} {tgt : Nat} (hd : decode cc pc = .ok (.if_icmp .ne off, 3)) (ht : (pc : Int) + off = (tgt : Int)) (kt : Sim X cv tgt L st f) (kf : Sim X cv (pc + 3) L st g) : Sim X cv pc L (.int y :: .int x :: st) (if ¬ x = y then f else g) := by
  intro M Z H locs ls rr h1 h2 h3 h4 h5 h6 h7 h8 h9 h10
  refine lv_icmp_ne hX.hx hX.hb hd ht (fun hc => ?_) (fun hc => ?_)
  · rw [if_pos hc] at h1
    exact kt M Z H locs ls rr h1 h2 h3 h4 h5 h6 h7 h8 h9 h10
  · rw [if_neg (fun q => q hc)] at h1
    exact kf M Z H locs ls rr h1 h2 h3 h4 h5 h6 h7 h8 h9 h10
theorem s_if_lt (hX : Ok X Rp cc own nL rt fr lo) {x : Int32} {off : Int} {tgt : Nat} (hd : decode cc pc = .ok (.ifCond .lt off, 3)) (ht : (pc : Int) + off = (tgt : Int)) (kt : Sim X cv tgt L st f) (kf : Sim X cv (pc + 3) L st g) : Sim X cv pc L (.int x :: st) (if x < 0 then f else g) := by
  intro M Z H locs ls rr h1 h2 h3 h4 h5 h6 h7 h8 h9 h10
  refine lv_if_lt hX.hx hX.hb hd ht (fun hc => ?_) (fun hc => ?_)
  · rw [if_pos hc] at h1
    exact kt M Z H locs ls rr h1 h2 h3 h4 h5 h6 h7 h8 h9 h10
  · rw [if_neg hc] at h1
    exact kf M Z H locs ls rr h1 h2 h3 h4 h5 h6 h7 h8 h9 h10
theorem s_icmp_lt (hX : Ok X Rp cc own nL rt fr lo) {x y : Int32} {off : Int} {tgt : Nat} (hd : decode cc pc = .ok (.if_icmp .lt off, 3)) (ht : (pc : Int) + off = (tgt : Int)) (kt : Sim X cv tgt L st f) (kf : Sim X cv (pc + 3) L st g) : Sim X cv pc L (.int y :: .int x :: st) (if x < y then f else g) := by
  intro M Z H locs ls rr h1 h2 h3 h4 h5 h6 h7 h8 h9 h10
  refine lv_icmp_lt hX.hx hX.hb hd ht (fun hc => ?_) (fun hc => ?_)
  · rw [if_pos hc] at h1
    exact kt M Z H locs ls rr h1 h2 h3 h4 h5 h6 h7 h8 h9 h10
  · rw [if_neg hc] at h1
    exact kf M Z H locs ls rr h1 h2 h3 h4 h5 h6 h7 h8 h9 h10
theorem s_if_ge (hX : Ok X Rp cc own nL rt fr lo) {x : Int32} {off : Int} {tgt : Nat} (hd : decode cc pc = .ok (.ifCond .ge off, 3)) (ht : (pc : Int) + off = (tgt : Int)) (kt : Sim X cv tgt L st f) (kf : Sim X cv (pc + 3) L st g) : Sim X cv pc L (.int x :: st) (if 0 ≤ x then f else g) := by
  intro M Z H locs ls rr h1 h2 h3 h4 h5 h6 h7 h8 h9 h10
  refine lv_if_ge hX.hx hX.hb hd ht (fun hc => ?_) (fun hc => ?_)
  · rw [if_pos hc] at h1
    exact kt M Z H locs ls rr h1 h2 h3 h4 h5 h6 h7 h8 h9 h10
  · rw [if_neg hc] at h1
    exact kf M Z H locs ls rr h1 h2 h3 h4 h5 h6 h7 h8 h9 h10
theorem s_icmp_ge (hX : Ok X Rp cc own nL rt fr lo) {x y : Int32} {off : Int} {tgt : Nat} (hd : decode cc pc = .ok (.if_icmp .ge off, 3)) (ht : (pc : Int) + off = (tgt : Int)) (kt : Sim X cv tgt L st f) (kf : Sim X cv (pc + 3) L st g) : Sim X cv pc L (.int y :: .int x :: st) (if y ≤ x then f else g) := by
  intro M Z H locs ls rr h1 h2 h3 h4 h5 h6 h7 h8 h9 h10
  refine lv_icmp_ge hX.hx hX.hb hd ht (fun hc => ?_) (fun hc => ?_)
  · rw [if_pos hc] at h1
    exact kt M Z H locs ls rr h1 h2 h3 h4 h5 h6 h7 h8 h9 h10
  · rw [if_neg hc] at h1
    exact kf M Z H locs ls rr h1 h2 h3 h4 h5 h6 h7 h8 h9 h10
theorem s_if_gt (hX : Ok X Rp cc own nL rt fr lo) {x : Int32} {off : Int} {tgt : Nat} (hd : decode cc pc = .ok (.ifCond .gt off, 3)) (ht : (pc : Int) + off = (tgt : Int)) (kt : Sim X cv tgt L st f) (kf : Sim X cv (pc + 3) L st g) : Sim X cv pc L (.int x :: st) (if 0 < x then f else g) := by
  intro M Z H locs ls rr h1 h2 h3 h4 h5 h6 h7 h8 h9 h10
  refine lv_if_gt hX.hx hX.hb hd ht (fun hc => ?_) (fun hc => ?_)
  · rw [if_pos hc] at h1
    exact kt M Z H locs ls rr h1 h2 h3 h4 h5 h6 h7 h8 h9 h10
  · rw [if_neg hc] at h1
    exact kf M Z H locs ls rr h1 h2 h3 h4 h5 h6 h7 h8 h9 h10
theorem s_icmp_gt (hX : Ok X Rp cc own nL rt fr lo) {x y : Int32} {off : Int} {tgt : Nat} (hd : decode cc pc = .ok (.if_icmp .gt off, 3)) (ht : (pc : Int) + off = (tgt : Int)) (kt : Sim X cv tgt L st f) (kf : Sim X cv (pc + 3) L st g) : Sim X cv pc L (.int y :: .int x :: st) (if y < x then f else g) := by
  intro M Z H locs ls rr h1 h2 h3 h4 h5 h6 h7 h8 h9 h10
  refine lv_icmp_gt hX.hx hX.hb hd ht (fun hc => ?_) (fun hc => ?_)
  · rw [if_pos hc] at h1
    exact kt M Z H locs ls rr h1 h2 h3 h4 h5 h6 h7 h8 h9 h10
  · rw [if_neg hc] at h1
    exact kf M Z H locs ls rr h1 h2 h3 h4 h5 h6 h7 h8 h9 h10
theorem s_if_le (hX : Ok X Rp cc own nL rt fr lo) {x : Int32} {off : Int} {tgt : Nat} (hd : decode cc pc = .ok (.ifCond .le off, 3)) (ht : (pc : Int) + off = (tgt : Int)) (kt : Sim X cv tgt L st f) (kf : Sim X cv (pc + 3) L st g) : Sim X cv pc L (.int x :: st) (if x ≤ 0 then f else g) := by
  intro M Z H locs ls rr h1 h2 h3 h4 h5 h6 h7 h8 h9 h10
  refine lv_if_le hX.hx hX.hb hd ht (fun hc => ?_) (fun hc => ?_)
  · rw [if_pos hc] at h1
    exact kt M Z H locs ls rr h1 h2 h3 h4 h5 h6 h7 h8 h9 h10
  · rw [if_neg hc] at h1
    exact kf M Z H locs ls rr h1 h2 h3 h4 h5 h6 h7 h8 h9 h10
theorem s_icmp_le (hX : Ok X Rp cc own nL rt fr lo) {x y : Int32} {off : Int} {tgt : Nat} (hd : decode cc pc = .ok (.if_icmp .le off, 3)) (ht : (pc : Int) + off = (tgt : Int)) (kt : Sim X cv tgt L st f) (kf : Sim X cv (pc + 3) L st g) : Sim X cv pc L (.int y :: .int x :: st) (if x ≤ y then f else g) := by
  intro M Z H locs ls rr h1 h2 h3 h4 h5 h6 h7 h8 h9 h10
  refine lv_icmp_le hX.hx hX.hb hd ht (fun hc => ?_) (fun hc => ?_)
  · rw [if_pos hc] at h1
    exact kt M Z H locs ls rr h1 h2 h3 h4 h5 h6 h7 h8 h9 h10
  · rw [if_neg hc] at h1
    exact kf M Z H locs ls rr h1 h2 h3 h4 h5 h6 h7 h8 h9 h10
theorem s_goto (hX : Ok X Rp cc own nL rt fr lo) {off : Int} {tgt : Nat} (hd : decode cc pc = .ok (.goto off, 3)) (ht : (pc : Int) + off = (tgt : Int)) (h : Sim X cv tgt L st f) : Sim X cv pc L st f := by
  intro M Z H locs ls rr h1 h2 h3 h4 h5 h6 h7 h8 h9 h10
  exact lv_goto hX.hx hX.hb hd ht (h M Z H locs ls rr h1 h2 h3 h4 h5 h6 h7 h8 h9 h10)
theorem s_ifnull (hX : Ok X Rp cc own nL rt fr lo) {x : Nat} {off : Int} {tgt : Nat} (hd : decode cc pc = .ok (.ifnull off, 3)) (ht : (pc : Int) + off = (tgt : Int)) (kt : Sim X cv tgt L st f) (kf : Sim X cv (pc + 3) L st g) : Sim X cv pc L (rv x :: st) (if x = 0 then f else g) := by
  intro M Z H locs ls rr h1 h2 h3 h4 h5 h6 h7 h8 h9 h10
  cases x with
  | zero =>
    rw [if_pos rfl] at h1
    exact lv_ifnullN hX.hx hX.hb hd ht (kt M Z H locs ls rr h1 h2 h3 h4 h5 h6 h7 h8 h9 h10)
  | succ a =>
    rw [if_neg (Nat.succ_ne_zero a)] at h1
    exact lv_ifnull hX.hx hX.hb hd (kf M Z H locs ls rr h1 h2 h3 h4 h5 h6 h7 h8 h9 h10)
theorem s_ifnonnull (hX : Ok X Rp cc own nL rt fr lo) {x : Nat} {off : Int} {tgt : Nat} (hd : decode cc pc = .ok (.ifnonnull off, 3)) (ht : (pc : Int) + off = (tgt : Int)) (kt : Sim X cv tgt L st f) (kf : Sim X cv (pc + 3) L st g) : Sim X cv pc L (rv x :: st) (if ¬ x = 0 then f else g) := by
  intro M Z H locs ls rr h1 h2 h3 h4 h5 h6 h7 h8 h9 h10
  cases x with
  | zero =>
    rw [if_neg (fun q => q rfl)] at h1
    exact lv_ifnonnullN hX.hx hX.hb hd (kf M Z H locs ls rr h1 h2 h3 h4 h5 h6 h7 h8 h9 h10)
  | succ a =>
    rw [if_pos (Nat.succ_ne_zero a)] at h1
    exact lv_ifnonnull hX.hx hX.hb hd ht (kt M Z H locs ls rr h1 h2 h3 h4 h5 h6 h7 h8 h9 h10)
theorem dc_inj {x y : Nat} : dc x = dc y ↔ x = y := by
  cases x <;> cases y <;> simp [dc]
theorem s_acmp_eq (hX : Ok X Rp cc own nL rt fr lo) {x y : Nat} {off : Int} {tgt : Nat} (hd : decode cc pc = .ok (.if_acmp .eq off, 3)) (ht : (pc : Int) + off = (tgt : Int)) (kt : Sim X cv tgt L st f) (kf : Sim X cv (pc + 3) L st g) : Sim X cv pc L (rv y :: rv x :: st) (if x = y then f else g) := by
  intro M Z H locs ls rr h1 h2 h3 h4 h5 h6 h7 h8 h9 h10
  refine lv_acmp_eq hX.hx hX.hb hd ht (fun hc => ?_) (fun hc => ?_)
  · rw [if_pos (dc_inj.mp hc)] at h1
    exact kt M Z H locs ls rr h1 h2 h3 h4 h5 h6 h7 h8 h9 h10
  · rw [if_neg (fun q => hc (dc_inj.mpr q))] at h1
    exact kf M Z H locs ls rr h1 h2 h3 h4 h5 h6 h7 h8 h9 h10
theorem s_acmp_ne (hX : Ok X Rp cc own nL rt fr lo) {x y : Nat} {off : Int} {tgt : Nat} (hd : decode cc pc = .ok (.if_acmp .ne off, 3)) (ht : (pc : Int) + off = (tgt : Int)) (kt : Sim X cv tgt L st f) (kf : Sim X cv (pc + 3) L st g) : Sim X cv pc L (rv y :: rv x :: st) (if ¬ x = y then f else g) := by
  intro M Z H locs ls rr h1 h2 h3 h4 h5 h6 h7 h8 h9 h10
  refine lv_acmp_ne hX.hx hX.hb hd ht (fun hc => ?_) (fun hc => ?_)
  · rw [if_pos (fun q => hc (dc_inj.mpr q))] at h1
    exact kt M Z H locs ls rr h1 h2 h3 h4 h5 h6 h7 h8 h9 h10
  · rw [if_neg (fun q => q (dc_inj.mp hc))] at h1
    exact kf M Z H locs ls rr h1 h2 h3 h4 h5 h6 h7 h8 h9 h10
/-- a switch by its table: which of the targets -/
theorem s_tswitch (hX : Ok X Rp cc own nL rt fr lo) {x : Int32} {dflt lo hi : Int} {offs : Array Int} {len : Nat} (hd : decode cc pc = .ok (.tableswitch dflt lo hi offs, len)) {dt : Nat} (hdt : (pc : Int) + dflt = (dt : Int)) (kd : (x.toInt < lo ∨ hi < x.toInt) → Sim X cv dt L st f)
    (kk : ∀ (i : Nat) (off : Int), x.toInt = lo + i → x.toInt ≤ hi → offs[i]? = some off → ∃ tgt : Nat, (pc : Int) + off = (tgt : Int) ∧ Sim X cv tgt L st f) (hn : ∀ i : Nat, lo + i ≤ hi → ∃ off, offs[i]? = some off) : Sim X cv pc L (.int x :: st) f := by
  intro M Z H locs ls rr h1 h2 h3 h4 h5 h6 h7 h8 h9 h10
  by_cases q1 : x.toInt < lo
  · exact lv_tableOut hX.hx hX.hb hd (Or.inl q1) hdt (kd (Or.inl q1) M Z H locs ls rr h1 h2 h3 h4 h5 h6 h7 h8 h9 h10)
  · by_cases q2 : hi < x.toInt
    · exact lv_tableOut hX.hx hX.hb hd (Or.inr q2) hdt (kd (Or.inr q2) M Z H locs ls rr h1 h2 h3 h4 h5 h6 h7 h8 h9 h10)
    · have e : x.toInt = lo + ((x.toInt - lo).toNat : Nat) := by omega
      obtain ⟨off, ho⟩ := hn (x.toInt - lo).toNat (by omega)
      obtain ⟨tgt, ht, k⟩ := kk _ off e (by omega) ho
      exact lv_tableIn hX.hx hX.hb hd q1 q2 ho ht (k M Z H locs ls rr h1 h2 h3 h4 h5 h6 h7 h8 h9 h10)
theorem s_lswitch (hX : Ok X Rp cc own nL rt fr lo) {x : Int32} {dflt : Int} {ps : Array (Int × Int)} {len : Nat} {off : Int} {tgt : Nat} (hd : decode cc pc = .ok (.lookupswitch dflt ps, len)) (hp : (ps.toList.zip (ps.toList.drop 1)).all (fun (a, next) => a.1 < next.1) = true) (ho : Op.lookupswitch.offset ps.toList dflt x.toInt = off) (ht : (pc : Int) + off = (tgt : Int)) (h : Sim X cv tgt L st f) : Sim X cv pc L (.int x :: st) f := by
  intro M Z H locs ls rr h1 h2 h3 h4 h5 h6 h7 h8 h9 h10
  exact lv_lookup hX.hx hX.hb hd hp ho ht (h M Z H locs ls rr h1 h2 h3 h4 h5 h6 h7 h8 h9 h10)
/-- a join -/
theorem s_jn {β : Type} {k : β} {F : β → Act α} {P : β → Prop} (hk : P k) (h : ∀ j, P j → Sim X cv pc L st (F j)) : Sim X cv pc L st (jn k F) := h k hk
end SR
