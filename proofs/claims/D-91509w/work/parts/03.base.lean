set_option maxRecDepth 100000
/-! ===== memory: what the machine's heap holds, as functions ===== -/
def Mem : Type := (Nat → Nat → Int32) × (Nat → Nat → Int64) × (Nat → Nat → Nat) × (Nat → Nat → Int32) × (Nat → Nat → Int64) × (Nat → Nat → Nat) × (Nat → Nat) × (Nat → Nat) × (Nat → List Nat) × (Nat → List Int32) × (Nat → Nat) × Nat × Nat
/-- int fields: tag, code of the cell (its address + 1) -/
def Mem.i (M : Mem) : Nat → Nat → Int32 := M.1
def Mem.l (M : Mem) : Nat → Nat → Int64 := M.2.1
def Mem.r (M : Mem) : Nat → Nat → Nat := M.2.2.1
/-- int, byte, boolean arrays: code, place -/
def Mem.ai (M : Mem) : Nat → Nat → Int32 := M.2.2.2.1
def Mem.al (M : Mem) : Nat → Nat → Int64 := M.2.2.2.2.1
def Mem.ar (M : Mem) : Nat → Nat → Nat := M.2.2.2.2.2.1
/-- the kind of a cell: 0 nothing; ci + 1 an object of class ci; 40 a constant String; 50 .. arrays; 60 .. constant arrays -/
def Mem.k (M : Mem) : Nat → Nat := M.2.2.2.2.2.2.1
def Mem.len (M : Mem) : Nat → Nat := M.2.2.2.2.2.2.2.1
def Mem.ls (M : Mem) : Nat → List Nat := M.2.2.2.2.2.2.2.2.1
def Mem.tx (M : Mem) : Nat → List Int32 := M.2.2.2.2.2.2.2.2.2.1
def Mem.cap (M : Mem) : Nat → Nat := M.2.2.2.2.2.2.2.2.2.2.1
/-- cells of the heap -/
def Mem.n (M : Mem) : Nat := M.2.2.2.2.2.2.2.2.2.2.2.1
/-- slots made -/
def Mem.sl (M : Mem) : Nat := M.2.2.2.2.2.2.2.2.2.2.2.2
def up2 {α : Type} (f : Nat → Nat → α) (a b : Nat) (v : α) : Nat → Nat → α := fun x y => if x = a ∧ y = b then v else f x y
def up1 {α : Type} (f : Nat → α) (a : Nat) (v : α) : Nat → α := fun x => if x = a then v else f x
def mk_ (i : Nat → Nat → Int32) (l : Nat → Nat → Int64) (r : Nat → Nat → Nat) (ai : Nat → Nat → Int32) (al : Nat → Nat → Int64) (ar : Nat → Nat → Nat) (k len : Nat → Nat) (ls : Nat → List Nat) (tx : Nat → List Int32) (cap : Nat → Nat) (n sl : Nat) : Mem := (i, l, r, ai, al, ar, k, len, ls, tx, cap, n, sl)
def Mem.seti (M : Mem) (t c : Nat) (v : Int32) : Mem := mk_ (up2 M.i t c v) M.l M.r M.ai M.al M.ar M.k M.len M.ls M.tx M.cap M.n M.sl
def Mem.setl (M : Mem) (t c : Nat) (v : Int64) : Mem := mk_ M.i (up2 M.l t c v) M.r M.ai M.al M.ar M.k M.len M.ls M.tx M.cap M.n M.sl
def Mem.setr (M : Mem) (t c : Nat) (v : Nat) : Mem := mk_ M.i M.l (up2 M.r t c v) M.ai M.al M.ar M.k M.len M.ls M.tx M.cap M.n M.sl
def Mem.setai (M : Mem) (c j : Nat) (v : Int32) : Mem := mk_ M.i M.l M.r (up2 M.ai c j v) M.al M.ar M.k M.len M.ls M.tx M.cap M.n M.sl
def Mem.setal (M : Mem) (c j : Nat) (v : Int64) : Mem := mk_ M.i M.l M.r M.ai (up2 M.al c j v) M.ar M.k M.len M.ls M.tx M.cap M.n M.sl
def Mem.setar (M : Mem) (c j : Nat) (v : Nat) : Mem := mk_ M.i M.l M.r M.ai M.al (up2 M.ar c j v) M.k M.len M.ls M.tx M.cap M.n M.sl
/-- a new object of class ci with N fields, all of them as a new object's are -/
def Mem.newo (M : Mem) (ci N : Nat) : Mem := mk_ (fun t c => if c = M.n + 1 then 0 else M.i t c) (fun t c => if c = M.n + 1 then 0 else M.l t c) (fun t c => if c = M.n + 1 then 0 else M.r t c) M.ai M.al M.ar (up1 M.k (M.n + 1) (ci + 1)) M.len (up1 M.ls (M.n + 1) []) (up1 M.tx (M.n + 1) []) (up1 M.cap (M.n + 1) 0) (M.n + 1) (M.sl + N)
/-- a new array of kind 50 + q, of N places -/
def Mem.newa (M : Mem) (q N : Nat) : Mem := mk_ M.i M.l M.r (fun c j => if c = M.n + 1 then 0 else M.ai c j) (fun c j => if c = M.n + 1 then 0 else M.al c j) (fun c j => if c = M.n + 1 then 0 else M.ar c j) (up1 M.k (M.n + 1) (50 + q)) (up1 M.len (M.n + 1) N) M.ls M.tx M.cap (M.n + 1) (M.sl + N)

/-! ===== actions: a run over the memory; it ends with an answer, or throws (the code of the exception's cell), or isn't told of (none) ===== -/
def Act (α : Type) : Type := { f : Mem → Option ((α ⊕ Nat) × Mem) // ∀ M r M', f M = some (r, M') → M.n ≤ M'.n ∧ M.sl ≤ M'.sl }
def Act.run {α : Type} (x : Act α) (M : Mem) : Option ((α ⊕ Nat) × Mem) := Subtype.val x M
theorem Act.mono {α : Type} (x : Act α) {M : Mem} {r : α ⊕ Nat} {M' : Mem} (h : x.run M = some (r, M')) : M.n ≤ M'.n ∧ M.sl ≤ M'.sl := Subtype.property x M r M' h
def act {α : Type} (f : Mem → Option ((α ⊕ Nat) × Mem)) (h : ∀ M r M', f M = some (r, M') → M.n ≤ M'.n ∧ M.sl ≤ M'.sl) : Act α := Subtype.mk f h
theorem act_run {α : Type} (f : Mem → Option ((α ⊕ Nat) × Mem)) (h : ∀ M r M', f M = some (r, M') → M.n ≤ M'.n ∧ M.sl ≤ M'.sl) (M : Mem) : (act f h).run M = f M := rfl
theorem Act.ext {α : Type} {x y : Act α} (h : ∀ M, x.run M = y.run M) : x = y := Subtype.ext (funext h)
def pur {α : Type} (a : α) : Act α := act (fun M => some (.inl a, M)) (fun M r M' h => by cases h; exact ⟨Nat.le_refl _, Nat.le_refl _⟩)
def thr {α : Type} (c : Nat) : Act α := act (fun M => some (.inr c, M)) (fun M r M' h => by cases h; exact ⟨Nat.le_refl _, Nat.le_refl _⟩)
def fail {α : Type} : Act α := act (fun _ => none) (fun M r M' h => by cases h)
def thn {α β : Type} (x : Option ((α ⊕ Nat) × Mem)) (k : α → Act β) : Option ((β ⊕ Nat) × Mem) := match x with
  | some (.inl a, M1) => (k a).run M1
  | some (.inr c, M1) => some (.inr c, M1)
  | none => none
theorem thn_mono {α β : Type} (x : Act α) (k : α → Act β) (M : Mem) (r : β ⊕ Nat) (M' : Mem) (h : thn (x.run M) k = some (r, M')) : M.n ≤ M'.n ∧ M.sl ≤ M'.sl := by
  cases hx : x.run M with
  | none => rw [hx] at h; cases h
  | some y =>
    obtain ⟨z, M1⟩ := y
    have h1 := x.mono hx
    rw [hx] at h
    cases z with
    | inl a => exact ⟨Nat.le_trans h1.1 ((k a).mono h).1, Nat.le_trans h1.2 ((k a).mono h).2⟩
    | inr c => cases h; exact h1
def bnd {α β : Type} (x : Act α) (k : α → Act β) : Act β := act (fun M => thn (x.run M) k) (thn_mono x k)
/-- a join: the code k behind several ends -/
def jn {α β : Type} (k : β) (f : β → Act α) : Act α := f k
theorem opt_mono {ok : Prop} [Decidable ok] {α : Type} {M M1 : Mem} (a : α) (hm : M.n ≤ M1.n ∧ M.sl ≤ M1.sl) (r : α ⊕ Nat) (M' : Mem) (h : (if ok then some ((Sum.inl a : α ⊕ Nat), M1) else none) = some (r, M')) : M.n ≤ M'.n ∧ M.sl ≤ M'.sl := by
  by_cases q : ok
  · rw [if_pos q] at h; cases h; exact hm
  · rw [if_neg q] at h; cases h
/-- read something of the memory, if it is allowed -/
def rdm {α : Type} (ok : Mem → Prop) (hd : ∀ M, Decidable (ok M)) (f : Mem → α) : Act α :=
  act (fun M => @ite _ (ok M) (hd M) (some (.inl (f M), M)) none) (fun M r M' h => @opt_mono (ok M) (hd M) α M M (f M) ⟨Nat.le_refl _, Nat.le_refl _⟩ r M' h)
/-- change the memory, if it is allowed -/
def wrm {α : Type} (ok : Mem → Prop) (hd : ∀ M, Decidable (ok M)) (a : Mem → α) (f : Mem → Mem) (hm : ∀ M, M.n ≤ (f M).n ∧ M.sl ≤ (f M).sl) : Act α :=
  act (fun M => @ite _ (ok M) (hd M) (some (.inl (a M), f M)) none) (fun M r M' h => @opt_mono (ok M) (hd M) α M (f M) (a M) (hm M) r M' h)
/-- may the object c of class ci be read -/
def okr (ci c : Nat) (M : Mem) : Prop := M.k c = ci + 1 ∨ (ci = 19 ∧ M.k c = 40)
def okw (ci c : Nat) (M : Mem) : Prop := M.k c = ci + 1
def getI (ci j c : Nat) : Act Int32 := rdm (okr ci c) (fun _ => inferInstanceAs (Decidable (_ ∨ _))) (fun M => M.i (128 * ci + j) c)
def getL (ci j c : Nat) : Act Int64 := rdm (okr ci c) (fun _ => inferInstanceAs (Decidable (_ ∨ _))) (fun M => M.l (128 * ci + j) c)
def getR (ci j c : Nat) : Act Nat := rdm (okr ci c) (fun _ => inferInstanceAs (Decidable (_ ∨ _))) (fun M => M.r (128 * ci + j) c)
def putI (ci j c : Nat) (v : Int32) : Act Unit := wrm (okw ci c) (fun _ => inferInstanceAs (Decidable (_ = _))) (fun _ => ()) (fun M => M.seti (128 * ci + j) c v) (fun _ => ⟨Nat.le_refl _, Nat.le_refl _⟩)
/-- a field of a small type: the number must fit it -/
def putS (ty : FieldType) (ci j c : Nat) (v : Int32) : Act Unit := wrm (fun M => okw ci c M ∧ narrow ty (.int v) = .int v ∧ fits ty (.int v) = true) (fun _ => inferInstanceAs (Decidable (_ = _ ∧ _ = _ ∧ _ = _))) (fun _ => ()) (fun M => M.seti (128 * ci + j) c v) (fun _ => ⟨Nat.le_refl _, Nat.le_refl _⟩)
def putL (ci j c : Nat) (v : Int64) : Act Unit := wrm (okw ci c) (fun _ => inferInstanceAs (Decidable (_ = _))) (fun _ => ()) (fun M => M.setl (128 * ci + j) c v) (fun _ => ⟨Nat.le_refl _, Nat.le_refl _⟩)
def putR (ci j c : Nat) (v : Nat) : Act Unit := wrm (okw ci c) (fun _ => inferInstanceAs (Decidable (_ = _))) (fun _ => ()) (fun M => M.setr (128 * ci + j) c v) (fun _ => ⟨Nat.le_refl _, Nat.le_refl _⟩)
def newO (ci N : Nat) : Act Nat := wrm (fun _ => True) (fun _ => inferInstanceAs (Decidable True)) (fun M => M.n + 1) (fun M => M.newo ci N) (fun _ => ⟨Nat.le_succ _, Nat.le_add_right _ _⟩)
def newA (q : Nat) (v : Int32) : Act Nat := wrm (fun _ => ¬ v < 0 ∧ v.toNatClampNeg ≤ 60000000) (fun _ => inferInstanceAs (Decidable (_ ∧ _))) (fun M => M.n + 1) (fun M => M.newa q v.toNatClampNeg) (fun _ => ⟨Nat.le_succ _, Nat.le_add_right _ _⟩)
/-- may the place i of the array c of kind q be read -/
def okar (q c : Nat) (i : Int32) (M : Mem) : Prop := (M.k c = 50 + q ∨ M.k c = 60 + q) ∧ ¬ (i < 0 ∨ M.len c ≤ i.toNatClampNeg)
def okaw (q c : Nat) (i : Int32) (M : Mem) : Prop := M.k c = 50 + q ∧ ¬ (i < 0 ∨ M.len c ≤ i.toNatClampNeg)
def ldI (q c : Nat) (i : Int32) : Act Int32 := rdm (okar q c i) (fun _ => inferInstanceAs (Decidable (_ ∧ _))) (fun M => M.ai c i.toNatClampNeg)
def ldL (q c : Nat) (i : Int32) : Act Int64 := rdm (okar q c i) (fun _ => inferInstanceAs (Decidable (_ ∧ _))) (fun M => M.al c i.toNatClampNeg)
def ldR (q c : Nat) (i : Int32) : Act Nat := rdm (okar q c i) (fun _ => inferInstanceAs (Decidable (_ ∧ _))) (fun M => M.ar c i.toNatClampNeg)
def narq (q : Nat) (v : Int32) : Int32 := if q = 2 then vp_nar .byte v else if q = 3 then vp_nar .boolean v else v
def stI (q c : Nat) (i : Int32) (v : Int32) : Act Unit := wrm (okaw q c i) (fun _ => inferInstanceAs (Decidable (_ ∧ _))) (fun _ => ()) (fun M => M.setai c i.toNatClampNeg (narq q v)) (fun _ => ⟨Nat.le_refl _, Nat.le_refl _⟩)
def stL (q c : Nat) (i : Int32) (v : Int64) : Act Unit := wrm (okaw q c i) (fun _ => inferInstanceAs (Decidable (_ ∧ _))) (fun _ => ()) (fun M => M.setal c i.toNatClampNeg v) (fun _ => ⟨Nat.le_refl _, Nat.le_refl _⟩)
def stR (q c : Nat) (i : Int32) (v : Nat) : Act Unit := wrm (okaw q c i) (fun _ => inferInstanceAs (Decidable (_ ∧ _))) (fun _ => ()) (fun M => M.setar c i.toNatClampNeg v) (fun _ => ⟨Nat.le_refl _, Nat.le_refl _⟩)
def okal (c : Nat) (M : Mem) : Prop := 50 ≤ M.k c ∧ M.k c < 70 ∧ M.len c < 2147483648
def lenA (c : Nat) : Act Int32 := rdm (okal c) (fun _ => inferInstanceAs (Decidable (_ ∧ _))) (fun M => Int32.ofNat (M.len c))
/-- a reference must be of one of these kinds -/
def chk (p : Nat → Bool) (c : Nat) : Act Unit := rdm (fun M => p (M.k c) = true) (fun _ => inferInstanceAs (Decidable (_ = _))) (fun _ => ())
def cl_ : List vw_C := [(RX0, TX0, 42), (RX1, TX1, 3), (RX2, TX2, 11), (RX3, TX3, 9), (RX4, TX4, 79), (RX5, TX5, 3), (RX6, TX6, 9), (RX7, TX7, 7), (RX8, TX8, 3), (RX9, TX9, 2), (RX10, TX10, 3), (RX11, TX11, 7), (RX12, TX12, 2), (RX13, TX13, 1), (RX14, TX14, 3), (RX15, TX15, 4), (RX16, TX16, 3), (RJ2, TJ2, 3), (RJ10, TJ10, 4), (RJ11, TJ11, 4)]
def NN : Nat → Nat := fun ci => match ci with
  | 0 => 42
  | 1 => 3
  | 2 => 11
  | 3 => 9
  | 4 => 79
  | 5 => 3
  | 6 => 9
  | 7 => 7
  | 8 => 3
  | 9 => 2
  | 10 => 3
  | 11 => 7
  | 12 => 2
  | 13 => 1
  | 14 => 3
  | 15 => 4
  | 16 => 3
  | 17 => 3
  | 18 => 4
  | 19 => 4
  | _ => 0
def TT : Nat → u_T := fun ci => match ci with
  | 0 => TX0
  | 1 => TX1
  | 2 => TX2
  | 3 => TX3
  | 4 => TX4
  | 5 => TX5
  | 6 => TX6
  | 7 => TX7
  | 8 => TX8
  | 9 => TX9
  | 10 => TX10
  | 11 => TX11
  | 12 => TX12
  | 13 => TX13
  | 14 => TX14
  | 15 => TX15
  | 16 => TX16
  | 17 => TJ2
  | 18 => TJ10
  | 19 => TJ11
  | _ => TX0
def RR : Nat → String := fun ci => match ci with
  | 0 => RX0
  | 1 => RX1
  | 2 => RX2
  | 3 => RX3
  | 4 => RX4
  | 5 => RX5
  | 6 => RX6
  | 7 => RX7
  | 8 => RX8
  | 9 => RX9
  | 10 => RX10
  | 11 => RX11
  | 12 => RX12
  | 13 => RX13
  | 14 => RX14
  | 15 => RX15
  | 16 => RX16
  | 17 => RJ2
  | 18 => RJ10
  | 19 => RJ11
  | _ => RX0
def TY : Nat → Nat → FieldType := fun ci => match ci with
  | 0 => tyX0
  | 1 => tyX1
  | 2 => tyX2
  | 3 => tyX3
  | 4 => tyX4
  | 5 => tyX5
  | 6 => tyX6
  | 7 => tyX7
  | 8 => tyX8
  | 9 => tyX9
  | 10 => tyX10
  | 11 => tyX11
  | 12 => tyX12
  | 13 => tyX13
  | 14 => tyX14
  | 15 => tyX15
  | 16 => tyX16
  | 17 => tyJ2
  | 18 => tyJ10
  | 19 => tyJ11
  | _ => tyX0
theorem cl_at (ci : Nat) (h : ci < 20) : cl_[ci]? = some (RR ci, TT ci, NN ci) := by
  match ci, h with
  | 0, _ => rfl | 1, _ => rfl | 2, _ => rfl | 3, _ => rfl | 4, _ => rfl | 5, _ => rfl | 6, _ => rfl | 7, _ => rfl | 8, _ => rfl | 9, _ => rfl
  | 10, _ => rfl | 11, _ => rfl | 12, _ => rfl | 13, _ => rfl | 14, _ => rfl | 15, _ => rfl | 16, _ => rfl | 17, _ => rfl | 18, _ => rfl | 19, _ => rfl
  | k + 20, h => omega
/-- a reference by its code: 0 is null, a + 1 the cell a -/
def dc : Nat → Option Nat | 0 => none | a + 1 => some a
def rv (c : Nat) : Value := va_rf (dc c)
theorem rv_0 : rv 0 = .null := rfl
theorem rv_s (a : Nat) : rv (a + 1) = .ref a := rfl
def ftc : FieldType → Nat
  | .long => 1
  | .int => 0
  | .boolean => 0
  | .byte => 0
  | .char => 0
  | .short => 0
  | _ => 2
def FT (ci j : Nat) : Nat := ftc (TY ci j)
def fval (M : Mem) (ci c j : Nat) : Value := if FT ci j = 0 then .int (M.i (128 * ci + j) c) else if FT ci j = 1 then .long (M.l (128 * ci + j) c) else rv (M.r (128 * ci + j) c)
def fvals (M : Mem) (ci c : Nat) : List Value := (List.range (NN ci)).map (fval M ci c)
abbrev Wd : Type := (Nat → Prop) × va_G × (Nat → ClassId) × State × Nat × (Nat → Nat)
def Wd.A (w : Wd) : Nat → Prop := w.1
def Wd.G (w : Wd) : va_G := w.2.1
def Wd.dA (w : Wd) : Nat → ClassId := w.2.2.1
def Wd.s0 (w : Wd) : State := w.2.2.2.1
def Wd.b0 (w : Wd) : Nat := w.2.2.2.2.1
/-- codes of what static fields and constants hold: 0 ArrayList's empty array, 1, 2 Throwable's, 3 the class object of Object[], 10 .. String constants -/
def Wd.st (w : Wd) : Nat → Nat := w.2.2.2.2.2
def ciOf (k : Nat) : Nat := if k = 40 then 19 else k - 1
def acont (M : Mem) (c q : Nat) : ((Nat → Int32) ⊕ (Nat → Int64) ⊕ (Nat → UInt32) ⊕ (Nat → UInt64) ⊕ (Nat → Option Nat)) := if q = 1 then .inr (.inl (M.al c)) else if 4 ≤ q then .inr (.inr (.inr (.inr (fun j => dc (M.ar c j))))) else .inl (M.ai c)
def cellOf (w : Wd) (M : Mem) (c : Nat) : va_E := if M.k c < 50 then .inr (ciOf (M.k c), fvals M (ciOf (M.k c)) c) else .inl (w.dA (M.k c % 10), M.len c, acont M c (M.k c % 10))
def isCst (k : Nat) : Prop := k = 40 ∨ 60 ≤ k
def isDyn (k : Nat) : Prop := k ≠ 0 ∧ k ≠ 40 ∧ k < 60
def tys_ (w : Wd) : List (ClassId × FieldType) := [(w.dA 0, .int), (w.dA 1, .long), (w.dA 2, .byte), (w.dA 3, .boolean), (w.dA 4, .object "java/lang/Object"), (w.dA 5, .object "java/lang/String")]
/-- the heap H holds what the memory M says -/
def Rep0 (w : Wd) (M : Mem) (H : Heap) : Prop :=
  (∀ a, M.k (a + 1) ≠ 0 → va_at w.G cl_ (a, cellOf w M (a + 1)) H) ∧ M.k 0 = 0 ∧ (∀ a, isDyn (M.k (a + 1)) → w.A a) ∧ H.size = M.n ∧ (∀ q, q < w.s0.heap.size → H[q]? = w.s0.heap[q]?) ∧ w.s0.heap.size ≤ H.size ∧ (∀ q, M.n ≤ q → w.A q) ∧ (∀ q, w.A q → w.s0.heap.size ≤ q) ∧ (∀ k, M.r (9000 + k) 0 = w.st k)
/-- the String constants of WindGas: entry of its pool, text -/
def strT : List (Nat × String) := [(48, ""), (314, "purity"), (315, "storm"), (316, "least"), (317, "starts"), (318, "cable"), (319, "first"), (321, "green"), (323, "sell"), (325, "apart"), (327, "fresh"), (329, "worn"), (309, "if"), (254, "not"), (271, "wind"), (272, "price"), (273, "rain"), (274, "hour"), (276, "day"), (278, "stored"), (280, "water"), (282, "running"), (297, "and"), (307, "or"), (238, "stack"), (240, "cavern"), (241, "house"), (243, "quay"), (245, "depot")]
/-- what the static fields and constants hold at the start -/
def StF (w : Wd) : Prop := (va_Z "java/util/ArrayList" "DEFAULTCAPACITY_EMPTY_ELEMENTDATA" "[Ljava/lang/Object;" (rv (w.st 0)) w.A w.s0 w.s0.heap ∧ va_Z "java/lang/Throwable" "UNASSIGNED_STACK" "[Ljava/lang/StackTraceElement;" (rv (w.st 1)) w.A w.s0 w.s0.heap ∧ va_Z "java/lang/Throwable" "SUPPRESSED_SENTINEL" "Ljava/util/List;" (rv (w.st 2)) w.A w.s0 w.s0.heap ∧ va_Z "java/lang/String" "COMPACT_STRINGS" "Z" (.int 1) w.A w.s0 w.s0.heap) ∧
  (∃ mi, w.st 3 = mi + 1 ∧ va_Mi "[Ljava/lang/Object;" mi w.s0) ∧ ∀ i q, strT[i]? = some q → ∃ a, w.st (10 + i) = a + 1 ∧ vk_R "WindGas" q.1 q.2 a w.s0
def Base (w : Wd) : Prop := (∀ c ∈ lw_tbl, c.before #[Value.ref w.b0] w.s0 = true) ∧ va_K w.G cl_ (tys_ w) w.s0 ∧ (Jvm.Cond.and given_1 narrow_1).before #[Value.ref w.b0] w.s0 = true ∧ (∀ q, w.A q → w.s0.heap.size ≤ q) ∧ StF w
theorem rep_lt {w : Wd} {M : Mem} {H : Heap} (h : Rep0 w M H) {a : Nat} (ha : M.k (a + 1) ≠ 0) : a < M.n := by
  rw [← h.2.2.2.1]
  exact (h.1 a ha).lt
theorem rep_fresh {w : Wd} {M : Mem} {H : Heap} (h : Rep0 w M H) : M.k (M.n + 1) = 0 := by
  cases hk : M.k (M.n + 1) with
  | zero => rfl
  | succ n => exact absurd (rep_lt h (by rw [hk]; exact Nat.succ_ne_zero n)) (Nat.lt_irrefl _)
theorem okr_cell {w : Wd} {M : Mem} {ci c : Nat} (hci : ci < 20) (h : okr ci c M) : cellOf w M c = .inr (ci, fvals M ci c) := by
  unfold cellOf
  rcases h with h | ⟨h1, h⟩
  · rw [h, if_pos (by omega)]
    have e : ciOf (ci + 1) = ci := by unfold ciOf; rw [if_neg (by omega)]; omega
    rw [e]
  · subst h1
    rw [h, if_pos (by omega)]
    rfl
theorem fvals_len (M : Mem) (ci c : Nat) : (fvals M ci c).length = NN ci := by simp [fvals]
theorem fvals_at (M : Mem) (ci c : Nat) {j : Nat} (hj : j < NN ci) : (fvals M ci c)[j]? = some (fval M ci c j) := by simp [fvals, hj]
theorem vpV_at (M : Mem) (ci c : Nat) {j : Nat} (hj : j < NN ci) : vp_V (fvals M ci c) j = fval M ci c j := by
  unfold vp_V
  rw [List.getD_eq_getElem?_getD, fvals_at M ci c hj]
  rfl
/-- an object that may be read: the cell -/
theorem rep_obj {w : Wd} {M : Mem} {H : Heap} (h : Rep0 w M H) {ci c : Nat} (hci : ci < 20) (hok : okr ci c M) : ∃ a, c = a + 1 ∧ t_OB a (w.G.1 ci) (NN ci) (w.G.2 ci) H (fval M ci c) := by
  have hk : M.k c ≠ 0 := by rcases hok with e | ⟨-, e⟩ <;> omega
  cases c with
  | zero => exact absurd h.2.1 hk
  | succ a =>
    have hc := h.1 a hk
    rw [okr_cell hci hok] at hc
    obtain ⟨r, h1, h2⟩ := hc
    rw [cl_at ci hci] at h1
    cases h1
    exact ⟨a, rfl, h2.to (fun k hk => vpV_at M ci (a + 1) hk)⟩
/-- what is stored in one object leaves the others -/
theorem rep_set {w : Wd} {M M' : Mem} {H H' : Heap} (h : Rep0 w M H) {ci a : Nat} (hci : ci < 20) (hok : okw ci (a + 1) M) (hk : M'.k = M.k) (hn : M'.n = M.n) (hlen : M'.len = M.len) (hst : ∀ k, M'.r (9000 + k) 0 = M.r (9000 + k) 0)
    (ho : ∀ c, c ≠ a + 1 → cellOf w M' c = cellOf w M c) (hc : t_OB a (w.G.1 ci) (NN ci) (w.G.2 ci) H' (fval M' ci (a + 1))) (hz : H'.size = H.size) (hq : ∀ q, q ≠ a → H'[q]? = H[q]?) : Rep0 w M' H' := by
  obtain ⟨h1, h2, h3, h4, h5, h6, h7, h8, h9⟩ := h
  refine ⟨fun b hb => ?_, by rw [hk]; exact h2, fun b hb => h3 b (by rw [hk] at hb; exact hb), by rw [hz, hn]; exact h4, fun q hq' => ?_, by rw [hz]; exact h6, fun q hq' => h7 q (by rw [hn] at hq'; exact hq'), h8, fun k => (hst k).trans (h9 k)⟩
  · by_cases e : b = a
    · subst e
      rw [okr_cell hci (Or.inl (by show M'.k _ = _; rw [hk]; exact hok))]
      exact ⟨_, cl_at ci hci, hc.to (fun k hk => (vpV_at M' ci (b + 1) hk).symm)⟩
    · rw [ho (b + 1) (by omega)]
      rw [hk] at hb
      exact (h1 b hb).kept (hq b e)
  · rw [← h5 q hq']
    refine hq q (fun e => ?_)
    subst e
    have hd : isDyn (M.k (q + 1)) := ⟨by rw [hok]; omega, by rw [hok]; omega, by rw [hok]; omega⟩
    exact absurd hq' (Nat.not_lt.mpr (h8 q (h3 q hd)))
