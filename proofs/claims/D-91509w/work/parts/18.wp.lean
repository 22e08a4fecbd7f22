set_option maxRecDepth 100000
/-! ===== level 2: what an action does, goal first ===== -/
/-- the action ends with an answer, and Q holds of it and of the memory behind it -/
def wp {α : Type} (f : Act α) (M : Mem) (Q : α → Mem → Prop) : Prop := ∃ a M', f.run M = some (.inl a, M') ∧ Q a M'
section WP
variable {α β : Type} {M : Mem} {Q : α → Mem → Prop}
theorem w_mono {f : Act α} {Q' : α → Mem → Prop} (h : wp f M Q) (hq : ∀ a M', Q a M' → Q' a M') : wp f M Q' := by
  obtain ⟨a, M', h1, h2⟩ := h
  exact ⟨a, M', h1, hq _ _ h2⟩
theorem w_run {f : Act α} {a : α} {M' : Mem} (h : f.run M = some (.inl a, M')) (q : Q a M') : wp f M Q := ⟨a, M', h, q⟩
theorem w_bnd {x : Act β} {k : β → Act α} (h : wp x M (fun a M1 => wp (k a) M1 Q)) : wp (bnd x k) M Q := by
  obtain ⟨a, M1, h1, b, M2, h2, q⟩ := h
  exact ⟨b, M2, by rw [bnd_run, h1]; exact h2, q⟩
theorem w_pur {a : α} (q : Q a M) : wp (pur a) M Q := ⟨a, M, rfl, q⟩
theorem w_jn {k : β} {f : β → Act α} (h : wp (f k) M Q) : wp (jn k f) M Q := h
theorem w_nt {f : Act α} (h : wp f M Q) : wp (nt f) M Q := by
  obtain ⟨a, M', h1, h2⟩ := h
  exact ⟨a, M', nt_of h1, h2⟩
theorem w_gd {ci c : Nat} {f : Act α} (hk : M.k c = ci + 1) (h : wp f M Q) : wp (gd ci c f) M Q := by
  obtain ⟨a, M', h1, h2⟩ := h
  exact ⟨a, M', by rw [gd_of hk]; exact h1, h2⟩
theorem w_nn {x : Nat} {f : Act α} (hx : x ≠ 0) (h : wp f M Q) : wp (nn x f) M Q := by
  unfold nn; rw [if_neg hx]; exact h
theorem w_nz {y : Int32} {f : Act α} (hy : ¬ y = 0) (h : wp f M Q) : wp (nz y f) M Q := by
  unfold nz; rw [if_neg hy]; exact h
theorem w_nzl {y : Int64} {f : Act α} (hy : ¬ y = 0) (h : wp f M Q) : wp (nzl y f) M Q := by
  unfold nzl; rw [if_neg hy]; exact h
theorem w_t {C : Prop} [Decidable C] {f g : Act α} (hc : C) (h : wp f M Q) : wp (if C then f else g) M Q := by rw [if_pos hc]; exact h
theorem w_f {C : Prop} [Decidable C] {f g : Act α} (hc : ¬ C) (h : wp g M Q) : wp (if C then f else g) M Q := by rw [if_neg hc]; exact h
theorem w_ite {C : Prop} [Decidable C] {f g : Act α} (ht : C → wp f M Q) (hf : ¬ C → wp g M Q) : wp (if C then f else g) M Q := by
  by_cases c : C
  · exact w_t c (ht c)
  · exact w_f c (hf c)
theorem w_rdm {ok : Mem → Prop} {hd : ∀ M, Decidable (ok M)} {f : Mem → α} (h : ok M) (q : Q (f M) M) : wp (rdm ok hd f) M Q := ⟨f M, M, if_pos h, q⟩
theorem w_wrm {ok : Mem → Prop} {hd : ∀ M, Decidable (ok M)} {a : Mem → α} {f : Mem → Mem} {hm} (h : ok M) (q : Q (a M) (f M)) : wp (wrm ok hd a f hm) M Q := ⟨a M, f M, if_pos h, q⟩
end WP
section WP2
variable {M : Mem} {ci j c q x : Nat} {i : Int32}
theorem w_purS {ty : FieldType} {v : Int32} {Q : Int32 → Mem → Prop} (hn : narrow ty (.int v) = .int v) (h : Q v M) : wp (purS (ty := ty) v) M Q := by
  unfold purS; rw [if_pos hn]; exact w_pur h
theorem w_purZ {v : Int32} {Q : Int32 → Mem → Prop} (hn : v = 0 ∨ v = 1) (h : Q v M) : wp (purS (ty := .boolean) v) M Q := by
  refine w_purS ?_ h
  rcases hn with rfl | rfl <;> rfl
theorem w_getI {Q : Int32 → Mem → Prop} (h : M.k c = ci + 1) (hq : Q (M.i (128 * ci + j) c) M) : wp (getI ci j c) M Q := w_rdm (Or.inl h) hq
theorem w_getL {Q : Int64 → Mem → Prop} (h : M.k c = ci + 1) (hq : Q (M.l (128 * ci + j) c) M) : wp (getL ci j c) M Q := w_rdm (Or.inl h) hq
theorem w_getR {Q : Nat → Mem → Prop} (h : M.k c = ci + 1) (hq : Q (M.r (128 * ci + j) c) M) : wp (getR ci j c) M Q := w_rdm (Or.inl h) hq
theorem w_getIo {Q : Int32 → Mem → Prop} (h : okr ci c M) (hq : Q (M.i (128 * ci + j) c) M) : wp (getI ci j c) M Q := w_rdm h hq
theorem w_getRo {Q : Nat → Mem → Prop} (h : okr ci c M) (hq : Q (M.r (128 * ci + j) c) M) : wp (getR ci j c) M Q := w_rdm h hq
theorem w_putI {v : Int32} {Q : Unit → Mem → Prop} (h : M.k c = ci + 1) (hq : Q () (M.seti (128 * ci + j) c v)) : wp (putI ci j c v) M Q := w_wrm h hq
theorem w_putS {ty : FieldType} {v : Int32} {Q : Unit → Mem → Prop} (h : M.k c = ci + 1) (h2 : narrow ty (.int v) = .int v ∧ fits ty (.int v) = true) (hq : Q () (M.seti (128 * ci + j) c v)) : wp (putS ty ci j c v) M Q := w_wrm ⟨h, h2⟩ hq
theorem w_putZ {v : Int32} {Q : Unit → Mem → Prop} (h : M.k c = ci + 1) (h2 : v = 0 ∨ v = 1) (hq : Q () (M.seti (128 * ci + j) c v)) : wp (putS .boolean ci j c v) M Q := by
  refine w_putS h ?_ hq
  rcases h2 with rfl | rfl <;> exact ⟨rfl, rfl⟩
theorem w_putL {v : Int64} {Q : Unit → Mem → Prop} (h : M.k c = ci + 1) (hq : Q () (M.setl (128 * ci + j) c v)) : wp (putL ci j c v) M Q := w_wrm h hq
theorem w_putR {v : Nat} {Q : Unit → Mem → Prop} (h : M.k c = ci + 1) (hq : Q () (M.setr (128 * ci + j) c v)) : wp (putR ci j c v) M Q := w_wrm h hq
theorem w_newO {N : Nat} {Q : Nat → Mem → Prop} (hq : Q (M.n + 1) (M.newo ci N)) : wp (newO ci N) M Q := w_wrm trivial hq
theorem w_newA {v : Int32} {Q : Nat → Mem → Prop} (h : ¬ v < 0 ∧ v.toNatClampNeg ≤ 60000000) (hq : Q (M.n + 1) (M.newa q v.toNatClampNeg)) : wp (newA q v) M Q := w_wrm h hq
theorem w_ldI {Q : Int32 → Mem → Prop} (h : M.k c = 50 + q) (hi : ¬ i < 0 ∧ i.toNatClampNeg < M.len c) (hq : Q (M.ai c i.toNatClampNeg) M) : wp (ldI q c i) M Q := w_rdm ⟨Or.inl h, fun z => z.elim hi.1 (fun z => Nat.not_le.mpr hi.2 z)⟩ hq
theorem w_ldL {Q : Int64 → Mem → Prop} (h : M.k c = 50 + q) (hi : ¬ i < 0 ∧ i.toNatClampNeg < M.len c) (hq : Q (M.al c i.toNatClampNeg) M) : wp (ldL q c i) M Q := w_rdm ⟨Or.inl h, fun z => z.elim hi.1 (fun z => Nat.not_le.mpr hi.2 z)⟩ hq
theorem w_ldR {Q : Nat → Mem → Prop} (h : M.k c = 50 + q) (hi : ¬ i < 0 ∧ i.toNatClampNeg < M.len c) (hq : Q (M.ar c i.toNatClampNeg) M) : wp (ldR q c i) M Q := w_rdm ⟨Or.inl h, fun z => z.elim hi.1 (fun z => Nat.not_le.mpr hi.2 z)⟩ hq
theorem w_stI {v : Int32} {Q : Unit → Mem → Prop} (h : M.k c = 50 + q) (hi : ¬ i < 0 ∧ i.toNatClampNeg < M.len c) (hq : Q () (M.setai c i.toNatClampNeg (narq q v))) : wp (stI q c i v) M Q := w_wrm ⟨h, fun z => z.elim hi.1 (fun z => Nat.not_le.mpr hi.2 z)⟩ hq
theorem w_stL {v : Int64} {Q : Unit → Mem → Prop} (h : M.k c = 50 + q) (hi : ¬ i < 0 ∧ i.toNatClampNeg < M.len c) (hq : Q () (M.setal c i.toNatClampNeg v)) : wp (stL q c i v) M Q := w_wrm ⟨h, fun z => z.elim hi.1 (fun z => Nat.not_le.mpr hi.2 z)⟩ hq
theorem w_len {Q : Int32 → Mem → Prop} (h : M.k c = 50 + q ∨ M.k c = 60 + q) (hq : Q (Int32.ofNat (M.len c)) M) : wp (lenq q c) M Q := w_rdm h hq
theorem w_gst {Q : Nat → Mem → Prop} (hq : Q (M.r (9000 + j) 0) M) : wp (gst j) M Q := w_rdm trivial hq
theorem w_cst {ks : List Nat} {Q : Unit → Mem → Prop} (h : x = 0 ∨ M.k x ∈ ks) (hq : Q () M) : wp (cst ks x) M Q := w_rdm h hq
theorem w_stK {ks : List Nat} {v : Nat} {Q : Unit → Mem → Prop} (h : M.k c = 50 + q) (hi : ¬ i < 0 ∧ i.toNatClampNeg < M.len c) (hk : M.k v ∈ ks) (hq : Q () (M.setar c i.toNatClampNeg v)) : wp (stK ks q c i v) M Q := w_wrm ⟨⟨h, fun z => z.elim hi.1 (fun z => Nat.not_le.mpr hi.2 z)⟩, hk⟩ hq
theorem w_stN {Q : Unit → Mem → Prop} (h : M.k c = 50 + q) (hi : ¬ i < 0 ∧ i.toNatClampNeg < M.len c) (hq : Q () (M.setar c i.toNatClampNeg 0)) : wp (stN q c i) M Q := w_wrm ⟨h, fun z => z.elim hi.1 (fun z => Nat.not_le.mpr hi.2 z)⟩ hq
end WP2
/-! ===== small numbers as Int32 ===== -/
theorem i_clamp {n : Nat} (h : n < 2147483648) : (Int32.ofNat n).toNatClampNeg = n := nI_clamp (by omega)
theorem i_nneg {n : Nat} (h : n < 2147483648) : ¬ Int32.ofNat n < 0 := nI_pos (by omega)
theorem i_toInt {n : Nat} (h : n < 2147483648) : (Int32.ofNat n).toInt = n := by
  rw [i_nn _ (i_nneg h), i_clamp h]
theorem i_eq {a b : Nat} (ha : a < 2147483648) (hb : b < 2147483648) : (Int32.ofNat a = Int32.ofNat b) ↔ a = b := nI_eq (by omega) (by omega)
theorem i_lt {a b : Nat} (ha : a < 2147483648) (hb : b < 2147483648) : (Int32.ofNat a < Int32.ofNat b) ↔ a < b := by
  rw [Int32.lt_iff_toInt_lt, i_toInt ha, i_toInt hb]; omega
theorem i_le {a b : Nat} (ha : a < 2147483648) (hb : b < 2147483648) : (Int32.ofNat a ≤ Int32.ofNat b) ↔ a ≤ b := by
  rw [Int32.le_iff_toInt_le, i_toInt ha, i_toInt hb]; omega
theorem i_add (a b : Nat) : Int32.ofNat a + Int32.ofNat b = Int32.ofNat (a + b) := nI_add a b
theorem i_add1 (a : Nat) : Int32.ofNat a + 1 = Int32.ofNat (a + 1) := nI_1 a
