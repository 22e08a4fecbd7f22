set_option maxRecDepth 100000
/-! ===== the model's object as three functions: int fields, int arrays, long arrays ===== -/
def MS : Type := (Nat → Int32) × (Nat → Nat → Int32) × (Nat → Nat → Int64)
def MS.i (S : MS) : Nat → Int32 := S.1
def MS.a (S : MS) : Nat → Nat → Int32 := S.2.1
def MS.b (S : MS) : Nat → Nat → Int64 := S.2.2
def MS.si (S : MS) (j : Nat) (v : Int32) : MS := (up1 S.i j v, S.a, S.b)
def MS.sa (S : MS) (o i : Nat) (v : Int32) : MS := (S.i, up2 S.a o i v, S.b)
def MS.sb (S : MS) (o i : Nat) (v : Int64) : MS := (S.i, S.a, up2 S.b o i v)
def vw (x : Nat) (M : Mem) : MS := (fun j => if j < 128 then M.i (128 * 4 + j) (x + 28) else 0, fun o i => if 1 ≤ o ∧ o ≤ 60 then M.ai (x + 28 + o) i else 0, fun o i => if 1 ≤ o ∧ o ≤ 60 then M.al (x + 28 + o) i else 0)
/-- nothing has changed but in the model's cells -/
def Monly (x : Nat) (M M' : Mem) : Prop :=
  M'.k = M.k ∧ M'.len = M.len ∧ M'.r = M.r ∧ M'.ls = M.ls ∧ M'.tx = M.tx ∧ M'.cap = M.cap ∧ M'.n = M.n ∧ M'.sl = M.sl ∧ M'.l = M.l ∧ M'.ar = M.ar ∧ (∀ t, ¬ (512 ≤ t ∧ t < 640) → M'.i t = M.i t) ∧ ∀ c, ¬ (x + 28 < c ∧ c ≤ x + 88) → M'.ai c = M.ai c ∧ M'.al c = M.al c
theorem Monly.rf {x : Nat} {M : Mem} : Monly x M M := ⟨rfl, rfl, rfl, rfl, rfl, rfl, rfl, rfl, rfl, rfl, fun _ _ => rfl, fun _ _ => ⟨rfl, rfl⟩⟩
theorem Monly.tr {x : Nat} {M M1 M2 : Mem} (h1 : Monly x M M1) (h2 : Monly x M1 M2) : Monly x M M2 := by
  obtain ⟨a1, a2, a3, a4, a5, a6, a7, a8, a9, a10, a11, a12⟩ := h1
  obtain ⟨b1, b2, b3, b4, b5, b6, b7, b8, b9, b10, b11, b12⟩ := h2
  exact ⟨b1.trans a1, b2.trans a2, b3.trans a3, b4.trans a4, b5.trans a5, b6.trans a6, b7.trans a7, b8.trans a8, b9.trans a9, b10.trans a10, fun t ht => (b11 t ht).trans (a11 t ht), fun c hc => ⟨(b12 c hc).1.trans (a12 c hc).1, (b12 c hc).2.trans (a12 c hc).2⟩⟩
theorem Monly.lay {x : Nat} {M M' : Mem} (h : Monly x M M') (hL : Lay x M) : Lay x M' := by
  obtain ⟨a1, a2, a3, a4, a5, a6, a7, a8⟩ := hL
  refine ⟨fun e he => by rw [h.1]; exact a1 e he, fun e he => by rw [h.2.1]; exact a2 e he, fun e he => by rw [h.2.2.1]; exact a3 e he, by rw [h.1]; exact a4, fun e he => by rw [h.1, h.2.1, h.2.2.1]; exact a5 e he, fun e he => ?_, by rw [h.2.2.2.2.2.2.1]; exact a7, a8⟩
  have q : 128 * e.1 + e.2.1 < 512 := by revert he e; decide
  rw [h.2.2.2.2.2.2.2.2.2.2.1 _ (by omega)]; exact a6 e he
/-- the model's action: it ends with an answer, has changed the model's cells alone, and Q holds of the answer and of the model's new state -/
def wm {α : Type} (x : Nat) (f : Act α) (S : MS) (Q : α → MS → Prop) : Prop := ∀ M, Lay x M → vw x M = S → ∃ a M', f.run M = some (.inl a, M') ∧ Monly x M M' ∧ Q a (vw x M')
section
variable {α β : Type} {x : Nat} {S : MS} {Q : α → MS → Prop}
theorem m_mono {f : Act α} {Q' : α → MS → Prop} (h : wm x f S Q) (hq : ∀ a S', Q a S' → Q' a S') : wm x f S Q' := fun M h1 h2 => by
  obtain ⟨a, M', b1, b2, b3⟩ := h M h1 h2
  exact ⟨a, M', b1, b2, hq _ _ b3⟩
theorem m_bnd {g : Act β} {k : β → Act α} (h : wm x g S (fun a S1 => wm x (k a) S1 Q)) : wm x (bnd g k) S Q := fun M h1 h2 => by
  obtain ⟨a, M1, b1, b2, b3⟩ := h M h1 h2
  obtain ⟨b, M2, c1, c2, c3⟩ := b3 M1 (b2.lay h1) rfl
  exact ⟨b, M2, by rw [bnd_run, b1]; exact c1, b2.tr c2, c3⟩
theorem m_pur {a : α} (q : Q a S) : wm x (pur a) S Q := fun M _ h2 => ⟨a, M, rfl, Monly.rf, by rw [h2]; exact q⟩
theorem m_jn {k : β} {f : β → Act α} (h : wm x (f k) S Q) : wm x (jn k f) S Q := h
theorem m_nt {f : Act α} (h : wm x f S Q) : wm x (nt f) S Q := fun M h1 h2 => by
  obtain ⟨a, M', b1, b2, b3⟩ := h M h1 h2
  exact ⟨a, M', nt_of b1, b2, b3⟩
theorem m_gd {f : Act α} (h : wm x f S Q) : wm x (gd 4 (x + 28) f) S Q := fun M h1 h2 => by
  obtain ⟨a, M', b1, b2, b3⟩ := h M h1 h2
  exact ⟨a, M', by rw [gd_of h1.m0]; exact b1, b2, b3⟩
theorem m_nz {y : Int32} {f : Act α} (hy : ¬ y = 0) (h : wm x f S Q) : wm x (nz y f) S Q := by unfold nz; rw [if_neg hy]; exact h
theorem m_nzl {y : Int64} {f : Act α} (hy : ¬ y = 0) (h : wm x f S Q) : wm x (nzl y f) S Q := by unfold nzl; rw [if_neg hy]; exact h
theorem m_t {C : Prop} [Decidable C] {f g : Act α} (hc : C) (h : wm x f S Q) : wm x (if C then f else g) S Q := by rw [if_pos hc]; exact h
theorem m_f {C : Prop} [Decidable C] {f g : Act α} (hc : ¬ C) (h : wm x g S Q) : wm x (if C then f else g) S Q := by rw [if_neg hc]; exact h
theorem m_ite {C : Prop} [Decidable C] {f g : Act α} (ht : C → wm x f S Q) (hf : ¬ C → wm x g S Q) : wm x (if C then f else g) S Q := by
  by_cases c : C
  · exact m_t c (ht c)
  · exact m_f c (hf c)
/-- an action that doesn't look at the memory -/
theorem m_w {f : Act α} {a : α} (h : ∀ M, wp f M (fun b M' => b = a ∧ M' = M)) (q : Q a S) : wm x f S Q := fun M _ h2 => by
  obtain ⟨b, M', b1, rfl, rfl⟩ := h M
  exact ⟨b, M', b1, Monly.rf, by rw [h2]; exact q⟩
end
section
variable {x : Nat} {S : MS}
theorem m_purZ {v : Int32} {Q : Int32 → MS → Prop} (hn : v = 0 ∨ v = 1) (h : Q v S) : wm x (purS (ty := .boolean) v) S Q := m_w (fun _ => w_purZ hn ⟨rfl, rfl⟩) h
theorem m_isin {a b c : Int32} {Q : Int32 → MS → Prop} (h : Q (bz (b ≤ a ∧ a ≤ c)) S) : wm x (f_X4_isIn a b c) S Q := m_w (fun _ => m_isIn ⟨rfl, rfl⟩) h
theorem m_isten {a : Int32} {Q : Int32 → MS → Prop} (h : Q (bz (0 ≤ a ∧ a ≤ 4999)) S) : wm x (f_X4_isTen a) S Q := m_w (fun _ => m_isTen ⟨rfl, rfl⟩) h
theorem m_ones {a : Int32} {Q : Int32 → MS → Prop} (h : Q (bz (a ≠ 0)) S) : wm x (f_X4_one a) S Q := m_w (fun _ => m_one ⟨rfl, rfl⟩) h
theorem vw_i {M : Mem} {j : Nat} (h : j < 128) : M.i (128 * 4 + j) (x + 28) = (vw x M).i j := (if_pos h).symm
theorem vw_a {M : Mem} {o i : Nat} (h : 1 ≤ o ∧ o ≤ 60) : M.ai (x + 28 + o) i = (vw x M).a o i := (if_pos h).symm
theorem vw_b {M : Mem} {o i : Nat} (h : 1 ≤ o ∧ o ≤ 60) : M.al (x + 28 + o) i = (vw x M).b o i := (if_pos h).symm
theorem m_rd {α : Type} {f : Act α} {a : α} {Q : α → MS → Prop} (h : ∀ M, Lay x M → vw x M = S → wp f M (fun b M' => b = a ∧ M' = M)) (q : Q a S) : wm x f S Q := fun M h1 h2 => by
  obtain ⟨b, M', b1, rfl, rfl⟩ := h M h1 h2
  exact ⟨b, M', b1, Monly.rf, by rw [h2]; exact q⟩
theorem m_getI {j : Nat} {Q : Int32 → MS → Prop} (hj : j < 128) (h : Q (S.i j) S) : wm x (getI 4 j (x + 28)) S Q := m_rd (fun M h1 h2 => w_getI h1.m0 ⟨by rw [vw_i hj, h2], rfl⟩) h
theorem m_putI {j : Nat} {v : Int32} {Q : Unit → MS → Prop} (hj : j < 128) (h : Q () (S.si j v)) : wm x (putI 4 j (x + 28) v) S Q := fun M h1 h2 => by
  refine ⟨(), M.seti (128 * 4 + j) (x + 28) v, if_pos h1.m0, ⟨rfl, rfl, rfl, rfl, rfl, rfl, rfl, rfl, rfl, rfl, fun t ht => funext fun c => up2_nx _ _ _ _ (by omega), fun _ _ => ⟨rfl, rfl⟩⟩, ?_⟩
  have e : vw x (M.seti (128 * 4 + j) (x + 28) v) = S.si j v := by
    rw [← h2]
    refine Prod.ext (funext fun k => ?_) rfl
    show (if k < 128 then up2 M.i (128 * 4 + j) (x + 28) v (128 * 4 + k) (x + 28) else 0) = up1 (vw x M).i j v k
    unfold up1 up2
    by_cases e : k = j
    · subst e
      rw [if_pos hj, if_pos ⟨rfl, rfl⟩, if_pos rfl]
    · rw [if_neg e]
      by_cases q : k < 128
      · rw [if_pos q, if_neg (fun z => e (by omega))]; exact vw_i q
      · rw [if_neg q]; exact (if_neg q).symm
  rw [e]; exact h
theorem m_getR {f o q len : Nat} {Q : Nat → MS → Prop} (hm : (f, o, q, len) ∈ mT) (h : Q (x + 28 + o) S) : wm x (getR 4 f (x + 28)) S Q := m_rd (fun M h1 h2 => w_getR h1.m0 ⟨(h1.2.2.2.2.1 _ hm).1, rfl⟩) h
theorem mT_o {f o q len : Nat} (hm : (f, o, q, len) ∈ mT) : 1 ≤ o ∧ o ≤ 60 ∧ len ≤ 33360 := by
  have : ∀ e ∈ mT, 1 ≤ e.2.1 ∧ e.2.1 ≤ 60 ∧ e.2.2.2 ≤ 33360 := by decide
  exact this _ hm
theorem in_len {f o q len i : Nat} {M : Mem} (hm : (f, o, q, len) ∈ mT) (hi : i < len) (h1 : Lay x M) : M.k (x + 28 + o) = 50 + q ∧ (¬ Int32.ofNat i < 0 ∧ (Int32.ofNat i).toNatClampNeg < M.len (x + 28 + o)) ∧ (Int32.ofNat i).toNatClampNeg = i := by
  obtain ⟨b1, b2, b3⟩ := h1.2.2.2.2.1 _ hm
  have ho := mT_o hm
  have ec : (Int32.ofNat i).toNatClampNeg = i := i_clamp (by omega)
  have b3 : M.len (x + 28 + o) = len := b3
  exact ⟨b2, ⟨i_nneg (by omega), by rw [ec, b3]; exact hi⟩, ec⟩
theorem m_ldI {f o q len i : Nat} {Q : Int32 → MS → Prop} (hm : (f, o, q, len) ∈ mT) (hi : i < len) (h : Q (S.a o i) S) : wm x (ldI q (x + 28 + o) (Int32.ofNat i)) S Q := m_rd (fun M h1 h2 => by
  obtain ⟨b1, b2, b3⟩ := in_len hm hi h1
  have ho := mT_o hm
  exact w_ldI b1 b2 ⟨by rw [b3, vw_a ⟨ho.1, ho.2.1⟩, h2], rfl⟩) h
theorem m_ldL {f o q len i : Nat} {Q : Int64 → MS → Prop} (hm : (f, o, q, len) ∈ mT) (hi : i < len) (h : Q (S.b o i) S) : wm x (ldL q (x + 28 + o) (Int32.ofNat i)) S Q := m_rd (fun M h1 h2 => by
  obtain ⟨b1, b2, b3⟩ := in_len hm hi h1
  have ho := mT_o hm
  exact w_ldL b1 b2 ⟨by rw [b3, vw_b ⟨ho.1, ho.2.1⟩, h2], rfl⟩) h
theorem m_stQ {f o q len i : Nat} {v : Int32} {Q : Unit → MS → Prop} (hm : (f, o, q, len) ∈ mT) (hi : i < len) (h : Q () (S.sa o i (narq q v))) : wm x (stI q (x + 28 + o) (Int32.ofNat i) v) S Q := fun M h1 h2 => by
  obtain ⟨b2, b3, ec⟩ := in_len hm hi h1
  have ho := mT_o hm
  refine ⟨(), _, if_pos ⟨b2, fun z => z.elim b3.1 (fun z => Nat.not_le.mpr b3.2 z)⟩, ⟨rfl, rfl, rfl, rfl, rfl, rfl, rfl, rfl, rfl, rfl, fun _ _ => rfl, fun c hc => ⟨funext fun y => up2_nx _ _ _ _ (fun e => hc (by omega)), rfl⟩⟩, ?_⟩
  · simp only [ec]
    have e : vw x (M.setai (x + 28 + o) i (narq q v)) = S.sa o i (narq q v) := by
      rw [← h2]
      refine Prod.ext rfl (Prod.ext (funext fun o' => funext fun i' => ?_) rfl)
      show (if 1 ≤ o' ∧ o' ≤ 60 then up2 M.ai (x + 28 + o) i (narq q v) (x + 28 + o') i' else 0) = up2 (vw x M).a o i (narq q v) o' i'
      unfold up2
      by_cases e : o' = o ∧ i' = i
      · rw [if_pos e, e.1, e.2, if_pos ⟨ho.1, ho.2.1⟩, if_pos ⟨rfl, rfl⟩]
      · rw [if_neg e]
        by_cases q : 1 ≤ o' ∧ o' ≤ 60
        · rw [if_pos q, if_neg (fun z => e ⟨by omega, z.2⟩)]; exact vw_a q
        · rw [if_neg q]; exact (if_neg q).symm
    rw [e]; exact h
theorem m_stI {f o len i : Nat} {v : Int32} {Q : Unit → MS → Prop} (hm : (f, o, 0, len) ∈ mT) (hi : i < len) (h : Q () (S.sa o i v)) : wm x (stI 0 (x + 28 + o) (Int32.ofNat i) v) S Q := m_stQ hm hi h
theorem m_stZ {f o len i : Nat} {v : Int32} {Q : Unit → MS → Prop} (hm : (f, o, 3, len) ∈ mT) (hi : i < len) (hv : v = 0 ∨ v = 1) (h : Q () (S.sa o i v)) : wm x (stI 3 (x + 28 + o) (Int32.ofNat i) v) S Q := by
  refine m_stQ hm hi ?_
  have e : narq 3 v = v := by rcases hv with rfl | rfl <;> rfl
  rw [e]; exact h
theorem m_stL {f o q len i : Nat} {v : Int64} {Q : Unit → MS → Prop} (hm : (f, o, q, len) ∈ mT) (hi : i < len) (h : Q () (S.sb o i v)) : wm x (stL q (x + 28 + o) (Int32.ofNat i) v) S Q := fun M h1 h2 => by
  obtain ⟨b2, b3, ec⟩ := in_len hm hi h1
  have ho := mT_o hm
  refine ⟨(), _, if_pos ⟨b2, fun z => z.elim b3.1 (fun z => Nat.not_le.mpr b3.2 z)⟩, ⟨rfl, rfl, rfl, rfl, rfl, rfl, rfl, rfl, rfl, rfl, fun _ _ => rfl, fun c hc => ⟨rfl, funext fun y => up2_nx _ _ _ _ (fun e => hc (by omega))⟩⟩, ?_⟩
  · simp only [ec]
    have e : vw x (M.setal (x + 28 + o) i v) = S.sb o i v := by
      rw [← h2]
      refine Prod.ext rfl (Prod.ext rfl (funext fun o' => funext fun i' => ?_))
      show (if 1 ≤ o' ∧ o' ≤ 60 then up2 M.al (x + 28 + o) i v (x + 28 + o') i' else 0) = up2 (vw x M).b o i v o' i'
      unfold up2
      by_cases e : o' = o ∧ i' = i
      · rw [if_pos e, e.1, e.2, if_pos ⟨ho.1, ho.2.1⟩, if_pos ⟨rfl, rfl⟩]
      · rw [if_neg e]
        by_cases q : 1 ≤ o' ∧ o' ≤ 60
        · rw [if_pos q, if_neg (fun z => e ⟨by omega, z.2⟩)]; exact vw_b q
        · rw [if_neg q]; exact (if_neg q).symm
    rw [e]; exact h
/-! reading behind a change -/
theorem si_eq (S : MS) (j : Nat) (v : Int32) : (S.si j v).i j = v := up1_eq _ _ _
theorem si_ne (S : MS) (j : Nat) (v : Int32) {k : Nat} (h : k ≠ j) : (S.si j v).i k = S.i k := up1_ne _ _ _ h
theorem sa_eq (S : MS) (o i : Nat) (v : Int32) : (S.sa o i v).a o i = v := up2_eq _ _ _ _
theorem sa_no (S : MS) (o i : Nat) (v : Int32) {o' : Nat} (h : o' ≠ o) : (S.sa o i v).a o' = S.a o' := funext fun _ => up2_nx _ _ _ _ h
theorem sa_ni (S : MS) (o i : Nat) (v : Int32) {o' i' : Nat} (h : i' ≠ i) : (S.sa o i v).a o' i' = S.a o' i' := up2_ny _ _ _ _ h
theorem sb_eq (S : MS) (o i : Nat) (v : Int64) : (S.sb o i v).b o i = v := up2_eq _ _ _ _
theorem sb_no (S : MS) (o i : Nat) (v : Int64) {o' : Nat} (h : o' ≠ o) : (S.sb o i v).b o' = S.b o' := funext fun _ => up2_nx _ _ _ _ h
theorem sb_ni (S : MS) (o i : Nat) (v : Int64) {o' i' : Nat} (h : i' ≠ i) : (S.sb o i v).b o' i' = S.b o' i' := up2_ny _ _ _ _ h
end
