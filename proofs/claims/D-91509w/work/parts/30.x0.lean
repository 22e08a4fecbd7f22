set_option maxRecDepth 100000
/-! ===== steps on WindGas's side ===== -/
section
variable {M : Mem} {ci j c q : Nat}
theorem w_getRv {v : Nat} {Q : Nat → Mem → Prop} (h : M.k c = ci + 1) (hr : M.r (128 * ci + j) c = v) (hq : Q v M) : wp (getR ci j c) M Q := w_getR h (by rw [hr]; exact hq)
theorem w_getIv {v : Int32} {Q : Int32 → Mem → Prop} (h : M.k c = ci + 1) (hr : M.i (128 * ci + j) c = v) (hq : Q v M) : wp (getI ci j c) M Q := w_getI h (by rw [hr]; exact hq)
theorem w_getLv {v : Int64} {Q : Int64 → Mem → Prop} (h : M.k c = ci + 1) (hr : M.l (128 * ci + j) c = v) (hq : Q v M) : wp (getL ci j c) M Q := w_getL h (by rw [hr]; exact hq)
theorem in_rng {i N : Nat} (hl : M.len c = N) (hi : i < N) (hN : N ≤ 100000) : (¬ Int32.ofNat i < 0 ∧ (Int32.ofNat i).toNatClampNeg < M.len c) ∧ (Int32.ofNat i).toNatClampNeg = i := by
  have ec : (Int32.ofNat i).toNatClampNeg = i := i_clamp (by omega)
  exact ⟨⟨i_nneg (by omega), by rw [ec, hl]; exact hi⟩, ec⟩
theorem w_ldn {i N : Nat} {Q : Int32 → Mem → Prop} (hk : M.k c = 50 + q) (hl : M.len c = N) (hi : i < N) (hN : N ≤ 100000) (hq : Q (M.ai c i) M) : wp (ldI q c (Int32.ofNat i)) M Q := by
  obtain ⟨h1, h2⟩ := in_rng hl hi hN
  exact w_ldI hk h1 (by rw [h2]; exact hq)
theorem w_ldLn {i N : Nat} {Q : Int64 → Mem → Prop} (hk : M.k c = 50 + q) (hl : M.len c = N) (hi : i < N) (hN : N ≤ 100000) (hq : Q (M.al c i) M) : wp (ldL q c (Int32.ofNat i)) M Q := by
  obtain ⟨h1, h2⟩ := in_rng hl hi hN
  exact w_ldL hk h1 (by rw [h2]; exact hq)
theorem w_stn {i N : Nat} {v : Int32} {Q : Unit → Mem → Prop} (hk : M.k c = 50) (hl : M.len c = N) (hi : i < N) (hN : N ≤ 100000) (hq : Q () (M.setai c i v)) : wp (stI 0 c (Int32.ofNat i) v) M Q := by
  obtain ⟨h1, h2⟩ := in_rng hl hi hN
  exact w_stI (q := 0) hk h1 (by rw [h2]; exact hq)
theorem w_stLn {i N : Nat} {v : Int64} {Q : Unit → Mem → Prop} (hk : M.k c = 51) (hl : M.len c = N) (hi : i < N) (hN : N ≤ 100000) (hq : Q () (M.setal c i v)) : wp (stL 1 c (Int32.ofNat i) v) M Q := by
  obtain ⟨h1, h2⟩ := in_rng hl hi hN
  exact w_stL (q := 1) hk h1 (by rw [h2]; exact hq)
end
/-- every list has been set up, and is of a bearable size -/
def GL (M : Mem) : Prop := ∀ c, M.k c = 18 → (M.ls c).length + 1 ≤ M.cap c ∧ M.cap c ≤ 9000
section
variable {M : Mem} {l : Nat}
theorem GL.ok (h : GL M) (hk : M.k l = 18) : okl l M := ⟨hk, by have := (h l hk).1; omega, by have := (h l hk).2; omega⟩
theorem GL.len (h : GL M) (hk : M.k l = 18) : (M.ls l).length ≤ 8999 := by have := h l hk; omega
theorem w_size {Q : Int32 → Mem → Prop} (h : GL M) (hk : M.k l = 18) (hq : Q (Int32.ofNat (M.ls l).length) M) : wp (P_size l) M Q := w_rdm (h.ok hk) hq
theorem w_get {i : Nat} {Q : Nat → Mem → Prop} (h : GL M) (hk : M.k l = 18) (hi : i < (M.ls l).length) (hq : Q (M.ls l)[i] M) : wp (P_get l (Int32.ofNat i)) M Q := by
  have hb := h.len hk
  have ec : (Int32.ofNat i).toNatClampNeg = i := i_clamp (by omega)
  refine w_rdm ⟨h.ok hk, i_nneg (by omega), by rw [ec]; exact hi⟩ ?_
  rw [ec, List.getD_eq_getElem?_getD, List.getElem?_eq_getElem hi]
  exact hq
theorem w_add {v : Nat} {Q : Int32 → Mem → Prop} (h : GL M) (hk : M.k l = 18) (hv : M.k v ∈ ksO) (hq : Q 1 (addM M l v)) : wp (P_add l v) M Q := w_wrm ⟨h.ok hk, hv⟩ hq
theorem w_isEmpty {Q : Int32 → Mem → Prop} (h : GL M) (hk : M.k l = 18) (hq : Q (if (M.ls l).length = 0 then 1 else 0) M) : wp (P_isEmpty l) M Q := w_rdm (h.ok hk) hq
theorem w_rem {Q : Nat → Mem → Prop} (h : GL M) (hk : M.k l = 18) (hne : 0 < (M.ls l).length) (hq : Q (M.ls l)[0] (M.setls l (M.ls l).tail)) : wp (P_rem l 0) M Q := by
  refine w_wrm ⟨h.ok hk, rfl, by omega⟩ ?_
  rw [List.getD_eq_getElem?_getD, List.getElem?_eq_getElem hne]
  exact hq
theorem GL.add (h : GL M) {v : Nat} (hb : (M.ls l).length ≤ 5000) : GL (addM M l v) := by
  intro c hk
  rw [(addM_k M l v).1] at hk
  rw [addM_ls]
  obtain ⟨h1, h2⟩ := h c hk
  unfold addM
  by_cases q : (M.ls l).length + 1 < M.cap l
  · rw [if_pos q]
    show (up1 M.ls l (M.ls l ++ [v]) c).length + 1 ≤ M.cap c ∧ M.cap c ≤ 9000
    by_cases e : c = l
    · subst e
      rw [up1_eq, List.length_append]
      exact ⟨q, h2⟩
    · rw [up1_ne _ _ _ e]; exact ⟨h1, h2⟩
  · rw [if_neg q]
    show (up1 M.ls l (M.ls l ++ [v]) c).length + 1 ≤ up1 M.cap l (gcap (M.cap l) + 1) c ∧ up1 M.cap l (gcap (M.cap l) + 1) c ≤ 9000
    by_cases e : c = l
    · subst e
      rw [up1_eq, up1_eq, List.length_append]
      show (M.ls c).length + 1 + 1 ≤ _ ∧ _
      unfold gcap
      by_cases q2 : M.cap c = 1
      · rw [if_pos q2]; omega
      · rw [if_neg q2]; omega
    · rw [up1_ne _ _ _ e, up1_ne _ _ _ e]; exact ⟨h1, h2⟩
theorem GL.same {M' : Mem} (h : GL M) (hk : M'.k = M.k) (hl : M'.ls = M.ls) (hc : M'.cap = M.cap) : GL M' := fun c h1 => by rw [hc, hl]; rw [hk] at h1; exact h c h1
theorem GL.tail (h : GL M) : GL (M.setls l (M.ls l).tail) := fun c hk => by
  obtain ⟨h1, h2⟩ := h c hk
  show (up1 M.ls l (M.ls l).tail c).length + 1 ≤ M.cap c ∧ M.cap c ≤ 9000
  by_cases e : c = l
  · subst e
    rw [up1_eq, List.length_tail]
    exact ⟨by omega, h2⟩
  · rw [up1_ne _ _ _ e]; exact ⟨h1, h2⟩
theorem GL.no (h : GL M) {ci N : Nat} (hci : ci ≠ 17) : GL (M.newo ci N) := fun c hk => by
  by_cases e : c = M.n + 1
  · rw [e, show (M.newo ci N).k (M.n + 1) = ci + 1 from up1_eq _ _ _] at hk; omega
  · rw [show (M.newo ci N).k c = M.k c from up1_ne _ _ _ e] at hk
    rw [show (M.newo ci N).cap c = M.cap c from up1_ne _ _ _ e, show (M.newo ci N).ls c = M.ls c from up1_ne _ _ _ e]
    exact h c hk
end
/-- the String constants -/
def Sts (M : Mem) : Prop := ∀ i q, strT[i]? = some q → M.k (M.r (9000 + (10 + i)) 0) = 40 ∧ M.tx (M.r (9000 + (10 + i)) 0) = q.2.toList.map (fun ch => Int32.ofNat ch.toNat)
/-- what holds of the memory between any two calls, apart from the data -/
def Bas (x : Nat) (M : Mem) : Prop := Lay x M ∧ Fre M ∧ GL M ∧ Sts M
/-- the model's cells are as they were -/
def Xonly (x : Nat) (M M' : Mem) : Prop := (∀ t, 512 ≤ t → t < 640 → M'.i t (x + 28) = M.i t (x + 28)) ∧ ∀ c, x + 28 < c → c ≤ x + 88 → M'.ai c = M.ai c ∧ M'.al c = M.al c
theorem Xonly.vw {x : Nat} {M M' : Mem} (h : Xonly x M M') : vw x M' = vw x M := by
  refine Prod.ext (funext fun j => ?_) (Prod.ext (funext fun o => funext fun i => ?_) (funext fun o => funext fun i => ?_))
  · show (if j < 128 then M'.i (128 * 4 + j) (x + 28) else 0) = if j < 128 then M.i (128 * 4 + j) (x + 28) else 0
    by_cases q : j < 128
    · rw [if_pos q, if_pos q, h.1 _ (by omega) (by omega)]
    · rw [if_neg q, if_neg q]
  · show (if 1 ≤ o ∧ o ≤ 60 then M'.ai (x + 28 + o) i else 0) = if 1 ≤ o ∧ o ≤ 60 then M.ai (x + 28 + o) i else 0
    by_cases q : 1 ≤ o ∧ o ≤ 60
    · rw [if_pos q, if_pos q, (h.2 _ (by omega) (by omega)).1]
    · rw [if_neg q, if_neg q]
  · show (if 1 ≤ o ∧ o ≤ 60 then M'.al (x + 28 + o) i else 0) = if 1 ≤ o ∧ o ≤ 60 then M.al (x + 28 + o) i else 0
    by_cases q : 1 ≤ o ∧ o ≤ 60
    · rw [if_pos q, if_pos q, (h.2 _ (by omega) (by omega)).2]
    · rw [if_neg q, if_neg q]
theorem Ag.xonly {ti tl ls ar : Nat → Prop} {x : Nat} {M M' : Mem} (h : Ag ti tl ls ar M M') (hn : x + 88 ≤ M.n) (h1 : ∀ t, ti t → ¬ (512 ≤ t ∧ t < 640)) (h2 : ∀ c, ar c → ¬ (x + 28 < c ∧ c ≤ x + 88)) : Xonly x M M' :=
  ⟨fun t a b => h.2.2.2.1 t _ (by omega) (fun z => h1 t z ⟨a, b⟩), fun c a b => by
    obtain ⟨p1, p2, -⟩ := h.2.2.2.2.2.2 c (by omega) (fun z => h2 c z ⟨a, b⟩)
    exact ⟨p1, p2⟩⟩
theorem Sts.ag {ti tl ls ar : Nat → Prop} {M M' : Mem} (h : Sts M) (hf : Fre M) (ha : Ag ti tl ls ar M M') : Sts M' := fun i q hq => by
  obtain ⟨h1, h2⟩ := h i q hq
  have hr := ha.2.2.1 (9000 + (10 + i)) 0 (Nat.zero_le _) (by omega)
  have hc := hf.le (c := M.r (9000 + (10 + i)) 0) (by rw [h1]; decide)
  obtain ⟨a1, a2, a3⟩ := ha.2.1 _ hc
  rw [hr, a1, a3]
  exact ⟨h1, h2⟩
