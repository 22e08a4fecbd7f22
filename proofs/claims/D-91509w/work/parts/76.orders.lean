set_option maxRecDepth 100000
/-! ===== stacks in the order of rules ===== -/
/-- where the new one goes -/
def insP (ah : Nat → Bool) (f : Nat → Nat) : Nat → Nat
  | 0 => 0
  | p + 1 => if ah (f p) = true then insP ah f p else p + 1
def shf (f : Nat → Nat) (s p : Nat) : Nat → Nat := fun j => if j < p then f j else if j = p then s else f (j - 1)
def ordF (ah : Nat → Nat → Bool) : Nat → Nat → Nat
  | 0 => fun _ => 0
  | s + 1 => shf (ordF ah s) s (insP (ah s) (ordF ah s) s)
theorem insP_le (ah : Nat → Bool) (f : Nat → Nat) : ∀ p, insP ah f p ≤ p := by
  intro p
  induction p with
  | zero => exact Nat.le_refl _
  | succ p ih =>
    unfold insP
    by_cases c : ah (f p) = true
    · rw [if_pos c]; omega
    · rw [if_neg c]; exact Nat.le_refl _
theorem ordF_lt (ah : Nat → Nat → Bool) : ∀ s j, j < s → ordF ah s j < s := by
  intro s
  induction s with
  | zero => intro j h; omega
  | succ s ih =>
    intro j h
    have hp := insP_le (ah s) (ordF ah s) s
    show shf (ordF ah s) s (insP (ah s) (ordF ah s) s) j < s + 1
    unfold shf
    by_cases c : j < insP (ah s) (ordF ah s) s
    · rw [if_pos c]
      have := ih j (by omega)
      omega
    · rw [if_neg c]
      by_cases c2 : j = insP (ah s) (ordF ah s) s
      · rw [if_pos c2]; omega
      · rw [if_neg c2]
        have := ih (j - 1) (by omega)
        omega
def bareS : Sk := mkSk 0 0 0 0 0 0 0 0
def skA (stk : List Sk) (i : Nat) : Sk := stk.getD i bareS
theorem skA_at {stk : List Sk} {i : Nat} (h : i < stk.length) : skA stk i = stk[i] := by
  unfold skA; rw [List.getD_eq_getElem?_getD, List.getElem?_eq_getElem h]; rfl
def ahD (stk : List Sk) (worn : Int32) (a b : Nat) : Bool := if worn = 0 then decide ((skA stk a).wear < (skA stk b).wear) else decide ((skA stk b).wear < (skA stk a).wear)
def ordD (stk : List Sk) (worn : Int32) : Nat → Nat := ordF (ahD stk worn) stk.length
/-- nothing has changed but the array of ints at c -/
def Ony (M M' : Mem) (c : Nat) : Prop := Ag no no no (fun e => e = c) M M' ∧ M'.k = M.k ∧ M'.n = M.n ∧ M'.sl = M.sl ∧ M'.ls = M.ls ∧ M'.cap = M.cap ∧ M'.r = M.r ∧ M'.i = M.i ∧ M'.len = M.len ∧ M'.l = M.l
section
variable {x : Nat} {M M0 M1 M2 : Mem} {S S0 : MS}
theorem Ony.rf {c : Nat} : Ony M M c := ⟨Ag.rf, rfl, rfl, rfl, rfl, rfl, rfl, rfl, rfl, rfl⟩
theorem Ony.tr {c : Nat} (h1 : Ony M0 M1 c) (h2 : Ony M1 M2 c) : Ony M0 M2 c := by
  obtain ⟨a0, a1, a2, a3, a4, a5, a6, a7, a8, a9⟩ := h1
  obtain ⟨b0, b1, b2, b3, b4, b5, b6, b7, b8, b9⟩ := h2
  exact ⟨a0.tr b0, b1.trans a1, b2.trans a2, b3.trans a3, b4.trans a4, b5.trans a5, b6.trans a6, b7.trans a7, b8.trans a8, b9.trans a9⟩
theorem Ony.ai {c j : Nat} {v : Int32} (h : Ony M0 M c) : Ony M0 (M.setai c j v) c := ⟨h.1.ai (Or.inl rfl), h.2⟩
theorem Ony.bas {c : Nat} (h : Ony M M1 c) (hB : Bas x M) : Bas x M1 := ⟨h.1.lay hB.1 (fun _ z => z.elim), hB.2.1.same h.2.1 h.2.2.1, hB.2.2.1.same h.2.1 h.2.2.2.2.1 h.2.2.2.2.2.1, hB.2.2.2.ag hB.2.1 h.1⟩
theorem Ony.ix {c : Nat} {d : Dt} (h : Ony M M1 c) (hc : c ≠ x + 12 ∧ c ≠ x + 18 ∧ c ≠ x + 19 ∧ c ≠ x + 20) (hB : Bas x M) (hX : IX x M d) : IX x M1 d := by
  have hf := hB.2.1
  have hn := hB.1.top
  have ha := h.1
  obtain ⟨h1, h2, h3, h4, h5, h6, h7, h8⟩ := hX
  exact ⟨h1.ag hf hn ha (fun t z => z.elim) (fun c z => z.elim), h2.ag hf hn ha (fun t z => z.elim) (fun t z => z.elim) (fun c z => z.elim), h3.ag hf hn ha (fun t z => z.elim) (fun t z => z.elim) (fun c z => z.elim), h4.ag hf hn ha (fun t z => z.elim) (fun c z => z.elim), h5.ag hf hn ha (fun t z => z.elim) (fun c z => z.elim), h6.ag hf hn ha (fun t z => z.elim) (fun c z => z.elim), h7.ag hn ha (fun t z => z.elim) (fun t z => z.elim) (fun c z => by rw [z]; exact hc), h8.ag hf hn ha (fun t z => z.elim) (fun c z => z.elim) (fun c z => z.elim)⟩
theorem w_sty {c j N : Nat} {v : Int32} {Q : Unit → Mem → Prop} (ho : Ony M0 M c) (hk : M.k c = 50) (hl : M.len c = N) (hj : j < N) (hN : N ≤ 100000) (hq : ∀ M', Ony M0 M' c → (∀ i, M'.ai c i = if i = j then v else M.ai c i) → Q () M') : wp (stI 0 c (Int32.ofNat j) v) M Q := by
  refine w_stn hk hl hj hN (hq _ ho.ai (fun i => ?_))
  rw [setai_at]
  by_cases e : i = j
  · rw [if_pos ⟨rfl, e⟩, if_pos e]
  · rw [if_neg (fun z => e z.2), if_neg e]
/-- the j-th stack -/
theorem w_stk {j : Nat} {stk : List Sk} (hB : Bas x M) (hX : XS x M stk) (hj : j < stk.length) {β : Type} {f : Nat → Act β} {Q : β → Mem → Prop} (hq : ∀ e, (∃ h : j < (M.ls (x + 17)).length, e = (M.ls (x + 17))[j]) → M.k e = 7 → rdSk M e = skA stk j → M.i 768 e = Int32.ofNat j → wp (f e) M Q) : wp (bnd (gd 17 (x + 17) (nt (P_get (x + 17) (Int32.ofNat j)))) fun w => bnd (cst [7] w) fun _ => f w) M Q := by
  obtain ⟨a1, a2, a3, a4⟩ := hX
  have hL := hB.1
  have hg := hB.2.2.1
  have hlen := map_len a1
  have hj3 : j < (M.ls (x + 17)).length := by omega
  have hk := a2 _ (List.getElem_mem hj3)
  have er := map_get a1 hj hj3
  refine w_bnd (w_gd hL.k17 (w_nt (w_get hg hL.k17 hj3 (w_bnd (w_cst (Or.inr (by rw [hk]; decide)) (hq _ ⟨hj3, rfl⟩ hk ?_ (a4 j hj3)))))))
  rw [skA_at hj]; exact er
theorem x_isAhead {r e1 e2 a b : Nat} {stk : List Sk} {wn : Int32} (hr : M.k r = 3) (hw : M.i (128 * 2 + 7) r = wn) (k1 : M.k e1 = 7) (k2 : M.k e2 = 7) (g1 : rdSk M e1 = skA stk a) (g2 : rdSk M e2 = skA stk b) {Q : Int32 → Mem → Prop} (hq : Q (bz (ahD stk wn a b = true)) M) : wp (f_X0_isAhead r e1 e2) M Q := by
  have h1 : M.i (128 * 6 + 4) e1 = (skA stk a).wear := by rw [← g1]; rfl
  have h2 : M.i (128 * 6 + 4) e2 = (skA stk b).wear := by rw [← g2]; rfl
  unfold f_X0_isAhead
  unfold ahD at hq
  refine w_bnd (w_getIv hr hw (w_jn (w_ite (fun c => ?_) (fun c => ?_))))
  · rw [if_pos c] at hq
    refine w_bnd (w_getIv k1 h1 (w_bnd (w_getIv k2 h2 (w_ite (fun z => ?_) (fun z => ?_)))))
    · rw [bz_f (fun y => Int32.not_lt.mpr z (of_decide_eq_true y))] at hq
      exact w_purZ (Or.inl rfl) hq
    · rw [bz_t (decide_eq_true (Int32.not_le.mp z))] at hq
      exact w_purZ (Or.inr rfl) hq
  · rw [if_neg c] at hq
    refine w_bnd (w_getIv k1 h1 (w_bnd (w_getIv k2 h2 (w_ite (fun z => ?_) (fun z => ?_)))))
    · rw [bz_f (fun y => Int32.not_lt.mpr z (of_decide_eq_true y))] at hq
      exact w_purZ (Or.inl rfl) hq
    · rw [bz_t (decide_eq_true (Int32.not_le.mp z))] at hq
      exact w_purZ (Or.inr rfl) hq
/-- the row of the order while the s-th is put in: it may go to p -/
def OrdP (A : Nat → Int32) (f : Nat → Nat) (s p : Nat) : Prop := (∀ j, j < p → A j = Int32.ofNat (f j)) ∧ ∀ j, p < j → j ≤ s → A j = Int32.ofNat (f (j - 1))
theorem OrdP.step {A A' : Nat → Int32} {f : Nat → Nat} {s p : Nat} (h : OrdP A f s (p + 1)) (hA : ∀ i, A' i = if i = p + 1 then A p else A i) : OrdP A' f s p := by
  refine ⟨fun j hj => ?_, fun j h1 h2 => ?_⟩
  · rw [hA, if_neg (by omega)]; exact h.1 j (by omega)
  · rw [hA]
    by_cases c : j = p + 1
    · rw [if_pos c, c, Nat.add_sub_cancel]; exact h.1 p (by omega)
    · rw [if_neg c]; exact h.2 j (by omega) h2
theorem OrdP.done {A A' : Nat → Int32} {f : Nat → Nat} {s p : Nat} (h : OrdP A f s p) (hA : ∀ i, A' i = if i = p then Int32.ofNat s else A i) : ∀ j, j < s + 1 → A' j = Int32.ofNat (shf f s p j) := by
  intro j hj
  rw [hA]
  unfold shf
  by_cases c : j = p
  · rw [if_pos c, if_neg (by omega), if_pos c]
  · rw [if_neg c]
    by_cases c2 : j < p
    · rw [if_pos c2]; exact h.1 j c2
    · rw [if_neg c2, if_neg c]; exact h.2 j (by omega) (by omega)
theorem x_ins {r s : Nat} {stk : List Sk} {wn : Int32} {f : Nat → Nat} (hB : Bas x M0) (hX : XS x M0 stk) (hs : s < stk.length) (h4 : stk.length ≤ 4) (hf : ∀ j, j < s → f j < s) (hr : M0.k r = 3) (hw : M0.i (128 * 2 + 7) r = wn) {Q : Unit → Mem → Prop} {jj : Int32 → Act Unit} :
    ∀ q p M, Ony M0 M (x + 22) → OrdP (M.ai (x + 22)) f s p → p ≤ s → p < q → (∀ M', Ony M0 M' (x + 22) → OrdP (M'.ai (x + 22)) f s (insP (ahD stk wn s) f p) → wp (jj (Int32.ofNat (insP (ahD stk wn s) f p))) M' Q) → wp (lp_X0_orders_15 x r (Int32.ofNat s) jj q (Int32.ofNat p)) M Q := by
  intro q
  induction q with
  | zero => intro p M _ _ _ h; omega
  | succ q ih =>
    intro p M o hO hp hq' hq
    have hB1 := o.bas hB
    have hL := hB1.1
    have hX1 : XS x M stk := hX.ag hB.2.1 hB.1.top o.1 (fun t z => z.elim) (fun t z => z.elim) (fun c z => z.elim)
    rw [lp_X0_orders_15]
    cases p with
    | zero => exact w_t (by decide) (hq M o hO)
    | succ p =>
      have hfp := hf p (by omega)
      refine w_f (fun z => by have := (i_le (a := p + 1) (b := 0) (by omega) (by omega)).mp z; omega) ?_
      rw [i_ap1, show Int32.ofNat (p + 1) + -1 = Int32.ofNat p from by rw [← Int32.sub_eq_add_neg, i_ap1]]
      refine w_bnd (w_getR0 hL rfl rfl rfl (w_stk hB1 hX1 hs (fun e1 _ k1 g1 _ => w_bnd (w_getR0 hL rfl rfl rfl (w_bnd (w_getR0 hL rfl rfl rfl (w_bnd (w_ldn hL.k22 hL.l22 (by omega) (by decide) ?_))))))))
      rw [hO.1 p (by omega)]
      refine w_stk hB1 hX1 (by omega) (fun e2 _ k2 g2 _ => w_bnd (w_nt (x_isAhead (wn := wn) (by rw [o.2.1]; exact hr) (by rw [o.2.2.2.2.2.2.2.1]; exact hw) k1 k2 g1 g2 ?_)))
      unfold insP at hq
      by_cases c : ahD stk wn s (f p) = true
      · rw [if_pos c] at hq
        refine w_f (fun z => bzf z c) (w_bnd (w_getR0 hL rfl rfl rfl (w_bnd (w_getR0 hL rfl rfl rfl (w_bnd (w_ldn hL.k22 hL.l22 (by omega) (by decide) (w_bnd (w_sty o hL.k22 hL.l22 (by omega) (by decide) (fun M' o' hA => ?_)))))))))
        exact ih p M' o' (hO.step hA) (by omega) (by omega) hq
      · rw [if_neg c] at hq
        exact w_t (bz_0.mpr c) (hq M o hO)
theorem x_orders_lp {n r : Nat} {stk : List Sk} {wn : Int32} (hB : Bas x M0) (hX : XS x M0 stk) (h4 : stk.length ≤ 4) (hr : M0.k r = 3) (hw : M0.i (128 * 2 + 7) r = wn) (hn : 9100 ≤ n) {Q : Unit → Mem → Prop} (hq : ∀ M', Ony M0 M' (x + 22) → (∀ j, j < stk.length → M'.ai (x + 22) j = Int32.ofNat (ordD stk wn j)) → Q () M') :
    ∀ q s M, Ony M0 M (x + 22) → (∀ j, j < s → M.ai (x + 22) j = Int32.ofNat (ordF (ahD stk wn) s j)) → s ≤ stk.length → stk.length < q + s → wp (lp_X0_orders_2 n x r q (Int32.ofNat s)) M Q := by
  intro q
  induction q with
  | zero => intro s M _ _ _ _; omega
  | succ q ih =>
    intro s M o hA hs hq'
    have hB1 := o.bas hB
    have hL := hB1.1
    have hX1 : XS x M stk := hX.ag hB.2.1 hB.1.top o.1 (fun t z => z.elim) (fun t z => z.elim) (fun c z => z.elim)
    rw [lp_X0_orders_2]
    refine w_bnd (w_getR0 hL rfl rfl rfl (w_bnd (w_gd hL.k17 (w_nt (w_size hB1.2.2.1 hL.k17 ?_)))))
    rw [map_len hX1.1]
    by_cases e : s = stk.length
    · subst e
      exact w_t ((i_le (by omega) (by omega)).mpr (by omega)) (w_pur (hq M o hA))
    · have hs2 : s < stk.length := by omega
      refine w_f (fun z => by have := (i_le (by omega) (by omega)).mp z; omega) (w_jn ?_)
      refine x_ins hB hX hs2 h4 (ordF_lt _ s) hr hw n s M o ⟨hA, fun j h1 h2 => by omega⟩ (Nat.le_refl _) (by omega) (fun M' o' hO => ?_)
      have hL' := (o'.bas hB).1
      have hp := insP_le (ahD stk wn s) (ordF (ahD stk wn) s) s
      refine w_bnd (w_getR0 hL' rfl rfl rfl (w_bnd (w_sty o' hL'.k22 hL'.l22 (by omega) (by decide) (fun M2 o2 hA2 => ?_))))
      rw [i_add1]
      exact ih (s + 1) M2 o2 (hO.done hA2) (by omega) (by omega)
theorem x_orders {n r : Nat} {stk : List Sk} {wn : Int32} (hB : Bas x M) (hX : XS x M stk) (h4 : stk.length ≤ 4) (hr : M.k r = 3) (hw : M.i (128 * 2 + 7) r = wn) (hn : 9100 ≤ n) {Q : Unit → Mem → Prop} (hq : ∀ M', Ony M M' (x + 22) → (∀ j, j < stk.length → M'.ai (x + 22) j = Int32.ofNat (ordD stk wn j)) → Q () M') : wp (f_X0_orders n x r) M Q := by
  unfold f_X0_orders
  exact x_orders_lp hB hX h4 hr hw hn hq n 0 M Ony.rf (fun j h => by omega) (Nat.zero_le _) (by omega)
/-! the model -/
def OnA (S S' : MS) : Prop := Sam no (fun o => o = 34) no S S'
theorem m_sty {j : Nat} {v : Int32} {Q : Unit → MS → Prop} (ho : OnA S0 S) (hj : j < 4) (hq : ∀ S', OnA S0 S' → (∀ i, S'.a 34 i = if i = j then v else S.a 34 i) → Q () S') : wm x (stI 0 (x + 28 + 34) (Int32.ofNat j) v) S Q := by
  refine m_stIt rfl hj (hq _ (Sam.sa ho rfl) (fun i => ?_))
  rw [sa_at]
  by_cases e : i = j
  · rw [if_pos ⟨rfl, e⟩, if_pos e]
  · rw [if_neg (fun z => e z.2), if_neg e]
theorem OnA.rs {S S' : MS} {now : Nat} {stk : List Sk} (h : OnA S S') (hS : RS S now stk) : RS S' now stk := hS.fr (h.1 _ (fun z => z)) (fun o a b => h.2.1 o (by omega)) (h.2.2 _ (fun z => z))
theorem m_wear {S : MS} {now : Nat} {stk : List Sk} (hS : RS S now stk) {i : Nat} (hi : i < stk.length) : S.a 8 i = (skA stk i).wear := by
  rw [skA_at hi]; exact (hS.2.2.1 i hi).2.2.2.1
theorem m_ins {s now : Nat} {stk : List Sk} {wn : Int32} {f : Nat → Nat} (hS : RS S0 now stk) (hs : s < stk.length) (hf : ∀ j, j < s → f j < s) {Q : Unit → MS → Prop} {jj : Int32 → Act Unit} :
    ∀ q p S, OnA S0 S → OrdP (S.a 34) f s p → p ≤ s → p < q → (∀ S', OnA S0 S' → OrdP (S'.a 34) f s (insP (ahD stk wn s) f p) → wm x (jj (Int32.ofNat (insP (ahD stk wn s) f p))) S' Q) → wm x (lp_X4_orders_29 (x + 28) wn (Int32.ofNat s) jj q (Int32.ofNat p)) S Q := by
  intro q
  induction q with
  | zero => intro p S _ _ _ h; omega
  | succ q ih =>
    intro p S o hO hp hq' hq
    have hS1 := o.rs hS
    have h4 := hS.2.1
    rw [lp_X4_orders_29]
    cases p with
    | zero => exact m_t (by decide) (hq S o hO)
    | succ p =>
      have hfp := hf p (by omega)
      refine m_f (fun z => by have := (i_le (a := p + 1) (b := 0) (by omega) (by omega)).mp z; omega) (m_jn ?_)
      rw [i_ap1, show Int32.ofNat (p + 1) + -1 = Int32.ofNat p from by rw [← Int32.sub_eq_add_neg, i_ap1]]
      unfold insP at hq
      have go : ahD stk wn s (f p) = true → wm x (bnd (getR 4 40 (x + 28)) fun v8 => bnd (getR 4 40 (x + 28)) fun v9 => bnd (ldI 0 v9 (Int32.ofNat p)) fun v10 => bnd (stI 0 v8 (Int32.ofNat (p + 1)) v10) fun _ => (lp_X4_orders_29 (x + 28) wn (Int32.ofNat s) jj q) (Int32.ofNat p)) S Q := fun c => by
        rw [if_pos c] at hq
        refine m_bnd (m_getRt rfl (m_bnd (m_getRt rfl (m_bnd (m_ldIt rfl (by omega) (m_bnd (m_sty o (by omega) (fun S' o' hA => ?_))))))))
        exact ih p S' o' (hO.step hA) (by omega) (by omega) hq
      have st : ¬ ahD stk wn s (f p) = true → wm x (jj (Int32.ofNat (p + 1))) S Q := fun c => by
        rw [if_neg c] at hq
        exact hq S o hO
      refine m_ite (fun c => ?_) (fun c => ?_)
      · refine m_bnd (m_getRt rfl (m_bnd (m_getRt rfl (m_bnd (m_ldIt rfl (by omega) ?_)))))
        rw [hO.1 p (by omega)]
        refine m_bnd (m_ldIt rfl (by omega) (m_bnd (m_getRt rfl (m_bnd (m_ldIt rfl (by omega) ?_)))))
        rw [m_wear hS1 (i := f p) (by omega), m_wear hS1 (i := s) hs]
        refine m_ite (fun z => st (fun y => ?_)) (fun z => go ?_)
        · unfold ahD at y
          rw [if_pos c] at y
          exact Int32.not_lt.mpr z (of_decide_eq_true y)
        · unfold ahD
          rw [if_pos c]
          exact decide_eq_true (Int32.not_le.mp z)
      · refine m_bnd (m_getRt rfl (m_bnd (m_getRt rfl (m_bnd (m_ldIt rfl (by omega) ?_)))))
        rw [hO.1 p (by omega)]
        refine m_bnd (m_ldIt rfl (by omega) (m_bnd (m_getRt rfl (m_bnd (m_ldIt rfl (by omega) ?_)))))
        rw [m_wear hS1 (i := f p) (by omega), m_wear hS1 (i := s) hs]
        refine m_ite (fun z => st (fun y => ?_)) (fun z => go ?_)
        · unfold ahD at y
          rw [if_neg c] at y
          exact Int32.not_lt.mpr z (of_decide_eq_true y)
        · unfold ahD
          rw [if_neg c]
          exact decide_eq_true (Int32.not_le.mp z)
theorem m_orders_lp {n now : Nat} {stk : List Sk} {wn : Int32} (hS : RS S0 now stk) (hn : 9100 ≤ n) {Q : Unit → MS → Prop} (hq : ∀ S', OnA S0 S' → (∀ j, j < stk.length → S'.a 34 j = Int32.ofNat (ordD stk wn j)) → Q () S') :
    ∀ q s S, OnA S0 S → (∀ j, j < s → S.a 34 j = Int32.ofNat (ordF (ahD stk wn) s j)) → s ≤ stk.length → stk.length < q + s → wm x (lp_X4_orders_18 n (x + 28) wn q (Int32.ofNat s)) S Q := by
  intro q
  induction q with
  | zero => intro s S _ _ _ _; omega
  | succ q ih =>
    intro s S o hA hs hq'
    have hS1 := o.rs hS
    have h4 := hS.2.1
    rw [lp_X4_orders_18]
    refine m_bnd (m_getI (by decide) ?_)
    rw [hS1.1]
    by_cases e : s = stk.length
    · subst e
      exact m_t ((i_le (by omega) (by omega)).mpr (by omega)) (m_pur (hq S o hA))
    · have hs2 : s < stk.length := by omega
      refine m_f (fun z => by have := (i_le (by omega) (by omega)).mp z; omega) (m_jn ?_)
      refine m_ins hS hs2 (ordF_lt _ s) n s S o ⟨hA, fun j h1 h2 => by omega⟩ (Nat.le_refl _) (by omega) (fun S' o' hO => ?_)
      have hp := insP_le (ahD stk wn s) (ordF (ahD stk wn) s) s
      refine m_bnd (m_getRt rfl (m_bnd (m_sty o' (by omega) (fun S2 o2 hA2 => ?_))))
      rw [i_add1]
      exact ih (s + 1) S2 o2 (hO.done hA2) (by omega) (by omega)
theorem m_orders {n : Nat} {d : Dt} {t : Int32} (hS : IM S d) (h01 : lawA d.rules t 5 = 0 ∨ lawA d.rules t 5 = 1) (hn : 9100 ≤ n) {Q : Unit → MS → Prop} (hq : ∀ S', OnA S S' → (∀ j, j < d.stk.length → S'.a 34 j = Int32.ofNat (ordD d.stk (lawA d.rules t 5) j)) → Q () S') : wm x (f_X4_orders n (x + 28) (fcd (frcA d.rules t))) S Q := by
  have h4 := hS.2.1.2.1
  unfold f_X4_orders
  refine m_bnd (m_gd (m_nt (m_tells (w := 5) hS.2.2.2.2.2.2.2 (by omega) (by decide) (m_jn ?_))))
  rcases h01 with e | e
  · rw [e] at hq ⊢
    exact m_t (by decide) (m_orders_lp hS.2.1 hn hq n 0 S Sam.rf (fun j h => by omega) (Nat.zero_le _) (by omega))
  · rw [e] at hq ⊢
    exact m_f (by decide) (m_orders_lp hS.2.1 hn hq n 0 S Sam.rf (fun j h => by omega) (Nat.zero_le _) (by omega))
end
