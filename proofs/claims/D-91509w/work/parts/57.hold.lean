set_option maxRecDepth 100000
/-! ===== conditions ===== -/
section
variable {x : Nat} {M : Mem}
theorem w_dspR {α : Type} {c : Nat} {f g h : Act α} {Q : α → Mem → Prop} (hk : M.k c = 13) (hw : wp f M Q) : wp (dsp c f g h) M Q := by
  obtain ⟨a, M', h1, h2⟩ := hw
  exact ⟨a, M', (if_pos hk).trans h1, h2⟩
theorem w_dspN {α : Type} {c : Nat} {f g h : Act α} {Q : α → Mem → Prop} (hk : M.k c = 14) (hw : wp g M Q) : wp (dsp c f g h) M Q := by
  obtain ⟨a, M', h1, h2⟩ := hw
  exact ⟨a, M', (if_neg (by rw [hk]; decide)).trans ((if_pos hk).trans h1), h2⟩
theorem w_dspT {α : Type} {c : Nat} {f g h : Act α} {Q : α → Mem → Prop} (hk : M.k c = 15) (hw : wp h M Q) : wp (dsp c f g h) M Q := by
  obtain ⟨a, M', h1, h2⟩ := hw
  exact ⟨a, M', (if_neg (by rw [hk]; decide)).trans ((if_neg (by rw [hk]; decide)).trans ((if_pos hk).trans h1)), h2⟩
theorem bz_dec {P : Prop} [Decidable P] {R : Int32 → Prop} (h1 : P → R 1) (h0 : ¬ P → R 0) : R (bz P) := by
  by_cases c : P
  · rw [bz_t c]; exact h1 c
  · rw [bz_f c]; exact h0 c
theorem drop_s {α : Type} {l : List α} {j : Nat} (h : j < l.length) : l.drop j = l[j] :: l.drop (j + 1) := List.drop_eq_getElem_cons h
theorem tst_x {sg num : Int32} {v : Int64} {Q : Int32 → Mem → Prop} (hq : Q (bz (tst sg num v = true)) M) :
    wp (if ¬ sg = 60 then (if ¬ sg = 62 then (if ¬ (lg_cmp v num.toInt64) = 0 then purS (ty := .boolean) 0 else purS (ty := .boolean) 1) else (if (lg_cmp v num.toInt64) ≤ 0 then purS (ty := .boolean) 0 else purS (ty := .boolean) 1)) else (if 0 ≤ (lg_cmp v num.toInt64) then purS (ty := .boolean) 0 else purS (ty := .boolean) 1)) M Q := by
  unfold tst at hq
  refine w_ite (fun h1 => w_ite (fun h2 => w_ite (fun h3 => ?_) (fun h3 => ?_)) (fun h2 => w_ite (fun h3 => ?_) (fun h3 => ?_))) (fun h1 => w_ite (fun h3 => ?_) (fun h3 => ?_))
  · rw [if_neg h1, if_neg h2, bz_f (fun z => h3 ((lcmp_eq _ _).mpr (of_decide_eq_true z)))] at hq
    exact w_purZ (Or.inl rfl) hq
  · rw [Decidable.not_not, lcmp_eq] at h3
    rw [if_neg h1, if_neg h2, bz_t (decide_eq_true h3)] at hq
    exact w_purZ (Or.inr rfl) hq
  · rw [Decidable.not_not] at h2
    rw [if_neg h1, if_pos h2, bz_f (fun z => Int32.not_lt.mpr h3 ((lcmp_gt _ _).mpr (of_decide_eq_true z)))] at hq
    exact w_purZ (Or.inl rfl) hq
  · rw [Decidable.not_not] at h2
    rw [Int32.not_le, lcmp_gt] at h3
    rw [if_neg h1, if_pos h2, bz_t (decide_eq_true h3)] at hq
    exact w_purZ (Or.inr rfl) hq
  · rw [Decidable.not_not] at h1
    rw [if_pos h1, bz_f (fun z => Int32.not_lt.mpr h3 ((lcmp_lt _ _).mpr (of_decide_eq_true z)))] at hq
    exact w_purZ (Or.inl rfl) hq
  · rw [Decidable.not_not] at h1
    rw [Int32.not_le, lcmp_lt] at h3
    rw [if_pos h1, bz_t (decide_eq_true h3)] at hq
    exact w_purZ (Or.inr rfl) hq
/-- the parts of a row from the j-th on; a: all of them -/
theorem x_row_lp {n dd c b l : Nat} {h : Nat → Int64} {ψs : List Ask} {a : Bool} (hg : GL M) (hk : M.k c = 13) (hr : M.r (128 * 12 + 1) c = l) (hl : M.k l = 18) (hi : M.i (128 * 12 + 0) c = if a = true then 1 else 0) (hlen : (M.ls l).length = ψs.length) (hks : ∀ e ∈ M.ls l, M.k e = 13 ∨ M.k e = 14 ∨ M.k e = 15)
    (H : ∀ j (p : j < ψs.length) (p2 : j < (M.ls l).length) (Q : Int32 → Mem → Prop), Q (bz (ψs[j] h = true)) M → wp (hld (g_cond n dd) (M.ls l)[j] b) M Q) {Q : Int32 → Mem → Prop} {j37 : Unit → Act Int32} (hj : Q (if a = true then 0 else 1) M → wp (j37 ()) M Q) :
    ∀ q j, j ≤ ψs.length → ψs.length < q + j → Q (bz ((if a = true then (ψs.drop j).all (fun ψ => ψ h) else (ψs.drop j).any (fun ψ => ψ h)) = true)) M → wp (lp_X12_holds_2 (g_cond n dd) c b j37 q (Int32.ofNat j)) M Q := by
  have hb := hg.len hl
  intro q
  induction q with
  | zero => intro j _ _; omega
  | succ q ih =>
    intro j hjl hjq hq
    rw [lp_X12_holds_2]
    refine w_bnd (w_getRv hk hr (w_bnd (w_gd hl (w_nt (w_size hg hl ?_)))))
    rw [hlen]
    by_cases e : j = ψs.length
    · refine w_t ((i_le (by omega) (by omega)).mpr (by omega)) (w_bnd (w_getIv hk hi ?_))
      rw [e, List.drop_length] at hq
      cases a with
      | true => exact w_purZ (Or.inr rfl) hq
      | false => exact w_purZ (Or.inl rfl) hq
    · have hj2 : j < ψs.length := by omega
      have hj3 : j < (M.ls l).length := by omega
      rw [drop_s hj2] at hq
      refine w_f (fun z => by have := (i_le (by omega) (by omega)).mp z; omega) ?_
      refine w_bnd (w_getRv hk hr (w_bnd (w_gd hl (w_nt (w_get hg hl hj3 (w_bnd (w_cst (Or.inr ?_) (w_bnd (H j hj2 hj3 _ (w_bnd (w_getIv hk hi ?_)))))))))))
      · rcases hks _ (List.getElem_mem hj3) with z | z | z <;> (rw [z]; decide)
      rw [i_add1]
      have K := ih (j + 1) (by omega) (by omega)
      cases a with
      | true =>
        cases eb : ψs[j] h with
        | true =>
          refine w_t (by rfl) (K ?_)
          simp only [if_true, List.all_cons, eb, Bool.true_and] at hq ⊢
          exact hq
        | false =>
          refine w_f (by decide) (hj ?_)
          simp only [if_true, List.all_cons, eb, Bool.false_and] at hq ⊢
          exact hq
      | false =>
        cases eb : ψs[j] h with
        | true =>
          refine w_f (by decide) (hj ?_)
          simp only [Bool.false_eq_true, if_false, List.any_cons, eb, Bool.true_or] at hq ⊢
          exact hq
        | false =>
          refine w_t (by rfl) (K ?_)
          simp only [Bool.false_eq_true, if_false, List.any_cons, eb, Bool.false_or] at hq ⊢
          exact hq
theorem CX.kind {d c : Nat} {φ : Ask} (h : CX x M d c φ) : M.k c = 13 ∨ M.k c = 14 ∨ M.k c = 15 := by
  cases d with
  | zero => exact h.elim
  | succ d =>
    rcases h with ⟨h, -⟩ | ⟨h, -⟩ | ⟨h, -⟩
    · exact Or.inr (Or.inr h)
    · exact Or.inr (Or.inl h)
    · exact Or.inl h
theorem x_hold {n b : Nat} {h : Nat → Int64} (hg : GL M) (hb : M.k b = 51) (hl : M.len b = 8) (hh : ∀ j, j < 8 → M.al b j = h j) (hn : 9100 ≤ n) : ∀ (d c : Nat) (φ : Ask), CX x M d c φ → ∀ dd, d ≤ dd → ∀ Q : Int32 → Mem → Prop, Q (bz (φ h = true)) M → wp (hld (g_cond n dd) c b) M Q := by
  intro d
  induction d with
  | zero => intro c φ hc; exact hc.elim
  | succ d ih =>
    intro c φ hc dd hdd Q hq
    obtain ⟨e, rfl⟩ : ∃ e, dd = e + 1 := ⟨dd - 1, by omega⟩
    unfold hld
    rcases hc with ⟨k, wd, w1, w2, rfl⟩ | ⟨k, ψ, w1, rfl⟩ | ⟨k, w1, w2, ψs, w3, w4, w5⟩
    · refine w_dspT k (w_nt ?_)
      show wp (f_X14_holds n (g_cond n e) c b) M Q
      unfold f_X14_holds
      have e1 : M.i (128 * 14 + 0) c = Int32.ofNat wd := w2
      have ld : ∀ {β : Type} {f : Int64 → Act β} {R : β → Mem → Prop}, wp (f (h wd)) M R → wp (bnd (getI 14 0 c) fun v => bnd (ldL 1 b v) f) M R := fun {β f R} z => w_bnd (w_getIv k e1 (w_bnd (w_ldLn hb hl w1 (by decide) (by rw [hh wd w1]; exact z))))
      have T := tst_x (M := M) (sg := M.i 1793 c) (num := M.i 1794 c) (v := h wd) (Q := Q) hq
      refine w_bnd (w_getI k (w_jn ?_))
      by_cases c1 : M.i 1793 c = 60
      · rw [if_neg (by simp only [c1, not_true_eq_false, not_false_eq_true])] at T
        refine w_f (fun z => z c1) (ld (w_bnd (w_getI k T)))
      · rw [if_pos c1] at T
        refine w_t c1 (w_bnd (w_getI k ?_))
        by_cases c2 : M.i 1793 c = 62
        · rw [if_neg (by simp only [c2, not_true_eq_false, not_false_eq_true])] at T
          exact w_f (fun z => z c2) (ld (w_bnd (w_getI k T)))
        · rw [if_pos c2] at T
          exact w_t c2 (ld (w_bnd (w_getI k T)))
    · refine w_dspN k (w_nt ?_)
      show wp (f_X13_holds n (g_cond n e) c b) M Q
      unfold f_X13_holds
      refine w_bnd (w_getR k (w_bnd (ih _ _ w1 e (by omega) _ (w_jn ?_))))
      cases eb : ψ h with
      | true =>
        simp only [eb] at hq
        exact w_t (by decide) (w_purZ (Or.inl rfl) hq)
      | false =>
        simp only [eb] at hq
        exact w_f (by decide) (w_purZ (Or.inr rfl) hq)
    · refine w_dspR k (w_nt ?_)
      show wp (f_X12_holds n (g_cond n e) c b) M Q
      unfold f_X12_holds
      have hks : ∀ e ∈ M.ls (M.r 1537 c), M.k e = 13 ∨ M.k e = 14 ∨ M.k e = 15 := fun e he => by
        obtain ⟨j, hj, rfl⟩ := List.getElem_of_mem he
        exact CX.kind (w4 j (by omega) hj)
      have hlen := hg.len w1
      rcases w5 with ⟨w5, rfl⟩ | ⟨w5, rfl⟩
      · refine w_jn (x_row_lp (a := true) (h := h) hg k rfl w1 w5 w3 hks (fun j p p2 R hR => ih _ _ (w4 j p p2) e (by omega) R hR) (fun z => ?_) n 0 (Nat.zero_le _) (by omega) hq)
        refine w_bnd (w_getIv k w5 (w_jn (w_t (by decide) (w_purZ (Or.inl rfl) z))))
      · refine w_jn (x_row_lp (a := false) (h := h) hg k rfl w1 w5 w3 hks (fun j p p2 R hR => ih _ _ (w4 j p p2) e (by omega) R hR) (fun z => ?_) n 0 (Nat.zero_le _) (by omega) hq)
        refine w_bnd (w_getIv k w5 (w_jn (w_f (by decide) (w_purZ (Or.inr rfl) z))))
theorem x_any_lp {n b l : Nat} {h : Nat → Int64} {φs : List Ask} (hg : GL M) (hb : M.k b = 51) (hl : M.len b = 8) (hh : ∀ j, j < 8 → M.al b j = h j) (hn : 9100 ≤ n) (hC : CL x M l φs) {Q : Int32 → Mem → Prop} :
    ∀ q j, j ≤ φs.length → φs.length < q + j → Q (bz ((φs.drop j).any (fun φ => φ h) = true)) M → wp (lp_X2_any_2 n l b q (Int32.ofNat j)) M Q := by
  obtain ⟨k1, k2, k3⟩ := hC
  have hlen := hg.len k1
  intro q
  induction q with
  | zero => intro j _ _; omega
  | succ q ih =>
    intro j hjl hjq hq
    rw [lp_X2_any_2]
    refine w_bnd (w_gd k1 (w_nt (w_size hg k1 ?_)))
    rw [k2]
    by_cases e : j = φs.length
    · rw [e, List.drop_length] at hq
      exact w_t ((i_le (by omega) (by omega)).mpr (by omega)) (w_purZ (Or.inl rfl) hq)
    · have hj2 : j < φs.length := by omega
      have hj3 : j < (M.ls l).length := by omega
      have hc := k3 j hj2 hj3
      rw [drop_s hj2] at hq
      refine w_f (fun z => by have := (i_le (by omega) (by omega)).mp z; omega) ?_
      refine w_bnd (w_gd k1 (w_nt (w_get hg k1 hj3 (w_bnd (w_cst (Or.inr ?_) (w_bnd (x_hold hg hb hl hh hn _ _ _ hc 40 (by omega) _ ?_)))))))
      · rcases CX.kind hc with z | z | z <;> (rw [z]; decide)
      rw [i_add1]
      cases eb : φs[j] h with
      | true =>
        simp only [List.any_cons, eb, Bool.true_or] at hq
        exact w_f (by decide) (w_purZ (Or.inr rfl) hq)
      | false =>
        simp only [List.any_cons, eb, Bool.false_or] at hq
        exact w_t (by rfl) (ih (j + 1) (by omega) (by omega) hq)
theorem x_any {n b l : Nat} {h : Nat → Int64} {φs : List Ask} (hg : GL M) (hb : M.k b = 51) (hl : M.len b = 8) (hh : ∀ j, j < 8 → M.al b j = h j) (hn : 9100 ≤ n) (hC : CL x M l φs) {Q : Int32 → Mem → Prop} (hq : Q (bz (φs.any (fun φ => φ h) = true)) M) : wp (f_X2_any n l b) M Q := by
  have h1 := hg.len hC.1
  have h2 := hC.2.1
  unfold f_X2_any
  exact x_any_lp hg hb hl hh hn hC n 0 (Nat.zero_le _) (by omega) hq
end
