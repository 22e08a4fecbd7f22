set_option maxRecDepth 100000
/-! ===== the tape ===== -/
def bt (v : Int32) (s : Int32) : Int32 := (v >>> (s &&& 31)).toInt8.toInt32
def by4 (v : Int32) : List Int32 := [bt v 24, bt v 16, bt v 8, bt v 0]
def TapeX (x : Nat) (M : Mem) (l : List Int32) : Prop := M.i 7 x = Int32.ofNat l.length ∧ ∀ j (h : j < l.length), M.ai (x + 12) j = l[j]
def TapeM (S : MS) (l : List Int32) : Prop := S.i 51 = Int32.ofNat l.length ∧ ∀ j (h : j < l.length), S.a 53 j = l[j]
def TpO (x : Nat) (M M' : Mem) : Prop := Ag (fun t => t = 7) no no (fun c => c = x + 12) M M' ∧ M'.k = M.k ∧ M'.n = M.n ∧ M'.sl = M.sl ∧ M'.ls = M.ls ∧ M'.cap = M.cap
section
variable {x : Nat} {M M1 M2 : Mem} {n0 k p L : Nat} {xs : Nat → Int32}
theorem TpO.rf : TpO x M M := ⟨Ag.rf, rfl, rfl, rfl, rfl, rfl⟩
theorem TpO.tr (h : TpO x M M1) (h2 : TpO x M1 M2) : TpO x M M2 := by
  obtain ⟨a0, a1, a2, a3, a4, a5⟩ := h
  obtain ⟨b0, b1, b2, b3, b4, b5⟩ := h2
  exact ⟨a0.tr b0, b1.trans a1, b2.trans a2, b3.trans a3, b4.trans a4, b5.trans a5⟩
theorem TpO.lay (h : TpO x M M1) (hL : Lay x M) : Lay x M1 := h.1.lay hL (fun t z => by omega)
theorem narq2 (v : Int32) : narq 2 v = v.toInt8.toInt32 := rfl
theorem bt_n (v s : Int32) : narq 2 (bt v s) = bt v s := by
  rw [narq2]; unfold bt; rw [Int8.toInt8_toInt32]
theorem bt_b (v s : Int32) : -128 ≤ (bt v s).toInt ∧ (bt v s).toInt ≤ 127 := by
  unfold bt
  rw [Int8.toInt_toInt32]
  have h1 := (v >>> (s &&& 31)).toInt8.toInt_lt
  have h2 := (v >>> (s &&& 31)).toInt8.le_toInt
  omega
theorem x_tape1 {l : List Int32} {v s : Int32} {β : Type} {f : Act β} {Q : β → Mem → Prop} (hL : Lay x M) (ht : TapeX x M l) (hl : l.length < 600) (hq : ∀ M', TpO x M M' → TapeX x M' (l ++ [bt v s]) → wp f M' Q) : wp (bnd (getR 0 6 x) fun v6 => bnd (getI 0 7 x) fun v7 => bnd (putI 0 7 x (v7 + 1)) fun _ => bnd (stI 2 v6 v7 ((v >>> (s &&& 31)).toInt8.toInt32)) fun _ => f) M Q := by
  have e7 : M.i (128 * 0 + 7) x = Int32.ofNat l.length := ht.1
  refine w_bnd (w_getR0 hL rfl rfl rfl (w_bnd (w_getIv hL.k0 e7 (w_bnd (w_putI hL.k0 ?_)))))
  obtain ⟨h1, h2⟩ := in_rng (M := M.seti (128 * 0 + 7) x (Int32.ofNat l.length + 1)) (c := x + 12) (i := l.length) hL.l12 hl (by decide)
  refine w_bnd (w_stI (q := 2) (M := M.seti (128 * 0 + 7) x (Int32.ofNat l.length + 1)) hL.k12 h1 ?_)
  rw [h2, show (v >>> (s &&& 31)).toInt8.toInt32 = bt v s from rfl, bt_n]
  refine hq _ ⟨((Ag.rf (ti := fun t => t = 7) (ar := fun c => c = x + 12)).i (Or.inl rfl)).ai (Or.inl rfl), rfl, rfl, rfl, rfl, rfl⟩ ⟨?_, fun j hj => ?_⟩
  · rw [List.length_append]
    show up2 M.i (128 * 0 + 7) x (Int32.ofNat l.length + 1) 7 x = _
    rw [show (7 : Nat) = 128 * 0 + 7 from rfl, up2_eq, i_add1]
    rfl
  · rw [setai_at]
    rw [List.length_append] at hj
    have hj : j < l.length + 1 := hj
    by_cases e : j = l.length
    · subst e
      rw [if_pos ⟨rfl, rfl⟩, List.getElem_append_right (Nat.le_refl _)]
      simp
    · have hj2 : j < l.length := by omega
      rw [if_neg (fun z => e z.2), List.getElem_append_left hj2]
      exact ht.2 j hj2
theorem m_tape1 {S : MS} {l : List Int32} {v s : Int32} {β : Type} {f : Act β} {Q : β → MS → Prop} (ht : TapeM S l) (hl : l.length < 600) (hq : ∀ S', Sam (fun j => j = 51) (fun o => o = 53) no S S' → TapeM S' (l ++ [bt v s]) → wm x f S' Q) : wm x (bnd (getR 4 68 (x + 28)) fun v2 => bnd (getI 4 51 (x + 28)) fun v3 => bnd (stI 2 v2 v3 ((v >>> (s &&& 31)).toInt8.toInt32)) fun _ => bnd (getI 4 51 (x + 28)) fun v4 => bnd (putI 4 51 (x + 28) (v4 + 1)) fun _ => f) S Q := by
  refine m_bnd (m_getRt rfl (m_bnd (m_getI (by decide) ?_)))
  rw [ht.1]
  refine m_bnd (m_stQ (f := 68) (o := 53) (q := 2) (len := 600) (by decide) hl ?_)
  rw [show (v >>> (s &&& 31)).toInt8.toInt32 = bt v s from rfl, bt_n]
  refine m_bnd (m_getI (by decide) (m_bnd (m_putI (by decide) ?_)))
  rw [sa_i, ht.1, i_add1]
  refine hq _ (((Sam.rf (I := fun j => j = 51) (A := fun o => o = 53)).sa rfl).si rfl) ⟨?_, fun j hj => ?_⟩
  · rw [List.length_append, si_eq]; rfl
  · rw [si_a, sa_at]
    rw [List.length_append] at hj
    have hj : j < l.length + 1 := hj
    by_cases e : j = l.length
    · subst e
      rw [if_pos ⟨rfl, rfl⟩, List.getElem_append_right (Nat.le_refl _)]
      simp
    · have hj2 : j < l.length := by omega
      rw [if_neg (fun z => e z.2), List.getElem_append_left hj2]
      exact ht.2 j hj2
theorem x_tape4 {n c : Nat} {l : List Int32} {v v1 w2 : Int32} {j57 : Unit → Act Int32} {Q : Int32 → Mem → Prop} (hL : Lay x M) (ht : TapeX x M l) (hl : l.length + 4 ≤ 600) (hn : 100 ≤ n) (hq : ∀ M', TpO x M M' → TapeX x M' (l ++ by4 v) → wp (j57 ()) M' Q) : wp (lp_X0_tapes_24 x c v1 w2 v j57 n 24) M Q := by
  obtain ⟨n, rfl⟩ : ∃ e, n = e + 5 := ⟨n - 5, by omega⟩
  rw [lp_X0_tapes_24]
  refine w_f (by decide) (x_tape1 hL ht (by omega) (fun M1 o1 t1 => ?_))
  have hL1 := o1.lay hL
  rw [show (24 : Int32) + -8 = 16 from rfl, lp_X0_tapes_24]
  refine w_f (by decide) (x_tape1 hL1 t1 (by rw [List.length_append, List.length_singleton]; omega) (fun M2 o2 t2 => ?_))
  have hL2 := o2.lay hL1
  rw [show (16 : Int32) + -8 = 8 from rfl, lp_X0_tapes_24]
  refine w_f (by decide) (x_tape1 hL2 t2 (by rw [List.length_append, List.length_append, List.length_singleton, List.length_singleton]; omega) (fun M3 o3 t3 => ?_))
  have hL3 := o3.lay hL2
  rw [show (8 : Int32) + -8 = 0 from rfl, lp_X0_tapes_24]
  refine w_f (by decide) (x_tape1 hL3 t3 (by rw [List.length_append, List.length_append, List.length_append, List.length_singleton, List.length_singleton, List.length_singleton]; omega) (fun M4 o4 t4 => ?_))
  rw [show (0 : Int32) + -8 = -8 from rfl, lp_X0_tapes_24]
  refine w_t (by decide) (hq M4 (((o1.tr o2).tr o3).tr o4) ?_)
  rw [List.append_assoc, List.append_assoc, List.append_assoc] at t4
  exact t4
theorem m_tape4 {n : Nat} {S : MS} {l : List Int32} {v : Int32} {Q : Unit → MS → Prop} (ht : TapeM S l) (hl : l.length + 4 ≤ 600) (hn : 100 ≤ n) (hq : ∀ S', Sam (fun j => j = 51) (fun o => o = 53) no S S' → TapeM S' (l ++ by4 v) → Q () S') : wm x (f_X4_four n (x + 28) v) S Q := by
  unfold f_X4_four
  obtain ⟨n, rfl⟩ : ∃ e, n = e + 5 := ⟨n - 5, by omega⟩
  rw [lp_X4_four_3]
  refine m_f (by decide) (m_tape1 ht (by omega) (fun S1 o1 t1 => ?_))
  rw [show (24 : Int32) + -8 = 16 from rfl, lp_X4_four_3]
  refine m_f (by decide) (m_tape1 t1 (by rw [List.length_append, List.length_singleton]; omega) (fun S2 o2 t2 => ?_))
  rw [show (16 : Int32) + -8 = 8 from rfl, lp_X4_four_3]
  refine m_f (by decide) (m_tape1 t2 (by rw [List.length_append, List.length_append, List.length_singleton, List.length_singleton]; omega) (fun S3 o3 t3 => ?_))
  rw [show (8 : Int32) + -8 = 0 from rfl, lp_X4_four_3]
  refine m_f (by decide) (m_tape1 t3 (by rw [List.length_append, List.length_append, List.length_append, List.length_singleton, List.length_singleton, List.length_singleton]; omega) (fun S4 o4 t4 => ?_))
  rw [show (0 : Int32) + -8 = -8 from rfl, lp_X4_four_3]
  refine m_t (by decide) (m_pur (hq S4 (((o1.tr o2).tr o3).tr o4) ?_))
  rw [List.append_assoc, List.append_assoc, List.append_assoc] at t4
  exact t4
def fdL (l : List Int32) (a b c e f : Int32) : List Int32 := l ++ by4 a ++ by4 b ++ by4 c ++ by4 e ++ by4 f
theorem fdL_len (l : List Int32) (a b c e f : Int32) : (fdL l a b c e f).length = l.length + 20 := by
  unfold fdL by4
  simp
theorem fdL_b {l : List Int32} (h : ∀ b ∈ l, -128 ≤ b.toInt ∧ b.toInt ≤ 127) (a b c e f : Int32) : ∀ q ∈ fdL l a b c e f, -128 ≤ q.toInt ∧ q.toInt ≤ 127 := by
  have h4 : ∀ v, ∀ q ∈ by4 v, -128 ≤ q.toInt ∧ q.toInt ≤ 127 := fun v q hq => by
    unfold by4 at hq
    simp only [List.mem_cons, List.not_mem_nil, or_false] at hq
    rcases hq with rfl | rfl | rfl | rfl <;> exact bt_b _ _
  intro q hq
  unfold fdL at hq
  simp only [List.mem_append] at hq
  rcases hq with (((((hq | hq) | hq) | hq) | hq) | hq)
  · exact h q hq
  all_goals exact h4 _ q hq
end
