set_option maxRecDepth 100000
theorem arr_cell {w : Wd} {M : Mem} {q c : Nat} (hq : q < 10) (h : M.k c = 50 + q ∨ M.k c = 60 + q) : cellOf w M c = .inl (w.dA q, M.len c, acont M c q) := by
  unfold cellOf
  have e : M.k c % 10 = q := by omega
  rw [if_neg (by omega), e]
theorem rep_arr {w : Wd} {M : Mem} {H : Heap} (h : Rep0 w M H) {q c : Nat} (hq : q < 10) (hok : M.k c = 50 + q ∨ M.k c = 60 + q) : ∃ a, c = a + 1 ∧ H[a]? = some (vp_cell (w.dA q) (M.len c, acont M c q)) := by
  have hk : M.k c ≠ 0 := by omega
  cases c with
  | zero => exact absurd h.2.1 hk
  | succ a =>
    have hc := h.1 a hk
    rw [arr_cell hq hok] at hc
    exact ⟨a, rfl, hc⟩
theorem rep_seta {w : Wd} {M M' : Mem} {H H' : Heap} (h : Rep0 w M H) {q a : Nat} (hq10 : q < 10) (hok : M.k (a + 1) = 50 + q) (hk : M'.k = M.k) (hn : M'.n = M.n) (hst : ∀ k, M'.r (9000 + k) 0 = M.r (9000 + k) 0)
    (ho : ∀ c, c ≠ a + 1 → cellOf w M' c = cellOf w M c) (hc : H'[a]? = some (vp_cell (w.dA q) (M'.len (a + 1), acont M' (a + 1) q))) (hz : H'.size = H.size) (hq : ∀ q, q ≠ a → H'[q]? = H[q]?) : Rep0 w M' H' := by
  obtain ⟨h1, h2, h3, h4, h5, h6, h7, h8, h9⟩ := h
  refine ⟨fun b hb => ?_, by rw [hk]; exact h2, fun b hb => h3 b (by rw [hk] at hb; exact hb), by rw [hz, hn]; exact h4, fun q hq' => ?_, by rw [hz]; exact h6, fun q hq' => h7 q (by rw [hn] at hq'; exact hq'), h8, fun k => (hst k).trans (h9 k)⟩
  · by_cases e : b = a
    · subst e
      rw [arr_cell hq10 (Or.inl (by rw [hk]; exact hok))]
      exact hc
    · rw [ho (b + 1) (by omega)]
      rw [hk] at hb
      exact (h1 b hb).kept (hq b e)
  · rw [← h5 q hq']
    refine hq q (fun e => ?_)
    subst e
    exact absurd hq' (Nat.not_lt.mpr (h8 q (h3 q ⟨by omega, by omega, by omega⟩)))
theorem rep_push {w : Wd} {M M' : Mem} {H H' : Heap} (h : Rep0 w M H) (hk : ∀ c, c ≠ M.n + 1 → M'.k c = M.k c) (hn : M'.n = M.n + 1) (hk1 : isDyn (M'.k (M.n + 1))) (hst : ∀ k, M'.r (9000 + k) 0 = M.r (9000 + k) 0)
    (ho : ∀ c, c ≠ M.n + 1 → M.k c ≠ 0 → cellOf w M' c = cellOf w M c) (hc : va_at w.G cl_ (M.n, cellOf w M' (M.n + 1)) H') (hz : H'.size = H.size + 1) (hq : ∀ q, q < H.size → H'[q]? = H[q]?) : Rep0 w M' H' := by
  have hf := rep_fresh h
  have hlt := @rep_lt _ _ _ h
  obtain ⟨h1, h2, h3, h4, h5, h6, h7, h8, h9⟩ := h
  refine ⟨fun b hb => ?_, by rw [hk 0 (by omega)]; exact h2, fun b hb => ?_, by rw [hz, hn, h4], fun q hq' => ?_, by omega, fun q hq' => h7 q (by omega), h8, fun k => (hst k).trans (h9 k)⟩
  · by_cases e : b = M.n
    · subst e
      exact hc
    · have hb' : M.k (b + 1) ≠ 0 := by rw [← hk (b + 1) (by omega)]; exact hb
      rw [ho (b + 1) (by omega) hb']
      exact (h1 b hb').kept (hq b (by rw [h4]; exact hlt hb'))
  · by_cases e : b = M.n
    · subst e
      exact h7 _ (Nat.le_refl _)
    · exact h3 b (by rw [← hk (b + 1) (by omega)]; exact hb)
  · rw [hq q (Nat.lt_of_lt_of_le hq' h6)]
    exact h5 q hq'
section BA
variable {p : Program} {l : Launch} {e : Env} {R : Room} {s : State} {m : MethodId} {args : Array Value} {below : List Frame} {meth : Method} {c : Code} {H : Heap} {locs : List Loc} {cells slots : Nat} {Q : State → Prop} {cc : ByteArray} {pc : Nat} {ls : Array Slot} {rest : List Value} {w : Wd} {M : Mem}
theorem one_P {w : Wd} {H : Heap} {a : Nat} {E : va_E} (h : va_at w.G cl_ (a, E) H) : va_P w.G cl_ [(a, E)] H := by
  intro k q hq
  have hz : k < 1 := (List.getElem?_eq_some_iff.mp hq).1
  rw [show k = 0 by omega] at hq
  cases hq
  exact h
theorem b_iald (hexec : p.tables.exec = Jvm.exec) (hb : c.code = cc) (hK : va_K w.G cl_ (tys_ w) s) (hR : Rep0 w M H) {x : Nat} {i : Int32} (hok : okar 0 x i M) (hdg : decode cc pc = .ok (.iaload, 1))
    (kk : W p l e R s m args below meth c H locs cells slots Q (F0 m (pc + 1) ls (.int (M.ai x i.toNatClampNeg) :: rest))) : W p l e R s m args below meth c H locs cells slots Q (F0 m pc ls (.int i :: rv x :: rest)) := by
  obtain ⟨a, rfl, hc⟩ := rep_arr hR (by omega) hok.1
  exact va_iald hexec hb hK (one_P (E := .inl (_, _, _)) hc) 0 0 rfl rfl hok.2 hdg kk
theorem b_bald (hexec : p.tables.exec = Jvm.exec) (hb : c.code = cc) (hK : va_K w.G cl_ (tys_ w) s) (hR : Rep0 w M H) {x : Nat} {i : Int32} (hok : okar 2 x i M) (hdg : decode cc pc = .ok (.baload, 1))
    (kk : W p l e R s m args below meth c H locs cells slots Q (F0 m (pc + 1) ls (.int (M.ai x i.toNatClampNeg) :: rest))) : W p l e R s m args below meth c H locs cells slots Q (F0 m pc ls (.int i :: rv x :: rest)) := by
  obtain ⟨a, rfl, hc⟩ := rep_arr hR (by omega) hok.1
  exact va_bald hexec hb hK (one_P (E := .inl (_, _, _)) hc) 0 2 rfl rfl hok.2 hdg kk
theorem b_zald (hexec : p.tables.exec = Jvm.exec) (hb : c.code = cc) (hK : va_K w.G cl_ (tys_ w) s) (hR : Rep0 w M H) {x : Nat} {i : Int32} (hok : okar 3 x i M) (hdg : decode cc pc = .ok (.baload, 1))
    (kk : W p l e R s m args below meth c H locs cells slots Q (F0 m (pc + 1) ls (.int (M.ai x i.toNatClampNeg) :: rest))) : W p l e R s m args below meth c H locs cells slots Q (F0 m pc ls (.int i :: rv x :: rest)) := by
  obtain ⟨a, rfl, hc⟩ := rep_arr hR (by omega) hok.1
  exact va_zald hexec hb hK (one_P (E := .inl (_, _, _)) hc) 0 3 rfl rfl hok.2 hdg kk
theorem b_lald (hexec : p.tables.exec = Jvm.exec) (hb : c.code = cc) (hK : va_K w.G cl_ (tys_ w) s) (hR : Rep0 w M H) {x : Nat} {i : Int32} (hok : okar 1 x i M) (hdg : decode cc pc = .ok (.laload, 1))
    (kk : W p l e R s m args below meth c H locs cells slots Q (F0 m (pc + 1) ls (.long (M.al x i.toNatClampNeg) :: rest))) : W p l e R s m args below meth c H locs cells slots Q (F0 m pc ls (.int i :: rv x :: rest)) := by
  obtain ⟨a, rfl, hc⟩ := rep_arr hR (by omega) hok.1
  exact va_lald hexec hb hK (one_P (E := .inl (_, _, _)) hc) 0 1 rfl rfl hok.2 hdg kk
theorem b_aald {q : Nat} {C : String} (hq : 4 ≤ q) (hq2 : q < 6) (hC : (tys_ w)[q]? = some (w.dA q, .object C)) (hexec : p.tables.exec = Jvm.exec) (hb : c.code = cc) (hK : va_K w.G cl_ (tys_ w) s) (hR : Rep0 w M H) {x : Nat} {i : Int32} (hok : okar q x i M) (hdg : decode cc pc = .ok (.aaload, 1))
    (kk : W p l e R s m args below meth c H locs cells slots Q (F0 m (pc + 1) ls (rv (M.ar x i.toNatClampNeg) :: rest))) : W p l e R s m args below meth c H locs cells slots Q (F0 m pc ls (.int i :: rv x :: rest)) := by
  obtain ⟨a, rfl, hc⟩ := rep_arr hR (by omega) hok.1
  have e : acont M (a + 1) q = .inr (.inr (.inr (.inr (fun j => dc (M.ar (a + 1) j))))) := by unfold acont; rw [if_neg (by omega), if_pos hq]
  rw [e] at hc
  exact va_aldq hexec hb hK (one_P (E := .inl (_, _, _)) hc) 0 q rfl hC hok.2 hdg kk
theorem b_alen (hexec : p.tables.exec = Jvm.exec) (hb : c.code = cc) (hK : va_K w.G cl_ (tys_ w) s) (hR : Rep0 w M H) {x q : Nat} (hq : q < 6) (hok : M.k x = 50 + q ∨ M.k x = 60 + q) (hdg : decode cc pc = .ok (.arraylength, 1))
    (kk : W p l e R s m args below meth c H locs cells slots Q (F0 m (pc + 1) ls (.int (Int32.ofNat (M.len x)) :: rest))) : W p l e R s m args below meth c H locs cells slots Q (F0 m pc ls (rv x :: rest)) := by
  obtain ⟨a, rfl, hc⟩ := rep_arr hR (by omega) hok
  obtain ⟨ty, ht⟩ : ∃ ty, (tys_ w)[q]? = some (w.dA q, ty) := by
    match q, hq with
    | 0, _ => exact ⟨_, rfl⟩ | 1, _ => exact ⟨_, rfl⟩ | 2, _ => exact ⟨_, rfl⟩ | 3, _ => exact ⟨_, rfl⟩ | 4, _ => exact ⟨_, rfl⟩ | 5, _ => exact ⟨_, rfl⟩
    | k + 6, h => omega
  exact va_alen hexec hb hK (one_P (E := .inl (_, _, _)) hc) 0 q rfl ht rfl hdg kk
theorem b_iast (hexec : p.tables.exec = Jvm.exec) (hb : c.code = cc) (hK : va_K w.G cl_ (tys_ w) s) (hR : Rep0 w M H) (hS : va_S w.A s.heap H locs) {x : Nat} {i v : Int32} (hok : okaw 0 x i M) (hdg : decode cc pc = .ok (.iastore, 1))
    (kk : ∀ (H1 : Heap) (locs1 : List Loc), (∀ a, x = a + 1 → H1[a]? = some (vp_cell (w.dA 0) (M.len x, .inl (upd (M.ai x) i.toNatClampNeg v))) ∧ H1.size = H.size ∧ ∀ q, q ≠ a → H1[q]? = H[q]?) → va_S w.A s.heap H1 locs1 → W p l e R s m args below meth c H1 locs1 cells slots Q (F0 m (pc + 1) ls rest)) : W p l e R s m args below meth c H locs cells slots Q (F0 m pc ls (.int v :: .int i :: rv x :: rest)) := by
  obtain ⟨a, rfl, hc⟩ := rep_arr hR (by omega) (Or.inl hok.1)
  have hA : w.A a := hR.2.2.1 a ⟨by rw [hok.1]; omega, by rw [hok.1]; omega, by rw [hok.1]; omega⟩
  refine W.iast hexec hb hc ((hK.2 0 _ rfl).1 (M.len (a + 1)) (fun j => .int (M.ai (a + 1) j))) (fun q => by cases q) (by show ¬ (i < 0 ∨ (arrV _ _ _).slots.size ≤ _); rw [arrV_size]; exact hok.2) rfl rfl hdg fun H1 e z oq => ?_
  refine kk H1 _ (fun a' ha' => ?_) (hS.put z oq hA)
  cases ha'
  refine ⟨?_, z, oq⟩
  rw [e]
  show some (Cell.setSlot (vp_cell _ (_, .inl (M.ai (a + 1)))) _ _) = _
  rw [vp_cell_i, vp_cell_i, arrV_store]
  congr 2
  funext q
  by_cases hq : q = i.toNatClampNeg
  · subst hq
    simp [updV, upd]
  · simp [updV, upd, hq]
theorem b_bast (hexec : p.tables.exec = Jvm.exec) (hb : c.code = cc) (hK : va_K w.G cl_ (tys_ w) s) (hR : Rep0 w M H) (hS : va_S w.A s.heap H locs) {x : Nat} {i v : Int32} (hok : okaw 2 x i M) (hdg : decode cc pc = .ok (.bastore, 1))
    (kk : ∀ (H1 : Heap) (locs1 : List Loc), (∀ a, x = a + 1 → H1[a]? = some (vp_cell (w.dA 2) (M.len x, .inl (upd (M.ai x) i.toNatClampNeg (vp_nar .byte v)))) ∧ H1.size = H.size ∧ ∀ q, q ≠ a → H1[q]? = H[q]?) → va_S w.A s.heap H1 locs1 → W p l e R s m args below meth c H1 locs1 cells slots Q (F0 m (pc + 1) ls rest)) : W p l e R s m args below meth c H locs cells slots Q (F0 m pc ls (.int v :: .int i :: rv x :: rest)) := by
  obtain ⟨a, rfl, hc⟩ := rep_arr hR (by omega) (Or.inl hok.1)
  have hA : w.A a := hR.2.2.1 a ⟨by rw [hok.1]; omega, by rw [hok.1]; omega, by rw [hok.1]; omega⟩
  refine W.bast hexec hb hc ((hK.2 2 _ rfl).1 (M.len (a + 1)) (fun j => .int (M.ai (a + 1) j))) (fun q => by cases q) (by show ¬ (i < 0 ∨ (arrV _ _ _).slots.size ≤ _); rw [arrV_size]; exact hok.2) rfl rfl hdg fun H1 e z oq => ?_
  refine kk H1 _ (fun a' ha' => ?_) (hS.put z oq hA)
  cases ha'
  refine ⟨?_, z, oq⟩
  rw [e]
  show some (Cell.setSlot (vp_cell _ (_, .inl (M.ai (a + 1)))) _ _) = _
  rw [vp_cell_i, vp_cell_i, arrV_store]
  congr 2
  funext q
  by_cases hq : q = i.toNatClampNeg
  · subst hq
    simp [updV, upd, vp_nar]
    try rfl
  · simp [updV, upd, hq]
theorem b_zast (hexec : p.tables.exec = Jvm.exec) (hb : c.code = cc) (hK : va_K w.G cl_ (tys_ w) s) (hR : Rep0 w M H) (hS : va_S w.A s.heap H locs) {x : Nat} {i v : Int32} (hok : okaw 3 x i M) (hdg : decode cc pc = .ok (.bastore, 1))
    (kk : ∀ (H1 : Heap) (locs1 : List Loc), (∀ a, x = a + 1 → H1[a]? = some (vp_cell (w.dA 3) (M.len x, .inl (upd (M.ai x) i.toNatClampNeg (vp_nar .boolean v)))) ∧ H1.size = H.size ∧ ∀ q, q ≠ a → H1[q]? = H[q]?) → va_S w.A s.heap H1 locs1 → W p l e R s m args below meth c H1 locs1 cells slots Q (F0 m (pc + 1) ls rest)) : W p l e R s m args below meth c H locs cells slots Q (F0 m pc ls (.int v :: .int i :: rv x :: rest)) := by
  obtain ⟨a, rfl, hc⟩ := rep_arr hR (by omega) (Or.inl hok.1)
  have hA : w.A a := hR.2.2.1 a ⟨by rw [hok.1]; omega, by rw [hok.1]; omega, by rw [hok.1]; omega⟩
  refine W.zast hexec hb hc ((hK.2 3 _ rfl).1 (M.len (a + 1)) (fun j => .int (M.ai (a + 1) j))) (fun q => by cases q) (by show ¬ (i < 0 ∨ (arrV _ _ _).slots.size ≤ _); rw [arrV_size]; exact hok.2) rfl rfl hdg fun H1 e z oq => ?_
  refine kk H1 _ (fun a' ha' => ?_) (hS.put z oq hA)
  cases ha'
  refine ⟨?_, z, oq⟩
  rw [e]
  show some (Cell.setSlot (vp_cell _ (_, .inl (M.ai (a + 1)))) _ _) = _
  rw [vp_cell_i, vp_cell_i, arrV_store]
  congr 2
  funext q
  by_cases hq : q = i.toNatClampNeg
  · subst hq
    simp [updV, upd, vp_nar]
    try rfl
  · simp [updV, upd, hq]
theorem b_last (hexec : p.tables.exec = Jvm.exec) (hb : c.code = cc) (hK : va_K w.G cl_ (tys_ w) s) (hR : Rep0 w M H) (hS : va_S w.A s.heap H locs) {x : Nat} {i : Int32} {v : Int64} (hok : okaw 1 x i M) (hdg : decode cc pc = .ok (.lastore, 1))
    (kk : ∀ (H1 : Heap) (locs1 : List Loc), (∀ a, x = a + 1 → H1[a]? = some (vp_cell (w.dA 1) (M.len x, .inr (.inl (vp_updL (M.al x) i.toNatClampNeg v)))) ∧ H1.size = H.size ∧ ∀ q, q ≠ a → H1[q]? = H[q]?) → va_S w.A s.heap H1 locs1 → W p l e R s m args below meth c H1 locs1 cells slots Q (F0 m (pc + 1) ls rest)) : W p l e R s m args below meth c H locs cells slots Q (F0 m pc ls (.long v :: .int i :: rv x :: rest)) := by
  obtain ⟨a, rfl, hc⟩ := rep_arr hR (by omega) (Or.inl hok.1)
  have hA : w.A a := hR.2.2.1 a ⟨by rw [hok.1]; omega, by rw [hok.1]; omega, by rw [hok.1]; omega⟩
  refine W.last hexec hb hc ((hK.2 1 _ rfl).1 (M.len (a + 1)) (fun j => .long (M.al (a + 1) j))) (fun q => by cases q) (by show ¬ (i < 0 ∨ (arrV _ _ _).slots.size ≤ _); rw [arrV_size]; exact hok.2) rfl rfl hdg fun H1 e z oq => ?_
  refine kk H1 _ (fun a' ha' => ?_) (hS.put z oq hA)
  cases ha'
  refine ⟨?_, z, oq⟩
  rw [e]
  show some (Cell.setSlot (vp_cell _ (_, .inr (.inl (M.al (a + 1))))) _ _) = _
  rw [vp_cell_l, vp_cell_l, arrV_store]
  congr 2
  funext q
  by_cases hq : q = i.toNatClampNeg
  · subst hq
    simp [updV, vp_updL]
  · simp [updV, vp_updL, hq]
end BA
