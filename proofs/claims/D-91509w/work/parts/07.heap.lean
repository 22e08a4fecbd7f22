set_option maxRecDepth 100000
/-! ===== what a picture of the memory must keep: classes and arrays that are seen as they are ===== -/
def CpG (Rp : Mem → Mem → Prop) (ci : Nat) : Prop := ∀ M Z c, Rp M Z → okr ci c M → okr ci c Z ∧ ∀ j, j < 128 → Z.i (128 * ci + j) c = M.i (128 * ci + j) c ∧ Z.l (128 * ci + j) c = M.l (128 * ci + j) c ∧ Z.r (128 * ci + j) c = M.r (128 * ci + j) c
/-- cells of this kind are seen as such -/
def CpK (Rp : Mem → Mem → Prop) (kd : Nat) : Prop := ∀ M Z c, Rp M Z → M.k c = kd → Z.k c = kd
def CpP (Rp : Mem → Mem → Prop) (ci : Nat) : Prop := ∀ M Z c, Rp M Z → okw ci c M → okw ci c Z ∧ ∀ j, j < 128 → (∀ v, Rp (M.seti (128 * ci + j) c v) (Z.seti (128 * ci + j) c v)) ∧ (∀ v, Rp (M.setl (128 * ci + j) c v) (Z.setl (128 * ci + j) c v)) ∧ ∀ v, Rp (M.setr (128 * ci + j) c v) (Z.setr (128 * ci + j) c v)
def CpN (Rp : Mem → Mem → Prop) (ci : Nat) : Prop := ∀ M Z w H, Rp M Z → Rep0 w Z H → Rp (M.newo ci (NN ci)) (Z.newo ci (NN ci))
def CpA (Rp : Mem → Mem → Prop) (q : Nat) : Prop := ∀ M Z c, Rp M Z → (M.k c = 50 + q ∨ M.k c = 60 + q) → Z.k c = M.k c ∧ Z.len c = M.len c ∧ Z.ai c = M.ai c ∧ Z.al c = M.al c ∧ Z.ar c = M.ar c
def CpB (Rp : Mem → Mem → Prop) (q : Nat) : Prop := ∀ M Z c, Rp M Z → M.k c = 50 + q → (∀ j v, Rp (M.setai c j v) (Z.setai c j v)) ∧ (∀ j v, Rp (M.setal c j v) (Z.setal c j v)) ∧ ∀ j v, Rp (M.setar c j v) (Z.setar c j v)
def CpM (Rp : Mem → Mem → Prop) (q : Nat) : Prop := ∀ M Z w H N, Rp M Z → Rep0 w Z H → Rp (M.newa q N) (Z.newa q N)
theorem bnd_run {α β : Type} (x : Act α) (k : α → Act β) (M : Mem) : (bnd x k).run M = thn (x.run M) k := rfl
theorem rdm_run {α : Type} (ok : Mem → Prop) (hd : ∀ M, Decidable (ok M)) (f : Mem → α) (M : Mem) : (rdm ok hd f).run M = @ite _ (ok M) (hd M) (some (.inl (f M), M)) none := rfl
theorem wrm_run {α : Type} (ok : Mem → Prop) (hd : ∀ M, Decidable (ok M)) (a : Mem → α) (f : Mem → Mem) (hm) (M : Mem) : (wrm ok hd a f hm).run M = @ite _ (ok M) (hd M) (some (.inl (a M), f M)) none := rfl
theorem bnd_rdm {α β : Type} {ok : Mem → Prop} {hd : ∀ M, Decidable (ok M)} {f : Mem → α} {k : α → Act β} {M M' : Mem} {r : β ⊕ Nat} (h : (bnd (rdm ok hd f) k).run M = some (r, M')) : ok M ∧ (k (f M)).run M = some (r, M') := by
  rw [bnd_run, rdm_run] at h
  by_cases q : ok M
  · rw [if_pos q] at h; exact ⟨q, h⟩
  · rw [if_neg q] at h; cases h
theorem bnd_wrm {α β : Type} {ok : Mem → Prop} {hd : ∀ M, Decidable (ok M)} {a : Mem → α} {f : Mem → Mem} {hm} {k : α → Act β} {M M' : Mem} {r : β ⊕ Nat} (h : (bnd (wrm ok hd a f hm) k).run M = some (r, M')) : ok M ∧ (k (a M)).run (f M) = some (r, M') := by
  rw [bnd_run, wrm_run] at h
  by_cases q : ok M
  · rw [if_pos q] at h; exact ⟨q, h⟩
  · rw [if_neg q] at h; cases h
theorem up2_ny {β : Type} (f : Nat → Nat → β) (a b : Nat) (v : β) {x y : Nat} (h : y ≠ b) : up2 f a b v x y = f x y := if_neg (fun q => h q.2)
theorem up2_nx {β : Type} (f : Nat → Nat → β) (a b : Nat) (v : β) {x y : Nat} (h : x ≠ a) : up2 f a b v x y = f x y := if_neg (fun q => h q.1)
theorem up2_eq {β : Type} (f : Nat → Nat → β) (a b : Nat) (v : β) : up2 f a b v a b = v := if_pos ⟨rfl, rfl⟩
theorem up1_ne {β : Type} (f : Nat → β) (a : Nat) (v : β) {x : Nat} (h : x ≠ a) : up1 f a v x = f x := if_neg h
theorem up1_eq {β : Type} (f : Nat → β) (a : Nat) (v : β) : up1 f a v a = v := if_pos rfl
theorem fval_congr {M M' : Mem} {ci c k : Nat} (h1 : M'.i (128 * ci + k) c = M.i (128 * ci + k) c) (h2 : M'.l (128 * ci + k) c = M.l (128 * ci + k) c) (h3 : M'.r (128 * ci + k) c = M.r (128 * ci + k) c) : fval M' ci c k = fval M ci c k := by
  unfold fval
  rw [h1, h2, h3]
theorem cell_congr (w : Wd) {M M' : Mem} {c : Nat} (hk : M'.k c = M.k c) (hlen : M'.len c = M.len c) (hv : ∀ ci k, fval M' ci c k = fval M ci c k) (ha : ∀ q, acont M' c q = acont M c q) : cellOf w M' c = cellOf w M c := by
  have e : ∀ ci, fvals M' ci c = fvals M ci c := fun ci => by
    unfold fvals; congr 1; funext j; exact hv ci j
  unfold cellOf
  rw [hk, hlen, e, ha]
theorem seti_cell (w : Wd) (M : Mem) (t c : Nat) (v : Int32) {c' : Nat} (h : c' ≠ c) : cellOf w (M.seti t c v) c' = cellOf w M c' := cell_congr w rfl rfl (fun _ _ => fval_congr (up2_ny _ _ _ _ h) rfl rfl) (fun _ => rfl)
theorem setl_cell (w : Wd) (M : Mem) (t c : Nat) (v : Int64) {c' : Nat} (h : c' ≠ c) : cellOf w (M.setl t c v) c' = cellOf w M c' := cell_congr w rfl rfl (fun _ _ => fval_congr rfl (up2_ny _ _ _ _ h) rfl) (fun _ => rfl)
theorem setr_cell (w : Wd) (M : Mem) (t c : Nat) (v : Nat) {c' : Nat} (h : c' ≠ c) : cellOf w (M.setr t c v) c' = cellOf w M c' := cell_congr w rfl rfl (fun _ _ => fval_congr rfl rfl (up2_ny _ _ _ _ h)) (fun _ => rfl)
theorem seti_fval (M : Mem) (ci c j : Nat) (v : Int32) (hf : FT ci j = 0) (k : Nat) : fval (M.seti (128 * ci + j) c v) ci c k = if k = j then .int v else fval M ci c k := by
  by_cases e : k = j
  · subst e
    rw [if_pos rfl]
    unfold fval
    rw [if_pos hf]
    exact congrArg Value.int (up2_eq _ _ _ _)
  · rw [if_neg e]
    exact fval_congr (up2_nx _ _ _ _ (by omega)) rfl rfl
theorem setl_fval (M : Mem) (ci c j : Nat) (v : Int64) (hf : FT ci j = 1) (k : Nat) : fval (M.setl (128 * ci + j) c v) ci c k = if k = j then .long v else fval M ci c k := by
  by_cases e : k = j
  · subst e
    rw [if_pos rfl]
    unfold fval
    rw [if_neg (by omega), if_pos hf]
    exact congrArg Value.long (up2_eq _ _ _ _)
  · rw [if_neg e]
    exact fval_congr rfl (up2_nx _ _ _ _ (by omega)) rfl
theorem setr_fval (M : Mem) (ci c j : Nat) (v : Nat) (hf : FT ci j = 2) (k : Nat) : fval (M.setr (128 * ci + j) c v) ci c k = if k = j then rv v else fval M ci c k := by
  by_cases e : k = j
  · subst e
    rw [if_pos rfl]
    unfold fval
    rw [if_neg (by omega), if_neg (by omega)]
    exact congrArg rv (up2_eq _ _ _ _)
  · rw [if_neg e]
    exact fval_congr rfl rfl (up2_nx _ _ _ _ (by omega))
theorem nxt {X : Cx} {M : Mem} {x : Nat} (h : X.n0 ≤ M.n) (hx : M.n ≤ x) : X.n0 ≤ x := Nat.le_trans h hx
section HR
variable {α : Type} {X : Cx} {Rp : Mem → Mem → Prop} {cc : ByteArray} {own : String} {nL : Nat} {rt : Option FieldType} {fr lo : Nat} {cv : α → Option Value} {pc : Nat} {L : List (Nat × Value)} {st : List Value}
/-- a link of the tables to a field: from the class itself, or from a nest mate -/
def Lk (own : String) (index : Nat) (ref name desc : String) : Prop := Cond.fieldLink own index ref name desc ∈ lw_all ∨ ∃ host, Cond.fieldLinkNest own index ref name desc host ∈ lw_tbl
theorem Ok.link (hX : Ok X Rp cc own nL rt fr lo) {index : Nat} {ref name desc : String} (h : Lk own index ref name desc) : (Cond.fieldLink own index ref name desc).before X.args X.s = true ∨ ∃ host, (Cond.fieldLinkNest own index ref name desc host).before X.args X.s = true := by
  rcases h with h | ⟨host, h⟩
  · exact Or.inl (hX.hts _ h)
  · exact Or.inr ⟨host, va_Nw.use rfl (va_Nw.warmF hX.warm (va_Nw.of rfl (hX.base.1 _ h)))⟩

theorem s_getI (hX : Ok X Rp cc own nL rt fr lo) {ci j x index : Nat} {ref : String} (hC : CpG Rp ci) (hin : ∀ w ∈ u_ws (RR ci) (TT ci) (NN ci), w ∈ lw_all) (hl : Lk own index ref (TT ci j).2.1 (TT ci j).2.2.1) (hci : ci < 20) (hj : j < NN ci) (hj2 : j < 128) (hf : FT ci j = 0) (hd : decode cc pc = .ok (.getfield index, 3)) (hsame : ∀ y, X.s.fieldFound? (TT ci j).1 (TT ci j).2.1 (TT ci j).2.2.1 = some y → X.s.fieldFound? ref (TT ci j).2.1 (TT ci j).2.2.1 = some y) {k : Int32 → Act α} (h : ∀ v, Sim X cv (pc + 3) L (.int v :: st) (k v)) : Sim X cv pc L (rv x :: st) (bnd (getI ci j x) k) := by
  intro M Z H locs ls rr h1 h2 h3 h4 h5 h6 h7 h8 h9 h10
  obtain ⟨q1, q2⟩ := bnd_rdm h1
  obtain ⟨g1, g2⟩ := hC M Z x (hX.hRp ▸ h3) q1
  refine b_get hX.hx hX.hb hX.hts hX.hK hX.hown h4 hci hj g1 hin (hX.link hl) hsame hd ?_
  have e : fval Z ci x j = .int (Z.i (128 * ci + j) x) := by unfold fval; rw [if_pos hf]
  rw [e, (g2 j hj2).1]
  exact h _ M Z H locs ls rr q2 h2 h3 h4 h5 h6 h7 h8 h9 h10
theorem s_getL (hX : Ok X Rp cc own nL rt fr lo) {ci j x index : Nat} {ref : String} (hC : CpG Rp ci) (hin : ∀ w ∈ u_ws (RR ci) (TT ci) (NN ci), w ∈ lw_all) (hl : Lk own index ref (TT ci j).2.1 (TT ci j).2.2.1) (hci : ci < 20) (hj : j < NN ci) (hj2 : j < 128) (hf : FT ci j = 1) (hd : decode cc pc = .ok (.getfield index, 3)) (hsame : ∀ y, X.s.fieldFound? (TT ci j).1 (TT ci j).2.1 (TT ci j).2.2.1 = some y → X.s.fieldFound? ref (TT ci j).2.1 (TT ci j).2.2.1 = some y) {k : Int64 → Act α} (h : ∀ v, Sim X cv (pc + 3) L (.long v :: st) (k v)) : Sim X cv pc L (rv x :: st) (bnd (getL ci j x) k) := by
  intro M Z H locs ls rr h1 h2 h3 h4 h5 h6 h7 h8 h9 h10
  obtain ⟨q1, q2⟩ := bnd_rdm h1
  obtain ⟨g1, g2⟩ := hC M Z x (hX.hRp ▸ h3) q1
  refine b_get hX.hx hX.hb hX.hts hX.hK hX.hown h4 hci hj g1 hin (hX.link hl) hsame hd ?_
  have e : fval Z ci x j = .long (Z.l (128 * ci + j) x) := by unfold fval; rw [if_neg (by omega), if_pos hf]
  rw [e, (g2 j hj2).2.1]
  exact h _ M Z H locs ls rr q2 h2 h3 h4 h5 h6 h7 h8 h9 h10
theorem s_getR (hX : Ok X Rp cc own nL rt fr lo) {ci j x index : Nat} {ref : String} (hC : CpG Rp ci) (hin : ∀ w ∈ u_ws (RR ci) (TT ci) (NN ci), w ∈ lw_all) (hl : Lk own index ref (TT ci j).2.1 (TT ci j).2.2.1) (hci : ci < 20) (hj : j < NN ci) (hj2 : j < 128) (hf : FT ci j = 2) (hd : decode cc pc = .ok (.getfield index, 3)) (hsame : ∀ y, X.s.fieldFound? (TT ci j).1 (TT ci j).2.1 (TT ci j).2.2.1 = some y → X.s.fieldFound? ref (TT ci j).2.1 (TT ci j).2.2.1 = some y) {k : Nat → Act α} (h : ∀ v, Sim X cv (pc + 3) L (rv v :: st) (k v)) : Sim X cv pc L (rv x :: st) (bnd (getR ci j x) k) := by
  intro M Z H locs ls rr h1 h2 h3 h4 h5 h6 h7 h8 h9 h10
  obtain ⟨q1, q2⟩ := bnd_rdm h1
  obtain ⟨g1, g2⟩ := hC M Z x (hX.hRp ▸ h3) q1
  refine b_get hX.hx hX.hb hX.hts hX.hK hX.hown h4 hci hj g1 hin (hX.link hl) hsame hd ?_
  have e : fval Z ci x j = rv (Z.r (128 * ci + j) x) := by unfold fval; rw [if_neg (by omega), if_neg (by omega)]
  rw [e, (g2 j hj2).2.2]
  exact h _ M Z H locs ls rr q2 h2 h3 h4 h5 h6 h7 h8 h9 h10
theorem s_putI (hX : Ok X Rp cc own nL rt fr lo) {ci j x index : Nat} {ref : String} (hG : CpG Rp ci) (hC : CpP Rp ci) (hin : ∀ w ∈ u_ws (RR ci) (TT ci) (NN ci), w ∈ lw_all) (hty : ∀ k, k < NN ci → parseFieldDescriptor (TT ci k).2.2.1 = some (TY ci k)) (hnm : ∀ a, a < NN ci → ∀ b, b < NN ci → a ≠ b → (TT ci a).2.1 ≠ (TT ci b).2.1) (hl : Lk own index ref (TT ci j).2.1 (TT ci j).2.2.1) (hci : ci < 20) (hj : j < NN ci) (hj2 : j < 128) (hf : FT ci j = 0) (ht : TY ci j = .int) (hfin : (TT ci j).2.2.2 = false) (hd : decode cc pc = .ok (.putfield index, 3)) (hsame : ∀ y, X.s.fieldFound? (TT ci j).1 (TT ci j).2.1 (TT ci j).2.2.1 = some y → X.s.fieldFound? ref (TT ci j).2.1 (TT ci j).2.2.1 = some y) {v : Int32} {k : Unit → Act α} (h : Sim X cv (pc + 3) L st (k ())) : Sim X cv pc L (.int v :: rv x :: st) (bnd (putI ci j x v) k) := by
  intro M Z H locs ls rr h1 h2 h3 h4 h5 h6 h7 h8 h9 h10
  obtain ⟨q1, q2⟩ := bnd_wrm h1
  obtain ⟨g1, g2⟩ := hC M Z x (hX.hRp ▸ h3) (q1)
  refine b_put hX.hx hX.hb hX.hts hX.hK hX.hown h4 h5 hci hj g1 hin hty hnm (hX.link hl) hsame hfin  (by rw [ht]; rfl) (by rw [ht]; rfl) hd (fun H1 locs1 e1 e2 => ?_)
  obtain ⟨a, rfl, -⟩ := rep_obj h4 hci (Or.inl g1)
  obtain ⟨e3, e4, e5⟩ := e1 a rfl
  refine h (M.seti (128 * ci + j) (a + 1) v) (Z.seti (128 * ci + j) (a + 1) v) H1 locs1 ls rr q2 h2 (hX.hRp ▸ ((g2 j hj2).1 v)) ?_ e2 h6 h7 h8 h9 h10
  exact rep_set h4 hci g1 rfl rfl rfl (fun _ => rfl) (fun c hc => seti_cell _ _ _ _ _ hc) (e3.to (fun k _ => (seti_fval Z ci (a + 1) j v hf k).symm)) e4 e5
theorem s_putS (hX : Ok X Rp cc own nL rt fr lo) {ci j x index : Nat} {ref : String} (hG : CpG Rp ci) (hC : CpP Rp ci) (hin : ∀ w ∈ u_ws (RR ci) (TT ci) (NN ci), w ∈ lw_all) (hty : ∀ k, k < NN ci → parseFieldDescriptor (TT ci k).2.2.1 = some (TY ci k)) (hnm : ∀ a, a < NN ci → ∀ b, b < NN ci → a ≠ b → (TT ci a).2.1 ≠ (TT ci b).2.1) (hl : Lk own index ref (TT ci j).2.1 (TT ci j).2.2.1) (hci : ci < 20) (hj : j < NN ci) (hj2 : j < 128) (hf : FT ci j = 0) {ty : FieldType} (ht : TY ci j = ty) (hfin : (TT ci j).2.2.2 = false) (hd : decode cc pc = .ok (.putfield index, 3)) (hsame : ∀ y, X.s.fieldFound? (TT ci j).1 (TT ci j).2.1 (TT ci j).2.2.1 = some y → X.s.fieldFound? ref (TT ci j).2.1 (TT ci j).2.2.1 = some y) {v : Int32} {k : Unit → Act α} (h : Sim X cv (pc + 3) L st (k ())) : Sim X cv pc L (.int v :: rv x :: st) (bnd (putS ty ci j x v) k) := by
  intro M Z H locs ls rr h1 h2 h3 h4 h5 h6 h7 h8 h9 h10
  obtain ⟨q1, q2⟩ := bnd_wrm h1
  obtain ⟨g1, g2⟩ := hC M Z x (hX.hRp ▸ h3) (q1.1)
  refine b_put hX.hx hX.hb hX.hts hX.hK hX.hown h4 h5 hci hj g1 hin hty hnm (hX.link hl) hsame hfin  (by rw [ht]; exact q1.2.1) (by rw [ht]; exact q1.2.2) hd (fun H1 locs1 e1 e2 => ?_)
  obtain ⟨a, rfl, -⟩ := rep_obj h4 hci (Or.inl g1)
  obtain ⟨e3, e4, e5⟩ := e1 a rfl
  refine h (M.seti (128 * ci + j) (a + 1) v) (Z.seti (128 * ci + j) (a + 1) v) H1 locs1 ls rr q2 h2 (hX.hRp ▸ ((g2 j hj2).1 v)) ?_ e2 h6 h7 h8 h9 h10
  exact rep_set h4 hci g1 rfl rfl rfl (fun _ => rfl) (fun c hc => seti_cell _ _ _ _ _ hc) (e3.to (fun k _ => (seti_fval Z ci (a + 1) j v hf k).symm)) e4 e5
theorem s_putL (hX : Ok X Rp cc own nL rt fr lo) {ci j x index : Nat} {ref : String} (hG : CpG Rp ci) (hC : CpP Rp ci) (hin : ∀ w ∈ u_ws (RR ci) (TT ci) (NN ci), w ∈ lw_all) (hty : ∀ k, k < NN ci → parseFieldDescriptor (TT ci k).2.2.1 = some (TY ci k)) (hnm : ∀ a, a < NN ci → ∀ b, b < NN ci → a ≠ b → (TT ci a).2.1 ≠ (TT ci b).2.1) (hl : Lk own index ref (TT ci j).2.1 (TT ci j).2.2.1) (hci : ci < 20) (hj : j < NN ci) (hj2 : j < 128) (hf : FT ci j = 1) (ht : TY ci j = .long) (hfin : (TT ci j).2.2.2 = false) (hd : decode cc pc = .ok (.putfield index, 3)) (hsame : ∀ y, X.s.fieldFound? (TT ci j).1 (TT ci j).2.1 (TT ci j).2.2.1 = some y → X.s.fieldFound? ref (TT ci j).2.1 (TT ci j).2.2.1 = some y) {v : Int64} {k : Unit → Act α} (h : Sim X cv (pc + 3) L st (k ())) : Sim X cv pc L (.long v :: rv x :: st) (bnd (putL ci j x v) k) := by
  intro M Z H locs ls rr h1 h2 h3 h4 h5 h6 h7 h8 h9 h10
  obtain ⟨q1, q2⟩ := bnd_wrm h1
  obtain ⟨g1, g2⟩ := hC M Z x (hX.hRp ▸ h3) (q1)
  refine b_put hX.hx hX.hb hX.hts hX.hK hX.hown h4 h5 hci hj g1 hin hty hnm (hX.link hl) hsame hfin  (by rw [ht]; rfl) (by rw [ht]; rfl) hd (fun H1 locs1 e1 e2 => ?_)
  obtain ⟨a, rfl, -⟩ := rep_obj h4 hci (Or.inl g1)
  obtain ⟨e3, e4, e5⟩ := e1 a rfl
  refine h (M.setl (128 * ci + j) (a + 1) v) (Z.setl (128 * ci + j) (a + 1) v) H1 locs1 ls rr q2 h2 (hX.hRp ▸ ((g2 j hj2).2.1 v)) ?_ e2 h6 h7 h8 h9 h10
  exact rep_set h4 hci g1 rfl rfl rfl (fun _ => rfl) (fun c hc => setl_cell _ _ _ _ _ hc) (e3.to (fun k _ => (setl_fval Z ci (a + 1) j v hf k).symm)) e4 e5
theorem s_putR (hX : Ok X Rp cc own nL rt fr lo) {ci j x index : Nat} {ref : String} (hG : CpG Rp ci) (hC : CpP Rp ci) (hin : ∀ w ∈ u_ws (RR ci) (TT ci) (NN ci), w ∈ lw_all) (hty : ∀ k, k < NN ci → parseFieldDescriptor (TT ci k).2.2.1 = some (TY ci k)) (hnm : ∀ a, a < NN ci → ∀ b, b < NN ci → a ≠ b → (TT ci a).2.1 ≠ (TT ci b).2.1) (hl : Lk own index ref (TT ci j).2.1 (TT ci j).2.2.1) (hci : ci < 20) (hj : j < NN ci) (hj2 : j < 128) (hf : FT ci j = 2) (ht : ∀ v : Nat, narrow (TY ci j) (rv v) = rv v ∧ fits (TY ci j) (rv v) = true) (hfin : (TT ci j).2.2.2 = false) (hd : decode cc pc = .ok (.putfield index, 3)) (hsame : ∀ y, X.s.fieldFound? (TT ci j).1 (TT ci j).2.1 (TT ci j).2.2.1 = some y → X.s.fieldFound? ref (TT ci j).2.1 (TT ci j).2.2.1 = some y) {v : Nat} {k : Unit → Act α} (h : Sim X cv (pc + 3) L st (k ())) : Sim X cv pc L (rv v :: rv x :: st) (bnd (putR ci j x v) k) := by
  intro M Z H locs ls rr h1 h2 h3 h4 h5 h6 h7 h8 h9 h10
  obtain ⟨q1, q2⟩ := bnd_wrm h1
  obtain ⟨g1, g2⟩ := hC M Z x (hX.hRp ▸ h3) (q1)
  refine b_put hX.hx hX.hb hX.hts hX.hK hX.hown h4 h5 hci hj g1 hin hty hnm (hX.link hl) hsame hfin  ((ht v).1) ((ht v).2) hd (fun H1 locs1 e1 e2 => ?_)
  obtain ⟨a, rfl, -⟩ := rep_obj h4 hci (Or.inl g1)
  obtain ⟨e3, e4, e5⟩ := e1 a rfl
  refine h (M.setr (128 * ci + j) (a + 1) v) (Z.setr (128 * ci + j) (a + 1) v) H1 locs1 ls rr q2 h2 (hX.hRp ▸ ((g2 j hj2).2.2 v)) ?_ e2 h6 h7 h8 h9 h10
  exact rep_set h4 hci g1 rfl rfl rfl (fun _ => up2_ny _ _ _ _ (Nat.succ_ne_zero a).symm) (fun c hc => setr_cell _ _ _ _ _ hc) (e3.to (fun k _ => (setr_fval Z ci (a + 1) j v hf k).symm)) e4 e5
theorem s_putIF (hX : Ok X Rp cc own nL rt fr lo) {ci j x index : Nat} {ref : String} (hG : CpG Rp ci) (hC : CpP Rp ci) (hin : ∀ w ∈ u_ws (RR ci) (TT ci) (NN ci), w ∈ lw_all) (hty : ∀ k, k < NN ci → parseFieldDescriptor (TT ci k).2.2.1 = some (TY ci k)) (hnm : ∀ a, a < NN ci → ∀ b, b < NN ci → a ≠ b → (TT ci a).2.1 ≠ (TT ci b).2.1) (hl : Cond.fieldLink own index ref (TT ci j).2.1 (TT ci j).2.2.1 ∈ lw_all) (hci : ci < 20) (hj : j < NN ci) (hj2 : j < 128) (hf : FT ci j = 0) (ht : TY ci j = .int) (hfin : (TT ci j).2.2.2 = true) (hin2 : X.meth.name = "<init>") (hdecl : (TT ci j).1 = own) (hd : decode cc pc = .ok (.putfield index, 3)) (hsame : ∀ y, X.s.fieldFound? (TT ci j).1 (TT ci j).2.1 (TT ci j).2.2.1 = some y → X.s.fieldFound? ref (TT ci j).2.1 (TT ci j).2.2.1 = some y) {v : Int32} {k : Unit → Act α} (h : Sim X cv (pc + 3) L st (k ())) : Sim X cv pc L (.int v :: rv x :: st) (bnd (putI ci j x v) k) := by
  intro M Z H locs ls rr h1 h2 h3 h4 h5 h6 h7 h8 h9 h10
  obtain ⟨q1, q2⟩ := bnd_wrm h1
  obtain ⟨g1, g2⟩ := hC M Z x (hX.hRp ▸ h3) (q1)
  refine b_putF hX.hx hX.hb hX.hts hX.hK hX.hown h4 h5 hci hj g1 hin hty hnm (hX.hts _ hl) hsame hfin hin2 hdecl (by rw [ht]; rfl) (by rw [ht]; rfl) hd (fun H1 locs1 e1 e2 => ?_)
  obtain ⟨a, rfl, -⟩ := rep_obj h4 hci (Or.inl g1)
  obtain ⟨e3, e4, e5⟩ := e1 a rfl
  refine h (M.seti (128 * ci + j) (a + 1) v) (Z.seti (128 * ci + j) (a + 1) v) H1 locs1 ls rr q2 h2 (hX.hRp ▸ ((g2 j hj2).1 v)) ?_ e2 h6 h7 h8 h9 h10
  exact rep_set h4 hci g1 rfl rfl rfl (fun _ => rfl) (fun c hc => seti_cell _ _ _ _ _ hc) (e3.to (fun k _ => (seti_fval Z ci (a + 1) j v hf k).symm)) e4 e5
theorem s_putSF (hX : Ok X Rp cc own nL rt fr lo) {ci j x index : Nat} {ref : String} (hG : CpG Rp ci) (hC : CpP Rp ci) (hin : ∀ w ∈ u_ws (RR ci) (TT ci) (NN ci), w ∈ lw_all) (hty : ∀ k, k < NN ci → parseFieldDescriptor (TT ci k).2.2.1 = some (TY ci k)) (hnm : ∀ a, a < NN ci → ∀ b, b < NN ci → a ≠ b → (TT ci a).2.1 ≠ (TT ci b).2.1) (hl : Cond.fieldLink own index ref (TT ci j).2.1 (TT ci j).2.2.1 ∈ lw_all) (hci : ci < 20) (hj : j < NN ci) (hj2 : j < 128) (hf : FT ci j = 0) {ty : FieldType} (ht : TY ci j = ty) (hfin : (TT ci j).2.2.2 = true) (hin2 : X.meth.name = "<init>") (hdecl : (TT ci j).1 = own) (hd : decode cc pc = .ok (.putfield index, 3)) (hsame : ∀ y, X.s.fieldFound? (TT ci j).1 (TT ci j).2.1 (TT ci j).2.2.1 = some y → X.s.fieldFound? ref (TT ci j).2.1 (TT ci j).2.2.1 = some y) {v : Int32} {k : Unit → Act α} (h : Sim X cv (pc + 3) L st (k ())) : Sim X cv pc L (.int v :: rv x :: st) (bnd (putS ty ci j x v) k) := by
  intro M Z H locs ls rr h1 h2 h3 h4 h5 h6 h7 h8 h9 h10
  obtain ⟨q1, q2⟩ := bnd_wrm h1
  obtain ⟨g1, g2⟩ := hC M Z x (hX.hRp ▸ h3) (q1.1)
  refine b_putF hX.hx hX.hb hX.hts hX.hK hX.hown h4 h5 hci hj g1 hin hty hnm (hX.hts _ hl) hsame hfin hin2 hdecl (by rw [ht]; exact q1.2.1) (by rw [ht]; exact q1.2.2) hd (fun H1 locs1 e1 e2 => ?_)
  obtain ⟨a, rfl, -⟩ := rep_obj h4 hci (Or.inl g1)
  obtain ⟨e3, e4, e5⟩ := e1 a rfl
  refine h (M.seti (128 * ci + j) (a + 1) v) (Z.seti (128 * ci + j) (a + 1) v) H1 locs1 ls rr q2 h2 (hX.hRp ▸ ((g2 j hj2).1 v)) ?_ e2 h6 h7 h8 h9 h10
  exact rep_set h4 hci g1 rfl rfl rfl (fun _ => rfl) (fun c hc => seti_cell _ _ _ _ _ hc) (e3.to (fun k _ => (seti_fval Z ci (a + 1) j v hf k).symm)) e4 e5
theorem s_putLF (hX : Ok X Rp cc own nL rt fr lo) {ci j x index : Nat} {ref : String} (hG : CpG Rp ci) (hC : CpP Rp ci) (hin : ∀ w ∈ u_ws (RR ci) (TT ci) (NN ci), w ∈ lw_all) (hty : ∀ k, k < NN ci → parseFieldDescriptor (TT ci k).2.2.1 = some (TY ci k)) (hnm : ∀ a, a < NN ci → ∀ b, b < NN ci → a ≠ b → (TT ci a).2.1 ≠ (TT ci b).2.1) (hl : Cond.fieldLink own index ref (TT ci j).2.1 (TT ci j).2.2.1 ∈ lw_all) (hci : ci < 20) (hj : j < NN ci) (hj2 : j < 128) (hf : FT ci j = 1) (ht : TY ci j = .long) (hfin : (TT ci j).2.2.2 = true) (hin2 : X.meth.name = "<init>") (hdecl : (TT ci j).1 = own) (hd : decode cc pc = .ok (.putfield index, 3)) (hsame : ∀ y, X.s.fieldFound? (TT ci j).1 (TT ci j).2.1 (TT ci j).2.2.1 = some y → X.s.fieldFound? ref (TT ci j).2.1 (TT ci j).2.2.1 = some y) {v : Int64} {k : Unit → Act α} (h : Sim X cv (pc + 3) L st (k ())) : Sim X cv pc L (.long v :: rv x :: st) (bnd (putL ci j x v) k) := by
  intro M Z H locs ls rr h1 h2 h3 h4 h5 h6 h7 h8 h9 h10
  obtain ⟨q1, q2⟩ := bnd_wrm h1
  obtain ⟨g1, g2⟩ := hC M Z x (hX.hRp ▸ h3) (q1)
  refine b_putF hX.hx hX.hb hX.hts hX.hK hX.hown h4 h5 hci hj g1 hin hty hnm (hX.hts _ hl) hsame hfin hin2 hdecl (by rw [ht]; rfl) (by rw [ht]; rfl) hd (fun H1 locs1 e1 e2 => ?_)
  obtain ⟨a, rfl, -⟩ := rep_obj h4 hci (Or.inl g1)
  obtain ⟨e3, e4, e5⟩ := e1 a rfl
  refine h (M.setl (128 * ci + j) (a + 1) v) (Z.setl (128 * ci + j) (a + 1) v) H1 locs1 ls rr q2 h2 (hX.hRp ▸ ((g2 j hj2).2.1 v)) ?_ e2 h6 h7 h8 h9 h10
  exact rep_set h4 hci g1 rfl rfl rfl (fun _ => rfl) (fun c hc => setl_cell _ _ _ _ _ hc) (e3.to (fun k _ => (setl_fval Z ci (a + 1) j v hf k).symm)) e4 e5
theorem s_putRF (hX : Ok X Rp cc own nL rt fr lo) {ci j x index : Nat} {ref : String} (hG : CpG Rp ci) (hC : CpP Rp ci) (hin : ∀ w ∈ u_ws (RR ci) (TT ci) (NN ci), w ∈ lw_all) (hty : ∀ k, k < NN ci → parseFieldDescriptor (TT ci k).2.2.1 = some (TY ci k)) (hnm : ∀ a, a < NN ci → ∀ b, b < NN ci → a ≠ b → (TT ci a).2.1 ≠ (TT ci b).2.1) (hl : Cond.fieldLink own index ref (TT ci j).2.1 (TT ci j).2.2.1 ∈ lw_all) (hci : ci < 20) (hj : j < NN ci) (hj2 : j < 128) (hf : FT ci j = 2) (ht : ∀ v : Nat, narrow (TY ci j) (rv v) = rv v ∧ fits (TY ci j) (rv v) = true) (hfin : (TT ci j).2.2.2 = true) (hin2 : X.meth.name = "<init>") (hdecl : (TT ci j).1 = own) (hd : decode cc pc = .ok (.putfield index, 3)) (hsame : ∀ y, X.s.fieldFound? (TT ci j).1 (TT ci j).2.1 (TT ci j).2.2.1 = some y → X.s.fieldFound? ref (TT ci j).2.1 (TT ci j).2.2.1 = some y) {v : Nat} {k : Unit → Act α} (h : Sim X cv (pc + 3) L st (k ())) : Sim X cv pc L (rv v :: rv x :: st) (bnd (putR ci j x v) k) := by
  intro M Z H locs ls rr h1 h2 h3 h4 h5 h6 h7 h8 h9 h10
  obtain ⟨q1, q2⟩ := bnd_wrm h1
  obtain ⟨g1, g2⟩ := hC M Z x (hX.hRp ▸ h3) (q1)
  refine b_putF hX.hx hX.hb hX.hts hX.hK hX.hown h4 h5 hci hj g1 hin hty hnm (hX.hts _ hl) hsame hfin hin2 hdecl ((ht v).1) ((ht v).2) hd (fun H1 locs1 e1 e2 => ?_)
  obtain ⟨a, rfl, -⟩ := rep_obj h4 hci (Or.inl g1)
  obtain ⟨e3, e4, e5⟩ := e1 a rfl
  refine h (M.setr (128 * ci + j) (a + 1) v) (Z.setr (128 * ci + j) (a + 1) v) H1 locs1 ls rr q2 h2 (hX.hRp ▸ ((g2 j hj2).2.2 v)) ?_ e2 h6 h7 h8 h9 h10
  exact rep_set h4 hci g1 rfl rfl rfl (fun _ => up2_ny _ _ _ _ (Nat.succ_ne_zero a).symm) (fun c hc => setr_cell _ _ _ _ _ hc) (e3.to (fun k _ => (setr_fval Z ci (a + 1) j v hf k).symm)) e4 e5
end HR
