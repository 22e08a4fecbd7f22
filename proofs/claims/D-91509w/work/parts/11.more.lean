set_option maxRecDepth 100000
section MR
variable {α : Type} {X : Cx} {Rp : Mem → Mem → Prop} {cc : ByteArray} {own : String} {nL : Nat} {rt : Option FieldType} {fr lo : Nat} {cv : α → Option Value} {pc : Nat} {L : List (Nat × Value)} {st : List Value} {f g : Act α}
theorem s_idivc (hX : Ok X Rp cc own nL rt fr lo) {x y : Int32} (hd : decode cc pc = .ok (.idiv, 1)) (hy : ¬ y = 0) (h : Sim X cv (pc + 1) L (.int (x / y) :: st) f) : Sim X cv pc L (.int y :: .int x :: st) f := by
  intro M Z H locs ls rr h1 h2 h3 h4 h5 h6 h7 h8 h9 h10
  exact lv_idiv hX.hx hX.hb hd hy (h M Z H locs ls rr h1 h2 h3 h4 h5 h6 h7 h8 h9 h10)
theorem s_iremc (hX : Ok X Rp cc own nL rt fr lo) {x y : Int32} (hd : decode cc pc = .ok (.irem, 1)) (hy : ¬ y = 0) (h : Sim X cv (pc + 1) L (.int (x - x / y * y) :: st) f) : Sim X cv pc L (.int y :: .int x :: st) f := by
  intro M Z H locs ls rr h1 h2 h3 h4 h5 h6 h7 h8 h9 h10
  exact lv_irem hX.hx hX.hb hd hy (h M Z H locs ls rr h1 h2 h3 h4 h5 h6 h7 h8 h9 h10)
theorem s_ldivc (hX : Ok X Rp cc own nL rt fr lo) {x y : Int64} (hd : decode cc pc = .ok (.ldiv, 1)) (hy : ¬ y = 0) (h : Sim X cv (pc + 1) L (.long (x / y) :: st) f) : Sim X cv pc L (.long y :: .long x :: st) f := by
  intro M Z H locs ls rr h1 h2 h3 h4 h5 h6 h7 h8 h9 h10
  exact lv_ldiv hX.hx hX.hb hd hy (h M Z H locs ls rr h1 h2 h3 h4 h5 h6 h7 h8 h9 h10)
theorem s_dup2l (hX : Ok X Rp cc own nL rt fr lo) {a : Value} (hd : decode cc pc = .ok (.dup2, 1)) (ha : a.category = 2) (h : Sim X cv (pc + 1) L (a :: a :: st) f) : Sim X cv pc L (a :: st) f := by
  intro M Z H locs ls rr h1 h2 h3 h4 h5 h6 h7 h8 h9 h10
  exact lv_dup2_2 hX.hx hX.hb hd ha (h M Z H locs ls rr h1 h2 h3 h4 h5 h6 h7 h8 h9 h10)
/-- a switch by a table: the case of x, from lo on -/
def sw (x : Int32) (lo : Int) (fs : List (Act α)) (fd : Act α) : Act α := if lo ≤ x.toInt ∧ x.toInt < lo + fs.length then fs.getD (x.toInt - lo).toNat fd else fd
def SwAll (P : Nat → Act α → Prop) : List Nat → List (Act α) → Prop
  | t :: ts, f :: fs => P t f ∧ SwAll P ts fs
  | [], [] => True
  | _, _ => False
theorem SwAll.len {P : Nat → Act α → Prop} : ∀ (ts : List Nat) (fs : List (Act α)), SwAll P ts fs → ts.length = fs.length
  | [], [], _ => rfl
  | [], _ :: _, h => h.elim
  | _ :: _, [], h => h.elim
  | t :: ts, f :: fs, h => by simp [SwAll.len ts fs h.2]
theorem SwAll.at {P : Nat → Act α → Prop} : ∀ (ts : List Nat) (fs : List (Act α)), SwAll P ts fs → ∀ (i : Nat) (t : Nat) (d : Act α), ts[i]? = some t → P t (fs.getD i d)
  | [], [], _, i, t, d, ht => by simp at ht
  | [], _ :: _, h, _, _, _, _ => h.elim
  | _ :: _, [], h, _, _, _, _ => h.elim
  | t :: ts, f :: fs, h, 0, t', d, ht => by cases ht; exact h.1
  | t :: ts, f :: fs, h, i + 1, t', d, ht => SwAll.at ts fs h.2 i t' d ht
theorem s_sw (hX : Ok X Rp cc own nL rt fr lo) {x : Int32} {dflt lw hw : Int} {offs : Array Int} {len : Nat} (hd : decode cc pc = .ok (.tableswitch dflt lw hw offs, len)) {dt : Nat} (hdt : (pc : Int) + dflt = (dt : Int)) {tgts : List Nat} {fs : List (Act α)} {fd : Act α} (ho : offs.toList.map (fun o => (pc : Int) + o) = tgts.map (fun t : Nat => (t : Int))) (hl : hw = lw + (tgts.length : Int) - 1)
    (kd : Sim X cv dt L st fd) (kk : SwAll (fun t f => Sim X cv t L st f) tgts fs) : Sim X cv pc L (.int x :: st) (sw x lw fs fd) := by
  have hlen := SwAll.len _ _ kk
  unfold sw
  by_cases q : lw ≤ x.toInt ∧ x.toInt < lw + fs.length
  · rw [if_pos q]
    have hi : (x.toInt - lw).toNat < tgts.length := by omega
    obtain ⟨t, ht⟩ : ∃ t, tgts[(x.toInt - lw).toNat]? = some t := ⟨_, List.getElem?_eq_getElem hi⟩
    have h1 := SwAll.at _ _ kk _ t fd ht
    have h2 : (offs.toList.map (fun o => (pc : Int) + o))[(x.toInt - lw).toNat]? = some (t : Int) := by
      rw [ho, List.getElem?_map, ht]; rfl
    rw [List.getElem?_map] at h2
    obtain ⟨off, e1, e2⟩ := Option.map_eq_some_iff.mp h2
    intro M Z H locs ls rr g1 g2 g3 g4 g5 g6 g7 g8 g9 g10
    exact lv_tableIn hX.hx hX.hb hd (by omega) (by omega) (by rw [← Array.getElem?_toList]; exact e1) e2 (h1 M Z H locs ls rr g1 g2 g3 g4 g5 g6 g7 g8 g9 g10)
  · rw [if_neg q]
    intro M Z H locs ls rr g1 g2 g3 g4 g5 g6 g7 g8 g9 g10
    exact lv_tableOut hX.hx hX.hb hd (by omega) hdt (kd M Z H locs ls rr g1 g2 g3 g4 g5 g6 g7 g8 g9 g10)
theorem s_lsw (hX : Ok X Rp cc own nL rt fr lo) {x : Int32} {dflt : Int} {ps : Array (Int × Int)} {len : Nat} (hd : decode cc pc = .ok (.lookupswitch dflt ps, len)) (hp : (ps.toList.zip (ps.toList.drop 1)).all (fun (a, next) => a.1 < next.1) = true) {k : Int32} (hk : x = k) {off : Int} {tgt : Nat} (ho : Op.lookupswitch.offset ps.toList dflt k.toInt = off) (ht : (pc : Int) + off = (tgt : Int)) (h : Sim X cv tgt L st f) : Sim X cv pc L (.int x :: st) f := by
  subst hk
  exact s_lswitch hX hd hp ho ht h
/-- none of the keys -/
def NoKey (x : Int32) : List Int32 → Prop
  | k :: ks => ¬ x = k ∧ NoKey x ks
  | [] => True
theorem lsw_none (x : Int32) (dflt : Int) : ∀ (ps : List (Int × Int)) (ks : List Int32), ps.map (fun p => p.1) = ks.map (fun k => k.toInt) → NoKey x ks → Op.lookupswitch.offset ps dflt x.toInt = dflt
  | [], [], _, _ => rfl
  | [], _ :: _, h, _ => by simp at h
  | _ :: _, [], h, _ => by simp at h
  | p :: ps, k :: ks, h, hn => by
    simp only [List.map_cons, List.cons.injEq] at h
    have ih := lsw_none x dflt ps ks h.2 hn.2
    have hne : ¬ p.1 = x.toInt := fun e => hn.1 (Int32.toInt_inj.mp (by rw [← e, h.1]))
    simp only [Op.lookupswitch.offset, List.find?_cons] at ih ⊢
    simp [hne]
    simpa using ih
theorem s_lswd (hX : Ok X Rp cc own nL rt fr lo) {x : Int32} {dflt : Int} {ps : Array (Int × Int)} {len : Nat} (hd : decode cc pc = .ok (.lookupswitch dflt ps, len)) (hp : (ps.toList.zip (ps.toList.drop 1)).all (fun (a, next) => a.1 < next.1) = true) {ks : List Int32} (hks : ps.toList.map (fun p => p.1) = ks.map (fun k => k.toInt)) (hn : NoKey x ks) {tgt : Nat} (ht : (pc : Int) + dflt = (tgt : Int)) (h : Sim X cv tgt L st f) : Sim X cv pc L (.int x :: st) f :=
  s_lswitch hX hd hp (lsw_none x dflt _ ks hks hn) ht h
end MR
theorem eqZ : ∀ M Z : Mem, @Eq Mem M Z → Z.n = M.n ∧ Z.sl = M.sl := fun M Z h => by subst h; exact ⟨rfl, rfl⟩
theorem eqG (ci : Nat) : CpG (@Eq Mem) ci := fun M Z c h hk => by subst h; exact ⟨hk, fun _ _ => ⟨rfl, rfl, rfl⟩⟩
theorem eqK (kd : Nat) : CpK (@Eq Mem) kd := fun M Z c h hk => by subst h; exact hk
theorem eqP (ci : Nat) : CpP (@Eq Mem) ci := fun M Z c h hk => by subst h; exact ⟨hk, fun _ _ => ⟨fun _ => rfl, fun _ => rfl, fun _ => rfl⟩⟩
theorem eqN (ci : Nat) : CpN (@Eq Mem) ci := fun M Z _ _ h _ => by subst h; rfl
theorem eqA (q : Nat) : CpA (@Eq Mem) q := fun M Z c h _ => by subst h; exact ⟨rfl, rfl, rfl, rfl, rfl⟩
theorem eqB (q : Nat) : CpB (@Eq Mem) q := fun M Z c h _ => by subst h; exact ⟨fun _ _ => rfl, fun _ _ => rfl, fun _ _ => rfl⟩
theorem eqM (q : Nat) : CpM (@Eq Mem) q := fun M Z _ _ _ h _ => by subst h; rfl
def mn (x y : Int32) : Int32 := if y < x then y else x
def mx (x y : Int32) : Int32 := if x < y then y else x
def ab (x : Int32) : Int32 := if 0 ≤ x then x else 0 - x
section MM
variable {α : Type} {X : Cx} {Rp : Mem → Mem → Prop} {cc : ByteArray} {own : String} {nL : Nat} {rt : Option FieldType} {fr lo : Nat} {cv : α → Option Value} {pc : Nat} {L : List (Nat × Value)} {st : List Value} {f g : Act α} {index : Nat} {bytes : ByteArray}
theorem cells_le (hX : Ok X Rp cc own nL rt fr lo) {M : Mem} {rr : α ⊕ Nat} (h1 : f.run M = some (rr, X.Mf)) : M.n - X.n0 ≤ X.R.cells ∧ M.sl - X.sl0 ≤ X.R.slots := by
  have m := f.mono h1
  have := hX.hcells
  have := hX.hslots
  omega
theorem s_mmin (hX : Ok X Rp cc own nL rt fr lo) {x y : Int32} (q1 : Cond.methodLink own index Lib.Math.min.name ∈ lw_all) (q2 : Cond.static Lib.Math.min.name ∈ lw_all) (q3 : Cond.initialized "java/lang/Math" ∈ lw_all) (q4 : Cond.code Lib.Math.min.name bytes 2 (some .int) ∈ lw_all) (hby : bytes = Lib.Math.min.code) (hf1 : 1 ≤ fr) (hl1 : (st.map fun v => v.category).sum + 13 ≤ lo) (hd : decode cc pc = .ok (.invokestatic index, 3)) (h : Sim X cv (pc + 3) L (.int (mn x y) :: st) f) : Sim X cv pc L (.int y :: .int x :: st) f := by
  intro M Z H locs ls rr h1 h2 h3 h4 h5 h6 h7 h8 h9 h10
  subst hby
  exact va_mmin hX.hx hX.hb (by rw [hX.hml, h6.1, hX.hnL]) hX.hown (hX.hts _ q1) (hX.hts _ q2) (hX.hts _ q3) (hX.hts _ q4) (by rw [hX.hfr]; exact hf1) (by rw [hX.hlo]; exact hl1) (cells_le hX h1).1 (cells_le hX h1).2 hd (h M Z H locs ls rr h1 h2 h3 h4 h5 h6 h7 h8 h9 h10)
theorem s_mmax (hX : Ok X Rp cc own nL rt fr lo) {x y : Int32} (q1 : Cond.methodLink own index Lib.Math.max.name ∈ lw_all) (q2 : Cond.static Lib.Math.max.name ∈ lw_all) (q3 : Cond.initialized "java/lang/Math" ∈ lw_all) (q4 : Cond.code Lib.Math.max.name bytes 2 (some .int) ∈ lw_all) (hby : bytes = Lib.Math.max.code) (hf1 : 1 ≤ fr) (hl1 : (st.map fun v => v.category).sum + 13 ≤ lo) (hd : decode cc pc = .ok (.invokestatic index, 3)) (h : Sim X cv (pc + 3) L (.int (mx x y) :: st) f) : Sim X cv pc L (.int y :: .int x :: st) f := by
  intro M Z H locs ls rr h1 h2 h3 h4 h5 h6 h7 h8 h9 h10
  subst hby
  exact va_mmax hX.hx hX.hb (by rw [hX.hml, h6.1, hX.hnL]) hX.hown (hX.hts _ q1) (hX.hts _ q2) (hX.hts _ q3) (hX.hts _ q4) (by rw [hX.hfr]; exact hf1) (by rw [hX.hlo]; exact hl1) (cells_le hX h1).1 (cells_le hX h1).2 hd (h M Z H locs ls rr h1 h2 h3 h4 h5 h6 h7 h8 h9 h10)
theorem s_mabs (hX : Ok X Rp cc own nL rt fr lo) {x : Int32} (q1 : Cond.methodLink own index Lib.Math.abs.name ∈ lw_all) (q2 : Cond.static Lib.Math.abs.name ∈ lw_all) (q3 : Cond.initialized "java/lang/Math" ∈ lw_all) (q4 : Cond.code Lib.Math.abs.name bytes 1 (some .int) ∈ lw_all) (hby : bytes = Lib.Math.abs.code) (hf1 : 1 ≤ fr) (hl1 : (st.map fun v => v.category).sum + 13 ≤ lo) (hd : decode cc pc = .ok (.invokestatic index, 3)) (h : Sim X cv (pc + 3) L (.int (ab x) :: st) f) : Sim X cv pc L (.int x :: st) f := by
  intro M Z H locs ls rr h1 h2 h3 h4 h5 h6 h7 h8 h9 h10
  subst hby
  exact va_mabs hX.hx hX.hb (by rw [hX.hml, h6.1, hX.hnL]) hX.hown (hX.hts _ q1) (hX.hts _ q2) (hX.hts _ q3) (hX.hts _ q4) (by rw [hX.hfr]; exact hf1) (by rw [hX.hlo]; exact hl1) (cells_le hX h1).1 (cells_le hX h1).2 hd (h M Z H locs ls rr h1 h2 h3 h4 h5 h6 h7 h8 h9 h10)
end MM
theorem cat_i (v : Int32) : (Value.int v).category = 1 := rfl
theorem cat_l (v : Int64) : (Value.long v).category = 2 := rfl
theorem Ct.fail {α : Type} {l : Launch} {Rp : Mem → Mem → Prop} {y : MethodName} {ws : List Cond} {fr lo : Nat} {cv : α → Option Value} {args : List Value} : Ct l Rp y ws fr lo cv args (fail : Act α) := by
  intro w M M' rr h
  cases h
