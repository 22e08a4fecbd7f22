set_option maxRecDepth 100000
def CpS (Rp : Mem → Mem → Prop) : Prop := ∀ M Z, Rp M Z → ∀ k, Z.r (9000 + k) 0 = M.r (9000 + k) 0
theorem eqS : CpS (@Eq Mem) := fun M Z h k => by subst h; rfl
/-- what the static field (or constant) number k holds -/
def gst (k : Nat) : Act Nat := rdm (fun _ => True) (fun _ => inferInstanceAs (Decidable True)) (fun M => M.r (9000 + k) 0)
/-- the class object of an array of Objects -/
def gcl (x : Nat) : Act Nat := rdm (fun M => M.k x = 54 ∨ M.k x = 64) (fun _ => inferInstanceAs (Decidable (_ ∨ _))) (fun M => M.r (9000 + 3) 0)
theorem ldcStrW {p : Program} {l : Launch} {e : Env} {R : Room} {s : State} {m : MethodId} {args : Array Value} {below : List Frame} {meth : Method} {c : Code} {T : State} {locs : List Loc} {cells slots : Nat}
    (X : Stand p l e R s m args below meth c T locs cells slots) (hexec : p.tables.exec = Jvm.exec) {own text : String} {index : Nat} {a : Addr} (hown : s.vm.findClass own = some m.cls)
    (hconst : (Cond.stringRef own index text).before args s = true) (hev : (Term.string own index).eval args s none [] s = some (.ref a)) {g : JFrame} (hg : g.method = m) (hdg : decode c.code g.pc = .ok (.ldc_w index, 3)) :
    ∀ target, Steps p.tables e below (T.setTop { g with pc := g.pc + 3, stack := .ref a :: g.stack }) target → Steps p.tables e below (T.setTop g) target := by
  obtain ⟨k, cf, i, a', hk, hcf, hcp, -, hr, hev'⟩ := Cond.stringRef_spec hown hconst
  cases hev.symm.trans hev'
  obtain ⟨k', hk', he⟩ := X.warmed.alike.2.2 _ _ hk
  have hr' : k'.resolved[index]? = some (some (.string a)) := by
    rcases X.warmed.entry hk hk' index with h | ⟨h, -⟩
    · rw [h]; exact hr
    · rw [hr] at h; cases h
  intro target hrest
  subst hg
  jvm_step X.here [hexec, hdg, ldc_w.wp_string (e := e) (s := T) (f := g) X.here.top hk' (by rw [he]; exact hcf) hcp hr']
  exact hrest
section JR
variable {α : Type} {X : Cx} {Rp : Mem → Mem → Prop} {cc : ByteArray} {own : String} {nL : Nat} {rt : Option FieldType} {fr lo : Nat} {cv : α → Option Value} {pc : Nat} {L : List (Nat × Value)} {st : List Value}
theorem b_gets (hX : Ok X Rp cc own nL rt fr lo) {Z : Mem} {H : Heap} {locs : List Loc} {cells slots : Nat} {ls : Array Slot} {C n d : String} {v : Value} {index : Nat} (hZ : va_Z C n d v X.w.A X.w.s0 X.w.s0.heap) (h4 : Rep0 X.w Z H) (hl : Cond.fieldLink own index C n d ∈ lw_all) (hd : decode cc pc = .ok (.getstatic index, 3)) (kk : WX X H locs cells slots (F0 X.m (pc + 3) ls (v :: st))) : WX X H locs cells slots (F0 X.m pc ls st) := by
  obtain ⟨cf, kf, fi, f, a, cell, h1, h2, h3, h4', h5, h6, h7, h8⟩ := va_Z.moved hX.warm.alike hZ
  exact W.gets hX.hx hX.hb hX.hown (hX.hts _ hl) h1 h2 h3 h4' (by rw [h4.2.2.2.2.1 a (Array.getElem?_eq_some_iff.mp h5).1]; exact h5) (fun e => by rw [e] at h6; cases h6) h7 rfl hd kk
theorem s_gst (hX : Ok X Rp cc own nL rt fr lo) (hS : CpS Rp) {C n d : String} {index j : Nat} (hZ : ∀ w, Base w → va_Z C n d (rv (w.st j)) w.A w.s0 w.s0.heap) (hl : Cond.fieldLink own index C n d ∈ lw_all) (hd : decode cc pc = .ok (.getstatic index, 3)) {k : Nat → Act α} (h : ∀ v, Sim X cv (pc + 3) L (rv v :: st) (k v)) : Sim X cv pc L st (bnd (gst j) k) := by
  intro M Z H locs ls rr h1 h2 h3 h4 h5 h6 h7 h8 h9 h10
  obtain ⟨-, q2⟩ := bnd_rdm h1
  refine b_gets hX (hZ _ hX.base) h4 hl hd ?_
  rw [← h4.2.2.2.2.2.2.2.2 j, hS M Z (hX.hRp ▸ h3) j]
  exact h _ M Z H locs ls rr q2 h2 h3 h4 h5 h6 h7 h8 h9 h10
theorem s_gstI (hX : Ok X Rp cc own nL rt fr lo) {C n d : String} {index : Nat} {v : Int32} (hZ : ∀ w, Base w → va_Z C n d (.int v) w.A w.s0 w.s0.heap) (hl : Cond.fieldLink own index C n d ∈ lw_all) (hd : decode cc pc = .ok (.getstatic index, 3)) {f : Act α} (h : Sim X cv (pc + 3) L (.int v :: st) f) : Sim X cv pc L st f := by
  intro M Z H locs ls rr h1 h2 h3 h4 h5 h6 h7 h8 h9 h10
  exact b_gets hX (hZ _ hX.base) h4 hl hd (h M Z H locs ls rr h1 h2 h3 h4 h5 h6 h7 h8 h9 h10)
theorem s_ldcS (hX : Ok X Rp cc "WindGas" nL rt fr lo) (hS : CpS Rp) {index i : Nat} {tx : String} (hi : strT[i]? = some (index, tx)) (hd : decode cc pc = .ok (.ldc index, 2)) {k : Nat → Act α} (h : ∀ v, Sim X cv (pc + 2) L (rv v :: st) (k v)) : Sim X cv pc L st (bnd (gst (10 + i)) k) := by
  intro M Z H locs ls rr h1 h2 h3 h4 h5 h6 h7 h8 h9 h10
  obtain ⟨-, q2⟩ := bnd_rdm h1
  obtain ⟨a, ea, hv⟩ := hX.base.2.2.2.2.2.2 i _ hi
  have K := h (M.r (9000 + (10 + i)) 0) M Z H locs ls rr q2 h2 h3 h4 h5 h6 h7 h8 h9 h10
  rw [← hS M Z (hX.hRp ▸ h3) (10 + i), h4.2.2.2.2.2.2.2.2 (10 + i), ea] at K
  exact va_ldcS hX.hx hX.hb hX.hown (hv.warm hX.warm) hd K
theorem s_ldcSw (hX : Ok X Rp cc "WindGas" nL rt fr lo) (hS : CpS Rp) {index i : Nat} {tx : String} (hi : strT[i]? = some (index, tx)) (hd : decode cc pc = .ok (.ldc_w index, 3)) {k : Nat → Act α} (h : ∀ v, Sim X cv (pc + 3) L (rv v :: st) (k v)) : Sim X cv pc L st (bnd (gst (10 + i)) k) := by
  intro M Z H locs ls rr h1 h2 h3 h4 h5 h6 h7 h8 h9 h10
  obtain ⟨-, q2⟩ := bnd_rdm h1
  obtain ⟨a, ea, hv⟩ := hX.base.2.2.2.2.2.2 i _ hi
  have K := h (M.r (9000 + (10 + i)) 0) M Z H locs ls rr q2 h2 h3 h4 h5 h6 h7 h8 h9 h10
  rw [← hS M Z (hX.hRp ▸ h3) (10 + i), h4.2.2.2.2.2.2.2.2 (10 + i), ea] at K
  obtain ⟨g1, g2⟩ := hv.warm hX.warm
  intro T hT XX
  obtain ⟨t, a1, b1⟩ := K T hT XX
  exact ⟨t, ldcStrW XX hX.hx hX.hown (text := tx) (a := a) g1 g2 (g := F0 X.m pc ls st) rfl (by rw [hX.hb]; exact hd) t a1, b1⟩
theorem s_ldcM (hX : Ok X Rp cc own nL rt fr lo) (hS : CpS Rp) {index : Nat} (q1 : Cond.classLink own index "[Ljava/lang/Object;" ∈ lw_all) (hd : decode cc pc = .ok (.ldc index, 2)) {k : Nat → Act α} (h : ∀ v, Sim X cv (pc + 2) L (rv v :: st) (k v)) : Sim X cv pc L st (bnd (gst 3) k) := by
  intro M Z H locs ls rr h1 h2 h3 h4 h5 h6 h7 h8 h9 h10
  obtain ⟨-, q2⟩ := bnd_rdm h1
  obtain ⟨mi, ea, hv⟩ := hX.base.2.2.2.2.2.1
  have K := h (M.r (9000 + 3) 0) M Z H locs ls rr q2 h2 h3 h4 h5 h6 h7 h8 h9 h10
  rw [← hS M Z (hX.hRp ▸ h3) 3, h4.2.2.2.2.2.2.2.2 3, ea] at K
  exact va_ldcM hX.hx hX.hb hX.hown (hX.hts _ q1) (hv.moved hX.warm.alike) hd K
theorem s_getC (hX : Ok X Rp cc own nL rt fr lo) (hS : CpS Rp) (hC : CpA Rp 4) {x index : Nat} (q1 : Cond.methodLink own index ⟨"java/lang/Object", "getClass", "()Ljava/lang/Class;"⟩ ∈ lw_all) (q2 : Cond.declares ⟨"java/lang/Object", "getClass", "()Ljava/lang/Class;"⟩ ∈ lw_tbl) (q3 : Cond.selects "[Ljava/lang/Object;" ⟨"java/lang/Object", "getClass", "()Ljava/lang/Class;"⟩ ⟨"java/lang/Object", "getClass", "()Ljava/lang/Class;"⟩ ∈ lw_all) (q4 : Cond.instanceMethod ⟨"java/lang/Object", "getClass", "()Ljava/lang/Class;"⟩ ∈ lw_all) (q5 : Cond.native ⟨"java/lang/Object", "getClass", "()Ljava/lang/Class;"⟩ ∈ lw_all)
    (hf1 : 1 ≤ fr) (hl1 : (st.map fun v => v.category).sum + 14 ≤ lo) (hd : decode cc pc = .ok (.invokevirtual index, 3)) {k : Nat → Act α} (h : ∀ v, Sim X cv (pc + 3) L (rv v :: st) (k v)) : Sim X cv pc L (rv x :: st) (bnd (gcl x) k) := by
  intro M Z H locs ls rr h1 h2 h3 h4 h5 h6 h7 h8 h9 h10
  obtain ⟨g1, g2⟩ := bnd_rdm h1
  have g := hC M Z x (hX.hRp ▸ h3) g1
  obtain ⟨a, rfl, hc⟩ := rep_arr h4 (q := 4) (by omega) (by rw [g.1]; exact g1)
  obtain ⟨mi, ea, hv⟩ := hX.base.2.2.2.2.2.1
  have K := h (M.r (9000 + 3) 0) M Z H locs ls rr g2 h2 h3 h4 h5 h6 h7 h8 h9 h10
  rw [← hS M Z (hX.hRp ▸ h3) 3, h4.2.2.2.2.2.2.2.2 3, ea] at K
  refine va_getC hX.hx hX.hb (by rw [hX.hml, h6.1, hX.hnL]) hX.hown (hX.hts _ q1) (va_Nw.use rfl (va_Nw.warmD hX.warm (va_Nw.of rfl (hX.base.1 _ q2)))) (hX.hts _ q3) (hX.hts _ q4) (hX.hts _ q5) (hv.moved hX.warm.alike) ⟨_, hc, rfl, ?_⟩ (by rw [hX.hfr]; exact hf1) (by rw [hX.hlo]; exact hl1) hd K
  exact va_nmO (hX.hK.2 4 _ rfl).2 rfl
theorem s_anew (hX : Ok X Rp cc own nL rt fr lo) {q : Nat} {C : String} (hq : 4 ≤ q) (hq2 : q < 6) (hCc : ∀ w : Wd, (tys_ w)[q]? = some (w.dA q, .object C)) (hC : CpM Rp q) {index : Nat} (q1 : Cond.classLink own index C ∈ lw_all) (q2 : Cond.arrayOver (.object C) ∈ lw_tbl) {n : Int32} (hd : decode cc pc = .ok (.anewarray index, 3)) {k : Nat → Act α} (h : ∀ v, Sim X cv (pc + 3) L (rv v :: st) (k v)) : Sim X cv pc L (.int n :: st) (bnd (newA q n) k) := by
  intro M Z H locs ls rr h1 h2 h3 h4 h5 h6 h7 h8 h9 h10
  obtain ⟨⟨g1, g2⟩, r2⟩ := bnd_wrm h1
  have m2 := (k (M.n + 1)).mono r2
  have m3 : (M.newa q n.toNatClampNeg).n = M.n + 1 ∧ (M.newa q n.toNatClampNeg).sl = M.sl + n.toNatClampNeg := ⟨rfl, rfl⟩
  have hc := hX.hcells
  have hs := hX.hslots
  have hz : H.size = Z.n := h4.2.2.2.1
  refine W.anew hX.hx hX.hb hX.hown (hX.hts _ q1) (va_AO.use (va_AO.moved hX.warm.alike (va_AO.of (hX.base.1 _ q2)))) rfl hd rfl g1 (by omega) (by omega) (by omega) fun cA kA comp f1 f2 f3 f4 => ?_
  generalize hH1 : H.push ({ cls := cA, slots := Array.replicate n.toNatClampNeg .null, vm := .none } : Cell) = H1
  have e2 : H1.size = H.size + 1 := by rw [← hH1, Array.size_push]
  have e1 : H1[H.size]? = some (arrV cA n.toNatClampNeg (fun _ => .null)) := by rw [← hH1, Array.getElem?_push_size, ← arrV_new]
  have e3 : ∀ q : Nat, q < H.size → H1[q]? = H[q]? := fun q hq => by rw [← hH1, Array.getElem?_push, if_neg (Nat.ne_of_lt hq)]
  have ecA : cA = X.w.dA q := by
    have h9 := va_nmO (hX.hK.2 q _ (hCc X.w)).2 rfl
    exact Option.some.inj (f1.symm.trans h9)
  subst ecA
  have hR : Rep0 X.w (Z.newa q n.toNatClampNeg) H1 := by
    refine rep_push h4 (fun c hc => up1_ne _ _ _ hc) rfl ?_ (fun _ => rfl) (fun c hc _ => newa_cell _ _ _ _ hc) ?_ e2 e3
    · rw [show (Z.newa q n.toNatClampNeg).k (Z.n + 1) = 50 + q from up1_eq _ _ _]
      exact ⟨by omega, by omega, by omega⟩
    · rw [arr_cell (M := Z.newa q n.toNatClampNeg) (c := Z.n + 1) (q := q) (by omega) (Or.inl (up1_eq Z.k (Z.n + 1) (50 + q)))]
      show H1[Z.n]? = some (vp_cell _ _)
      have el : (Z.newa q n.toNatClampNeg).len (Z.n + 1) = n.toNatClampNeg := up1_eq _ _ _
      have ea : acont (Z.newa q n.toNatClampNeg) (Z.n + 1) q = .inr (.inr (.inr (.inr (fun _ => none)))) := by
        have e9 : (fun j => dc ((Z.newa q n.toNatClampNeg).ar (Z.n + 1) j)) = fun _ => none := funext fun j => by
          rw [show (Z.newa q n.toNatClampNeg).ar (Z.n + 1) j = 0 from if_pos rfl]; rfl
        unfold acont
        rw [if_neg (by omega), if_pos hq, e9]
      rw [el, ea, vp_cell_q, ← hz]
      exact e1
  have hS1 : va_S X.w.A X.s.heap H1 locs := ⟨Nat.le_trans h5.1 (by omega), fun x h1 h2 => (e3 x (Nat.lt_of_lt_of_le h1 h5.1)).trans (h5.2.1 x h1 h2), h5.2.2⟩
  have K := h (M.n + 1) (M.newa q n.toNatClampNeg) (Z.newa q n.toNatClampNeg) H1 locs ls rr r2 h2 (hX.hRp.symm ▸ hC M Z _ _ _ (hX.hRp ▸ h3) h4) hR hS1 h6 (by omega) (by omega) (show Z.n + 1 = M.n + 1 by omega) (show Z.sl + _ = M.sl + _ by omega)
  rw [m3.1, m3.2] at K
  have e5 : M.n - X.n0 + 1 = M.n + 1 - X.n0 := by omega
  have e6 : M.sl - X.sl0 + n.toNatClampNeg = M.sl + n.toNatClampNeg - X.sl0 := by omega
  rw [e5, e6]
  have e7 : H.size + 1 = M.n + 1 := by omega
  show WX X H1 locs _ _ (F0 X.m (pc + 3) ls (rv (H.size + 1) :: st))
  rw [e7]
  exact K
end JR
