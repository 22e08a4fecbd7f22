set_option maxRecDepth 100000
theorem W.mono {p : Program} {l : Launch} {e : Env} {R : Room} {s : State} {m : MethodId} {args : Array Value} {below : List Frame} {meth : Method} {c : Code} {H : Heap} {locs : List Loc} {cells slots : Nat} {Q Q' : State → Prop} {g : JFrame} (h : ∀ t, Q t → Q' t) (k : W p l e R s m args below meth c H locs cells slots Q g) : W p l e R s m args below meth c H locs cells slots Q' g := by
  intro T hT X
  obtain ⟨t, a, b⟩ := k T hT X
  exact ⟨t, a, h t b⟩
section BW
variable {p : Program} {l : Launch} {e : Env} {R : Room} {s : State} {m : MethodId} {args : Array Value} {below : List Frame} {meth : Method} {c : Code} {H : Heap} {locs : List Loc} {cells slots : Nat} {Q : State → Prop} {cc : ByteArray} {pc : Nat} {ls : Array Slot} {rest : List Value} {w : Wd} {M : Mem}
/-- a field is read -/
theorem b_get (hexec : p.tables.exec = Jvm.exec) (hb : c.code = cc) (hts : ∀ w ∈ lw_all, w.before args s = true) (hK : va_K w.G cl_ (tys_ w) s) {own : String} (hown : s.vm.findClass own = some m.cls) (hR : Rep0 w M H) {ci x j index : Nat} {ref : String} (hci : ci < 20) (hj : j < NN ci) (hok : okr ci x M)
    (hin : ∀ w ∈ u_ws (RR ci) (TT ci) (NN ci), w ∈ lw_all) (hlink : (Cond.fieldLink own index ref (TT ci j).2.1 (TT ci j).2.2.1).before args s = true ∨ ∃ host, (Cond.fieldLinkNest own index ref (TT ci j).2.1 (TT ci j).2.2.1 host).before args s = true) (hsame : ∀ y, s.fieldFound? (TT ci j).1 (TT ci j).2.1 (TT ci j).2.2.1 = some y → s.fieldFound? ref (TT ci j).2.1 (TT ci j).2.2.1 = some y) (hdg : decode cc pc = .ok (.getfield index, 3))
    (kk : W p l e R s m args below meth c H locs cells slots Q (F0 m (pc + 3) ls (fval M ci x j :: rest))) : W p l e R s m args below meth c H locs cells slots Q (F0 m pc ls (rv x :: rest)) := by
  obtain ⟨a, rfl, hO⟩ := rep_obj hR hci hok
  have hP : va_P w.G cl_ [(a, .inr (ci, fvals M ci (a + 1)))] H := by
    intro k q hq
    have hz : k < 1 := (List.getElem?_eq_some_iff.mp hq).1
    rw [show k = 0 by omega] at hq
    cases hq
    exact ⟨_, cl_at ci hci, hO.to (fun k hk => (vpV_at M ci (a + 1) hk).symm)⟩
  rcases hlink with hlink | ⟨host, hlink⟩
  · exact va_get hexec hb hts hin hown hK hP 0 rfl (cl_at ci hci) j hj hlink hsame (fvals_at M ci (a + 1) hj) hdg kk
  · exact va_getN hexec hb hts hin hown hK hP 0 rfl (cl_at ci hci) j hj hlink hsame (fvals_at M ci (a + 1) hj) hdg kk
/-- a field is written -/
theorem b_put (hexec : p.tables.exec = Jvm.exec) (hb : c.code = cc) (hts : ∀ w ∈ lw_all, w.before args s = true) (hK : va_K w.G cl_ (tys_ w) s) {own : String} (hown : s.vm.findClass own = some m.cls) (hR : Rep0 w M H) (hS0 : va_S w.A s.heap H locs) {ci x j index : Nat} {ref : String} (hci : ci < 20) (hj : j < NN ci) (hok : okw ci x M)
    (hin : ∀ w ∈ u_ws (RR ci) (TT ci) (NN ci), w ∈ lw_all) (hty : ∀ k, k < NN ci → parseFieldDescriptor (TT ci k).2.2.1 = some (TY ci k)) (hnm : ∀ a, a < NN ci → ∀ b, b < NN ci → a ≠ b → (TT ci a).2.1 ≠ (TT ci b).2.1)
    (hlink : (Cond.fieldLink own index ref (TT ci j).2.1 (TT ci j).2.2.1).before args s = true ∨ ∃ host, (Cond.fieldLinkNest own index ref (TT ci j).2.1 (TT ci j).2.2.1 host).before args s = true) (hsame : ∀ y, s.fieldFound? (TT ci j).1 (TT ci j).2.1 (TT ci j).2.2.1 = some y → s.fieldFound? ref (TT ci j).2.1 (TT ci j).2.2.1 = some y) (hfin : (TT ci j).2.2.2 = false)
    {v : Value} (hn : narrow (TY ci j) v = v) (hfit : fits (TY ci j) v = true) (hdg : decode cc pc = .ok (.putfield index, 3))
    (kk : ∀ (H1 : Heap) (locs1 : List Loc), (∀ a, x = a + 1 → t_OB a (w.G.1 ci) (NN ci) (w.G.2 ci) H1 (fun k => if k = j then v else fval M ci x k) ∧ H1.size = H.size ∧ ∀ q, q ≠ a → H1[q]? = H[q]?) → va_S w.A s.heap H1 locs1 → W p l e R s m args below meth c H1 locs1 cells slots Q (F0 m (pc + 3) ls rest)) : W p l e R s m args below meth c H locs cells slots Q (F0 m pc ls (v :: rv x :: rest)) := by
  obtain ⟨a, rfl, hO⟩ := rep_obj hR hci (Or.inl hok)
  have hA : w.A a := hR.2.2.1 a ⟨by rw [hok]; omega, by rw [hok]; omega, by rw [hok]; omega⟩
  have hap := va_apart (own := own) hts hin (TY ci) hty hnm hK (cl_at ci hci)
  obtain ⟨cell, q1, q2, q3, q4⟩ := hO
  obtain ⟨hS, hfc, kC, hkC, hkind⟩ := hK.1 ci _ (cl_at ci hci)
  obtain ⟨cf, kf, fi, f, hi, hsl⟩ := hS j hj
  have hlay := hts _ (hin _ (u_in_lay hj))
  unfold u_lay at hlay
  rw [if_neg (by rw [hfin]; decide)] at hlay
  have hst := (u_facts hfc hkC (u_lays hts hin hj) hi).1
  have h6 := u_store hfc hkC hkind hlay hi (hty j hj) hn hfit
  have fin : ∀ H' : Heap, H'[a]? = some (cell.setSlot f.slot v) → H'.size = H.size → (∀ q, q ≠ a → H'[q]? = H[q]?) → W p l e R s m args below meth c H' (locs ++ [⟨a, f.slot⟩]) cells slots Q (F0 m (pc + 3) ls rest) := by
    intro H' e1 e2 e3
    rw [hsl] at e1 ⊢
    refine kk H' _ (fun a' ha' => ?_) (hS0.put e2 e3 hA)
    cases ha'
    refine ⟨t_OB.to (V := updV (fval M ci (a + 1)) j v) ⟨_, e1, q2, q3, t_set q4 hap hj v⟩ (fun k _ => rfl), e2, e3⟩
  rcases hlink with hlink | ⟨host, hlink⟩
  · exact W.putK hexec hb (f := f) ⟨hown, hlink, ⟨_, _, _, hsame _ hi⟩, hst⟩ (by rw [q2]; exact h6) q1 q3 (by rw [hsl]; exact k2_hasslot (q4 j hj)) rfl rfl hdg fin
  · exact va_WputK hexec hb (f := f) hown hlink (hsame _ hi) hst (by rw [q2]; exact h6) q1 q3 (by rw [hsl]; exact k2_hasslot (q4 j hj)) rfl rfl hdg fin
/-- a final field is written in the constructor of its class -/
theorem b_putF (hexec : p.tables.exec = Jvm.exec) (hb : c.code = cc) (hts : ∀ w ∈ lw_all, w.before args s = true) (hK : va_K w.G cl_ (tys_ w) s) {own : String} (hown : s.vm.findClass own = some m.cls) (hR : Rep0 w M H) (hS0 : va_S w.A s.heap H locs) {ci x j index : Nat} {ref : String} (hci : ci < 20) (hj : j < NN ci) (hok : okw ci x M)
    (hin : ∀ w ∈ u_ws (RR ci) (TT ci) (NN ci), w ∈ lw_all) (hty : ∀ k, k < NN ci → parseFieldDescriptor (TT ci k).2.2.1 = some (TY ci k)) (hnm : ∀ a, a < NN ci → ∀ b, b < NN ci → a ≠ b → (TT ci a).2.1 ≠ (TT ci b).2.1)
    (hlink : (Cond.fieldLink own index ref (TT ci j).2.1 (TT ci j).2.2.1).before args s = true) (hsame : ∀ y, s.fieldFound? (TT ci j).1 (TT ci j).2.1 (TT ci j).2.2.1 = some y → s.fieldFound? ref (TT ci j).2.1 (TT ci j).2.2.1 = some y) (hfin : (TT ci j).2.2.2 = true) (hin2 : meth.name = "<init>") (hdecl : (TT ci j).1 = own)
    {v : Value} (hn : narrow (TY ci j) v = v) (hfit : fits (TY ci j) v = true) (hdg : decode cc pc = .ok (.putfield index, 3))
    (kk : ∀ (H1 : Heap) (locs1 : List Loc), (∀ a, x = a + 1 → t_OB a (w.G.1 ci) (NN ci) (w.G.2 ci) H1 (fun k => if k = j then v else fval M ci x k) ∧ H1.size = H.size ∧ ∀ q, q ≠ a → H1[q]? = H[q]?) → va_S w.A s.heap H1 locs1 → W p l e R s m args below meth c H1 locs1 cells slots Q (F0 m (pc + 3) ls rest)) : W p l e R s m args below meth c H locs cells slots Q (F0 m pc ls (v :: rv x :: rest)) := by
  obtain ⟨a, rfl, hO⟩ := rep_obj hR hci (Or.inl hok)
  have hA : w.A a := hR.2.2.1 a ⟨by rw [hok]; omega, by rw [hok]; omega, by rw [hok]; omega⟩
  have hap := va_apart (own := own) hts hin (TY ci) hty hnm hK (cl_at ci hci)
  obtain ⟨cell, q1, q2, q3, q4⟩ := hO
  obtain ⟨hS, hfc, kC, hkC, hkind⟩ := hK.1 ci _ (cl_at ci hci)
  obtain ⟨cf, kf, fi, f, hi, hsl⟩ := hS j hj
  have hlay := hts _ (hin _ (u_in_lay hj))
  unfold u_lay at hlay
  rw [if_pos hfin] at hlay
  have hst := (u_facts hfc hkC (u_lays hts hin hj) hi).1
  have hcf : m.cls = cf := by
    obtain ⟨_, _, c', _, _, _, -, -, hf', -, -, -, hown2, -⟩ := Cond.laysFinal_spec hlay
    have e1 : c' = cf := by have := hi.symm.trans hf'; simp at this; exact this.1.symm
    rw [hdecl] at hown2
    rw [← e1]; exact Option.some.inj (hown.symm.trans hown2)
  have h6 := u_fits hfc hkC hkind (Or.inr hlay) hi (hty j hj) hn hfit
  refine W.putFinK hexec hb hown hlink (hsame _ hi) hst hcf hin2 (by rw [q2]; exact h6) q1 q3 (by rw [hsl]; exact k2_hasslot (q4 j hj)) rfl rfl hdg fun H' e1 e2 e3 => ?_
  rw [hsl] at e1 ⊢
  refine kk H' _ (fun a' ha' => ?_) (hS0.put e2 e3 hA)
  cases ha'
  exact ⟨t_OB.to (V := updV (fval M ci (a + 1)) j v) ⟨_, e1, q2, q3, t_set q4 hap hj v⟩ (fun k _ => rfl), e2, e3⟩
/-- a new object -/
theorem b_new (hexec : p.tables.exec = Jvm.exec) (hb : c.code = cc) (hts : ∀ w ∈ lw_all, w.before args s = true) (hK : va_K w.G cl_ (tys_ w) s) {own : String} (hown : s.vm.findClass own = some m.cls) (hR : Rep0 w M H) (hS : va_S w.A s.heap H locs) {ci index : Nat} (hci : ci < 20)
    (hin : ∀ w ∈ u_ws (RR ci) (TT ci) (NN ci), w ∈ lw_all) (hty : ∀ k, k < NN ci → parseFieldDescriptor (TT ci k).2.2.1 = some (TY ci k)) (hcl : (Cond.classLink own index (RR ci)).before args s = true) (hinst : (Cond.instantiable (RR ci) (NN ci)).before args s = true) (hini : (Cond.initialized (RR ci)).before args s = true) (hcells : cells + 1 ≤ R.cells) (hslots : slots + NN ci ≤ R.slots) (hdg : decode cc pc = .ok (.new index, 3))
    (kk : ∀ (H1 : Heap), t_OB H.size (w.G.1 ci) (NN ci) (w.G.2 ci) H1 (fun k => defaultValue (TY ci k)) → H1.size = H.size + 1 → (∀ q, q < H.size → H1[q]? = H[q]?) → va_S w.A s.heap H1 locs → W p l e R s m args below meth c H1 locs (cells + 1) (slots + NN ci) Q (F0 m (pc + 3) ls (.ref H.size :: rest))) : W p l e R s m args below meth c H locs cells slots Q (F0 m pc ls rest) := by
  have hKn := hK.1 ci _ (cl_at ci hci)
  refine W.newcK hexec hb hown hcl hinst hini rfl hdg hcells hslots hKn.2.1 rfl fun H1 kC hkC e1 z1 o1 => ?_
  exact kk H1 (u_born (TY ci) hts hin hKn hkC e1 hty) z1 o1 ⟨Nat.le_trans hS.1 (by omega), fun x h1 h2 => (o1 x (Nat.lt_of_lt_of_le h1 hS.1)).trans (hS.2.1 x h1 h2), hS.2.2⟩
end BW
