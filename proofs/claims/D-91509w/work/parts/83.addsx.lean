set_option maxRecDepth 100000
def mkLt (M : Mem) (h : Int32) : Mem := (M.newo 8 3).seti (128 * 8 + 0) (M.n + 1) h
/-- a new lot at the end of the list l -/
def NewLt (l : Nat) (h : Int32) (M M' : Mem) : Prop := Ag no no (fun c => c = l) no M M' ∧ M'.k = up1 M.k (M.n + 1) 9 ∧ ((∀ t e, e ≠ M.n + 1 → M'.i t e = M.i t e) ∧ M'.i 1024 (M.n + 1) = h ∧ M'.i 1025 (M.n + 1) = 0 ∧ M'.i 1026 (M.n + 1) = 0) ∧ (M'.ls l = M.ls l ++ [M.n + 1] ∧ ∀ e, e ≠ l → e ≠ M.n + 1 → M'.ls e = M.ls e) ∧ (∀ e, e ≠ l → e ≠ M.n + 1 → M'.cap e = M.cap e) ∧ (M.n + 1 ≤ M'.n ∧ M'.n ≤ M.n + 2 ∧ M'.sl + 4 * M.cap l ≤ M.sl + 63 + 4 * M'.cap l) ∧ Fre M' ∧ GL M'
section
variable {x : Nat} {M : Mem}
theorem mkLt_f (M : Mem) (h : Int32) : (mkLt M h).k = up1 M.k (M.n + 1) 9 ∧ (mkLt M h).ls = up1 M.ls (M.n + 1) [] ∧ (mkLt M h).cap = up1 M.cap (M.n + 1) 0 ∧ (mkLt M h).n = M.n + 1 ∧ (mkLt M h).sl = M.sl + 3 := ⟨rfl, rfl, rfl, rfl, rfl⟩
theorem newLt_ok {l : Nat} {h : Int32} (hf : Fre M) (hg : GL M) (hl : M.k l = 18) (hb : (M.ls l).length ≤ 5000) : NewLt l h M (addM (mkLt M h) l (M.n + 1)) := by
  have nl := ne_new hf (e := l) (by rw [hl]; decide)
  obtain ⟨f1, f2, f3, f4, f5⟩ := mkLt_f M h
  have fa : Ag no no (fun c => c = l) no M (mkLt M h) := (Ag.rf.no).i (Or.inr (Nat.lt_succ_self _))
  have fi : ∀ t e, e ≠ M.n + 1 → (mkLt M h).i t e = M.i t e := fun t e ne => by
    unfold mkLt
    rw [seti_nc _ _ _ _ ne]
    exact if_neg ne
  have fh : (mkLt M h).i 1024 (M.n + 1) = h := seti_eq _ _ _ _
  have fz : ∀ t, t ≠ 1024 → (mkLt M h).i t (M.n + 1) = 0 := fun t ht => by
    unfold mkLt
    rw [seti_ne _ _ _ _ ht]
    exact if_pos rfl
  have fg : GL (mkLt M h) := (hg.no (ci := 8) (N := 3) (by decide)).same rfl rfl rfl
  have ff : Fre (mkLt M h) := (hf.no (ci := 8) (N := 3)).same rfl rfl
  revert f1 f2 f3 f4 f5 fa fi fh fz fg ff
  generalize mkLt M h = M1
  intro f1 f2 f3 f4 f5 fa fi fh fz fg ff
  have kl : M1.k l = 18 := by rw [f1, up1_ne _ _ _ nl]; exact hl
  have ll : M1.ls l = M.ls l := by rw [f2, up1_ne _ _ _ nl]
  have cl : M1.cap l = M.cap l := by rw [f3, up1_ne _ _ _ nl]
  obtain ⟨a1, a2, a3, a4, a5, a6, a7, a8⟩ := addM_k M1 l (M.n + 1)
  obtain ⟨c1, c2, c3, c4⟩ := addM_cost M1 l (M.n + 1) fg kl
  have c6 := (addM_mono M1 l (M.n + 1)).1
  rw [cl] at c2
  refine ⟨fa.add (Or.inl rfl), by rw [a1, f1], ⟨fun t e ne => by rw [a2]; exact fi t e ne, by rw [a2]; exact fh, by rw [a2]; exact fz 1025 (by decide), by rw [a2]; exact fz 1026 (by decide)⟩, ⟨by rw [addM_ls, up1_eq, ll], fun e e1 e2 => by rw [addM_ls, up1_ne _ _ _ e1, f2, up1_ne _ _ _ e2]⟩, fun e e1 e2 => by rw [c3 e e1, f3, up1_ne _ _ _ e2], ⟨by omega, by omega, by omega⟩, ff.add, fg.add (by rw [ll]; exact hb)⟩
/-- behind what comes in: cells, slots -/
def AdF (x s : Nat) (M M' : Mem) : Prop := Ag tkTi no (fun c => c = x + 14 + 2 * s) no M M' ∧ M'.n ≤ M.n + 2 ∧ M'.sl + 4 * (M.cap (x + 14) + M.cap (x + 16)) ≤ M.sl + 63 + 4 * (M'.cap (x + 14) + M'.cap (x + 16))
theorem w_last {l c : Nat} {cs : List Nat} {Q : Nat → Mem → Prop} (h : GL M) (hk : M.k l = 18) (hl : M.ls l = cs ++ [c]) (hq : Q c M) : wp (P_get l (Int32.ofNat (M.ls l).length - 1)) M Q := by
  have hlen : (M.ls l).length = cs.length + 1 := by rw [hl, List.length_append]; rfl
  rw [hlen, i_ap1]
  refine w_get h hk (by omega) ?_
  have e : ∀ (xs : List Nat) (p : cs.length < xs.length), xs = cs ++ [c] → xs[cs.length] = c := fun xs p z => by subst z; simp
  rw [e _ _ hl]
  exact hq
theorem x_adds {s : Nat} {h m f : Int32} {d : Dt} (hB : Bas x M) (hX : IX x M d) (hs : s < 2) (hm : m ≠ 0) (hlen : (d.so s).lots.length ≤ 5000) {Q : Unit → Mem → Prop}
    (hq : ∀ M', Bas x M' → AdF x s M M' → IX x M' (d.set_so (sup d.so s (addSo (d.so s) h m f))) → Q () M') : wp (f_X3_adds (x + 13 + 2 * s) h m f) M Q := by
  have hL := hB.1
  have hg := hB.2.2.1
  have hf := hB.2.1
  have top := hL.top
  obtain ⟨s1, s2, s3⟩ := storeL hL hs
  obtain ⟨a1, a2, a3, a4, a5, a6, a7, a8, a9⟩ := hX.2.2.1.at hs
  have hl := map_len a1
  have lle : x + 14 + 2 * s ≤ M.n := by omega
  unfold f_X3_adds
  -- the last lot has more
  have ph2 : ∀ (N : Mem) (lots : List Tri) (cs : List Nat) (c : Nat) (l' : List Tri) (e : Tri), N.ls (x + 14 + 2 * s) = cs ++ [c] → (N.ls (x + 14 + 2 * s)).map (rdLt N) = l' ++ [e] → (∀ b ∈ N.ls (x + 14 + 2 * s), N.k b = 9) → (N.ls (x + 14 + 2 * s)).Nodup → Ag no no (fun c => c = x + 14 + 2 * s) no M N → (∀ t b, b ≤ M.n → N.i t b = M.i t b) → (∀ b ∈ N.ls (x + 14 + 2 * s), b ∈ M.ls (x + 14 + 2 * s) ∨ M.n < b) → Fre N → GL N → N.n ≤ M.n + 2 → N.sl + 4 * (M.cap (x + 14) + M.cap (x + 16)) ≤ M.sl + 63 + 4 * (N.cap (x + 14) + N.cap (x + 16)) → incL (l' ++ [e]) m f = addL (d.so s).lots h m f →
      wp (bnd (getR 3 0 (x + 13 + 2 * s)) fun v3 => bnd (getR 3 0 (x + 13 + 2 * s)) fun v4 => bnd (gd 17 v4 (nt (P_size v4))) fun v5 => bnd (gd 17 v3 (nt (P_get v3 (v5 - 1)))) fun v6 => bnd (cst [9] v6) fun _ => bnd (getI 8 1 v6) fun v7 => bnd (putI 8 1 v6 (v7 + m)) fun _ => bnd (getI 8 2 v6) fun v8 => bnd (putI 8 2 v6 (v8 + f)) fun _ => bnd (getI 3 4 (x + 13 + 2 * s)) fun v9 => bnd (putI 3 4 (x + 13 + 2 * s) (v9 + m)) fun _ => pur ()) N Q := by
    intro N lots cs c l' e h1 h2 h3 h4 h5 h6 h7 h8 h9 h10 h11 h12
    have hLN : Lay x N := h5.lay hL (fun _ z => z.elim)
    obtain ⟨n1, n2, n3⟩ := storeL hLN hs
    rw [h1, List.map_append] at h2
    have hlc : cs.map (rdLt N) = l' ∧ rdLt N c = e := by
      have := List.append_inj' h2 rfl
      exact ⟨this.1, List.singleton_inj.mp this.2⟩
    have kc : N.k c = 9 := h3 c (by rw [h1]; simp)
    have ncs : c ∉ cs := by
      rw [h1] at h4
      intro z
      exact absurd rfl ((List.nodup_append.mp h4).2.2 c z c (by simp))
    have nst : x + 13 + 2 * s ≠ c := fun z => by rw [z, kc] at n1; exact absurd n1 (by decide)
    have g1 : N.i (128 * 8 + 1) c = e.2.1 := by rw [← hlc.2]; rfl
    have g2 : N.i (128 * 8 + 2) c = e.2.2 := by rw [← hlc.2]; rfl
    have g3 : N.i 1024 c = e.1 := by rw [← hlc.2]; rfl
    have g4 : N.i (128 * 3 + 4) (x + 13 + 2 * s) = (d.so s).grams := by rw [h6 _ _ (by omega)]; exact a7
    refine w_bnd (w_getRv n1 n2 (w_bnd (w_getRv n1 n2 (w_bnd (w_gd n3 (w_nt (w_size h9 n3 (w_bnd (w_gd n3 (w_nt (w_last h9 n3 h1 (w_bnd (w_cst (Or.inr (by rw [kc]; decide)) ?_)))))))))))))
    refine w_bnd (w_getIv kc g1 (w_bnd (w_putI kc (w_bnd (w_getIv (v := e.2.2) (kI kc) ((seti_ne _ _ _ _ (by decide)).trans g2) (w_bnd (w_putI (kI kc) (w_bnd (w_getIv (v := (d.so s).grams) (kI (kI n1)) ((seti_ne _ _ _ _ (by decide)).trans ((seti_ne _ _ _ _ (by decide)).trans g4)) (w_bnd (w_putI (kI (kI n1)) (w_pur ?_))))))))))))
    have fa : Ag tkTi no (fun c => c = x + 14 + 2 * s) no M (((N.seti (128 * 8 + 1) c (e.2.1 + m)).seti (128 * 8 + 2) c (e.2.2 + f)).seti (128 * 3 + 4) (x + 13 + 2 * s) ((d.so s).grams + m)) := (((h5.mono (ti' := tkTi) (fun _ z => z.elim) (fun _ z => z) (fun _ z => z) (fun _ z => z)).i (Or.inl (Or.inl rfl))).i (Or.inl (Or.inr (Or.inl rfl)))).i (Or.inl (Or.inr (Or.inr rfl)))
    have fi : ∀ t b, ¬ (t = 1025 ∧ b = c) → ¬ (t = 1026 ∧ b = c) → ¬ (t = 388 ∧ b = x + 13 + 2 * s) → (((N.seti (128 * 8 + 1) c (e.2.1 + m)).seti (128 * 8 + 2) c (e.2.2 + f)).seti (128 * 3 + 4) (x + 13 + 2 * s) ((d.so s).grams + m)).i t b = N.i t b := fun t b z1 z2 z3 => (i3 z3).trans ((i3 z2).trans (i3 z1))
    have fg : (((N.seti (128 * 8 + 1) c (e.2.1 + m)).seti (128 * 8 + 2) c (e.2.2 + f)).seti (128 * 3 + 4) (x + 13 + 2 * s) ((d.so s).grams + m)).i 1025 c = e.2.1 + m := (seti_ne _ _ _ _ (by decide)).trans ((seti_ne _ _ _ _ (by decide)).trans (seti_eq _ _ _ _))
    have fh : (((N.seti (128 * 8 + 1) c (e.2.1 + m)).seti (128 * 8 + 2) c (e.2.2 + f)).seti (128 * 3 + 4) (x + 13 + 2 * s) ((d.so s).grams + m)).i 1026 c = e.2.2 + f := (seti_ne _ _ _ _ (by decide)).trans (seti_eq _ _ _ _)
    have fs : (((N.seti (128 * 8 + 1) c (e.2.1 + m)).seti (128 * 8 + 2) c (e.2.2 + f)).seti (128 * 3 + 4) (x + 13 + 2 * s) ((d.so s).grams + m)).i 388 (x + 13 + 2 * s) = (d.so s).grams + m := seti_eq _ _ _ _
    have ff : (((N.seti (128 * 8 + 1) c (e.2.1 + m)).seti (128 * 8 + 2) c (e.2.2 + f)).seti (128 * 3 + 4) (x + 13 + 2 * s) ((d.so s).grams + m)).k = N.k ∧ (((N.seti (128 * 8 + 1) c (e.2.1 + m)).seti (128 * 8 + 2) c (e.2.2 + f)).seti (128 * 3 + 4) (x + 13 + 2 * s) ((d.so s).grams + m)).ls = N.ls ∧ (((N.seti (128 * 8 + 1) c (e.2.1 + m)).seti (128 * 8 + 2) c (e.2.2 + f)).seti (128 * 3 + 4) (x + 13 + 2 * s) ((d.so s).grams + m)).cap = N.cap ∧ (((N.seti (128 * 8 + 1) c (e.2.1 + m)).seti (128 * 8 + 2) c (e.2.2 + f)).seti (128 * 3 + 4) (x + 13 + 2 * s) ((d.so s).grams + m)).n = N.n ∧ (((N.seti (128 * 8 + 1) c (e.2.1 + m)).seti (128 * 8 + 2) c (e.2.2 + f)).seti (128 * 3 + 4) (x + 13 + 2 * s) ((d.so s).grams + m)).sl = N.sl ∧ (((N.seti (128 * 8 + 1) c (e.2.1 + m)).seti (128 * 8 + 2) c (e.2.2 + f)).seti (128 * 3 + 4) (x + 13 + 2 * s) ((d.so s).grams + m)).l = N.l := ⟨rfl, rfl, rfl, rfl, rfl, rfl⟩
    revert fa fi fg fh fs ff
    generalize ((N.seti (128 * 8 + 1) c (e.2.1 + m)).seti (128 * 8 + 2) c (e.2.2 + f)).seti (128 * 3 + 4) (x + 13 + 2 * s) ((d.so s).grams + m) = M'
    intro fa fi fg fh fs ff
    obtain ⟨f1, f2, f3, f4, f5, f6⟩ := ff
    have hB' : Bas x M' := ⟨fa.lay hL (fun t z => by unfold tkTi at z; omega), h8.same f1 f4, h9.same f1 f2 f3, hB.2.2.2.ag hf fa⟩
    refine hq M' hB' ⟨fa, by rw [f4]; exact h10, by rw [f5, f3]; exact h11⟩ ?_
    refine hX.cmb hB fa (Or.inl ⟨(by simp only [Dt.st_now, Dt.st_told, Dt.st_stk, Dt.st_troom, Dt.st_thas, Dt.st_so, Dt.st_trips, Dt.st_papers, Dt.st_places, Dt.st_rules, Dt.st_tape, Dt.st_fault, Dt.st_blew, Dt.st_taken, Dt.st_sold, Dt.st_unsold, Dt.st_made, Dt.st_vented, Dt.st_drunk, Dt.st_noRoom, Dt.st_coins, Dt.st_stored, Dt.st_water, Dt.st_running]), fun t z => (by first | exact trivial | exact z.elim | omega | (unfold tkTi at z; omega) | (unfold goA at z; omega)), fun t z => (by first | exact trivial | exact z.elim | omega | (unfold tkTi at z; omega) | (unfold goA at z; omega)), fun c z => (by first | exact trivial | exact z.elim | omega | (unfold tkTi at z; omega) | (unfold goA at z; omega)), fun c z => (by first | exact trivial | exact z.elim | omega | (unfold tkTi at z; omega) | (unfold goA at z; omega))⟩) (Or.inl ⟨(by simp only [Dt.st_now, Dt.st_told, Dt.st_stk, Dt.st_troom, Dt.st_thas, Dt.st_so, Dt.st_trips, Dt.st_papers, Dt.st_places, Dt.st_rules, Dt.st_tape, Dt.st_fault, Dt.st_blew, Dt.st_taken, Dt.st_sold, Dt.st_unsold, Dt.st_made, Dt.st_vented, Dt.st_drunk, Dt.st_noRoom, Dt.st_coins, Dt.st_stored, Dt.st_water, Dt.st_running]), fun t z => (by first | exact trivial | exact z.elim | omega | (unfold tkTi at z; omega) | (unfold goA at z; omega)), fun t z => (by first | exact trivial | exact z.elim | omega | (unfold tkTi at z; omega) | (unfold goA at z; omega)), fun c z => (by first | exact trivial | exact z.elim | omega | (unfold tkTi at z; omega) | (unfold goA at z; omega)), fun c z => (by first | exact trivial | exact z.elim | omega | (unfold tkTi at z; omega) | (unfold goA at z; omega))⟩) (Or.inr ?_) (Or.inl ⟨(by simp only [Dt.st_now, Dt.st_told, Dt.st_stk, Dt.st_troom, Dt.st_thas, Dt.st_so, Dt.st_trips, Dt.st_papers, Dt.st_places, Dt.st_rules, Dt.st_tape, Dt.st_fault, Dt.st_blew, Dt.st_taken, Dt.st_sold, Dt.st_unsold, Dt.st_made, Dt.st_vented, Dt.st_drunk, Dt.st_noRoom, Dt.st_coins, Dt.st_stored, Dt.st_water, Dt.st_running]), fun t z => (by first | exact trivial | exact z.elim | omega | (unfold tkTi at z; omega) | (unfold goA at z; omega)), fun t z => (by first | exact trivial | exact z.elim | omega | (unfold tkTi at z; omega) | (unfold goA at z; omega)), fun c z => (by first | exact trivial | exact z.elim | omega | (unfold tkTi at z; omega) | (unfold goA at z; omega)), fun c z => (by first | exact trivial | exact z.elim | omega | (unfold tkTi at z; omega) | (unfold goA at z; omega))⟩) (Or.inl ⟨(by simp only [Dt.st_now, Dt.st_told, Dt.st_stk, Dt.st_troom, Dt.st_thas, Dt.st_so, Dt.st_trips, Dt.st_papers, Dt.st_places, Dt.st_rules, Dt.st_tape, Dt.st_fault, Dt.st_blew, Dt.st_taken, Dt.st_sold, Dt.st_unsold, Dt.st_made, Dt.st_vented, Dt.st_drunk, Dt.st_noRoom, Dt.st_coins, Dt.st_stored, Dt.st_water, Dt.st_running]), fun t z => (by first | exact trivial | exact z.elim | omega | (unfold tkTi at z; omega) | (unfold goA at z; omega)), fun t z => (by first | exact trivial | exact z.elim | omega | (unfold tkTi at z; omega) | (unfold goA at z; omega)), fun c z => (by first | exact trivial | exact z.elim | omega | (unfold tkTi at z; omega) | (unfold goA at z; omega)), fun c z => (by first | exact trivial | exact z.elim | omega | (unfold tkTi at z; omega) | (unfold goA at z; omega))⟩) (Or.inl ⟨(by simp only [Dt.st_now, Dt.st_told, Dt.st_stk, Dt.st_troom, Dt.st_thas, Dt.st_so, Dt.st_trips, Dt.st_papers, Dt.st_places, Dt.st_rules, Dt.st_tape, Dt.st_fault, Dt.st_blew, Dt.st_taken, Dt.st_sold, Dt.st_unsold, Dt.st_made, Dt.st_vented, Dt.st_drunk, Dt.st_noRoom, Dt.st_coins, Dt.st_stored, Dt.st_water, Dt.st_running]), fun t z => (by first | exact trivial | exact z.elim | omega | (unfold tkTi at z; omega) | (unfold goA at z; omega)), fun t z => (by first | exact trivial | exact z.elim | omega | (unfold tkTi at z; omega) | (unfold goA at z; omega)), fun c z => (by first | exact trivial | exact z.elim | omega | (unfold tkTi at z; omega) | (unfold goA at z; omega)), fun c z => (by first | exact trivial | exact z.elim | omega | (unfold tkTi at z; omega) | (unfold goA at z; omega))⟩) (Or.inl ⟨⟨⟨(by simp only [Dt.st_now, Dt.st_told, Dt.st_stk, Dt.st_troom, Dt.st_thas, Dt.st_so, Dt.st_trips, Dt.st_papers, Dt.st_places, Dt.st_rules, Dt.st_tape, Dt.st_fault, Dt.st_blew, Dt.st_taken, Dt.st_sold, Dt.st_unsold, Dt.st_made, Dt.st_vented, Dt.st_drunk, Dt.st_noRoom, Dt.st_coins, Dt.st_stored, Dt.st_water, Dt.st_running]), (by simp only [Dt.st_now, Dt.st_told, Dt.st_stk, Dt.st_troom, Dt.st_thas, Dt.st_so, Dt.st_trips, Dt.st_papers, Dt.st_places, Dt.st_rules, Dt.st_tape, Dt.st_fault, Dt.st_blew, Dt.st_taken, Dt.st_sold, Dt.st_unsold, Dt.st_made, Dt.st_vented, Dt.st_drunk, Dt.st_noRoom, Dt.st_coins, Dt.st_stored, Dt.st_water, Dt.st_running]), (by simp only [Dt.st_now, Dt.st_told, Dt.st_stk, Dt.st_troom, Dt.st_thas, Dt.st_so, Dt.st_trips, Dt.st_papers, Dt.st_places, Dt.st_rules, Dt.st_tape, Dt.st_fault, Dt.st_blew, Dt.st_taken, Dt.st_sold, Dt.st_unsold, Dt.st_made, Dt.st_vented, Dt.st_drunk, Dt.st_noRoom, Dt.st_coins, Dt.st_stored, Dt.st_water, Dt.st_running])⟩, ⟨(by simp only [Dt.st_now, Dt.st_told, Dt.st_stk, Dt.st_troom, Dt.st_thas, Dt.st_so, Dt.st_trips, Dt.st_papers, Dt.st_places, Dt.st_rules, Dt.st_tape, Dt.st_fault, Dt.st_blew, Dt.st_taken, Dt.st_sold, Dt.st_unsold, Dt.st_made, Dt.st_vented, Dt.st_drunk, Dt.st_noRoom, Dt.st_coins, Dt.st_stored, Dt.st_water, Dt.st_running]), (by simp only [Dt.st_now, Dt.st_told, Dt.st_stk, Dt.st_troom, Dt.st_thas, Dt.st_so, Dt.st_trips, Dt.st_papers, Dt.st_places, Dt.st_rules, Dt.st_tape, Dt.st_fault, Dt.st_blew, Dt.st_taken, Dt.st_sold, Dt.st_unsold, Dt.st_made, Dt.st_vented, Dt.st_drunk, Dt.st_noRoom, Dt.st_coins, Dt.st_stored, Dt.st_water, Dt.st_running]), (by simp only [Dt.st_now, Dt.st_told, Dt.st_stk, Dt.st_troom, Dt.st_thas, Dt.st_so, Dt.st_trips, Dt.st_papers, Dt.st_places, Dt.st_rules, Dt.st_tape, Dt.st_fault, Dt.st_blew, Dt.st_taken, Dt.st_sold, Dt.st_unsold, Dt.st_made, Dt.st_vented, Dt.st_drunk, Dt.st_noRoom, Dt.st_coins, Dt.st_stored, Dt.st_water, Dt.st_running]), (by simp only [Dt.st_now, Dt.st_told, Dt.st_stk, Dt.st_troom, Dt.st_thas, Dt.st_so, Dt.st_trips, Dt.st_papers, Dt.st_places, Dt.st_rules, Dt.st_tape, Dt.st_fault, Dt.st_blew, Dt.st_taken, Dt.st_sold, Dt.st_unsold, Dt.st_made, Dt.st_vented, Dt.st_drunk, Dt.st_noRoom, Dt.st_coins, Dt.st_stored, Dt.st_water, Dt.st_running]), (by simp only [Dt.st_now, Dt.st_told, Dt.st_stk, Dt.st_troom, Dt.st_thas, Dt.st_so, Dt.st_trips, Dt.st_papers, Dt.st_places, Dt.st_rules, Dt.st_tape, Dt.st_fault, Dt.st_blew, Dt.st_taken, Dt.st_sold, Dt.st_unsold, Dt.st_made, Dt.st_vented, Dt.st_drunk, Dt.st_noRoom, Dt.st_coins, Dt.st_stored, Dt.st_water, Dt.st_running]), (by simp only [Dt.st_now, Dt.st_told, Dt.st_stk, Dt.st_troom, Dt.st_thas, Dt.st_so, Dt.st_trips, Dt.st_papers, Dt.st_places, Dt.st_rules, Dt.st_tape, Dt.st_fault, Dt.st_blew, Dt.st_taken, Dt.st_sold, Dt.st_unsold, Dt.st_made, Dt.st_vented, Dt.st_drunk, Dt.st_noRoom, Dt.st_coins, Dt.st_stored, Dt.st_water, Dt.st_running]), (by simp only [Dt.st_now, Dt.st_told, Dt.st_stk, Dt.st_troom, Dt.st_thas, Dt.st_so, Dt.st_trips, Dt.st_papers, Dt.st_places, Dt.st_rules, Dt.st_tape, Dt.st_fault, Dt.st_blew, Dt.st_taken, Dt.st_sold, Dt.st_unsold, Dt.st_made, Dt.st_vented, Dt.st_drunk, Dt.st_noRoom, Dt.st_coins, Dt.st_stored, Dt.st_water, Dt.st_running]), (by simp only [Dt.st_now, Dt.st_told, Dt.st_stk, Dt.st_troom, Dt.st_thas, Dt.st_so, Dt.st_trips, Dt.st_papers, Dt.st_places, Dt.st_rules, Dt.st_tape, Dt.st_fault, Dt.st_blew, Dt.st_taken, Dt.st_sold, Dt.st_unsold, Dt.st_made, Dt.st_vented, Dt.st_drunk, Dt.st_noRoom, Dt.st_coins, Dt.st_stored, Dt.st_water, Dt.st_running]), (by simp only [Dt.st_now, Dt.st_told, Dt.st_stk, Dt.st_troom, Dt.st_thas, Dt.st_so, Dt.st_trips, Dt.st_papers, Dt.st_places, Dt.st_rules, Dt.st_tape, Dt.st_fault, Dt.st_blew, Dt.st_taken, Dt.st_sold, Dt.st_unsold, Dt.st_made, Dt.st_vented, Dt.st_drunk, Dt.st_noRoom, Dt.st_coins, Dt.st_stored, Dt.st_water, Dt.st_running])⟩, (by simp only [Dt.st_now, Dt.st_told, Dt.st_stk, Dt.st_troom, Dt.st_thas, Dt.st_so, Dt.st_trips, Dt.st_papers, Dt.st_places, Dt.st_rules, Dt.st_tape, Dt.st_fault, Dt.st_blew, Dt.st_taken, Dt.st_sold, Dt.st_unsold, Dt.st_made, Dt.st_vented, Dt.st_drunk, Dt.st_noRoom, Dt.st_coins, Dt.st_stored, Dt.st_water, Dt.st_running]), (by simp only [Dt.st_now, Dt.st_told, Dt.st_stk, Dt.st_troom, Dt.st_thas, Dt.st_so, Dt.st_trips, Dt.st_papers, Dt.st_places, Dt.st_rules, Dt.st_tape, Dt.st_fault, Dt.st_blew, Dt.st_taken, Dt.st_sold, Dt.st_unsold, Dt.st_made, Dt.st_vented, Dt.st_drunk, Dt.st_noRoom, Dt.st_coins, Dt.st_stored, Dt.st_water, Dt.st_running]), (by simp only [Dt.st_now, Dt.st_told, Dt.st_stk, Dt.st_troom, Dt.st_thas, Dt.st_so, Dt.st_trips, Dt.st_papers, Dt.st_places, Dt.st_rules, Dt.st_tape, Dt.st_fault, Dt.st_blew, Dt.st_taken, Dt.st_sold, Dt.st_unsold, Dt.st_made, Dt.st_vented, Dt.st_drunk, Dt.st_noRoom, Dt.st_coins, Dt.st_stored, Dt.st_water, Dt.st_running]), (by simp only [Dt.st_now, Dt.st_told, Dt.st_stk, Dt.st_troom, Dt.st_thas, Dt.st_so, Dt.st_trips, Dt.st_papers, Dt.st_places, Dt.st_rules, Dt.st_tape, Dt.st_fault, Dt.st_blew, Dt.st_taken, Dt.st_sold, Dt.st_unsold, Dt.st_made, Dt.st_vented, Dt.st_drunk, Dt.st_noRoom, Dt.st_coins, Dt.st_stored, Dt.st_water, Dt.st_running]), (by simp only [Dt.st_now, Dt.st_told, Dt.st_stk, Dt.st_troom, Dt.st_thas, Dt.st_so, Dt.st_trips, Dt.st_papers, Dt.st_places, Dt.st_rules, Dt.st_tape, Dt.st_fault, Dt.st_blew, Dt.st_taken, Dt.st_sold, Dt.st_unsold, Dt.st_made, Dt.st_vented, Dt.st_drunk, Dt.st_noRoom, Dt.st_coins, Dt.st_stored, Dt.st_water, Dt.st_running])⟩, fun t z => (by first | exact trivial | exact z.elim | omega | (unfold tkTi at z; omega) | (unfold goA at z; omega)), fun t z => (by first | exact trivial | exact z.elim | omega | (unfold tkTi at z; omega) | (unfold goA at z; omega)), fun c z => (by first | exact trivial | exact z.elim | omega | (unfold tkTi at z; omega) | (unfold goA at z; omega)), fun c z => (by first | exact trivial | exact z.elim | omega | (unfold tkTi at z; omega) | (unfold goA at z; omega))⟩) (Or.inl ⟨(by simp only [Dt.st_now, Dt.st_told, Dt.st_stk, Dt.st_troom, Dt.st_thas, Dt.st_so, Dt.st_trips, Dt.st_papers, Dt.st_places, Dt.st_rules, Dt.st_tape, Dt.st_fault, Dt.st_blew, Dt.st_taken, Dt.st_sold, Dt.st_unsold, Dt.st_made, Dt.st_vented, Dt.st_drunk, Dt.st_noRoom, Dt.st_coins, Dt.st_stored, Dt.st_water, Dt.st_running]), fun t z => (by first | exact trivial | exact z.elim | omega | (unfold tkTi at z; omega) | (unfold goA at z; omega)), fun t z => (by first | exact trivial | exact z.elim | omega | (unfold tkTi at z; omega) | (unfold goA at z; omega)), fun c z => (by first | exact trivial | exact z.elim | omega | (unfold tkTi at z; omega) | (unfold goA at z; omega)), fun c z => (by first | exact trivial | exact z.elim | omega | (unfold tkTi at z; omega) | (unfold goA at z; omega))⟩)
    simp only [Dt.st_so]
    -- a cell of the other store is none of these
    have oth : ∀ j, j < 2 → j ≠ s → N.ls (x + 14 + 2 * j) = M.ls (x + 14 + 2 * j) := fun j hj hjs => (h5.2.2.2.2.2.1 _ (by omega) (by omega)).1
    have cM : ∀ j, j < 2 → j ≠ s → ∀ b ∈ M.ls (x + 14 + 2 * j), b ≤ M.n ∧ b ≠ c := fun j hj hjs b hb => by
      have kb := (hX.2.2.1.at hj).2.1 b hb
      have lb := hf.le (c := b) (by rw [kb]; decide)
      refine ⟨lb, fun z => ?_⟩
      rcases h7 c (by rw [h1]; simp) with y | y
      · exact hX.2.2.1.disj hs hj hjs b hb (z ▸ y)
      · omega
    have st_i : ∀ t j, j < 2 → ¬ (t = 388 ∧ j = s) → M'.i t (x + 13 + 2 * j) = M.i t (x + 13 + 2 * j) := fun t j hj z => by
      have nj : x + 13 + 2 * j ≠ c := fun y => by
        have := (storeL hLN hj).1
        rw [y, kc] at this
        exact absurd this (by decide)
      rw [fi t _ (fun y => nj y.2) (fun y => nj y.2) (by omega), h6 t _ (by omega)]
    have st_l : ∀ t j, j < 2 → M'.l t (x + 13 + 2 * j) = M.l t (x + 13 + 2 * j) := fun t j hj => fa.2.2.2.2.1 t _ (by omega) (fun z => z)
    refine XG.of (fun j hj => ?_) (fun b b1 b2 => ?_)
    · by_cases ej : j = s
      · subst ej
        rw [sup_eq]
        have e1 : (M'.ls (x + 14 + 2 * j)).map (rdLt M') = addL (d.so j).lots h m f := by
          rw [f2, h1, ← h12, incL_c, List.map_append, ← hlc.1]
          congr 1
          · refine map_same (fun b hb => ?_)
            have nb : b ≠ c := fun z => ncs (z ▸ hb)
            have n3 : b ≠ x + 13 + 2 * j := fun z => by
              have := h3 b (by rw [h1]; exact List.mem_append_left _ hb)
              rw [z, n1] at this
              exact absurd this (by decide)
            unfold rdLt
            rw [fi _ _ (fun y => nb y.2) (fun y => nb y.2) (fun y => n3 y.2), fi _ _ (fun y => nb y.2) (fun y => nb y.2) (fun y => n3 y.2), fi _ _ (fun y => nb y.2) (fun y => nb y.2) (fun y => n3 y.2)]
          · show [rdLt M' c] = _
            unfold rdLt
            rw [fg, fh, fi 1024 c (by omega) (by omega) (by omega), g3]
        refine ⟨e1, by rw [f2, f1]; exact h3, by rw [f2]; exact h4, ?_, ?_, ?_, ?_, ?_, ?_⟩
        · rw [st_i 385 j hj (by omega)]; exact a4
        · rw [st_i 386 j hj (by omega)]; exact a5
        · rw [st_i 387 j hj (by omega)]; exact a6
        · rw [fs]; rfl
        · rw [st_l 391 j hj]; exact a8
        · rw [st_l 392 j hj]; exact a9
      · rw [sup_ne ej]
        obtain ⟨b1, b2, b3, b4, b5, b6, b7, b8, b9⟩ := hX.2.2.1.at hj
        unfold XG1
        rw [f2, oth j hj ej, f1, st_i 385 j hj (by omega), st_i 386 j hj (by omega), st_i 387 j hj (by omega), st_i 388 j hj (by omega), st_l 391 j hj, st_l 392 j hj]
        refine ⟨?_, fun b hb => ?_, b3, b4, b5, b6, b7, b8, b9⟩
        · rw [← b1]
          refine map_same (fun b hb => ?_)
          obtain ⟨lb, nb⟩ := cM j hj ej b hb
          have n3 : b ≠ x + 13 + 2 * s := fun z => by
            have := b2 b hb
            rw [z, s1] at this
            exact absurd this (by decide)
          unfold rdLt
          rw [fi _ _ (fun y => nb y.2) (fun y => nb y.2) (fun y => n3 y.2), fi _ _ (fun y => nb y.2) (fun y => nb y.2) (fun y => n3 y.2), fi _ _ (fun y => nb y.2) (fun y => nb y.2) (fun y => n3 y.2), h6 _ b lb, h6 _ b lb, h6 _ b lb]
        · rw [(h5.2.1 b (cM j hj ej b hb).1).1]; exact b2 b hb
    · rw [f2] at b1 b2
      rcases (by omega : s = 0 ∨ s = 1) with e0 | e0
      · subst e0
        have h16 : b ∈ M.ls (x + 16) := by rw [← oth 1 (by decide) (by decide)]; exact b2
        rcases h7 b b1 with y | y
        · exact hX.2.2.1.2.2 b y h16
        · have := (cM 1 (by decide) (by decide) b h16).1
          omega
      · subst e0
        have h14 : b ∈ M.ls (x + 14) := by rw [← oth 0 (by decide) (by decide)]; exact b1
        rcases h7 b b2 with y | y
        · exact hX.2.2.1.2.2 b h14 y
        · have := (cM 0 (by decide) (by decide) b h14).1
          omega
  -- a new lot
  have ph1 : (∀ lots', addL (d.so s).lots h m f = incL lots' m f → lots' = (d.so s).lots ++ [(h, 0, 0)] → True) → addL (d.so s).lots h m f = incL ((d.so s).lots ++ [(h, 0, 0)]) m f →
      wp (bnd (getR 3 0 (x + 13 + 2 * s)) fun v10 => bnd (newO 8 3) fun v11 => bnd (gd 8 v11 (nt (f_X8_init v11 h))) fun _ => bnd (gd 17 v10 (nt (P_add v10 v11))) fun v12 => (bnd (getR 3 0 (x + 13 + 2 * s)) fun v3 => bnd (getR 3 0 (x + 13 + 2 * s)) fun v4 => bnd (gd 17 v4 (nt (P_size v4))) fun v5 => bnd (gd 17 v3 (nt (P_get v3 (v5 - 1)))) fun v6 => bnd (cst [9] v6) fun _ => bnd (getI 8 1 v6) fun v7 => bnd (putI 8 1 v6 (v7 + m)) fun _ => bnd (getI 8 2 v6) fun v8 => bnd (putI 8 2 v6 (v8 + f)) fun _ => bnd (getI 3 4 (x + 13 + 2 * s)) fun v9 => bnd (putI 3 4 (x + 13 + 2 * s) (v9 + m)) fun _ => pur ())) M Q := by
    intro _ he
    have k9 : (M.newo 8 3).k (M.n + 1) = 9 := up1_eq _ _ _
    refine w_bnd (w_getRv s1 s2 (w_bnd (w_newO (w_bnd (w_gd k9 (w_nt ?_))))))
    unfold f_X8_init
    refine w_nn (Nat.succ_ne_zero _) (w_bnd (w_putI k9 (w_pur ?_)))
    have nl := ne_new hf (e := x + 14 + 2 * s) (by rw [s3]; decide)
    have k18 : (mkLt M h).k (x + 14 + 2 * s) = 18 := by rw [(mkLt_f _ _).1, up1_ne _ _ _ nl]; exact s3
    have gk : GL (mkLt M h) := (hg.no (ci := 8) (N := 3) (by decide)).same rfl rfl rfl
    have kk : (mkLt M h).k (M.n + 1) ∈ ksO := by rw [(mkLt_f _ _).1, up1_eq]; decide
    have NL := newLt_ok (h := h) hf hg s3 (by omega)
    refine w_bnd (w_gd (M := mkLt M h) k18 (w_nt (w_add (M := mkLt M h) gk k18 kk ?_)))
    revert NL
    generalize addM (mkLt M h) (x + 14 + 2 * s) (M.n + 1) = N
    intro NL
    obtain ⟨na, nk, ⟨ni, nh, n5, n6⟩, ⟨nls, nlo⟩, ncap, ⟨nn1, nn2, nsl⟩, nf, ng⟩ := NL
    have inl : ∀ b ∈ M.ls (x + 14 + 2 * s), b ≠ M.n + 1 := fun b hb => ne_new hf (by rw [a2 b hb]; decide)
    refine ph2 N [] (M.ls (x + 14 + 2 * s)) (M.n + 1) (d.so s).lots (h, 0, 0) nls ?_ ?_ ?_ na (fun t b hb => ni t b (by omega)) ?_ nf ng nn2 ?_ he.symm
    · rw [nls, List.map_append, ← a1]
      congr 1
      · refine map_same (fun b hb => ?_)
        unfold rdLt
        rw [ni _ _ (inl b hb), ni _ _ (inl b hb), ni _ _ (inl b hb)]
      · show [rdLt N (M.n + 1)] = _
        unfold rdLt
        rw [nh, n5, n6]
    · rw [nls, nk]
      intro b hb
      rcases List.mem_append.mp hb with z | z
      · rw [up1_ne _ _ _ (inl b z)]; exact a2 b z
      · rw [List.mem_singleton.mp z, up1_eq]
    · rw [nls]
      refine List.nodup_append.mpr ⟨a3, by simp, fun b hb c hc => ?_⟩
      rw [List.mem_singleton.mp hc]
      exact inl b hb
    · rw [nls]
      intro b hb
      rcases List.mem_append.mp hb with z | z
      · exact Or.inl z
      · rw [List.mem_singleton.mp z]; exact Or.inr (Nat.lt_succ_self _)
    · have oc : ∀ j, j < 2 → j ≠ s → N.cap (x + 14 + 2 * j) = M.cap (x + 14 + 2 * j) := fun j hj hjs => ncap _ (by omega) (by omega)
      rcases (by omega : s = 0 ∨ s = 1) with e0 | e0
      · subst e0
        have := oc 1 (by decide) (by decide)
        have h14 : M.cap (x + 14 + 2 * 0) = M.cap (x + 14) := rfl
        have h14' : N.cap (x + 14 + 2 * 0) = N.cap (x + 14) := rfl
        have h16 : N.cap (x + 16) = M.cap (x + 16) := this
        rw [h14, h14'] at nsl
        omega
      · subst e0
        have := oc 0 (by decide) (by decide)
        have h16 : M.cap (x + 14 + 2 * 1) = M.cap (x + 16) := rfl
        have h16' : N.cap (x + 14 + 2 * 1) = N.cap (x + 16) := rfl
        have h14 : N.cap (x + 14) = M.cap (x + 14) := this
        rw [h16, h16'] at nsl
        omega
  refine w_t hm (w_bnd (w_getRv s1 s2 (w_bnd (w_gd s3 (w_nt (w_isEmpty hg s3 (w_jn (w_jn ?_))))))))
  rcases nil_app (d.so s).lots with hnil | ⟨l', e, hne⟩
  · have h0 : (M.ls (x + 14 + 2 * s)).length = 0 := by rw [hl, hnil]; rfl
    rw [if_pos h0]
    refine w_t (by decide) (ph1 (fun _ _ _ => trivial) ?_)
    unfold addL
    rw [if_neg hm, hnil]
    rfl
  · have h0 : ¬ (M.ls (x + 14 + 2 * s)).length = 0 := by rw [hl, hne, List.length_append, List.length_singleton]; omega
    rw [if_neg h0]
    rcases nil_app (M.ls (x + 14 + 2 * s)) with hz | ⟨cs, c, hcs⟩
    · exact absurd (by rw [hz]; rfl) h0
    have hmp := a1
    rw [hcs, hne, List.map_append] at hmp
    have hlc := List.append_inj' hmp rfl
    have ec : rdLt M c = e := List.singleton_inj.mp hlc.2
    have kc := a2 c (by rw [hcs]; simp)
    have e24 : M.i (128 * 8 + 0) c = e.1 := by rw [← ec]; rfl
    refine w_f (fun z => z rfl) (w_bnd (w_getRv s1 s2 (w_bnd (w_getRv s1 s2 (w_bnd (w_gd s3 (w_nt (w_size hg s3 (w_bnd (w_gd s3 (w_nt (w_last hg s3 hcs (w_bnd (w_cst (Or.inr (by rw [kc]; decide)) (w_bnd (w_getIv kc e24 ?_))))))))))))))))
    refine w_ite (fun z => ?_) (fun z => ?_)
    · refine ph2 M [] cs c l' e hcs (by rw [a1, hne]) a2 a3 Ag.rf (fun _ _ _ => rfl) (fun b hb => Or.inl hb) hf hg (by omega) (by omega) ?_
      unfold addL
      rw [if_neg hm, hne, ensL_c, if_pos z]
    · refine ph1 (fun _ _ _ => trivial) ?_
      unfold addL
      rw [if_neg hm, hne, ensL_c, if_neg z]
end
