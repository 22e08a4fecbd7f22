set_option maxRecDepth 100000
/-! ===== a new record of three numbers at the end of a list ===== -/
def mk3 (M : Mem) (ci : Nat) (a b c : Int32) : Mem := (((M.newo ci 3).seti (128 * ci + 0) (M.n + 1) a).seti (128 * ci + 1) (M.n + 1) b).seti (128 * ci + 2) (M.n + 1) c
def new3 (M : Mem) (ci l : Nat) (a b c : Int32) : Mem := addM (mk3 M ci a b c) l (M.n + 1)
def rd3 (M : Mem) (ci c : Nat) : Tri := (M.i (128 * ci + 0) c, M.i (128 * ci + 1) c, M.i (128 * ci + 2) c)
def X3 (ci l : Nat) (M : Mem) (L : List Tri) : Prop := (M.ls l).map (rd3 M ci) = L ∧ ∀ c ∈ M.ls l, M.k c = ci + 1
section
variable {x ci l : Nat} {M : Mem} {a b c : Int32} {L : List Tri}
theorem mk3_k : (mk3 M ci a b c).k = up1 M.k (M.n + 1) (ci + 1) := rfl
theorem mk3_i {t : Nat} {e : Nat} (he : e ≠ M.n + 1) : (mk3 M ci a b c).i t e = M.i t e := by
  show up2 (up2 (up2 (M.newo ci 3).i _ _ _) _ _ _) _ _ _ t e = _
  rw [up2_ny _ _ _ _ he, up2_ny _ _ _ _ he, up2_ny _ _ _ _ he]
  exact if_neg he
theorem mk3_rd : rd3 (mk3 M ci a b c) ci (M.n + 1) = (a, b, c) := by
  unfold rd3 mk3
  refine Prod.ext ?_ (Prod.ext ?_ ?_)
  · show up2 (up2 (up2 (M.newo ci 3).i _ _ _) _ _ _) _ _ _ _ _ = a
    rw [up2_nx _ _ _ _ (by omega), up2_nx _ _ _ _ (by omega), up2_eq]
  · show up2 (up2 (up2 (M.newo ci 3).i _ _ _) _ _ _) _ _ _ _ _ = b
    rw [up2_nx _ _ _ _ (by omega), up2_eq]
  · exact up2_eq _ _ _ _
theorem mk3_ls {e : Nat} (he : e ≠ M.n + 1) : (mk3 M ci a b c).ls e = M.ls e := up1_ne _ _ _ he
theorem mk3_cap {e : Nat} (he : e ≠ M.n + 1) : (mk3 M ci a b c).cap e = M.cap e := up1_ne _ _ _ he
theorem ne_new (hf : Fre M) {e : Nat} (hk : M.k e ≠ 0) : e ≠ M.n + 1 := fun z => hk (by rw [z]; exact hf _ (Nat.lt_succ_self _))
theorem X3.add (h : X3 ci l M L) (hf : Fre M) (hl : M.k l = 18) : X3 ci l (new3 M ci l a b c) (L ++ [(a, b, c)]) := by
  have nl := ne_new hf (e := l) (by rw [hl]; decide)
  have ne : ∀ e ∈ M.ls l, e ≠ M.n + 1 := fun e he => ne_new hf (by rw [h.2 e he]; omega)
  have el : (new3 M ci l a b c).ls l = M.ls l ++ [M.n + 1] := by
    unfold new3
    rw [addM_ls, up1_eq, mk3_ls nl]
  obtain ⟨h1, h2⟩ := h
  unfold X3
  rw [el]
  refine ⟨?_, fun e he => ?_⟩
  · rw [List.map_append, ← h1]
    congr 1
    · refine List.map_congr_left (fun e he => ?_)
      unfold rd3 new3
      rw [(addM_k _ _ _).2.1, mk3_i (ne e he), mk3_i (ne e he), mk3_i (ne e he)]
    · show [rd3 (new3 M ci l a b c) ci (M.n + 1)] = _
      unfold rd3 new3
      rw [(addM_k _ _ _).2.1]
      exact congrArg (fun z => [z]) mk3_rd
  · unfold new3
    rw [(addM_k _ _ _).1, mk3_k]
    rcases List.mem_append.mp he with q | q
    · rw [up1_ne _ _ _ (ne e q)]; exact h2 e q
    · rw [List.mem_singleton.mp q]; exact up1_eq _ _ _
theorem new3_ag : Ag no no (fun e => e = l) no M (new3 M ci l a b c) := ((((Ag.rf.no).i (Or.inr (Nat.lt_succ_self _))).i (Or.inr (Nat.lt_succ_self _))).i (Or.inr (Nat.lt_succ_self _))).add (Or.inl rfl)
theorem new3_fre (hf : Fre M) : Fre (new3 M ci l a b c) := Fre.add (M := mk3 M ci a b c) (hf.no (ci := ci) (N := 3))
theorem mk3_gl (hg : GL M) (hci : ci ≠ 17) : GL (mk3 M ci a b c) := (hg.no (ci := ci) (N := 3) hci).same rfl rfl rfl
theorem new3_gl (hg : GL M) (hf : Fre M) (hci : ci ≠ 17) (hl : M.k l = 18) (hb : (M.ls l).length ≤ 5000) : GL (new3 M ci l a b c) := by
  refine GL.add (mk3_gl hg hci) ?_
  rw [mk3_ls (ne_new hf (by rw [hl]; decide))]; exact hb
theorem new3_cost (hg : GL M) (hf : Fre M) (hci : ci ≠ 17) (hl : M.k l = 18) (hlx : l ≠ x + 14 ∧ l ≠ x + 16) (hx : M.k (x + 14) = 18 ∧ M.k (x + 16) = 18) (hb : (M.ls l).length ≤ 5000) : (new3 M ci l a b c).n ≤ M.n + 8000 ∧ (new3 M ci l a b c).sl + 4 * (M.cap (x + 14) + M.cap (x + 16)) ≤ M.sl + 90000 + 4 * ((new3 M ci l a b c).cap (x + 14) + (new3 M ci l a b c).cap (x + 16)) := by
  have nl := ne_new hf (e := l) (by rw [hl]; decide)
  obtain ⟨c1, c2, c3, c4⟩ := addM_cost (mk3 M ci a b c) l (M.n + 1) (mk3_gl hg hci) ((up1_ne _ _ _ nl).trans hl)
  rw [mk3_ls nl] at c4
  have e1 : (mk3 M ci a b c).n = M.n + 1 := rfl
  have e2 : (mk3 M ci a b c).sl = M.sl + 3 := rfl
  have e3 := c3 (x + 14) (fun z => hlx.1 z.symm)
  have e4 := c3 (x + 16) (fun z => hlx.2 z.symm)
  rw [mk3_cap (ne_new hf (by rw [hx.1]; decide))] at e3
  rw [mk3_cap (ne_new hf (by rw [hx.2]; decide))] at e4
  unfold new3
  omega
/-- the constructor of such a record, and the list's add -/
theorem w_new3 (hB : Bas x M) (hl : M.k l = 18) {f : Nat → Act Unit} {β : Type} {k : Nat → Int32 → Act β} {Q : β → Mem → Prop} (hf : ∀ v, f v = bnd (gd ci v (nt (f_J3_init v))) fun _ => bnd (putI ci 0 v a) fun _ => bnd (putI ci 1 v b) fun _ => bnd (putI ci 2 v c) fun _ => pur ()) (hci : ci < 17)
    (h : wp (k (M.n + 1) 1) (new3 M ci l a b c) Q) : wp (bnd (newO ci 3) fun v => bnd (gd ci v (nt (f v))) fun _ => bnd (gd 17 l (nt (P_add l v))) fun w => k v w) M Q := by
  have hg := hB.2.2.1
  have nl := ne_new hB.2.1 (e := l) (by rw [hl]; decide)
  have k1 : (M.newo ci 3).k (M.n + 1) = ci + 1 := up1_eq _ _ _
  have kl : (M.newo ci 3).k l = 18 := (up1_ne _ _ _ nl).trans hl
  refine w_bnd (w_newO (w_bnd (w_gd k1 (w_nt ?_))))
  rw [hf]
  unfold f_J3_init
  refine w_bnd (w_gd k1 (w_nt (w_nn (Nat.succ_ne_zero _) (w_pur (w_bnd (w_putI k1 (w_bnd (w_putI k1 (w_bnd (w_putI k1 (w_pur ?_)))))))))))
  refine w_bnd (w_gd kl (w_nt (w_add (mk3_gl hg (by omega)) kl ?_ h)))
  show (M.newo ci 3).k (M.n + 1) ∈ ksO
  rw [k1]
  have : ∀ c, c < 17 → c + 1 ∈ ksO := by decide
  exact this ci hci
/-- behind it, the list is one longer -/
theorem new3_len (hf : Fre M) (hl : M.k l = 18) : ((new3 M ci l a b c).ls l).length = (M.ls l).length + 1 := by
  unfold new3
  rw [addM_ls, up1_eq, mk3_ls (ne_new hf (by rw [hl]; decide)), List.length_append]; rfl
end
