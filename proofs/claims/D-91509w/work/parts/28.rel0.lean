set_option maxRecDepth 100000
/-! ===== what a run may have changed ===== -/
/-- from M to M': of the cells of M no kind, length, text, no reference (but field 15: the word at hand) has changed; int fields only of the tags ti, long fields only of the tags tl, lists only ls, arrays only ar -/
def Ag (ti tl ls ar : Nat → Prop) (M M' : Mem) : Prop :=
  (M.n ≤ M'.n ∧ M.sl ≤ M'.sl) ∧ (∀ c, c ≤ M.n → M'.k c = M.k c ∧ M'.len c = M.len c ∧ M'.tx c = M.tx c) ∧ (∀ t c, c ≤ M.n → t ≠ 15 → M'.r t c = M.r t c) ∧ (∀ t c, c ≤ M.n → ¬ ti t → M'.i t c = M.i t c) ∧ (∀ t c, c ≤ M.n → ¬ tl t → M'.l t c = M.l t c) ∧
  (∀ c, c ≤ M.n → ¬ ls c → M'.ls c = M.ls c ∧ M'.cap c = M.cap c) ∧ (∀ c, c ≤ M.n → ¬ ar c → M'.ai c = M.ai c ∧ M'.al c = M.al c ∧ M'.ar c = M.ar c)
/-- behind the last cell there is nothing -/
def Fre (M : Mem) : Prop := ∀ c, M.n < c → M.k c = 0
def no : Nat → Prop := fun _ => False
section
variable {ti tl ls ar ti' tl' ls' ar' : Nat → Prop} {M M0 M1 M2 : Mem}
theorem Ag.rf : Ag ti tl ls ar M M := ⟨⟨Nat.le_refl _, Nat.le_refl _⟩, fun _ _ => ⟨rfl, rfl, rfl⟩, fun _ _ _ _ => rfl, fun _ _ _ _ => rfl, fun _ _ _ _ => rfl, fun _ _ _ => ⟨rfl, rfl⟩, fun _ _ _ => ⟨rfl, rfl, rfl⟩⟩
theorem Ag.tr (h1 : Ag ti tl ls ar M0 M1) (h2 : Ag ti tl ls ar M1 M2) : Ag ti tl ls ar M0 M2 := by
  obtain ⟨a1, a2, a3, a4, a5, a6, a7⟩ := h1
  obtain ⟨b1, b2, b3, b4, b5, b6, b7⟩ := h2
  have le : ∀ c, c ≤ M0.n → c ≤ M1.n := fun c h => Nat.le_trans h a1.1
  refine ⟨⟨Nat.le_trans a1.1 b1.1, Nat.le_trans a1.2 b1.2⟩, fun c h => ?_, fun t c h ht => (b3 t c (le c h) ht).trans (a3 t c h ht), fun t c h ht => (b4 t c (le c h) ht).trans (a4 t c h ht), fun t c h ht => (b5 t c (le c h) ht).trans (a5 t c h ht), fun c h hl => ?_, fun c h hl => ?_⟩
  · obtain ⟨p1, p2, p3⟩ := a2 c h
    obtain ⟨q1, q2, q3⟩ := b2 c (le c h)
    exact ⟨q1.trans p1, q2.trans p2, q3.trans p3⟩
  · obtain ⟨p1, p2⟩ := a6 c h hl
    obtain ⟨q1, q2⟩ := b6 c (le c h) hl
    exact ⟨q1.trans p1, q2.trans p2⟩
  · obtain ⟨p1, p2, p3⟩ := a7 c h hl
    obtain ⟨q1, q2, q3⟩ := b7 c (le c h) hl
    exact ⟨q1.trans p1, q2.trans p2, q3.trans p3⟩
theorem Ag.mono (h : Ag ti tl ls ar M M1) (h1 : ∀ t, ti t → ti' t) (h2 : ∀ t, tl t → tl' t) (h3 : ∀ c, ls c → ls' c) (h4 : ∀ c, ar c → ar' c) : Ag ti' tl' ls' ar' M M1 :=
  ⟨h.1, h.2.1, h.2.2.1, fun t c hc ht => h.2.2.2.1 t c hc (fun z => ht (h1 t z)), fun t c hc ht => h.2.2.2.2.1 t c hc (fun z => ht (h2 t z)), fun c hc ht => h.2.2.2.2.2.1 c hc (fun z => ht (h3 c z)), fun c hc ht => h.2.2.2.2.2.2 c hc (fun z => ht (h4 c z))⟩
theorem Ag.i (h : Ag ti tl ls ar M0 M) {t c : Nat} {v : Int32} (hc : ti t ∨ M0.n < c) : Ag ti tl ls ar M0 (M.seti t c v) :=
  ⟨h.1, h.2.1, h.2.2.1, fun t' c' hc' ht' => by
    refine (show up2 M.i t c v t' c' = M.i t' c' from ?_).trans (h.2.2.2.1 t' c' hc' ht')
    rcases hc with hc | hc
    · exact up2_nx _ _ _ _ (fun e => ht' (e ▸ hc))
    · exact up2_ny _ _ _ _ (by omega), h.2.2.2.2⟩
theorem Ag.l (h : Ag ti tl ls ar M0 M) {t c : Nat} {v : Int64} (hc : tl t ∨ M0.n < c) : Ag ti tl ls ar M0 (M.setl t c v) :=
  ⟨h.1, h.2.1, h.2.2.1, h.2.2.2.1, fun t' c' hc' ht' => by
    refine (show up2 M.l t c v t' c' = M.l t' c' from ?_).trans (h.2.2.2.2.1 t' c' hc' ht')
    rcases hc with hc | hc
    · exact up2_nx _ _ _ _ (fun e => ht' (e ▸ hc))
    · exact up2_ny _ _ _ _ (by omega), h.2.2.2.2.2⟩
theorem Ag.r (h : Ag ti tl ls ar M0 M) {t c v : Nat} (hc : t = 15 ∨ M0.n < c) : Ag ti tl ls ar M0 (M.setr t c v) :=
  ⟨h.1, h.2.1, fun t' c' hc' ht' => by
    refine (show up2 M.r t c v t' c' = M.r t' c' from ?_).trans (h.2.2.1 t' c' hc' ht')
    rcases hc with hc | hc
    · exact up2_nx _ _ _ _ (fun e => ht' (e.trans hc))
    · exact up2_ny _ _ _ _ (by omega), h.2.2.2⟩
theorem Ag.ai (h : Ag ti tl ls ar M0 M) {c j : Nat} {v : Int32} (hc : ar c ∨ M0.n < c) : Ag ti tl ls ar M0 (M.setai c j v) :=
  ⟨h.1, h.2.1, h.2.2.1, h.2.2.2.1, h.2.2.2.2.1, h.2.2.2.2.2.1, fun c' hc' ht' => by
    obtain ⟨a1, a2, a3⟩ := h.2.2.2.2.2.2 c' hc' ht'
    have ne : c' ≠ c := fun e => by
      rcases hc with hc | hc
      · exact ht' (e ▸ hc)
      · omega
    exact ⟨(funext fun y => up2_nx _ _ _ _ ne).trans a1, a2, a3⟩⟩
theorem Ag.al (h : Ag ti tl ls ar M0 M) {c j : Nat} {v : Int64} (hc : ar c ∨ M0.n < c) : Ag ti tl ls ar M0 (M.setal c j v) :=
  ⟨h.1, h.2.1, h.2.2.1, h.2.2.2.1, h.2.2.2.2.1, h.2.2.2.2.2.1, fun c' hc' ht' => by
    obtain ⟨a1, a2, a3⟩ := h.2.2.2.2.2.2 c' hc' ht'
    have ne : c' ≠ c := fun e => by
      rcases hc with hc | hc
      · exact ht' (e ▸ hc)
      · omega
    exact ⟨a1, (funext fun y => up2_nx _ _ _ _ ne).trans a2, a3⟩⟩
theorem Ag.no (h : Ag ti tl ls ar M0 M) {ci N : Nat} : Ag ti tl ls ar M0 (M.newo ci N) := by
  have ne : ∀ c, c ≤ M0.n → c ≠ M.n + 1 := fun c hc => by have := h.1.1; omega
  refine ⟨⟨Nat.le_succ_of_le h.1.1, Nat.le_trans h.1.2 (Nat.le_add_right _ _)⟩, fun c hc => ?_, fun t c hc ht => (if_neg (ne c hc)).trans (h.2.2.1 t c hc ht), fun t c hc ht => (if_neg (ne c hc)).trans (h.2.2.2.1 t c hc ht), fun t c hc ht => (if_neg (ne c hc)).trans (h.2.2.2.2.1 t c hc ht), fun c hc hl => ?_, h.2.2.2.2.2.2⟩
  · obtain ⟨a1, a2, a3⟩ := h.2.1 c hc
    exact ⟨(up1_ne _ _ _ (ne c hc)).trans a1, a2, (up1_ne _ _ _ (ne c hc)).trans a3⟩
  · obtain ⟨a1, a2⟩ := h.2.2.2.2.2.1 c hc hl
    exact ⟨(up1_ne _ _ _ (ne c hc)).trans a1, (up1_ne _ _ _ (ne c hc)).trans a2⟩
theorem Ag.na (h : Ag ti tl ls ar M0 M) {q N : Nat} : Ag ti tl ls ar M0 (M.newa q N) := by
  have ne : ∀ c, c ≤ M0.n → c ≠ M.n + 1 := fun c hc => by have := h.1.1; omega
  refine ⟨⟨Nat.le_succ_of_le h.1.1, Nat.le_trans h.1.2 (Nat.le_add_right _ _)⟩, fun c hc => ?_, h.2.2.1, h.2.2.2.1, h.2.2.2.2.1, h.2.2.2.2.2.1, fun c hc hl => ?_⟩
  · obtain ⟨a1, a2, a3⟩ := h.2.1 c hc
    exact ⟨(up1_ne _ _ _ (ne c hc)).trans a1, (up1_ne _ _ _ (ne c hc)).trans a2, a3⟩
  · obtain ⟨a1, a2, a3⟩ := h.2.2.2.2.2.2 c hc hl
    exact ⟨(funext fun _ => if_neg (ne c hc)).trans a1, (funext fun _ => if_neg (ne c hc)).trans a2, (funext fun _ => if_neg (ne c hc)).trans a3⟩
theorem Ag.ls_ (h : Ag ti tl ls ar M0 M) {l : Nat} {xs : List Nat} (hc : ls l ∨ M0.n < l) : Ag ti tl ls ar M0 (M.setls l xs) :=
  ⟨h.1, h.2.1, h.2.2.1, h.2.2.2.1, h.2.2.2.2.1, fun c hc' ht' => by
    obtain ⟨a1, a2⟩ := h.2.2.2.2.2.1 c hc' ht'
    have ne : c ≠ l := fun e => by
      rcases hc with hc | hc
      · exact ht' (e ▸ hc)
      · omega
    exact ⟨(up1_ne _ _ _ ne).trans a1, a2⟩, h.2.2.2.2.2.2⟩
theorem Ag.cp_ (h : Ag ti tl ls ar M0 M) {l v : Nat} (hc : ls l ∨ M0.n < l) : Ag ti tl ls ar M0 (M.setcap l v) :=
  ⟨h.1, h.2.1, h.2.2.1, h.2.2.2.1, h.2.2.2.2.1, fun c hc' ht' => by
    obtain ⟨a1, a2⟩ := h.2.2.2.2.2.1 c hc' ht'
    have ne : c ≠ l := fun e => by
      rcases hc with hc | hc
      · exact ht' (e ▸ hc)
      · omega
    exact ⟨a1, (up1_ne _ _ _ ne).trans a2⟩, h.2.2.2.2.2.2⟩
theorem Ag.nn_ (h : Ag ti tl ls ar M0 M) {a b : Nat} : Ag ti tl ls ar M0 (M.addn a b) := ⟨⟨Nat.le_trans h.1.1 (Nat.le_add_right _ _), Nat.le_trans h.1.2 (Nat.le_add_right _ _)⟩, h.2⟩
theorem Ag.add (h : Ag ti tl ls ar M0 M) {l v : Nat} (hc : ls l ∨ M0.n < l) : Ag ti tl ls ar M0 (addM M l v) := by
  unfold addM
  by_cases q : (M.ls l).length + 1 < M.cap l
  · rw [if_pos q]; exact h.ls_ hc
  · rw [if_neg q]; exact ((h.ls_ hc).cp_ hc).nn_
theorem Fre.no (h : Fre M) {ci N : Nat} : Fre (M.newo ci N) := fun c hc => by
  have hc : M.n + 1 < c := hc
  exact (up1_ne _ _ _ (by omega)).trans (h c (by omega))
theorem Fre.na (h : Fre M) {q N : Nat} : Fre (M.newa q N) := fun c hc => by
  have hc : M.n + 1 < c := hc
  exact (up1_ne _ _ _ (by omega)).trans (h c (by omega))
theorem Fre.nn_ (h : Fre M) {a b : Nat} : Fre (M.addn a b) := fun c hc => by
  have hc : M.n + a < c := hc
  exact h c (by omega)
theorem addM_k (M : Mem) (l v : Nat) : (addM M l v).k = M.k ∧ (addM M l v).i = M.i ∧ (addM M l v).l = M.l ∧ (addM M l v).r = M.r ∧ (addM M l v).len = M.len ∧ (addM M l v).tx = M.tx ∧ (addM M l v).ai = M.ai ∧ (addM M l v).al = M.al := by
  unfold addM
  by_cases q : (M.ls l).length + 1 < M.cap l
  · rw [if_pos q]; exact ⟨rfl, rfl, rfl, rfl, rfl, rfl, rfl, rfl⟩
  · rw [if_neg q]; exact ⟨rfl, rfl, rfl, rfl, rfl, rfl, rfl, rfl⟩
theorem addM_ls (M : Mem) (l v : Nat) : (addM M l v).ls = up1 M.ls l (M.ls l ++ [v]) := by
  unfold addM
  by_cases q : (M.ls l).length + 1 < M.cap l
  · rw [if_pos q]; rfl
  · rw [if_neg q]; rfl
theorem Fre.add (h : Fre M) {l v : Nat} : Fre (addM M l v) := fun c hc => by
  rw [(addM_k M l v).1]
  exact h c (Nat.lt_of_le_of_lt (addM_mono M l v).1 hc)
theorem Fre.le (h : Fre M) {c : Nat} (hk : M.k c ≠ 0) : c ≤ M.n := by
  rcases Nat.lt_or_ge M.n c with q | q
  · exact absurd (h c q) hk
  · exact q
theorem Ag.lay {x : Nat} (h : Ag ti tl ls ar M M1) (hL : Lay x M) (h1 : ∀ t, ti t → ¬ (128 ≤ t ∧ t < 264)) : Lay x M1 := by
  obtain ⟨a1, a2, a3, a4, a5, a6, a7, a8⟩ := hL
  have le : ∀ o, o ≤ 88 → x + o ≤ M.n := fun o ho => by omega
  refine ⟨fun e he => ?_, fun e he => ?_, fun e he => ?_, ?_, fun e he => ?_, fun e he => ?_, Nat.le_trans a7 h.1.1, a8⟩
  · have : e.1 ≤ 88 := by revert he e; decide
    rw [(h.2.1 _ (le _ this)).1]; exact a1 e he
  · have : e.1 ≤ 88 := by revert he e; decide
    rw [(h.2.1 _ (le _ this)).2.1]; exact a2 e he
  · have q : e.2.2.1 ≤ 88 ∧ 128 * e.1 + e.2.1 ≠ 15 := by revert he e; decide
    rw [h.2.2.1 _ _ (le _ q.1) q.2]; exact a3 e he
  · rw [(h.2.1 _ (le 28 (by omega))).1]; exact a4
  · have q : e.2.1 ≤ 60 := by revert he e; decide
    obtain ⟨b1, b2, b3⟩ := a5 e he
    rw [h.2.2.1 _ _ (le 28 (by omega)) (by omega), (h.2.1 _ (by omega)).1, (h.2.1 _ (by omega)).2.1]
    exact ⟨b1, b2, b3⟩
  · have q : e.2.2.1 ≤ 88 ∧ 128 ≤ 128 * e.1 + e.2.1 ∧ 128 * e.1 + e.2.1 < 264 := by revert he e; decide
    rw [h.2.2.2.1 _ _ (le _ q.1) (fun z => h1 _ z q.2)]; exact a6 e he
end
