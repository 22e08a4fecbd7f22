set_option maxRecDepth 100000
/-! ===== what stands too near ===== -/
def pairP (p q : Tri) (a b : Int32) : Prop := (p.1 = a ∧ q.1 = b) ∨ (p.1 = b ∧ q.1 = a)
def farD (p q : Tri) : Int32 := mx (ab (p.2.1 - q.2.1)) (ab (p.2.2 - q.2.2))
def plc (pl : List Tri) (i : Nat) : Tri := pl.getD i (0, 0, 0)
theorem plc_at {pl : List Tri} {i : Nat} (h : i < pl.length) : plc pl i = pl[i] := by
  unfold plc; rw [List.getD_eq_getElem?_getD, List.getElem?_eq_getElem h]; rfl
def hitP (pl : List Tri) (a b l : Int32) (i j : Nat) : Bool := decide (((plc pl i).1 = a ∧ (plc pl j).1 = b) ∨ ((plc pl i).1 = b ∧ (plc pl j).1 = a)) && decide (farD (plc pl i) (plc pl j) < l)
def fndJ (pl : List Tri) (a b l : Int32) (i : Nat) : Nat → Nat → Option Nat
  | _, 0 => none
  | j, r + 1 => if hitP pl a b l i j = true then some j else fndJ pl a b l i (j + 1) r
def fndI (pl : List Tri) (a b l : Int32) : Nat → Nat → Option (Nat × Nat)
  | _, 0 => none
  | i, r + 1 => match fndJ pl a b l i (i + 1) r with
    | some j => some (i, j)
    | none => fndI pl a b l (i + 1) r
def fndK (pl : List Tri) : List (Int32 × Int32 × Int32 × Int32) → Option (Int32 × Nat × Nat)
  | [] => none
  | e :: l => match fndI pl e.2.1 e.2.2.1 e.2.2.2 0 pl.length with
    | some (i, j) => some (e.1, i, j)
    | none => fndK pl l
def apA (w : Int32) : Option (Int32 × Nat × Nat) → Int32
  | none => -1
  | some (s, i, j) => if w = 0 then s else if w = 1 then Int32.ofNat i else if w = 2 then Int32.ofNat j else -1
section
variable {x : Nat} {M : Mem} {n0 k p L : Nat} {xs : Nat → Int32}
/-- the j-th place -/
theorem w_plc {j : Nat} {pl : List Tri} (hB : Bas x M) (hX : XL x M pl) (hj : j < pl.length) {β : Type} {f : Nat → Act β} {Q : β → Mem → Prop} (hq : ∀ e, M.k e = 17 → M.i 2048 e = (plc pl j).1 → M.i 2049 e = (plc pl j).2.1 → M.i 2050 e = (plc pl j).2.2 → wp (f e) M Q) : wp (bnd (getR 0 39 x) fun v => bnd (gd 17 v (nt (P_get v (Int32.ofNat j)))) fun w => bnd (cst [17] w) fun _ => f w) M Q := by
  obtain ⟨a1, a2⟩ := hX
  have hL := hB.1
  have hg := hB.2.2.1
  have hlen := map_len a1
  have hj3 : j < (M.ls (x + 25)).length := by omega
  have hk := a2 _ (List.getElem_mem hj3)
  have er := map_get a1 hj hj3
  rw [plc_at hj] at hq
  refine w_bnd (w_getR0 hL rfl rfl rfl (w_bnd (w_gd hL.k25 (w_nt (w_get hg hL.k25 hj3 (w_bnd (w_cst (Or.inr (by rw [hk]; decide)) (hq _ hk ?_ ?_ ?_))))))))
  · rw [← er]; rfl
  · rw [← er]; rfl
  · rw [← er]; rfl
theorem x_isPair {e c1 c2 : Nat} {a b : Int32} {p1 p2 : Tri} (hk : M.k e = 16) (ha : M.i 1921 e = a) (hb : M.i 1922 e = b) (h1 : M.k c1 = 17) (h2 : M.k c2 = 17) (e1 : M.i 2048 c1 = p1.1) (e2 : M.i 2048 c2 = p2.1) {Q : Int32 → Mem → Prop} (hq : Q (bz ((p1.1 = a ∧ p2.1 = b) ∨ (p1.1 = b ∧ p2.1 = a))) M) : wp (f_X0_isPair e c1 c2) M Q := by
  have K1 : ∀ {R : Int32 → Mem → Prop}, R p1.1 M → wp (gd 16 c1 (nt (f_X16_kind c1))) M R := fun h => w_gd h1 (w_nt (by unfold f_X16_kind; exact w_bnd (w_getIv h1 e1 (w_pur h))))
  have K2 : ∀ {R : Int32 → Mem → Prop}, R p2.1 M → wp (gd 16 c2 (nt (f_X16_kind c2))) M R := fun h => w_gd h2 (w_nt (by unfold f_X16_kind; exact w_bnd (w_getIv h2 e2 (w_pur h))))
  have KA : ∀ {R : Int32 → Mem → Prop}, R a M → wp (gd 15 e (nt (f_X15_a e))) M R := fun h => w_gd hk (w_nt (by unfold f_X15_a; exact w_bnd (w_getIv hk ha (w_pur h))))
  have KB : ∀ {R : Int32 → Mem → Prop}, R b M → wp (gd 15 e (nt (f_X15_b e))) M R := fun h => w_gd hk (w_nt (by unfold f_X15_b; exact w_bnd (w_getIv hk hb (w_pur h))))
  unfold f_X0_isPair
  refine w_bnd (K1 (w_bnd (KA (w_jn (w_jn (w_jn ?_))))))
  have rest : ¬ (p1.1 = a ∧ p2.1 = b) → wp (bnd (gd 16 c1 (nt (f_X16_kind c1))) fun v4 => bnd (gd 15 e (nt (f_X15_b e))) fun v5 => jn (fun (_ : Unit) => (fun (v3 : Int32) => purS (ty := .boolean) v3) 0) fun j48 => if ¬ v4 = v5 then j48 () else bnd (gd 16 c2 (nt (f_X16_kind c2))) fun v6 => bnd (gd 15 e (nt (f_X15_a e))) fun v7 => if ¬ v6 = v7 then j48 () else (fun (_ : Unit) => (fun (v3 : Int32) => purS (ty := .boolean) v3) 1) ()) M Q := fun hn => by
    refine w_bnd (K1 (w_bnd (KB (w_jn (w_ite (fun c => ?_) (fun c => w_bnd (K2 (w_bnd (KA (w_ite (fun c2 => ?_) (fun c2 => ?_)))))))))))
    · rw [bz_f (fun z => z.elim hn (fun z => c z.1))] at hq
      exact w_purZ (Or.inl rfl) hq
    · rw [bz_f (fun z => z.elim hn (fun z => c2 z.2))] at hq
      exact w_purZ (Or.inl rfl) hq
    · rw [Decidable.not_not] at c c2
      rw [bz_t (Or.inr ⟨c, c2⟩)] at hq
      exact w_purZ (Or.inr rfl) hq
  refine w_ite (fun c => rest (fun z => c z.1)) (fun c => w_bnd (K2 (w_bnd (KB (w_ite (fun c2 => ?_) (fun c2 => rest (fun z => c2 z.2)))))))
  rw [Decidable.not_not] at c
  rw [bz_t (Or.inl ⟨c, c2⟩)] at hq
  exact w_purZ (Or.inr rfl) hq
theorem x_far {c1 c2 : Nat} {p1 p2 : Tri} (h1 : M.k c1 = 17) (h2 : M.k c2 = 17) (e1 : M.i 2049 c1 = p1.2.1) (e2 : M.i 2049 c2 = p2.2.1) (f1 : M.i 2050 c1 = p1.2.2) (f2 : M.i 2050 c2 = p2.2.2) {Q : Int32 → Mem → Prop} (hq : Q (farD p1 p2) M) : wp (f_X16_far c1 c2) M Q := by
  unfold f_X16_far
  exact w_bnd (w_getIv h1 e1 (w_bnd (w_getIv h2 e2 (w_bnd (w_getIv h1 f1 (w_bnd (w_getIv h2 f2 (w_pur hq))))))))
theorem x_ap_j {i e v3 : Nat} {a b l p1 w4 : Int32} {pl : List Tri} (hB : Bas x M) (hX : XL x M pl) (h20 : pl.length ≤ 20) (hi : i < pl.length) (hk : M.k e = 16) (ha : M.i 1921 e = a) (hb : M.i 1922 e = b) (hl : M.i 1923 e = l) {Q : Int32 → Mem → Prop} {jh : Int32 → Act Int32} {jn_ : Unit → Act Int32} :
    ∀ q j, j ≤ pl.length → pl.length < q + j → (∀ m, fndJ pl a b l i j (pl.length - j) = some m → wp (jh (Int32.ofNat m)) M Q) → (fndJ pl a b l i j (pl.length - j) = none → wp (jn_ ()) M Q) → wp (lp_X0_apart_70 x p1 v3 w4 e (Int32.ofNat i) jh jn_ q (Int32.ofNat j)) M Q := by
  have hL := hB.1
  have hg := hB.2.2.1
  have hlen := map_len hX.1
  intro q
  induction q with
  | zero => intro j _ _; omega
  | succ q ih =>
    intro j hj hq' h1 h0
    rw [lp_X0_apart_70]
    refine w_bnd (w_getR0 hL rfl rfl rfl (w_bnd (w_gd hL.k25 (w_nt (w_size hg hL.k25 ?_)))))
    rw [hlen]
    by_cases c : j = pl.length
    · refine w_t ((i_le (by omega) (by omega)).mpr (by omega)) (h0 ?_)
      rw [c, Nat.sub_self]; rfl
    · have hj2 : j < pl.length := by omega
      rw [show pl.length - j = (pl.length - (j + 1)) + 1 by omega] at h1 h0
      refine w_f (fun z => by have := (i_le (by omega) (by omega)).mp z; omega) ?_
      refine w_plc hB hX hi (fun c1 k1 s1 s2 s3 => w_plc hB hX hj2 (fun c2 k2 t1 t2 t3 => ?_))
      refine w_bnd (w_nt (x_isPair hk ha hb k1 k2 s1 t1 (w_jn ?_)))
      rw [i_add1]
      by_cases cp : ((plc pl i).1 = a ∧ (plc pl j).1 = b) ∨ ((plc pl i).1 = b ∧ (plc pl j).1 = a)
      · refine w_f (fun z => bzf z cp) (w_plc hB hX hi (fun c1 k1 s1 s2 s3 => w_plc hB hX hj2 (fun c2 k2 t1 t2 t3 => ?_)))
        refine w_bnd (w_gd k1 (w_nt (x_far k1 k2 s2 t2 s3 t3 ?_)))
        refine w_bnd (w_gd hk (w_nt ?_))
        unfold f_X15_least
        refine w_bnd (w_getIv hk hl (w_pur (w_ite (fun cf => h1 j ?_) (fun cf => ih (j + 1) (by omega) (by omega) (fun m hm => h1 m ?_) (fun hm => h0 ?_)))))
        · show (if hitP pl a b l i j = true then some j else _) = some j
          rw [if_pos (by unfold hitP; rw [decide_eq_true cp, decide_eq_true cf]; rfl)]
        · show (if hitP pl a b l i j = true then some j else _) = some m
          rw [if_neg (by unfold hitP; rw [decide_eq_false cf, Bool.and_false]; decide)]; exact hm
        · show (if hitP pl a b l i j = true then some j else _) = none
          rw [if_neg (by unfold hitP; rw [decide_eq_false cf, Bool.and_false]; decide)]; exact hm
      · refine w_t (bz_0.mpr cp) (ih (j + 1) (by omega) (by omega) (fun m hm => h1 m ?_) (fun hm => h0 ?_))
        · show (if hitP pl a b l i j = true then some j else _) = some m
          rw [if_neg (by unfold hitP; rw [decide_eq_false cp, Bool.false_and]; decide)]; exact hm
        · show (if hitP pl a b l i j = true then some j else _) = none
          rw [if_neg (by unfold hitP; rw [decide_eq_false cp, Bool.false_and]; decide)]; exact hm
theorem x_ap_i {n e v3 : Nat} {s a b l p1 w4 : Int32} {pl : List Tri} (hB : Bas x M) (hX : XL x M pl) (h20 : pl.length ≤ 20) (hn : 9100 ≤ n) (hp : p1 = 0 ∨ p1 = 1 ∨ p1 = 2) (hk : M.k e = 16) (hs : M.i 1920 e = s) (ha : M.i 1921 e = a) (hb : M.i 1922 e = b) (hl : M.i 1923 e = l) {Q : Int32 → Mem → Prop} {jh : Int32 → Int32 → Act Int32} {jn_ : Unit → Act Int32} :
    ∀ q i, i ≤ pl.length → pl.length < q + i → (∀ m1 m2, fndI pl a b l i (pl.length - i) = some (m1, m2) → Q (apA p1 (some (s, m1, m2))) M) → (fndI pl a b l i (pl.length - i) = none → wp (jn_ ()) M Q) → wp (lp_X0_apart_52 n x p1 v3 w4 e jh jn_ q (Int32.ofNat i)) M Q := by
  have hL := hB.1
  have hg := hB.2.2.1
  have hlen := map_len hX.1
  intro q
  induction q with
  | zero => intro j _ _; omega
  | succ q ih =>
    intro i hi hq' h1 h0
    rw [lp_X0_apart_52]
    refine w_bnd (w_getR0 hL rfl rfl rfl (w_bnd (w_gd hL.k25 (w_nt (w_size hg hL.k25 ?_)))))
    rw [hlen]
    by_cases c : i = pl.length
    · refine w_t ((i_le (by omega) (by omega)).mpr (by omega)) (h0 ?_)
      rw [c, Nat.sub_self]; rfl
    · have hi2 : i < pl.length := by omega
      rw [show pl.length - i = (pl.length - (i + 1)) + 1 by omega] at h1 h0
      refine w_f (fun z => by have := (i_le (by omega) (by omega)).mp z; omega) (w_jn (w_jn ?_))
      rw [i_add1]
      refine x_ap_j hB hX h20 hi2 hk ha hb hl n (i + 1) (by omega) (by omega) (fun m hm => ?_) (fun hm => ih (i + 1) (by omega) (by omega) (fun m1 m2 z => h1 m1 m2 ?_) (fun z => h0 ?_))
      · have h1 := h1 i m (by
          show (match fndJ pl a b l i (i + 1) (pl.length - (i + 1)) with | some j => some (i, j) | none => _) = _
          rw [hm])
        rcases hp with rfl | rfl | rfl
        · refine w_jn (w_f (fun z => z rfl) (w_bnd (w_gd hk (w_nt ?_))))
          unfold f_X15_statement
          exact w_bnd (w_getIv hk hs (w_pur (w_pur h1)))
        · exact w_jn (w_t (by decide) (w_f (fun z => z rfl) (w_pur h1)))
        · exact w_jn (w_t (by decide) (w_t (by decide) (w_pur h1)))
      · show (match fndJ pl a b l i (i + 1) (pl.length - (i + 1)) with | some j => some (i, j) | none => _) = _
        rw [hm]; exact z
      · show (match fndJ pl a b l i (i + 1) (pl.length - (i + 1)) with | some j => some (i, j) | none => _) = _
        rw [hm]; exact z
theorem x_ap_k {n c : Nat} {p1 : Int32} {ru : Ru} {pl : List Tri} (hB : Bas x M) (hX : XL x M pl) (h20 : pl.length ≤ 20) (hn : 9100 ≤ n) (hp : p1 = 0 ∨ p1 = 1 ∨ p1 = 2) (hc : XR1 x M c ru) {Q : Int32 → Mem → Prop} {jh : Nat → Int32 → Int32 → Act Int32} :
    ∀ q m, m ≤ (aprt ru.stm).length → (aprt ru.stm).length < q + m → Q (apA p1 (fndK pl ((aprt ru.stm).drop m))) M → wp (lp_X0_apart_25 n x p1 c jh q (Int32.ofNat m)) M Q := by
  have hL := hB.1
  have hg := hB.2.2.1
  have hlen20 := map_len hX.1
  obtain ⟨k0, -, -, -, -, -, -, -, -, ⟨-, -, r3⟩, -, -, k3, ap, kp⟩ := hc
  have r3 : M.r (128 * 2 + 10) c = c + 3 := r3
  have hlen := map_len ap
  have hb := hg.len k3
  intro q
  induction q with
  | zero => intro j _ _; omega
  | succ q ih =>
    intro m hm hq' hq
    rw [lp_X0_apart_25]
    refine w_bnd (w_getRv k0 r3 (w_bnd (w_gd k3 (w_nt (w_size hg k3 ?_)))))
    rw [hlen]
    by_cases e : m = (aprt ru.stm).length
    · refine w_t ((i_le (by omega) (by omega)).mpr (by omega)) (w_pur ?_)
      rw [e, List.drop_length] at hq; exact hq
    · have hm2 : m < (aprt ru.stm).length := by omega
      have hm3 : m < (M.ls (c + 3)).length := by omega
      have hk := kp _ (List.getElem_mem hm3)
      have er := map_get ap hm2 hm3
      have e0 : M.i 1920 (M.ls (c + 3))[m] = (aprt ru.stm)[m].1 := by rw [← er]
      have e1 : M.i 1921 (M.ls (c + 3))[m] = (aprt ru.stm)[m].2.1 := by rw [← er]
      have e2 : M.i 1922 (M.ls (c + 3))[m] = (aprt ru.stm)[m].2.2.1 := by rw [← er]
      have e3 : M.i 1923 (M.ls (c + 3))[m] = (aprt ru.stm)[m].2.2.2 := by rw [← er]
      rw [drop_s hm2] at hq
      refine w_f (fun z => by have := (i_le (by omega) (by omega)).mp z; omega) ?_
      refine w_bnd (w_getRv k0 r3 (w_bnd (w_gd k3 (w_nt (w_get hg k3 hm3 (w_bnd (w_cst (Or.inr (by rw [hk]; decide)) (w_jn (w_jn ?_)))))))))
      rw [i_add1]
      refine x_ap_i hB hX h20 hn hp hk e0 e1 e2 e3 n 0 (Nat.zero_le _) (by omega) (fun m1 m2 z => ?_) (fun z => ih (m + 1) (by omega) (by omega) ?_)
      · unfold fndK at hq
        rw [Nat.sub_zero] at z
        rw [z] at hq
        exact hq
      · unfold fndK at hq
        rw [Nat.sub_zero] at z
        rw [z] at hq
        exact hq
end
