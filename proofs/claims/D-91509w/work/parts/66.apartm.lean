set_option maxRecDepth 100000
section
variable {x : Nat} {M : Mem} {n0 k p L : Nat} {xs : Nat → Int32} {S : MS}
theorem m_plc {pl : List Tri} (hS : RL S pl) {j : Nat} (hj : j < pl.length) : j < 20 ∧ S.a 56 j = (plc pl j).1 ∧ S.a 57 j = (plc pl j).2.1 ∧ S.a 58 j = (plc pl j).2.2 := by
  rw [plc_at hj]
  have := hS.2.1
  exact ⟨by omega, hS.2.2 j hj⟩
theorem m_areOf {i j : Nat} {a b : Int32} {pl : List Tri} (hS : RL S pl) (hi : i < pl.length) (hj : j < pl.length) {Q : Int32 → MS → Prop} (hq : Q (bz (((plc pl i).1 = a ∧ (plc pl j).1 = b) ∨ ((plc pl i).1 = b ∧ (plc pl j).1 = a))) S) : wm x (f_X4_areOf (x + 28) (Int32.ofNat i) (Int32.ofNat j) a b) S Q := by
  obtain ⟨l1, s1, -⟩ := m_plc hS hi
  obtain ⟨l2, t1, -⟩ := m_plc hS hj
  have K1 : ∀ {β : Type} {f : Int32 → Act β} {R : β → MS → Prop}, wm x (f (plc pl i).1) S R → wm x (bnd (getR 4 74 (x + 28)) fun v => bnd (ldI 0 v (Int32.ofNat i)) f) S R := fun h => m_bnd (m_getRt rfl (m_bnd (m_ldIt rfl l1 (by rw [s1]; exact h))))
  have K2 : ∀ {β : Type} {f : Int32 → Act β} {R : β → MS → Prop}, wm x (f (plc pl j).1) S R → wm x (bnd (getR 4 74 (x + 28)) fun v => bnd (ldI 0 v (Int32.ofNat j)) f) S R := fun h => m_bnd (m_getRt rfl (m_bnd (m_ldIt rfl l2 (by rw [t1]; exact h))))
  unfold f_X4_areOf
  refine K1 (m_jn (m_jn (m_jn ?_)))
  have rest : ¬ ((plc pl i).1 = a ∧ (plc pl j).1 = b) → wm x (bnd (getR 4 74 (x + 28)) fun v4 => bnd (ldI 0 v4 (Int32.ofNat i)) fun v5 => jn (fun (_ : Unit) => (fun (v3 : Int32) => purS (ty := .boolean) v3) 0) fun j46 => if ¬ v5 = b then j46 () else bnd (getR 4 74 (x + 28)) fun v6 => bnd (ldI 0 v6 (Int32.ofNat j)) fun v7 => if ¬ v7 = a then j46 () else (fun (_ : Unit) => (fun (v3 : Int32) => purS (ty := .boolean) v3) 1) ()) S Q := fun hn => by
    refine K1 (m_jn (m_ite (fun c => ?_) (fun c => K2 (m_ite (fun c2 => ?_) (fun c2 => ?_)))))
    · rw [bz_f (fun z => z.elim hn (fun z => c z.1))] at hq
      exact m_purZ (Or.inl rfl) hq
    · rw [bz_f (fun z => z.elim hn (fun z => c2 z.2))] at hq
      exact m_purZ (Or.inl rfl) hq
    · rw [Decidable.not_not] at c c2
      rw [bz_t (Or.inr ⟨c, c2⟩)] at hq
      exact m_purZ (Or.inr rfl) hq
  refine m_ite (fun c => rest (fun z => c z.1)) (fun c => K2 (m_ite (fun c2 => ?_) (fun c2 => rest (fun z => c2 z.2))))
  rw [Decidable.not_not] at c
  rw [bz_t (Or.inl ⟨c, c2⟩)] at hq
  exact m_purZ (Or.inr rfl) hq
theorem m_ap_j {i t : Nat} {a b l p1 v2 : Int32} {pl : List Tri} (hS : RL S pl) (hi : i < pl.length) (ht : t < 216) (ha : S.a 44 t = a) (hb : S.a 45 t = b) (hl : S.a 46 t = l) {Q : Int32 → MS → Prop} {jh : Int32 → Act Int32} {jn_ : Unit → Act Int32} :
    ∀ q j, j ≤ pl.length → pl.length < q + j → (∀ m, fndJ pl a b l i j (pl.length - j) = some m → wm x (jh (Int32.ofNat m)) S Q) → (fndJ pl a b l i j (pl.length - j) = none → wm x (jn_ ()) S Q) → wm x (lp_X4_apart_66 (x + 28) p1 v2 (Int32.ofNat t) (Int32.ofNat i) jh jn_ q (Int32.ofNat j)) S Q := by
  have h20 := hS.2.1
  intro q
  induction q with
  | zero => intro j _ _; omega
  | succ q ih =>
    intro j hj hq' h1 h0
    rw [lp_X4_apart_66]
    refine m_bnd (m_getI (by decide) ?_)
    rw [hS.1]
    by_cases c : j = pl.length
    · refine m_t ((i_le (by omega) (by omega)).mpr (by omega)) (h0 ?_)
      rw [c, Nat.sub_self]; rfl
    · have hj2 : j < pl.length := by omega
      obtain ⟨l1, s1, s2, s3⟩ := m_plc hS hi
      obtain ⟨l2, t1, t2, t3⟩ := m_plc hS hj2
      rw [show pl.length - j = (pl.length - (j + 1)) + 1 by omega] at h1 h0
      refine m_f (fun z => by have := (i_le (by omega) (by omega)).mp z; omega) ?_
      refine m_bnd (m_getRt rfl (m_bnd (m_ldIt rfl ht (m_bnd (m_getRt rfl (m_bnd (m_ldIt rfl ht ?_)))))))
      rw [ha, hb]
      refine m_bnd (m_gd (m_nt (m_areOf hS hi hj2 (m_jn ?_))))
      rw [i_add1]
      by_cases cp : ((plc pl i).1 = a ∧ (plc pl j).1 = b) ∨ ((plc pl i).1 = b ∧ (plc pl j).1 = a)
      · refine m_f (fun z => bzf z cp) ?_
        refine m_bnd (m_getRt rfl (m_bnd (m_ldIt rfl l1 (m_bnd (m_getRt rfl (m_bnd (m_ldIt rfl l2 (m_bnd (m_getRt rfl (m_bnd (m_ldIt rfl l1 (m_bnd (m_getRt rfl (m_bnd (m_ldIt rfl l2 (m_bnd (m_getRt rfl (m_bnd (m_ldIt rfl ht ?_)))))))))))))))))))
        rw [s2, t2, s3, t3, hl]
        refine m_ite (fun cf => h1 j ?_) (fun cf => ih (j + 1) (by omega) (by omega) (fun m hm => h1 m ?_) (fun hm => h0 ?_))
        · show (if hitP pl a b l i j = true then some j else _) = some j
          rw [if_pos (by unfold hitP farD; rw [decide_eq_true cp, decide_eq_true cf]; rfl)]
        · show (if hitP pl a b l i j = true then some j else _) = some m
          rw [if_neg (by unfold hitP farD; rw [decide_eq_false cf, Bool.and_false]; decide)]; exact hm
        · show (if hitP pl a b l i j = true then some j else _) = none
          rw [if_neg (by unfold hitP farD; rw [decide_eq_false cf, Bool.and_false]; decide)]; exact hm
      · refine m_t (bz_0.mpr cp) (ih (j + 1) (by omega) (by omega) (fun m hm => h1 m ?_) (fun hm => h0 ?_))
        · show (if hitP pl a b l i j = true then some j else _) = some m
          rw [if_neg (by unfold hitP; rw [decide_eq_false cp, Bool.false_and]; decide)]; exact hm
        · show (if hitP pl a b l i j = true then some j else _) = none
          rw [if_neg (by unfold hitP; rw [decide_eq_false cp, Bool.false_and]; decide)]; exact hm
theorem m_ap_i {n t : Nat} {a b l p1 v2 : Int32} {pl : List Tri} (hS : RL S pl) (hn : 9100 ≤ n) (ht : t < 216) (ha : S.a 44 t = a) (hb : S.a 45 t = b) (hl : S.a 46 t = l) {Q : Int32 → MS → Prop} {jh : Int32 → Int32 → Act Int32} {jn_ : Unit → Act Int32} :
    ∀ q i, i ≤ pl.length → pl.length < q + i → (∀ m1 m2, fndI pl a b l i (pl.length - i) = some (m1, m2) → Q (apA p1 (some (Int32.ofNat (t % 24), m1, m2))) S) → (fndI pl a b l i (pl.length - i) = none → wm x (jn_ ()) S Q) → wm x (lp_X4_apart_51 n (x + 28) p1 v2 (Int32.ofNat t) jh jn_ q (Int32.ofNat i)) S Q := by
  have h20 := hS.2.1
  intro q
  induction q with
  | zero => intro j _ _; omega
  | succ q ih =>
    intro i hi hq' h1 h0
    rw [lp_X4_apart_51]
    refine m_bnd (m_getI (by decide) ?_)
    rw [hS.1]
    by_cases c : i = pl.length
    · refine m_t ((i_le (by omega) (by omega)).mpr (by omega)) (h0 ?_)
      rw [c, Nat.sub_self]; rfl
    · have hi2 : i < pl.length := by omega
      rw [show pl.length - i = (pl.length - (i + 1)) + 1 by omega] at h1 h0
      refine m_f (fun z => by have := (i_le (by omega) (by omega)).mp z; omega) (m_jn (m_jn ?_))
      rw [i_add1]
      refine m_ap_j hS hi2 ht ha hb hl n (i + 1) (by omega) (by omega) (fun m hm => ?_) (fun hm => ih (i + 1) (by omega) (by omega) (fun m1 m2 z => h1 m1 m2 ?_) (fun z => h0 ?_))
      · have h1 := h1 i m (by
          show (match fndJ pl a b l i (i + 1) (pl.length - (i + 1)) with | some j => some (i, j) | none => _) = _
          rw [hm])
        unfold apA at h1
        refine m_jn (m_ite (fun c0 => m_ite (fun c1 => m_ite (fun c2 => m_pur ?_) (fun c2 => m_pur ?_)) (fun c1 => m_pur ?_)) (fun c0 => m_pur ?_))
        · simp only [if_neg c0, if_neg c1, if_neg c2] at h1; exact h1
        · rw [Decidable.not_not] at c2
          simp only [if_neg c0, if_neg c1, if_pos c2] at h1; exact h1
        · rw [Decidable.not_not] at c1
          simp only [if_neg c0, if_pos c1] at h1; exact h1
        · rw [Decidable.not_not] at c0
          simp only [if_pos c0] at h1
          rw [i_d24 (by omega), i_m24, i_sub (by omega), show t - t / 24 * 24 = t % 24 by omega]
          exact h1
      · show (match fndJ pl a b l i (i + 1) (pl.length - (i + 1)) with | some j => some (i, j) | none => _) = _
        rw [hm]; exact z
      · show (match fndJ pl a b l i (i + 1) (pl.length - (i + 1)) with | some j => some (i, j) | none => _) = _
        rw [hm]; exact z
/-- the statements on what must stand apart, from the t-th statement on -/
def aprF (stm : List Sm) (t : Nat) : List (Int32 × Int32 × Int32 × Int32) := ((stm.zipIdx.drop t).filter (fun p => p.1.sort = 8)).map (fun p => (Int32.ofNat p.2, p.1.a, p.1.b, p.1.c))
theorem aprF_s {stm : List Sm} {t : Nat} (h : t < stm.length) : aprF stm t = if stm[t].sort = 8 then (Int32.ofNat t, stm[t].a, stm[t].b, stm[t].c) :: aprF stm (t + 1) else aprF stm (t + 1) := by
  unfold aprF
  have h2 : t < stm.zipIdx.length := by rw [List.length_zipIdx]; exact h
  rw [drop_s h2, List.getElem_zipIdx]
  by_cases c : stm[t].sort = 8
  · rw [if_pos c, List.filter_cons_of_pos (by simpa using c), List.map_cons]
    simp
  · rw [if_neg c, List.filter_cons_of_neg (by simpa using c)]
theorem m_ap_k {n r : Nat} {p1 : Int32} {ru : Ru} {pl : List Tri} (hS : RL S pl) (hR : RR1 S r ru) (hr : r < 8) (hn : 9100 ≤ n) {Q : Int32 → MS → Prop} {jh : Int32 → Int32 → Int32 → Act Int32} :
    ∀ q t, t ≤ ru.stm.length → ru.stm.length < q + t → Q (apA p1 (fndK pl (aprF ru.stm t))) S → wm x (lp_X4_apart_14 n (x + 28) p1 (Int32.ofNat r) jh q (Int32.ofNat (24 * r + t))) S Q := by
  obtain ⟨r1, r2, r3, r4⟩ := hR
  have h20 := hS.2.1
  have e24 : (24 : Int32) * Int32.ofNat r = Int32.ofNat (24 * r) := i_mul 24 r
  intro q
  induction q with
  | zero => intro j _ _; omega
  | succ q ih =>
    intro t ht hq' hq
    rw [lp_X4_apart_14]
    refine m_jn (m_f (ne_m1 (by omega)) (m_bnd (m_getRt rfl (m_bnd (m_ldIt rfl (by omega) ?_)))))
    rw [r1, e24, i_add]
    by_cases e : t = ru.stm.length
    · refine m_t ((i_le (by omega) (by omega)).mpr (by omega)) (m_pur ?_)
      have e0 : aprF ru.stm t = [] := by
        unfold aprF
        rw [e, ← List.length_zipIdx (l := ru.stm) (i := 0), List.drop_length]; rfl
      rw [e0] at hq; exact hq
    · have ht2 : t < ru.stm.length := by omega
      obtain ⟨u1, u2, u3⟩ := r4 t ht2
      rw [aprF_s ht2] at hq
      refine m_f (fun z => by have := (i_le (by omega) (by omega)).mp z; omega) (m_bnd (m_getRt rfl (m_bnd (m_ldIt rfl (by omega) (m_jn ?_)))))
      rw [u1, i_add1]
      by_cases c : ru.stm[t].sort = 8
      · rw [if_pos c] at hq
        rw [if_neg (by rw [c]; decide)] at u2
        obtain ⟨u4, u5⟩ := u3 c
        refine m_t c (m_jn (m_ap_i hS hn (by omega) u2 u4 u5 n 0 (Nat.zero_le _) (by omega) (fun m1 m2 z => ?_) (fun z => ih (t + 1) (by omega) (by omega) ?_)))
        · unfold fndK at hq
          rw [Nat.sub_zero] at z
          rw [show (24 * r + t) % 24 = t by omega]
          simp only [z] at hq
          exact hq
        · unfold fndK at hq
          rw [Nat.sub_zero] at z
          simp only [z] at hq
          exact hq
      · rw [if_neg c] at hq
        exact m_f c (ih (t + 1) (by omega) (by omega) hq)
theorem op_apart {n : Nat} {Q : Int32 → Mem → Prop} (hI : Inv x n0 k p L xs M) (hn : 9100 ≤ n) {w : Int32}
    (hq : ∀ v M1, Scr p L xs M1 → wp (gd 4 (x + 28) (nt (f_X4_apart n (x + 28) w))) M1 (fun w M2 => w = v ∧ Inv x n0 (k + 1) p L xs M2) → Q v M1) : wp (gd 0 x (nt (f_X0_apart n x w))) M Q := by
  refine op_ask hI (fun d hB hX hD => ?_) hq
  have hL := hB.1
  have hg := hB.2.2.1
  have h8 := hD.2.2.2.2.2.2.2.2.1.1
  have h20 := hD.2.2.2.2.2.2.2.1
  have hnow := hD.1
  have en : M.i (128 * 0 + 0) x = Int32.ofNat d.now := hX.2.2.2.2.2.2.1.1
  have fin : ∀ {v : Int32}, v = v ∧ Okx x M d M ∧ M.n = M.n ∧ M.sl = M.sl ∧ M.cap = M.cap := fun {v} => ⟨rfl, Okx.rf hB hX, rfl, rfl, rfl⟩
  have model : ∀ S, IM S d → wm x (f_X4_apart n (x + 28) w) S (fun b S' => b = apA w (fndK d.places (aprt (ruA d.rules (Int32.ofNat d.now)).stm)) ∧ IM S' d) := fun S hS => by
    unfold f_X4_apart
    refine m_bnd (m_getI (by decide) ?_)
    rw [hS.2.2.2.2.2.2.1.1]
    refine m_bnd (m_gd (m_nt (m_inForce hS.2.2.2.2.2.2.2 (by omega) (m_jn ?_))))
    unfold ruA
    cases e : frcA d.rules (Int32.ofNat d.now) with
    | none =>
      show wm x (lp_X4_apart_14 n (x + 28) w (-1) _ n (24 * (-1))) S _
      obtain ⟨n, rfl⟩ : ∃ e, n = e + 1 := ⟨n - 1, by omega⟩
      rw [lp_X4_apart_14]
      exact m_jn (m_t rfl (m_pur ⟨rfl, hS⟩))
    | some i =>
      have hi : i < d.rules.length := frc_lt e
      have h24 := (hS.2.2.2.2.2.2.2.2.2.2 i hi).2.1
      show wm x (lp_X4_apart_14 n (x + 28) w (Int32.ofNat i) _ n (24 * Int32.ofNat i)) S (fun b S' => b = apA w (fndK d.places (aprt (d.rules.getD i bareR).stm)) ∧ IM S' d)
      rw [List.getD_eq_getElem?_getD, List.getElem?_eq_getElem hi, show (24 : Int32) * Int32.ofNat i = Int32.ofNat (24 * i) from i_mul 24 i]
      exact m_ap_k hS.2.2.2.2.2.1 (hS.2.2.2.2.2.2.2.2.2.2 i hi) (by omega) hn n 0 (Nat.zero_le _) (by omega) ⟨rfl, hS⟩
  unfold f_X0_apart
  by_cases c : 0 ≤ w ∧ w ≤ 2
  · obtain ⟨j, hj, rfl⟩ := i_nat (n := 2) c.1 (by decide) c.2
    refine ⟨_, w_bnd (w_nt (x_isIn c64_0 c64_2 (w_t (fun z => bzf z c) (w_bnd (w_getIv hL.k0 en (w_bnd (w_gd hL.k0 (w_nt (x_atR hB hX.2.2.2.2.2.2.2 hn h8 (fun cr hc => w_jn ?_)))))))))), model⟩
    have hlen := map_len hc.2.2.2.2.2.2.2.2.2.2.2.2.2.1
    have hb := hg.len hc.2.2.2.2.2.2.2.2.2.2.2.2.1
    refine x_ap_k hB hX.2.2.2.2.2.1 h20 hn ?_ hc n 0 (Nat.zero_le _) (by omega) fin
    rcases (by omega : j = 0 ∨ j = 1 ∨ j = 2) with rfl | rfl | rfl
    · exact Or.inl rfl
    · exact Or.inr (Or.inl rfl)
    · exact Or.inr (Or.inr rfl)
  · refine ⟨-1, w_bnd (w_nt (x_isIn c64_0 c64_2 (w_f (fun z => z (bz_0.mpr c)) (w_pur fin)))), fun S hS => m_mono (model S hS) (fun b S' h => ⟨h.1.trans ?_, h.2⟩)⟩
    generalize fndK d.places (aprt (ruA d.rules (Int32.ofNat d.now)).stm) = o
    cases o with
    | none => rfl
    | some o =>
      obtain ⟨s, i, j⟩ := o
      unfold apA
      simp only
      rw [if_neg (fun z => c (by rw [z]; decide)), if_neg (fun z => c (by rw [z]; decide)), if_neg (fun z => c (by rw [z]; decide))]
end
