set_option maxRecDepth 100000
section
variable {x : Nat} {S : MS}
theorem ne_m1 {n : Nat} (h : n < 2147483648) : ¬ Int32.ofNat n = -1 := fun z => i_nneg h (by rw [z]; decide)
theorem m_anyc {P : Nat → Nat → Int32 → Ask → Prop} {G : Nat → Nat → Int32 → Act Int32} {h : Nat → Int64} {Q : Int32 → MS → Prop} (H : ∀ lo hi k ψ, P lo hi k ψ → hi ≤ 5000 → ∀ R : Int32 → MS → Prop, R (bz (ψ h = true)) S → wm x (G 0 (x + 28) k) S R) :
    ∀ (ψs : List Ask) (lo hi : Nat) (k : Int32) (q : Nat), hi ≤ 5000 → Chn S P lo hi k ψs → ψs.length < q → Q (bz (ψs.any (fun ψ => ψ h) = true)) S → wm x (lp_X4_holds_39 G (x + 28) q k) S Q := by
  intro ψs
  induction ψs with
  | nil =>
    intro lo hi k q _ hc hq' hq
    obtain ⟨q, rfl⟩ : ∃ e, q = e + 1 := ⟨q - 1, by omega⟩
    rw [lp_X4_holds_39]
    exact m_t hc (m_purZ (Or.inl rfl) hq)
  | cons ψ ψs ih =>
    intro lo hi k q hhi hc hq' hq
    obtain ⟨q, rfl⟩ : ∃ e, q = e + 1 := ⟨q - 1, by omega⟩
    obtain ⟨kn, mid, h1, h2, h3, rfl, h5, h6⟩ := hc
    rw [List.length_cons] at hq'
    rw [lp_X4_holds_39]
    refine m_f (ne_m1 (by omega)) (m_bnd (m_gd (m_nt (H _ _ _ _ h5 (by omega) _ ?_))))
    cases eb : ψ h with
    | true =>
      simp only [List.any_cons, eb, Bool.true_or] at hq
      exact m_f (by decide) (m_purZ (Or.inr rfl) hq)
    | false =>
      simp only [List.any_cons, eb, Bool.false_or] at hq
      exact m_t (by rfl) (m_bnd (m_getRt rfl (m_bnd (m_ldIt rfl (by omega) (ih _ _ _ _ hhi h6 (by omega) hq)))))
theorem m_allc {P : Nat → Nat → Int32 → Ask → Prop} {G : Nat → Nat → Int32 → Act Int32} {h : Nat → Int64} {Q : Int32 → MS → Prop} (H : ∀ lo hi k ψ, P lo hi k ψ → hi ≤ 5000 → ∀ R : Int32 → MS → Prop, R (bz (ψ h = true)) S → wm x (G 0 (x + 28) k) S R) :
    ∀ (ψs : List Ask) (lo hi : Nat) (k : Int32) (q : Nat), hi ≤ 5000 → Chn S P lo hi k ψs → ψs.length < q → Q (bz (ψs.all (fun ψ => ψ h) = true)) S → wm x (lp_X4_holds_73 G (x + 28) q k) S Q := by
  intro ψs
  induction ψs with
  | nil =>
    intro lo hi k q _ hc hq' hq
    obtain ⟨q, rfl⟩ : ∃ e, q = e + 1 := ⟨q - 1, by omega⟩
    rw [lp_X4_holds_73]
    exact m_t hc (m_purZ (Or.inr rfl) hq)
  | cons ψ ψs ih =>
    intro lo hi k q hhi hc hq' hq
    obtain ⟨q, rfl⟩ : ∃ e, q = e + 1 := ⟨q - 1, by omega⟩
    obtain ⟨kn, mid, h1, h2, h3, rfl, h5, h6⟩ := hc
    rw [List.length_cons] at hq'
    rw [lp_X4_holds_73]
    refine m_f (ne_m1 (by omega)) (m_bnd (m_gd (m_nt (H _ _ _ _ h5 (by omega) _ ?_))))
    cases eb : ψ h with
    | true =>
      simp only [List.all_cons, eb, Bool.true_and] at hq
      exact m_t (by decide) (m_bnd (m_getRt rfl (m_bnd (m_ldIt rfl (by omega) (ih _ _ _ _ hhi h6 (by omega) hq)))))
    | false =>
      simp only [List.all_cons, eb, Bool.false_and] at hq
      exact m_f (by decide) (m_purZ (Or.inl rfl) hq)
theorem m_hold {n : Nat} {h : Nat → Int64} (hh : ∀ j, j < 8 → S.b 55 j = h j) (hn : 9100 ≤ n) : ∀ (d lo hi : Nat) (k : Int32) (φ : Ask), CM S d lo hi k φ → hi ≤ 5000 → ∀ dd, d ≤ dd → ∀ Q : Int32 → MS → Prop, Q (bz (φ h = true)) S → wm x (g_holds n dd 0 (x + 28) k) S Q := by
  intro d
  induction d with
  | zero => intro lo hi k φ hc; exact hc.elim
  | succ d ih =>
    intro lo hi k φ hc hhi dd hdd Q hq
    obtain ⟨e, rfl⟩ : ∃ e, dd = e + 1 := ⟨dd - 1, by omega⟩
    obtain ⟨kn, h0, h1, rfl, h3⟩ := hc
    show wm x (f_X4_holds n (g_holds n e) (x + 28) (Int32.ofNat kn)) S Q
    unfold f_X4_holds
    refine m_bnd (m_getRt rfl (m_bnd (m_ldIt rfl (by omega) ?_)))
    have H : ∀ lo hi k ψ, CM S d lo hi k ψ → hi ≤ 5000 → ∀ R : Int32 → MS → Prop, R (bz (ψ h = true)) S → wm x (g_holds n e 0 (x + 28) k) S R := fun lo hi k ψ z z2 R hR => ih lo hi k ψ z z2 e (by omega) R hR
    rcases h3 with ⟨c1, wd, w1, w2, rfl⟩ | ⟨c1, ψ, w1, rfl⟩ | ⟨ψs, w1, ⟨c1, rfl⟩ | ⟨c1, rfl⟩⟩
    · rw [c1, sw_dN 3 rfl (by decide) (by decide)]
      have T : wm x (if ¬ S.a 51 kn = 60 then (if ¬ S.a 51 kn = 62 then (if ¬ (lg_cmp (h wd) (S.a 52 kn).toInt64) = 0 then purS (ty := .boolean) 0 else purS (ty := .boolean) 1) else (if (lg_cmp (h wd) (S.a 52 kn).toInt64) ≤ 0 then purS (ty := .boolean) 0 else purS (ty := .boolean) 1)) else (if 0 ≤ (lg_cmp (h wd) (S.a 52 kn).toInt64) then purS (ty := .boolean) 0 else purS (ty := .boolean) 1)) S Q := m_w (a := bz (tst (S.a 51 kn) (S.a 52 kn) (h wd) = true)) (fun M => tst_x ⟨rfl, rfl⟩) hq
      refine m_bnd (m_getRt rfl (m_bnd (m_getRt rfl (m_bnd (m_ldIt rfl (by omega) ?_)))))
      rw [w2]
      refine m_bnd (m_ldLt rfl w1 ?_)
      rw [hh wd w1]
      refine m_bnd (m_getRt rfl (m_bnd (m_ldIt rfl (by omega) (m_jn ?_))))
      by_cases c1 : S.a 51 kn = 60
      · rw [if_neg (by simp only [c1, not_true_eq_false, not_false_eq_true])] at T
        exact m_f (fun z => z c1) (m_bnd (m_getRt rfl (m_bnd (m_ldIt rfl (by omega) T))))
      · rw [if_pos c1] at T
        refine m_t c1 (m_bnd (m_getRt rfl (m_bnd (m_ldIt rfl (by omega) ?_))))
        by_cases c2 : S.a 51 kn = 62
        · rw [if_neg (by simp only [c2, not_true_eq_false, not_false_eq_true])] at T
          exact m_f (fun z => z c2) (m_bnd (m_getRt rfl (m_bnd (m_ldIt rfl (by omega) T))))
        · rw [if_pos c2] at T
          exact m_t c2 (m_bnd (m_getRt rfl (m_bnd (m_ldIt rfl (by omega) T))))
    · rw [c1, show (2 : Int32) = Int32.ofNat 2 from rfl, sw_kN 3 rfl (by decide) (by decide)]
      refine m_bnd (m_getRt rfl (m_bnd (m_ldIt rfl (by omega) (m_bnd (m_gd (m_nt (H _ _ _ _ w1 hhi _ (m_jn ?_))))))))
      cases eb : ψ h with
      | true =>
        simp only [eb] at hq
        exact m_t (by decide) (m_purZ (Or.inl rfl) hq)
      | false =>
        simp only [eb] at hq
        exact m_f (by decide) (m_purZ (Or.inr rfl) hq)
    · have hl := Chn.len _ _ _ _ w1
      rw [c1, show (1 : Int32) = Int32.ofNat 1 from rfl, sw_kN 3 rfl (by decide) (by decide)]
      exact m_bnd (m_getRt rfl (m_bnd (m_ldIt rfl (by omega) (m_allc H _ _ _ _ _ hhi w1 (by omega) hq))))
    · have hl := Chn.len _ _ _ _ w1
      rw [c1, show (0 : Int32) = Int32.ofNat 0 from rfl, sw_kN 3 rfl (by decide) (by decide)]
      exact m_bnd (m_getRt rfl (m_bnd (m_ldIt rfl (by omega) (m_anyc H _ _ _ _ _ hhi w1 (by omega) hq))))
theorem asks_app (l : List Sm) (s : Sm) (w : Int32) : asks (l ++ [s]) w = asks l w ++ (if s.sort = w then [s.ask] else []) := by
  unfold asks
  rw [List.filter_append, List.map_append]
  congr 1
  by_cases c : s.sort = w
  · rw [if_pos c, List.filter_cons_of_pos (by simpa using c)]; rfl
  · rw [if_neg c, List.filter_cons_of_neg (by simpa using c)]; rfl
def anyA (l : List Ask) (h : Nat → Int64) : Bool := l.any (fun φ => φ h)
theorem anyA_app (l m : List Ask) (h : Nat → Int64) : anyA (l ++ m) h = (anyA l h || anyA m h) := List.any_append
theorem m_asks_lp {n i : Nat} {ru : Ru} {h : Nat → Int64} {w : Int32} {Q : Int32 → MS → Prop} (hi : i < 9) (hw : w = 6 ∨ w = 7) (hR : RR1 S i ru) (h5 : (S.i 50).toNatClampNeg ≤ 5000) (hh : ∀ j, j < 8 → S.b 55 j = h j) (hn : 9100 ≤ n) (hq : Q (bz (anyA (asks ru.stm w) h = true)) S) :
    ∀ q j, j ≤ ru.stm.length → ru.stm.length < q + j → wm x (lp_X4_asks_103 n (x + 28) (Int32.ofNat i) w q (bz (anyA (asks (ru.stm.take j) w) h = true)) (Int32.ofNat (24 * i + j))) S Q := by
  obtain ⟨r1, r2, r3, r4⟩ := hR
  have e24 : (24 : Int32) * Int32.ofNat i = Int32.ofNat (24 * i) := i_mul 24 i
  intro q
  induction q with
  | zero => intro j _ _; omega
  | succ q ih =>
    intro j hj hq'
    rw [lp_X4_asks_103]
    refine m_jn (m_f (ne_m1 (by omega)) (m_bnd (m_getRt rfl (m_bnd (m_ldIt rfl hi ?_)))))
    rw [r1, e24, i_add]
    by_cases e : j = ru.stm.length
    · refine m_t ((i_le (by omega) (by omega)).mpr (by omega)) (m_purZ bz_z ?_)
      rw [e, List.take_length]; exact hq
    · have hj2 : j < ru.stm.length := by omega
      obtain ⟨u1, u2, u3⟩ := r4 j hj2
      have K := ih (j + 1) (by omega) (by omega)
      rw [List.take_succ_eq_append_getElem hj2, asks_app, anyA_app] at K
      refine m_f (fun z => by have := (i_le (by omega) (by omega)).mp z; omega) (m_jn (m_jn ?_))
      rw [i_add1]
      cases eb : anyA (asks (ru.stm.take j) w) h with
      | true =>
        simp only [eb, Bool.true_or] at K
        exact m_t (by decide) K
      | false =>
        simp only [eb, Bool.false_or] at K
        refine m_f (by decide) (m_bnd (m_getRt rfl (m_bnd (m_ldIt rfl (by omega) (m_jn ?_)))))
        rw [u1]
        by_cases c : ru.stm[j].sort = w
        · rw [if_pos c] at K
          rw [if_pos (by rw [c]; exact hw)] at u2
          refine m_f (fun z => z c) (m_bnd (m_getRt rfl (m_bnd (m_ldIt rfl (by omega) (m_bnd (m_gd (m_nt (m_hold hh hn _ _ _ _ _ u2 h5 40 (by omega) _ ?_))))))))
          cases ec : ru.stm[j].ask h with
          | true =>
            simp only [anyA, List.any_cons, ec, Bool.true_or] at K
            exact m_f (by decide) K
          | false =>
            simp only [anyA, List.any_cons, ec, List.any_nil, Bool.false_or] at K
            exact m_t (by rfl) K
        · rw [if_neg c] at K
          exact m_t c K
end
/-- in the model nothing has changed but what conditions ask -/
def Hon (S S' : MS) : Prop := Sam no no (fun o => o = 55) S S'
section
variable {x : Nat} {S S' S0 : MS}
theorem Hon.rf : Hon S S := Sam.rf
theorem Hon.tr (h : Hon S0 S) (h2 : Hon S S') : Hon S0 S' := Sam.tr h h2
theorem Hon.sb {j : Nat} {v : Int64} (h : Hon S0 S) : Hon S0 (S.sb 55 j v) := Sam.sb h rfl
theorem Hon.im {d : Dt} (h : Hon S S') (hS : IM S d) : IM S' d := by
  obtain ⟨e1, e2, e3⟩ := h
  obtain ⟨g1, g2, g3, g4, g5, g6, g7, g8⟩ := hS
  exact ⟨g1.fr (fun o a b => e2 o (fun z => z)), g2.fr (e1 _ (fun z => z)) (fun o a b => e2 o (fun z => z)) (e3 _ (by decide)), g3.fr (fun o a b => e2 o (fun z => z)) (e3 _ (by decide)) (e3 _ (by decide)), g4.fr (e1 _ (fun z => z)) (fun o a b => e2 o (fun z => z)), g5.fr (e1 _ (fun z => z)) (fun o a b => e2 o (fun z => z)), g6.fr (e1 _ (fun z => z)) (fun o a b => e2 o (fun z => z)), g7.fr (fun j _ => e1 _ (fun z => z)) (fun o _ => e2 o (fun z => z)) (e3 _ (by decide)), g8.fr (e1 _ (fun z => z)) (e1 _ (fun z => z)) (fun o a b => e2 o (fun z => z))⟩
theorem m_stA {j : Nat} (hj : j < 8) {v : Int64} {Q : Unit → MS → Prop} (ho : Hon S0 S) (hq : ∀ S', Hon S0 S' → (∀ i, S'.b 55 i = if i = j then v else S.b 55 i) → Q () S') : wm x (stL 1 (x + 28 + 55) (Int32.ofNat j) v) S Q := by
  refine m_stLt rfl hj (hq _ ho.sb (fun i => ?_))
  rw [sB_at]
  by_cases e : i = j
  · rw [if_pos ⟨rfl, e⟩, if_pos e]
  · rw [if_neg (fun z => e z.2), if_neg e]
theorem m_asks {n t : Nat} {d : Dt} (hS : IM S d) (hn : 9100 ≤ n) {t0 : Int32} (ht : t < 5000) {w : Int32} (hw : w = 6 ∨ w = 7) {s u r : Int32} {Q : Int32 → MS → Prop}
    (hq : ∀ S', Hon S S' → Q (bz (anyA (asks (ruA d.rules t0).stm w) (hereA d.told t s.toInt64 u.toInt64 r.toInt64) = true)) S') : wm x (f_X4_asks n (x + 28) (fcd (frcA d.rules t0)) w (Int32.ofNat t) s u r) S Q := by
  unfold f_X4_asks
  refine m_bnd (m_getRt rfl (m_bnd (m_gd (m_nt (m_saidOf (w := 0) hS.1 (by decide) (by omega) (m_bnd (m_stA (j := 0) (by decide) Hon.rf (fun S1 o1 a1 => ?_))))))))
  refine m_bnd (m_getRt rfl (m_bnd (m_gd (m_nt (m_saidOf (w := 1) (o1.im hS).1 (by decide) (by omega) (m_bnd (m_stA (j := 1) (by decide) o1 (fun S2 o2 a2 => ?_))))))))
  refine m_bnd (m_getRt rfl (m_bnd (m_gd (m_nt (m_saidOf (w := 2) (o2.im hS).1 (by decide) (by omega) (m_bnd (m_stA (j := 2) (by decide) o2 (fun S3 o3 a3 => ?_))))))))
  refine m_bnd (m_getRt rfl (m_bnd (m_stA (j := 3) (by decide) o3 (fun S4 o4 a4 => ?_))))
  refine m_bnd (m_getRt rfl (m_bnd (m_stA (j := 4) (by decide) o4 (fun S5 o5 a5 => ?_))))
  refine m_bnd (m_getRt rfl (m_bnd (m_stA (j := 5) (by decide) o5 (fun S6 o6 a6 => ?_))))
  refine m_bnd (m_getRt rfl (m_bnd (m_stA (j := 6) (by decide) o6 (fun S7 o7 a7 => ?_))))
  refine m_bnd (m_getRt rfl (m_bnd (m_stA (j := 7) (by decide) o7 (fun S8 o8 a8 => ?_))))
  have hh : ∀ j, j < 8 → S8.b 55 j = hereA d.told t s.toInt64 u.toInt64 r.toInt64 j := by
    intro j hj
    rw [a8, a7, a6, a5, a4, a3, a2, a1]
    have e3 : Int32.ofNat t / 6 - Int32.ofNat t / 6 / 24 * 24 = Int32.ofNat (t / 6 % 24) := by
      rw [i_d6 (by omega), i_d24 (by omega), i_m24, i_sub (by omega)]
      congr 1
      omega
    have e4 : Int32.ofNat t / 144 = Int32.ofNat (t / 144) := i_d144 (by omega)
    rw [e3, e4]
    rcases (by omega : j = 0 ∨ j = 1 ∨ j = 2 ∨ j = 3 ∨ j = 4 ∨ j = 5 ∨ j = 6 ∨ j = 7) with rfl | rfl | rfl | rfl | rfl | rfl | rfl | rfl <;> rfl
  have hS8 := o8.im hS
  have hq := hq S8 o8
  obtain ⟨n1, n2, ⟨nd, n3, n4⟩, n5⟩ := hS8.2.2.2.2.2.2.2
  unfold ruA at hq
  cases e : frcA d.rules t0 with
  | none =>
    rw [e] at hq
    show wm x (lp_X4_asks_103 n (x + 28) (-1) w n 0 (24 * (-1))) S8 Q
    obtain ⟨n, rfl⟩ : ∃ e, n = e + 1 := ⟨n - 1, by omega⟩
    rw [lp_X4_asks_103]
    exact m_jn (m_t rfl (m_purZ (Or.inl rfl) hq))
  | some i =>
    rw [e] at hq
    have hi : i < d.rules.length := frc_lt e
    have hq : Q (bz (anyA (asks (d.rules.getD i bareR).stm w) (hereA d.told t s.toInt64 u.toInt64 r.toInt64) = true)) S8 := hq
    rw [List.getD_eq_getElem?_getD, List.getElem?_eq_getElem hi] at hq
    have h24 := (n5 i hi).2.1
    have e24 : (24 : Int32) * Int32.ofNat i = Int32.ofNat (24 * i) := i_mul 24 i
    show wm x (lp_X4_asks_103 n (x + 28) (Int32.ofNat i) w n 0 (24 * Int32.ofNat i)) S8 Q
    rw [e24]
    refine m_asks_lp (by omega) hw (n5 i hi) ?_ hh hn hq n 0 (Nat.zero_le _) (by omega)
    rw [n3, i_clamp (by omega)]
    omega
end
