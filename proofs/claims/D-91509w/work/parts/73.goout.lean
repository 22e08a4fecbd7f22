set_option maxRecDepth 100000
/-! ===== what goes out: the model ===== -/
def tkSo (so : So) (w : Int32) : So := (so.set_lots (tkL so.lots w).1).set_grams (so.grams - w)
def trC : Option Nat → Int32
  | none => -1
  | some a => Int32.ofNat a
def tpU (tp : List Tp) (tr : Option Nat) (ss : List (Int32 × Int32)) (f : Int32) : List Tp := match tr with
  | none => tp
  | some a => tp.set a (((tp.getD a bareT).set_sips ((tp.getD a bareT).sips ++ ss)).set_foul ((tp.getD a bareT).foul + f))
/-- another store stays -/
def SoF (s : Nat) (S S' : MS) : Prop := (∀ o, 18 ≤ o → o ≤ 21 → ∀ i, i ≠ s → S'.a o i = S.a o i) ∧ (∀ o, 24 ≤ o → o ≤ 26 → ∀ i, ¬ (840 * s ≤ i ∧ i < 840 * s + 840) → S'.a o i = S.a o i) ∧ (S'.a 15 = S.a 15 ∧ S'.a 16 = S.a 16 ∧ S'.a 17 = S.a 17) ∧ S'.b 22 = S.b 22 ∧ S'.b 23 = S.b 23
section
variable {x : Nat} {S S' S0 : MS}
theorem SoF.rf {s : Nat} : SoF s S S := ⟨fun _ _ _ _ _ => rfl, fun _ _ _ _ _ => rfl, ⟨rfl, rfl, rfl⟩, rfl, rfl⟩
theorem SoF.tr {s : Nat} (h : SoF s S0 S) (h2 : SoF s S S') : SoF s S0 S' := ⟨fun o a b i z => (h2.1 o a b i z).trans (h.1 o a b i z), fun o a b i z => (h2.2.1 o a b i z).trans (h.2.1 o a b i z), ⟨h2.2.2.1.1.trans h.2.2.1.1, h2.2.2.1.2.1.trans h.2.2.1.2.1, h2.2.2.1.2.2.trans h.2.2.1.2.2⟩, h2.2.2.2.1.trans h.2.2.2.1, h2.2.2.2.2.trans h.2.2.2.2⟩
theorem RG1.oth {s t : Nat} {so : So} (h : RG1 S t so) (hs : s < 2) (ht : t < 2) (hst : t ≠ s) (hF : SoF s S S') : RG1 S' t so := by
  obtain ⟨f1, f2, ⟨f3, f4, f5⟩, f6, f7⟩ := hF
  obtain ⟨r1, r2, r3, r4, r5, r6, r7, r8, o, r9, r10, r11, r12⟩ := h
  unfold RG1
  rw [f3, f4, f5, f6, f7, f1 18 (by omega) (by omega) t hst, f1 19 (by omega) (by omega) t hst, f1 20 (by omega) (by omega) t hst, f1 21 (by omega) (by omega) t hst]
  refine ⟨r1, r2, r3, r4, r5, r6, r7, r8, o, r9, r10, r11, fun j hj => ?_⟩
  rw [f2 24 (by omega) (by omega) _ (by omega), f2 25 (by omega) (by omega) _ (by omega), f2 26 (by omega) (by omega) _ (by omega)]
  exact r12 j hj
def goI : Nat → Prop := no
def goA (o : Nat) : Prop := (18 ≤ o ∧ o ≤ 26) ∨ o = 32 ∨ o = 33
theorem drunk_app (l : List (Int32 × Int32)) (e : Int32 × Int32) (h : Int32) : drunkAt (l ++ [e]) h = if e.1 = h then drunkAt l h + e.2 else drunkAt l h := by
  unfold drunkAt
  rw [List.foldl_append]; rfl
theorem tpU_len (tp : List Tp) (tr : Option Nat) (ss : List (Int32 × Int32)) (f : Int32) : (tpU tp tr ss f).length = tp.length := by
  unfold tpU
  cases tr with
  | none => rfl
  | some a => exact List.length_set
theorem tpU_nil {tp : List Tp} {tr : Option Nat} (hr : ∀ a, tr = some a → a < tp.length) : tpU tp tr [] 0 = tp := by
  unfold tpU
  cases tr with
  | none => rfl
  | some a =>
    have ha := hr a rfl
    have e : tp.getD a bareT = tp[a] := by rw [List.getD_eq_getElem?_getD, List.getElem?_eq_getElem ha]; rfl
    simp only [e, List.append_nil, Int32.add_zero]
    have e2 : (tp[a].set_sips tp[a].sips).set_foul tp[a].foul = tp[a] := rfl
    rw [e2]
    exact List.set_getElem_self ha
theorem tpU_tr {tp : List Tp} {tr : Option Nat} {s1 s2 : List (Int32 × Int32)} {f1 f2 : Int32} (hr : ∀ a, tr = some a → a < tp.length) : tpU (tpU tp tr s1 f1) tr s2 f2 = tpU tp tr (s1 ++ s2) (f1 + f2) := by
  unfold tpU
  cases tr with
  | none => rfl
  | some a =>
    have ha := hr a rfl
    simp only [List.set_set]
    have e : ∀ v : Tp, (tp.set a v).getD a bareT = v := fun v => by
      rw [List.getD_eq_getElem?_getD, List.getElem?_set_self ha]; rfl
    simp only [e]
    rw [← List.append_assoc, ← Int32.add_assoc]
    rfl
/-- one sip is noted -/
theorem RP.note {tp : List Tp} {a h : Nat} {m f : Int32} (hP : RP S tp) (ha : a < tp.length) (hh : h < 834) : RP ((S.sa 33 (834 * a + h) (S.a 33 (834 * a + h) + m)).sa 32 a (S.a 32 a + f)) (tpU tp (some a) [(Int32.ofNat h, m)] f) := by
  obtain ⟨p1, p2, p3, p4⟩ := hP
  have e : tp.getD a bareT = tp[a] := by rw [List.getD_eq_getElem?_getD, List.getElem?_eq_getElem ha]; rfl
  unfold tpU
  simp only [e]
  refine ⟨by rw [List.length_set]; exact p1, by rw [List.length_set]; exact p2, fun j hj => ?_, fun j hj hj2 => ?_⟩
  · rw [List.length_set] at hj
    obtain ⟨q1, q2, q3, q4, q5, q6, q7⟩ := p3 j hj
    simp only [sa_at, Nat.reduceEqDiff, false_and, true_and, if_false]
    by_cases c : a = j
    · subst c
      simp only [List.getElem_set_self, if_true]
      refine ⟨q1, q2, q3, q4, q5, ?_, fun q hq => ?_⟩
      · show _ = tp[a].foul + f
        rw [q6]
      · show _ = drunkAt (tp[a].sips ++ [(Int32.ofNat h, m)]) (Int32.ofNat q)
        rw [drunk_app]
        by_cases d : q = h
        · subst d
          rw [if_pos rfl, if_pos rfl, q7 q hq]
        · rw [if_neg (by omega), if_neg (fun z => d ((i_eq (by omega) (by omega)).mp z).symm), q7 q hq]
    · rw [List.getElem_set_ne c]
      refine ⟨q1, q2, q3, q4, q5, ?_, fun q hq => ?_⟩
      · rw [if_neg (fun z => c z.symm)]; exact q6
      · rw [if_neg (by omega)]; exact q7 q hq
  · rw [List.length_set] at hj
    obtain ⟨q1, q2, q3⟩ := p4 j hj hj2
    simp only [sa_at, Nat.reduceEqDiff, false_and, true_and, if_false]
    refine ⟨q1, ?_, fun q hq => ?_⟩
    · rw [if_neg (by omega)]; exact q2
    · rw [if_neg (by omega)]; exact q3 q hq
theorem RP.same {tp : List Tp} (hP : RP S tp) (e1 : S'.i 2 = S.i 2) (e : ∀ o, 27 ≤ o → o ≤ 33 → S'.a o = S.a o) : RP S' tp := hP.fr e1 e
theorem m_go {s : Nat} {tr : Option Nat} (hs : s < 2) {Q : Unit → MS → Prop} : ∀ (lots : List Tri) (q : Nat) (w : Int32) (S : MS) (so : So) (tp : List Tp), so.lots = lots → RG1 S s so → RP S tp → (∀ a, tr = some a → a < tp.length) → (∀ e ∈ lots, 0 ≤ e.1.toInt ∧ e.1.toInt ≤ 833) → posL lots → 0 ≤ w.toInt → w.toInt ≤ sumG lots → lots.length + 1 < q →
    (∀ S', Sam no goA no S S' → SoF s S S' → RG1 S' s (tkSo so w) → RP S' (tpU tp tr (tkL lots w).2.1 (tkL lots w).2.2) → Q () S') → wm x (lp_X4_goesOut_3 (x + 28) (Int32.ofNat s) (trC tr) q w) S Q := by
  intro lots
  induction lots with
  | nil =>
    intro q w S so tp hl hG hP htr hh hp h0 h1 hq' hq
    obtain ⟨q, rfl⟩ : ∃ e, q = e + 1 := ⟨q - 1, by omega⟩
    have : sumG [] = 0 := rfl
    have e0 : w = 0 := Int32.toInt_inj.mp (show w.toInt = 0 by omega)
    subst e0
    rw [lp_X4_goesOut_3]
    refine m_t (by decide) (m_pur (hq S Sam.rf SoF.rf ?_ ?_))
    · have e : tkSo so 0 = so := by
        unfold tkSo
        rw [hl, Int32.sub_zero]
        show (so.set_lots []).set_grams so.grams = so
        rw [← hl]; rfl
      rw [e]; exact hG
    · show RP S (tpU tp tr [] 0)
      rw [tpU_nil htr]; exact hP
  | cons e lots ih =>
    intro q w S so tp hl hG hP htr hh hp h0 h1 hq' hq
    obtain ⟨q, rfl⟩ : ∃ e, q = e + 1 := ⟨q - 1, by omega⟩
    rw [List.length_cons] at hq'
    rw [lp_X4_goesOut_3]
    refine m_ite (fun hw => ?_) (fun hw => ?_)
    · rw [tk_0 hw] at hq
      have e0 : w = 0 := Int32.toInt_inj.mp (show w.toInt = 0 by have h2 : w.toInt ≤ 0 := Int32.le_iff_toInt_le.mp hw; omega)
      refine m_pur (hq S Sam.rf SoF.rf ?_ ?_)
      · have e1 : tkSo so w = so := by
          unfold tkSo
          rw [tk_0 hw, e0, Int32.sub_zero]
          rfl
        rw [e1]; exact hG
      · show RP S (tpU tp tr [] 0)
        rw [tpU_nil htr]; exact hP
    · obtain ⟨r1, r2, r3, r4, r5, r6, r7, r8, o, r9, r10, r11, r12⟩ := hG
      have hpe := hp e List.mem_cons_self
      have hlen : so.lots.length = lots.length + 1 := by rw [hl]; rfl
      obtain ⟨t1, t2, t3, t4⟩ := r12 0 (by omega)
      have g0 : so.lots[0]'(by omega) = e := by simp only [hl]; rfl
      rw [g0, Nat.add_zero] at t1 t2 t3 t4
      obtain ⟨h, hh834, eh⟩ : ∃ h, h < 834 ∧ e.1 = Int32.ofNat h := by
        obtain ⟨q1, q2⟩ := hh e List.mem_cons_self
        obtain ⟨m, hm, em⟩ := i_nat (a := e.1) (n := 833) (Int32.le_iff_toInt_le.mpr q1) (by decide) (Int32.le_iff_toInt_le.mpr q2)
        exact ⟨m, by omega, em⟩
      have tail : ∀ j (hj : j < lots.length), S.a 24 (840 * s + (o + (j + 1))) = lots[j].1 ∧ S.a 25 (840 * s + (o + (j + 1))) = lots[j].2.1 ∧ S.a 26 (840 * s + (o + (j + 1))) = lots[j].2.2 ∧ ((o + (j + 1) : Nat) : Int) ≤ (lots[j].1).toInt := fun j hj => by
        have := r12 (j + 1) (by omega)
        have ge : so.lots[j + 1]'(by omega) = lots[j] := by simp only [hl]; rfl
        rw [ge] at this
        exact this
      have sF : sumF so.lots = e.2.2 + sumF lots := by rw [hl, sumF_c]
      refine m_bnd (m_getRt rfl (m_bnd (m_ldIt rfl hs ?_)))
      rw [r9]
      refine m_bnd (m_nt (m_placeAt ?_))
      refine m_bnd (m_getRt rfl (m_bnd (m_ldIt rfl (by omega) (m_bnd (m_getRt rfl (m_bnd (m_ldIt rfl (by omega) (m_bnd (m_getRt rfl (m_bnd (m_ldIt rfl (by omega) ?_)))))))))))
      rw [t2, t3]
      refine m_bnd (m_nt (m_part (by omega) ?_))
      refine m_bnd (m_getRt rfl (m_bnd (m_ldIt rfl (by omega) (m_bnd (m_stIt rfl (by omega) ?_)))))
      refine m_bnd (m_getRt rfl (m_bnd (m_ldIt rfl (by omega) (m_bnd (m_stIt rfl (by omega) ?_)))))
      refine m_bnd (m_getRt rfl (m_bnd (m_ldIt rfl hs (m_bnd (m_stIt rfl hs ?_)))))
      refine m_bnd (m_getRt rfl (m_bnd (m_ldIt rfl hs (m_bnd (m_stIt rfl hs (m_jn ?_))))))
      simp only [sa_at, Nat.reduceEqDiff, false_and, if_false, t2, t3, r4, r5, sF]
      -- the state behind the first four writes
      have A : Sam no goA no S ((((S.sa 25 (840 * s + o) (e.2.1 - mn w e.2.1)).sa 26 (840 * s + o) (e.2.2 - prt e.2.2 (mn w e.2.1) e.2.1)).sa 18 s (so.grams - mn w e.2.1)).sa 19 s (e.2.2 + sumF lots - prt e.2.2 (mn w e.2.1) e.2.1)) := (((Sam.rf.sa (by unfold goA; omega)).sa (by unfold goA; omega)).sa (by unfold goA; omega)).sa (by unfold goA; omega)
      have B : ∀ o' i, ((((S.sa 25 (840 * s + o) (e.2.1 - mn w e.2.1)).sa 26 (840 * s + o) (e.2.2 - prt e.2.2 (mn w e.2.1) e.2.1)).sa 18 s (so.grams - mn w e.2.1)).sa 19 s (e.2.2 + sumF lots - prt e.2.2 (mn w e.2.1) e.2.1)).a o' i = if o' = 19 ∧ i = s then e.2.2 + sumF lots - prt e.2.2 (mn w e.2.1) e.2.1 else if o' = 18 ∧ i = s then so.grams - mn w e.2.1 else if o' = 26 ∧ i = 840 * s + o then e.2.2 - prt e.2.2 (mn w e.2.1) e.2.1 else if o' = 25 ∧ i = 840 * s + o then e.2.1 - mn w e.2.1 else S.a o' i := fun o' i => rfl
      have C : ((((S.sa 25 (840 * s + o) (e.2.1 - mn w e.2.1)).sa 26 (840 * s + o) (e.2.2 - prt e.2.2 (mn w e.2.1) e.2.1)).sa 18 s (so.grams - mn w e.2.1)).sa 19 s (e.2.2 + sumF lots - prt e.2.2 (mn w e.2.1) e.2.1)).b = S.b := rfl
      revert A B C
      generalize ((((S.sa 25 (840 * s + o) (e.2.1 - mn w e.2.1)).sa 26 (840 * s + o) (e.2.2 - prt e.2.2 (mn w e.2.1) e.2.1)).sa 18 s (so.grams - mn w e.2.1)).sa 19 s (e.2.2 + sumF lots - prt e.2.2 (mn w e.2.1) e.2.1)) = T
      intro A B C
      have hPT : RP T tp := hP.fr (A.1 2 (fun z => z)) (fun o' a b => by
        funext i
        rw [B, if_neg (by omega), if_neg (by omega), if_neg (by omega), if_neg (by omega)])
      -- behind the trip's note
      have key : ∀ (U : MS), Sam no goA no S U → U.b = S.b → (∀ o' i, o' ≠ 32 → o' ≠ 33 → U.a o' i = T.a o' i) → RP U (tpU tp tr [(e.1, mn w e.2.1)] (prt e.2.2 (mn w e.2.1) e.2.1)) →
          wm x (bnd (getR 4 30 (x + 28)) fun v20 => bnd (ldI 0 v20 (Int32.ofNat (840 * s + o))) fun v21 => if v21 ≤ 0 then bnd (getR 4 25 (x + 28)) fun v22 => bnd (ldI 0 v22 (Int32.ofNat s)) fun v23 => bnd (stI 0 v22 (Int32.ofNat s) (v23 - 1)) fun _ => bnd (getR 4 26 (x + 28)) fun v24 => bnd (getR 4 25 (x + 28)) fun v25 => bnd (ldI 0 v25 (Int32.ofNat s)) fun v26 => jn (fun (v27 : Int32) => bnd (stI 0 v24 (Int32.ofNat s) v27) fun _ => (lp_X4_goesOut_3 (x + 28) (Int32.ofNat s) (trC tr) q) (w - (mn w e.2.1))) fun j196 => if ¬ v26 = 0 then bnd (getR 4 26 (x + 28)) fun v28 => bnd (ldI 0 v28 (Int32.ofNat s)) fun v29 => j196 (v29 + 1) else j196 0 else (lp_X4_goesOut_3 (x + 28) (Int32.ofNat s) (trC tr) q) (w - (mn w e.2.1))) U Q := by
        intro U hU hUb hUT hUP
        have rd : ∀ o' i, o' ≠ 32 → o' ≠ 33 → U.a o' i = if o' = 19 ∧ i = s then e.2.2 + sumF lots - prt e.2.2 (mn w e.2.1) e.2.1 else if o' = 18 ∧ i = s then so.grams - mn w e.2.1 else if o' = 26 ∧ i = 840 * s + o then e.2.2 - prt e.2.2 (mn w e.2.1) e.2.1 else if o' = 25 ∧ i = 840 * s + o then e.2.1 - mn w e.2.1 else S.a o' i := fun o' i z z2 => (hUT o' i z z2).trans (B o' i)
        have hUF : SoF s S U := by
          refine ⟨fun o' a b i z => ?_, fun o' a b i z => ?_, ⟨?_, ?_, ?_⟩, by rw [hUb], by rw [hUb]⟩
          · rw [rd o' i (by omega) (by omega), if_neg (fun q => z q.2), if_neg (fun q => z q.2), if_neg (by omega), if_neg (by omega)]
          · rw [rd o' i (by omega) (by omega), if_neg (by omega), if_neg (by omega), if_neg (by omega), if_neg (by omega)]
          · funext i; rw [rd 15 i (by omega) (by omega), if_neg (by omega), if_neg (by omega), if_neg (by omega), if_neg (by omega)]
          · funext i; rw [rd 16 i (by omega) (by omega), if_neg (by omega), if_neg (by omega), if_neg (by omega), if_neg (by omega)]
          · funext i; rw [rd 17 i (by omega) (by omega), if_neg (by omega), if_neg (by omega), if_neg (by omega), if_neg (by omega)]
        refine m_bnd (m_getRt rfl (m_bnd (m_ldIt rfl (by omega) ?_)))
        have l25 : U.a 25 (840 * s + o) = e.2.1 - mn w e.2.1 := by rw [rd 25 _ (by omega) (by omega), if_neg (by omega), if_neg (by omega), if_neg (by omega), if_pos ⟨rfl, rfl⟩]
        rw [l25]
        have l20 : U.a 20 s = Int32.ofNat (lots.length + 1) := by rw [rd 20 s (by omega) (by omega), if_neg (by omega), if_neg (by omega), if_neg (by omega), if_neg (by omega), r6, hlen]
        have l21 : U.a 21 s = Int32.ofNat o := by rw [rd 21 s (by omega) (by omega), if_neg (by omega), if_neg (by omega), if_neg (by omega), if_neg (by omega), r9]
        rcases mn_c hpe hw with ⟨m1, m2, m3, m4⟩ | ⟨m1, m2, m3, m4, m5⟩
        · refine m_t (by rw [m3]; decide) ?_
          have pe : prt e.2.2 (mn w e.2.1) e.2.1 = e.2.2 := by unfold prt; rw [if_pos m1]
          refine m_bnd (m_getRt rfl (m_bnd (m_ldIt rfl hs (m_bnd (m_stIt rfl hs (m_bnd (m_getRt rfl (m_bnd (m_getRt rfl (m_bnd (m_ldIt rfl hs (m_jn ?_))))))))))))
          rw [l20, i_ap1]
          simp only [sa_at, true_and, if_true]
          have fin : ∀ o2 : Nat, (lots.length = 0 → o2 = 0) → (lots.length ≠ 0 → o2 = o + 1) → wm x (bnd (stI 0 (x + 28 + 21) (Int32.ofNat s) (Int32.ofNat o2)) fun _ => (lp_X4_goesOut_3 (x + 28) (Int32.ofNat s) (trC tr) q) (w - (mn w e.2.1))) (U.sa 20 s (Int32.ofNat lots.length)) Q := by
            intro o2 ho0 ho1
            refine m_bnd (m_stIt rfl hs ?_)
            rw [sumG_c] at h1
            refine ih q (w - mn w e.2.1) ((U.sa 20 s (Int32.ofNat lots.length)).sa 21 s (Int32.ofNat o2)) ((so.set_lots lots).set_grams (so.grams - mn w e.2.1)) (tpU tp tr [(e.1, mn w e.2.1)] (prt e.2.2 (mn w e.2.1) e.2.1)) rfl ?_ ?_ (fun a z => by rw [tpU_len]; exact htr a z) (fun e he => hh e (List.mem_cons_of_mem _ he)) (fun e he => hp e (List.mem_cons_of_mem _ he)) (by omega) (by omega) (by omega) (fun S' a1 a2 a3 a4 => hq S' ?_ ?_ ?_ ?_)
            · have red : ∀ o' i, o' ≠ 20 → o' ≠ 21 → ((U.sa 20 s (Int32.ofNat lots.length)).sa 21 s (Int32.ofNat o2)).a o' i = U.a o' i := fun o' i z z2 => by
                rw [sa_at, if_neg (by omega), sa_at, if_neg (by omega)]
              have hb : ((U.sa 20 s (Int32.ofNat lots.length)).sa 21 s (Int32.ofNat o2)).b = S.b := hUb
              unfold RG1
              rw [hb, red 15 s (by omega) (by omega), red 16 s (by omega) (by omega), red 17 s (by omega) (by omega), red 18 s (by omega) (by omega), red 19 s (by omega) (by omega), hUF.2.2.1.1, hUF.2.2.1.2.1, hUF.2.2.1.2.2, rd 18 s (by omega) (by omega), rd 19 s (by omega) (by omega), if_neg (by omega), if_pos ⟨rfl, rfl⟩, if_pos ⟨rfl, rfl⟩]
              refine ⟨r1, r2, r3, rfl, ?_, ?_, r7, r8, o2, sa_eq _ _ _ _, ho0, ?_, fun j hj => ?_⟩
              · show e.2.2 + sumF lots - prt e.2.2 (mn w e.2.1) e.2.1 = sumF lots
                rw [pe]; grind
              · rw [sa_at, if_neg (by omega), sa_eq]; rfl
              · show o2 + lots.length ≤ 834
                by_cases z : lots.length = 0
                · rw [ho0 z, z]; omega
                · rw [ho1 z]; omega
              · have hj : j < lots.length := hj
                have z := ho1 (by omega)
                obtain ⟨u1, u2, u3, u4⟩ := tail j hj
                rw [red 24 _ (by omega) (by omega), red 25 _ (by omega) (by omega), red 26 _ (by omega) (by omega), rd 24 _ (by omega) (by omega), rd 25 _ (by omega) (by omega), rd 26 _ (by omega) (by omega)]
                rw [z, show o + 1 + j = o + (j + 1) by omega]
                simp only [Nat.reduceEqDiff, false_and, true_and, if_false]
                rw [if_neg (by omega), if_neg (by omega)]
                exact ⟨u1, u2, u3, u4⟩
            · exact hUP.fr rfl (fun o' a b => by
                rw [sa_no _ _ _ _ (by omega), sa_no _ _ _ _ (by omega)])
            · exact (hU.sa (by unfold goA; omega)).sa (by unfold goA; omega) |>.tr a1
            · refine (hUF.tr ?_).tr a2
              refine ⟨fun o' a b i z => ?_, fun o' a b i z => ?_, ⟨rfl, rfl, rfl⟩, rfl, rfl⟩
              · rw [sa_at, if_neg (fun q => z q.2), sa_at, if_neg (fun q => z q.2)]
              · rw [sa_at, if_neg (by omega), sa_at, if_neg (by omega)]
            · have e5 : tkSo ((so.set_lots lots).set_grams (so.grams - mn w e.2.1)) (w - mn w e.2.1) = tkSo so w := by
                unfold tkSo
                rw [hl, tk_a hw m3]
                show ((((so.set_lots lots).set_grams (so.grams - mn w e.2.1))).set_lots (tkL lots (w - mn w e.2.1)).1).set_grams (so.grams - mn w e.2.1 - (w - mn w e.2.1)) = _
                rw [show so.grams - mn w e.2.1 - (w - mn w e.2.1) = so.grams - w by grind]
                rfl
              rw [← e5]; exact a3
            · rw [tk_a hw m3]
              rw [tpU_tr htr] at a4
              exact a4
          refine m_ite (fun z => ?_) (fun z => ?_)
          · refine m_bnd (m_getRt rfl (m_bnd (m_ldIt rfl hs ?_)))
            rw [sa_at, if_neg (by omega), l21, i_add1]
            refine fin (o + 1) (fun y => absurd (by rw [y]; rfl) z) (fun _ => rfl)
          · rw [Decidable.not_not] at z
            have z0 : lots.length = 0 := (i_eq (b := 0) (by omega) (by omega)).mp z
            exact fin 0 (fun _ => rfl) (fun y => absurd z0 y)
        · refine m_f (fun z => ?_) ?_
          · have z2 : (e.2.1 - mn w e.2.1).toInt ≤ 0 := Int32.le_iff_toInt_le.mp z
            omega
          · rw [m4]
            obtain ⟨q, rfl⟩ : ∃ e, q = e + 1 := ⟨q - 1, by omega⟩
            rw [lp_X4_goesOut_3]
            rw [tk_b hw m3] at hq
            refine m_t (by decide) (m_pur (hq U hU hUF ?_ hUP))
            unfold RG1
            have e6 : tkSo so w = (so.set_lots ((e.1, e.2.1 - mn w e.2.1, e.2.2 - prt e.2.2 (mn w e.2.1) e.2.1) :: lots)).set_grams (so.grams - w) := by
              unfold tkSo
              rw [hl, tk_b hw m3]
            rw [e6, hUb, hUF.2.2.1.1, hUF.2.2.1.2.1, hUF.2.2.1.2.2, rd 18 s (by omega) (by omega), rd 19 s (by omega) (by omega), if_neg (by omega), if_pos ⟨rfl, rfl⟩, if_pos ⟨rfl, rfl⟩]
            refine ⟨r1, r2, r3, ?_, ?_, l20, r7, r8, o, l21, fun z => absurd z (by show lots.length + 1 ≠ 0; omega), ?_, fun j hj => ?_⟩
            · show so.grams - mn w e.2.1 = so.grams - w
              rw [m1]
            · show _ = sumF ((e.1, e.2.1 - mn w e.2.1, e.2.2 - prt e.2.2 (mn w e.2.1) e.2.1) :: lots)
              rw [sumF_c]
              grind
            · show o + (lots.length + 1) ≤ 834
              omega
            · have hj : j < lots.length + 1 := hj
              rw [rd 24 _ (by omega) (by omega), rd 25 _ (by omega) (by omega), rd 26 _ (by omega) (by omega)]
              simp only [Nat.reduceEqDiff, false_and, true_and, if_false]
              cases j with
              | zero =>
                rw [Nat.add_zero, if_pos rfl, if_pos rfl]
                exact ⟨t1, rfl, rfl, t4⟩
              | succ j =>
                obtain ⟨u1, u2, u3, u4⟩ := tail j (by omega)
                rw [if_neg (by omega), if_neg (by omega)]
                exact ⟨u1, u2, u3, u4⟩
      cases tr with
      | none => exact m_t rfl (key T A C (fun _ _ _ _ => rfl) hPT)
      | some a =>
        have ha := htr a rfl
        have h40 := hP.2.1
        refine m_f (ne_m1 (by omega)) ?_
        refine m_bnd (m_getRt rfl (m_bnd (m_getRt rfl (m_bnd (m_ldIt rfl (by omega) ?_)))))
        have l24 : T.a 24 (840 * s + o) = Int32.ofNat h := by rw [B, if_neg (by omega), if_neg (by omega), if_neg (by omega), if_neg (by omega), t1, eh]
        rw [l24]
        rw [show (834 : Int32) * trC (some a) + Int32.ofNat h = Int32.ofNat (834 * a + h) from i_834 a h]
        refine m_bnd (m_ldIt rfl (by omega) (m_bnd (m_stIt rfl (by omega) (m_bnd (m_getRt rfl (m_bnd (m_ldIt (i := a) rfl (by omega) (m_bnd (m_stIt (i := a) rfl (by omega) ?_)))))))))
        rw [sa_at, if_neg (by omega)]
        refine key _ ((A.sa (by unfold goA; omega)).sa (by unfold goA; omega)) C (fun o' i z z2 => ?_) ?_
        · rw [sa_at, if_neg (by omega), sa_at, if_neg (by omega)]
        · rw [eh]
          exact hPT.note ha hh834
end
