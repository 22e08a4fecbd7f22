set_option maxRecDepth 100000
/-! ===== what comes into a store ===== -/
theorem nil_app {α : Type} (l : List α) : l = [] ∨ ∃ l' e, l = l' ++ [e] := by
  rcases List.eq_nil_or_concat l with h | ⟨l', e, h⟩
  · exact Or.inl h
  · exact Or.inr ⟨l', e, by rw [h, List.concat_eq_append]⟩
def ensL (l : List Tri) (h : Int32) : List Tri := match l.getLast? with
  | some e => if e.1 = h then l else l ++ [(h, 0, 0)]
  | none => l ++ [(h, 0, 0)]
def incL (l : List Tri) (m f : Int32) : List Tri := match l.getLast? with
  | some e => l.dropLast ++ [(e.1, e.2.1 + m, e.2.2 + f)]
  | none => l
def addL (l : List Tri) (h m f : Int32) : List Tri := if m = 0 then l else incL (ensL l h) m f
theorem incL_c (l : List Tri) (e : Tri) (m f : Int32) : incL (l ++ [e]) m f = l ++ [(e.1, e.2.1 + m, e.2.2 + f)] := by
  unfold incL
  rw [List.getLast?_concat, List.dropLast_concat]
theorem ensL_n (h : Int32) : ensL [] h = [(h, 0, 0)] := rfl
theorem ensL_c (l : List Tri) (e : Tri) (h : Int32) : ensL (l ++ [e]) h = if e.1 = h then l ++ [e] else l ++ [e] ++ [(h, 0, 0)] := by
  unfold ensL
  rw [List.getLast?_concat]
/-- the last lot is of the hour -/
theorem ensL_e (l : List Tri) (h : Int32) : ∃ l' e, ensL l h = l' ++ [e] ∧ e.1 = h := by
  rcases nil_app l with rfl | ⟨l', e, rfl⟩
  · exact ⟨[], (h, 0, 0), rfl, rfl⟩
  · rw [ensL_c]
    by_cases c : e.1 = h
    · rw [if_pos c]; exact ⟨l', e, rfl, c⟩
    · rw [if_neg c]; exact ⟨l' ++ [e], (h, 0, 0), rfl, rfl⟩
theorem sumG_app (l m : List Tri) : sumG (l ++ m) = sumG l + sumG m := by
  unfold sumG; rw [List.map_append, List.sum_append]
theorem sumF_app (l m : List Tri) : sumF (l ++ m) = sumF l + sumF m := by
  unfold sumF
  rw [List.foldl_append, sumF_fold]
  rfl
theorem sumG_1 (e : Tri) : sumG [e] = e.2.1.toInt := by rw [sumG_c]; show _ + 0 = _; omega
theorem sumF_1 (e : Tri) : sumF [e] = e.2.2 := by rw [sumF_c]; show _ + 0 = _; exact Int32.add_zero _
theorem ensL_G (l : List Tri) (h : Int32) : sumG (ensL l h) = sumG l ∧ sumF (ensL l h) = sumF l := by
  have z : sumG [(h, 0, 0)] = 0 := by rw [sumG_1]; rfl
  have z2 : sumF [(h, 0, 0)] = 0 := by rw [sumF_1]
  rcases nil_app l with rfl | ⟨l', e, rfl⟩
  · exact ⟨z, z2⟩
  · rw [ensL_c]
    by_cases c : e.1 = h
    · rw [if_pos c]; exact ⟨rfl, rfl⟩
    · rw [if_neg c]
      exact ⟨by rw [sumG_app _ [(h, 0, 0)], z, Int.add_zero], by rw [sumF_app _ [(h, 0, 0)], z2, Int32.add_zero]⟩
/-- lots that rise in hours, the last but one hold something -/
def lotsN (now : Nat) (l : List Tri) : Prop := (∀ j (h : j < l.length), 0 ≤ l[j].2.1.toInt ∧ 0 ≤ l[j].1.toInt ∧ l[j].1.toInt ≤ ((now / 6 : Nat) : Int)) ∧ (∀ i j (hi : i < l.length) (hj : j < l.length), i < j → l[i].1.toInt < l[j].1.toInt) ∧ ∀ j (h : j < l.length), j + 1 < l.length → 0 < l[j].2.1.toInt
theorem ensL_ok {now : Nat} {l : List Tri} (h : lotsOk now l) (hn : now ≤ 4999) : lotsN now (ensL l (Int32.ofNat (now / 6))) := by
  have hh : (Int32.ofNat (now / 6)).toInt = ((now / 6 : Nat) : Int) := i_toInt (by omega)
  have base : lotsN now l := ⟨fun j hj => ⟨by have := (h.1 j hj).1; omega, (h.1 j hj).2⟩, h.2, fun j hj _ => (h.1 j hj).1⟩
  rcases nil_app l with rfl | ⟨l', e, rfl⟩
  · rw [ensL_n]
    refine ⟨fun j hj => ?_, fun i j hi hj hij => ?_, fun j hj hj2 => ?_⟩
    · have hj0 : j = 0 := by simp at hj; omega
      subst hj0
      show 0 ≤ (0 : Int32).toInt ∧ 0 ≤ (Int32.ofNat (now / 6)).toInt ∧ (Int32.ofNat (now / 6)).toInt ≤ _
      rw [hh]
      exact ⟨by decide, by omega, by omega⟩
    · simp at hi hj; omega
    · simp at hj2
  · rw [ensL_c]
    by_cases c : e.1 = Int32.ofNat (now / 6)
    · rw [if_pos c]; exact base
    · rw [if_neg c]
      have he := h.1 l'.length (by simp)
      have ee : (l' ++ [e])[l'.length]'(by simp) = e := by simp
      rw [ee] at he
      have lt : e.1.toInt < ((now / 6 : Nat) : Int) := by
        rcases Int.lt_or_eq_of_le he.2.2 with z | z
        · exact z
        · exact absurd (Int32.toInt_inj.mp (z.trans hh.symm)) c
      have ll : (l' ++ [e] ++ [(Int32.ofNat (now / 6), 0, 0)]).length = (l' ++ [e]).length + 1 := by simp
      have gl : ∀ j (hj : j < (l' ++ [e]).length), (l' ++ [e] ++ [((Int32.ofNat (now / 6), 0, 0) : Tri)])[j]'(by rw [ll]; omega) = (l' ++ [e])[j] := fun j hj => List.getElem_append_left hj
      have gr : (l' ++ [e] ++ [((Int32.ofNat (now / 6), 0, 0) : Tri)])[(l' ++ [e]).length]'(by rw [ll]; omega) = (Int32.ofNat (now / 6), 0, 0) := by simp
      have mx : ∀ j (hj : j < (l' ++ [e]).length), (l' ++ [e])[j].1.toInt < ((now / 6 : Nat) : Int) := fun j hj => by
        by_cases q : j = l'.length
        · subst q; rw [ee]; exact lt
        · have := h.2 j l'.length hj (by simp) (by simp at hj; omega)
          rw [ee] at this
          omega
      refine ⟨fun j hj => ?_, fun i j hi hj hij => ?_, fun j hj hj2 => ?_⟩
      · rw [ll] at hj
        by_cases q : j = (l' ++ [e]).length
        · subst q
          rw [gr]
          show 0 ≤ (0 : Int32).toInt ∧ 0 ≤ (Int32.ofNat (now / 6)).toInt ∧ (Int32.ofNat (now / 6)).toInt ≤ _
          rw [hh]
          exact ⟨by decide, by omega, by omega⟩
        · rw [gl j (by omega)]
          exact base.1 j (by omega)
      · rw [ll] at hi hj
        by_cases q : j = (l' ++ [e]).length
        · subst q
          rw [gr, gl i (by omega)]
          show _ < (Int32.ofNat (now / 6)).toInt
          rw [hh]
          exact mx i (by omega)
        · rw [gl j (by omega), gl i (by omega)]
          exact h.2 i j (by omega) (by omega) hij
      · rw [ll] at hj2
        rw [gl j (by omega)]
        exact (h.1 j (by omega)).1
theorem incL_ok {now : Nat} {l : List Tri} {e : Tri} {m f : Int32} (h : lotsN now (l ++ [e])) (m0 : 0 < m.toInt) (hb : e.2.1.toInt + m.toInt < 2147483648) : lotsOk now (incL (l ++ [e]) m f) := by
  rw [incL_c]
  obtain ⟨h1, h2, h3⟩ := h
  have ee : (l ++ [e])[l.length]'(by simp) = e := by simp
  have en := h1 l.length (by simp)
  rw [ee] at en
  have es : (e.2.1 + m).toInt = e.2.1.toInt + m.toInt := toInt_add' (by omega) hb
  have gl : ∀ j (hj : j < l.length), (l ++ [(e.1, e.2.1 + m, e.2.2 + f)])[j]'(by simp; omega) = l[j] := fun j hj => List.getElem_append_left hj
  have gl0 : ∀ j (hj : j < l.length), (l ++ [e])[j]'(by simp; omega) = l[j] := fun j hj => List.getElem_append_left hj
  have gr : (l ++ [(e.1, e.2.1 + m, e.2.2 + f)])[l.length]'(by simp) = (e.1, e.2.1 + m, e.2.2 + f) := by simp
  have hr : ∀ j (hj : j < (l ++ [(e.1, e.2.1 + m, e.2.2 + f)]).length), (l ++ [(e.1, e.2.1 + m, e.2.2 + f)])[j].1 = ((l ++ [e])[j]'(by simp at hj ⊢; omega)).1 := fun j hj => by
    simp at hj
    by_cases q : j = l.length
    · subst q; rw [gr, ee]
    · rw [gl j (by omega), gl0 j (by omega)]
  refine ⟨fun j hj => ?_, fun i j hi hj hij => ?_⟩
  · have hj' : j < (l ++ [e]).length := by simp at hj ⊢; omega
    rw [hr j hj]
    refine ⟨?_, (h1 j hj').2⟩
    by_cases q : j = l.length
    · subst q
      rw [gr]
      show 0 < (e.2.1 + m).toInt
      rw [es]; omega
    · have hjl : j < l.length := by simp at hj; omega
      rw [gl j hjl, ← gl0 j hjl]
      exact h3 j hj' (by simp; omega)
  · rw [hr i hi, hr j hj]
    exact h2 i j _ _ hij
def addSo (so : So) (h m f : Int32) : So := (so.set_lots (addL so.lots h m f)).set_grams (so.grams + m)
theorem addSo_ok {now : Nat} {so : So} {m f : Int32} (h : soOk now so) (hn : now ≤ 4999) (m0 : 0 ≤ m.toInt) (m1 : m.toInt ≤ so.room.toInt - so.grams.toInt) : soOk now (addSo so (Int32.ofNat (now / 6)) m f) := by
  have nn := h.nn
  obtain ⟨a1, a2, a3, a4, a5⟩ := h
  have eg : (so.grams + m).toInt = so.grams.toInt + m.toInt := toInt_add' (by omega) (by omega)
  by_cases c : m = 0
  · have e : addSo so (Int32.ofNat (now / 6)) m f = (so.set_lots so.lots).set_grams (so.grams + m) := by unfold addSo addL; rw [if_pos c]
    rw [e]
    subst c
    rw [Int32.add_zero]
    exact ⟨a1, a2, a3, a4, a5⟩
  · have mp : 0 < m.toInt := by
      rcases Int.lt_or_eq_of_le m0 with z | z
      · exact z
      · exact absurd (Int32.toInt_inj.mp (show m.toInt = (0 : Int32).toInt from z.symm)) c
    have e : addSo so (Int32.ofNat (now / 6)) m f = (so.set_lots (incL (ensL so.lots (Int32.ofNat (now / 6))) m f)).set_grams (so.grams + m) := by unfold addSo addL; rw [if_neg c]
    rw [e]
    have hN := ensL_ok a1 hn
    obtain ⟨g1, g2⟩ := ensL_G so.lots (Int32.ofNat (now / 6))
    obtain ⟨l', q, hl, hq⟩ := ensL_e so.lots (Int32.ofNat (now / 6))
    rw [hl] at hN g1 ⊢
    rw [sumG_app, sumG_1] at g1
    have pl : posL l' := fun t ht => by
      obtain ⟨j, hj, rfl⟩ := List.getElem_of_mem ht
      have := hN.2.2 j (by simp; omega) (by simp; omega)
      rw [List.getElem_append_left hj] at this
      exact this
    have ps := pl.sum
    have q0 := (hN.1 l'.length (by simp)).1
    have qe : (l' ++ [q])[l'.length]'(by simp) = q := by simp
    rw [qe] at q0
    refine ⟨incL_ok hN mp (by omega), ?_, ?_, a4, a5⟩
    · show sumG (incL (l' ++ [q]) m f) = (so.grams + m).toInt
      rw [incL_c, sumG_app, sumG_1, eg]
      show sumG l' + (q.2.1 + m).toInt = _
      rw [toInt_add' (by omega) (by omega)]
      omega
    · show (so.grams + m).toInt ≤ so.room.toInt
      rw [eg]; omega
/-- so much of the gas, all of it: the foul ones too -/
theorem fdv {f g : Int32} (hg : 0 < g.toInt) : ((f.toInt64 * g.toInt64) / g.toInt64).toInt32 = f := by
  have f1 := f.toInt_lt
  have f2 := f.le_toInt
  have g1 := g.toInt_lt
  have hm : (f.toInt64 * g.toInt64).toInt = f.toInt * g.toInt := by
    have h1 : f.toInt * g.toInt ≤ 2147483647 * 2147483647 := by
      rcases Int.le_total 0 f.toInt with z | z
      · exact Int.mul_le_mul (by omega) (by omega) (by omega) (by omega)
      · have := Int.mul_nonpos_of_nonpos_of_nonneg z (Int.le_of_lt hg)
        omega
    have h2 : -(2147483648 * 2147483647) ≤ f.toInt * g.toInt := by
      rcases Int.le_total 0 f.toInt with z | z
      · have := Int.mul_nonneg z (Int.le_of_lt hg)
        omega
      · have := Int.mul_le_mul (a := -f.toInt) (b := g.toInt) (c := 2147483648) (d := 2147483647) (by omega) (by omega) (by omega) (by omega)
        rw [Int.neg_mul] at this
        omega
    rw [Int64.toInt_mul, Int32.toInt_toInt64, Int32.toInt_toInt64]
    rw [Int.bmod_eq_of_le] <;> omega
  apply Int32.toInt_inj.mp
  rw [Int64.toInt_toInt32, Int64.toInt_div, hm, Int32.toInt_toInt64, Int.mul_tdiv_cancel _ (by omega)]
  rw [Int.bmod_eq_of_le (n := f.toInt), Int.bmod_eq_of_le] <;> omega
/-- gas into a store: the store, gas and foul that are left -/
def filD (so : So) (h gas foul most : Int32) : So × Int32 × Int32 := if 0 < mn gas (mn most (so.room - so.grams)) then (addSo so h (mn gas (mn most (so.room - so.grams))) (prt foul (mn gas (mn most (so.room - so.grams))) gas), gas - mn gas (mn most (so.room - so.grams)), foul - prt foul (mn gas (mn most (so.room - so.grams))) gas) else (so, gas, foul)
