set_option maxRecDepth 100000
/-! ===== a trip that is tried ===== -/
def tpA (tp : List Tp) (a : Nat) : Tp := tp.getD a bareT
theorem tpA_at {tp : List Tp} {a : Nat} (h : a < tp.length) : tpA tp a = tp[a] := by
  unfold tpA; rw [List.getD_eq_getElem?_getD, List.getElem?_eq_getElem h]; rfl
def tF (d : Dt) (t : Tp) : Int32 := mn t.grams (d.so 0).grams
def tR (d : Dt) (t : Tp) : Int32 := t.grams - tF d t
def tFo (d : Dt) (t : Tp) : Int32 := flS (d.so 0).lots (tF d t) + flS (d.so 1).lots (tR d t)
abbrev tryOk (d : Dt) (t : Tp) (out pur : Int32) : Prop := ¬ mn (d.so 1).grams out < tR d t ∧ ¬ 0 < lg_cmp ((10000 * (tFo d t).toInt64) / t.grams.toInt64) pur.toInt64
def tryT (d : Dt) (t : Tp) : Tp := (((t.set_sips (t.sips ++ (tkL (d.so 0).lots (tF d t)).2.1 ++ (tkL (d.so 1).lots (tR d t)).2.1)).set_how 1).set_left (Int32.ofNat d.now)).set_foul (tFo d t)
def lastT (t : Tp) : Int32 := t.ten + (if t.kind = 0 then 11 else 0)
def tryD (d : Dt) (a : Nat) (out pur : Int32) : Dt × Int32 :=
  if (tpA d.trips a).how = 0 ∧ (tpA d.trips a).ten ≤ Int32.ofNat d.now then
    if tryOk d (tpA d.trips a) out pur then (((d.set_so (sup (sup d.so 0 (tkSo (d.so 0) (tF d (tpA d.trips a)))) 1 (tkSo (d.so 1) (tR d (tpA d.trips a))))).set_trips (d.trips.set a (tryT d (tpA d.trips a)))).set_drunk (d.drunk + (tpA d.trips a).grams.toInt64), out - tR d (tpA d.trips a))
    else if Int32.ofNat d.now < lastT (tpA d.trips a) then (d, out) else (d.set_trips (d.trips.set a ((tpA d.trips a).set_how 2)), out)
  else (d, out)
theorem tFR_i {d : Dt} {t : Tp} (g0 : 0 ≤ (d.so 0).grams.toInt) (t0 : 1 ≤ t.grams.toInt) (t1 : t.grams.toInt ≤ 50000) : (0 ≤ (tF d t).toInt ∧ (tF d t).toInt ≤ (d.so 0).grams.toInt) ∧ (0 ≤ (tR d t).toInt ∧ (tR d t).toInt = t.grams.toInt - (tF d t).toInt) := by
  have e : (tF d t).toInt = if (d.so 0).grams.toInt < t.grams.toInt then (d.so 0).grams.toInt else t.grams.toInt := mn_i _ _
  have e2 : (tR d t).toInt = t.grams.toInt - (tF d t).toInt := by
    unfold tR
    refine toInt_sub' ?_ ?_ <;> (rw [e]; split <;> omega)
  rw [e2, e]
  split <;> omega
theorem tR_le {d : Dt} {t : Tp} {out : Int32} (h : ¬ mn (d.so 1).grams out < tR d t) : (tR d t).toInt ≤ (d.so 1).grams.toInt := by
  have h1 : (tR d t).toInt ≤ (mn (d.so 1).grams out).toInt := Int32.le_iff_toInt_le.mp (Int32.not_lt.mp h)
  rw [mn_i] at h1
  split at h1 <;> omega
section
variable {x : Nat} {M M1 : Mem}
theorem XP.set_ {tp : List Tp} {T : Tp} {a : Nat} {ti tl ls ar : Nat → Prop} (h : XP x M tp) (hf : Fre M) (hn : x + 88 ≤ M.n) (ha : a < tp.length) (ha2 : a < (M.ls (x + 23)).length) (hA : Ag ti tl ls ar M M1) (h1 : ∀ t, ti t → t ≠ 1152 ∧ t ≠ 1153) (h2 : ∀ c, ¬ ls c) (hi : ∀ t c, 896 ≤ t → t < 903 → c ≠ (M.ls (x + 23))[a] → M1.i t c = M.i t c) (hT : rdTp M1 (M.ls (x + 23))[a] = T) : XP x M1 (tp.set a T) := by
  obtain ⟨p1, p2, p3⟩ := h
  have ls_ : ∀ c, c ≤ M.n → M1.ls c = M.ls c := fun c hc => (hA.2.2.2.2.2.1 c hc (h2 c)).1
  unfold XP
  rw [ls_ (x + 23) (by omega)]
  refine ⟨?_, p2, fun c hc => ?_⟩
  · apply List.ext_getElem
    · rw [List.length_map, List.length_set]; exact map_len p1
    · intro i i1 i2
      rw [List.length_map] at i1
      rw [List.length_set] at i2
      rw [List.getElem_map, List.getElem_set]
      by_cases c : a = i
      · subst c
        rw [if_pos rfl]; exact hT
      · rw [if_neg c, ← map_get p1 i2 i1]
        obtain ⟨q1, q2, q3, q4, q5⟩ := p3 _ (List.getElem_mem i1)
        have ne : (M.ls (x + 23))[i] ≠ (M.ls (x + 23))[a] := fun z => c ((List.getElem_inj (h₀ := i1) (h₁ := ha2) p2).mp z).symm
        have li := hf.le (c := (M.ls (x + 23))[i] + 1) (by rw [q3]; decide)
        unfold rdTp
        rw [hi 896 _ (by omega) (by omega) ne, hi 897 _ (by omega) (by omega) ne, hi 898 _ (by omega) (by omega) ne, hi 900 _ (by omega) (by omega) ne, hi 901 _ (by omega) (by omega) ne, hi 902 _ (by omega) (by omega) ne, ls_ _ li]
        congr 1
        refine map_same (fun b hb => ?_)
        have lb := hf.le (c := b) (by rw [q5 b hb]; decide)
        unfold rdSp
        rw [hA.2.2.2.1 1152 b lb (fun z => (h1 _ z).1 rfl), hA.2.2.2.1 1153 b lb (fun z => (h1 _ z).2 rfl)]
  · obtain ⟨q1, q2, q3, q4, q5⟩ := p3 c hc
    have lc := hf.le (c := c) (by rw [q1]; decide)
    have lc1 := hf.le (c := c + 1) (by rw [q3]; decide)
    refine ⟨by rw [(hA.2.1 c lc).1]; exact q1, by rw [hA.2.2.1 899 c lc (by decide)]; exact q2, by rw [(hA.2.1 _ lc1).1]; exact q3, q4, fun b hb => ?_⟩
    rw [ls_ _ lc1] at hb
    have kb := q5 b hb
    rw [(hA.2.1 b (hf.le (by rw [kb]; decide))).1]; exact kb
/-- the cell of the rules in force -/
def RuAt (x : Nat) (M : Mem) (c : Nat) (rs : List Ru) (t : Int32) : Prop := match frcA rs t with
  | none => c = x + 8
  | some i => ∃ h : i < (M.ls (x + 7)).length, c = (M.ls (x + 7))[i]
theorem RuAt.xr {c : Nat} {rs : List Ru} {t : Int32} (h : RuAt x M c rs t) (hR : XR x M rs) : XR1 x M c (ruA rs t) := by
  unfold RuAt at h
  unfold ruA
  cases e : frcA rs t with
  | none =>
    rw [e] at h
    have h : c = x + 8 := h
    rw [h]; exact hR.1
  | some i =>
    rw [e] at h
    obtain ⟨h1, h2⟩ := h
    have hi : i < rs.length := frc_lt e
    rw [h2]
    show XR1 x M _ (rs.getD i bareR)
    rw [List.getD_eq_getElem?_getD, List.getElem?_eq_getElem hi]
    exact (hR.2.2 i hi h1).1
theorem RuAt.same {c : Nat} {rs : List Ru} {t : Int32} (h : RuAt x M c rs t) (e : M1.ls (x + 7) = M.ls (x + 7)) : RuAt x M1 c rs t := by
  unfold RuAt at h ⊢
  cases q : frcA rs t with
  | none => rw [q] at h; exact h
  | some i =>
    rw [q] at h
    obtain ⟨h1, h2⟩ := h
    refine ⟨by rw [e]; exact h1, ?_⟩
    have : ∀ (l l' : List Nat) (p : i < l.length) (p' : i < l'.length), l' = l → l[i] = l'[i] := fun l l' p p' z => by subst z; rfl
    rw [h2]
    exact this _ _ _ _ e
theorem x_atR2 {n : Nat} {rs : List Ru} (hB : Bas x M) (hR : XR x M rs) (hn : 9100 ≤ n) (h8 : rs.length ≤ 8) {t : Int32} {Q : Nat → Mem → Prop} (hq : ∀ c, RuAt x M c rs t → Q c M) : wp (f_X0_at n x t) M Q := by
  have hL := hB.1
  have hg := hB.2.2.1
  unfold f_X0_at
  refine w_bnd (w_gd hL.k0 (w_nt (x_numberAt hB hR hn (w_jn ?_))))
  unfold RuAt at hq
  cases e : frcA rs t with
  | none =>
    rw [e] at hq
    refine w_f (by decide) (w_bnd (w_getR0 hL rfl rfl rfl (w_pur (hq _ rfl))))
  | some i =>
    have hi : i < rs.length := frc_lt e
    have hi2 : i < (M.ls (x + 7)).length := by rw [hR.2.1]; exact hi
    obtain ⟨u1, u2⟩ := hR.2.2 i hi hi2
    rw [e] at hq
    refine w_t (Int32.not_lt.mp (i_nneg (by omega))) (w_bnd (w_getR0 hL rfl rfl rfl (w_bnd (w_gd hL.k0 (w_nt (x_numberAt hB hR hn ?_))))))
    rw [e]
    exact w_bnd (w_gd hL.k7 (w_nt (w_get hg hL.k7 hi2 (w_bnd (w_cst (Or.inr (by rw [u1.1]; decide)) (w_pur (hq _ ⟨hi2, rfl⟩)))))))
end
