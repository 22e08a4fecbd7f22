set_option maxRecDepth 100000
/-! ===== a stack's ten ===== -/
def leaS (s : Sk) (lst : Int32) : Int32 := mx 1 ((s.size * lst) / 100)
def gasS (s : Sk) (u : Int32) : Int32 := (u * s.gives) - (((u * s.gives) * (mn 90 (s.wear / 1000))) / 100)
def fouS (s : Sk) (g : Int32) : Int32 := (g * (mn 10000 (s.dirt + (s.wear / 500)))) / 10000
def watS (g : Int32) : Int32 := ((9 * g) + 999) / 1000
def begS (s : Sk) : Sk := (((s.set_on 1).set_today (s.today + 1)).set_ever (s.ever + 1)).set_wear (mn 50000 (s.wear + 100))
/-- does it run, as far as rules and wind go: the stack then -/
def onS (s : Sk) (lst sts left : Int32) : Sk := if left < leaS s lst then s.set_on 0 else if s.on = 0 then (if s.today < sts then begS s else s) else s
/-- stack, water, gas, foul, what it takes of the wind -/
def wrkS (s : Sk) (th left : Int32) : Sk × Int32 × Int32 × Int32 × Int32 := if s.on = 0 then (s, th, 0, 0, 0) else
  if th < watS (gasS s (mn s.size left)) then (s.set_on 0, th, 0, 0, 0) else
  ((s.set_made (s.made + (gasS s (mn s.size left)).toInt64)).set_wear (mn 50000 (s.wear + 1)), th - watS (gasS s (mn s.size left)), gasS s (mn s.size left), fouS s (gasS s (mn s.size left)), mn s.size left)
def wkS (s : Sk) (lst sts th left : Int32) : Sk × Int32 × Int32 × Int32 × Int32 := wrkS (onS s lst sts left) th left
/-- numbers stay small -/
theorem tdiv_i {a b : Int32} (ha : 0 ≤ a.toInt) (hb : 0 < b.toInt) : (a / b).toInt = a.toInt / b.toInt := by
  have h1 := a.toInt_lt
  have h2 : a.toInt / b.toInt ≤ a.toInt := Int.ediv_le_self _ ha
  have h3 : 0 ≤ a.toInt / b.toInt := Int.ediv_nonneg ha (by omega)
  rw [Int32.toInt_div, Int.tdiv_eq_ediv_of_nonneg ha]
  rw [Int.bmod_eq_of_le] <;> omega
theorem mul_i {a b : Int32} {A B : Int} (ha : 0 ≤ a.toInt) (hA : a.toInt ≤ A) (hb : 0 ≤ b.toInt) (hB : b.toInt ≤ B) (h : A * B < 2147483648) : (a * b).toInt = a.toInt * b.toInt ∧ 0 ≤ a.toInt * b.toInt ∧ a.toInt * b.toInt ≤ A * B := by
  have h1 : 0 ≤ a.toInt * b.toInt := Int.mul_nonneg ha hb
  have h2 : a.toInt * b.toInt ≤ A * B := Int.mul_le_mul hA hB hb (by omega)
  exact ⟨toInt_mul' (by omega) (by omega), h1, h2⟩
theorem wr90 {s : Sk} (h : skOk s) : 0 ≤ (mn 90 (s.wear / 1000)).toInt ∧ (mn 90 (s.wear / 1000)).toInt ≤ 90 := by
  obtain ⟨-, -, -, -, -, -, w1, w2, -⟩ := h
  have e : (s.wear / 1000).toInt = s.wear.toInt / 1000 := tdiv_i (b := 1000) w1 (by decide)
  have e90 : (90 : Int32).toInt = 90 := rfl
  rw [mn_i, e, e90]
  split <;> omega
theorem gas_i {s : Sk} (h : skOk s) {u : Int32} (u0 : 0 ≤ u.toInt) (u1 : u.toInt ≤ 500) : 0 ≤ (gasS s u).toInt ∧ (gasS s u).toInt ≤ 10000 := by
  obtain ⟨q1, q2⟩ := wr90 h
  obtain ⟨-, -, g1, g2, -⟩ := h
  obtain ⟨m1, m2, m3⟩ := mul_i (a := u) (b := s.gives) (A := 500) (B := 20) u0 u1 (by omega) g2 (by decide)
  obtain ⟨n1, n2, n3⟩ := mul_i (a := u * s.gives) (b := mn 90 (s.wear / 1000)) (A := 10000) (B := 90) (by omega) (by omega) q1 q2 (by decide)
  have e : (((u * s.gives) * (mn 90 (s.wear / 1000))) / 100).toInt = (u * s.gives).toInt * (mn 90 (s.wear / 1000)).toInt / 100 := by
    rw [tdiv_i (b := 100) (by omega) (by decide), n1]; rfl
  have hle : (u * s.gives).toInt * (mn 90 (s.wear / 1000)).toInt ≤ (u * s.gives).toInt * 90 := Int.mul_le_mul_of_nonneg_left q2 (by omega)
  unfold gasS
  rw [toInt_sub' (by omega) (by omega), e]
  omega
theorem wear_i {s : Sk} (h : skOk s) {k : Int32} (k0 : 0 ≤ k.toInt) (k1 : k.toInt ≤ 100) : 0 ≤ (mn 50000 (s.wear + k)).toInt ∧ (mn 50000 (s.wear + k)).toInt ≤ 50000 := by
  obtain ⟨-, -, -, -, -, -, w1, w2, -⟩ := h
  have e : (s.wear + k).toInt = s.wear.toInt + k.toInt := toInt_add' (by omega) (by omega)
  have e5 : (50000 : Int32).toInt = 50000 := rfl
  rw [mn_i, e, e5]
  split <;> omega
theorem begS_ok {s : Sk} (h : skOk s) : skOk (begS s) := by
  obtain ⟨q1, q2⟩ := wear_i h (k := 100) (by decide) (by decide)
  obtain ⟨a1, a2, a3, a4, a5, a6, a7, a8, a9⟩ := h
  exact ⟨a1, a2, a3, a4, a5, a6, q1, q2, Or.inr rfl⟩
theorem on0_ok {s : Sk} (h : skOk s) : skOk (s.set_on 0) := by
  obtain ⟨a1, a2, a3, a4, a5, a6, a7, a8, a9⟩ := h
  exact ⟨a1, a2, a3, a4, a5, a6, a7, a8, Or.inl rfl⟩
theorem onS_ok {s : Sk} (h : skOk s) (lst sts left : Int32) : skOk (onS s lst sts left) := by
  unfold onS
  by_cases c : left < leaS s lst
  · rw [if_pos c]; exact on0_ok h
  · rw [if_neg c]
    by_cases c2 : s.on = 0
    · rw [if_pos c2]
      by_cases c3 : s.today < sts
      · rw [if_pos c3]; exact begS_ok h
      · rw [if_neg c3]; exact h
    · rw [if_neg c2]; exact h
theorem uni_i {s : Sk} (h : skOk s) {left : Int32} (l0 : 0 ≤ left.toInt) : 0 ≤ (mn s.size left).toInt ∧ (mn s.size left).toInt ≤ 500 ∧ (mn s.size left).toInt ≤ left.toInt := by
  obtain ⟨a1, a2, -⟩ := h
  rw [mn_i]
  split <;> omega
theorem wat_i {g : Int32} (g0 : 0 ≤ g.toInt) (g1 : g.toInt ≤ 10000) : 0 ≤ (watS g).toInt ∧ (watS g).toInt ≤ 91 := by
  obtain ⟨m1, m2, m3⟩ := mul_i (a := 9) (b := g) (A := 9) (B := 10000) (by decide) (by decide) g0 g1 (by decide)
  have e : (9 * g + 999).toInt = (9 * g).toInt + 999 := toInt_add' (b := 999) (by have : (999 : Int32).toInt = 999 := rfl; omega) (by have : (999 : Int32).toInt = 999 := rfl; omega)
  unfold watS
  rw [tdiv_i (b := 1000) (by omega) (by decide), e]
  have : (1000 : Int32).toInt = 1000 := rfl
  rw [this]
  omega
theorem z00 : 0 ≤ (0 : Int32).toInt := by decide
theorem z01 : (0 : Int32).toInt ≤ 10000 := by decide
theorem wrkS_ok {s : Sk} (h : skOk s) {th left : Int32} (l0 : 0 ≤ left.toInt) (t0 : 0 ≤ th.toInt) : skOk (wrkS s th left).1 ∧ (0 ≤ (wrkS s th left).2.1.toInt ∧ (wrkS s th left).2.1.toInt ≤ th.toInt) ∧ (0 ≤ (wrkS s th left).2.2.1.toInt ∧ (wrkS s th left).2.2.1.toInt ≤ 10000) ∧ 0 ≤ (wrkS s th left).2.2.2.2.toInt ∧ (wrkS s th left).2.2.2.2.toInt ≤ left.toInt := by
  unfold wrkS
  by_cases c : s.on = 0
  · rw [if_pos c]
    exact ⟨h, ⟨t0, Int.le_refl _⟩, ⟨z00, z01⟩, z00, l0⟩
  · rw [if_neg c]
    obtain ⟨u0, u1, u2⟩ := uni_i h l0
    obtain ⟨g0, g1⟩ := gas_i h u0 u1
    obtain ⟨w0, w1⟩ := wat_i g0 g1
    by_cases c2 : th < watS (gasS s (mn s.size left))
    · rw [if_pos c2]
      exact ⟨on0_ok h, ⟨t0, Int.le_refl _⟩, ⟨z00, z01⟩, z00, l0⟩
    · rw [if_neg c2]
      have c3 : (watS (gasS s (mn s.size left))).toInt ≤ th.toInt := Int32.le_iff_toInt_le.mp (Int32.not_lt.mp c2)
      have e : (th - watS (gasS s (mn s.size left))).toInt = th.toInt - (watS (gasS s (mn s.size left))).toInt := by
        have := th.toInt_lt
        exact toInt_sub' (by omega) (by omega)
      obtain ⟨q1, q2⟩ := wear_i h (k := 1) (by decide) (by decide)
      obtain ⟨a1, a2, a3, a4, a5, a6, a7, a8, a9⟩ := h
      refine ⟨⟨a1, a2, a3, a4, a5, a6, q1, q2, a9⟩, ⟨?_, ?_⟩, ⟨g0, g1⟩, u0, u2⟩
      · show 0 ≤ (th - watS (gasS s (mn s.size left))).toInt
        rw [e]; omega
      · show (th - watS (gasS s (mn s.size left))).toInt ≤ _
        rw [e]; omega
theorem wkS_ok {s : Sk} (h : skOk s) {lst sts th left : Int32} (l0 : 0 ≤ left.toInt) (t0 : 0 ≤ th.toInt) : skOk (wkS s lst sts th left).1 ∧ (0 ≤ (wkS s lst sts th left).2.1.toInt ∧ (wkS s lst sts th left).2.1.toInt ≤ th.toInt) ∧ (0 ≤ (wkS s lst sts th left).2.2.1.toInt ∧ (wkS s lst sts th left).2.2.1.toInt ≤ 10000) ∧ 0 ≤ (wkS s lst sts th left).2.2.2.2.toInt ∧ (wkS s lst sts th left).2.2.2.2.toInt ≤ left.toInt := wrkS_ok (onS_ok h lst sts left) l0 t0
/-- the foul ones, in longs -/
theorem fou_l {s : Sk} (h : skOk s) {g : Int32} (g0 : 0 ≤ g.toInt) (g1 : g.toInt ≤ 10000) : ((g.toInt64 * ((mn (10000 : Int32) (s.dirt + (s.wear / 500))).toInt64)) / 10000).toInt32 = fouS s g := by
  obtain ⟨-, -, -, -, d1, d2, w1, w2, -⟩ := h
  have e : (s.wear / 500).toInt = s.wear.toInt / 500 := tdiv_i (b := 500) w1 (by decide)
  have e2 : (s.dirt + s.wear / 500).toInt = s.dirt.toInt + s.wear.toInt / 500 := by rw [toInt_add' (by omega) (by omega), e]
  have e1k : (10000 : Int32).toInt = 10000 := rfl
  have hm : 0 ≤ (mn (10000 : Int32) (s.dirt + (s.wear / 500))).toInt ∧ (mn (10000 : Int32) (s.dirt + (s.wear / 500))).toInt ≤ 10000 := by
    rw [mn_i, e2, e1k]
    split <;> omega
  obtain ⟨m1, m2, m3⟩ := mul_i (a := g) (b := mn (10000 : Int32) (s.dirt + (s.wear / 500))) (A := 10000) (B := 10000) g0 g1 hm.1 hm.2 (by decide)
  apply Int32.toInt_inj.mp
  have el : (10000 : Int64).toInt = 10000 := rfl
  rw [mdv g0 hm.1 (by rw [el]; decide) (by rw [el]; omega), el]
  unfold fouS
  rw [tdiv_i (b := 10000) (by omega) (by decide), m1, e1k]
theorem mn_comm {a b : Int32} : mn a b = mn b a := by
  apply Int32.toInt_inj.mp
  rw [mn_i, mn_i]
  split <;> split <;> omega
