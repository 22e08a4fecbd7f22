set_option maxRecDepth 100000
/-! ===== all trips ===== -/
def tryN (d : Dt) (out pty : Int32) : Nat → Dt × Int32
  | 0 => (d, out)
  | k + 1 => tryD (tryN d out pty k).1 k (tryN d out pty k).2 pty
/-- what a try leaves -/
def Frm (d d' : Dt) : Prop := (d'.now = d.now ∧ d'.told = d.told ∧ d'.stk = d.stk ∧ d'.troom = d.troom ∧ d'.thas = d.thas ∧ d'.papers = d.papers ∧ d'.places = d.places ∧ d'.rules = d.rules ∧ d'.tape = d.tape) ∧ d'.trips.length = d.trips.length
theorem Frm.rf {d : Dt} : Frm d d := ⟨⟨rfl, rfl, rfl, rfl, rfl, rfl, rfl, rfl, rfl⟩, rfl⟩
theorem Frm.tr {d d1 d2 : Dt} (h : Frm d d1) (h2 : Frm d1 d2) : Frm d d2 := by
  obtain ⟨⟨a1, a2, a3, a4, a5, a6, a7, a8, a9⟩, a10⟩ := h
  obtain ⟨⟨b1, b2, b3, b4, b5, b6, b7, b8, b9⟩, b10⟩ := h2
  exact ⟨⟨b1.trans a1, b2.trans a2, b3.trans a3, b4.trans a4, b5.trans a5, b6.trans a6, b7.trans a7, b8.trans a8, b9.trans a9⟩, b10.trans a10⟩
theorem tryD_f (d : Dt) (a : Nat) (out pty : Int32) : Frm d (tryD d a out pty).1 := by
  unfold tryD
  by_cases c : (tpA d.trips a).how = 0 ∧ (tpA d.trips a).ten ≤ Int32.ofNat d.now
  · rw [if_pos c]
    by_cases c2 : tryOk d (tpA d.trips a) out pty
    · rw [if_pos c2]
      exact ⟨⟨rfl, rfl, rfl, rfl, rfl, rfl, rfl, rfl, rfl⟩, List.length_set⟩
    · rw [if_neg c2]
      by_cases c3 : Int32.ofNat d.now < lastT (tpA d.trips a)
      · rw [if_pos c3]; exact Frm.rf
      · rw [if_neg c3]
        exact ⟨⟨rfl, rfl, rfl, rfl, rfl, rfl, rfl, rfl, rfl⟩, List.length_set⟩
  · rw [if_neg c]; exact Frm.rf
theorem tpOk.up {now : Nat} {t : Tp} (h : tpOk now t) (h2 : t.how = 0 → ((now + 1 : Nat) : Int) ≤ t.ten.toInt + (if t.kind = 0 then 11 else 0)) : tpOk (now + 1) t := by
  obtain ⟨t1, t2, t3, t4, t5, t6, t7, t8, t9, t10, t11, t12⟩ := h
  exact ⟨t1, t2, t3, t4, t5, t6, h2, t8, t9, t10, t11, t12⟩
theorem lastT_i {now : Nat} {t : Tp} (h : tpOk now t) : (lastT t).toInt = t.ten.toInt + (if t.kind = 0 then 11 else 0) := by
  obtain ⟨t1, t2, t3, -⟩ := h
  unfold lastT
  by_cases k0 : t.kind = 0
  · rw [if_pos k0, if_pos k0, toInt_add' (by have : (11 : Int32).toInt = 11 := rfl; omega) (by have : (11 : Int32).toInt = 11 := rfl; omega)]; rfl
  · rw [if_neg k0, if_neg k0, Int32.add_zero, Int.add_zero]
theorem sumS_app (l m : List (Int32 × Int32)) : sumS (l ++ m) = sumS l + sumS m := by
  unfold sumS; rw [List.map_append, List.sum_append]
theorem tryD_ok {d : Dt} {a : Nat} {out pty : Int32} (hnow : d.now ≤ 4999) (o0 : soOk d.now (d.so 0)) (o1 : soOk d.now (d.so 1)) (ha : a < d.trips.length) (hok : tpOk d.now d.trips[a]) :
    (soOk d.now ((tryD d a out pty).1.so 0) ∧ soOk d.now ((tryD d a out pty).1.so 1)) ∧ ∃ T, (tryD d a out pty).1.trips = d.trips.set a T ∧ tpOk d.now T ∧ tpOk (d.now + 1) T := by
  have eA : tpA d.trips a = d.trips[a] := tpA_at ha
  have same : d.trips.set a d.trips[a] = d.trips := List.set_getElem_self ha
  have nowI : (Int32.ofNat d.now).toInt = d.now := i_toInt (by omega)
  have hl := lastT_i hok
  have hok0 := hok
  obtain ⟨t1, t2, t3, t4, t5, t6, t7, t8, t9, t10, t11, t12⟩ := hok
  unfold tryD
  rw [eA]
  by_cases c : d.trips[a].how = 0 ∧ d.trips[a].ten ≤ Int32.ofNat d.now
  · rw [if_pos c]
    by_cases c2 : tryOk d d.trips[a] out pty
    · rw [if_pos c2]
      obtain ⟨⟨i1, i2⟩, ⟨i3, i4⟩⟩ := tFR_i (d := d) o0.nn t4 t5
      have hRle := tR_le c2.1
      have L0 := tk_law (d.so 0).lots (tF d d.trips[a]) o0.1.pos i1 (by rw [o0.2.1]; exact i2)
      have L1 := tk_law (d.so 1).lots (tR d d.trips[a]) o1.1.pos i3 (by rw [o1.2.1]; exact hRle)
      have sl0 : d.trips[a].sips = [] := t9 (by rw [c.1]; decide)
      have l0 := o0.1.len
      have l1 := o1.1.len
      refine ⟨⟨o0.tk i1 i2, o1.tk i3 hRle⟩, tryT d d.trips[a], rfl, ?_, ?_⟩
      all_goals
        refine ⟨t1, t2, t3, t4, t5, Or.inr (Or.inl rfl), fun z => absurd z (show ¬ (1 : Int32) = 0 by decide), fun z => absurd z (show ¬ (1 : Int32) = 0 by decide), fun z => absurd rfl z, fun e he => ?_, ?_, ?_⟩
        · have he : e ∈ d.trips[a].sips ++ (tkL (d.so 0).lots (tF d d.trips[a])).2.1 ++ (tkL (d.so 1).lots (tR d d.trips[a])).2.1 := he
          rw [sl0, List.nil_append] at he
          rcases List.mem_append.mp he with z | z
          · obtain ⟨e1, f, hf, e2⟩ := L0.2.1.2.2 e z
            rw [e2]
            exact ⟨e1, o0.1.hrs hnow f hf⟩
          · obtain ⟨e1, f, hf, e2⟩ := L1.2.1.2.2 e z
            rw [e2]
            exact ⟨e1, o1.1.hrs hnow f hf⟩
        · show sumS (d.trips[a].sips ++ (tkL (d.so 0).lots (tF d d.trips[a])).2.1 ++ (tkL (d.so 1).lots (tR d d.trips[a])).2.1) ≤ 50000
          rw [sl0, List.nil_append, sumS_app, L0.2.1.1, L1.2.1.1]
          omega
        · show (d.trips[a].sips ++ (tkL (d.so 0).lots (tF d d.trips[a])).2.1 ++ (tkL (d.so 1).lots (tR d d.trips[a])).2.1).length ≤ 3000
          rw [sl0, List.nil_append, List.length_append]
          have := L0.2.1.2.1
          have := L1.2.1.2.1
          omega
    · rw [if_neg c2]
      by_cases c3 : Int32.ofNat d.now < lastT d.trips[a]
      · rw [if_pos c3]
        refine ⟨⟨o0, o1⟩, d.trips[a], same.symm, hok0, hok0.up (fun _ => ?_)⟩
        have c4 := Int32.lt_iff_toInt_lt.mp c3
        rw [nowI, hl] at c4
        omega
      · rw [if_neg c3]
        have sl0 : d.trips[a].sips = [] := t9 (by rw [c.1]; decide)
        refine ⟨⟨o0, o1⟩, d.trips[a].set_how 2, rfl, ?_, ?_⟩
        all_goals
          exact ⟨t1, t2, t3, t4, t5, Or.inr (Or.inr rfl), fun z => absurd z (show ¬ (2 : Int32) = 0 by decide), fun z => absurd z (show ¬ (2 : Int32) = 0 by decide), fun _ => sl0, t10, t11, t12⟩
  · rw [if_neg c]
    refine ⟨⟨o0, o1⟩, d.trips[a], same.symm, hok0, hok0.up (fun z => ?_)⟩
    have c4 : ¬ d.trips[a].ten ≤ Int32.ofNat d.now := fun y => c ⟨z, y⟩
    have c5 : d.now < d.trips[a].ten.toInt := by
      have := Int32.lt_iff_toInt_lt.mp (Int32.not_le.mp c4)
      rw [nowI] at this
      exact this
    split <;> omega
/-- behind k trips: all is as it should be; those are ready for the next ten -/
theorem tryN_ok {d : Dt} {out pty : Int32} (hnow : d.now ≤ 4999) (o0 : soOk d.now (d.so 0)) (o1 : soOk d.now (d.so 1)) (hok : ∀ t ∈ d.trips, tpOk d.now t) : ∀ k, k ≤ d.trips.length →
    Frm d (tryN d out pty k).1 ∧ (soOk d.now ((tryN d out pty k).1.so 0) ∧ soOk d.now ((tryN d out pty k).1.so 1)) ∧ (∀ t ∈ (tryN d out pty k).1.trips, tpOk d.now t) ∧ ∀ j (h : j < (tryN d out pty k).1.trips.length), j < k → tpOk (d.now + 1) (tryN d out pty k).1.trips[j] := by
  intro k
  induction k with
  | zero => intro _; exact ⟨Frm.rf, ⟨o0, o1⟩, hok, fun j _ h => absurd h (Nat.not_lt_zero _)⟩
  | succ k ih =>
    intro hk
    obtain ⟨f, ⟨s0, s1⟩, ho, hu⟩ := ih (by omega)
    have hkl : k < (tryN d out pty k).1.trips.length := by rw [f.2]; omega
    have en := f.1.1
    obtain ⟨⟨q0, q1⟩, T, eT, k1, k2⟩ := tryD_ok (out := (tryN d out pty k).2) (pty := pty) (by rw [en]; exact hnow) (by rw [en]; exact s0) (by rw [en]; exact s1) hkl (by rw [en]; exact ho _ (List.getElem_mem hkl))
    rw [en] at q0 q1 k1 k2
    refine ⟨f.tr (tryD_f _ _ _ _), ⟨q0, q1⟩, fun t ht => ?_, fun j hj hjk => ?_⟩
    · have ht : t ∈ (tryD (tryN d out pty k).1 k (tryN d out pty k).2 pty).1.trips := ht
      rw [eT] at ht
      rcases List.mem_or_eq_of_mem_set ht with z | z
      · exact ho t z
      · rw [z]; exact k1
    · have g : ∀ (l : List Tp) (h : j < l.length), l = (tryN d out pty k).1.trips.set k T → tpOk (d.now + 1) l[j] := fun l h z => by
        subst z
        rw [List.getElem_set]
        by_cases c : k = j
        · rw [if_pos c]; exact k2
        · rw [if_neg c]
          rw [List.length_set] at h
          exact hu j h (by omega)
      exact g _ hj eT
section
variable {x : Nat} {M0 : Mem} {S0 : MS}
theorem x_tryN {n r : Nat} {out : Int32} {d : Dt} {t : Int32} (hB : Bas x M0) (hX : IX x M0 d) (hnow : d.now ≤ 4999) (o0 : soOk d.now (d.so 0)) (o1 : soOk d.now (d.so 1)) (h40 : d.trips.length ≤ 40) (hok : ∀ t ∈ d.trips, tpOk d.now t) (hn : 9100 ≤ n) (hr : RuAt x M0 r d.rules t) (hout : M0.i 390 (x + 15) = out) {Q : Unit → Mem → Prop} {jj : Unit → Act Unit}
    (hq : ∀ M', Bas x M' → TrF x d (tryN d out (lawA d.rules t 0) d.trips.length).1 M0 M' → IX x M' (tryN d out (lawA d.rules t 0) d.trips.length).1 → wp (jj ()) M' Q) :
    ∀ q k M, k ≤ d.trips.length → d.trips.length < q + k → Bas x M → TrF x d (tryN d out (lawA d.rules t 0) k).1 M0 M → IX x M (tryN d out (lawA d.rules t 0) k).1 → M.i 390 (x + 15) = (tryN d out (lawA d.rules t 0) k).2 → wp (lp_X0_ten_433 n x r jj q (Int32.ofNat k)) M Q := by
  intro q
  induction q with
  | zero => intro k M _ _; omega
  | succ q ih =>
    intro k M hk hq' hBk hF hXk hok_
    obtain ⟨f, ⟨s0, s1⟩, ho, hu⟩ := tryN_ok (out := out) (pty := lawA d.rules t 0) hnow o0 o1 hok k hk
    have hL := hBk.1
    have hlen := map_len hXk.2.2.2.1.1
    have en := f.1.1
    rw [lp_X0_ten_433]
    refine w_bnd (w_getR0 hL rfl rfl rfl (w_bnd (w_gd hL.k23 (w_nt (w_size hBk.2.2.1 hL.k23 ?_)))))
    rw [hlen, f.2]
    by_cases e : k = d.trips.length
    · subst e
      exact w_t ((i_le (by omega) (by omega)).mpr (by omega)) (hq M hBk hF hXk)
    · have hk2 : k < d.trips.length := by omega
      have hkl : k < (tryN d out (lawA d.rules t 0) k).1.trips.length := by rw [f.2]; exact hk2
      have hk3 : k < (M.ls (x + 23)).length := by rw [hlen]; exact hkl
      have kc := (hXk.2.2.2.1.2.2 _ (List.getElem_mem hk3)).1
      have hrk : RuAt x M r d.rules t := hr.same hF.2.1.1
      have hR1 := hrk.xr (by rw [← f.1.2.2.2.2.2.2.2.1]; exact hXk.2.2.2.2.2.2.2)
      refine w_f (fun z => by have := (i_le (by omega) (by omega)).mp z; omega) ?_
      refine w_bnd (w_getR0 hL rfl rfl rfl (w_bnd (w_gd hL.k23 (w_nt (w_get hBk.2.2.1 hL.k23 hk3 (w_bnd (w_cst (Or.inr (by rw [kc]; decide)) (w_bnd (w_gd hL.k0 (w_nt ?_)))))))))) 
      refine x_tries hBk hXk (by rw [en]; exact s0) (by rw [en]; exact s1) (by rw [en]; exact hnow) hn hkl hk3 (by rw [en]; exact ho _ (List.getElem_mem hkl)) hR1 hok_ (fun M' hB' hF' hX' ho' => ?_)
      rw [i_add1]
      exact ih (k + 1) M' (by omega) (by omega) hB' (hF.tr hF') hX' ho'
theorem m_tryN {n : Nat} {out : Int32} {d : Dt} {t : Int32} (hS : IMk 1 S0 d) (hnow : d.now ≤ 4999) (o0 : soOk d.now (d.so 0)) (o1 : soOk d.now (d.so 1)) (hok : ∀ t ∈ d.trips, tpOk d.now t) (hn : 9100 ≤ n) (hout : S0.i 39 = out) {Q : Unit → MS → Prop} {jj : Unit → Act Unit}
    (hq : ∀ S', TrM S0 S' → IMk 1 S' (tryN d out (lawA d.rules t 0) d.trips.length).1 → wm x (jj ()) S' Q) :
    ∀ q k S, k ≤ d.trips.length → d.trips.length < q + k → TrM S0 S → IMk 1 S (tryN d out (lawA d.rules t 0) k).1 → S.i 39 = (tryN d out (lawA d.rules t 0) k).2 → wm x (lp_X4_ten_359 n (x + 28) (fcd (frcA d.rules t)) jj q (Int32.ofNat k)) S Q := by
  have h40 := hS.2.2.2.1.2.1
  intro q
  induction q with
  | zero => intro k S _ _; omega
  | succ q ih =>
    intro k S hk hq' hF hSk hok_
    obtain ⟨f, ⟨s0, s1⟩, ho, hu⟩ := tryN_ok (out := out) (pty := lawA d.rules t 0) hnow o0 o1 hok k hk
    have en := f.1.1
    rw [lp_X4_ten_359]
    refine m_bnd (m_getI (by decide) ?_)
    rw [hSk.2.2.2.1.1, f.2]
    by_cases e : k = d.trips.length
    · subst e
      exact m_t ((i_le (by omega) (by omega)).mpr (by omega)) (hq S hF hSk)
    · have hk2 : k < d.trips.length := by omega
      have hkl : k < (tryN d out (lawA d.rules t 0) k).1.trips.length := by rw [f.2]; exact hk2
      have hRu : RU S d.rules := by rw [← f.1.2.2.2.2.2.2.2.1]; exact hSk.2.2.2.2.2.2.2
      refine m_f (fun z => by have := (i_le (by omega) (by omega)).mp z; omega) (m_bnd (m_gd (m_nt (m_tells (w := 0) hRu (by omega) (by decide) ?_))))
      refine m_bnd (m_gd (m_nt (m_tries hSk (by rw [en]; exact s0) (by rw [en]; exact s1) (by rw [en]; exact hnow) hn hkl (by rw [en]; exact ho _ (List.getElem_mem hkl)) hok_ (fun S' hF' hS' ho' => ?_))))
      rw [i_add1]
      exact ih (k + 1) S' (by omega) (by omega) (hF.tr hF') hS' ho'
end
