set_option maxRecDepth 100000
def SpM (S S' : MS) : Prop := Sam (fun i => i = 19 ∨ i = 44 ∨ i = 45) (fun o => 8 ≤ o ∧ o ≤ 12) (fun o => o = 13 ∨ o = 14) S S' ∧ ∀ i, i ≠ 4 → S'.b 14 i = S.b 14 i
/-- the model in the midst of the stacks' ten -/
def SpR (S : MS) (now : Nat) (mk : Int64) (R : List Sk × Int32 × Int32 × Int32 × Int32) : Prop := RS S (now + 1) R.1 ∧ S.i 19 = R.2.1 ∧ S.i 44 = R.2.2.1 ∧ S.i 45 = R.2.2.2.1 ∧ S.b 14 4 = mk + R.2.2.1.toInt64
section
variable {x : Nat} {S S0 S1 S2 : MS}
theorem SpM.rf : SpM S S := ⟨Sam.rf, fun _ _ => rfl⟩
theorem SpM.tr (h : SpM S S1) (h2 : SpM S1 S2) : SpM S S2 := ⟨h.1.tr h2.1, fun i z => (h2.2 i z).trans (h.2 i z)⟩
theorem SpM.tu {j : Nat} (h : TuF j S S1) : SpM S S1 := ⟨h.1, h.2.2.2⟩
theorem SpM.ru {rs : List Ru} (h : SpM S S1) (hR : RU S rs) : RU S1 rs := hR.fr (h.1.1 _ (by decide)) (h.1.1 _ (by decide)) (fun o p q => h.1.2.1 o (by omega))
theorem m_spl_lp {n now : Nat} {t v11 blows : Int32} {rs : List Ru} {stk : List Sk} {th : Int32} {mk : Int64} {ord : Nat → Nat} (hn : 9100 ≤ n) (hnow : now ≤ 4999) (hs : ∀ s ∈ stk, skOk s) (h4 : stk.length ≤ 4) (t0 : 0 ≤ th.toInt) (l0 : 0 ≤ blows.toInt) (hR : RU S0 rs) (h0 : S0.i 0 = Int32.ofNat now) (ho : ∀ k, k < stk.length → ord k < stk.length) (hA : ∀ j, j < stk.length → S0.a 34 j = Int32.ofNat (ord j)) (hst : blows < lawA rs t 1) {Q : Unit → MS → Prop} {jj : Int32 → Act Unit}
    (hq : ∀ S', SpM S0 S' → SpR S' now mk (splS ord (lawA rs t 2) (lawA rs t 3) stk th blows stk.length) → wm x (jj (splS ord (lawA rs t 2) (lawA rs t 3) stk th blows stk.length).2.2.2.2) S' Q) :
    ∀ q k S, k ≤ stk.length → stk.length < q + k → SpM S0 S → SpR S now mk (splS ord (lawA rs t 2) (lawA rs t 3) stk th blows k) → wm x (lp_X4_ten_199 n (x + 28) (fcd (frcA rs t)) v11 blows jj q (splS ord (lawA rs t 2) (lawA rs t 3) stk th blows k).2.2.2.2 (Int32.ofNat k)) S Q := by
  intro q
  induction q with
  | zero => intro k S _ _; omega
  | succ q ih =>
    intro k S hk hq' hF hRk
    have ok := splS_ok (lst := lawA rs t 2) (sts := lawA rs t 3) hs ho t0 l0 k hk (by omega)
    rw [lp_X4_ten_199]
    refine m_bnd (m_getI (by decide) ?_)
    rw [hRk.1.1, ok.1.1]
    by_cases e : k = stk.length
    · subst e
      exact m_t ((i_le (by omega) (by omega)).mpr (by omega)) (hq S hF hRk)
    · have hk2 : k < stk.length := by omega
      have hok := ho k hk2
      refine m_f (fun z => by have := (i_le (by omega) (by omega)).mp z; omega) (m_bnd (m_gd (m_nt (m_tells (w := 1) (hF.ru hR) (by omega) (by decide) (m_jn (m_t hst ?_))))))
      refine m_bnd (m_getRt rfl (m_bnd (m_ldIt rfl (by omega) ?_)))
      rw [show S.a 34 = S0.a 34 from hF.1.2.1 34 (by omega), hA k hk2]
      have es := splS_s ord (lawA rs t 2) (lawA rs t 3) stk th blows k _ rfl
      have K := ih (k + 1)
      rw [es] at K
      generalize splS ord (lawA rs t 2) (lawA rs t 3) stk th blows k = R at *
      obtain ⟨⟨a1, a2⟩, ⟨b1, b2⟩, ⟨c1, c2⟩, ⟨d1, d2⟩⟩ := ok
      have hsk := skA_ok a2 (i := ord k) (by rw [a1]; exact hok)
      obtain ⟨w1, ⟨w2, w3⟩, ⟨w4, w5⟩, w6, w7⟩ := wkS_ok hsk (lst := lawA rs t 2) (sts := lawA rs t 3) d1 b1
      obtain ⟨r1, r2, r3, r4, r5⟩ := hRk
      have hI : RSI S (now / 144) (ord k) (skA R.1 (ord k)) := by rw [skA_at (by rw [a1]; exact hok)]; exact RSI.of r1 (by rw [a1]; exact hok)
      refine m_bnd (m_gd (m_nt (m_turns (t := t) (rs := rs) (now := now) (th := R.2.1) (g := R.2.2.1) (f := R.2.2.2.1) (mk := mk + R.2.2.1.toInt64) (by omega) hn hsk (hF.ru hR) ⟨hI, ?_, r2, r3, r4, r5⟩ hnow (fun S' hT hR' => ?_))))
      · rw [hF.1.1 0 (by decide)]; exact h0
      · rw [i_add1]
        refine K S' (by omega) (by omega) (hF.tr (SpM.tu hT)) ⟨?_, hR'.2.2.1, hR'.2.2.2.1, hR'.2.2.2.2.1, ?_⟩
        · exact r1.upd (by rw [a1]; exact hok) (hT.1.1 _ (by decide)) (fun o _ _ i z => hT.2.1 o i z) hT.2.2.1 hR'.1
        · rw [hR'.2.2.2.2.2]
          simp only
          rw [l_add (by omega) (by omega), Int64.add_assoc]
theorem m_storm_lp {n now : Nat} {t v11 blows left : Int32} {rs : List Ru} {stk : List Sk} (hn : 9100 ≤ n) (h4 : stk.length ≤ 4) (hR : RU S0 rs) (hst : ¬ blows < lawA rs t 1) {Q : Unit → MS → Prop} {jj : Int32 → Act Unit}
    (hq : ∀ S', SpM S0 S' → RS S' (now + 1) (stk.map (fun s => s.set_on 0)) → S'.i = S0.i → S'.b = S0.b → wm x (jj left) S' Q) :
    ∀ q k S, k ≤ stk.length → stk.length < q + k → SpM S0 S → RS S (now + 1) ((stk.take k).map (fun s => s.set_on 0) ++ stk.drop k) → S.i = S0.i → S.b = S0.b → wm x (lp_X4_ten_199 n (x + 28) (fcd (frcA rs t)) v11 blows jj q left (Int32.ofNat k)) S Q := by
  intro q
  induction q with
  | zero => intro k S _ _; omega
  | succ q ih =>
    intro k S hk hq' hF hRk ei eb
    have hlen : ((stk.take k).map (fun s => s.set_on 0) ++ stk.drop k).length = stk.length := by
      rw [List.length_append, List.length_map, List.length_take, List.length_drop]; omega
    rw [lp_X4_ten_199]
    refine m_bnd (m_getI (by decide) ?_)
    rw [hRk.1, hlen]
    by_cases e : k = stk.length
    · refine m_t ((i_le (by omega) (by omega)).mpr (by omega)) (hq S hF ?_ ei eb)
      rw [e, List.take_length, List.drop_length, List.append_nil] at hRk
      exact hRk
    · have hk2 : k < stk.length := by omega
      have hk3 : k < ((stk.take k).map (fun s => s.set_on 0) ++ stk.drop k).length := by rw [hlen]; exact hk2
      have hl : ((stk.take k).map (fun s => s.set_on 0)).length = k := by rw [List.length_map, List.length_take]; omega
      have e0 : ((stk.take k).map (fun s => s.set_on 0) ++ stk.drop k)[k] = stk[k] := by
        rw [List.getElem_append_right (by omega)]
        simp only [hl, Nat.sub_self, List.getElem_drop, Nat.add_zero]
      refine m_f (fun z => by have := (i_le (by omega) (by omega)).mp z; omega) (m_bnd (m_gd (m_nt (m_tells (w := 1) (hF.ru hR) (by omega) (by decide) (m_jn (m_f hst (m_bnd (m_getRt rfl (m_bnd (m_stZt rfl (by omega) (Or.inl rfl) ?_))))))))))
      rw [i_add1]
      have hT : TuF k S (S.sa 12 k 0) := TuF.rf.pa (by decide)
      refine ih (k + 1) _ (by omega) (by omega) (hF.tr (SpM.tu hT)) ?_ ei eb
      have hI := RSI.of hRk hk3
      rw [e0] at hI
      obtain ⟨a1, a2, a3, a4, a5, a6, a7, a8, a9⟩ := hI
      have U := hRk.upd (s := stk[k].set_on 0) hk3 (S' := S.sa 12 k 0) rfl (fun o _ _ i z => hT.2.1 o i z) hT.2.2.1 ⟨a1, a2, a3, a4, sa_eq _ _ _ _, a6, a7, a8, a9⟩
      have e1 : ((stk.take k).map (fun s => s.set_on 0) ++ stk.drop k).set k (stk[k].set_on 0) = (stk.take (k + 1)).map (fun s => s.set_on 0) ++ stk.drop (k + 1) := by
        rw [List.set_append_right _ _ (by omega), hl, Nat.sub_self, drop_s hk2, List.set_cons_zero, List.take_succ_eq_append_getElem hk2, List.map_append, List.append_assoc]
        rfl
      rw [e1] at U
      exact U
/-- the model's stacks' ten, behind their ordering -/
theorem m_splits {n now : Nat} {t v11 blows : Int32} {rs : List Ru} {stk : List Sk} {th : Int32} (hn : 9100 ≤ n) (hnow : now ≤ 4999) (hs : ∀ s ∈ stk, skOk s) (t0 : 0 ≤ th.toInt) (l0 : 0 ≤ blows.toInt) (hR : RU S rs) (h0 : S.i 0 = Int32.ofNat now) (hS : RS S (now + 1) stk) (h19 : S.i 19 = th) (h44 : S.i 44 = 0) (h45 : S.i 45 = 0) (hA : ∀ j, j < stk.length → S.a 34 j = Int32.ofNat (ordD stk (lawA rs t 5) j)) {Q : Unit → MS → Prop} {jj : Int32 → Act Unit}
    (hq : ∀ S', SpM S S' → SpR S' now (S.b 14 4) (splD stk (ruA rs t) th blows) → wm x (jj (splD stk (ruA rs t) th blows).2.2.2.2) S' Q) : wm x (lp_X4_ten_199 n (x + 28) (fcd (frcA rs t)) v11 blows jj n blows 0) S Q := by
  have h4 := hS.2.1
  unfold splD at hq
  by_cases c : blows < lawA rs t 1
  · have c' : blows < tel (ruA rs t).stm 1 1500 := c
    rw [if_pos c'] at hq
    refine m_spl_lp (ord := ordD stk (lawA rs t 5)) (mk := S.b 14 4) (th := th) hn hnow hs h4 t0 l0 hR h0 (fun k hk => ordF_lt _ _ _ hk) hA c hq n 0 S (Nat.zero_le _) (by omega) SpM.rf ⟨hS, h19, h44, h45, ?_⟩
    show S.b 14 4 = S.b 14 4 + (0 : Int32).toInt64
    rw [show (0 : Int32).toInt64 = 0 from rfl, Int64.add_zero]
  · have c' : ¬ blows < tel (ruA rs t).stm 1 1500 := c
    rw [if_neg c'] at hq
    refine m_storm_lp (now := now) hn h4 hR c (fun S' hF hS' ei eb => hq S' hF ⟨hS', ?_, ?_, ?_, ?_⟩) n 0 S (Nat.zero_le _) (by omega) SpM.rf hS rfl rfl
    · rw [ei]; exact h19
    · rw [ei]; exact h44
    · rw [ei]; exact h45
    · rw [eb]
      show S.b 14 4 = S.b 14 4 + (0 : Int32).toInt64
      rw [show (0 : Int32).toInt64 = 0 from rfl, Int64.add_zero]
end
