set_option maxRecDepth 100000
/-! ===== meter ===== -/
theorem mdv {a b : Int32} {c : Int64} (ha : 0 ≤ a.toInt) (hb : 0 ≤ b.toInt) (hc : 0 < c.toInt) (hr : a.toInt * b.toInt / c.toInt < 2147483648) : ((a.toInt64 * b.toInt64) / c).toInt32.toInt = a.toInt * b.toInt / c.toInt := by
  have a1 := a.toInt_lt
  have b1 := b.toInt_lt
  have hp : 0 ≤ a.toInt * b.toInt := Int.mul_nonneg ha hb
  have hp2 : a.toInt * b.toInt ≤ 2147483647 * 2147483647 := Int.mul_le_mul (by omega) (by omega) hb (by omega)
  have hm : (a.toInt64 * b.toInt64).toInt = a.toInt * b.toInt := by
    rw [Int64.toInt_mul, Int32.toInt_toInt64, Int32.toInt_toInt64]
    rw [Int.bmod_eq_of_le] <;> omega
  have hd0 : 0 ≤ a.toInt * b.toInt / c.toInt := Int.ediv_nonneg hp (by omega)
  have hd : ((a.toInt64 * b.toInt64) / c).toInt = a.toInt * b.toInt / c.toInt := by
    rw [Int64.toInt_div, hm, Int.tdiv_eq_ediv_of_nonneg hp]
    rw [Int.bmod_eq_of_le] <;> omega
  rw [Int64.toInt_toInt32, hd]
  rw [Int.bmod_eq_of_le] <;> omega
theorem le_i {a b : Int32} (h : a ≤ b) : a.toInt ≤ b.toInt := Int32.le_iff_toInt_le.mp h
theorem ge0 {a : Int32} (h : 0 ≤ a) : 0 ≤ a.toInt := Int32.le_iff_toInt_le.mp h
def offD (g s : Int32) : Int32 := ((g.toInt64 * s.toInt64) / 100).toInt32
theorem off_i {g s : Int32} (h0 : 0 ≤ g.toInt) (h1 : g.toInt ≤ 1000000) (s0 : 0 ≤ s.toInt) (s1 : s.toInt ≤ 50) : 0 ≤ (offD g s).toInt ∧ (offD g s).toInt ≤ g.toInt := by
  have hp : 0 ≤ g.toInt * s.toInt := Int.mul_nonneg h0 s0
  have hp2 : g.toInt * s.toInt ≤ g.toInt * 50 := Int.mul_le_mul_of_nonneg_left s1 h0
  have e100 : (100 : Int64).toInt = 100 := rfl
  unfold offD
  rw [mdv h0 s0 (by rw [e100]; decide) (by rw [e100]; omega), e100]
  omega
/-- the lots' hours are hours -/
theorem lotsOk.hrs {now : Nat} {l : List Tri} (h : lotsOk now l) (hn : now ≤ 4999) : ∀ e ∈ l, 0 ≤ e.1.toInt ∧ e.1.toInt ≤ 833 := fun e he => by
  obtain ⟨j, hj, rfl⟩ := List.getElem_of_mem he
  obtain ⟨-, h1, h2⟩ := h.1 j hj
  exact ⟨h1, by omega⟩
theorem soOk.tk {now : Nat} {so : So} {w : Int32} (h : soOk now so) (h0 : 0 ≤ w.toInt) (h1 : w.toInt ≤ so.grams.toInt) : soOk now (tkSo so w) := by
  obtain ⟨a1, a2, a3, a4, a5, a6, a7, a8⟩ := h
  have L := tk_law so.lots w a1.pos h0 (by omega)
  have e : (so.grams - w).toInt = so.grams.toInt - w.toInt := by
    have := so.grams.toInt_lt
    exact toInt_sub' (by omega) (by omega)
  refine ⟨a1.tk h0 (by omega), ?_, ?_, a4, a5, a6, a7, a8⟩
  · show sumG (tkL so.lots w).1 = (so.grams - w).toInt
    rw [L.1.1, e]; omega
  · show (so.grams - w).toInt ≤ so.room.toInt
    rw [e]; omega
section
variable {x : Nat} {M : Mem} {n0 k p L : Nat} {xs : Nat → Int32}
theorem op_meter {n : Nat} {Q : Int32 → Mem → Prop} (hI : Inv x n0 k p L xs M) (hn : 9100 ≤ n) {s g w : Int32}
    (hq : ∀ v M1, Scr p L xs M1 → wp (gd 4 (x + 28) (nt (f_X4_meter n (x + 28) s g w))) M1 (fun w M2 => w = v ∧ Inv x n0 (k + 1) p L xs M2) → Q v M1) : wp (gd 0 x (nt (f_X0_meter n x s g w))) M Q := by
  refine op_join hI (fun d hB hX hD hC => ?_) hq
  have hL := hB.1
  have fin : ∀ {v : Int32}, v = v ∧ Okx x M d M ∧ Cst x n0 (k + 1) M d := fun {v} => ⟨rfl, Okx.rf hB hX, hC.step (by omega) (by omega)⟩
  unfold f_X0_meter f_X4_meter
  by_cases co : ∃ j, j < 2 ∧ s = Int32.ofNat j
  · obtain ⟨j, hj, rfl⟩ := co
    have inj : ∀ i, i < 2 → Int32.ofNat j = Int32.ofNat i → j = i := fun i hi z => (i_eq (by omega) (by omega)).mp z
    obtain ⟨s1, s2, s3⟩ := storeL hL hj
    have g7 := (hX.2.2.1.at hj).2.2.2.2.2.2.1
    have ho := hD.so hj
    have g0 := ho.nn
    have gm : (d.so j).grams.toInt ≤ 1000000 := Int.le_trans ho.2.2.1 ho.2.2.2.1
    have hx : ∀ {F : Nat → Act Int32} {R : Int32 → Mem → Prop}, wp (F (x + 13 + 2 * j)) M R → wp (bnd (gd 0 x (nt (f_X0_storeAt x (Int32.ofNat j)))) F) M R := fun {F R} h => w_bnd (w_gd hL.k0 (w_nt (x_storeAt hL (fun z => absurd rfl (z j hj)) (fun i hi z => by
      rw [← inj i hi z]; exact h))))
    have hne : ¬ x + 13 + 2 * j = 0 := by omega
    have hst : 0 ≤ Int32.ofNat j ∧ Int32.ofNat j ≤ 1 := st_c.mp ⟨j, hj, rfl⟩
    by_cases c1 : 0 ≤ g ∧ g ≤ 1000000
    · by_cases c2 : 0 ≤ w ∧ w ≤ 50
      · have b1 := ge0 c1.1
        have b2 : g.toInt ≤ 1000000 := le_i (b := 1000000) c1.2
        have b3 := ge0 c2.1
        have b4 : w.toInt ≤ 50 := le_i (b := 50) c2.2
        obtain ⟨f1, f2⟩ := off_i g0 gm b3 b4
        have el : ((d.so j).grams - g).toInt = (d.so j).grams.toInt - g.toInt := toInt_sub' (by omega) (by omega)
        have eo : ((d.so j).grams - offD (d.so j).grams w).toInt = (d.so j).grams.toInt - (offD (d.so j).grams w).toInt := toInt_sub' (by omega) (by omega)
        have ea : ((d.so j).grams + offD (d.so j).grams w).toInt = (d.so j).grams.toInt + (offD (d.so j).grams w).toInt := toInt_add' (by omega) (by omega)
        have en : (-((d.so j).grams - g)).toInt = g.toInt - (d.so j).grams.toInt := by
          rw [show -((d.so j).grams - g) = g - (d.so j).grams by grind]
          exact toInt_sub' (by omega) (by omega)
        have pre : ∀ {R : Int32 → Mem → Prop} {A B C : Act Int32}, wp (if ((d.so j).grams - g) ≤ offD (d.so j).grams w then A else B) M R → wp (jn (fun (_ : Unit) => pur (-1)) fun j36 => if x + 13 + 2 * j = 0 then j36 () else bnd (nt (f_X0_isIn g.toInt64 (0 : Int64) (1000000 : Int64))) fun v2 => if v2 = 0 then j36 () else bnd (nt (f_X0_isIn w.toInt64 (0 : Int64) (50 : Int64))) fun v3 => if ¬ v3 = 0 then (if ((d.so j).grams - g) ≤ offD (d.so j).grams w then A else B) else j36 ()) M R := fun h => w_jn (w_f hne (w_bnd (w_nt (x_isIn c64_0 c64_1000000 (w_f (fun z => bzf z c1) (w_bnd (w_nt (x_isIn c64_0 c64_50 (w_t (fun z => bzf z c2) h)))))))))
        have mpre : ∀ {S : MS} {F : Act Int32} {R : Int32 → MS → Prop}, wm x F S R → wm x (bnd (nt (f_X4_isStore (Int32.ofNat j))) fun v1 => jn (fun (_ : Unit) => pur (-1)) fun j27 => if v1 = 0 then j27 () else bnd (nt (f_X4_isIn g (0 : Int32) (1000000 : Int32))) fun v2 => if v2 = 0 then j27 () else bnd (nt (f_X4_isIn w (0 : Int32) (50 : Int32))) fun v3 => if ¬ v3 = 0 then F else j27 ()) S R := fun h => m_bnd (m_nt (m_isstore (m_jn (m_f (fun z => bzf z hst) (m_bnd (m_nt (m_isin (m_f (fun z => bzf z c1) (m_bnd (m_nt (m_isin (m_t (fun z => bzf z c2) h)))))))))))) 
        by_cases c3 : (offD (d.so j).grams w).toInt < (d.so j).grams.toInt - g.toInt
        · -- less than it should be
          have w0 : 0 ≤ ((d.so j).grams - g).toInt := by omega
          have w1 : ((d.so j).grams - g).toInt ≤ sumG (d.so j).lots := by rw [ho.2.1]; omega
          refine ⟨1, d.set_so (sup d.so j ((tkSo (d.so j) ((d.so j).grams - g)).set_lost ((d.so j).lost + ((d.so j).grams - g).toInt64))), ?_, hx (w_jn (w_f hne (w_bnd (w_nt (x_isIn c64_0 c64_1000000 (w_f (fun z => bzf z c1) (w_bnd (w_nt (x_isIn c64_0 c64_50 (w_t (fun z => bzf z c2) ?_)))))))))), fun S hS => mpre ?_⟩
          · refine ID.cmb hD (Or.inl (by simp only [Dt.st_now, Dt.st_told, Dt.st_stk, Dt.st_troom, Dt.st_thas, Dt.st_so, Dt.st_trips, Dt.st_papers, Dt.st_places, Dt.st_rules, Dt.st_tape, Dt.st_fault, Dt.st_blew, Dt.st_taken, Dt.st_sold, Dt.st_unsold, Dt.st_made, Dt.st_vented, Dt.st_drunk, Dt.st_noRoom, Dt.st_coins, Dt.st_stored, Dt.st_water, Dt.st_running])) (Or.inl (by simp only [Dt.st_now, Dt.st_told, Dt.st_stk, Dt.st_troom, Dt.st_thas, Dt.st_so, Dt.st_trips, Dt.st_papers, Dt.st_places, Dt.st_rules, Dt.st_tape, Dt.st_fault, Dt.st_blew, Dt.st_taken, Dt.st_sold, Dt.st_unsold, Dt.st_made, Dt.st_vented, Dt.st_drunk, Dt.st_noRoom, Dt.st_coins, Dt.st_stored, Dt.st_water, Dt.st_running])) (Or.inl (by simp only [Dt.st_now, Dt.st_told, Dt.st_stk, Dt.st_troom, Dt.st_thas, Dt.st_so, Dt.st_trips, Dt.st_papers, Dt.st_places, Dt.st_rules, Dt.st_tape, Dt.st_fault, Dt.st_blew, Dt.st_taken, Dt.st_sold, Dt.st_unsold, Dt.st_made, Dt.st_vented, Dt.st_drunk, Dt.st_noRoom, Dt.st_coins, Dt.st_stored, Dt.st_water, Dt.st_running])) (Or.inl ⟨(by simp only [Dt.st_now, Dt.st_told, Dt.st_stk, Dt.st_troom, Dt.st_thas, Dt.st_so, Dt.st_trips, Dt.st_papers, Dt.st_places, Dt.st_rules, Dt.st_tape, Dt.st_fault, Dt.st_blew, Dt.st_taken, Dt.st_sold, Dt.st_unsold, Dt.st_made, Dt.st_vented, Dt.st_drunk, Dt.st_noRoom, Dt.st_coins, Dt.st_stored, Dt.st_water, Dt.st_running]), (by simp only [Dt.st_now, Dt.st_told, Dt.st_stk, Dt.st_troom, Dt.st_thas, Dt.st_so, Dt.st_trips, Dt.st_papers, Dt.st_places, Dt.st_rules, Dt.st_tape, Dt.st_fault, Dt.st_blew, Dt.st_taken, Dt.st_sold, Dt.st_unsold, Dt.st_made, Dt.st_vented, Dt.st_drunk, Dt.st_noRoom, Dt.st_coins, Dt.st_stored, Dt.st_water, Dt.st_running])⟩) (Or.inr ?_) (Or.inl ⟨(by simp only [Dt.st_now, Dt.st_told, Dt.st_stk, Dt.st_troom, Dt.st_thas, Dt.st_so, Dt.st_trips, Dt.st_papers, Dt.st_places, Dt.st_rules, Dt.st_tape, Dt.st_fault, Dt.st_blew, Dt.st_taken, Dt.st_sold, Dt.st_unsold, Dt.st_made, Dt.st_vented, Dt.st_drunk, Dt.st_noRoom, Dt.st_coins, Dt.st_stored, Dt.st_water, Dt.st_running]), (by simp only [Dt.st_now, Dt.st_told, Dt.st_stk, Dt.st_troom, Dt.st_thas, Dt.st_so, Dt.st_trips, Dt.st_papers, Dt.st_places, Dt.st_rules, Dt.st_tape, Dt.st_fault, Dt.st_blew, Dt.st_taken, Dt.st_sold, Dt.st_unsold, Dt.st_made, Dt.st_vented, Dt.st_drunk, Dt.st_noRoom, Dt.st_coins, Dt.st_stored, Dt.st_water, Dt.st_running])⟩) (Or.inl ⟨(by simp only [Dt.st_now, Dt.st_told, Dt.st_stk, Dt.st_troom, Dt.st_thas, Dt.st_so, Dt.st_trips, Dt.st_papers, Dt.st_places, Dt.st_rules, Dt.st_tape, Dt.st_fault, Dt.st_blew, Dt.st_taken, Dt.st_sold, Dt.st_unsold, Dt.st_made, Dt.st_vented, Dt.st_drunk, Dt.st_noRoom, Dt.st_coins, Dt.st_stored, Dt.st_water, Dt.st_running]), Nat.le_of_eq (by simp only [Dt.st_now, Dt.st_told, Dt.st_stk, Dt.st_troom, Dt.st_thas, Dt.st_so, Dt.st_trips, Dt.st_papers, Dt.st_places, Dt.st_rules, Dt.st_tape, Dt.st_fault, Dt.st_blew, Dt.st_taken, Dt.st_sold, Dt.st_unsold, Dt.st_made, Dt.st_vented, Dt.st_drunk, Dt.st_noRoom, Dt.st_coins, Dt.st_stored, Dt.st_water, Dt.st_running])⟩) (Or.inl (by simp only [Dt.st_now, Dt.st_told, Dt.st_stk, Dt.st_troom, Dt.st_thas, Dt.st_so, Dt.st_trips, Dt.st_papers, Dt.st_places, Dt.st_rules, Dt.st_tape, Dt.st_fault, Dt.st_blew, Dt.st_taken, Dt.st_sold, Dt.st_unsold, Dt.st_made, Dt.st_vented, Dt.st_drunk, Dt.st_noRoom, Dt.st_coins, Dt.st_stored, Dt.st_water, Dt.st_running])) (Or.inl (by simp only [Dt.st_now, Dt.st_told, Dt.st_stk, Dt.st_troom, Dt.st_thas, Dt.st_so, Dt.st_trips, Dt.st_papers, Dt.st_places, Dt.st_rules, Dt.st_tape, Dt.st_fault, Dt.st_blew, Dt.st_taken, Dt.st_sold, Dt.st_unsold, Dt.st_made, Dt.st_vented, Dt.st_drunk, Dt.st_noRoom, Dt.st_coins, Dt.st_stored, Dt.st_water, Dt.st_running])) (Or.inl (by simp only [Dt.st_now, Dt.st_told, Dt.st_stk, Dt.st_troom, Dt.st_thas, Dt.st_so, Dt.st_trips, Dt.st_papers, Dt.st_places, Dt.st_rules, Dt.st_tape, Dt.st_fault, Dt.st_blew, Dt.st_taken, Dt.st_sold, Dt.st_unsold, Dt.st_made, Dt.st_vented, Dt.st_drunk, Dt.st_noRoom, Dt.st_coins, Dt.st_stored, Dt.st_water, Dt.st_running]))
            simp only [Dt.st_so]
            have key : ∀ i, i < 2 → soOk d.now (sup d.so j ((tkSo (d.so j) ((d.so j).grams - g)).set_lost ((d.so j).lost + ((d.so j).grams - g).toInt64)) i) := fun i hi => by
              by_cases e : i = j
              · rw [e, sup_eq]; exact ho.tk w0 (by omega)
              · rw [sup_ne e]; exact hD.so hi
            exact ⟨key 0 (by decide), key 1 (by decide)⟩
          · refine w_bnd (w_getIv s1 g7 (w_bnd (w_getIv s1 g7 ?_)))
            refine w_f (fun z => by have := le_i z; rw [el] at this; exact absurd this (by show ¬ _ ≤ (offD (d.so j).grams w).toInt; omega)) ?_
            refine w_bnd (w_gd s1 (w_nt (x_takes0 hB hX hj ho.1.pos w0 w1 hn (fun M' hB' hA hc hX' => ?_))))
            have s1' := (storeL hB'.1 hj).1
            have e8 := (hX'.2.2.1.at hj).2.2.2.2.2.2.2.2
            simp only [Dt.st_so, sup_eq] at e8
            have e8 : M'.l (128 * 3 + 8) (x + 13 + 2 * j) = (d.so j).lost := e8
            refine w_bnd (w_getLv s1' e8 (w_bnd (w_putL s1' (w_pur ⟨rfl, ?_, ?_⟩))))
            · have fa : Ag no (fun t => t = 392) no no M' (M'.setl (128 * 3 + 8) (x + 13 + 2 * j) ((d.so j).lost + ((d.so j).grams - g).toInt64)) := Ag.rf.l (Or.inl rfl)
              have fl : ∀ t c, ¬ (t = 392 ∧ c = x + 13 + 2 * j) → (M'.setl (128 * 3 + 8) (x + 13 + 2 * j) ((d.so j).lost + ((d.so j).grams - g).toInt64)).l t c = M'.l t c := fun t c h => if_neg h
              have fv : (M'.setl (128 * 3 + 8) (x + 13 + 2 * j) ((d.so j).lost + ((d.so j).grams - g).toInt64)).l 392 (x + 13 + 2 * j) = (d.so j).lost + ((d.so j).grams - g).toInt64 := setl_eq _ _ _ _
              have ff : (M'.setl (128 * 3 + 8) (x + 13 + 2 * j) ((d.so j).lost + ((d.so j).grams - g).toInt64)).k = M'.k ∧ (M'.setl (128 * 3 + 8) (x + 13 + 2 * j) ((d.so j).lost + ((d.so j).grams - g).toInt64)).ls = M'.ls ∧ (M'.setl (128 * 3 + 8) (x + 13 + 2 * j) ((d.so j).lost + ((d.so j).grams - g).toInt64)).cap = M'.cap ∧ (M'.setl (128 * 3 + 8) (x + 13 + 2 * j) ((d.so j).lost + ((d.so j).grams - g).toInt64)).n = M'.n ∧ (M'.setl (128 * 3 + 8) (x + 13 + 2 * j) ((d.so j).lost + ((d.so j).grams - g).toInt64)).i = M'.i := ⟨rfl, rfl, rfl, rfl, rfl⟩
              revert fa fl fv ff
              generalize M'.setl (128 * 3 + 8) (x + 13 + 2 * j) ((d.so j).lost + ((d.so j).grams - g).toInt64) = M2
              intro fa fl fv ff
              obtain ⟨q1, q2, q3, q4, q5⟩ := ff
              have hA2 : Ag tkTi (fun t => t = 392) (fun c => c = x + 14 + 2 * j) no M M2 := (hA.mono (fun _ z => z) (fun _ z => z.elim) (fun _ z => z) (fun _ z => z)).tr (fa.mono (fun _ z => z.elim) (fun _ z => z) (fun _ z => z.elim) (fun _ z => z))
              refine ⟨?_, hB'.2.1.same q1 q4, hB'.2.2.1.same q1 q2 q3, AgX.of hA2 (fun t z => by unfold tkTi at z; unfold isNt; omega) (fun _ z => z.elim)⟩
              refine hX'.cmb hB' fa (Or.inl ⟨(by simp only [Dt.st_now, Dt.st_told, Dt.st_stk, Dt.st_troom, Dt.st_thas, Dt.st_so, Dt.st_trips, Dt.st_papers, Dt.st_places, Dt.st_rules, Dt.st_tape, Dt.st_fault, Dt.st_blew, Dt.st_taken, Dt.st_sold, Dt.st_unsold, Dt.st_made, Dt.st_vented, Dt.st_drunk, Dt.st_noRoom, Dt.st_coins, Dt.st_stored, Dt.st_water, Dt.st_running]), fun t z => (by first | exact trivial | exact z.elim | omega | (unfold tkTi at z; omega) | (unfold goA at z; omega)), fun t z => (by first | exact trivial | exact z.elim | omega | (unfold tkTi at z; omega) | (unfold goA at z; omega)), fun c z => (by first | exact trivial | exact z.elim | omega | (unfold tkTi at z; omega) | (unfold goA at z; omega)), fun c z => (by first | exact trivial | exact z.elim | omega | (unfold tkTi at z; omega) | (unfold goA at z; omega))⟩) (Or.inl ⟨(by simp only [Dt.st_now, Dt.st_told, Dt.st_stk, Dt.st_troom, Dt.st_thas, Dt.st_so, Dt.st_trips, Dt.st_papers, Dt.st_places, Dt.st_rules, Dt.st_tape, Dt.st_fault, Dt.st_blew, Dt.st_taken, Dt.st_sold, Dt.st_unsold, Dt.st_made, Dt.st_vented, Dt.st_drunk, Dt.st_noRoom, Dt.st_coins, Dt.st_stored, Dt.st_water, Dt.st_running]), fun t z => (by first | exact trivial | exact z.elim | omega | (unfold tkTi at z; omega) | (unfold goA at z; omega)), fun t z => (by first | exact trivial | exact z.elim | omega | (unfold tkTi at z; omega) | (unfold goA at z; omega)), fun c z => (by first | exact trivial | exact z.elim | omega | (unfold tkTi at z; omega) | (unfold goA at z; omega)), fun c z => (by first | exact trivial | exact z.elim | omega | (unfold tkTi at z; omega) | (unfold goA at z; omega))⟩) (Or.inr ?_) (Or.inl ⟨(by simp only [Dt.st_now, Dt.st_told, Dt.st_stk, Dt.st_troom, Dt.st_thas, Dt.st_so, Dt.st_trips, Dt.st_papers, Dt.st_places, Dt.st_rules, Dt.st_tape, Dt.st_fault, Dt.st_blew, Dt.st_taken, Dt.st_sold, Dt.st_unsold, Dt.st_made, Dt.st_vented, Dt.st_drunk, Dt.st_noRoom, Dt.st_coins, Dt.st_stored, Dt.st_water, Dt.st_running]), fun t z => (by first | exact trivial | exact z.elim | omega | (unfold tkTi at z; omega) | (unfold goA at z; omega)), fun t z => (by first | exact trivial | exact z.elim | omega | (unfold tkTi at z; omega) | (unfold goA at z; omega)), fun c z => (by first | exact trivial | exact z.elim | omega | (unfold tkTi at z; omega) | (unfold goA at z; omega)), fun c z => (by first | exact trivial | exact z.elim | omega | (unfold tkTi at z; omega) | (unfold goA at z; omega))⟩) (Or.inl ⟨(by simp only [Dt.st_now, Dt.st_told, Dt.st_stk, Dt.st_troom, Dt.st_thas, Dt.st_so, Dt.st_trips, Dt.st_papers, Dt.st_places, Dt.st_rules, Dt.st_tape, Dt.st_fault, Dt.st_blew, Dt.st_taken, Dt.st_sold, Dt.st_unsold, Dt.st_made, Dt.st_vented, Dt.st_drunk, Dt.st_noRoom, Dt.st_coins, Dt.st_stored, Dt.st_water, Dt.st_running]), fun t z => (by first | exact trivial | exact z.elim | omega | (unfold tkTi at z; omega) | (unfold goA at z; omega)), fun t z => (by first | exact trivial | exact z.elim | omega | (unfold tkTi at z; omega) | (unfold goA at z; omega)), fun c z => (by first | exact trivial | exact z.elim | omega | (unfold tkTi at z; omega) | (unfold goA at z; omega)), fun c z => (by first | exact trivial | exact z.elim | omega | (unfold tkTi at z; omega) | (unfold goA at z; omega))⟩) (Or.inl ⟨(by simp only [Dt.st_now, Dt.st_told, Dt.st_stk, Dt.st_troom, Dt.st_thas, Dt.st_so, Dt.st_trips, Dt.st_papers, Dt.st_places, Dt.st_rules, Dt.st_tape, Dt.st_fault, Dt.st_blew, Dt.st_taken, Dt.st_sold, Dt.st_unsold, Dt.st_made, Dt.st_vented, Dt.st_drunk, Dt.st_noRoom, Dt.st_coins, Dt.st_stored, Dt.st_water, Dt.st_running]), fun t z => (by first | exact trivial | exact z.elim | omega | (unfold tkTi at z; omega) | (unfold goA at z; omega)), fun t z => (by first | exact trivial | exact z.elim | omega | (unfold tkTi at z; omega) | (unfold goA at z; omega)), fun c z => (by first | exact trivial | exact z.elim | omega | (unfold tkTi at z; omega) | (unfold goA at z; omega)), fun c z => (by first | exact trivial | exact z.elim | omega | (unfold tkTi at z; omega) | (unfold goA at z; omega))⟩) (Or.inl ⟨⟨⟨(by simp only [Dt.st_now, Dt.st_told, Dt.st_stk, Dt.st_troom, Dt.st_thas, Dt.st_so, Dt.st_trips, Dt.st_papers, Dt.st_places, Dt.st_rules, Dt.st_tape, Dt.st_fault, Dt.st_blew, Dt.st_taken, Dt.st_sold, Dt.st_unsold, Dt.st_made, Dt.st_vented, Dt.st_drunk, Dt.st_noRoom, Dt.st_coins, Dt.st_stored, Dt.st_water, Dt.st_running]), (by simp only [Dt.st_now, Dt.st_told, Dt.st_stk, Dt.st_troom, Dt.st_thas, Dt.st_so, Dt.st_trips, Dt.st_papers, Dt.st_places, Dt.st_rules, Dt.st_tape, Dt.st_fault, Dt.st_blew, Dt.st_taken, Dt.st_sold, Dt.st_unsold, Dt.st_made, Dt.st_vented, Dt.st_drunk, Dt.st_noRoom, Dt.st_coins, Dt.st_stored, Dt.st_water, Dt.st_running]), (by simp only [Dt.st_now, Dt.st_told, Dt.st_stk, Dt.st_troom, Dt.st_thas, Dt.st_so, Dt.st_trips, Dt.st_papers, Dt.st_places, Dt.st_rules, Dt.st_tape, Dt.st_fault, Dt.st_blew, Dt.st_taken, Dt.st_sold, Dt.st_unsold, Dt.st_made, Dt.st_vented, Dt.st_drunk, Dt.st_noRoom, Dt.st_coins, Dt.st_stored, Dt.st_water, Dt.st_running])⟩, ⟨(by simp only [Dt.st_now, Dt.st_told, Dt.st_stk, Dt.st_troom, Dt.st_thas, Dt.st_so, Dt.st_trips, Dt.st_papers, Dt.st_places, Dt.st_rules, Dt.st_tape, Dt.st_fault, Dt.st_blew, Dt.st_taken, Dt.st_sold, Dt.st_unsold, Dt.st_made, Dt.st_vented, Dt.st_drunk, Dt.st_noRoom, Dt.st_coins, Dt.st_stored, Dt.st_water, Dt.st_running]), (by simp only [Dt.st_now, Dt.st_told, Dt.st_stk, Dt.st_troom, Dt.st_thas, Dt.st_so, Dt.st_trips, Dt.st_papers, Dt.st_places, Dt.st_rules, Dt.st_tape, Dt.st_fault, Dt.st_blew, Dt.st_taken, Dt.st_sold, Dt.st_unsold, Dt.st_made, Dt.st_vented, Dt.st_drunk, Dt.st_noRoom, Dt.st_coins, Dt.st_stored, Dt.st_water, Dt.st_running]), (by simp only [Dt.st_now, Dt.st_told, Dt.st_stk, Dt.st_troom, Dt.st_thas, Dt.st_so, Dt.st_trips, Dt.st_papers, Dt.st_places, Dt.st_rules, Dt.st_tape, Dt.st_fault, Dt.st_blew, Dt.st_taken, Dt.st_sold, Dt.st_unsold, Dt.st_made, Dt.st_vented, Dt.st_drunk, Dt.st_noRoom, Dt.st_coins, Dt.st_stored, Dt.st_water, Dt.st_running]), (by simp only [Dt.st_now, Dt.st_told, Dt.st_stk, Dt.st_troom, Dt.st_thas, Dt.st_so, Dt.st_trips, Dt.st_papers, Dt.st_places, Dt.st_rules, Dt.st_tape, Dt.st_fault, Dt.st_blew, Dt.st_taken, Dt.st_sold, Dt.st_unsold, Dt.st_made, Dt.st_vented, Dt.st_drunk, Dt.st_noRoom, Dt.st_coins, Dt.st_stored, Dt.st_water, Dt.st_running]), (by simp only [Dt.st_now, Dt.st_told, Dt.st_stk, Dt.st_troom, Dt.st_thas, Dt.st_so, Dt.st_trips, Dt.st_papers, Dt.st_places, Dt.st_rules, Dt.st_tape, Dt.st_fault, Dt.st_blew, Dt.st_taken, Dt.st_sold, Dt.st_unsold, Dt.st_made, Dt.st_vented, Dt.st_drunk, Dt.st_noRoom, Dt.st_coins, Dt.st_stored, Dt.st_water, Dt.st_running]), (by simp only [Dt.st_now, Dt.st_told, Dt.st_stk, Dt.st_troom, Dt.st_thas, Dt.st_so, Dt.st_trips, Dt.st_papers, Dt.st_places, Dt.st_rules, Dt.st_tape, Dt.st_fault, Dt.st_blew, Dt.st_taken, Dt.st_sold, Dt.st_unsold, Dt.st_made, Dt.st_vented, Dt.st_drunk, Dt.st_noRoom, Dt.st_coins, Dt.st_stored, Dt.st_water, Dt.st_running]), (by simp only [Dt.st_now, Dt.st_told, Dt.st_stk, Dt.st_troom, Dt.st_thas, Dt.st_so, Dt.st_trips, Dt.st_papers, Dt.st_places, Dt.st_rules, Dt.st_tape, Dt.st_fault, Dt.st_blew, Dt.st_taken, Dt.st_sold, Dt.st_unsold, Dt.st_made, Dt.st_vented, Dt.st_drunk, Dt.st_noRoom, Dt.st_coins, Dt.st_stored, Dt.st_water, Dt.st_running]), (by simp only [Dt.st_now, Dt.st_told, Dt.st_stk, Dt.st_troom, Dt.st_thas, Dt.st_so, Dt.st_trips, Dt.st_papers, Dt.st_places, Dt.st_rules, Dt.st_tape, Dt.st_fault, Dt.st_blew, Dt.st_taken, Dt.st_sold, Dt.st_unsold, Dt.st_made, Dt.st_vented, Dt.st_drunk, Dt.st_noRoom, Dt.st_coins, Dt.st_stored, Dt.st_water, Dt.st_running]), (by simp only [Dt.st_now, Dt.st_told, Dt.st_stk, Dt.st_troom, Dt.st_thas, Dt.st_so, Dt.st_trips, Dt.st_papers, Dt.st_places, Dt.st_rules, Dt.st_tape, Dt.st_fault, Dt.st_blew, Dt.st_taken, Dt.st_sold, Dt.st_unsold, Dt.st_made, Dt.st_vented, Dt.st_drunk, Dt.st_noRoom, Dt.st_coins, Dt.st_stored, Dt.st_water, Dt.st_running])⟩, (by simp only [Dt.st_now, Dt.st_told, Dt.st_stk, Dt.st_troom, Dt.st_thas, Dt.st_so, Dt.st_trips, Dt.st_papers, Dt.st_places, Dt.st_rules, Dt.st_tape, Dt.st_fault, Dt.st_blew, Dt.st_taken, Dt.st_sold, Dt.st_unsold, Dt.st_made, Dt.st_vented, Dt.st_drunk, Dt.st_noRoom, Dt.st_coins, Dt.st_stored, Dt.st_water, Dt.st_running]), (by simp only [Dt.st_now, Dt.st_told, Dt.st_stk, Dt.st_troom, Dt.st_thas, Dt.st_so, Dt.st_trips, Dt.st_papers, Dt.st_places, Dt.st_rules, Dt.st_tape, Dt.st_fault, Dt.st_blew, Dt.st_taken, Dt.st_sold, Dt.st_unsold, Dt.st_made, Dt.st_vented, Dt.st_drunk, Dt.st_noRoom, Dt.st_coins, Dt.st_stored, Dt.st_water, Dt.st_running]), (by simp only [Dt.st_now, Dt.st_told, Dt.st_stk, Dt.st_troom, Dt.st_thas, Dt.st_so, Dt.st_trips, Dt.st_papers, Dt.st_places, Dt.st_rules, Dt.st_tape, Dt.st_fault, Dt.st_blew, Dt.st_taken, Dt.st_sold, Dt.st_unsold, Dt.st_made, Dt.st_vented, Dt.st_drunk, Dt.st_noRoom, Dt.st_coins, Dt.st_stored, Dt.st_water, Dt.st_running]), (by simp only [Dt.st_now, Dt.st_told, Dt.st_stk, Dt.st_troom, Dt.st_thas, Dt.st_so, Dt.st_trips, Dt.st_papers, Dt.st_places, Dt.st_rules, Dt.st_tape, Dt.st_fault, Dt.st_blew, Dt.st_taken, Dt.st_sold, Dt.st_unsold, Dt.st_made, Dt.st_vented, Dt.st_drunk, Dt.st_noRoom, Dt.st_coins, Dt.st_stored, Dt.st_water, Dt.st_running]), (by simp only [Dt.st_now, Dt.st_told, Dt.st_stk, Dt.st_troom, Dt.st_thas, Dt.st_so, Dt.st_trips, Dt.st_papers, Dt.st_places, Dt.st_rules, Dt.st_tape, Dt.st_fault, Dt.st_blew, Dt.st_taken, Dt.st_sold, Dt.st_unsold, Dt.st_made, Dt.st_vented, Dt.st_drunk, Dt.st_noRoom, Dt.st_coins, Dt.st_stored, Dt.st_water, Dt.st_running])⟩, fun t z => (by first | exact trivial | exact z.elim | omega | (unfold tkTi at z; omega) | (unfold goA at z; omega)), fun t z => (by first | exact trivial | exact z.elim | omega | (unfold tkTi at z; omega) | (unfold goA at z; omega)), fun c z => (by first | exact trivial | exact z.elim | omega | (unfold tkTi at z; omega) | (unfold goA at z; omega)), fun c z => (by first | exact trivial | exact z.elim | omega | (unfold tkTi at z; omega) | (unfold goA at z; omega))⟩) (Or.inl ⟨(by simp only [Dt.st_now, Dt.st_told, Dt.st_stk, Dt.st_troom, Dt.st_thas, Dt.st_so, Dt.st_trips, Dt.st_papers, Dt.st_places, Dt.st_rules, Dt.st_tape, Dt.st_fault, Dt.st_blew, Dt.st_taken, Dt.st_sold, Dt.st_unsold, Dt.st_made, Dt.st_vented, Dt.st_drunk, Dt.st_noRoom, Dt.st_coins, Dt.st_stored, Dt.st_water, Dt.st_running]), fun t z => (by first | exact trivial | exact z.elim | omega | (unfold tkTi at z; omega) | (unfold goA at z; omega)), fun t z => (by first | exact trivial | exact z.elim | omega | (unfold tkTi at z; omega) | (unfold goA at z; omega)), fun c z => (by first | exact trivial | exact z.elim | omega | (unfold tkTi at z; omega) | (unfold goA at z; omega)), fun c z => (by first | exact trivial | exact z.elim | omega | (unfold tkTi at z; omega) | (unfold goA at z; omega))⟩)
              have hG := hX'.2.2.1
              simp only [Dt.st_so] at hG ⊢
              refine XG.of (fun i hi => ?_) (by rw [q2]; exact hG.2.2)
              have hGi := hG.at hi
              by_cases e : i = j
              · subst e
                rw [sup_eq] at hGi ⊢
                obtain ⟨v1, v2, v3, v4, v5, v6, v7, v8, v9⟩ := hGi
                unfold XG1
                rw [q1, q2, q5, fv, fl 391 _ (by omega)]
                refine ⟨?_, v2, v3, v4, v5, v6, v7, v8, rfl⟩
                exact (map_same (fun c _ => by unfold rdLt; rw [q5])).trans v1
              · rw [sup_ne e] at hGi ⊢
                obtain ⟨v1, v2, v3, v4, v5, v6, v7, v8, v9⟩ := hGi
                unfold XG1
                rw [q1, q2, q5, fl 391 _ (by omega), fl 392 _ (by omega)]
                refine ⟨?_, v2, v3, v4, v5, v6, v7, v8, v9⟩
                exact (map_same (fun c _ => by unfold rdLt; rw [q5])).trans v1
            · exact hC.same (Nat.le_of_eq (by simp only [Dt.st_so])) (Nat.le_of_eq (by simp only [Dt.st_so])) hc.1 hc.2.1 hc.2.2
          · have r4 := (hS.2.2.1.at hj).2.2.2.1
            refine m_bnd (m_getRt rfl (m_bnd (m_ldIt rfl hj (m_bnd (m_getRt rfl (m_bnd (m_ldIt rfl hj ?_)))))))
            rw [r4]
            refine m_t (Int32.le_iff_toInt_le.mpr (by show _ ≤ ((d.so j).grams + offD (d.so j).grams w).toInt; omega)) (m_bnd (m_getRt rfl (m_bnd (m_ldIt rfl hj ?_))))
            rw [r4]
            refine m_t (Int32.lt_iff_toInt_lt.mpr (by show _ < ((d.so j).grams - offD (d.so j).grams w).toInt; omega)) (m_bnd (m_getRt rfl (m_bnd (m_ldIt rfl hj ?_))))
            rw [r4]
            refine m_bnd (m_gd (m_nt (m_goes (tr := none) hS hj ho.1.pos (ho.1.hrs hD.1) w0 w1 (fun _ z => absurd z (by simp)) hn (fun S' a1 hS' => ?_))))
            have hR := hS'.2.2.1
            have hN := hS'.2.2.2.2.2.2.1
            simp only [Dt.st_so, Dt.st_trips] at hR
            have hRj := hR.at hj
            rw [sup_eq] at hRj
            have l23 : S'.b 23 j = (d.so j).lost := hRj.2.2.2.2.2.2.2.1
            refine m_bnd (m_getRt rfl (m_bnd (m_ldLt rfl hj (m_bnd (m_stLt rfl hj (m_bnd (m_getRt rfl (m_bnd (m_ldLt (i := 8) rfl (by decide) (m_bnd (m_stLt (i := 8) rfl (by decide) (m_pur ⟨rfl, ?_⟩))))))))))))
            rw [l23, sB_at, if_neg (by omega)]
            have hmid : IM S' (d.set_so (sup d.so j (tkSo (d.so j) ((d.so j).grams - g)))) := hS'
            refine hmid.cmb (I := no) (A := no) (B := fun o => o = 23 ∨ o = 14) ((Sam.rf.sb (Or.inl rfl)).sb (Or.inr rfl)) (Or.inl ⟨(by simp only [Dt.st_now, Dt.st_told, Dt.st_stk, Dt.st_troom, Dt.st_thas, Dt.st_so, Dt.st_trips, Dt.st_papers, Dt.st_places, Dt.st_rules, Dt.st_tape, Dt.st_fault, Dt.st_blew, Dt.st_taken, Dt.st_sold, Dt.st_unsold, Dt.st_made, Dt.st_vented, Dt.st_drunk, Dt.st_noRoom, Dt.st_coins, Dt.st_stored, Dt.st_water, Dt.st_running]), fun t z => (by first | exact trivial | exact z.elim | omega | (unfold tkTi at z; omega) | (unfold goA at z; omega)), fun t z => (by first | exact trivial | exact z.elim | omega | (unfold tkTi at z; omega) | (unfold goA at z; omega)), fun c z => (by first | exact trivial | exact z.elim | omega | (unfold tkTi at z; omega) | (unfold goA at z; omega))⟩) (Or.inl ⟨⟨(by simp only [Dt.st_now, Dt.st_told, Dt.st_stk, Dt.st_troom, Dt.st_thas, Dt.st_so, Dt.st_trips, Dt.st_papers, Dt.st_places, Dt.st_rules, Dt.st_tape, Dt.st_fault, Dt.st_blew, Dt.st_taken, Dt.st_sold, Dt.st_unsold, Dt.st_made, Dt.st_vented, Dt.st_drunk, Dt.st_noRoom, Dt.st_coins, Dt.st_stored, Dt.st_water, Dt.st_running]), (by simp only [Dt.st_now, Dt.st_told, Dt.st_stk, Dt.st_troom, Dt.st_thas, Dt.st_so, Dt.st_trips, Dt.st_papers, Dt.st_places, Dt.st_rules, Dt.st_tape, Dt.st_fault, Dt.st_blew, Dt.st_taken, Dt.st_sold, Dt.st_unsold, Dt.st_made, Dt.st_vented, Dt.st_drunk, Dt.st_noRoom, Dt.st_coins, Dt.st_stored, Dt.st_water, Dt.st_running])⟩, fun t z => (by first | exact trivial | exact z.elim | omega | (unfold tkTi at z; omega) | (unfold goA at z; omega)), fun t z => (by first | exact trivial | exact z.elim | omega | (unfold tkTi at z; omega) | (unfold goA at z; omega)), fun c z => (by first | exact trivial | exact z.elim | omega | (unfold tkTi at z; omega) | (unfold goA at z; omega))⟩) (Or.inr ?_) (Or.inl ⟨(by simp only [Dt.st_now, Dt.st_told, Dt.st_stk, Dt.st_troom, Dt.st_thas, Dt.st_so, Dt.st_trips, Dt.st_papers, Dt.st_places, Dt.st_rules, Dt.st_tape, Dt.st_fault, Dt.st_blew, Dt.st_taken, Dt.st_sold, Dt.st_unsold, Dt.st_made, Dt.st_vented, Dt.st_drunk, Dt.st_noRoom, Dt.st_coins, Dt.st_stored, Dt.st_water, Dt.st_running]), fun t z => (by first | exact trivial | exact z.elim | omega | (unfold tkTi at z; omega) | (unfold goA at z; omega)), fun t z => (by first | exact trivial | exact z.elim | omega | (unfold tkTi at z; omega) | (unfold goA at z; omega)), fun c z => (by first | exact trivial | exact z.elim | omega | (unfold tkTi at z; omega) | (unfold goA at z; omega))⟩) (Or.inl ⟨(by simp only [Dt.st_now, Dt.st_told, Dt.st_stk, Dt.st_troom, Dt.st_thas, Dt.st_so, Dt.st_trips, Dt.st_papers, Dt.st_places, Dt.st_rules, Dt.st_tape, Dt.st_fault, Dt.st_blew, Dt.st_taken, Dt.st_sold, Dt.st_unsold, Dt.st_made, Dt.st_vented, Dt.st_drunk, Dt.st_noRoom, Dt.st_coins, Dt.st_stored, Dt.st_water, Dt.st_running]), fun t z => (by first | exact trivial | exact z.elim | omega | (unfold tkTi at z; omega) | (unfold goA at z; omega)), fun t z => (by first | exact trivial | exact z.elim | omega | (unfold tkTi at z; omega) | (unfold goA at z; omega)), fun c z => (by first | exact trivial | exact z.elim | omega | (unfold tkTi at z; omega) | (unfold goA at z; omega))⟩) (Or.inl ⟨(by simp only [Dt.st_now, Dt.st_told, Dt.st_stk, Dt.st_troom, Dt.st_thas, Dt.st_so, Dt.st_trips, Dt.st_papers, Dt.st_places, Dt.st_rules, Dt.st_tape, Dt.st_fault, Dt.st_blew, Dt.st_taken, Dt.st_sold, Dt.st_unsold, Dt.st_made, Dt.st_vented, Dt.st_drunk, Dt.st_noRoom, Dt.st_coins, Dt.st_stored, Dt.st_water, Dt.st_running]), fun t z => (by first | exact trivial | exact z.elim | omega | (unfold tkTi at z; omega) | (unfold goA at z; omega)), fun t z => (by first | exact trivial | exact z.elim | omega | (unfold tkTi at z; omega) | (unfold goA at z; omega)), fun c z => (by first | exact trivial | exact z.elim | omega | (unfold tkTi at z; omega) | (unfold goA at z; omega))⟩) (Or.inr ?_) (Or.inl ⟨(by simp only [Dt.st_now, Dt.st_told, Dt.st_stk, Dt.st_troom, Dt.st_thas, Dt.st_so, Dt.st_trips, Dt.st_papers, Dt.st_places, Dt.st_rules, Dt.st_tape, Dt.st_fault, Dt.st_blew, Dt.st_taken, Dt.st_sold, Dt.st_unsold, Dt.st_made, Dt.st_vented, Dt.st_drunk, Dt.st_noRoom, Dt.st_coins, Dt.st_stored, Dt.st_water, Dt.st_running]), fun t z => (by first | exact trivial | exact z.elim | omega | (unfold tkTi at z; omega) | (unfold goA at z; omega)), fun t z => (by first | exact trivial | exact z.elim | omega | (unfold tkTi at z; omega) | (unfold goA at z; omega)), fun c z => (by first | exact trivial | exact z.elim | omega | (unfold tkTi at z; omega) | (unfold goA at z; omega))⟩)
            · simp only [Dt.st_so]
              refine RG.of (fun i hi => ?_)
              have hRi := hR.at hi
              by_cases e : i = j
              · subst e
                rw [sup_eq] at hRi ⊢
                obtain ⟨v1, v2, v3, v4, v5, v6, v7, v8, v9⟩ := hRi
                refine ⟨v1, v2, v3, v4, v5, v6, ?_, ?_, v9⟩
                · rw [sB_at, if_neg (by omega), sB_at, if_neg (by omega)]; exact v7
                · rw [sB_at, if_neg (by omega), sB_at, if_pos ⟨rfl, rfl⟩]; rfl
              · rw [sup_ne e] at hRi ⊢
                obtain ⟨v1, v2, v3, v4, v5, v6, v7, v8, v9⟩ := hRi
                refine ⟨v1, v2, v3, v4, v5, v6, ?_, ?_, v9⟩
                · rw [sB_at, if_neg (by omega), sB_at, if_neg (by omega)]; exact v7
                · rw [sB_at, if_neg (by omega), sB_at, if_neg (by omega)]; exact v8
            · obtain ⟨y1, y2, y3, ⟨z1, z2, z3, z4, z5, z6, z7, z8, z9, z10, z11⟩, y5, y6, y7, y8⟩ := hN
              simp only [Dt.st_so, Dt.st_trips] at y1 y2 y3 z1 z2 z3 z4 z5 z6 z7 z8 z9 z10 z11 y5 y6 y7 y8
              unfold RN
              simp only [Dt.st_so, sb_i, sb_a, sB_at, Nat.reduceEqDiff, false_and, true_and, if_false, if_true]
              refine ⟨y1, y2, y3, ⟨z1, z2, z3, z4, z5, z6, z7, z8, z9, ?_, ?_⟩, y5, y6, y7, y8⟩
              · rw [z10]
                rcases (by omega : j = 0 ∨ j = 1) with rfl | rfl <;> rfl
              · rw [z11]
                rcases (by omega : j = 0 ∨ j = 1) with rfl | rfl
                · show (d.so 0).lost + (d.so 1).lost + _ = (d.so 0).lost + _ + (d.so 1).lost
                  ac_rfl
                · show (d.so 0).lost + (d.so 1).lost + _ = (d.so 0).lost + ((d.so 1).lost + _)
                  ac_rfl
        · by_cases c4 : g.toInt - (d.so j).grams.toInt ≤ (offD (d.so j).grams w).toInt
          · refine ⟨0, d, hD, hx (w_jn (w_f hne (w_bnd (w_nt (x_isIn c64_0 c64_1000000 (w_f (fun z => bzf z c1) (w_bnd (w_nt (x_isIn c64_0 c64_50 (w_t (fun z => bzf z c2) (w_bnd (w_getIv s1 g7 (w_bnd (w_getIv s1 g7 (w_t (Int32.le_iff_toInt_le.mpr ?_) (w_jn (w_t (Int32.le_iff_toInt_le.mpr ?_) (w_pur fin)))))))))))))))))), fun S hS => mpre ?_⟩
            · show _ ≤ (offD (d.so j).grams w).toInt; omega
            · show _ ≤ (offD (d.so j).grams w).toInt; omega
            · have r4 := (hS.2.2.1.at hj).2.2.2.1
              refine m_bnd (m_getRt rfl (m_bnd (m_ldIt rfl hj (m_bnd (m_getRt rfl (m_bnd (m_ldIt rfl hj ?_)))))))
              rw [r4]
              refine m_t (Int32.le_iff_toInt_le.mpr (by show _ ≤ ((d.so j).grams + offD (d.so j).grams w).toInt; omega)) (m_bnd (m_getRt rfl (m_bnd (m_ldIt rfl hj ?_))))
              rw [r4]
              refine m_f (fun z => ?_) (m_pur ⟨rfl, hS⟩)
              have z2 : g.toInt < ((d.so j).grams - offD (d.so j).grams w).toInt := Int32.lt_iff_toInt_lt.mp z
              omega
          · refine ⟨2, d, hD, hx (w_jn (w_f hne (w_bnd (w_nt (x_isIn c64_0 c64_1000000 (w_f (fun z => bzf z c1) (w_bnd (w_nt (x_isIn c64_0 c64_50 (w_t (fun z => bzf z c2) (w_bnd (w_getIv s1 g7 (w_bnd (w_getIv s1 g7 (w_t (Int32.le_iff_toInt_le.mpr ?_) (w_jn (w_f (fun z => ?_) (w_pur fin)))))))))))))))))), fun S hS => mpre ?_⟩
            · show _ ≤ (offD (d.so j).grams w).toInt; omega
            · have z2 : (-((d.so j).grams - g)).toInt ≤ (offD (d.so j).grams w).toInt := le_i z
              omega
            · have r4 := (hS.2.2.1.at hj).2.2.2.1
              refine m_bnd (m_getRt rfl (m_bnd (m_ldIt rfl hj (m_bnd (m_getRt rfl (m_bnd (m_ldIt rfl hj ?_)))))))
              rw [r4]
              refine m_f (fun z => ?_) (m_pur ⟨rfl, hS⟩)
              have z2 : g.toInt ≤ ((d.so j).grams + offD (d.so j).grams w).toInt := le_i z
              omega
      · exact ⟨-1, d, hD, hx (w_jn (w_f hne (w_bnd (w_nt (x_isIn c64_0 c64_1000000 (w_f (fun z => bzf z c1) (w_bnd (w_nt (x_isIn c64_0 c64_50 (w_f (fun z => z (bz_0.mpr c2)) (w_pur fin))))))))))), fun S hS => m_bnd (m_nt (m_isstore (m_jn (m_f (fun z => bzf z hst) (m_bnd (m_nt (m_isin (m_f (fun z => bzf z c1) (m_bnd (m_nt (m_isin (m_f (fun z => z (bz_0.mpr c2)) (m_pur ⟨rfl, hS⟩)))))))))))))⟩
    · exact ⟨-1, d, hD, hx (w_jn (w_f hne (w_bnd (w_nt (x_isIn c64_0 c64_1000000 (w_t (bz_0.mpr c1) (w_pur fin))))))), fun S hS => m_bnd (m_nt (m_isstore (m_jn (m_f (fun z => bzf z hst) (m_bnd (m_nt (m_isin (m_t (bz_0.mpr c1) (m_pur ⟨rfl, hS⟩)))))))))⟩
  · exact ⟨-1, d, hD, w_bnd (w_gd hL.k0 (w_nt (x_storeAt hL (fun z => w_jn (w_t rfl (w_pur fin))) (fun i hi z => absurd ⟨i, hi, z⟩ co)))), fun S hS => m_bnd (m_nt (m_isstore (m_jn (m_t (bz_0.mpr (fun q => co (st_c.mpr q))) (m_pur ⟨rfl, hS⟩)))))⟩
end
