set_option maxRecDepth 100000
/-! ===== a ten ===== -/
def updF (f : Nat → Int32) (h : Nat) (v : Int32) : Nat → Int32 := fun j => if j = h then v else f j
def tA (d : Dt) : Dt := if d.now % 6 = 5 then ((d.set_stored (updF d.stored (d.now / 6) ((d.so 0).grams + (d.so 1).grams))).set_water (updF d.water (d.now / 6) d.thas)).set_running (updF d.running (d.now / 6) (runsD d.stk)) else d
def tB (d : Dt) : Dt := d.set_stk (if d.now % 144 = 0 then d.stk.map (fun s => s.set_today 0) else d.stk)
def tWet (d : Dt) : Int32 := mn (say (d.told 2) (Int32.ofNat d.now)) (d.troom - d.thas)
def tC (d : Dt) : Dt := (d.set_thas (d.thas + tWet d)).set_noRoom (d.noRoom + (say (d.told 2) (Int32.ofNat d.now) - tWet d).toInt64)
def tW (d : Dt) : Int32 := say (d.told 0) (Int32.ofNat d.now)
def tS (d : Dt) : List Sk × Int32 × Int32 × Int32 × Int32 := splD d.stk (ruA d.rules (Int32.ofNat d.now)) d.thas (tW d)
def tD (d : Dt) : Dt := (d.set_stk (tS d).1).set_thas (tS d).2.1
def tE (d : Dt) (blows left gas : Int32) : Dt := ((d.set_blew (d.blew + blows.toInt64)).set_taken (d.taken + (blows - left).toInt64)).set_made (d.made + gas.toInt64)
def tFi (d : Dt) (gas foul : Int32) : Dt := (d.set_so (fil2 d.so d.now gas foul).1).set_vented (d.vented + (fil2 d.so d.now gas foul).2.1.toInt64)
def tG (d : Dt) (left goes : Int32) : Dt := ((d.set_sold (d.sold + goes.toInt64)).set_coins (d.coins + (goes.toInt64 * (say (d.told 1) (Int32.ofNat d.now)).toInt64))).set_unsold (d.unsold + (left - goes).toInt64)
def tH (d : Dt) : Dt := (tryN d (d.so 1).breath (lawA d.rules (Int32.ofNat d.now) 0) d.trips.length).1
def tI (d : Dt) : Dt := d.set_so (lk2 d.so)
def tJ (d : Dt) : Dt := d.set_now (d.now + 1)
def tSell (d : Dt) : Bool := anyA (asks (ruA d.rules (Int32.ofNat d.now)).stm 7) (hereA d.told d.now ((d.so 0).grams.toInt64 + (d.so 1).grams.toInt64) d.thas.toInt64 (runsD d.stk).toInt64)
def tGo (d : Dt) (left : Int32) : Int32 := if tSell d = true then mn left (lawA d.rules (Int32.ofNat d.now) 4) else 0
def t3 (d : Dt) : Dt := tC (tB (tA d))
def t5 (d : Dt) : Dt := tE (tD (t3 d)) (tW (t3 d)) (tS (t3 d)).2.2.2.2 (tS (t3 d)).2.2.1
def t6 (d : Dt) : Dt := tFi (t5 d) (tS (t3 d)).2.2.1 (tS (t3 d)).2.2.2.1
def t7 (d : Dt) : Dt := tG (t6 d) (tS (t3 d)).2.2.2.2 (tGo d (tS (t3 d)).2.2.2.2)
def tenD (d : Dt) : Dt := tJ (tI (tH (t7 d)))
section
variable {x : Nat} {M M0 : Mem} {d : Dt}
theorem i_r6 {a : Nat} (h : a < 2147483648) : Int32.ofNat a - Int32.ofNat a / 6 * 6 = Int32.ofNat (a % 6) := by
  rw [i_d6 h, show Int32.ofNat (a / 6) * 6 = Int32.ofNat (a / 6 * 6) from i_mul _ 6, i_sub (by omega)]
  congr 1
  omega
theorem i_r144 {a : Nat} (h : a < 2147483648) : Int32.ofNat a - Int32.ofNat a / 144 * 144 = Int32.ofNat (a % 144) := by
  rw [i_d144 h, i_m144, i_sub (by omega)]
  congr 1
  omega
theorem x_stA {n : Nat} {Q : Unit → Mem → Prop} {F : Act Unit} (hB : Bas x M) (hX : IX x M d) (hnow : d.now ≤ 4999) (hn : 9100 ≤ n) (hq : ∀ M', Bas x M' → IX x M' (tA d) → M'.i = M.i → NuF M M' → AgX x M M' → wp F M' Q) :
    wp (if ¬ (Int32.ofNat d.now - Int32.ofNat d.now / 6 * 6) = 5 then F else bnd (getR 0 30 x) fun v66 => bnd (getI 0 0 x) fun v67 => bnd (getR 0 16 x) fun v68 => bnd (getI 3 4 v68) fun v69 => bnd (getR 0 17 x) fun v70 => bnd (getI 3 4 v70) fun v71 => bnd (stI 0 v66 (v67 / 6) (v69 + v71)) fun _ => bnd (getR 0 31 x) fun v72 => bnd (getI 0 0 x) fun v73 => bnd (getI 0 20 x) fun v74 => bnd (stI 0 v72 (v73 / 6) v74) fun _ => bnd (getR 0 32 x) fun v75 => bnd (getI 0 0 x) fun v76 => bnd (gd 0 x (nt (f_X0_runs n x))) fun v77 => bnd (stI 0 v75 (v76 / 6) v77) fun _ => F) M Q := by
  have hL := hB.1
  have n0 : M.i (128 * 0 + 0) x = Int32.ofNat d.now := hX.2.2.2.2.2.2.1.1
  have n20 : M.i (128 * 0 + 20) x = d.thas := hX.2.2.2.2.2.2.1.2.2.1
  have g0 := (hX.2.2.1.at (k := 0) (by decide)).2.2.2.2.2.2.1
  have g1 := (hX.2.2.1.at (k := 1) (by decide)).2.2.2.2.2.2.1
  rw [i_r6 (by omega)]
  unfold tA at hq
  by_cases c : d.now % 6 = 5
  · rw [if_pos c] at hq
    refine w_f (fun z => z (by rw [c]; rfl)) ?_
    refine w_bnd (w_getR0 hL rfl rfl rfl (w_bnd (w_getIv hL.k0 n0 (w_bnd (w_getR0 hL rfl rfl rfl (w_bnd (w_getIv hL.k13 g0 (w_bnd (w_getR0 hL rfl rfl rfl (w_bnd (w_getIv hL.k15 g1 ?_)))))))))))
    rw [i_d6 (by omega)]
    refine w_bnd (w_sty (c := x + 18) Ony.rf hL.k18 hL.l18 (by omega) (by decide) (fun M1 o1 a1 => ?_))
    have hB1 := o1.bas hB
    have hL1 := hB1.1
    have ii1 : M1.i = M.i := o1.2.2.2.2.2.2.2.1
    have n01 : M1.i (128 * 0 + 0) x = Int32.ofNat d.now := by rw [ii1]; exact n0
    have n21 : M1.i (128 * 0 + 20) x = d.thas := by rw [ii1]; exact n20
    refine w_bnd (w_getR0 hL1 rfl rfl rfl (w_bnd (w_getIv hL1.k0 n01 (w_bnd (w_getIv hL1.k0 n21 ?_)))))
    rw [i_d6 (by omega)]
    refine w_bnd (w_sty (c := x + 19) Ony.rf hL1.k19 hL1.l19 (by omega) (by decide) (fun M2 o2 a2 => ?_))
    have hB2 := o2.bas hB1
    have hL2 := hB2.1
    have ii2 : M2.i = M.i := o2.2.2.2.2.2.2.2.1.trans ii1
    have hXS2 : XS x M2 d.stk := (hX.2.1.ag hB.2.1 hB.1.top o1.1 (fun t z => z.elim) (fun t z => z.elim) (fun c z => z.elim)).ag hB1.2.1 hB1.1.top o2.1 (fun t z => z.elim) (fun t z => z.elim) (fun c z => z.elim)
    have n02 : M2.i (128 * 0 + 0) x = Int32.ofNat d.now := by rw [ii2]; exact n0
    refine w_bnd (w_getR0 hL2 rfl rfl rfl (w_bnd (w_getIv hL2.k0 n02 (w_bnd (w_gd hL2.k0 (w_nt (x_runs hB2 hXS2 hn ?_)))))))
    rw [i_d6 (by omega)]
    refine w_bnd (w_sty (c := x + 20) Ony.rf hL2.k20 hL2.l20 (by omega) (by decide) (fun M3 o3 a3 => ?_))
    have hB3 := o3.bas hB2
    have ii3 : M3.i = M.i := o3.2.2.2.2.2.2.2.1.trans ii2
    have hA : Ag (fun t => t < 128) (fun t => t < 128) no (fun c => x ≤ c ∧ c ≤ x + 27) M M3 := ((o1.1.mono (fun _ z => z.elim) (fun _ z => z.elim) (fun _ z => z) (fun c z => by omega)).tr (o2.1.mono (fun _ z => z.elim) (fun _ z => z.elim) (fun _ z => z) (fun c z => by omega))).tr (o3.1.mono (fun _ z => z.elim) (fun _ z => z.elim) (fun _ z => z) (fun c z => by omega))
    have top := hL.top
    have e12 : M3.ai (x + 12) = M.ai (x + 12) := by
      rw [(o3.1.2.2.2.2.2.2 (x + 12) (by have := hL2.top; omega) (by omega)).1, (o2.1.2.2.2.2.2.2 (x + 12) (by have := hL1.top; omega) (by omega)).1, (o1.1.2.2.2.2.2.2 (x + 12) (by omega) (by omega)).1]
    have e18 : M3.ai (x + 18) = M1.ai (x + 18) := by
      rw [(o3.1.2.2.2.2.2.2 (x + 18) (by have := hL2.top; omega) (by omega)).1, (o2.1.2.2.2.2.2.2 (x + 18) (by have := hL1.top; omega) (by omega)).1]
    have e19 : M3.ai (x + 19) = M2.ai (x + 19) := (o3.1.2.2.2.2.2.2 (x + 19) (by have := hL2.top; omega) (by omega)).1
    have e19' : M1.ai (x + 19) = M.ai (x + 19) := (o1.1.2.2.2.2.2.2 (x + 19) (by omega) (by omega)).1
    have e20 : M2.ai (x + 20) = M.ai (x + 20) := by
      rw [(o2.1.2.2.2.2.2.2 (x + 20) (by have := hL1.top; omega) (by omega)).1, (o1.1.2.2.2.2.2.2 (x + 20) (by omega) (by omega)).1]
    have ll : M3.l = M.l := o3.2.2.2.2.2.2.2.2.2.trans (o2.2.2.2.2.2.2.2.2.2.trans o1.2.2.2.2.2.2.2.2.2)
    refine hq M3 hB3 ?_ ii3 ⟨o3.2.1.trans (o2.2.1.trans o1.2.1), o3.2.2.1.trans (o2.2.2.1.trans o1.2.2.1), o3.2.2.2.1.trans (o2.2.2.2.1.trans o1.2.2.2.1), o3.2.2.2.2.1.trans (o2.2.2.2.2.1.trans o1.2.2.2.2.1), o3.2.2.2.2.2.1.trans (o2.2.2.2.2.2.1.trans o1.2.2.2.2.2.1)⟩ (AgX.of hA (fun t z => by unfold isNt; omega) (fun c z => z))
    refine hX.num hB hA (fun _ z => z) ⟨(by simp only [Dt.st_now, Dt.st_told, Dt.st_stk, Dt.st_troom, Dt.st_thas, Dt.st_so, Dt.st_trips, Dt.st_papers, Dt.st_places, Dt.st_rules, Dt.st_tape, Dt.st_fault, Dt.st_blew, Dt.st_taken, Dt.st_sold, Dt.st_unsold, Dt.st_made, Dt.st_vented, Dt.st_drunk, Dt.st_noRoom, Dt.st_coins, Dt.st_stored, Dt.st_water, Dt.st_running]), (by simp only [Dt.st_now, Dt.st_told, Dt.st_stk, Dt.st_troom, Dt.st_thas, Dt.st_so, Dt.st_trips, Dt.st_papers, Dt.st_places, Dt.st_rules, Dt.st_tape, Dt.st_fault, Dt.st_blew, Dt.st_taken, Dt.st_sold, Dt.st_unsold, Dt.st_made, Dt.st_vented, Dt.st_drunk, Dt.st_noRoom, Dt.st_coins, Dt.st_stored, Dt.st_water, Dt.st_running]), (by simp only [Dt.st_now, Dt.st_told, Dt.st_stk, Dt.st_troom, Dt.st_thas, Dt.st_so, Dt.st_trips, Dt.st_papers, Dt.st_places, Dt.st_rules, Dt.st_tape, Dt.st_fault, Dt.st_blew, Dt.st_taken, Dt.st_sold, Dt.st_unsold, Dt.st_made, Dt.st_vented, Dt.st_drunk, Dt.st_noRoom, Dt.st_coins, Dt.st_stored, Dt.st_water, Dt.st_running]), (by simp only [Dt.st_now, Dt.st_told, Dt.st_stk, Dt.st_troom, Dt.st_thas, Dt.st_so, Dt.st_trips, Dt.st_papers, Dt.st_places, Dt.st_rules, Dt.st_tape, Dt.st_fault, Dt.st_blew, Dt.st_taken, Dt.st_sold, Dt.st_unsold, Dt.st_made, Dt.st_vented, Dt.st_drunk, Dt.st_noRoom, Dt.st_coins, Dt.st_stored, Dt.st_water, Dt.st_running]), (by simp only [Dt.st_now, Dt.st_told, Dt.st_stk, Dt.st_troom, Dt.st_thas, Dt.st_so, Dt.st_trips, Dt.st_papers, Dt.st_places, Dt.st_rules, Dt.st_tape, Dt.st_fault, Dt.st_blew, Dt.st_taken, Dt.st_sold, Dt.st_unsold, Dt.st_made, Dt.st_vented, Dt.st_drunk, Dt.st_noRoom, Dt.st_coins, Dt.st_stored, Dt.st_water, Dt.st_running]), (by simp only [Dt.st_now, Dt.st_told, Dt.st_stk, Dt.st_troom, Dt.st_thas, Dt.st_so, Dt.st_trips, Dt.st_papers, Dt.st_places, Dt.st_rules, Dt.st_tape, Dt.st_fault, Dt.st_blew, Dt.st_taken, Dt.st_sold, Dt.st_unsold, Dt.st_made, Dt.st_vented, Dt.st_drunk, Dt.st_noRoom, Dt.st_coins, Dt.st_stored, Dt.st_water, Dt.st_running]), (by simp only [Dt.st_now, Dt.st_told, Dt.st_stk, Dt.st_troom, Dt.st_thas, Dt.st_so, Dt.st_trips, Dt.st_papers, Dt.st_places, Dt.st_rules, Dt.st_tape, Dt.st_fault, Dt.st_blew, Dt.st_taken, Dt.st_sold, Dt.st_unsold, Dt.st_made, Dt.st_vented, Dt.st_drunk, Dt.st_noRoom, Dt.st_coins, Dt.st_stored, Dt.st_water, Dt.st_running])⟩ ?_
    obtain ⟨b1, b2, b3, b4, b5, b6, b7, b8⟩ := hX.2.2.2.2.2.2.1
    unfold XN
    simp only [Dt.st_stored, Dt.st_water, Dt.st_running]
    rw [ii3, ll, e12]
    refine ⟨b1, b2, b3, b4, fun h hh => ?_, b6, b7, b8⟩
    obtain ⟨q1, q2, q3⟩ := b5 h hh
    rw [e18, e19, a1, a2, a3, e19', e20, q1, q2, q3]
    exact ⟨rfl, rfl, rfl⟩
  · rw [if_neg c] at hq
    refine w_t (fun z => c ((i_eq (b := 5) (by omega) (by omega)).mp z)) (hq M hB hX rfl ⟨rfl, rfl, rfl, rfl, rfl⟩ Ag.rf)
theorem x_day_lp {r : Nat} {v12 : Int32} (hB : Bas x M0) (hX : IX x M0 d) (h4 : d.stk.length ≤ 4) {Q : Unit → Mem → Prop} {jj : Unit → Act Unit}
    (hq : ∀ M', SpF x M0 M' → XS x M' (d.stk.map (fun s => s.set_today 0)) → (∀ t, t < 128 → M'.i t x = M0.i t x) → wp (jj ()) M' Q) :
    ∀ q k M, k ≤ d.stk.length → d.stk.length < q + k → SpF x M0 M → XS x M ((d.stk.take k).map (fun s => s.set_today 0) ++ d.stk.drop k) → (∀ t, t < 128 → M.i t x = M0.i t x) → wp (lp_X0_ten_139 x r v12 jj q (Int32.ofNat k)) M Q := by
  intro q
  induction q with
  | zero => intro k M _ _; omega
  | succ q ih =>
    intro k M hk hq' hF hXS hxi
    have hB1 := hF.bas hB
    have hL := hB1.1
    have hlen : ((d.stk.take k).map (fun s => s.set_today 0) ++ d.stk.drop k).length = d.stk.length := by
      rw [List.length_append, List.length_map, List.length_take, List.length_drop]; omega
    rw [lp_X0_ten_139]
    refine w_bnd (w_getR0 hL rfl rfl rfl (w_bnd (w_gd hL.k17 (w_nt (w_size hB1.2.2.1 hL.k17 ?_)))))
    rw [map_len hXS.1, hlen]
    by_cases e : k = d.stk.length
    · refine w_t ((i_le (by omega) (by omega)).mpr (by omega)) (hq M hF ?_ hxi)
      rw [e, List.take_length, List.drop_length, List.append_nil] at hXS
      exact hXS
    · have hk2 : k < d.stk.length := by omega
      refine w_f (fun z => by have := (i_le (by omega) (by omega)).mp z; omega) ?_
      refine w_bnd (w_getR0 hL rfl rfl rfl (w_stk hB1 hXS (by rw [hlen]; exact hk2) (fun e ⟨hj2, ee⟩ ke ge _ => w_bnd (w_putI ke ?_))))
      rw [i_add1]
      have hW : WkF x e M (M.seti (128 * 6 + 5) e 0) := WkF.rf.pe (by decide)
      have hnx : x ≠ e := fun z => by rw [← z, hL.k0] at ke; exact absurd ke (by decide)
      refine ih (k + 1) _ (by omega) (by omega) (hF.tr (SpF.wk hW)) ?_ (fun t ht => (seti_nc _ _ _ _ hnx).trans (hxi t ht))
      subst ee
      have hk3 : k < ((d.stk.take k).map (fun s => s.set_today 0) ++ d.stk.drop k).length := by rw [hlen]; exact hk2
      have hl : ((d.stk.take k).map (fun s => s.set_today 0)).length = k := by rw [List.length_map, List.length_take]; omega
      have e0 : skA ((d.stk.take k).map (fun s => s.set_today 0) ++ d.stk.drop k) k = d.stk[k] := by
        rw [skA_at hk3, List.getElem_append_right (by omega)]
        simp only [hl, Nat.sub_self, List.getElem_drop, Nat.add_zero]
      have U := hXS.upd (s := d.stk[k].set_today 0) hk3 hj2 hW (by
        rw [← e0, ← ge]
        unfold rdSk
        simp only [seti_at, Nat.reduceMul, Nat.reduceAdd, Nat.reduceEqDiff, false_and, true_and, and_true, if_true, if_false]
        rfl) (hXS.le hB1.2.1)
      have e1 : ((d.stk.take k).map (fun s => s.set_today 0) ++ d.stk.drop k).set k (d.stk[k].set_today 0) = (d.stk.take (k + 1)).map (fun s => s.set_today 0) ++ d.stk.drop (k + 1) := by
        rw [List.set_append_right _ _ (by omega), hl, Nat.sub_self, drop_s hk2, List.set_cons_zero, List.take_succ_eq_append_getElem hk2, List.map_append, List.append_assoc]
        rfl
      rw [e1] at U
      exact U
theorem SpF.nu {M' : Mem} (h : SpF x M M') : NuF M M' := ⟨h.2.1, h.2.2.1, h.2.2.2.1, h.2.2.2.2.1, h.2.2.2.2.2⟩
theorem SpF.agx {M' : Mem} (h : SpF x M M') : AgX x M M' := AgX.of h.1 (fun t z => by unfold spTi at z; unfold isNt; omega) (fun c z => by omega)
theorem x_stB {n r : Nat} {v12 : Int32} {Q : Unit → Mem → Prop} {F : Act Unit} {jj : Unit → Act Unit} (hj : jj () = F) (hB : Bas x M) (hX : IX x M d) (h4 : d.stk.length ≤ 4) (hnow : d.now ≤ 4999) (hn : 9100 ≤ n) (hq : ∀ M', Bas x M' → IX x M' (tB d) → NuF M M' → AgX x M M' → wp F M' Q) :
    wp (if ¬ (Int32.ofNat d.now - Int32.ofNat d.now / 144 * 144) = 0 then F else lp_X0_ten_139 x r v12 jj n 0) M Q := by
  rw [i_r144 (by omega)]
  unfold tB at hq
  by_cases c : d.now % 144 = 0
  · rw [if_pos c] at hq
    refine w_f (fun z => z (by rw [c]; rfl)) (x_day_lp hB hX h4 (fun M' hF hXS hxi => ?_) n 0 M (Nat.zero_le _) (by omega) SpF.rf hX.2.1 (fun _ _ => rfl))
    have h20 : M'.i 20 x = d.thas := (hxi 20 (by decide)).trans hX.2.2.2.2.2.2.1.2.2.1
    rw [hj]
    exact hq M' (hF.bas hB) (hX.spl hB hF hXS h20) hF.nu hF.agx
  · rw [if_neg c] at hq
    exact w_t (fun z => c ((i_eq (b := 0) (by omega) (by omega)).mp z)) (hq M hB hX ⟨rfl, rfl, rfl, rfl, rfl⟩ Ag.rf)
end
