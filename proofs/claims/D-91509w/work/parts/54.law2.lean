set_option maxRecDepth 100000
section
variable {x : Nat} {M : Mem} {n0 k p L : Nat} {xs : Nat → Int32}
theorem tel_01 {stm : List Sm} (h : ∀ s ∈ stm, s.sort = 5 → s.a = 0 ∨ s.a = 1) : ∀ b : Int32, (b = 0 ∨ b = 1) → tel stm 5 b = 0 ∨ tel stm 5 b = 1 := by
  unfold tel
  induction stm with
  | nil => intro b hb; exact hb
  | cons s l ih =>
    intro b hb
    rw [List.foldl_cons]
    refine ih (fun s hs => h s (List.mem_cons_of_mem _ hs)) _ ?_
    by_cases c : s.sort = 5
    · rw [if_pos c]; exact h s List.mem_cons_self c
    · rw [if_neg c]; exact hb
theorem ruA_ok {d : Dt} (hD : ID d) (t : Int32) : ∀ s ∈ (ruA d.rules t).stm, smOk s := by
  unfold ruA
  cases e : frcA d.rules t with
  | none => intro s hs; exact absurd hs List.not_mem_nil
  | some i =>
    have hi : i < d.rules.length := frc_lt e
    show ∀ s ∈ (d.rules.getD i bareR).stm, smOk s
    rw [List.getD_eq_getElem?_getD, List.getElem?_eq_getElem hi]
    exact (hD.2.2.2.2.2.2.2.2.1.2 _ (List.getElem_mem hi)).2
/-- how many statements the rules in force have -/
theorem m_stms {S : MS} {rs : List Ru} (hR : RU S rs) {t : Int32} : (frcA rs t = none → (ruA rs t).stm.length = 0) ∧ ∀ i, frcA rs t = some i → i < 9 ∧ S.a 41 i = Int32.ofNat (ruA rs t).stm.length := by
  unfold ruA
  constructor
  · intro e; rw [e]; rfl
  · intro i e
    have hi : i < rs.length := frc_lt e
    have h8 := hR.2.1
    rw [e]
    show i < 9 ∧ S.a 41 i = Int32.ofNat (rs.getD i bareR).stm.length
    rw [List.getD_eq_getElem?_getD, List.getElem?_eq_getElem hi]
    exact ⟨by omega, (hR.2.2.2 i hi).1⟩
theorem op_law {n : Nat} {Q : Int32 → Mem → Prop} (hI : Inv x n0 k p L xs M) (hn : 9100 ≤ n) {t w : Int32}
    (hq : ∀ v M1, Scr p L xs M1 → wp (gd 4 (x + 28) (nt (f_X4_law n (x + 28) t w))) M1 (fun w M2 => w = v ∧ Inv x n0 (k + 1) p L xs M2) → Q v M1) : wp (gd 0 x (nt (f_X0_law n x t w))) M Q := by
  refine op_ask hI (fun d hB hX hD => ?_) hq
  have hL := hB.1
  have fin : ∀ {v : Int32}, v = v ∧ Okx x M d M ∧ M.n = M.n ∧ M.sl = M.sl ∧ M.cap = M.cap := fun {v} => ⟨rfl, Okx.rf hB hX, rfl, rfl, rfl⟩
  have hR := hX.2.2.2.2.2.2.2
  have h8 := hD.2.2.2.2.2.2.2.2.1.1
  unfold f_X0_law f_X4_law
  by_cases ct : 0 ≤ t ∧ t ≤ 4999
  · have hx : ∀ {f : Nat → Act Int32} {g : Act Int32} {R : Int32 → Mem → Prop}, (∀ c, XR1 x M c (ruA d.rules t) → wp (f c) M R) → wp (bnd (nt (f_X0_isTen t)) fun v1 => if ¬ v1 = 0 then bnd (gd 0 x (nt (f_X0_at n x t))) f else g) M R := fun h => w_bnd (w_nt (x_isTen (w_t (fun z => bzf z ct) (w_bnd (w_gd hL.k0 (w_nt (x_atR hB hR hn h8 h)))))))
    have hm : ∀ {S : MS} {f : Int32 → Act Int32} {g : Act Int32} {R : Int32 → MS → Prop}, IM S d → wm x (f (fcd (frcA d.rules t))) S R → wm x (bnd (nt (f_X4_isTen t)) fun v1 => if ¬ v1 = 0 then bnd (gd 4 (x + 28) (nt (f_X4_inForce n (x + 28) t))) f else g) S R := fun hS h => m_bnd (m_nt (m_isten (m_t (fun z => bzf z ct) (m_bnd (m_gd (m_nt (m_inForce hS.2.2.2.2.2.2.2 (by omega) h)))))))
    rcases sw_c w 8 with ⟨i, hi, rfl⟩ | hw
    · by_cases h6 : i < 6
      · have hin : 0 ≤ Int32.ofNat i ∧ Int32.ofNat i ≤ 5 := lenI' (n := 6) (by decide) h6
        refine ⟨lawA d.rules t i, hx (fun c hc => ?_), fun S hS => hm hS ?_⟩
        · rw [sw_kN 8 rfl hi (by decide)]
          obtain ⟨a0, a1, a2, a3, a4, a5, a6, a7, a8, a9⟩ := hc
          rcases (by omega : i = 0 ∨ i = 1 ∨ i = 2 ∨ i = 3 ∨ i = 4 ∨ i = 5) with rfl | rfl | rfl | rfl | rfl | rfl
          · exact w_bnd (w_getIv a0 a2 (w_pur fin))
          · exact w_bnd (w_getIv a0 a3 (w_pur fin))
          · exact w_bnd (w_getIv a0 a4 (w_pur fin))
          · exact w_bnd (w_getIv a0 a5 (w_pur fin))
          · exact w_bnd (w_getIv a0 a6 (w_pur fin))
          · have h01 := tel_01 (stm := (ruA d.rules t).stm) (fun s hs => (ruA_ok hD t s hs).2.2.2.2.2) 0 (Or.inl rfl)
            have el : lawA d.rules t 5 = tel (ruA d.rules t).stm 5 0 := rfl
            refine w_bnd (w_getIv a0 a8 (w_jn (w_ite (fun z => w_pur ?_) (fun z => w_pur ?_))))
            · rw [el, z]; exact fin
            · rw [el, h01.resolve_left z]; exact fin
        · exact m_bnd (m_nt (m_isin (m_jn (m_f (fun z => bzf z hin) (m_bnd (m_gd (m_nt (m_tells hS.2.2.2.2.2.2.2 (by omega) h6 (m_pur ⟨rfl, hS⟩)))))))))
      · have hin : ¬ (0 ≤ Int32.ofNat i ∧ Int32.ofNat i ≤ 5) := fun z => by
          have := (i_le (a := i) (b := 5) (by omega) (by omega)).mp z.2
          omega
        rcases (by omega : i = 6 ∨ i = 7) with rfl | rfl
        · refine ⟨Int32.ofNat (ruA d.rules t).stm.length, hx (fun c hc => ?_), fun S hS => hm hS ?_⟩
          · rw [sw_kN 8 rfl hi (by decide)]
            exact w_bnd (w_getIv hc.1 hc.2.2.2.2.2.2.2.1 (w_pur fin))
          · obtain ⟨q1, q2⟩ := m_stms (t := t) hS.2.2.2.2.2.2.2
            refine m_bnd (m_nt (m_isin (m_jn (m_t (bz_0.mpr hin) (m_f (fun z => z rfl) ?_)))))
            cases e : frcA d.rules t with
            | none => exact m_f (fun z => z rfl) (m_pur ⟨by rw [q1 e]; rfl, hS⟩)
            | some j =>
              obtain ⟨q3, q4⟩ := q2 j e
              refine m_t (fun z => i_nneg (n := j) (by omega) (by rw [show Int32.ofNat j = -1 from z]; decide)) ?_
              show wm x (bnd (getR 4 56 (x + 28)) fun v5 => bnd (ldI 0 v5 (Int32.ofNat j)) _) S _
              (repeat (first | (with_reducible refine m_bnd ?_) | (with_reducible refine m_jn ?_) | (with_reducible refine m_nt ?_) | (with_reducible refine m_gd ?_) | ((with_reducible apply m_getI); decide) | ((with_reducible apply m_putI); decide) | ((with_reducible apply m_getRt); exact rfl) | ((with_reducible apply m_ldIt); exact rfl; omega) | ((with_reducible apply m_ldLt); exact rfl; omega) | ((with_reducible apply m_stIt); exact rfl; omega) | ((with_reducible apply m_stZt); exact rfl; omega; (first | exact Or.inl rfl | exact Or.inr rfl | exact bz_z | assumption)) | ((with_reducible apply m_stLt); exact rfl; omega) | (with_reducible refine m_isin ?_) | (with_reducible refine m_isten ?_) | (with_reducible refine m_ones ?_) | (with_reducible refine m_isstore ?_) | ((with_reducible apply m_purZ); (first | exact Or.inl rfl | exact Or.inr rfl | exact bz_z | assumption)) | (with_reducible refine m_pur ?_)))
              exact ⟨q4, hS⟩
        · refine ⟨fcd (frcA d.rules t), hx (fun c hc => ?_), fun S hS => hm hS ?_⟩
          · rw [sw_kN 8 rfl hi (by decide)]
            exact w_bnd (w_gd hL.k0 (w_nt (x_numberAt hB hR hn (w_pur fin))))
          · exact m_bnd (m_nt (m_isin (m_jn (m_t (bz_0.mpr hin) (m_t (by decide) (m_f (fun z => z rfl) (m_pur ⟨rfl, hS⟩)))))))
    · have hin : ¬ (0 ≤ w ∧ w ≤ 5) := fun z => by
        obtain ⟨j, hj, e⟩ := i_nat (n := 5) z.1 (by decide) z.2
        exact hw j (by omega) e
      refine ⟨-1, hx (fun c hc => ?_), fun S hS => hm hS ?_⟩
      · rw [sw_dN 8 rfl hw (by decide)]; exact w_pur fin
      · exact m_bnd (m_nt (m_isin (m_jn (m_t (bz_0.mpr hin) (m_t (hw 6 (by omega)) (m_t (hw 7 (by omega)) (m_pur ⟨rfl, hS⟩)))))))
  · exact ⟨-1, w_bnd (w_nt (x_isTen (w_f (fun z => z (bz_0.mpr ct)) (w_pur fin)))), fun S hS => m_bnd (m_nt (m_isten (m_f (fun z => z (bz_0.mpr ct)) (m_pur ⟨rfl, hS⟩))))⟩
end
