set_option maxRecDepth 100000
/-! ===== what goes out: WindGas ===== -/
theorem l64_0 {g : Int32} (h : g.toInt ≠ 0) : ¬ g.toInt64 = 0 := fun z => h (by
  have := congrArg Int64.toInt z
  rw [Int32.toInt_toInt64] at this
  exact this)
/-- the potential of a list's capacity -/
def psi (c : Nat) : Nat := 4 * c + 20 * min c 12
theorem addM_psi (M : Mem) (l v : Nat) (h1 : 1 ≤ M.cap l) : (addM M l v).sl + psi (M.cap l) ≤ M.sl + psi ((addM M l v).cap l) := by
  unfold addM psi
  by_cases q : (M.ls l).length + 1 < M.cap l
  · rw [if_pos q]
    exact Nat.le_refl _
  · rw [if_neg q]
    show M.sl + gcap (M.cap l) + _ ≤ M.sl + (4 * up1 M.cap l (gcap (M.cap l) + 1) l + 20 * min (up1 M.cap l (gcap (M.cap l) + 1) l) 12)
    rw [up1_eq]
    unfold gcap
    by_cases q2 : M.cap l = 1
    · rw [if_pos q2, q2]; omega
    · rw [if_neg q2]; omega
section
variable {x : Nat} {M : Mem}
theorem x_8foul {c : Nat} {g f m : Int32} (hk : M.k c = 9) (hg : M.i 1025 c = g) (hf : M.i 1026 c = f) (g0 : g.toInt ≠ 0) {Q : Int32 → Mem → Prop} (hq : Q (prt f m g) M) : wp (f_X8_foulOf c m) M Q := by
  unfold f_X8_foulOf
  unfold prt at hq
  refine w_bnd (w_getIv hk hg (w_jn (w_ite (fun h => ?_) (fun h => ?_))))
  · rw [if_neg h] at hq
    exact w_bnd (w_getIv hk hf (w_bnd (w_getIv hk hg (w_nzl (l64_0 g0) (w_pur hq)))))
  · rw [Decidable.not_not] at h
    rw [if_pos h] at hq
    exact w_bnd (w_getIv hk hf (w_pur hq))
def lotM (M : Mem) (c : Nat) (g f : Int32) : Mem := (M.seti 1026 c f).seti 1025 c g
theorem x_8takes {c : Nat} {g f m : Int32} (hk : M.k c = 9) (hg : M.i 1025 c = g) (hf : M.i 1026 c = f) (g0 : g.toInt ≠ 0) {Q : Unit → Mem → Prop} (hq : Q () (lotM M c (g - m) (f - prt f m g))) : wp (f_X8_takes c m) M Q := by
  unfold f_X8_takes
  refine w_bnd (w_getIv hk hf (w_bnd (w_gd hk (w_nt (x_8foul hk hg hf g0 (w_bnd (w_putI hk ?_)))))))
  have e1 : (M.seti (128 * 8 + 2) c (f - prt f m g)).i (128 * 8 + 1) c = g := (seti_ne _ _ _ _ (by decide)).trans hg
  exact w_bnd (w_getIv (kI hk) e1 (w_bnd (w_putI (kI hk) (w_pur hq))))
theorem lotM_f (M : Mem) (c : Nat) (g f : Int32) : (lotM M c g f).k = M.k ∧ (lotM M c g f).ls = M.ls ∧ (lotM M c g f).cap = M.cap ∧ (lotM M c g f).n = M.n ∧ (lotM M c g f).sl = M.sl ∧ (lotM M c g f).r = M.r := ⟨rfl, rfl, rfl, rfl, rfl, rfl⟩
theorem lotM_i {c e t : Nat} {g f : Int32} (h : e ≠ c) : (lotM M c g f).i t e = M.i t e := by
  unfold lotM
  rw [seti_nc _ _ _ _ h, seti_nc _ _ _ _ h]
theorem lotM_t {c e t : Nat} {g f : Int32} (h : t ≠ 1025) (h2 : t ≠ 1026) : (lotM M c g f).i t e = M.i t e := by
  unfold lotM
  rw [seti_ne _ _ _ _ h, seti_ne _ _ _ _ h2]
theorem lotM_g {c : Nat} {g f : Int32} : (lotM M c g f).i 1025 c = g := seti_eq _ _ _ _
theorem lotM_c {c : Nat} {g f : Int32} : (lotM M c g f).i 1026 c = f := by
  unfold lotM
  rw [seti_ne _ _ _ _ (by decide), seti_eq]
theorem lotM_rd {c : Nat} {g f : Int32} : rdLt (lotM M c g f) c = (M.i 1024 c, g, f) := by
  unfold rdLt
  rw [lotM_g, lotM_c, lotM_t (by decide) (by decide)]
theorem lotM_ag {ti tl ls ar : Nat → Prop} {M0 : Mem} {c : Nat} {g f : Int32} (h : Ag ti tl ls ar M0 M) (h1 : ti 1025) (h2 : ti 1026) : Ag ti tl ls ar M0 (lotM M c g f) := (h.i (Or.inl h2)).i (Or.inl h1)
theorem w_get0 {l c : Nat} {cs : List Nat} {Q : Nat → Mem → Prop} (h : GL M) (hk : M.k l = 18) (hl : M.ls l = c :: cs) (hq : Q c M) : wp (P_get l 0) M Q := by
  refine w_get (i := 0) h hk (by rw [hl]; exact Nat.succ_pos _) ?_
  have e : ∀ (xs : List Nat) (p : 0 < xs.length), xs = c :: cs → xs[0] = c := fun xs p z => by subst z; rfl
  rw [e _ _ hl]
  exact hq
theorem w_rem0 {l c : Nat} {cs : List Nat} {Q : Nat → Mem → Prop} (h : GL M) (hk : M.k l = 18) (hl : M.ls l = c :: cs) (hq : ∀ v, Q v (M.setls l cs)) : wp (P_rem l 0) M Q := by
  refine w_rem h hk (by rw [hl]; exact Nat.succ_pos _) ?_
  have e : (M.ls l).tail = cs := by rw [hl]; rfl
  rw [e]
  exact hq _
theorem setls_f (M : Mem) (l : Nat) (xs : List Nat) : (M.setls l xs).k = M.k ∧ (M.setls l xs).ls = up1 M.ls l xs ∧ (M.setls l xs).cap = M.cap ∧ (M.setls l xs).n = M.n ∧ (M.setls l xs).sl = M.sl ∧ (M.setls l xs).r = M.r ∧ (M.setls l xs).i = M.i := ⟨rfl, rfl, rfl, rfl, rfl, rfl, rfl⟩
def TkF (l : Nat) (M M' : Mem) : Prop := Ag (fun t => t = 1025 ∨ t = 1026) no (fun c => c = l) no M M' ∧ (M'.k = M.k ∧ M'.n = M.n ∧ M'.sl = M.sl ∧ M'.cap = M.cap ∧ M'.r = M.r) ∧ (∀ t c, c ∉ M.ls l → M'.i t c = M.i t c) ∧ (∃ pre, M.ls l = pre ++ M'.ls l) ∧ ∀ e, e ≠ l → M'.ls e = M.ls e
theorem TkF.rf {l : Nat} : TkF l M M := ⟨Ag.rf, ⟨rfl, rfl, rfl, rfl, rfl⟩, fun _ _ _ => rfl, ⟨[], rfl⟩, fun _ _ => rfl⟩
theorem x_tk0 {st l : Nat} {Q : Unit → Mem → Prop} : ∀ (lots : List Tri) (q : Nat) (w : Int32) (M : Mem), GL M → M.k st = 4 → M.r (128 * 3 + 0) st = l → M.k l = 18 → (M.ls l).map (rdLt M) = lots → (∀ c ∈ M.ls l, M.k c = 9) → (M.ls l).Nodup → posL lots → 0 ≤ w.toInt → w.toInt ≤ sumG lots → lots.length + 1 < q →
    (∀ M', TkF l M M' → (M'.ls l).map (rdLt M') = (tkL lots w).1 → Q () M') → wp (lp_X3_takes_12 st 0 q w) M Q := by
  intro lots
  induction lots with
  | nil =>
    intro q w M hg k1 k2 k3 hm hk hn hp h0 h1 hq' hq
    obtain ⟨q, rfl⟩ : ∃ e, q = e + 1 := ⟨q - 1, by omega⟩
    rw [lp_X3_takes_12]
    have : sumG [] = 0 := rfl
    have e0 : w = 0 := Int32.toInt_inj.mp (show w.toInt = 0 by omega)
    subst e0
    exact w_t (by decide) (w_pur (hq M TkF.rf hm))
  | cons e lots ih =>
    intro q w M hg k1 k2 k3 hm hk hn hp h0 h1 hq' hq
    obtain ⟨q, rfl⟩ : ∃ e, q = e + 1 := ⟨q - 1, by omega⟩
    rw [List.length_cons] at hq'
    rw [lp_X3_takes_12]
    refine w_ite (fun hw => ?_) (fun hw => ?_)
    · refine w_pur (hq M TkF.rf ?_)
      rw [tk_0 hw]; exact hm
    · obtain ⟨c, cs, hls, hc, hcs⟩ := List.map_eq_cons_iff.mp hm
      have kc := hk c (by rw [hls]; exact List.mem_cons_self)
      have e1 : M.i 1025 c = e.2.1 := by rw [← hc]; rfl
      have e2 : M.i 1026 c = e.2.2 := by rw [← hc]; rfl
      have e3 : M.i 1024 c = e.1 := by rw [← hc]; rfl
      have hpe := hp e List.mem_cons_self
      rw [hls, List.nodup_cons] at hn
      refine w_bnd (w_getRv k1 k2 (w_bnd (w_gd k3 (w_nt (w_get0 hg k3 hls (w_bnd (w_cst (Or.inr (by rw [kc]; decide)) (w_bnd (w_getIv kc e1 (w_jn (w_t rfl ?_)))))))))))
      refine w_bnd (w_gd kc (w_nt (x_8takes kc e1 e2 (by omega) ?_)))
      have fm := lotM_f M c (e.2.1 - mn w e.2.1) (e.2.2 - prt e.2.2 (mn w e.2.1) e.2.1)
      have fg : (lotM M c (e.2.1 - mn w e.2.1) (e.2.2 - prt e.2.2 (mn w e.2.1) e.2.1)).i (128 * 8 + 1) c = e.2.1 - mn w e.2.1 := lotM_g
      have fi : ∀ t e', e' ≠ c → (lotM M c (e.2.1 - mn w e.2.1) (e.2.2 - prt e.2.2 (mn w e.2.1) e.2.1)).i t e' = M.i t e' := fun t e' h => lotM_i h
      have fr : rdLt (lotM M c (e.2.1 - mn w e.2.1) (e.2.2 - prt e.2.2 (mn w e.2.1) e.2.1)) c = (e.1, e.2.1 - mn w e.2.1, e.2.2 - prt e.2.2 (mn w e.2.1) e.2.1) := by rw [lotM_rd, e3]
      have fa : Ag (fun t => t = 1025 ∨ t = 1026) no (fun c => c = l) no M (lotM M c (e.2.1 - mn w e.2.1) (e.2.2 - prt e.2.2 (mn w e.2.1) e.2.1)) := lotM_ag Ag.rf (Or.inl rfl) (Or.inr rfl)
      revert fm fg fi fr fa
      generalize lotM M c (e.2.1 - mn w e.2.1) (e.2.2 - prt e.2.2 (mn w e.2.1) e.2.1) = M1
      intro fm fg fi fr fa
      obtain ⟨f1, f2, f3, f4, f5, f6⟩ := fm
      have hg1 : GL M1 := hg.same f1 f2 f3
      have hls1 : M1.ls l = c :: cs := by rw [f2]; exact hls
      have hcs1 : cs.map (rdLt M1) = lots := by
        rw [← hcs]
        refine map_same (fun e' he' => ?_)
        have ne : e' ≠ c := fun z => hn.1 (z ▸ he')
        unfold rdLt
        rw [fi _ _ ne, fi _ _ ne, fi _ _ ne]
      refine w_bnd (w_getIv (by rw [f1]; exact kc) fg (w_jn ?_))
      rcases mn_c hpe hw with ⟨m1, m2, m3, m4⟩ | ⟨m1, m2, m3, m4, m5⟩
      · refine w_f (fun z => z m3) (w_bnd (w_getRv (by rw [f1]; exact k1) (by rw [f6]; exact k2) (w_bnd (w_gd (by rw [f1]; exact k3) (w_nt (w_rem0 hg1 (by rw [f1]; exact k3) hls1 (fun v => ?_)))))))
        have sf := setls_f M1 l cs
        have sg : GL (M1.setls l cs) := by
          have := hg1.tail (l := l)
          rw [hls1] at this
          exact this
        have sa := fa.ls_ (l := l) (xs := cs) (Or.inl rfl)
        revert sf sg sa
        generalize M1.setls l cs = M2
        intro sf sg sa
        obtain ⟨s1, s2, s3, s4, s5, s6, s7⟩ := sf
        have hl2 : M2.ls l = cs := by rw [s2, up1_eq]
        have hi2 : M2.i = M1.i := s7
        rw [sumG_c] at h1
        refine ih q (w - mn w e.2.1) M2 sg (by rw [s1, f1]; exact k1) (by rw [s6, f6]; exact k2) (by rw [s1, f1]; exact k3) ?_ ?_ (by rw [hl2]; exact hn.2) (fun e he => hp e (List.mem_cons_of_mem _ he)) (by omega) (by omega) (by omega) (fun M' h hr => hq M' ?_ ?_)
        · rw [hl2, ← hcs1]
          refine map_same (fun e' _ => ?_)
          unfold rdLt
          rw [hi2]
        · rw [hl2, s1, f1]
          intro e' he'
          exact hk e' (by rw [hls]; exact List.mem_cons_of_mem _ he')
        · obtain ⟨t1, ⟨t2, t3, t4, t5, t6⟩, t7, ⟨pre, t8⟩, t9⟩ := h
          refine ⟨sa.tr t1, ⟨by rw [t2, s1, f1], by rw [t3, s4, f4], by rw [t4, s5, f5], by rw [t5, s3, f3], by rw [t6, s6, f6]⟩, fun t c' hc' => ?_, ⟨c :: pre, ?_⟩, fun e' he' => ?_⟩
          · rw [hls] at hc'
            rw [t7 t c' (by rw [hl2]; exact fun z => hc' (List.mem_cons_of_mem _ z)), hi2, fi t c' (fun z => hc' (by rw [z]; exact List.mem_cons_self))]
          · rw [hls, ← hl2, t8]; rfl
          · rw [t9 e' he', s2, up1_ne _ _ _ he', f2]
        · rw [tk_a hw m3]; exact hr
      · refine w_t m3 ?_
        rw [m4]
        obtain ⟨q, rfl⟩ : ∃ e, q = e + 1 := ⟨q - 1, by omega⟩
        rw [lp_X3_takes_12]
        refine w_t (by decide) (w_pur (hq M1 ⟨fa, ⟨f1, f4, f5, f3, f6⟩, fun t c' hc' => ?_, ⟨[], by rw [f2]; rfl⟩, fun e' _ => by rw [f2]⟩ ?_))
        · exact fi t c' (fun z => hc' (by rw [hls, z]; exact List.mem_cons_self))
        · rw [tk_b hw m3, hls1, List.map_cons, fr, hcs1]
end
