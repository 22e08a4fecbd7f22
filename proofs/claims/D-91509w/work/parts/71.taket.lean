set_option maxRecDepth 100000
/-! ===== what goes out to a trip: WindGas ===== -/
def mk2 (M : Mem) (h m : Int32) : Mem := ((M.newo 9 2).seti (128 * 9 + 0) (M.n + 1) h).seti (128 * 9 + 1) (M.n + 1) m
def new2 (M : Mem) (l : Nat) (h m : Int32) : Mem := addM (mk2 M h m) l (M.n + 1)
/-- a new sip at the end of the list l -/
def New2 (l : Nat) (h m : Int32) (M M' : Mem) : Prop := Ag no no (fun c => c = l) no M M' ∧ M'.k = up1 M.k (M.n + 1) 10 ∧ ((∀ t e, e ≠ M.n + 1 → M'.i t e = M.i t e) ∧ M'.i 1152 (M.n + 1) = h ∧ M'.i 1153 (M.n + 1) = m) ∧ (M'.ls l = M.ls l ++ [M.n + 1] ∧ ∀ e, e ≠ l → e ≠ M.n + 1 → M'.ls e = M.ls e) ∧ (∀ e, e ≠ l → e ≠ M.n + 1 → M'.cap e = M.cap e) ∧ (M.n + 1 ≤ M'.n ∧ M'.n ≤ M.n + 2 ∧ M'.sl + psi (M.cap l) ≤ M.sl + 2 + psi (M'.cap l)) ∧ Fre M' ∧ GL M'
section
variable {x : Nat} {M : Mem}
theorem mk2_f (M : Mem) (h m : Int32) : (mk2 M h m).k = up1 M.k (M.n + 1) 10 ∧ (mk2 M h m).ls = up1 M.ls (M.n + 1) [] ∧ (mk2 M h m).cap = up1 M.cap (M.n + 1) 0 ∧ (mk2 M h m).n = M.n + 1 ∧ (mk2 M h m).sl = M.sl + 2 := ⟨rfl, rfl, rfl, rfl, rfl⟩
theorem new2_ok {l : Nat} {h m : Int32} (hf : Fre M) (hg : GL M) (hl : M.k l = 18) (hb : (M.ls l).length ≤ 5000) : New2 l h m M (new2 M l h m) := by
  have nl := ne_new hf (e := l) (by rw [hl]; decide)
  obtain ⟨f1, f2, f3, f4, f5⟩ := mk2_f M h m
  have fa : Ag no no (fun c => c = l) no M (mk2 M h m) := ((Ag.rf.no).i (Or.inr (Nat.lt_succ_self _))).i (Or.inr (Nat.lt_succ_self _))
  have fi : ∀ t e, e ≠ M.n + 1 → (mk2 M h m).i t e = M.i t e := fun t e ne => by
    unfold mk2
    rw [seti_nc _ _ _ _ ne, seti_nc _ _ _ _ ne]
    exact if_neg ne
  have fh : (mk2 M h m).i 1152 (M.n + 1) = h := by
    unfold mk2
    rw [seti_ne _ _ _ _ (by decide)]
    exact seti_eq _ _ _ _
  have fm : (mk2 M h m).i 1153 (M.n + 1) = m := seti_eq _ _ _ _
  have fg : GL (mk2 M h m) := (hg.no (ci := 9) (N := 2) (by decide)).same rfl rfl rfl
  have ff : Fre (mk2 M h m) := (hf.no (ci := 9) (N := 2)).same rfl rfl
  unfold new2
  revert f1 f2 f3 f4 f5 fa fi fh fm fg ff
  generalize mk2 M h m = M1
  intro f1 f2 f3 f4 f5 fa fi fh fm fg ff
  have kl : M1.k l = 18 := by rw [f1, up1_ne _ _ _ nl]; exact hl
  have ll : M1.ls l = M.ls l := by rw [f2, up1_ne _ _ _ nl]
  have cl : M1.cap l = M.cap l := by rw [f3, up1_ne _ _ _ nl]
  obtain ⟨a1, a2, a3, a4, a5, a6, a7, a8⟩ := addM_k M1 l (M.n + 1)
  obtain ⟨c1, c2, c3, c4⟩ := addM_cost M1 l (M.n + 1) fg kl
  have c5 := addM_psi M1 l (M.n + 1) (by have := (fg l kl).1; omega)
  have c6 := (addM_mono M1 l (M.n + 1)).1
  rw [cl] at c5
  refine ⟨fa.add (Or.inl rfl), by rw [a1, f1], ⟨fun t e ne => by rw [a2]; exact fi t e ne, by rw [a2]; exact fh, by rw [a2]; exact fm⟩, ⟨by rw [addM_ls, up1_eq, ll], fun e e1 e2 => by rw [addM_ls, up1_ne _ _ _ e1, f2, up1_ne _ _ _ e2]⟩, fun e e1 e2 => by rw [c3 e e1, f3, up1_ne _ _ _ e2], ⟨by omega, by omega, by omega⟩, ff.add, fg.add (by rw [ll]; exact hb)⟩
def TkT (l l2 K : Nat) (M M' : Mem) : Prop := Ag (fun t => t = 1025 ∨ t = 1026) no (fun c => c = l ∨ c = l2) no M M' ∧ (∀ t c, c ≤ M.n → c ∉ M.ls l → M'.i t c = M.i t c) ∧ (∃ pre, M.ls l = pre ++ M'.ls l) ∧ (Fre M' ∧ GL M') ∧ (∀ e, e ≤ M.n → e ≠ l2 → M'.cap e = M.cap e) ∧ M'.n ≤ M.n + 2 * K ∧ M'.sl + psi (M.cap l2) ≤ M.sl + 2 * K + psi (M'.cap l2)
/-- sips of a list -/
def SpL (M : Mem) (l2 : Nat) (sips : List (Int32 × Int32)) : Prop := (M.ls l2).map (rdSp M) = sips ∧ ∀ e ∈ M.ls l2, M.k e = 10
theorem x_tkT {st l tc : Nat} {Q : Unit → Mem → Prop} : ∀ (lots : List Tri) (q : Nat) (w : Int32) (M : Mem) (sips : List (Int32 × Int32)), Fre M → GL M → M.k st = 4 → M.r (128 * 3 + 0) st = l → M.k l = 18 → (M.ls l).map (rdLt M) = lots → (∀ c ∈ M.ls l, M.k c = 9) → (M.ls l).Nodup → posL lots → 0 ≤ w.toInt → w.toInt ≤ sumG lots → lots.length + 1 < q →
    ¬ tc = 0 → M.k tc = 8 → M.r (128 * 7 + 3) tc = tc + 1 → M.k (tc + 1) = 18 → l ≠ tc + 1 → SpL M (tc + 1) sips → (M.ls (tc + 1)).length + lots.length ≤ 5000 →
    (∀ M', TkT l (tc + 1) (tkL lots w).2.1.length M M' → (M'.ls l).map (rdLt M') = (tkL lots w).1 → SpL M' (tc + 1) (sips ++ (tkL lots w).2.1) → Q () M') → wp (lp_X3_takes_12 st tc q w) M Q := by
  intro lots
  induction lots with
  | nil =>
    intro q w M sips hf hg k1 k2 k3 hm hk hn hp h0 h1 hq' htc0 t1 t2 t3 t4 t5 t6 hq
    obtain ⟨q, rfl⟩ : ∃ e, q = e + 1 := ⟨q - 1, by omega⟩
    rw [lp_X3_takes_12]
    have : sumG [] = 0 := rfl
    have e0 : w = 0 := Int32.toInt_inj.mp (show w.toInt = 0 by omega)
    subst e0
    refine w_t (by decide) (w_pur (hq M ⟨Ag.rf, fun _ _ _ _ => rfl, ⟨[], rfl⟩, ⟨hf, hg⟩, fun _ _ _ => rfl, Nat.le_add_right _ _, by omega⟩ hm ?_))
    show SpL M (tc + 1) (sips ++ [])
    rw [List.append_nil]; exact t5
  | cons e lots ih =>
    intro q w M sips hf hg k1 k2 k3 hm hk hn hp h0 h1 hq' htc0 t1 t2 t3 t4 t5 t6 hq
    obtain ⟨q, rfl⟩ : ∃ e, q = e + 1 := ⟨q - 1, by omega⟩
    rw [List.length_cons] at hq' t6
    rw [lp_X3_takes_12]
    refine w_ite (fun hw => ?_) (fun hw => ?_)
    · rw [tk_0 hw] at hq
      refine w_pur (hq M ⟨Ag.rf, fun _ _ _ _ => rfl, ⟨[], rfl⟩, ⟨hf, hg⟩, fun _ _ _ => rfl, Nat.le_add_right _ _, by omega⟩ hm ?_)
      show SpL M (tc + 1) (sips ++ [])
      rw [List.append_nil]; exact t5
    · obtain ⟨c, cs, hls, hc, hcs⟩ := List.map_eq_cons_iff.mp hm
      have kc := hk c (by rw [hls]; exact List.mem_cons_self)
      have e1 : M.i 1025 c = e.2.1 := by rw [← hc]; rfl
      have e2 : M.i 1026 c = e.2.2 := by rw [← hc]; rfl
      have e3 : M.i (128 * 8 + 0) c = e.1 := by rw [← hc]; rfl
      have hpe := hp e List.mem_cons_self
      rw [hls, List.nodup_cons] at hn
      have nst : st ≠ M.n + 1 := ne_new hf (by rw [k1]; decide)
      have nl : l ≠ M.n + 1 := ne_new hf (by rw [k3]; decide)
      have ntc : tc ≠ M.n + 1 := ne_new hf (by rw [t1]; decide)
      have nl2 : tc + 1 ≠ M.n + 1 := ne_new hf (by rw [t3]; decide)
      have nc : c ≠ M.n + 1 := ne_new hf (by rw [kc]; decide)
      have ncs : ∀ e' ∈ cs, e' ≠ M.n + 1 := fun e' he' => ne_new hf (by rw [hk e' (by rw [hls]; exact List.mem_cons_of_mem _ he')]; decide)
      refine w_bnd (w_getRv k1 k2 (w_bnd (w_gd k3 (w_nt (w_get0 hg k3 hls (w_bnd (w_cst (Or.inr (by rw [kc]; decide)) (w_bnd (w_getIv kc e1 (w_jn ?_))))))))))
      refine w_f htc0 (w_bnd (w_getRv t1 t2 (w_bnd (w_newO ?_))))
      have k9 : (M.newo 9 2).k (M.n + 1) = 10 := up1_eq _ _ _
      have ec : (M.newo 9 2).i (128 * 8 + 0) c = e.1 := (if_neg nc).trans e3
      have kc9 : (M.newo 9 2).k c = 9 := (up1_ne _ _ _ nc).trans kc
      refine w_bnd (w_getIv kc9 ec (w_bnd (w_gd k9 (w_nt ?_))))
      unfold f_X9_init f_J3_init
      refine w_bnd (w_gd k9 (w_nt (w_nn (Nat.succ_ne_zero _) (w_pur (w_bnd (w_putI k9 (w_bnd (w_putI (kI k9) (w_pur ?_)))))))))
      have N2 : New2 (tc + 1) e.1 (mn w e.2.1) M (new2 M (tc + 1) e.1 (mn w e.2.1)) := new2_ok hf hg t3 (by omega)
      have k18 : (mk2 M e.1 (mn w e.2.1)).k (tc + 1) = 18 := by rw [(mk2_f _ _ _).1, up1_ne _ _ _ nl2]; exact t3
      have gk2 : GL (mk2 M e.1 (mn w e.2.1)) := (hg.no (ci := 9) (N := 2) (by decide)).same rfl rfl rfl
      have kk2 : (mk2 M e.1 (mn w e.2.1)).k (M.n + 1) ∈ ksO := by rw [(mk2_f _ _ _).1, up1_eq]; decide
      refine w_bnd (w_gd (M := mk2 M e.1 (mn w e.2.1)) k18 (w_nt (w_add (M := mk2 M e.1 (mn w e.2.1)) gk2 k18 kk2 (show wp _ (new2 M (tc + 1) e.1 (mn w e.2.1)) Q from ?_))))
      revert N2
      generalize new2 M (tc + 1) e.1 (mn w e.2.1) = M0
      intro N2
      obtain ⟨na, nk, ⟨ni, nh, nm⟩, ⟨nls, nlo⟩, ncap, ⟨nn1, nn2, nsl⟩, nf, ng⟩ := N2
      have kc0 : M0.k c = 9 := by rw [nk, up1_ne _ _ _ nc]; exact kc
      have e10 : M0.i 1025 c = e.2.1 := by rw [ni _ _ nc]; exact e1
      have e20 : M0.i 1026 c = e.2.2 := by rw [ni _ _ nc]; exact e2
      refine w_bnd (w_gd kc0 (w_nt (x_8takes (M := M0) kc0 e10 e20 (by omega) ?_)))
      have fm := lotM_f M0 c (e.2.1 - mn w e.2.1) (e.2.2 - prt e.2.2 (mn w e.2.1) e.2.1)
      have fg : (lotM M0 c (e.2.1 - mn w e.2.1) (e.2.2 - prt e.2.2 (mn w e.2.1) e.2.1)).i (128 * 8 + 1) c = e.2.1 - mn w e.2.1 := lotM_g
      have fi : ∀ t e', e' ≠ c → (lotM M0 c (e.2.1 - mn w e.2.1) (e.2.2 - prt e.2.2 (mn w e.2.1) e.2.1)).i t e' = M0.i t e' := fun t e' h => lotM_i h
      have fr : rdLt (lotM M0 c (e.2.1 - mn w e.2.1) (e.2.2 - prt e.2.2 (mn w e.2.1) e.2.1)) c = (e.1, e.2.1 - mn w e.2.1, e.2.2 - prt e.2.2 (mn w e.2.1) e.2.1) := by rw [lotM_rd, ni _ _ nc]; exact congrArg (fun z => (z, _, _)) e3
      have fa : Ag (fun t => t = 1025 ∨ t = 1026) no (fun c => c = l ∨ c = tc + 1) no M (lotM M0 c (e.2.1 - mn w e.2.1) (e.2.2 - prt e.2.2 (mn w e.2.1) e.2.1)) := lotM_ag (na.mono (fun _ z => z.elim) (fun _ z => z) (fun _ z => Or.inr z) (fun _ z => z)) (Or.inl rfl) (Or.inr rfl)
      revert fm fg fi fr fa
      generalize lotM M0 c (e.2.1 - mn w e.2.1) (e.2.2 - prt e.2.2 (mn w e.2.1) e.2.1) = M1
      intro fm fg fi fr fa
      obtain ⟨f1, f2, f3, f4, f5, f6⟩ := fm
      have hg1 : GL M1 := ng.same f1 f2 f3
      have hf1 : Fre M1 := nf.same f1 f4
      have hls1 : M1.ls l = c :: cs := by rw [f2, nlo l t4 nl]; exact hls
      have hcs1 : cs.map (rdLt M1) = lots := by
        rw [← hcs]
        refine map_same (fun e' he' => ?_)
        have ne : e' ≠ c := fun z => hn.1 (z ▸ he')
        unfold rdLt
        rw [fi _ _ ne, fi _ _ ne, fi _ _ ne, ni _ _ (ncs e' he'), ni _ _ (ncs e' he'), ni _ _ (ncs e' he')]
      have spn : ∀ e' ∈ M.ls (tc + 1), e' ≠ c ∧ e' ≠ M.n + 1 := fun e' he' => ⟨fun z => by
        have := t5.2 e' he'
        rw [z, kc] at this
        exact absurd this (by decide), ne_new hf (by rw [t5.2 e' he']; decide)⟩
      have sp1 : SpL M1 (tc + 1) (sips ++ [(e.1, mn w e.2.1)]) := by
        unfold SpL
        rw [f2, nls, f1, nk]
        refine ⟨?_, fun e' he' => ?_⟩
        · rw [List.map_append, ← t5.1]
          congr 1
          · refine map_same (fun e' he' => ?_)
            unfold rdSp
            rw [fi _ _ (spn e' he').1, fi _ _ (spn e' he').1, ni _ _ (spn e' he').2, ni _ _ (spn e' he').2]
          · show [rdSp M1 (M.n + 1)] = _
            unfold rdSp
            rw [fi _ _ (fun z => nc z.symm), fi _ _ (fun z => nc z.symm), nh, nm]
        · rcases List.mem_append.mp he' with z | z
          · rw [up1_ne _ _ _ (spn e' z).2]; exact t5.2 e' z
          · rw [List.mem_singleton.mp z, up1_eq]
      have hi1 : ∀ t c', c' ≤ M.n → c' ∉ M.ls l → M1.i t c' = M.i t c' := fun t c' hc' hn' => by
        rw [fi t c' (fun z => hn' (by rw [hls, z]; exact List.mem_cons_self)), ni t c' (by omega)]
      have hcap1 : ∀ e', e' ≤ M.n → e' ≠ tc + 1 → M1.cap e' = M.cap e' := fun e' h1 h2 => by rw [f3]; exact ncap e' h2 (by omega)
      have hk1 : ∀ e', e' ≤ M.n → M1.k e' = M.k e' := fun e' h1 => by rw [f1, nk, up1_ne _ _ _ (by omega)]
      have lst := hf.le (c := st) (by rw [k1]; decide)
      have ltc := hf.le (c := tc) (by rw [t1]; decide)
      have ll2 := hf.le (c := tc + 1) (by rw [t3]; decide)
      have lll := hf.le (c := l) (by rw [k3]; decide)
      have rst : M1.r (128 * 3 + 0) st = l := by rw [fa.2.2.1 _ _ lst (by decide)]; exact k2
      have rtc : M1.r (128 * 7 + 3) tc = tc + 1 := by rw [fa.2.2.1 _ _ ltc (by decide)]; exact t2
      have nn : M.n ≤ M1.n := fa.1.1
      have hsl : M1.n ≤ M.n + 2 ∧ M1.sl + psi (M.cap (tc + 1)) ≤ M.sl + 2 + psi (M1.cap (tc + 1)) := by rw [f4, f5, f3]; exact ⟨nn2, nsl⟩
      refine w_bnd (w_getIv (by rw [f1]; exact kc0) fg (w_jn ?_))
      rcases mn_c hpe hw with ⟨m1, m2, m3, m4⟩ | ⟨m1, m2, m3, m4, m5⟩
      · refine w_f (fun z => z m3) (w_bnd (w_getRv (by rw [hk1 _ lst]; exact k1) rst (w_bnd (w_gd (by rw [hk1 _ lll]; exact k3) (w_nt (w_rem0 hg1 (by rw [hk1 _ lll]; exact k3) hls1 (fun v => ?_)))))))
        have sf := setls_f M1 l cs
        have sg : GL (M1.setls l cs) := by
          have := hg1.tail (l := l)
          rw [hls1] at this
          exact this
        have sa := fa.ls_ (l := l) (xs := cs) (Or.inl (Or.inl rfl))
        revert sf sg sa
        generalize M1.setls l cs = M2
        intro sf sg sa
        obtain ⟨s1, s2, s3, s4, s5, s6, s7⟩ := sf
        have hl2 : M2.ls l = cs := by rw [s2, up1_eq]
        have hlt : M2.ls (tc + 1) = M1.ls (tc + 1) := by rw [s2, up1_ne _ _ _ (fun z => t4 z.symm)]
        have hi2 : M2.i = M1.i := s7
        rw [sumG_c] at h1
        refine ih q (w - mn w e.2.1) M2 (sips ++ [(e.1, mn w e.2.1)]) (hf1.same s1 s4) sg (by rw [s1, hk1 _ lst]; exact k1) (by rw [s6]; exact rst) (by rw [s1, hk1 _ lll]; exact k3) ?_ ?_ (by rw [hl2]; exact hn.2) (fun e he => hp e (List.mem_cons_of_mem _ he)) (by omega) (by omega) (by omega) htc0 (by rw [s1, hk1 _ ltc]; exact t1) (by rw [s6]; exact rtc) (by rw [s1, hk1 _ ll2]; exact t3) t4 ?_ ?_ (fun M' h hr hs => hq M' ?_ ?_ ?_)
        · rw [hl2, ← hcs1]
          refine map_same (fun e' _ => ?_)
          unfold rdLt
          rw [hi2]
        · rw [hl2, s1]
          intro e' he'
          have := hk e' (by rw [hls]; exact List.mem_cons_of_mem _ he')
          rw [hk1 e' (hf.le (by rw [this]; decide))]
          exact this
        · unfold SpL
          rw [hlt, s1]
          refine ⟨?_, sp1.2⟩
          rw [← sp1.1]
          refine map_same (fun e' _ => ?_)
          unfold rdSp
          rw [hi2]
        · rw [hlt, f2, nls, List.length_append, List.length_singleton]; omega
        · rw [tk_a hw m3]
          obtain ⟨u1, u2, ⟨pre, u3⟩, u4, u5, u6, u7⟩ := h
          rw [s4] at u5 u6
          rw [s5, s3] at u7
          refine ⟨sa.tr u1, fun t c' hc' hn' => ?_, ⟨c :: pre, ?_⟩, u4, fun e' h1 h2 => ?_, ?_, ?_⟩
          · rw [u2 t c' (by rw [s4]; omega) (by rw [hl2]; exact fun z => hn' (by rw [hls]; exact List.mem_cons_of_mem _ z)), hi2, hi1 t c' hc' hn']
          · rw [hls, ← hl2, u3]; rfl
          · rw [u5 e' (by omega) h2, s3, hcap1 e' h1 h2]
          · simp only [List.length_cons]; omega
          · simp only [List.length_cons]; omega
        · rw [tk_a hw m3]; exact hr
        · rw [tk_a hw m3]
          rw [List.append_assoc] at hs
          exact hs
      · refine w_t m3 ?_
        rw [m4]
        obtain ⟨q, rfl⟩ : ∃ e, q = e + 1 := ⟨q - 1, by omega⟩
        rw [lp_X3_takes_12]
        rw [tk_b hw m3] at hq
        refine w_t (by decide) (w_pur (hq M1 ⟨fa, hi1, ⟨[], by rw [hls1, hls]; rfl⟩, ⟨hf1, hg1⟩, hcap1, ?_, ?_⟩ ?_ sp1))
        · simp only [List.length_cons, List.length_nil]; omega
        · simp only [List.length_cons, List.length_nil]; omega
        · rw [hls1, List.map_cons, fr, hcs1]
end
