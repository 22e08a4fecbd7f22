set_option maxRecDepth 100000
theorem seti_at (M : Mem) (t c : Nat) (v : Int32) (t' c' : Nat) : (M.seti t c v).i t' c' = if t' = t ∧ c' = c then v else M.i t' c' := rfl
theorem setl_at (M : Mem) (t c : Nat) (v : Int64) (t' c' : Nat) : (M.setl t c v).l t' c' = if t' = t ∧ c' = c then v else M.l t' c' := rfl
theorem setr_at (M : Mem) (t c v t' c' : Nat) : (M.setr t c v).r t' c' = if t' = t ∧ c' = c then v else M.r t' c' := rfl
theorem setai_at (M : Mem) (c j : Nat) (v : Int32) (c' j' : Nat) : (M.setai c j v).ai c' j' = if c' = c ∧ j' = j then v else M.ai c' j' := rfl
theorem setal_at (M : Mem) (c j : Nat) (v : Int64) (c' j' : Nat) : (M.setal c j v).al c' j' = if c' = c ∧ j' = j then v else M.al c' j' := rfl
section
variable {x : Nat} {M : Mem}
theorem addM_cost (M : Mem) (l v : Nat) (hg : GL M) (hl : M.k l = 18) : (addM M l v).n ≤ M.n + 1 ∧ (addM M l v).sl + 4 * M.cap l ≤ M.sl + 60 + 4 * (addM M l v).cap l ∧ (∀ c, c ≠ l → (addM M l v).cap c = M.cap c) ∧ (addM M l v).sl ≤ M.sl + 2 * (M.ls l).length + 10 := by
  have hgl := (hg l hl).1
  unfold addM
  by_cases q : (M.ls l).length + 1 < M.cap l
  · rw [if_pos q]
    exact ⟨by show M.n ≤ M.n + 1; omega, by show M.sl + 4 * M.cap l ≤ M.sl + 60 + 4 * M.cap l; omega, fun _ _ => rfl, by show M.sl ≤ _; omega⟩
  · rw [if_neg q]
    refine ⟨Nat.le_refl _, ?_, fun c hc => up1_ne _ _ _ hc, ?_⟩
    · show M.sl + gcap (M.cap l) + 4 * M.cap l ≤ M.sl + 60 + 4 * up1 M.cap l (gcap (M.cap l) + 1) l
      rw [up1_eq]
      unfold gcap
      by_cases q2 : M.cap l = 1
      · rw [if_pos q2]; omega
      · rw [if_neg q2]; omega
    · show M.sl + gcap (M.cap l) ≤ _
      unfold gcap
      by_cases q2 : M.cap l = 1
      · rw [if_pos q2]; omega
      · rw [if_neg q2]; omega
theorem op_said {n n0 k p L : Nat} {xs : Nat → Int32} {Q : Int32 → Mem → Prop} (hI : Inv x n0 k p L xs M) (hn : 100 ≤ n) {w t : Int32}
    (hq : ∀ a M1, Scr p L xs M1 → wp (gd 4 (x + 28) (nt (f_X4_said n (x + 28) w t))) M1 (fun b M2 => b = a ∧ Inv x n0 (k + 1) p L xs M2) → Q a M1) : wp (gd 0 x (nt (f_X0_said n x w t))) M Q :=
  op_ask hI (fun d hB hX hD => ⟨saidD d.told w t, x_said hB hX.1 hD.2.1 hn ⟨rfl, Okx.rf hB hX, rfl, rfl, rfl⟩, fun _ hS => m_said hS.1 hn ⟨rfl, hS⟩⟩) hq
/-- a new Span in a list of tellings -/
theorem x_add {o l w : Nat} (hB : Bas x M) (ho : M.k o = 2) (hr : M.r (128 * 1 + 2) o = l) (hl : M.k l = 18) (h80 : (M.ls l).length ≤ 80) {lo hi f t v : Int32} (hlo : M.i (128 * 1 + 0) o = lo) (hhi : M.i (128 * 1 + 1) o = hi) {Q : Int32 → Mem → Prop} (hq0 : ¬ ((lo ≤ v ∧ v ≤ hi) ∧ (M.ls l).length ≠ 80) → Q 0 M)
    (hq1 : (lo ≤ v ∧ v ≤ hi) ∧ (M.ls l).length ≠ 80 → Q 1 (addM ((((M.newo 5 3).seti 640 (M.n + 1) f).seti 641 (M.n + 1) t).seti 642 (M.n + 1) v) l (M.n + 1))) : wp (f_X1_add o f t v) M Q := by
  have hg := hB.2.2.1
  have ne : ∀ c, M.k c ≠ 0 → c ≠ M.n + 1 := fun c hc e => hc (by rw [e]; exact hB.2.1 _ (Nat.lt_succ_self _))
  unfold f_X1_add
  refine w_bnd (w_getIv ho hlo (w_bnd (w_getIv ho hhi (w_bnd (w_nt (x_isIn rfl rfl (w_jn (w_ite (fun h1 => ?_) (fun h1 => ?_)))))))))
  · rw [bz_0] at h1
    exact w_purZ (Or.inl rfl) (hq0 (fun z => h1 z.1))
  · rw [bz_0, Decidable.not_not] at h1
    refine w_bnd (w_getRv ho hr (w_bnd (w_gd hl (w_nt (w_size hg hl (w_ite (fun h2 => ?_) (fun h2 => ?_)))))))
    · have h2 : (M.ls l).length ≠ 80 := fun z => h2 (by rw [z]; rfl)
      have k1 : (M.newo 5 3).k (M.n + 1) = 6 := up1_eq _ _ _
      refine w_bnd (w_getRv ho hr (w_bnd (w_newO (w_bnd (w_gd k1 (w_nt ?_))))))
      unfold f_X5_init f_J3_init
      refine w_bnd (w_gd k1 (w_nt (w_nn (Nat.succ_ne_zero _) (w_pur (w_bnd (w_putI k1 (w_bnd (w_putI k1 (w_bnd (w_putI k1 (w_pur ?_)))))))))))
      have kl : (M.newo 5 3).k l = 18 := (up1_ne _ _ _ (ne l (by rw [hl]; decide))).trans hl
      have g1 : GL (M.newo 5 3) := hg.no (by decide)
      refine w_bnd (w_gd kl (w_nt (w_add (GL.same g1 rfl rfl rfl) kl ?_ (w_purZ (Or.inr rfl) (hq1 ⟨h1, h2⟩)))))
      show (M.newo 5 3).k (M.n + 1) ∈ ksO
      rw [k1]; decide
    · rw [Decidable.not_not] at h2
      exact w_purZ (Or.inl rfl) (hq0 (fun z => z.2 ((i_eq (b := 80) (by omega) (by omega)).mp h2)))
end
