set_option maxRecDepth 100000
theorem dX0_rules_0 : decode cX0_rules 0 = .ok (.iload_n 1, 1) := by decide +kernel
theorem dX0_rules_1 : decode cX0_rules 1 = .ok (.i2l, 1) := by decide +kernel
theorem dX0_rules_2 : decode cX0_rules 2 = .ok (.lconst 0, 1) := by decide +kernel
theorem dX0_rules_3 : decode cX0_rules 3 = .ok (.aload_n 0, 1) := by decide +kernel
theorem dX0_rules_4 : decode cX0_rules 4 = .ok (.getfield 163, 3) := by decide +kernel
theorem dX0_rules_7 : decode cX0_rules 7 = .ok (.i2l, 1) := by decide +kernel
theorem dX0_rules_8 : decode cX0_rules 8 = .ok (.invokestatic 101, 3) := by decide +kernel
theorem dX0_rules_11 : decode cX0_rules 11 = .ok (.ifCond .ne 6, 3) := by decide +kernel
theorem dX0_rules_14 : decode cX0_rules 14 = .ok (.bipush (-2), 2) := by decide +kernel
theorem dX0_rules_16 : decode cX0_rules 16 = .ok (.ireturn, 1) := by decide +kernel
theorem dX0_rules_17 : decode cX0_rules 17 = .ok (.aload_n 0, 1) := by decide +kernel
theorem dX0_rules_18 : decode cX0_rules 18 = .ok (.getfield 27, 3) := by decide +kernel
theorem dX0_rules_21 : decode cX0_rules 21 = .ok (.invokevirtual 124, 3) := by decide +kernel
theorem dX0_rules_24 : decode cX0_rules 24 = .ok (.bipush 8, 2) := by decide +kernel
theorem dX0_rules_26 : decode cX0_rules 26 = .ok (.if_icmp .ne 6, 3) := by decide +kernel
theorem dX0_rules_29 : decode cX0_rules 29 = .ok (.bipush (-3), 2) := by decide +kernel
theorem dX0_rules_31 : decode cX0_rules 31 = .ok (.ireturn, 1) := by decide +kernel
theorem dX0_rules_32 : decode cX0_rules 32 = .ok (.aload_n 0, 1) := by decide +kernel
theorem dX0_rules_33 : decode cX0_rules 33 = .ok (.iload_n 1, 1) := by decide +kernel
theorem dX0_rules_34 : decode cX0_rules 34 = .ok (.putfield 170, 3) := by decide +kernel
theorem dX0_rules_37 : decode cX0_rules 37 = .ok (.aload_n 0, 1) := by decide +kernel
theorem dX0_rules_38 : decode cX0_rules 38 = .ok (.iconst 0, 1) := by decide +kernel
theorem dX0_rules_39 : decode cX0_rules 39 = .ok (.putfield 173, 3) := by decide +kernel
theorem dX0_rules_42 : decode cX0_rules 42 = .ok (.aload_n 0, 1) := by decide +kernel
theorem dX0_rules_43 : decode cX0_rules 43 = .ok (.iconst (-1), 1) := by decide +kernel
theorem dX0_rules_44 : decode cX0_rules 44 = .ok (.putfield 44, 3) := by decide +kernel
theorem dX0_rules_47 : decode cX0_rules 47 = .ok (.new 31, 3) := by decide +kernel
theorem dX0_rules_50 : decode cX0_rules 50 = .ok (.dup, 1) := by decide +kernel
theorem dX0_rules_51 : decode cX0_rules 51 = .ok (.aload_n 0, 1) := by decide +kernel
theorem dX0_rules_52 : decode cX0_rules 52 = .ok (.getfield 351, 3) := by decide +kernel
theorem dX0_rules_55 : decode cX0_rules 55 = .ok (.invokespecial 33, 3) := by decide +kernel
theorem dX0_rules_58 : decode cX0_rules 58 = .ok (.astore_n 2, 1) := by decide +kernel
theorem dX0_rules_59 : decode cX0_rules 59 = .ok (.aload_n 0, 1) := by decide +kernel
theorem dX0_rules_60 : decode cX0_rules 60 = .ok (.invokevirtual 217, 3) := by decide +kernel
theorem dX0_rules_63 : decode cX0_rules 63 = .ok (.aload_n 0, 1) := by decide +kernel
theorem dX0_rules_64 : decode cX0_rules 64 = .ok (.getfield 180, 3) := by decide +kernel
theorem dX0_rules_67 : decode cX0_rules 67 = .ok (.bipush 46, 2) := by decide +kernel
theorem dX0_rules_69 : decode cX0_rules 69 = .ok (.if_icmp .eq 32, 3) := by decide +kernel
theorem dX0_rules_72 : decode cX0_rules 72 = .ok (.aload_n 2, 1) := by decide +kernel
theorem dX0_rules_73 : decode cX0_rules 73 = .ok (.getfield 160, 3) := by decide +kernel
theorem dX0_rules_76 : decode cX0_rules 76 = .ok (.bipush 24, 2) := by decide +kernel
theorem dX0_rules_78 : decode cX0_rules 78 = .ok (.if_icmp .ne 15, 3) := by decide +kernel
theorem dX0_rules_81 : decode cX0_rules 81 = .ok (.new 214, 3) := by decide +kernel
theorem dX0_rules_84 : decode cX0_rules 84 = .ok (.dup, 1) := by decide +kernel
theorem dX0_rules_85 : decode cX0_rules 85 = .ok (.aload_n 0, 1) := by decide +kernel
theorem dX0_rules_86 : decode cX0_rules 86 = .ok (.getfield 179, 3) := by decide +kernel
theorem dX0_rules_89 : decode cX0_rules 89 = .ok (.invokespecial 216, 3) := by decide +kernel
theorem dX0_rules_92 : decode cX0_rules 92 = .ok (.athrow, 1) := by decide +kernel
theorem dX0_rules_93 : decode cX0_rules 93 = .ok (.aload_n 0, 1) := by decide +kernel
theorem dX0_rules_94 : decode cX0_rules 94 = .ok (.aload_n 2, 1) := by decide +kernel
theorem dX0_rules_95 : decode cX0_rules 95 = .ok (.invokevirtual 354, 3) := by decide +kernel
theorem dX0_rules_98 : decode cX0_rules 98 = .ok (.goto (-35), 3) := by decide +kernel
theorem dX0_rules_101 : decode cX0_rules 101 = .ok (.aload_n 0, 1) := by decide +kernel
theorem dX0_rules_102 : decode cX0_rules 102 = .ok (.getfield 27, 3) := by decide +kernel
theorem dX0_rules_105 : decode cX0_rules 105 = .ok (.aload_n 2, 1) := by decide +kernel
theorem dX0_rules_106 : decode cX0_rules 106 = .ok (.invokevirtual 302, 3) := by decide +kernel
theorem dX0_rules_109 : decode cX0_rules 109 = .ok (.pop, 1) := by decide +kernel
theorem dX0_rules_110 : decode cX0_rules 110 = .ok (.aload_n 0, 1) := by decide +kernel
theorem dX0_rules_111 : decode cX0_rules 111 = .ok (.getfield 27, 3) := by decide +kernel
theorem dX0_rules_114 : decode cX0_rules 114 = .ok (.invokevirtual 124, 3) := by decide +kernel
theorem dX0_rules_117 : decode cX0_rules 117 = .ok (.iconst 1, 1) := by decide +kernel
theorem dX0_rules_118 : decode cX0_rules 118 = .ok (.isub, 1) := by decide +kernel
theorem dX0_rules_119 : decode cX0_rules 119 = .ok (.istore_n 3, 1) := by decide +kernel
theorem dX0_rules_120 : decode cX0_rules 120 = .ok (.aload_n 0, 1) := by decide +kernel
theorem dX0_rules_121 : decode cX0_rules 121 = .ok (.iconst 0, 1) := by decide +kernel
theorem dX0_rules_122 : decode cX0_rules 122 = .ok (.putfield 163, 3) := by decide +kernel
theorem dX0_rules_125 : decode cX0_rules 125 = .ok (.iload_n 3, 1) := by decide +kernel
theorem dX0_rules_126 : decode cX0_rules 126 = .ok (.ireturn, 1) := by decide +kernel
theorem dX0_rules_127 : decode cX0_rules 127 = .ok (.astore_n 3, 1) := by decide +kernel
theorem dX0_rules_128 : decode cX0_rules 128 = .ok (.aload_n 0, 1) := by decide +kernel
theorem dX0_rules_129 : decode cX0_rules 129 = .ok (.aload_n 3, 1) := by decide +kernel
theorem dX0_rules_130 : decode cX0_rules 130 = .ok (.getfield 358, 3) := by decide +kernel
theorem dX0_rules_133 : decode cX0_rules 133 = .ok (.putfield 44, 3) := by decide +kernel
theorem dX0_rules_136 : decode cX0_rules 136 = .ok (.iconst (-1), 1) := by decide +kernel
theorem dX0_rules_137 : decode cX0_rules 137 = .ok (.istore 4, 2) := by decide +kernel
theorem dX0_rules_139 : decode cX0_rules 139 = .ok (.aload_n 0, 1) := by decide +kernel
theorem dX0_rules_140 : decode cX0_rules 140 = .ok (.iconst 0, 1) := by decide +kernel
theorem dX0_rules_141 : decode cX0_rules 141 = .ok (.putfield 163, 3) := by decide +kernel
theorem dX0_rules_144 : decode cX0_rules 144 = .ok (.iload 4, 2) := by decide +kernel
theorem dX0_rules_146 : decode cX0_rules 146 = .ok (.ireturn, 1) := by decide +kernel
theorem dX0_rules_147 : decode cX0_rules 147 = .ok (.astore 5, 2) := by decide +kernel
theorem dX0_rules_149 : decode cX0_rules 149 = .ok (.aload_n 0, 1) := by decide +kernel
theorem dX0_rules_150 : decode cX0_rules 150 = .ok (.iconst 0, 1) := by decide +kernel
theorem dX0_rules_151 : decode cX0_rules 151 = .ok (.putfield 163, 3) := by decide +kernel
theorem dX0_rules_154 : decode cX0_rules 154 = .ok (.aload 5, 2) := by decide +kernel
theorem dX0_rules_156 : decode cX0_rules 156 = .ok (.athrow, 1) := by decide +kernel
theorem ycX0_rules : yX0_rules.cls ≠ "java/lang/invoke/MethodHandle" ∧ yX0_rules.cls ≠ "java/lang/invoke/VarHandle" ∧ (parseMethodDescriptor yX0_rules.desc).map (fun d => d.parameters.length) = some 1 := by decide +kernel
theorem yvX0_rules : yX0_rules.cls = RR 0 ∧ yX0_rules.cls ≠ "java/lang/invoke/MethodHandle" ∧ yX0_rules.cls ≠ "java/lang/invoke/VarHandle" ∧ (parseMethodDescriptor yX0_rules.desc).map (fun d => d.parameters.length) = some 1 := ⟨rfl, ycX0_rules⟩
noncomputable def lp_X0_rules_63 (n : Nat) (p0 : Nat) (v6 : Nat) (j127 : Nat → Act Int32) (j81 : Unit → Act Int32) (j101 : Unit → Act Int32) (q : Nat) : Unit → Act Int32 := match q with
  | 0 => fun _ => fail
  | q + 1 => fun _ =>
    bnd (getI 0 14 p0) fun v14 =>
    if v14 = 46 then
      j101 ()
    else
      bnd (getI 2 6 v6) fun v15 =>
      if ¬ v15 = 24 then
        cat (gd 0 p0 (f_X0_statement n p0 v6)) (fun c1 => gd 11 c1 (j127 c1)) fun _ =>
        (lp_X0_rules_63 n p0 v6 j127 j81 j101 q) ()
      else
        j81 ()
noncomputable def f_X0_rules (n : Nat) (p0 : Nat) (p1 : Int32) : Act Int32 :=
  jn (fun (c0 : Nat) =>
    bnd (getI 11 6 c0) fun v1 =>
    bnd (putI 0 8 p0 v1) fun _ =>
    bnd (putI 0 7 p0 0) fun _ =>
    pur (-1)) fun j127 =>
  bnd (getI 0 7 p0) fun v2 =>
  bnd (nt (f_X0_isIn p1.toInt64 (0 : Int64) v2.toInt64)) fun v3 =>
  if ¬ v3 = 0 then
    bnd (getR 0 4 p0) fun v4 =>
    bnd (gd 17 v4 (nt (P_size v4))) fun v5 =>
    if ¬ v5 = 8 then
      bnd (putI 0 9 p0 p1) fun _ =>
      bnd (putI 0 10 p0 0) fun _ =>
      bnd (putI 0 8 p0 (-1)) fun _ =>
      bnd (newO 2 11) fun v6 =>
      bnd (getI 0 0 p0) fun v7 =>
      bnd (gd 2 v6 (nt (f_X2_init v6 v7))) fun _ =>
      bnd (gd 0 p0 (nt (f_X0_next n p0))) fun _ =>
      jn (fun (_ : Unit) =>
        bnd (getR 0 4 p0) fun v8 =>
        bnd (gd 17 v8 (nt (P_add v8 v6))) fun v9 =>
        bnd (getR 0 4 p0) fun v10 =>
        bnd (gd 17 v10 (nt (P_size v10))) fun v11 =>
        bnd (putI 0 7 p0 0) fun _ =>
        pur (v11 - 1)) fun j101 =>
      jn (fun (_ : Unit) =>
        bnd (newO 11 7) fun v12 =>
        bnd (getI 0 11 p0) fun v13 =>
        bnd (gd 11 v12 (nt (f_X11_init v12 v13))) fun _ =>
        gd 11 v12 (j127 v12)) fun j81 =>
      lp_X0_rules_63 n p0 v6 j127 j81 j101 n ()
    else
      pur (-3)
  else
    pur (-2)
set_option maxHeartbeats 4000000 in
theorem s_lp_X0_rules_63 {X : Cx} (hX : Ok X Pic cX0_rules RX0 6 (some FieldType.int) 443 10507) (hnh : Hnd X) (n : Nat) (p0 : Nat) (v6 : Nat) (j127 : Nat → Act Int32) (j81 : Unit → Act Int32) (j101 : Unit → Act Int32) (hj127 : ∀ (c0 : Nat), Sim X cvI 127 [(0, rv p0)] [rv c0] (j127 c0)) (hj81 : ∀ (u : Unit), Sim X cvI 81 [(0, rv p0)] [] (j81 u)) (hj101 : ∀ (u : Unit), Sim X cvI 101 [(0, rv p0), (2, rv v6)] [] (j101 u)) (q : Nat) : ∀ (u : Unit), Sim X cvI 63 [(0, rv p0), (2, rv v6)] [] (lp_X0_rules_63 n p0 v6 j127 j81 j101 q u) := by
  induction q with
  | zero => intro u; exact s_fail
  | succ q ih63 =>
    intro u
    rw [lp_X0_rules_63]
    refine s_aload_n hX dX0_rules_63 rfl 0 rfl ?_
    refine s_getI (ci := 0) (j := 14) (ref := "WindGas") hX (pcG 0) in_X0 (Or.inl q280) (by decide) (by decide) (by decide) rfl dX0_rules_64 (fun _ h9 => h9) (fun v14 => ?_)
    refine s_bipush (v := 46) hX dX0_rules_67 (by decide) ?_
    refine s_icmp_eq (tgt := 101) hX dX0_rules_69 (by decide) ?_ ?_
    · exact hj101 ()
    · refine s_aload_n hX dX0_rules_72 rfl 1 rfl ?_
      refine s_getI (ci := 2) (j := 6) (ref := "WindGas$Rules") hX (pcG 2) in_X2 (Or.inr ⟨_, q193⟩) (by decide) (by decide) (by decide) rfl dX0_rules_73 (fun _ h9 => h9) (fun v15 => ?_)
      refine s_bipush (v := 24) hX dX0_rules_76 (by decide) ?_
      refine s_icmp_ne (tgt := 93) hX dX0_rules_78 (by decide) ?_ ?_
      · refine s_aload_n hX dX0_rules_93 rfl 0 rfl ?_
        refine s_aload_n hX dX0_rules_94 rfl 1 rfl ?_
        refine s_callVC_U (ci := 0) (n := 1) (As := [rv v6]) (st := []) (hh := fun c1 => j127 c1) hX hnh (pcK 12) q568 (by decide) (pcK 1) (by decide) (ct_X0_statement X.l n p0 v6) q827 q829 qs10 q84 q830 yvX0_statement (by decide) rfl (by first | decide | simp [rv_cat, cat_i, cat_l]) dX0_rules_95 (fun c1 => s_sub [0] rfl (hj127 c1)) (fun _ => ?_)
        refine s_goto (tgt := 63) hX dX0_rules_98 (by decide) ?_
        exact ih63 ()
      · exact s_sub [0] rfl (hj81 ())
set_option maxHeartbeats 4000000 in
theorem ct_X0_rules (l : Launch) (n : Nat) (p0 : Nat) (p1 : Int32) : Ct l Pic yX0_rules (wsW_ yX0_rules cX0_rules 6 (some FieldType.int) [(59, 120, 127, 214), (59, 120, 147, 0), (127, 139, 147, 0), (147, 149, 147, 0)]) 443 10507 cvI [rv p0, .int p1] (f_X0_rules n p0 p1) := by
  refine Ct.ofW (own := RX0) (L := [(0, rv p0), (1, .int p1)]) (plainFor_of_name (by decide)) rfl (by first | decide | simp [lg_sl, rv_cat, cat_i, cat_l]) (by first | rfl | simp [lv_args, rv_cat, cat_i, cat_l]) pcZ (fun X hXl hX hnh => ?_)
  subst hXl
  unfold f_X0_rules
  refine s_jn (P := fun j => ∀ (c0 : Nat), Sim X cvI 127 [(0, rv p0)] [rv c0] (j c0)) ?_ (fun j127 hj127 => ?_)
  · intro c0
    refine s_astore_n (i := 3) (L2 := [(3, rv c0), (0, rv p0)]) hX dX0_rules_127 rfl (by decide) rfl ?_
    refine s_aload_n hX dX0_rules_128 rfl 1 rfl ?_
    refine s_aload_n hX dX0_rules_129 rfl 0 rfl ?_
    refine s_getI (ci := 11) (j := 6) (ref := "WindGas$Wrong") hX (pcG 11) in_X11 (Or.inr ⟨_, q811⟩) (by decide) (by decide) (by decide) rfl dX0_rules_130 (fun _ h9 => h9) (fun v1 => ?_)
    refine s_putI (ci := 0) (j := 8) (ref := "WindGas") hX (pcG 0) (pcP 0) in_X0 tyX0_ok nmX0 (Or.inl q274) (by decide) (by decide) (by decide) rfl rfl rfl dX0_rules_133 (fun _ h9 => h9) ?_
    refine s_iconst (v := -1) hX dX0_rules_136 (by decide) ?_
    refine s_istore (i := 4) (L2 := [(4, .int (-1)), (3, rv c0), (0, rv p0)]) hX dX0_rules_137 (by decide) (by first | (simp [rv_cat, cat_i, cat_l]; done) | (simp [rv_cat, cat_i, cat_l]; decide)) ?_
    refine s_aload_n hX dX0_rules_139 rfl 2 rfl ?_
    refine s_iconst (v := 0) hX dX0_rules_140 rfl ?_
    refine s_putI (ci := 0) (j := 7) (ref := "WindGas") hX (pcG 0) (pcP 0) in_X0 tyX0_ok nmX0 (Or.inl q273) (by decide) (by decide) (by decide) rfl rfl rfl dX0_rules_141 (fun _ h9 => h9) ?_
    refine s_iload hX dX0_rules_144 0 rfl ?_
    exact s_iret hX dX0_rules_146
  · refine s_iload_n hX dX0_rules_0 rfl 1 rfl ?_
    refine s_i2l hX dX0_rules_1 ?_
    refine s_lconst (v := 0) hX dX0_rules_2 (by decide) ?_
    refine s_aload_n hX dX0_rules_3 rfl 0 rfl ?_
    refine s_getI (ci := 0) (j := 7) (ref := "WindGas") hX (pcG 0) in_X0 (Or.inl q273) (by decide) (by decide) (by decide) rfl dX0_rules_4 (fun _ h9 => h9) (fun v2 => ?_)
    refine s_i2l hX dX0_rules_7 ?_
    refine s_callS_I (n := 3) (As := [.long p1.toInt64, .long 0, .long v2.toInt64]) (st := []) hX (ct_X0_isIn X.l p1.toInt64 (0 : Int64) v2.toInt64) q400 q401 q84 q402 ycX0_isIn (by decide) rfl (by first | decide | simp [rv_cat, cat_i, cat_l]) dX0_rules_8 (fun v3 => ?_)
    refine s_if_ne (tgt := 17) hX dX0_rules_11 (by decide) ?_ ?_
    · refine s_aload_n hX dX0_rules_17 rfl 0 rfl ?_
      refine s_getR (ci := 0) (j := 4) (ref := "WindGas") hX (pcG 0) in_X0 (Or.inl q270) (by decide) (by decide) (by decide) rfl dX0_rules_18 (fun _ h9 => h9) (fun v4 => ?_)
      refine s_callV_I (ci := 17) (n := 0) (As := []) (st := []) hX (pcK 18) (by decide) (pt_size X.l v4) q554 q417 q418 q88 q419 yvJ2_size (by decide) rfl (by first | decide | simp [rv_cat, cat_i, cat_l]) dX0_rules_21 (fun v5 => ?_)
      refine s_bipush (v := 8) hX dX0_rules_24 (by decide) ?_
      refine s_icmp_ne (tgt := 32) hX dX0_rules_26 (by decide) ?_ ?_
      · refine s_aload_n hX dX0_rules_32 rfl 0 rfl ?_
        refine s_iload_n hX dX0_rules_33 rfl 1 rfl ?_
        refine s_putI (ci := 0) (j := 9) (ref := "WindGas") hX (pcG 0) (pcP 0) in_X0 tyX0_ok nmX0 (Or.inl q275) (by decide) (by decide) (by decide) rfl rfl rfl dX0_rules_34 (fun _ h9 => h9) ?_
        refine s_aload_n hX dX0_rules_37 rfl 0 rfl ?_
        refine s_iconst (v := 0) hX dX0_rules_38 rfl ?_
        refine s_putI (ci := 0) (j := 10) (ref := "WindGas") hX (pcG 0) (pcP 0) in_X0 tyX0_ok nmX0 (Or.inl q276) (by decide) (by decide) (by decide) rfl rfl rfl dX0_rules_39 (fun _ h9 => h9) ?_
        refine s_aload_n hX dX0_rules_42 rfl 0 rfl ?_
        refine s_iconst (v := -1) hX dX0_rules_43 (by decide) ?_
        refine s_putI (ci := 0) (j := 8) (ref := "WindGas") hX (pcG 0) (pcP 0) in_X0 tyX0_ok nmX0 (Or.inl q274) (by decide) (by decide) (by decide) rfl rfl rfl dX0_rules_44 (fun _ h9 => h9) ?_
        refine s_new (ci := 2) hX (pcN 2) in_X2 tyX2_ok (by decide) (by decide) q172 q173 q89 dX0_rules_47 (fun v6 => ?_)
        refine s_dup hX dX0_rules_50 (rv_cat _) ?_
        refine s_aload_n hX dX0_rules_51 rfl 0 rfl ?_
        refine s_getI (ci := 0) (j := 0) (ref := "WindGas") hX (pcG 0) in_X0 (Or.inl q266) (by decide) (by decide) (by decide) rfl dX0_rules_52 (fun _ h9 => h9) (fun v7 => ?_)
        refine s_callI_U (ci := 2) (n := 1) (As := [.int v7]) (st := [rv v6]) hX (pcK 3) (by decide) (ct_X2_init X.l v6 v7) q174 q175 q89 q176 rfl ycX2_init (by decide) rfl (by first | decide | simp [rv_cat, cat_i, cat_l]) dX0_rules_55 (fun _ => ?_)
        refine s_astore_n (i := 2) (L2 := [(2, rv v6), (0, rv p0), (1, .int p1)]) hX dX0_rules_58 rfl (by decide) rfl ?_
        refine s_aload_n hX dX0_rules_59 rfl 1 rfl ?_
        refine s_callV_U (ci := 0) (n := 0) (As := []) (st := []) hX (pcK 1) (by decide) (ct_X0_next X.l n p0) q569 q571 qs7 q84 q572 yvX0_next (by decide) rfl (by first | decide | simp [rv_cat, cat_i, cat_l]) dX0_rules_60 (fun _ => ?_)
        refine s_jn (P := fun j => ∀ (u : Unit), Sim X cvI 101 [(0, rv p0), (2, rv v6)] [] (j u)) ?_ (fun j101 hj101 => ?_)
        · intro u
          refine s_aload_n hX dX0_rules_101 rfl 0 rfl ?_
          refine s_getR (ci := 0) (j := 4) (ref := "WindGas") hX (pcG 0) in_X0 (Or.inl q270) (by decide) (by decide) (by decide) rfl dX0_rules_102 (fun _ h9 => h9) (fun v8 => ?_)
          refine s_aload_n hX dX0_rules_105 rfl 1 rfl ?_
          refine s_callV_I (ci := 17) (n := 1) (As := [rv v6]) (st := []) hX (pcK 18) (by decide) (pt_add X.l v8 v6) q1000 q440 q441 q88 q442 yvJ2_add (by decide) rfl (by first | decide | simp [rv_cat, cat_i, cat_l]) dX0_rules_106 (fun v9 => ?_)
          refine s_pop hX dX0_rules_109 rfl ?_
          refine s_aload_n hX dX0_rules_110 rfl 0 rfl ?_
          refine s_getR (ci := 0) (j := 4) (ref := "WindGas") hX (pcG 0) in_X0 (Or.inl q270) (by decide) (by decide) (by decide) rfl dX0_rules_111 (fun _ h9 => h9) (fun v10 => ?_)
          refine s_callV_I (ci := 17) (n := 0) (As := []) (st := []) hX (pcK 18) (by decide) (pt_size X.l v10) q554 q417 q418 q88 q419 yvJ2_size (by decide) rfl (by first | decide | simp [rv_cat, cat_i, cat_l]) dX0_rules_114 (fun v11 => ?_)
          refine s_iconst (v := 1) hX dX0_rules_117 rfl ?_
          refine s_isub hX dX0_rules_118 ?_
          refine s_istore_n (i := 3) (L2 := [(3, .int (v11 - 1)), (0, rv p0), (2, rv v6)]) hX dX0_rules_119 rfl (by decide) (by first | (simp [rv_cat, cat_i, cat_l]; done) | (simp [rv_cat, cat_i, cat_l]; decide)) ?_
          refine s_aload_n hX dX0_rules_120 rfl 1 rfl ?_
          refine s_iconst (v := 0) hX dX0_rules_121 rfl ?_
          refine s_putI (ci := 0) (j := 7) (ref := "WindGas") hX (pcG 0) (pcP 0) in_X0 tyX0_ok nmX0 (Or.inl q273) (by decide) (by decide) (by decide) rfl rfl rfl dX0_rules_122 (fun _ h9 => h9) ?_
          refine s_iload_n hX dX0_rules_125 rfl 0 rfl ?_
          exact s_iret hX dX0_rules_126
        · refine s_jn (P := fun j => ∀ (u : Unit), Sim X cvI 81 [(0, rv p0)] [] (j u)) ?_ (fun j81 hj81 => ?_)
          · intro u
            refine s_new (ci := 11) hX (pcN 11) in_X11 tyX11_ok (by decide) (by decide) q568 q760 q113 dX0_rules_81 (fun v12 => ?_)
            refine s_dup hX dX0_rules_84 (rv_cat _) ?_
            refine s_aload_n hX dX0_rules_85 rfl 0 rfl ?_
            refine s_getI (ci := 0) (j := 11) (ref := "WindGas") hX (pcG 0) in_X0 (Or.inl q277) (by decide) (by decide) (by decide) rfl dX0_rules_86 (fun _ h9 => h9) (fun v13 => ?_)
            refine s_callI_U (ci := 11) (n := 1) (As := [.int v13]) (st := [rv v12]) hX (pcK 12) (by decide) (ct_X11_init X.l v12 v13) q798 q799 q113 q800 rfl ycX11_init (by decide) rfl (by first | decide | simp [rv_cat, cat_i, cat_l]) dX0_rules_89 (fun _ => ?_)
            refine s_athrowC hX hnh (pcK 12) q568 (by decide) dX0_rules_92 ?_
            exact hj127 v12
          · exact s_sub [1, 0] rfl (s_lp_X0_rules_63 hX hnh n p0 v6 j127 j81 j101 hj127 hj81 hj101 n ())
      · refine s_bipush (v := -3) hX dX0_rules_29 (by decide) ?_
        exact s_iret hX dX0_rules_31
    · refine s_bipush (v := -2) hX dX0_rules_14 (by decide) ?_
      exact s_iret hX dX0_rules_16
