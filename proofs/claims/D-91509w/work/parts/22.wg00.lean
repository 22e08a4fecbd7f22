set_option maxRecDepth 100000
theorem dX1_init_0 : decode cX1_init 0 = .ok (.aload_n 0, 1) := by decide +kernel
theorem dX1_init_1 : decode cX1_init 1 = .ok (.invokespecial 3, 3) := by decide +kernel
theorem dX1_init_4 : decode cX1_init 4 = .ok (.aload_n 0, 1) := by decide +kernel
theorem dX1_init_5 : decode cX1_init 5 = .ok (.new 9, 3) := by decide +kernel
theorem dX1_init_8 : decode cX1_init 8 = .ok (.dup, 1) := by decide +kernel
theorem dX1_init_9 : decode cX1_init 9 = .ok (.invokespecial 11, 3) := by decide +kernel
theorem dX1_init_12 : decode cX1_init 12 = .ok (.putfield 12, 3) := by decide +kernel
theorem dX1_init_15 : decode cX1_init 15 = .ok (.aload_n 0, 1) := by decide +kernel
theorem dX1_init_16 : decode cX1_init 16 = .ok (.iload_n 1, 1) := by decide +kernel
theorem dX1_init_17 : decode cX1_init 17 = .ok (.putfield 18, 3) := by decide +kernel
theorem dX1_init_20 : decode cX1_init 20 = .ok (.aload_n 0, 1) := by decide +kernel
theorem dX1_init_21 : decode cX1_init 21 = .ok (.iload_n 2, 1) := by decide +kernel
theorem dX1_init_22 : decode cX1_init 22 = .ok (.putfield 22, 3) := by decide +kernel
theorem dX1_init_25 : decode cX1_init 25 = .ok (.return_, 1) := by decide +kernel
theorem ycX1_init : yX1_init.cls ≠ "java/lang/invoke/MethodHandle" ∧ yX1_init.cls ≠ "java/lang/invoke/VarHandle" ∧ (parseMethodDescriptor yX1_init.desc).map (fun d => d.parameters.length) = some 2 := by decide +kernel
theorem yvX1_init : yX1_init.cls = RR 1 ∧ yX1_init.cls ≠ "java/lang/invoke/MethodHandle" ∧ yX1_init.cls ≠ "java/lang/invoke/VarHandle" ∧ (parseMethodDescriptor yX1_init.desc).map (fun d => d.parameters.length) = some 2 := ⟨rfl, ycX1_init⟩
noncomputable def f_X1_init (p0 : Nat) (p1 : Int32) (p2 : Int32) : Act Unit :=
  nn p0 <|
  bnd (newO 17 3) fun v1 =>
  bnd (gd 17 v1 (nt (P_init v1))) fun _ =>
  bnd (putR 1 2 p0 v1) fun _ =>
  bnd (putI 1 0 p0 p1) fun _ =>
  bnd (putI 1 1 p0 p2) fun _ =>
  pur ()
set_option maxHeartbeats 4000000 in
theorem ct_X1_init (l : Launch) (p0 : Nat) (p1 : Int32) (p2 : Int32) : Ct l Pic yX1_init (ws_ yX1_init cX1_init 3 none) 4 84 cvU [rv p0, .int p1, .int p2] (f_X1_init p0 p1 p2) := by
  refine Ct.of (own := RX1) (L := [(0, rv p0), (1, .int p1), (2, .int p2)]) (plainFor_of_name (by decide)) rfl (by first | decide | simp [lg_sl, rv_cat, cat_i, cat_l]) (by first | rfl | simp [lv_args, rv_cat, cat_i, cat_l]) pcZ (fun X hXl hX hnh hin => ?_)
  subst hXl
  unfold f_X1_init
  refine s_aload_n hX dX1_init_0 rfl 0 rfl ?_
  refine s_oinit hX (by decide) q133 q126 q127 (by decide) (by decide) dX1_init_1 ?_
  refine s_aload_n hX dX1_init_4 rfl 0 rfl ?_
  refine s_new (ci := 17) hX (pcN 17) in_J2 tyJ2_ok (by decide) (by decide) q134 q135 q88 dX1_init_5 (fun v1 => ?_)
  refine s_dup hX dX1_init_8 (rv_cat _) ?_
  refine s_callI_U (ci := 17) (n := 0) (As := []) (st := [rv v1, rv p0]) hX (pcK 18) (by decide) (pt_init X.l v1) q136 q137 q88 q138 rfl ycJ2_init (by decide) rfl (by first | decide | simp [rv_cat, cat_i, cat_l]) dX1_init_9 (fun _ => ?_)
  refine s_putRF (ci := 1) (j := 2) (ref := "WindGas$Tellings") hX (pcG 1) (pcP 1) in_X1 tyX1_ok nmX1 q162 (by decide) (by decide) (by decide) rfl (fun v => by cases v <;> exact ⟨rfl, rfl⟩) rfl (hin rfl) rfl dX1_init_12 (fun _ h9 => h9) ?_
  refine s_aload_n hX dX1_init_15 rfl 0 rfl ?_
  refine s_iload_n hX dX1_init_16 rfl 1 rfl ?_
  refine s_putIF (ci := 1) (j := 0) (ref := "WindGas$Tellings") hX (pcG 1) (pcP 1) in_X1 tyX1_ok nmX1 q160 (by decide) (by decide) (by decide) rfl rfl rfl (hin rfl) rfl dX1_init_17 (fun _ h9 => h9) ?_
  refine s_aload_n hX dX1_init_20 rfl 0 rfl ?_
  refine s_iload_n hX dX1_init_21 rfl 2 rfl ?_
  refine s_putIF (ci := 1) (j := 1) (ref := "WindGas$Tellings") hX (pcG 1) (pcP 1) in_X1 tyX1_ok nmX1 q161 (by decide) (by decide) (by decide) rfl rfl rfl (hin rfl) rfl dX1_init_22 (fun _ h9 => h9) ?_
  exact s_vret hX dX1_init_25
theorem dX2_init_0 : decode cX2_init 0 = .ok (.aload_n 0, 1) := by decide +kernel
theorem dX2_init_1 : decode cX2_init 1 = .ok (.invokespecial 1, 3) := by decide +kernel
theorem dX2_init_4 : decode cX2_init 4 = .ok (.aload_n 0, 1) := by decide +kernel
theorem dX2_init_5 : decode cX2_init 5 = .ok (.sipush 1000, 3) := by decide +kernel
theorem dX2_init_8 : decode cX2_init 8 = .ok (.putfield 7, 3) := by decide +kernel
theorem dX2_init_11 : decode cX2_init 11 = .ok (.aload_n 0, 1) := by decide +kernel
theorem dX2_init_12 : decode cX2_init 12 = .ok (.sipush 1500, 3) := by decide +kernel
theorem dX2_init_15 : decode cX2_init 15 = .ok (.putfield 13, 3) := by decide +kernel
theorem dX2_init_18 : decode cX2_init 18 = .ok (.aload_n 0, 1) := by decide +kernel
theorem dX2_init_19 : decode cX2_init 19 = .ok (.bipush 20, 2) := by decide +kernel
theorem dX2_init_21 : decode cX2_init 21 = .ok (.putfield 16, 3) := by decide +kernel
theorem dX2_init_24 : decode cX2_init 24 = .ok (.aload_n 0, 1) := by decide +kernel
theorem dX2_init_25 : decode cX2_init 25 = .ok (.iconst 4, 1) := by decide +kernel
theorem dX2_init_26 : decode cX2_init 26 = .ok (.putfield 19, 3) := by decide +kernel
theorem dX2_init_29 : decode cX2_init 29 = .ok (.aload_n 0, 1) := by decide +kernel
theorem dX2_init_30 : decode cX2_init 30 = .ok (.bipush 100, 2) := by decide +kernel
theorem dX2_init_32 : decode cX2_init 32 = .ok (.putfield 22, 3) := by decide +kernel
theorem dX2_init_35 : decode cX2_init 35 = .ok (.aload_n 0, 1) := by decide +kernel
theorem dX2_init_36 : decode cX2_init 36 = .ok (.new 25, 3) := by decide +kernel
theorem dX2_init_39 : decode cX2_init 39 = .ok (.dup, 1) := by decide +kernel
theorem dX2_init_40 : decode cX2_init 40 = .ok (.invokespecial 27, 3) := by decide +kernel
theorem dX2_init_43 : decode cX2_init 43 = .ok (.putfield 28, 3) := by decide +kernel
theorem dX2_init_46 : decode cX2_init 46 = .ok (.aload_n 0, 1) := by decide +kernel
theorem dX2_init_47 : decode cX2_init 47 = .ok (.new 25, 3) := by decide +kernel
theorem dX2_init_50 : decode cX2_init 50 = .ok (.dup, 1) := by decide +kernel
theorem dX2_init_51 : decode cX2_init 51 = .ok (.invokespecial 27, 3) := by decide +kernel
theorem dX2_init_54 : decode cX2_init 54 = .ok (.putfield 32, 3) := by decide +kernel
theorem dX2_init_57 : decode cX2_init 57 = .ok (.aload_n 0, 1) := by decide +kernel
theorem dX2_init_58 : decode cX2_init 58 = .ok (.new 25, 3) := by decide +kernel
theorem dX2_init_61 : decode cX2_init 61 = .ok (.dup, 1) := by decide +kernel
theorem dX2_init_62 : decode cX2_init 62 = .ok (.invokespecial 27, 3) := by decide +kernel
theorem dX2_init_65 : decode cX2_init 65 = .ok (.putfield 35, 3) := by decide +kernel
theorem dX2_init_68 : decode cX2_init 68 = .ok (.aload_n 0, 1) := by decide +kernel
theorem dX2_init_69 : decode cX2_init 69 = .ok (.iload_n 1, 1) := by decide +kernel
theorem dX2_init_70 : decode cX2_init 70 = .ok (.putfield 38, 3) := by decide +kernel
theorem dX2_init_73 : decode cX2_init 73 = .ok (.return_, 1) := by decide +kernel
theorem ycX2_init : yX2_init.cls ≠ "java/lang/invoke/MethodHandle" ∧ yX2_init.cls ≠ "java/lang/invoke/VarHandle" ∧ (parseMethodDescriptor yX2_init.desc).map (fun d => d.parameters.length) = some 1 := by decide +kernel
theorem yvX2_init : yX2_init.cls = RR 2 ∧ yX2_init.cls ≠ "java/lang/invoke/MethodHandle" ∧ yX2_init.cls ≠ "java/lang/invoke/VarHandle" ∧ (parseMethodDescriptor yX2_init.desc).map (fun d => d.parameters.length) = some 1 := ⟨rfl, ycX2_init⟩
noncomputable def f_X2_init (p0 : Nat) (p1 : Int32) : Act Unit :=
  nn p0 <|
  bnd (putI 2 1 p0 1000) fun _ =>
  bnd (putI 2 2 p0 1500) fun _ =>
  bnd (putI 2 3 p0 20) fun _ =>
  bnd (putI 2 4 p0 4) fun _ =>
  bnd (putI 2 5 p0 100) fun _ =>
  bnd (newO 17 3) fun v1 =>
  bnd (gd 17 v1 (nt (P_init v1))) fun _ =>
  bnd (putR 2 8 p0 v1) fun _ =>
  bnd (newO 17 3) fun v2 =>
  bnd (gd 17 v2 (nt (P_init v2))) fun _ =>
  bnd (putR 2 9 p0 v2) fun _ =>
  bnd (newO 17 3) fun v3 =>
  bnd (gd 17 v3 (nt (P_init v3))) fun _ =>
  bnd (putR 2 10 p0 v3) fun _ =>
  bnd (putI 2 0 p0 p1) fun _ =>
  pur ()
set_option maxHeartbeats 4000000 in
theorem ct_X2_init (l : Launch) (p0 : Nat) (p1 : Int32) : Ct l Pic yX2_init (ws_ yX2_init cX2_init 2 none) 4 84 cvU [rv p0, .int p1] (f_X2_init p0 p1) := by
  refine Ct.of (own := RX2) (L := [(0, rv p0), (1, .int p1)]) (plainFor_of_name (by decide)) rfl (by first | decide | simp [lg_sl, rv_cat, cat_i, cat_l]) (by first | rfl | simp [lv_args, rv_cat, cat_i, cat_l]) pcZ (fun X hXl hX hnh hin => ?_)
  subst hXl
  unfold f_X2_init
  refine s_aload_n hX dX2_init_0 rfl 0 rfl ?_
  refine s_oinit hX (by decide) q177 q126 q127 (by decide) (by decide) dX2_init_1 ?_
  refine s_aload_n hX dX2_init_4 rfl 0 rfl ?_
  refine s_sipush (v := 1000) hX dX2_init_5 (by decide) ?_
  refine s_putI (ci := 2) (j := 1) (ref := "WindGas$Rules") hX (pcG 2) (pcP 2) in_X2 tyX2_ok nmX2 (Or.inl q182) (by decide) (by decide) (by decide) rfl rfl rfl dX2_init_8 (fun _ h9 => h9) ?_
  refine s_aload_n hX dX2_init_11 rfl 0 rfl ?_
  refine s_sipush (v := 1500) hX dX2_init_12 (by decide) ?_
  refine s_putI (ci := 2) (j := 2) (ref := "WindGas$Rules") hX (pcG 2) (pcP 2) in_X2 tyX2_ok nmX2 (Or.inl q184) (by decide) (by decide) (by decide) rfl rfl rfl dX2_init_15 (fun _ h9 => h9) ?_
  refine s_aload_n hX dX2_init_18 rfl 0 rfl ?_
  refine s_bipush (v := 20) hX dX2_init_19 (by decide) ?_
  refine s_putI (ci := 2) (j := 3) (ref := "WindGas$Rules") hX (pcG 2) (pcP 2) in_X2 tyX2_ok nmX2 (Or.inl q186) (by decide) (by decide) (by decide) rfl rfl rfl dX2_init_21 (fun _ h9 => h9) ?_
  refine s_aload_n hX dX2_init_24 rfl 0 rfl ?_
  refine s_iconst (v := 4) hX dX2_init_25 rfl ?_
  refine s_putI (ci := 2) (j := 4) (ref := "WindGas$Rules") hX (pcG 2) (pcP 2) in_X2 tyX2_ok nmX2 (Or.inl q189) (by decide) (by decide) (by decide) rfl rfl rfl dX2_init_26 (fun _ h9 => h9) ?_
  refine s_aload_n hX dX2_init_29 rfl 0 rfl ?_
  refine s_bipush (v := 100) hX dX2_init_30 (by decide) ?_
  refine s_putI (ci := 2) (j := 5) (ref := "WindGas$Rules") hX (pcG 2) (pcP 2) in_X2 tyX2_ok nmX2 (Or.inl q191) (by decide) (by decide) (by decide) rfl rfl rfl dX2_init_32 (fun _ h9 => h9) ?_
  refine s_aload_n hX dX2_init_35 rfl 0 rfl ?_
  refine s_new (ci := 17) hX (pcN 17) in_J2 tyJ2_ok (by decide) (by decide) q178 q135 q88 dX2_init_36 (fun v1 => ?_)
  refine s_dup hX dX2_init_39 (rv_cat _) ?_
  refine s_callI_U (ci := 17) (n := 0) (As := []) (st := [rv v1, rv p0]) hX (pcK 18) (by decide) (pt_init X.l v1) q179 q137 q88 q138 rfl ycJ2_init (by decide) rfl (by first | decide | simp [rv_cat, cat_i, cat_l]) dX2_init_40 (fun _ => ?_)
  refine s_putRF (ci := 2) (j := 8) (ref := "WindGas$Rules") hX (pcG 2) (pcP 2) in_X2 tyX2_ok nmX2 q195 (by decide) (by decide) (by decide) rfl (fun v => by cases v <;> exact ⟨rfl, rfl⟩) rfl (hin rfl) rfl dX2_init_43 (fun _ h9 => h9) ?_
  refine s_aload_n hX dX2_init_46 rfl 0 rfl ?_
  refine s_new (ci := 17) hX (pcN 17) in_J2 tyJ2_ok (by decide) (by decide) q178 q135 q88 dX2_init_47 (fun v2 => ?_)
  refine s_dup hX dX2_init_50 (rv_cat _) ?_
  refine s_callI_U (ci := 17) (n := 0) (As := []) (st := [rv v2, rv p0]) hX (pcK 18) (by decide) (pt_init X.l v2) q179 q137 q88 q138 rfl ycJ2_init (by decide) rfl (by first | decide | simp [rv_cat, cat_i, cat_l]) dX2_init_51 (fun _ => ?_)
  refine s_putRF (ci := 2) (j := 9) (ref := "WindGas$Rules") hX (pcG 2) (pcP 2) in_X2 tyX2_ok nmX2 q197 (by decide) (by decide) (by decide) rfl (fun v => by cases v <;> exact ⟨rfl, rfl⟩) rfl (hin rfl) rfl dX2_init_54 (fun _ h9 => h9) ?_
  refine s_aload_n hX dX2_init_57 rfl 0 rfl ?_
  refine s_new (ci := 17) hX (pcN 17) in_J2 tyJ2_ok (by decide) (by decide) q178 q135 q88 dX2_init_58 (fun v3 => ?_)
  refine s_dup hX dX2_init_61 (rv_cat _) ?_
  refine s_callI_U (ci := 17) (n := 0) (As := []) (st := [rv v3, rv p0]) hX (pcK 18) (by decide) (pt_init X.l v3) q179 q137 q88 q138 rfl ycJ2_init (by decide) rfl (by first | decide | simp [rv_cat, cat_i, cat_l]) dX2_init_62 (fun _ => ?_)
  refine s_putRF (ci := 2) (j := 10) (ref := "WindGas$Rules") hX (pcG 2) (pcP 2) in_X2 tyX2_ok nmX2 q199 (by decide) (by decide) (by decide) rfl (fun v => by cases v <;> exact ⟨rfl, rfl⟩) rfl (hin rfl) rfl dX2_init_65 (fun _ h9 => h9) ?_
  refine s_aload_n hX dX2_init_68 rfl 0 rfl ?_
  refine s_iload_n hX dX2_init_69 rfl 1 rfl ?_
  refine s_putIF (ci := 2) (j := 0) (ref := "WindGas$Rules") hX (pcG 2) (pcP 2) in_X2 tyX2_ok nmX2 q180 (by decide) (by decide) (by decide) rfl rfl rfl (hin rfl) rfl dX2_init_70 (fun _ h9 => h9) ?_
  exact s_vret hX dX2_init_73
theorem dX3_init_0 : decode cX3_init 0 = .ok (.aload_n 0, 1) := by decide +kernel
theorem dX3_init_1 : decode cX3_init 1 = .ok (.invokespecial 1, 3) := by decide +kernel
theorem dX3_init_4 : decode cX3_init 4 = .ok (.aload_n 0, 1) := by decide +kernel
theorem dX3_init_5 : decode cX3_init 5 = .ok (.new 7, 3) := by decide +kernel
theorem dX3_init_8 : decode cX3_init 8 = .ok (.dup, 1) := by decide +kernel
theorem dX3_init_9 : decode cX3_init 9 = .ok (.invokespecial 9, 3) := by decide +kernel
theorem dX3_init_12 : decode cX3_init 12 = .ok (.putfield 10, 3) := by decide +kernel
theorem dX3_init_15 : decode cX3_init 15 = .ok (.return_, 1) := by decide +kernel
theorem ycX3_init : yX3_init.cls ≠ "java/lang/invoke/MethodHandle" ∧ yX3_init.cls ≠ "java/lang/invoke/VarHandle" ∧ (parseMethodDescriptor yX3_init.desc).map (fun d => d.parameters.length) = some 0 := by decide +kernel
theorem yvX3_init : yX3_init.cls = RR 3 ∧ yX3_init.cls ≠ "java/lang/invoke/MethodHandle" ∧ yX3_init.cls ≠ "java/lang/invoke/VarHandle" ∧ (parseMethodDescriptor yX3_init.desc).map (fun d => d.parameters.length) = some 0 := ⟨rfl, ycX3_init⟩
noncomputable def f_X3_init (p0 : Nat) : Act Unit :=
  nn p0 <|
  bnd (newO 17 3) fun v1 =>
  bnd (gd 17 v1 (nt (P_init v1))) fun _ =>
  bnd (putR 3 0 p0 v1) fun _ =>
  pur ()
set_option maxHeartbeats 4000000 in
theorem ct_X3_init (l : Launch) (p0 : Nat) : Ct l Pic yX3_init (ws_ yX3_init cX3_init 1 none) 4 84 cvU [rv p0] (f_X3_init p0) := by
  refine Ct.of (own := RX3) (L := [(0, rv p0)]) (plainFor_of_name (by decide)) rfl (by first | decide | simp [lg_sl, rv_cat, cat_i, cat_l]) (by first | rfl | simp [lv_args, rv_cat, cat_i, cat_l]) pcZ (fun X hXl hX hnh hin => ?_)
  subst hXl
  unfold f_X3_init
  refine s_aload_n hX dX3_init_0 rfl 0 rfl ?_
  refine s_oinit hX (by decide) q230 q126 q127 (by decide) (by decide) dX3_init_1 ?_
  refine s_aload_n hX dX3_init_4 rfl 0 rfl ?_
  refine s_new (ci := 17) hX (pcN 17) in_J2 tyJ2_ok (by decide) (by decide) q231 q135 q88 dX3_init_5 (fun v1 => ?_)
  refine s_dup hX dX3_init_8 (rv_cat _) ?_
  refine s_callI_U (ci := 17) (n := 0) (As := []) (st := [rv v1, rv p0]) hX (pcK 18) (by decide) (pt_init X.l v1) q232 q137 q88 q138 rfl ycJ2_init (by decide) rfl (by first | decide | simp [rv_cat, cat_i, cat_l]) dX3_init_9 (fun _ => ?_)
  refine s_putRF (ci := 3) (j := 0) (ref := "WindGas$Store") hX (pcG 3) (pcP 3) in_X3 tyX3_ok nmX3 q233 (by decide) (by decide) (by decide) rfl (fun v => by cases v <;> exact ⟨rfl, rfl⟩) rfl (hin rfl) rfl dX3_init_12 (fun _ h9 => h9) ?_
  exact s_vret hX dX3_init_15
theorem dX0_init_0 : decode cX0_init 0 = .ok (.aload_n 0, 1) := by decide +kernel
theorem dX0_init_1 : decode cX0_init 1 = .ok (.invokespecial 3, 3) := by decide +kernel
theorem dX0_init_4 : decode cX0_init 4 = .ok (.aload_n 0, 1) := by decide +kernel
theorem dX0_init_5 : decode cX0_init 5 = .ok (.new 9, 3) := by decide +kernel
theorem dX0_init_8 : decode cX0_init 8 = .ok (.dup, 1) := by decide +kernel
theorem dX0_init_9 : decode cX0_init 9 = .ok (.iconst 0, 1) := by decide +kernel
theorem dX0_init_10 : decode cX0_init 10 = .ok (.sipush 2000, 3) := by decide +kernel
theorem dX0_init_13 : decode cX0_init 13 = .ok (.invokespecial 11, 3) := by decide +kernel
theorem dX0_init_16 : decode cX0_init 16 = .ok (.putfield 14, 3) := by decide +kernel
theorem dX0_init_19 : decode cX0_init 19 = .ok (.aload_n 0, 1) := by decide +kernel
theorem dX0_init_20 : decode cX0_init 20 = .ok (.new 9, 3) := by decide +kernel
theorem dX0_init_23 : decode cX0_init 23 = .ok (.dup, 1) := by decide +kernel
theorem dX0_init_24 : decode cX0_init 24 = .ok (.sipush (-500), 3) := by decide +kernel
theorem dX0_init_27 : decode cX0_init 27 = .ok (.sipush 500, 3) := by decide +kernel
theorem dX0_init_30 : decode cX0_init 30 = .ok (.invokespecial 11, 3) := by decide +kernel
theorem dX0_init_33 : decode cX0_init 33 = .ok (.putfield 18, 3) := by decide +kernel
theorem dX0_init_36 : decode cX0_init 36 = .ok (.aload_n 0, 1) := by decide +kernel
theorem dX0_init_37 : decode cX0_init 37 = .ok (.new 9, 3) := by decide +kernel
theorem dX0_init_40 : decode cX0_init 40 = .ok (.dup, 1) := by decide +kernel
theorem dX0_init_41 : decode cX0_init 41 = .ok (.iconst 0, 1) := by decide +kernel
theorem dX0_init_42 : decode cX0_init 42 = .ok (.bipush 100, 2) := by decide +kernel
theorem dX0_init_44 : decode cX0_init 44 = .ok (.invokespecial 11, 3) := by decide +kernel
theorem dX0_init_47 : decode cX0_init 47 = .ok (.putfield 21, 3) := by decide +kernel
theorem dX0_init_50 : decode cX0_init 50 = .ok (.aload_n 0, 1) := by decide +kernel
theorem dX0_init_51 : decode cX0_init 51 = .ok (.new 24, 3) := by decide +kernel
theorem dX0_init_54 : decode cX0_init 54 = .ok (.dup, 1) := by decide +kernel
theorem dX0_init_55 : decode cX0_init 55 = .ok (.invokespecial 26, 3) := by decide +kernel
theorem dX0_init_58 : decode cX0_init 58 = .ok (.putfield 27, 3) := by decide +kernel
theorem dX0_init_61 : decode cX0_init 61 = .ok (.aload_n 0, 1) := by decide +kernel
theorem dX0_init_62 : decode cX0_init 62 = .ok (.new 31, 3) := by decide +kernel
theorem dX0_init_65 : decode cX0_init 65 = .ok (.dup, 1) := by decide +kernel
theorem dX0_init_66 : decode cX0_init 66 = .ok (.iconst 0, 1) := by decide +kernel
theorem dX0_init_67 : decode cX0_init 67 = .ok (.invokespecial 33, 3) := by decide +kernel
theorem dX0_init_70 : decode cX0_init 70 = .ok (.putfield 36, 3) := by decide +kernel
theorem dX0_init_73 : decode cX0_init 73 = .ok (.aload_n 0, 1) := by decide +kernel
theorem dX0_init_74 : decode cX0_init 74 = .ok (.sipush 600, 3) := by decide +kernel
theorem dX0_init_77 : decode cX0_init 77 = .ok (.newarray .byte, 2) := by decide +kernel
theorem dX0_init_79 : decode cX0_init 79 = .ok (.putfield 40, 3) := by decide +kernel
theorem dX0_init_82 : decode cX0_init 82 = .ok (.aload_n 0, 1) := by decide +kernel
theorem dX0_init_83 : decode cX0_init 83 = .ok (.iconst (-1), 1) := by decide +kernel
theorem dX0_init_84 : decode cX0_init 84 = .ok (.putfield 44, 3) := by decide +kernel
theorem dX0_init_87 : decode cX0_init 87 = .ok (.aload_n 0, 1) := by decide +kernel
theorem dX0_init_88 : decode cX0_init 88 = .ok (.ldc 48, 2) := by decide +kernel
theorem dX0_init_90 : decode cX0_init 90 = .ok (.putfield 50, 3) := by decide +kernel
theorem dX0_init_93 : decode cX0_init 93 = .ok (.aload_n 0, 1) := by decide +kernel
theorem dX0_init_94 : decode cX0_init 94 = .ok (.new 54, 3) := by decide +kernel
theorem dX0_init_97 : decode cX0_init 97 = .ok (.dup, 1) := by decide +kernel
theorem dX0_init_98 : decode cX0_init 98 = .ok (.invokespecial 56, 3) := by decide +kernel
theorem dX0_init_101 : decode cX0_init 101 = .ok (.putfield 57, 3) := by decide +kernel
theorem dX0_init_104 : decode cX0_init 104 = .ok (.aload_n 0, 1) := by decide +kernel
theorem dX0_init_105 : decode cX0_init 105 = .ok (.new 54, 3) := by decide +kernel
theorem dX0_init_108 : decode cX0_init 108 = .ok (.dup, 1) := by decide +kernel
theorem dX0_init_109 : decode cX0_init 109 = .ok (.invokespecial 56, 3) := by decide +kernel
theorem dX0_init_112 : decode cX0_init 112 = .ok (.putfield 61, 3) := by decide +kernel
theorem dX0_init_115 : decode cX0_init 115 = .ok (.aload_n 0, 1) := by decide +kernel
theorem dX0_init_116 : decode cX0_init 116 = .ok (.new 24, 3) := by decide +kernel
theorem dX0_init_119 : decode cX0_init 119 = .ok (.dup, 1) := by decide +kernel
theorem dX0_init_120 : decode cX0_init 120 = .ok (.invokespecial 26, 3) := by decide +kernel
theorem dX0_init_123 : decode cX0_init 123 = .ok (.putfield 64, 3) := by decide +kernel
theorem dX0_init_126 : decode cX0_init 126 = .ok (.aload_n 0, 1) := by decide +kernel
theorem dX0_init_127 : decode cX0_init 127 = .ok (.sipush 834, 3) := by decide +kernel
theorem dX0_init_130 : decode cX0_init 130 = .ok (.newarray .int, 2) := by decide +kernel
theorem dX0_init_132 : decode cX0_init 132 = .ok (.putfield 67, 3) := by decide +kernel
theorem dX0_init_135 : decode cX0_init 135 = .ok (.aload_n 0, 1) := by decide +kernel
theorem dX0_init_136 : decode cX0_init 136 = .ok (.sipush 834, 3) := by decide +kernel
theorem dX0_init_139 : decode cX0_init 139 = .ok (.newarray .int, 2) := by decide +kernel
theorem dX0_init_141 : decode cX0_init 141 = .ok (.putfield 71, 3) := by decide +kernel
theorem dX0_init_144 : decode cX0_init 144 = .ok (.aload_n 0, 1) := by decide +kernel
theorem dX0_init_145 : decode cX0_init 145 = .ok (.sipush 834, 3) := by decide +kernel
theorem dX0_init_148 : decode cX0_init 148 = .ok (.newarray .int, 2) := by decide +kernel
theorem dX0_init_150 : decode cX0_init 150 = .ok (.putfield 74, 3) := by decide +kernel
theorem dX0_init_153 : decode cX0_init 153 = .ok (.aload_n 0, 1) := by decide +kernel
theorem dX0_init_154 : decode cX0_init 154 = .ok (.bipush 8, 2) := by decide +kernel
theorem dX0_init_156 : decode cX0_init 156 = .ok (.newarray .long, 2) := by decide +kernel
theorem dX0_init_158 : decode cX0_init 158 = .ok (.putfield 77, 3) := by decide +kernel
theorem dX0_init_161 : decode cX0_init 161 = .ok (.aload_n 0, 1) := by decide +kernel
theorem dX0_init_162 : decode cX0_init 162 = .ok (.iconst 4, 1) := by decide +kernel
theorem dX0_init_163 : decode cX0_init 163 = .ok (.newarray .int, 2) := by decide +kernel
theorem dX0_init_165 : decode cX0_init 165 = .ok (.putfield 81, 3) := by decide +kernel
theorem dX0_init_168 : decode cX0_init 168 = .ok (.aload_n 0, 1) := by decide +kernel
theorem dX0_init_169 : decode cX0_init 169 = .ok (.new 24, 3) := by decide +kernel
theorem dX0_init_172 : decode cX0_init 172 = .ok (.dup, 1) := by decide +kernel
theorem dX0_init_173 : decode cX0_init 173 = .ok (.invokespecial 26, 3) := by decide +kernel
theorem dX0_init_176 : decode cX0_init 176 = .ok (.putfield 84, 3) := by decide +kernel
theorem dX0_init_179 : decode cX0_init 179 = .ok (.aload_n 0, 1) := by decide +kernel
theorem dX0_init_180 : decode cX0_init 180 = .ok (.new 24, 3) := by decide +kernel
theorem dX0_init_183 : decode cX0_init 183 = .ok (.dup, 1) := by decide +kernel
theorem dX0_init_184 : decode cX0_init 184 = .ok (.invokespecial 26, 3) := by decide +kernel
theorem dX0_init_187 : decode cX0_init 187 = .ok (.putfield 87, 3) := by decide +kernel
theorem dX0_init_190 : decode cX0_init 190 = .ok (.aload_n 0, 1) := by decide +kernel
theorem dX0_init_191 : decode cX0_init 191 = .ok (.new 24, 3) := by decide +kernel
theorem dX0_init_194 : decode cX0_init 194 = .ok (.dup, 1) := by decide +kernel
theorem dX0_init_195 : decode cX0_init 195 = .ok (.invokespecial 26, 3) := by decide +kernel
theorem dX0_init_198 : decode cX0_init 198 = .ok (.putfield 90, 3) := by decide +kernel
theorem dX0_init_201 : decode cX0_init 201 = .ok (.aload_n 0, 1) := by decide +kernel
theorem dX0_init_202 : decode cX0_init 202 = .ok (.sipush 8784, 3) := by decide +kernel
theorem dX0_init_205 : decode cX0_init 205 = .ok (.newarray .int, 2) := by decide +kernel
theorem dX0_init_207 : decode cX0_init 207 = .ok (.putfield 93, 3) := by decide +kernel
theorem dX0_init_210 : decode cX0_init 210 = .ok (.aload_n 0, 1) := by decide +kernel
theorem dX0_init_211 : decode cX0_init 211 = .ok (.sipush 128, 3) := by decide +kernel
theorem dX0_init_214 : decode cX0_init 214 = .ok (.newarray .int, 2) := by decide +kernel
theorem dX0_init_216 : decode cX0_init 216 = .ok (.putfield 96, 3) := by decide +kernel
theorem dX0_init_219 : decode cX0_init 219 = .ok (.return_, 1) := by decide +kernel
theorem ycX0_init : yX0_init.cls ≠ "java/lang/invoke/MethodHandle" ∧ yX0_init.cls ≠ "java/lang/invoke/VarHandle" ∧ (parseMethodDescriptor yX0_init.desc).map (fun d => d.parameters.length) = some 0 := by decide +kernel
theorem yvX0_init : yX0_init.cls = RR 0 ∧ yX0_init.cls ≠ "java/lang/invoke/MethodHandle" ∧ yX0_init.cls ≠ "java/lang/invoke/VarHandle" ∧ (parseMethodDescriptor yX0_init.desc).map (fun d => d.parameters.length) = some 0 := ⟨rfl, ycX0_init⟩
noncomputable def f_X0_init (p0 : Nat) : Act Unit :=
  nn p0 <|
  bnd (newO 1 3) fun v1 =>
  bnd (gd 1 v1 (nt (f_X1_init v1 (0 : Int32) (2000 : Int32)))) fun _ =>
  bnd (putR 0 1 p0 v1) fun _ =>
  bnd (newO 1 3) fun v2 =>
  bnd (gd 1 v2 (nt (f_X1_init v2 (-500 : Int32) (500 : Int32)))) fun _ =>
  bnd (putR 0 2 p0 v2) fun _ =>
  bnd (newO 1 3) fun v3 =>
  bnd (gd 1 v3 (nt (f_X1_init v3 (0 : Int32) (100 : Int32)))) fun _ =>
  bnd (putR 0 3 p0 v3) fun _ =>
  bnd (newO 17 3) fun v4 =>
  bnd (gd 17 v4 (nt (P_init v4))) fun _ =>
  bnd (putR 0 4 p0 v4) fun _ =>
  bnd (newO 2 11) fun v5 =>
  bnd (gd 2 v5 (nt (f_X2_init v5 (0 : Int32)))) fun _ =>
  bnd (putR 0 5 p0 v5) fun _ =>
  bnd (newA 2 600) fun v6 =>
  bnd (putR 0 6 p0 v6) fun _ =>
  bnd (putI 0 8 p0 (-1)) fun _ =>
  bnd (gst 10) fun v7 =>
  bnd (putR 0 15 p0 v7) fun _ =>
  bnd (newO 3 9) fun v8 =>
  bnd (gd 3 v8 (nt (f_X3_init v8))) fun _ =>
  bnd (putR 0 16 p0 v8) fun _ =>
  bnd (newO 3 9) fun v9 =>
  bnd (gd 3 v9 (nt (f_X3_init v9))) fun _ =>
  bnd (putR 0 17 p0 v9) fun _ =>
  bnd (newO 17 3) fun v10 =>
  bnd (gd 17 v10 (nt (P_init v10))) fun _ =>
  bnd (putR 0 18 p0 v10) fun _ =>
  bnd (newA 0 834) fun v11 =>
  bnd (putR 0 30 p0 v11) fun _ =>
  bnd (newA 0 834) fun v12 =>
  bnd (putR 0 31 p0 v12) fun _ =>
  bnd (newA 0 834) fun v13 =>
  bnd (putR 0 32 p0 v13) fun _ =>
  bnd (newA 1 8) fun v14 =>
  bnd (putR 0 33 p0 v14) fun _ =>
  bnd (newA 0 4) fun v15 =>
  bnd (putR 0 34 p0 v15) fun _ =>
  bnd (newO 17 3) fun v16 =>
  bnd (gd 17 v16 (nt (P_init v16))) fun _ =>
  bnd (putR 0 37 p0 v16) fun _ =>
  bnd (newO 17 3) fun v17 =>
  bnd (gd 17 v17 (nt (P_init v17))) fun _ =>
  bnd (putR 0 38 p0 v17) fun _ =>
  bnd (newO 17 3) fun v18 =>
  bnd (gd 17 v18 (nt (P_init v18))) fun _ =>
  bnd (putR 0 39 p0 v18) fun _ =>
  bnd (newA 0 8784) fun v19 =>
  bnd (putR 0 40 p0 v19) fun _ =>
  bnd (newA 0 128) fun v20 =>
  bnd (putR 0 41 p0 v20) fun _ =>
  pur ()
set_option maxHeartbeats 4000000 in
theorem ct_X0_init (l : Launch) (p0 : Nat) : Ct l Pic yX0_init (ws_ yX0_init cX0_init 1 none) 5 106 cvU [rv p0] (f_X0_init p0) := by
  refine Ct.of (own := RX0) (L := [(0, rv p0)]) (plainFor_of_name (by decide)) rfl (by first | decide | simp [lg_sl, rv_cat, cat_i, cat_l]) (by first | rfl | simp [lv_args, rv_cat, cat_i, cat_l]) pcZ (fun X hXl hX hnh hin => ?_)
  subst hXl
  unfold f_X0_init
  refine s_aload_n hX dX0_init_0 rfl 0 rfl ?_
  refine s_oinit hX (by decide) q125 q126 q127 (by decide) (by decide) dX0_init_1 ?_
  refine s_aload_n hX dX0_init_4 rfl 0 rfl ?_
  refine s_new (ci := 1) hX (pcN 1) in_X1 tyX1_ok (by decide) (by decide) q128 q129 q85 dX0_init_5 (fun v1 => ?_)
  refine s_dup hX dX0_init_8 (rv_cat _) ?_
  refine s_iconst (v := 0) hX dX0_init_9 rfl ?_
  refine s_sipush (v := 2000) hX dX0_init_10 (by decide) ?_
  refine s_callI_U (ci := 1) (n := 2) (As := [.int 0, .int 2000]) (st := [rv v1, rv p0]) hX (pcK 2) (by decide) (ct_X1_init X.l v1 (0 : Int32) (2000 : Int32)) q130 q131 q85 q132 rfl ycX1_init (by decide) rfl (by first | decide | simp [rv_cat, cat_i, cat_l]) dX0_init_13 (fun _ => ?_)
  refine s_putRF (ci := 0) (j := 1) (ref := "WindGas") hX (pcG 0) (pcP 0) in_X0 tyX0_ok nmX0 q267 (by decide) (by decide) (by decide) rfl (fun v => by cases v <;> exact ⟨rfl, rfl⟩) rfl (hin rfl) rfl dX0_init_16 (fun _ h9 => h9) ?_
  refine s_aload_n hX dX0_init_19 rfl 0 rfl ?_
  refine s_new (ci := 1) hX (pcN 1) in_X1 tyX1_ok (by decide) (by decide) q128 q129 q85 dX0_init_20 (fun v2 => ?_)
  refine s_dup hX dX0_init_23 (rv_cat _) ?_
  refine s_sipush (v := -500) hX dX0_init_24 (by decide) ?_
  refine s_sipush (v := 500) hX dX0_init_27 (by decide) ?_
  refine s_callI_U (ci := 1) (n := 2) (As := [.int (-500), .int 500]) (st := [rv v2, rv p0]) hX (pcK 2) (by decide) (ct_X1_init X.l v2 (-500 : Int32) (500 : Int32)) q130 q131 q85 q132 rfl ycX1_init (by decide) rfl (by first | decide | simp [rv_cat, cat_i, cat_l]) dX0_init_30 (fun _ => ?_)
  refine s_putRF (ci := 0) (j := 2) (ref := "WindGas") hX (pcG 0) (pcP 0) in_X0 tyX0_ok nmX0 q268 (by decide) (by decide) (by decide) rfl (fun v => by cases v <;> exact ⟨rfl, rfl⟩) rfl (hin rfl) rfl dX0_init_33 (fun _ h9 => h9) ?_
  refine s_aload_n hX dX0_init_36 rfl 0 rfl ?_
  refine s_new (ci := 1) hX (pcN 1) in_X1 tyX1_ok (by decide) (by decide) q128 q129 q85 dX0_init_37 (fun v3 => ?_)
  refine s_dup hX dX0_init_40 (rv_cat _) ?_
  refine s_iconst (v := 0) hX dX0_init_41 rfl ?_
  refine s_bipush (v := 100) hX dX0_init_42 (by decide) ?_
  refine s_callI_U (ci := 1) (n := 2) (As := [.int 0, .int 100]) (st := [rv v3, rv p0]) hX (pcK 2) (by decide) (ct_X1_init X.l v3 (0 : Int32) (100 : Int32)) q130 q131 q85 q132 rfl ycX1_init (by decide) rfl (by first | decide | simp [rv_cat, cat_i, cat_l]) dX0_init_44 (fun _ => ?_)
  refine s_putRF (ci := 0) (j := 3) (ref := "WindGas") hX (pcG 0) (pcP 0) in_X0 tyX0_ok nmX0 q269 (by decide) (by decide) (by decide) rfl (fun v => by cases v <;> exact ⟨rfl, rfl⟩) rfl (hin rfl) rfl dX0_init_47 (fun _ h9 => h9) ?_
  refine s_aload_n hX dX0_init_50 rfl 0 rfl ?_
  refine s_new (ci := 17) hX (pcN 17) in_J2 tyJ2_ok (by decide) (by decide) q170 q135 q88 dX0_init_51 (fun v4 => ?_)
  refine s_dup hX dX0_init_54 (rv_cat _) ?_
  refine s_callI_U (ci := 17) (n := 0) (As := []) (st := [rv v4, rv p0]) hX (pcK 18) (by decide) (pt_init X.l v4) q171 q137 q88 q138 rfl ycJ2_init (by decide) rfl (by first | decide | simp [rv_cat, cat_i, cat_l]) dX0_init_55 (fun _ => ?_)
  refine s_putRF (ci := 0) (j := 4) (ref := "WindGas") hX (pcG 0) (pcP 0) in_X0 tyX0_ok nmX0 q270 (by decide) (by decide) (by decide) rfl (fun v => by cases v <;> exact ⟨rfl, rfl⟩) rfl (hin rfl) rfl dX0_init_58 (fun _ h9 => h9) ?_
  refine s_aload_n hX dX0_init_61 rfl 0 rfl ?_
  refine s_new (ci := 2) hX (pcN 2) in_X2 tyX2_ok (by decide) (by decide) q172 q173 q89 dX0_init_62 (fun v5 => ?_)
  refine s_dup hX dX0_init_65 (rv_cat _) ?_
  refine s_iconst (v := 0) hX dX0_init_66 rfl ?_
  refine s_callI_U (ci := 2) (n := 1) (As := [.int 0]) (st := [rv v5, rv p0]) hX (pcK 3) (by decide) (ct_X2_init X.l v5 (0 : Int32)) q174 q175 q89 q176 rfl ycX2_init (by decide) rfl (by first | decide | simp [rv_cat, cat_i, cat_l]) dX0_init_67 (fun _ => ?_)
  refine s_putRF (ci := 0) (j := 5) (ref := "WindGas") hX (pcG 0) (pcP 0) in_X0 tyX0_ok nmX0 q271 (by decide) (by decide) (by decide) rfl (fun v => by cases v <;> exact ⟨rfl, rfl⟩) rfl (hin rfl) rfl dX0_init_70 (fun _ h9 => h9) ?_
  refine s_aload_n hX dX0_init_73 rfl 0 rfl ?_
  refine s_sipush (v := 600) hX dX0_init_74 (by decide) ?_
  refine s_newB hX (pcM 2) q265 dX0_init_77 (fun v6 => ?_)
  refine s_putRF (ci := 0) (j := 6) (ref := "WindGas") hX (pcG 0) (pcP 0) in_X0 tyX0_ok nmX0 q272 (by decide) (by decide) (by decide) rfl (fun v => by cases v <;> exact ⟨rfl, rfl⟩) rfl (hin rfl) rfl dX0_init_79 (fun _ h9 => h9) ?_
  refine s_aload_n hX dX0_init_82 rfl 0 rfl ?_
  refine s_iconst (v := -1) hX dX0_init_83 (by decide) ?_
  refine s_putI (ci := 0) (j := 8) (ref := "WindGas") hX (pcG 0) (pcP 0) in_X0 tyX0_ok nmX0 (Or.inl q274) (by decide) (by decide) (by decide) rfl rfl rfl dX0_init_84 (fun _ h9 => h9) ?_
  refine s_aload_n hX dX0_init_87 rfl 0 rfl ?_
  refine s_ldcS (i := 0) (tx := "") hX (pcS) rfl dX0_init_88 (fun v7 => ?_)
  refine s_putR (ci := 0) (j := 15) (ref := "WindGas") hX (pcG 0) (pcP 0) in_X0 tyX0_ok nmX0 (Or.inl q281) (by decide) (by decide) (by decide) rfl (fun v => by cases v <;> exact ⟨rfl, rfl⟩) rfl dX0_init_90 (fun _ h9 => h9) ?_
  refine s_aload_n hX dX0_init_93 rfl 0 rfl ?_
  refine s_new (ci := 3) hX (pcN 3) in_X3 tyX3_ok (by decide) (by decide) q225 q226 q90 dX0_init_94 (fun v8 => ?_)
  refine s_dup hX dX0_init_97 (rv_cat _) ?_
  refine s_callIN_U (ci := 3) (n := 0) (As := []) (st := [rv v8, rv p0]) hX (pcK 4) (by decide) (ct_X3_init X.l v8) q227 q228 q90 q229 rfl ycX3_init (by decide) rfl (by first | decide | simp [rv_cat, cat_i, cat_l]) dX0_init_98 (fun _ => ?_)
  refine s_putRF (ci := 0) (j := 16) (ref := "WindGas") hX (pcG 0) (pcP 0) in_X0 tyX0_ok nmX0 q282 (by decide) (by decide) (by decide) rfl (fun v => by cases v <;> exact ⟨rfl, rfl⟩) rfl (hin rfl) rfl dX0_init_101 (fun _ h9 => h9) ?_
  refine s_aload_n hX dX0_init_104 rfl 0 rfl ?_
  refine s_new (ci := 3) hX (pcN 3) in_X3 tyX3_ok (by decide) (by decide) q225 q226 q90 dX0_init_105 (fun v9 => ?_)
  refine s_dup hX dX0_init_108 (rv_cat _) ?_
  refine s_callIN_U (ci := 3) (n := 0) (As := []) (st := [rv v9, rv p0]) hX (pcK 4) (by decide) (ct_X3_init X.l v9) q227 q228 q90 q229 rfl ycX3_init (by decide) rfl (by first | decide | simp [rv_cat, cat_i, cat_l]) dX0_init_109 (fun _ => ?_)
  refine s_putRF (ci := 0) (j := 17) (ref := "WindGas") hX (pcG 0) (pcP 0) in_X0 tyX0_ok nmX0 q283 (by decide) (by decide) (by decide) rfl (fun v => by cases v <;> exact ⟨rfl, rfl⟩) rfl (hin rfl) rfl dX0_init_112 (fun _ h9 => h9) ?_
  refine s_aload_n hX dX0_init_115 rfl 0 rfl ?_
  refine s_new (ci := 17) hX (pcN 17) in_J2 tyJ2_ok (by decide) (by decide) q170 q135 q88 dX0_init_116 (fun v10 => ?_)
  refine s_dup hX dX0_init_119 (rv_cat _) ?_
  refine s_callI_U (ci := 17) (n := 0) (As := []) (st := [rv v10, rv p0]) hX (pcK 18) (by decide) (pt_init X.l v10) q171 q137 q88 q138 rfl ycJ2_init (by decide) rfl (by first | decide | simp [rv_cat, cat_i, cat_l]) dX0_init_120 (fun _ => ?_)
  refine s_putRF (ci := 0) (j := 18) (ref := "WindGas") hX (pcG 0) (pcP 0) in_X0 tyX0_ok nmX0 q284 (by decide) (by decide) (by decide) rfl (fun v => by cases v <;> exact ⟨rfl, rfl⟩) rfl (hin rfl) rfl dX0_init_123 (fun _ h9 => h9) ?_
  refine s_aload_n hX dX0_init_126 rfl 0 rfl ?_
  refine s_sipush (v := 834) hX dX0_init_127 (by decide) ?_
  refine s_newI hX (pcM 0) q393 dX0_init_130 (fun v11 => ?_)
  refine s_putRF (ci := 0) (j := 30) (ref := "WindGas") hX (pcG 0) (pcP 0) in_X0 tyX0_ok nmX0 q296 (by decide) (by decide) (by decide) rfl (fun v => by cases v <;> exact ⟨rfl, rfl⟩) rfl (hin rfl) rfl dX0_init_132 (fun _ h9 => h9) ?_
  refine s_aload_n hX dX0_init_135 rfl 0 rfl ?_
  refine s_sipush (v := 834) hX dX0_init_136 (by decide) ?_
  refine s_newI hX (pcM 0) q393 dX0_init_139 (fun v12 => ?_)
  refine s_putRF (ci := 0) (j := 31) (ref := "WindGas") hX (pcG 0) (pcP 0) in_X0 tyX0_ok nmX0 q297 (by decide) (by decide) (by decide) rfl (fun v => by cases v <;> exact ⟨rfl, rfl⟩) rfl (hin rfl) rfl dX0_init_141 (fun _ h9 => h9) ?_
  refine s_aload_n hX dX0_init_144 rfl 0 rfl ?_
  refine s_sipush (v := 834) hX dX0_init_145 (by decide) ?_
  refine s_newI hX (pcM 0) q393 dX0_init_148 (fun v13 => ?_)
  refine s_putRF (ci := 0) (j := 32) (ref := "WindGas") hX (pcG 0) (pcP 0) in_X0 tyX0_ok nmX0 q298 (by decide) (by decide) (by decide) rfl (fun v => by cases v <;> exact ⟨rfl, rfl⟩) rfl (hin rfl) rfl dX0_init_150 (fun _ h9 => h9) ?_
  refine s_aload_n hX dX0_init_153 rfl 0 rfl ?_
  refine s_bipush (v := 8) hX dX0_init_154 (by decide) ?_
  refine s_newL hX (pcM 1) q394 dX0_init_156 (fun v14 => ?_)
  refine s_putRF (ci := 0) (j := 33) (ref := "WindGas") hX (pcG 0) (pcP 0) in_X0 tyX0_ok nmX0 q299 (by decide) (by decide) (by decide) rfl (fun v => by cases v <;> exact ⟨rfl, rfl⟩) rfl (hin rfl) rfl dX0_init_158 (fun _ h9 => h9) ?_
  refine s_aload_n hX dX0_init_161 rfl 0 rfl ?_
  refine s_iconst (v := 4) hX dX0_init_162 rfl ?_
  refine s_newI hX (pcM 0) q393 dX0_init_163 (fun v15 => ?_)
  refine s_putRF (ci := 0) (j := 34) (ref := "WindGas") hX (pcG 0) (pcP 0) in_X0 tyX0_ok nmX0 q300 (by decide) (by decide) (by decide) rfl (fun v => by cases v <;> exact ⟨rfl, rfl⟩) rfl (hin rfl) rfl dX0_init_165 (fun _ h9 => h9) ?_
  refine s_aload_n hX dX0_init_168 rfl 0 rfl ?_
  refine s_new (ci := 17) hX (pcN 17) in_J2 tyJ2_ok (by decide) (by decide) q170 q135 q88 dX0_init_169 (fun v16 => ?_)
  refine s_dup hX dX0_init_172 (rv_cat _) ?_
  refine s_callI_U (ci := 17) (n := 0) (As := []) (st := [rv v16, rv p0]) hX (pcK 18) (by decide) (pt_init X.l v16) q171 q137 q88 q138 rfl ycJ2_init (by decide) rfl (by first | decide | simp [rv_cat, cat_i, cat_l]) dX0_init_173 (fun _ => ?_)
  refine s_putRF (ci := 0) (j := 37) (ref := "WindGas") hX (pcG 0) (pcP 0) in_X0 tyX0_ok nmX0 q303 (by decide) (by decide) (by decide) rfl (fun v => by cases v <;> exact ⟨rfl, rfl⟩) rfl (hin rfl) rfl dX0_init_176 (fun _ h9 => h9) ?_
  refine s_aload_n hX dX0_init_179 rfl 0 rfl ?_
  refine s_new (ci := 17) hX (pcN 17) in_J2 tyJ2_ok (by decide) (by decide) q170 q135 q88 dX0_init_180 (fun v17 => ?_)
  refine s_dup hX dX0_init_183 (rv_cat _) ?_
  refine s_callI_U (ci := 17) (n := 0) (As := []) (st := [rv v17, rv p0]) hX (pcK 18) (by decide) (pt_init X.l v17) q171 q137 q88 q138 rfl ycJ2_init (by decide) rfl (by first | decide | simp [rv_cat, cat_i, cat_l]) dX0_init_184 (fun _ => ?_)
  refine s_putRF (ci := 0) (j := 38) (ref := "WindGas") hX (pcG 0) (pcP 0) in_X0 tyX0_ok nmX0 q304 (by decide) (by decide) (by decide) rfl (fun v => by cases v <;> exact ⟨rfl, rfl⟩) rfl (hin rfl) rfl dX0_init_187 (fun _ h9 => h9) ?_
  refine s_aload_n hX dX0_init_190 rfl 0 rfl ?_
  refine s_new (ci := 17) hX (pcN 17) in_J2 tyJ2_ok (by decide) (by decide) q170 q135 q88 dX0_init_191 (fun v18 => ?_)
  refine s_dup hX dX0_init_194 (rv_cat _) ?_
  refine s_callI_U (ci := 17) (n := 0) (As := []) (st := [rv v18, rv p0]) hX (pcK 18) (by decide) (pt_init X.l v18) q171 q137 q88 q138 rfl ycJ2_init (by decide) rfl (by first | decide | simp [rv_cat, cat_i, cat_l]) dX0_init_195 (fun _ => ?_)
  refine s_putRF (ci := 0) (j := 39) (ref := "WindGas") hX (pcG 0) (pcP 0) in_X0 tyX0_ok nmX0 q305 (by decide) (by decide) (by decide) rfl (fun v => by cases v <;> exact ⟨rfl, rfl⟩) rfl (hin rfl) rfl dX0_init_198 (fun _ h9 => h9) ?_
  refine s_aload_n hX dX0_init_201 rfl 0 rfl ?_
  refine s_sipush (v := 8784) hX dX0_init_202 (by decide) ?_
  refine s_newI hX (pcM 0) q393 dX0_init_205 (fun v19 => ?_)
  refine s_putRF (ci := 0) (j := 40) (ref := "WindGas") hX (pcG 0) (pcP 0) in_X0 tyX0_ok nmX0 q306 (by decide) (by decide) (by decide) rfl (fun v => by cases v <;> exact ⟨rfl, rfl⟩) rfl (hin rfl) rfl dX0_init_207 (fun _ h9 => h9) ?_
  refine s_aload_n hX dX0_init_210 rfl 0 rfl ?_
  refine s_sipush (v := 128) hX dX0_init_211 (by decide) ?_
  refine s_newI hX (pcM 0) q393 dX0_init_214 (fun v20 => ?_)
  refine s_putRF (ci := 0) (j := 41) (ref := "WindGas") hX (pcG 0) (pcP 0) in_X0 tyX0_ok nmX0 q307 (by decide) (by decide) (by decide) rfl (fun v => by cases v <;> exact ⟨rfl, rfl⟩) rfl (hin rfl) rfl dX0_init_216 (fun _ h9 => h9) ?_
  exact s_vret hX dX0_init_219
theorem dX0_isIn_0 : decode cX0_isIn 0 = .ok (.lload_n 0, 1) := by decide +kernel
theorem dX0_isIn_1 : decode cX0_isIn 1 = .ok (.lload_n 2, 1) := by decide +kernel
theorem dX0_isIn_2 : decode cX0_isIn 2 = .ok (.lcmp, 1) := by decide +kernel
theorem dX0_isIn_3 : decode cX0_isIn 3 = .ok (.ifCond .lt 14, 3) := by decide +kernel
theorem dX0_isIn_6 : decode cX0_isIn 6 = .ok (.lload_n 0, 1) := by decide +kernel
theorem dX0_isIn_7 : decode cX0_isIn 7 = .ok (.lload 4, 2) := by decide +kernel
theorem dX0_isIn_9 : decode cX0_isIn 9 = .ok (.lcmp, 1) := by decide +kernel
theorem dX0_isIn_10 : decode cX0_isIn 10 = .ok (.ifCond .gt 7, 3) := by decide +kernel
theorem dX0_isIn_13 : decode cX0_isIn 13 = .ok (.iconst 1, 1) := by decide +kernel
theorem dX0_isIn_14 : decode cX0_isIn 14 = .ok (.goto 4, 3) := by decide +kernel
theorem dX0_isIn_17 : decode cX0_isIn 17 = .ok (.iconst 0, 1) := by decide +kernel
theorem dX0_isIn_18 : decode cX0_isIn 18 = .ok (.ireturn, 1) := by decide +kernel
theorem ycX0_isIn : yX0_isIn.cls ≠ "java/lang/invoke/MethodHandle" ∧ yX0_isIn.cls ≠ "java/lang/invoke/VarHandle" ∧ (parseMethodDescriptor yX0_isIn.desc).map (fun d => d.parameters.length) = some 3 := by decide +kernel
noncomputable def f_X0_isIn (p0 : Int64) (p1 : Int64) (p2 : Int64) : Act Int32 :=
  jn (fun (v1 : Int32) =>
    purS (ty := .boolean) v1) fun j18 =>
  jn (fun (_ : Unit) =>
    j18 0) fun j17 =>
  if (lg_cmp p0 p1) < 0 then
    j17 ()
  else
    if 0 < (lg_cmp p0 p2) then
      j17 ()
    else
      j18 1
set_option maxHeartbeats 4000000 in
theorem ct_X0_isIn (l : Launch) (p0 : Int64) (p1 : Int64) (p2 : Int64) : Ct l Pic yX0_isIn (ws_ yX0_isIn cX0_isIn 6 (some FieldType.boolean)) 0 0 cvI [.long p0, .long p1, .long p2] (f_X0_isIn p0 p1 p2) := by
  refine Ct.of (own := RX0) (L := [(0, .long p0), (2, .long p1), (4, .long p2)]) (plainFor_of_name (by decide)) rfl (by first | decide | simp [lg_sl, rv_cat, cat_i, cat_l]) (by first | rfl | simp [lv_args, rv_cat, cat_i, cat_l]) pcZ (fun X hXl hX hnh hin => ?_)
  subst hXl
  unfold f_X0_isIn
  refine s_lload_n hX dX0_isIn_0 rfl 0 rfl ?_
  refine s_lload_n hX dX0_isIn_1 rfl 1 rfl ?_
  refine s_lcmp hX dX0_isIn_2 ?_
  refine s_jn (P := fun j => ∀ (v1 : Int32), Sim X cvI 18 [] [.int v1] (j v1)) ?_ (fun j18 hj18 => ?_)
  · intro v1
    exact s_zret hX dX0_isIn_18
  · refine s_jn (P := fun j => ∀ (u : Unit), Sim X cvI 17 [] [] (j u)) ?_ (fun j17 hj17 => ?_)
    · intro u
      refine s_iconst (v := 0) hX dX0_isIn_17 rfl ?_
      exact hj18 0
    · refine s_if_lt (tgt := 17) hX dX0_isIn_3 (by decide) ?_ ?_
      · exact s_sub [] rfl (hj17 ())
      · refine s_lload_n hX dX0_isIn_6 rfl 0 rfl ?_
        refine s_lload hX dX0_isIn_7 2 rfl ?_
        refine s_lcmp hX dX0_isIn_9 ?_
        refine s_if_gt (tgt := 17) hX dX0_isIn_10 (by decide) ?_ ?_
        · exact s_sub [] rfl (hj17 ())
        · refine s_iconst (v := 1) hX dX0_isIn_13 rfl ?_
          refine s_goto (tgt := 18) hX dX0_isIn_14 (by decide) ?_
          exact s_sub [] rfl (hj18 1)
theorem dX0_isTen_0 : decode cX0_isTen 0 = .ok (.iload_n 0, 1) := by decide +kernel
theorem dX0_isTen_1 : decode cX0_isTen 1 = .ok (.i2l, 1) := by decide +kernel
theorem dX0_isTen_2 : decode cX0_isTen 2 = .ok (.lconst 0, 1) := by decide +kernel
theorem dX0_isTen_3 : decode cX0_isTen 3 = .ok (.ldc2_w 99, 3) := by decide +kernel
theorem dX0_isTen_6 : decode cX0_isTen 6 = .ok (.invokestatic 101, 3) := by decide +kernel
theorem dX0_isTen_9 : decode cX0_isTen 9 = .ok (.ireturn, 1) := by decide +kernel
theorem ycX0_isTen : yX0_isTen.cls ≠ "java/lang/invoke/MethodHandle" ∧ yX0_isTen.cls ≠ "java/lang/invoke/VarHandle" ∧ (parseMethodDescriptor yX0_isTen.desc).map (fun d => d.parameters.length) = some 1 := by decide +kernel
noncomputable def f_X0_isTen (p0 : Int32) : Act Int32 :=
  bnd (nt (f_X0_isIn p0.toInt64 (0 : Int64) (4999 : Int64))) fun v1 =>
  purS (ty := .boolean) v1
set_option maxHeartbeats 4000000 in
theorem ct_X0_isTen (l : Launch) (p0 : Int32) : Ct l Pic yX0_isTen (ws_ yX0_isTen cX0_isTen 1 (some FieldType.boolean)) 1 25 cvI [.int p0] (f_X0_isTen p0) := by
  refine Ct.of (own := RX0) (L := [(0, .int p0)]) (plainFor_of_name (by decide)) rfl (by first | decide | simp [lg_sl, rv_cat, cat_i, cat_l]) (by first | rfl | simp [lv_args, rv_cat, cat_i, cat_l]) pcZ (fun X hXl hX hnh hin => ?_)
  subst hXl
  unfold f_X0_isTen
  refine s_iload_n hX dX0_isTen_0 rfl 0 rfl ?_
  refine s_i2l hX dX0_isTen_1 ?_
  refine s_lconst (v := 0) hX dX0_isTen_2 (by decide) ?_
  refine s_ldc2 (v := 4999) hX dX0_isTen_3 q406 ?_
  refine s_callS_I (n := 3) (As := [.long p0.toInt64, .long 0, .long 4999]) (st := []) hX (ct_X0_isIn X.l p0.toInt64 (0 : Int64) (4999 : Int64)) q400 q401 q84 q402 ycX0_isIn (by decide) rfl (by first | decide | simp [rv_cat, cat_i, cat_l]) dX0_isTen_6 (fun v1 => ?_)
  exact s_zret hX dX0_isTen_9
theorem dX0_tellings_0 : decode cX0_tellings 0 = .ok (.iload_n 1, 1) := by decide +kernel
theorem dX0_tellings_1 : decode cX0_tellings 1 = .ok (.ifCond .ne 10, 3) := by decide +kernel
theorem dX0_tellings_4 : decode cX0_tellings 4 = .ok (.aload_n 0, 1) := by decide +kernel
theorem dX0_tellings_5 : decode cX0_tellings 5 = .ok (.getfield 14, 3) := by decide +kernel
theorem dX0_tellings_8 : decode cX0_tellings 8 = .ok (.goto 19, 3) := by decide +kernel
theorem dX0_tellings_11 : decode cX0_tellings 11 = .ok (.iload_n 1, 1) := by decide +kernel
theorem dX0_tellings_12 : decode cX0_tellings 12 = .ok (.iconst 1, 1) := by decide +kernel
theorem dX0_tellings_13 : decode cX0_tellings 13 = .ok (.if_icmp .ne 10, 3) := by decide +kernel
theorem dX0_tellings_16 : decode cX0_tellings 16 = .ok (.aload_n 0, 1) := by decide +kernel
theorem dX0_tellings_17 : decode cX0_tellings 17 = .ok (.getfield 18, 3) := by decide +kernel
theorem dX0_tellings_20 : decode cX0_tellings 20 = .ok (.goto 7, 3) := by decide +kernel
theorem dX0_tellings_23 : decode cX0_tellings 23 = .ok (.aload_n 0, 1) := by decide +kernel
theorem dX0_tellings_24 : decode cX0_tellings 24 = .ok (.getfield 21, 3) := by decide +kernel
theorem dX0_tellings_27 : decode cX0_tellings 27 = .ok (.areturn, 1) := by decide +kernel
theorem ycX0_tellings : yX0_tellings.cls ≠ "java/lang/invoke/MethodHandle" ∧ yX0_tellings.cls ≠ "java/lang/invoke/VarHandle" ∧ (parseMethodDescriptor yX0_tellings.desc).map (fun d => d.parameters.length) = some 1 := by decide +kernel
theorem yvX0_tellings : yX0_tellings.cls = RR 0 ∧ yX0_tellings.cls ≠ "java/lang/invoke/MethodHandle" ∧ yX0_tellings.cls ≠ "java/lang/invoke/VarHandle" ∧ (parseMethodDescriptor yX0_tellings.desc).map (fun d => d.parameters.length) = some 1 := ⟨rfl, ycX0_tellings⟩
noncomputable def f_X0_tellings (p0 : Nat) (p1 : Int32) : Act Nat :=
  jn (fun (v1 : Nat) =>
    pur v1) fun j27 =>
  if ¬ p1 = 0 then
    if ¬ p1 = 1 then
      bnd (getR 0 3 p0) fun v2 =>
      j27 v2
    else
      bnd (getR 0 2 p0) fun v3 =>
      j27 v3
  else
    bnd (getR 0 1 p0) fun v4 =>
    j27 v4
set_option maxHeartbeats 4000000 in
theorem ct_X0_tellings (l : Launch) (p0 : Nat) (p1 : Int32) : Ct l Pic yX0_tellings (ws_ yX0_tellings cX0_tellings 2 (some (FieldType.object "WindGas$Tellings"))) 0 0 cvR [rv p0, .int p1] (f_X0_tellings p0 p1) := by
  refine Ct.of (own := RX0) (L := [(0, rv p0), (1, .int p1)]) (plainFor_of_name (by decide)) rfl (by first | decide | simp [lg_sl, rv_cat, cat_i, cat_l]) (by first | rfl | simp [lv_args, rv_cat, cat_i, cat_l]) pcZ (fun X hXl hX hnh hin => ?_)
  subst hXl
  unfold f_X0_tellings
  refine s_iload_n hX dX0_tellings_0 rfl 1 rfl ?_
  refine s_jn (P := fun j => ∀ (v1 : Nat), Sim X cvR 27 [] [rv v1] (j v1)) ?_ (fun j27 hj27 => ?_)
  · intro v1
    exact s_aret hX (Or.inl ⟨_, rfl⟩) dX0_tellings_27
  · refine s_if_ne (tgt := 11) hX dX0_tellings_1 (by decide) ?_ ?_
    · refine s_iload_n hX dX0_tellings_11 rfl 1 rfl ?_
      refine s_iconst (v := 1) hX dX0_tellings_12 rfl ?_
      refine s_icmp_ne (tgt := 23) hX dX0_tellings_13 (by decide) ?_ ?_
      · refine s_aload_n hX dX0_tellings_23 rfl 0 rfl ?_
        refine s_getR (ci := 0) (j := 3) (ref := "WindGas") hX (pcG 0) in_X0 (Or.inl q269) (by decide) (by decide) (by decide) rfl dX0_tellings_24 (fun _ h9 => h9) (fun v2 => ?_)
        exact s_sub [] rfl (hj27 v2)
      · refine s_aload_n hX dX0_tellings_16 rfl 0 rfl ?_
        refine s_getR (ci := 0) (j := 2) (ref := "WindGas") hX (pcG 0) in_X0 (Or.inl q268) (by decide) (by decide) (by decide) rfl dX0_tellings_17 (fun _ h9 => h9) (fun v3 => ?_)
        refine s_goto (tgt := 27) hX dX0_tellings_20 (by decide) ?_
        exact s_sub [] rfl (hj27 v3)
    · refine s_aload_n hX dX0_tellings_4 rfl 0 rfl ?_
      refine s_getR (ci := 0) (j := 1) (ref := "WindGas") hX (pcG 0) in_X0 (Or.inl q267) (by decide) (by decide) (by decide) rfl dX0_tellings_5 (fun _ h9 => h9) (fun v4 => ?_)
      refine s_goto (tgt := 27) hX dX0_tellings_8 (by decide) ?_
      exact s_sub [] rfl (hj27 v4)
theorem dJ3_init_0 : decode cJ3_init 0 = .ok (.aload_n 0, 1) := by decide +kernel
theorem dJ3_init_1 : decode cJ3_init 1 = .ok (.invokespecial 1, 3) := by decide +kernel
theorem dJ3_init_4 : decode cJ3_init 4 = .ok (.return_, 1) := by decide +kernel
theorem ycJ3_init : yJ3_init.cls ≠ "java/lang/invoke/MethodHandle" ∧ yJ3_init.cls ≠ "java/lang/invoke/VarHandle" ∧ (parseMethodDescriptor yJ3_init.desc).map (fun d => d.parameters.length) = some 0 := by decide +kernel
noncomputable def f_J3_init (p0 : Nat) : Act Unit :=
  nn p0 <|
  pur ()
set_option maxHeartbeats 4000000 in
theorem ct_J3_init (l : Launch) (p0 : Nat) : Ct l Pic yJ3_init (ws_ yJ3_init cJ3_init 1 none) 1 24 cvU [rv p0] (f_J3_init p0) := by
  refine Ct.of (own := RJ3) (L := [(0, rv p0)]) (by decide +kernel) rfl (by first | decide | simp [lg_sl, rv_cat, cat_i, cat_l]) (by first | rfl | simp [lv_args, rv_cat, cat_i, cat_l]) pcZ (fun X hXl hX hnh hin => ?_)
  subst hXl
  unfold f_J3_init
  refine s_aload_n hX dJ3_init_0 rfl 0 rfl ?_
  refine s_oinit hX (by decide) q428 q126 q127 (by decide) (by decide) dJ3_init_1 ?_
  exact s_vret hX dJ3_init_4
theorem dX5_init_0 : decode cX5_init 0 = .ok (.aload_n 0, 1) := by decide +kernel
theorem dX5_init_1 : decode cX5_init 1 = .ok (.invokespecial 1, 3) := by decide +kernel
theorem dX5_init_4 : decode cX5_init 4 = .ok (.aload_n 0, 1) := by decide +kernel
theorem dX5_init_5 : decode cX5_init 5 = .ok (.iload_n 1, 1) := by decide +kernel
theorem dX5_init_6 : decode cX5_init 6 = .ok (.putfield 7, 3) := by decide +kernel
theorem dX5_init_9 : decode cX5_init 9 = .ok (.aload_n 0, 1) := by decide +kernel
theorem dX5_init_10 : decode cX5_init 10 = .ok (.iload_n 2, 1) := by decide +kernel
theorem dX5_init_11 : decode cX5_init 11 = .ok (.putfield 13, 3) := by decide +kernel
theorem dX5_init_14 : decode cX5_init 14 = .ok (.aload_n 0, 1) := by decide +kernel
theorem dX5_init_15 : decode cX5_init 15 = .ok (.iload_n 3, 1) := by decide +kernel
theorem dX5_init_16 : decode cX5_init 16 = .ok (.putfield 16, 3) := by decide +kernel
theorem dX5_init_19 : decode cX5_init 19 = .ok (.return_, 1) := by decide +kernel
theorem ycX5_init : yX5_init.cls ≠ "java/lang/invoke/MethodHandle" ∧ yX5_init.cls ≠ "java/lang/invoke/VarHandle" ∧ (parseMethodDescriptor yX5_init.desc).map (fun d => d.parameters.length) = some 3 := by decide +kernel
theorem yvX5_init : yX5_init.cls = RR 5 ∧ yX5_init.cls ≠ "java/lang/invoke/MethodHandle" ∧ yX5_init.cls ≠ "java/lang/invoke/VarHandle" ∧ (parseMethodDescriptor yX5_init.desc).map (fun d => d.parameters.length) = some 3 := ⟨rfl, ycX5_init⟩
noncomputable def f_X5_init (p0 : Nat) (p1 : Int32) (p2 : Int32) (p3 : Int32) : Act Unit :=
  bnd (gd 5 p0 (nt (f_J3_init p0))) fun _ =>
  bnd (putI 5 0 p0 p1) fun _ =>
  bnd (putI 5 1 p0 p2) fun _ =>
  bnd (putI 5 2 p0 p3) fun _ =>
  pur ()
set_option maxHeartbeats 4000000 in
theorem ct_X5_init (l : Launch) (p0 : Nat) (p1 : Int32) (p2 : Int32) (p3 : Int32) : Ct l Pic yX5_init (ws_ yX5_init cX5_init 4 none) 2 44 cvU [rv p0, .int p1, .int p2, .int p3] (f_X5_init p0 p1 p2 p3) := by
  refine Ct.of (own := RX5) (L := [(0, rv p0), (1, .int p1), (2, .int p2), (3, .int p3)]) (plainFor_of_name (by decide)) rfl (by first | decide | simp [lg_sl, rv_cat, cat_i, cat_l]) (by first | rfl | simp [lv_args, rv_cat, cat_i, cat_l]) pcZ (fun X hXl hX hnh hin => ?_)
  subst hXl
  unfold f_X5_init
  refine s_aload_n hX dX5_init_0 rfl 0 rfl ?_
  refine s_callI_U (ci := 5) (n := 0) (As := []) (st := []) hX (pcK 6) (by decide) (ct_J3_init X.l p0) q425 q426 q92 q427 rfl ycJ3_init (by decide) rfl (by first | decide | simp [rv_cat, cat_i, cat_l]) dX5_init_1 (fun _ => ?_)
  refine s_aload_n hX dX5_init_4 rfl 0 rfl ?_
  refine s_iload_n hX dX5_init_5 rfl 1 rfl ?_
  refine s_putIF (ci := 5) (j := 0) (ref := "WindGas$Span") hX (pcG 5) (pcP 5) in_X5 tyX5_ok nmX5 q429 (by decide) (by decide) (by decide) rfl rfl rfl (hin rfl) rfl dX5_init_6 (fun _ h9 => h9) ?_
  refine s_aload_n hX dX5_init_9 rfl 0 rfl ?_
  refine s_iload_n hX dX5_init_10 rfl 2 rfl ?_
  refine s_putIF (ci := 5) (j := 1) (ref := "WindGas$Span") hX (pcG 5) (pcP 5) in_X5 tyX5_ok nmX5 q430 (by decide) (by decide) (by decide) rfl rfl rfl (hin rfl) rfl dX5_init_11 (fun _ h9 => h9) ?_
  refine s_aload_n hX dX5_init_14 rfl 0 rfl ?_
  refine s_iload_n hX dX5_init_15 rfl 3 rfl ?_
  refine s_putIF (ci := 5) (j := 2) (ref := "WindGas$Span") hX (pcG 5) (pcP 5) in_X5 tyX5_ok nmX5 q431 (by decide) (by decide) (by decide) rfl rfl rfl (hin rfl) rfl dX5_init_16 (fun _ h9 => h9) ?_
  exact s_vret hX dX5_init_19
theorem dX1_add_0 : decode cX1_add 0 = .ok (.iload_n 3, 1) := by decide +kernel
theorem dX1_add_1 : decode cX1_add 1 = .ok (.i2l, 1) := by decide +kernel
theorem dX1_add_2 : decode cX1_add 2 = .ok (.aload_n 0, 1) := by decide +kernel
theorem dX1_add_3 : decode cX1_add 3 = .ok (.getfield 18, 3) := by decide +kernel
theorem dX1_add_6 : decode cX1_add 6 = .ok (.i2l, 1) := by decide +kernel
theorem dX1_add_7 : decode cX1_add 7 = .ok (.aload_n 0, 1) := by decide +kernel
theorem dX1_add_8 : decode cX1_add 8 = .ok (.getfield 22, 3) := by decide +kernel
theorem dX1_add_11 : decode cX1_add 11 = .ok (.i2l, 1) := by decide +kernel
theorem dX1_add_12 : decode cX1_add 12 = .ok (.invokestatic 25, 3) := by decide +kernel
theorem dX1_add_15 : decode cX1_add 15 = .ok (.ifCond .eq 15, 3) := by decide +kernel
theorem dX1_add_18 : decode cX1_add 18 = .ok (.aload_n 0, 1) := by decide +kernel
theorem dX1_add_19 : decode cX1_add 19 = .ok (.getfield 12, 3) := by decide +kernel
theorem dX1_add_22 : decode cX1_add 22 = .ok (.invokevirtual 29, 3) := by decide +kernel
theorem dX1_add_25 : decode cX1_add 25 = .ok (.bipush 80, 2) := by decide +kernel
theorem dX1_add_27 : decode cX1_add 27 = .ok (.if_icmp .ne 5, 3) := by decide +kernel
theorem dX1_add_30 : decode cX1_add 30 = .ok (.iconst 0, 1) := by decide +kernel
theorem dX1_add_31 : decode cX1_add 31 = .ok (.ireturn, 1) := by decide +kernel
theorem dX1_add_32 : decode cX1_add 32 = .ok (.aload_n 0, 1) := by decide +kernel
theorem dX1_add_33 : decode cX1_add 33 = .ok (.getfield 12, 3) := by decide +kernel
theorem dX1_add_36 : decode cX1_add 36 = .ok (.new 33, 3) := by decide +kernel
theorem dX1_add_39 : decode cX1_add 39 = .ok (.dup, 1) := by decide +kernel
theorem dX1_add_40 : decode cX1_add 40 = .ok (.iload_n 1, 1) := by decide +kernel
theorem dX1_add_41 : decode cX1_add 41 = .ok (.iload_n 2, 1) := by decide +kernel
theorem dX1_add_42 : decode cX1_add 42 = .ok (.iload_n 3, 1) := by decide +kernel
theorem dX1_add_43 : decode cX1_add 43 = .ok (.invokespecial 35, 3) := by decide +kernel
theorem dX1_add_46 : decode cX1_add 46 = .ok (.invokevirtual 38, 3) := by decide +kernel
theorem dX1_add_49 : decode cX1_add 49 = .ok (.pop, 1) := by decide +kernel
theorem dX1_add_50 : decode cX1_add 50 = .ok (.iconst 1, 1) := by decide +kernel
theorem dX1_add_51 : decode cX1_add 51 = .ok (.ireturn, 1) := by decide +kernel
theorem ycX1_add : yX1_add.cls ≠ "java/lang/invoke/MethodHandle" ∧ yX1_add.cls ≠ "java/lang/invoke/VarHandle" ∧ (parseMethodDescriptor yX1_add.desc).map (fun d => d.parameters.length) = some 3 := by decide +kernel
theorem yvX1_add : yX1_add.cls = RR 1 ∧ yX1_add.cls ≠ "java/lang/invoke/MethodHandle" ∧ yX1_add.cls ≠ "java/lang/invoke/VarHandle" ∧ (parseMethodDescriptor yX1_add.desc).map (fun d => d.parameters.length) = some 3 := ⟨rfl, ycX1_add⟩
noncomputable def f_X1_add (p0 : Nat) (p1 : Int32) (p2 : Int32) (p3 : Int32) : Act Int32 :=
  bnd (getI 1 0 p0) fun v1 =>
  bnd (getI 1 1 p0) fun v2 =>
  bnd (nt (f_X0_isIn p3.toInt64 v1.toInt64 v2.toInt64)) fun v3 =>
  jn (fun (_ : Unit) =>
    purS (ty := .boolean) 0) fun j30 =>
  if v3 = 0 then
    j30 ()
  else
    bnd (getR 1 2 p0) fun v4 =>
    bnd (gd 17 v4 (nt (P_size v4))) fun v5 =>
    if ¬ v5 = 80 then
      bnd (getR 1 2 p0) fun v6 =>
      bnd (newO 5 3) fun v7 =>
      bnd (gd 5 v7 (nt (f_X5_init v7 p1 p2 p3))) fun _ =>
      bnd (gd 17 v6 (nt (P_add v6 v7))) fun v8 =>
      purS (ty := .boolean) 1
    else
      j30 ()
set_option maxHeartbeats 4000000 in
theorem ct_X1_add (l : Launch) (p0 : Nat) (p1 : Int32) (p2 : Int32) (p3 : Int32) : Ct l Pic yX1_add (ws_ yX1_add cX1_add 4 (some FieldType.boolean)) 7 171 cvI [rv p0, .int p1, .int p2, .int p3] (f_X1_add p0 p1 p2 p3) := by
  refine Ct.of (own := RX1) (L := [(0, rv p0), (1, .int p1), (2, .int p2), (3, .int p3)]) (plainFor_of_name (by decide)) rfl (by first | decide | simp [lg_sl, rv_cat, cat_i, cat_l]) (by first | rfl | simp [lv_args, rv_cat, cat_i, cat_l]) pcZ (fun X hXl hX hnh hin => ?_)
  subst hXl
  unfold f_X1_add
  refine s_iload_n hX dX1_add_0 rfl 3 rfl ?_
  refine s_i2l hX dX1_add_1 ?_
  refine s_aload_n hX dX1_add_2 rfl 0 rfl ?_
  refine s_getI (ci := 1) (j := 0) (ref := "WindGas$Tellings") hX (pcG 1) in_X1 (Or.inl q160) (by decide) (by decide) (by decide) rfl dX1_add_3 (fun _ h9 => h9) (fun v1 => ?_)
  refine s_i2l hX dX1_add_6 ?_
  refine s_aload_n hX dX1_add_7 rfl 0 rfl ?_
  refine s_getI (ci := 1) (j := 1) (ref := "WindGas$Tellings") hX (pcG 1) in_X1 (Or.inl q161) (by decide) (by decide) (by decide) rfl dX1_add_8 (fun _ h9 => h9) (fun v2 => ?_)
  refine s_i2l hX dX1_add_11 ?_
  refine s_callSN_I (n := 3) (As := [.long p3.toInt64, .long v1.toInt64, .long v2.toInt64]) (st := []) hX (ct_X0_isIn X.l p3.toInt64 v1.toInt64 v2.toInt64) q415 q401 q84 q402 ycX0_isIn (by decide) rfl (by first | decide | simp [rv_cat, cat_i, cat_l]) dX1_add_12 (fun v3 => ?_)
  refine s_jn (P := fun j => ∀ (u : Unit), Sim X cvI 30 [] [] (j u)) ?_ (fun j30 hj30 => ?_)
  · intro u
    refine s_iconst (v := 0) hX dX1_add_30 rfl ?_
    exact s_zret hX dX1_add_31
  · refine s_if_eq (tgt := 30) hX dX1_add_15 (by decide) ?_ ?_
    · exact s_sub [] rfl (hj30 ())
    · refine s_aload_n hX dX1_add_18 rfl 0 rfl ?_
      refine s_getR (ci := 1) (j := 2) (ref := "WindGas$Tellings") hX (pcG 1) in_X1 (Or.inl q162) (by decide) (by decide) (by decide) rfl dX1_add_19 (fun _ h9 => h9) (fun v4 => ?_)
      refine s_callV_I (ci := 17) (n := 0) (As := []) (st := []) hX (pcK 18) (by decide) (pt_size X.l v4) q416 q417 q418 q88 q419 yvJ2_size (by decide) rfl (by first | decide | simp [rv_cat, cat_i, cat_l]) dX1_add_22 (fun v5 => ?_)
      refine s_bipush (v := 80) hX dX1_add_25 (by decide) ?_
      refine s_icmp_ne (tgt := 32) hX dX1_add_27 (by decide) ?_ ?_
      · refine s_aload_n hX dX1_add_32 rfl 0 rfl ?_
        refine s_getR (ci := 1) (j := 2) (ref := "WindGas$Tellings") hX (pcG 1) in_X1 (Or.inl q162) (by decide) (by decide) (by decide) rfl dX1_add_33 (fun _ h9 => h9) (fun v6 => ?_)
        refine s_new (ci := 5) hX (pcN 5) in_X5 tyX5_ok (by decide) (by decide) q420 q421 q93 dX1_add_36 (fun v7 => ?_)
        refine s_dup hX dX1_add_39 (rv_cat _) ?_
        refine s_iload_n hX dX1_add_40 rfl 1 rfl ?_
        refine s_iload_n hX dX1_add_41 rfl 2 rfl ?_
        refine s_iload_n hX dX1_add_42 rfl 3 rfl ?_
        refine s_callIN_U (ci := 5) (n := 3) (As := [.int p1, .int p2, .int p3]) (st := [rv v7, rv v6]) hX (pcK 6) (by decide) (ct_X5_init X.l v7 p1 p2 p3) q422 q423 q93 q424 rfl ycX5_init (by decide) rfl (by first | decide | simp [rv_cat, cat_i, cat_l]) dX1_add_43 (fun _ => ?_)
        refine s_callV_I (ci := 17) (n := 1) (As := [rv v7]) (st := []) hX (pcK 18) (by decide) (pt_add X.l v6 v7) q439 q440 q441 q88 q442 yvJ2_add (by decide) rfl (by first | decide | simp [rv_cat, cat_i, cat_l]) dX1_add_46 (fun v8 => ?_)
        refine s_pop hX dX1_add_49 rfl ?_
        refine s_iconst (v := 1) hX dX1_add_50 rfl ?_
        exact s_zret hX dX1_add_51
      · exact s_sub [] rfl (hj30 ())
theorem dX0_tell_0 : decode cX0_tell 0 = .ok (.iload_n 1, 1) := by decide +kernel
theorem dX0_tell_1 : decode cX0_tell 1 = .ok (.i2l, 1) := by decide +kernel
theorem dX0_tell_2 : decode cX0_tell 2 = .ok (.lconst 0, 1) := by decide +kernel
theorem dX0_tell_3 : decode cX0_tell 3 = .ok (.ldc2_w 105, 3) := by decide +kernel
theorem dX0_tell_6 : decode cX0_tell 6 = .ok (.invokestatic 101, 3) := by decide +kernel
theorem dX0_tell_9 : decode cX0_tell 9 = .ok (.ifCond .eq 41, 3) := by decide +kernel
theorem dX0_tell_12 : decode cX0_tell 12 = .ok (.iload_n 2, 1) := by decide +kernel
theorem dX0_tell_13 : decode cX0_tell 13 = .ok (.invokestatic 107, 3) := by decide +kernel
theorem dX0_tell_16 : decode cX0_tell 16 = .ok (.ifCond .eq 34, 3) := by decide +kernel
theorem dX0_tell_19 : decode cX0_tell 19 = .ok (.iload_n 3, 1) := by decide +kernel
theorem dX0_tell_20 : decode cX0_tell 20 = .ok (.invokestatic 107, 3) := by decide +kernel
theorem dX0_tell_23 : decode cX0_tell 23 = .ok (.ifCond .eq 27, 3) := by decide +kernel
theorem dX0_tell_26 : decode cX0_tell 26 = .ok (.iload_n 2, 1) := by decide +kernel
theorem dX0_tell_27 : decode cX0_tell 27 = .ok (.iload_n 3, 1) := by decide +kernel
theorem dX0_tell_28 : decode cX0_tell 28 = .ok (.if_icmp .gt 22, 3) := by decide +kernel
theorem dX0_tell_31 : decode cX0_tell 31 = .ok (.aload_n 0, 1) := by decide +kernel
theorem dX0_tell_32 : decode cX0_tell 32 = .ok (.iload_n 1, 1) := by decide +kernel
theorem dX0_tell_33 : decode cX0_tell 33 = .ok (.invokevirtual 111, 3) := by decide +kernel
theorem dX0_tell_36 : decode cX0_tell 36 = .ok (.iload_n 2, 1) := by decide +kernel
theorem dX0_tell_37 : decode cX0_tell 37 = .ok (.iload_n 3, 1) := by decide +kernel
theorem dX0_tell_38 : decode cX0_tell 38 = .ok (.iload 4, 2) := by decide +kernel
theorem dX0_tell_40 : decode cX0_tell 40 = .ok (.invokevirtual 115, 3) := by decide +kernel
theorem dX0_tell_43 : decode cX0_tell 43 = .ok (.ifCond .eq 7, 3) := by decide +kernel
theorem dX0_tell_46 : decode cX0_tell 46 = .ok (.iconst 1, 1) := by decide +kernel
theorem dX0_tell_47 : decode cX0_tell 47 = .ok (.goto 4, 3) := by decide +kernel
theorem dX0_tell_50 : decode cX0_tell 50 = .ok (.iconst 0, 1) := by decide +kernel
theorem dX0_tell_51 : decode cX0_tell 51 = .ok (.ireturn, 1) := by decide +kernel
theorem ycX0_tell : yX0_tell.cls ≠ "java/lang/invoke/MethodHandle" ∧ yX0_tell.cls ≠ "java/lang/invoke/VarHandle" ∧ (parseMethodDescriptor yX0_tell.desc).map (fun d => d.parameters.length) = some 4 := by decide +kernel
theorem yvX0_tell : yX0_tell.cls = RR 0 ∧ yX0_tell.cls ≠ "java/lang/invoke/MethodHandle" ∧ yX0_tell.cls ≠ "java/lang/invoke/VarHandle" ∧ (parseMethodDescriptor yX0_tell.desc).map (fun d => d.parameters.length) = some 4 := ⟨rfl, ycX0_tell⟩
noncomputable def f_X0_tell (p0 : Nat) (p1 : Int32) (p2 : Int32) (p3 : Int32) (p4 : Int32) : Act Int32 :=
  bnd (nt (f_X0_isIn p1.toInt64 (0 : Int64) (2 : Int64))) fun v1 =>
  jn (fun (v2 : Int32) =>
    purS (ty := .boolean) v2) fun j51 =>
  jn (fun (_ : Unit) =>
    j51 0) fun j50 =>
  if v1 = 0 then
    j50 ()
  else
    bnd (nt (f_X0_isTen p2)) fun v3 =>
    if v3 = 0 then
      j50 ()
    else
      bnd (nt (f_X0_isTen p3)) fun v4 =>
      if v4 = 0 then
        j50 ()
      else
        if p3 < p2 then
          j50 ()
        else
          bnd (gd 0 p0 (nt (f_X0_tellings p0 p1))) fun v5 =>
          bnd (gd 1 v5 (nt (f_X1_add v5 p2 p3 p4))) fun v6 =>
          if v6 = 0 then
            j50 ()
          else
            j51 1
set_option maxHeartbeats 4000000 in
theorem ct_X0_tell (l : Launch) (p0 : Nat) (p1 : Int32) (p2 : Int32) (p3 : Int32) (p4 : Int32) : Ct l Pic yX0_tell (ws_ yX0_tell cX0_tell 5 (some FieldType.boolean)) 8 194 cvI [rv p0, .int p1, .int p2, .int p3, .int p4] (f_X0_tell p0 p1 p2 p3 p4) := by
  refine Ct.of (own := RX0) (L := [(0, rv p0), (1, .int p1), (2, .int p2), (3, .int p3), (4, .int p4)]) (plainFor_of_name (by decide)) rfl (by first | decide | simp [lg_sl, rv_cat, cat_i, cat_l]) (by first | rfl | simp [lv_args, rv_cat, cat_i, cat_l]) pcZ (fun X hXl hX hnh hin => ?_)
  subst hXl
  unfold f_X0_tell
  refine s_iload_n hX dX0_tell_0 rfl 1 rfl ?_
  refine s_i2l hX dX0_tell_1 ?_
  refine s_lconst (v := 0) hX dX0_tell_2 (by decide) ?_
  refine s_ldc2 (v := 2) hX dX0_tell_3 q399 ?_
  refine s_callS_I (n := 3) (As := [.long p1.toInt64, .long 0, .long 2]) (st := []) hX (ct_X0_isIn X.l p1.toInt64 (0 : Int64) (2 : Int64)) q400 q401 q84 q402 ycX0_isIn (by decide) rfl (by first | decide | simp [rv_cat, cat_i, cat_l]) dX0_tell_6 (fun v1 => ?_)
  refine s_jn (P := fun j => ∀ (v2 : Int32), Sim X cvI 51 [] [.int v2] (j v2)) ?_ (fun j51 hj51 => ?_)
  · intro v2
    exact s_zret hX dX0_tell_51
  · refine s_jn (P := fun j => ∀ (u : Unit), Sim X cvI 50 [] [] (j u)) ?_ (fun j50 hj50 => ?_)
    · intro u
      refine s_iconst (v := 0) hX dX0_tell_50 rfl ?_
      exact hj51 0
    · refine s_if_eq (tgt := 50) hX dX0_tell_9 (by decide) ?_ ?_
      · exact s_sub [] rfl (hj50 ())
      · refine s_iload_n hX dX0_tell_12 rfl 2 rfl ?_
        refine s_callS_I (n := 1) (As := [.int p2]) (st := []) hX (ct_X0_isTen X.l p2) q403 q404 q84 q405 ycX0_isTen (by decide) rfl (by first | decide | simp [rv_cat, cat_i, cat_l]) dX0_tell_13 (fun v3 => ?_)
        refine s_if_eq (tgt := 50) hX dX0_tell_16 (by decide) ?_ ?_
        · exact s_sub [] rfl (hj50 ())
        · refine s_iload_n hX dX0_tell_19 rfl 3 rfl ?_
          refine s_callS_I (n := 1) (As := [.int p3]) (st := []) hX (ct_X0_isTen X.l p3) q403 q404 q84 q405 ycX0_isTen (by decide) rfl (by first | decide | simp [rv_cat, cat_i, cat_l]) dX0_tell_20 (fun v4 => ?_)
          refine s_if_eq (tgt := 50) hX dX0_tell_23 (by decide) ?_ ?_
          · exact s_sub [] rfl (hj50 ())
          · refine s_iload_n hX dX0_tell_26 rfl 2 rfl ?_
            refine s_iload_n hX dX0_tell_27 rfl 3 rfl ?_
            refine s_icmp_gt (tgt := 50) hX dX0_tell_28 (by decide) ?_ ?_
            · exact s_sub [] rfl (hj50 ())
            · refine s_aload_n hX dX0_tell_31 rfl 0 rfl ?_
              refine s_iload_n hX dX0_tell_32 rfl 1 rfl ?_
              refine s_callV_R (ci := 0) (n := 1) (As := [.int p1]) (st := []) hX (pcK 1) (by decide) (ct_X0_tellings X.l p0 p1) q407 q409 qs0 q84 q410 yvX0_tellings (by decide) rfl (by first | decide | simp [rv_cat, cat_i, cat_l]) dX0_tell_33 (fun v5 => ?_)
              refine s_iload_n hX dX0_tell_36 rfl 2 rfl ?_
              refine s_iload_n hX dX0_tell_37 rfl 3 rfl ?_
              refine s_iload hX dX0_tell_38 4 rfl ?_
              refine s_callV_I (ci := 1) (n := 3) (As := [.int p2, .int p3, .int p4]) (st := []) hX (pcK 2) (by decide) (ct_X1_add X.l v5 p2 p3 p4) q411 q412 q413 q85 q414 yvX1_add (by decide) rfl (by first | decide | simp [rv_cat, cat_i, cat_l]) dX0_tell_40 (fun v6 => ?_)
              refine s_if_eq (tgt := 50) hX dX0_tell_43 (by decide) ?_ ?_
              · exact s_sub [] rfl (hj50 ())
              · refine s_iconst (v := 1) hX dX0_tell_46 rfl ?_
                refine s_goto (tgt := 51) hX dX0_tell_47 (by decide) ?_
                exact s_sub [] rfl (hj51 1)
theorem dX5_from_0 : decode cX5_from 0 = .ok (.aload_n 0, 1) := by decide +kernel
theorem dX5_from_1 : decode cX5_from 1 = .ok (.getfield 7, 3) := by decide +kernel
theorem dX5_from_4 : decode cX5_from 4 = .ok (.ireturn, 1) := by decide +kernel
theorem ycX5_from : yX5_from.cls ≠ "java/lang/invoke/MethodHandle" ∧ yX5_from.cls ≠ "java/lang/invoke/VarHandle" ∧ (parseMethodDescriptor yX5_from.desc).map (fun d => d.parameters.length) = some 0 := by decide +kernel
theorem yvX5_from : yX5_from.cls = RR 5 ∧ yX5_from.cls ≠ "java/lang/invoke/MethodHandle" ∧ yX5_from.cls ≠ "java/lang/invoke/VarHandle" ∧ (parseMethodDescriptor yX5_from.desc).map (fun d => d.parameters.length) = some 0 := ⟨rfl, ycX5_from⟩
noncomputable def f_X5_from (p0 : Nat) : Act Int32 :=
  bnd (getI 5 0 p0) fun v1 =>
  pur v1
set_option maxHeartbeats 4000000 in
theorem ct_X5_from (l : Launch) (p0 : Nat) : Ct l Pic yX5_from (ws_ yX5_from cX5_from 1 (some FieldType.int)) 0 0 cvI [rv p0] (f_X5_from p0) := by
  refine Ct.of (own := RX5) (L := [(0, rv p0)]) (plainFor_of_name (by decide)) rfl (by first | decide | simp [lg_sl, rv_cat, cat_i, cat_l]) (by first | rfl | simp [lv_args, rv_cat, cat_i, cat_l]) pcZ (fun X hXl hX hnh hin => ?_)
  subst hXl
  unfold f_X5_from
  refine s_aload_n hX dX5_from_0 rfl 0 rfl ?_
  refine s_getI (ci := 5) (j := 0) (ref := "WindGas$Span") hX (pcG 5) in_X5 (Or.inl q429) (by decide) (by decide) (by decide) rfl dX5_from_1 (fun _ h9 => h9) (fun v1 => ?_)
  exact s_iret hX dX5_from_4
theorem dX5_to_0 : decode cX5_to 0 = .ok (.aload_n 0, 1) := by decide +kernel
theorem dX5_to_1 : decode cX5_to 1 = .ok (.getfield 13, 3) := by decide +kernel
theorem dX5_to_4 : decode cX5_to 4 = .ok (.ireturn, 1) := by decide +kernel
theorem ycX5_to : yX5_to.cls ≠ "java/lang/invoke/MethodHandle" ∧ yX5_to.cls ≠ "java/lang/invoke/VarHandle" ∧ (parseMethodDescriptor yX5_to.desc).map (fun d => d.parameters.length) = some 0 := by decide +kernel
theorem yvX5_to : yX5_to.cls = RR 5 ∧ yX5_to.cls ≠ "java/lang/invoke/MethodHandle" ∧ yX5_to.cls ≠ "java/lang/invoke/VarHandle" ∧ (parseMethodDescriptor yX5_to.desc).map (fun d => d.parameters.length) = some 0 := ⟨rfl, ycX5_to⟩
noncomputable def f_X5_to (p0 : Nat) : Act Int32 :=
  bnd (getI 5 1 p0) fun v1 =>
  pur v1
set_option maxHeartbeats 4000000 in
theorem ct_X5_to (l : Launch) (p0 : Nat) : Ct l Pic yX5_to (ws_ yX5_to cX5_to 1 (some FieldType.int)) 0 0 cvI [rv p0] (f_X5_to p0) := by
  refine Ct.of (own := RX5) (L := [(0, rv p0)]) (plainFor_of_name (by decide)) rfl (by first | decide | simp [lg_sl, rv_cat, cat_i, cat_l]) (by first | rfl | simp [lv_args, rv_cat, cat_i, cat_l]) pcZ (fun X hXl hX hnh hin => ?_)
  subst hXl
  unfold f_X5_to
  refine s_aload_n hX dX5_to_0 rfl 0 rfl ?_
  refine s_getI (ci := 5) (j := 1) (ref := "WindGas$Span") hX (pcG 5) in_X5 (Or.inl q430) (by decide) (by decide) (by decide) rfl dX5_to_1 (fun _ h9 => h9) (fun v1 => ?_)
  exact s_iret hX dX5_to_4
theorem dX5_v_0 : decode cX5_v 0 = .ok (.aload_n 0, 1) := by decide +kernel
theorem dX5_v_1 : decode cX5_v 1 = .ok (.getfield 16, 3) := by decide +kernel
theorem dX5_v_4 : decode cX5_v 4 = .ok (.ireturn, 1) := by decide +kernel
theorem ycX5_v : yX5_v.cls ≠ "java/lang/invoke/MethodHandle" ∧ yX5_v.cls ≠ "java/lang/invoke/VarHandle" ∧ (parseMethodDescriptor yX5_v.desc).map (fun d => d.parameters.length) = some 0 := by decide +kernel
theorem yvX5_v : yX5_v.cls = RR 5 ∧ yX5_v.cls ≠ "java/lang/invoke/MethodHandle" ∧ yX5_v.cls ≠ "java/lang/invoke/VarHandle" ∧ (parseMethodDescriptor yX5_v.desc).map (fun d => d.parameters.length) = some 0 := ⟨rfl, ycX5_v⟩
noncomputable def f_X5_v (p0 : Nat) : Act Int32 :=
  bnd (getI 5 2 p0) fun v1 =>
  pur v1
set_option maxHeartbeats 4000000 in
theorem ct_X5_v (l : Launch) (p0 : Nat) : Ct l Pic yX5_v (ws_ yX5_v cX5_v 1 (some FieldType.int)) 0 0 cvI [rv p0] (f_X5_v p0) := by
  refine Ct.of (own := RX5) (L := [(0, rv p0)]) (plainFor_of_name (by decide)) rfl (by first | decide | simp [lg_sl, rv_cat, cat_i, cat_l]) (by first | rfl | simp [lv_args, rv_cat, cat_i, cat_l]) pcZ (fun X hXl hX hnh hin => ?_)
  subst hXl
  unfold f_X5_v
  refine s_aload_n hX dX5_v_0 rfl 0 rfl ?_
  refine s_getI (ci := 5) (j := 2) (ref := "WindGas$Span") hX (pcG 5) in_X5 (Or.inl q431) (by decide) (by decide) (by decide) rfl dX5_v_1 (fun _ h9 => h9) (fun v1 => ?_)
  exact s_iret hX dX5_v_4
theorem dX1_at_0 : decode cX1_at 0 = .ok (.aload_n 0, 1) := by decide +kernel
theorem dX1_at_1 : decode cX1_at 1 = .ok (.getfield 12, 3) := by decide +kernel
theorem dX1_at_4 : decode cX1_at 4 = .ok (.invokevirtual 29, 3) := by decide +kernel
theorem dX1_at_7 : decode cX1_at 7 = .ok (.iconst 1, 1) := by decide +kernel
theorem dX1_at_8 : decode cX1_at 8 = .ok (.isub, 1) := by decide +kernel
theorem dX1_at_9 : decode cX1_at 9 = .ok (.istore_n 2, 1) := by decide +kernel
theorem dX1_at_10 : decode cX1_at 10 = .ok (.iload_n 2, 1) := by decide +kernel
theorem dX1_at_11 : decode cX1_at 11 = .ok (.ifCond .lt 60, 3) := by decide +kernel
theorem dX1_at_14 : decode cX1_at 14 = .ok (.iload_n 1, 1) := by decide +kernel
theorem dX1_at_15 : decode cX1_at 15 = .ok (.aload_n 0, 1) := by decide +kernel
theorem dX1_at_16 : decode cX1_at 16 = .ok (.getfield 12, 3) := by decide +kernel
theorem dX1_at_19 : decode cX1_at 19 = .ok (.iload_n 2, 1) := by decide +kernel
theorem dX1_at_20 : decode cX1_at 20 = .ok (.invokevirtual 42, 3) := by decide +kernel
theorem dX1_at_23 : decode cX1_at 23 = .ok (.checkcast 33, 3) := by decide +kernel
theorem dX1_at_26 : decode cX1_at 26 = .ok (.invokevirtual 46, 3) := by decide +kernel
theorem dX1_at_29 : decode cX1_at 29 = .ok (.if_icmp .lt 36, 3) := by decide +kernel
theorem dX1_at_32 : decode cX1_at 32 = .ok (.iload_n 1, 1) := by decide +kernel
theorem dX1_at_33 : decode cX1_at 33 = .ok (.aload_n 0, 1) := by decide +kernel
theorem dX1_at_34 : decode cX1_at 34 = .ok (.getfield 12, 3) := by decide +kernel
theorem dX1_at_37 : decode cX1_at 37 = .ok (.iload_n 2, 1) := by decide +kernel
theorem dX1_at_38 : decode cX1_at 38 = .ok (.invokevirtual 42, 3) := by decide +kernel
theorem dX1_at_41 : decode cX1_at 41 = .ok (.checkcast 33, 3) := by decide +kernel
theorem dX1_at_44 : decode cX1_at 44 = .ok (.invokevirtual 49, 3) := by decide +kernel
theorem dX1_at_47 : decode cX1_at 47 = .ok (.if_icmp .gt 18, 3) := by decide +kernel
theorem dX1_at_50 : decode cX1_at 50 = .ok (.aload_n 0, 1) := by decide +kernel
theorem dX1_at_51 : decode cX1_at 51 = .ok (.getfield 12, 3) := by decide +kernel
theorem dX1_at_54 : decode cX1_at 54 = .ok (.iload_n 2, 1) := by decide +kernel
theorem dX1_at_55 : decode cX1_at 55 = .ok (.invokevirtual 42, 3) := by decide +kernel
theorem dX1_at_58 : decode cX1_at 58 = .ok (.checkcast 33, 3) := by decide +kernel
theorem dX1_at_61 : decode cX1_at 61 = .ok (.invokevirtual 52, 3) := by decide +kernel
theorem dX1_at_64 : decode cX1_at 64 = .ok (.ireturn, 1) := by decide +kernel
theorem dX1_at_65 : decode cX1_at 65 = .ok (.iinc 2 (-1), 3) := by decide +kernel
theorem dX1_at_68 : decode cX1_at 68 = .ok (.goto (-58), 3) := by decide +kernel
theorem dX1_at_71 : decode cX1_at 71 = .ok (.iconst 0, 1) := by decide +kernel
theorem dX1_at_72 : decode cX1_at 72 = .ok (.ireturn, 1) := by decide +kernel
theorem ycX1_at : yX1_at.cls ≠ "java/lang/invoke/MethodHandle" ∧ yX1_at.cls ≠ "java/lang/invoke/VarHandle" ∧ (parseMethodDescriptor yX1_at.desc).map (fun d => d.parameters.length) = some 1 := by decide +kernel
theorem yvX1_at : yX1_at.cls = RR 1 ∧ yX1_at.cls ≠ "java/lang/invoke/MethodHandle" ∧ yX1_at.cls ≠ "java/lang/invoke/VarHandle" ∧ (parseMethodDescriptor yX1_at.desc).map (fun d => d.parameters.length) = some 1 := ⟨rfl, ycX1_at⟩
noncomputable def lp_X1_at_10 (p0 : Nat) (p1 : Int32) (j50 : Int32 → Act Int32) (q : Nat) : Int32 → Act Int32 := match q with
  | 0 => fun _ => fail
  | q + 1 => fun w3 =>
    if w3 < 0 then
      pur 0
    else
      bnd (getR 1 2 p0) fun v8 =>
      bnd (gd 17 v8 (nt (P_get v8 w3))) fun v9 =>
      bnd (cst [6] v9) fun _ =>
      bnd (gd 5 v9 (nt (f_X5_from v9))) fun v10 =>
      jn (fun (_ : Unit) =>
        (lp_X1_at_10 p0 p1 j50 q) (w3 + (-1))) fun j65 =>
      if p1 < v10 then
        j65 ()
      else
        bnd (getR 1 2 p0) fun v11 =>
        bnd (gd 17 v11 (nt (P_get v11 w3))) fun v12 =>
        bnd (cst [6] v12) fun _ =>
        bnd (gd 5 v12 (nt (f_X5_to v12))) fun v13 =>
        if v13 < p1 then
          j65 ()
        else
          j50 w3
noncomputable def f_X1_at (n : Nat) (p0 : Nat) (p1 : Int32) : Act Int32 :=
  bnd (getR 1 2 p0) fun v1 =>
  bnd (gd 17 v1 (nt (P_size v1))) fun v2 =>
  jn (fun (v4 : Int32) =>
    bnd (getR 1 2 p0) fun v5 =>
    bnd (gd 17 v5 (nt (P_get v5 v4))) fun v6 =>
    bnd (cst [6] v6) fun _ =>
    bnd (gd 5 v6 (nt (f_X5_v v6))) fun v7 =>
    pur v7) fun j50 =>
  lp_X1_at_10 p0 p1 j50 n (v2 - 1)
set_option maxHeartbeats 4000000 in
theorem s_lp_X1_at_10 {X : Cx} (hX : Ok X Pic cX1_at RX1 3 (some FieldType.int) 3 64) (hnh : Noh X) (p0 : Nat) (p1 : Int32) (j50 : Int32 → Act Int32) (hj50 : ∀ (v4 : Int32), Sim X cvI 50 [(0, rv p0), (2, .int v4)] [] (j50 v4)) (q : Nat) : ∀ (w3 : Int32), Sim X cvI 10 [(0, rv p0), (1, .int p1), (2, .int w3)] [] (lp_X1_at_10 p0 p1 j50 q w3) := by
  induction q with
  | zero => intro w3; exact s_fail
  | succ q ih10 =>
    intro w3
    rw [lp_X1_at_10]
    refine s_iload_n hX dX1_at_10 rfl 2 rfl ?_
    refine s_if_lt (tgt := 71) hX dX1_at_11 (by decide) ?_ ?_
    · refine s_iconst (v := 0) hX dX1_at_71 rfl ?_
      exact s_iret hX dX1_at_72
    · refine s_iload_n hX dX1_at_14 rfl 1 rfl ?_
      refine s_aload_n hX dX1_at_15 rfl 0 rfl ?_
      refine s_getR (ci := 1) (j := 2) (ref := "WindGas$Tellings") hX (pcG 1) in_X1 (Or.inl q162) (by decide) (by decide) (by decide) rfl dX1_at_16 (fun _ h9 => h9) (fun v8 => ?_)
      refine s_iload_n hX dX1_at_19 rfl 2 rfl ?_
      refine s_callV_R (ci := 17) (n := 1) (As := [.int w3]) (st := [.int p1]) hX (pcK 18) (by decide) (pt_get X.l v8 w3) q515 q516 q517 q88 q518 yvJ2_get (by decide) rfl (by first | decide | simp [rv_cat, cat_i, cat_l]) dX1_at_20 (fun v9 => ?_)
      refine s_cast (ks := [6]) hX (elC 5 (by decide)) q420 dX1_at_23 ?_
      refine s_callV_I (ci := 5) (n := 0) (As := []) (st := [.int p1]) hX (pcK 6) (by decide) (ct_X5_from X.l v9) q529 q530 q531 q93 q532 yvX5_from (by decide) rfl (by first | decide | simp [rv_cat, cat_i, cat_l]) dX1_at_26 (fun v10 => ?_)
      refine s_jn (P := fun j => ∀ (u : Unit), Sim X cvI 65 [(0, rv p0), (1, .int p1), (2, .int w3)] [] (j u)) ?_ (fun j65 hj65 => ?_)
      · intro u
        refine s_iinc (k := 2) (v := (w3 + (-1))) (L2 := [(2, .int (w3 + (-1))), (0, rv p0), (1, .int p1)]) hX dX1_at_65 rfl rfl (by decide) rfl ?_
        refine s_goto (tgt := 10) hX dX1_at_68 (by decide) ?_
        exact s_sub [1, 2, 0] rfl (ih10 (w3 + (-1)))
      · refine s_icmp_lt (tgt := 65) hX dX1_at_29 (by decide) ?_ ?_
        · exact hj65 ()
        · refine s_iload_n hX dX1_at_32 rfl 1 rfl ?_
          refine s_aload_n hX dX1_at_33 rfl 0 rfl ?_
          refine s_getR (ci := 1) (j := 2) (ref := "WindGas$Tellings") hX (pcG 1) in_X1 (Or.inl q162) (by decide) (by decide) (by decide) rfl dX1_at_34 (fun _ h9 => h9) (fun v11 => ?_)
          refine s_iload_n hX dX1_at_37 rfl 2 rfl ?_
          refine s_callV_R (ci := 17) (n := 1) (As := [.int w3]) (st := [.int p1]) hX (pcK 18) (by decide) (pt_get X.l v11 w3) q515 q516 q517 q88 q518 yvJ2_get (by decide) rfl (by first | decide | simp [rv_cat, cat_i, cat_l]) dX1_at_38 (fun v12 => ?_)
          refine s_cast (ks := [6]) hX (elC 5 (by decide)) q420 dX1_at_41 ?_
          refine s_callV_I (ci := 5) (n := 0) (As := []) (st := [.int p1]) hX (pcK 6) (by decide) (ct_X5_to X.l v12) q533 q534 q535 q93 q536 yvX5_to (by decide) rfl (by first | decide | simp [rv_cat, cat_i, cat_l]) dX1_at_44 (fun v13 => ?_)
          refine s_icmp_gt (tgt := 65) hX dX1_at_47 (by decide) ?_ ?_
          · exact hj65 ()
          · exact s_sub [0, 2] rfl (hj50 w3)
set_option maxHeartbeats 4000000 in
theorem ct_X1_at (l : Launch) (n : Nat) (p0 : Nat) (p1 : Int32) : Ct l Pic yX1_at (ws_ yX1_at cX1_at 3 (some FieldType.int)) 3 64 cvI [rv p0, .int p1] (f_X1_at n p0 p1) := by
  refine Ct.of (own := RX1) (L := [(0, rv p0), (1, .int p1)]) (plainFor_of_name (by decide)) rfl (by first | decide | simp [lg_sl, rv_cat, cat_i, cat_l]) (by first | rfl | simp [lv_args, rv_cat, cat_i, cat_l]) pcZ (fun X hXl hX hnh hin => ?_)
  subst hXl
  unfold f_X1_at
  refine s_aload_n hX dX1_at_0 rfl 0 rfl ?_
  refine s_getR (ci := 1) (j := 2) (ref := "WindGas$Tellings") hX (pcG 1) in_X1 (Or.inl q162) (by decide) (by decide) (by decide) rfl dX1_at_1 (fun _ h9 => h9) (fun v1 => ?_)
  refine s_callV_I (ci := 17) (n := 0) (As := []) (st := []) hX (pcK 18) (by decide) (pt_size X.l v1) q416 q417 q418 q88 q419 yvJ2_size (by decide) rfl (by first | decide | simp [rv_cat, cat_i, cat_l]) dX1_at_4 (fun v2 => ?_)
  refine s_iconst (v := 1) hX dX1_at_7 rfl ?_
  refine s_isub hX dX1_at_8 ?_
  refine s_istore_n (i := 2) (L2 := [(2, .int (v2 - 1)), (0, rv p0), (1, .int p1)]) hX dX1_at_9 rfl (by decide) rfl ?_
  refine s_jn (P := fun j => ∀ (v4 : Int32), Sim X cvI 50 [(0, rv p0), (2, .int v4)] [] (j v4)) ?_ (fun j50 hj50 => ?_)
  · intro v4
    refine s_aload_n hX dX1_at_50 rfl 0 rfl ?_
    refine s_getR (ci := 1) (j := 2) (ref := "WindGas$Tellings") hX (pcG 1) in_X1 (Or.inl q162) (by decide) (by decide) (by decide) rfl dX1_at_51 (fun _ h9 => h9) (fun v5 => ?_)
    refine s_iload_n hX dX1_at_54 rfl 1 rfl ?_
    refine s_callV_R (ci := 17) (n := 1) (As := [.int v4]) (st := []) hX (pcK 18) (by decide) (pt_get X.l v5 v4) q515 q516 q517 q88 q518 yvJ2_get (by decide) rfl (by first | decide | simp [rv_cat, cat_i, cat_l]) dX1_at_55 (fun v6 => ?_)
    refine s_cast (ks := [6]) hX (elC 5 (by decide)) q420 dX1_at_58 ?_
    refine s_callV_I (ci := 5) (n := 0) (As := []) (st := []) hX (pcK 6) (by decide) (ct_X5_v X.l v6) q537 q538 q539 q93 q540 yvX5_v (by decide) rfl (by first | decide | simp [rv_cat, cat_i, cat_l]) dX1_at_61 (fun v7 => ?_)
    exact s_iret hX dX1_at_64
  · exact s_sub [1, 2, 0] rfl (s_lp_X1_at_10 hX hnh p0 p1 j50 hj50 n (v2 - 1))
theorem dX0_said_0 : decode cX0_said 0 = .ok (.iload_n 1, 1) := by decide +kernel
theorem dX0_said_1 : decode cX0_said 1 = .ok (.i2l, 1) := by decide +kernel
theorem dX0_said_2 : decode cX0_said 2 = .ok (.lconst 0, 1) := by decide +kernel
theorem dX0_said_3 : decode cX0_said 3 = .ok (.ldc2_w 105, 3) := by decide +kernel
theorem dX0_said_6 : decode cX0_said 6 = .ok (.invokestatic 101, 3) := by decide +kernel
theorem dX0_said_9 : decode cX0_said 9 = .ok (.ifCond .eq 22, 3) := by decide +kernel
theorem dX0_said_12 : decode cX0_said 12 = .ok (.iload_n 2, 1) := by decide +kernel
theorem dX0_said_13 : decode cX0_said 13 = .ok (.invokestatic 107, 3) := by decide +kernel
theorem dX0_said_16 : decode cX0_said 16 = .ok (.ifCond .eq 15, 3) := by decide +kernel
theorem dX0_said_19 : decode cX0_said 19 = .ok (.aload_n 0, 1) := by decide +kernel
theorem dX0_said_20 : decode cX0_said 20 = .ok (.iload_n 1, 1) := by decide +kernel
theorem dX0_said_21 : decode cX0_said 21 = .ok (.invokevirtual 111, 3) := by decide +kernel
theorem dX0_said_24 : decode cX0_said 24 = .ok (.iload_n 2, 1) := by decide +kernel
theorem dX0_said_25 : decode cX0_said 25 = .ok (.invokevirtual 119, 3) := by decide +kernel
theorem dX0_said_28 : decode cX0_said 28 = .ok (.goto 5, 3) := by decide +kernel
theorem dX0_said_31 : decode cX0_said 31 = .ok (.ldc 123, 2) := by decide +kernel
theorem dX0_said_33 : decode cX0_said 33 = .ok (.ireturn, 1) := by decide +kernel
theorem ycX0_said : yX0_said.cls ≠ "java/lang/invoke/MethodHandle" ∧ yX0_said.cls ≠ "java/lang/invoke/VarHandle" ∧ (parseMethodDescriptor yX0_said.desc).map (fun d => d.parameters.length) = some 2 := by decide +kernel
theorem yvX0_said : yX0_said.cls = RR 0 ∧ yX0_said.cls ≠ "java/lang/invoke/MethodHandle" ∧ yX0_said.cls ≠ "java/lang/invoke/VarHandle" ∧ (parseMethodDescriptor yX0_said.desc).map (fun d => d.parameters.length) = some 2 := ⟨rfl, ycX0_said⟩
noncomputable def f_X0_said (n : Nat) (p0 : Nat) (p1 : Int32) (p2 : Int32) : Act Int32 :=
  bnd (nt (f_X0_isIn p1.toInt64 (0 : Int64) (2 : Int64))) fun v1 =>
  jn (fun (v2 : Int32) =>
    pur v2) fun j33 =>
  jn (fun (_ : Unit) =>
    j33 (-100000)) fun j31 =>
  if v1 = 0 then
    j31 ()
  else
    bnd (nt (f_X0_isTen p2)) fun v3 =>
    if v3 = 0 then
      j31 ()
    else
      bnd (gd 0 p0 (nt (f_X0_tellings p0 p1))) fun v4 =>
      bnd (gd 1 v4 (nt (f_X1_at n v4 p2))) fun v5 =>
      j33 v5
set_option maxHeartbeats 4000000 in
theorem ct_X0_said (l : Launch) (n : Nat) (p0 : Nat) (p1 : Int32) (p2 : Int32) : Ct l Pic yX0_said (ws_ yX0_said cX0_said 3 (some FieldType.int)) 4 86 cvI [rv p0, .int p1, .int p2] (f_X0_said n p0 p1 p2) := by
  refine Ct.of (own := RX0) (L := [(0, rv p0), (1, .int p1), (2, .int p2)]) (plainFor_of_name (by decide)) rfl (by first | decide | simp [lg_sl, rv_cat, cat_i, cat_l]) (by first | rfl | simp [lv_args, rv_cat, cat_i, cat_l]) pcZ (fun X hXl hX hnh hin => ?_)
  subst hXl
  unfold f_X0_said
  refine s_iload_n hX dX0_said_0 rfl 1 rfl ?_
  refine s_i2l hX dX0_said_1 ?_
  refine s_lconst (v := 0) hX dX0_said_2 (by decide) ?_
  refine s_ldc2 (v := 2) hX dX0_said_3 q399 ?_
  refine s_callS_I (n := 3) (As := [.long p1.toInt64, .long 0, .long 2]) (st := []) hX (ct_X0_isIn X.l p1.toInt64 (0 : Int64) (2 : Int64)) q400 q401 q84 q402 ycX0_isIn (by decide) rfl (by first | decide | simp [rv_cat, cat_i, cat_l]) dX0_said_6 (fun v1 => ?_)
  refine s_jn (P := fun j => ∀ (v2 : Int32), Sim X cvI 33 [] [.int v2] (j v2)) ?_ (fun j33 hj33 => ?_)
  · intro v2
    exact s_iret hX dX0_said_33
  · refine s_jn (P := fun j => ∀ (u : Unit), Sim X cvI 31 [] [] (j u)) ?_ (fun j31 hj31 => ?_)
    · intro u
      refine s_ldc (v := -100000) hX dX0_said_31 q541 ?_
      exact hj33 (-100000)
    · refine s_if_eq (tgt := 31) hX dX0_said_9 (by decide) ?_ ?_
      · exact s_sub [] rfl (hj31 ())
      · refine s_iload_n hX dX0_said_12 rfl 2 rfl ?_
        refine s_callS_I (n := 1) (As := [.int p2]) (st := []) hX (ct_X0_isTen X.l p2) q403 q404 q84 q405 ycX0_isTen (by decide) rfl (by first | decide | simp [rv_cat, cat_i, cat_l]) dX0_said_13 (fun v3 => ?_)
        refine s_if_eq (tgt := 31) hX dX0_said_16 (by decide) ?_ ?_
        · exact s_sub [] rfl (hj31 ())
        · refine s_aload_n hX dX0_said_19 rfl 0 rfl ?_
          refine s_iload_n hX dX0_said_20 rfl 1 rfl ?_
          refine s_callV_R (ci := 0) (n := 1) (As := [.int p1]) (st := []) hX (pcK 1) (by decide) (ct_X0_tellings X.l p0 p1) q407 q409 qs0 q84 q410 yvX0_tellings (by decide) rfl (by first | decide | simp [rv_cat, cat_i, cat_l]) dX0_said_21 (fun v4 => ?_)
          refine s_iload_n hX dX0_said_24 rfl 2 rfl ?_
          refine s_callV_I (ci := 1) (n := 1) (As := [.int p2]) (st := []) hX (pcK 2) (by decide) (ct_X1_at X.l n v4 p2) q511 q512 q513 q85 q514 yvX1_at (by decide) rfl (by first | decide | simp [rv_cat, cat_i, cat_l]) dX0_said_25 (fun v5 => ?_)
          refine s_goto (tgt := 33) hX dX0_said_28 (by decide) ?_
          exact s_sub [] rfl (hj33 v5)
theorem dX0_numberAt_0 : decode cX0_numberAt 0 = .ok (.iconst (-1), 1) := by decide +kernel
theorem dX0_numberAt_1 : decode cX0_numberAt 1 = .ok (.istore_n 2, 1) := by decide +kernel
theorem dX0_numberAt_2 : decode cX0_numberAt 2 = .ok (.iconst 0, 1) := by decide +kernel
theorem dX0_numberAt_3 : decode cX0_numberAt 3 = .ok (.istore_n 3, 1) := by decide +kernel
theorem dX0_numberAt_4 : decode cX0_numberAt 4 = .ok (.iload_n 3, 1) := by decide +kernel
theorem dX0_numberAt_5 : decode cX0_numberAt 5 = .ok (.aload_n 0, 1) := by decide +kernel
theorem dX0_numberAt_6 : decode cX0_numberAt 6 = .ok (.getfield 27, 3) := by decide +kernel
theorem dX0_numberAt_9 : decode cX0_numberAt 9 = .ok (.invokevirtual 124, 3) := by decide +kernel
theorem dX0_numberAt_12 : decode cX0_numberAt 12 = .ok (.if_icmp .ge 29, 3) := by decide +kernel
theorem dX0_numberAt_15 : decode cX0_numberAt 15 = .ok (.aload_n 0, 1) := by decide +kernel
theorem dX0_numberAt_16 : decode cX0_numberAt 16 = .ok (.getfield 27, 3) := by decide +kernel
theorem dX0_numberAt_19 : decode cX0_numberAt 19 = .ok (.iload_n 3, 1) := by decide +kernel
theorem dX0_numberAt_20 : decode cX0_numberAt 20 = .ok (.invokevirtual 128, 3) := by decide +kernel
theorem dX0_numberAt_23 : decode cX0_numberAt 23 = .ok (.checkcast 31, 3) := by decide +kernel
theorem dX0_numberAt_26 : decode cX0_numberAt 26 = .ok (.getfield 132, 3) := by decide +kernel
theorem dX0_numberAt_29 : decode cX0_numberAt 29 = .ok (.iload_n 1, 1) := by decide +kernel
theorem dX0_numberAt_30 : decode cX0_numberAt 30 = .ok (.if_icmp .gt 5, 3) := by decide +kernel
theorem dX0_numberAt_33 : decode cX0_numberAt 33 = .ok (.iload_n 3, 1) := by decide +kernel
theorem dX0_numberAt_34 : decode cX0_numberAt 34 = .ok (.istore_n 2, 1) := by decide +kernel
theorem dX0_numberAt_35 : decode cX0_numberAt 35 = .ok (.iinc 3 1, 3) := by decide +kernel
theorem dX0_numberAt_38 : decode cX0_numberAt 38 = .ok (.goto (-34), 3) := by decide +kernel
theorem dX0_numberAt_41 : decode cX0_numberAt 41 = .ok (.iload_n 2, 1) := by decide +kernel
theorem dX0_numberAt_42 : decode cX0_numberAt 42 = .ok (.ireturn, 1) := by decide +kernel
theorem ycX0_numberAt : yX0_numberAt.cls ≠ "java/lang/invoke/MethodHandle" ∧ yX0_numberAt.cls ≠ "java/lang/invoke/VarHandle" ∧ (parseMethodDescriptor yX0_numberAt.desc).map (fun d => d.parameters.length) = some 1 := by decide +kernel
theorem yvX0_numberAt : yX0_numberAt.cls = RR 0 ∧ yX0_numberAt.cls ≠ "java/lang/invoke/MethodHandle" ∧ yX0_numberAt.cls ≠ "java/lang/invoke/VarHandle" ∧ (parseMethodDescriptor yX0_numberAt.desc).map (fun d => d.parameters.length) = some 1 := ⟨rfl, ycX0_numberAt⟩
noncomputable def lp_X0_numberAt_4 (p0 : Nat) (p1 : Int32) (q : Nat) : Int32 → Int32 → Act Int32 := match q with
  | 0 => fun _ _ => fail
  | q + 1 => fun w1 w2 =>
    bnd (getR 0 4 p0) fun v3 =>
    bnd (gd 17 v3 (nt (P_size v3))) fun v4 =>
    if v4 ≤ w2 then
      pur w1
    else
      bnd (getR 0 4 p0) fun v5 =>
      bnd (gd 17 v5 (nt (P_get v5 w2))) fun v6 =>
      bnd (cst [3] v6) fun _ =>
      bnd (getI 2 0 v6) fun v7 =>
      jn (fun (v8 : Int32) =>
        (lp_X0_numberAt_4 p0 p1 q) v8 (w2 + 1)) fun j35 =>
      if p1 < v7 then
        j35 w1
      else
        j35 w2
noncomputable def f_X0_numberAt (n : Nat) (p0 : Nat) (p1 : Int32) : Act Int32 :=
  lp_X0_numberAt_4 p0 p1 n (-1) 0
set_option maxHeartbeats 4000000 in
theorem s_lp_X0_numberAt_4 {X : Cx} (hX : Ok X Pic cX0_numberAt RX0 4 (some FieldType.int) 3 64) (hnh : Noh X) (p0 : Nat) (p1 : Int32) (q : Nat) : ∀ (w1 : Int32) (w2 : Int32), Sim X cvI 4 [(0, rv p0), (1, .int p1), (2, .int w1), (3, .int w2)] [] (lp_X0_numberAt_4 p0 p1 q w1 w2) := by
  induction q with
  | zero => intro w1 w2; exact s_fail
  | succ q ih4 =>
    intro w1 w2
    rw [lp_X0_numberAt_4]
    refine s_iload_n hX dX0_numberAt_4 rfl 3 rfl ?_
    refine s_aload_n hX dX0_numberAt_5 rfl 0 rfl ?_
    refine s_getR (ci := 0) (j := 4) (ref := "WindGas") hX (pcG 0) in_X0 (Or.inl q270) (by decide) (by decide) (by decide) rfl dX0_numberAt_6 (fun _ h9 => h9) (fun v3 => ?_)
    refine s_callV_I (ci := 17) (n := 0) (As := []) (st := [.int w2]) hX (pcK 18) (by decide) (pt_size X.l v3) q554 q417 q418 q88 q419 yvJ2_size (by decide) rfl (by first | decide | simp [rv_cat, cat_i, cat_l]) dX0_numberAt_9 (fun v4 => ?_)
    refine s_icmp_ge (tgt := 41) hX dX0_numberAt_12 (by decide) ?_ ?_
    · refine s_iload_n hX dX0_numberAt_41 rfl 2 rfl ?_
      exact s_iret hX dX0_numberAt_42
    · refine s_aload_n hX dX0_numberAt_15 rfl 0 rfl ?_
      refine s_getR (ci := 0) (j := 4) (ref := "WindGas") hX (pcG 0) in_X0 (Or.inl q270) (by decide) (by decide) (by decide) rfl dX0_numberAt_16 (fun _ h9 => h9) (fun v5 => ?_)
      refine s_iload_n hX dX0_numberAt_19 rfl 3 rfl ?_
      refine s_callV_R (ci := 17) (n := 1) (As := [.int w2]) (st := []) hX (pcK 18) (by decide) (pt_get X.l v5 w2) q555 q516 q517 q88 q518 yvJ2_get (by decide) rfl (by first | decide | simp [rv_cat, cat_i, cat_l]) dX0_numberAt_20 (fun v6 => ?_)
      refine s_cast (ks := [3]) hX (elC 2 (by decide)) q172 dX0_numberAt_23 ?_
      refine s_getI (ci := 2) (j := 0) (ref := "WindGas$Rules") hX (pcG 2) in_X2 (Or.inr ⟨_, q181⟩) (by decide) (by decide) (by decide) rfl dX0_numberAt_26 (fun _ h9 => h9) (fun v7 => ?_)
      refine s_iload_n hX dX0_numberAt_29 rfl 1 rfl ?_
      refine s_jn (P := fun j => ∀ (v8 : Int32), Sim X cvI 35 [(0, rv p0), (1, .int p1), (2, .int v8), (3, .int w2)] [] (j v8)) ?_ (fun j35 hj35 => ?_)
      · intro v8
        refine s_iinc (k := 3) (v := (w2 + 1)) (L2 := [(3, .int (w2 + 1)), (0, rv p0), (1, .int p1), (2, .int v8)]) hX dX0_numberAt_35 rfl rfl (by decide) rfl ?_
        refine s_goto (tgt := 4) hX dX0_numberAt_38 (by decide) ?_
        exact s_sub [1, 2, 3, 0] rfl (ih4 v8 (w2 + 1))
      · refine s_icmp_gt (tgt := 35) hX dX0_numberAt_30 (by decide) ?_ ?_
        · exact hj35 w1
        · refine s_iload_n hX dX0_numberAt_33 rfl 3 rfl ?_
          refine s_istore_n (i := 2) (L2 := [(2, .int w2), (0, rv p0), (1, .int p1), (3, .int w2)]) hX dX0_numberAt_34 rfl (by decide) rfl ?_
          exact s_sub [1, 2, 0, 3] rfl (hj35 w2)
set_option maxHeartbeats 4000000 in
theorem ct_X0_numberAt (l : Launch) (n : Nat) (p0 : Nat) (p1 : Int32) : Ct l Pic yX0_numberAt (ws_ yX0_numberAt cX0_numberAt 4 (some FieldType.int)) 3 64 cvI [rv p0, .int p1] (f_X0_numberAt n p0 p1) := by
  refine Ct.of (own := RX0) (L := [(0, rv p0), (1, .int p1)]) (plainFor_of_name (by decide)) rfl (by first | decide | simp [lg_sl, rv_cat, cat_i, cat_l]) (by first | rfl | simp [lv_args, rv_cat, cat_i, cat_l]) pcZ (fun X hXl hX hnh hin => ?_)
  subst hXl
  unfold f_X0_numberAt
  refine s_iconst (v := -1) hX dX0_numberAt_0 (by decide) ?_
  refine s_istore_n (i := 2) (L2 := [(2, .int (-1)), (0, rv p0), (1, .int p1)]) hX dX0_numberAt_1 rfl (by decide) rfl ?_
  refine s_iconst (v := 0) hX dX0_numberAt_2 rfl ?_
  refine s_istore_n (i := 3) (L2 := [(3, .int 0), (2, .int (-1)), (0, rv p0), (1, .int p1)]) hX dX0_numberAt_3 rfl (by decide) rfl ?_
  exact s_sub [2, 3, 1, 0] rfl (s_lp_X0_numberAt_4 hX hnh p0 p1 n (-1) 0)
theorem dX0_at_0 : decode cX0_at 0 = .ok (.aload_n 0, 1) := by decide +kernel
theorem dX0_at_1 : decode cX0_at 1 = .ok (.iload_n 1, 1) := by decide +kernel
theorem dX0_at_2 : decode cX0_at 2 = .ok (.invokevirtual 135, 3) := by decide +kernel
theorem dX0_at_5 : decode cX0_at 5 = .ok (.ifCond .ge 10, 3) := by decide +kernel
theorem dX0_at_8 : decode cX0_at 8 = .ok (.aload_n 0, 1) := by decide +kernel
theorem dX0_at_9 : decode cX0_at 9 = .ok (.getfield 36, 3) := by decide +kernel
theorem dX0_at_12 : decode cX0_at 12 = .ok (.goto 18, 3) := by decide +kernel
theorem dX0_at_15 : decode cX0_at 15 = .ok (.aload_n 0, 1) := by decide +kernel
theorem dX0_at_16 : decode cX0_at 16 = .ok (.getfield 27, 3) := by decide +kernel
theorem dX0_at_19 : decode cX0_at 19 = .ok (.aload_n 0, 1) := by decide +kernel
theorem dX0_at_20 : decode cX0_at 20 = .ok (.iload_n 1, 1) := by decide +kernel
theorem dX0_at_21 : decode cX0_at 21 = .ok (.invokevirtual 135, 3) := by decide +kernel
theorem dX0_at_24 : decode cX0_at 24 = .ok (.invokevirtual 128, 3) := by decide +kernel
theorem dX0_at_27 : decode cX0_at 27 = .ok (.checkcast 31, 3) := by decide +kernel
theorem dX0_at_30 : decode cX0_at 30 = .ok (.areturn, 1) := by decide +kernel
theorem ycX0_at : yX0_at.cls ≠ "java/lang/invoke/MethodHandle" ∧ yX0_at.cls ≠ "java/lang/invoke/VarHandle" ∧ (parseMethodDescriptor yX0_at.desc).map (fun d => d.parameters.length) = some 1 := by decide +kernel
theorem yvX0_at : yX0_at.cls = RR 0 ∧ yX0_at.cls ≠ "java/lang/invoke/MethodHandle" ∧ yX0_at.cls ≠ "java/lang/invoke/VarHandle" ∧ (parseMethodDescriptor yX0_at.desc).map (fun d => d.parameters.length) = some 1 := ⟨rfl, ycX0_at⟩
noncomputable def f_X0_at (n : Nat) (p0 : Nat) (p1 : Int32) : Act Nat :=
  bnd (gd 0 p0 (nt (f_X0_numberAt n p0 p1))) fun v1 =>
  jn (fun (v2 : Nat) =>
    pur v2) fun j30 =>
  if 0 ≤ v1 then
    bnd (getR 0 4 p0) fun v3 =>
    bnd (gd 0 p0 (nt (f_X0_numberAt n p0 p1))) fun v4 =>
    bnd (gd 17 v3 (nt (P_get v3 v4))) fun v5 =>
    bnd (cst [3] v5) fun _ =>
    j30 v5
  else
    bnd (getR 0 5 p0) fun v6 =>
    j30 v6
set_option maxHeartbeats 4000000 in
theorem ct_X0_at (l : Launch) (n : Nat) (p0 : Nat) (p1 : Int32) : Ct l Pic yX0_at (ws_ yX0_at cX0_at 2 (some (FieldType.object "WindGas$Rules"))) 4 87 cvR [rv p0, .int p1] (f_X0_at n p0 p1) := by
  refine Ct.of (own := RX0) (L := [(0, rv p0), (1, .int p1)]) (plainFor_of_name (by decide)) rfl (by first | decide | simp [lg_sl, rv_cat, cat_i, cat_l]) (by first | rfl | simp [lv_args, rv_cat, cat_i, cat_l]) pcZ (fun X hXl hX hnh hin => ?_)
  subst hXl
  unfold f_X0_at
  refine s_aload_n hX dX0_at_0 rfl 0 rfl ?_
  refine s_iload_n hX dX0_at_1 rfl 1 rfl ?_
  refine s_callV_I (ci := 0) (n := 1) (As := [.int p1]) (st := []) hX (pcK 1) (by decide) (ct_X0_numberAt X.l n p0 p1) q550 q552 qs5 q84 q553 yvX0_numberAt (by decide) rfl (by first | decide | simp [rv_cat, cat_i, cat_l]) dX0_at_2 (fun v1 => ?_)
  refine s_jn (P := fun j => ∀ (v2 : Nat), Sim X cvR 30 [] [rv v2] (j v2)) ?_ (fun j30 hj30 => ?_)
  · intro v2
    exact s_aret hX (Or.inl ⟨_, rfl⟩) dX0_at_30
  · refine s_if_ge (tgt := 15) hX dX0_at_5 (by decide) ?_ ?_
    · refine s_aload_n hX dX0_at_15 rfl 0 rfl ?_
      refine s_getR (ci := 0) (j := 4) (ref := "WindGas") hX (pcG 0) in_X0 (Or.inl q270) (by decide) (by decide) (by decide) rfl dX0_at_16 (fun _ h9 => h9) (fun v3 => ?_)
      refine s_aload_n hX dX0_at_19 rfl 0 rfl ?_
      refine s_iload_n hX dX0_at_20 rfl 1 rfl ?_
      refine s_callV_I (ci := 0) (n := 1) (As := [.int p1]) (st := [rv v3]) hX (pcK 1) (by decide) (ct_X0_numberAt X.l n p0 p1) q550 q552 qs5 q84 q553 yvX0_numberAt (by decide) rfl (by first | decide | simp [rv_cat, cat_i, cat_l]) dX0_at_21 (fun v4 => ?_)
      refine s_callV_R (ci := 17) (n := 1) (As := [.int v4]) (st := []) hX (pcK 18) (by decide) (pt_get X.l v3 v4) q555 q516 q517 q88 q518 yvJ2_get (by decide) rfl (by first | decide | simp [rv_cat, cat_i, cat_l]) dX0_at_24 (fun v5 => ?_)
      refine s_cast (ks := [3]) hX (elC 2 (by decide)) q172 dX0_at_27 ?_
      exact s_sub [] rfl (hj30 v5)
    · refine s_aload_n hX dX0_at_8 rfl 0 rfl ?_
      refine s_getR (ci := 0) (j := 5) (ref := "WindGas") hX (pcG 0) in_X0 (Or.inl q271) (by decide) (by decide) (by decide) rfl dX0_at_9 (fun _ h9 => h9) (fun v6 => ?_)
      refine s_goto (tgt := 30) hX dX0_at_12 (by decide) ?_
      exact s_sub [] rfl (hj30 v6)
theorem dX0_law_0 : decode cX0_law 0 = .ok (.iload_n 1, 1) := by decide +kernel
theorem dX0_law_1 : decode cX0_law 1 = .ok (.invokestatic 107, 3) := by decide +kernel
theorem dX0_law_4 : decode cX0_law 4 = .ok (.ifCond .ne 5, 3) := by decide +kernel
theorem dX0_law_7 : decode cX0_law 7 = .ok (.iconst (-1), 1) := by decide +kernel
theorem dX0_law_8 : decode cX0_law 8 = .ok (.ireturn, 1) := by decide +kernel
theorem dX0_law_9 : decode cX0_law 9 = .ok (.aload_n 0, 1) := by decide +kernel
theorem dX0_law_10 : decode cX0_law 10 = .ok (.iload_n 1, 1) := by decide +kernel
theorem dX0_law_11 : decode cX0_law 11 = .ok (.invokevirtual 138, 3) := by decide +kernel
theorem dX0_law_14 : decode cX0_law 14 = .ok (.astore_n 3, 1) := by decide +kernel
theorem dX0_law_15 : decode cX0_law 15 = .ok (.iload_n 2, 1) := by decide +kernel
theorem dX0_law_16 : decode cX0_law 16 = .ok (.tableswitch 97 0 7 #[48, 53, 58, 63, 68, 73, 86, 91], 48) := by decide +kernel
theorem dX0_law_64 : decode cX0_law 64 = .ok (.aload_n 3, 1) := by decide +kernel
theorem dX0_law_65 : decode cX0_law 65 = .ok (.getfield 141, 3) := by decide +kernel
theorem dX0_law_68 : decode cX0_law 68 = .ok (.ireturn, 1) := by decide +kernel
theorem dX0_law_69 : decode cX0_law 69 = .ok (.aload_n 3, 1) := by decide +kernel
theorem dX0_law_70 : decode cX0_law 70 = .ok (.getfield 144, 3) := by decide +kernel
theorem dX0_law_73 : decode cX0_law 73 = .ok (.ireturn, 1) := by decide +kernel
theorem dX0_law_74 : decode cX0_law 74 = .ok (.aload_n 3, 1) := by decide +kernel
theorem dX0_law_75 : decode cX0_law 75 = .ok (.getfield 147, 3) := by decide +kernel
theorem dX0_law_78 : decode cX0_law 78 = .ok (.ireturn, 1) := by decide +kernel
theorem dX0_law_79 : decode cX0_law 79 = .ok (.aload_n 3, 1) := by decide +kernel
theorem dX0_law_80 : decode cX0_law 80 = .ok (.getfield 150, 3) := by decide +kernel
theorem dX0_law_83 : decode cX0_law 83 = .ok (.ireturn, 1) := by decide +kernel
theorem dX0_law_84 : decode cX0_law 84 = .ok (.aload_n 3, 1) := by decide +kernel
theorem dX0_law_85 : decode cX0_law 85 = .ok (.getfield 153, 3) := by decide +kernel
theorem dX0_law_88 : decode cX0_law 88 = .ok (.ireturn, 1) := by decide +kernel
theorem dX0_law_89 : decode cX0_law 89 = .ok (.aload_n 3, 1) := by decide +kernel
theorem dX0_law_90 : decode cX0_law 90 = .ok (.getfield 156, 3) := by decide +kernel
theorem dX0_law_93 : decode cX0_law 93 = .ok (.ifCond .eq 7, 3) := by decide +kernel
theorem dX0_law_96 : decode cX0_law 96 = .ok (.iconst 1, 1) := by decide +kernel
theorem dX0_law_97 : decode cX0_law 97 = .ok (.goto 4, 3) := by decide +kernel
theorem dX0_law_100 : decode cX0_law 100 = .ok (.iconst 0, 1) := by decide +kernel
theorem dX0_law_101 : decode cX0_law 101 = .ok (.ireturn, 1) := by decide +kernel
theorem dX0_law_102 : decode cX0_law 102 = .ok (.aload_n 3, 1) := by decide +kernel
theorem dX0_law_103 : decode cX0_law 103 = .ok (.getfield 160, 3) := by decide +kernel
theorem dX0_law_106 : decode cX0_law 106 = .ok (.ireturn, 1) := by decide +kernel
theorem dX0_law_107 : decode cX0_law 107 = .ok (.aload_n 0, 1) := by decide +kernel
theorem dX0_law_108 : decode cX0_law 108 = .ok (.iload_n 1, 1) := by decide +kernel
theorem dX0_law_109 : decode cX0_law 109 = .ok (.invokevirtual 135, 3) := by decide +kernel
theorem dX0_law_112 : decode cX0_law 112 = .ok (.ireturn, 1) := by decide +kernel
theorem dX0_law_113 : decode cX0_law 113 = .ok (.iconst (-1), 1) := by decide +kernel
theorem dX0_law_114 : decode cX0_law 114 = .ok (.ireturn, 1) := by decide +kernel
theorem ycX0_law : yX0_law.cls ≠ "java/lang/invoke/MethodHandle" ∧ yX0_law.cls ≠ "java/lang/invoke/VarHandle" ∧ (parseMethodDescriptor yX0_law.desc).map (fun d => d.parameters.length) = some 2 := by decide +kernel
theorem yvX0_law : yX0_law.cls = RR 0 ∧ yX0_law.cls ≠ "java/lang/invoke/MethodHandle" ∧ yX0_law.cls ≠ "java/lang/invoke/VarHandle" ∧ (parseMethodDescriptor yX0_law.desc).map (fun d => d.parameters.length) = some 2 := ⟨rfl, ycX0_law⟩
noncomputable def f_X0_law (n : Nat) (p0 : Nat) (p1 : Int32) (p2 : Int32) : Act Int32 :=
  bnd (nt (f_X0_isTen p1)) fun v1 =>
  if ¬ v1 = 0 then
    bnd (gd 0 p0 (nt (f_X0_at n p0 p1))) fun v2 =>
    sw p2 (0) [
      bnd (getI 2 1 v2) fun v3 =>
      pur v3,
      bnd (getI 2 2 v2) fun v4 =>
      pur v4,
      bnd (getI 2 3 v2) fun v5 =>
      pur v5,
      bnd (getI 2 4 v2) fun v6 =>
      pur v6,
      bnd (getI 2 5 v2) fun v7 =>
      pur v7,
      bnd (getI 2 7 v2) fun v8 =>
      jn (fun (v9 : Int32) =>
        pur v9) fun j101 =>
      if v8 = 0 then
        j101 0
      else
        j101 1,
      bnd (getI 2 6 v2) fun v10 =>
      pur v10,
      bnd (gd 0 p0 (nt (f_X0_numberAt n p0 p1))) fun v11 =>
      pur v11] (
      pur (-1))
  else
    pur (-1)
set_option maxHeartbeats 4000000 in
theorem ct_X0_law (l : Launch) (n : Nat) (p0 : Nat) (p1 : Int32) (p2 : Int32) : Ct l Pic yX0_law (ws_ yX0_law cX0_law 4 (some FieldType.int)) 5 108 cvI [rv p0, .int p1, .int p2] (f_X0_law n p0 p1 p2) := by
  refine Ct.of (own := RX0) (L := [(0, rv p0), (1, .int p1), (2, .int p2)]) (plainFor_of_name (by decide)) rfl (by first | decide | simp [lg_sl, rv_cat, cat_i, cat_l]) (by first | rfl | simp [lv_args, rv_cat, cat_i, cat_l]) pcZ (fun X hXl hX hnh hin => ?_)
  subst hXl
  unfold f_X0_law
  refine s_iload_n hX dX0_law_0 rfl 1 rfl ?_
  refine s_callS_I (n := 1) (As := [.int p1]) (st := []) hX (ct_X0_isTen X.l p1) q403 q404 q84 q405 ycX0_isTen (by decide) rfl (by first | decide | simp [rv_cat, cat_i, cat_l]) dX0_law_1 (fun v1 => ?_)
  refine s_if_ne (tgt := 9) hX dX0_law_4 (by decide) ?_ ?_
  · refine s_aload_n hX dX0_law_9 rfl 0 rfl ?_
    refine s_iload_n hX dX0_law_10 rfl 1 rfl ?_
    refine s_callV_R (ci := 0) (n := 1) (As := [.int p1]) (st := []) hX (pcK 1) (by decide) (ct_X0_at X.l n p0 p1) q546 q548 qs4 q84 q549 yvX0_at (by decide) rfl (by first | decide | simp [rv_cat, cat_i, cat_l]) dX0_law_11 (fun v2 => ?_)
    refine s_astore_n (i := 3) (L2 := [(3, rv v2), (0, rv p0), (1, .int p1), (2, .int p2)]) hX dX0_law_14 rfl (by decide) rfl ?_
    refine s_iload_n hX dX0_law_15 rfl 3 rfl ?_
    refine s_sw hX dX0_law_16 (dt := 113) (by decide) (tgts := [64, 69, 74, 79, 84, 89, 102, 107]) (by decide) (by decide) ?_ ?_
    · refine s_iconst (v := -1) hX dX0_law_113 (by decide) ?_
      exact s_iret hX dX0_law_114
    · refine ⟨?_, ?_, ?_, ?_, ?_, ?_, ?_, ?_, trivial⟩
      · refine s_aload_n hX dX0_law_64 rfl 0 rfl ?_
        refine s_getI (ci := 2) (j := 1) (ref := "WindGas$Rules") hX (pcG 2) in_X2 (Or.inr ⟨_, q183⟩) (by decide) (by decide) (by decide) rfl dX0_law_65 (fun _ h9 => h9) (fun v3 => ?_)
        exact s_iret hX dX0_law_68
      · refine s_aload_n hX dX0_law_69 rfl 0 rfl ?_
        refine s_getI (ci := 2) (j := 2) (ref := "WindGas$Rules") hX (pcG 2) in_X2 (Or.inr ⟨_, q185⟩) (by decide) (by decide) (by decide) rfl dX0_law_70 (fun _ h9 => h9) (fun v4 => ?_)
        exact s_iret hX dX0_law_73
      · refine s_aload_n hX dX0_law_74 rfl 0 rfl ?_
        refine s_getI (ci := 2) (j := 3) (ref := "WindGas$Rules") hX (pcG 2) in_X2 (Or.inr ⟨_, q188⟩) (by decide) (by decide) (by decide) rfl dX0_law_75 (fun _ h9 => h9) (fun v5 => ?_)
        exact s_iret hX dX0_law_78
      · refine s_aload_n hX dX0_law_79 rfl 0 rfl ?_
        refine s_getI (ci := 2) (j := 4) (ref := "WindGas$Rules") hX (pcG 2) in_X2 (Or.inr ⟨_, q190⟩) (by decide) (by decide) (by decide) rfl dX0_law_80 (fun _ h9 => h9) (fun v6 => ?_)
        exact s_iret hX dX0_law_83
      · refine s_aload_n hX dX0_law_84 rfl 0 rfl ?_
        refine s_getI (ci := 2) (j := 5) (ref := "WindGas$Rules") hX (pcG 2) in_X2 (Or.inr ⟨_, q192⟩) (by decide) (by decide) (by decide) rfl dX0_law_85 (fun _ h9 => h9) (fun v7 => ?_)
        exact s_iret hX dX0_law_88
      · refine s_aload_n hX dX0_law_89 rfl 0 rfl ?_
        refine s_getI (ci := 2) (j := 7) (ref := "WindGas$Rules") hX (pcG 2) in_X2 (Or.inr ⟨_, q194⟩) (by decide) (by decide) (by decide) rfl dX0_law_90 (fun _ h9 => h9) (fun v8 => ?_)
        refine s_jn (P := fun j => ∀ (v9 : Int32), Sim X cvI 101 [] [.int v9] (j v9)) ?_ (fun j101 hj101 => ?_)
        · intro v9
          exact s_iret hX dX0_law_101
        · refine s_if_eq (tgt := 100) hX dX0_law_93 (by decide) ?_ ?_
          · refine s_iconst (v := 0) hX dX0_law_100 rfl ?_
            exact s_sub [] rfl (hj101 0)
          · refine s_iconst (v := 1) hX dX0_law_96 rfl ?_
            refine s_goto (tgt := 101) hX dX0_law_97 (by decide) ?_
            exact s_sub [] rfl (hj101 1)
      · refine s_aload_n hX dX0_law_102 rfl 0 rfl ?_
        refine s_getI (ci := 2) (j := 6) (ref := "WindGas$Rules") hX (pcG 2) in_X2 (Or.inr ⟨_, q193⟩) (by decide) (by decide) (by decide) rfl dX0_law_103 (fun _ h9 => h9) (fun v10 => ?_)
        exact s_iret hX dX0_law_106
      · refine s_aload_n hX dX0_law_107 rfl 1 rfl ?_
        refine s_iload_n hX dX0_law_108 rfl 2 rfl ?_
        refine s_callV_I (ci := 0) (n := 1) (As := [.int p1]) (st := []) hX (pcK 1) (by decide) (ct_X0_numberAt X.l n p0 p1) q550 q552 qs5 q84 q553 yvX0_numberAt (by decide) rfl (by first | decide | simp [rv_cat, cat_i, cat_l]) dX0_law_109 (fun v11 => ?_)
        exact s_iret hX dX0_law_112
  · refine s_iconst (v := -1) hX dX0_law_7 (by decide) ?_
    exact s_iret hX dX0_law_8
theorem dX0_tapes_0 : decode cX0_tapes 0 = .ok (.aload_n 1, 1) := by decide +kernel
theorem dX0_tapes_1 : decode cX0_tapes 1 = .ok (.astore_n 2, 1) := by decide +kernel
theorem dX0_tapes_2 : decode cX0_tapes 2 = .ok (.aload_n 2, 1) := by decide +kernel
theorem dX0_tapes_3 : decode cX0_tapes 3 = .ok (.arraylength, 1) := by decide +kernel
theorem dX0_tapes_4 : decode cX0_tapes 4 = .ok (.istore_n 3, 1) := by decide +kernel
theorem dX0_tapes_5 : decode cX0_tapes 5 = .ok (.iconst 0, 1) := by decide +kernel
theorem dX0_tapes_6 : decode cX0_tapes 6 = .ok (.istore 4, 2) := by decide +kernel
theorem dX0_tapes_8 : decode cX0_tapes 8 = .ok (.iload 4, 2) := by decide +kernel
theorem dX0_tapes_10 : decode cX0_tapes 10 = .ok (.iload_n 3, 1) := by decide +kernel
theorem dX0_tapes_11 : decode cX0_tapes 11 = .ok (.if_icmp .ge 52, 3) := by decide +kernel
theorem dX0_tapes_14 : decode cX0_tapes 14 = .ok (.aload_n 2, 1) := by decide +kernel
theorem dX0_tapes_15 : decode cX0_tapes 15 = .ok (.iload 4, 2) := by decide +kernel
theorem dX0_tapes_17 : decode cX0_tapes 17 = .ok (.iaload, 1) := by decide +kernel
theorem dX0_tapes_18 : decode cX0_tapes 18 = .ok (.istore 5, 2) := by decide +kernel
theorem dX0_tapes_20 : decode cX0_tapes 20 = .ok (.bipush 24, 2) := by decide +kernel
theorem dX0_tapes_22 : decode cX0_tapes 22 = .ok (.istore 6, 2) := by decide +kernel
theorem dX0_tapes_24 : decode cX0_tapes 24 = .ok (.iload 6, 2) := by decide +kernel
theorem dX0_tapes_26 : decode cX0_tapes 26 = .ok (.ifCond .lt 31, 3) := by decide +kernel
theorem dX0_tapes_29 : decode cX0_tapes 29 = .ok (.aload_n 0, 1) := by decide +kernel
theorem dX0_tapes_30 : decode cX0_tapes 30 = .ok (.getfield 40, 3) := by decide +kernel
theorem dX0_tapes_33 : decode cX0_tapes 33 = .ok (.aload_n 0, 1) := by decide +kernel
theorem dX0_tapes_34 : decode cX0_tapes 34 = .ok (.dup, 1) := by decide +kernel
theorem dX0_tapes_35 : decode cX0_tapes 35 = .ok (.getfield 163, 3) := by decide +kernel
theorem dX0_tapes_38 : decode cX0_tapes 38 = .ok (.dup_x1, 1) := by decide +kernel
theorem dX0_tapes_39 : decode cX0_tapes 39 = .ok (.iconst 1, 1) := by decide +kernel
theorem dX0_tapes_40 : decode cX0_tapes 40 = .ok (.iadd, 1) := by decide +kernel
theorem dX0_tapes_41 : decode cX0_tapes 41 = .ok (.putfield 163, 3) := by decide +kernel
theorem dX0_tapes_44 : decode cX0_tapes 44 = .ok (.iload 5, 2) := by decide +kernel
theorem dX0_tapes_46 : decode cX0_tapes 46 = .ok (.iload 6, 2) := by decide +kernel
theorem dX0_tapes_48 : decode cX0_tapes 48 = .ok (.ishr, 1) := by decide +kernel
theorem dX0_tapes_49 : decode cX0_tapes 49 = .ok (.i2b, 1) := by decide +kernel
theorem dX0_tapes_50 : decode cX0_tapes 50 = .ok (.bastore, 1) := by decide +kernel
theorem dX0_tapes_51 : decode cX0_tapes 51 = .ok (.iinc 6 (-8), 3) := by decide +kernel
theorem dX0_tapes_54 : decode cX0_tapes 54 = .ok (.goto (-30), 3) := by decide +kernel
theorem dX0_tapes_57 : decode cX0_tapes 57 = .ok (.iinc 4 1, 3) := by decide +kernel
theorem dX0_tapes_60 : decode cX0_tapes 60 = .ok (.goto (-52), 3) := by decide +kernel
theorem dX0_tapes_63 : decode cX0_tapes 63 = .ok (.aload_n 0, 1) := by decide +kernel
theorem dX0_tapes_64 : decode cX0_tapes 64 = .ok (.getfield 163, 3) := by decide +kernel
theorem dX0_tapes_67 : decode cX0_tapes 67 = .ok (.ireturn, 1) := by decide +kernel
theorem ycX0_tapes : yX0_tapes.cls ≠ "java/lang/invoke/MethodHandle" ∧ yX0_tapes.cls ≠ "java/lang/invoke/VarHandle" ∧ (parseMethodDescriptor yX0_tapes.desc).map (fun d => d.parameters.length) = some 1 := by decide +kernel
theorem yvX0_tapes : yX0_tapes.cls = RR 0 ∧ yX0_tapes.cls ≠ "java/lang/invoke/MethodHandle" ∧ yX0_tapes.cls ≠ "java/lang/invoke/VarHandle" ∧ (parseMethodDescriptor yX0_tapes.desc).map (fun d => d.parameters.length) = some 1 := ⟨rfl, ycX0_tapes⟩
noncomputable def lp_X0_tapes_24 (p0 : Nat) (p1 : Nat) (v1 : Int32) (w2 : Int32) (v4 : Int32) (j57 : Unit → Act Int32) (q : Nat) : Int32 → Act Int32 := match q with
  | 0 => fun _ => fail
  | q + 1 => fun w5 =>
    if w5 < 0 then
      j57 ()
    else
      bnd (getR 0 6 p0) fun v6 =>
      bnd (getI 0 7 p0) fun v7 =>
      bnd (putI 0 7 p0 (v7 + 1)) fun _ =>
      bnd (stI 2 v6 v7 ((v4 >>> (w5 &&& 31)).toInt8.toInt32)) fun _ =>
      (lp_X0_tapes_24 p0 p1 v1 w2 v4 j57 q) (w5 + (-8))
noncomputable def lp_X0_tapes_8 (n : Nat) (p0 : Nat) (p1 : Nat) (v1 : Int32) (q : Nat) : Int32 → Act Int32 := match q with
  | 0 => fun _ => fail
  | q + 1 => fun w2 =>
    if v1 ≤ w2 then
      bnd (getI 0 7 p0) fun v3 =>
      pur v3
    else
      bnd (ldI 0 p1 w2) fun v4 =>
      jn (fun (_ : Unit) =>
        (lp_X0_tapes_8 n p0 p1 v1 q) (w2 + 1)) fun j57 =>
      lp_X0_tapes_24 p0 p1 v1 w2 v4 j57 n 24
noncomputable def f_X0_tapes (n : Nat) (p0 : Nat) (p1 : Nat) : Act Int32 :=
  bnd (lenq 0 p1) fun v1 =>
  lp_X0_tapes_8 n p0 p1 v1 n 0
set_option maxHeartbeats 4000000 in
theorem s_lp_X0_tapes_24 {X : Cx} (hX : Ok X Pic cX0_tapes RX0 7 (some FieldType.int) 0 0) (hnh : Noh X) (p0 : Nat) (p1 : Nat) (v1 : Int32) (w2 : Int32) (v4 : Int32) (j57 : Unit → Act Int32) (hj57 : ∀ (u : Unit), Sim X cvI 57 [(0, rv p0), (2, rv p1), (3, .int v1), (4, .int w2)] [] (j57 u)) (q : Nat) : ∀ (w5 : Int32), Sim X cvI 24 [(0, rv p0), (2, rv p1), (3, .int v1), (4, .int w2), (5, .int v4), (6, .int w5)] [] (lp_X0_tapes_24 p0 p1 v1 w2 v4 j57 q w5) := by
  induction q with
  | zero => intro w5; exact s_fail
  | succ q ih24 =>
    intro w5
    rw [lp_X0_tapes_24]
    refine s_iload hX dX0_tapes_24 5 rfl ?_
    refine s_if_lt (tgt := 57) hX dX0_tapes_26 (by decide) ?_ ?_
    · exact s_sub [0, 1, 2, 3] rfl (hj57 ())
    · refine s_aload_n hX dX0_tapes_29 rfl 0 rfl ?_
      refine s_getR (ci := 0) (j := 6) (ref := "WindGas") hX (pcG 0) in_X0 (Or.inl q272) (by decide) (by decide) (by decide) rfl dX0_tapes_30 (fun _ h9 => h9) (fun v6 => ?_)
      refine s_aload_n hX dX0_tapes_33 rfl 0 rfl ?_
      refine s_dup hX dX0_tapes_34 (rv_cat _) ?_
      refine s_getI (ci := 0) (j := 7) (ref := "WindGas") hX (pcG 0) in_X0 (Or.inl q273) (by decide) (by decide) (by decide) rfl dX0_tapes_35 (fun _ h9 => h9) (fun v7 => ?_)
      refine s_dup_x1 hX dX0_tapes_38 rfl (rv_cat _) ?_
      refine s_iconst (v := 1) hX dX0_tapes_39 rfl ?_
      refine s_iadd hX dX0_tapes_40 ?_
      refine s_putI (ci := 0) (j := 7) (ref := "WindGas") hX (pcG 0) (pcP 0) in_X0 tyX0_ok nmX0 (Or.inl q273) (by decide) (by decide) (by decide) rfl rfl rfl dX0_tapes_41 (fun _ h9 => h9) ?_
      refine s_iload hX dX0_tapes_44 4 rfl ?_
      refine s_iload hX dX0_tapes_46 5 rfl ?_
      refine s_ishr hX dX0_tapes_48 ?_
      refine s_i2b hX dX0_tapes_49 ?_
      refine s_bast hX (pcA 2) (pcB 2) dX0_tapes_50 ?_
      refine s_iinc (k := 5) (v := (w5 + (-8))) (L2 := [(6, .int (w5 + (-8))), (0, rv p0), (2, rv p1), (3, .int v1), (4, .int w2), (5, .int v4)]) hX dX0_tapes_51 rfl rfl (by decide) rfl ?_
      refine s_goto (tgt := 24) hX dX0_tapes_54 (by decide) ?_
      exact s_sub [1, 2, 3, 4, 5, 0] rfl (ih24 (w5 + (-8)))
set_option maxHeartbeats 4000000 in
theorem s_lp_X0_tapes_8 {X : Cx} (hX : Ok X Pic cX0_tapes RX0 7 (some FieldType.int) 0 0) (hnh : Noh X) (n : Nat) (p0 : Nat) (p1 : Nat) (v1 : Int32) (q : Nat) : ∀ (w2 : Int32), Sim X cvI 8 [(0, rv p0), (2, rv p1), (3, .int v1), (4, .int w2)] [] (lp_X0_tapes_8 n p0 p1 v1 q w2) := by
  induction q with
  | zero => intro w2; exact s_fail
  | succ q ih8 =>
    intro w2
    rw [lp_X0_tapes_8]
    refine s_iload hX dX0_tapes_8 3 rfl ?_
    refine s_iload_n hX dX0_tapes_10 rfl 2 rfl ?_
    refine s_icmp_ge (tgt := 63) hX dX0_tapes_11 (by decide) ?_ ?_
    · refine s_aload_n hX dX0_tapes_63 rfl 0 rfl ?_
      refine s_getI (ci := 0) (j := 7) (ref := "WindGas") hX (pcG 0) in_X0 (Or.inl q273) (by decide) (by decide) (by decide) rfl dX0_tapes_64 (fun _ h9 => h9) (fun v3 => ?_)
      exact s_iret hX dX0_tapes_67
    · refine s_aload_n hX dX0_tapes_14 rfl 1 rfl ?_
      refine s_iload hX dX0_tapes_15 3 rfl ?_
      refine s_iald hX (pcA 0) dX0_tapes_17 (fun v4 => ?_)
      refine s_istore (i := 5) (L2 := [(5, .int v4), (0, rv p0), (2, rv p1), (3, .int v1), (4, .int w2)]) hX dX0_tapes_18 (by decide) rfl ?_
      refine s_bipush (v := 24) hX dX0_tapes_20 (by decide) ?_
      refine s_istore (i := 6) (L2 := [(6, .int 24), (5, .int v4), (0, rv p0), (2, rv p1), (3, .int v1), (4, .int w2)]) hX dX0_tapes_22 (by decide) rfl ?_
      refine s_jn (P := fun j => ∀ (u : Unit), Sim X cvI 57 [(0, rv p0), (2, rv p1), (3, .int v1), (4, .int w2)] [] (j u)) ?_ (fun j57 hj57 => ?_)
      · intro u
        refine s_iinc (k := 3) (v := (w2 + 1)) (L2 := [(4, .int (w2 + 1)), (0, rv p0), (2, rv p1), (3, .int v1)]) hX dX0_tapes_57 rfl rfl (by decide) rfl ?_
        refine s_goto (tgt := 8) hX dX0_tapes_60 (by decide) ?_
        exact s_sub [1, 2, 3, 0] rfl (ih8 (w2 + 1))
      · exact s_sub [2, 3, 4, 5, 1, 0] rfl (s_lp_X0_tapes_24 hX hnh p0 p1 v1 w2 v4 j57 hj57 n 24)
set_option maxHeartbeats 4000000 in
theorem ct_X0_tapes (l : Launch) (n : Nat) (p0 : Nat) (p1 : Nat) : Ct l Pic yX0_tapes (ws_ yX0_tapes cX0_tapes 7 (some FieldType.int)) 0 0 cvI [rv p0, rv p1] (f_X0_tapes n p0 p1) := by
  refine Ct.of (own := RX0) (L := [(0, rv p0), (1, rv p1)]) (plainFor_of_name (by decide)) rfl (by first | decide | simp [lg_sl, rv_cat, cat_i, cat_l]) (by first | rfl | simp [lv_args, rv_cat, cat_i, cat_l]) pcZ (fun X hXl hX hnh hin => ?_)
  subst hXl
  unfold f_X0_tapes
  refine s_aload_n hX dX0_tapes_0 rfl 1 rfl ?_
  refine s_astore_n (i := 2) (L2 := [(2, rv p1), (0, rv p0), (1, rv p1)]) hX dX0_tapes_1 rfl (by decide) (by first | (simp [rv_cat, cat_i, cat_l]; done) | (simp [rv_cat, cat_i, cat_l]; decide)) ?_
  refine s_aload_n hX dX0_tapes_2 rfl 0 rfl ?_
  refine s_alen (q := 0) hX (by decide) (pcA 0) dX0_tapes_3 (fun v1 => ?_)
  refine s_istore_n (i := 3) (L2 := [(3, .int v1), (2, rv p1), (0, rv p0), (1, rv p1)]) hX dX0_tapes_4 rfl (by decide) (by first | (simp [rv_cat, cat_i, cat_l]; done) | (simp [rv_cat, cat_i, cat_l]; decide)) ?_
  refine s_iconst (v := 0) hX dX0_tapes_5 rfl ?_
  refine s_istore (i := 4) (L2 := [(4, .int 0), (3, .int v1), (2, rv p1), (0, rv p0), (1, rv p1)]) hX dX0_tapes_6 (by decide) rfl ?_
  exact s_sub [3, 2, 1, 0] rfl (s_lp_X0_tapes_8 hX hnh n p0 p1 v1 n 0)
theorem dX0_feed_0 : decode cX0_feed 0 = .ok (.aload_n 0, 1) := by decide +kernel
theorem dX0_feed_1 : decode cX0_feed 1 = .ok (.getfield 163, 3) := by decide +kernel
theorem dX0_feed_4 : decode cX0_feed 4 = .ok (.bipush 20, 2) := by decide +kernel
theorem dX0_feed_6 : decode cX0_feed 6 = .ok (.iadd, 1) := by decide +kernel
theorem dX0_feed_7 : decode cX0_feed 7 = .ok (.sipush 600, 3) := by decide +kernel
theorem dX0_feed_10 : decode cX0_feed 10 = .ok (.if_icmp .le 7, 3) := by decide +kernel
theorem dX0_feed_13 : decode cX0_feed 13 = .ok (.iconst (-1), 1) := by decide +kernel
theorem dX0_feed_14 : decode cX0_feed 14 = .ok (.goto 32, 3) := by decide +kernel
theorem dX0_feed_17 : decode cX0_feed 17 = .ok (.aload_n 0, 1) := by decide +kernel
theorem dX0_feed_18 : decode cX0_feed 18 = .ok (.iconst 5, 1) := by decide +kernel
theorem dX0_feed_19 : decode cX0_feed 19 = .ok (.newarray .int, 2) := by decide +kernel
theorem dX0_feed_21 : decode cX0_feed 21 = .ok (.dup, 1) := by decide +kernel
theorem dX0_feed_22 : decode cX0_feed 22 = .ok (.iconst 0, 1) := by decide +kernel
theorem dX0_feed_23 : decode cX0_feed 23 = .ok (.iload_n 1, 1) := by decide +kernel
theorem dX0_feed_24 : decode cX0_feed 24 = .ok (.iastore, 1) := by decide +kernel
theorem dX0_feed_25 : decode cX0_feed 25 = .ok (.dup, 1) := by decide +kernel
theorem dX0_feed_26 : decode cX0_feed 26 = .ok (.iconst 1, 1) := by decide +kernel
theorem dX0_feed_27 : decode cX0_feed 27 = .ok (.iload_n 2, 1) := by decide +kernel
theorem dX0_feed_28 : decode cX0_feed 28 = .ok (.iastore, 1) := by decide +kernel
theorem dX0_feed_29 : decode cX0_feed 29 = .ok (.dup, 1) := by decide +kernel
theorem dX0_feed_30 : decode cX0_feed 30 = .ok (.iconst 2, 1) := by decide +kernel
theorem dX0_feed_31 : decode cX0_feed 31 = .ok (.iload_n 3, 1) := by decide +kernel
theorem dX0_feed_32 : decode cX0_feed 32 = .ok (.iastore, 1) := by decide +kernel
theorem dX0_feed_33 : decode cX0_feed 33 = .ok (.dup, 1) := by decide +kernel
theorem dX0_feed_34 : decode cX0_feed 34 = .ok (.iconst 3, 1) := by decide +kernel
theorem dX0_feed_35 : decode cX0_feed 35 = .ok (.iload 4, 2) := by decide +kernel
theorem dX0_feed_37 : decode cX0_feed 37 = .ok (.iastore, 1) := by decide +kernel
theorem dX0_feed_38 : decode cX0_feed 38 = .ok (.dup, 1) := by decide +kernel
theorem dX0_feed_39 : decode cX0_feed 39 = .ok (.iconst 4, 1) := by decide +kernel
theorem dX0_feed_40 : decode cX0_feed 40 = .ok (.iload 5, 2) := by decide +kernel
theorem dX0_feed_42 : decode cX0_feed 42 = .ok (.iastore, 1) := by decide +kernel
theorem dX0_feed_43 : decode cX0_feed 43 = .ok (.invokevirtual 166, 3) := by decide +kernel
theorem dX0_feed_46 : decode cX0_feed 46 = .ok (.ireturn, 1) := by decide +kernel
theorem ycX0_feed : yX0_feed.cls ≠ "java/lang/invoke/MethodHandle" ∧ yX0_feed.cls ≠ "java/lang/invoke/VarHandle" ∧ (parseMethodDescriptor yX0_feed.desc).map (fun d => d.parameters.length) = some 5 := by decide +kernel
theorem yvX0_feed : yX0_feed.cls = RR 0 ∧ yX0_feed.cls ≠ "java/lang/invoke/MethodHandle" ∧ yX0_feed.cls ≠ "java/lang/invoke/VarHandle" ∧ (parseMethodDescriptor yX0_feed.desc).map (fun d => d.parameters.length) = some 5 := ⟨rfl, ycX0_feed⟩
noncomputable def f_X0_feed (n : Nat) (p0 : Nat) (p1 : Int32) (p2 : Int32) (p3 : Int32) (p4 : Int32) (p5 : Int32) : Act Int32 :=
  bnd (getI 0 7 p0) fun v1 =>
  jn (fun (v2 : Int32) =>
    pur v2) fun j46 =>
  if (v1 + 20) ≤ 600 then
    bnd (newA 0 5) fun v3 =>
    bnd (stI 0 v3 0 p1) fun _ =>
    bnd (stI 0 v3 1 p2) fun _ =>
    bnd (stI 0 v3 2 p3) fun _ =>
    bnd (stI 0 v3 3 p4) fun _ =>
    bnd (stI 0 v3 4 p5) fun _ =>
    bnd (gd 0 p0 (nt (f_X0_tapes n p0 v3))) fun v4 =>
    j46 v4
  else
    j46 (-1)
set_option maxHeartbeats 4000000 in
theorem ct_X0_feed (l : Launch) (n : Nat) (p0 : Nat) (p1 : Int32) (p2 : Int32) (p3 : Int32) (p4 : Int32) (p5 : Int32) : Ct l Pic yX0_feed (ws_ yX0_feed cX0_feed 6 (some FieldType.int)) 1 26 cvI [rv p0, .int p1, .int p2, .int p3, .int p4, .int p5] (f_X0_feed n p0 p1 p2 p3 p4 p5) := by
  refine Ct.of (own := RX0) (L := [(0, rv p0), (1, .int p1), (2, .int p2), (3, .int p3), (4, .int p4), (5, .int p5)]) (plainFor_of_name (by decide)) rfl (by first | decide | simp [lg_sl, rv_cat, cat_i, cat_l]) (by first | rfl | simp [lv_args, rv_cat, cat_i, cat_l]) pcZ (fun X hXl hX hnh hin => ?_)
  subst hXl
  unfold f_X0_feed
  refine s_aload_n hX dX0_feed_0 rfl 0 rfl ?_
  refine s_getI (ci := 0) (j := 7) (ref := "WindGas") hX (pcG 0) in_X0 (Or.inl q273) (by decide) (by decide) (by decide) rfl dX0_feed_1 (fun _ h9 => h9) (fun v1 => ?_)
  refine s_bipush (v := 20) hX dX0_feed_4 (by decide) ?_
  refine s_iadd hX dX0_feed_6 ?_
  refine s_sipush (v := 600) hX dX0_feed_7 (by decide) ?_
  refine s_jn (P := fun j => ∀ (v2 : Int32), Sim X cvI 46 [] [.int v2] (j v2)) ?_ (fun j46 hj46 => ?_)
  · intro v2
    exact s_iret hX dX0_feed_46
  · refine s_icmp_le (tgt := 17) hX dX0_feed_10 (by decide) ?_ ?_
    · refine s_aload_n hX dX0_feed_17 rfl 0 rfl ?_
      refine s_iconst (v := 5) hX dX0_feed_18 rfl ?_
      refine s_newI hX (pcM 0) q393 dX0_feed_19 (fun v3 => ?_)
      refine s_dup hX dX0_feed_21 (rv_cat _) ?_
      refine s_iconst (v := 0) hX dX0_feed_22 rfl ?_
      refine s_iload_n hX dX0_feed_23 rfl 1 rfl ?_
      refine s_iast hX (pcA 0) (pcB 0) dX0_feed_24 ?_
      refine s_dup hX dX0_feed_25 (rv_cat _) ?_
      refine s_iconst (v := 1) hX dX0_feed_26 rfl ?_
      refine s_iload_n hX dX0_feed_27 rfl 2 rfl ?_
      refine s_iast hX (pcA 0) (pcB 0) dX0_feed_28 ?_
      refine s_dup hX dX0_feed_29 (rv_cat _) ?_
      refine s_iconst (v := 2) hX dX0_feed_30 rfl ?_
      refine s_iload_n hX dX0_feed_31 rfl 3 rfl ?_
      refine s_iast hX (pcA 0) (pcB 0) dX0_feed_32 ?_
      refine s_dup hX dX0_feed_33 (rv_cat _) ?_
      refine s_iconst (v := 3) hX dX0_feed_34 rfl ?_
      refine s_iload hX dX0_feed_35 4 rfl ?_
      refine s_iast hX (pcA 0) (pcB 0) dX0_feed_37 ?_
      refine s_dup hX dX0_feed_38 (rv_cat _) ?_
      refine s_iconst (v := 4) hX dX0_feed_39 rfl ?_
      refine s_iload hX dX0_feed_40 5 rfl ?_
      refine s_iast hX (pcA 0) (pcB 0) dX0_feed_42 ?_
      refine s_callV_I (ci := 0) (n := 1) (As := [rv v3]) (st := []) hX (pcK 1) (by decide) (ct_X0_tapes X.l n p0 v3) q560 q562 qs6 q84 q563 yvX0_tapes (by decide) rfl (by first | decide | simp [rv_cat, cat_i, cat_l]) dX0_feed_43 (fun v4 => ?_)
      exact s_sub [] rfl (hj46 v4)
    · refine s_iconst (v := -1) hX dX0_feed_13 (by decide) ?_
      refine s_goto (tgt := 46) hX dX0_feed_14 (by decide) ?_
      exact s_sub [] rfl (hj46 (-1))
theorem dX0_here_0 : decode cX0_here 0 = .ok (.iload_n 1, 1) := by decide +kernel
theorem dX0_here_1 : decode cX0_here 1 = .ok (.aload_n 0, 1) := by decide +kernel
theorem dX0_here_2 : decode cX0_here 2 = .ok (.getfield 170, 3) := by decide +kernel
theorem dX0_here_5 : decode cX0_here 5 = .ok (.if_icmp .ge 16, 3) := by decide +kernel
theorem dX0_here_8 : decode cX0_here 8 = .ok (.aload_n 0, 1) := by decide +kernel
theorem dX0_here_9 : decode cX0_here 9 = .ok (.getfield 40, 3) := by decide +kernel
theorem dX0_here_12 : decode cX0_here 12 = .ok (.iload_n 1, 1) := by decide +kernel
theorem dX0_here_13 : decode cX0_here 13 = .ok (.baload, 1) := by decide +kernel
theorem dX0_here_14 : decode cX0_here 14 = .ok (.sipush 255, 3) := by decide +kernel
theorem dX0_here_17 : decode cX0_here 17 = .ok (.iand, 1) := by decide +kernel
theorem dX0_here_18 : decode cX0_here 18 = .ok (.goto 4, 3) := by decide +kernel
theorem dX0_here_21 : decode cX0_here 21 = .ok (.iconst (-1), 1) := by decide +kernel
theorem dX0_here_22 : decode cX0_here 22 = .ok (.ireturn, 1) := by decide +kernel
theorem ycX0_here : yX0_here.cls ≠ "java/lang/invoke/MethodHandle" ∧ yX0_here.cls ≠ "java/lang/invoke/VarHandle" ∧ (parseMethodDescriptor yX0_here.desc).map (fun d => d.parameters.length) = some 1 := by decide +kernel
theorem yvX0_here : yX0_here.cls = RR 0 ∧ yX0_here.cls ≠ "java/lang/invoke/MethodHandle" ∧ yX0_here.cls ≠ "java/lang/invoke/VarHandle" ∧ (parseMethodDescriptor yX0_here.desc).map (fun d => d.parameters.length) = some 1 := ⟨rfl, ycX0_here⟩
noncomputable def f_X0_here (p0 : Nat) (p1 : Int32) : Act Int32 :=
  bnd (getI 0 9 p0) fun v1 =>
  jn (fun (v2 : Int32) =>
    pur v2) fun j22 =>
  if v1 ≤ p1 then
    j22 (-1)
  else
    bnd (getR 0 6 p0) fun v3 =>
    bnd (ldI 2 v3 p1) fun v4 =>
    j22 (v4 &&& 255)
set_option maxHeartbeats 4000000 in
theorem ct_X0_here (l : Launch) (p0 : Nat) (p1 : Int32) : Ct l Pic yX0_here (ws_ yX0_here cX0_here 2 (some FieldType.int)) 0 0 cvI [rv p0, .int p1] (f_X0_here p0 p1) := by
  refine Ct.of (own := RX0) (L := [(0, rv p0), (1, .int p1)]) (plainFor_of_name (by decide)) rfl (by first | decide | simp [lg_sl, rv_cat, cat_i, cat_l]) (by first | rfl | simp [lv_args, rv_cat, cat_i, cat_l]) pcZ (fun X hXl hX hnh hin => ?_)
  subst hXl
  unfold f_X0_here
  refine s_iload_n hX dX0_here_0 rfl 1 rfl ?_
  refine s_aload_n hX dX0_here_1 rfl 0 rfl ?_
  refine s_getI (ci := 0) (j := 9) (ref := "WindGas") hX (pcG 0) in_X0 (Or.inl q275) (by decide) (by decide) (by decide) rfl dX0_here_2 (fun _ h9 => h9) (fun v1 => ?_)
  refine s_jn (P := fun j => ∀ (v2 : Int32), Sim X cvI 22 [] [.int v2] (j v2)) ?_ (fun j22 hj22 => ?_)
  · intro v2
    exact s_iret hX dX0_here_22
  · refine s_icmp_ge (tgt := 21) hX dX0_here_5 (by decide) ?_ ?_
    · refine s_iconst (v := -1) hX dX0_here_21 (by decide) ?_
      exact s_sub [] rfl (hj22 (-1))
    · refine s_aload_n hX dX0_here_8 rfl 0 rfl ?_
      refine s_getR (ci := 0) (j := 6) (ref := "WindGas") hX (pcG 0) in_X0 (Or.inl q272) (by decide) (by decide) (by decide) rfl dX0_here_9 (fun _ h9 => h9) (fun v3 => ?_)
      refine s_iload_n hX dX0_here_12 rfl 1 rfl ?_
      refine s_bald hX (pcA 2) dX0_here_13 (fun v4 => ?_)
      refine s_sipush (v := 255) hX dX0_here_14 (by decide) ?_
      refine s_iand hX dX0_here_17 ?_
      refine s_goto (tgt := 22) hX dX0_here_18 (by decide) ?_
      exact s_sub [] rfl (hj22 (v4 &&& 255))
theorem dX0_isLetter_0 : decode cX0_isLetter 0 = .ok (.iload_n 0, 1) := by decide +kernel
theorem dX0_isLetter_1 : decode cX0_isLetter 1 = .ok (.bipush 97, 2) := by decide +kernel
theorem dX0_isLetter_3 : decode cX0_isLetter 3 = .ok (.if_icmp .lt 13, 3) := by decide +kernel
theorem dX0_isLetter_6 : decode cX0_isLetter 6 = .ok (.iload_n 0, 1) := by decide +kernel
theorem dX0_isLetter_7 : decode cX0_isLetter 7 = .ok (.bipush 122, 2) := by decide +kernel
theorem dX0_isLetter_9 : decode cX0_isLetter 9 = .ok (.if_icmp .gt 7, 3) := by decide +kernel
theorem dX0_isLetter_12 : decode cX0_isLetter 12 = .ok (.iconst 1, 1) := by decide +kernel
theorem dX0_isLetter_13 : decode cX0_isLetter 13 = .ok (.goto 4, 3) := by decide +kernel
theorem dX0_isLetter_16 : decode cX0_isLetter 16 = .ok (.iconst 0, 1) := by decide +kernel
theorem dX0_isLetter_17 : decode cX0_isLetter 17 = .ok (.ireturn, 1) := by decide +kernel
theorem ycX0_isLetter : yX0_isLetter.cls ≠ "java/lang/invoke/MethodHandle" ∧ yX0_isLetter.cls ≠ "java/lang/invoke/VarHandle" ∧ (parseMethodDescriptor yX0_isLetter.desc).map (fun d => d.parameters.length) = some 1 := by decide +kernel
noncomputable def f_X0_isLetter (p0 : Int32) : Act Int32 :=
  jn (fun (v1 : Int32) =>
    purS (ty := .boolean) v1) fun j17 =>
  jn (fun (_ : Unit) =>
    j17 0) fun j16 =>
  if p0 < 97 then
    j16 ()
  else
    if 122 < p0 then
      j16 ()
    else
      j17 1
set_option maxHeartbeats 4000000 in
theorem ct_X0_isLetter (l : Launch) (p0 : Int32) : Ct l Pic yX0_isLetter (ws_ yX0_isLetter cX0_isLetter 1 (some FieldType.boolean)) 0 0 cvI [.int p0] (f_X0_isLetter p0) := by
  refine Ct.of (own := RX0) (L := [(0, .int p0)]) (plainFor_of_name (by decide)) rfl (by first | decide | simp [lg_sl, rv_cat, cat_i, cat_l]) (by first | rfl | simp [lv_args, rv_cat, cat_i, cat_l]) pcZ (fun X hXl hX hnh hin => ?_)
  subst hXl
  unfold f_X0_isLetter
  refine s_iload_n hX dX0_isLetter_0 rfl 0 rfl ?_
  refine s_bipush (v := 97) hX dX0_isLetter_1 (by decide) ?_
  refine s_jn (P := fun j => ∀ (v1 : Int32), Sim X cvI 17 [] [.int v1] (j v1)) ?_ (fun j17 hj17 => ?_)
  · intro v1
    exact s_zret hX dX0_isLetter_17
  · refine s_jn (P := fun j => ∀ (u : Unit), Sim X cvI 16 [] [] (j u)) ?_ (fun j16 hj16 => ?_)
    · intro u
      refine s_iconst (v := 0) hX dX0_isLetter_16 rfl ?_
      exact hj17 0
    · refine s_icmp_lt (tgt := 16) hX dX0_isLetter_3 (by decide) ?_ ?_
      · exact s_sub [] rfl (hj16 ())
      · refine s_iload_n hX dX0_isLetter_6 rfl 0 rfl ?_
        refine s_bipush (v := 122) hX dX0_isLetter_7 (by decide) ?_
        refine s_icmp_gt (tgt := 16) hX dX0_isLetter_9 (by decide) ?_ ?_
        · exact s_sub [] rfl (hj16 ())
        · refine s_iconst (v := 1) hX dX0_isLetter_12 rfl ?_
          refine s_goto (tgt := 17) hX dX0_isLetter_13 (by decide) ?_
          exact s_sub [] rfl (hj17 1)
theorem dX0_isDigit_0 : decode cX0_isDigit 0 = .ok (.iload_n 0, 1) := by decide +kernel
theorem dX0_isDigit_1 : decode cX0_isDigit 1 = .ok (.bipush 48, 2) := by decide +kernel
theorem dX0_isDigit_3 : decode cX0_isDigit 3 = .ok (.if_icmp .lt 13, 3) := by decide +kernel
theorem dX0_isDigit_6 : decode cX0_isDigit 6 = .ok (.iload_n 0, 1) := by decide +kernel
theorem dX0_isDigit_7 : decode cX0_isDigit 7 = .ok (.bipush 57, 2) := by decide +kernel
theorem dX0_isDigit_9 : decode cX0_isDigit 9 = .ok (.if_icmp .gt 7, 3) := by decide +kernel
theorem dX0_isDigit_12 : decode cX0_isDigit 12 = .ok (.iconst 1, 1) := by decide +kernel
theorem dX0_isDigit_13 : decode cX0_isDigit 13 = .ok (.goto 4, 3) := by decide +kernel
theorem dX0_isDigit_16 : decode cX0_isDigit 16 = .ok (.iconst 0, 1) := by decide +kernel
theorem dX0_isDigit_17 : decode cX0_isDigit 17 = .ok (.ireturn, 1) := by decide +kernel
theorem ycX0_isDigit : yX0_isDigit.cls ≠ "java/lang/invoke/MethodHandle" ∧ yX0_isDigit.cls ≠ "java/lang/invoke/VarHandle" ∧ (parseMethodDescriptor yX0_isDigit.desc).map (fun d => d.parameters.length) = some 1 := by decide +kernel
noncomputable def f_X0_isDigit (p0 : Int32) : Act Int32 :=
  jn (fun (v1 : Int32) =>
    purS (ty := .boolean) v1) fun j17 =>
  jn (fun (_ : Unit) =>
    j17 0) fun j16 =>
  if p0 < 48 then
    j16 ()
  else
    if 57 < p0 then
      j16 ()
    else
      j17 1
set_option maxHeartbeats 4000000 in
theorem ct_X0_isDigit (l : Launch) (p0 : Int32) : Ct l Pic yX0_isDigit (ws_ yX0_isDigit cX0_isDigit 1 (some FieldType.boolean)) 0 0 cvI [.int p0] (f_X0_isDigit p0) := by
  refine Ct.of (own := RX0) (L := [(0, .int p0)]) (plainFor_of_name (by decide)) rfl (by first | decide | simp [lg_sl, rv_cat, cat_i, cat_l]) (by first | rfl | simp [lv_args, rv_cat, cat_i, cat_l]) pcZ (fun X hXl hX hnh hin => ?_)
  subst hXl
  unfold f_X0_isDigit
  refine s_iload_n hX dX0_isDigit_0 rfl 0 rfl ?_
  refine s_bipush (v := 48) hX dX0_isDigit_1 (by decide) ?_
  refine s_jn (P := fun j => ∀ (v1 : Int32), Sim X cvI 17 [] [.int v1] (j v1)) ?_ (fun j17 hj17 => ?_)
  · intro v1
    exact s_zret hX dX0_isDigit_17
  · refine s_jn (P := fun j => ∀ (u : Unit), Sim X cvI 16 [] [] (j u)) ?_ (fun j16 hj16 => ?_)
    · intro u
      refine s_iconst (v := 0) hX dX0_isDigit_16 rfl ?_
      exact hj17 0
    · refine s_icmp_lt (tgt := 16) hX dX0_isDigit_3 (by decide) ?_ ?_
      · exact s_sub [] rfl (hj16 ())
      · refine s_iload_n hX dX0_isDigit_6 rfl 0 rfl ?_
        refine s_bipush (v := 57) hX dX0_isDigit_7 (by decide) ?_
        refine s_icmp_gt (tgt := 16) hX dX0_isDigit_9 (by decide) ?_ ?_
        · exact s_sub [] rfl (hj16 ())
        · refine s_iconst (v := 1) hX dX0_isDigit_12 rfl ?_
          refine s_goto (tgt := 17) hX dX0_isDigit_13 (by decide) ?_
          exact s_sub [] rfl (hj17 1)
theorem dX0_isSign_0 : decode cX0_isSign 0 = .ok (.iload_n 0, 1) := by decide +kernel
theorem dX0_isSign_1 : decode cX0_isSign 1 = .ok (.bipush 59, 2) := by decide +kernel
theorem dX0_isSign_3 : decode cX0_isSign 3 = .ok (.if_icmp .eq 39, 3) := by decide +kernel
theorem dX0_isSign_6 : decode cX0_isSign 6 = .ok (.iload_n 0, 1) := by decide +kernel
theorem dX0_isSign_7 : decode cX0_isSign 7 = .ok (.bipush 40, 2) := by decide +kernel
theorem dX0_isSign_9 : decode cX0_isSign 9 = .ok (.if_icmp .eq 33, 3) := by decide +kernel
theorem dX0_isSign_12 : decode cX0_isSign 12 = .ok (.iload_n 0, 1) := by decide +kernel
theorem dX0_isSign_13 : decode cX0_isSign 13 = .ok (.bipush 41, 2) := by decide +kernel
theorem dX0_isSign_15 : decode cX0_isSign 15 = .ok (.if_icmp .eq 27, 3) := by decide +kernel
theorem dX0_isSign_18 : decode cX0_isSign 18 = .ok (.iload_n 0, 1) := by decide +kernel
theorem dX0_isSign_19 : decode cX0_isSign 19 = .ok (.bipush 60, 2) := by decide +kernel
theorem dX0_isSign_21 : decode cX0_isSign 21 = .ok (.if_icmp .eq 21, 3) := by decide +kernel
theorem dX0_isSign_24 : decode cX0_isSign 24 = .ok (.iload_n 0, 1) := by decide +kernel
theorem dX0_isSign_25 : decode cX0_isSign 25 = .ok (.bipush 62, 2) := by decide +kernel
theorem dX0_isSign_27 : decode cX0_isSign 27 = .ok (.if_icmp .eq 15, 3) := by decide +kernel
theorem dX0_isSign_30 : decode cX0_isSign 30 = .ok (.iload_n 0, 1) := by decide +kernel
theorem dX0_isSign_31 : decode cX0_isSign 31 = .ok (.bipush 61, 2) := by decide +kernel
theorem dX0_isSign_33 : decode cX0_isSign 33 = .ok (.if_icmp .eq 9, 3) := by decide +kernel
theorem dX0_isSign_36 : decode cX0_isSign 36 = .ok (.iload_n 0, 1) := by decide +kernel
theorem dX0_isSign_37 : decode cX0_isSign 37 = .ok (.bipush 45, 2) := by decide +kernel
theorem dX0_isSign_39 : decode cX0_isSign 39 = .ok (.if_icmp .ne 7, 3) := by decide +kernel
theorem dX0_isSign_42 : decode cX0_isSign 42 = .ok (.iconst 1, 1) := by decide +kernel
theorem dX0_isSign_43 : decode cX0_isSign 43 = .ok (.goto 4, 3) := by decide +kernel
theorem dX0_isSign_46 : decode cX0_isSign 46 = .ok (.iconst 0, 1) := by decide +kernel
theorem dX0_isSign_47 : decode cX0_isSign 47 = .ok (.ireturn, 1) := by decide +kernel
theorem ycX0_isSign : yX0_isSign.cls ≠ "java/lang/invoke/MethodHandle" ∧ yX0_isSign.cls ≠ "java/lang/invoke/VarHandle" ∧ (parseMethodDescriptor yX0_isSign.desc).map (fun d => d.parameters.length) = some 1 := by decide +kernel
noncomputable def f_X0_isSign (p0 : Int32) : Act Int32 :=
  jn (fun (v1 : Int32) =>
    purS (ty := .boolean) v1) fun j47 =>
  jn (fun (_ : Unit) =>
    j47 1) fun j42 =>
  if p0 = 59 then
    j42 ()
  else
    if p0 = 40 then
      j42 ()
    else
      if p0 = 41 then
        j42 ()
      else
        if p0 = 60 then
          j42 ()
        else
          if p0 = 62 then
            j42 ()
          else
            if p0 = 61 then
              j42 ()
            else
              if ¬ p0 = 45 then
                j47 0
              else
                j42 ()
set_option maxHeartbeats 4000000 in
theorem ct_X0_isSign (l : Launch) (p0 : Int32) : Ct l Pic yX0_isSign (ws_ yX0_isSign cX0_isSign 1 (some FieldType.boolean)) 0 0 cvI [.int p0] (f_X0_isSign p0) := by
  refine Ct.of (own := RX0) (L := [(0, .int p0)]) (plainFor_of_name (by decide)) rfl (by first | decide | simp [lg_sl, rv_cat, cat_i, cat_l]) (by first | rfl | simp [lv_args, rv_cat, cat_i, cat_l]) pcZ (fun X hXl hX hnh hin => ?_)
  subst hXl
  unfold f_X0_isSign
  refine s_iload_n hX dX0_isSign_0 rfl 0 rfl ?_
  refine s_bipush (v := 59) hX dX0_isSign_1 (by decide) ?_
  refine s_jn (P := fun j => ∀ (v1 : Int32), Sim X cvI 47 [] [.int v1] (j v1)) ?_ (fun j47 hj47 => ?_)
  · intro v1
    exact s_zret hX dX0_isSign_47
  · refine s_jn (P := fun j => ∀ (u : Unit), Sim X cvI 42 [] [] (j u)) ?_ (fun j42 hj42 => ?_)
    · intro u
      refine s_iconst (v := 1) hX dX0_isSign_42 rfl ?_
      refine s_goto (tgt := 47) hX dX0_isSign_43 (by decide) ?_
      exact hj47 1
    · refine s_icmp_eq (tgt := 42) hX dX0_isSign_3 (by decide) ?_ ?_
      · exact s_sub [] rfl (hj42 ())
      · refine s_iload_n hX dX0_isSign_6 rfl 0 rfl ?_
        refine s_bipush (v := 40) hX dX0_isSign_7 (by decide) ?_
        refine s_icmp_eq (tgt := 42) hX dX0_isSign_9 (by decide) ?_ ?_
        · exact s_sub [] rfl (hj42 ())
        · refine s_iload_n hX dX0_isSign_12 rfl 0 rfl ?_
          refine s_bipush (v := 41) hX dX0_isSign_13 (by decide) ?_
          refine s_icmp_eq (tgt := 42) hX dX0_isSign_15 (by decide) ?_ ?_
          · exact s_sub [] rfl (hj42 ())
          · refine s_iload_n hX dX0_isSign_18 rfl 0 rfl ?_
            refine s_bipush (v := 60) hX dX0_isSign_19 (by decide) ?_
            refine s_icmp_eq (tgt := 42) hX dX0_isSign_21 (by decide) ?_ ?_
            · exact s_sub [] rfl (hj42 ())
            · refine s_iload_n hX dX0_isSign_24 rfl 0 rfl ?_
              refine s_bipush (v := 62) hX dX0_isSign_25 (by decide) ?_
              refine s_icmp_eq (tgt := 42) hX dX0_isSign_27 (by decide) ?_ ?_
              · exact s_sub [] rfl (hj42 ())
              · refine s_iload_n hX dX0_isSign_30 rfl 0 rfl ?_
                refine s_bipush (v := 61) hX dX0_isSign_31 (by decide) ?_
                refine s_icmp_eq (tgt := 42) hX dX0_isSign_33 (by decide) ?_ ?_
                · exact s_sub [] rfl (hj42 ())
                · refine s_iload_n hX dX0_isSign_36 rfl 0 rfl ?_
                  refine s_bipush (v := 45) hX dX0_isSign_37 (by decide) ?_
                  refine s_icmp_ne (tgt := 46) hX dX0_isSign_39 (by decide) ?_ ?_
                  · refine s_iconst (v := 0) hX dX0_isSign_46 rfl ?_
                    exact s_sub [] rfl (hj47 0)
                  · exact s_sub [] rfl (hj42 ())
theorem dX0_next_0 : decode cX0_next 0 = .ok (.aload_n 0, 1) := by decide +kernel
theorem dX0_next_1 : decode cX0_next 1 = .ok (.aload_n 0, 1) := by decide +kernel
theorem dX0_next_2 : decode cX0_next 2 = .ok (.getfield 173, 3) := by decide +kernel
theorem dX0_next_5 : decode cX0_next 5 = .ok (.invokevirtual 176, 3) := by decide +kernel
theorem dX0_next_8 : decode cX0_next 8 = .ok (.bipush 32, 2) := by decide +kernel
theorem dX0_next_10 : decode cX0_next 10 = .ok (.if_icmp .eq 16, 3) := by decide +kernel
theorem dX0_next_13 : decode cX0_next 13 = .ok (.aload_n 0, 1) := by decide +kernel
theorem dX0_next_14 : decode cX0_next 14 = .ok (.aload_n 0, 1) := by decide +kernel
theorem dX0_next_15 : decode cX0_next 15 = .ok (.getfield 173, 3) := by decide +kernel
theorem dX0_next_18 : decode cX0_next 18 = .ok (.invokevirtual 176, 3) := by decide +kernel
theorem dX0_next_21 : decode cX0_next 21 = .ok (.bipush 10, 2) := by decide +kernel
theorem dX0_next_23 : decode cX0_next 23 = .ok (.if_icmp .ne 16, 3) := by decide +kernel
theorem dX0_next_26 : decode cX0_next 26 = .ok (.aload_n 0, 1) := by decide +kernel
theorem dX0_next_27 : decode cX0_next 27 = .ok (.dup, 1) := by decide +kernel
theorem dX0_next_28 : decode cX0_next 28 = .ok (.getfield 173, 3) := by decide +kernel
theorem dX0_next_31 : decode cX0_next 31 = .ok (.iconst 1, 1) := by decide +kernel
theorem dX0_next_32 : decode cX0_next 32 = .ok (.iadd, 1) := by decide +kernel
theorem dX0_next_33 : decode cX0_next 33 = .ok (.putfield 173, 3) := by decide +kernel
theorem dX0_next_36 : decode cX0_next 36 = .ok (.goto (-36), 3) := by decide +kernel
theorem dX0_next_39 : decode cX0_next 39 = .ok (.aload_n 0, 1) := by decide +kernel
theorem dX0_next_40 : decode cX0_next 40 = .ok (.aload_n 0, 1) := by decide +kernel
theorem dX0_next_41 : decode cX0_next 41 = .ok (.getfield 173, 3) := by decide +kernel
theorem dX0_next_44 : decode cX0_next 44 = .ok (.putfield 179, 3) := by decide +kernel
theorem dX0_next_47 : decode cX0_next 47 = .ok (.aload_n 0, 1) := by decide +kernel
theorem dX0_next_48 : decode cX0_next 48 = .ok (.ldc 48, 2) := by decide +kernel
theorem dX0_next_50 : decode cX0_next 50 = .ok (.putfield 50, 3) := by decide +kernel
theorem dX0_next_53 : decode cX0_next 53 = .ok (.aload_n 0, 1) := by decide +kernel
theorem dX0_next_54 : decode cX0_next 54 = .ok (.aload_n 0, 1) := by decide +kernel
theorem dX0_next_55 : decode cX0_next 55 = .ok (.getfield 173, 3) := by decide +kernel
theorem dX0_next_58 : decode cX0_next 58 = .ok (.invokevirtual 176, 3) := by decide +kernel
theorem dX0_next_61 : decode cX0_next 61 = .ok (.istore_n 1, 1) := by decide +kernel
theorem dX0_next_62 : decode cX0_next 62 = .ok (.iload_n 1, 1) := by decide +kernel
theorem dX0_next_63 : decode cX0_next 63 = .ok (.ifCond .ge 12, 3) := by decide +kernel
theorem dX0_next_66 : decode cX0_next 66 = .ok (.aload_n 0, 1) := by decide +kernel
theorem dX0_next_67 : decode cX0_next 67 = .ok (.bipush 46, 2) := by decide +kernel
theorem dX0_next_69 : decode cX0_next 69 = .ok (.putfield 180, 3) := by decide +kernel
theorem dX0_next_72 : decode cX0_next 72 = .ok (.goto 199, 3) := by decide +kernel
theorem dX0_next_75 : decode cX0_next 75 = .ok (.iload_n 1, 1) := by decide +kernel
theorem dX0_next_76 : decode cX0_next 76 = .ok (.invokestatic 184, 3) := by decide +kernel
theorem dX0_next_79 : decode cX0_next 79 = .ok (.ifCond .eq 69, 3) := by decide +kernel
theorem dX0_next_82 : decode cX0_next 82 = .ok (.aload_n 0, 1) := by decide +kernel
theorem dX0_next_83 : decode cX0_next 83 = .ok (.bipush 119, 2) := by decide +kernel
theorem dX0_next_85 : decode cX0_next 85 = .ok (.putfield 180, 3) := by decide +kernel
theorem dX0_next_88 : decode cX0_next 88 = .ok (.new 187, 3) := by decide +kernel
theorem dX0_next_91 : decode cX0_next 91 = .ok (.dup, 1) := by decide +kernel
theorem dX0_next_92 : decode cX0_next 92 = .ok (.invokespecial 189, 3) := by decide +kernel
theorem dX0_next_95 : decode cX0_next 95 = .ok (.astore_n 2, 1) := by decide +kernel
theorem dX0_next_96 : decode cX0_next 96 = .ok (.aload_n 0, 1) := by decide +kernel
theorem dX0_next_97 : decode cX0_next 97 = .ok (.aload_n 0, 1) := by decide +kernel
theorem dX0_next_98 : decode cX0_next 98 = .ok (.getfield 173, 3) := by decide +kernel
theorem dX0_next_101 : decode cX0_next 101 = .ok (.invokevirtual 176, 3) := by decide +kernel
theorem dX0_next_104 : decode cX0_next 104 = .ok (.invokestatic 184, 3) := by decide +kernel
theorem dX0_next_107 : decode cX0_next 107 = .ok (.ifCond .eq 30, 3) := by decide +kernel
theorem dX0_next_110 : decode cX0_next 110 = .ok (.aload_n 2, 1) := by decide +kernel
theorem dX0_next_111 : decode cX0_next 111 = .ok (.aload_n 0, 1) := by decide +kernel
theorem dX0_next_112 : decode cX0_next 112 = .ok (.aload_n 0, 1) := by decide +kernel
theorem dX0_next_113 : decode cX0_next 113 = .ok (.getfield 173, 3) := by decide +kernel
theorem dX0_next_116 : decode cX0_next 116 = .ok (.invokevirtual 176, 3) := by decide +kernel
theorem dX0_next_119 : decode cX0_next 119 = .ok (.i2c, 1) := by decide +kernel
theorem dX0_next_120 : decode cX0_next 120 = .ok (.invokevirtual 190, 3) := by decide +kernel
theorem dX0_next_123 : decode cX0_next 123 = .ok (.pop, 1) := by decide +kernel
theorem dX0_next_124 : decode cX0_next 124 = .ok (.aload_n 0, 1) := by decide +kernel
theorem dX0_next_125 : decode cX0_next 125 = .ok (.dup, 1) := by decide +kernel
theorem dX0_next_126 : decode cX0_next 126 = .ok (.getfield 173, 3) := by decide +kernel
theorem dX0_next_129 : decode cX0_next 129 = .ok (.iconst 1, 1) := by decide +kernel
theorem dX0_next_130 : decode cX0_next 130 = .ok (.iadd, 1) := by decide +kernel
theorem dX0_next_131 : decode cX0_next 131 = .ok (.putfield 173, 3) := by decide +kernel
theorem dX0_next_134 : decode cX0_next 134 = .ok (.goto (-38), 3) := by decide +kernel
theorem dX0_next_137 : decode cX0_next 137 = .ok (.aload_n 0, 1) := by decide +kernel
theorem dX0_next_138 : decode cX0_next 138 = .ok (.aload_n 2, 1) := by decide +kernel
theorem dX0_next_139 : decode cX0_next 139 = .ok (.invokevirtual 194, 3) := by decide +kernel
theorem dX0_next_142 : decode cX0_next 142 = .ok (.putfield 50, 3) := by decide +kernel
theorem dX0_next_145 : decode cX0_next 145 = .ok (.goto 126, 3) := by decide +kernel
theorem dX0_next_148 : decode cX0_next 148 = .ok (.iload_n 1, 1) := by decide +kernel
theorem dX0_next_149 : decode cX0_next 149 = .ok (.invokestatic 198, 3) := by decide +kernel
theorem dX0_next_152 : decode cX0_next 152 = .ok (.ifCond .eq 91, 3) := by decide +kernel
theorem dX0_next_155 : decode cX0_next 155 = .ok (.aload_n 0, 1) := by decide +kernel
theorem dX0_next_156 : decode cX0_next 156 = .ok (.iconst 0, 1) := by decide +kernel
theorem dX0_next_157 : decode cX0_next 157 = .ok (.putfield 201, 3) := by decide +kernel
theorem dX0_next_160 : decode cX0_next 160 = .ok (.aload_n 0, 1) := by decide +kernel
theorem dX0_next_161 : decode cX0_next 161 = .ok (.aload_n 0, 1) := by decide +kernel
theorem dX0_next_162 : decode cX0_next 162 = .ok (.getfield 173, 3) := by decide +kernel
theorem dX0_next_165 : decode cX0_next 165 = .ok (.invokevirtual 176, 3) := by decide +kernel
theorem dX0_next_168 : decode cX0_next 168 = .ok (.invokestatic 198, 3) := by decide +kernel
theorem dX0_next_171 : decode cX0_next 171 = .ok (.ifCond .eq 44, 3) := by decide +kernel
theorem dX0_next_174 : decode cX0_next 174 = .ok (.aload_n 0, 1) := by decide +kernel
theorem dX0_next_175 : decode cX0_next 175 = .ok (.ldc 204, 2) := by decide +kernel
theorem dX0_next_177 : decode cX0_next 177 = .ok (.bipush 10, 2) := by decide +kernel
theorem dX0_next_179 : decode cX0_next 179 = .ok (.aload_n 0, 1) := by decide +kernel
theorem dX0_next_180 : decode cX0_next 180 = .ok (.getfield 201, 3) := by decide +kernel
theorem dX0_next_183 : decode cX0_next 183 = .ok (.imul, 1) := by decide +kernel
theorem dX0_next_184 : decode cX0_next 184 = .ok (.aload_n 0, 1) := by decide +kernel
theorem dX0_next_185 : decode cX0_next 185 = .ok (.aload_n 0, 1) := by decide +kernel
theorem dX0_next_186 : decode cX0_next 186 = .ok (.getfield 173, 3) := by decide +kernel
theorem dX0_next_189 : decode cX0_next 189 = .ok (.invokevirtual 176, 3) := by decide +kernel
theorem dX0_next_192 : decode cX0_next 192 = .ok (.iadd, 1) := by decide +kernel
theorem dX0_next_193 : decode cX0_next 193 = .ok (.bipush 48, 2) := by decide +kernel
theorem dX0_next_195 : decode cX0_next 195 = .ok (.isub, 1) := by decide +kernel
theorem dX0_next_196 : decode cX0_next 196 = .ok (.invokestatic 205, 3) := by decide +kernel
theorem dX0_next_199 : decode cX0_next 199 = .ok (.putfield 201, 3) := by decide +kernel
theorem dX0_next_202 : decode cX0_next 202 = .ok (.aload_n 0, 1) := by decide +kernel
theorem dX0_next_203 : decode cX0_next 203 = .ok (.dup, 1) := by decide +kernel
theorem dX0_next_204 : decode cX0_next 204 = .ok (.getfield 173, 3) := by decide +kernel
theorem dX0_next_207 : decode cX0_next 207 = .ok (.iconst 1, 1) := by decide +kernel
theorem dX0_next_208 : decode cX0_next 208 = .ok (.iadd, 1) := by decide +kernel
theorem dX0_next_209 : decode cX0_next 209 = .ok (.putfield 173, 3) := by decide +kernel
theorem dX0_next_212 : decode cX0_next 212 = .ok (.goto (-52), 3) := by decide +kernel
theorem dX0_next_215 : decode cX0_next 215 = .ok (.aload_n 0, 1) := by decide +kernel
theorem dX0_next_216 : decode cX0_next 216 = .ok (.aload_n 0, 1) := by decide +kernel
theorem dX0_next_217 : decode cX0_next 217 = .ok (.getfield 173, 3) := by decide +kernel
theorem dX0_next_220 : decode cX0_next 220 = .ok (.aload_n 0, 1) := by decide +kernel
theorem dX0_next_221 : decode cX0_next 221 = .ok (.getfield 179, 3) := by decide +kernel
theorem dX0_next_224 : decode cX0_next 224 = .ok (.isub, 1) := by decide +kernel
theorem dX0_next_225 : decode cX0_next 225 = .ok (.bipush 6, 2) := by decide +kernel
theorem dX0_next_227 : decode cX0_next 227 = .ok (.if_icmp .gt 8, 3) := by decide +kernel
theorem dX0_next_230 : decode cX0_next 230 = .ok (.bipush 110, 2) := by decide +kernel
theorem dX0_next_232 : decode cX0_next 232 = .ok (.goto 5, 3) := by decide +kernel
theorem dX0_next_235 : decode cX0_next 235 = .ok (.bipush 63, 2) := by decide +kernel
theorem dX0_next_237 : decode cX0_next 237 = .ok (.putfield 180, 3) := by decide +kernel
theorem dX0_next_240 : decode cX0_next 240 = .ok (.goto 31, 3) := by decide +kernel
theorem dX0_next_243 : decode cX0_next 243 = .ok (.aload_n 0, 1) := by decide +kernel
theorem dX0_next_244 : decode cX0_next 244 = .ok (.iload_n 1, 1) := by decide +kernel
theorem dX0_next_245 : decode cX0_next 245 = .ok (.invokestatic 211, 3) := by decide +kernel
theorem dX0_next_248 : decode cX0_next 248 = .ok (.ifCond .eq 8, 3) := by decide +kernel
theorem dX0_next_251 : decode cX0_next 251 = .ok (.iload_n 1, 1) := by decide +kernel
theorem dX0_next_252 : decode cX0_next 252 = .ok (.i2c, 1) := by decide +kernel
theorem dX0_next_253 : decode cX0_next 253 = .ok (.goto 5, 3) := by decide +kernel
theorem dX0_next_256 : decode cX0_next 256 = .ok (.bipush 63, 2) := by decide +kernel
theorem dX0_next_258 : decode cX0_next 258 = .ok (.putfield 180, 3) := by decide +kernel
theorem dX0_next_261 : decode cX0_next 261 = .ok (.aload_n 0, 1) := by decide +kernel
theorem dX0_next_262 : decode cX0_next 262 = .ok (.dup, 1) := by decide +kernel
theorem dX0_next_263 : decode cX0_next 263 = .ok (.getfield 173, 3) := by decide +kernel
theorem dX0_next_266 : decode cX0_next 266 = .ok (.iconst 1, 1) := by decide +kernel
theorem dX0_next_267 : decode cX0_next 267 = .ok (.iadd, 1) := by decide +kernel
theorem dX0_next_268 : decode cX0_next 268 = .ok (.putfield 173, 3) := by decide +kernel
theorem dX0_next_271 : decode cX0_next 271 = .ok (.return_, 1) := by decide +kernel
theorem ycX0_next : yX0_next.cls ≠ "java/lang/invoke/MethodHandle" ∧ yX0_next.cls ≠ "java/lang/invoke/VarHandle" ∧ (parseMethodDescriptor yX0_next.desc).map (fun d => d.parameters.length) = some 0 := by decide +kernel
theorem yvX0_next : yX0_next.cls = RR 0 ∧ yX0_next.cls ≠ "java/lang/invoke/MethodHandle" ∧ yX0_next.cls ≠ "java/lang/invoke/VarHandle" ∧ (parseMethodDescriptor yX0_next.desc).map (fun d => d.parameters.length) = some 0 := ⟨rfl, ycX0_next⟩
noncomputable def lp_X0_next_160 (p0 : Nat) (j215 : Unit → Act Unit) (q : Nat) : Unit → Act Unit := match q with
  | 0 => fun _ => fail
  | q + 1 => fun _ =>
    bnd (getI 0 10 p0) fun v13 =>
    bnd (gd 0 p0 (nt (f_X0_here p0 v13))) fun v14 =>
    bnd (nt (f_X0_isDigit v14)) fun v15 =>
    if v15 = 0 then
      j215 ()
    else
      bnd (getI 0 12 p0) fun v16 =>
      bnd (getI 0 10 p0) fun v17 =>
      bnd (gd 0 p0 (nt (f_X0_here p0 v17))) fun v18 =>
      bnd (putI 0 12 p0 (mn (10000000 : Int32) (((10 * v16) + v18) - 48))) fun _ =>
      bnd (getI 0 10 p0) fun v19 =>
      bnd (putI 0 10 p0 (v19 + 1)) fun _ =>
      (lp_X0_next_160 p0 j215 q) ()
noncomputable def lp_X0_next_96 (p0 : Nat) (v20 : Nat) (j137 : Unit → Act Unit) (q : Nat) : Unit → Act Unit := match q with
  | 0 => fun _ => fail
  | q + 1 => fun _ =>
    bnd (getI 0 10 p0) fun v22 =>
    bnd (gd 0 p0 (nt (f_X0_here p0 v22))) fun v23 =>
    bnd (nt (f_X0_isLetter v23)) fun v24 =>
    if v24 = 0 then
      j137 ()
    else
      bnd (getI 0 10 p0) fun v25 =>
      bnd (gd 0 p0 (nt (f_X0_here p0 v25))) fun v26 =>
      bnd (gd 18 v20 (nt (P_append v20 ((v26.toUInt32 % 65536).toInt32)))) fun v27 =>
      bnd (getI 0 10 p0) fun v28 =>
      bnd (putI 0 10 p0 (v28 + 1)) fun _ =>
      (lp_X0_next_96 p0 v20 j137 q) ()
noncomputable def lp_X0_next_0 (p0 : Nat) (j39 : Unit → Act Unit) (q : Nat) : Unit → Act Unit := match q with
  | 0 => fun _ => fail
  | q + 1 => fun _ =>
    bnd (getI 0 10 p0) fun v29 =>
    bnd (gd 0 p0 (nt (f_X0_here p0 v29))) fun v30 =>
    jn (fun (_ : Unit) =>
      bnd (getI 0 10 p0) fun v31 =>
      bnd (putI 0 10 p0 (v31 + 1)) fun _ =>
      (lp_X0_next_0 p0 j39 q) ()) fun j26 =>
    if v30 = 32 then
      j26 ()
    else
      bnd (getI 0 10 p0) fun v32 =>
      bnd (gd 0 p0 (nt (f_X0_here p0 v32))) fun v33 =>
      if ¬ v33 = 10 then
        j39 ()
      else
        j26 ()
noncomputable def f_X0_next (n : Nat) (p0 : Nat) : Act Unit :=
  jn (fun (_ : Unit) =>
    bnd (getI 0 10 p0) fun v1 =>
    bnd (putI 0 11 p0 v1) fun _ =>
    bnd (gst 10) fun v2 =>
    bnd (putR 0 15 p0 v2) fun _ =>
    bnd (getI 0 10 p0) fun v3 =>
    bnd (gd 0 p0 (nt (f_X0_here p0 v3))) fun v4 =>
    jn (fun (_ : Unit) =>
      pur ()) fun j271 =>
    if 0 ≤ v4 then
      bnd (nt (f_X0_isLetter v4)) fun v5 =>
      if v5 = 0 then
        bnd (nt (f_X0_isDigit v4)) fun v6 =>
        if v6 = 0 then
          bnd (nt (f_X0_isSign v4)) fun v7 =>
          jn (fun (v8 : Int32) =>
            bnd (putS .char 0 14 p0 v8) fun _ =>
            bnd (getI 0 10 p0) fun v9 =>
            bnd (putI 0 10 p0 (v9 + 1)) fun _ =>
            j271 ()) fun j258 =>
          if v7 = 0 then
            j258 63
          else
            j258 ((v4.toUInt32 % 65536).toInt32)
        else
          bnd (putI 0 12 p0 0) fun _ =>
          jn (fun (_ : Unit) =>
            bnd (getI 0 10 p0) fun v10 =>
            bnd (getI 0 11 p0) fun v11 =>
            jn (fun (v12 : Int32) =>
              bnd (putS .char 0 14 p0 v12) fun _ =>
              j271 ()) fun j237 =>
            if 6 < (v10 - v11) then
              j237 63
            else
              j237 110) fun j215 =>
          lp_X0_next_160 p0 j215 n ()
      else
        bnd (putS .char 0 14 p0 119) fun _ =>
        bnd (newO 18 4) fun v20 =>
        bnd (gd 18 v20 (nt (P_binit v20))) fun _ =>
        jn (fun (_ : Unit) =>
          bnd (gd 18 v20 (nt (P_toString v20))) fun v21 =>
          bnd (putR 0 15 p0 v21) fun _ =>
          j271 ()) fun j137 =>
        lp_X0_next_96 p0 v20 j137 n ()
    else
      bnd (putS .char 0 14 p0 46) fun _ =>
      j271 ()) fun j39 =>
  lp_X0_next_0 p0 j39 n ()
set_option maxHeartbeats 4000000 in
theorem s_lp_X0_next_160 {X : Cx} (hX : Ok X Pic cX0_next RX0 3 none 6 151) (hnh : Noh X) (p0 : Nat) (j215 : Unit → Act Unit) (hj215 : ∀ (u : Unit), Sim X cvU 215 [(0, rv p0)] [] (j215 u)) (q : Nat) : ∀ (u : Unit), Sim X cvU 160 [(0, rv p0)] [] (lp_X0_next_160 p0 j215 q u) := by
  induction q with
  | zero => intro u; exact s_fail
  | succ q ih160 =>
    intro u
    rw [lp_X0_next_160]
    refine s_aload_n hX dX0_next_160 rfl 0 rfl ?_
    refine s_aload_n hX dX0_next_161 rfl 0 rfl ?_
    refine s_getI (ci := 0) (j := 10) (ref := "WindGas") hX (pcG 0) in_X0 (Or.inl q276) (by decide) (by decide) (by decide) rfl dX0_next_162 (fun _ h9 => h9) (fun v13 => ?_)
    refine s_callV_I (ci := 0) (n := 1) (As := [.int v13]) (st := []) hX (pcK 1) (by decide) (ct_X0_here X.l p0 v13) q573 q575 qs8 q84 q576 yvX0_here (by decide) rfl (by first | decide | simp [rv_cat, cat_i, cat_l]) dX0_next_165 (fun v14 => ?_)
    refine s_callS_I (n := 1) (As := [.int v14]) (st := []) hX (ct_X0_isDigit X.l v14) q752 q753 q84 q754 ycX0_isDigit (by decide) rfl (by first | decide | simp [rv_cat, cat_i, cat_l]) dX0_next_168 (fun v15 => ?_)
    refine s_if_eq (tgt := 215) hX dX0_next_171 (by decide) ?_ ?_
    · exact hj215 ()
    · refine s_aload_n hX dX0_next_174 rfl 0 rfl ?_
      refine s_ldc (v := 10000000) hX dX0_next_175 q755 ?_
      refine s_bipush (v := 10) hX dX0_next_177 (by decide) ?_
      refine s_aload_n hX dX0_next_179 rfl 0 rfl ?_
      refine s_getI (ci := 0) (j := 12) (ref := "WindGas") hX (pcG 0) in_X0 (Or.inl q278) (by decide) (by decide) (by decide) rfl dX0_next_180 (fun _ h9 => h9) (fun v16 => ?_)
      refine s_imul hX dX0_next_183 ?_
      refine s_aload_n hX dX0_next_184 rfl 0 rfl ?_
      refine s_aload_n hX dX0_next_185 rfl 0 rfl ?_
      refine s_getI (ci := 0) (j := 10) (ref := "WindGas") hX (pcG 0) in_X0 (Or.inl q276) (by decide) (by decide) (by decide) rfl dX0_next_186 (fun _ h9 => h9) (fun v17 => ?_)
      refine s_callV_I (ci := 0) (n := 1) (As := [.int v17]) (st := [.int (10 * v16), .int 10000000, rv p0]) hX (pcK 1) (by decide) (ct_X0_here X.l p0 v17) q573 q575 qs8 q84 q576 yvX0_here (by decide) rfl (by first | decide | simp [rv_cat, cat_i, cat_l]) dX0_next_189 (fun v18 => ?_)
      refine s_iadd hX dX0_next_192 ?_
      refine s_bipush (v := 48) hX dX0_next_193 (by decide) ?_
      refine s_isub hX dX0_next_195 ?_
      refine s_mmin hX q756 q500 q95 q501 rfl (by omega) (by first | decide | (simp [rv_cat, cat_i, cat_l]; try omega)) dX0_next_196 ?_
      refine s_putI (ci := 0) (j := 12) (ref := "WindGas") hX (pcG 0) (pcP 0) in_X0 tyX0_ok nmX0 (Or.inl q278) (by decide) (by decide) (by decide) rfl rfl rfl dX0_next_199 (fun _ h9 => h9) ?_
      refine s_aload_n hX dX0_next_202 rfl 0 rfl ?_
      refine s_dup hX dX0_next_203 (rv_cat _) ?_
      refine s_getI (ci := 0) (j := 10) (ref := "WindGas") hX (pcG 0) in_X0 (Or.inl q276) (by decide) (by decide) (by decide) rfl dX0_next_204 (fun _ h9 => h9) (fun v19 => ?_)
      refine s_iconst (v := 1) hX dX0_next_207 rfl ?_
      refine s_iadd hX dX0_next_208 ?_
      refine s_putI (ci := 0) (j := 10) (ref := "WindGas") hX (pcG 0) (pcP 0) in_X0 tyX0_ok nmX0 (Or.inl q276) (by decide) (by decide) (by decide) rfl rfl rfl dX0_next_209 (fun _ h9 => h9) ?_
      refine s_goto (tgt := 160) hX dX0_next_212 (by decide) ?_
      exact ih160 ()
set_option maxHeartbeats 4000000 in
theorem s_lp_X0_next_96 {X : Cx} (hX : Ok X Pic cX0_next RX0 3 none 6 151) (hnh : Noh X) (p0 : Nat) (v20 : Nat) (j137 : Unit → Act Unit) (hj137 : ∀ (u : Unit), Sim X cvU 137 [(0, rv p0), (2, rv v20)] [] (j137 u)) (q : Nat) : ∀ (u : Unit), Sim X cvU 96 [(0, rv p0), (2, rv v20)] [] (lp_X0_next_96 p0 v20 j137 q u) := by
  induction q with
  | zero => intro u; exact s_fail
  | succ q ih96 =>
    intro u
    rw [lp_X0_next_96]
    refine s_aload_n hX dX0_next_96 rfl 0 rfl ?_
    refine s_aload_n hX dX0_next_97 rfl 0 rfl ?_
    refine s_getI (ci := 0) (j := 10) (ref := "WindGas") hX (pcG 0) in_X0 (Or.inl q276) (by decide) (by decide) (by decide) rfl dX0_next_98 (fun _ h9 => h9) (fun v22 => ?_)
    refine s_callV_I (ci := 0) (n := 1) (As := [.int v22]) (st := []) hX (pcK 1) (by decide) (ct_X0_here X.l p0 v22) q573 q575 qs8 q84 q576 yvX0_here (by decide) rfl (by first | decide | simp [rv_cat, cat_i, cat_l]) dX0_next_101 (fun v23 => ?_)
    refine s_callS_I (n := 1) (As := [.int v23]) (st := []) hX (ct_X0_isLetter X.l v23) q577 q578 q84 q579 ycX0_isLetter (by decide) rfl (by first | decide | simp [rv_cat, cat_i, cat_l]) dX0_next_104 (fun v24 => ?_)
    refine s_if_eq (tgt := 137) hX dX0_next_107 (by decide) ?_ ?_
    · exact hj137 ()
    · refine s_aload_n hX dX0_next_110 rfl 1 rfl ?_
      refine s_aload_n hX dX0_next_111 rfl 0 rfl ?_
      refine s_aload_n hX dX0_next_112 rfl 0 rfl ?_
      refine s_getI (ci := 0) (j := 10) (ref := "WindGas") hX (pcG 0) in_X0 (Or.inl q276) (by decide) (by decide) (by decide) rfl dX0_next_113 (fun _ h9 => h9) (fun v25 => ?_)
      refine s_callV_I (ci := 0) (n := 1) (As := [.int v25]) (st := [rv v20]) hX (pcK 1) (by decide) (ct_X0_here X.l p0 v25) q573 q575 qs8 q84 q576 yvX0_here (by decide) rfl (by first | decide | simp [rv_cat, cat_i, cat_l]) dX0_next_116 (fun v26 => ?_)
      refine s_i2c hX dX0_next_119 ?_
      refine s_callV_R (ci := 18) (n := 1) (As := [.int (v26.toUInt32 % 65536).toInt32]) (st := []) hX (pcK 19) (by decide) (pt_append X.l v20 ((v26.toUInt32 % 65536).toInt32)) q611 q612 q613 q106 q614 yvJ10_append (by decide) rfl (by first | decide | simp [rv_cat, cat_i, cat_l]) dX0_next_120 (fun v27 => ?_)
      refine s_pop hX dX0_next_123 (rv_cat _) ?_
      refine s_aload_n hX dX0_next_124 rfl 0 rfl ?_
      refine s_dup hX dX0_next_125 (rv_cat _) ?_
      refine s_getI (ci := 0) (j := 10) (ref := "WindGas") hX (pcG 0) in_X0 (Or.inl q276) (by decide) (by decide) (by decide) rfl dX0_next_126 (fun _ h9 => h9) (fun v28 => ?_)
      refine s_iconst (v := 1) hX dX0_next_129 rfl ?_
      refine s_iadd hX dX0_next_130 ?_
      refine s_putI (ci := 0) (j := 10) (ref := "WindGas") hX (pcG 0) (pcP 0) in_X0 tyX0_ok nmX0 (Or.inl q276) (by decide) (by decide) (by decide) rfl rfl rfl dX0_next_131 (fun _ h9 => h9) ?_
      refine s_goto (tgt := 96) hX dX0_next_134 (by decide) ?_
      exact ih96 ()
set_option maxHeartbeats 4000000 in
theorem s_lp_X0_next_0 {X : Cx} (hX : Ok X Pic cX0_next RX0 3 none 6 151) (hnh : Noh X) (p0 : Nat) (j39 : Unit → Act Unit) (hj39 : ∀ (u : Unit), Sim X cvU 39 [(0, rv p0)] [] (j39 u)) (q : Nat) : ∀ (u : Unit), Sim X cvU 0 [(0, rv p0)] [] (lp_X0_next_0 p0 j39 q u) := by
  induction q with
  | zero => intro u; exact s_fail
  | succ q ih0 =>
    intro u
    rw [lp_X0_next_0]
    refine s_aload_n hX dX0_next_0 rfl 0 rfl ?_
    refine s_aload_n hX dX0_next_1 rfl 0 rfl ?_
    refine s_getI (ci := 0) (j := 10) (ref := "WindGas") hX (pcG 0) in_X0 (Or.inl q276) (by decide) (by decide) (by decide) rfl dX0_next_2 (fun _ h9 => h9) (fun v29 => ?_)
    refine s_callV_I (ci := 0) (n := 1) (As := [.int v29]) (st := []) hX (pcK 1) (by decide) (ct_X0_here X.l p0 v29) q573 q575 qs8 q84 q576 yvX0_here (by decide) rfl (by first | decide | simp [rv_cat, cat_i, cat_l]) dX0_next_5 (fun v30 => ?_)
    refine s_bipush (v := 32) hX dX0_next_8 (by decide) ?_
    refine s_jn (P := fun j => ∀ (u : Unit), Sim X cvU 26 [(0, rv p0)] [] (j u)) ?_ (fun j26 hj26 => ?_)
    · intro u
      refine s_aload_n hX dX0_next_26 rfl 0 rfl ?_
      refine s_dup hX dX0_next_27 (rv_cat _) ?_
      refine s_getI (ci := 0) (j := 10) (ref := "WindGas") hX (pcG 0) in_X0 (Or.inl q276) (by decide) (by decide) (by decide) rfl dX0_next_28 (fun _ h9 => h9) (fun v31 => ?_)
      refine s_iconst (v := 1) hX dX0_next_31 rfl ?_
      refine s_iadd hX dX0_next_32 ?_
      refine s_putI (ci := 0) (j := 10) (ref := "WindGas") hX (pcG 0) (pcP 0) in_X0 tyX0_ok nmX0 (Or.inl q276) (by decide) (by decide) (by decide) rfl rfl rfl dX0_next_33 (fun _ h9 => h9) ?_
      refine s_goto (tgt := 0) hX dX0_next_36 (by decide) ?_
      exact ih0 ()
    · refine s_icmp_eq (tgt := 26) hX dX0_next_10 (by decide) ?_ ?_
      · exact hj26 ()
      · refine s_aload_n hX dX0_next_13 rfl 0 rfl ?_
        refine s_aload_n hX dX0_next_14 rfl 0 rfl ?_
        refine s_getI (ci := 0) (j := 10) (ref := "WindGas") hX (pcG 0) in_X0 (Or.inl q276) (by decide) (by decide) (by decide) rfl dX0_next_15 (fun _ h9 => h9) (fun v32 => ?_)
        refine s_callV_I (ci := 0) (n := 1) (As := [.int v32]) (st := []) hX (pcK 1) (by decide) (ct_X0_here X.l p0 v32) q573 q575 qs8 q84 q576 yvX0_here (by decide) rfl (by first | decide | simp [rv_cat, cat_i, cat_l]) dX0_next_18 (fun v33 => ?_)
        refine s_bipush (v := 10) hX dX0_next_21 (by decide) ?_
        refine s_icmp_ne (tgt := 39) hX dX0_next_23 (by decide) ?_ ?_
        · exact hj39 ()
        · exact hj26 ()
set_option maxHeartbeats 4000000 in
theorem ct_X0_next (l : Launch) (n : Nat) (p0 : Nat) : Ct l Pic yX0_next (ws_ yX0_next cX0_next 3 none) 6 151 cvU [rv p0] (f_X0_next n p0) := by
  refine Ct.of (own := RX0) (L := [(0, rv p0)]) (plainFor_of_name (by decide)) rfl (by first | decide | simp [lg_sl, rv_cat, cat_i, cat_l]) (by first | rfl | simp [lv_args, rv_cat, cat_i, cat_l]) pcZ (fun X hXl hX hnh hin => ?_)
  subst hXl
  unfold f_X0_next
  refine s_jn (P := fun j => ∀ (u : Unit), Sim X cvU 39 [(0, rv p0)] [] (j u)) ?_ (fun j39 hj39 => ?_)
  · intro u
    refine s_aload_n hX dX0_next_39 rfl 0 rfl ?_
    refine s_aload_n hX dX0_next_40 rfl 0 rfl ?_
    refine s_getI (ci := 0) (j := 10) (ref := "WindGas") hX (pcG 0) in_X0 (Or.inl q276) (by decide) (by decide) (by decide) rfl dX0_next_41 (fun _ h9 => h9) (fun v1 => ?_)
    refine s_putI (ci := 0) (j := 11) (ref := "WindGas") hX (pcG 0) (pcP 0) in_X0 tyX0_ok nmX0 (Or.inl q277) (by decide) (by decide) (by decide) rfl rfl rfl dX0_next_44 (fun _ h9 => h9) ?_
    refine s_aload_n hX dX0_next_47 rfl 0 rfl ?_
    refine s_ldcS (i := 0) (tx := "") hX (pcS) rfl dX0_next_48 (fun v2 => ?_)
    refine s_putR (ci := 0) (j := 15) (ref := "WindGas") hX (pcG 0) (pcP 0) in_X0 tyX0_ok nmX0 (Or.inl q281) (by decide) (by decide) (by decide) rfl (fun v => by cases v <;> exact ⟨rfl, rfl⟩) rfl dX0_next_50 (fun _ h9 => h9) ?_
    refine s_aload_n hX dX0_next_53 rfl 0 rfl ?_
    refine s_aload_n hX dX0_next_54 rfl 0 rfl ?_
    refine s_getI (ci := 0) (j := 10) (ref := "WindGas") hX (pcG 0) in_X0 (Or.inl q276) (by decide) (by decide) (by decide) rfl dX0_next_55 (fun _ h9 => h9) (fun v3 => ?_)
    refine s_callV_I (ci := 0) (n := 1) (As := [.int v3]) (st := []) hX (pcK 1) (by decide) (ct_X0_here X.l p0 v3) q573 q575 qs8 q84 q576 yvX0_here (by decide) rfl (by first | decide | simp [rv_cat, cat_i, cat_l]) dX0_next_58 (fun v4 => ?_)
    refine s_istore_n (i := 1) (L2 := [(1, .int v4), (0, rv p0)]) hX dX0_next_61 rfl (by decide) (by first | (simp [rv_cat, cat_i, cat_l]; done) | (simp [rv_cat, cat_i, cat_l]; decide)) ?_
    refine s_iload_n hX dX0_next_62 rfl 0 rfl ?_
    refine s_jn (P := fun j => ∀ (u : Unit), Sim X cvU 271 [] [] (j u)) ?_ (fun j271 hj271 => ?_)
    · intro u
      exact s_vret hX dX0_next_271
    · refine s_if_ge (tgt := 75) hX dX0_next_63 (by decide) ?_ ?_
      · refine s_iload_n hX dX0_next_75 rfl 0 rfl ?_
        refine s_callS_I (n := 1) (As := [.int v4]) (st := []) hX (ct_X0_isLetter X.l v4) q577 q578 q84 q579 ycX0_isLetter (by decide) rfl (by first | decide | simp [rv_cat, cat_i, cat_l]) dX0_next_76 (fun v5 => ?_)
        refine s_if_eq (tgt := 148) hX dX0_next_79 (by decide) ?_ ?_
        · refine s_iload_n hX dX0_next_148 rfl 0 rfl ?_
          refine s_callS_I (n := 1) (As := [.int v4]) (st := []) hX (ct_X0_isDigit X.l v4) q752 q753 q84 q754 ycX0_isDigit (by decide) rfl (by first | decide | simp [rv_cat, cat_i, cat_l]) dX0_next_149 (fun v6 => ?_)
          refine s_if_eq (tgt := 243) hX dX0_next_152 (by decide) ?_ ?_
          · refine s_aload_n hX dX0_next_243 rfl 1 rfl ?_
            refine s_iload_n hX dX0_next_244 rfl 0 rfl ?_
            refine s_callS_I (n := 1) (As := [.int v4]) (st := [rv p0]) hX (ct_X0_isSign X.l v4) q757 q758 q84 q759 ycX0_isSign (by decide) rfl (by first | decide | simp [rv_cat, cat_i, cat_l]) dX0_next_245 (fun v7 => ?_)
            refine s_jn (P := fun j => ∀ (v8 : Int32), Sim X cvU 258 [(0, rv p0)] [.int v8, rv p0] (j v8)) ?_ (fun j258 hj258 => ?_)
            · intro v8
              refine s_putS (ci := 0) (j := 14) (ref := "WindGas") hX (pcG 0) (pcP 0) in_X0 tyX0_ok nmX0 (Or.inl q280) (by decide) (by decide) (by decide) rfl rfl rfl dX0_next_258 (fun _ h9 => h9) ?_
              refine s_aload_n hX dX0_next_261 rfl 0 rfl ?_
              refine s_dup hX dX0_next_262 (rv_cat _) ?_
              refine s_getI (ci := 0) (j := 10) (ref := "WindGas") hX (pcG 0) in_X0 (Or.inl q276) (by decide) (by decide) (by decide) rfl dX0_next_263 (fun _ h9 => h9) (fun v9 => ?_)
              refine s_iconst (v := 1) hX dX0_next_266 rfl ?_
              refine s_iadd hX dX0_next_267 ?_
              refine s_putI (ci := 0) (j := 10) (ref := "WindGas") hX (pcG 0) (pcP 0) in_X0 tyX0_ok nmX0 (Or.inl q276) (by decide) (by decide) (by decide) rfl rfl rfl dX0_next_268 (fun _ h9 => h9) ?_
              exact s_sub [] rfl (hj271 ())
            · refine s_if_eq (tgt := 256) hX dX0_next_248 (by decide) ?_ ?_
              · refine s_bipush (v := 63) hX dX0_next_256 (by decide) ?_
                exact s_sub [1] rfl (hj258 63)
              · refine s_iload_n hX dX0_next_251 rfl 0 rfl ?_
                refine s_i2c hX dX0_next_252 ?_
                refine s_goto (tgt := 258) hX dX0_next_253 (by decide) ?_
                exact s_sub [1] rfl (hj258 ((v4.toUInt32 % 65536).toInt32))
          · refine s_aload_n hX dX0_next_155 rfl 1 rfl ?_
            refine s_iconst (v := 0) hX dX0_next_156 rfl ?_
            refine s_putI (ci := 0) (j := 12) (ref := "WindGas") hX (pcG 0) (pcP 0) in_X0 tyX0_ok nmX0 (Or.inl q278) (by decide) (by decide) (by decide) rfl rfl rfl dX0_next_157 (fun _ h9 => h9) ?_
            refine s_jn (P := fun j => ∀ (u : Unit), Sim X cvU 215 [(0, rv p0)] [] (j u)) ?_ (fun j215 hj215 => ?_)
            · intro u
              refine s_aload_n hX dX0_next_215 rfl 0 rfl ?_
              refine s_aload_n hX dX0_next_216 rfl 0 rfl ?_
              refine s_getI (ci := 0) (j := 10) (ref := "WindGas") hX (pcG 0) in_X0 (Or.inl q276) (by decide) (by decide) (by decide) rfl dX0_next_217 (fun _ h9 => h9) (fun v10 => ?_)
              refine s_aload_n hX dX0_next_220 rfl 0 rfl ?_
              refine s_getI (ci := 0) (j := 11) (ref := "WindGas") hX (pcG 0) in_X0 (Or.inl q277) (by decide) (by decide) (by decide) rfl dX0_next_221 (fun _ h9 => h9) (fun v11 => ?_)
              refine s_isub hX dX0_next_224 ?_
              refine s_bipush (v := 6) hX dX0_next_225 (by decide) ?_
              refine s_jn (P := fun j => ∀ (v12 : Int32), Sim X cvU 237 [] [.int v12, rv p0] (j v12)) ?_ (fun j237 hj237 => ?_)
              · intro v12
                refine s_putS (ci := 0) (j := 14) (ref := "WindGas") hX (pcG 0) (pcP 0) in_X0 tyX0_ok nmX0 (Or.inl q280) (by decide) (by decide) (by decide) rfl rfl rfl dX0_next_237 (fun _ h9 => h9) ?_
                refine s_goto (tgt := 271) hX dX0_next_240 (by decide) ?_
                exact hj271 ()
              · refine s_icmp_gt (tgt := 235) hX dX0_next_227 (by decide) ?_ ?_
                · refine s_bipush (v := 63) hX dX0_next_235 (by decide) ?_
                  exact s_sub [] rfl (hj237 63)
                · refine s_bipush (v := 110) hX dX0_next_230 (by decide) ?_
                  refine s_goto (tgt := 237) hX dX0_next_232 (by decide) ?_
                  exact s_sub [] rfl (hj237 110)
            · exact s_sub [1] rfl (s_lp_X0_next_160 hX hnh p0 j215 hj215 n ())
        · refine s_aload_n hX dX0_next_82 rfl 1 rfl ?_
          refine s_bipush (v := 119) hX dX0_next_83 (by decide) ?_
          refine s_putS (ci := 0) (j := 14) (ref := "WindGas") hX (pcG 0) (pcP 0) in_X0 tyX0_ok nmX0 (Or.inl q280) (by decide) (by decide) (by decide) rfl rfl rfl dX0_next_85 (fun _ h9 => h9) ?_
          refine s_new (ci := 18) hX (pcN 18) in_J10 tyJ10_ok (by decide) (by decide) q580 q581 q106 dX0_next_88 (fun v20 => ?_)
          refine s_dup hX dX0_next_91 (rv_cat _) ?_
          refine s_callI_U (ci := 18) (n := 0) (As := []) (st := [rv v20]) hX (pcK 19) (by decide) (pt_binit X.l v20) q582 q583 q106 q584 rfl ycJ10_init (by decide) rfl (by first | decide | simp [rv_cat, cat_i, cat_l]) dX0_next_92 (fun _ => ?_)
          refine s_astore_n (i := 2) (L2 := [(2, rv v20), (1, .int v4), (0, rv p0)]) hX dX0_next_95 rfl (by decide) rfl ?_
          refine s_jn (P := fun j => ∀ (u : Unit), Sim X cvU 137 [(0, rv p0), (2, rv v20)] [] (j u)) ?_ (fun j137 hj137 => ?_)
          · intro u
            refine s_aload_n hX dX0_next_137 rfl 0 rfl ?_
            refine s_aload_n hX dX0_next_138 rfl 1 rfl ?_
            refine s_callV_R (ci := 18) (n := 0) (As := []) (st := [rv p0]) hX (pcK 19) (by decide) (pt_toString X.l v20) q689 q690 q691 q106 q692 yvJ10_toString (by decide) rfl (by first | decide | simp [rv_cat, cat_i, cat_l]) dX0_next_139 (fun v21 => ?_)
            refine s_putR (ci := 0) (j := 15) (ref := "WindGas") hX (pcG 0) (pcP 0) in_X0 tyX0_ok nmX0 (Or.inl q281) (by decide) (by decide) (by decide) rfl (fun v => by cases v <;> exact ⟨rfl, rfl⟩) rfl dX0_next_142 (fun _ h9 => h9) ?_
            refine s_goto (tgt := 271) hX dX0_next_145 (by decide) ?_
            exact s_sub [] rfl (hj271 ())
          · exact s_sub [2, 0] rfl (s_lp_X0_next_96 hX hnh p0 v20 j137 hj137 n ())
      · refine s_aload_n hX dX0_next_66 rfl 1 rfl ?_
        refine s_bipush (v := 46) hX dX0_next_67 (by decide) ?_
        refine s_putS (ci := 0) (j := 14) (ref := "WindGas") hX (pcG 0) (pcP 0) in_X0 tyX0_ok nmX0 (Or.inl q280) (by decide) (by decide) (by decide) rfl rfl rfl dX0_next_69 (fun _ h9 => h9) ?_
        refine s_goto (tgt := 271) hX dX0_next_72 (by decide) ?_
        exact s_sub [] rfl (hj271 ())
  · exact s_lp_X0_next_0 hX hnh p0 j39 hj39 n ()
