set_option maxRecDepth 100000
theorem dJ14_init_2_0 : decode cJ14_init_2 0 = .ok (.aload_n 0, 1) := by decide +kernel
theorem dJ14_init_2_1 : decode cJ14_init_2 1 = .ok (.invokespecial 1, 3) := by decide +kernel
theorem dJ14_init_2_4 : decode cJ14_init_2 4 = .ok (.aload_n 0, 1) := by decide +kernel
theorem dJ14_init_2_5 : decode cJ14_init_2 5 = .ok (.aload_n 0, 1) := by decide +kernel
theorem dJ14_init_2_6 : decode cJ14_init_2 6 = .ok (.putfield 7, 3) := by decide +kernel
theorem dJ14_init_2_9 : decode cJ14_init_2 9 = .ok (.aload_n 0, 1) := by decide +kernel
theorem dJ14_init_2_10 : decode cJ14_init_2 10 = .ok (.getstatic 13, 3) := by decide +kernel
theorem dJ14_init_2_13 : decode cJ14_init_2 13 = .ok (.putfield 17, 3) := by decide +kernel
theorem dJ14_init_2_16 : decode cJ14_init_2 16 = .ok (.aload_n 0, 1) := by decide +kernel
theorem dJ14_init_2_17 : decode cJ14_init_2 17 = .ok (.getstatic 20, 3) := by decide +kernel
theorem dJ14_init_2_20 : decode cJ14_init_2 20 = .ok (.putfield 24, 3) := by decide +kernel
theorem dJ14_init_2_23 : decode cJ14_init_2 23 = .ok (.iload 4, 2) := by decide +kernel
theorem dJ14_init_2_25 : decode cJ14_init_2 25 = .ok (.ifCond .eq 11, 3) := by decide +kernel
theorem dJ14_init_2_28 : decode cJ14_init_2 28 = .ok (.aload_n 0, 1) := by decide +kernel
theorem dJ14_init_2_29 : decode cJ14_init_2 29 = .ok (.invokevirtual 27, 3) := by decide +kernel
theorem dJ14_init_2_32 : decode cJ14_init_2 32 = .ok (.pop, 1) := by decide +kernel
theorem dJ14_init_2_33 : decode cJ14_init_2 33 = .ok (.goto 8, 3) := by decide +kernel
theorem dJ14_init_2_36 : decode cJ14_init_2 36 = .ok (.aload_n 0, 1) := by decide +kernel
theorem dJ14_init_2_37 : decode cJ14_init_2 37 = .ok (.aconst_null, 1) := by decide +kernel
theorem dJ14_init_2_38 : decode cJ14_init_2 38 = .ok (.putfield 17, 3) := by decide +kernel
theorem dJ14_init_2_41 : decode cJ14_init_2 41 = .ok (.aload_n 0, 1) := by decide +kernel
theorem dJ14_init_2_42 : decode cJ14_init_2 42 = .ok (.aload_n 1, 1) := by decide +kernel
theorem dJ14_init_2_43 : decode cJ14_init_2 43 = .ok (.putfield 31, 3) := by decide +kernel
theorem dJ14_init_2_46 : decode cJ14_init_2 46 = .ok (.aload_n 0, 1) := by decide +kernel
theorem dJ14_init_2_47 : decode cJ14_init_2 47 = .ok (.aload_n 2, 1) := by decide +kernel
theorem dJ14_init_2_48 : decode cJ14_init_2 48 = .ok (.putfield 7, 3) := by decide +kernel
theorem dJ14_init_2_51 : decode cJ14_init_2 51 = .ok (.iload_n 3, 1) := by decide +kernel
theorem dJ14_init_2_52 : decode cJ14_init_2 52 = .ok (.ifCond .ne 8, 3) := by decide +kernel
theorem dJ14_init_2_55 : decode cJ14_init_2 55 = .ok (.aload_n 0, 1) := by decide +kernel
theorem dJ14_init_2_56 : decode cJ14_init_2 56 = .ok (.aconst_null, 1) := by decide +kernel
theorem dJ14_init_2_57 : decode cJ14_init_2 57 = .ok (.putfield 24, 3) := by decide +kernel
theorem dJ14_init_2_60 : decode cJ14_init_2 60 = .ok (.return_, 1) := by decide +kernel
theorem ycJ14_init_2 : yJ14_init_2.cls ≠ "java/lang/invoke/MethodHandle" ∧ yJ14_init_2.cls ≠ "java/lang/invoke/VarHandle" ∧ (parseMethodDescriptor yJ14_init_2.desc).map (fun d => d.parameters.length) = some 4 := by decide +kernel
noncomputable def f_J14_init_2 (p0 : Nat) (p1 : Nat) (p2 : Nat) (p3 : Int32) (p4 : Int32) : Act Unit :=
  nn p0 <|
  bnd (putR 11 0 p0 p0) fun _ =>
  bnd (gst 1) fun v1 =>
  bnd (putR 11 1 p0 v1) fun _ =>
  bnd (gst 2) fun v2 =>
  bnd (putR 11 2 p0 v2) fun _ =>
  if p4 = 0 then
    bnd (putR 11 1 p0 0) fun _ =>
    bnd (putR 11 3 p0 p1) fun _ =>
    bnd (putR 11 0 p0 p2) fun _ =>
    jn (fun (_ : Unit) =>
      pur ()) fun j60 =>
    if ¬ p3 = 0 then
      j60 ()
    else
      bnd (putR 11 2 p0 0) fun _ =>
      j60 ()
  else
    fail
set_option maxHeartbeats 4000000 in
theorem ct_J14_init_2 (l : Launch) (p0 : Nat) (p1 : Nat) (p2 : Nat) (p3 : Int32) (p4 : Int32) : Ct l Pic yJ14_init_2 (ws_ yJ14_init_2 cJ14_init_2 5 none) 1 24 cvU [rv p0, rv p1, rv p2, .int p3, .int p4] (f_J14_init_2 p0 p1 p2 p3 p4) := by
  refine Ct.of (own := RJ14) (L := [(0, rv p0), (1, rv p1), (2, rv p2), (3, .int p3), (4, .int p4)]) (by decide +kernel) rfl (by first | decide | simp [lg_sl, rv_cat, cat_i, cat_l]) (by first | rfl | simp [lv_args, rv_cat, cat_i, cat_l]) pcZ (fun X hXl hX hnh hin => ?_)
  subst hXl
  unfold f_J14_init_2
  refine s_aload_n hX dJ14_init_2_0 rfl 0 rfl ?_
  refine s_oinit hX (by decide) q784 q126 q127 (by decide) (by decide) dJ14_init_2_1 ?_
  refine s_aload_n hX dJ14_init_2_4 rfl 0 rfl ?_
  refine s_aload_n hX dJ14_init_2_5 rfl 0 rfl ?_
  refine s_putR (ci := 11) (j := 0) (ref := "java/lang/Throwable") hX (pcG 11) (pcP 11) in_X11 tyX11_ok nmX11 (Or.inl q814) (by decide) (by decide) (by decide) rfl (fun v => by cases v <;> exact ⟨rfl, rfl⟩) rfl dJ14_init_2_6 (fun _ h9 => h9) ?_
  refine s_aload_n hX dJ14_init_2_9 rfl 0 rfl ?_
  refine s_gst (j := 1) hX (pcS) (fun w b => b.2.2.2.2.1.2.1) q785 dJ14_init_2_10 (fun v1 => ?_)
  refine s_putR (ci := 11) (j := 1) (ref := "java/lang/Throwable") hX (pcG 11) (pcP 11) in_X11 tyX11_ok nmX11 (Or.inl q815) (by decide) (by decide) (by decide) rfl (fun v => by cases v <;> exact ⟨rfl, rfl⟩) rfl dJ14_init_2_13 (fun _ h9 => h9) ?_
  refine s_aload_n hX dJ14_init_2_16 rfl 0 rfl ?_
  refine s_gst (j := 2) hX (pcS) (fun w b => b.2.2.2.2.1.2.2.1) q787 dJ14_init_2_17 (fun v2 => ?_)
  refine s_putR (ci := 11) (j := 2) (ref := "java/lang/Throwable") hX (pcG 11) (pcP 11) in_X11 tyX11_ok nmX11 (Or.inl q816) (by decide) (by decide) (by decide) rfl (fun v => by cases v <;> exact ⟨rfl, rfl⟩) rfl dJ14_init_2_20 (fun _ h9 => h9) ?_
  refine s_iload hX dJ14_init_2_23 4 rfl ?_
  refine s_if_eq (tgt := 36) hX dJ14_init_2_25 (by decide) ?_ ?_
  · refine s_aload_n hX dJ14_init_2_36 rfl 0 rfl ?_
    refine s_null hX dJ14_init_2_37 ?_
    refine s_putR (ci := 11) (j := 1) (ref := "java/lang/Throwable") hX (pcG 11) (pcP 11) in_X11 tyX11_ok nmX11 (Or.inl q815) (by decide) (by decide) (by decide) rfl (fun v => by cases v <;> exact ⟨rfl, rfl⟩) rfl dJ14_init_2_38 (fun _ h9 => h9) ?_
    refine s_aload_n hX dJ14_init_2_41 rfl 0 rfl ?_
    refine s_aload_n hX dJ14_init_2_42 rfl 1 rfl ?_
    refine s_putR (ci := 11) (j := 3) (ref := "java/lang/Throwable") hX (pcG 11) (pcP 11) in_X11 tyX11_ok nmX11 (Or.inl q813) (by decide) (by decide) (by decide) rfl (fun v => by cases v <;> exact ⟨rfl, rfl⟩) rfl dJ14_init_2_43 (fun _ h9 => h9) ?_
    refine s_aload_n hX dJ14_init_2_46 rfl 0 rfl ?_
    refine s_aload_n hX dJ14_init_2_47 rfl 2 rfl ?_
    refine s_putR (ci := 11) (j := 0) (ref := "java/lang/Throwable") hX (pcG 11) (pcP 11) in_X11 tyX11_ok nmX11 (Or.inl q814) (by decide) (by decide) (by decide) rfl (fun v => by cases v <;> exact ⟨rfl, rfl⟩) rfl dJ14_init_2_48 (fun _ h9 => h9) ?_
    refine s_iload_n hX dJ14_init_2_51 rfl 3 rfl ?_
    refine s_jn (P := fun j => ∀ (u : Unit), Sim X cvU 60 [] [] (j u)) ?_ (fun j60 hj60 => ?_)
    · intro u
      exact s_vret hX dJ14_init_2_60
    · refine s_if_ne (tgt := 60) hX dJ14_init_2_52 (by decide) ?_ ?_
      · exact s_sub [] rfl (hj60 ())
      · refine s_aload_n hX dJ14_init_2_55 rfl 0 rfl ?_
        refine s_null hX dJ14_init_2_56 ?_
        refine s_putR (ci := 11) (j := 2) (ref := "java/lang/Throwable") hX (pcG 11) (pcP 11) in_X11 tyX11_ok nmX11 (Or.inl q816) (by decide) (by decide) (by decide) rfl (fun v => by cases v <;> exact ⟨rfl, rfl⟩) rfl dJ14_init_2_57 (fun _ h9 => h9) ?_
        exact s_sub [] rfl (hj60 ())
  · exact s_fail
theorem dJ15_init_0 : decode cJ15_init 0 = .ok (.aload_n 0, 1) := by decide +kernel
theorem dJ15_init_1 : decode cJ15_init 1 = .ok (.aload_n 1, 1) := by decide +kernel
theorem dJ15_init_2 : decode cJ15_init 2 = .ok (.aload_n 2, 1) := by decide +kernel
theorem dJ15_init_3 : decode cJ15_init 3 = .ok (.iload_n 3, 1) := by decide +kernel
theorem dJ15_init_4 : decode cJ15_init 4 = .ok (.iload 4, 2) := by decide +kernel
theorem dJ15_init_6 : decode cJ15_init 6 = .ok (.invokespecial 16, 3) := by decide +kernel
theorem dJ15_init_9 : decode cJ15_init 9 = .ok (.return_, 1) := by decide +kernel
theorem ycJ15_init : yJ15_init.cls ≠ "java/lang/invoke/MethodHandle" ∧ yJ15_init.cls ≠ "java/lang/invoke/VarHandle" ∧ (parseMethodDescriptor yJ15_init.desc).map (fun d => d.parameters.length) = some 4 := by decide +kernel
noncomputable def f_J15_init (p0 : Nat) (p1 : Nat) (p2 : Nat) (p3 : Int32) (p4 : Int32) : Act Unit :=
  bnd (gd 11 p0 (nt (f_J14_init_2 p0 p1 p2 p3 p4))) fun _ =>
  pur ()
set_option maxHeartbeats 4000000 in
theorem ct_J15_init (l : Launch) (p0 : Nat) (p1 : Nat) (p2 : Nat) (p3 : Int32) (p4 : Int32) : Ct l Pic yJ15_init (ws_ yJ15_init cJ15_init 5 none) 2 48 cvU [rv p0, rv p1, rv p2, .int p3, .int p4] (f_J15_init p0 p1 p2 p3 p4) := by
  refine Ct.of (own := RJ15) (L := [(0, rv p0), (1, rv p1), (2, rv p2), (3, .int p3), (4, .int p4)]) (by decide +kernel) rfl (by first | decide | simp [lg_sl, rv_cat, cat_i, cat_l]) (by first | rfl | simp [lv_args, rv_cat, cat_i, cat_l]) pcZ (fun X hXl hX hnh hin => ?_)
  subst hXl
  unfold f_J15_init
  refine s_aload_n hX dJ15_init_0 rfl 0 rfl ?_
  refine s_aload_n hX dJ15_init_1 rfl 1 rfl ?_
  refine s_aload_n hX dJ15_init_2 rfl 2 rfl ?_
  refine s_iload_n hX dJ15_init_3 rfl 3 rfl ?_
  refine s_iload hX dJ15_init_4 4 rfl ?_
  refine s_callI_U (ci := 11) (n := 4) (As := [rv p1, rv p2, .int p3, .int p4]) (st := []) hX (pcK 12) (by decide) (ct_J14_init_2 X.l p0 p1 p2 p3 p4) q807 q808 q110 q809 rfl ycJ14_init_2 (by decide) rfl (by first | decide | simp [rv_cat, cat_i, cat_l]) dJ15_init_6 (fun _ => ?_)
  exact s_vret hX dJ15_init_9
theorem dJ16_init_0 : decode cJ16_init 0 = .ok (.aload_n 0, 1) := by decide +kernel
theorem dJ16_init_1 : decode cJ16_init 1 = .ok (.aload_n 1, 1) := by decide +kernel
theorem dJ16_init_2 : decode cJ16_init 2 = .ok (.aload_n 2, 1) := by decide +kernel
theorem dJ16_init_3 : decode cJ16_init 3 = .ok (.iload_n 3, 1) := by decide +kernel
theorem dJ16_init_4 : decode cJ16_init 4 = .ok (.iload 4, 2) := by decide +kernel
theorem dJ16_init_6 : decode cJ16_init 6 = .ok (.invokespecial 16, 3) := by decide +kernel
theorem dJ16_init_9 : decode cJ16_init 9 = .ok (.return_, 1) := by decide +kernel
theorem ycJ16_init : yJ16_init.cls ≠ "java/lang/invoke/MethodHandle" ∧ yJ16_init.cls ≠ "java/lang/invoke/VarHandle" ∧ (parseMethodDescriptor yJ16_init.desc).map (fun d => d.parameters.length) = some 4 := by decide +kernel
noncomputable def f_J16_init (p0 : Nat) (p1 : Nat) (p2 : Nat) (p3 : Int32) (p4 : Int32) : Act Unit :=
  bnd (gd 11 p0 (nt (f_J15_init p0 p1 p2 p3 p4))) fun _ =>
  pur ()
set_option maxHeartbeats 4000000 in
theorem ct_J16_init (l : Launch) (p0 : Nat) (p1 : Nat) (p2 : Nat) (p3 : Int32) (p4 : Int32) : Ct l Pic yJ16_init (ws_ yJ16_init cJ16_init 5 none) 3 72 cvU [rv p0, rv p1, rv p2, .int p3, .int p4] (f_J16_init p0 p1 p2 p3 p4) := by
  refine Ct.of (own := RJ16) (L := [(0, rv p0), (1, rv p1), (2, rv p2), (3, .int p3), (4, .int p4)]) (by decide +kernel) rfl (by first | decide | simp [lg_sl, rv_cat, cat_i, cat_l]) (by first | rfl | simp [lv_args, rv_cat, cat_i, cat_l]) pcZ (fun X hXl hX hnh hin => ?_)
  subst hXl
  unfold f_J16_init
  refine s_aload_n hX dJ16_init_0 rfl 0 rfl ?_
  refine s_aload_n hX dJ16_init_1 rfl 1 rfl ?_
  refine s_aload_n hX dJ16_init_2 rfl 2 rfl ?_
  refine s_iload_n hX dJ16_init_3 rfl 3 rfl ?_
  refine s_iload hX dJ16_init_4 4 rfl ?_
  refine s_callI_U (ci := 11) (n := 4) (As := [rv p1, rv p2, .int p3, .int p4]) (st := []) hX (pcK 12) (by decide) (ct_J15_init X.l p0 p1 p2 p3 p4) q804 q805 q111 q806 rfl ycJ15_init (by decide) rfl (by first | decide | simp [rv_cat, cat_i, cat_l]) dJ16_init_6 (fun _ => ?_)
  exact s_vret hX dJ16_init_9
theorem dX11_init_0 : decode cX11_init 0 = .ok (.aload_n 0, 1) := by decide +kernel
theorem dX11_init_1 : decode cX11_init 1 = .ok (.aconst_null, 1) := by decide +kernel
theorem dX11_init_2 : decode cX11_init 2 = .ok (.aconst_null, 1) := by decide +kernel
theorem dX11_init_3 : decode cX11_init 3 = .ok (.iconst 0, 1) := by decide +kernel
theorem dX11_init_4 : decode cX11_init 4 = .ok (.iconst 0, 1) := by decide +kernel
theorem dX11_init_5 : decode cX11_init 5 = .ok (.invokespecial 1, 3) := by decide +kernel
theorem dX11_init_8 : decode cX11_init 8 = .ok (.aload_n 0, 1) := by decide +kernel
theorem dX11_init_9 : decode cX11_init 9 = .ok (.iload_n 1, 1) := by decide +kernel
theorem dX11_init_10 : decode cX11_init 10 = .ok (.putfield 7, 3) := by decide +kernel
theorem dX11_init_13 : decode cX11_init 13 = .ok (.return_, 1) := by decide +kernel
theorem ycX11_init : yX11_init.cls ≠ "java/lang/invoke/MethodHandle" ∧ yX11_init.cls ≠ "java/lang/invoke/VarHandle" ∧ (parseMethodDescriptor yX11_init.desc).map (fun d => d.parameters.length) = some 1 := by decide +kernel
theorem yvX11_init : yX11_init.cls = RR 11 ∧ yX11_init.cls ≠ "java/lang/invoke/MethodHandle" ∧ yX11_init.cls ≠ "java/lang/invoke/VarHandle" ∧ (parseMethodDescriptor yX11_init.desc).map (fun d => d.parameters.length) = some 1 := ⟨rfl, ycX11_init⟩
noncomputable def f_X11_init (p0 : Nat) (p1 : Int32) : Act Unit :=
  bnd (gd 11 p0 (nt (f_J16_init p0 (0 : Nat) (0 : Nat) (0 : Int32) (0 : Int32)))) fun _ =>
  bnd (putI 11 6 p0 p1) fun _ =>
  pur ()
set_option maxHeartbeats 4000000 in
theorem ct_X11_init (l : Launch) (p0 : Nat) (p1 : Int32) : Ct l Pic yX11_init (ws_ yX11_init cX11_init 2 none) 4 96 cvU [rv p0, .int p1] (f_X11_init p0 p1) := by
  refine Ct.of (own := RX11) (L := [(0, rv p0), (1, .int p1)]) (plainFor_of_name (by decide)) rfl (by first | decide | simp [lg_sl, rv_cat, cat_i, cat_l]) (by first | rfl | simp [lv_args, rv_cat, cat_i, cat_l]) pcZ (fun X hXl hX hnh hin => ?_)
  subst hXl
  unfold f_X11_init
  refine s_aload_n hX dX11_init_0 rfl 0 rfl ?_
  refine s_null hX dX11_init_1 ?_
  refine s_null hX dX11_init_2 ?_
  refine s_iconst (v := 0) hX dX11_init_3 rfl ?_
  refine s_iconst (v := 0) hX dX11_init_4 rfl ?_
  refine s_callI_U (ci := 11) (n := 4) (As := [rv 0, rv 0, .int 0, .int 0]) (st := []) hX (pcK 12) (by decide) (ct_J16_init X.l p0 (0 : Nat) (0 : Nat) (0 : Int32) (0 : Int32)) q801 q802 q112 q803 rfl ycJ16_init (by decide) rfl (by first | decide | simp [rv_cat, cat_i, cat_l]) dX11_init_5 (fun _ => ?_)
  refine s_aload_n hX dX11_init_8 rfl 0 rfl ?_
  refine s_iload_n hX dX11_init_9 rfl 1 rfl ?_
  refine s_putIF (ci := 11) (j := 6) (ref := "WindGas$Wrong") hX (pcG 11) (pcP 11) in_X11 tyX11_ok nmX11 q810 (by decide) (by decide) (by decide) rfl rfl rfl (hin rfl) rfl dX11_init_10 (fun _ h9 => h9) ?_
  exact s_vret hX dX11_init_13
theorem dX0_isWord_0 : decode cX0_isWord 0 = .ok (.aload_n 0, 1) := by decide +kernel
theorem dX0_isWord_1 : decode cX0_isWord 1 = .ok (.getfield 180, 3) := by decide +kernel
theorem dX0_isWord_4 : decode cX0_isWord 4 = .ok (.bipush 119, 2) := by decide +kernel
theorem dX0_isWord_6 : decode cX0_isWord 6 = .ok (.if_icmp .ne 18, 3) := by decide +kernel
theorem dX0_isWord_9 : decode cX0_isWord 9 = .ok (.aload_n 0, 1) := by decide +kernel
theorem dX0_isWord_10 : decode cX0_isWord 10 = .ok (.getfield 50, 3) := by decide +kernel
theorem dX0_isWord_13 : decode cX0_isWord 13 = .ok (.aload_n 1, 1) := by decide +kernel
theorem dX0_isWord_14 : decode cX0_isWord 14 = .ok (.invokevirtual 220, 3) := by decide +kernel
theorem dX0_isWord_17 : decode cX0_isWord 17 = .ok (.ifCond .eq 7, 3) := by decide +kernel
theorem dX0_isWord_20 : decode cX0_isWord 20 = .ok (.iconst 1, 1) := by decide +kernel
theorem dX0_isWord_21 : decode cX0_isWord 21 = .ok (.goto 4, 3) := by decide +kernel
theorem dX0_isWord_24 : decode cX0_isWord 24 = .ok (.iconst 0, 1) := by decide +kernel
theorem dX0_isWord_25 : decode cX0_isWord 25 = .ok (.ireturn, 1) := by decide +kernel
theorem ycX0_isWord : yX0_isWord.cls ≠ "java/lang/invoke/MethodHandle" ∧ yX0_isWord.cls ≠ "java/lang/invoke/VarHandle" ∧ (parseMethodDescriptor yX0_isWord.desc).map (fun d => d.parameters.length) = some 1 := by decide +kernel
theorem yvX0_isWord : yX0_isWord.cls = RR 0 ∧ yX0_isWord.cls ≠ "java/lang/invoke/MethodHandle" ∧ yX0_isWord.cls ≠ "java/lang/invoke/VarHandle" ∧ (parseMethodDescriptor yX0_isWord.desc).map (fun d => d.parameters.length) = some 1 := ⟨rfl, ycX0_isWord⟩
noncomputable def f_X0_isWord (p0 : Nat) (p1 : Nat) : Act Int32 :=
  bnd (getI 0 14 p0) fun v1 =>
  jn (fun (v2 : Int32) =>
    purS (ty := .boolean) v2) fun j25 =>
  jn (fun (_ : Unit) =>
    j25 0) fun j24 =>
  if ¬ v1 = 119 then
    j24 ()
  else
    bnd (getR 0 15 p0) fun v3 =>
    bnd (gs v3 (nt (P_equals v3 p1))) fun v4 =>
    if v4 = 0 then
      j24 ()
    else
      j25 1
set_option maxHeartbeats 4000000 in
theorem ct_X0_isWord (l : Launch) (p0 : Nat) (p1 : Nat) : Ct l Pic yX0_isWord (ws_ yX0_isWord cX0_isWord 2 (some FieldType.boolean)) 2 44 cvI [rv p0, rv p1] (f_X0_isWord p0 p1) := by
  refine Ct.of (own := RX0) (L := [(0, rv p0), (1, rv p1)]) (plainFor_of_name (by decide)) rfl (by first | decide | simp [lg_sl, rv_cat, cat_i, cat_l]) (by first | rfl | simp [lv_args, rv_cat, cat_i, cat_l]) pcZ (fun X hXl hX hnh hin => ?_)
  subst hXl
  unfold f_X0_isWord
  refine s_aload_n hX dX0_isWord_0 rfl 0 rfl ?_
  refine s_getI (ci := 0) (j := 14) (ref := "WindGas") hX (pcG 0) in_X0 (Or.inl q280) (by decide) (by decide) (by decide) rfl dX0_isWord_1 (fun _ h9 => h9) (fun v1 => ?_)
  refine s_bipush (v := 119) hX dX0_isWord_4 (by decide) ?_
  refine s_jn (P := fun j => ∀ (v2 : Int32), Sim X cvI 25 [] [.int v2] (j v2)) ?_ (fun j25 hj25 => ?_)
  · intro v2
    exact s_zret hX dX0_isWord_25
  · refine s_jn (P := fun j => ∀ (u : Unit), Sim X cvI 24 [] [] (j u)) ?_ (fun j24 hj24 => ?_)
    · intro u
      refine s_iconst (v := 0) hX dX0_isWord_24 rfl ?_
      exact hj25 0
    · refine s_icmp_ne (tgt := 24) hX dX0_isWord_6 (by decide) ?_ ?_
      · exact s_sub [] rfl (hj24 ())
      · refine s_aload_n hX dX0_isWord_9 rfl 0 rfl ?_
        refine s_getR (ci := 0) (j := 15) (ref := "WindGas") hX (pcG 0) in_X0 (Or.inl q281) (by decide) (by decide) (by decide) rfl dX0_isWord_10 (fun _ h9 => h9) (fun v3 => ?_)
        refine s_aload_n hX dX0_isWord_13 rfl 1 rfl ?_
        refine s_callVS (cw := cvI) (n := 1) (As := [rv p1]) (st := []) hX (pcK 20) (pcK 40) (pt_equals X.l v3 p1) q885 q886 q887 q107 q888 yvJ11_equals (by decide) rfl (by first | decide | simp [rv_cat, cat_i, cat_l]) dX0_isWord_14 (fun v4 => ?_)
        refine s_if_eq (tgt := 24) hX dX0_isWord_17 (by decide) ?_ ?_
        · exact s_sub [] rfl (hj24 ())
        · refine s_iconst (v := 1) hX dX0_isWord_20 rfl ?_
          refine s_goto (tgt := 25) hX dX0_isWord_21 (by decide) ?_
          exact s_sub [] rfl (hj25 1)
theorem dX0_must_0 : decode cX0_must 0 = .ok (.iload_n 1, 1) := by decide +kernel
theorem dX0_must_1 : decode cX0_must 1 = .ok (.ifCond .ne 15, 3) := by decide +kernel
theorem dX0_must_4 : decode cX0_must 4 = .ok (.new 214, 3) := by decide +kernel
theorem dX0_must_7 : decode cX0_must 7 = .ok (.dup, 1) := by decide +kernel
theorem dX0_must_8 : decode cX0_must 8 = .ok (.aload_n 0, 1) := by decide +kernel
theorem dX0_must_9 : decode cX0_must 9 = .ok (.getfield 179, 3) := by decide +kernel
theorem dX0_must_12 : decode cX0_must 12 = .ok (.invokespecial 216, 3) := by decide +kernel
theorem dX0_must_15 : decode cX0_must 15 = .ok (.athrow, 1) := by decide +kernel
theorem dX0_must_16 : decode cX0_must 16 = .ok (.aload_n 0, 1) := by decide +kernel
theorem dX0_must_17 : decode cX0_must 17 = .ok (.invokevirtual 217, 3) := by decide +kernel
theorem dX0_must_20 : decode cX0_must 20 = .ok (.return_, 1) := by decide +kernel
theorem ycX0_must : yX0_must.cls ≠ "java/lang/invoke/MethodHandle" ∧ yX0_must.cls ≠ "java/lang/invoke/VarHandle" ∧ (parseMethodDescriptor yX0_must.desc).map (fun d => d.parameters.length) = some 1 := by decide +kernel
theorem yvX0_must : yX0_must.cls = RR 0 ∧ yX0_must.cls ≠ "java/lang/invoke/MethodHandle" ∧ yX0_must.cls ≠ "java/lang/invoke/VarHandle" ∧ (parseMethodDescriptor yX0_must.desc).map (fun d => d.parameters.length) = some 1 := ⟨rfl, ycX0_must⟩
noncomputable def f_X0_must (n : Nat) (p0 : Nat) (p1 : Int32) : Act Unit :=
  if ¬ p1 = 0 then
    bnd (gd 0 p0 (nt (f_X0_next n p0))) fun _ =>
    pur ()
  else
    bnd (newO 11 7) fun v1 =>
    bnd (getI 0 11 p0) fun v2 =>
    bnd (gd 11 v1 (nt (f_X11_init v1 v2))) fun _ =>
    nn v1 (thr v1)
set_option maxHeartbeats 4000000 in
theorem ct_X0_must (l : Launch) (n : Nat) (p0 : Nat) (p1 : Int32) : Ct l Pic yX0_must (ws_ yX0_must cX0_must 2 none) 7 173 cvU [rv p0, .int p1] (f_X0_must n p0 p1) := by
  refine Ct.of (own := RX0) (L := [(0, rv p0), (1, .int p1)]) (plainFor_of_name (by decide)) rfl (by first | decide | simp [lg_sl, rv_cat, cat_i, cat_l]) (by first | rfl | simp [lv_args, rv_cat, cat_i, cat_l]) pcZ (fun X hXl hX hnh hin => ?_)
  subst hXl
  unfold f_X0_must
  refine s_iload_n hX dX0_must_0 rfl 1 rfl ?_
  refine s_if_ne (tgt := 16) hX dX0_must_1 (by decide) ?_ ?_
  · refine s_aload_n hX dX0_must_16 rfl 0 rfl ?_
    refine s_callV_U (ci := 0) (n := 0) (As := []) (st := []) hX (pcK 1) (by decide) (ct_X0_next X.l n p0) q569 q571 qs7 q84 q572 yvX0_next (by decide) rfl (by first | decide | simp [rv_cat, cat_i, cat_l]) dX0_must_17 (fun _ => ?_)
    exact s_vret hX dX0_must_20
  · refine s_new (ci := 11) hX (pcN 11) in_X11 tyX11_ok (by decide) (by decide) q568 q760 q113 dX0_must_4 (fun v1 => ?_)
    refine s_dup hX dX0_must_7 (rv_cat _) ?_
    refine s_aload_n hX dX0_must_8 rfl 0 rfl ?_
    refine s_getI (ci := 0) (j := 11) (ref := "WindGas") hX (pcG 0) in_X0 (Or.inl q277) (by decide) (by decide) (by decide) rfl dX0_must_9 (fun _ h9 => h9) (fun v2 => ?_)
    refine s_callI_U (ci := 11) (n := 1) (As := [.int v2]) (st := [rv v1]) hX (pcK 12) (by decide) (ct_X11_init X.l v1 v2) q798 q799 q113 q800 rfl ycX11_init (by decide) rfl (by first | decide | simp [rv_cat, cat_i, cat_l]) dX0_must_12 (fun _ => ?_)
    exact s_athrow hX hnh dX0_must_15
theorem dX0_oneOf_0 : decode cX0_oneOf 0 = .ok (.iconst 0, 1) := by decide +kernel
theorem dX0_oneOf_1 : decode cX0_oneOf 1 = .ok (.istore_n 2, 1) := by decide +kernel
theorem dX0_oneOf_2 : decode cX0_oneOf 2 = .ok (.iload_n 2, 1) := by decide +kernel
theorem dX0_oneOf_3 : decode cX0_oneOf 3 = .ok (.aload_n 1, 1) := by decide +kernel
theorem dX0_oneOf_4 : decode cX0_oneOf 4 = .ok (.arraylength, 1) := by decide +kernel
theorem dX0_oneOf_5 : decode cX0_oneOf 5 = .ok (.if_icmp .ge 19, 3) := by decide +kernel
theorem dX0_oneOf_8 : decode cX0_oneOf 8 = .ok (.aload_n 0, 1) := by decide +kernel
theorem dX0_oneOf_9 : decode cX0_oneOf 9 = .ok (.aload_n 1, 1) := by decide +kernel
theorem dX0_oneOf_10 : decode cX0_oneOf 10 = .ok (.iload_n 2, 1) := by decide +kernel
theorem dX0_oneOf_11 : decode cX0_oneOf 11 = .ok (.aaload, 1) := by decide +kernel
theorem dX0_oneOf_12 : decode cX0_oneOf 12 = .ok (.invokevirtual 234, 3) := by decide +kernel
theorem dX0_oneOf_15 : decode cX0_oneOf 15 = .ok (.ifCond .ne 9, 3) := by decide +kernel
theorem dX0_oneOf_18 : decode cX0_oneOf 18 = .ok (.iinc 2 1, 3) := by decide +kernel
theorem dX0_oneOf_21 : decode cX0_oneOf 21 = .ok (.goto (-19), 3) := by decide +kernel
theorem dX0_oneOf_24 : decode cX0_oneOf 24 = .ok (.aload_n 0, 1) := by decide +kernel
theorem dX0_oneOf_25 : decode cX0_oneOf 25 = .ok (.iload_n 2, 1) := by decide +kernel
theorem dX0_oneOf_26 : decode cX0_oneOf 26 = .ok (.aload_n 1, 1) := by decide +kernel
theorem dX0_oneOf_27 : decode cX0_oneOf 27 = .ok (.arraylength, 1) := by decide +kernel
theorem dX0_oneOf_28 : decode cX0_oneOf 28 = .ok (.if_icmp .ge 7, 3) := by decide +kernel
theorem dX0_oneOf_31 : decode cX0_oneOf 31 = .ok (.iconst 1, 1) := by decide +kernel
theorem dX0_oneOf_32 : decode cX0_oneOf 32 = .ok (.goto 4, 3) := by decide +kernel
theorem dX0_oneOf_35 : decode cX0_oneOf 35 = .ok (.iconst 0, 1) := by decide +kernel
theorem dX0_oneOf_36 : decode cX0_oneOf 36 = .ok (.invokevirtual 226, 3) := by decide +kernel
theorem dX0_oneOf_39 : decode cX0_oneOf 39 = .ok (.iload_n 2, 1) := by decide +kernel
theorem dX0_oneOf_40 : decode cX0_oneOf 40 = .ok (.ireturn, 1) := by decide +kernel
theorem ycX0_oneOf : yX0_oneOf.cls ≠ "java/lang/invoke/MethodHandle" ∧ yX0_oneOf.cls ≠ "java/lang/invoke/VarHandle" ∧ (parseMethodDescriptor yX0_oneOf.desc).map (fun d => d.parameters.length) = some 1 := by decide +kernel
theorem yvX0_oneOf : yX0_oneOf.cls = RR 0 ∧ yX0_oneOf.cls ≠ "java/lang/invoke/MethodHandle" ∧ yX0_oneOf.cls ≠ "java/lang/invoke/VarHandle" ∧ (parseMethodDescriptor yX0_oneOf.desc).map (fun d => d.parameters.length) = some 1 := ⟨rfl, ycX0_oneOf⟩
noncomputable def lp_X0_oneOf_2 (p0 : Nat) (p1 : Nat) (j24 : Int32 → Act Int32) (q : Nat) : Int32 → Act Int32 := match q with
  | 0 => fun _ => fail
  | q + 1 => fun w1 =>
    bnd (lenq 5 p1) fun v5 =>
    if v5 ≤ w1 then
      j24 w1
    else
      bnd (ldR 5 p1 w1) fun v6 =>
      bnd (gd 0 p0 (nt (f_X0_isWord p0 v6))) fun v7 =>
      if ¬ v7 = 0 then
        j24 w1
      else
        (lp_X0_oneOf_2 p0 p1 j24 q) (w1 + 1)
noncomputable def f_X0_oneOf (n : Nat) (p0 : Nat) (p1 : Nat) : Act Int32 :=
  jn (fun (v2 : Int32) =>
    bnd (lenq 5 p1) fun v3 =>
    jn (fun (v4 : Int32) =>
      bnd (gd 0 p0 (f_X0_must n p0 v4)) fun _ =>
      pur v2) fun j36 =>
    if v3 ≤ v2 then
      j36 0
    else
      j36 1) fun j24 =>
  lp_X0_oneOf_2 p0 p1 j24 n 0
set_option maxHeartbeats 4000000 in
theorem s_lp_X0_oneOf_2 {X : Cx} (hX : Ok X Pic cX0_oneOf RX0 3 (some FieldType.int) 8 194) (hnh : Noh X) (p0 : Nat) (p1 : Nat) (j24 : Int32 → Act Int32) (hj24 : ∀ (v2 : Int32), Sim X cvI 24 [(0, rv p0), (1, rv p1), (2, .int v2)] [] (j24 v2)) (q : Nat) : ∀ (w1 : Int32), Sim X cvI 2 [(0, rv p0), (1, rv p1), (2, .int w1)] [] (lp_X0_oneOf_2 p0 p1 j24 q w1) := by
  induction q with
  | zero => intro w1; exact s_fail
  | succ q ih2 =>
    intro w1
    rw [lp_X0_oneOf_2]
    refine s_iload_n hX dX0_oneOf_2 rfl 2 rfl ?_
    refine s_aload_n hX dX0_oneOf_3 rfl 1 rfl ?_
    refine s_alen (q := 5) hX (by decide) (pcA 5) dX0_oneOf_4 (fun v5 => ?_)
    refine s_icmp_ge (tgt := 24) hX dX0_oneOf_5 (by decide) ?_ ?_
    · exact hj24 w1
    · refine s_aload_n hX dX0_oneOf_8 rfl 0 rfl ?_
      refine s_aload_n hX dX0_oneOf_9 rfl 1 rfl ?_
      refine s_iload_n hX dX0_oneOf_10 rfl 2 rfl ?_
      refine s_aald (q := 5) hX (by decide) (by decide) (fun _ => rfl) (pcA 5) dX0_oneOf_11 (fun v6 => ?_)
      refine s_callV_I (ci := 0) (n := 1) (As := [rv v6]) (st := []) hX (pcK 1) (by decide) (ct_X0_isWord X.l p0 v6) q922 q924 qs15 q84 q925 yvX0_isWord (by decide) rfl (by first | decide | simp [rv_cat, cat_i, cat_l]) dX0_oneOf_12 (fun v7 => ?_)
      refine s_if_ne (tgt := 24) hX dX0_oneOf_15 (by decide) ?_ ?_
      · exact hj24 w1
      · refine s_iinc (k := 2) (v := (w1 + 1)) (L2 := [(2, .int (w1 + 1)), (0, rv p0), (1, rv p1)]) hX dX0_oneOf_18 rfl rfl (by decide) (by first | (simp [rv_cat, cat_i, cat_l]; done) | (simp [rv_cat, cat_i, cat_l]; decide)) ?_
        refine s_goto (tgt := 2) hX dX0_oneOf_21 (by decide) ?_
        exact s_sub [1, 2, 0] rfl (ih2 (w1 + 1))
set_option maxHeartbeats 4000000 in
theorem ct_X0_oneOf (l : Launch) (n : Nat) (p0 : Nat) (p1 : Nat) : Ct l Pic yX0_oneOf (ws_ yX0_oneOf cX0_oneOf 3 (some FieldType.int)) 8 194 cvI [rv p0, rv p1] (f_X0_oneOf n p0 p1) := by
  refine Ct.of (own := RX0) (L := [(0, rv p0), (1, rv p1)]) (plainFor_of_name (by decide)) rfl (by first | decide | simp [lg_sl, rv_cat, cat_i, cat_l]) (by first | rfl | simp [lv_args, rv_cat, cat_i, cat_l]) pcZ (fun X hXl hX hnh hin => ?_)
  subst hXl
  unfold f_X0_oneOf
  refine s_iconst (v := 0) hX dX0_oneOf_0 rfl ?_
  refine s_istore_n (i := 2) (L2 := [(2, .int 0), (0, rv p0), (1, rv p1)]) hX dX0_oneOf_1 rfl (by decide) (by first | (simp [rv_cat, cat_i, cat_l]; done) | (simp [rv_cat, cat_i, cat_l]; decide)) ?_
  refine s_jn (P := fun j => ∀ (v2 : Int32), Sim X cvI 24 [(0, rv p0), (1, rv p1), (2, .int v2)] [] (j v2)) ?_ (fun j24 hj24 => ?_)
  · intro v2
    refine s_aload_n hX dX0_oneOf_24 rfl 0 rfl ?_
    refine s_iload_n hX dX0_oneOf_25 rfl 2 rfl ?_
    refine s_aload_n hX dX0_oneOf_26 rfl 1 rfl ?_
    refine s_alen (q := 5) hX (by decide) (pcA 5) dX0_oneOf_27 (fun v3 => ?_)
    refine s_jn (P := fun j => ∀ (v4 : Int32), Sim X cvI 36 [(2, .int v2)] [.int v4, rv p0] (j v4)) ?_ (fun j36 hj36 => ?_)
    · intro v4
      refine s_callVT_U (ci := 0) (n := 1) (As := [.int v4]) (st := []) hX hnh (pcK 1) (by decide) (ct_X0_must X.l n p0 v4) q910 q912 qs13 q84 q913 yvX0_must (by decide) rfl (by first | decide | simp [rv_cat, cat_i, cat_l]) dX0_oneOf_36 (fun _ => ?_)
      refine s_iload_n hX dX0_oneOf_39 rfl 0 rfl ?_
      exact s_iret hX dX0_oneOf_40
    · refine s_icmp_ge (tgt := 35) hX dX0_oneOf_28 (by decide) ?_ ?_
      · refine s_iconst (v := 0) hX dX0_oneOf_35 rfl ?_
        exact s_sub [2] rfl (hj36 0)
      · refine s_iconst (v := 1) hX dX0_oneOf_31 rfl ?_
        refine s_goto (tgt := 36) hX dX0_oneOf_32 (by decide) ?_
        exact s_sub [2] rfl (hj36 1)
  · exact s_sub [1, 2, 0] rfl (s_lp_X0_oneOf_2 hX hnh p0 p1 j24 hj24 n 0)
theorem dX0_kind_0 : decode cX0_kind 0 = .ok (.aload_n 0, 1) := by decide +kernel
theorem dX0_kind_1 : decode cX0_kind 1 = .ok (.iconst 5, 1) := by decide +kernel
theorem dX0_kind_2 : decode cX0_kind 2 = .ok (.anewarray 221, 3) := by decide +kernel
theorem dX0_kind_5 : decode cX0_kind 5 = .ok (.dup, 1) := by decide +kernel
theorem dX0_kind_6 : decode cX0_kind 6 = .ok (.iconst 0, 1) := by decide +kernel
theorem dX0_kind_7 : decode cX0_kind 7 = .ok (.ldc 238, 2) := by decide +kernel
theorem dX0_kind_9 : decode cX0_kind 9 = .ok (.aastore, 1) := by decide +kernel
theorem dX0_kind_10 : decode cX0_kind 10 = .ok (.dup, 1) := by decide +kernel
theorem dX0_kind_11 : decode cX0_kind 11 = .ok (.iconst 1, 1) := by decide +kernel
theorem dX0_kind_12 : decode cX0_kind 12 = .ok (.ldc 240, 2) := by decide +kernel
theorem dX0_kind_14 : decode cX0_kind 14 = .ok (.aastore, 1) := by decide +kernel
theorem dX0_kind_15 : decode cX0_kind 15 = .ok (.dup, 1) := by decide +kernel
theorem dX0_kind_16 : decode cX0_kind 16 = .ok (.iconst 2, 1) := by decide +kernel
theorem dX0_kind_17 : decode cX0_kind 17 = .ok (.ldc 241, 2) := by decide +kernel
theorem dX0_kind_19 : decode cX0_kind 19 = .ok (.aastore, 1) := by decide +kernel
theorem dX0_kind_20 : decode cX0_kind 20 = .ok (.dup, 1) := by decide +kernel
theorem dX0_kind_21 : decode cX0_kind 21 = .ok (.iconst 3, 1) := by decide +kernel
theorem dX0_kind_22 : decode cX0_kind 22 = .ok (.ldc 243, 2) := by decide +kernel
theorem dX0_kind_24 : decode cX0_kind 24 = .ok (.aastore, 1) := by decide +kernel
theorem dX0_kind_25 : decode cX0_kind 25 = .ok (.dup, 1) := by decide +kernel
theorem dX0_kind_26 : decode cX0_kind 26 = .ok (.iconst 4, 1) := by decide +kernel
theorem dX0_kind_27 : decode cX0_kind 27 = .ok (.ldc 245, 2) := by decide +kernel
theorem dX0_kind_29 : decode cX0_kind 29 = .ok (.aastore, 1) := by decide +kernel
theorem dX0_kind_30 : decode cX0_kind 30 = .ok (.invokevirtual 247, 3) := by decide +kernel
theorem dX0_kind_33 : decode cX0_kind 33 = .ok (.ireturn, 1) := by decide +kernel
theorem ycX0_kind : yX0_kind.cls ≠ "java/lang/invoke/MethodHandle" ∧ yX0_kind.cls ≠ "java/lang/invoke/VarHandle" ∧ (parseMethodDescriptor yX0_kind.desc).map (fun d => d.parameters.length) = some 0 := by decide +kernel
theorem yvX0_kind : yX0_kind.cls = RR 0 ∧ yX0_kind.cls ≠ "java/lang/invoke/MethodHandle" ∧ yX0_kind.cls ≠ "java/lang/invoke/VarHandle" ∧ (parseMethodDescriptor yX0_kind.desc).map (fun d => d.parameters.length) = some 0 := ⟨rfl, ycX0_kind⟩
noncomputable def f_X0_kind (n : Nat) (p0 : Nat) : Act Int32 :=
  bnd (newA 5 5) fun v1 =>
  bnd (gst 34) fun v2 =>
  bnd (stK [40] 5 v1 0 v2) fun _ =>
  bnd (gst 35) fun v3 =>
  bnd (stK [40] 5 v1 1 v3) fun _ =>
  bnd (gst 36) fun v4 =>
  bnd (stK [40] 5 v1 2 v4) fun _ =>
  bnd (gst 37) fun v5 =>
  bnd (stK [40] 5 v1 3 v5) fun _ =>
  bnd (gst 38) fun v6 =>
  bnd (stK [40] 5 v1 4 v6) fun _ =>
  bnd (gd 0 p0 (f_X0_oneOf n p0 v1)) fun v7 =>
  pur v7
set_option maxHeartbeats 4000000 in
theorem ct_X0_kind (l : Launch) (n : Nat) (p0 : Nat) : Ct l Pic yX0_kind (ws_ yX0_kind cX0_kind 1 (some FieldType.int)) 9 216 cvI [rv p0] (f_X0_kind n p0) := by
  refine Ct.of (own := RX0) (L := [(0, rv p0)]) (plainFor_of_name (by decide)) rfl (by first | decide | simp [lg_sl, rv_cat, cat_i, cat_l]) (by first | rfl | simp [lv_args, rv_cat, cat_i, cat_l]) pcZ (fun X hXl hX hnh hin => ?_)
  subst hXl
  unfold f_X0_kind
  refine s_aload_n hX dX0_kind_0 rfl 0 rfl ?_
  refine s_iconst (v := 5) hX dX0_kind_1 rfl ?_
  refine s_anew (q := 5) hX (by decide) (by decide) (fun _ => rfl) (pcM 5) q914 q915 dX0_kind_2 (fun v1 => ?_)
  refine s_dup hX dX0_kind_5 (rv_cat _) ?_
  refine s_iconst (v := 0) hX dX0_kind_6 rfl ?_
  refine s_ldcS (i := 24) (tx := "stack") hX (pcS) rfl dX0_kind_7 (fun v2 => ?_)
  refine s_aast (q := 5) (ks := [40]) hX (by decide) (by decide) (fun _ => rfl) elS1p (pcA 5) (pcB 5) dX0_kind_9 ?_
  refine s_dup hX dX0_kind_10 (rv_cat _) ?_
  refine s_iconst (v := 1) hX dX0_kind_11 rfl ?_
  refine s_ldcS (i := 25) (tx := "cavern") hX (pcS) rfl dX0_kind_12 (fun v3 => ?_)
  refine s_aast (q := 5) (ks := [40]) hX (by decide) (by decide) (fun _ => rfl) elS1p (pcA 5) (pcB 5) dX0_kind_14 ?_
  refine s_dup hX dX0_kind_15 (rv_cat _) ?_
  refine s_iconst (v := 2) hX dX0_kind_16 rfl ?_
  refine s_ldcS (i := 26) (tx := "house") hX (pcS) rfl dX0_kind_17 (fun v4 => ?_)
  refine s_aast (q := 5) (ks := [40]) hX (by decide) (by decide) (fun _ => rfl) elS1p (pcA 5) (pcB 5) dX0_kind_19 ?_
  refine s_dup hX dX0_kind_20 (rv_cat _) ?_
  refine s_iconst (v := 3) hX dX0_kind_21 rfl ?_
  refine s_ldcS (i := 27) (tx := "quay") hX (pcS) rfl dX0_kind_22 (fun v5 => ?_)
  refine s_aast (q := 5) (ks := [40]) hX (by decide) (by decide) (fun _ => rfl) elS1p (pcA 5) (pcB 5) dX0_kind_24 ?_
  refine s_dup hX dX0_kind_25 (rv_cat _) ?_
  refine s_iconst (v := 4) hX dX0_kind_26 rfl ?_
  refine s_ldcS (i := 28) (tx := "depot") hX (pcS) rfl dX0_kind_27 (fun v6 => ?_)
  refine s_aast (q := 5) (ks := [40]) hX (by decide) (by decide) (fun _ => rfl) elS1p (pcA 5) (pcB 5) dX0_kind_29 ?_
  refine s_callVT_I (ci := 0) (n := 1) (As := [rv v1]) (st := []) hX hnh (pcK 1) (by decide) (ct_X0_oneOf X.l n p0 v1) q918 q920 qs14 q84 q921 yvX0_oneOf (by decide) rfl (by first | decide | simp [rv_cat, cat_i, cat_l]) dX0_kind_30 (fun v7 => ?_)
  exact s_iret hX dX0_kind_33
theorem dX0_number_0 : decode cX0_number 0 = .ok (.aload_n 0, 1) := by decide +kernel
theorem dX0_number_1 : decode cX0_number 1 = .ok (.getfield 201, 3) := by decide +kernel
theorem dX0_number_4 : decode cX0_number 4 = .ok (.istore_n 3, 1) := by decide +kernel
theorem dX0_number_5 : decode cX0_number 5 = .ok (.aload_n 0, 1) := by decide +kernel
theorem dX0_number_6 : decode cX0_number 6 = .ok (.aload_n 0, 1) := by decide +kernel
theorem dX0_number_7 : decode cX0_number 7 = .ok (.getfield 180, 3) := by decide +kernel
theorem dX0_number_10 : decode cX0_number 10 = .ok (.bipush 110, 2) := by decide +kernel
theorem dX0_number_12 : decode cX0_number 12 = .ok (.if_icmp .ne 19, 3) := by decide +kernel
theorem dX0_number_15 : decode cX0_number 15 = .ok (.iload_n 3, 1) := by decide +kernel
theorem dX0_number_16 : decode cX0_number 16 = .ok (.i2l, 1) := by decide +kernel
theorem dX0_number_17 : decode cX0_number 17 = .ok (.iload_n 1, 1) := by decide +kernel
theorem dX0_number_18 : decode cX0_number 18 = .ok (.i2l, 1) := by decide +kernel
theorem dX0_number_19 : decode cX0_number 19 = .ok (.iload_n 2, 1) := by decide +kernel
theorem dX0_number_20 : decode cX0_number 20 = .ok (.i2l, 1) := by decide +kernel
theorem dX0_number_21 : decode cX0_number 21 = .ok (.invokestatic 101, 3) := by decide +kernel
theorem dX0_number_24 : decode cX0_number 24 = .ok (.ifCond .eq 7, 3) := by decide +kernel
theorem dX0_number_27 : decode cX0_number 27 = .ok (.iconst 1, 1) := by decide +kernel
theorem dX0_number_28 : decode cX0_number 28 = .ok (.goto 4, 3) := by decide +kernel
theorem dX0_number_31 : decode cX0_number 31 = .ok (.iconst 0, 1) := by decide +kernel
theorem dX0_number_32 : decode cX0_number 32 = .ok (.invokevirtual 226, 3) := by decide +kernel
theorem dX0_number_35 : decode cX0_number 35 = .ok (.iload_n 3, 1) := by decide +kernel
theorem dX0_number_36 : decode cX0_number 36 = .ok (.ireturn, 1) := by decide +kernel
theorem ycX0_number : yX0_number.cls ≠ "java/lang/invoke/MethodHandle" ∧ yX0_number.cls ≠ "java/lang/invoke/VarHandle" ∧ (parseMethodDescriptor yX0_number.desc).map (fun d => d.parameters.length) = some 2 := by decide +kernel
theorem yvX0_number : yX0_number.cls = RR 0 ∧ yX0_number.cls ≠ "java/lang/invoke/MethodHandle" ∧ yX0_number.cls ≠ "java/lang/invoke/VarHandle" ∧ (parseMethodDescriptor yX0_number.desc).map (fun d => d.parameters.length) = some 2 := ⟨rfl, ycX0_number⟩
noncomputable def f_X0_number (n : Nat) (p0 : Nat) (p1 : Int32) (p2 : Int32) : Act Int32 :=
  bnd (getI 0 12 p0) fun v1 =>
  bnd (getI 0 14 p0) fun v2 =>
  jn (fun (v3 : Int32) =>
    bnd (gd 0 p0 (f_X0_must n p0 v3)) fun _ =>
    pur v1) fun j32 =>
  jn (fun (_ : Unit) =>
    j32 0) fun j31 =>
  if ¬ v2 = 110 then
    j31 ()
  else
    bnd (nt (f_X0_isIn v1.toInt64 p1.toInt64 p2.toInt64)) fun v4 =>
    if v4 = 0 then
      j31 ()
    else
      j32 1
set_option maxHeartbeats 4000000 in
theorem ct_X0_number (l : Launch) (n : Nat) (p0 : Nat) (p1 : Int32) (p2 : Int32) : Ct l Pic yX0_number (ws_ yX0_number cX0_number 4 (some FieldType.int)) 8 194 cvI [rv p0, .int p1, .int p2] (f_X0_number n p0 p1 p2) := by
  refine Ct.of (own := RX0) (L := [(0, rv p0), (1, .int p1), (2, .int p2)]) (plainFor_of_name (by decide)) rfl (by first | decide | simp [lg_sl, rv_cat, cat_i, cat_l]) (by first | rfl | simp [lv_args, rv_cat, cat_i, cat_l]) pcZ (fun X hXl hX hnh hin => ?_)
  subst hXl
  unfold f_X0_number
  refine s_aload_n hX dX0_number_0 rfl 0 rfl ?_
  refine s_getI (ci := 0) (j := 12) (ref := "WindGas") hX (pcG 0) in_X0 (Or.inl q278) (by decide) (by decide) (by decide) rfl dX0_number_1 (fun _ h9 => h9) (fun v1 => ?_)
  refine s_istore_n (i := 3) (L2 := [(3, .int v1), (0, rv p0), (1, .int p1), (2, .int p2)]) hX dX0_number_4 rfl (by decide) rfl ?_
  refine s_aload_n hX dX0_number_5 rfl 1 rfl ?_
  refine s_aload_n hX dX0_number_6 rfl 1 rfl ?_
  refine s_getI (ci := 0) (j := 14) (ref := "WindGas") hX (pcG 0) in_X0 (Or.inl q280) (by decide) (by decide) (by decide) rfl dX0_number_7 (fun _ h9 => h9) (fun v2 => ?_)
  refine s_bipush (v := 110) hX dX0_number_10 (by decide) ?_
  refine s_jn (P := fun j => ∀ (v3 : Int32), Sim X cvI 32 [(3, .int v1)] [.int v3, rv p0] (j v3)) ?_ (fun j32 hj32 => ?_)
  · intro v3
    refine s_callVT_U (ci := 0) (n := 1) (As := [.int v3]) (st := []) hX hnh (pcK 1) (by decide) (ct_X0_must X.l n p0 v3) q910 q912 qs13 q84 q913 yvX0_must (by decide) rfl (by first | decide | simp [rv_cat, cat_i, cat_l]) dX0_number_32 (fun _ => ?_)
    refine s_iload_n hX dX0_number_35 rfl 0 rfl ?_
    exact s_iret hX dX0_number_36
  · refine s_jn (P := fun j => ∀ (u : Unit), Sim X cvI 31 [(3, .int v1)] [rv p0] (j u)) ?_ (fun j31 hj31 => ?_)
    · intro u
      refine s_iconst (v := 0) hX dX0_number_31 rfl ?_
      exact hj32 0
    · refine s_icmp_ne (tgt := 31) hX dX0_number_12 (by decide) ?_ ?_
      · exact s_sub [0] rfl (hj31 ())
      · refine s_iload_n hX dX0_number_15 rfl 0 rfl ?_
        refine s_i2l hX dX0_number_16 ?_
        refine s_iload_n hX dX0_number_17 rfl 2 rfl ?_
        refine s_i2l hX dX0_number_18 ?_
        refine s_iload_n hX dX0_number_19 rfl 3 rfl ?_
        refine s_i2l hX dX0_number_20 ?_
        refine s_callS_I (n := 3) (As := [.long v1.toInt64, .long p1.toInt64, .long p2.toInt64]) (st := [rv p0]) hX (ct_X0_isIn X.l v1.toInt64 p1.toInt64 p2.toInt64) q400 q401 q84 q402 ycX0_isIn (by decide) rfl (by first | decide | simp [rv_cat, cat_i, cat_l]) dX0_number_21 (fun v4 => ?_)
        refine s_if_eq (tgt := 31) hX dX0_number_24 (by decide) ?_ ?_
        · exact s_sub [0] rfl (hj31 ())
        · refine s_iconst (v := 1) hX dX0_number_27 rfl ?_
          refine s_goto (tgt := 32) hX dX0_number_28 (by decide) ?_
          exact s_sub [0] rfl (hj32 1)
theorem dX0_any_0 : decode cX0_any 0 = .ok (.aload_n 0, 1) := by decide +kernel
theorem dX0_any_1 : decode cX0_any 1 = .ok (.iconst 0, 1) := by decide +kernel
theorem dX0_any_2 : decode cX0_any 2 = .ok (.ldc 230, 2) := by decide +kernel
theorem dX0_any_4 : decode cX0_any 4 = .ok (.invokevirtual 231, 3) := by decide +kernel
theorem dX0_any_7 : decode cX0_any 7 = .ok (.ireturn, 1) := by decide +kernel
theorem ycX0_any : yX0_any.cls ≠ "java/lang/invoke/MethodHandle" ∧ yX0_any.cls ≠ "java/lang/invoke/VarHandle" ∧ (parseMethodDescriptor yX0_any.desc).map (fun d => d.parameters.length) = some 0 := by decide +kernel
theorem yvX0_any : yX0_any.cls = RR 0 ∧ yX0_any.cls ≠ "java/lang/invoke/MethodHandle" ∧ yX0_any.cls ≠ "java/lang/invoke/VarHandle" ∧ (parseMethodDescriptor yX0_any.desc).map (fun d => d.parameters.length) = some 0 := ⟨rfl, ycX0_any⟩
noncomputable def f_X0_any (n : Nat) (p0 : Nat) : Act Int32 :=
  bnd (gd 0 p0 (f_X0_number n p0 (0 : Int32) (999999 : Int32))) fun v1 =>
  pur v1
set_option maxHeartbeats 4000000 in
theorem ct_X0_any (l : Launch) (n : Nat) (p0 : Nat) : Ct l Pic yX0_any (ws_ yX0_any cX0_any 1 (some FieldType.int)) 9 217 cvI [rv p0] (f_X0_any n p0) := by
  refine Ct.of (own := RX0) (L := [(0, rv p0)]) (plainFor_of_name (by decide)) rfl (by first | decide | simp [lg_sl, rv_cat, cat_i, cat_l]) (by first | rfl | simp [lv_args, rv_cat, cat_i, cat_l]) pcZ (fun X hXl hX hnh hin => ?_)
  subst hXl
  unfold f_X0_any
  refine s_aload_n hX dX0_any_0 rfl 0 rfl ?_
  refine s_iconst (v := 0) hX dX0_any_1 rfl ?_
  refine s_ldc (v := 999999) hX dX0_any_2 q905 ?_
  refine s_callVT_I (ci := 0) (n := 2) (As := [.int 0, .int 999999]) (st := []) hX hnh (pcK 1) (by decide) (ct_X0_number X.l n p0 (0 : Int32) (999999 : Int32)) q906 q908 qs12 q84 q909 yvX0_number (by decide) rfl (by first | decide | simp [rv_cat, cat_i, cat_l]) dX0_any_4 (fun v1 => ?_)
  exact s_iret hX dX0_any_7
theorem dX15_init_0 : decode cX15_init 0 = .ok (.aload_n 0, 1) := by decide +kernel
theorem dX15_init_1 : decode cX15_init 1 = .ok (.invokespecial 1, 3) := by decide +kernel
theorem dX15_init_4 : decode cX15_init 4 = .ok (.aload_n 0, 1) := by decide +kernel
theorem dX15_init_5 : decode cX15_init 5 = .ok (.iload_n 1, 1) := by decide +kernel
theorem dX15_init_6 : decode cX15_init 6 = .ok (.putfield 7, 3) := by decide +kernel
theorem dX15_init_9 : decode cX15_init 9 = .ok (.aload_n 0, 1) := by decide +kernel
theorem dX15_init_10 : decode cX15_init 10 = .ok (.iload_n 2, 1) := by decide +kernel
theorem dX15_init_11 : decode cX15_init 11 = .ok (.putfield 13, 3) := by decide +kernel
theorem dX15_init_14 : decode cX15_init 14 = .ok (.aload_n 0, 1) := by decide +kernel
theorem dX15_init_15 : decode cX15_init 15 = .ok (.iload_n 3, 1) := by decide +kernel
theorem dX15_init_16 : decode cX15_init 16 = .ok (.putfield 16, 3) := by decide +kernel
theorem dX15_init_19 : decode cX15_init 19 = .ok (.aload_n 0, 1) := by decide +kernel
theorem dX15_init_20 : decode cX15_init 20 = .ok (.iload 4, 2) := by decide +kernel
theorem dX15_init_22 : decode cX15_init 22 = .ok (.putfield 19, 3) := by decide +kernel
theorem dX15_init_25 : decode cX15_init 25 = .ok (.return_, 1) := by decide +kernel
theorem ycX15_init : yX15_init.cls ≠ "java/lang/invoke/MethodHandle" ∧ yX15_init.cls ≠ "java/lang/invoke/VarHandle" ∧ (parseMethodDescriptor yX15_init.desc).map (fun d => d.parameters.length) = some 4 := by decide +kernel
theorem yvX15_init : yX15_init.cls = RR 15 ∧ yX15_init.cls ≠ "java/lang/invoke/MethodHandle" ∧ yX15_init.cls ≠ "java/lang/invoke/VarHandle" ∧ (parseMethodDescriptor yX15_init.desc).map (fun d => d.parameters.length) = some 4 := ⟨rfl, ycX15_init⟩
noncomputable def f_X15_init (p0 : Nat) (p1 : Int32) (p2 : Int32) (p3 : Int32) (p4 : Int32) : Act Unit :=
  bnd (gd 15 p0 (nt (f_J3_init p0))) fun _ =>
  bnd (putI 15 0 p0 p1) fun _ =>
  bnd (putI 15 1 p0 p2) fun _ =>
  bnd (putI 15 2 p0 p3) fun _ =>
  bnd (putI 15 3 p0 p4) fun _ =>
  pur ()
set_option maxHeartbeats 4000000 in
theorem ct_X15_init (l : Launch) (p0 : Nat) (p1 : Int32) (p2 : Int32) (p3 : Int32) (p4 : Int32) : Ct l Pic yX15_init (ws_ yX15_init cX15_init 5 none) 2 44 cvU [rv p0, .int p1, .int p2, .int p3, .int p4] (f_X15_init p0 p1 p2 p3 p4) := by
  refine Ct.of (own := RX15) (L := [(0, rv p0), (1, .int p1), (2, .int p2), (3, .int p3), (4, .int p4)]) (plainFor_of_name (by decide)) rfl (by first | decide | simp [lg_sl, rv_cat, cat_i, cat_l]) (by first | rfl | simp [lv_args, rv_cat, cat_i, cat_l]) pcZ (fun X hXl hX hnh hin => ?_)
  subst hXl
  unfold f_X15_init
  refine s_aload_n hX dX15_init_0 rfl 0 rfl ?_
  refine s_callI_U (ci := 15) (n := 0) (As := []) (st := []) hX (pcK 16) (by decide) (ct_J3_init X.l p0) q1016 q426 q92 q427 rfl ycJ3_init (by decide) rfl (by first | decide | simp [rv_cat, cat_i, cat_l]) dX15_init_1 (fun _ => ?_)
  refine s_aload_n hX dX15_init_4 rfl 0 rfl ?_
  refine s_iload_n hX dX15_init_5 rfl 1 rfl ?_
  refine s_putIF (ci := 15) (j := 0) (ref := "WindGas$Apart") hX (pcG 15) (pcP 15) in_X15 tyX15_ok nmX15 q1017 (by decide) (by decide) (by decide) rfl rfl rfl (hin rfl) rfl dX15_init_6 (fun _ h9 => h9) ?_
  refine s_aload_n hX dX15_init_9 rfl 0 rfl ?_
  refine s_iload_n hX dX15_init_10 rfl 2 rfl ?_
  refine s_putIF (ci := 15) (j := 1) (ref := "WindGas$Apart") hX (pcG 15) (pcP 15) in_X15 tyX15_ok nmX15 q1018 (by decide) (by decide) (by decide) rfl rfl rfl (hin rfl) rfl dX15_init_11 (fun _ h9 => h9) ?_
  refine s_aload_n hX dX15_init_14 rfl 0 rfl ?_
  refine s_iload_n hX dX15_init_15 rfl 3 rfl ?_
  refine s_putIF (ci := 15) (j := 2) (ref := "WindGas$Apart") hX (pcG 15) (pcP 15) in_X15 tyX15_ok nmX15 q1019 (by decide) (by decide) (by decide) rfl rfl rfl (hin rfl) rfl dX15_init_16 (fun _ h9 => h9) ?_
  refine s_aload_n hX dX15_init_19 rfl 0 rfl ?_
  refine s_iload hX dX15_init_20 4 rfl ?_
  refine s_putIF (ci := 15) (j := 3) (ref := "WindGas$Apart") hX (pcG 15) (pcP 15) in_X15 tyX15_ok nmX15 q1020 (by decide) (by decide) (by decide) rfl rfl rfl (hin rfl) rfl dX15_init_22 (fun _ h9 => h9) ?_
  exact s_vret hX dX15_init_25
theorem dX0_opens_0 : decode cX0_opens 0 = .ok (.aload_n 0, 1) := by decide +kernel
theorem dX0_opens_1 : decode cX0_opens 1 = .ok (.getfield 251, 3) := by decide +kernel
theorem dX0_opens_4 : decode cX0_opens 4 = .ok (.bipush 10, 2) := by decide +kernel
theorem dX0_opens_6 : decode cX0_opens 6 = .ok (.if_icmp .ne 15, 3) := by decide +kernel
theorem dX0_opens_9 : decode cX0_opens 9 = .ok (.new 214, 3) := by decide +kernel
theorem dX0_opens_12 : decode cX0_opens 12 = .ok (.dup, 1) := by decide +kernel
theorem dX0_opens_13 : decode cX0_opens 13 = .ok (.aload_n 0, 1) := by decide +kernel
theorem dX0_opens_14 : decode cX0_opens 14 = .ok (.getfield 179, 3) := by decide +kernel
theorem dX0_opens_17 : decode cX0_opens 17 = .ok (.invokespecial 216, 3) := by decide +kernel
theorem dX0_opens_20 : decode cX0_opens 20 = .ok (.athrow, 1) := by decide +kernel
theorem dX0_opens_21 : decode cX0_opens 21 = .ok (.aload_n 0, 1) := by decide +kernel
theorem dX0_opens_22 : decode cX0_opens 22 = .ok (.dup, 1) := by decide +kernel
theorem dX0_opens_23 : decode cX0_opens 23 = .ok (.getfield 251, 3) := by decide +kernel
theorem dX0_opens_26 : decode cX0_opens 26 = .ok (.iconst 1, 1) := by decide +kernel
theorem dX0_opens_27 : decode cX0_opens 27 = .ok (.iadd, 1) := by decide +kernel
theorem dX0_opens_28 : decode cX0_opens 28 = .ok (.putfield 251, 3) := by decide +kernel
theorem dX0_opens_31 : decode cX0_opens 31 = .ok (.aload_n 0, 1) := by decide +kernel
theorem dX0_opens_32 : decode cX0_opens 32 = .ok (.invokevirtual 217, 3) := by decide +kernel
theorem dX0_opens_35 : decode cX0_opens 35 = .ok (.return_, 1) := by decide +kernel
theorem ycX0_opens : yX0_opens.cls ≠ "java/lang/invoke/MethodHandle" ∧ yX0_opens.cls ≠ "java/lang/invoke/VarHandle" ∧ (parseMethodDescriptor yX0_opens.desc).map (fun d => d.parameters.length) = some 0 := by decide +kernel
theorem yvX0_opens : yX0_opens.cls = RR 0 ∧ yX0_opens.cls ≠ "java/lang/invoke/MethodHandle" ∧ yX0_opens.cls ≠ "java/lang/invoke/VarHandle" ∧ (parseMethodDescriptor yX0_opens.desc).map (fun d => d.parameters.length) = some 0 := ⟨rfl, ycX0_opens⟩
noncomputable def f_X0_opens (n : Nat) (p0 : Nat) : Act Unit :=
  bnd (getI 0 13 p0) fun v1 =>
  if ¬ v1 = 10 then
    bnd (getI 0 13 p0) fun v2 =>
    bnd (putI 0 13 p0 (v2 + 1)) fun _ =>
    bnd (gd 0 p0 (nt (f_X0_next n p0))) fun _ =>
    pur ()
  else
    bnd (newO 11 7) fun v3 =>
    bnd (getI 0 11 p0) fun v4 =>
    bnd (gd 11 v3 (nt (f_X11_init v3 v4))) fun _ =>
    nn v3 (thr v3)
set_option maxHeartbeats 4000000 in
theorem ct_X0_opens (l : Launch) (n : Nat) (p0 : Nat) : Ct l Pic yX0_opens (ws_ yX0_opens cX0_opens 1 none) 7 173 cvU [rv p0] (f_X0_opens n p0) := by
  refine Ct.of (own := RX0) (L := [(0, rv p0)]) (plainFor_of_name (by decide)) rfl (by first | decide | simp [lg_sl, rv_cat, cat_i, cat_l]) (by first | rfl | simp [lv_args, rv_cat, cat_i, cat_l]) pcZ (fun X hXl hX hnh hin => ?_)
  subst hXl
  unfold f_X0_opens
  refine s_aload_n hX dX0_opens_0 rfl 0 rfl ?_
  refine s_getI (ci := 0) (j := 13) (ref := "WindGas") hX (pcG 0) in_X0 (Or.inl q279) (by decide) (by decide) (by decide) rfl dX0_opens_1 (fun _ h9 => h9) (fun v1 => ?_)
  refine s_bipush (v := 10) hX dX0_opens_4 (by decide) ?_
  refine s_icmp_ne (tgt := 21) hX dX0_opens_6 (by decide) ?_ ?_
  · refine s_aload_n hX dX0_opens_21 rfl 0 rfl ?_
    refine s_dup hX dX0_opens_22 (rv_cat _) ?_
    refine s_getI (ci := 0) (j := 13) (ref := "WindGas") hX (pcG 0) in_X0 (Or.inl q279) (by decide) (by decide) (by decide) rfl dX0_opens_23 (fun _ h9 => h9) (fun v2 => ?_)
    refine s_iconst (v := 1) hX dX0_opens_26 rfl ?_
    refine s_iadd hX dX0_opens_27 ?_
    refine s_putI (ci := 0) (j := 13) (ref := "WindGas") hX (pcG 0) (pcP 0) in_X0 tyX0_ok nmX0 (Or.inl q279) (by decide) (by decide) (by decide) rfl rfl rfl dX0_opens_28 (fun _ h9 => h9) ?_
    refine s_aload_n hX dX0_opens_31 rfl 0 rfl ?_
    refine s_callV_U (ci := 0) (n := 0) (As := []) (st := []) hX (pcK 1) (by decide) (ct_X0_next X.l n p0) q569 q571 qs7 q84 q572 yvX0_next (by decide) rfl (by first | decide | simp [rv_cat, cat_i, cat_l]) dX0_opens_32 (fun _ => ?_)
    exact s_vret hX dX0_opens_35
  · refine s_new (ci := 11) hX (pcN 11) in_X11 tyX11_ok (by decide) (by decide) q568 q760 q113 dX0_opens_9 (fun v3 => ?_)
    refine s_dup hX dX0_opens_12 (rv_cat _) ?_
    refine s_aload_n hX dX0_opens_13 rfl 0 rfl ?_
    refine s_getI (ci := 0) (j := 11) (ref := "WindGas") hX (pcG 0) in_X0 (Or.inl q277) (by decide) (by decide) (by decide) rfl dX0_opens_14 (fun _ h9 => h9) (fun v4 => ?_)
    refine s_callI_U (ci := 11) (n := 1) (As := [.int v4]) (st := [rv v3]) hX (pcK 12) (by decide) (ct_X11_init X.l v3 v4) q798 q799 q113 q800 rfl ycX11_init (by decide) rfl (by first | decide | simp [rv_cat, cat_i, cat_l]) dX0_opens_17 (fun _ => ?_)
    exact s_athrow hX hnh dX0_opens_20
theorem dX13_init_0 : decode cX13_init 0 = .ok (.aload_n 0, 1) := by decide +kernel
theorem dX13_init_1 : decode cX13_init 1 = .ok (.invokespecial 1, 3) := by decide +kernel
theorem dX13_init_4 : decode cX13_init 4 = .ok (.aload_n 0, 1) := by decide +kernel
theorem dX13_init_5 : decode cX13_init 5 = .ok (.aload_n 1, 1) := by decide +kernel
theorem dX13_init_6 : decode cX13_init 6 = .ok (.putfield 7, 3) := by decide +kernel
theorem dX13_init_9 : decode cX13_init 9 = .ok (.return_, 1) := by decide +kernel
theorem ycX13_init : yX13_init.cls ≠ "java/lang/invoke/MethodHandle" ∧ yX13_init.cls ≠ "java/lang/invoke/VarHandle" ∧ (parseMethodDescriptor yX13_init.desc).map (fun d => d.parameters.length) = some 1 := by decide +kernel
theorem yvX13_init : yX13_init.cls = RR 13 ∧ yX13_init.cls ≠ "java/lang/invoke/MethodHandle" ∧ yX13_init.cls ≠ "java/lang/invoke/VarHandle" ∧ (parseMethodDescriptor yX13_init.desc).map (fun d => d.parameters.length) = some 1 := ⟨rfl, ycX13_init⟩
noncomputable def f_X13_init (p0 : Nat) (p1 : Nat) : Act Unit :=
  nn p0 <|
  bnd (putR 13 0 p0 p1) fun _ =>
  pur ()
set_option maxHeartbeats 4000000 in
theorem ct_X13_init (l : Launch) (p0 : Nat) (p1 : Nat) : Ct l Pic yX13_init (ws_ yX13_init cX13_init 2 none) 1 24 cvU [rv p0, rv p1] (f_X13_init p0 p1) := by
  refine Ct.of (own := RX13) (L := [(0, rv p0), (1, rv p1)]) (plainFor_of_name (by decide)) rfl (by first | decide | simp [lg_sl, rv_cat, cat_i, cat_l]) (by first | rfl | simp [lv_args, rv_cat, cat_i, cat_l]) pcZ (fun X hXl hX hnh hin => ?_)
  subst hXl
  unfold f_X13_init
  refine s_aload_n hX dX13_init_0 rfl 0 rfl ?_
  refine s_oinit hX (by decide) q955 q126 q127 (by decide) (by decide) dX13_init_1 ?_
  refine s_aload_n hX dX13_init_4 rfl 0 rfl ?_
  refine s_aload_n hX dX13_init_5 rfl 1 rfl ?_
  refine s_putRF (ci := 13) (j := 0) (ref := "WindGas$Not") hX (pcG 13) (pcP 13) in_X13 tyX13_ok nmX13 q956 (by decide) (by decide) (by decide) rfl (fun v => by cases v <;> exact ⟨rfl, rfl⟩) rfl (hin rfl) rfl dX13_init_6 (fun _ h9 => h9) ?_
  exact s_vret hX dX13_init_9
theorem dX14_init_0 : decode cX14_init 0 = .ok (.aload_n 0, 1) := by decide +kernel
theorem dX14_init_1 : decode cX14_init 1 = .ok (.invokespecial 1, 3) := by decide +kernel
theorem dX14_init_4 : decode cX14_init 4 = .ok (.aload_n 0, 1) := by decide +kernel
theorem dX14_init_5 : decode cX14_init 5 = .ok (.iload_n 1, 1) := by decide +kernel
theorem dX14_init_6 : decode cX14_init 6 = .ok (.putfield 7, 3) := by decide +kernel
theorem dX14_init_9 : decode cX14_init 9 = .ok (.aload_n 0, 1) := by decide +kernel
theorem dX14_init_10 : decode cX14_init 10 = .ok (.iload_n 2, 1) := by decide +kernel
theorem dX14_init_11 : decode cX14_init 11 = .ok (.putfield 13, 3) := by decide +kernel
theorem dX14_init_14 : decode cX14_init 14 = .ok (.aload_n 0, 1) := by decide +kernel
theorem dX14_init_15 : decode cX14_init 15 = .ok (.iload_n 3, 1) := by decide +kernel
theorem dX14_init_16 : decode cX14_init 16 = .ok (.putfield 16, 3) := by decide +kernel
theorem dX14_init_19 : decode cX14_init 19 = .ok (.return_, 1) := by decide +kernel
theorem ycX14_init : yX14_init.cls ≠ "java/lang/invoke/MethodHandle" ∧ yX14_init.cls ≠ "java/lang/invoke/VarHandle" ∧ (parseMethodDescriptor yX14_init.desc).map (fun d => d.parameters.length) = some 3 := by decide +kernel
theorem yvX14_init : yX14_init.cls = RR 14 ∧ yX14_init.cls ≠ "java/lang/invoke/MethodHandle" ∧ yX14_init.cls ≠ "java/lang/invoke/VarHandle" ∧ (parseMethodDescriptor yX14_init.desc).map (fun d => d.parameters.length) = some 3 := ⟨rfl, ycX14_init⟩
noncomputable def f_X14_init (p0 : Nat) (p1 : Int32) (p2 : Int32) (p3 : Int32) : Act Unit :=
  nn p0 <|
  bnd (putI 14 0 p0 p1) fun _ =>
  bnd (putI 14 1 p0 p2) fun _ =>
  bnd (putI 14 2 p0 p3) fun _ =>
  pur ()
set_option maxHeartbeats 4000000 in
theorem ct_X14_init (l : Launch) (p0 : Nat) (p1 : Int32) (p2 : Int32) (p3 : Int32) : Ct l Pic yX14_init (ws_ yX14_init cX14_init 4 none) 1 24 cvU [rv p0, .int p1, .int p2, .int p3] (f_X14_init p0 p1 p2 p3) := by
  refine Ct.of (own := RX14) (L := [(0, rv p0), (1, .int p1), (2, .int p2), (3, .int p3)]) (plainFor_of_name (by decide)) rfl (by first | decide | simp [lg_sl, rv_cat, cat_i, cat_l]) (by first | rfl | simp [lv_args, rv_cat, cat_i, cat_l]) pcZ (fun X hXl hX hnh hin => ?_)
  subst hXl
  unfold f_X14_init
  refine s_aload_n hX dX14_init_0 rfl 0 rfl ?_
  refine s_oinit hX (by decide) q973 q126 q127 (by decide) (by decide) dX14_init_1 ?_
  refine s_aload_n hX dX14_init_4 rfl 0 rfl ?_
  refine s_iload_n hX dX14_init_5 rfl 1 rfl ?_
  refine s_putIF (ci := 14) (j := 0) (ref := "WindGas$Test") hX (pcG 14) (pcP 14) in_X14 tyX14_ok nmX14 q974 (by decide) (by decide) (by decide) rfl rfl rfl (hin rfl) rfl dX14_init_6 (fun _ h9 => h9) ?_
  refine s_aload_n hX dX14_init_9 rfl 0 rfl ?_
  refine s_iload_n hX dX14_init_10 rfl 2 rfl ?_
  refine s_putIF (ci := 14) (j := 1) (ref := "WindGas$Test") hX (pcG 14) (pcP 14) in_X14 tyX14_ok nmX14 q975 (by decide) (by decide) (by decide) rfl rfl rfl (hin rfl) rfl dX14_init_11 (fun _ h9 => h9) ?_
  refine s_aload_n hX dX14_init_14 rfl 0 rfl ?_
  refine s_iload_n hX dX14_init_15 rfl 3 rfl ?_
  refine s_putIF (ci := 14) (j := 2) (ref := "WindGas$Test") hX (pcG 14) (pcP 14) in_X14 tyX14_ok nmX14 q976 (by decide) (by decide) (by decide) rfl rfl rfl (hin rfl) rfl dX14_init_16 (fun _ h9 => h9) ?_
  exact s_vret hX dX14_init_19
theorem dX12_init_0 : decode cX12_init 0 = .ok (.aload_n 0, 1) := by decide +kernel
theorem dX12_init_1 : decode cX12_init 1 = .ok (.invokespecial 1, 3) := by decide +kernel
theorem dX12_init_4 : decode cX12_init 4 = .ok (.aload_n 0, 1) := by decide +kernel
theorem dX12_init_5 : decode cX12_init 5 = .ok (.new 7, 3) := by decide +kernel
theorem dX12_init_8 : decode cX12_init 8 = .ok (.dup, 1) := by decide +kernel
theorem dX12_init_9 : decode cX12_init 9 = .ok (.invokespecial 9, 3) := by decide +kernel
theorem dX12_init_12 : decode cX12_init 12 = .ok (.putfield 10, 3) := by decide +kernel
theorem dX12_init_15 : decode cX12_init 15 = .ok (.aload_n 0, 1) := by decide +kernel
theorem dX12_init_16 : decode cX12_init 16 = .ok (.iload_n 1, 1) := by decide +kernel
theorem dX12_init_17 : decode cX12_init 17 = .ok (.putfield 16, 3) := by decide +kernel
theorem dX12_init_20 : decode cX12_init 20 = .ok (.aload_n 0, 1) := by decide +kernel
theorem dX12_init_21 : decode cX12_init 21 = .ok (.getfield 10, 3) := by decide +kernel
theorem dX12_init_24 : decode cX12_init 24 = .ok (.aload_n 2, 1) := by decide +kernel
theorem dX12_init_25 : decode cX12_init 25 = .ok (.invokevirtual 20, 3) := by decide +kernel
theorem dX12_init_28 : decode cX12_init 28 = .ok (.pop, 1) := by decide +kernel
theorem dX12_init_29 : decode cX12_init 29 = .ok (.return_, 1) := by decide +kernel
theorem ycX12_init : yX12_init.cls ≠ "java/lang/invoke/MethodHandle" ∧ yX12_init.cls ≠ "java/lang/invoke/VarHandle" ∧ (parseMethodDescriptor yX12_init.desc).map (fun d => d.parameters.length) = some 2 := by decide +kernel
theorem yvX12_init : yX12_init.cls = RR 12 ∧ yX12_init.cls ≠ "java/lang/invoke/MethodHandle" ∧ yX12_init.cls ≠ "java/lang/invoke/VarHandle" ∧ (parseMethodDescriptor yX12_init.desc).map (fun d => d.parameters.length) = some 2 := ⟨rfl, ycX12_init⟩
noncomputable def f_X12_init (p0 : Nat) (p1 : Int32) (p2 : Nat) : Act Unit :=
  nn p0 <|
  bnd (newO 17 3) fun v1 =>
  bnd (gd 17 v1 (nt (P_init v1))) fun _ =>
  bnd (putR 12 1 p0 v1) fun _ =>
  bnd (putS .boolean 12 0 p0 p1) fun _ =>
  bnd (getR 12 1 p0) fun v2 =>
  bnd (gd 17 v2 (nt (P_add v2 p2))) fun v3 =>
  pur ()
set_option maxHeartbeats 4000000 in
theorem ct_X12_init (l : Launch) (p0 : Nat) (p1 : Int32) (p2 : Nat) : Ct l Pic yX12_init (ws_ yX12_init cX12_init 3 none) 7 171 cvU [rv p0, .int p1, rv p2] (f_X12_init p0 p1 p2) := by
  refine Ct.of (own := RX12) (L := [(0, rv p0), (1, .int p1), (2, rv p2)]) (plainFor_of_name (by decide)) rfl (by first | decide | simp [lg_sl, rv_cat, cat_i, cat_l]) (by first | rfl | simp [lv_args, rv_cat, cat_i, cat_l]) pcZ (fun X hXl hX hnh hin => ?_)
  subst hXl
  unfold f_X12_init
  refine s_aload_n hX dX12_init_0 rfl 0 rfl ?_
  refine s_oinit hX (by decide) q987 q126 q127 (by decide) (by decide) dX12_init_1 ?_
  refine s_aload_n hX dX12_init_4 rfl 0 rfl ?_
  refine s_new (ci := 17) hX (pcN 17) in_J2 tyJ2_ok (by decide) (by decide) q988 q135 q88 dX12_init_5 (fun v1 => ?_)
  refine s_dup hX dX12_init_8 (rv_cat _) ?_
  refine s_callI_U (ci := 17) (n := 0) (As := []) (st := [rv v1, rv p0]) hX (pcK 18) (by decide) (pt_init X.l v1) q989 q137 q88 q138 rfl ycJ2_init (by decide) rfl (by first | decide | simp [rv_cat, cat_i, cat_l]) dX12_init_9 (fun _ => ?_)
  refine s_putRF (ci := 12) (j := 1) (ref := "WindGas$Row") hX (pcG 12) (pcP 12) in_X12 tyX12_ok nmX12 q992 (by decide) (by decide) (by decide) rfl (fun v => by cases v <;> exact ⟨rfl, rfl⟩) rfl (hin rfl) rfl dX12_init_12 (fun _ h9 => h9) ?_
  refine s_aload_n hX dX12_init_15 rfl 0 rfl ?_
  refine s_iload_n hX dX12_init_16 rfl 1 rfl ?_
  refine s_putSF (ci := 12) (j := 0) (ref := "WindGas$Row") hX (pcG 12) (pcP 12) in_X12 tyX12_ok nmX12 q991 (by decide) (by decide) (by decide) rfl rfl rfl (hin rfl) rfl dX12_init_17 (fun _ h9 => h9) ?_
  refine s_aload_n hX dX12_init_20 rfl 0 rfl ?_
  refine s_getR (ci := 12) (j := 1) (ref := "WindGas$Row") hX (pcG 12) in_X12 (Or.inl q992) (by decide) (by decide) (by decide) rfl dX12_init_21 (fun _ h9 => h9) (fun v2 => ?_)
  refine s_aload_n hX dX12_init_24 rfl 2 rfl ?_
  refine s_callV_I (ci := 17) (n := 1) (As := [rv p2]) (st := []) hX (pcK 18) (by decide) (pt_add X.l v2 p2) q990 q440 q441 q88 q442 yvJ2_add (by decide) rfl (by first | decide | simp [rv_cat, cat_i, cat_l]) dX12_init_25 (fun v3 => ?_)
  refine s_pop hX dX12_init_28 rfl ?_
  exact s_vret hX dX12_init_29
theorem ycX0_one : yX0_one.cls ≠ "java/lang/invoke/MethodHandle" ∧ yX0_one.cls ≠ "java/lang/invoke/VarHandle" ∧ (parseMethodDescriptor yX0_one.desc).map (fun d => d.parameters.length) = some 0 := by decide +kernel
theorem yvX0_one : yX0_one.cls = RR 0 ∧ yX0_one.cls ≠ "java/lang/invoke/MethodHandle" ∧ yX0_one.cls ≠ "java/lang/invoke/VarHandle" ∧ (parseMethodDescriptor yX0_one.desc).map (fun d => d.parameters.length) = some 0 := ⟨rfl, ycX0_one⟩
theorem ycX0_allOf : yX0_allOf.cls ≠ "java/lang/invoke/MethodHandle" ∧ yX0_allOf.cls ≠ "java/lang/invoke/VarHandle" ∧ (parseMethodDescriptor yX0_allOf.desc).map (fun d => d.parameters.length) = some 0 := by decide +kernel
theorem yvX0_allOf : yX0_allOf.cls = RR 0 ∧ yX0_allOf.cls ≠ "java/lang/invoke/MethodHandle" ∧ yX0_allOf.cls ≠ "java/lang/invoke/VarHandle" ∧ (parseMethodDescriptor yX0_allOf.desc).map (fun d => d.parameters.length) = some 0 := ⟨rfl, ycX0_allOf⟩
theorem ycX0_anyOf : yX0_anyOf.cls ≠ "java/lang/invoke/MethodHandle" ∧ yX0_anyOf.cls ≠ "java/lang/invoke/VarHandle" ∧ (parseMethodDescriptor yX0_anyOf.desc).map (fun d => d.parameters.length) = some 0 := by decide +kernel
theorem yvX0_anyOf : yX0_anyOf.cls = RR 0 ∧ yX0_anyOf.cls ≠ "java/lang/invoke/MethodHandle" ∧ yX0_anyOf.cls ≠ "java/lang/invoke/VarHandle" ∧ (parseMethodDescriptor yX0_anyOf.desc).map (fun d => d.parameters.length) = some 0 := ⟨rfl, ycX0_anyOf⟩
theorem dX0_one_0 : decode cX0_one 0 = .ok (.aload_n 0, 1) := by decide +kernel
theorem dX0_one_1 : decode cX0_one 1 = .ok (.ldc 254, 2) := by decide +kernel
theorem dX0_one_3 : decode cX0_one 3 = .ok (.invokevirtual 234, 3) := by decide +kernel
theorem dX0_one_6 : decode cX0_one 6 = .ok (.ifCond .eq 31, 3) := by decide +kernel
theorem dX0_one_9 : decode cX0_one 9 = .ok (.aload_n 0, 1) := by decide +kernel
theorem dX0_one_10 : decode cX0_one 10 = .ok (.invokevirtual 256, 3) := by decide +kernel
theorem dX0_one_13 : decode cX0_one 13 = .ok (.new 259, 3) := by decide +kernel
theorem dX0_one_16 : decode cX0_one 16 = .ok (.dup, 1) := by decide +kernel
theorem dX0_one_17 : decode cX0_one 17 = .ok (.aload_n 0, 1) := by decide +kernel
theorem dX0_one_18 : decode cX0_one 18 = .ok (.invokevirtual 261, 3) := by decide +kernel
theorem dX0_one_21 : decode cX0_one 21 = .ok (.invokespecial 265, 3) := by decide +kernel
theorem dX0_one_24 : decode cX0_one 24 = .ok (.astore_n 1, 1) := by decide +kernel
theorem dX0_one_25 : decode cX0_one 25 = .ok (.aload_n 0, 1) := by decide +kernel
theorem dX0_one_26 : decode cX0_one 26 = .ok (.dup, 1) := by decide +kernel
theorem dX0_one_27 : decode cX0_one 27 = .ok (.getfield 251, 3) := by decide +kernel
theorem dX0_one_30 : decode cX0_one 30 = .ok (.iconst 1, 1) := by decide +kernel
theorem dX0_one_31 : decode cX0_one 31 = .ok (.isub, 1) := by decide +kernel
theorem dX0_one_32 : decode cX0_one 32 = .ok (.putfield 251, 3) := by decide +kernel
theorem dX0_one_35 : decode cX0_one 35 = .ok (.aload_n 1, 1) := by decide +kernel
theorem dX0_one_36 : decode cX0_one 36 = .ok (.areturn, 1) := by decide +kernel
theorem dX0_one_37 : decode cX0_one 37 = .ok (.aload_n 0, 1) := by decide +kernel
theorem dX0_one_38 : decode cX0_one 38 = .ok (.getfield 180, 3) := by decide +kernel
theorem dX0_one_41 : decode cX0_one 41 = .ok (.bipush 40, 2) := by decide +kernel
theorem dX0_one_43 : decode cX0_one 43 = .ok (.if_icmp .ne 42, 3) := by decide +kernel
theorem dX0_one_46 : decode cX0_one 46 = .ok (.aload_n 0, 1) := by decide +kernel
theorem dX0_one_47 : decode cX0_one 47 = .ok (.invokevirtual 256, 3) := by decide +kernel
theorem dX0_one_50 : decode cX0_one 50 = .ok (.aload_n 0, 1) := by decide +kernel
theorem dX0_one_51 : decode cX0_one 51 = .ok (.invokevirtual 268, 3) := by decide +kernel
theorem dX0_one_54 : decode cX0_one 54 = .ok (.astore_n 1, 1) := by decide +kernel
theorem dX0_one_55 : decode cX0_one 55 = .ok (.aload_n 0, 1) := by decide +kernel
theorem dX0_one_56 : decode cX0_one 56 = .ok (.aload_n 0, 1) := by decide +kernel
theorem dX0_one_57 : decode cX0_one 57 = .ok (.getfield 180, 3) := by decide +kernel
theorem dX0_one_60 : decode cX0_one 60 = .ok (.bipush 41, 2) := by decide +kernel
theorem dX0_one_62 : decode cX0_one 62 = .ok (.if_icmp .ne 7, 3) := by decide +kernel
theorem dX0_one_65 : decode cX0_one 65 = .ok (.iconst 1, 1) := by decide +kernel
theorem dX0_one_66 : decode cX0_one 66 = .ok (.goto 4, 3) := by decide +kernel
theorem dX0_one_69 : decode cX0_one 69 = .ok (.iconst 0, 1) := by decide +kernel
theorem dX0_one_70 : decode cX0_one 70 = .ok (.invokevirtual 226, 3) := by decide +kernel
theorem dX0_one_73 : decode cX0_one 73 = .ok (.aload_n 0, 1) := by decide +kernel
theorem dX0_one_74 : decode cX0_one 74 = .ok (.dup, 1) := by decide +kernel
theorem dX0_one_75 : decode cX0_one 75 = .ok (.getfield 251, 3) := by decide +kernel
theorem dX0_one_78 : decode cX0_one 78 = .ok (.iconst 1, 1) := by decide +kernel
theorem dX0_one_79 : decode cX0_one 79 = .ok (.isub, 1) := by decide +kernel
theorem dX0_one_80 : decode cX0_one 80 = .ok (.putfield 251, 3) := by decide +kernel
theorem dX0_one_83 : decode cX0_one 83 = .ok (.aload_n 1, 1) := by decide +kernel
theorem dX0_one_84 : decode cX0_one 84 = .ok (.areturn, 1) := by decide +kernel
theorem dX0_one_85 : decode cX0_one 85 = .ok (.aload_n 0, 1) := by decide +kernel
theorem dX0_one_86 : decode cX0_one 86 = .ok (.bipush 8, 2) := by decide +kernel
theorem dX0_one_88 : decode cX0_one 88 = .ok (.anewarray 221, 3) := by decide +kernel
theorem dX0_one_91 : decode cX0_one 91 = .ok (.dup, 1) := by decide +kernel
theorem dX0_one_92 : decode cX0_one 92 = .ok (.iconst 0, 1) := by decide +kernel
theorem dX0_one_93 : decode cX0_one 93 = .ok (.ldc_w 271, 3) := by decide +kernel
theorem dX0_one_96 : decode cX0_one 96 = .ok (.aastore, 1) := by decide +kernel
theorem dX0_one_97 : decode cX0_one 97 = .ok (.dup, 1) := by decide +kernel
theorem dX0_one_98 : decode cX0_one 98 = .ok (.iconst 1, 1) := by decide +kernel
theorem dX0_one_99 : decode cX0_one 99 = .ok (.ldc_w 272, 3) := by decide +kernel
theorem dX0_one_102 : decode cX0_one 102 = .ok (.aastore, 1) := by decide +kernel
theorem dX0_one_103 : decode cX0_one 103 = .ok (.dup, 1) := by decide +kernel
theorem dX0_one_104 : decode cX0_one 104 = .ok (.iconst 2, 1) := by decide +kernel
theorem dX0_one_105 : decode cX0_one 105 = .ok (.ldc_w 273, 3) := by decide +kernel
theorem dX0_one_108 : decode cX0_one 108 = .ok (.aastore, 1) := by decide +kernel
theorem dX0_one_109 : decode cX0_one 109 = .ok (.dup, 1) := by decide +kernel
theorem dX0_one_110 : decode cX0_one 110 = .ok (.iconst 3, 1) := by decide +kernel
theorem dX0_one_111 : decode cX0_one 111 = .ok (.ldc_w 274, 3) := by decide +kernel
theorem dX0_one_114 : decode cX0_one 114 = .ok (.aastore, 1) := by decide +kernel
theorem dX0_one_115 : decode cX0_one 115 = .ok (.dup, 1) := by decide +kernel
theorem dX0_one_116 : decode cX0_one 116 = .ok (.iconst 4, 1) := by decide +kernel
theorem dX0_one_117 : decode cX0_one 117 = .ok (.ldc_w 276, 3) := by decide +kernel
theorem dX0_one_120 : decode cX0_one 120 = .ok (.aastore, 1) := by decide +kernel
theorem dX0_one_121 : decode cX0_one 121 = .ok (.dup, 1) := by decide +kernel
theorem dX0_one_122 : decode cX0_one 122 = .ok (.iconst 5, 1) := by decide +kernel
theorem dX0_one_123 : decode cX0_one 123 = .ok (.ldc_w 278, 3) := by decide +kernel
theorem dX0_one_126 : decode cX0_one 126 = .ok (.aastore, 1) := by decide +kernel
theorem dX0_one_127 : decode cX0_one 127 = .ok (.dup, 1) := by decide +kernel
theorem dX0_one_128 : decode cX0_one 128 = .ok (.bipush 6, 2) := by decide +kernel
theorem dX0_one_130 : decode cX0_one 130 = .ok (.ldc_w 280, 3) := by decide +kernel
theorem dX0_one_133 : decode cX0_one 133 = .ok (.aastore, 1) := by decide +kernel
theorem dX0_one_134 : decode cX0_one 134 = .ok (.dup, 1) := by decide +kernel
theorem dX0_one_135 : decode cX0_one 135 = .ok (.bipush 7, 2) := by decide +kernel
theorem dX0_one_137 : decode cX0_one 137 = .ok (.ldc_w 282, 3) := by decide +kernel
theorem dX0_one_140 : decode cX0_one 140 = .ok (.aastore, 1) := by decide +kernel
theorem dX0_one_141 : decode cX0_one 141 = .ok (.invokevirtual 247, 3) := by decide +kernel
theorem dX0_one_144 : decode cX0_one 144 = .ok (.istore_n 1, 1) := by decide +kernel
theorem dX0_one_145 : decode cX0_one 145 = .ok (.aload_n 0, 1) := by decide +kernel
theorem dX0_one_146 : decode cX0_one 146 = .ok (.getfield 180, 3) := by decide +kernel
theorem dX0_one_149 : decode cX0_one 149 = .ok (.istore_n 2, 1) := by decide +kernel
theorem dX0_one_150 : decode cX0_one 150 = .ok (.aload_n 0, 1) := by decide +kernel
theorem dX0_one_151 : decode cX0_one 151 = .ok (.iload_n 2, 1) := by decide +kernel
theorem dX0_one_152 : decode cX0_one 152 = .ok (.bipush 60, 2) := by decide +kernel
theorem dX0_one_154 : decode cX0_one 154 = .ok (.if_icmp .eq 15, 3) := by decide +kernel
theorem dX0_one_157 : decode cX0_one 157 = .ok (.iload_n 2, 1) := by decide +kernel
theorem dX0_one_158 : decode cX0_one 158 = .ok (.bipush 62, 2) := by decide +kernel
theorem dX0_one_160 : decode cX0_one 160 = .ok (.if_icmp .eq 9, 3) := by decide +kernel
theorem dX0_one_163 : decode cX0_one 163 = .ok (.iload_n 2, 1) := by decide +kernel
theorem dX0_one_164 : decode cX0_one 164 = .ok (.bipush 61, 2) := by decide +kernel
theorem dX0_one_166 : decode cX0_one 166 = .ok (.if_icmp .ne 7, 3) := by decide +kernel
theorem dX0_one_169 : decode cX0_one 169 = .ok (.iconst 1, 1) := by decide +kernel
theorem dX0_one_170 : decode cX0_one 170 = .ok (.goto 4, 3) := by decide +kernel
theorem dX0_one_173 : decode cX0_one 173 = .ok (.iconst 0, 1) := by decide +kernel
theorem dX0_one_174 : decode cX0_one 174 = .ok (.invokevirtual 226, 3) := by decide +kernel
theorem dX0_one_177 : decode cX0_one 177 = .ok (.aload_n 0, 1) := by decide +kernel
theorem dX0_one_178 : decode cX0_one 178 = .ok (.getfield 180, 3) := by decide +kernel
theorem dX0_one_181 : decode cX0_one 181 = .ok (.bipush 45, 2) := by decide +kernel
theorem dX0_one_183 : decode cX0_one 183 = .ok (.if_icmp .ne 7, 3) := by decide +kernel
theorem dX0_one_186 : decode cX0_one 186 = .ok (.iconst 1, 1) := by decide +kernel
theorem dX0_one_187 : decode cX0_one 187 = .ok (.goto 4, 3) := by decide +kernel
theorem dX0_one_190 : decode cX0_one 190 = .ok (.iconst 0, 1) := by decide +kernel
theorem dX0_one_191 : decode cX0_one 191 = .ok (.istore_n 3, 1) := by decide +kernel
theorem dX0_one_192 : decode cX0_one 192 = .ok (.iload_n 3, 1) := by decide +kernel
theorem dX0_one_193 : decode cX0_one 193 = .ok (.ifCond .eq 7, 3) := by decide +kernel
theorem dX0_one_196 : decode cX0_one 196 = .ok (.aload_n 0, 1) := by decide +kernel
theorem dX0_one_197 : decode cX0_one 197 = .ok (.invokevirtual 217, 3) := by decide +kernel
theorem dX0_one_200 : decode cX0_one 200 = .ok (.aload_n 0, 1) := by decide +kernel
theorem dX0_one_201 : decode cX0_one 201 = .ok (.invokevirtual 284, 3) := by decide +kernel
theorem dX0_one_204 : decode cX0_one 204 = .ok (.istore 4, 2) := by decide +kernel
theorem dX0_one_206 : decode cX0_one 206 = .ok (.new 287, 3) := by decide +kernel
theorem dX0_one_209 : decode cX0_one 209 = .ok (.dup, 1) := by decide +kernel
theorem dX0_one_210 : decode cX0_one 210 = .ok (.iload_n 1, 1) := by decide +kernel
theorem dX0_one_211 : decode cX0_one 211 = .ok (.iload_n 2, 1) := by decide +kernel
theorem dX0_one_212 : decode cX0_one 212 = .ok (.iload_n 3, 1) := by decide +kernel
theorem dX0_one_213 : decode cX0_one 213 = .ok (.ifCond .eq 9, 3) := by decide +kernel
theorem dX0_one_216 : decode cX0_one 216 = .ok (.iload 4, 2) := by decide +kernel
theorem dX0_one_218 : decode cX0_one 218 = .ok (.ineg, 1) := by decide +kernel
theorem dX0_one_219 : decode cX0_one 219 = .ok (.goto 5, 3) := by decide +kernel
theorem dX0_one_222 : decode cX0_one 222 = .ok (.iload 4, 2) := by decide +kernel
theorem dX0_one_224 : decode cX0_one 224 = .ok (.invokespecial 289, 3) := by decide +kernel
theorem dX0_one_227 : decode cX0_one 227 = .ok (.areturn, 1) := by decide +kernel
noncomputable def f_X0_one (n : Nat) (G : Nat → Nat → Act Nat) (p0 : Nat) : Act Nat :=
  bnd (gst 23) fun v1 =>
  bnd (gd 0 p0 (nt (f_X0_isWord p0 v1))) fun v2 =>
  if v2 = 0 then
    bnd (getI 0 14 p0) fun v3 =>
    if ¬ v3 = 40 then
      bnd (newA 5 8) fun v4 =>
      bnd (gst 24) fun v5 =>
      bnd (stK [40] 5 v4 0 v5) fun _ =>
      bnd (gst 25) fun v6 =>
      bnd (stK [40] 5 v4 1 v6) fun _ =>
      bnd (gst 26) fun v7 =>
      bnd (stK [40] 5 v4 2 v7) fun _ =>
      bnd (gst 27) fun v8 =>
      bnd (stK [40] 5 v4 3 v8) fun _ =>
      bnd (gst 28) fun v9 =>
      bnd (stK [40] 5 v4 4 v9) fun _ =>
      bnd (gst 29) fun v10 =>
      bnd (stK [40] 5 v4 5 v10) fun _ =>
      bnd (gst 30) fun v11 =>
      bnd (stK [40] 5 v4 6 v11) fun _ =>
      bnd (gst 31) fun v12 =>
      bnd (stK [40] 5 v4 7 v12) fun _ =>
      bnd (gd 0 p0 (f_X0_oneOf n p0 v4)) fun v13 =>
      bnd (getI 0 14 p0) fun v14 =>
      jn (fun (v15 : Int32) =>
        bnd (gd 0 p0 (f_X0_must n p0 v15)) fun _ =>
        bnd (getI 0 14 p0) fun v16 =>
        jn (fun (v17 : Int32) =>
          jn (fun (_ : Unit) =>
            bnd (gd 0 p0 (f_X0_any n p0)) fun v18 =>
            bnd (newO 14 3) fun v19 =>
            jn (fun (v20 : Int32) =>
              bnd (gd 14 v19 (nt (f_X14_init v19 v13 v14 v20))) fun _ =>
              pur v19) fun j224 =>
            if v17 = 0 then
              j224 v18
            else
              j224 (-v18)) fun j200 =>
          if v17 = 0 then
            j200 ()
          else
            bnd (gd 0 p0 (nt (f_X0_next n p0))) fun _ =>
            j200 ()) fun j191 =>
        if ¬ v16 = 45 then
          j191 0
        else
          j191 1) fun j174 =>
      jn (fun (_ : Unit) =>
        j174 1) fun j169 =>
      if v14 = 60 then
        j169 ()
      else
        if v14 = 62 then
          j169 ()
        else
          if ¬ v14 = 61 then
            j174 0
          else
            j169 ()
    else
      bnd (gd 0 p0 (f_X0_opens n p0)) fun _ =>
      bnd (gd 0 p0 (G 2 p0)) fun v21 =>
      bnd (getI 0 14 p0) fun v22 =>
      jn (fun (v23 : Int32) =>
        bnd (gd 0 p0 (f_X0_must n p0 v23)) fun _ =>
        bnd (getI 0 13 p0) fun v24 =>
        bnd (putI 0 13 p0 (v24 - 1)) fun _ =>
        pur v21) fun j70 =>
      if ¬ v22 = 41 then
        j70 0
      else
        j70 1
  else
    bnd (gd 0 p0 (f_X0_opens n p0)) fun _ =>
    bnd (newO 13 1) fun v25 =>
    bnd (gd 0 p0 (G 0 p0)) fun v26 =>
    bnd (gd 13 v25 (nt (f_X13_init v25 v26))) fun _ =>
    bnd (getI 0 13 p0) fun v27 =>
    bnd (putI 0 13 p0 (v27 - 1)) fun _ =>
    pur v25
set_option maxHeartbeats 4000000 in
theorem ct_X0_one {frG loG : Nat} (l : Launch) (n : Nat) (G : Nat → Nat → Act Nat) (hfr : True) (hG : (∀ p0, Ct l Pic yX0_one (ws_ yX0_one cX0_one 5 (some (FieldType.object "WindGas$Cond"))) frG loG cvR [rv p0] (G 0 p0)) ∧ (∀ p0, Ct l Pic yX0_allOf (ws_ yX0_allOf cX0_allOf 2 (some (FieldType.object "WindGas$Cond"))) frG loG cvR [rv p0] (G 1 p0)) ∧ (∀ p0, Ct l Pic yX0_anyOf (ws_ yX0_anyOf cX0_anyOf 2 (some (FieldType.object "WindGas$Cond"))) frG loG cvR [rv p0] (G 2 p0))) (p0 : Nat) : Ct l Pic yX0_one (ws_ yX0_one cX0_one 5 (some (FieldType.object "WindGas$Cond"))) (frG + 11) (loG + 261) cvR [rv p0] (f_X0_one n G p0) := by
  refine Ct.of (own := RX0) (L := [(0, rv p0)]) (plainFor_of_name (by decide)) rfl (by first | decide | simp [lg_sl, rv_cat, cat_i, cat_l]) (by first | rfl | simp [lv_args, rv_cat, cat_i, cat_l]) pcZ (fun X hXl hX hnh hin => ?_)
  subst hXl
  unfold f_X0_one
  refine s_aload_n hX dX0_one_0 rfl 0 rfl ?_
  refine s_ldcS (i := 13) (tx := "not") hX (pcS) rfl dX0_one_1 (fun v1 => ?_)
  refine s_callV_I (ci := 0) (n := 1) (As := [rv v1]) (st := []) hX (pcK 1) (by decide) (ct_X0_isWord X.l p0 v1) q922 q924 qs15 q84 q925 yvX0_isWord ⟨by omega, by omega⟩ rfl (by first | decide | simp [rv_cat, cat_i, cat_l]) dX0_one_3 (fun v2 => ?_)
  refine s_if_eq (tgt := 37) hX dX0_one_6 (by decide) ?_ ?_
  · refine s_aload_n hX dX0_one_37 rfl 0 rfl ?_
    refine s_getI (ci := 0) (j := 14) (ref := "WindGas") hX (pcG 0) in_X0 (Or.inl q280) (by decide) (by decide) (by decide) rfl dX0_one_38 (fun _ h9 => h9) (fun v3 => ?_)
    refine s_bipush (v := 40) hX dX0_one_41 (by decide) ?_
    refine s_icmp_ne (tgt := 85) hX dX0_one_43 (by decide) ?_ ?_
    · refine s_aload_n hX dX0_one_85 rfl 0 rfl ?_
      refine s_bipush (v := 8) hX dX0_one_86 (by decide) ?_
      refine s_anew (q := 5) hX (by decide) (by decide) (fun _ => rfl) (pcM 5) q914 q915 dX0_one_88 (fun v4 => ?_)
      refine s_dup hX dX0_one_91 (rv_cat _) ?_
      refine s_iconst (v := 0) hX dX0_one_92 rfl ?_
      refine s_ldcSw (i := 14) (tx := "wind") hX (pcS) rfl dX0_one_93 (fun v5 => ?_)
      refine s_aast (q := 5) (ks := [40]) hX (by decide) (by decide) (fun _ => rfl) elS1p (pcA 5) (pcB 5) dX0_one_96 ?_
      refine s_dup hX dX0_one_97 (rv_cat _) ?_
      refine s_iconst (v := 1) hX dX0_one_98 rfl ?_
      refine s_ldcSw (i := 15) (tx := "price") hX (pcS) rfl dX0_one_99 (fun v6 => ?_)
      refine s_aast (q := 5) (ks := [40]) hX (by decide) (by decide) (fun _ => rfl) elS1p (pcA 5) (pcB 5) dX0_one_102 ?_
      refine s_dup hX dX0_one_103 (rv_cat _) ?_
      refine s_iconst (v := 2) hX dX0_one_104 rfl ?_
      refine s_ldcSw (i := 16) (tx := "rain") hX (pcS) rfl dX0_one_105 (fun v7 => ?_)
      refine s_aast (q := 5) (ks := [40]) hX (by decide) (by decide) (fun _ => rfl) elS1p (pcA 5) (pcB 5) dX0_one_108 ?_
      refine s_dup hX dX0_one_109 (rv_cat _) ?_
      refine s_iconst (v := 3) hX dX0_one_110 rfl ?_
      refine s_ldcSw (i := 17) (tx := "hour") hX (pcS) rfl dX0_one_111 (fun v8 => ?_)
      refine s_aast (q := 5) (ks := [40]) hX (by decide) (by decide) (fun _ => rfl) elS1p (pcA 5) (pcB 5) dX0_one_114 ?_
      refine s_dup hX dX0_one_115 (rv_cat _) ?_
      refine s_iconst (v := 4) hX dX0_one_116 rfl ?_
      refine s_ldcSw (i := 18) (tx := "day") hX (pcS) rfl dX0_one_117 (fun v9 => ?_)
      refine s_aast (q := 5) (ks := [40]) hX (by decide) (by decide) (fun _ => rfl) elS1p (pcA 5) (pcB 5) dX0_one_120 ?_
      refine s_dup hX dX0_one_121 (rv_cat _) ?_
      refine s_iconst (v := 5) hX dX0_one_122 rfl ?_
      refine s_ldcSw (i := 19) (tx := "stored") hX (pcS) rfl dX0_one_123 (fun v10 => ?_)
      refine s_aast (q := 5) (ks := [40]) hX (by decide) (by decide) (fun _ => rfl) elS1p (pcA 5) (pcB 5) dX0_one_126 ?_
      refine s_dup hX dX0_one_127 (rv_cat _) ?_
      refine s_bipush (v := 6) hX dX0_one_128 (by decide) ?_
      refine s_ldcSw (i := 20) (tx := "water") hX (pcS) rfl dX0_one_130 (fun v11 => ?_)
      refine s_aast (q := 5) (ks := [40]) hX (by decide) (by decide) (fun _ => rfl) elS1p (pcA 5) (pcB 5) dX0_one_133 ?_
      refine s_dup hX dX0_one_134 (rv_cat _) ?_
      refine s_bipush (v := 7) hX dX0_one_135 (by decide) ?_
      refine s_ldcSw (i := 21) (tx := "running") hX (pcS) rfl dX0_one_137 (fun v12 => ?_)
      refine s_aast (q := 5) (ks := [40]) hX (by decide) (by decide) (fun _ => rfl) elS1p (pcA 5) (pcB 5) dX0_one_140 ?_
      refine s_callVT_I (ci := 0) (n := 1) (As := [rv v4]) (st := []) hX hnh (pcK 1) (by decide) (ct_X0_oneOf X.l n p0 v4) q918 q920 qs14 q84 q921 yvX0_oneOf ⟨by omega, by omega⟩ rfl (by first | decide | simp [rv_cat, cat_i, cat_l]) dX0_one_141 (fun v13 => ?_)
      refine s_istore_n (i := 1) (L2 := [(1, .int v13), (0, rv p0)]) hX dX0_one_144 rfl (by decide) (by first | (simp [rv_cat, cat_i, cat_l]; done) | (simp [rv_cat, cat_i, cat_l]; decide)) ?_
      refine s_aload_n hX dX0_one_145 rfl 1 rfl ?_
      refine s_getI (ci := 0) (j := 14) (ref := "WindGas") hX (pcG 0) in_X0 (Or.inl q280) (by decide) (by decide) (by decide) rfl dX0_one_146 (fun _ h9 => h9) (fun v14 => ?_)
      refine s_istore_n (i := 2) (L2 := [(2, .int v14), (1, .int v13), (0, rv p0)]) hX dX0_one_149 rfl (by decide) rfl ?_
      refine s_aload_n hX dX0_one_150 rfl 2 rfl ?_
      refine s_iload_n hX dX0_one_151 rfl 0 rfl ?_
      refine s_bipush (v := 60) hX dX0_one_152 (by decide) ?_
      refine s_jn (P := fun j => ∀ (v15 : Int32), Sim X cvR 174 [(0, rv p0), (1, .int v13), (2, .int v14)] [.int v15, rv p0] (j v15)) ?_ (fun j174 hj174 => ?_)
      · intro v15
        refine s_callVT_U (ci := 0) (n := 1) (As := [.int v15]) (st := []) hX hnh (pcK 1) (by decide) (ct_X0_must X.l n p0 v15) q910 q912 qs13 q84 q913 yvX0_must ⟨by omega, by omega⟩ rfl (by first | decide | simp [rv_cat, cat_i, cat_l]) dX0_one_174 (fun _ => ?_)
        refine s_aload_n hX dX0_one_177 rfl 0 rfl ?_
        refine s_getI (ci := 0) (j := 14) (ref := "WindGas") hX (pcG 0) in_X0 (Or.inl q280) (by decide) (by decide) (by decide) rfl dX0_one_178 (fun _ h9 => h9) (fun v16 => ?_)
        refine s_bipush (v := 45) hX dX0_one_181 (by decide) ?_
        refine s_jn (P := fun j => ∀ (v17 : Int32), Sim X cvR 191 [(0, rv p0), (1, .int v13), (2, .int v14)] [.int v17] (j v17)) ?_ (fun j191 hj191 => ?_)
        · intro v17
          refine s_istore_n (i := 3) (L2 := [(3, .int v17), (0, rv p0), (1, .int v13), (2, .int v14)]) hX dX0_one_191 rfl (by decide) rfl ?_
          refine s_iload_n hX dX0_one_192 rfl 0 rfl ?_
          refine s_jn (P := fun j => ∀ (u : Unit), Sim X cvR 200 [(0, rv p0), (1, .int v13), (2, .int v14), (3, .int v17)] [] (j u)) ?_ (fun j200 hj200 => ?_)
          · intro u
            refine s_aload_n hX dX0_one_200 rfl 0 rfl ?_
            refine s_callVT_I (ci := 0) (n := 0) (As := []) (st := []) hX hnh (pcK 1) (by decide) (ct_X0_any X.l n p0) q901 q903 qs11 q84 q904 yvX0_any ⟨by omega, by omega⟩ rfl (by first | decide | simp [rv_cat, cat_i, cat_l]) dX0_one_201 (fun v18 => ?_)
            refine s_istore (i := 4) (L2 := [(4, .int v18), (0, rv p0), (1, .int v13), (2, .int v14), (3, .int v17)]) hX dX0_one_204 (by decide) rfl ?_
            refine s_new (ci := 14) hX (pcN 14) in_X14 tyX14_ok (by decide) (by decide) q968 q969 q116 dX0_one_206 (fun v19 => ?_)
            refine s_dup hX dX0_one_209 (rv_cat _) ?_
            refine s_iload_n hX dX0_one_210 rfl 2 rfl ?_
            refine s_iload_n hX dX0_one_211 rfl 3 rfl ?_
            refine s_iload_n hX dX0_one_212 rfl 4 rfl ?_
            refine s_jn (P := fun j => ∀ (v20 : Int32), Sim X cvR 224 [] [.int v20, .int v14, .int v13, rv v19, rv v19] (j v20)) ?_ (fun j224 hj224 => ?_)
            · intro v20
              refine s_callI_U (ci := 14) (n := 3) (As := [.int v13, .int v14, .int v20]) (st := [rv v19]) hX (pcK 15) (by decide) (ct_X14_init X.l v19 v13 v14 v20) q970 q971 q116 q972 rfl ycX14_init ⟨by omega, by omega⟩ rfl (by first | decide | simp [rv_cat, cat_i, cat_l]) dX0_one_224 (fun _ => ?_)
              exact s_aret hX (Or.inl ⟨_, rfl⟩) dX0_one_227
            · refine s_if_eq (tgt := 222) hX dX0_one_213 (by decide) ?_ ?_
              · refine s_iload hX dX0_one_222 0 rfl ?_
                exact s_sub [] rfl (hj224 v18)
              · refine s_iload hX dX0_one_216 0 rfl ?_
                refine s_ineg hX dX0_one_218 ?_
                refine s_goto (tgt := 224) hX dX0_one_219 (by decide) ?_
                exact s_sub [] rfl (hj224 (-v18))
          · refine s_if_eq (tgt := 200) hX dX0_one_193 (by decide) ?_ ?_
            · exact s_sub [1, 2, 3, 0] rfl (hj200 ())
            · refine s_aload_n hX dX0_one_196 rfl 1 rfl ?_
              refine s_callV_U (ci := 0) (n := 0) (As := []) (st := []) hX (pcK 1) (by decide) (ct_X0_next X.l n p0) q569 q571 qs7 q84 q572 yvX0_next ⟨by omega, by omega⟩ rfl (by first | decide | simp [rv_cat, cat_i, cat_l]) dX0_one_197 (fun _ => ?_)
              exact s_sub [1, 2, 3, 0] rfl (hj200 ())
        · refine s_icmp_ne (tgt := 190) hX dX0_one_183 (by decide) ?_ ?_
          · refine s_iconst (v := 0) hX dX0_one_190 rfl ?_
            exact hj191 0
          · refine s_iconst (v := 1) hX dX0_one_186 rfl ?_
            refine s_goto (tgt := 191) hX dX0_one_187 (by decide) ?_
            exact hj191 1
      · refine s_jn (P := fun j => ∀ (u : Unit), Sim X cvR 169 [(0, rv p0), (1, .int v13), (2, .int v14)] [rv p0] (j u)) ?_ (fun j169 hj169 => ?_)
        · intro u
          refine s_iconst (v := 1) hX dX0_one_169 rfl ?_
          refine s_goto (tgt := 174) hX dX0_one_170 (by decide) ?_
          exact hj174 1
        · refine s_icmp_eq (tgt := 169) hX dX0_one_154 (by decide) ?_ ?_
          · exact s_sub [2, 1, 0] rfl (hj169 ())
          · refine s_iload_n hX dX0_one_157 rfl 0 rfl ?_
            refine s_bipush (v := 62) hX dX0_one_158 (by decide) ?_
            refine s_icmp_eq (tgt := 169) hX dX0_one_160 (by decide) ?_ ?_
            · exact s_sub [2, 1, 0] rfl (hj169 ())
            · refine s_iload_n hX dX0_one_163 rfl 0 rfl ?_
              refine s_bipush (v := 61) hX dX0_one_164 (by decide) ?_
              refine s_icmp_ne (tgt := 173) hX dX0_one_166 (by decide) ?_ ?_
              · refine s_iconst (v := 0) hX dX0_one_173 rfl ?_
                exact s_sub [2, 1, 0] rfl (hj174 0)
              · exact s_sub [2, 1, 0] rfl (hj169 ())
    · refine s_aload_n hX dX0_one_46 rfl 0 rfl ?_
      refine s_callVT_U (ci := 0) (n := 0) (As := []) (st := []) hX hnh (pcK 1) (by decide) (ct_X0_opens X.l n p0) q946 q948 qs20 q84 q949 yvX0_opens ⟨by omega, by omega⟩ rfl (by first | decide | simp [rv_cat, cat_i, cat_l]) dX0_one_47 (fun _ => ?_)
      refine s_aload_n hX dX0_one_50 rfl 0 rfl ?_
      refine s_callVT_R (ci := 0) (n := 0) (As := []) (st := []) hX hnh (pcK 1) (by decide) ((hG.2.2 p0)) q931 q933 qs17 q84 q934 yvX0_anyOf ⟨by omega, by omega⟩ rfl (by first | decide | simp [rv_cat, cat_i, cat_l]) dX0_one_51 (fun v21 => ?_)
      refine s_astore_n (i := 1) (L2 := [(1, rv v21), (0, rv p0)]) hX dX0_one_54 rfl (by decide) (by first | (simp [rv_cat, cat_i, cat_l]; done) | (simp [rv_cat, cat_i, cat_l]; decide)) ?_
      refine s_aload_n hX dX0_one_55 rfl 1 rfl ?_
      refine s_aload_n hX dX0_one_56 rfl 1 rfl ?_
      refine s_getI (ci := 0) (j := 14) (ref := "WindGas") hX (pcG 0) in_X0 (Or.inl q280) (by decide) (by decide) (by decide) rfl dX0_one_57 (fun _ h9 => h9) (fun v22 => ?_)
      refine s_bipush (v := 41) hX dX0_one_60 (by decide) ?_
      refine s_jn (P := fun j => ∀ (v23 : Int32), Sim X cvR 70 [(0, rv p0), (1, rv v21)] [.int v23, rv p0] (j v23)) ?_ (fun j70 hj70 => ?_)
      · intro v23
        refine s_callVT_U (ci := 0) (n := 1) (As := [.int v23]) (st := []) hX hnh (pcK 1) (by decide) (ct_X0_must X.l n p0 v23) q910 q912 qs13 q84 q913 yvX0_must ⟨by omega, by omega⟩ rfl (by first | decide | simp [rv_cat, cat_i, cat_l]) dX0_one_70 (fun _ => ?_)
        refine s_aload_n hX dX0_one_73 rfl 0 rfl ?_
        refine s_dup hX dX0_one_74 (rv_cat _) ?_
        refine s_getI (ci := 0) (j := 13) (ref := "WindGas") hX (pcG 0) in_X0 (Or.inl q279) (by decide) (by decide) (by decide) rfl dX0_one_75 (fun _ h9 => h9) (fun v24 => ?_)
        refine s_iconst (v := 1) hX dX0_one_78 rfl ?_
        refine s_isub hX dX0_one_79 ?_
        refine s_putI (ci := 0) (j := 13) (ref := "WindGas") hX (pcG 0) (pcP 0) in_X0 tyX0_ok nmX0 (Or.inl q279) (by decide) (by decide) (by decide) rfl rfl rfl dX0_one_80 (fun _ h9 => h9) ?_
        refine s_aload_n hX dX0_one_83 rfl 1 rfl ?_
        exact s_aret hX (Or.inl ⟨_, rfl⟩) dX0_one_84
      · refine s_icmp_ne (tgt := 69) hX dX0_one_62 (by decide) ?_ ?_
        · refine s_iconst (v := 0) hX dX0_one_69 rfl ?_
          exact s_sub [1, 0] rfl (hj70 0)
        · refine s_iconst (v := 1) hX dX0_one_65 rfl ?_
          refine s_goto (tgt := 70) hX dX0_one_66 (by decide) ?_
          exact s_sub [1, 0] rfl (hj70 1)
  · refine s_aload_n hX dX0_one_9 rfl 0 rfl ?_
    refine s_callVT_U (ci := 0) (n := 0) (As := []) (st := []) hX hnh (pcK 1) (by decide) (ct_X0_opens X.l n p0) q946 q948 qs20 q84 q949 yvX0_opens ⟨by omega, by omega⟩ rfl (by first | decide | simp [rv_cat, cat_i, cat_l]) dX0_one_10 (fun _ => ?_)
    refine s_new (ci := 13) hX (pcN 13) in_X13 tyX13_ok (by decide) (by decide) q950 q951 q115 dX0_one_13 (fun v25 => ?_)
    refine s_dup hX dX0_one_16 (rv_cat _) ?_
    refine s_aload_n hX dX0_one_17 rfl 0 rfl ?_
    refine s_callVT_R (ci := 0) (n := 0) (As := []) (st := [rv v25, rv v25]) hX hnh (pcK 1) (by decide) ((hG.1 p0)) q941 q943 qs19 q84 q944 yvX0_one ⟨by omega, by omega⟩ rfl (by first | decide | simp [rv_cat, cat_i, cat_l]) dX0_one_18 (fun v26 => ?_)
    refine s_callI_U (ci := 13) (n := 1) (As := [rv v26]) (st := [rv v25]) hX (pcK 14) (by decide) (ct_X13_init X.l v25 v26) q952 q953 q115 q954 rfl ycX13_init ⟨by omega, by omega⟩ rfl (by first | decide | simp [rv_cat, cat_i, cat_l]) dX0_one_21 (fun _ => ?_)
    refine s_astore_n (i := 1) (L2 := [(1, rv v25), (0, rv p0)]) hX dX0_one_24 rfl (by decide) (by first | (simp [rv_cat, cat_i, cat_l]; done) | (simp [rv_cat, cat_i, cat_l]; decide)) ?_
    refine s_aload_n hX dX0_one_25 rfl 1 rfl ?_
    refine s_dup hX dX0_one_26 (rv_cat _) ?_
    refine s_getI (ci := 0) (j := 13) (ref := "WindGas") hX (pcG 0) in_X0 (Or.inl q279) (by decide) (by decide) (by decide) rfl dX0_one_27 (fun _ h9 => h9) (fun v27 => ?_)
    refine s_iconst (v := 1) hX dX0_one_30 rfl ?_
    refine s_isub hX dX0_one_31 ?_
    refine s_putI (ci := 0) (j := 13) (ref := "WindGas") hX (pcG 0) (pcP 0) in_X0 tyX0_ok nmX0 (Or.inl q279) (by decide) (by decide) (by decide) rfl rfl rfl dX0_one_32 (fun _ h9 => h9) ?_
    refine s_aload_n hX dX0_one_35 rfl 0 rfl ?_
    exact s_aret hX (Or.inl ⟨_, rfl⟩) dX0_one_36
theorem dX0_allOf_0 : decode cX0_allOf 0 = .ok (.new 292, 3) := by decide +kernel
theorem dX0_allOf_3 : decode cX0_allOf 3 = .ok (.dup, 1) := by decide +kernel
theorem dX0_allOf_4 : decode cX0_allOf 4 = .ok (.iconst 1, 1) := by decide +kernel
theorem dX0_allOf_5 : decode cX0_allOf 5 = .ok (.aload_n 0, 1) := by decide +kernel
theorem dX0_allOf_6 : decode cX0_allOf 6 = .ok (.invokevirtual 261, 3) := by decide +kernel
theorem dX0_allOf_9 : decode cX0_allOf 9 = .ok (.invokespecial 294, 3) := by decide +kernel
theorem dX0_allOf_12 : decode cX0_allOf 12 = .ok (.astore_n 1, 1) := by decide +kernel
theorem dX0_allOf_13 : decode cX0_allOf 13 = .ok (.aload_n 0, 1) := by decide +kernel
theorem dX0_allOf_14 : decode cX0_allOf 14 = .ok (.ldc_w 297, 3) := by decide +kernel
theorem dX0_allOf_17 : decode cX0_allOf 17 = .ok (.invokevirtual 234, 3) := by decide +kernel
theorem dX0_allOf_20 : decode cX0_allOf 20 = .ok (.ifCond .eq 22, 3) := by decide +kernel
theorem dX0_allOf_23 : decode cX0_allOf 23 = .ok (.aload_n 0, 1) := by decide +kernel
theorem dX0_allOf_24 : decode cX0_allOf 24 = .ok (.invokevirtual 217, 3) := by decide +kernel
theorem dX0_allOf_27 : decode cX0_allOf 27 = .ok (.aload_n 1, 1) := by decide +kernel
theorem dX0_allOf_28 : decode cX0_allOf 28 = .ok (.getfield 299, 3) := by decide +kernel
theorem dX0_allOf_31 : decode cX0_allOf 31 = .ok (.aload_n 0, 1) := by decide +kernel
theorem dX0_allOf_32 : decode cX0_allOf 32 = .ok (.invokevirtual 261, 3) := by decide +kernel
theorem dX0_allOf_35 : decode cX0_allOf 35 = .ok (.invokevirtual 302, 3) := by decide +kernel
theorem dX0_allOf_38 : decode cX0_allOf 38 = .ok (.pop, 1) := by decide +kernel
theorem dX0_allOf_39 : decode cX0_allOf 39 = .ok (.goto (-26), 3) := by decide +kernel
theorem dX0_allOf_42 : decode cX0_allOf 42 = .ok (.aload_n 1, 1) := by decide +kernel
theorem dX0_allOf_43 : decode cX0_allOf 43 = .ok (.areturn, 1) := by decide +kernel
noncomputable def lp_X0_allOf_13 (G : Nat → Nat → Act Nat) (n : Nat) (p0 : Nat) (v1 : Nat) (q : Nat) : Unit → Act Nat := match q with
  | 0 => fun _ => fail
  | q + 1 => fun _ =>
    bnd (gst 32) fun v3 =>
    bnd (gd 0 p0 (nt (f_X0_isWord p0 v3))) fun v4 =>
    if v4 = 0 then
      pur v1
    else
      bnd (gd 0 p0 (nt (f_X0_next n p0))) fun _ =>
      bnd (getR 12 1 v1) fun v5 =>
      bnd (gd 0 p0 (G 0 p0)) fun v6 =>
      bnd (gd 17 v5 (nt (P_add v5 v6))) fun v7 =>
      (lp_X0_allOf_13 G n p0 v1 q) ()
noncomputable def f_X0_allOf (n : Nat) (G : Nat → Nat → Act Nat) (p0 : Nat) : Act Nat :=
  bnd (newO 12 2) fun v1 =>
  bnd (gd 0 p0 (G 0 p0)) fun v2 =>
  bnd (gd 12 v1 (nt (f_X12_init v1 (1 : Int32) v2))) fun _ =>
  lp_X0_allOf_13 G n p0 v1 n ()
set_option maxHeartbeats 4000000 in
theorem s_lp_X0_allOf_13 {X : Cx} {frG loG : Nat} (hX : Ok X Pic cX0_allOf RX0 2 (some (FieldType.object "WindGas$Cond")) (frG + 11) (loG + 261)) (hnh : Noh X) (G : Nat → Nat → Act Nat) (hfr : True) (hG : (∀ p0, Ct X.l Pic yX0_one (ws_ yX0_one cX0_one 5 (some (FieldType.object "WindGas$Cond"))) frG loG cvR [rv p0] (G 0 p0)) ∧ (∀ p0, Ct X.l Pic yX0_allOf (ws_ yX0_allOf cX0_allOf 2 (some (FieldType.object "WindGas$Cond"))) frG loG cvR [rv p0] (G 1 p0)) ∧ (∀ p0, Ct X.l Pic yX0_anyOf (ws_ yX0_anyOf cX0_anyOf 2 (some (FieldType.object "WindGas$Cond"))) frG loG cvR [rv p0] (G 2 p0))) (n : Nat) (p0 : Nat) (v1 : Nat) (q : Nat) : ∀ (u : Unit), Sim X cvR 13 [(0, rv p0), (1, rv v1)] [] (lp_X0_allOf_13 G n p0 v1 q u) := by
  induction q with
  | zero => intro u; exact s_fail
  | succ q ih13 =>
    intro u
    rw [lp_X0_allOf_13]
    refine s_aload_n hX dX0_allOf_13 rfl 0 rfl ?_
    refine s_ldcSw (i := 22) (tx := "and") hX (pcS) rfl dX0_allOf_14 (fun v3 => ?_)
    refine s_callV_I (ci := 0) (n := 1) (As := [rv v3]) (st := []) hX (pcK 1) (by decide) (ct_X0_isWord X.l p0 v3) q922 q924 qs15 q84 q925 yvX0_isWord ⟨by omega, by omega⟩ rfl (by first | decide | simp [rv_cat, cat_i, cat_l]) dX0_allOf_17 (fun v4 => ?_)
    refine s_if_eq (tgt := 42) hX dX0_allOf_20 (by decide) ?_ ?_
    · refine s_aload_n hX dX0_allOf_42 rfl 1 rfl ?_
      exact s_aret hX (Or.inl ⟨_, rfl⟩) dX0_allOf_43
    · refine s_aload_n hX dX0_allOf_23 rfl 0 rfl ?_
      refine s_callV_U (ci := 0) (n := 0) (As := []) (st := []) hX (pcK 1) (by decide) (ct_X0_next X.l n p0) q569 q571 qs7 q84 q572 yvX0_next ⟨by omega, by omega⟩ rfl (by first | decide | simp [rv_cat, cat_i, cat_l]) dX0_allOf_24 (fun _ => ?_)
      refine s_aload_n hX dX0_allOf_27 rfl 1 rfl ?_
      refine s_getR (ci := 12) (j := 1) (ref := "WindGas$Row") hX (pcG 12) in_X12 (Or.inr ⟨_, q993⟩) (by decide) (by decide) (by decide) rfl dX0_allOf_28 (fun _ h9 => h9) (fun v5 => ?_)
      refine s_aload_n hX dX0_allOf_31 rfl 0 rfl ?_
      refine s_callVT_R (ci := 0) (n := 0) (As := []) (st := [rv v5]) hX hnh (pcK 1) (by decide) ((hG.1 p0)) q941 q943 qs19 q84 q944 yvX0_one ⟨by omega, by omega⟩ rfl (by first | decide | simp [rv_cat, cat_i, cat_l]) dX0_allOf_32 (fun v6 => ?_)
      refine s_callV_I (ci := 17) (n := 1) (As := [rv v6]) (st := []) hX (pcK 18) (by decide) (pt_add X.l v5 v6) q1000 q440 q441 q88 q442 yvJ2_add ⟨by omega, by omega⟩ rfl (by first | decide | simp [rv_cat, cat_i, cat_l]) dX0_allOf_35 (fun v7 => ?_)
      refine s_pop hX dX0_allOf_38 rfl ?_
      refine s_goto (tgt := 13) hX dX0_allOf_39 (by decide) ?_
      exact ih13 ()
set_option maxHeartbeats 4000000 in
theorem ct_X0_allOf {frG loG : Nat} (l : Launch) (n : Nat) (G : Nat → Nat → Act Nat) (hfr : True) (hG : (∀ p0, Ct l Pic yX0_one (ws_ yX0_one cX0_one 5 (some (FieldType.object "WindGas$Cond"))) frG loG cvR [rv p0] (G 0 p0)) ∧ (∀ p0, Ct l Pic yX0_allOf (ws_ yX0_allOf cX0_allOf 2 (some (FieldType.object "WindGas$Cond"))) frG loG cvR [rv p0] (G 1 p0)) ∧ (∀ p0, Ct l Pic yX0_anyOf (ws_ yX0_anyOf cX0_anyOf 2 (some (FieldType.object "WindGas$Cond"))) frG loG cvR [rv p0] (G 2 p0))) (p0 : Nat) : Ct l Pic yX0_allOf (ws_ yX0_allOf cX0_allOf 2 (some (FieldType.object "WindGas$Cond"))) (frG + 11) (loG + 261) cvR [rv p0] (f_X0_allOf n G p0) := by
  refine Ct.of (own := RX0) (L := [(0, rv p0)]) (plainFor_of_name (by decide)) rfl (by first | decide | simp [lg_sl, rv_cat, cat_i, cat_l]) (by first | rfl | simp [lv_args, rv_cat, cat_i, cat_l]) pcZ (fun X hXl hX hnh hin => ?_)
  subst hXl
  unfold f_X0_allOf
  refine s_new (ci := 12) hX (pcN 12) in_X12 tyX12_ok (by decide) (by decide) q935 q936 q114 dX0_allOf_0 (fun v1 => ?_)
  refine s_dup hX dX0_allOf_3 (rv_cat _) ?_
  refine s_iconst (v := 1) hX dX0_allOf_4 rfl ?_
  refine s_aload_n hX dX0_allOf_5 rfl 0 rfl ?_
  refine s_callVT_R (ci := 0) (n := 0) (As := []) (st := [.int 1, rv v1, rv v1]) hX hnh (pcK 1) (by decide) ((hG.1 p0)) q941 q943 qs19 q84 q944 yvX0_one ⟨by omega, by omega⟩ rfl (by first | decide | simp [rv_cat, cat_i, cat_l]) dX0_allOf_6 (fun v2 => ?_)
  refine s_callI_U (ci := 12) (n := 2) (As := [.int 1, rv v2]) (st := [rv v1]) hX (pcK 13) (by decide) (ct_X12_init X.l v1 (1 : Int32) v2) q984 q985 q114 q986 rfl ycX12_init ⟨by omega, by omega⟩ rfl (by first | decide | simp [rv_cat, cat_i, cat_l]) dX0_allOf_9 (fun _ => ?_)
  refine s_astore_n (i := 1) (L2 := [(1, rv v1), (0, rv p0)]) hX dX0_allOf_12 rfl (by decide) (by first | (simp [rv_cat, cat_i, cat_l]; done) | (simp [rv_cat, cat_i, cat_l]; decide)) ?_
  exact s_sub [1, 0] rfl (s_lp_X0_allOf_13 hX hnh G trivial hG n p0 v1 n ())
theorem dX0_anyOf_0 : decode cX0_anyOf 0 = .ok (.new 292, 3) := by decide +kernel
theorem dX0_anyOf_3 : decode cX0_anyOf 3 = .ok (.dup, 1) := by decide +kernel
theorem dX0_anyOf_4 : decode cX0_anyOf 4 = .ok (.iconst 0, 1) := by decide +kernel
theorem dX0_anyOf_5 : decode cX0_anyOf 5 = .ok (.aload_n 0, 1) := by decide +kernel
theorem dX0_anyOf_6 : decode cX0_anyOf 6 = .ok (.invokevirtual 304, 3) := by decide +kernel
theorem dX0_anyOf_9 : decode cX0_anyOf 9 = .ok (.invokespecial 294, 3) := by decide +kernel
theorem dX0_anyOf_12 : decode cX0_anyOf 12 = .ok (.astore_n 1, 1) := by decide +kernel
theorem dX0_anyOf_13 : decode cX0_anyOf 13 = .ok (.aload_n 0, 1) := by decide +kernel
theorem dX0_anyOf_14 : decode cX0_anyOf 14 = .ok (.ldc_w 307, 3) := by decide +kernel
theorem dX0_anyOf_17 : decode cX0_anyOf 17 = .ok (.invokevirtual 234, 3) := by decide +kernel
theorem dX0_anyOf_20 : decode cX0_anyOf 20 = .ok (.ifCond .eq 22, 3) := by decide +kernel
theorem dX0_anyOf_23 : decode cX0_anyOf 23 = .ok (.aload_n 0, 1) := by decide +kernel
theorem dX0_anyOf_24 : decode cX0_anyOf 24 = .ok (.invokevirtual 217, 3) := by decide +kernel
theorem dX0_anyOf_27 : decode cX0_anyOf 27 = .ok (.aload_n 1, 1) := by decide +kernel
theorem dX0_anyOf_28 : decode cX0_anyOf 28 = .ok (.getfield 299, 3) := by decide +kernel
theorem dX0_anyOf_31 : decode cX0_anyOf 31 = .ok (.aload_n 0, 1) := by decide +kernel
theorem dX0_anyOf_32 : decode cX0_anyOf 32 = .ok (.invokevirtual 304, 3) := by decide +kernel
theorem dX0_anyOf_35 : decode cX0_anyOf 35 = .ok (.invokevirtual 302, 3) := by decide +kernel
theorem dX0_anyOf_38 : decode cX0_anyOf 38 = .ok (.pop, 1) := by decide +kernel
theorem dX0_anyOf_39 : decode cX0_anyOf 39 = .ok (.goto (-26), 3) := by decide +kernel
theorem dX0_anyOf_42 : decode cX0_anyOf 42 = .ok (.aload_n 1, 1) := by decide +kernel
theorem dX0_anyOf_43 : decode cX0_anyOf 43 = .ok (.areturn, 1) := by decide +kernel
noncomputable def lp_X0_anyOf_13 (G : Nat → Nat → Act Nat) (n : Nat) (p0 : Nat) (v1 : Nat) (q : Nat) : Unit → Act Nat := match q with
  | 0 => fun _ => fail
  | q + 1 => fun _ =>
    bnd (gst 33) fun v3 =>
    bnd (gd 0 p0 (nt (f_X0_isWord p0 v3))) fun v4 =>
    if v4 = 0 then
      pur v1
    else
      bnd (gd 0 p0 (nt (f_X0_next n p0))) fun _ =>
      bnd (getR 12 1 v1) fun v5 =>
      bnd (gd 0 p0 (G 1 p0)) fun v6 =>
      bnd (gd 17 v5 (nt (P_add v5 v6))) fun v7 =>
      (lp_X0_anyOf_13 G n p0 v1 q) ()
noncomputable def f_X0_anyOf (n : Nat) (G : Nat → Nat → Act Nat) (p0 : Nat) : Act Nat :=
  bnd (newO 12 2) fun v1 =>
  bnd (gd 0 p0 (G 1 p0)) fun v2 =>
  bnd (gd 12 v1 (nt (f_X12_init v1 (0 : Int32) v2))) fun _ =>
  lp_X0_anyOf_13 G n p0 v1 n ()
set_option maxHeartbeats 4000000 in
theorem s_lp_X0_anyOf_13 {X : Cx} {frG loG : Nat} (hX : Ok X Pic cX0_anyOf RX0 2 (some (FieldType.object "WindGas$Cond")) (frG + 11) (loG + 261)) (hnh : Noh X) (G : Nat → Nat → Act Nat) (hfr : True) (hG : (∀ p0, Ct X.l Pic yX0_one (ws_ yX0_one cX0_one 5 (some (FieldType.object "WindGas$Cond"))) frG loG cvR [rv p0] (G 0 p0)) ∧ (∀ p0, Ct X.l Pic yX0_allOf (ws_ yX0_allOf cX0_allOf 2 (some (FieldType.object "WindGas$Cond"))) frG loG cvR [rv p0] (G 1 p0)) ∧ (∀ p0, Ct X.l Pic yX0_anyOf (ws_ yX0_anyOf cX0_anyOf 2 (some (FieldType.object "WindGas$Cond"))) frG loG cvR [rv p0] (G 2 p0))) (n : Nat) (p0 : Nat) (v1 : Nat) (q : Nat) : ∀ (u : Unit), Sim X cvR 13 [(0, rv p0), (1, rv v1)] [] (lp_X0_anyOf_13 G n p0 v1 q u) := by
  induction q with
  | zero => intro u; exact s_fail
  | succ q ih13 =>
    intro u
    rw [lp_X0_anyOf_13]
    refine s_aload_n hX dX0_anyOf_13 rfl 0 rfl ?_
    refine s_ldcSw (i := 23) (tx := "or") hX (pcS) rfl dX0_anyOf_14 (fun v3 => ?_)
    refine s_callV_I (ci := 0) (n := 1) (As := [rv v3]) (st := []) hX (pcK 1) (by decide) (ct_X0_isWord X.l p0 v3) q922 q924 qs15 q84 q925 yvX0_isWord ⟨by omega, by omega⟩ rfl (by first | decide | simp [rv_cat, cat_i, cat_l]) dX0_anyOf_17 (fun v4 => ?_)
    refine s_if_eq (tgt := 42) hX dX0_anyOf_20 (by decide) ?_ ?_
    · refine s_aload_n hX dX0_anyOf_42 rfl 1 rfl ?_
      exact s_aret hX (Or.inl ⟨_, rfl⟩) dX0_anyOf_43
    · refine s_aload_n hX dX0_anyOf_23 rfl 0 rfl ?_
      refine s_callV_U (ci := 0) (n := 0) (As := []) (st := []) hX (pcK 1) (by decide) (ct_X0_next X.l n p0) q569 q571 qs7 q84 q572 yvX0_next ⟨by omega, by omega⟩ rfl (by first | decide | simp [rv_cat, cat_i, cat_l]) dX0_anyOf_24 (fun _ => ?_)
      refine s_aload_n hX dX0_anyOf_27 rfl 1 rfl ?_
      refine s_getR (ci := 12) (j := 1) (ref := "WindGas$Row") hX (pcG 12) in_X12 (Or.inr ⟨_, q993⟩) (by decide) (by decide) (by decide) rfl dX0_anyOf_28 (fun _ h9 => h9) (fun v5 => ?_)
      refine s_aload_n hX dX0_anyOf_31 rfl 0 rfl ?_
      refine s_callVT_R (ci := 0) (n := 0) (As := []) (st := [rv v5]) hX hnh (pcK 1) (by decide) ((hG.2.1 p0)) q937 q939 qs18 q84 q940 yvX0_allOf ⟨by omega, by omega⟩ rfl (by first | decide | simp [rv_cat, cat_i, cat_l]) dX0_anyOf_32 (fun v6 => ?_)
      refine s_callV_I (ci := 17) (n := 1) (As := [rv v6]) (st := []) hX (pcK 18) (by decide) (pt_add X.l v5 v6) q1000 q440 q441 q88 q442 yvJ2_add ⟨by omega, by omega⟩ rfl (by first | decide | simp [rv_cat, cat_i, cat_l]) dX0_anyOf_35 (fun v7 => ?_)
      refine s_pop hX dX0_anyOf_38 rfl ?_
      refine s_goto (tgt := 13) hX dX0_anyOf_39 (by decide) ?_
      exact ih13 ()
set_option maxHeartbeats 4000000 in
theorem ct_X0_anyOf {frG loG : Nat} (l : Launch) (n : Nat) (G : Nat → Nat → Act Nat) (hfr : True) (hG : (∀ p0, Ct l Pic yX0_one (ws_ yX0_one cX0_one 5 (some (FieldType.object "WindGas$Cond"))) frG loG cvR [rv p0] (G 0 p0)) ∧ (∀ p0, Ct l Pic yX0_allOf (ws_ yX0_allOf cX0_allOf 2 (some (FieldType.object "WindGas$Cond"))) frG loG cvR [rv p0] (G 1 p0)) ∧ (∀ p0, Ct l Pic yX0_anyOf (ws_ yX0_anyOf cX0_anyOf 2 (some (FieldType.object "WindGas$Cond"))) frG loG cvR [rv p0] (G 2 p0))) (p0 : Nat) : Ct l Pic yX0_anyOf (ws_ yX0_anyOf cX0_anyOf 2 (some (FieldType.object "WindGas$Cond"))) (frG + 11) (loG + 261) cvR [rv p0] (f_X0_anyOf n G p0) := by
  refine Ct.of (own := RX0) (L := [(0, rv p0)]) (plainFor_of_name (by decide)) rfl (by first | decide | simp [lg_sl, rv_cat, cat_i, cat_l]) (by first | rfl | simp [lv_args, rv_cat, cat_i, cat_l]) pcZ (fun X hXl hX hnh hin => ?_)
  subst hXl
  unfold f_X0_anyOf
  refine s_new (ci := 12) hX (pcN 12) in_X12 tyX12_ok (by decide) (by decide) q935 q936 q114 dX0_anyOf_0 (fun v1 => ?_)
  refine s_dup hX dX0_anyOf_3 (rv_cat _) ?_
  refine s_iconst (v := 0) hX dX0_anyOf_4 rfl ?_
  refine s_aload_n hX dX0_anyOf_5 rfl 0 rfl ?_
  refine s_callVT_R (ci := 0) (n := 0) (As := []) (st := [.int 0, rv v1, rv v1]) hX hnh (pcK 1) (by decide) ((hG.2.1 p0)) q937 q939 qs18 q84 q940 yvX0_allOf ⟨by omega, by omega⟩ rfl (by first | decide | simp [rv_cat, cat_i, cat_l]) dX0_anyOf_6 (fun v2 => ?_)
  refine s_callI_U (ci := 12) (n := 2) (As := [.int 0, rv v2]) (st := [rv v1]) hX (pcK 13) (by decide) (ct_X12_init X.l v1 (0 : Int32) v2) q984 q985 q114 q986 rfl ycX12_init ⟨by omega, by omega⟩ rfl (by first | decide | simp [rv_cat, cat_i, cat_l]) dX0_anyOf_9 (fun _ => ?_)
  refine s_astore_n (i := 1) (L2 := [(1, rv v1), (0, rv p0)]) hX dX0_anyOf_12 rfl (by decide) (by first | (simp [rv_cat, cat_i, cat_l]; done) | (simp [rv_cat, cat_i, cat_l]; decide)) ?_
  exact s_sub [1, 0] rfl (s_lp_X0_anyOf_13 hX hnh G trivial hG n p0 v1 n ())
noncomputable def g_one (n d : Nat) : Nat → Nat → Act Nat := match d with
  | 0 => fun _ _ => fail
  | d + 1 => fun i x0 => if i = 0 then f_X0_one n (g_one n d) x0 else if i = 1 then f_X0_allOf n (g_one n d) x0 else f_X0_anyOf n (g_one n d) x0
theorem g_one_ct (l : Launch) (n d : Nat) : (∀ x0, Ct l Pic yX0_one (ws_ yX0_one cX0_one 5 (some (FieldType.object "WindGas$Cond"))) (11 * d) (261 * d) cvR [rv x0] (g_one n d 0 x0)) ∧ (∀ x0, Ct l Pic yX0_allOf (ws_ yX0_allOf cX0_allOf 2 (some (FieldType.object "WindGas$Cond"))) (11 * d) (261 * d) cvR [rv x0] (g_one n d 1 x0)) ∧ (∀ x0, Ct l Pic yX0_anyOf (ws_ yX0_anyOf cX0_anyOf 2 (some (FieldType.object "WindGas$Cond"))) (11 * d) (261 * d) cvR [rv x0] (g_one n d 2 x0)) := by
  induction d with
  | zero => exact ⟨fun x0 => Ct.fail, fun x0 => Ct.fail, fun x0 => Ct.fail⟩
  | succ d ih =>
    exact ⟨fun x0 => ct_X0_one l n (g_one n d) trivial ih x0, fun x0 => ct_X0_allOf l n (g_one n d) trivial ih x0, fun x0 => ct_X0_anyOf l n (g_one n d) trivial ih x0⟩
theorem dX0_condition_0 : decode cX0_condition 0 = .ok (.aload_n 0, 1) := by decide +kernel
theorem dX0_condition_1 : decode cX0_condition 1 = .ok (.aload_n 0, 1) := by decide +kernel
theorem dX0_condition_2 : decode cX0_condition 2 = .ok (.ldc_w 309, 3) := by decide +kernel
theorem dX0_condition_5 : decode cX0_condition 5 = .ok (.invokevirtual 234, 3) := by decide +kernel
theorem dX0_condition_8 : decode cX0_condition 8 = .ok (.invokevirtual 226, 3) := by decide +kernel
theorem dX0_condition_11 : decode cX0_condition 11 = .ok (.aload_n 0, 1) := by decide +kernel
theorem dX0_condition_12 : decode cX0_condition 12 = .ok (.iconst 0, 1) := by decide +kernel
theorem dX0_condition_13 : decode cX0_condition 13 = .ok (.putfield 251, 3) := by decide +kernel
theorem dX0_condition_16 : decode cX0_condition 16 = .ok (.aload_n 0, 1) := by decide +kernel
theorem dX0_condition_17 : decode cX0_condition 17 = .ok (.invokevirtual 268, 3) := by decide +kernel
theorem dX0_condition_20 : decode cX0_condition 20 = .ok (.areturn, 1) := by decide +kernel
theorem ycX0_condition : yX0_condition.cls ≠ "java/lang/invoke/MethodHandle" ∧ yX0_condition.cls ≠ "java/lang/invoke/VarHandle" ∧ (parseMethodDescriptor yX0_condition.desc).map (fun d => d.parameters.length) = some 0 := by decide +kernel
theorem yvX0_condition : yX0_condition.cls = RR 0 ∧ yX0_condition.cls ≠ "java/lang/invoke/MethodHandle" ∧ yX0_condition.cls ≠ "java/lang/invoke/VarHandle" ∧ (parseMethodDescriptor yX0_condition.desc).map (fun d => d.parameters.length) = some 0 := ⟨rfl, ycX0_condition⟩
noncomputable def f_X0_condition (n : Nat) (p0 : Nat) : Act Nat :=
  bnd (gst 22) fun v1 =>
  bnd (gd 0 p0 (nt (f_X0_isWord p0 v1))) fun v2 =>
  bnd (gd 0 p0 (f_X0_must n p0 v2)) fun _ =>
  bnd (putI 0 13 p0 0) fun _ =>
  bnd (gd 0 p0 (g_one n 40 2 p0)) fun v3 =>
  pur v3
set_option maxHeartbeats 4000000 in
theorem ct_X0_condition (l : Launch) (n : Nat) (p0 : Nat) : Ct l Pic yX0_condition (ws_ yX0_condition cX0_condition 1 (some (FieldType.object "WindGas$Cond"))) 441 10461 cvR [rv p0] (f_X0_condition n p0) := by
  refine Ct.of (own := RX0) (L := [(0, rv p0)]) (plainFor_of_name (by decide)) rfl (by first | decide | simp [lg_sl, rv_cat, cat_i, cat_l]) (by first | rfl | simp [lv_args, rv_cat, cat_i, cat_l]) pcZ (fun X hXl hX hnh hin => ?_)
  subst hXl
  unfold f_X0_condition
  refine s_aload_n hX dX0_condition_0 rfl 0 rfl ?_
  refine s_aload_n hX dX0_condition_1 rfl 0 rfl ?_
  refine s_ldcSw (i := 12) (tx := "if") hX (pcS) rfl dX0_condition_2 (fun v1 => ?_)
  refine s_callV_I (ci := 0) (n := 1) (As := [rv v1]) (st := [rv p0]) hX (pcK 1) (by decide) (ct_X0_isWord X.l p0 v1) q922 q924 qs15 q84 q925 yvX0_isWord (by decide) rfl (by first | decide | simp [rv_cat, cat_i, cat_l]) dX0_condition_5 (fun v2 => ?_)
  refine s_callVT_U (ci := 0) (n := 1) (As := [.int v2]) (st := []) hX hnh (pcK 1) (by decide) (ct_X0_must X.l n p0 v2) q910 q912 qs13 q84 q913 yvX0_must (by decide) rfl (by first | decide | simp [rv_cat, cat_i, cat_l]) dX0_condition_8 (fun _ => ?_)
  refine s_aload_n hX dX0_condition_11 rfl 0 rfl ?_
  refine s_iconst (v := 0) hX dX0_condition_12 rfl ?_
  refine s_putI (ci := 0) (j := 13) (ref := "WindGas") hX (pcG 0) (pcP 0) in_X0 tyX0_ok nmX0 (Or.inl q279) (by decide) (by decide) (by decide) rfl rfl rfl dX0_condition_13 (fun _ h9 => h9) ?_
  refine s_aload_n hX dX0_condition_16 rfl 0 rfl ?_
  refine s_callVT_R (ci := 0) (n := 0) (As := []) (st := []) hX hnh (pcK 1) (by decide) ((g_one_ct X.l n 40).2.2 p0) q931 q933 qs17 q84 q934 yvX0_anyOf (by decide) rfl (by first | decide | simp [rv_cat, cat_i, cat_l]) dX0_condition_17 (fun v3 => ?_)
  exact s_aret hX (Or.inl ⟨_, rfl⟩) dX0_condition_20
theorem dX0_statement_0 : decode cX0_statement 0 = .ok (.aload_n 0, 1) := by decide +kernel
theorem dX0_statement_1 : decode cX0_statement 1 = .ok (.getfield 180, 3) := by decide +kernel
theorem dX0_statement_4 : decode cX0_statement 4 = .ok (.bipush 119, 2) := by decide +kernel
theorem dX0_statement_6 : decode cX0_statement 6 = .ok (.if_icmp .ne 10, 3) := by decide +kernel
theorem dX0_statement_9 : decode cX0_statement 9 = .ok (.aload_n 0, 1) := by decide +kernel
theorem dX0_statement_10 : decode cX0_statement 10 = .ok (.getfield 50, 3) := by decide +kernel
theorem dX0_statement_13 : decode cX0_statement 13 = .ok (.goto 5, 3) := by decide +kernel
theorem dX0_statement_16 : decode cX0_statement 16 = .ok (.ldc 48, 2) := by decide +kernel
theorem dX0_statement_18 : decode cX0_statement 18 = .ok (.astore_n 2, 1) := by decide +kernel
theorem dX0_statement_19 : decode cX0_statement 19 = .ok (.aload_n 2, 1) := by decide +kernel
theorem dX0_statement_20 : decode cX0_statement 20 = .ok (.astore_n 3, 1) := by decide +kernel
theorem dX0_statement_21 : decode cX0_statement 21 = .ok (.iconst (-1), 1) := by decide +kernel
theorem dX0_statement_22 : decode cX0_statement 22 = .ok (.istore 4, 2) := by decide +kernel
theorem dX0_statement_24 : decode cX0_statement 24 = .ok (.aload_n 3, 1) := by decide +kernel
theorem dX0_statement_25 : decode cX0_statement 25 = .ok (.invokevirtual 311, 3) := by decide +kernel
theorem dX0_statement_28 : decode cX0_statement 28 = .ok (.lookupswitch 228 #[(-976949631, 84), (-892483503, 132), (3526482, 197), (93014996, 214), (94415933, 148), (97440432, 164), (98619139, 180), (102846057, 116), (109770985, 100)], 84) := by decide +kernel
theorem dX0_statement_112 : decode cX0_statement 112 = .ok (.aload_n 3, 1) := by decide +kernel
theorem dX0_statement_113 : decode cX0_statement 113 = .ok (.ldc_w 314, 3) := by decide +kernel
theorem dX0_statement_116 : decode cX0_statement 116 = .ok (.invokevirtual 220, 3) := by decide +kernel
theorem dX0_statement_119 : decode cX0_statement 119 = .ok (.ifCond .eq 137, 3) := by decide +kernel
theorem dX0_statement_122 : decode cX0_statement 122 = .ok (.iconst 0, 1) := by decide +kernel
theorem dX0_statement_123 : decode cX0_statement 123 = .ok (.istore 4, 2) := by decide +kernel
theorem dX0_statement_125 : decode cX0_statement 125 = .ok (.goto 131, 3) := by decide +kernel
theorem dX0_statement_128 : decode cX0_statement 128 = .ok (.aload_n 3, 1) := by decide +kernel
theorem dX0_statement_129 : decode cX0_statement 129 = .ok (.ldc_w 315, 3) := by decide +kernel
theorem dX0_statement_132 : decode cX0_statement 132 = .ok (.invokevirtual 220, 3) := by decide +kernel
theorem dX0_statement_135 : decode cX0_statement 135 = .ok (.ifCond .eq 121, 3) := by decide +kernel
theorem dX0_statement_138 : decode cX0_statement 138 = .ok (.iconst 1, 1) := by decide +kernel
theorem dX0_statement_139 : decode cX0_statement 139 = .ok (.istore 4, 2) := by decide +kernel
theorem dX0_statement_141 : decode cX0_statement 141 = .ok (.goto 115, 3) := by decide +kernel
theorem dX0_statement_144 : decode cX0_statement 144 = .ok (.aload_n 3, 1) := by decide +kernel
theorem dX0_statement_145 : decode cX0_statement 145 = .ok (.ldc_w 316, 3) := by decide +kernel
theorem dX0_statement_148 : decode cX0_statement 148 = .ok (.invokevirtual 220, 3) := by decide +kernel
theorem dX0_statement_151 : decode cX0_statement 151 = .ok (.ifCond .eq 105, 3) := by decide +kernel
theorem dX0_statement_154 : decode cX0_statement 154 = .ok (.iconst 2, 1) := by decide +kernel
theorem dX0_statement_155 : decode cX0_statement 155 = .ok (.istore 4, 2) := by decide +kernel
theorem dX0_statement_157 : decode cX0_statement 157 = .ok (.goto 99, 3) := by decide +kernel
theorem dX0_statement_160 : decode cX0_statement 160 = .ok (.aload_n 3, 1) := by decide +kernel
theorem dX0_statement_161 : decode cX0_statement 161 = .ok (.ldc_w 317, 3) := by decide +kernel
theorem dX0_statement_164 : decode cX0_statement 164 = .ok (.invokevirtual 220, 3) := by decide +kernel
theorem dX0_statement_167 : decode cX0_statement 167 = .ok (.ifCond .eq 89, 3) := by decide +kernel
theorem dX0_statement_170 : decode cX0_statement 170 = .ok (.iconst 3, 1) := by decide +kernel
theorem dX0_statement_171 : decode cX0_statement 171 = .ok (.istore 4, 2) := by decide +kernel
theorem dX0_statement_173 : decode cX0_statement 173 = .ok (.goto 83, 3) := by decide +kernel
theorem dX0_statement_176 : decode cX0_statement 176 = .ok (.aload_n 3, 1) := by decide +kernel
theorem dX0_statement_177 : decode cX0_statement 177 = .ok (.ldc_w 318, 3) := by decide +kernel
theorem dX0_statement_180 : decode cX0_statement 180 = .ok (.invokevirtual 220, 3) := by decide +kernel
theorem dX0_statement_183 : decode cX0_statement 183 = .ok (.ifCond .eq 73, 3) := by decide +kernel
theorem dX0_statement_186 : decode cX0_statement 186 = .ok (.iconst 4, 1) := by decide +kernel
theorem dX0_statement_187 : decode cX0_statement 187 = .ok (.istore 4, 2) := by decide +kernel
theorem dX0_statement_189 : decode cX0_statement 189 = .ok (.goto 67, 3) := by decide +kernel
theorem dX0_statement_192 : decode cX0_statement 192 = .ok (.aload_n 3, 1) := by decide +kernel
theorem dX0_statement_193 : decode cX0_statement 193 = .ok (.ldc_w 319, 3) := by decide +kernel
theorem dX0_statement_196 : decode cX0_statement 196 = .ok (.invokevirtual 220, 3) := by decide +kernel
theorem dX0_statement_199 : decode cX0_statement 199 = .ok (.ifCond .eq 57, 3) := by decide +kernel
theorem dX0_statement_202 : decode cX0_statement 202 = .ok (.iconst 5, 1) := by decide +kernel
theorem dX0_statement_203 : decode cX0_statement 203 = .ok (.istore 4, 2) := by decide +kernel
theorem dX0_statement_205 : decode cX0_statement 205 = .ok (.goto 51, 3) := by decide +kernel
theorem dX0_statement_208 : decode cX0_statement 208 = .ok (.aload_n 3, 1) := by decide +kernel
theorem dX0_statement_209 : decode cX0_statement 209 = .ok (.ldc_w 321, 3) := by decide +kernel
theorem dX0_statement_212 : decode cX0_statement 212 = .ok (.invokevirtual 220, 3) := by decide +kernel
theorem dX0_statement_215 : decode cX0_statement 215 = .ok (.ifCond .eq 41, 3) := by decide +kernel
theorem dX0_statement_218 : decode cX0_statement 218 = .ok (.bipush 6, 2) := by decide +kernel
theorem dX0_statement_220 : decode cX0_statement 220 = .ok (.istore 4, 2) := by decide +kernel
theorem dX0_statement_222 : decode cX0_statement 222 = .ok (.goto 34, 3) := by decide +kernel
theorem dX0_statement_225 : decode cX0_statement 225 = .ok (.aload_n 3, 1) := by decide +kernel
theorem dX0_statement_226 : decode cX0_statement 226 = .ok (.ldc_w 323, 3) := by decide +kernel
theorem dX0_statement_229 : decode cX0_statement 229 = .ok (.invokevirtual 220, 3) := by decide +kernel
theorem dX0_statement_232 : decode cX0_statement 232 = .ok (.ifCond .eq 24, 3) := by decide +kernel
theorem dX0_statement_235 : decode cX0_statement 235 = .ok (.bipush 7, 2) := by decide +kernel
theorem dX0_statement_237 : decode cX0_statement 237 = .ok (.istore 4, 2) := by decide +kernel
theorem dX0_statement_239 : decode cX0_statement 239 = .ok (.goto 17, 3) := by decide +kernel
theorem dX0_statement_242 : decode cX0_statement 242 = .ok (.aload_n 3, 1) := by decide +kernel
theorem dX0_statement_243 : decode cX0_statement 243 = .ok (.ldc_w 325, 3) := by decide +kernel
theorem dX0_statement_246 : decode cX0_statement 246 = .ok (.invokevirtual 220, 3) := by decide +kernel
theorem dX0_statement_249 : decode cX0_statement 249 = .ok (.ifCond .eq 7, 3) := by decide +kernel
theorem dX0_statement_252 : decode cX0_statement 252 = .ok (.bipush 8, 2) := by decide +kernel
theorem dX0_statement_254 : decode cX0_statement 254 = .ok (.istore 4, 2) := by decide +kernel
theorem dX0_statement_256 : decode cX0_statement 256 = .ok (.iload 4, 2) := by decide +kernel
theorem dX0_statement_258 : decode cX0_statement 258 = .ok (.tableswitch 252 0 8 #[50, 65, 80, 98, 113, 128, 168, 187, 206], 50) := by decide +kernel
theorem dX0_statement_308 : decode cX0_statement 308 = .ok (.aload_n 0, 1) := by decide +kernel
theorem dX0_statement_309 : decode cX0_statement 309 = .ok (.invokevirtual 217, 3) := by decide +kernel
theorem dX0_statement_312 : decode cX0_statement 312 = .ok (.aload_n 1, 1) := by decide +kernel
theorem dX0_statement_313 : decode cX0_statement 313 = .ok (.aload_n 0, 1) := by decide +kernel
theorem dX0_statement_314 : decode cX0_statement 314 = .ok (.invokevirtual 284, 3) := by decide +kernel
theorem dX0_statement_317 : decode cX0_statement 317 = .ok (.putfield 141, 3) := by decide +kernel
theorem dX0_statement_320 : decode cX0_statement 320 = .ok (.goto 202, 3) := by decide +kernel
theorem dX0_statement_323 : decode cX0_statement 323 = .ok (.aload_n 0, 1) := by decide +kernel
theorem dX0_statement_324 : decode cX0_statement 324 = .ok (.invokevirtual 217, 3) := by decide +kernel
theorem dX0_statement_327 : decode cX0_statement 327 = .ok (.aload_n 1, 1) := by decide +kernel
theorem dX0_statement_328 : decode cX0_statement 328 = .ok (.aload_n 0, 1) := by decide +kernel
theorem dX0_statement_329 : decode cX0_statement 329 = .ok (.invokevirtual 284, 3) := by decide +kernel
theorem dX0_statement_332 : decode cX0_statement 332 = .ok (.putfield 144, 3) := by decide +kernel
theorem dX0_statement_335 : decode cX0_statement 335 = .ok (.goto 187, 3) := by decide +kernel
theorem dX0_statement_338 : decode cX0_statement 338 = .ok (.aload_n 0, 1) := by decide +kernel
theorem dX0_statement_339 : decode cX0_statement 339 = .ok (.invokevirtual 217, 3) := by decide +kernel
theorem dX0_statement_342 : decode cX0_statement 342 = .ok (.aload_n 1, 1) := by decide +kernel
theorem dX0_statement_343 : decode cX0_statement 343 = .ok (.aload_n 0, 1) := by decide +kernel
theorem dX0_statement_344 : decode cX0_statement 344 = .ok (.iconst 1, 1) := by decide +kernel
theorem dX0_statement_345 : decode cX0_statement 345 = .ok (.bipush 100, 2) := by decide +kernel
theorem dX0_statement_347 : decode cX0_statement 347 = .ok (.invokevirtual 231, 3) := by decide +kernel
theorem dX0_statement_350 : decode cX0_statement 350 = .ok (.putfield 147, 3) := by decide +kernel
theorem dX0_statement_353 : decode cX0_statement 353 = .ok (.goto 169, 3) := by decide +kernel
theorem dX0_statement_356 : decode cX0_statement 356 = .ok (.aload_n 0, 1) := by decide +kernel
theorem dX0_statement_357 : decode cX0_statement 357 = .ok (.invokevirtual 217, 3) := by decide +kernel
theorem dX0_statement_360 : decode cX0_statement 360 = .ok (.aload_n 1, 1) := by decide +kernel
theorem dX0_statement_361 : decode cX0_statement 361 = .ok (.aload_n 0, 1) := by decide +kernel
theorem dX0_statement_362 : decode cX0_statement 362 = .ok (.invokevirtual 284, 3) := by decide +kernel
theorem dX0_statement_365 : decode cX0_statement 365 = .ok (.putfield 150, 3) := by decide +kernel
theorem dX0_statement_368 : decode cX0_statement 368 = .ok (.goto 154, 3) := by decide +kernel
theorem dX0_statement_371 : decode cX0_statement 371 = .ok (.aload_n 0, 1) := by decide +kernel
theorem dX0_statement_372 : decode cX0_statement 372 = .ok (.invokevirtual 217, 3) := by decide +kernel
theorem dX0_statement_375 : decode cX0_statement 375 = .ok (.aload_n 1, 1) := by decide +kernel
theorem dX0_statement_376 : decode cX0_statement 376 = .ok (.aload_n 0, 1) := by decide +kernel
theorem dX0_statement_377 : decode cX0_statement 377 = .ok (.invokevirtual 284, 3) := by decide +kernel
theorem dX0_statement_380 : decode cX0_statement 380 = .ok (.putfield 153, 3) := by decide +kernel
theorem dX0_statement_383 : decode cX0_statement 383 = .ok (.goto 139, 3) := by decide +kernel
theorem dX0_statement_386 : decode cX0_statement 386 = .ok (.aload_n 0, 1) := by decide +kernel
theorem dX0_statement_387 : decode cX0_statement 387 = .ok (.invokevirtual 217, 3) := by decide +kernel
theorem dX0_statement_390 : decode cX0_statement 390 = .ok (.aload_n 1, 1) := by decide +kernel
theorem dX0_statement_391 : decode cX0_statement 391 = .ok (.aload_n 0, 1) := by decide +kernel
theorem dX0_statement_392 : decode cX0_statement 392 = .ok (.iconst 2, 1) := by decide +kernel
theorem dX0_statement_393 : decode cX0_statement 393 = .ok (.anewarray 221, 3) := by decide +kernel
theorem dX0_statement_396 : decode cX0_statement 396 = .ok (.dup, 1) := by decide +kernel
theorem dX0_statement_397 : decode cX0_statement 397 = .ok (.iconst 0, 1) := by decide +kernel
theorem dX0_statement_398 : decode cX0_statement 398 = .ok (.ldc_w 327, 3) := by decide +kernel
theorem dX0_statement_401 : decode cX0_statement 401 = .ok (.aastore, 1) := by decide +kernel
theorem dX0_statement_402 : decode cX0_statement 402 = .ok (.dup, 1) := by decide +kernel
theorem dX0_statement_403 : decode cX0_statement 403 = .ok (.iconst 1, 1) := by decide +kernel
theorem dX0_statement_404 : decode cX0_statement 404 = .ok (.ldc_w 329, 3) := by decide +kernel
theorem dX0_statement_407 : decode cX0_statement 407 = .ok (.aastore, 1) := by decide +kernel
theorem dX0_statement_408 : decode cX0_statement 408 = .ok (.invokevirtual 247, 3) := by decide +kernel
theorem dX0_statement_411 : decode cX0_statement 411 = .ok (.iconst 1, 1) := by decide +kernel
theorem dX0_statement_412 : decode cX0_statement 412 = .ok (.if_icmp .ne 7, 3) := by decide +kernel
theorem dX0_statement_415 : decode cX0_statement 415 = .ok (.iconst 1, 1) := by decide +kernel
theorem dX0_statement_416 : decode cX0_statement 416 = .ok (.goto 4, 3) := by decide +kernel
theorem dX0_statement_419 : decode cX0_statement 419 = .ok (.iconst 0, 1) := by decide +kernel
theorem dX0_statement_420 : decode cX0_statement 420 = .ok (.putfield 156, 3) := by decide +kernel
theorem dX0_statement_423 : decode cX0_statement 423 = .ok (.goto 99, 3) := by decide +kernel
theorem dX0_statement_426 : decode cX0_statement 426 = .ok (.aload_n 0, 1) := by decide +kernel
theorem dX0_statement_427 : decode cX0_statement 427 = .ok (.invokevirtual 217, 3) := by decide +kernel
theorem dX0_statement_430 : decode cX0_statement 430 = .ok (.aload_n 1, 1) := by decide +kernel
theorem dX0_statement_431 : decode cX0_statement 431 = .ok (.getfield 331, 3) := by decide +kernel
theorem dX0_statement_434 : decode cX0_statement 434 = .ok (.aload_n 0, 1) := by decide +kernel
theorem dX0_statement_435 : decode cX0_statement 435 = .ok (.invokevirtual 334, 3) := by decide +kernel
theorem dX0_statement_438 : decode cX0_statement 438 = .ok (.invokevirtual 302, 3) := by decide +kernel
theorem dX0_statement_441 : decode cX0_statement 441 = .ok (.pop, 1) := by decide +kernel
theorem dX0_statement_442 : decode cX0_statement 442 = .ok (.goto 80, 3) := by decide +kernel
theorem dX0_statement_445 : decode cX0_statement 445 = .ok (.aload_n 0, 1) := by decide +kernel
theorem dX0_statement_446 : decode cX0_statement 446 = .ok (.invokevirtual 217, 3) := by decide +kernel
theorem dX0_statement_449 : decode cX0_statement 449 = .ok (.aload_n 1, 1) := by decide +kernel
theorem dX0_statement_450 : decode cX0_statement 450 = .ok (.getfield 337, 3) := by decide +kernel
theorem dX0_statement_453 : decode cX0_statement 453 = .ok (.aload_n 0, 1) := by decide +kernel
theorem dX0_statement_454 : decode cX0_statement 454 = .ok (.invokevirtual 334, 3) := by decide +kernel
theorem dX0_statement_457 : decode cX0_statement 457 = .ok (.invokevirtual 302, 3) := by decide +kernel
theorem dX0_statement_460 : decode cX0_statement 460 = .ok (.pop, 1) := by decide +kernel
theorem dX0_statement_461 : decode cX0_statement 461 = .ok (.goto 61, 3) := by decide +kernel
theorem dX0_statement_464 : decode cX0_statement 464 = .ok (.aload_n 0, 1) := by decide +kernel
theorem dX0_statement_465 : decode cX0_statement 465 = .ok (.invokevirtual 217, 3) := by decide +kernel
theorem dX0_statement_468 : decode cX0_statement 468 = .ok (.aload_n 0, 1) := by decide +kernel
theorem dX0_statement_469 : decode cX0_statement 469 = .ok (.invokevirtual 340, 3) := by decide +kernel
theorem dX0_statement_472 : decode cX0_statement 472 = .ok (.istore 5, 2) := by decide +kernel
theorem dX0_statement_474 : decode cX0_statement 474 = .ok (.aload_n 0, 1) := by decide +kernel
theorem dX0_statement_475 : decode cX0_statement 475 = .ok (.invokevirtual 340, 3) := by decide +kernel
theorem dX0_statement_478 : decode cX0_statement 478 = .ok (.istore 6, 2) := by decide +kernel
theorem dX0_statement_480 : decode cX0_statement 480 = .ok (.aload_n 1, 1) := by decide +kernel
theorem dX0_statement_481 : decode cX0_statement 481 = .ok (.getfield 343, 3) := by decide +kernel
theorem dX0_statement_484 : decode cX0_statement 484 = .ok (.new 346, 3) := by decide +kernel
theorem dX0_statement_487 : decode cX0_statement 487 = .ok (.dup, 1) := by decide +kernel
theorem dX0_statement_488 : decode cX0_statement 488 = .ok (.aload_n 1, 1) := by decide +kernel
theorem dX0_statement_489 : decode cX0_statement 489 = .ok (.getfield 160, 3) := by decide +kernel
theorem dX0_statement_492 : decode cX0_statement 492 = .ok (.iload 5, 2) := by decide +kernel
theorem dX0_statement_494 : decode cX0_statement 494 = .ok (.iload 6, 2) := by decide +kernel
theorem dX0_statement_496 : decode cX0_statement 496 = .ok (.aload_n 0, 1) := by decide +kernel
theorem dX0_statement_497 : decode cX0_statement 497 = .ok (.invokevirtual 284, 3) := by decide +kernel
theorem dX0_statement_500 : decode cX0_statement 500 = .ok (.invokespecial 348, 3) := by decide +kernel
theorem dX0_statement_503 : decode cX0_statement 503 = .ok (.invokevirtual 302, 3) := by decide +kernel
theorem dX0_statement_506 : decode cX0_statement 506 = .ok (.pop, 1) := by decide +kernel
theorem dX0_statement_507 : decode cX0_statement 507 = .ok (.goto 15, 3) := by decide +kernel
theorem dX0_statement_510 : decode cX0_statement 510 = .ok (.new 214, 3) := by decide +kernel
theorem dX0_statement_513 : decode cX0_statement 513 = .ok (.dup, 1) := by decide +kernel
theorem dX0_statement_514 : decode cX0_statement 514 = .ok (.aload_n 0, 1) := by decide +kernel
theorem dX0_statement_515 : decode cX0_statement 515 = .ok (.getfield 179, 3) := by decide +kernel
theorem dX0_statement_518 : decode cX0_statement 518 = .ok (.invokespecial 216, 3) := by decide +kernel
theorem dX0_statement_521 : decode cX0_statement 521 = .ok (.athrow, 1) := by decide +kernel
theorem dX0_statement_522 : decode cX0_statement 522 = .ok (.aload_n 0, 1) := by decide +kernel
theorem dX0_statement_523 : decode cX0_statement 523 = .ok (.aload_n 0, 1) := by decide +kernel
theorem dX0_statement_524 : decode cX0_statement 524 = .ok (.getfield 180, 3) := by decide +kernel
theorem dX0_statement_527 : decode cX0_statement 527 = .ok (.bipush 59, 2) := by decide +kernel
theorem dX0_statement_529 : decode cX0_statement 529 = .ok (.if_icmp .ne 7, 3) := by decide +kernel
theorem dX0_statement_532 : decode cX0_statement 532 = .ok (.iconst 1, 1) := by decide +kernel
theorem dX0_statement_533 : decode cX0_statement 533 = .ok (.goto 4, 3) := by decide +kernel
theorem dX0_statement_536 : decode cX0_statement 536 = .ok (.iconst 0, 1) := by decide +kernel
theorem dX0_statement_537 : decode cX0_statement 537 = .ok (.invokevirtual 226, 3) := by decide +kernel
theorem dX0_statement_540 : decode cX0_statement 540 = .ok (.aload_n 1, 1) := by decide +kernel
theorem dX0_statement_541 : decode cX0_statement 541 = .ok (.dup, 1) := by decide +kernel
theorem dX0_statement_542 : decode cX0_statement 542 = .ok (.getfield 160, 3) := by decide +kernel
theorem dX0_statement_545 : decode cX0_statement 545 = .ok (.iconst 1, 1) := by decide +kernel
theorem dX0_statement_546 : decode cX0_statement 546 = .ok (.iadd, 1) := by decide +kernel
theorem dX0_statement_547 : decode cX0_statement 547 = .ok (.putfield 160, 3) := by decide +kernel
theorem dX0_statement_550 : decode cX0_statement 550 = .ok (.return_, 1) := by decide +kernel
theorem ycX0_statement : yX0_statement.cls ≠ "java/lang/invoke/MethodHandle" ∧ yX0_statement.cls ≠ "java/lang/invoke/VarHandle" ∧ (parseMethodDescriptor yX0_statement.desc).map (fun d => d.parameters.length) = some 1 := by decide +kernel
theorem yvX0_statement : yX0_statement.cls = RR 0 ∧ yX0_statement.cls ≠ "java/lang/invoke/MethodHandle" ∧ yX0_statement.cls ≠ "java/lang/invoke/VarHandle" ∧ (parseMethodDescriptor yX0_statement.desc).map (fun d => d.parameters.length) = some 1 := ⟨rfl, ycX0_statement⟩
noncomputable def f_X0_statement (n : Nat) (p0 : Nat) (p1 : Nat) : Act Unit :=
  bnd (getI 0 14 p0) fun v1 =>
  jn (fun (v2 : Nat) =>
    bnd (gs v2 (nt (P_hash v2))) fun v3 =>
    jn (fun (v4 : Int32) =>
      jn (fun (_ : Unit) =>
        bnd (getI 0 14 p0) fun v5 =>
        jn (fun (v6 : Int32) =>
          bnd (gd 0 p0 (f_X0_must n p0 v6)) fun _ =>
          bnd (getI 2 6 p1) fun v7 =>
          bnd (putI 2 6 p1 (v7 + 1)) fun _ =>
          pur ()) fun j537 =>
        if ¬ v5 = 59 then
          j537 0
        else
          j537 1) fun j522 =>
      sw v4 (0) [
        bnd (gd 0 p0 (nt (f_X0_next n p0))) fun _ =>
        bnd (gd 0 p0 (f_X0_any n p0)) fun v8 =>
        bnd (putI 2 1 p1 v8) fun _ =>
        j522 (),
        bnd (gd 0 p0 (nt (f_X0_next n p0))) fun _ =>
        bnd (gd 0 p0 (f_X0_any n p0)) fun v9 =>
        bnd (putI 2 2 p1 v9) fun _ =>
        j522 (),
        bnd (gd 0 p0 (nt (f_X0_next n p0))) fun _ =>
        bnd (gd 0 p0 (f_X0_number n p0 (1 : Int32) (100 : Int32))) fun v10 =>
        bnd (putI 2 3 p1 v10) fun _ =>
        j522 (),
        bnd (gd 0 p0 (nt (f_X0_next n p0))) fun _ =>
        bnd (gd 0 p0 (f_X0_any n p0)) fun v11 =>
        bnd (putI 2 4 p1 v11) fun _ =>
        j522 (),
        bnd (gd 0 p0 (nt (f_X0_next n p0))) fun _ =>
        bnd (gd 0 p0 (f_X0_any n p0)) fun v12 =>
        bnd (putI 2 5 p1 v12) fun _ =>
        j522 (),
        bnd (gd 0 p0 (nt (f_X0_next n p0))) fun _ =>
        bnd (newA 5 2) fun v13 =>
        bnd (gst 20) fun v14 =>
        bnd (stK [40] 5 v13 0 v14) fun _ =>
        bnd (gst 21) fun v15 =>
        bnd (stK [40] 5 v13 1 v15) fun _ =>
        bnd (gd 0 p0 (f_X0_oneOf n p0 v13)) fun v16 =>
        jn (fun (v17 : Int32) =>
          bnd (putS .boolean 2 7 p1 v17) fun _ =>
          j522 ()) fun j420 =>
        if ¬ v16 = 1 then
          j420 0
        else
          j420 1,
        bnd (gd 0 p0 (nt (f_X0_next n p0))) fun _ =>
        bnd (getR 2 8 p1) fun v18 =>
        bnd (gd 0 p0 (f_X0_condition n p0)) fun v19 =>
        bnd (gd 17 v18 (nt (P_add v18 v19))) fun v20 =>
        j522 (),
        bnd (gd 0 p0 (nt (f_X0_next n p0))) fun _ =>
        bnd (getR 2 9 p1) fun v21 =>
        bnd (gd 0 p0 (f_X0_condition n p0)) fun v22 =>
        bnd (gd 17 v21 (nt (P_add v21 v22))) fun v23 =>
        j522 (),
        bnd (gd 0 p0 (nt (f_X0_next n p0))) fun _ =>
        bnd (gd 0 p0 (f_X0_kind n p0)) fun v24 =>
        bnd (gd 0 p0 (f_X0_kind n p0)) fun v25 =>
        bnd (getR 2 10 p1) fun v26 =>
        bnd (newO 15 4) fun v27 =>
        bnd (getI 2 6 p1) fun v28 =>
        bnd (gd 0 p0 (f_X0_any n p0)) fun v29 =>
        bnd (gd 15 v27 (nt (f_X15_init v27 v28 v24 v25 v29))) fun _ =>
        bnd (gd 17 v26 (nt (P_add v26 v27))) fun v30 =>
        j522 ()] (
        bnd (newO 11 7) fun v31 =>
        bnd (getI 0 11 p0) fun v32 =>
        bnd (gd 11 v31 (nt (f_X11_init v31 v32))) fun _ =>
        nn v31 (thr v31))) fun j256 =>
    if v3 = (-976949631) then
      bnd (gst 11) fun v33 =>
      bnd (gs v2 (nt (P_equals v2 v33))) fun v34 =>
      if v34 = 0 then
        j256 (-1)
      else
        j256 0
    else
      if v3 = (-892483503) then
        bnd (gst 14) fun v35 =>
        bnd (gs v2 (nt (P_equals v2 v35))) fun v36 =>
        if v36 = 0 then
          j256 (-1)
        else
          j256 3
      else
        if v3 = 3526482 then
          bnd (gst 18) fun v37 =>
          bnd (gs v2 (nt (P_equals v2 v37))) fun v38 =>
          if v38 = 0 then
            j256 (-1)
          else
            j256 7
        else
          if v3 = 93014996 then
            bnd (gst 19) fun v39 =>
            bnd (gs v2 (nt (P_equals v2 v39))) fun v40 =>
            if v40 = 0 then
              j256 (-1)
            else
              j256 8
          else
            if v3 = 94415933 then
              bnd (gst 15) fun v41 =>
              bnd (gs v2 (nt (P_equals v2 v41))) fun v42 =>
              if v42 = 0 then
                j256 (-1)
              else
                j256 4
            else
              if v3 = 97440432 then
                bnd (gst 16) fun v43 =>
                bnd (gs v2 (nt (P_equals v2 v43))) fun v44 =>
                if v44 = 0 then
                  j256 (-1)
                else
                  j256 5
              else
                if v3 = 98619139 then
                  bnd (gst 17) fun v45 =>
                  bnd (gs v2 (nt (P_equals v2 v45))) fun v46 =>
                  if v46 = 0 then
                    j256 (-1)
                  else
                    j256 6
                else
                  if v3 = 102846057 then
                    bnd (gst 13) fun v47 =>
                    bnd (gs v2 (nt (P_equals v2 v47))) fun v48 =>
                    if v48 = 0 then
                      j256 (-1)
                    else
                      j256 2
                  else
                    if v3 = 109770985 then
                      bnd (gst 12) fun v49 =>
                      bnd (gs v2 (nt (P_equals v2 v49))) fun v50 =>
                      if v50 = 0 then
                        j256 (-1)
                      else
                        j256 1
                    else
                      j256 (-1)) fun j18 =>
  if ¬ v1 = 119 then
    bnd (gst 10) fun v51 =>
    j18 v51
  else
    bnd (getR 0 15 p0) fun v52 =>
    j18 v52
set_option maxHeartbeats 4000000 in
theorem ct_X0_statement (l : Launch) (n : Nat) (p0 : Nat) (p1 : Nat) : Ct l Pic yX0_statement (ws_ yX0_statement cX0_statement 7 none) 442 10481 cvU [rv p0, rv p1] (f_X0_statement n p0 p1) := by
  refine Ct.of (own := RX0) (L := [(0, rv p0), (1, rv p1)]) (plainFor_of_name (by decide)) rfl (by first | decide | simp [lg_sl, rv_cat, cat_i, cat_l]) (by first | rfl | simp [lv_args, rv_cat, cat_i, cat_l]) pcZ (fun X hXl hX hnh hin => ?_)
  subst hXl
  unfold f_X0_statement
  refine s_aload_n hX dX0_statement_0 rfl 0 rfl ?_
  refine s_getI (ci := 0) (j := 14) (ref := "WindGas") hX (pcG 0) in_X0 (Or.inl q280) (by decide) (by decide) (by decide) rfl dX0_statement_1 (fun _ h9 => h9) (fun v1 => ?_)
  refine s_bipush (v := 119) hX dX0_statement_4 (by decide) ?_
  refine s_jn (P := fun j => ∀ (v2 : Nat), Sim X cvU 18 [(0, rv p0), (1, rv p1)] [rv v2] (j v2)) ?_ (fun j18 hj18 => ?_)
  · intro v2
    refine s_astore_n (i := 2) (L2 := [(2, rv v2), (0, rv p0), (1, rv p1)]) hX dX0_statement_18 rfl (by decide) (by first | (simp [rv_cat, cat_i, cat_l]; done) | (simp [rv_cat, cat_i, cat_l]; decide)) ?_
    refine s_aload_n hX dX0_statement_19 rfl 0 rfl ?_
    refine s_astore_n (i := 3) (L2 := [(3, rv v2), (2, rv v2), (0, rv p0), (1, rv p1)]) hX dX0_statement_20 rfl (by decide) (by first | (simp [rv_cat, cat_i, cat_l]; done) | (simp [rv_cat, cat_i, cat_l]; decide)) ?_
    refine s_iconst (v := -1) hX dX0_statement_21 (by decide) ?_
    refine s_istore (i := 4) (L2 := [(4, .int (-1)), (3, rv v2), (2, rv v2), (0, rv p0), (1, rv p1)]) hX dX0_statement_22 (by decide) (by first | (simp [rv_cat, cat_i, cat_l]; done) | (simp [rv_cat, cat_i, cat_l]; decide)) ?_
    refine s_aload_n hX dX0_statement_24 rfl 1 rfl ?_
    refine s_callVS (cw := cvI) (n := 0) (As := []) (st := []) hX (pcK 20) (pcK 40) (pt_hash X.l v2) q831 q832 q833 q107 q834 yvJ11_hashCode (by decide) rfl (by first | decide | simp [rv_cat, cat_i, cat_l]) dX0_statement_25 (fun v3 => ?_)
    refine s_jn (P := fun j => ∀ (v4 : Int32), Sim X cvU 256 [(0, rv p0), (1, rv p1), (4, .int v4)] [] (j v4)) ?_ (fun j256 hj256 => ?_)
    · intro v4
      refine s_iload hX dX0_statement_256 2 rfl ?_
      refine s_jn (P := fun j => ∀ (u : Unit), Sim X cvU 522 [(0, rv p0), (1, rv p1)] [] (j u)) ?_ (fun j522 hj522 => ?_)
      · intro u
        refine s_aload_n hX dX0_statement_522 rfl 0 rfl ?_
        refine s_aload_n hX dX0_statement_523 rfl 0 rfl ?_
        refine s_getI (ci := 0) (j := 14) (ref := "WindGas") hX (pcG 0) in_X0 (Or.inl q280) (by decide) (by decide) (by decide) rfl dX0_statement_524 (fun _ h9 => h9) (fun v5 => ?_)
        refine s_bipush (v := 59) hX dX0_statement_527 (by decide) ?_
        refine s_jn (P := fun j => ∀ (v6 : Int32), Sim X cvU 537 [(1, rv p1)] [.int v6, rv p0] (j v6)) ?_ (fun j537 hj537 => ?_)
        · intro v6
          refine s_callVT_U (ci := 0) (n := 1) (As := [.int v6]) (st := []) hX hnh (pcK 1) (by decide) (ct_X0_must X.l n p0 v6) q910 q912 qs13 q84 q913 yvX0_must (by decide) rfl (by first | decide | simp [rv_cat, cat_i, cat_l]) dX0_statement_537 (fun _ => ?_)
          refine s_aload_n hX dX0_statement_540 rfl 0 rfl ?_
          refine s_dup hX dX0_statement_541 (rv_cat _) ?_
          refine s_getI (ci := 2) (j := 6) (ref := "WindGas$Rules") hX (pcG 2) in_X2 (Or.inr ⟨_, q193⟩) (by decide) (by decide) (by decide) rfl dX0_statement_542 (fun _ h9 => h9) (fun v7 => ?_)
          refine s_iconst (v := 1) hX dX0_statement_545 rfl ?_
          refine s_iadd hX dX0_statement_546 ?_
          refine s_putI (ci := 2) (j := 6) (ref := "WindGas$Rules") hX (pcG 2) (pcP 2) in_X2 tyX2_ok nmX2 (Or.inr ⟨_, q193⟩) (by decide) (by decide) (by decide) rfl rfl rfl dX0_statement_547 (fun _ h9 => h9) ?_
          exact s_vret hX dX0_statement_550
        · refine s_icmp_ne (tgt := 536) hX dX0_statement_529 (by decide) ?_ ?_
          · refine s_iconst (v := 0) hX dX0_statement_536 rfl ?_
            exact s_sub [1] rfl (hj537 0)
          · refine s_iconst (v := 1) hX dX0_statement_532 rfl ?_
            refine s_goto (tgt := 537) hX dX0_statement_533 (by decide) ?_
            exact s_sub [1] rfl (hj537 1)
      · refine s_sw hX dX0_statement_258 (dt := 510) (by decide) (tgts := [308, 323, 338, 356, 371, 386, 426, 445, 464]) (by decide) (by decide) ?_ ?_
        · refine s_new (ci := 11) hX (pcN 11) in_X11 tyX11_ok (by decide) (by decide) q568 q760 q113 dX0_statement_510 (fun v31 => ?_)
          refine s_dup hX dX0_statement_513 (rv_cat _) ?_
          refine s_aload_n hX dX0_statement_514 rfl 0 rfl ?_
          refine s_getI (ci := 0) (j := 11) (ref := "WindGas") hX (pcG 0) in_X0 (Or.inl q277) (by decide) (by decide) (by decide) rfl dX0_statement_515 (fun _ h9 => h9) (fun v32 => ?_)
          refine s_callI_U (ci := 11) (n := 1) (As := [.int v32]) (st := [rv v31]) hX (pcK 12) (by decide) (ct_X11_init X.l v31 v32) q798 q799 q113 q800 rfl ycX11_init (by decide) rfl (by first | decide | simp [rv_cat, cat_i, cat_l]) dX0_statement_518 (fun _ => ?_)
          exact s_athrow hX hnh dX0_statement_521
        · refine ⟨?_, ?_, ?_, ?_, ?_, ?_, ?_, ?_, ?_, trivial⟩
          · refine s_aload_n hX dX0_statement_308 rfl 0 rfl ?_
            refine s_callV_U (ci := 0) (n := 0) (As := []) (st := []) hX (pcK 1) (by decide) (ct_X0_next X.l n p0) q569 q571 qs7 q84 q572 yvX0_next (by decide) rfl (by first | decide | simp [rv_cat, cat_i, cat_l]) dX0_statement_309 (fun _ => ?_)
            refine s_aload_n hX dX0_statement_312 rfl 1 rfl ?_
            refine s_aload_n hX dX0_statement_313 rfl 0 rfl ?_
            refine s_callVT_I (ci := 0) (n := 0) (As := []) (st := [rv p1]) hX hnh (pcK 1) (by decide) (ct_X0_any X.l n p0) q901 q903 qs11 q84 q904 yvX0_any (by decide) rfl (by first | decide | simp [rv_cat, cat_i, cat_l]) dX0_statement_314 (fun v8 => ?_)
            refine s_putI (ci := 2) (j := 1) (ref := "WindGas$Rules") hX (pcG 2) (pcP 2) in_X2 tyX2_ok nmX2 (Or.inr ⟨_, q183⟩) (by decide) (by decide) (by decide) rfl rfl rfl dX0_statement_317 (fun _ h9 => h9) ?_
            refine s_goto (tgt := 522) hX dX0_statement_320 (by decide) ?_
            exact s_sub [0, 1] rfl (hj522 ())
          · refine s_aload_n hX dX0_statement_323 rfl 0 rfl ?_
            refine s_callV_U (ci := 0) (n := 0) (As := []) (st := []) hX (pcK 1) (by decide) (ct_X0_next X.l n p0) q569 q571 qs7 q84 q572 yvX0_next (by decide) rfl (by first | decide | simp [rv_cat, cat_i, cat_l]) dX0_statement_324 (fun _ => ?_)
            refine s_aload_n hX dX0_statement_327 rfl 1 rfl ?_
            refine s_aload_n hX dX0_statement_328 rfl 0 rfl ?_
            refine s_callVT_I (ci := 0) (n := 0) (As := []) (st := [rv p1]) hX hnh (pcK 1) (by decide) (ct_X0_any X.l n p0) q901 q903 qs11 q84 q904 yvX0_any (by decide) rfl (by first | decide | simp [rv_cat, cat_i, cat_l]) dX0_statement_329 (fun v9 => ?_)
            refine s_putI (ci := 2) (j := 2) (ref := "WindGas$Rules") hX (pcG 2) (pcP 2) in_X2 tyX2_ok nmX2 (Or.inr ⟨_, q185⟩) (by decide) (by decide) (by decide) rfl rfl rfl dX0_statement_332 (fun _ h9 => h9) ?_
            refine s_goto (tgt := 522) hX dX0_statement_335 (by decide) ?_
            exact s_sub [0, 1] rfl (hj522 ())
          · refine s_aload_n hX dX0_statement_338 rfl 0 rfl ?_
            refine s_callV_U (ci := 0) (n := 0) (As := []) (st := []) hX (pcK 1) (by decide) (ct_X0_next X.l n p0) q569 q571 qs7 q84 q572 yvX0_next (by decide) rfl (by first | decide | simp [rv_cat, cat_i, cat_l]) dX0_statement_339 (fun _ => ?_)
            refine s_aload_n hX dX0_statement_342 rfl 1 rfl ?_
            refine s_aload_n hX dX0_statement_343 rfl 0 rfl ?_
            refine s_iconst (v := 1) hX dX0_statement_344 rfl ?_
            refine s_bipush (v := 100) hX dX0_statement_345 (by decide) ?_
            refine s_callVT_I (ci := 0) (n := 2) (As := [.int 1, .int 100]) (st := [rv p1]) hX hnh (pcK 1) (by decide) (ct_X0_number X.l n p0 (1 : Int32) (100 : Int32)) q906 q908 qs12 q84 q909 yvX0_number (by decide) rfl (by first | decide | simp [rv_cat, cat_i, cat_l]) dX0_statement_347 (fun v10 => ?_)
            refine s_putI (ci := 2) (j := 3) (ref := "WindGas$Rules") hX (pcG 2) (pcP 2) in_X2 tyX2_ok nmX2 (Or.inr ⟨_, q188⟩) (by decide) (by decide) (by decide) rfl rfl rfl dX0_statement_350 (fun _ h9 => h9) ?_
            refine s_goto (tgt := 522) hX dX0_statement_353 (by decide) ?_
            exact s_sub [0, 1] rfl (hj522 ())
          · refine s_aload_n hX dX0_statement_356 rfl 0 rfl ?_
            refine s_callV_U (ci := 0) (n := 0) (As := []) (st := []) hX (pcK 1) (by decide) (ct_X0_next X.l n p0) q569 q571 qs7 q84 q572 yvX0_next (by decide) rfl (by first | decide | simp [rv_cat, cat_i, cat_l]) dX0_statement_357 (fun _ => ?_)
            refine s_aload_n hX dX0_statement_360 rfl 1 rfl ?_
            refine s_aload_n hX dX0_statement_361 rfl 0 rfl ?_
            refine s_callVT_I (ci := 0) (n := 0) (As := []) (st := [rv p1]) hX hnh (pcK 1) (by decide) (ct_X0_any X.l n p0) q901 q903 qs11 q84 q904 yvX0_any (by decide) rfl (by first | decide | simp [rv_cat, cat_i, cat_l]) dX0_statement_362 (fun v11 => ?_)
            refine s_putI (ci := 2) (j := 4) (ref := "WindGas$Rules") hX (pcG 2) (pcP 2) in_X2 tyX2_ok nmX2 (Or.inr ⟨_, q190⟩) (by decide) (by decide) (by decide) rfl rfl rfl dX0_statement_365 (fun _ h9 => h9) ?_
            refine s_goto (tgt := 522) hX dX0_statement_368 (by decide) ?_
            exact s_sub [0, 1] rfl (hj522 ())
          · refine s_aload_n hX dX0_statement_371 rfl 0 rfl ?_
            refine s_callV_U (ci := 0) (n := 0) (As := []) (st := []) hX (pcK 1) (by decide) (ct_X0_next X.l n p0) q569 q571 qs7 q84 q572 yvX0_next (by decide) rfl (by first | decide | simp [rv_cat, cat_i, cat_l]) dX0_statement_372 (fun _ => ?_)
            refine s_aload_n hX dX0_statement_375 rfl 1 rfl ?_
            refine s_aload_n hX dX0_statement_376 rfl 0 rfl ?_
            refine s_callVT_I (ci := 0) (n := 0) (As := []) (st := [rv p1]) hX hnh (pcK 1) (by decide) (ct_X0_any X.l n p0) q901 q903 qs11 q84 q904 yvX0_any (by decide) rfl (by first | decide | simp [rv_cat, cat_i, cat_l]) dX0_statement_377 (fun v12 => ?_)
            refine s_putI (ci := 2) (j := 5) (ref := "WindGas$Rules") hX (pcG 2) (pcP 2) in_X2 tyX2_ok nmX2 (Or.inr ⟨_, q192⟩) (by decide) (by decide) (by decide) rfl rfl rfl dX0_statement_380 (fun _ h9 => h9) ?_
            refine s_goto (tgt := 522) hX dX0_statement_383 (by decide) ?_
            exact s_sub [0, 1] rfl (hj522 ())
          · refine s_aload_n hX dX0_statement_386 rfl 0 rfl ?_
            refine s_callV_U (ci := 0) (n := 0) (As := []) (st := []) hX (pcK 1) (by decide) (ct_X0_next X.l n p0) q569 q571 qs7 q84 q572 yvX0_next (by decide) rfl (by first | decide | simp [rv_cat, cat_i, cat_l]) dX0_statement_387 (fun _ => ?_)
            refine s_aload_n hX dX0_statement_390 rfl 1 rfl ?_
            refine s_aload_n hX dX0_statement_391 rfl 0 rfl ?_
            refine s_iconst (v := 2) hX dX0_statement_392 rfl ?_
            refine s_anew (q := 5) hX (by decide) (by decide) (fun _ => rfl) (pcM 5) q914 q915 dX0_statement_393 (fun v13 => ?_)
            refine s_dup hX dX0_statement_396 (rv_cat _) ?_
            refine s_iconst (v := 0) hX dX0_statement_397 rfl ?_
            refine s_ldcSw (i := 10) (tx := "fresh") hX (pcS) rfl dX0_statement_398 (fun v14 => ?_)
            refine s_aast (q := 5) (ks := [40]) hX (by decide) (by decide) (fun _ => rfl) elS1p (pcA 5) (pcB 5) dX0_statement_401 ?_
            refine s_dup hX dX0_statement_402 (rv_cat _) ?_
            refine s_iconst (v := 1) hX dX0_statement_403 rfl ?_
            refine s_ldcSw (i := 11) (tx := "worn") hX (pcS) rfl dX0_statement_404 (fun v15 => ?_)
            refine s_aast (q := 5) (ks := [40]) hX (by decide) (by decide) (fun _ => rfl) elS1p (pcA 5) (pcB 5) dX0_statement_407 ?_
            refine s_callVT_I (ci := 0) (n := 1) (As := [rv v13]) (st := [rv p1]) hX hnh (pcK 1) (by decide) (ct_X0_oneOf X.l n p0 v13) q918 q920 qs14 q84 q921 yvX0_oneOf (by decide) rfl (by first | decide | simp [rv_cat, cat_i, cat_l]) dX0_statement_408 (fun v16 => ?_)
            refine s_iconst (v := 1) hX dX0_statement_411 rfl ?_
            refine s_jn (P := fun j => ∀ (v17 : Int32), Sim X cvU 420 [(0, rv p0), (1, rv p1)] [.int v17, rv p1] (j v17)) ?_ (fun j420 hj420 => ?_)
            · intro v17
              refine s_putS (ci := 2) (j := 7) (ref := "WindGas$Rules") hX (pcG 2) (pcP 2) in_X2 tyX2_ok nmX2 (Or.inr ⟨_, q194⟩) (by decide) (by decide) (by decide) rfl rfl rfl dX0_statement_420 (fun _ h9 => h9) ?_
              refine s_goto (tgt := 522) hX dX0_statement_423 (by decide) ?_
              exact hj522 ()
            · refine s_icmp_ne (tgt := 419) hX dX0_statement_412 (by decide) ?_ ?_
              · refine s_iconst (v := 0) hX dX0_statement_419 rfl ?_
                exact s_sub [0, 1] rfl (hj420 0)
              · refine s_iconst (v := 1) hX dX0_statement_415 rfl ?_
                refine s_goto (tgt := 420) hX dX0_statement_416 (by decide) ?_
                exact s_sub [0, 1] rfl (hj420 1)
          · refine s_aload_n hX dX0_statement_426 rfl 0 rfl ?_
            refine s_callV_U (ci := 0) (n := 0) (As := []) (st := []) hX (pcK 1) (by decide) (ct_X0_next X.l n p0) q569 q571 qs7 q84 q572 yvX0_next (by decide) rfl (by first | decide | simp [rv_cat, cat_i, cat_l]) dX0_statement_427 (fun _ => ?_)
            refine s_aload_n hX dX0_statement_430 rfl 1 rfl ?_
            refine s_getR (ci := 2) (j := 8) (ref := "WindGas$Rules") hX (pcG 2) in_X2 (Or.inr ⟨_, q196⟩) (by decide) (by decide) (by decide) rfl dX0_statement_431 (fun _ h9 => h9) (fun v18 => ?_)
            refine s_aload_n hX dX0_statement_434 rfl 0 rfl ?_
            refine s_callVT_R (ci := 0) (n := 0) (As := []) (st := [rv v18]) hX hnh (pcK 1) (by decide) (ct_X0_condition X.l n p0) q926 q928 qs16 q84 q929 yvX0_condition (by decide) rfl (by first | decide | simp [rv_cat, cat_i, cat_l]) dX0_statement_435 (fun v19 => ?_)
            refine s_callV_I (ci := 17) (n := 1) (As := [rv v19]) (st := []) hX (pcK 18) (by decide) (pt_add X.l v18 v19) q1000 q440 q441 q88 q442 yvJ2_add (by decide) rfl (by first | decide | simp [rv_cat, cat_i, cat_l]) dX0_statement_438 (fun v20 => ?_)
            refine s_pop hX dX0_statement_441 rfl ?_
            refine s_goto (tgt := 522) hX dX0_statement_442 (by decide) ?_
            exact s_sub [0, 1] rfl (hj522 ())
          · refine s_aload_n hX dX0_statement_445 rfl 0 rfl ?_
            refine s_callV_U (ci := 0) (n := 0) (As := []) (st := []) hX (pcK 1) (by decide) (ct_X0_next X.l n p0) q569 q571 qs7 q84 q572 yvX0_next (by decide) rfl (by first | decide | simp [rv_cat, cat_i, cat_l]) dX0_statement_446 (fun _ => ?_)
            refine s_aload_n hX dX0_statement_449 rfl 1 rfl ?_
            refine s_getR (ci := 2) (j := 9) (ref := "WindGas$Rules") hX (pcG 2) in_X2 (Or.inr ⟨_, q198⟩) (by decide) (by decide) (by decide) rfl dX0_statement_450 (fun _ h9 => h9) (fun v21 => ?_)
            refine s_aload_n hX dX0_statement_453 rfl 0 rfl ?_
            refine s_callVT_R (ci := 0) (n := 0) (As := []) (st := [rv v21]) hX hnh (pcK 1) (by decide) (ct_X0_condition X.l n p0) q926 q928 qs16 q84 q929 yvX0_condition (by decide) rfl (by first | decide | simp [rv_cat, cat_i, cat_l]) dX0_statement_454 (fun v22 => ?_)
            refine s_callV_I (ci := 17) (n := 1) (As := [rv v22]) (st := []) hX (pcK 18) (by decide) (pt_add X.l v21 v22) q1000 q440 q441 q88 q442 yvJ2_add (by decide) rfl (by first | decide | simp [rv_cat, cat_i, cat_l]) dX0_statement_457 (fun v23 => ?_)
            refine s_pop hX dX0_statement_460 rfl ?_
            refine s_goto (tgt := 522) hX dX0_statement_461 (by decide) ?_
            exact s_sub [0, 1] rfl (hj522 ())
          · refine s_aload_n hX dX0_statement_464 rfl 0 rfl ?_
            refine s_callV_U (ci := 0) (n := 0) (As := []) (st := []) hX (pcK 1) (by decide) (ct_X0_next X.l n p0) q569 q571 qs7 q84 q572 yvX0_next (by decide) rfl (by first | decide | simp [rv_cat, cat_i, cat_l]) dX0_statement_465 (fun _ => ?_)
            refine s_aload_n hX dX0_statement_468 rfl 0 rfl ?_
            refine s_callVT_I (ci := 0) (n := 0) (As := []) (st := []) hX hnh (pcK 1) (by decide) (ct_X0_kind X.l n p0) q1002 q1004 qs21 q84 q1005 yvX0_kind (by decide) rfl (by first | decide | simp [rv_cat, cat_i, cat_l]) dX0_statement_469 (fun v24 => ?_)
            refine s_istore (i := 5) (L2 := [(5, .int v24), (0, rv p0), (1, rv p1), (4, .int v4)]) hX dX0_statement_472 (by decide) rfl ?_
            refine s_aload_n hX dX0_statement_474 rfl 1 rfl ?_
            refine s_callVT_I (ci := 0) (n := 0) (As := []) (st := []) hX hnh (pcK 1) (by decide) (ct_X0_kind X.l n p0) q1002 q1004 qs21 q84 q1005 yvX0_kind (by decide) rfl (by first | decide | simp [rv_cat, cat_i, cat_l]) dX0_statement_475 (fun v25 => ?_)
            refine s_istore (i := 6) (L2 := [(6, .int v25), (5, .int v24), (0, rv p0), (1, rv p1), (4, .int v4)]) hX dX0_statement_478 (by decide) rfl ?_
            refine s_aload_n hX dX0_statement_480 rfl 3 rfl ?_
            refine s_getR (ci := 2) (j := 10) (ref := "WindGas$Rules") hX (pcG 2) in_X2 (Or.inr ⟨_, q200⟩) (by decide) (by decide) (by decide) rfl dX0_statement_481 (fun _ h9 => h9) (fun v26 => ?_)
            refine s_new (ci := 15) hX (pcN 15) in_X15 tyX15_ok (by decide) (by decide) q1011 q1012 q117 dX0_statement_484 (fun v27 => ?_)
            refine s_dup hX dX0_statement_487 (rv_cat _) ?_
            refine s_aload_n hX dX0_statement_488 rfl 3 rfl ?_
            refine s_getI (ci := 2) (j := 6) (ref := "WindGas$Rules") hX (pcG 2) in_X2 (Or.inr ⟨_, q193⟩) (by decide) (by decide) (by decide) rfl dX0_statement_489 (fun _ h9 => h9) (fun v28 => ?_)
            refine s_iload hX dX0_statement_492 1 rfl ?_
            refine s_iload hX dX0_statement_494 0 rfl ?_
            refine s_aload_n hX dX0_statement_496 rfl 2 rfl ?_
            refine s_callVT_I (ci := 0) (n := 0) (As := []) (st := [.int v25, .int v24, .int v28, rv v27, rv v27, rv v26]) hX hnh (pcK 1) (by decide) (ct_X0_any X.l n p0) q901 q903 qs11 q84 q904 yvX0_any (by decide) rfl (by first | decide | simp [rv_cat, cat_i, cat_l]) dX0_statement_497 (fun v29 => ?_)
            refine s_callIN_U (ci := 15) (n := 4) (As := [.int v28, .int v24, .int v25, .int v29]) (st := [rv v27, rv v26]) hX (pcK 16) (by decide) (ct_X15_init X.l v27 v28 v24 v25 v29) q1013 q1014 q117 q1015 rfl ycX15_init (by decide) rfl (by first | decide | simp [rv_cat, cat_i, cat_l]) dX0_statement_500 (fun _ => ?_)
            refine s_callV_I (ci := 17) (n := 1) (As := [rv v27]) (st := []) hX (pcK 18) (by decide) (pt_add X.l v26 v27) q1000 q440 q441 q88 q442 yvJ2_add (by decide) rfl (by first | decide | simp [rv_cat, cat_i, cat_l]) dX0_statement_503 (fun v30 => ?_)
            refine s_pop hX dX0_statement_506 rfl ?_
            refine s_goto (tgt := 522) hX dX0_statement_507 (by decide) ?_
            exact s_sub [2, 3] rfl (hj522 ())
    · refine s_ite (fun hc0 => ?_) (fun hc0 => ?_)
      · refine s_lsw (k := (-976949631)) (off := 84) (tgt := 112) hX dX0_statement_28 (by decide) hc0 (by decide) (by decide) ?_
        refine s_aload_n hX dX0_statement_112 rfl 1 rfl ?_
        refine s_ldcSw (i := 1) (tx := "purity") hX (pcS) rfl dX0_statement_113 (fun v33 => ?_)
        refine s_callVS (cw := cvI) (n := 1) (As := [rv v33]) (st := []) hX (pcK 20) (pcK 40) (pt_equals X.l v2 v33) q885 q886 q887 q107 q888 yvJ11_equals (by decide) rfl (by first | decide | simp [rv_cat, cat_i, cat_l]) dX0_statement_116 (fun v34 => ?_)
        refine s_if_eq (tgt := 256) hX dX0_statement_119 (by decide) ?_ ?_
        · exact s_sub [3, 4, 0] rfl (hj256 (-1))
        · refine s_iconst (v := 0) hX dX0_statement_122 rfl ?_
          refine s_istore (i := 4) (L2 := [(4, .int 0), (3, rv v2), (2, rv v2), (0, rv p0), (1, rv p1)]) hX dX0_statement_123 (by decide) (by first | (simp [rv_cat, cat_i, cat_l]; done) | (simp [rv_cat, cat_i, cat_l]; decide)) ?_
          refine s_goto (tgt := 256) hX dX0_statement_125 (by decide) ?_
          exact s_sub [3, 4, 0] rfl (hj256 0)
      · skip
        refine s_ite (fun hc1 => ?_) (fun hc1 => ?_)
        · refine s_lsw (k := (-892483503)) (off := 132) (tgt := 160) hX dX0_statement_28 (by decide) hc1 (by decide) (by decide) ?_
          refine s_aload_n hX dX0_statement_160 rfl 1 rfl ?_
          refine s_ldcSw (i := 4) (tx := "starts") hX (pcS) rfl dX0_statement_161 (fun v35 => ?_)
          refine s_callVS (cw := cvI) (n := 1) (As := [rv v35]) (st := []) hX (pcK 20) (pcK 40) (pt_equals X.l v2 v35) q885 q886 q887 q107 q888 yvJ11_equals (by decide) rfl (by first | decide | simp [rv_cat, cat_i, cat_l]) dX0_statement_164 (fun v36 => ?_)
          refine s_if_eq (tgt := 256) hX dX0_statement_167 (by decide) ?_ ?_
          · exact s_sub [3, 4, 0] rfl (hj256 (-1))
          · refine s_iconst (v := 3) hX dX0_statement_170 rfl ?_
            refine s_istore (i := 4) (L2 := [(4, .int 3), (3, rv v2), (2, rv v2), (0, rv p0), (1, rv p1)]) hX dX0_statement_171 (by decide) (by first | (simp [rv_cat, cat_i, cat_l]; done) | (simp [rv_cat, cat_i, cat_l]; decide)) ?_
            refine s_goto (tgt := 256) hX dX0_statement_173 (by decide) ?_
            exact s_sub [3, 4, 0] rfl (hj256 3)
        · skip
          refine s_ite (fun hc2 => ?_) (fun hc2 => ?_)
          · refine s_lsw (k := 3526482) (off := 197) (tgt := 225) hX dX0_statement_28 (by decide) hc2 (by decide) (by decide) ?_
            refine s_aload_n hX dX0_statement_225 rfl 1 rfl ?_
            refine s_ldcSw (i := 8) (tx := "sell") hX (pcS) rfl dX0_statement_226 (fun v37 => ?_)
            refine s_callVS (cw := cvI) (n := 1) (As := [rv v37]) (st := []) hX (pcK 20) (pcK 40) (pt_equals X.l v2 v37) q885 q886 q887 q107 q888 yvJ11_equals (by decide) rfl (by first | decide | simp [rv_cat, cat_i, cat_l]) dX0_statement_229 (fun v38 => ?_)
            refine s_if_eq (tgt := 256) hX dX0_statement_232 (by decide) ?_ ?_
            · exact s_sub [3, 4, 0] rfl (hj256 (-1))
            · refine s_bipush (v := 7) hX dX0_statement_235 (by decide) ?_
              refine s_istore (i := 4) (L2 := [(4, .int 7), (3, rv v2), (2, rv v2), (0, rv p0), (1, rv p1)]) hX dX0_statement_237 (by decide) (by first | (simp [rv_cat, cat_i, cat_l]; done) | (simp [rv_cat, cat_i, cat_l]; decide)) ?_
              refine s_goto (tgt := 256) hX dX0_statement_239 (by decide) ?_
              exact s_sub [3, 4, 0] rfl (hj256 7)
          · skip
            refine s_ite (fun hc3 => ?_) (fun hc3 => ?_)
            · refine s_lsw (k := 93014996) (off := 214) (tgt := 242) hX dX0_statement_28 (by decide) hc3 (by decide) (by decide) ?_
              refine s_aload_n hX dX0_statement_242 rfl 1 rfl ?_
              refine s_ldcSw (i := 9) (tx := "apart") hX (pcS) rfl dX0_statement_243 (fun v39 => ?_)
              refine s_callVS (cw := cvI) (n := 1) (As := [rv v39]) (st := []) hX (pcK 20) (pcK 40) (pt_equals X.l v2 v39) q885 q886 q887 q107 q888 yvJ11_equals (by decide) rfl (by first | decide | simp [rv_cat, cat_i, cat_l]) dX0_statement_246 (fun v40 => ?_)
              refine s_if_eq (tgt := 256) hX dX0_statement_249 (by decide) ?_ ?_
              · exact s_sub [3, 4, 0] rfl (hj256 (-1))
              · refine s_bipush (v := 8) hX dX0_statement_252 (by decide) ?_
                refine s_istore (i := 4) (L2 := [(4, .int 8), (3, rv v2), (2, rv v2), (0, rv p0), (1, rv p1)]) hX dX0_statement_254 (by decide) (by first | (simp [rv_cat, cat_i, cat_l]; done) | (simp [rv_cat, cat_i, cat_l]; decide)) ?_
                exact s_sub [3, 4, 0] rfl (hj256 8)
            · skip
              refine s_ite (fun hc4 => ?_) (fun hc4 => ?_)
              · refine s_lsw (k := 94415933) (off := 148) (tgt := 176) hX dX0_statement_28 (by decide) hc4 (by decide) (by decide) ?_
                refine s_aload_n hX dX0_statement_176 rfl 1 rfl ?_
                refine s_ldcSw (i := 5) (tx := "cable") hX (pcS) rfl dX0_statement_177 (fun v41 => ?_)
                refine s_callVS (cw := cvI) (n := 1) (As := [rv v41]) (st := []) hX (pcK 20) (pcK 40) (pt_equals X.l v2 v41) q885 q886 q887 q107 q888 yvJ11_equals (by decide) rfl (by first | decide | simp [rv_cat, cat_i, cat_l]) dX0_statement_180 (fun v42 => ?_)
                refine s_if_eq (tgt := 256) hX dX0_statement_183 (by decide) ?_ ?_
                · exact s_sub [3, 4, 0] rfl (hj256 (-1))
                · refine s_iconst (v := 4) hX dX0_statement_186 rfl ?_
                  refine s_istore (i := 4) (L2 := [(4, .int 4), (3, rv v2), (2, rv v2), (0, rv p0), (1, rv p1)]) hX dX0_statement_187 (by decide) (by first | (simp [rv_cat, cat_i, cat_l]; done) | (simp [rv_cat, cat_i, cat_l]; decide)) ?_
                  refine s_goto (tgt := 256) hX dX0_statement_189 (by decide) ?_
                  exact s_sub [3, 4, 0] rfl (hj256 4)
              · skip
                refine s_ite (fun hc5 => ?_) (fun hc5 => ?_)
                · refine s_lsw (k := 97440432) (off := 164) (tgt := 192) hX dX0_statement_28 (by decide) hc5 (by decide) (by decide) ?_
                  refine s_aload_n hX dX0_statement_192 rfl 1 rfl ?_
                  refine s_ldcSw (i := 6) (tx := "first") hX (pcS) rfl dX0_statement_193 (fun v43 => ?_)
                  refine s_callVS (cw := cvI) (n := 1) (As := [rv v43]) (st := []) hX (pcK 20) (pcK 40) (pt_equals X.l v2 v43) q885 q886 q887 q107 q888 yvJ11_equals (by decide) rfl (by first | decide | simp [rv_cat, cat_i, cat_l]) dX0_statement_196 (fun v44 => ?_)
                  refine s_if_eq (tgt := 256) hX dX0_statement_199 (by decide) ?_ ?_
                  · exact s_sub [3, 4, 0] rfl (hj256 (-1))
                  · refine s_iconst (v := 5) hX dX0_statement_202 rfl ?_
                    refine s_istore (i := 4) (L2 := [(4, .int 5), (3, rv v2), (2, rv v2), (0, rv p0), (1, rv p1)]) hX dX0_statement_203 (by decide) (by first | (simp [rv_cat, cat_i, cat_l]; done) | (simp [rv_cat, cat_i, cat_l]; decide)) ?_
                    refine s_goto (tgt := 256) hX dX0_statement_205 (by decide) ?_
                    exact s_sub [3, 4, 0] rfl (hj256 5)
                · skip
                  refine s_ite (fun hc6 => ?_) (fun hc6 => ?_)
                  · refine s_lsw (k := 98619139) (off := 180) (tgt := 208) hX dX0_statement_28 (by decide) hc6 (by decide) (by decide) ?_
                    refine s_aload_n hX dX0_statement_208 rfl 1 rfl ?_
                    refine s_ldcSw (i := 7) (tx := "green") hX (pcS) rfl dX0_statement_209 (fun v45 => ?_)
                    refine s_callVS (cw := cvI) (n := 1) (As := [rv v45]) (st := []) hX (pcK 20) (pcK 40) (pt_equals X.l v2 v45) q885 q886 q887 q107 q888 yvJ11_equals (by decide) rfl (by first | decide | simp [rv_cat, cat_i, cat_l]) dX0_statement_212 (fun v46 => ?_)
                    refine s_if_eq (tgt := 256) hX dX0_statement_215 (by decide) ?_ ?_
                    · exact s_sub [3, 4, 0] rfl (hj256 (-1))
                    · refine s_bipush (v := 6) hX dX0_statement_218 (by decide) ?_
                      refine s_istore (i := 4) (L2 := [(4, .int 6), (3, rv v2), (2, rv v2), (0, rv p0), (1, rv p1)]) hX dX0_statement_220 (by decide) (by first | (simp [rv_cat, cat_i, cat_l]; done) | (simp [rv_cat, cat_i, cat_l]; decide)) ?_
                      refine s_goto (tgt := 256) hX dX0_statement_222 (by decide) ?_
                      exact s_sub [3, 4, 0] rfl (hj256 6)
                  · skip
                    refine s_ite (fun hc7 => ?_) (fun hc7 => ?_)
                    · refine s_lsw (k := 102846057) (off := 116) (tgt := 144) hX dX0_statement_28 (by decide) hc7 (by decide) (by decide) ?_
                      refine s_aload_n hX dX0_statement_144 rfl 1 rfl ?_
                      refine s_ldcSw (i := 3) (tx := "least") hX (pcS) rfl dX0_statement_145 (fun v47 => ?_)
                      refine s_callVS (cw := cvI) (n := 1) (As := [rv v47]) (st := []) hX (pcK 20) (pcK 40) (pt_equals X.l v2 v47) q885 q886 q887 q107 q888 yvJ11_equals (by decide) rfl (by first | decide | simp [rv_cat, cat_i, cat_l]) dX0_statement_148 (fun v48 => ?_)
                      refine s_if_eq (tgt := 256) hX dX0_statement_151 (by decide) ?_ ?_
                      · exact s_sub [3, 4, 0] rfl (hj256 (-1))
                      · refine s_iconst (v := 2) hX dX0_statement_154 rfl ?_
                        refine s_istore (i := 4) (L2 := [(4, .int 2), (3, rv v2), (2, rv v2), (0, rv p0), (1, rv p1)]) hX dX0_statement_155 (by decide) (by first | (simp [rv_cat, cat_i, cat_l]; done) | (simp [rv_cat, cat_i, cat_l]; decide)) ?_
                        refine s_goto (tgt := 256) hX dX0_statement_157 (by decide) ?_
                        exact s_sub [3, 4, 0] rfl (hj256 2)
                    · skip
                      refine s_ite (fun hc8 => ?_) (fun hc8 => ?_)
                      · refine s_lsw (k := 109770985) (off := 100) (tgt := 128) hX dX0_statement_28 (by decide) hc8 (by decide) (by decide) ?_
                        refine s_aload_n hX dX0_statement_128 rfl 1 rfl ?_
                        refine s_ldcSw (i := 2) (tx := "storm") hX (pcS) rfl dX0_statement_129 (fun v49 => ?_)
                        refine s_callVS (cw := cvI) (n := 1) (As := [rv v49]) (st := []) hX (pcK 20) (pcK 40) (pt_equals X.l v2 v49) q885 q886 q887 q107 q888 yvJ11_equals (by decide) rfl (by first | decide | simp [rv_cat, cat_i, cat_l]) dX0_statement_132 (fun v50 => ?_)
                        refine s_if_eq (tgt := 256) hX dX0_statement_135 (by decide) ?_ ?_
                        · exact s_sub [3, 4, 0] rfl (hj256 (-1))
                        · refine s_iconst (v := 1) hX dX0_statement_138 rfl ?_
                          refine s_istore (i := 4) (L2 := [(4, .int 1), (3, rv v2), (2, rv v2), (0, rv p0), (1, rv p1)]) hX dX0_statement_139 (by decide) (by first | (simp [rv_cat, cat_i, cat_l]; done) | (simp [rv_cat, cat_i, cat_l]; decide)) ?_
                          refine s_goto (tgt := 256) hX dX0_statement_141 (by decide) ?_
                          exact s_sub [3, 4, 0] rfl (hj256 1)
                      · skip
                        refine s_lswd (ks := [(-976949631), (-892483503), 3526482, 93014996, 94415933, 97440432, 98619139, 102846057, 109770985]) (tgt := 256) hX dX0_statement_28 (by decide) (by decide) ⟨hc0, hc1, hc2, hc3, hc4, hc5, hc6, hc7, hc8, trivial⟩ (by decide) ?_
                        exact s_sub [3, 4, 0] rfl (hj256 (-1))
  · refine s_icmp_ne (tgt := 16) hX dX0_statement_6 (by decide) ?_ ?_
    · refine s_ldcS (i := 0) (tx := "") hX (pcS) rfl dX0_statement_16 (fun v51 => ?_)
      exact hj18 v51
    · refine s_aload_n hX dX0_statement_9 rfl 0 rfl ?_
      refine s_getR (ci := 0) (j := 15) (ref := "WindGas") hX (pcG 0) in_X0 (Or.inl q281) (by decide) (by decide) (by decide) rfl dX0_statement_10 (fun _ h9 => h9) (fun v52 => ?_)
      refine s_goto (tgt := 18) hX dX0_statement_13 (by decide) ?_
      exact hj18 v52
theorem dX0_fault_0 : decode cX0_fault 0 = .ok (.aload_n 0, 1) := by decide +kernel
theorem dX0_fault_1 : decode cX0_fault 1 = .ok (.getfield 44, 3) := by decide +kernel
theorem dX0_fault_4 : decode cX0_fault 4 = .ok (.ireturn, 1) := by decide +kernel
theorem ycX0_fault : yX0_fault.cls ≠ "java/lang/invoke/MethodHandle" ∧ yX0_fault.cls ≠ "java/lang/invoke/VarHandle" ∧ (parseMethodDescriptor yX0_fault.desc).map (fun d => d.parameters.length) = some 0 := by decide +kernel
theorem yvX0_fault : yX0_fault.cls = RR 0 ∧ yX0_fault.cls ≠ "java/lang/invoke/MethodHandle" ∧ yX0_fault.cls ≠ "java/lang/invoke/VarHandle" ∧ (parseMethodDescriptor yX0_fault.desc).map (fun d => d.parameters.length) = some 0 := ⟨rfl, ycX0_fault⟩
noncomputable def f_X0_fault (p0 : Nat) : Act Int32 :=
  bnd (getI 0 8 p0) fun v1 =>
  pur v1
set_option maxHeartbeats 4000000 in
theorem ct_X0_fault (l : Launch) (p0 : Nat) : Ct l Pic yX0_fault (ws_ yX0_fault cX0_fault 1 (some FieldType.int)) 0 0 cvI [rv p0] (f_X0_fault p0) := by
  refine Ct.of (own := RX0) (L := [(0, rv p0)]) (plainFor_of_name (by decide)) rfl (by first | decide | simp [lg_sl, rv_cat, cat_i, cat_l]) (by first | rfl | simp [lv_args, rv_cat, cat_i, cat_l]) pcZ (fun X hXl hX hnh hin => ?_)
  subst hXl
  unfold f_X0_fault
  refine s_aload_n hX dX0_fault_0 rfl 0 rfl ?_
  refine s_getI (ci := 0) (j := 8) (ref := "WindGas") hX (pcG 0) in_X0 (Or.inl q274) (by decide) (by decide) (by decide) rfl dX0_fault_1 (fun _ h9 => h9) (fun v1 => ?_)
  exact s_iret hX dX0_fault_4
theorem dX0_storeAt_0 : decode cX0_storeAt 0 = .ok (.iload_n 1, 1) := by decide +kernel
theorem dX0_storeAt_1 : decode cX0_storeAt 1 = .ok (.ifCond .ne 10, 3) := by decide +kernel
theorem dX0_storeAt_4 : decode cX0_storeAt 4 = .ok (.aload_n 0, 1) := by decide +kernel
theorem dX0_storeAt_5 : decode cX0_storeAt 5 = .ok (.getfield 57, 3) := by decide +kernel
theorem dX0_storeAt_8 : decode cX0_storeAt 8 = .ok (.goto 16, 3) := by decide +kernel
theorem dX0_storeAt_11 : decode cX0_storeAt 11 = .ok (.iload_n 1, 1) := by decide +kernel
theorem dX0_storeAt_12 : decode cX0_storeAt 12 = .ok (.iconst 1, 1) := by decide +kernel
theorem dX0_storeAt_13 : decode cX0_storeAt 13 = .ok (.if_icmp .ne 10, 3) := by decide +kernel
theorem dX0_storeAt_16 : decode cX0_storeAt 16 = .ok (.aload_n 0, 1) := by decide +kernel
theorem dX0_storeAt_17 : decode cX0_storeAt 17 = .ok (.getfield 61, 3) := by decide +kernel
theorem dX0_storeAt_20 : decode cX0_storeAt 20 = .ok (.goto 4, 3) := by decide +kernel
theorem dX0_storeAt_23 : decode cX0_storeAt 23 = .ok (.aconst_null, 1) := by decide +kernel
theorem dX0_storeAt_24 : decode cX0_storeAt 24 = .ok (.areturn, 1) := by decide +kernel
theorem ycX0_storeAt : yX0_storeAt.cls ≠ "java/lang/invoke/MethodHandle" ∧ yX0_storeAt.cls ≠ "java/lang/invoke/VarHandle" ∧ (parseMethodDescriptor yX0_storeAt.desc).map (fun d => d.parameters.length) = some 1 := by decide +kernel
theorem yvX0_storeAt : yX0_storeAt.cls = RR 0 ∧ yX0_storeAt.cls ≠ "java/lang/invoke/MethodHandle" ∧ yX0_storeAt.cls ≠ "java/lang/invoke/VarHandle" ∧ (parseMethodDescriptor yX0_storeAt.desc).map (fun d => d.parameters.length) = some 1 := ⟨rfl, ycX0_storeAt⟩
noncomputable def f_X0_storeAt (p0 : Nat) (p1 : Int32) : Act Nat :=
  jn (fun (v1 : Nat) =>
    pur v1) fun j24 =>
  if ¬ p1 = 0 then
    if ¬ p1 = 1 then
      j24 0
    else
      bnd (getR 0 17 p0) fun v2 =>
      j24 v2
  else
    bnd (getR 0 16 p0) fun v3 =>
    j24 v3
set_option maxHeartbeats 4000000 in
theorem ct_X0_storeAt (l : Launch) (p0 : Nat) (p1 : Int32) : Ct l Pic yX0_storeAt (ws_ yX0_storeAt cX0_storeAt 2 (some (FieldType.object "WindGas$Store"))) 0 0 cvR [rv p0, .int p1] (f_X0_storeAt p0 p1) := by
  refine Ct.of (own := RX0) (L := [(0, rv p0), (1, .int p1)]) (plainFor_of_name (by decide)) rfl (by first | decide | simp [lg_sl, rv_cat, cat_i, cat_l]) (by first | rfl | simp [lv_args, rv_cat, cat_i, cat_l]) pcZ (fun X hXl hX hnh hin => ?_)
  subst hXl
  unfold f_X0_storeAt
  refine s_iload_n hX dX0_storeAt_0 rfl 1 rfl ?_
  refine s_jn (P := fun j => ∀ (v1 : Nat), Sim X cvR 24 [] [rv v1] (j v1)) ?_ (fun j24 hj24 => ?_)
  · intro v1
    exact s_aret hX (Or.inl ⟨_, rfl⟩) dX0_storeAt_24
  · refine s_if_ne (tgt := 11) hX dX0_storeAt_1 (by decide) ?_ ?_
    · refine s_iload_n hX dX0_storeAt_11 rfl 1 rfl ?_
      refine s_iconst (v := 1) hX dX0_storeAt_12 rfl ?_
      refine s_icmp_ne (tgt := 23) hX dX0_storeAt_13 (by decide) ?_ ?_
      · refine s_null hX dX0_storeAt_23 ?_
        exact s_sub [] rfl (hj24 0)
      · refine s_aload_n hX dX0_storeAt_16 rfl 0 rfl ?_
        refine s_getR (ci := 0) (j := 17) (ref := "WindGas") hX (pcG 0) in_X0 (Or.inl q283) (by decide) (by decide) (by decide) rfl dX0_storeAt_17 (fun _ h9 => h9) (fun v2 => ?_)
        refine s_goto (tgt := 24) hX dX0_storeAt_20 (by decide) ?_
        exact s_sub [] rfl (hj24 v2)
    · refine s_aload_n hX dX0_storeAt_4 rfl 0 rfl ?_
      refine s_getR (ci := 0) (j := 16) (ref := "WindGas") hX (pcG 0) in_X0 (Or.inl q282) (by decide) (by decide) (by decide) rfl dX0_storeAt_5 (fun _ h9 => h9) (fun v3 => ?_)
      refine s_goto (tgt := 24) hX dX0_storeAt_8 (by decide) ?_
      exact s_sub [] rfl (hj24 v3)
theorem dX0_store_0 : decode cX0_store 0 = .ok (.aload_n 0, 1) := by decide +kernel
theorem dX0_store_1 : decode cX0_store 1 = .ok (.iload_n 1, 1) := by decide +kernel
theorem dX0_store_2 : decode cX0_store 2 = .ok (.invokevirtual 361, 3) := by decide +kernel
theorem dX0_store_5 : decode cX0_store 5 = .ok (.astore 5, 2) := by decide +kernel
theorem dX0_store_7 : decode cX0_store 7 = .ok (.aload 5, 2) := by decide +kernel
theorem dX0_store_9 : decode cX0_store 9 = .ok (.ifnull 45, 3) := by decide +kernel
theorem dX0_store_12 : decode cX0_store 12 = .ok (.iload_n 2, 1) := by decide +kernel
theorem dX0_store_13 : decode cX0_store 13 = .ok (.i2l, 1) := by decide +kernel
theorem dX0_store_14 : decode cX0_store 14 = .ok (.aload 5, 2) := by decide +kernel
theorem dX0_store_16 : decode cX0_store 16 = .ok (.getfield 365, 3) := by decide +kernel
theorem dX0_store_19 : decode cX0_store 19 = .ok (.i2l, 1) := by decide +kernel
theorem dX0_store_20 : decode cX0_store 20 = .ok (.ldc2_w 368, 3) := by decide +kernel
theorem dX0_store_23 : decode cX0_store 23 = .ok (.invokestatic 101, 3) := by decide +kernel
theorem dX0_store_26 : decode cX0_store 26 = .ok (.ifCond .eq 28, 3) := by decide +kernel
theorem dX0_store_29 : decode cX0_store 29 = .ok (.iload_n 3, 1) := by decide +kernel
theorem dX0_store_30 : decode cX0_store 30 = .ok (.i2l, 1) := by decide +kernel
theorem dX0_store_31 : decode cX0_store 31 = .ok (.lconst 0, 1) := by decide +kernel
theorem dX0_store_32 : decode cX0_store 32 = .ok (.ldc2_w 370, 3) := by decide +kernel
theorem dX0_store_35 : decode cX0_store 35 = .ok (.invokestatic 101, 3) := by decide +kernel
theorem dX0_store_38 : decode cX0_store 38 = .ok (.ifCond .eq 16, 3) := by decide +kernel
theorem dX0_store_41 : decode cX0_store 41 = .ok (.iload 4, 2) := by decide +kernel
theorem dX0_store_43 : decode cX0_store 43 = .ok (.i2l, 1) := by decide +kernel
theorem dX0_store_44 : decode cX0_store 44 = .ok (.lconst 0, 1) := by decide +kernel
theorem dX0_store_45 : decode cX0_store 45 = .ok (.ldc2_w 368, 3) := by decide +kernel
theorem dX0_store_48 : decode cX0_store 48 = .ok (.invokestatic 101, 3) := by decide +kernel
theorem dX0_store_51 : decode cX0_store 51 = .ok (.ifCond .ne 5, 3) := by decide +kernel
theorem dX0_store_54 : decode cX0_store 54 = .ok (.iconst 0, 1) := by decide +kernel
theorem dX0_store_55 : decode cX0_store 55 = .ok (.ireturn, 1) := by decide +kernel
theorem dX0_store_56 : decode cX0_store 56 = .ok (.aload 5, 2) := by decide +kernel
theorem dX0_store_58 : decode cX0_store 58 = .ok (.iload_n 2, 1) := by decide +kernel
theorem dX0_store_59 : decode cX0_store 59 = .ok (.putfield 372, 3) := by decide +kernel
theorem dX0_store_62 : decode cX0_store 62 = .ok (.aload 5, 2) := by decide +kernel
theorem dX0_store_64 : decode cX0_store 64 = .ok (.iload_n 3, 1) := by decide +kernel
theorem dX0_store_65 : decode cX0_store 65 = .ok (.putfield 375, 3) := by decide +kernel
theorem dX0_store_68 : decode cX0_store 68 = .ok (.aload 5, 2) := by decide +kernel
theorem dX0_store_70 : decode cX0_store 70 = .ok (.iload 4, 2) := by decide +kernel
theorem dX0_store_72 : decode cX0_store 72 = .ok (.putfield 378, 3) := by decide +kernel
theorem dX0_store_75 : decode cX0_store 75 = .ok (.iconst 1, 1) := by decide +kernel
theorem dX0_store_76 : decode cX0_store 76 = .ok (.ireturn, 1) := by decide +kernel
theorem ycX0_store : yX0_store.cls ≠ "java/lang/invoke/MethodHandle" ∧ yX0_store.cls ≠ "java/lang/invoke/VarHandle" ∧ (parseMethodDescriptor yX0_store.desc).map (fun d => d.parameters.length) = some 4 := by decide +kernel
theorem yvX0_store : yX0_store.cls = RR 0 ∧ yX0_store.cls ≠ "java/lang/invoke/MethodHandle" ∧ yX0_store.cls ≠ "java/lang/invoke/VarHandle" ∧ (parseMethodDescriptor yX0_store.desc).map (fun d => d.parameters.length) = some 4 := ⟨rfl, ycX0_store⟩
noncomputable def f_X0_store (p0 : Nat) (p1 : Int32) (p2 : Int32) (p3 : Int32) (p4 : Int32) : Act Int32 :=
  bnd (gd 0 p0 (nt (f_X0_storeAt p0 p1))) fun v1 =>
  jn (fun (_ : Unit) =>
    purS (ty := .boolean) 0) fun j54 =>
  if v1 = 0 then
    j54 ()
  else
    bnd (getI 3 4 v1) fun v2 =>
    bnd (nt (f_X0_isIn p2.toInt64 v2.toInt64 (1000000 : Int64))) fun v3 =>
    if v3 = 0 then
      j54 ()
    else
      bnd (nt (f_X0_isIn p3.toInt64 (0 : Int64) (100 : Int64))) fun v4 =>
      if v4 = 0 then
        j54 ()
      else
        bnd (nt (f_X0_isIn p4.toInt64 (0 : Int64) (1000000 : Int64))) fun v5 =>
        if ¬ v5 = 0 then
          bnd (putI 3 1 v1 p2) fun _ =>
          bnd (putI 3 2 v1 p3) fun _ =>
          bnd (putI 3 3 v1 p4) fun _ =>
          purS (ty := .boolean) 1
        else
          j54 ()
set_option maxHeartbeats 4000000 in
theorem ct_X0_store (l : Launch) (p0 : Nat) (p1 : Int32) (p2 : Int32) (p3 : Int32) (p4 : Int32) : Ct l Pic yX0_store (ws_ yX0_store cX0_store 6 (some FieldType.boolean)) 1 25 cvI [rv p0, .int p1, .int p2, .int p3, .int p4] (f_X0_store p0 p1 p2 p3 p4) := by
  refine Ct.of (own := RX0) (L := [(0, rv p0), (1, .int p1), (2, .int p2), (3, .int p3), (4, .int p4)]) (plainFor_of_name (by decide)) rfl (by first | decide | simp [lg_sl, rv_cat, cat_i, cat_l]) (by first | rfl | simp [lv_args, rv_cat, cat_i, cat_l]) pcZ (fun X hXl hX hnh hin => ?_)
  subst hXl
  unfold f_X0_store
  refine s_aload_n hX dX0_store_0 rfl 0 rfl ?_
  refine s_iload_n hX dX0_store_1 rfl 1 rfl ?_
  refine s_callV_R (ci := 0) (n := 1) (As := [.int p1]) (st := []) hX (pcK 1) (by decide) (ct_X0_storeAt X.l p0 p1) q1038 q1040 qs22 q84 q1041 yvX0_storeAt (by decide) rfl (by first | decide | simp [rv_cat, cat_i, cat_l]) dX0_store_2 (fun v1 => ?_)
  refine s_astore (i := 5) (L2 := [(5, rv v1), (0, rv p0), (1, .int p1), (2, .int p2), (3, .int p3), (4, .int p4)]) hX dX0_store_5 (by decide) rfl ?_
  refine s_aload hX dX0_store_7 0 rfl ?_
  refine s_jn (P := fun j => ∀ (u : Unit), Sim X cvI 54 [] [] (j u)) ?_ (fun j54 hj54 => ?_)
  · intro u
    refine s_iconst (v := 0) hX dX0_store_54 rfl ?_
    exact s_zret hX dX0_store_55
  · refine s_ifnull (tgt := 54) hX dX0_store_9 (by decide) ?_ ?_
    · exact s_sub [] rfl (hj54 ())
    · refine s_iload_n hX dX0_store_12 rfl 3 rfl ?_
      refine s_i2l hX dX0_store_13 ?_
      refine s_aload hX dX0_store_14 0 rfl ?_
      refine s_getI (ci := 3) (j := 4) (ref := "WindGas$Store") hX (pcG 3) in_X3 (Or.inr ⟨_, q240⟩) (by decide) (by decide) (by decide) rfl dX0_store_16 (fun _ h9 => h9) (fun v2 => ?_)
      refine s_i2l hX dX0_store_19 ?_
      refine s_ldc2 (v := 1000000) hX dX0_store_20 q1042 ?_
      refine s_callS_I (n := 3) (As := [.long p2.toInt64, .long v2.toInt64, .long 1000000]) (st := []) hX (ct_X0_isIn X.l p2.toInt64 v2.toInt64 (1000000 : Int64)) q400 q401 q84 q402 ycX0_isIn (by decide) rfl (by first | decide | simp [rv_cat, cat_i, cat_l]) dX0_store_23 (fun v3 => ?_)
      refine s_if_eq (tgt := 54) hX dX0_store_26 (by decide) ?_ ?_
      · exact s_sub [] rfl (hj54 ())
      · refine s_iload_n hX dX0_store_29 rfl 4 rfl ?_
        refine s_i2l hX dX0_store_30 ?_
        refine s_lconst (v := 0) hX dX0_store_31 (by decide) ?_
        refine s_ldc2 (v := 100) hX dX0_store_32 q1043 ?_
        refine s_callS_I (n := 3) (As := [.long p3.toInt64, .long 0, .long 100]) (st := []) hX (ct_X0_isIn X.l p3.toInt64 (0 : Int64) (100 : Int64)) q400 q401 q84 q402 ycX0_isIn (by decide) rfl (by first | decide | simp [rv_cat, cat_i, cat_l]) dX0_store_35 (fun v4 => ?_)
        refine s_if_eq (tgt := 54) hX dX0_store_38 (by decide) ?_ ?_
        · exact s_sub [] rfl (hj54 ())
        · refine s_iload hX dX0_store_41 5 rfl ?_
          refine s_i2l hX dX0_store_43 ?_
          refine s_lconst (v := 0) hX dX0_store_44 (by decide) ?_
          refine s_ldc2 (v := 1000000) hX dX0_store_45 q1042 ?_
          refine s_callS_I (n := 3) (As := [.long p4.toInt64, .long 0, .long 1000000]) (st := []) hX (ct_X0_isIn X.l p4.toInt64 (0 : Int64) (1000000 : Int64)) q400 q401 q84 q402 ycX0_isIn (by decide) rfl (by first | decide | simp [rv_cat, cat_i, cat_l]) dX0_store_48 (fun v5 => ?_)
          refine s_if_ne (tgt := 56) hX dX0_store_51 (by decide) ?_ ?_
          · refine s_aload hX dX0_store_56 0 rfl ?_
            refine s_iload_n hX dX0_store_58 rfl 3 rfl ?_
            refine s_putI (ci := 3) (j := 1) (ref := "WindGas$Store") hX (pcG 3) (pcP 3) in_X3 tyX3_ok nmX3 (Or.inr ⟨_, q235⟩) (by decide) (by decide) (by decide) rfl rfl rfl dX0_store_59 (fun _ h9 => h9) ?_
            refine s_aload hX dX0_store_62 0 rfl ?_
            refine s_iload_n hX dX0_store_64 rfl 4 rfl ?_
            refine s_putI (ci := 3) (j := 2) (ref := "WindGas$Store") hX (pcG 3) (pcP 3) in_X3 tyX3_ok nmX3 (Or.inr ⟨_, q237⟩) (by decide) (by decide) (by decide) rfl rfl rfl dX0_store_65 (fun _ h9 => h9) ?_
            refine s_aload hX dX0_store_68 0 rfl ?_
            refine s_iload hX dX0_store_70 5 rfl ?_
            refine s_putI (ci := 3) (j := 3) (ref := "WindGas$Store") hX (pcG 3) (pcP 3) in_X3 tyX3_ok nmX3 (Or.inr ⟨_, q238⟩) (by decide) (by decide) (by decide) rfl rfl rfl dX0_store_72 (fun _ h9 => h9) ?_
            refine s_iconst (v := 1) hX dX0_store_75 rfl ?_
            exact s_zret hX dX0_store_76
          · exact s_sub [] rfl (hj54 ())
theorem dX3_foul_0 : decode cX3_foul 0 = .ok (.iconst 0, 1) := by decide +kernel
theorem dX3_foul_1 : decode cX3_foul 1 = .ok (.istore_n 1, 1) := by decide +kernel
theorem dX3_foul_2 : decode cX3_foul 2 = .ok (.iconst 0, 1) := by decide +kernel
theorem dX3_foul_3 : decode cX3_foul 3 = .ok (.istore_n 2, 1) := by decide +kernel
theorem dX3_foul_4 : decode cX3_foul 4 = .ok (.iload_n 2, 1) := by decide +kernel
theorem dX3_foul_5 : decode cX3_foul 5 = .ok (.aload_n 0, 1) := by decide +kernel
theorem dX3_foul_6 : decode cX3_foul 6 = .ok (.getfield 10, 3) := by decide +kernel
theorem dX3_foul_9 : decode cX3_foul 9 = .ok (.invokevirtual 16, 3) := by decide +kernel
theorem dX3_foul_12 : decode cX3_foul 12 = .ok (.if_icmp .ge 26, 3) := by decide +kernel
theorem dX3_foul_15 : decode cX3_foul 15 = .ok (.iload_n 1, 1) := by decide +kernel
theorem dX3_foul_16 : decode cX3_foul 16 = .ok (.aload_n 0, 1) := by decide +kernel
theorem dX3_foul_17 : decode cX3_foul 17 = .ok (.getfield 10, 3) := by decide +kernel
theorem dX3_foul_20 : decode cX3_foul 20 = .ok (.iload_n 2, 1) := by decide +kernel
theorem dX3_foul_21 : decode cX3_foul 21 = .ok (.invokevirtual 20, 3) := by decide +kernel
theorem dX3_foul_24 : decode cX3_foul 24 = .ok (.checkcast 24, 3) := by decide +kernel
theorem dX3_foul_27 : decode cX3_foul 27 = .ok (.getfield 26, 3) := by decide +kernel
theorem dX3_foul_30 : decode cX3_foul 30 = .ok (.iadd, 1) := by decide +kernel
theorem dX3_foul_31 : decode cX3_foul 31 = .ok (.istore_n 1, 1) := by decide +kernel
theorem dX3_foul_32 : decode cX3_foul 32 = .ok (.iinc 2 1, 3) := by decide +kernel
theorem dX3_foul_35 : decode cX3_foul 35 = .ok (.goto (-31), 3) := by decide +kernel
theorem dX3_foul_38 : decode cX3_foul 38 = .ok (.iload_n 1, 1) := by decide +kernel
theorem dX3_foul_39 : decode cX3_foul 39 = .ok (.ireturn, 1) := by decide +kernel
theorem ycX3_foul : yX3_foul.cls ≠ "java/lang/invoke/MethodHandle" ∧ yX3_foul.cls ≠ "java/lang/invoke/VarHandle" ∧ (parseMethodDescriptor yX3_foul.desc).map (fun d => d.parameters.length) = some 0 := by decide +kernel
theorem yvX3_foul : yX3_foul.cls = RR 3 ∧ yX3_foul.cls ≠ "java/lang/invoke/MethodHandle" ∧ yX3_foul.cls ≠ "java/lang/invoke/VarHandle" ∧ (parseMethodDescriptor yX3_foul.desc).map (fun d => d.parameters.length) = some 0 := ⟨rfl, ycX3_foul⟩
noncomputable def lp_X3_foul_4 (p0 : Nat) (q : Nat) : Int32 → Int32 → Act Int32 := match q with
  | 0 => fun _ _ => fail
  | q + 1 => fun w1 w2 =>
    bnd (getR 3 0 p0) fun v3 =>
    bnd (gd 17 v3 (nt (P_size v3))) fun v4 =>
    if v4 ≤ w2 then
      pur w1
    else
      bnd (getR 3 0 p0) fun v5 =>
      bnd (gd 17 v5 (nt (P_get v5 w2))) fun v6 =>
      bnd (cst [9] v6) fun _ =>
      bnd (getI 8 2 v6) fun v7 =>
      (lp_X3_foul_4 p0 q) (w1 + v7) (w2 + 1)
noncomputable def f_X3_foul (n : Nat) (p0 : Nat) : Act Int32 :=
  lp_X3_foul_4 p0 n 0 0
set_option maxHeartbeats 4000000 in
theorem s_lp_X3_foul_4 {X : Cx} (hX : Ok X Pic cX3_foul RX3 3 (some FieldType.int) 3 64) (hnh : Noh X) (p0 : Nat) (q : Nat) : ∀ (w1 : Int32) (w2 : Int32), Sim X cvI 4 [(0, rv p0), (1, .int w1), (2, .int w2)] [] (lp_X3_foul_4 p0 q w1 w2) := by
  induction q with
  | zero => intro w1 w2; exact s_fail
  | succ q ih4 =>
    intro w1 w2
    rw [lp_X3_foul_4]
    refine s_iload_n hX dX3_foul_4 rfl 2 rfl ?_
    refine s_aload_n hX dX3_foul_5 rfl 0 rfl ?_
    refine s_getR (ci := 3) (j := 0) (ref := "WindGas$Store") hX (pcG 3) in_X3 (Or.inl q233) (by decide) (by decide) (by decide) rfl dX3_foul_6 (fun _ h9 => h9) (fun v3 => ?_)
    refine s_callV_I (ci := 17) (n := 0) (As := []) (st := [.int w2]) hX (pcK 18) (by decide) (pt_size X.l v3) q1053 q417 q418 q88 q419 yvJ2_size (by decide) rfl (by first | decide | simp [rv_cat, cat_i, cat_l]) dX3_foul_9 (fun v4 => ?_)
    refine s_icmp_ge (tgt := 38) hX dX3_foul_12 (by decide) ?_ ?_
    · refine s_iload_n hX dX3_foul_38 rfl 1 rfl ?_
      exact s_iret hX dX3_foul_39
    · refine s_iload_n hX dX3_foul_15 rfl 1 rfl ?_
      refine s_aload_n hX dX3_foul_16 rfl 0 rfl ?_
      refine s_getR (ci := 3) (j := 0) (ref := "WindGas$Store") hX (pcG 3) in_X3 (Or.inl q233) (by decide) (by decide) (by decide) rfl dX3_foul_17 (fun _ h9 => h9) (fun v5 => ?_)
      refine s_iload_n hX dX3_foul_20 rfl 2 rfl ?_
      refine s_callV_R (ci := 17) (n := 1) (As := [.int w2]) (st := [.int w1]) hX (pcK 18) (by decide) (pt_get X.l v5 w2) q1054 q516 q517 q88 q518 yvJ2_get (by decide) rfl (by first | decide | simp [rv_cat, cat_i, cat_l]) dX3_foul_21 (fun v6 => ?_)
      refine s_cast (ks := [9]) hX (elC 8 (by decide)) q1055 dX3_foul_24 ?_
      refine s_getI (ci := 8) (j := 2) (ref := "WindGas$Lot") hX (pcG 8) in_X8 (Or.inr ⟨_, q1263⟩) (by decide) (by decide) (by decide) rfl dX3_foul_27 (fun _ h9 => h9) (fun v7 => ?_)
      refine s_iadd hX dX3_foul_30 ?_
      refine s_istore_n (i := 1) (L2 := [(1, .int (w1 + v7)), (0, rv p0), (2, .int w2)]) hX dX3_foul_31 rfl (by decide) (by first | (simp [rv_cat, cat_i, cat_l]; done) | (simp [rv_cat, cat_i, cat_l]; decide)) ?_
      refine s_iinc (k := 2) (v := (w2 + 1)) (L2 := [(2, .int (w2 + 1)), (1, .int (w1 + v7)), (0, rv p0)]) hX dX3_foul_32 rfl rfl (by decide) rfl ?_
      refine s_goto (tgt := 4) hX dX3_foul_35 (by decide) ?_
      exact s_sub [2, 1, 0] rfl (ih4 (w1 + v7) (w2 + 1))
set_option maxHeartbeats 4000000 in
theorem ct_X3_foul (l : Launch) (n : Nat) (p0 : Nat) : Ct l Pic yX3_foul (ws_ yX3_foul cX3_foul 3 (some FieldType.int)) 3 64 cvI [rv p0] (f_X3_foul n p0) := by
  refine Ct.of (own := RX3) (L := [(0, rv p0)]) (plainFor_of_name (by decide)) rfl (by first | decide | simp [lg_sl, rv_cat, cat_i, cat_l]) (by first | rfl | simp [lv_args, rv_cat, cat_i, cat_l]) pcZ (fun X hXl hX hnh hin => ?_)
  subst hXl
  unfold f_X3_foul
  refine s_iconst (v := 0) hX dX3_foul_0 rfl ?_
  refine s_istore_n (i := 1) (L2 := [(1, .int 0), (0, rv p0)]) hX dX3_foul_1 rfl (by decide) (by first | (simp [rv_cat, cat_i, cat_l]; done) | (simp [rv_cat, cat_i, cat_l]; decide)) ?_
  refine s_iconst (v := 0) hX dX3_foul_2 rfl ?_
  refine s_istore_n (i := 2) (L2 := [(2, .int 0), (1, .int 0), (0, rv p0)]) hX dX3_foul_3 rfl (by decide) rfl ?_
  exact s_sub [2, 1, 0] rfl (s_lp_X3_foul_4 hX hnh p0 n 0 0)
