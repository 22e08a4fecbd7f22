set_option maxRecDepth 100000
theorem dJ9_length_0 : decode cJ9_length 0 = .ok (.aload_n 0, 1) := by decide +kernel
theorem dJ9_length_1 : decode cJ9_length 1 = .ok (.getfield 79, 3) := by decide +kernel
theorem dJ9_length_4 : decode cJ9_length 4 = .ok (.ireturn, 1) := by decide +kernel
theorem ycJ9_length : yJ9_length.cls ≠ "java/lang/invoke/MethodHandle" ∧ yJ9_length.cls ≠ "java/lang/invoke/VarHandle" ∧ (parseMethodDescriptor yJ9_length.desc).map (fun d => d.parameters.length) = some 0 := by decide +kernel
def f_J9_length (p0 : Nat) : Act Int32 :=
  bnd (getI 18 3 p0) fun v1 =>
  pur v1
set_option maxHeartbeats 4000000 in
theorem ct_J9_length (l : Launch) (p0 : Nat) : Ct l (@Eq Mem) yJ9_length (ws_ yJ9_length cJ9_length 1 (some FieldType.int)) 0 0 cvI [rv p0] (f_J9_length p0) := by
  refine Ct.of (own := RJ9) (L := [(0, rv p0)]) (by decide +kernel) rfl (by first | decide | simp [lg_sl, rv_cat, cat_i, cat_l]) (by first | rfl | simp [lv_args, rv_cat, cat_i, cat_l]) eqZ (fun X hXl hX hnh hin => ?_)
  subst hXl
  unfold f_J9_length
  refine s_aload_n hX dJ9_length_0 rfl 0 rfl ?_
  refine s_getI (ci := 18) (j := 3) (ref := "java/lang/AbstractStringBuilder") hX (eqG 18) in_J10 (Or.inl q601) (by decide) (by decide) (by decide) rfl dJ9_length_1 (fun _ h9 => h9) (fun v1 => ?_)
  exact s_iret hX dJ9_length_4
theorem dJ10_length_0 : decode cJ10_length 0 = .ok (.aload_n 0, 1) := by decide +kernel
theorem dJ10_length_1 : decode cJ10_length 1 = .ok (.invokespecial 343, 3) := by decide +kernel
theorem dJ10_length_4 : decode cJ10_length 4 = .ok (.ireturn, 1) := by decide +kernel
theorem ycJ10_length : yJ10_length.cls ≠ "java/lang/invoke/MethodHandle" ∧ yJ10_length.cls ≠ "java/lang/invoke/VarHandle" ∧ (parseMethodDescriptor yJ10_length.desc).map (fun d => d.parameters.length) = some 0 := by decide +kernel
theorem yvJ10_length : yJ10_length.cls = RR 18 ∧ yJ10_length.cls ≠ "java/lang/invoke/MethodHandle" ∧ yJ10_length.cls ≠ "java/lang/invoke/VarHandle" ∧ (parseMethodDescriptor yJ10_length.desc).map (fun d => d.parameters.length) = some 0 := ⟨rfl, ycJ10_length⟩
def f_J10_length (p0 : Nat) : Act Int32 :=
  bnd (gd 18 p0 (nt (f_J9_length p0))) fun v1 =>
  pur v1
set_option maxHeartbeats 4000000 in
theorem ct_J10_length (l : Launch) (p0 : Nat) : Ct l (@Eq Mem) yJ10_length (ws_ yJ10_length cJ10_length 1 (some FieldType.int)) 1 20 cvI [rv p0] (f_J10_length p0) := by
  refine Ct.of (own := RJ10) (L := [(0, rv p0)]) (by decide +kernel) rfl (by first | decide | simp [lg_sl, rv_cat, cat_i, cat_l]) (by first | rfl | simp [lv_args, rv_cat, cat_i, cat_l]) eqZ (fun X hXl hX hnh hin => ?_)
  subst hXl
  unfold f_J10_length
  refine s_aload_n hX dJ10_length_0 rfl 0 rfl ?_
  refine s_callSU (ci := 18) (n := 0) (As := []) (st := []) hX (eqK 19) (by decide) (ct_J9_length X.l p0) q713 q708 q709 q610 q105 q714 (by decide) ycJ9_length (by decide) rfl (by first | decide | simp [rv_cat, cat_i, cat_l]) dJ10_length_1 (fun v1 => ?_)
  exact s_iret hX dJ10_length_4
theorem dJ6_checkLength_0 : decode cJ6_checkLength 0 = .ok (.iload_n 1, 1) := by decide +kernel
theorem dJ6_checkLength_1 : decode cJ6_checkLength 1 = .ok (.iload_n 0, 1) := by decide +kernel
theorem dJ6_checkLength_2 : decode cJ6_checkLength 2 = .ok (.if_icmp .ge 35, 3) := by decide +kernel
theorem dJ6_checkLength_5 : decode cJ6_checkLength 5 = .ok (.new 43, 3) := by decide +kernel
theorem dJ6_checkLength_8 : decode cJ6_checkLength 8 = .ok (.dup, 1) := by decide +kernel
theorem dJ6_checkLength_9 : decode cJ6_checkLength 9 = .ok (.new 45, 3) := by decide +kernel
theorem dJ6_checkLength_12 : decode cJ6_checkLength 12 = .ok (.dup, 1) := by decide +kernel
theorem dJ6_checkLength_13 : decode cJ6_checkLength 13 = .ok (.invokespecial 47, 3) := by decide +kernel
theorem dJ6_checkLength_16 : decode cJ6_checkLength 16 = .ok (.iload_n 0, 1) := by decide +kernel
theorem dJ6_checkLength_17 : decode cJ6_checkLength 17 = .ok (.invokevirtual 54, 3) := by decide +kernel
theorem dJ6_checkLength_20 : decode cJ6_checkLength 20 = .ok (.ldc_w 337, 3) := by decide +kernel
theorem dJ6_checkLength_23 : decode cJ6_checkLength 23 = .ok (.invokevirtual 50, 3) := by decide +kernel
theorem dJ6_checkLength_26 : decode cJ6_checkLength 26 = .ok (.iload_n 1, 1) := by decide +kernel
theorem dJ6_checkLength_27 : decode cJ6_checkLength 27 = .ok (.invokevirtual 54, 3) := by decide +kernel
theorem dJ6_checkLength_30 : decode cJ6_checkLength 30 = .ok (.invokevirtual 61, 3) := by decide +kernel
theorem dJ6_checkLength_33 : decode cJ6_checkLength 33 = .ok (.invokespecial 65, 3) := by decide +kernel
theorem dJ6_checkLength_36 : decode cJ6_checkLength 36 = .ok (.athrow, 1) := by decide +kernel
theorem dJ6_checkLength_37 : decode cJ6_checkLength 37 = .ok (.return_, 1) := by decide +kernel
theorem ycJ6_checkLength : yJ6_checkLength.cls ≠ "java/lang/invoke/MethodHandle" ∧ yJ6_checkLength.cls ≠ "java/lang/invoke/VarHandle" ∧ (parseMethodDescriptor yJ6_checkLength.desc).map (fun d => d.parameters.length) = some 2 := by decide +kernel
def f_J6_checkLength (p0 : Int32) (p1 : Int32) : Act Unit :=
  if p0 ≤ p1 then
    pur ()
  else
    fail
set_option maxHeartbeats 4000000 in
theorem ct_J6_checkLength (l : Launch) (p0 : Int32) (p1 : Int32) : Ct l (@Eq Mem) yJ6_checkLength (ws_ yJ6_checkLength cJ6_checkLength 2 none) 0 0 cvU [.int p0, .int p1] (f_J6_checkLength p0 p1) := by
  refine Ct.of (own := RJ6) (L := [(0, .int p0), (1, .int p1)]) (by decide +kernel) rfl (by first | decide | simp [lg_sl, rv_cat, cat_i, cat_l]) (by first | rfl | simp [lv_args, rv_cat, cat_i, cat_l]) eqZ (fun X hXl hX hnh hin => ?_)
  subst hXl
  unfold f_J6_checkLength
  refine s_iload_n hX dJ6_checkLength_0 rfl 1 rfl ?_
  refine s_iload_n hX dJ6_checkLength_1 rfl 0 rfl ?_
  refine s_icmp_ge (tgt := 37) hX dJ6_checkLength_2 (by decide) ?_ ?_
  · exact s_vret hX dJ6_checkLength_37
  · exact s_fail
theorem dJ6_copyOfRangeByte_0 : decode cJ6_copyOfRangeByte 0 = .ok (.iload_n 1, 1) := by decide +kernel
theorem dJ6_copyOfRangeByte_1 : decode cJ6_copyOfRangeByte 1 = .ok (.iload_n 2, 1) := by decide +kernel
theorem dJ6_copyOfRangeByte_2 : decode cJ6_copyOfRangeByte 2 = .ok (.invokestatic 343, 3) := by decide +kernel
theorem dJ6_copyOfRangeByte_5 : decode cJ6_copyOfRangeByte 5 = .ok (.iload_n 2, 1) := by decide +kernel
theorem dJ6_copyOfRangeByte_6 : decode cJ6_copyOfRangeByte 6 = .ok (.iload_n 1, 1) := by decide +kernel
theorem dJ6_copyOfRangeByte_7 : decode cJ6_copyOfRangeByte 7 = .ok (.isub, 1) := by decide +kernel
theorem dJ6_copyOfRangeByte_8 : decode cJ6_copyOfRangeByte 8 = .ok (.istore_n 3, 1) := by decide +kernel
theorem dJ6_copyOfRangeByte_9 : decode cJ6_copyOfRangeByte 9 = .ok (.iload_n 3, 1) := by decide +kernel
theorem dJ6_copyOfRangeByte_10 : decode cJ6_copyOfRangeByte 10 = .ok (.newarray .byte, 2) := by decide +kernel
theorem dJ6_copyOfRangeByte_12 : decode cJ6_copyOfRangeByte 12 = .ok (.astore 4, 2) := by decide +kernel
theorem dJ6_copyOfRangeByte_14 : decode cJ6_copyOfRangeByte 14 = .ok (.aload_n 0, 1) := by decide +kernel
theorem dJ6_copyOfRangeByte_15 : decode cJ6_copyOfRangeByte 15 = .ok (.iload_n 1, 1) := by decide +kernel
theorem dJ6_copyOfRangeByte_16 : decode cJ6_copyOfRangeByte 16 = .ok (.aload 4, 2) := by decide +kernel
theorem dJ6_copyOfRangeByte_18 : decode cJ6_copyOfRangeByte 18 = .ok (.iconst 0, 1) := by decide +kernel
theorem dJ6_copyOfRangeByte_19 : decode cJ6_copyOfRangeByte 19 = .ok (.aload_n 0, 1) := by decide +kernel
theorem dJ6_copyOfRangeByte_20 : decode cJ6_copyOfRangeByte 20 = .ok (.arraylength, 1) := by decide +kernel
theorem dJ6_copyOfRangeByte_21 : decode cJ6_copyOfRangeByte 21 = .ok (.iload_n 1, 1) := by decide +kernel
theorem dJ6_copyOfRangeByte_22 : decode cJ6_copyOfRangeByte 22 = .ok (.isub, 1) := by decide +kernel
theorem dJ6_copyOfRangeByte_23 : decode cJ6_copyOfRangeByte 23 = .ok (.iload_n 3, 1) := by decide +kernel
theorem dJ6_copyOfRangeByte_24 : decode cJ6_copyOfRangeByte 24 = .ok (.invokestatic 304, 3) := by decide +kernel
theorem dJ6_copyOfRangeByte_27 : decode cJ6_copyOfRangeByte 27 = .ok (.invokestatic 150, 3) := by decide +kernel
theorem dJ6_copyOfRangeByte_30 : decode cJ6_copyOfRangeByte 30 = .ok (.aload 4, 2) := by decide +kernel
theorem dJ6_copyOfRangeByte_32 : decode cJ6_copyOfRangeByte 32 = .ok (.areturn, 1) := by decide +kernel
theorem ycJ6_copyOfRangeByte : yJ6_copyOfRangeByte.cls ≠ "java/lang/invoke/MethodHandle" ∧ yJ6_copyOfRangeByte.cls ≠ "java/lang/invoke/VarHandle" ∧ (parseMethodDescriptor yJ6_copyOfRangeByte.desc).map (fun d => d.parameters.length) = some 3 := by decide +kernel
def f_J6_copyOfRangeByte (p0 : Nat) (p1 : Int32) (p2 : Int32) : Act Nat :=
  bnd (nt (f_J6_checkLength p1 p2)) fun _ =>
  bnd (newA 2 (p2 - p1)) fun v1 =>
  bnd (lenq 2 p0) fun v2 =>
  bnd (cpB p0 p1 v1 0 (mn (v2 - p1) (p2 - p1))) fun _ =>
  pur v1
set_option maxHeartbeats 4000000 in
theorem ct_J6_copyOfRangeByte (l : Launch) (p0 : Nat) (p1 : Int32) (p2 : Int32) : Ct l (@Eq Mem) yJ6_copyOfRangeByte (ws_ yJ6_copyOfRangeByte cJ6_copyOfRangeByte 5 (some (FieldType.array FieldType.byte))) 1 40 cvR [rv p0, .int p1, .int p2] (f_J6_copyOfRangeByte p0 p1 p2) := by
  refine Ct.of (own := RJ6) (L := [(0, rv p0), (1, .int p1), (2, .int p2)]) (by decide +kernel) rfl (by first | decide | simp [lg_sl, rv_cat, cat_i, cat_l]) (by first | rfl | simp [lv_args, rv_cat, cat_i, cat_l]) eqZ (fun X hXl hX hnh hin => ?_)
  subst hXl
  unfold f_J6_copyOfRangeByte
  refine s_iload_n hX dJ6_copyOfRangeByte_0 rfl 1 rfl ?_
  refine s_iload_n hX dJ6_copyOfRangeByte_1 rfl 2 rfl ?_
  refine s_callS_U (n := 2) (As := [.int p1, .int p2]) (st := []) hX (ct_J6_checkLength X.l p1 p2) q722 q723 q96 q724 ycJ6_checkLength (by decide) rfl (by first | decide | simp [rv_cat, cat_i, cat_l]) dJ6_copyOfRangeByte_2 (fun _ => ?_)
  refine s_iload_n hX dJ6_copyOfRangeByte_5 rfl 2 rfl ?_
  refine s_iload_n hX dJ6_copyOfRangeByte_6 rfl 1 rfl ?_
  refine s_isub hX dJ6_copyOfRangeByte_7 ?_
  refine s_istore_n (i := 3) (L2 := [(3, .int (p2 - p1)), (0, rv p0), (1, .int p1), (2, .int p2)]) hX dJ6_copyOfRangeByte_8 rfl (by decide) rfl ?_
  refine s_iload_n hX dJ6_copyOfRangeByte_9 rfl 0 rfl ?_
  refine s_newB hX (eqM 2) q265 dJ6_copyOfRangeByte_10 (fun v1 => ?_)
  refine s_astore (i := 4) (L2 := [(4, rv v1), (3, .int (p2 - p1)), (0, rv p0), (1, .int p1), (2, .int p2)]) hX dJ6_copyOfRangeByte_12 (by decide) rfl ?_
  refine s_aload_n hX dJ6_copyOfRangeByte_14 rfl 2 rfl ?_
  refine s_iload_n hX dJ6_copyOfRangeByte_15 rfl 3 rfl ?_
  refine s_aload hX dJ6_copyOfRangeByte_16 0 rfl ?_
  refine s_iconst (v := 0) hX dJ6_copyOfRangeByte_18 rfl ?_
  refine s_aload_n hX dJ6_copyOfRangeByte_19 rfl 2 rfl ?_
  refine s_alen (q := 2) hX (by decide) (eqA 2) dJ6_copyOfRangeByte_20 (fun v2 => ?_)
  refine s_iload_n hX dJ6_copyOfRangeByte_21 rfl 3 rfl ?_
  refine s_isub hX dJ6_copyOfRangeByte_22 ?_
  refine s_iload_n hX dJ6_copyOfRangeByte_23 rfl 1 rfl ?_
  refine s_mmin hX q499 q500 q95 q501 rfl (by omega) (by first | decide | (simp [rv_cat, cat_i, cat_l]; try omega)) dJ6_copyOfRangeByte_24 ?_
  refine s_copyB hX q502 q504 q503 q97 (by decide) (by first | decide | (simp [rv_cat, cat_i, cat_l, nativeFrameWords]; done)) dJ6_copyOfRangeByte_27 ?_
  refine s_aload hX dJ6_copyOfRangeByte_30 0 rfl ?_
  exact s_aret hX (Or.inr ⟨_, rfl⟩) dJ6_copyOfRangeByte_32
theorem dJ6_copyOfRange_0 : decode cJ6_copyOfRange 0 = .ok (.iload_n 1, 1) := by decide +kernel
theorem dJ6_copyOfRange_1 : decode cJ6_copyOfRange 1 = .ok (.ifCond .ne 9, 3) := by decide +kernel
theorem dJ6_copyOfRange_4 : decode cJ6_copyOfRange 4 = .ok (.iload_n 2, 1) := by decide +kernel
theorem dJ6_copyOfRange_5 : decode cJ6_copyOfRange 5 = .ok (.aload_n 0, 1) := by decide +kernel
theorem dJ6_copyOfRange_6 : decode cJ6_copyOfRange 6 = .ok (.arraylength, 1) := by decide +kernel
theorem dJ6_copyOfRange_7 : decode cJ6_copyOfRange 7 = .ok (.if_icmp .eq 10, 3) := by decide +kernel
theorem dJ6_copyOfRange_10 : decode cJ6_copyOfRange 10 = .ok (.aload_n 0, 1) := by decide +kernel
theorem dJ6_copyOfRange_11 : decode cJ6_copyOfRange 11 = .ok (.iload_n 1, 1) := by decide +kernel
theorem dJ6_copyOfRange_12 : decode cJ6_copyOfRange 12 = .ok (.iload_n 2, 1) := by decide +kernel
theorem dJ6_copyOfRange_13 : decode cJ6_copyOfRange 13 = .ok (.invokestatic 339, 3) := by decide +kernel
theorem dJ6_copyOfRange_16 : decode cJ6_copyOfRange 16 = .ok (.areturn, 1) := by decide +kernel
theorem dJ6_copyOfRange_17 : decode cJ6_copyOfRange 17 = .ok (.aload_n 0, 1) := by decide +kernel
theorem dJ6_copyOfRange_18 : decode cJ6_copyOfRange 18 = .ok (.invokevirtual 310, 3) := by decide +kernel
theorem dJ6_copyOfRange_21 : decode cJ6_copyOfRange 21 = .ok (.checkcast 311, 3) := by decide +kernel
theorem dJ6_copyOfRange_24 : decode cJ6_copyOfRange 24 = .ok (.areturn, 1) := by decide +kernel
theorem ycJ6_copyOfRange : yJ6_copyOfRange.cls ≠ "java/lang/invoke/MethodHandle" ∧ yJ6_copyOfRange.cls ≠ "java/lang/invoke/VarHandle" ∧ (parseMethodDescriptor yJ6_copyOfRange.desc).map (fun d => d.parameters.length) = some 3 := by decide +kernel
def f_J6_copyOfRange (p0 : Nat) (p1 : Int32) (p2 : Int32) : Act Nat :=
  jn (fun (_ : Unit) =>
    bnd (nt (f_J6_copyOfRangeByte p0 p1 p2)) fun v1 =>
    pur v1) fun j10 =>
  if ¬ p1 = 0 then
    j10 ()
  else
    bnd (lenq 2 p0) fun v2 =>
    if p2 = v2 then
      bnd (cloB p0) fun v3 =>
      bnd (cstB v3) fun _ =>
      pur v3
    else
      j10 ()
set_option maxHeartbeats 4000000 in
theorem ct_J6_copyOfRange (l : Launch) (p0 : Nat) (p1 : Int32) (p2 : Int32) : Ct l (@Eq Mem) yJ6_copyOfRange (ws_ yJ6_copyOfRange cJ6_copyOfRange 3 (some (FieldType.array FieldType.byte))) 2 64 cvR [rv p0, .int p1, .int p2] (f_J6_copyOfRange p0 p1 p2) := by
  refine Ct.of (own := RJ6) (L := [(0, rv p0), (1, .int p1), (2, .int p2)]) (by decide +kernel) rfl (by first | decide | simp [lg_sl, rv_cat, cat_i, cat_l]) (by first | rfl | simp [lv_args, rv_cat, cat_i, cat_l]) eqZ (fun X hXl hX hnh hin => ?_)
  subst hXl
  unfold f_J6_copyOfRange
  refine s_iload_n hX dJ6_copyOfRange_0 rfl 1 rfl ?_
  refine s_jn (P := fun j => ∀ (u : Unit), Sim X cvR 10 [(0, rv p0), (1, .int p1), (2, .int p2)] [] (j u)) ?_ (fun j10 hj10 => ?_)
  · intro u
    refine s_aload_n hX dJ6_copyOfRange_10 rfl 0 rfl ?_
    refine s_iload_n hX dJ6_copyOfRange_11 rfl 1 rfl ?_
    refine s_iload_n hX dJ6_copyOfRange_12 rfl 2 rfl ?_
    refine s_callS_R (n := 3) (As := [rv p0, .int p1, .int p2]) (st := []) hX (ct_J6_copyOfRangeByte X.l p0 p1 p2) q719 q720 q96 q721 ycJ6_copyOfRangeByte (by decide) rfl (by first | decide | simp [rv_cat, cat_i, cat_l]) dJ6_copyOfRange_13 (fun v1 => ?_)
    exact s_aret hX (Or.inr ⟨_, rfl⟩) dJ6_copyOfRange_16
  · refine s_if_ne (tgt := 10) hX dJ6_copyOfRange_1 (by decide) ?_ ?_
    · exact hj10 ()
    · refine s_iload_n hX dJ6_copyOfRange_4 rfl 2 rfl ?_
      refine s_aload_n hX dJ6_copyOfRange_5 rfl 0 rfl ?_
      refine s_alen (q := 2) hX (by decide) (eqA 2) dJ6_copyOfRange_6 (fun v2 => ?_)
      refine s_icmp_eq (tgt := 17) hX dJ6_copyOfRange_7 (by decide) ?_ ?_
      · refine s_aload_n hX dJ6_copyOfRange_17 rfl 0 rfl ?_
        refine s_clone hX q631 q632 q633 q634 q635 q636 (by decide) (by first | decide | simp [rv_cat, cat_i, cat_l]) dJ6_copyOfRange_18 (fun v3 => ?_)
        refine s_castB hX (eqA 2) q637 dJ6_copyOfRange_21 ?_
        exact s_aret hX (Or.inr ⟨_, rfl⟩) dJ6_copyOfRange_24
      · exact hj10 ()
theorem dJ11_init_2_0 : decode cJ11_init_2 0 = .ok (.aload_n 0, 1) := by decide +kernel
theorem dJ11_init_2_1 : decode cJ11_init_2 1 = .ok (.invokespecial 1, 3) := by decide +kernel
theorem dJ11_init_2_4 : decode cJ11_init_2 4 = .ok (.aload_n 1, 1) := by decide +kernel
theorem dJ11_init_2_5 : decode cJ11_init_2 5 = .ok (.invokevirtual 552, 3) := by decide +kernel
theorem dJ11_init_2_8 : decode cJ11_init_2 8 = .ok (.astore_n 3, 1) := by decide +kernel
theorem dJ11_init_2_9 : decode cJ11_init_2 9 = .ok (.aload_n 1, 1) := by decide +kernel
theorem dJ11_init_2_10 : decode cJ11_init_2 10 = .ok (.invokevirtual 549, 3) := by decide +kernel
theorem dJ11_init_2_13 : decode cJ11_init_2 13 = .ok (.istore 4, 2) := by decide +kernel
theorem dJ11_init_2_15 : decode cJ11_init_2 15 = .ok (.aload_n 1, 1) := by decide +kernel
theorem dJ11_init_2_16 : decode cJ11_init_2 16 = .ok (.invokevirtual 1047, 3) := by decide +kernel
theorem dJ11_init_2_19 : decode cJ11_init_2 19 = .ok (.ifCond .eq 22, 3) := by decide +kernel
theorem dJ11_init_2_22 : decode cJ11_init_2 22 = .ok (.aload_n 0, 1) := by decide +kernel
theorem dJ11_init_2_23 : decode cJ11_init_2 23 = .ok (.iconst 0, 1) := by decide +kernel
theorem dJ11_init_2_24 : decode cJ11_init_2 24 = .ok (.putfield 15, 3) := by decide +kernel
theorem dJ11_init_2_27 : decode cJ11_init_2 27 = .ok (.aload_n 0, 1) := by decide +kernel
theorem dJ11_init_2_28 : decode cJ11_init_2 28 = .ok (.aload_n 3, 1) := by decide +kernel
theorem dJ11_init_2_29 : decode cJ11_init_2 29 = .ok (.iconst 0, 1) := by decide +kernel
theorem dJ11_init_2_30 : decode cJ11_init_2 30 = .ok (.iload 4, 2) := by decide +kernel
theorem dJ11_init_2_32 : decode cJ11_init_2 32 = .ok (.invokestatic 54, 3) := by decide +kernel
theorem dJ11_init_2_35 : decode cJ11_init_2 35 = .ok (.putfield 9, 3) := by decide +kernel
theorem dJ11_init_2_38 : decode cJ11_init_2 38 = .ok (.goto 59, 3) := by decide +kernel
theorem dJ11_init_2_41 : decode cJ11_init_2 41 = .ok (.getstatic 38, 3) := by decide +kernel
theorem dJ11_init_2_44 : decode cJ11_init_2 44 = .ok (.ifCond .eq 35, 3) := by decide +kernel
theorem dJ11_init_2_47 : decode cJ11_init_2 47 = .ok (.aload_n 1, 1) := by decide +kernel
theorem dJ11_init_2_48 : decode cJ11_init_2 48 = .ok (.getfield 1048, 3) := by decide +kernel
theorem dJ11_init_2_51 : decode cJ11_init_2 51 = .ok (.ifCond .eq 28, 3) := by decide +kernel
theorem dJ11_init_2_54 : decode cJ11_init_2 54 = .ok (.aload_n 0, 1) := by decide +kernel
theorem dJ11_init_2_55 : decode cJ11_init_2 55 = .ok (.aload_n 3, 1) := by decide +kernel
theorem dJ11_init_2_56 : decode cJ11_init_2 56 = .ok (.iconst 0, 1) := by decide +kernel
theorem dJ11_init_2_57 : decode cJ11_init_2 57 = .ok (.iload 4, 2) := by decide +kernel
theorem dJ11_init_2_59 : decode cJ11_init_2 59 = .ok (.invokestatic 1051, 3) := by decide +kernel
theorem dJ11_init_2_62 : decode cJ11_init_2 62 = .ok (.putfield 9, 3) := by decide +kernel
theorem dJ11_init_2_65 : decode cJ11_init_2 65 = .ok (.aload_n 0, 1) := by decide +kernel
theorem dJ11_init_2_66 : decode cJ11_init_2 66 = .ok (.aload_n 0, 1) := by decide +kernel
theorem dJ11_init_2_67 : decode cJ11_init_2 67 = .ok (.getfield 9, 3) := by decide +kernel
theorem dJ11_init_2_70 : decode cJ11_init_2 70 = .ok (.iload 4, 2) := by decide +kernel
theorem dJ11_init_2_72 : decode cJ11_init_2 72 = .ok (.invokestatic 47, 3) := by decide +kernel
theorem dJ11_init_2_75 : decode cJ11_init_2 75 = .ok (.putfield 15, 3) := by decide +kernel
theorem dJ11_init_2_78 : decode cJ11_init_2 78 = .ok (.return_, 1) := by decide +kernel
theorem dJ11_init_2_79 : decode cJ11_init_2 79 = .ok (.aload_n 0, 1) := by decide +kernel
theorem dJ11_init_2_80 : decode cJ11_init_2 80 = .ok (.iconst 1, 1) := by decide +kernel
theorem dJ11_init_2_81 : decode cJ11_init_2 81 = .ok (.putfield 15, 3) := by decide +kernel
theorem dJ11_init_2_84 : decode cJ11_init_2 84 = .ok (.aload_n 0, 1) := by decide +kernel
theorem dJ11_init_2_85 : decode cJ11_init_2 85 = .ok (.aload_n 3, 1) := by decide +kernel
theorem dJ11_init_2_86 : decode cJ11_init_2 86 = .ok (.iconst 0, 1) := by decide +kernel
theorem dJ11_init_2_87 : decode cJ11_init_2 87 = .ok (.iload 4, 2) := by decide +kernel
theorem dJ11_init_2_89 : decode cJ11_init_2 89 = .ok (.iconst 1, 1) := by decide +kernel
theorem dJ11_init_2_90 : decode cJ11_init_2 90 = .ok (.ishl, 1) := by decide +kernel
theorem dJ11_init_2_91 : decode cJ11_init_2 91 = .ok (.invokestatic 54, 3) := by decide +kernel
theorem dJ11_init_2_94 : decode cJ11_init_2 94 = .ok (.putfield 9, 3) := by decide +kernel
theorem dJ11_init_2_97 : decode cJ11_init_2 97 = .ok (.return_, 1) := by decide +kernel
theorem ycJ11_init_2 : yJ11_init_2.cls ≠ "java/lang/invoke/MethodHandle" ∧ yJ11_init_2.cls ≠ "java/lang/invoke/VarHandle" ∧ (parseMethodDescriptor yJ11_init_2.desc).map (fun d => d.parameters.length) = some 2 := by decide +kernel
theorem yvJ11_init_2 : yJ11_init_2.cls = RR 19 ∧ yJ11_init_2.cls ≠ "java/lang/invoke/MethodHandle" ∧ yJ11_init_2.cls ≠ "java/lang/invoke/VarHandle" ∧ (parseMethodDescriptor yJ11_init_2.desc).map (fun d => d.parameters.length) = some 2 := ⟨rfl, ycJ11_init_2⟩
def f_J11_init_2 (p0 : Nat) (p1 : Nat) (p2 : Nat) : Act Unit :=
  nn p0 <|
  bnd (gd 18 p1 (nt (f_J9_getValue p1))) fun v1 =>
  bnd (gd 18 p1 (nt (f_J10_length p1))) fun v2 =>
  bnd (gd 18 p1 (nt (f_J9_isLatin1 p1))) fun v3 =>
  if v3 = 0 then
    fail
  else
    bnd (putS .byte 19 1 p0 0) fun _ =>
    bnd (nt (f_J6_copyOfRange v1 (0 : Int32) v2)) fun v4 =>
    bnd (putR 19 0 p0 v4) fun _ =>
    pur ()
set_option maxHeartbeats 4000000 in
theorem ct_J11_init_2 (l : Launch) (p0 : Nat) (p1 : Nat) (p2 : Nat) : Ct l (@Eq Mem) yJ11_init_2 (ws_ yJ11_init_2 cJ11_init_2 5 none) 3 86 cvU [rv p0, rv p1, rv p2] (f_J11_init_2 p0 p1 p2) := by
  refine Ct.of (own := RJ11) (L := [(0, rv p0), (1, rv p1), (2, rv p2)]) (by decide +kernel) rfl (by first | decide | simp [lg_sl, rv_cat, cat_i, cat_l]) (by first | rfl | simp [lv_args, rv_cat, cat_i, cat_l]) eqZ (fun X hXl hX hnh hin => ?_)
  subst hXl
  unfold f_J11_init_2
  refine s_aload_n hX dJ11_init_2_0 rfl 0 rfl ?_
  refine s_oinit hX (by decide) q701 q126 q127 (by decide) (by decide) dJ11_init_2_1 ?_
  refine s_aload_n hX dJ11_init_2_4 rfl 1 rfl ?_
  refine s_callU (z := yJ9_getValue) (ci := 18) (n := 0) (As := []) (st := []) hX (eqK 19) (by decide) (ct_J9_getValue X.l p1) q702 q703 q704 q703 q706 (hX.hts _ q705) q105 q706 ycJ9_getValue (by decide) rfl (by first | decide | simp [rv_cat, cat_i, cat_l]) dJ11_init_2_5 (fun v1 => ?_)
  refine s_astore_n (i := 3) (L2 := [(3, rv v1), (0, rv p0), (1, rv p1), (2, rv p2)]) hX dJ11_init_2_8 rfl (by decide) (by first | (simp [rv_cat, cat_i, cat_l]; done) | (simp [rv_cat, cat_i, cat_l]; decide)) ?_
  refine s_aload_n hX dJ11_init_2_9 rfl 2 rfl ?_
  refine s_callU (z := yJ9_length) (ci := 18) (n := 0) (As := []) (st := []) hX (eqK 19) (by decide) (ct_J10_length X.l p1) q707 q711 q709 q708 q714 (hX.hts _ q710) q106 q712 ycJ9_length (by decide) rfl (by first | decide | simp [rv_cat, cat_i, cat_l]) dJ11_init_2_10 (fun v2 => ?_)
  refine s_istore (i := 4) (L2 := [(4, .int v2), (3, rv v1), (0, rv p0), (1, rv p1), (2, rv p2)]) hX dJ11_init_2_13 (by decide) (by first | (simp [rv_cat, cat_i, cat_l]; done) | (simp [rv_cat, cat_i, cat_l]; decide)) ?_
  refine s_aload_n hX dJ11_init_2_15 rfl 3 rfl ?_
  refine s_callU (z := yJ9_isLatin1) (ci := 18) (n := 0) (As := []) (st := []) hX (eqK 19) (by decide) (ct_J9_isLatin1 X.l p1) q715 q639 q640 q639 q642 (hX.hts _ q641) q105 q642 ycJ9_isLatin1 (by decide) rfl (by first | decide | simp [rv_cat, cat_i, cat_l]) dJ11_init_2_16 (fun v3 => ?_)
  refine s_if_eq (tgt := 41) hX dJ11_init_2_19 (by decide) ?_ ?_
  · exact s_fail
  · refine s_aload_n hX dJ11_init_2_22 rfl 2 rfl ?_
    refine s_iconst (v := 0) hX dJ11_init_2_23 rfl ?_
    refine s_putSF (ci := 19) (j := 1) (ref := "java/lang/String") hX (eqG 19) (eqP 19) in_J11 tyJ11_ok nmJ11 q740 (by decide) (by decide) (by decide) rfl rfl rfl (hin rfl) rfl dJ11_init_2_24 (fun _ h9 => h9) ?_
    refine s_aload_n hX dJ11_init_2_27 rfl 2 rfl ?_
    refine s_aload_n hX dJ11_init_2_28 rfl 1 rfl ?_
    refine s_iconst (v := 0) hX dJ11_init_2_29 rfl ?_
    refine s_iload hX dJ11_init_2_30 0 rfl ?_
    refine s_callS_R (n := 3) (As := [rv v1, .int 0, .int v2]) (st := [rv p0]) hX (ct_J6_copyOfRange X.l v1 (0 : Int32) v2) q716 q717 q96 q718 ycJ6_copyOfRange (by decide) rfl (by first | decide | simp [rv_cat, cat_i, cat_l]) dJ11_init_2_32 (fun v4 => ?_)
    refine s_putRF (ci := 19) (j := 0) (ref := "java/lang/String") hX (eqG 19) (eqP 19) in_J11 tyJ11_ok nmJ11 q739 (by decide) (by decide) (by decide) rfl (fun v => by cases v <;> exact ⟨rfl, rfl⟩) rfl (hin rfl) rfl dJ11_init_2_35 (fun _ h9 => h9) ?_
    refine s_goto (tgt := 97) hX dJ11_init_2_38 (by decide) ?_
    exact s_vret hX dJ11_init_2_97
theorem dJ11_init_0 : decode cJ11_init 0 = .ok (.aload_n 0, 1) := by decide +kernel
theorem dJ11_init_1 : decode cJ11_init 1 = .ok (.aload_n 1, 1) := by decide +kernel
theorem dJ11_init_2 : decode cJ11_init 2 = .ok (.aconst_null, 1) := by decide +kernel
theorem dJ11_init_3 : decode cJ11_init 3 = .ok (.invokespecial 489, 3) := by decide +kernel
theorem dJ11_init_6 : decode cJ11_init 6 = .ok (.return_, 1) := by decide +kernel
theorem ycJ11_init : yJ11_init.cls ≠ "java/lang/invoke/MethodHandle" ∧ yJ11_init.cls ≠ "java/lang/invoke/VarHandle" ∧ (parseMethodDescriptor yJ11_init.desc).map (fun d => d.parameters.length) = some 1 := by decide +kernel
theorem yvJ11_init : yJ11_init.cls = RR 19 ∧ yJ11_init.cls ≠ "java/lang/invoke/MethodHandle" ∧ yJ11_init.cls ≠ "java/lang/invoke/VarHandle" ∧ (parseMethodDescriptor yJ11_init.desc).map (fun d => d.parameters.length) = some 1 := ⟨rfl, ycJ11_init⟩
def f_J11_init (p0 : Nat) (p1 : Nat) : Act Unit :=
  bnd (gd 19 p0 (nt (f_J11_init_2 p0 p1 (0 : Nat)))) fun _ =>
  pur ()
set_option maxHeartbeats 4000000 in
theorem ct_J11_init (l : Launch) (p0 : Nat) (p1 : Nat) : Ct l (@Eq Mem) yJ11_init (ws_ yJ11_init cJ11_init 2 none) 4 110 cvU [rv p0, rv p1] (f_J11_init p0 p1) := by
  refine Ct.of (own := RJ11) (L := [(0, rv p0), (1, rv p1)]) (by decide +kernel) rfl (by first | decide | simp [lg_sl, rv_cat, cat_i, cat_l]) (by first | rfl | simp [lv_args, rv_cat, cat_i, cat_l]) eqZ (fun X hXl hX hnh hin => ?_)
  subst hXl
  unfold f_J11_init
  refine s_aload_n hX dJ11_init_0 rfl 0 rfl ?_
  refine s_aload_n hX dJ11_init_1 rfl 1 rfl ?_
  refine s_null hX dJ11_init_2 ?_
  refine s_callI_U (ci := 19) (n := 2) (As := [rv p1, rv 0]) (st := []) hX (eqK 20) (by decide) (ct_J11_init_2 X.l p0 p1 (0 : Nat)) q698 q699 q107 q700 rfl ycJ11_init_2 (by decide) rfl (by first | decide | simp [rv_cat, cat_i, cat_l]) dJ11_init_3 (fun _ => ?_)
  exact s_vret hX dJ11_init_6
theorem dJ10_toString_0 : decode cJ10_toString 0 = .ok (.new 18, 3) := by decide +kernel
theorem dJ10_toString_3 : decode cJ10_toString 3 = .ok (.dup, 1) := by decide +kernel
theorem dJ10_toString_4 : decode cJ10_toString 4 = .ok (.aload_n 0, 1) := by decide +kernel
theorem dJ10_toString_5 : decode cJ10_toString 5 = .ok (.invokespecial 137, 3) := by decide +kernel
theorem dJ10_toString_8 : decode cJ10_toString 8 = .ok (.areturn, 1) := by decide +kernel
theorem ycJ10_toString : yJ10_toString.cls ≠ "java/lang/invoke/MethodHandle" ∧ yJ10_toString.cls ≠ "java/lang/invoke/VarHandle" ∧ (parseMethodDescriptor yJ10_toString.desc).map (fun d => d.parameters.length) = some 0 := by decide +kernel
theorem yvJ10_toString : yJ10_toString.cls = RR 18 ∧ yJ10_toString.cls ≠ "java/lang/invoke/MethodHandle" ∧ yJ10_toString.cls ≠ "java/lang/invoke/VarHandle" ∧ (parseMethodDescriptor yJ10_toString.desc).map (fun d => d.parameters.length) = some 0 := ⟨rfl, ycJ10_toString⟩
def f_J10_toString (p0 : Nat) : Act Nat :=
  bnd (newO 19 4) fun v1 =>
  bnd (gd 19 v1 (nt (f_J11_init v1 p0))) fun _ =>
  pur v1
set_option maxHeartbeats 4000000 in
theorem ct_J10_toString (l : Launch) (p0 : Nat) : Ct l (@Eq Mem) yJ10_toString (ws_ yJ10_toString cJ10_toString 1 (some (FieldType.object "java/lang/String"))) 5 131 cvR [rv p0] (f_J10_toString p0) := by
  refine Ct.of (own := RJ10) (L := [(0, rv p0)]) (by decide +kernel) rfl (by first | decide | simp [lg_sl, rv_cat, cat_i, cat_l]) (by first | rfl | simp [lv_args, rv_cat, cat_i, cat_l]) eqZ (fun X hXl hX hnh hin => ?_)
  subst hXl
  unfold f_J10_toString
  refine s_new (ci := 19) hX (eqN 19) in_J11 tyJ11_ok (by decide) (by decide) q693 q694 q107 dJ10_toString_0 (fun v1 => ?_)
  refine s_dup hX dJ10_toString_3 (rv_cat _) ?_
  refine s_aload_n hX dJ10_toString_4 rfl 0 rfl ?_
  refine s_callI_U (ci := 19) (n := 1) (As := [rv p0]) (st := [rv v1]) hX (eqK 20) (by decide) (ct_J11_init X.l v1 p0) q695 q696 q107 q697 rfl ycJ11_init (by decide) rfl (by first | decide | simp [rv_cat, cat_i, cat_l]) dJ10_toString_5 (fun _ => ?_)
  exact s_aret hX (Or.inl ⟨_, rfl⟩) dJ10_toString_8
theorem dJ13_equals_0 : decode cJ13_equals 0 = .ok (.aload_n 0, 1) := by decide +kernel
theorem dJ13_equals_1 : decode cJ13_equals 1 = .ok (.arraylength, 1) := by decide +kernel
theorem dJ13_equals_2 : decode cJ13_equals 2 = .ok (.aload_n 1, 1) := by decide +kernel
theorem dJ13_equals_3 : decode cJ13_equals 3 = .ok (.arraylength, 1) := by decide +kernel
theorem dJ13_equals_4 : decode cJ13_equals 4 = .ok (.if_icmp .ne 30, 3) := by decide +kernel
theorem dJ13_equals_7 : decode cJ13_equals 7 = .ok (.iconst 0, 1) := by decide +kernel
theorem dJ13_equals_8 : decode cJ13_equals 8 = .ok (.istore_n 2, 1) := by decide +kernel
theorem dJ13_equals_9 : decode cJ13_equals 9 = .ok (.iload_n 2, 1) := by decide +kernel
theorem dJ13_equals_10 : decode cJ13_equals 10 = .ok (.aload_n 0, 1) := by decide +kernel
theorem dJ13_equals_11 : decode cJ13_equals 11 = .ok (.arraylength, 1) := by decide +kernel
theorem dJ13_equals_12 : decode cJ13_equals 12 = .ok (.if_icmp .ge 20, 3) := by decide +kernel
theorem dJ13_equals_15 : decode cJ13_equals 15 = .ok (.aload_n 0, 1) := by decide +kernel
theorem dJ13_equals_16 : decode cJ13_equals 16 = .ok (.iload_n 2, 1) := by decide +kernel
theorem dJ13_equals_17 : decode cJ13_equals 17 = .ok (.baload, 1) := by decide +kernel
theorem dJ13_equals_18 : decode cJ13_equals 18 = .ok (.aload_n 1, 1) := by decide +kernel
theorem dJ13_equals_19 : decode cJ13_equals 19 = .ok (.iload_n 2, 1) := by decide +kernel
theorem dJ13_equals_20 : decode cJ13_equals 20 = .ok (.baload, 1) := by decide +kernel
theorem dJ13_equals_21 : decode cJ13_equals 21 = .ok (.if_icmp .eq 5, 3) := by decide +kernel
theorem dJ13_equals_24 : decode cJ13_equals 24 = .ok (.iconst 0, 1) := by decide +kernel
theorem dJ13_equals_25 : decode cJ13_equals 25 = .ok (.ireturn, 1) := by decide +kernel
theorem dJ13_equals_26 : decode cJ13_equals 26 = .ok (.iinc 2 1, 3) := by decide +kernel
theorem dJ13_equals_29 : decode cJ13_equals 29 = .ok (.goto (-20), 3) := by decide +kernel
theorem dJ13_equals_32 : decode cJ13_equals 32 = .ok (.iconst 1, 1) := by decide +kernel
theorem dJ13_equals_33 : decode cJ13_equals 33 = .ok (.ireturn, 1) := by decide +kernel
theorem dJ13_equals_34 : decode cJ13_equals 34 = .ok (.iconst 0, 1) := by decide +kernel
theorem dJ13_equals_35 : decode cJ13_equals 35 = .ok (.ireturn, 1) := by decide +kernel
theorem ycJ13_equals : yJ13_equals.cls ≠ "java/lang/invoke/MethodHandle" ∧ yJ13_equals.cls ≠ "java/lang/invoke/VarHandle" ∧ (parseMethodDescriptor yJ13_equals.desc).map (fun d => d.parameters.length) = some 2 := by decide +kernel
def lp_J13_equals_9 (p0 : Nat) (p1 : Nat) (q : Nat) : Int32 → Act Int32 := match q with
  | 0 => fun _ => fail
  | q + 1 => fun w3 =>
    bnd (lenq 2 p0) fun v4 =>
    if v4 ≤ w3 then
      purS (ty := .boolean) 1
    else
      bnd (ldI 2 p0 w3) fun v5 =>
      bnd (ldI 2 p1 w3) fun v6 =>
      if v5 = v6 then
        (lp_J13_equals_9 p0 p1 q) (w3 + 1)
      else
        purS (ty := .boolean) 0
def f_J13_equals (n : Nat) (p0 : Nat) (p1 : Nat) : Act Int32 :=
  bnd (lenq 2 p0) fun v1 =>
  bnd (lenq 2 p1) fun v2 =>
  if ¬ v1 = v2 then
    purS (ty := .boolean) 0
  else
    lp_J13_equals_9 p0 p1 n 0
set_option maxHeartbeats 4000000 in
theorem s_lp_J13_equals_9 {X : Cx} (hX : Ok X (@Eq Mem) cJ13_equals RJ13 3 (some FieldType.boolean) 0 0) (hnh : Noh X) (p0 : Nat) (p1 : Nat) (q : Nat) : ∀ (w3 : Int32), Sim X cvI 9 [(0, rv p0), (1, rv p1), (2, .int w3)] [] (lp_J13_equals_9 p0 p1 q w3) := by
  induction q with
  | zero => intro w3; exact s_fail
  | succ q ih9 =>
    intro w3
    rw [lp_J13_equals_9]
    refine s_iload_n hX dJ13_equals_9 rfl 2 rfl ?_
    refine s_aload_n hX dJ13_equals_10 rfl 0 rfl ?_
    refine s_alen (q := 2) hX (by decide) (eqA 2) dJ13_equals_11 (fun v4 => ?_)
    refine s_icmp_ge (tgt := 32) hX dJ13_equals_12 (by decide) ?_ ?_
    · refine s_iconst (v := 1) hX dJ13_equals_32 rfl ?_
      exact s_zret hX dJ13_equals_33
    · refine s_aload_n hX dJ13_equals_15 rfl 0 rfl ?_
      refine s_iload_n hX dJ13_equals_16 rfl 2 rfl ?_
      refine s_bald hX (eqA 2) dJ13_equals_17 (fun v5 => ?_)
      refine s_aload_n hX dJ13_equals_18 rfl 1 rfl ?_
      refine s_iload_n hX dJ13_equals_19 rfl 2 rfl ?_
      refine s_bald hX (eqA 2) dJ13_equals_20 (fun v6 => ?_)
      refine s_icmp_eq (tgt := 26) hX dJ13_equals_21 (by decide) ?_ ?_
      · refine s_iinc (k := 2) (v := (w3 + 1)) (L2 := [(2, .int (w3 + 1)), (0, rv p0), (1, rv p1)]) hX dJ13_equals_26 rfl rfl (by decide) (by first | (simp [rv_cat, cat_i, cat_l]; done) | (simp [rv_cat, cat_i, cat_l]; decide)) ?_
        refine s_goto (tgt := 9) hX dJ13_equals_29 (by decide) ?_
        exact s_sub [1, 2, 0] rfl (ih9 (w3 + 1))
      · refine s_iconst (v := 0) hX dJ13_equals_24 rfl ?_
        exact s_zret hX dJ13_equals_25
set_option maxHeartbeats 4000000 in
theorem ct_J13_equals (l : Launch) (n : Nat) (p0 : Nat) (p1 : Nat) : Ct l (@Eq Mem) yJ13_equals (ws_ yJ13_equals cJ13_equals 3 (some FieldType.boolean)) 0 0 cvI [rv p0, rv p1] (f_J13_equals n p0 p1) := by
  refine Ct.of (own := RJ13) (L := [(0, rv p0), (1, rv p1)]) (by decide +kernel) rfl (by first | decide | simp [lg_sl, rv_cat, cat_i, cat_l]) (by first | rfl | simp [lv_args, rv_cat, cat_i, cat_l]) eqZ (fun X hXl hX hnh hin => ?_)
  subst hXl
  unfold f_J13_equals
  refine s_aload_n hX dJ13_equals_0 rfl 0 rfl ?_
  refine s_alen (q := 2) hX (by decide) (eqA 2) dJ13_equals_1 (fun v1 => ?_)
  refine s_aload_n hX dJ13_equals_2 rfl 1 rfl ?_
  refine s_alen (q := 2) hX (by decide) (eqA 2) dJ13_equals_3 (fun v2 => ?_)
  refine s_icmp_ne (tgt := 34) hX dJ13_equals_4 (by decide) ?_ ?_
  · refine s_iconst (v := 0) hX dJ13_equals_34 rfl ?_
    exact s_zret hX dJ13_equals_35
  · refine s_iconst (v := 0) hX dJ13_equals_7 rfl ?_
    refine s_istore_n (i := 2) (L2 := [(2, .int 0), (0, rv p0), (1, rv p1)]) hX dJ13_equals_8 rfl (by decide) (by first | (simp [rv_cat, cat_i, cat_l]; done) | (simp [rv_cat, cat_i, cat_l]; decide)) ?_
    exact s_sub [1, 2, 0] rfl (s_lp_J13_equals_9 hX hnh p0 p1 n 0)
theorem dJ11_equals_0 : decode cJ11_equals 0 = .ok (.aload_n 0, 1) := by decide +kernel
theorem dJ11_equals_1 : decode cJ11_equals 1 = .ok (.aload_n 1, 1) := by decide +kernel
theorem dJ11_equals_2 : decode cJ11_equals 2 = .ok (.if_acmp .ne 5, 3) := by decide +kernel
theorem dJ11_equals_5 : decode cJ11_equals 5 = .ok (.iconst 1, 1) := by decide +kernel
theorem dJ11_equals_6 : decode cJ11_equals 6 = .ok (.ireturn, 1) := by decide +kernel
theorem dJ11_equals_7 : decode cJ11_equals 7 = .ok (.aload_n 1, 1) := by decide +kernel
theorem dJ11_equals_8 : decode cJ11_equals 8 = .ok (.instanceof 10, 3) := by decide +kernel
theorem dJ11_equals_11 : decode cJ11_equals 11 = .ok (.ifCond .eq 43, 3) := by decide +kernel
theorem dJ11_equals_14 : decode cJ11_equals 14 = .ok (.aload_n 1, 1) := by decide +kernel
theorem dJ11_equals_15 : decode cJ11_equals 15 = .ok (.checkcast 10, 3) := by decide +kernel
theorem dJ11_equals_18 : decode cJ11_equals 18 = .ok (.astore_n 2, 1) := by decide +kernel
theorem dJ11_equals_19 : decode cJ11_equals 19 = .ok (.getstatic 38, 3) := by decide +kernel
theorem dJ11_equals_22 : decode cJ11_equals 22 = .ok (.ifCond .eq 14, 3) := by decide +kernel
theorem dJ11_equals_25 : decode cJ11_equals 25 = .ok (.aload_n 0, 1) := by decide +kernel
theorem dJ11_equals_26 : decode cJ11_equals 26 = .ok (.getfield 15, 3) := by decide +kernel
theorem dJ11_equals_29 : decode cJ11_equals 29 = .ok (.aload_n 2, 1) := by decide +kernel
theorem dJ11_equals_30 : decode cJ11_equals 30 = .ok (.getfield 15, 3) := by decide +kernel
theorem dJ11_equals_33 : decode cJ11_equals 33 = .ok (.if_icmp .ne 21, 3) := by decide +kernel
theorem dJ11_equals_36 : decode cJ11_equals 36 = .ok (.aload_n 0, 1) := by decide +kernel
theorem dJ11_equals_37 : decode cJ11_equals 37 = .ok (.getfield 9, 3) := by decide +kernel
theorem dJ11_equals_40 : decode cJ11_equals 40 = .ok (.aload_n 2, 1) := by decide +kernel
theorem dJ11_equals_41 : decode cJ11_equals 41 = .ok (.getfield 9, 3) := by decide +kernel
theorem dJ11_equals_44 : decode cJ11_equals 44 = .ok (.invokestatic 541, 3) := by decide +kernel
theorem dJ11_equals_47 : decode cJ11_equals 47 = .ok (.ifCond .eq 7, 3) := by decide +kernel
theorem dJ11_equals_50 : decode cJ11_equals 50 = .ok (.iconst 1, 1) := by decide +kernel
theorem dJ11_equals_51 : decode cJ11_equals 51 = .ok (.goto 4, 3) := by decide +kernel
theorem dJ11_equals_54 : decode cJ11_equals 54 = .ok (.iconst 0, 1) := by decide +kernel
theorem dJ11_equals_55 : decode cJ11_equals 55 = .ok (.ireturn, 1) := by decide +kernel
theorem ycJ11_equals : yJ11_equals.cls ≠ "java/lang/invoke/MethodHandle" ∧ yJ11_equals.cls ≠ "java/lang/invoke/VarHandle" ∧ (parseMethodDescriptor yJ11_equals.desc).map (fun d => d.parameters.length) = some 1 := by decide +kernel
theorem yvJ11_equals : yJ11_equals.cls = RR 19 ∧ yJ11_equals.cls ≠ "java/lang/invoke/MethodHandle" ∧ yJ11_equals.cls ≠ "java/lang/invoke/VarHandle" ∧ (parseMethodDescriptor yJ11_equals.desc).map (fun d => d.parameters.length) = some 1 := ⟨rfl, ycJ11_equals⟩
def f_J11_equals (n : Nat) (p0 : Nat) (p1 : Nat) : Act Int32 :=
  if ¬ p0 = p1 then
    bnd (ins [20, 40] p1) fun _ =>
    jn (fun (v1 : Int32) =>
      purS (ty := .boolean) v1) fun j55 =>
    jn (fun (_ : Unit) =>
      j55 0) fun j54 =>
    if (1 : Int32) = 0 then
      j54 ()
    else
      bnd (cst [20, 40] p1) fun _ =>
      jn (fun (_ : Unit) =>
        bnd (getR 19 0 p0) fun v2 =>
        bnd (getR 19 0 p1) fun v3 =>
        bnd (nt (f_J13_equals n v2 v3)) fun v4 =>
        if v4 = 0 then
          j54 ()
        else
          j55 1) fun j36 =>
      if (1 : Int32) = 0 then
        j36 ()
      else
        bnd (getI 19 1 p0) fun v5 =>
        bnd (getI 19 1 p1) fun v6 =>
        if ¬ v5 = v6 then
          j54 ()
        else
          j36 ()
  else
    purS (ty := .boolean) 1
set_option maxHeartbeats 4000000 in
theorem ct_J11_equals (l : Launch) (n : Nat) (p0 : Nat) (p1 : Nat) : Ct l (@Eq Mem) yJ11_equals (ws_ yJ11_equals cJ11_equals 3 (some FieldType.boolean)) 1 22 cvI [rv p0, rv p1] (f_J11_equals n p0 p1) := by
  refine Ct.of (own := RJ11) (L := [(0, rv p0), (1, rv p1)]) (by decide +kernel) rfl (by first | decide | simp [lg_sl, rv_cat, cat_i, cat_l]) (by first | rfl | simp [lv_args, rv_cat, cat_i, cat_l]) eqZ (fun X hXl hX hnh hin => ?_)
  subst hXl
  unfold f_J11_equals
  refine s_aload_n hX dJ11_equals_0 rfl 0 rfl ?_
  refine s_aload_n hX dJ11_equals_1 rfl 1 rfl ?_
  refine s_acmp_ne (tgt := 7) hX dJ11_equals_2 (by decide) ?_ ?_
  · refine s_aload_n hX dJ11_equals_7 rfl 1 rfl ?_
    refine s_inst (ks := [20, 40]) hX elS2 q889 dJ11_equals_8 ?_
    refine s_jn (P := fun j => ∀ (v1 : Int32), Sim X cvI 55 [] [.int v1] (j v1)) ?_ (fun j55 hj55 => ?_)
    · intro v1
      exact s_zret hX dJ11_equals_55
    · refine s_jn (P := fun j => ∀ (u : Unit), Sim X cvI 54 [] [] (j u)) ?_ (fun j54 hj54 => ?_)
      · intro u
        refine s_iconst (v := 0) hX dJ11_equals_54 rfl ?_
        exact hj55 0
      · refine s_if_eq (tgt := 54) hX dJ11_equals_11 (by decide) ?_ ?_
        · exact s_sub [] rfl (hj54 ())
        · refine s_aload_n hX dJ11_equals_14 rfl 1 rfl ?_
          refine s_cast (ks := [20, 40]) hX elS2 q889 dJ11_equals_15 ?_
          refine s_astore_n (i := 2) (L2 := [(2, rv p1), (0, rv p0), (1, rv p1)]) hX dJ11_equals_18 rfl (by decide) (by first | (simp [rv_cat, cat_i, cat_l]; done) | (simp [rv_cat, cat_i, cat_l]; decide)) ?_
          refine s_gstI (v := 1) hX (fun w b => b.2.2.2.2.1.2.2.2) q725 dJ11_equals_19 ?_
          refine s_jn (P := fun j => ∀ (u : Unit), Sim X cvI 36 [(0, rv p0), (2, rv p1)] [] (j u)) ?_ (fun j36 hj36 => ?_)
          · intro u
            refine s_aload_n hX dJ11_equals_36 rfl 0 rfl ?_
            refine s_getR (ci := 19) (j := 0) (ref := "java/lang/String") hX (eqG 19) in_J11 (Or.inl q739) (by decide) (by decide) (by decide) rfl dJ11_equals_37 (fun _ h9 => h9) (fun v2 => ?_)
            refine s_aload_n hX dJ11_equals_40 rfl 1 rfl ?_
            refine s_getR (ci := 19) (j := 0) (ref := "java/lang/String") hX (eqG 19) in_J11 (Or.inl q739) (by decide) (by decide) (by decide) rfl dJ11_equals_41 (fun _ h9 => h9) (fun v3 => ?_)
            refine s_callS_I (n := 2) (As := [rv v2, rv v3]) (st := []) hX (ct_J13_equals X.l n v2 v3) q890 q891 q109 q892 ycJ13_equals (by decide) rfl (by first | decide | simp [rv_cat, cat_i, cat_l]) dJ11_equals_44 (fun v4 => ?_)
            refine s_if_eq (tgt := 54) hX dJ11_equals_47 (by decide) ?_ ?_
            · exact s_sub [] rfl (hj54 ())
            · refine s_iconst (v := 1) hX dJ11_equals_50 rfl ?_
              refine s_goto (tgt := 55) hX dJ11_equals_51 (by decide) ?_
              exact s_sub [] rfl (hj55 1)
          · refine s_if_eq (tgt := 36) hX dJ11_equals_22 (by decide) ?_ ?_
            · exact s_sub [1, 0] rfl (hj36 ())
            · refine s_aload_n hX dJ11_equals_25 rfl 1 rfl ?_
              refine s_getI (ci := 19) (j := 1) (ref := "java/lang/String") hX (eqG 19) in_J11 (Or.inl q740) (by decide) (by decide) (by decide) rfl dJ11_equals_26 (fun _ h9 => h9) (fun v5 => ?_)
              refine s_aload_n hX dJ11_equals_29 rfl 0 rfl ?_
              refine s_getI (ci := 19) (j := 1) (ref := "java/lang/String") hX (eqG 19) in_J11 (Or.inl q740) (by decide) (by decide) (by decide) rfl dJ11_equals_30 (fun _ h9 => h9) (fun v6 => ?_)
              refine s_icmp_ne (tgt := 54) hX dJ11_equals_33 (by decide) ?_ ?_
              · exact s_sub [] rfl (hj54 ())
              · exact s_sub [1, 0] rfl (hj36 ())
  · refine s_iconst (v := 1) hX dJ11_equals_5 rfl ?_
    exact s_zret hX dJ11_equals_6
theorem dJ11_isLatin1_0 : decode cJ11_isLatin1 0 = .ok (.getstatic 38, 3) := by decide +kernel
theorem dJ11_isLatin1_3 : decode cJ11_isLatin1 3 = .ok (.ifCond .eq 14, 3) := by decide +kernel
theorem dJ11_isLatin1_6 : decode cJ11_isLatin1 6 = .ok (.aload_n 0, 1) := by decide +kernel
theorem dJ11_isLatin1_7 : decode cJ11_isLatin1 7 = .ok (.getfield 15, 3) := by decide +kernel
theorem dJ11_isLatin1_10 : decode cJ11_isLatin1 10 = .ok (.ifCond .ne 7, 3) := by decide +kernel
theorem dJ11_isLatin1_13 : decode cJ11_isLatin1 13 = .ok (.iconst 1, 1) := by decide +kernel
theorem dJ11_isLatin1_14 : decode cJ11_isLatin1 14 = .ok (.goto 4, 3) := by decide +kernel
theorem dJ11_isLatin1_17 : decode cJ11_isLatin1 17 = .ok (.iconst 0, 1) := by decide +kernel
theorem dJ11_isLatin1_18 : decode cJ11_isLatin1 18 = .ok (.ireturn, 1) := by decide +kernel
theorem ycJ11_isLatin1 : yJ11_isLatin1.cls ≠ "java/lang/invoke/MethodHandle" ∧ yJ11_isLatin1.cls ≠ "java/lang/invoke/VarHandle" ∧ (parseMethodDescriptor yJ11_isLatin1.desc).map (fun d => d.parameters.length) = some 0 := by decide +kernel
theorem yvJ11_isLatin1 : yJ11_isLatin1.cls = RR 19 ∧ yJ11_isLatin1.cls ≠ "java/lang/invoke/MethodHandle" ∧ yJ11_isLatin1.cls ≠ "java/lang/invoke/VarHandle" ∧ (parseMethodDescriptor yJ11_isLatin1.desc).map (fun d => d.parameters.length) = some 0 := ⟨rfl, ycJ11_isLatin1⟩
def f_J11_isLatin1 (p0 : Nat) : Act Int32 :=
  jn (fun (v1 : Int32) =>
    purS (ty := .boolean) v1) fun j18 =>
  jn (fun (_ : Unit) =>
    j18 0) fun j17 =>
  if (1 : Int32) = 0 then
    j17 ()
  else
    bnd (getI 19 1 p0) fun v2 =>
    if ¬ v2 = 0 then
      j17 ()
    else
      j18 1
set_option maxHeartbeats 4000000 in
theorem ct_J11_isLatin1 (l : Launch) (p0 : Nat) : Ct l (@Eq Mem) yJ11_isLatin1 (ws_ yJ11_isLatin1 cJ11_isLatin1 1 (some FieldType.boolean)) 0 0 cvI [rv p0] (f_J11_isLatin1 p0) := by
  refine Ct.of (own := RJ11) (L := [(0, rv p0)]) (by decide +kernel) rfl (by first | decide | simp [lg_sl, rv_cat, cat_i, cat_l]) (by first | rfl | simp [lv_args, rv_cat, cat_i, cat_l]) eqZ (fun X hXl hX hnh hin => ?_)
  subst hXl
  unfold f_J11_isLatin1
  refine s_gstI (v := 1) hX (fun w b => b.2.2.2.2.1.2.2.2) q725 dJ11_isLatin1_0 ?_
  refine s_jn (P := fun j => ∀ (v1 : Int32), Sim X cvI 18 [] [.int v1] (j v1)) ?_ (fun j18 hj18 => ?_)
  · intro v1
    exact s_zret hX dJ11_isLatin1_18
  · refine s_jn (P := fun j => ∀ (u : Unit), Sim X cvI 17 [] [] (j u)) ?_ (fun j17 hj17 => ?_)
    · intro u
      refine s_iconst (v := 0) hX dJ11_isLatin1_17 rfl ?_
      exact hj18 0
    · refine s_if_eq (tgt := 17) hX dJ11_isLatin1_3 (by decide) ?_ ?_
      · exact s_sub [] rfl (hj17 ())
      · refine s_aload_n hX dJ11_isLatin1_6 rfl 0 rfl ?_
        refine s_getI (ci := 19) (j := 1) (ref := "java/lang/String") hX (eqG 19) in_J11 (Or.inl q740) (by decide) (by decide) (by decide) rfl dJ11_isLatin1_7 (fun _ h9 => h9) (fun v2 => ?_)
        refine s_if_ne (tgt := 17) hX dJ11_isLatin1_10 (by decide) ?_ ?_
        · exact s_sub [] rfl (hj17 ())
        · refine s_iconst (v := 1) hX dJ11_isLatin1_13 rfl ?_
          refine s_goto (tgt := 18) hX dJ11_isLatin1_14 (by decide) ?_
          exact s_sub [] rfl (hj18 1)
theorem dJ4_signedHashCode_0 : decode cJ4_signedHashCode 0 = .ok (.iload_n 2, 1) := by decide +kernel
theorem dJ4_signedHashCode_1 : decode cJ4_signedHashCode 1 = .ok (.iload_n 3, 1) := by decide +kernel
theorem dJ4_signedHashCode_2 : decode cJ4_signedHashCode 2 = .ok (.iadd, 1) := by decide +kernel
theorem dJ4_signedHashCode_3 : decode cJ4_signedHashCode 3 = .ok (.istore 4, 2) := by decide +kernel
theorem dJ4_signedHashCode_5 : decode cJ4_signedHashCode 5 = .ok (.iload_n 2, 1) := by decide +kernel
theorem dJ4_signedHashCode_6 : decode cJ4_signedHashCode 6 = .ok (.istore 5, 2) := by decide +kernel
theorem dJ4_signedHashCode_8 : decode cJ4_signedHashCode 8 = .ok (.iload 5, 2) := by decide +kernel
theorem dJ4_signedHashCode_10 : decode cJ4_signedHashCode 10 = .ok (.iload 4, 2) := by decide +kernel
theorem dJ4_signedHashCode_12 : decode cJ4_signedHashCode 12 = .ok (.if_icmp .ge 23, 3) := by decide +kernel
theorem dJ4_signedHashCode_15 : decode cJ4_signedHashCode 15 = .ok (.bipush 31, 2) := by decide +kernel
theorem dJ4_signedHashCode_17 : decode cJ4_signedHashCode 17 = .ok (.iload_n 0, 1) := by decide +kernel
theorem dJ4_signedHashCode_18 : decode cJ4_signedHashCode 18 = .ok (.imul, 1) := by decide +kernel
theorem dJ4_signedHashCode_19 : decode cJ4_signedHashCode 19 = .ok (.aload_n 1, 1) := by decide +kernel
theorem dJ4_signedHashCode_20 : decode cJ4_signedHashCode 20 = .ok (.iload 5, 2) := by decide +kernel
theorem dJ4_signedHashCode_22 : decode cJ4_signedHashCode 22 = .ok (.baload, 1) := by decide +kernel
theorem dJ4_signedHashCode_23 : decode cJ4_signedHashCode 23 = .ok (.sipush 255, 3) := by decide +kernel
theorem dJ4_signedHashCode_26 : decode cJ4_signedHashCode 26 = .ok (.iand, 1) := by decide +kernel
theorem dJ4_signedHashCode_27 : decode cJ4_signedHashCode 27 = .ok (.iadd, 1) := by decide +kernel
theorem dJ4_signedHashCode_28 : decode cJ4_signedHashCode 28 = .ok (.istore_n 0, 1) := by decide +kernel
theorem dJ4_signedHashCode_29 : decode cJ4_signedHashCode 29 = .ok (.iinc 5 1, 3) := by decide +kernel
theorem dJ4_signedHashCode_32 : decode cJ4_signedHashCode 32 = .ok (.goto (-24), 3) := by decide +kernel
theorem dJ4_signedHashCode_35 : decode cJ4_signedHashCode 35 = .ok (.iload_n 0, 1) := by decide +kernel
theorem dJ4_signedHashCode_36 : decode cJ4_signedHashCode 36 = .ok (.ireturn, 1) := by decide +kernel
theorem ycJ4_signedHashCode : yJ4_signedHashCode.cls ≠ "java/lang/invoke/MethodHandle" ∧ yJ4_signedHashCode.cls ≠ "java/lang/invoke/VarHandle" ∧ (parseMethodDescriptor yJ4_signedHashCode.desc).map (fun d => d.parameters.length) = some 4 := by decide +kernel
def lp_J4_signedHashCode_8 (p1 : Nat) (p2 : Int32) (p3 : Int32) (q : Nat) : Int32 → Int32 → Act Int32 := match q with
  | 0 => fun _ _ => fail
  | q + 1 => fun w1 w2 =>
    if (p2 + p3) ≤ w2 then
      pur w1
    else
      bnd (ldI 2 p1 w2) fun v3 =>
      (lp_J4_signedHashCode_8 p1 p2 p3 q) ((31 * w1) + (v3 &&& 255)) (w2 + 1)
def f_J4_signedHashCode (n : Nat) (p0 : Int32) (p1 : Nat) (p2 : Int32) (p3 : Int32) : Act Int32 :=
  lp_J4_signedHashCode_8 p1 p2 p3 n p0 p2
set_option maxHeartbeats 4000000 in
theorem s_lp_J4_signedHashCode_8 {X : Cx} (hX : Ok X (@Eq Mem) cJ4_signedHashCode RJ4 6 (some FieldType.int) 0 0) (hnh : Noh X) (p1 : Nat) (p2 : Int32) (p3 : Int32) (q : Nat) : ∀ (w1 : Int32) (w2 : Int32), Sim X cvI 8 [(0, .int w1), (1, rv p1), (4, .int (p2 + p3)), (5, .int w2)] [] (lp_J4_signedHashCode_8 p1 p2 p3 q w1 w2) := by
  induction q with
  | zero => intro w1 w2; exact s_fail
  | succ q ih8 =>
    intro w1 w2
    rw [lp_J4_signedHashCode_8]
    refine s_iload hX dJ4_signedHashCode_8 3 rfl ?_
    refine s_iload hX dJ4_signedHashCode_10 2 rfl ?_
    refine s_icmp_ge (tgt := 35) hX dJ4_signedHashCode_12 (by decide) ?_ ?_
    · refine s_iload_n hX dJ4_signedHashCode_35 rfl 0 rfl ?_
      exact s_iret hX dJ4_signedHashCode_36
    · refine s_bipush (v := 31) hX dJ4_signedHashCode_15 (by decide) ?_
      refine s_iload_n hX dJ4_signedHashCode_17 rfl 0 rfl ?_
      refine s_imul hX dJ4_signedHashCode_18 ?_
      refine s_aload_n hX dJ4_signedHashCode_19 rfl 1 rfl ?_
      refine s_iload hX dJ4_signedHashCode_20 3 rfl ?_
      refine s_bald hX (eqA 2) dJ4_signedHashCode_22 (fun v3 => ?_)
      refine s_sipush (v := 255) hX dJ4_signedHashCode_23 (by decide) ?_
      refine s_iand hX dJ4_signedHashCode_26 ?_
      refine s_iadd hX dJ4_signedHashCode_27 ?_
      refine s_istore_n (i := 0) (L2 := [(0, .int ((31 * w1) + (v3 &&& 255))), (1, rv p1), (4, .int (p2 + p3)), (5, .int w2)]) hX dJ4_signedHashCode_28 rfl (by decide) rfl ?_
      refine s_iinc (k := 3) (v := (w2 + 1)) (L2 := [(5, .int (w2 + 1)), (0, .int ((31 * w1) + (v3 &&& 255))), (1, rv p1), (4, .int (p2 + p3))]) hX dJ4_signedHashCode_29 rfl rfl (by decide) rfl ?_
      refine s_goto (tgt := 8) hX dJ4_signedHashCode_32 (by decide) ?_
      exact s_sub [1, 2, 3, 0] rfl (ih8 ((31 * w1) + (v3 &&& 255)) (w2 + 1))
set_option maxHeartbeats 4000000 in
theorem ct_J4_signedHashCode (l : Launch) (n : Nat) (p0 : Int32) (p1 : Nat) (p2 : Int32) (p3 : Int32) : Ct l (@Eq Mem) yJ4_signedHashCode (ws_ yJ4_signedHashCode cJ4_signedHashCode 6 (some FieldType.int)) 0 0 cvI [.int p0, rv p1, .int p2, .int p3] (f_J4_signedHashCode n p0 p1 p2 p3) := by
  refine Ct.of (own := RJ4) (L := [(0, .int p0), (1, rv p1), (2, .int p2), (3, .int p3)]) (by decide +kernel) rfl (by first | decide | simp [lg_sl, rv_cat, cat_i, cat_l]) (by first | rfl | simp [lv_args, rv_cat, cat_i, cat_l]) eqZ (fun X hXl hX hnh hin => ?_)
  subst hXl
  unfold f_J4_signedHashCode
  refine s_iload_n hX dJ4_signedHashCode_0 rfl 2 rfl ?_
  refine s_iload_n hX dJ4_signedHashCode_1 rfl 3 rfl ?_
  refine s_iadd hX dJ4_signedHashCode_2 ?_
  refine s_istore (i := 4) (L2 := [(4, .int (p2 + p3)), (0, .int p0), (1, rv p1), (2, .int p2), (3, .int p3)]) hX dJ4_signedHashCode_3 (by decide) rfl ?_
  refine s_iload_n hX dJ4_signedHashCode_5 rfl 3 rfl ?_
  refine s_istore (i := 5) (L2 := [(5, .int p2), (4, .int (p2 + p3)), (0, .int p0), (1, rv p1), (2, .int p2), (3, .int p3)]) hX dJ4_signedHashCode_6 (by decide) rfl ?_
  exact s_sub [2, 3, 1, 0] rfl (s_lp_J4_signedHashCode_8 hX hnh p1 p2 p3 n p0 p2)
theorem dJ4_vectorizedHashCode_0 : decode cJ4_vectorizedHashCode 0 = .ok (.iload 4, 2) := by decide +kernel
theorem dJ4_vectorizedHashCode_2 : decode cJ4_vectorizedHashCode 2 = .ok (.tableswitch 127 4 10 #[42, 55, 127, 127, 88, 101, 114], 42) := by decide +kernel
theorem dJ4_vectorizedHashCode_44 : decode cJ4_vectorizedHashCode 44 = .ok (.iload_n 3, 1) := by decide +kernel
theorem dJ4_vectorizedHashCode_45 : decode cJ4_vectorizedHashCode 45 = .ok (.aload_n 0, 1) := by decide +kernel
theorem dJ4_vectorizedHashCode_46 : decode cJ4_vectorizedHashCode 46 = .ok (.checkcast 60, 3) := by decide +kernel
theorem dJ4_vectorizedHashCode_49 : decode cJ4_vectorizedHashCode 49 = .ok (.iload_n 1, 1) := by decide +kernel
theorem dJ4_vectorizedHashCode_50 : decode cJ4_vectorizedHashCode 50 = .ok (.iload_n 2, 1) := by decide +kernel
theorem dJ4_vectorizedHashCode_51 : decode cJ4_vectorizedHashCode 51 = .ok (.invokestatic 62, 3) := by decide +kernel
theorem dJ4_vectorizedHashCode_54 : decode cJ4_vectorizedHashCode 54 = .ok (.goto 103, 3) := by decide +kernel
theorem dJ4_vectorizedHashCode_57 : decode cJ4_vectorizedHashCode 57 = .ok (.aload_n 0, 1) := by decide +kernel
theorem dJ4_vectorizedHashCode_58 : decode cJ4_vectorizedHashCode 58 = .ok (.instanceof 60, 3) := by decide +kernel
theorem dJ4_vectorizedHashCode_61 : decode cJ4_vectorizedHashCode 61 = .ok (.ifCond .eq 16, 3) := by decide +kernel
theorem dJ4_vectorizedHashCode_64 : decode cJ4_vectorizedHashCode 64 = .ok (.iload_n 3, 1) := by decide +kernel
theorem dJ4_vectorizedHashCode_65 : decode cJ4_vectorizedHashCode 65 = .ok (.aload_n 0, 1) := by decide +kernel
theorem dJ4_vectorizedHashCode_66 : decode cJ4_vectorizedHashCode 66 = .ok (.checkcast 60, 3) := by decide +kernel
theorem dJ4_vectorizedHashCode_69 : decode cJ4_vectorizedHashCode 69 = .ok (.iload_n 1, 1) := by decide +kernel
theorem dJ4_vectorizedHashCode_70 : decode cJ4_vectorizedHashCode 70 = .ok (.iload_n 2, 1) := by decide +kernel
theorem dJ4_vectorizedHashCode_71 : decode cJ4_vectorizedHashCode 71 = .ok (.invokestatic 66, 3) := by decide +kernel
theorem dJ4_vectorizedHashCode_74 : decode cJ4_vectorizedHashCode 74 = .ok (.goto 83, 3) := by decide +kernel
theorem dJ4_vectorizedHashCode_77 : decode cJ4_vectorizedHashCode 77 = .ok (.iload_n 3, 1) := by decide +kernel
theorem dJ4_vectorizedHashCode_78 : decode cJ4_vectorizedHashCode 78 = .ok (.aload_n 0, 1) := by decide +kernel
theorem dJ4_vectorizedHashCode_79 : decode cJ4_vectorizedHashCode 79 = .ok (.checkcast 69, 3) := by decide +kernel
theorem dJ4_vectorizedHashCode_82 : decode cJ4_vectorizedHashCode 82 = .ok (.iload_n 1, 1) := by decide +kernel
theorem dJ4_vectorizedHashCode_83 : decode cJ4_vectorizedHashCode 83 = .ok (.iload_n 2, 1) := by decide +kernel
theorem dJ4_vectorizedHashCode_84 : decode cJ4_vectorizedHashCode 84 = .ok (.invokestatic 71, 3) := by decide +kernel
theorem dJ4_vectorizedHashCode_87 : decode cJ4_vectorizedHashCode 87 = .ok (.goto 70, 3) := by decide +kernel
theorem dJ4_vectorizedHashCode_90 : decode cJ4_vectorizedHashCode 90 = .ok (.iload_n 3, 1) := by decide +kernel
theorem dJ4_vectorizedHashCode_91 : decode cJ4_vectorizedHashCode 91 = .ok (.aload_n 0, 1) := by decide +kernel
theorem dJ4_vectorizedHashCode_92 : decode cJ4_vectorizedHashCode 92 = .ok (.checkcast 60, 3) := by decide +kernel
theorem dJ4_vectorizedHashCode_95 : decode cJ4_vectorizedHashCode 95 = .ok (.iload_n 1, 1) := by decide +kernel
theorem dJ4_vectorizedHashCode_96 : decode cJ4_vectorizedHashCode 96 = .ok (.iload_n 2, 1) := by decide +kernel
theorem dJ4_vectorizedHashCode_97 : decode cJ4_vectorizedHashCode 97 = .ok (.invokestatic 75, 3) := by decide +kernel
theorem dJ4_vectorizedHashCode_100 : decode cJ4_vectorizedHashCode 100 = .ok (.goto 57, 3) := by decide +kernel
theorem dJ4_vectorizedHashCode_103 : decode cJ4_vectorizedHashCode 103 = .ok (.iload_n 3, 1) := by decide +kernel
theorem dJ4_vectorizedHashCode_104 : decode cJ4_vectorizedHashCode 104 = .ok (.aload_n 0, 1) := by decide +kernel
theorem dJ4_vectorizedHashCode_105 : decode cJ4_vectorizedHashCode 105 = .ok (.checkcast 77, 3) := by decide +kernel
theorem dJ4_vectorizedHashCode_108 : decode cJ4_vectorizedHashCode 108 = .ok (.iload_n 1, 1) := by decide +kernel
theorem dJ4_vectorizedHashCode_109 : decode cJ4_vectorizedHashCode 109 = .ok (.iload_n 2, 1) := by decide +kernel
theorem dJ4_vectorizedHashCode_110 : decode cJ4_vectorizedHashCode 110 = .ok (.invokestatic 79, 3) := by decide +kernel
theorem dJ4_vectorizedHashCode_113 : decode cJ4_vectorizedHashCode 113 = .ok (.goto 44, 3) := by decide +kernel
theorem dJ4_vectorizedHashCode_116 : decode cJ4_vectorizedHashCode 116 = .ok (.iload_n 3, 1) := by decide +kernel
theorem dJ4_vectorizedHashCode_117 : decode cJ4_vectorizedHashCode 117 = .ok (.aload_n 0, 1) := by decide +kernel
theorem dJ4_vectorizedHashCode_118 : decode cJ4_vectorizedHashCode 118 = .ok (.checkcast 82, 3) := by decide +kernel
theorem dJ4_vectorizedHashCode_121 : decode cJ4_vectorizedHashCode 121 = .ok (.iload_n 1, 1) := by decide +kernel
theorem dJ4_vectorizedHashCode_122 : decode cJ4_vectorizedHashCode 122 = .ok (.iload_n 2, 1) := by decide +kernel
theorem dJ4_vectorizedHashCode_123 : decode cJ4_vectorizedHashCode 123 = .ok (.invokestatic 84, 3) := by decide +kernel
theorem dJ4_vectorizedHashCode_126 : decode cJ4_vectorizedHashCode 126 = .ok (.goto 31, 3) := by decide +kernel
theorem dJ4_vectorizedHashCode_129 : decode cJ4_vectorizedHashCode 129 = .ok (.new 87, 3) := by decide +kernel
theorem dJ4_vectorizedHashCode_132 : decode cJ4_vectorizedHashCode 132 = .ok (.dup, 1) := by decide +kernel
theorem dJ4_vectorizedHashCode_133 : decode cJ4_vectorizedHashCode 133 = .ok (.new 89, 3) := by decide +kernel
theorem dJ4_vectorizedHashCode_136 : decode cJ4_vectorizedHashCode 136 = .ok (.dup, 1) := by decide +kernel
theorem dJ4_vectorizedHashCode_137 : decode cJ4_vectorizedHashCode 137 = .ok (.invokespecial 91, 3) := by decide +kernel
theorem dJ4_vectorizedHashCode_140 : decode cJ4_vectorizedHashCode 140 = .ok (.ldc 92, 2) := by decide +kernel
theorem dJ4_vectorizedHashCode_142 : decode cJ4_vectorizedHashCode 142 = .ok (.invokevirtual 94, 3) := by decide +kernel
theorem dJ4_vectorizedHashCode_145 : decode cJ4_vectorizedHashCode 145 = .ok (.iload 4, 2) := by decide +kernel
theorem dJ4_vectorizedHashCode_147 : decode cJ4_vectorizedHashCode 147 = .ok (.invokevirtual 98, 3) := by decide +kernel
theorem dJ4_vectorizedHashCode_150 : decode cJ4_vectorizedHashCode 150 = .ok (.invokevirtual 101, 3) := by decide +kernel
theorem dJ4_vectorizedHashCode_153 : decode cJ4_vectorizedHashCode 153 = .ok (.invokespecial 105, 3) := by decide +kernel
theorem dJ4_vectorizedHashCode_156 : decode cJ4_vectorizedHashCode 156 = .ok (.athrow, 1) := by decide +kernel
theorem dJ4_vectorizedHashCode_157 : decode cJ4_vectorizedHashCode 157 = .ok (.ireturn, 1) := by decide +kernel
theorem ycJ4_vectorizedHashCode : yJ4_vectorizedHashCode.cls ≠ "java/lang/invoke/MethodHandle" ∧ yJ4_vectorizedHashCode.cls ≠ "java/lang/invoke/VarHandle" ∧ (parseMethodDescriptor yJ4_vectorizedHashCode.desc).map (fun d => d.parameters.length) = some 5 := by decide +kernel
def f_J4_vectorizedHashCode (n : Nat) (p0 : Nat) (p1 : Int32) (p2 : Int32) (p3 : Int32) (p4 : Int32) : Act Int32 :=
  sw p4 (4) [
    bnd (cstB p0) fun _ =>
    bnd (nt (f_J4_signedHashCode n p3 p0 p1 p2)) fun v1 =>
    pur v1,
    fail,
    fail,
    fail,
    fail,
    fail,
    fail] (
    fail)
set_option maxHeartbeats 4000000 in
theorem ct_J4_vectorizedHashCode (l : Launch) (n : Nat) (p0 : Nat) (p1 : Int32) (p2 : Int32) (p3 : Int32) (p4 : Int32) : Ct l (@Eq Mem) yJ4_vectorizedHashCode (ws_ yJ4_vectorizedHashCode cJ4_vectorizedHashCode 5 (some FieldType.int)) 1 25 cvI [rv p0, .int p1, .int p2, .int p3, .int p4] (f_J4_vectorizedHashCode n p0 p1 p2 p3 p4) := by
  refine Ct.of (own := RJ4) (L := [(0, rv p0), (1, .int p1), (2, .int p2), (3, .int p3), (4, .int p4)]) (by decide +kernel) rfl (by first | decide | simp [lg_sl, rv_cat, cat_i, cat_l]) (by first | rfl | simp [lv_args, rv_cat, cat_i, cat_l]) eqZ (fun X hXl hX hnh hin => ?_)
  subst hXl
  unfold f_J4_vectorizedHashCode
  refine s_iload hX dJ4_vectorizedHashCode_0 4 rfl ?_
  refine s_sw hX dJ4_vectorizedHashCode_2 (dt := 129) (by decide) (tgts := [44, 57, 129, 129, 90, 103, 116]) (by decide) (by decide) ?_ ?_
  · exact s_fail
  · refine ⟨?_, ?_, ?_, ?_, ?_, ?_, ?_, trivial⟩
    · refine s_iload_n hX dJ4_vectorizedHashCode_44 rfl 3 rfl ?_
      refine s_aload_n hX dJ4_vectorizedHashCode_45 rfl 0 rfl ?_
      refine s_castB hX (eqA 2) q845 dJ4_vectorizedHashCode_46 ?_
      refine s_iload_n hX dJ4_vectorizedHashCode_49 rfl 1 rfl ?_
      refine s_iload_n hX dJ4_vectorizedHashCode_50 rfl 2 rfl ?_
      refine s_callS_I (n := 4) (As := [.int p3, rv p0, .int p1, .int p2]) (st := []) hX (ct_J4_signedHashCode X.l n p3 p0 p1 p2) q846 q847 q94 q848 ycJ4_signedHashCode (by decide) rfl (by first | decide | simp [rv_cat, cat_i, cat_l]) dJ4_vectorizedHashCode_51 (fun v1 => ?_)
      refine s_goto (tgt := 157) hX dJ4_vectorizedHashCode_54 (by decide) ?_
      exact s_iret hX dJ4_vectorizedHashCode_157
    · exact s_fail
    · exact s_fail
    · exact s_fail
    · exact s_fail
    · exact s_fail
    · exact s_fail
theorem dJ13_hashCode_0 : decode cJ13_hashCode 0 = .ok (.aload_n 0, 1) := by decide +kernel
theorem dJ13_hashCode_1 : decode cJ13_hashCode 1 = .ok (.arraylength, 1) := by decide +kernel
theorem dJ13_hashCode_2 : decode cJ13_hashCode 2 = .ok (.lookupswitch 40 #[(0, 26), (1, 30)], 26) := by decide +kernel
theorem dJ13_hashCode_28 : decode cJ13_hashCode 28 = .ok (.iconst 0, 1) := by decide +kernel
theorem dJ13_hashCode_29 : decode cJ13_hashCode 29 = .ok (.goto 22, 3) := by decide +kernel
theorem dJ13_hashCode_32 : decode cJ13_hashCode 32 = .ok (.aload_n 0, 1) := by decide +kernel
theorem dJ13_hashCode_33 : decode cJ13_hashCode 33 = .ok (.iconst 0, 1) := by decide +kernel
theorem dJ13_hashCode_34 : decode cJ13_hashCode 34 = .ok (.baload, 1) := by decide +kernel
theorem dJ13_hashCode_35 : decode cJ13_hashCode 35 = .ok (.sipush 255, 3) := by decide +kernel
theorem dJ13_hashCode_38 : decode cJ13_hashCode 38 = .ok (.iand, 1) := by decide +kernel
theorem dJ13_hashCode_39 : decode cJ13_hashCode 39 = .ok (.goto 12, 3) := by decide +kernel
theorem dJ13_hashCode_42 : decode cJ13_hashCode 42 = .ok (.aload_n 0, 1) := by decide +kernel
theorem dJ13_hashCode_43 : decode cJ13_hashCode 43 = .ok (.iconst 0, 1) := by decide +kernel
theorem dJ13_hashCode_44 : decode cJ13_hashCode 44 = .ok (.aload_n 0, 1) := by decide +kernel
theorem dJ13_hashCode_45 : decode cJ13_hashCode 45 = .ok (.arraylength, 1) := by decide +kernel
theorem dJ13_hashCode_46 : decode cJ13_hashCode 46 = .ok (.iconst 0, 1) := by decide +kernel
theorem dJ13_hashCode_47 : decode cJ13_hashCode 47 = .ok (.iconst 4, 1) := by decide +kernel
theorem dJ13_hashCode_48 : decode cJ13_hashCode 48 = .ok (.invokestatic 84, 3) := by decide +kernel
theorem dJ13_hashCode_51 : decode cJ13_hashCode 51 = .ok (.ireturn, 1) := by decide +kernel
theorem ycJ13_hashCode : yJ13_hashCode.cls ≠ "java/lang/invoke/MethodHandle" ∧ yJ13_hashCode.cls ≠ "java/lang/invoke/VarHandle" ∧ (parseMethodDescriptor yJ13_hashCode.desc).map (fun d => d.parameters.length) = some 1 := by decide +kernel
def f_J13_hashCode (n : Nat) (p0 : Nat) : Act Int32 :=
  bnd (lenq 2 p0) fun v1 =>
  jn (fun (v2 : Int32) =>
    pur v2) fun j51 =>
  if v1 = 0 then
    j51 0
  else
    if v1 = 1 then
      bnd (ldI 2 p0 0) fun v3 =>
      j51 (v3 &&& 255)
    else
      bnd (lenq 2 p0) fun v4 =>
      bnd (nt (f_J4_vectorizedHashCode n p0 (0 : Int32) v4 (0 : Int32) (4 : Int32))) fun v5 =>
      j51 v5
set_option maxHeartbeats 4000000 in
theorem ct_J13_hashCode (l : Launch) (n : Nat) (p0 : Nat) : Ct l (@Eq Mem) yJ13_hashCode (ws_ yJ13_hashCode cJ13_hashCode 1 (some FieldType.int)) 2 49 cvI [rv p0] (f_J13_hashCode n p0) := by
  refine Ct.of (own := RJ13) (L := [(0, rv p0)]) (by decide +kernel) rfl (by first | decide | simp [lg_sl, rv_cat, cat_i, cat_l]) (by first | rfl | simp [lv_args, rv_cat, cat_i, cat_l]) eqZ (fun X hXl hX hnh hin => ?_)
  subst hXl
  unfold f_J13_hashCode
  refine s_aload_n hX dJ13_hashCode_0 rfl 0 rfl ?_
  refine s_alen (q := 2) hX (by decide) (eqA 2) dJ13_hashCode_1 (fun v1 => ?_)
  refine s_jn (P := fun j => ∀ (v2 : Int32), Sim X cvI 51 [] [.int v2] (j v2)) ?_ (fun j51 hj51 => ?_)
  · intro v2
    exact s_iret hX dJ13_hashCode_51
  · refine s_ite (fun hc0 => ?_) (fun hc0 => ?_)
    · refine s_lsw (k := 0) (off := 26) (tgt := 28) hX dJ13_hashCode_2 (by decide) hc0 (by decide) (by decide) ?_
      refine s_iconst (v := 0) hX dJ13_hashCode_28 rfl ?_
      refine s_goto (tgt := 51) hX dJ13_hashCode_29 (by decide) ?_
      exact s_sub [] rfl (hj51 0)
    · skip
      refine s_ite (fun hc1 => ?_) (fun hc1 => ?_)
      · refine s_lsw (k := 1) (off := 30) (tgt := 32) hX dJ13_hashCode_2 (by decide) hc1 (by decide) (by decide) ?_
        refine s_aload_n hX dJ13_hashCode_32 rfl 0 rfl ?_
        refine s_iconst (v := 0) hX dJ13_hashCode_33 rfl ?_
        refine s_bald hX (eqA 2) dJ13_hashCode_34 (fun v3 => ?_)
        refine s_sipush (v := 255) hX dJ13_hashCode_35 (by decide) ?_
        refine s_iand hX dJ13_hashCode_38 ?_
        refine s_goto (tgt := 51) hX dJ13_hashCode_39 (by decide) ?_
        exact s_sub [] rfl (hj51 (v3 &&& 255))
      · skip
        refine s_lswd (ks := [0, 1]) (tgt := 42) hX dJ13_hashCode_2 (by decide) (by decide) ⟨hc0, hc1, trivial⟩ (by decide) ?_
        refine s_aload_n hX dJ13_hashCode_42 rfl 0 rfl ?_
        refine s_iconst (v := 0) hX dJ13_hashCode_43 rfl ?_
        refine s_aload_n hX dJ13_hashCode_44 rfl 0 rfl ?_
        refine s_alen (q := 2) hX (by decide) (eqA 2) dJ13_hashCode_45 (fun v4 => ?_)
        refine s_iconst (v := 0) hX dJ13_hashCode_46 rfl ?_
        refine s_iconst (v := 4) hX dJ13_hashCode_47 rfl ?_
        refine s_callS_I (n := 5) (As := [rv p0, .int 0, .int v4, .int 0, .int 4]) (st := []) hX (ct_J4_vectorizedHashCode X.l n p0 (0 : Int32) v4 (0 : Int32) (4 : Int32)) q842 q843 q94 q844 ycJ4_vectorizedHashCode (by decide) rfl (by first | decide | simp [rv_cat, cat_i, cat_l]) dJ13_hashCode_48 (fun v5 => ?_)
        exact s_sub [] rfl (hj51 v5)
theorem dJ11_hashCode_0 : decode cJ11_hashCode 0 = .ok (.aload_n 0, 1) := by decide +kernel
theorem dJ11_hashCode_1 : decode cJ11_hashCode 1 = .ok (.getfield 19, 3) := by decide +kernel
theorem dJ11_hashCode_4 : decode cJ11_hashCode 4 = .ok (.istore_n 1, 1) := by decide +kernel
theorem dJ11_hashCode_5 : decode cJ11_hashCode 5 = .ok (.iload_n 1, 1) := by decide +kernel
theorem dJ11_hashCode_6 : decode cJ11_hashCode 6 = .ok (.ifCond .ne 52, 3) := by decide +kernel
theorem dJ11_hashCode_9 : decode cJ11_hashCode 9 = .ok (.aload_n 0, 1) := by decide +kernel
theorem dJ11_hashCode_10 : decode cJ11_hashCode 10 = .ok (.getfield 23, 3) := by decide +kernel
theorem dJ11_hashCode_13 : decode cJ11_hashCode 13 = .ok (.ifCond .ne 45, 3) := by decide +kernel
theorem dJ11_hashCode_16 : decode cJ11_hashCode 16 = .ok (.aload_n 0, 1) := by decide +kernel
theorem dJ11_hashCode_17 : decode cJ11_hashCode 17 = .ok (.invokevirtual 492, 3) := by decide +kernel
theorem dJ11_hashCode_20 : decode cJ11_hashCode 20 = .ok (.ifCond .eq 13, 3) := by decide +kernel
theorem dJ11_hashCode_23 : decode cJ11_hashCode 23 = .ok (.aload_n 0, 1) := by decide +kernel
theorem dJ11_hashCode_24 : decode cJ11_hashCode 24 = .ok (.getfield 9, 3) := by decide +kernel
theorem dJ11_hashCode_27 : decode cJ11_hashCode 27 = .ok (.invokestatic 628, 3) := by decide +kernel
theorem dJ11_hashCode_30 : decode cJ11_hashCode 30 = .ok (.goto 10, 3) := by decide +kernel
theorem dJ11_hashCode_33 : decode cJ11_hashCode 33 = .ok (.aload_n 0, 1) := by decide +kernel
theorem dJ11_hashCode_34 : decode cJ11_hashCode 34 = .ok (.getfield 9, 3) := by decide +kernel
theorem dJ11_hashCode_37 : decode cJ11_hashCode 37 = .ok (.invokestatic 632, 3) := by decide +kernel
theorem dJ11_hashCode_40 : decode cJ11_hashCode 40 = .ok (.istore_n 1, 1) := by decide +kernel
theorem dJ11_hashCode_41 : decode cJ11_hashCode 41 = .ok (.iload_n 1, 1) := by decide +kernel
theorem dJ11_hashCode_42 : decode cJ11_hashCode 42 = .ok (.ifCond .ne 11, 3) := by decide +kernel
theorem dJ11_hashCode_45 : decode cJ11_hashCode 45 = .ok (.aload_n 0, 1) := by decide +kernel
theorem dJ11_hashCode_46 : decode cJ11_hashCode 46 = .ok (.iconst 1, 1) := by decide +kernel
theorem dJ11_hashCode_47 : decode cJ11_hashCode 47 = .ok (.putfield 23, 3) := by decide +kernel
theorem dJ11_hashCode_50 : decode cJ11_hashCode 50 = .ok (.goto 8, 3) := by decide +kernel
theorem dJ11_hashCode_53 : decode cJ11_hashCode 53 = .ok (.aload_n 0, 1) := by decide +kernel
theorem dJ11_hashCode_54 : decode cJ11_hashCode 54 = .ok (.iload_n 1, 1) := by decide +kernel
theorem dJ11_hashCode_55 : decode cJ11_hashCode 55 = .ok (.putfield 19, 3) := by decide +kernel
theorem dJ11_hashCode_58 : decode cJ11_hashCode 58 = .ok (.iload_n 1, 1) := by decide +kernel
theorem dJ11_hashCode_59 : decode cJ11_hashCode 59 = .ok (.ireturn, 1) := by decide +kernel
theorem ycJ11_hashCode : yJ11_hashCode.cls ≠ "java/lang/invoke/MethodHandle" ∧ yJ11_hashCode.cls ≠ "java/lang/invoke/VarHandle" ∧ (parseMethodDescriptor yJ11_hashCode.desc).map (fun d => d.parameters.length) = some 0 := by decide +kernel
theorem yvJ11_hashCode : yJ11_hashCode.cls = RR 19 ∧ yJ11_hashCode.cls ≠ "java/lang/invoke/MethodHandle" ∧ yJ11_hashCode.cls ≠ "java/lang/invoke/VarHandle" ∧ (parseMethodDescriptor yJ11_hashCode.desc).map (fun d => d.parameters.length) = some 0 := ⟨rfl, ycJ11_hashCode⟩
def f_J11_hashCode (n : Nat) (p0 : Nat) : Act Int32 :=
  bnd (getI 19 2 p0) fun v1 =>
  jn (fun (v2 : Int32) =>
    pur v2) fun j58 =>
  if ¬ v1 = 0 then
    j58 v1
  else
    bnd (getI 19 3 p0) fun v3 =>
    if ¬ v3 = 0 then
      j58 v1
    else
      bnd (gd 19 p0 (nt (f_J11_isLatin1 p0))) fun v4 =>
      if v4 = 0 then
        fail
      else
        bnd (getR 19 0 p0) fun v5 =>
        bnd (nt (f_J13_hashCode n v5)) fun v6 =>
        if ¬ v6 = 0 then
          bnd (putI 19 2 p0 v6) fun _ =>
          j58 v6
        else
          bnd (putS .boolean 19 3 p0 1) fun _ =>
          j58 v6
set_option maxHeartbeats 4000000 in
theorem ct_J11_hashCode (l : Launch) (n : Nat) (p0 : Nat) : Ct l (@Eq Mem) yJ11_hashCode (ws_ yJ11_hashCode cJ11_hashCode 2 (some FieldType.int)) 3 69 cvI [rv p0] (f_J11_hashCode n p0) := by
  refine Ct.of (own := RJ11) (L := [(0, rv p0)]) (by decide +kernel) rfl (by first | decide | simp [lg_sl, rv_cat, cat_i, cat_l]) (by first | rfl | simp [lv_args, rv_cat, cat_i, cat_l]) eqZ (fun X hXl hX hnh hin => ?_)
  subst hXl
  unfold f_J11_hashCode
  refine s_aload_n hX dJ11_hashCode_0 rfl 0 rfl ?_
  refine s_getI (ci := 19) (j := 2) (ref := "java/lang/String") hX (eqG 19) in_J11 (Or.inl q741) (by decide) (by decide) (by decide) rfl dJ11_hashCode_1 (fun _ h9 => h9) (fun v1 => ?_)
  refine s_istore_n (i := 1) (L2 := [(1, .int v1), (0, rv p0)]) hX dJ11_hashCode_4 rfl (by decide) (by first | (simp [rv_cat, cat_i, cat_l]; done) | (simp [rv_cat, cat_i, cat_l]; decide)) ?_
  refine s_iload_n hX dJ11_hashCode_5 rfl 0 rfl ?_
  refine s_jn (P := fun j => ∀ (v2 : Int32), Sim X cvI 58 [(1, .int v2)] [] (j v2)) ?_ (fun j58 hj58 => ?_)
  · intro v2
    refine s_iload_n hX dJ11_hashCode_58 rfl 0 rfl ?_
    exact s_iret hX dJ11_hashCode_59
  · refine s_if_ne (tgt := 58) hX dJ11_hashCode_6 (by decide) ?_ ?_
    · exact s_sub [0] rfl (hj58 v1)
    · refine s_aload_n hX dJ11_hashCode_9 rfl 1 rfl ?_
      refine s_getI (ci := 19) (j := 3) (ref := "java/lang/String") hX (eqG 19) in_J11 (Or.inl q742) (by decide) (by decide) (by decide) rfl dJ11_hashCode_10 (fun _ h9 => h9) (fun v3 => ?_)
      refine s_if_ne (tgt := 58) hX dJ11_hashCode_13 (by decide) ?_ ?_
      · exact s_sub [0] rfl (hj58 v1)
      · refine s_aload_n hX dJ11_hashCode_16 rfl 1 rfl ?_
        refine s_callV_I (ci := 19) (n := 0) (As := []) (st := []) hX (eqK 20) (by decide) (ct_J11_isLatin1 X.l p0) q835 q836 q837 q107 q838 yvJ11_isLatin1 (by decide) rfl (by first | decide | simp [rv_cat, cat_i, cat_l]) dJ11_hashCode_17 (fun v4 => ?_)
        refine s_if_eq (tgt := 33) hX dJ11_hashCode_20 (by decide) ?_ ?_
        · exact s_fail
        · refine s_aload_n hX dJ11_hashCode_23 rfl 1 rfl ?_
          refine s_getR (ci := 19) (j := 0) (ref := "java/lang/String") hX (eqG 19) in_J11 (Or.inl q739) (by decide) (by decide) (by decide) rfl dJ11_hashCode_24 (fun _ h9 => h9) (fun v5 => ?_)
          refine s_callS_I (n := 1) (As := [rv v5]) (st := []) hX (ct_J13_hashCode X.l n v5) q839 q840 q109 q841 ycJ13_hashCode (by decide) rfl (by first | decide | simp [rv_cat, cat_i, cat_l]) dJ11_hashCode_27 (fun v6 => ?_)
          refine s_goto (tgt := 40) hX dJ11_hashCode_30 (by decide) ?_
          refine s_istore_n (i := 1) (L2 := [(1, .int v6), (0, rv p0)]) hX dJ11_hashCode_40 rfl (by decide) (by first | (simp [rv_cat, cat_i, cat_l]; done) | (simp [rv_cat, cat_i, cat_l]; decide)) ?_
          refine s_iload_n hX dJ11_hashCode_41 rfl 0 rfl ?_
          refine s_if_ne (tgt := 53) hX dJ11_hashCode_42 (by decide) ?_ ?_
          · refine s_aload_n hX dJ11_hashCode_53 rfl 1 rfl ?_
            refine s_iload_n hX dJ11_hashCode_54 rfl 0 rfl ?_
            refine s_putI (ci := 19) (j := 2) (ref := "java/lang/String") hX (eqG 19) (eqP 19) in_J11 tyJ11_ok nmJ11 (Or.inl q741) (by decide) (by decide) (by decide) rfl rfl rfl dJ11_hashCode_55 (fun _ h9 => h9) ?_
            exact s_sub [0] rfl (hj58 v6)
          · refine s_aload_n hX dJ11_hashCode_45 rfl 1 rfl ?_
            refine s_iconst (v := 1) hX dJ11_hashCode_46 rfl ?_
            refine s_putS (ci := 19) (j := 3) (ref := "java/lang/String") hX (eqG 19) (eqP 19) in_J11 tyJ11_ok nmJ11 (Or.inl q742) (by decide) (by decide) (by decide) rfl rfl rfl dJ11_hashCode_47 (fun _ h9 => h9) ?_
            refine s_goto (tgt := 58) hX dJ11_hashCode_50 (by decide) ?_
            exact s_sub [0] rfl (hj58 v6)
