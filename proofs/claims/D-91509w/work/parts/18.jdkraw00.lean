set_option maxRecDepth 100000
theorem dJ0_init_0 : decode cJ0_init 0 = .ok (.aload_n 0, 1) := by decide +kernel
theorem dJ0_init_1 : decode cJ0_init 1 = .ok (.invokespecial 1, 3) := by decide +kernel
theorem dJ0_init_4 : decode cJ0_init 4 = .ok (.return_, 1) := by decide +kernel
theorem ycJ0_init : yJ0_init.cls ≠ "java/lang/invoke/MethodHandle" ∧ yJ0_init.cls ≠ "java/lang/invoke/VarHandle" ∧ (parseMethodDescriptor yJ0_init.desc).map (fun d => d.parameters.length) = some 0 := by decide +kernel
def f_J0_init (p0 : Nat) : Act Unit :=
  nn p0 <|
  pur ()
set_option maxHeartbeats 4000000 in
theorem ct_J0_init (l : Launch) (p0 : Nat) : Ct l (@Eq Mem) yJ0_init (ws_ yJ0_init cJ0_init 1 none) 1 24 cvU [rv p0] (f_J0_init p0) := by
  refine Ct.of (own := RJ0) (L := [(0, rv p0)]) (by decide +kernel) rfl (by first | decide | simp [lg_sl, rv_cat, cat_i, cat_l]) (by first | rfl | simp [lv_args, rv_cat, cat_i, cat_l]) eqZ (fun X hXl hX hnh hin => ?_)
  subst hXl
  unfold f_J0_init
  refine s_aload_n hX dJ0_init_0 rfl 0 rfl ?_
  refine s_oinit hX (by decide) q145 q126 q127 (by decide) (by decide) dJ0_init_1 ?_
  exact s_vret hX dJ0_init_4
theorem dJ1_init_0 : decode cJ1_init 0 = .ok (.aload_n 0, 1) := by decide +kernel
theorem dJ1_init_1 : decode cJ1_init 1 = .ok (.invokespecial 1, 3) := by decide +kernel
theorem dJ1_init_4 : decode cJ1_init 4 = .ok (.aload_n 0, 1) := by decide +kernel
theorem dJ1_init_5 : decode cJ1_init 5 = .ok (.iconst 0, 1) := by decide +kernel
theorem dJ1_init_6 : decode cJ1_init 6 = .ok (.putfield 7, 3) := by decide +kernel
theorem dJ1_init_9 : decode cJ1_init 9 = .ok (.return_, 1) := by decide +kernel
theorem ycJ1_init : yJ1_init.cls ≠ "java/lang/invoke/MethodHandle" ∧ yJ1_init.cls ≠ "java/lang/invoke/VarHandle" ∧ (parseMethodDescriptor yJ1_init.desc).map (fun d => d.parameters.length) = some 0 := by decide +kernel
def f_J1_init (p0 : Nat) : Act Unit :=
  bnd (gd 17 p0 (nt (f_J0_init p0))) fun _ =>
  bnd (putI 17 0 p0 0) fun _ =>
  pur ()
set_option maxHeartbeats 4000000 in
theorem ct_J1_init (l : Launch) (p0 : Nat) : Ct l (@Eq Mem) yJ1_init (ws_ yJ1_init cJ1_init 1 none) 2 44 cvU [rv p0] (f_J1_init p0) := by
  refine Ct.of (own := RJ1) (L := [(0, rv p0)]) (by decide +kernel) rfl (by first | decide | simp [lg_sl, rv_cat, cat_i, cat_l]) (by first | rfl | simp [lv_args, rv_cat, cat_i, cat_l]) eqZ (fun X hXl hX hnh hin => ?_)
  subst hXl
  unfold f_J1_init
  refine s_aload_n hX dJ1_init_0 rfl 0 rfl ?_
  refine s_callI_U (ci := 17) (n := 0) (As := []) (st := []) hX (eqK 18) (by decide) (ct_J0_init X.l p0) q142 q143 q86 q144 rfl ycJ0_init (by decide) rfl (by first | decide | simp [rv_cat, cat_i, cat_l]) dJ1_init_1 (fun _ => ?_)
  refine s_aload_n hX dJ1_init_4 rfl 0 rfl ?_
  refine s_iconst (v := 0) hX dJ1_init_5 rfl ?_
  refine s_putI (ci := 17) (j := 0) (ref := "java/util/AbstractList") hX (eqG 17) (eqP 17) in_J2 tyJ2_ok nmJ2 (Or.inl q150) (by decide) (by decide) (by decide) rfl rfl rfl dJ1_init_6 (fun _ h9 => h9) ?_
  exact s_vret hX dJ1_init_9
theorem dJ2_init_0 : decode cJ2_init 0 = .ok (.aload_n 0, 1) := by decide +kernel
theorem dJ2_init_1 : decode cJ2_init 1 = .ok (.invokespecial 1, 3) := by decide +kernel
theorem dJ2_init_4 : decode cJ2_init 4 = .ok (.aload_n 0, 1) := by decide +kernel
theorem dJ2_init_5 : decode cJ2_init 5 = .ok (.getstatic 39, 3) := by decide +kernel
theorem dJ2_init_8 : decode cJ2_init 8 = .ok (.putfield 9, 3) := by decide +kernel
theorem dJ2_init_11 : decode cJ2_init 11 = .ok (.return_, 1) := by decide +kernel
theorem ycJ2_init : yJ2_init.cls ≠ "java/lang/invoke/MethodHandle" ∧ yJ2_init.cls ≠ "java/lang/invoke/VarHandle" ∧ (parseMethodDescriptor yJ2_init.desc).map (fun d => d.parameters.length) = some 0 := by decide +kernel
theorem yvJ2_init : yJ2_init.cls = RR 17 ∧ yJ2_init.cls ≠ "java/lang/invoke/MethodHandle" ∧ yJ2_init.cls ≠ "java/lang/invoke/VarHandle" ∧ (parseMethodDescriptor yJ2_init.desc).map (fun d => d.parameters.length) = some 0 := ⟨rfl, ycJ2_init⟩
def f_J2_init (p0 : Nat) : Act Unit :=
  bnd (gd 17 p0 (nt (f_J1_init p0))) fun _ =>
  bnd (gst 0) fun v1 =>
  bnd (putR 17 1 p0 v1) fun _ =>
  pur ()
set_option maxHeartbeats 4000000 in
theorem ct_J2_init (l : Launch) (p0 : Nat) : Ct l (@Eq Mem) yJ2_init (ws_ yJ2_init cJ2_init 1 none) 3 64 cvU [rv p0] (f_J2_init p0) := by
  refine Ct.of (own := RJ2) (L := [(0, rv p0)]) (by decide +kernel) rfl (by first | decide | simp [lg_sl, rv_cat, cat_i, cat_l]) (by first | rfl | simp [lv_args, rv_cat, cat_i, cat_l]) eqZ (fun X hXl hX hnh hin => ?_)
  subst hXl
  unfold f_J2_init
  refine s_aload_n hX dJ2_init_0 rfl 0 rfl ?_
  refine s_callI_U (ci := 17) (n := 0) (As := []) (st := []) hX (eqK 18) (by decide) (ct_J1_init X.l p0) q139 q140 q87 q141 rfl ycJ1_init (by decide) rfl (by first | decide | simp [rv_cat, cat_i, cat_l]) dJ2_init_1 (fun _ => ?_)
  refine s_aload_n hX dJ2_init_4 rfl 0 rfl ?_
  refine s_gst (j := 0) hX (eqS) (fun w b => b.2.2.2.2.1.1) q146 dJ2_init_5 (fun v1 => ?_)
  refine s_putR (ci := 17) (j := 1) (ref := "java/util/ArrayList") hX (eqG 17) (eqP 17) in_J2 tyJ2_ok nmJ2 (Or.inl q148) (by decide) (by decide) (by decide) rfl (fun v => by cases v <;> exact ⟨rfl, rfl⟩) rfl dJ2_init_8 (fun _ h9 => h9) ?_
  exact s_vret hX dJ2_init_11
theorem dJ2_size_0 : decode cJ2_size 0 = .ok (.aload_n 0, 1) := by decide +kernel
theorem dJ2_size_1 : decode cJ2_size 1 = .ok (.getfield 48, 3) := by decide +kernel
theorem dJ2_size_4 : decode cJ2_size 4 = .ok (.ireturn, 1) := by decide +kernel
theorem ycJ2_size : yJ2_size.cls ≠ "java/lang/invoke/MethodHandle" ∧ yJ2_size.cls ≠ "java/lang/invoke/VarHandle" ∧ (parseMethodDescriptor yJ2_size.desc).map (fun d => d.parameters.length) = some 0 := by decide +kernel
theorem yvJ2_size : yJ2_size.cls = RR 17 ∧ yJ2_size.cls ≠ "java/lang/invoke/MethodHandle" ∧ yJ2_size.cls ≠ "java/lang/invoke/VarHandle" ∧ (parseMethodDescriptor yJ2_size.desc).map (fun d => d.parameters.length) = some 0 := ⟨rfl, ycJ2_size⟩
def f_J2_size (p0 : Nat) : Act Int32 :=
  bnd (getI 17 2 p0) fun v1 =>
  pur v1
set_option maxHeartbeats 4000000 in
theorem ct_J2_size (l : Launch) (p0 : Nat) : Ct l (@Eq Mem) yJ2_size (ws_ yJ2_size cJ2_size 1 (some FieldType.int)) 0 0 cvI [rv p0] (f_J2_size p0) := by
  refine Ct.of (own := RJ2) (L := [(0, rv p0)]) (by decide +kernel) rfl (by first | decide | simp [lg_sl, rv_cat, cat_i, cat_l]) (by first | rfl | simp [lv_args, rv_cat, cat_i, cat_l]) eqZ (fun X hXl hX hnh hin => ?_)
  subst hXl
  unfold f_J2_size
  refine s_aload_n hX dJ2_size_0 rfl 0 rfl ?_
  refine s_getI (ci := 17) (j := 2) (ref := "java/util/ArrayList") hX (eqG 17) in_J2 (Or.inl q149) (by decide) (by decide) (by decide) rfl dJ2_size_1 (fun _ h9 => h9) (fun v1 => ?_)
  exact s_iret hX dJ2_size_4
theorem dJ8_checkIndex_0 : decode cJ8_checkIndex 0 = .ok (.iload_n 0, 1) := by decide +kernel
theorem dJ8_checkIndex_1 : decode cJ8_checkIndex 1 = .ok (.ifCond .lt 8, 3) := by decide +kernel
theorem dJ8_checkIndex_4 : decode cJ8_checkIndex 4 = .ok (.iload_n 0, 1) := by decide +kernel
theorem dJ8_checkIndex_5 : decode cJ8_checkIndex 5 = .ok (.iload_n 1, 1) := by decide +kernel
theorem dJ8_checkIndex_6 : decode cJ8_checkIndex 6 = .ok (.if_icmp .lt 10, 3) := by decide +kernel
theorem dJ8_checkIndex_9 : decode cJ8_checkIndex 9 = .ok (.aload_n 2, 1) := by decide +kernel
theorem dJ8_checkIndex_10 : decode cJ8_checkIndex 10 = .ok (.iload_n 0, 1) := by decide +kernel
theorem dJ8_checkIndex_11 : decode cJ8_checkIndex 11 = .ok (.iload_n 1, 1) := by decide +kernel
theorem dJ8_checkIndex_12 : decode cJ8_checkIndex 12 = .ok (.invokestatic 95, 3) := by decide +kernel
theorem dJ8_checkIndex_15 : decode cJ8_checkIndex 15 = .ok (.athrow, 1) := by decide +kernel
theorem dJ8_checkIndex_16 : decode cJ8_checkIndex 16 = .ok (.iload_n 0, 1) := by decide +kernel
theorem dJ8_checkIndex_17 : decode cJ8_checkIndex 17 = .ok (.ireturn, 1) := by decide +kernel
theorem ycJ8_checkIndex : yJ8_checkIndex.cls ≠ "java/lang/invoke/MethodHandle" ∧ yJ8_checkIndex.cls ≠ "java/lang/invoke/VarHandle" ∧ (parseMethodDescriptor yJ8_checkIndex.desc).map (fun d => d.parameters.length) = some 3 := by decide +kernel
def f_J8_checkIndex (p0 : Int32) (p1 : Int32) (p2 : Nat) : Act Int32 :=
  jn (fun (_ : Unit) =>
    fail) fun j9 =>
  if p0 < 0 then
    j9 ()
  else
    if p0 < p1 then
      pur p0
    else
      j9 ()
set_option maxHeartbeats 4000000 in
theorem ct_J8_checkIndex (l : Launch) (p0 : Int32) (p1 : Int32) (p2 : Nat) : Ct l (@Eq Mem) yJ8_checkIndex (ws_ yJ8_checkIndex cJ8_checkIndex 3 (some FieldType.int)) 0 0 cvI [.int p0, .int p1, rv p2] (f_J8_checkIndex p0 p1 p2) := by
  refine Ct.of (own := RJ8) (L := [(0, .int p0), (1, .int p1), (2, rv p2)]) (by decide +kernel) rfl (by first | decide | simp [lg_sl, rv_cat, cat_i, cat_l]) (by first | rfl | simp [lv_args, rv_cat, cat_i, cat_l]) eqZ (fun X hXl hX hnh hin => ?_)
  subst hXl
  unfold f_J8_checkIndex
  refine s_iload_n hX dJ8_checkIndex_0 rfl 0 rfl ?_
  refine s_jn (P := fun j => ∀ (u : Unit), Sim X cvI 9 [] [] (j u)) ?_ (fun j9 hj9 => ?_)
  · intro u
    exact s_fail
  · refine s_if_lt (tgt := 9) hX dJ8_checkIndex_1 (by decide) ?_ ?_
    · exact s_sub [] rfl (hj9 ())
    · refine s_iload_n hX dJ8_checkIndex_4 rfl 0 rfl ?_
      refine s_iload_n hX dJ8_checkIndex_5 rfl 1 rfl ?_
      refine s_icmp_lt (tgt := 16) hX dJ8_checkIndex_6 (by decide) ?_ ?_
      · refine s_iload_n hX dJ8_checkIndex_16 rfl 0 rfl ?_
        exact s_iret hX dJ8_checkIndex_17
      · exact s_sub [] rfl (hj9 ())
theorem dJ7_checkIndex_0 : decode cJ7_checkIndex 0 = .ok (.iload_n 0, 1) := by decide +kernel
theorem dJ7_checkIndex_1 : decode cJ7_checkIndex 1 = .ok (.iload_n 1, 1) := by decide +kernel
theorem dJ7_checkIndex_2 : decode cJ7_checkIndex 2 = .ok (.aconst_null, 1) := by decide +kernel
theorem dJ7_checkIndex_3 : decode cJ7_checkIndex 3 = .ok (.invokestatic 105, 3) := by decide +kernel
theorem dJ7_checkIndex_6 : decode cJ7_checkIndex 6 = .ok (.ireturn, 1) := by decide +kernel
theorem ycJ7_checkIndex : yJ7_checkIndex.cls ≠ "java/lang/invoke/MethodHandle" ∧ yJ7_checkIndex.cls ≠ "java/lang/invoke/VarHandle" ∧ (parseMethodDescriptor yJ7_checkIndex.desc).map (fun d => d.parameters.length) = some 2 := by decide +kernel
def f_J7_checkIndex (p0 : Int32) (p1 : Int32) : Act Int32 :=
  bnd (nt (f_J8_checkIndex p0 p1 (0 : Nat))) fun v1 =>
  pur v1
set_option maxHeartbeats 4000000 in
theorem ct_J7_checkIndex (l : Launch) (p0 : Int32) (p1 : Int32) : Ct l (@Eq Mem) yJ7_checkIndex (ws_ yJ7_checkIndex cJ7_checkIndex 2 (some FieldType.int)) 1 22 cvI [.int p0, .int p1] (f_J7_checkIndex p0 p1) := by
  refine Ct.of (own := RJ7) (L := [(0, .int p0), (1, .int p1)]) (by decide +kernel) rfl (by first | decide | simp [lg_sl, rv_cat, cat_i, cat_l]) (by first | rfl | simp [lv_args, rv_cat, cat_i, cat_l]) eqZ (fun X hXl hX hnh hin => ?_)
  subst hXl
  unfold f_J7_checkIndex
  refine s_iload_n hX dJ7_checkIndex_0 rfl 0 rfl ?_
  refine s_iload_n hX dJ7_checkIndex_1 rfl 1 rfl ?_
  refine s_null hX dJ7_checkIndex_2 ?_
  refine s_callS_I (n := 3) (As := [.int p0, .int p1, rv 0]) (st := []) hX (ct_J8_checkIndex X.l p0 p1 (0 : Nat)) q522 q523 q99 q524 ycJ8_checkIndex (by decide) rfl (by first | decide | simp [rv_cat, cat_i, cat_l]) dJ7_checkIndex_3 (fun v1 => ?_)
  exact s_iret hX dJ7_checkIndex_6
theorem dJ2_elementData_0 : decode cJ2_elementData 0 = .ok (.aload_n 0, 1) := by decide +kernel
theorem dJ2_elementData_1 : decode cJ2_elementData 1 = .ok (.getfield 9, 3) := by decide +kernel
theorem dJ2_elementData_4 : decode cJ2_elementData 4 = .ok (.iload_n 1, 1) := by decide +kernel
theorem dJ2_elementData_5 : decode cJ2_elementData 5 = .ok (.aaload, 1) := by decide +kernel
theorem dJ2_elementData_6 : decode cJ2_elementData 6 = .ok (.areturn, 1) := by decide +kernel
theorem ycJ2_elementData : yJ2_elementData.cls ≠ "java/lang/invoke/MethodHandle" ∧ yJ2_elementData.cls ≠ "java/lang/invoke/VarHandle" ∧ (parseMethodDescriptor yJ2_elementData.desc).map (fun d => d.parameters.length) = some 1 := by decide +kernel
theorem yvJ2_elementData : yJ2_elementData.cls = RR 17 ∧ yJ2_elementData.cls ≠ "java/lang/invoke/MethodHandle" ∧ yJ2_elementData.cls ≠ "java/lang/invoke/VarHandle" ∧ (parseMethodDescriptor yJ2_elementData.desc).map (fun d => d.parameters.length) = some 1 := ⟨rfl, ycJ2_elementData⟩
def f_J2_elementData (p0 : Nat) (p1 : Int32) : Act Nat :=
  bnd (getR 17 1 p0) fun v1 =>
  bnd (ldR 4 v1 p1) fun v2 =>
  pur v2
set_option maxHeartbeats 4000000 in
theorem ct_J2_elementData (l : Launch) (p0 : Nat) (p1 : Int32) : Ct l (@Eq Mem) yJ2_elementData (ws_ yJ2_elementData cJ2_elementData 2 (some (FieldType.object "java/lang/Object"))) 0 0 cvR [rv p0, .int p1] (f_J2_elementData p0 p1) := by
  refine Ct.of (own := RJ2) (L := [(0, rv p0), (1, .int p1)]) (by decide +kernel) rfl (by first | decide | simp [lg_sl, rv_cat, cat_i, cat_l]) (by first | rfl | simp [lv_args, rv_cat, cat_i, cat_l]) eqZ (fun X hXl hX hnh hin => ?_)
  subst hXl
  unfold f_J2_elementData
  refine s_aload_n hX dJ2_elementData_0 rfl 0 rfl ?_
  refine s_getR (ci := 17) (j := 1) (ref := "java/util/ArrayList") hX (eqG 17) in_J2 (Or.inl q148) (by decide) (by decide) (by decide) rfl dJ2_elementData_1 (fun _ h9 => h9) (fun v1 => ?_)
  refine s_iload_n hX dJ2_elementData_4 rfl 1 rfl ?_
  refine s_aald (q := 4) hX (by decide) (by decide) (fun _ => rfl) (eqA 4) dJ2_elementData_5 (fun v2 => ?_)
  exact s_aret hX (Or.inl ⟨_, rfl⟩) dJ2_elementData_6
theorem dJ2_get_0 : decode cJ2_get 0 = .ok (.iload_n 1, 1) := by decide +kernel
theorem dJ2_get_1 : decode cJ2_get 1 = .ok (.aload_n 0, 1) := by decide +kernel
theorem dJ2_get_2 : decode cJ2_get 2 = .ok (.getfield 48, 3) := by decide +kernel
theorem dJ2_get_5 : decode cJ2_get 5 = .ok (.invokestatic 118, 3) := by decide +kernel
theorem dJ2_get_8 : decode cJ2_get 8 = .ok (.pop, 1) := by decide +kernel
theorem dJ2_get_9 : decode cJ2_get 9 = .ok (.aload_n 0, 1) := by decide +kernel
theorem dJ2_get_10 : decode cJ2_get 10 = .ok (.iload_n 1, 1) := by decide +kernel
theorem dJ2_get_11 : decode cJ2_get 11 = .ok (.invokevirtual 123, 3) := by decide +kernel
theorem dJ2_get_14 : decode cJ2_get 14 = .ok (.areturn, 1) := by decide +kernel
theorem ycJ2_get : yJ2_get.cls ≠ "java/lang/invoke/MethodHandle" ∧ yJ2_get.cls ≠ "java/lang/invoke/VarHandle" ∧ (parseMethodDescriptor yJ2_get.desc).map (fun d => d.parameters.length) = some 1 := by decide +kernel
theorem yvJ2_get : yJ2_get.cls = RR 17 ∧ yJ2_get.cls ≠ "java/lang/invoke/MethodHandle" ∧ yJ2_get.cls ≠ "java/lang/invoke/VarHandle" ∧ (parseMethodDescriptor yJ2_get.desc).map (fun d => d.parameters.length) = some 1 := ⟨rfl, ycJ2_get⟩
def f_J2_get (p0 : Nat) (p1 : Int32) : Act Nat :=
  bnd (getI 17 2 p0) fun v1 =>
  bnd (nt (f_J7_checkIndex p1 v1)) fun v2 =>
  bnd (gd 17 p0 (nt (f_J2_elementData p0 p1))) fun v3 =>
  pur v3
set_option maxHeartbeats 4000000 in
theorem ct_J2_get (l : Launch) (p0 : Nat) (p1 : Int32) : Ct l (@Eq Mem) yJ2_get (ws_ yJ2_get cJ2_get 2 (some (FieldType.object "java/lang/Object"))) 2 43 cvR [rv p0, .int p1] (f_J2_get p0 p1) := by
  refine Ct.of (own := RJ2) (L := [(0, rv p0), (1, .int p1)]) (by decide +kernel) rfl (by first | decide | simp [lg_sl, rv_cat, cat_i, cat_l]) (by first | rfl | simp [lv_args, rv_cat, cat_i, cat_l]) eqZ (fun X hXl hX hnh hin => ?_)
  subst hXl
  unfold f_J2_get
  refine s_iload_n hX dJ2_get_0 rfl 1 rfl ?_
  refine s_aload_n hX dJ2_get_1 rfl 0 rfl ?_
  refine s_getI (ci := 17) (j := 2) (ref := "java/util/ArrayList") hX (eqG 17) in_J2 (Or.inl q149) (by decide) (by decide) (by decide) rfl dJ2_get_2 (fun _ h9 => h9) (fun v1 => ?_)
  refine s_callS_I (n := 2) (As := [.int p1, .int v1]) (st := []) hX (ct_J7_checkIndex X.l p1 v1) q519 q520 q98 q521 ycJ7_checkIndex (by decide) rfl (by first | decide | simp [rv_cat, cat_i, cat_l]) dJ2_get_5 (fun v2 => ?_)
  refine s_pop hX dJ2_get_8 rfl ?_
  refine s_aload_n hX dJ2_get_9 rfl 0 rfl ?_
  refine s_iload_n hX dJ2_get_10 rfl 1 rfl ?_
  refine s_callV_R (ci := 17) (n := 1) (As := [.int p1]) (st := []) hX (eqK 18) (by decide) (ct_J2_elementData X.l p0 p1) q525 q526 q527 q88 q528 yvJ2_elementData (by decide) rfl (by first | decide | simp [rv_cat, cat_i, cat_l]) dJ2_get_11 (fun v3 => ?_)
  exact s_aret hX (Or.inl ⟨_, rfl⟩) dJ2_get_14
theorem dJ4_newLength_0 : decode cJ4_newLength 0 = .ok (.iload_n 0, 1) := by decide +kernel
theorem dJ4_newLength_1 : decode cJ4_newLength 1 = .ok (.iload_n 1, 1) := by decide +kernel
theorem dJ4_newLength_2 : decode cJ4_newLength 2 = .ok (.iload_n 2, 1) := by decide +kernel
theorem dJ4_newLength_3 : decode cJ4_newLength 3 = .ok (.invokestatic 194, 3) := by decide +kernel
theorem dJ4_newLength_6 : decode cJ4_newLength 6 = .ok (.iadd, 1) := by decide +kernel
theorem dJ4_newLength_7 : decode cJ4_newLength 7 = .ok (.istore_n 3, 1) := by decide +kernel
theorem dJ4_newLength_8 : decode cJ4_newLength 8 = .ok (.iconst 0, 1) := by decide +kernel
theorem dJ4_newLength_9 : decode cJ4_newLength 9 = .ok (.iload_n 3, 1) := by decide +kernel
theorem dJ4_newLength_10 : decode cJ4_newLength 10 = .ok (.if_icmp .ge 11, 3) := by decide +kernel
theorem dJ4_newLength_13 : decode cJ4_newLength 13 = .ok (.iload_n 3, 1) := by decide +kernel
theorem dJ4_newLength_14 : decode cJ4_newLength 14 = .ok (.ldc 200, 2) := by decide +kernel
theorem dJ4_newLength_16 : decode cJ4_newLength 16 = .ok (.if_icmp .gt 5, 3) := by decide +kernel
theorem dJ4_newLength_19 : decode cJ4_newLength 19 = .ok (.iload_n 3, 1) := by decide +kernel
theorem dJ4_newLength_20 : decode cJ4_newLength 20 = .ok (.ireturn, 1) := by decide +kernel
theorem dJ4_newLength_21 : decode cJ4_newLength 21 = .ok (.iload_n 0, 1) := by decide +kernel
theorem dJ4_newLength_22 : decode cJ4_newLength 22 = .ok (.iload_n 1, 1) := by decide +kernel
theorem dJ4_newLength_23 : decode cJ4_newLength 23 = .ok (.invokestatic 201, 3) := by decide +kernel
theorem dJ4_newLength_26 : decode cJ4_newLength 26 = .ok (.ireturn, 1) := by decide +kernel
theorem ycJ4_newLength : yJ4_newLength.cls ≠ "java/lang/invoke/MethodHandle" ∧ yJ4_newLength.cls ≠ "java/lang/invoke/VarHandle" ∧ (parseMethodDescriptor yJ4_newLength.desc).map (fun d => d.parameters.length) = some 3 := by decide +kernel
def f_J4_newLength (p0 : Int32) (p1 : Int32) (p2 : Int32) : Act Int32 :=
  jn (fun (_ : Unit) =>
    fail) fun j21 =>
  if (p0 + (mx p1 p2)) ≤ 0 then
    j21 ()
  else
    if 2147483639 < (p0 + (mx p1 p2)) then
      j21 ()
    else
      pur (p0 + (mx p1 p2))
set_option maxHeartbeats 4000000 in
theorem ct_J4_newLength (l : Launch) (p0 : Int32) (p1 : Int32) (p2 : Int32) : Ct l (@Eq Mem) yJ4_newLength (ws_ yJ4_newLength cJ4_newLength 4 (some FieldType.int)) 1 24 cvI [.int p0, .int p1, .int p2] (f_J4_newLength p0 p1 p2) := by
  refine Ct.of (own := RJ4) (L := [(0, .int p0), (1, .int p1), (2, .int p2)]) (by decide +kernel) rfl (by first | decide | simp [lg_sl, rv_cat, cat_i, cat_l]) (by first | rfl | simp [lv_args, rv_cat, cat_i, cat_l]) eqZ (fun X hXl hX hnh hin => ?_)
  subst hXl
  unfold f_J4_newLength
  refine s_iload_n hX dJ4_newLength_0 rfl 0 rfl ?_
  refine s_iload_n hX dJ4_newLength_1 rfl 1 rfl ?_
  refine s_iload_n hX dJ4_newLength_2 rfl 2 rfl ?_
  refine s_mmax hX q458 q459 q95 q460 rfl (by omega) (by first | decide | (simp [rv_cat, cat_i, cat_l]; try omega)) dJ4_newLength_3 ?_
  refine s_iadd hX dJ4_newLength_6 ?_
  refine s_istore_n (i := 3) (L2 := [(3, .int (p0 + (mx p1 p2))), (0, .int p0), (1, .int p1), (2, .int p2)]) hX dJ4_newLength_7 rfl (by decide) rfl ?_
  refine s_iconst (v := 0) hX dJ4_newLength_8 rfl ?_
  refine s_iload_n hX dJ4_newLength_9 rfl 0 rfl ?_
  refine s_jn (P := fun j => ∀ (u : Unit), Sim X cvI 21 [] [] (j u)) ?_ (fun j21 hj21 => ?_)
  · intro u
    exact s_fail
  · refine s_icmp_ge (tgt := 21) hX dJ4_newLength_10 (by decide) ?_ ?_
    · exact s_sub [] rfl (hj21 ())
    · refine s_iload_n hX dJ4_newLength_13 rfl 0 rfl ?_
      refine s_ldc (v := 2147483639) hX dJ4_newLength_14 q461 ?_
      refine s_icmp_gt (tgt := 21) hX dJ4_newLength_16 (by decide) ?_ ?_
      · exact s_sub [] rfl (hj21 ())
      · refine s_iload_n hX dJ4_newLength_19 rfl 0 rfl ?_
        exact s_iret hX dJ4_newLength_20
theorem dJ6_copyOf_2_0 : decode cJ6_copyOf_2 0 = .ok (.aload_n 2, 1) := by decide +kernel
theorem dJ6_copyOf_2_1 : decode cJ6_copyOf_2 1 = .ok (.ldc 110, 2) := by decide +kernel
theorem dJ6_copyOf_2_3 : decode cJ6_copyOf_2 3 = .ok (.if_acmp .ne 10, 3) := by decide +kernel
theorem dJ6_copyOf_2_6 : decode cJ6_copyOf_2 6 = .ok (.iload_n 1, 1) := by decide +kernel
theorem dJ6_copyOf_2_7 : decode cJ6_copyOf_2 7 = .ok (.anewarray 2, 3) := by decide +kernel
theorem dJ6_copyOf_2_10 : decode cJ6_copyOf_2 10 = .ok (.goto 14, 3) := by decide +kernel
theorem dJ6_copyOf_2_13 : decode cJ6_copyOf_2 13 = .ok (.aload_n 2, 1) := by decide +kernel
theorem dJ6_copyOf_2_14 : decode cJ6_copyOf_2 14 = .ok (.invokevirtual 90, 3) := by decide +kernel
theorem dJ6_copyOf_2_17 : decode cJ6_copyOf_2 17 = .ok (.iload_n 1, 1) := by decide +kernel
theorem dJ6_copyOf_2_18 : decode cJ6_copyOf_2 18 = .ok (.invokestatic 95, 3) := by decide +kernel
theorem dJ6_copyOf_2_21 : decode cJ6_copyOf_2 21 = .ok (.checkcast 110, 3) := by decide +kernel
theorem dJ6_copyOf_2_24 : decode cJ6_copyOf_2 24 = .ok (.astore_n 3, 1) := by decide +kernel
theorem dJ6_copyOf_2_25 : decode cJ6_copyOf_2 25 = .ok (.aload_n 0, 1) := by decide +kernel
theorem dJ6_copyOf_2_26 : decode cJ6_copyOf_2 26 = .ok (.iconst 0, 1) := by decide +kernel
theorem dJ6_copyOf_2_27 : decode cJ6_copyOf_2 27 = .ok (.aload_n 3, 1) := by decide +kernel
theorem dJ6_copyOf_2_28 : decode cJ6_copyOf_2 28 = .ok (.iconst 0, 1) := by decide +kernel
theorem dJ6_copyOf_2_29 : decode cJ6_copyOf_2 29 = .ok (.aload_n 0, 1) := by decide +kernel
theorem dJ6_copyOf_2_30 : decode cJ6_copyOf_2 30 = .ok (.arraylength, 1) := by decide +kernel
theorem dJ6_copyOf_2_31 : decode cJ6_copyOf_2 31 = .ok (.iload_n 1, 1) := by decide +kernel
theorem dJ6_copyOf_2_32 : decode cJ6_copyOf_2 32 = .ok (.invokestatic 304, 3) := by decide +kernel
theorem dJ6_copyOf_2_35 : decode cJ6_copyOf_2 35 = .ok (.invokestatic 150, 3) := by decide +kernel
theorem dJ6_copyOf_2_38 : decode cJ6_copyOf_2 38 = .ok (.aload_n 3, 1) := by decide +kernel
theorem dJ6_copyOf_2_39 : decode cJ6_copyOf_2 39 = .ok (.areturn, 1) := by decide +kernel
theorem ycJ6_copyOf_2 : yJ6_copyOf_2.cls ≠ "java/lang/invoke/MethodHandle" ∧ yJ6_copyOf_2.cls ≠ "java/lang/invoke/VarHandle" ∧ (parseMethodDescriptor yJ6_copyOf_2.desc).map (fun d => d.parameters.length) = some 3 := by decide +kernel
def f_J6_copyOf_2 (p0 : Nat) (p1 : Int32) (p2 : Nat) : Act Nat :=
  bnd (gst 3) fun v1 =>
  if ¬ p2 = v1 then
    fail
  else
    bnd (newA 4 p1) fun v2 =>
    bnd (lenq 4 p0) fun v3 =>
    bnd (cpR ksO p0 0 v2 0 (mn v3 p1)) fun _ =>
    pur v2
set_option maxHeartbeats 4000000 in
theorem ct_J6_copyOf_2 (l : Launch) (p0 : Nat) (p1 : Int32) (p2 : Nat) : Ct l (@Eq Mem) yJ6_copyOf_2 (ws_ yJ6_copyOf_2 cJ6_copyOf_2 4 (some (FieldType.array (FieldType.object "java/lang/Object")))) 1 40 cvR [rv p0, .int p1, rv p2] (f_J6_copyOf_2 p0 p1 p2) := by
  refine Ct.of (own := RJ6) (L := [(0, rv p0), (1, .int p1), (2, rv p2)]) (by decide +kernel) rfl (by first | decide | simp [lg_sl, rv_cat, cat_i, cat_l]) (by first | rfl | simp [lv_args, rv_cat, cat_i, cat_l]) eqZ (fun X hXl hX hnh hin => ?_)
  subst hXl
  unfold f_J6_copyOf_2
  refine s_aload_n hX dJ6_copyOf_2_0 rfl 2 rfl ?_
  refine s_ldcM hX (eqS) q496 dJ6_copyOf_2_1 (fun v1 => ?_)
  refine s_acmp_ne (tgt := 13) hX dJ6_copyOf_2_3 (by decide) ?_ ?_
  · exact s_fail
  · refine s_iload_n hX dJ6_copyOf_2_6 rfl 1 rfl ?_
    refine s_anew (q := 4) hX (by decide) (by decide) (fun _ => rfl) (eqM 4) q498 q497 dJ6_copyOf_2_7 (fun v2 => ?_)
    refine s_goto (tgt := 24) hX dJ6_copyOf_2_10 (by decide) ?_
    refine s_astore_n (i := 3) (L2 := [(3, rv v2), (0, rv p0), (1, .int p1), (2, rv p2)]) hX dJ6_copyOf_2_24 rfl (by decide) (by first | (simp [rv_cat, cat_i, cat_l]; done) | (simp [rv_cat, cat_i, cat_l]; decide)) ?_
    refine s_aload_n hX dJ6_copyOf_2_25 rfl 1 rfl ?_
    refine s_iconst (v := 0) hX dJ6_copyOf_2_26 rfl ?_
    refine s_aload_n hX dJ6_copyOf_2_27 rfl 0 rfl ?_
    refine s_iconst (v := 0) hX dJ6_copyOf_2_28 rfl ?_
    refine s_aload_n hX dJ6_copyOf_2_29 rfl 1 rfl ?_
    refine s_alen (q := 4) hX (by decide) (eqA 4) dJ6_copyOf_2_30 (fun v3 => ?_)
    refine s_iload_n hX dJ6_copyOf_2_31 rfl 2 rfl ?_
    refine s_mmin hX q499 q500 q95 q501 rfl (by omega) (by first | decide | (simp [rv_cat, cat_i, cat_l]; try omega)) dJ6_copyOf_2_32 ?_
    refine s_copyR (ks := ksO) hX elO q502 q504 q503 q97 (by decide) (by first | decide | (simp [rv_cat, cat_i, cat_l, nativeFrameWords]; done)) dJ6_copyOf_2_35 ?_
    refine s_aload_n hX dJ6_copyOf_2_38 rfl 0 rfl ?_
    exact s_aret hX (Or.inr ⟨_, rfl⟩) dJ6_copyOf_2_39
theorem dJ6_copyOf_0 : decode cJ6_copyOf 0 = .ok (.aload_n 0, 1) := by decide +kernel
theorem dJ6_copyOf_1 : decode cJ6_copyOf 1 = .ok (.iload_n 1, 1) := by decide +kernel
theorem dJ6_copyOf_2 : decode cJ6_copyOf 2 = .ok (.aload_n 0, 1) := by decide +kernel
theorem dJ6_copyOf_3 : decode cJ6_copyOf 3 = .ok (.invokevirtual 86, 3) := by decide +kernel
theorem dJ6_copyOf_6 : decode cJ6_copyOf 6 = .ok (.invokestatic 300, 3) := by decide +kernel
theorem dJ6_copyOf_9 : decode cJ6_copyOf 9 = .ok (.areturn, 1) := by decide +kernel
theorem ycJ6_copyOf : yJ6_copyOf.cls ≠ "java/lang/invoke/MethodHandle" ∧ yJ6_copyOf.cls ≠ "java/lang/invoke/VarHandle" ∧ (parseMethodDescriptor yJ6_copyOf.desc).map (fun d => d.parameters.length) = some 2 := by decide +kernel
def f_J6_copyOf (p0 : Nat) (p1 : Int32) : Act Nat :=
  bnd (gcl p0) fun v1 =>
  bnd (nt (f_J6_copyOf_2 p0 p1 v1)) fun v2 =>
  pur v2
set_option maxHeartbeats 4000000 in
theorem ct_J6_copyOf (l : Launch) (p0 : Nat) (p1 : Int32) : Ct l (@Eq Mem) yJ6_copyOf (ws_ yJ6_copyOf cJ6_copyOf 2 (some (FieldType.array (FieldType.object "java/lang/Object")))) 2 63 cvR [rv p0, .int p1] (f_J6_copyOf p0 p1) := by
  refine Ct.of (own := RJ6) (L := [(0, rv p0), (1, .int p1)]) (by decide +kernel) rfl (by first | decide | simp [lg_sl, rv_cat, cat_i, cat_l]) (by first | rfl | simp [lv_args, rv_cat, cat_i, cat_l]) eqZ (fun X hXl hX hnh hin => ?_)
  subst hXl
  unfold f_J6_copyOf
  refine s_aload_n hX dJ6_copyOf_0 rfl 0 rfl ?_
  refine s_iload_n hX dJ6_copyOf_1 rfl 1 rfl ?_
  refine s_aload_n hX dJ6_copyOf_2 rfl 0 rfl ?_
  refine s_getC hX (eqS) (eqA 4) q468 q2139 q2138 q469 q492 (by decide) (by first | decide | simp [rv_cat, cat_i, cat_l]) dJ6_copyOf_3 (fun v1 => ?_)
  refine s_callS_R (n := 3) (As := [rv p0, .int p1, rv v1]) (st := []) hX (ct_J6_copyOf_2 X.l p0 p1 v1) q493 q494 q96 q495 ycJ6_copyOf_2 (by decide) rfl (by first | decide | simp [rv_cat, cat_i, cat_l]) dJ6_copyOf_6 (fun v2 => ?_)
  exact s_aret hX (Or.inr ⟨_, rfl⟩) dJ6_copyOf_9
theorem dJ2_grow_2_0 : decode cJ2_grow_2 0 = .ok (.aload_n 0, 1) := by decide +kernel
theorem dJ2_grow_2_1 : decode cJ2_grow_2 1 = .ok (.getfield 9, 3) := by decide +kernel
theorem dJ2_grow_2_4 : decode cJ2_grow_2 4 = .ok (.arraylength, 1) := by decide +kernel
theorem dJ2_grow_2_5 : decode cJ2_grow_2 5 = .ok (.istore_n 2, 1) := by decide +kernel
theorem dJ2_grow_2_6 : decode cJ2_grow_2 6 = .ok (.iload_n 2, 1) := by decide +kernel
theorem dJ2_grow_2_7 : decode cJ2_grow_2 7 = .ok (.ifCond .gt 13, 3) := by decide +kernel
theorem dJ2_grow_2_10 : decode cJ2_grow_2 10 = .ok (.aload_n 0, 1) := by decide +kernel
theorem dJ2_grow_2_11 : decode cJ2_grow_2 11 = .ok (.getfield 9, 3) := by decide +kernel
theorem dJ2_grow_2_14 : decode cJ2_grow_2 14 = .ok (.getstatic 39, 3) := by decide +kernel
theorem dJ2_grow_2_17 : decode cJ2_grow_2 17 = .ok (.if_acmp .eq 28, 3) := by decide +kernel
theorem dJ2_grow_2_20 : decode cJ2_grow_2 20 = .ok (.iload_n 2, 1) := by decide +kernel
theorem dJ2_grow_2_21 : decode cJ2_grow_2 21 = .ok (.iload_n 1, 1) := by decide +kernel
theorem dJ2_grow_2_22 : decode cJ2_grow_2 22 = .ok (.iload_n 2, 1) := by decide +kernel
theorem dJ2_grow_2_23 : decode cJ2_grow_2 23 = .ok (.isub, 1) := by decide +kernel
theorem dJ2_grow_2_24 : decode cJ2_grow_2 24 = .ok (.iload_n 2, 1) := by decide +kernel
theorem dJ2_grow_2_25 : decode cJ2_grow_2 25 = .ok (.iconst 1, 1) := by decide +kernel
theorem dJ2_grow_2_26 : decode cJ2_grow_2 26 = .ok (.ishr, 1) := by decide +kernel
theorem dJ2_grow_2_27 : decode cJ2_grow_2 27 = .ok (.invokestatic 73, 3) := by decide +kernel
theorem dJ2_grow_2_30 : decode cJ2_grow_2 30 = .ok (.istore_n 3, 1) := by decide +kernel
theorem dJ2_grow_2_31 : decode cJ2_grow_2 31 = .ok (.aload_n 0, 1) := by decide +kernel
theorem dJ2_grow_2_32 : decode cJ2_grow_2 32 = .ok (.aload_n 0, 1) := by decide +kernel
theorem dJ2_grow_2_33 : decode cJ2_grow_2 33 = .ok (.getfield 9, 3) := by decide +kernel
theorem dJ2_grow_2_36 : decode cJ2_grow_2 36 = .ok (.iload_n 3, 1) := by decide +kernel
theorem dJ2_grow_2_37 : decode cJ2_grow_2 37 = .ok (.invokestatic 66, 3) := by decide +kernel
theorem dJ2_grow_2_40 : decode cJ2_grow_2 40 = .ok (.dup_x1, 1) := by decide +kernel
theorem dJ2_grow_2_41 : decode cJ2_grow_2 41 = .ok (.putfield 9, 3) := by decide +kernel
theorem dJ2_grow_2_44 : decode cJ2_grow_2 44 = .ok (.areturn, 1) := by decide +kernel
theorem dJ2_grow_2_45 : decode cJ2_grow_2 45 = .ok (.aload_n 0, 1) := by decide +kernel
theorem dJ2_grow_2_46 : decode cJ2_grow_2 46 = .ok (.bipush 10, 2) := by decide +kernel
theorem dJ2_grow_2_48 : decode cJ2_grow_2 48 = .ok (.iload_n 1, 1) := by decide +kernel
theorem dJ2_grow_2_49 : decode cJ2_grow_2 49 = .ok (.invokestatic 79, 3) := by decide +kernel
theorem dJ2_grow_2_52 : decode cJ2_grow_2 52 = .ok (.anewarray 7, 3) := by decide +kernel
theorem dJ2_grow_2_55 : decode cJ2_grow_2 55 = .ok (.dup_x1, 1) := by decide +kernel
theorem dJ2_grow_2_56 : decode cJ2_grow_2 56 = .ok (.putfield 9, 3) := by decide +kernel
theorem dJ2_grow_2_59 : decode cJ2_grow_2 59 = .ok (.areturn, 1) := by decide +kernel
theorem ycJ2_grow_2 : yJ2_grow_2.cls ≠ "java/lang/invoke/MethodHandle" ∧ yJ2_grow_2.cls ≠ "java/lang/invoke/VarHandle" ∧ (parseMethodDescriptor yJ2_grow_2.desc).map (fun d => d.parameters.length) = some 1 := by decide +kernel
theorem yvJ2_grow_2 : yJ2_grow_2.cls = RR 17 ∧ yJ2_grow_2.cls ≠ "java/lang/invoke/MethodHandle" ∧ yJ2_grow_2.cls ≠ "java/lang/invoke/VarHandle" ∧ (parseMethodDescriptor yJ2_grow_2.desc).map (fun d => d.parameters.length) = some 1 := ⟨rfl, ycJ2_grow_2⟩
def f_J2_grow_2 (p0 : Nat) (p1 : Int32) : Act Nat :=
  bnd (getR 17 1 p0) fun v1 =>
  bnd (lenq 4 v1) fun v2 =>
  jn (fun (_ : Unit) =>
    bnd (nt (f_J4_newLength v2 (p1 - v2) (v2 >>> (1 &&& 31)))) fun v3 =>
    bnd (getR 17 1 p0) fun v4 =>
    bnd (nt (f_J6_copyOf v4 v3)) fun v5 =>
    bnd (putR 17 1 p0 v5) fun _ =>
    pur v5) fun j20 =>
  if 0 < v2 then
    j20 ()
  else
    bnd (getR 17 1 p0) fun v6 =>
    bnd (gst 0) fun v7 =>
    if v6 = v7 then
      bnd (newA 4 (mx (10 : Int32) p1)) fun v8 =>
      bnd (putR 17 1 p0 v8) fun _ =>
      pur v8
    else
      j20 ()
set_option maxHeartbeats 4000000 in
theorem ct_J2_grow_2 (l : Launch) (p0 : Nat) (p1 : Int32) : Ct l (@Eq Mem) yJ2_grow_2 (ws_ yJ2_grow_2 cJ2_grow_2 4 (some (FieldType.array (FieldType.object "java/lang/Object")))) 3 84 cvR [rv p0, .int p1] (f_J2_grow_2 p0 p1) := by
  refine Ct.of (own := RJ2) (L := [(0, rv p0), (1, .int p1)]) (by decide +kernel) rfl (by first | decide | simp [lg_sl, rv_cat, cat_i, cat_l]) (by first | rfl | simp [lv_args, rv_cat, cat_i, cat_l]) eqZ (fun X hXl hX hnh hin => ?_)
  subst hXl
  unfold f_J2_grow_2
  refine s_aload_n hX dJ2_grow_2_0 rfl 0 rfl ?_
  refine s_getR (ci := 17) (j := 1) (ref := "java/util/ArrayList") hX (eqG 17) in_J2 (Or.inl q148) (by decide) (by decide) (by decide) rfl dJ2_grow_2_1 (fun _ h9 => h9) (fun v1 => ?_)
  refine s_alen (q := 4) hX (by decide) (eqA 4) dJ2_grow_2_4 (fun v2 => ?_)
  refine s_istore_n (i := 2) (L2 := [(2, .int v2), (0, rv p0), (1, .int p1)]) hX dJ2_grow_2_5 rfl (by decide) rfl ?_
  refine s_iload_n hX dJ2_grow_2_6 rfl 0 rfl ?_
  refine s_jn (P := fun j => ∀ (u : Unit), Sim X cvR 20 [(0, rv p0), (1, .int p1), (2, .int v2)] [] (j u)) ?_ (fun j20 hj20 => ?_)
  · intro u
    refine s_iload_n hX dJ2_grow_2_20 rfl 2 rfl ?_
    refine s_iload_n hX dJ2_grow_2_21 rfl 1 rfl ?_
    refine s_iload_n hX dJ2_grow_2_22 rfl 2 rfl ?_
    refine s_isub hX dJ2_grow_2_23 ?_
    refine s_iload_n hX dJ2_grow_2_24 rfl 2 rfl ?_
    refine s_iconst (v := 1) hX dJ2_grow_2_25 rfl ?_
    refine s_ishr hX dJ2_grow_2_26 ?_
    refine s_callS_I (n := 3) (As := [.int v2, .int (p1 - v2), .int (v2 >>> (1 &&& 31))]) (st := []) hX (ct_J4_newLength X.l v2 (p1 - v2) (v2 >>> (1 &&& 31))) q455 q456 q94 q457 ycJ4_newLength (by decide) rfl (by first | decide | simp [rv_cat, cat_i, cat_l]) dJ2_grow_2_27 (fun v3 => ?_)
    refine s_istore_n (i := 3) (L2 := [(3, .int v3), (0, rv p0), (1, .int p1), (2, .int v2)]) hX dJ2_grow_2_30 rfl (by decide) rfl ?_
    refine s_aload_n hX dJ2_grow_2_31 rfl 1 rfl ?_
    refine s_aload_n hX dJ2_grow_2_32 rfl 1 rfl ?_
    refine s_getR (ci := 17) (j := 1) (ref := "java/util/ArrayList") hX (eqG 17) in_J2 (Or.inl q148) (by decide) (by decide) (by decide) rfl dJ2_grow_2_33 (fun _ h9 => h9) (fun v4 => ?_)
    refine s_iload_n hX dJ2_grow_2_36 rfl 0 rfl ?_
    refine s_callS_R (n := 2) (As := [rv v4, .int v3]) (st := [rv p0]) hX (ct_J6_copyOf X.l v4 v3) q465 q466 q96 q467 ycJ6_copyOf (by decide) rfl (by first | decide | simp [rv_cat, cat_i, cat_l]) dJ2_grow_2_37 (fun v5 => ?_)
    refine s_dup_x1 hX dJ2_grow_2_40 (rv_cat _) (rv_cat _) ?_
    refine s_putR (ci := 17) (j := 1) (ref := "java/util/ArrayList") hX (eqG 17) (eqP 17) in_J2 tyJ2_ok nmJ2 (Or.inl q148) (by decide) (by decide) (by decide) rfl (fun v => by cases v <;> exact ⟨rfl, rfl⟩) rfl dJ2_grow_2_41 (fun _ h9 => h9) ?_
    exact s_aret hX (Or.inr ⟨_, rfl⟩) dJ2_grow_2_44
  · refine s_if_gt (tgt := 20) hX dJ2_grow_2_7 (by decide) ?_ ?_
    · exact s_sub [1, 2, 0] rfl (hj20 ())
    · refine s_aload_n hX dJ2_grow_2_10 rfl 1 rfl ?_
      refine s_getR (ci := 17) (j := 1) (ref := "java/util/ArrayList") hX (eqG 17) in_J2 (Or.inl q148) (by decide) (by decide) (by decide) rfl dJ2_grow_2_11 (fun _ h9 => h9) (fun v6 => ?_)
      refine s_gst (j := 0) hX (eqS) (fun w b => b.2.2.2.2.1.1) q146 dJ2_grow_2_14 (fun v7 => ?_)
      refine s_acmp_eq (tgt := 45) hX dJ2_grow_2_17 (by decide) ?_ ?_
      · refine s_aload_n hX dJ2_grow_2_45 rfl 1 rfl ?_
        refine s_bipush (v := 10) hX dJ2_grow_2_46 (by decide) ?_
        refine s_iload_n hX dJ2_grow_2_48 rfl 2 rfl ?_
        refine s_mmax hX q505 q459 q95 q460 rfl (by omega) (by first | decide | (simp [rv_cat, cat_i, cat_l]; try omega)) dJ2_grow_2_49 ?_
        refine s_anew (q := 4) hX (by decide) (by decide) (fun _ => rfl) (eqM 4) q506 q497 dJ2_grow_2_52 (fun v8 => ?_)
        refine s_dup_x1 hX dJ2_grow_2_55 (rv_cat _) (rv_cat _) ?_
        refine s_putR (ci := 17) (j := 1) (ref := "java/util/ArrayList") hX (eqG 17) (eqP 17) in_J2 tyJ2_ok nmJ2 (Or.inl q148) (by decide) (by decide) (by decide) rfl (fun v => by cases v <;> exact ⟨rfl, rfl⟩) rfl dJ2_grow_2_56 (fun _ h9 => h9) ?_
        exact s_aret hX (Or.inr ⟨_, rfl⟩) dJ2_grow_2_59
      · exact s_sub [1, 2, 0] rfl (hj20 ())
theorem dJ2_grow_0 : decode cJ2_grow 0 = .ok (.aload_n 0, 1) := by decide +kernel
theorem dJ2_grow_1 : decode cJ2_grow 1 = .ok (.aload_n 0, 1) := by decide +kernel
theorem dJ2_grow_2 : decode cJ2_grow 2 = .ok (.getfield 48, 3) := by decide +kernel
theorem dJ2_grow_5 : decode cJ2_grow 5 = .ok (.iconst 1, 1) := by decide +kernel
theorem dJ2_grow_6 : decode cJ2_grow 6 = .ok (.iadd, 1) := by decide +kernel
theorem dJ2_grow_7 : decode cJ2_grow 7 = .ok (.invokevirtual 69, 3) := by decide +kernel
theorem dJ2_grow_10 : decode cJ2_grow 10 = .ok (.areturn, 1) := by decide +kernel
theorem ycJ2_grow : yJ2_grow.cls ≠ "java/lang/invoke/MethodHandle" ∧ yJ2_grow.cls ≠ "java/lang/invoke/VarHandle" ∧ (parseMethodDescriptor yJ2_grow.desc).map (fun d => d.parameters.length) = some 0 := by decide +kernel
theorem yvJ2_grow : yJ2_grow.cls = RR 17 ∧ yJ2_grow.cls ≠ "java/lang/invoke/MethodHandle" ∧ yJ2_grow.cls ≠ "java/lang/invoke/VarHandle" ∧ (parseMethodDescriptor yJ2_grow.desc).map (fun d => d.parameters.length) = some 0 := ⟨rfl, ycJ2_grow⟩
def f_J2_grow (p0 : Nat) : Act Nat :=
  bnd (getI 17 2 p0) fun v1 =>
  bnd (gd 17 p0 (nt (f_J2_grow_2 p0 (v1 + 1)))) fun v2 =>
  pur v2
set_option maxHeartbeats 4000000 in
theorem ct_J2_grow (l : Launch) (p0 : Nat) : Ct l (@Eq Mem) yJ2_grow (ws_ yJ2_grow cJ2_grow 1 (some (FieldType.array (FieldType.object "java/lang/Object")))) 4 107 cvR [rv p0] (f_J2_grow p0) := by
  refine Ct.of (own := RJ2) (L := [(0, rv p0)]) (by decide +kernel) rfl (by first | decide | simp [lg_sl, rv_cat, cat_i, cat_l]) (by first | rfl | simp [lv_args, rv_cat, cat_i, cat_l]) eqZ (fun X hXl hX hnh hin => ?_)
  subst hXl
  unfold f_J2_grow
  refine s_aload_n hX dJ2_grow_0 rfl 0 rfl ?_
  refine s_aload_n hX dJ2_grow_1 rfl 0 rfl ?_
  refine s_getI (ci := 17) (j := 2) (ref := "java/util/ArrayList") hX (eqG 17) in_J2 (Or.inl q149) (by decide) (by decide) (by decide) rfl dJ2_grow_2 (fun _ h9 => h9) (fun v1 => ?_)
  refine s_iconst (v := 1) hX dJ2_grow_5 rfl ?_
  refine s_iadd hX dJ2_grow_6 ?_
  refine s_callV_R (ci := 17) (n := 1) (As := [.int (v1 + 1)]) (st := []) hX (eqK 18) (by decide) (ct_J2_grow_2 X.l p0 (v1 + 1)) q451 q453 qs3 q88 q454 yvJ2_grow_2 (by decide) rfl (by first | decide | simp [rv_cat, cat_i, cat_l]) dJ2_grow_7 (fun v2 => ?_)
  exact s_aret hX (Or.inr ⟨_, rfl⟩) dJ2_grow_10
theorem dJ2_add_2_0 : decode cJ2_add_2 0 = .ok (.iload_n 3, 1) := by decide +kernel
theorem dJ2_add_2_1 : decode cJ2_add_2 1 = .ok (.aload_n 2, 1) := by decide +kernel
theorem dJ2_add_2_2 : decode cJ2_add_2 2 = .ok (.arraylength, 1) := by decide +kernel
theorem dJ2_add_2_3 : decode cJ2_add_2 3 = .ok (.if_icmp .ne 8, 3) := by decide +kernel
theorem dJ2_add_2_6 : decode cJ2_add_2 6 = .ok (.aload_n 0, 1) := by decide +kernel
theorem dJ2_add_2_7 : decode cJ2_add_2 7 = .ok (.invokevirtual 129, 3) := by decide +kernel
theorem dJ2_add_2_10 : decode cJ2_add_2 10 = .ok (.astore_n 2, 1) := by decide +kernel
theorem dJ2_add_2_11 : decode cJ2_add_2 11 = .ok (.aload_n 2, 1) := by decide +kernel
theorem dJ2_add_2_12 : decode cJ2_add_2 12 = .ok (.iload_n 3, 1) := by decide +kernel
theorem dJ2_add_2_13 : decode cJ2_add_2 13 = .ok (.aload_n 1, 1) := by decide +kernel
theorem dJ2_add_2_14 : decode cJ2_add_2 14 = .ok (.aastore, 1) := by decide +kernel
theorem dJ2_add_2_15 : decode cJ2_add_2 15 = .ok (.aload_n 0, 1) := by decide +kernel
theorem dJ2_add_2_16 : decode cJ2_add_2 16 = .ok (.iload_n 3, 1) := by decide +kernel
theorem dJ2_add_2_17 : decode cJ2_add_2 17 = .ok (.iconst 1, 1) := by decide +kernel
theorem dJ2_add_2_18 : decode cJ2_add_2 18 = .ok (.iadd, 1) := by decide +kernel
theorem dJ2_add_2_19 : decode cJ2_add_2 19 = .ok (.putfield 48, 3) := by decide +kernel
theorem dJ2_add_2_22 : decode cJ2_add_2 22 = .ok (.return_, 1) := by decide +kernel
theorem ycJ2_add_2 : yJ2_add_2.cls ≠ "java/lang/invoke/MethodHandle" ∧ yJ2_add_2.cls ≠ "java/lang/invoke/VarHandle" ∧ (parseMethodDescriptor yJ2_add_2.desc).map (fun d => d.parameters.length) = some 3 := by decide +kernel
theorem yvJ2_add_2 : yJ2_add_2.cls = RR 17 ∧ yJ2_add_2.cls ≠ "java/lang/invoke/MethodHandle" ∧ yJ2_add_2.cls ≠ "java/lang/invoke/VarHandle" ∧ (parseMethodDescriptor yJ2_add_2.desc).map (fun d => d.parameters.length) = some 3 := ⟨rfl, ycJ2_add_2⟩
def f_J2_add_2 (p0 : Nat) (p1 : Nat) (p2 : Nat) (p3 : Int32) : Act Unit :=
  bnd (lenq 4 p2) fun v1 =>
  jn (fun (v2 : Nat) =>
    bnd (stK ksO 4 v2 p3 p1) fun _ =>
    bnd (putI 17 2 p0 (p3 + 1)) fun _ =>
    pur ()) fun j11 =>
  if ¬ p3 = v1 then
    j11 p2
  else
    bnd (gd 17 p0 (nt (f_J2_grow p0))) fun v3 =>
    j11 v3
set_option maxHeartbeats 4000000 in
theorem ct_J2_add_2 (l : Launch) (p0 : Nat) (p1 : Nat) (p2 : Nat) (p3 : Int32) : Ct l (@Eq Mem) yJ2_add_2 (ws_ yJ2_add_2 cJ2_add_2 4 none) 5 127 cvU [rv p0, rv p1, rv p2, .int p3] (f_J2_add_2 p0 p1 p2 p3) := by
  refine Ct.of (own := RJ2) (L := [(0, rv p0), (1, rv p1), (2, rv p2), (3, .int p3)]) (by decide +kernel) rfl (by first | decide | simp [lg_sl, rv_cat, cat_i, cat_l]) (by first | rfl | simp [lv_args, rv_cat, cat_i, cat_l]) eqZ (fun X hXl hX hnh hin => ?_)
  subst hXl
  unfold f_J2_add_2
  refine s_iload_n hX dJ2_add_2_0 rfl 3 rfl ?_
  refine s_aload_n hX dJ2_add_2_1 rfl 2 rfl ?_
  refine s_alen (q := 4) hX (by decide) (eqA 4) dJ2_add_2_2 (fun v1 => ?_)
  refine s_jn (P := fun j => ∀ (v2 : Nat), Sim X cvU 11 [(0, rv p0), (1, rv p1), (2, rv v2), (3, .int p3)] [] (j v2)) ?_ (fun j11 hj11 => ?_)
  · intro v2
    refine s_aload_n hX dJ2_add_2_11 rfl 2 rfl ?_
    refine s_iload_n hX dJ2_add_2_12 rfl 3 rfl ?_
    refine s_aload_n hX dJ2_add_2_13 rfl 1 rfl ?_
    refine s_aast (q := 4) (ks := ksO) hX (by decide) (by decide) (fun _ => rfl) elO (eqA 4) (eqB 4) dJ2_add_2_14 ?_
    refine s_aload_n hX dJ2_add_2_15 rfl 0 rfl ?_
    refine s_iload_n hX dJ2_add_2_16 rfl 3 rfl ?_
    refine s_iconst (v := 1) hX dJ2_add_2_17 rfl ?_
    refine s_iadd hX dJ2_add_2_18 ?_
    refine s_putI (ci := 17) (j := 2) (ref := "java/util/ArrayList") hX (eqG 17) (eqP 17) in_J2 tyJ2_ok nmJ2 (Or.inl q149) (by decide) (by decide) (by decide) rfl rfl rfl dJ2_add_2_19 (fun _ h9 => h9) ?_
    exact s_vret hX dJ2_add_2_22
  · refine s_icmp_ne (tgt := 11) hX dJ2_add_2_3 (by decide) ?_ ?_
    · exact hj11 p2
    · refine s_aload_n hX dJ2_add_2_6 rfl 0 rfl ?_
      refine s_callV_R (ci := 17) (n := 0) (As := []) (st := []) hX (eqK 18) (by decide) (ct_J2_grow X.l p0) q447 q449 qs2 q88 q450 yvJ2_grow (by decide) rfl (by first | decide | simp [rv_cat, cat_i, cat_l]) dJ2_add_2_7 (fun v3 => ?_)
      refine s_astore_n (i := 2) (L2 := [(2, rv v3), (0, rv p0), (1, rv p1), (3, .int p3)]) hX dJ2_add_2_10 rfl (by decide) (by first | (simp [rv_cat, cat_i, cat_l]; done) | (simp [rv_cat, cat_i, cat_l]; decide)) ?_
      exact s_sub [1, 2, 0, 3] rfl (hj11 v3)
theorem dJ2_add_0 : decode cJ2_add 0 = .ok (.aload_n 0, 1) := by decide +kernel
theorem dJ2_add_1 : decode cJ2_add 1 = .ok (.dup, 1) := by decide +kernel
theorem dJ2_add_2 : decode cJ2_add 2 = .ok (.getfield 63, 3) := by decide +kernel
theorem dJ2_add_5 : decode cJ2_add 5 = .ok (.iconst 1, 1) := by decide +kernel
theorem dJ2_add_6 : decode cJ2_add 6 = .ok (.iadd, 1) := by decide +kernel
theorem dJ2_add_7 : decode cJ2_add 7 = .ok (.putfield 63, 3) := by decide +kernel
theorem dJ2_add_10 : decode cJ2_add 10 = .ok (.aload_n 0, 1) := by decide +kernel
theorem dJ2_add_11 : decode cJ2_add 11 = .ok (.aload_n 1, 1) := by decide +kernel
theorem dJ2_add_12 : decode cJ2_add 12 = .ok (.aload_n 0, 1) := by decide +kernel
theorem dJ2_add_13 : decode cJ2_add 13 = .ok (.getfield 9, 3) := by decide +kernel
theorem dJ2_add_16 : decode cJ2_add 16 = .ok (.aload_n 0, 1) := by decide +kernel
theorem dJ2_add_17 : decode cJ2_add 17 = .ok (.getfield 48, 3) := by decide +kernel
theorem dJ2_add_20 : decode cJ2_add 20 = .ok (.invokevirtual 131, 3) := by decide +kernel
theorem dJ2_add_23 : decode cJ2_add 23 = .ok (.iconst 1, 1) := by decide +kernel
theorem dJ2_add_24 : decode cJ2_add 24 = .ok (.ireturn, 1) := by decide +kernel
theorem ycJ2_add : yJ2_add.cls ≠ "java/lang/invoke/MethodHandle" ∧ yJ2_add.cls ≠ "java/lang/invoke/VarHandle" ∧ (parseMethodDescriptor yJ2_add.desc).map (fun d => d.parameters.length) = some 1 := by decide +kernel
theorem yvJ2_add : yJ2_add.cls = RR 17 ∧ yJ2_add.cls ≠ "java/lang/invoke/MethodHandle" ∧ yJ2_add.cls ≠ "java/lang/invoke/VarHandle" ∧ (parseMethodDescriptor yJ2_add.desc).map (fun d => d.parameters.length) = some 1 := ⟨rfl, ycJ2_add⟩
def f_J2_add (p0 : Nat) (p1 : Nat) : Act Int32 :=
  bnd (getI 17 0 p0) fun v1 =>
  bnd (putI 17 0 p0 (v1 + 1)) fun _ =>
  bnd (getR 17 1 p0) fun v2 =>
  bnd (getI 17 2 p0) fun v3 =>
  bnd (gd 17 p0 (nt (f_J2_add_2 p0 p1 v2 v3))) fun _ =>
  purS (ty := .boolean) 1
set_option maxHeartbeats 4000000 in
theorem ct_J2_add (l : Launch) (p0 : Nat) (p1 : Nat) : Ct l (@Eq Mem) yJ2_add (ws_ yJ2_add cJ2_add 2 (some FieldType.boolean)) 6 150 cvI [rv p0, rv p1] (f_J2_add p0 p1) := by
  refine Ct.of (own := RJ2) (L := [(0, rv p0), (1, rv p1)]) (by decide +kernel) rfl (by first | decide | simp [lg_sl, rv_cat, cat_i, cat_l]) (by first | rfl | simp [lv_args, rv_cat, cat_i, cat_l]) eqZ (fun X hXl hX hnh hin => ?_)
  subst hXl
  unfold f_J2_add
  refine s_aload_n hX dJ2_add_0 rfl 0 rfl ?_
  refine s_dup hX dJ2_add_1 (rv_cat _) ?_
  refine s_getI (ci := 17) (j := 0) (ref := "java/util/ArrayList") hX (eqG 17) in_J2 (Or.inl q151) (by decide) (by decide) (by decide) rfl dJ2_add_2 (u_same (hX.hts _ q152)) (fun v1 => ?_)
  refine s_iconst (v := 1) hX dJ2_add_5 rfl ?_
  refine s_iadd hX dJ2_add_6 ?_
  refine s_putI (ci := 17) (j := 0) (ref := "java/util/ArrayList") hX (eqG 17) (eqP 17) in_J2 tyJ2_ok nmJ2 (Or.inl q151) (by decide) (by decide) (by decide) rfl rfl rfl dJ2_add_7 (u_same (hX.hts _ q152)) ?_
  refine s_aload_n hX dJ2_add_10 rfl 0 rfl ?_
  refine s_aload_n hX dJ2_add_11 rfl 1 rfl ?_
  refine s_aload_n hX dJ2_add_12 rfl 0 rfl ?_
  refine s_getR (ci := 17) (j := 1) (ref := "java/util/ArrayList") hX (eqG 17) in_J2 (Or.inl q148) (by decide) (by decide) (by decide) rfl dJ2_add_13 (fun _ h9 => h9) (fun v2 => ?_)
  refine s_aload_n hX dJ2_add_16 rfl 0 rfl ?_
  refine s_getI (ci := 17) (j := 2) (ref := "java/util/ArrayList") hX (eqG 17) in_J2 (Or.inl q149) (by decide) (by decide) (by decide) rfl dJ2_add_17 (fun _ h9 => h9) (fun v3 => ?_)
  refine s_callV_U (ci := 17) (n := 3) (As := [rv p1, rv v2, .int v3]) (st := []) hX (eqK 18) (by decide) (ct_J2_add_2 X.l p0 p1 v2 v3) q443 q445 qs1 q88 q446 yvJ2_add_2 (by decide) rfl (by first | decide | simp [rv_cat, cat_i, cat_l]) dJ2_add_20 (fun _ => ?_)
  refine s_iconst (v := 1) hX dJ2_add_23 rfl ?_
  exact s_zret hX dJ2_add_24
theorem dJ2_fastRemove_0 : decode cJ2_fastRemove 0 = .ok (.aload_n 0, 1) := by decide +kernel
theorem dJ2_fastRemove_1 : decode cJ2_fastRemove 1 = .ok (.dup, 1) := by decide +kernel
theorem dJ2_fastRemove_2 : decode cJ2_fastRemove 2 = .ok (.getfield 63, 3) := by decide +kernel
theorem dJ2_fastRemove_5 : decode cJ2_fastRemove 5 = .ok (.iconst 1, 1) := by decide +kernel
theorem dJ2_fastRemove_6 : decode cJ2_fastRemove 6 = .ok (.iadd, 1) := by decide +kernel
theorem dJ2_fastRemove_7 : decode cJ2_fastRemove 7 = .ok (.putfield 63, 3) := by decide +kernel
theorem dJ2_fastRemove_10 : decode cJ2_fastRemove 10 = .ok (.aload_n 0, 1) := by decide +kernel
theorem dJ2_fastRemove_11 : decode cJ2_fastRemove 11 = .ok (.getfield 48, 3) := by decide +kernel
theorem dJ2_fastRemove_14 : decode cJ2_fastRemove 14 = .ok (.iconst 1, 1) := by decide +kernel
theorem dJ2_fastRemove_15 : decode cJ2_fastRemove 15 = .ok (.isub, 1) := by decide +kernel
theorem dJ2_fastRemove_16 : decode cJ2_fastRemove 16 = .ok (.dup, 1) := by decide +kernel
theorem dJ2_fastRemove_17 : decode cJ2_fastRemove 17 = .ok (.istore_n 3, 1) := by decide +kernel
theorem dJ2_fastRemove_18 : decode cJ2_fastRemove 18 = .ok (.iload_n 2, 1) := by decide +kernel
theorem dJ2_fastRemove_19 : decode cJ2_fastRemove 19 = .ok (.if_icmp .le 15, 3) := by decide +kernel
theorem dJ2_fastRemove_22 : decode cJ2_fastRemove 22 = .ok (.aload_n 1, 1) := by decide +kernel
theorem dJ2_fastRemove_23 : decode cJ2_fastRemove 23 = .ok (.iload_n 2, 1) := by decide +kernel
theorem dJ2_fastRemove_24 : decode cJ2_fastRemove 24 = .ok (.iconst 1, 1) := by decide +kernel
theorem dJ2_fastRemove_25 : decode cJ2_fastRemove 25 = .ok (.iadd, 1) := by decide +kernel
theorem dJ2_fastRemove_26 : decode cJ2_fastRemove 26 = .ok (.aload_n 1, 1) := by decide +kernel
theorem dJ2_fastRemove_27 : decode cJ2_fastRemove 27 = .ok (.iload_n 2, 1) := by decide +kernel
theorem dJ2_fastRemove_28 : decode cJ2_fastRemove 28 = .ok (.iload_n 3, 1) := by decide +kernel
theorem dJ2_fastRemove_29 : decode cJ2_fastRemove 29 = .ok (.iload_n 2, 1) := by decide +kernel
theorem dJ2_fastRemove_30 : decode cJ2_fastRemove 30 = .ok (.isub, 1) := by decide +kernel
theorem dJ2_fastRemove_31 : decode cJ2_fastRemove 31 = .ok (.invokestatic 112, 3) := by decide +kernel
theorem dJ2_fastRemove_34 : decode cJ2_fastRemove 34 = .ok (.aload_n 1, 1) := by decide +kernel
theorem dJ2_fastRemove_35 : decode cJ2_fastRemove 35 = .ok (.aload_n 0, 1) := by decide +kernel
theorem dJ2_fastRemove_36 : decode cJ2_fastRemove 36 = .ok (.iload_n 3, 1) := by decide +kernel
theorem dJ2_fastRemove_37 : decode cJ2_fastRemove 37 = .ok (.dup_x1, 1) := by decide +kernel
theorem dJ2_fastRemove_38 : decode cJ2_fastRemove 38 = .ok (.putfield 48, 3) := by decide +kernel
theorem dJ2_fastRemove_41 : decode cJ2_fastRemove 41 = .ok (.aconst_null, 1) := by decide +kernel
theorem dJ2_fastRemove_42 : decode cJ2_fastRemove 42 = .ok (.aastore, 1) := by decide +kernel
theorem dJ2_fastRemove_43 : decode cJ2_fastRemove 43 = .ok (.return_, 1) := by decide +kernel
theorem ycJ2_fastRemove : yJ2_fastRemove.cls ≠ "java/lang/invoke/MethodHandle" ∧ yJ2_fastRemove.cls ≠ "java/lang/invoke/VarHandle" ∧ (parseMethodDescriptor yJ2_fastRemove.desc).map (fun d => d.parameters.length) = some 2 := by decide +kernel
theorem yvJ2_fastRemove : yJ2_fastRemove.cls = RR 17 ∧ yJ2_fastRemove.cls ≠ "java/lang/invoke/MethodHandle" ∧ yJ2_fastRemove.cls ≠ "java/lang/invoke/VarHandle" ∧ (parseMethodDescriptor yJ2_fastRemove.desc).map (fun d => d.parameters.length) = some 2 := ⟨rfl, ycJ2_fastRemove⟩
def f_J2_fastRemove (p0 : Nat) (p1 : Nat) (p2 : Int32) : Act Unit :=
  bnd (getI 17 0 p0) fun v1 =>
  bnd (putI 17 0 p0 (v1 + 1)) fun _ =>
  bnd (getI 17 2 p0) fun v2 =>
  jn (fun (_ : Unit) =>
    bnd (putI 17 2 p0 (v2 - 1)) fun _ =>
    bnd (stN 4 p1 (v2 - 1)) fun _ =>
    pur ()) fun j34 =>
  if (v2 - 1) ≤ p2 then
    j34 ()
  else
    bnd (cpR ksO p1 (p2 + 1) p1 p2 ((v2 - 1) - p2)) fun _ =>
    j34 ()
set_option maxHeartbeats 4000000 in
theorem ct_J2_fastRemove (l : Launch) (p0 : Nat) (p1 : Nat) (p2 : Int32) : Ct l (@Eq Mem) yJ2_fastRemove (ws_ yJ2_fastRemove cJ2_fastRemove 4 none) 1 40 cvU [rv p0, rv p1, .int p2] (f_J2_fastRemove p0 p1 p2) := by
  refine Ct.of (own := RJ2) (L := [(0, rv p0), (1, rv p1), (2, .int p2)]) (by decide +kernel) rfl (by first | decide | simp [lg_sl, rv_cat, cat_i, cat_l]) (by first | rfl | simp [lv_args, rv_cat, cat_i, cat_l]) eqZ (fun X hXl hX hnh hin => ?_)
  subst hXl
  unfold f_J2_fastRemove
  refine s_aload_n hX dJ2_fastRemove_0 rfl 0 rfl ?_
  refine s_dup hX dJ2_fastRemove_1 (rv_cat _) ?_
  refine s_getI (ci := 17) (j := 0) (ref := "java/util/ArrayList") hX (eqG 17) in_J2 (Or.inl q151) (by decide) (by decide) (by decide) rfl dJ2_fastRemove_2 (u_same (hX.hts _ q152)) (fun v1 => ?_)
  refine s_iconst (v := 1) hX dJ2_fastRemove_5 rfl ?_
  refine s_iadd hX dJ2_fastRemove_6 ?_
  refine s_putI (ci := 17) (j := 0) (ref := "java/util/ArrayList") hX (eqG 17) (eqP 17) in_J2 tyJ2_ok nmJ2 (Or.inl q151) (by decide) (by decide) (by decide) rfl rfl rfl dJ2_fastRemove_7 (u_same (hX.hts _ q152)) ?_
  refine s_aload_n hX dJ2_fastRemove_10 rfl 0 rfl ?_
  refine s_getI (ci := 17) (j := 2) (ref := "java/util/ArrayList") hX (eqG 17) in_J2 (Or.inl q149) (by decide) (by decide) (by decide) rfl dJ2_fastRemove_11 (fun _ h9 => h9) (fun v2 => ?_)
  refine s_iconst (v := 1) hX dJ2_fastRemove_14 rfl ?_
  refine s_isub hX dJ2_fastRemove_15 ?_
  refine s_dup hX dJ2_fastRemove_16 rfl ?_
  refine s_istore_n (i := 3) (L2 := [(3, .int (v2 - 1)), (0, rv p0), (1, rv p1), (2, .int p2)]) hX dJ2_fastRemove_17 rfl (by decide) rfl ?_
  refine s_iload_n hX dJ2_fastRemove_18 rfl 3 rfl ?_
  refine s_jn (P := fun j => ∀ (u : Unit), Sim X cvU 34 [(0, rv p0), (1, rv p1), (3, .int (v2 - 1))] [] (j u)) ?_ (fun j34 hj34 => ?_)
  · intro u
    refine s_aload_n hX dJ2_fastRemove_34 rfl 1 rfl ?_
    refine s_aload_n hX dJ2_fastRemove_35 rfl 0 rfl ?_
    refine s_iload_n hX dJ2_fastRemove_36 rfl 2 rfl ?_
    refine s_dup_x1 hX dJ2_fastRemove_37 rfl (rv_cat _) ?_
    refine s_putI (ci := 17) (j := 2) (ref := "java/util/ArrayList") hX (eqG 17) (eqP 17) in_J2 tyJ2_ok nmJ2 (Or.inl q149) (by decide) (by decide) (by decide) rfl rfl rfl dJ2_fastRemove_38 (fun _ h9 => h9) ?_
    refine s_null hX dJ2_fastRemove_41 ?_
    refine s_aastN (q := 4) hX (by decide) (by decide) (fun _ => rfl) (eqA 4) (eqB 4) dJ2_fastRemove_42 ?_
    exact s_vret hX dJ2_fastRemove_43
  · refine s_icmp_le (tgt := 34) hX dJ2_fastRemove_19 (by decide) ?_ ?_
    · exact s_sub [1, 2, 0] rfl (hj34 ())
    · refine s_aload_n hX dJ2_fastRemove_22 rfl 2 rfl ?_
      refine s_iload_n hX dJ2_fastRemove_23 rfl 3 rfl ?_
      refine s_iconst (v := 1) hX dJ2_fastRemove_24 rfl ?_
      refine s_iadd hX dJ2_fastRemove_25 ?_
      refine s_aload_n hX dJ2_fastRemove_26 rfl 2 rfl ?_
      refine s_iload_n hX dJ2_fastRemove_27 rfl 3 rfl ?_
      refine s_iload_n hX dJ2_fastRemove_28 rfl 0 rfl ?_
      refine s_iload_n hX dJ2_fastRemove_29 rfl 3 rfl ?_
      refine s_isub hX dJ2_fastRemove_30 ?_
      refine s_copyR (ks := ksO) hX elO q1101 q504 q503 q97 (by decide) (by first | decide | (simp [rv_cat, cat_i, cat_l, nativeFrameWords]; done)) dJ2_fastRemove_31 ?_
      exact s_sub [1, 2, 0] rfl (hj34 ())
theorem dJ2_remove_0 : decode cJ2_remove 0 = .ok (.iload_n 1, 1) := by decide +kernel
theorem dJ2_remove_1 : decode cJ2_remove 1 = .ok (.aload_n 0, 1) := by decide +kernel
theorem dJ2_remove_2 : decode cJ2_remove 2 = .ok (.getfield 48, 3) := by decide +kernel
theorem dJ2_remove_5 : decode cJ2_remove 5 = .ok (.invokestatic 118, 3) := by decide +kernel
theorem dJ2_remove_8 : decode cJ2_remove 8 = .ok (.pop, 1) := by decide +kernel
theorem dJ2_remove_9 : decode cJ2_remove 9 = .ok (.aload_n 0, 1) := by decide +kernel
theorem dJ2_remove_10 : decode cJ2_remove 10 = .ok (.getfield 9, 3) := by decide +kernel
theorem dJ2_remove_13 : decode cJ2_remove 13 = .ok (.astore_n 2, 1) := by decide +kernel
theorem dJ2_remove_14 : decode cJ2_remove 14 = .ok (.aload_n 2, 1) := by decide +kernel
theorem dJ2_remove_15 : decode cJ2_remove 15 = .ok (.iload_n 1, 1) := by decide +kernel
theorem dJ2_remove_16 : decode cJ2_remove 16 = .ok (.aaload, 1) := by decide +kernel
theorem dJ2_remove_17 : decode cJ2_remove 17 = .ok (.astore_n 3, 1) := by decide +kernel
theorem dJ2_remove_18 : decode cJ2_remove 18 = .ok (.aload_n 0, 1) := by decide +kernel
theorem dJ2_remove_19 : decode cJ2_remove 19 = .ok (.aload_n 2, 1) := by decide +kernel
theorem dJ2_remove_20 : decode cJ2_remove 20 = .ok (.iload_n 1, 1) := by decide +kernel
theorem dJ2_remove_21 : decode cJ2_remove 21 = .ok (.invokevirtual 144, 3) := by decide +kernel
theorem dJ2_remove_24 : decode cJ2_remove 24 = .ok (.aload_n 3, 1) := by decide +kernel
theorem dJ2_remove_25 : decode cJ2_remove 25 = .ok (.areturn, 1) := by decide +kernel
theorem ycJ2_remove : yJ2_remove.cls ≠ "java/lang/invoke/MethodHandle" ∧ yJ2_remove.cls ≠ "java/lang/invoke/VarHandle" ∧ (parseMethodDescriptor yJ2_remove.desc).map (fun d => d.parameters.length) = some 1 := by decide +kernel
theorem yvJ2_remove : yJ2_remove.cls = RR 17 ∧ yJ2_remove.cls ≠ "java/lang/invoke/MethodHandle" ∧ yJ2_remove.cls ≠ "java/lang/invoke/VarHandle" ∧ (parseMethodDescriptor yJ2_remove.desc).map (fun d => d.parameters.length) = some 1 := ⟨rfl, ycJ2_remove⟩
def f_J2_remove (p0 : Nat) (p1 : Int32) : Act Nat :=
  bnd (getI 17 2 p0) fun v1 =>
  bnd (nt (f_J7_checkIndex p1 v1)) fun v2 =>
  bnd (getR 17 1 p0) fun v3 =>
  bnd (ldR 4 v3 p1) fun v4 =>
  bnd (gd 17 p0 (nt (f_J2_fastRemove p0 v3 p1))) fun _ =>
  pur v4
set_option maxHeartbeats 4000000 in
theorem ct_J2_remove (l : Launch) (p0 : Nat) (p1 : Int32) : Ct l (@Eq Mem) yJ2_remove (ws_ yJ2_remove cJ2_remove 4 (some (FieldType.object "java/lang/Object"))) 2 63 cvR [rv p0, .int p1] (f_J2_remove p0 p1) := by
  refine Ct.of (own := RJ2) (L := [(0, rv p0), (1, .int p1)]) (by decide +kernel) rfl (by first | decide | simp [lg_sl, rv_cat, cat_i, cat_l]) (by first | rfl | simp [lv_args, rv_cat, cat_i, cat_l]) eqZ (fun X hXl hX hnh hin => ?_)
  subst hXl
  unfold f_J2_remove
  refine s_iload_n hX dJ2_remove_0 rfl 1 rfl ?_
  refine s_aload_n hX dJ2_remove_1 rfl 0 rfl ?_
  refine s_getI (ci := 17) (j := 2) (ref := "java/util/ArrayList") hX (eqG 17) in_J2 (Or.inl q149) (by decide) (by decide) (by decide) rfl dJ2_remove_2 (fun _ h9 => h9) (fun v1 => ?_)
  refine s_callS_I (n := 2) (As := [.int p1, .int v1]) (st := []) hX (ct_J7_checkIndex X.l p1 v1) q519 q520 q98 q521 ycJ7_checkIndex (by decide) rfl (by first | decide | simp [rv_cat, cat_i, cat_l]) dJ2_remove_5 (fun v2 => ?_)
  refine s_pop hX dJ2_remove_8 rfl ?_
  refine s_aload_n hX dJ2_remove_9 rfl 0 rfl ?_
  refine s_getR (ci := 17) (j := 1) (ref := "java/util/ArrayList") hX (eqG 17) in_J2 (Or.inl q148) (by decide) (by decide) (by decide) rfl dJ2_remove_10 (fun _ h9 => h9) (fun v3 => ?_)
  refine s_astore_n (i := 2) (L2 := [(2, rv v3), (0, rv p0), (1, .int p1)]) hX dJ2_remove_13 rfl (by decide) rfl ?_
  refine s_aload_n hX dJ2_remove_14 rfl 0 rfl ?_
  refine s_iload_n hX dJ2_remove_15 rfl 2 rfl ?_
  refine s_aald (q := 4) hX (by decide) (by decide) (fun _ => rfl) (eqA 4) dJ2_remove_16 (fun v4 => ?_)
  refine s_astore_n (i := 3) (L2 := [(3, rv v4), (2, rv v3), (0, rv p0), (1, .int p1)]) hX dJ2_remove_17 rfl (by decide) (by first | (simp [rv_cat, cat_i, cat_l]; done) | (simp [rv_cat, cat_i, cat_l]; decide)) ?_
  refine s_aload_n hX dJ2_remove_18 rfl 2 rfl ?_
  refine s_aload_n hX dJ2_remove_19 rfl 1 rfl ?_
  refine s_iload_n hX dJ2_remove_20 rfl 3 rfl ?_
  refine s_callV_U (ci := 17) (n := 2) (As := [rv v3, .int p1]) (st := []) hX (eqK 18) (by decide) (ct_J2_fastRemove X.l p0 v3 p1) q1097 q1099 qs23 q88 q1100 yvJ2_fastRemove (by decide) rfl (by first | decide | simp [rv_cat, cat_i, cat_l]) dJ2_remove_21 (fun _ => ?_)
  refine s_aload_n hX dJ2_remove_24 rfl 0 rfl ?_
  exact s_aret hX (Or.inl ⟨_, rfl⟩) dJ2_remove_25
theorem dJ2_isEmpty_0 : decode cJ2_isEmpty 0 = .ok (.aload_n 0, 1) := by decide +kernel
theorem dJ2_isEmpty_1 : decode cJ2_isEmpty 1 = .ok (.getfield 48, 3) := by decide +kernel
theorem dJ2_isEmpty_4 : decode cJ2_isEmpty 4 = .ok (.ifCond .ne 7, 3) := by decide +kernel
theorem dJ2_isEmpty_7 : decode cJ2_isEmpty 7 = .ok (.iconst 1, 1) := by decide +kernel
theorem dJ2_isEmpty_8 : decode cJ2_isEmpty 8 = .ok (.goto 4, 3) := by decide +kernel
theorem dJ2_isEmpty_11 : decode cJ2_isEmpty 11 = .ok (.iconst 0, 1) := by decide +kernel
theorem dJ2_isEmpty_12 : decode cJ2_isEmpty 12 = .ok (.ireturn, 1) := by decide +kernel
theorem ycJ2_isEmpty : yJ2_isEmpty.cls ≠ "java/lang/invoke/MethodHandle" ∧ yJ2_isEmpty.cls ≠ "java/lang/invoke/VarHandle" ∧ (parseMethodDescriptor yJ2_isEmpty.desc).map (fun d => d.parameters.length) = some 0 := by decide +kernel
theorem yvJ2_isEmpty : yJ2_isEmpty.cls = RR 17 ∧ yJ2_isEmpty.cls ≠ "java/lang/invoke/MethodHandle" ∧ yJ2_isEmpty.cls ≠ "java/lang/invoke/VarHandle" ∧ (parseMethodDescriptor yJ2_isEmpty.desc).map (fun d => d.parameters.length) = some 0 := ⟨rfl, ycJ2_isEmpty⟩
def f_J2_isEmpty (p0 : Nat) : Act Int32 :=
  bnd (getI 17 2 p0) fun v1 =>
  jn (fun (v2 : Int32) =>
    purS (ty := .boolean) v2) fun j12 =>
  if ¬ v1 = 0 then
    j12 0
  else
    j12 1
set_option maxHeartbeats 4000000 in
theorem ct_J2_isEmpty (l : Launch) (p0 : Nat) : Ct l (@Eq Mem) yJ2_isEmpty (ws_ yJ2_isEmpty cJ2_isEmpty 1 (some FieldType.boolean)) 0 0 cvI [rv p0] (f_J2_isEmpty p0) := by
  refine Ct.of (own := RJ2) (L := [(0, rv p0)]) (by decide +kernel) rfl (by first | decide | simp [lg_sl, rv_cat, cat_i, cat_l]) (by first | rfl | simp [lv_args, rv_cat, cat_i, cat_l]) eqZ (fun X hXl hX hnh hin => ?_)
  subst hXl
  unfold f_J2_isEmpty
  refine s_aload_n hX dJ2_isEmpty_0 rfl 0 rfl ?_
  refine s_getI (ci := 17) (j := 2) (ref := "java/util/ArrayList") hX (eqG 17) in_J2 (Or.inl q149) (by decide) (by decide) (by decide) rfl dJ2_isEmpty_1 (fun _ h9 => h9) (fun v1 => ?_)
  refine s_jn (P := fun j => ∀ (v2 : Int32), Sim X cvI 12 [] [.int v2] (j v2)) ?_ (fun j12 hj12 => ?_)
  · intro v2
    exact s_zret hX dJ2_isEmpty_12
  · refine s_if_ne (tgt := 11) hX dJ2_isEmpty_4 (by decide) ?_ ?_
    · refine s_iconst (v := 0) hX dJ2_isEmpty_11 rfl ?_
      exact s_sub [] rfl (hj12 0)
    · refine s_iconst (v := 1) hX dJ2_isEmpty_7 rfl ?_
      refine s_goto (tgt := 12) hX dJ2_isEmpty_8 (by decide) ?_
      exact s_sub [] rfl (hj12 1)
theorem dJ9_init_0 : decode cJ9_init 0 = .ok (.aload_n 0, 1) := by decide +kernel
theorem dJ9_init_1 : decode cJ9_init 1 = .ok (.invokespecial 3, 3) := by decide +kernel
theorem dJ9_init_4 : decode cJ9_init 4 = .ok (.getstatic 18, 3) := by decide +kernel
theorem dJ9_init_7 : decode cJ9_init 7 = .ok (.ifCond .eq 18, 3) := by decide +kernel
theorem dJ9_init_10 : decode cJ9_init 10 = .ok (.aload_n 0, 1) := by decide +kernel
theorem dJ9_init_11 : decode cJ9_init 11 = .ok (.iload_n 1, 1) := by decide +kernel
theorem dJ9_init_12 : decode cJ9_init 12 = .ok (.newarray .byte, 2) := by decide +kernel
theorem dJ9_init_14 : decode cJ9_init 14 = .ok (.putfield 15, 3) := by decide +kernel
theorem dJ9_init_17 : decode cJ9_init 17 = .ok (.aload_n 0, 1) := by decide +kernel
theorem dJ9_init_18 : decode cJ9_init 18 = .ok (.iconst 0, 1) := by decide +kernel
theorem dJ9_init_19 : decode cJ9_init 19 = .ok (.putfield 22, 3) := by decide +kernel
theorem dJ9_init_22 : decode cJ9_init 22 = .ok (.goto 16, 3) := by decide +kernel
theorem dJ9_init_25 : decode cJ9_init 25 = .ok (.aload_n 0, 1) := by decide +kernel
theorem dJ9_init_26 : decode cJ9_init 26 = .ok (.iload_n 1, 1) := by decide +kernel
theorem dJ9_init_27 : decode cJ9_init 27 = .ok (.invokestatic 26, 3) := by decide +kernel
theorem dJ9_init_30 : decode cJ9_init 30 = .ok (.putfield 15, 3) := by decide +kernel
theorem dJ9_init_33 : decode cJ9_init 33 = .ok (.aload_n 0, 1) := by decide +kernel
theorem dJ9_init_34 : decode cJ9_init 34 = .ok (.iconst 1, 1) := by decide +kernel
theorem dJ9_init_35 : decode cJ9_init 35 = .ok (.putfield 22, 3) := by decide +kernel
theorem dJ9_init_38 : decode cJ9_init 38 = .ok (.return_, 1) := by decide +kernel
theorem ycJ9_init : yJ9_init.cls ≠ "java/lang/invoke/MethodHandle" ∧ yJ9_init.cls ≠ "java/lang/invoke/VarHandle" ∧ (parseMethodDescriptor yJ9_init.desc).map (fun d => d.parameters.length) = some 1 := by decide +kernel
def f_J9_init (p0 : Nat) (p1 : Int32) : Act Unit :=
  nn p0 <|
  if (1 : Int32) = 0 then
    fail
  else
    bnd (newA 2 p1) fun v1 =>
    bnd (putR 18 0 p0 v1) fun _ =>
    bnd (putS .byte 18 1 p0 0) fun _ =>
    pur ()
set_option maxHeartbeats 4000000 in
theorem ct_J9_init (l : Launch) (p0 : Nat) (p1 : Int32) : Ct l (@Eq Mem) yJ9_init (ws_ yJ9_init cJ9_init 2 none) 1 24 cvU [rv p0, .int p1] (f_J9_init p0 p1) := by
  refine Ct.of (own := RJ9) (L := [(0, rv p0), (1, .int p1)]) (by decide +kernel) rfl (by first | decide | simp [lg_sl, rv_cat, cat_i, cat_l]) (by first | rfl | simp [lv_args, rv_cat, cat_i, cat_l]) eqZ (fun X hXl hX hnh hin => ?_)
  subst hXl
  unfold f_J9_init
  refine s_aload_n hX dJ9_init_0 rfl 0 rfl ?_
  refine s_oinit hX (by decide) q588 q126 q127 (by decide) (by decide) dJ9_init_1 ?_
  refine s_gstI (v := 1) hX (fun w b => b.2.2.2.2.1.2.2.2) q589 dJ9_init_4 ?_
  refine s_if_eq (tgt := 25) hX dJ9_init_7 (by decide) ?_ ?_
  · exact s_fail
  · refine s_aload_n hX dJ9_init_10 rfl 0 rfl ?_
    refine s_iload_n hX dJ9_init_11 rfl 1 rfl ?_
    refine s_newB hX (eqM 2) q265 dJ9_init_12 (fun v1 => ?_)
    refine s_putR (ci := 18) (j := 0) (ref := "java/lang/AbstractStringBuilder") hX (eqG 18) (eqP 18) in_J10 tyJ10_ok nmJ10 (Or.inl q598) (by decide) (by decide) (by decide) rfl (fun v => by cases v <;> exact ⟨rfl, rfl⟩) rfl dJ9_init_14 (fun _ h9 => h9) ?_
    refine s_aload_n hX dJ9_init_17 rfl 0 rfl ?_
    refine s_iconst (v := 0) hX dJ9_init_18 rfl ?_
    refine s_putS (ci := 18) (j := 1) (ref := "java/lang/AbstractStringBuilder") hX (eqG 18) (eqP 18) in_J10 tyJ10_ok nmJ10 (Or.inl q599) (by decide) (by decide) (by decide) rfl rfl rfl dJ9_init_19 (fun _ h9 => h9) ?_
    refine s_goto (tgt := 38) hX dJ9_init_22 (by decide) ?_
    exact s_vret hX dJ9_init_38
theorem dJ10_init_0 : decode cJ10_init 0 = .ok (.aload_n 0, 1) := by decide +kernel
theorem dJ10_init_1 : decode cJ10_init 1 = .ok (.bipush 16, 2) := by decide +kernel
theorem dJ10_init_3 : decode cJ10_init 3 = .ok (.invokespecial 1, 3) := by decide +kernel
theorem dJ10_init_6 : decode cJ10_init 6 = .ok (.return_, 1) := by decide +kernel
theorem ycJ10_init : yJ10_init.cls ≠ "java/lang/invoke/MethodHandle" ∧ yJ10_init.cls ≠ "java/lang/invoke/VarHandle" ∧ (parseMethodDescriptor yJ10_init.desc).map (fun d => d.parameters.length) = some 0 := by decide +kernel
theorem yvJ10_init : yJ10_init.cls = RR 18 ∧ yJ10_init.cls ≠ "java/lang/invoke/MethodHandle" ∧ yJ10_init.cls ≠ "java/lang/invoke/VarHandle" ∧ (parseMethodDescriptor yJ10_init.desc).map (fun d => d.parameters.length) = some 0 := ⟨rfl, ycJ10_init⟩
def f_J10_init (p0 : Nat) : Act Unit :=
  bnd (gd 18 p0 (nt (f_J9_init p0 (16 : Int32)))) fun _ =>
  pur ()
set_option maxHeartbeats 4000000 in
theorem ct_J10_init (l : Launch) (p0 : Nat) : Ct l (@Eq Mem) yJ10_init (ws_ yJ10_init cJ10_init 1 none) 2 45 cvU [rv p0] (f_J10_init p0) := by
  refine Ct.of (own := RJ10) (L := [(0, rv p0)]) (by decide +kernel) rfl (by first | decide | simp [lg_sl, rv_cat, cat_i, cat_l]) (by first | rfl | simp [lv_args, rv_cat, cat_i, cat_l]) eqZ (fun X hXl hX hnh hin => ?_)
  subst hXl
  unfold f_J10_init
  refine s_aload_n hX dJ10_init_0 rfl 0 rfl ?_
  refine s_bipush (v := 16) hX dJ10_init_1 (by decide) ?_
  refine s_callI_U (ci := 18) (n := 1) (As := [.int 16]) (st := []) hX (eqK 19) (by decide) (ct_J9_init X.l p0 (16 : Int32)) q585 q586 q105 q587 rfl ycJ9_init (by decide) rfl (by first | decide | simp [rv_cat, cat_i, cat_l]) dJ10_init_3 (fun _ => ?_)
  exact s_vret hX dJ10_init_6
theorem dJ9_newCapacity_0 : decode cJ9_newCapacity 0 = .ok (.aload_n 0, 1) := by decide +kernel
theorem dJ9_newCapacity_1 : decode cJ9_newCapacity 1 = .ok (.getfield 15, 3) := by decide +kernel
theorem dJ9_newCapacity_4 : decode cJ9_newCapacity 4 = .ok (.arraylength, 1) := by decide +kernel
theorem dJ9_newCapacity_5 : decode cJ9_newCapacity 5 = .ok (.istore_n 2, 1) := by decide +kernel
theorem dJ9_newCapacity_6 : decode cJ9_newCapacity 6 = .ok (.iload_n 1, 1) := by decide +kernel
theorem dJ9_newCapacity_7 : decode cJ9_newCapacity 7 = .ok (.aload_n 0, 1) := by decide +kernel
theorem dJ9_newCapacity_8 : decode cJ9_newCapacity 8 = .ok (.getfield 22, 3) := by decide +kernel
theorem dJ9_newCapacity_11 : decode cJ9_newCapacity 11 = .ok (.ishl, 1) := by decide +kernel
theorem dJ9_newCapacity_12 : decode cJ9_newCapacity 12 = .ok (.istore_n 3, 1) := by decide +kernel
theorem dJ9_newCapacity_13 : decode cJ9_newCapacity 13 = .ok (.iload_n 3, 1) := by decide +kernel
theorem dJ9_newCapacity_14 : decode cJ9_newCapacity 14 = .ok (.iload_n 2, 1) := by decide +kernel
theorem dJ9_newCapacity_15 : decode cJ9_newCapacity 15 = .ok (.isub, 1) := by decide +kernel
theorem dJ9_newCapacity_16 : decode cJ9_newCapacity 16 = .ok (.istore 4, 2) := by decide +kernel
theorem dJ9_newCapacity_18 : decode cJ9_newCapacity 18 = .ok (.iload_n 2, 1) := by decide +kernel
theorem dJ9_newCapacity_19 : decode cJ9_newCapacity 19 = .ok (.iload 4, 2) := by decide +kernel
theorem dJ9_newCapacity_21 : decode cJ9_newCapacity 21 = .ok (.iload_n 2, 1) := by decide +kernel
theorem dJ9_newCapacity_22 : decode cJ9_newCapacity 22 = .ok (.iconst 2, 1) := by decide +kernel
theorem dJ9_newCapacity_23 : decode cJ9_newCapacity 23 = .ok (.aload_n 0, 1) := by decide +kernel
theorem dJ9_newCapacity_24 : decode cJ9_newCapacity 24 = .ok (.getfield 22, 3) := by decide +kernel
theorem dJ9_newCapacity_27 : decode cJ9_newCapacity 27 = .ok (.ishl, 1) := by decide +kernel
theorem dJ9_newCapacity_28 : decode cJ9_newCapacity 28 = .ok (.iadd, 1) := by decide +kernel
theorem dJ9_newCapacity_29 : decode cJ9_newCapacity 29 = .ok (.invokestatic 114, 3) := by decide +kernel
theorem dJ9_newCapacity_32 : decode cJ9_newCapacity 32 = .ok (.istore 5, 2) := by decide +kernel
theorem dJ9_newCapacity_34 : decode cJ9_newCapacity 34 = .ok (.iload 5, 2) := by decide +kernel
theorem dJ9_newCapacity_36 : decode cJ9_newCapacity 36 = .ok (.ldc 39, 2) := by decide +kernel
theorem dJ9_newCapacity_38 : decode cJ9_newCapacity 38 = .ok (.if_icmp .ne 13, 3) := by decide +kernel
theorem dJ9_newCapacity_41 : decode cJ9_newCapacity 41 = .ok (.new 120, 3) := by decide +kernel
theorem dJ9_newCapacity_44 : decode cJ9_newCapacity 44 = .ok (.dup, 1) := by decide +kernel
theorem dJ9_newCapacity_45 : decode cJ9_newCapacity 45 = .ok (.ldc 122, 2) := by decide +kernel
theorem dJ9_newCapacity_47 : decode cJ9_newCapacity 47 = .ok (.invokespecial 124, 3) := by decide +kernel
theorem dJ9_newCapacity_50 : decode cJ9_newCapacity 50 = .ok (.athrow, 1) := by decide +kernel
theorem dJ9_newCapacity_51 : decode cJ9_newCapacity 51 = .ok (.iload 5, 2) := by decide +kernel
theorem dJ9_newCapacity_53 : decode cJ9_newCapacity 53 = .ok (.aload_n 0, 1) := by decide +kernel
theorem dJ9_newCapacity_54 : decode cJ9_newCapacity 54 = .ok (.getfield 22, 3) := by decide +kernel
theorem dJ9_newCapacity_57 : decode cJ9_newCapacity 57 = .ok (.ishr, 1) := by decide +kernel
theorem dJ9_newCapacity_58 : decode cJ9_newCapacity 58 = .ok (.ireturn, 1) := by decide +kernel
theorem ycJ9_newCapacity : yJ9_newCapacity.cls ≠ "java/lang/invoke/MethodHandle" ∧ yJ9_newCapacity.cls ≠ "java/lang/invoke/VarHandle" ∧ (parseMethodDescriptor yJ9_newCapacity.desc).map (fun d => d.parameters.length) = some 1 := by decide +kernel
def f_J9_newCapacity (p0 : Nat) (p1 : Int32) : Act Int32 :=
  bnd (getR 18 0 p0) fun v1 =>
  bnd (lenq 2 v1) fun v2 =>
  bnd (getI 18 1 p0) fun v3 =>
  bnd (getI 18 1 p0) fun v4 =>
  bnd (nt (f_J4_newLength v2 ((p1 <<< (v3 &&& 31)) - v2) (v2 + (2 <<< (v4 &&& 31))))) fun v5 =>
  if ¬ v5 = 2147483647 then
    bnd (getI 18 1 p0) fun v6 =>
    pur (v5 >>> (v6 &&& 31))
  else
    fail
set_option maxHeartbeats 4000000 in
theorem ct_J9_newCapacity (l : Launch) (p0 : Nat) (p1 : Int32) : Ct l (@Eq Mem) yJ9_newCapacity (ws_ yJ9_newCapacity cJ9_newCapacity 6 (some FieldType.int)) 2 47 cvI [rv p0, .int p1] (f_J9_newCapacity p0 p1) := by
  refine Ct.of (own := RJ9) (L := [(0, rv p0), (1, .int p1)]) (by decide +kernel) rfl (by first | decide | simp [lg_sl, rv_cat, cat_i, cat_l]) (by first | rfl | simp [lv_args, rv_cat, cat_i, cat_l]) eqZ (fun X hXl hX hnh hin => ?_)
  subst hXl
  unfold f_J9_newCapacity
  refine s_aload_n hX dJ9_newCapacity_0 rfl 0 rfl ?_
  refine s_getR (ci := 18) (j := 0) (ref := "java/lang/AbstractStringBuilder") hX (eqG 18) in_J10 (Or.inl q598) (by decide) (by decide) (by decide) rfl dJ9_newCapacity_1 (fun _ h9 => h9) (fun v1 => ?_)
  refine s_alen (q := 2) hX (by decide) (eqA 2) dJ9_newCapacity_4 (fun v2 => ?_)
  refine s_istore_n (i := 2) (L2 := [(2, .int v2), (0, rv p0), (1, .int p1)]) hX dJ9_newCapacity_5 rfl (by decide) rfl ?_
  refine s_iload_n hX dJ9_newCapacity_6 rfl 2 rfl ?_
  refine s_aload_n hX dJ9_newCapacity_7 rfl 1 rfl ?_
  refine s_getI (ci := 18) (j := 1) (ref := "java/lang/AbstractStringBuilder") hX (eqG 18) in_J10 (Or.inl q599) (by decide) (by decide) (by decide) rfl dJ9_newCapacity_8 (fun _ h9 => h9) (fun v3 => ?_)
  refine s_ishl hX dJ9_newCapacity_11 ?_
  refine s_istore_n (i := 3) (L2 := [(3, .int (p1 <<< (v3 &&& 31))), (2, .int v2), (0, rv p0), (1, .int p1)]) hX dJ9_newCapacity_12 rfl (by decide) rfl ?_
  refine s_iload_n hX dJ9_newCapacity_13 rfl 0 rfl ?_
  refine s_iload_n hX dJ9_newCapacity_14 rfl 1 rfl ?_
  refine s_isub hX dJ9_newCapacity_15 ?_
  refine s_istore (i := 4) (L2 := [(4, .int ((p1 <<< (v3 &&& 31)) - v2)), (3, .int (p1 <<< (v3 &&& 31))), (2, .int v2), (0, rv p0), (1, .int p1)]) hX dJ9_newCapacity_16 (by decide) rfl ?_
  refine s_iload_n hX dJ9_newCapacity_18 rfl 2 rfl ?_
  refine s_iload hX dJ9_newCapacity_19 0 rfl ?_
  refine s_iload_n hX dJ9_newCapacity_21 rfl 2 rfl ?_
  refine s_iconst (v := 2) hX dJ9_newCapacity_22 rfl ?_
  refine s_aload_n hX dJ9_newCapacity_23 rfl 3 rfl ?_
  refine s_getI (ci := 18) (j := 1) (ref := "java/lang/AbstractStringBuilder") hX (eqG 18) in_J10 (Or.inl q599) (by decide) (by decide) (by decide) rfl dJ9_newCapacity_24 (fun _ h9 => h9) (fun v4 => ?_)
  refine s_ishl hX dJ9_newCapacity_27 ?_
  refine s_iadd hX dJ9_newCapacity_28 ?_
  refine s_callS_I (n := 3) (As := [.int v2, .int ((p1 <<< (v3 &&& 31)) - v2), .int (v2 + (2 <<< (v4 &&& 31)))]) (st := []) hX (ct_J4_newLength X.l v2 ((p1 <<< (v3 &&& 31)) - v2) (v2 + (2 <<< (v4 &&& 31)))) q626 q456 q94 q457 ycJ4_newLength (by decide) rfl (by first | decide | simp [rv_cat, cat_i, cat_l]) dJ9_newCapacity_29 (fun v5 => ?_)
  refine s_istore (i := 5) (L2 := [(5, .int v5), (4, .int ((p1 <<< (v3 &&& 31)) - v2)), (3, .int (p1 <<< (v3 &&& 31))), (2, .int v2), (0, rv p0), (1, .int p1)]) hX dJ9_newCapacity_32 (by decide) rfl ?_
  refine s_iload hX dJ9_newCapacity_34 0 rfl ?_
  refine s_ldc (v := 2147483647) hX dJ9_newCapacity_36 q627 ?_
  refine s_icmp_ne (tgt := 51) hX dJ9_newCapacity_38 (by decide) ?_ ?_
  · refine s_iload hX dJ9_newCapacity_51 0 rfl ?_
    refine s_aload_n hX dJ9_newCapacity_53 rfl 4 rfl ?_
    refine s_getI (ci := 18) (j := 1) (ref := "java/lang/AbstractStringBuilder") hX (eqG 18) in_J10 (Or.inl q599) (by decide) (by decide) (by decide) rfl dJ9_newCapacity_54 (fun _ h9 => h9) (fun v6 => ?_)
    refine s_ishr hX dJ9_newCapacity_57 ?_
    exact s_iret hX dJ9_newCapacity_58
  · exact s_fail
theorem dJ6_copyOf_3_0 : decode cJ6_copyOf_3 0 = .ok (.iload_n 1, 1) := by decide +kernel
theorem dJ6_copyOf_3_1 : decode cJ6_copyOf_3 1 = .ok (.aload_n 0, 1) := by decide +kernel
theorem dJ6_copyOf_3_2 : decode cJ6_copyOf_3 2 = .ok (.arraylength, 1) := by decide +kernel
theorem dJ6_copyOf_3_3 : decode cJ6_copyOf_3 3 = .ok (.if_icmp .ne 11, 3) := by decide +kernel
theorem dJ6_copyOf_3_6 : decode cJ6_copyOf_3 6 = .ok (.aload_n 0, 1) := by decide +kernel
theorem dJ6_copyOf_3_7 : decode cJ6_copyOf_3 7 = .ok (.invokevirtual 310, 3) := by decide +kernel
theorem dJ6_copyOf_3_10 : decode cJ6_copyOf_3 10 = .ok (.checkcast 311, 3) := by decide +kernel
theorem dJ6_copyOf_3_13 : decode cJ6_copyOf_3 13 = .ok (.areturn, 1) := by decide +kernel
theorem dJ6_copyOf_3_14 : decode cJ6_copyOf_3 14 = .ok (.iload_n 1, 1) := by decide +kernel
theorem dJ6_copyOf_3_15 : decode cJ6_copyOf_3 15 = .ok (.newarray .byte, 2) := by decide +kernel
theorem dJ6_copyOf_3_17 : decode cJ6_copyOf_3 17 = .ok (.astore_n 2, 1) := by decide +kernel
theorem dJ6_copyOf_3_18 : decode cJ6_copyOf_3 18 = .ok (.aload_n 0, 1) := by decide +kernel
theorem dJ6_copyOf_3_19 : decode cJ6_copyOf_3 19 = .ok (.iconst 0, 1) := by decide +kernel
theorem dJ6_copyOf_3_20 : decode cJ6_copyOf_3 20 = .ok (.aload_n 2, 1) := by decide +kernel
theorem dJ6_copyOf_3_21 : decode cJ6_copyOf_3 21 = .ok (.iconst 0, 1) := by decide +kernel
theorem dJ6_copyOf_3_22 : decode cJ6_copyOf_3 22 = .ok (.aload_n 0, 1) := by decide +kernel
theorem dJ6_copyOf_3_23 : decode cJ6_copyOf_3 23 = .ok (.arraylength, 1) := by decide +kernel
theorem dJ6_copyOf_3_24 : decode cJ6_copyOf_3 24 = .ok (.iload_n 1, 1) := by decide +kernel
theorem dJ6_copyOf_3_25 : decode cJ6_copyOf_3 25 = .ok (.invokestatic 304, 3) := by decide +kernel
theorem dJ6_copyOf_3_28 : decode cJ6_copyOf_3 28 = .ok (.invokestatic 150, 3) := by decide +kernel
theorem dJ6_copyOf_3_31 : decode cJ6_copyOf_3 31 = .ok (.aload_n 2, 1) := by decide +kernel
theorem dJ6_copyOf_3_32 : decode cJ6_copyOf_3 32 = .ok (.areturn, 1) := by decide +kernel
theorem ycJ6_copyOf_3 : yJ6_copyOf_3.cls ≠ "java/lang/invoke/MethodHandle" ∧ yJ6_copyOf_3.cls ≠ "java/lang/invoke/VarHandle" ∧ (parseMethodDescriptor yJ6_copyOf_3.desc).map (fun d => d.parameters.length) = some 2 := by decide +kernel
def f_J6_copyOf_3 (p0 : Nat) (p1 : Int32) : Act Nat :=
  bnd (lenq 2 p0) fun v1 =>
  if ¬ p1 = v1 then
    bnd (newA 2 p1) fun v2 =>
    bnd (lenq 2 p0) fun v3 =>
    bnd (cpB p0 0 v2 0 (mn v3 p1)) fun _ =>
    pur v2
  else
    fail
set_option maxHeartbeats 4000000 in
theorem ct_J6_copyOf_3 (l : Launch) (p0 : Nat) (p1 : Int32) : Ct l (@Eq Mem) yJ6_copyOf_3 (ws_ yJ6_copyOf_3 cJ6_copyOf_3 3 (some (FieldType.array FieldType.byte))) 1 40 cvR [rv p0, .int p1] (f_J6_copyOf_3 p0 p1) := by
  refine Ct.of (own := RJ6) (L := [(0, rv p0), (1, .int p1)]) (by decide +kernel) rfl (by first | decide | simp [lg_sl, rv_cat, cat_i, cat_l]) (by first | rfl | simp [lv_args, rv_cat, cat_i, cat_l]) eqZ (fun X hXl hX hnh hin => ?_)
  subst hXl
  unfold f_J6_copyOf_3
  refine s_iload_n hX dJ6_copyOf_3_0 rfl 1 rfl ?_
  refine s_aload_n hX dJ6_copyOf_3_1 rfl 0 rfl ?_
  refine s_alen (q := 2) hX (by decide) (eqA 2) dJ6_copyOf_3_2 (fun v1 => ?_)
  refine s_icmp_ne (tgt := 14) hX dJ6_copyOf_3_3 (by decide) ?_ ?_
  · refine s_iload_n hX dJ6_copyOf_3_14 rfl 1 rfl ?_
    refine s_newB hX (eqM 2) q265 dJ6_copyOf_3_15 (fun v2 => ?_)
    refine s_astore_n (i := 2) (L2 := [(2, rv v2), (0, rv p0), (1, .int p1)]) hX dJ6_copyOf_3_17 rfl (by decide) rfl ?_
    refine s_aload_n hX dJ6_copyOf_3_18 rfl 1 rfl ?_
    refine s_iconst (v := 0) hX dJ6_copyOf_3_19 rfl ?_
    refine s_aload_n hX dJ6_copyOf_3_20 rfl 0 rfl ?_
    refine s_iconst (v := 0) hX dJ6_copyOf_3_21 rfl ?_
    refine s_aload_n hX dJ6_copyOf_3_22 rfl 1 rfl ?_
    refine s_alen (q := 2) hX (by decide) (eqA 2) dJ6_copyOf_3_23 (fun v3 => ?_)
    refine s_iload_n hX dJ6_copyOf_3_24 rfl 2 rfl ?_
    refine s_mmin hX q499 q500 q95 q501 rfl (by omega) (by first | decide | (simp [rv_cat, cat_i, cat_l]; try omega)) dJ6_copyOf_3_25 ?_
    refine s_copyB hX q502 q504 q503 q97 (by decide) (by first | decide | (simp [rv_cat, cat_i, cat_l, nativeFrameWords]; done)) dJ6_copyOf_3_28 ?_
    refine s_aload_n hX dJ6_copyOf_3_31 rfl 0 rfl ?_
    exact s_aret hX (Or.inr ⟨_, rfl⟩) dJ6_copyOf_3_32
  · exact s_fail
theorem dJ9_ensureCapacityInternal_0 : decode cJ9_ensureCapacityInternal 0 = .ok (.aload_n 0, 1) := by decide +kernel
theorem dJ9_ensureCapacityInternal_1 : decode cJ9_ensureCapacityInternal 1 = .ok (.getfield 15, 3) := by decide +kernel
theorem dJ9_ensureCapacityInternal_4 : decode cJ9_ensureCapacityInternal 4 = .ok (.arraylength, 1) := by decide +kernel
theorem dJ9_ensureCapacityInternal_5 : decode cJ9_ensureCapacityInternal 5 = .ok (.aload_n 0, 1) := by decide +kernel
theorem dJ9_ensureCapacityInternal_6 : decode cJ9_ensureCapacityInternal 6 = .ok (.getfield 22, 3) := by decide +kernel
theorem dJ9_ensureCapacityInternal_9 : decode cJ9_ensureCapacityInternal 9 = .ok (.ishr, 1) := by decide +kernel
theorem dJ9_ensureCapacityInternal_10 : decode cJ9_ensureCapacityInternal 10 = .ok (.istore_n 2, 1) := by decide +kernel
theorem dJ9_ensureCapacityInternal_11 : decode cJ9_ensureCapacityInternal 11 = .ok (.iload_n 1, 1) := by decide +kernel
theorem dJ9_ensureCapacityInternal_12 : decode cJ9_ensureCapacityInternal 12 = .ok (.iload_n 2, 1) := by decide +kernel
theorem dJ9_ensureCapacityInternal_13 : decode cJ9_ensureCapacityInternal 13 = .ok (.isub, 1) := by decide +kernel
theorem dJ9_ensureCapacityInternal_14 : decode cJ9_ensureCapacityInternal 14 = .ok (.ifCond .le 24, 3) := by decide +kernel
theorem dJ9_ensureCapacityInternal_17 : decode cJ9_ensureCapacityInternal 17 = .ok (.aload_n 0, 1) := by decide +kernel
theorem dJ9_ensureCapacityInternal_18 : decode cJ9_ensureCapacityInternal 18 = .ok (.aload_n 0, 1) := by decide +kernel
theorem dJ9_ensureCapacityInternal_19 : decode cJ9_ensureCapacityInternal 19 = .ok (.getfield 15, 3) := by decide +kernel
theorem dJ9_ensureCapacityInternal_22 : decode cJ9_ensureCapacityInternal 22 = .ok (.aload_n 0, 1) := by decide +kernel
theorem dJ9_ensureCapacityInternal_23 : decode cJ9_ensureCapacityInternal 23 = .ok (.iload_n 1, 1) := by decide +kernel
theorem dJ9_ensureCapacityInternal_24 : decode cJ9_ensureCapacityInternal 24 = .ok (.invokevirtual 104, 3) := by decide +kernel
theorem dJ9_ensureCapacityInternal_27 : decode cJ9_ensureCapacityInternal 27 = .ok (.aload_n 0, 1) := by decide +kernel
theorem dJ9_ensureCapacityInternal_28 : decode cJ9_ensureCapacityInternal 28 = .ok (.getfield 22, 3) := by decide +kernel
theorem dJ9_ensureCapacityInternal_31 : decode cJ9_ensureCapacityInternal 31 = .ok (.ishl, 1) := by decide +kernel
theorem dJ9_ensureCapacityInternal_32 : decode cJ9_ensureCapacityInternal 32 = .ok (.invokestatic 108, 3) := by decide +kernel
theorem dJ9_ensureCapacityInternal_35 : decode cJ9_ensureCapacityInternal 35 = .ok (.putfield 15, 3) := by decide +kernel
theorem dJ9_ensureCapacityInternal_38 : decode cJ9_ensureCapacityInternal 38 = .ok (.return_, 1) := by decide +kernel
theorem ycJ9_ensureCapacityInternal : yJ9_ensureCapacityInternal.cls ≠ "java/lang/invoke/MethodHandle" ∧ yJ9_ensureCapacityInternal.cls ≠ "java/lang/invoke/VarHandle" ∧ (parseMethodDescriptor yJ9_ensureCapacityInternal.desc).map (fun d => d.parameters.length) = some 1 := by decide +kernel
def f_J9_ensureCapacityInternal (p0 : Nat) (p1 : Int32) : Act Unit :=
  bnd (getR 18 0 p0) fun v1 =>
  bnd (lenq 2 v1) fun v2 =>
  bnd (getI 18 1 p0) fun v3 =>
  jn (fun (_ : Unit) =>
    pur ()) fun j38 =>
  if (p1 - (v2 >>> (v3 &&& 31))) ≤ 0 then
    j38 ()
  else
    bnd (getR 18 0 p0) fun v4 =>
    bnd (gd 18 p0 (nt (f_J9_newCapacity p0 p1))) fun v5 =>
    bnd (getI 18 1 p0) fun v6 =>
    bnd (nt (f_J6_copyOf_3 v4 (v5 <<< (v6 &&& 31)))) fun v7 =>
    bnd (putR 18 0 p0 v7) fun _ =>
    j38 ()
set_option maxHeartbeats 4000000 in
theorem ct_J9_ensureCapacityInternal (l : Launch) (p0 : Nat) (p1 : Int32) : Ct l (@Eq Mem) yJ9_ensureCapacityInternal (ws_ yJ9_ensureCapacityInternal cJ9_ensureCapacityInternal 3 none) 3 72 cvU [rv p0, .int p1] (f_J9_ensureCapacityInternal p0 p1) := by
  refine Ct.of (own := RJ9) (L := [(0, rv p0), (1, .int p1)]) (by decide +kernel) rfl (by first | decide | simp [lg_sl, rv_cat, cat_i, cat_l]) (by first | rfl | simp [lv_args, rv_cat, cat_i, cat_l]) eqZ (fun X hXl hX hnh hin => ?_)
  subst hXl
  unfold f_J9_ensureCapacityInternal
  refine s_aload_n hX dJ9_ensureCapacityInternal_0 rfl 0 rfl ?_
  refine s_getR (ci := 18) (j := 0) (ref := "java/lang/AbstractStringBuilder") hX (eqG 18) in_J10 (Or.inl q598) (by decide) (by decide) (by decide) rfl dJ9_ensureCapacityInternal_1 (fun _ h9 => h9) (fun v1 => ?_)
  refine s_alen (q := 2) hX (by decide) (eqA 2) dJ9_ensureCapacityInternal_4 (fun v2 => ?_)
  refine s_aload_n hX dJ9_ensureCapacityInternal_5 rfl 0 rfl ?_
  refine s_getI (ci := 18) (j := 1) (ref := "java/lang/AbstractStringBuilder") hX (eqG 18) in_J10 (Or.inl q599) (by decide) (by decide) (by decide) rfl dJ9_ensureCapacityInternal_6 (fun _ h9 => h9) (fun v3 => ?_)
  refine s_ishr hX dJ9_ensureCapacityInternal_9 ?_
  refine s_istore_n (i := 2) (L2 := [(2, .int (v2 >>> (v3 &&& 31))), (0, rv p0), (1, .int p1)]) hX dJ9_ensureCapacityInternal_10 rfl (by decide) rfl ?_
  refine s_iload_n hX dJ9_ensureCapacityInternal_11 rfl 2 rfl ?_
  refine s_iload_n hX dJ9_ensureCapacityInternal_12 rfl 0 rfl ?_
  refine s_isub hX dJ9_ensureCapacityInternal_13 ?_
  refine s_jn (P := fun j => ∀ (u : Unit), Sim X cvU 38 [] [] (j u)) ?_ (fun j38 hj38 => ?_)
  · intro u
    exact s_vret hX dJ9_ensureCapacityInternal_38
  · refine s_if_le (tgt := 38) hX dJ9_ensureCapacityInternal_14 (by decide) ?_ ?_
    · exact s_sub [] rfl (hj38 ())
    · refine s_aload_n hX dJ9_ensureCapacityInternal_17 rfl 1 rfl ?_
      refine s_aload_n hX dJ9_ensureCapacityInternal_18 rfl 1 rfl ?_
      refine s_getR (ci := 18) (j := 0) (ref := "java/lang/AbstractStringBuilder") hX (eqG 18) in_J10 (Or.inl q598) (by decide) (by decide) (by decide) rfl dJ9_ensureCapacityInternal_19 (fun _ h9 => h9) (fun v4 => ?_)
      refine s_aload_n hX dJ9_ensureCapacityInternal_22 rfl 1 rfl ?_
      refine s_iload_n hX dJ9_ensureCapacityInternal_23 rfl 2 rfl ?_
      refine s_callU (z := yJ9_newCapacity) (ci := 18) (n := 1) (As := [.int p1]) (st := [rv v4, rv p0]) hX (eqK 19) (by decide) (ct_J9_newCapacity X.l p0 p1) q622 q624 q2112 q624 q625 (Ok.selP hX (by decide) (by decide) q623 q624 q2112) q105 q625 ycJ9_newCapacity (by decide) rfl (by first | decide | simp [rv_cat, cat_i, cat_l]) dJ9_ensureCapacityInternal_24 (fun v5 => ?_)
      refine s_aload_n hX dJ9_ensureCapacityInternal_27 rfl 1 rfl ?_
      refine s_getI (ci := 18) (j := 1) (ref := "java/lang/AbstractStringBuilder") hX (eqG 18) in_J10 (Or.inl q599) (by decide) (by decide) (by decide) rfl dJ9_ensureCapacityInternal_28 (fun _ h9 => h9) (fun v6 => ?_)
      refine s_ishl hX dJ9_ensureCapacityInternal_31 ?_
      refine s_callS_R (n := 2) (As := [rv v4, .int (v5 <<< (v6 &&& 31))]) (st := [rv p0]) hX (ct_J6_copyOf_3 X.l v4 (v5 <<< (v6 &&& 31))) q628 q629 q96 q630 ycJ6_copyOf_3 (by decide) rfl (by first | decide | simp [rv_cat, cat_i, cat_l]) dJ9_ensureCapacityInternal_32 (fun v7 => ?_)
      refine s_putR (ci := 18) (j := 0) (ref := "java/lang/AbstractStringBuilder") hX (eqG 18) (eqP 18) in_J10 tyJ10_ok nmJ10 (Or.inl q598) (by decide) (by decide) (by decide) rfl (fun v => by cases v <;> exact ⟨rfl, rfl⟩) rfl dJ9_ensureCapacityInternal_35 (fun _ h9 => h9) ?_
      exact s_sub [] rfl (hj38 ())
theorem dJ9_isLatin1_0 : decode cJ9_isLatin1 0 = .ok (.getstatic 18, 3) := by decide +kernel
theorem dJ9_isLatin1_3 : decode cJ9_isLatin1 3 = .ok (.ifCond .eq 14, 3) := by decide +kernel
theorem dJ9_isLatin1_6 : decode cJ9_isLatin1 6 = .ok (.aload_n 0, 1) := by decide +kernel
theorem dJ9_isLatin1_7 : decode cJ9_isLatin1 7 = .ok (.getfield 22, 3) := by decide +kernel
theorem dJ9_isLatin1_10 : decode cJ9_isLatin1 10 = .ok (.ifCond .ne 7, 3) := by decide +kernel
theorem dJ9_isLatin1_13 : decode cJ9_isLatin1 13 = .ok (.iconst 1, 1) := by decide +kernel
theorem dJ9_isLatin1_14 : decode cJ9_isLatin1 14 = .ok (.goto 4, 3) := by decide +kernel
theorem dJ9_isLatin1_17 : decode cJ9_isLatin1 17 = .ok (.iconst 0, 1) := by decide +kernel
theorem dJ9_isLatin1_18 : decode cJ9_isLatin1 18 = .ok (.ireturn, 1) := by decide +kernel
theorem ycJ9_isLatin1 : yJ9_isLatin1.cls ≠ "java/lang/invoke/MethodHandle" ∧ yJ9_isLatin1.cls ≠ "java/lang/invoke/VarHandle" ∧ (parseMethodDescriptor yJ9_isLatin1.desc).map (fun d => d.parameters.length) = some 0 := by decide +kernel
def f_J9_isLatin1 (p0 : Nat) : Act Int32 :=
  jn (fun (v1 : Int32) =>
    purS (ty := .boolean) v1) fun j18 =>
  jn (fun (_ : Unit) =>
    j18 0) fun j17 =>
  if (1 : Int32) = 0 then
    j17 ()
  else
    bnd (getI 18 1 p0) fun v2 =>
    if ¬ v2 = 0 then
      j17 ()
    else
      j18 1
set_option maxHeartbeats 4000000 in
theorem ct_J9_isLatin1 (l : Launch) (p0 : Nat) : Ct l (@Eq Mem) yJ9_isLatin1 (ws_ yJ9_isLatin1 cJ9_isLatin1 1 (some FieldType.boolean)) 0 0 cvI [rv p0] (f_J9_isLatin1 p0) := by
  refine Ct.of (own := RJ9) (L := [(0, rv p0)]) (by decide +kernel) rfl (by first | decide | simp [lg_sl, rv_cat, cat_i, cat_l]) (by first | rfl | simp [lv_args, rv_cat, cat_i, cat_l]) eqZ (fun X hXl hX hnh hin => ?_)
  subst hXl
  unfold f_J9_isLatin1
  refine s_gstI (v := 1) hX (fun w b => b.2.2.2.2.1.2.2.2) q589 dJ9_isLatin1_0 ?_
  refine s_jn (P := fun j => ∀ (v1 : Int32), Sim X cvI 18 [] [.int v1] (j v1)) ?_ (fun j18 hj18 => ?_)
  · intro v1
    exact s_zret hX dJ9_isLatin1_18
  · refine s_jn (P := fun j => ∀ (u : Unit), Sim X cvI 17 [] [] (j u)) ?_ (fun j17 hj17 => ?_)
    · intro u
      refine s_iconst (v := 0) hX dJ9_isLatin1_17 rfl ?_
      exact hj18 0
    · refine s_if_eq (tgt := 17) hX dJ9_isLatin1_3 (by decide) ?_ ?_
      · exact s_sub [] rfl (hj17 ())
      · refine s_aload_n hX dJ9_isLatin1_6 rfl 0 rfl ?_
        refine s_getI (ci := 18) (j := 1) (ref := "java/lang/AbstractStringBuilder") hX (eqG 18) in_J10 (Or.inl q599) (by decide) (by decide) (by decide) rfl dJ9_isLatin1_7 (fun _ h9 => h9) (fun v2 => ?_)
        refine s_if_ne (tgt := 17) hX dJ9_isLatin1_10 (by decide) ?_ ?_
        · exact s_sub [] rfl (hj17 ())
        · refine s_iconst (v := 1) hX dJ9_isLatin1_13 rfl ?_
          refine s_goto (tgt := 18) hX dJ9_isLatin1_14 (by decide) ?_
          exact s_sub [] rfl (hj18 1)
theorem dJ13_canEncode_0 : decode cJ13_canEncode 0 = .ok (.iload_n 0, 1) := by decide +kernel
theorem dJ13_canEncode_1 : decode cJ13_canEncode 1 = .ok (.sipush 255, 3) := by decide +kernel
theorem dJ13_canEncode_4 : decode cJ13_canEncode 4 = .ok (.if_icmp .gt 7, 3) := by decide +kernel
theorem dJ13_canEncode_7 : decode cJ13_canEncode 7 = .ok (.iconst 1, 1) := by decide +kernel
theorem dJ13_canEncode_8 : decode cJ13_canEncode 8 = .ok (.goto 4, 3) := by decide +kernel
theorem dJ13_canEncode_11 : decode cJ13_canEncode 11 = .ok (.iconst 0, 1) := by decide +kernel
theorem dJ13_canEncode_12 : decode cJ13_canEncode 12 = .ok (.ireturn, 1) := by decide +kernel
theorem ycJ13_canEncode : yJ13_canEncode.cls ≠ "java/lang/invoke/MethodHandle" ∧ yJ13_canEncode.cls ≠ "java/lang/invoke/VarHandle" ∧ (parseMethodDescriptor yJ13_canEncode.desc).map (fun d => d.parameters.length) = some 1 := by decide +kernel
def f_J13_canEncode (p0 : Int32) : Act Int32 :=
  jn (fun (v1 : Int32) =>
    purS (ty := .boolean) v1) fun j12 =>
  if 255 < p0 then
    j12 0
  else
    j12 1
set_option maxHeartbeats 4000000 in
theorem ct_J13_canEncode (l : Launch) (p0 : Int32) : Ct l (@Eq Mem) yJ13_canEncode (ws_ yJ13_canEncode cJ13_canEncode 1 (some FieldType.boolean)) 0 0 cvI [.int p0] (f_J13_canEncode p0) := by
  refine Ct.of (own := RJ13) (L := [(0, .int p0)]) (by decide +kernel) rfl (by first | decide | simp [lg_sl, rv_cat, cat_i, cat_l]) (by first | rfl | simp [lv_args, rv_cat, cat_i, cat_l]) eqZ (fun X hXl hX hnh hin => ?_)
  subst hXl
  unfold f_J13_canEncode
  refine s_iload_n hX dJ13_canEncode_0 rfl 0 rfl ?_
  refine s_sipush (v := 255) hX dJ13_canEncode_1 (by decide) ?_
  refine s_jn (P := fun j => ∀ (v1 : Int32), Sim X cvI 12 [] [.int v1] (j v1)) ?_ (fun j12 hj12 => ?_)
  · intro v1
    exact s_zret hX dJ13_canEncode_12
  · refine s_icmp_gt (tgt := 11) hX dJ13_canEncode_4 (by decide) ?_ ?_
    · refine s_iconst (v := 0) hX dJ13_canEncode_11 rfl ?_
      exact s_sub [] rfl (hj12 0)
    · refine s_iconst (v := 1) hX dJ13_canEncode_7 rfl ?_
      refine s_goto (tgt := 12) hX dJ13_canEncode_8 (by decide) ?_
      exact s_sub [] rfl (hj12 1)
theorem dJ9_append_0 : decode cJ9_append 0 = .ok (.aload_n 0, 1) := by decide +kernel
theorem dJ9_append_1 : decode cJ9_append 1 = .ok (.aload_n 0, 1) := by decide +kernel
theorem dJ9_append_2 : decode cJ9_append 2 = .ok (.getfield 79, 3) := by decide +kernel
theorem dJ9_append_5 : decode cJ9_append 5 = .ok (.iconst 1, 1) := by decide +kernel
theorem dJ9_append_6 : decode cJ9_append 6 = .ok (.iadd, 1) := by decide +kernel
theorem dJ9_append_7 : decode cJ9_append 7 = .ok (.invokevirtual 100, 3) := by decide +kernel
theorem dJ9_append_10 : decode cJ9_append 10 = .ok (.aload_n 0, 1) := by decide +kernel
theorem dJ9_append_11 : decode cJ9_append 11 = .ok (.invokevirtual 83, 3) := by decide +kernel
theorem dJ9_append_14 : decode cJ9_append 14 = .ok (.ifCond .eq 31, 3) := by decide +kernel
theorem dJ9_append_17 : decode cJ9_append 17 = .ok (.iload_n 1, 1) := by decide +kernel
theorem dJ9_append_18 : decode cJ9_append 18 = .ok (.invokestatic 191, 3) := by decide +kernel
theorem dJ9_append_21 : decode cJ9_append 21 = .ok (.ifCond .eq 24, 3) := by decide +kernel
theorem dJ9_append_24 : decode cJ9_append 24 = .ok (.aload_n 0, 1) := by decide +kernel
theorem dJ9_append_25 : decode cJ9_append 25 = .ok (.getfield 15, 3) := by decide +kernel
theorem dJ9_append_28 : decode cJ9_append 28 = .ok (.aload_n 0, 1) := by decide +kernel
theorem dJ9_append_29 : decode cJ9_append 29 = .ok (.dup, 1) := by decide +kernel
theorem dJ9_append_30 : decode cJ9_append 30 = .ok (.getfield 79, 3) := by decide +kernel
theorem dJ9_append_33 : decode cJ9_append 33 = .ok (.dup_x1, 1) := by decide +kernel
theorem dJ9_append_34 : decode cJ9_append 34 = .ok (.iconst 1, 1) := by decide +kernel
theorem dJ9_append_35 : decode cJ9_append 35 = .ok (.iadd, 1) := by decide +kernel
theorem dJ9_append_36 : decode cJ9_append 36 = .ok (.putfield 79, 3) := by decide +kernel
theorem dJ9_append_39 : decode cJ9_append 39 = .ok (.iload_n 1, 1) := by decide +kernel
theorem dJ9_append_40 : decode cJ9_append 40 = .ok (.i2b, 1) := by decide +kernel
theorem dJ9_append_41 : decode cJ9_append 41 = .ok (.bastore, 1) := by decide +kernel
theorem dJ9_append_42 : decode cJ9_append 42 = .ok (.goto 33, 3) := by decide +kernel
theorem dJ9_append_45 : decode cJ9_append 45 = .ok (.aload_n 0, 1) := by decide +kernel
theorem dJ9_append_46 : decode cJ9_append 46 = .ok (.invokevirtual 83, 3) := by decide +kernel
theorem dJ9_append_49 : decode cJ9_append 49 = .ok (.ifCond .eq 7, 3) := by decide +kernel
theorem dJ9_append_52 : decode cJ9_append 52 = .ok (.aload_n 0, 1) := by decide +kernel
theorem dJ9_append_53 : decode cJ9_append 53 = .ok (.invokevirtual 195, 3) := by decide +kernel
theorem dJ9_append_56 : decode cJ9_append 56 = .ok (.aload_n 0, 1) := by decide +kernel
theorem dJ9_append_57 : decode cJ9_append 57 = .ok (.getfield 15, 3) := by decide +kernel
theorem dJ9_append_60 : decode cJ9_append 60 = .ok (.aload_n 0, 1) := by decide +kernel
theorem dJ9_append_61 : decode cJ9_append 61 = .ok (.dup, 1) := by decide +kernel
theorem dJ9_append_62 : decode cJ9_append 62 = .ok (.getfield 79, 3) := by decide +kernel
theorem dJ9_append_65 : decode cJ9_append 65 = .ok (.dup_x1, 1) := by decide +kernel
theorem dJ9_append_66 : decode cJ9_append 66 = .ok (.iconst 1, 1) := by decide +kernel
theorem dJ9_append_67 : decode cJ9_append 67 = .ok (.iadd, 1) := by decide +kernel
theorem dJ9_append_68 : decode cJ9_append 68 = .ok (.putfield 79, 3) := by decide +kernel
theorem dJ9_append_71 : decode cJ9_append 71 = .ok (.iload_n 1, 1) := by decide +kernel
theorem dJ9_append_72 : decode cJ9_append 72 = .ok (.invokestatic 197, 3) := by decide +kernel
theorem dJ9_append_75 : decode cJ9_append 75 = .ok (.aload_n 0, 1) := by decide +kernel
theorem dJ9_append_76 : decode cJ9_append 76 = .ok (.areturn, 1) := by decide +kernel
theorem ycJ9_append : yJ9_append.cls ≠ "java/lang/invoke/MethodHandle" ∧ yJ9_append.cls ≠ "java/lang/invoke/VarHandle" ∧ (parseMethodDescriptor yJ9_append.desc).map (fun d => d.parameters.length) = some 1 := by decide +kernel
def f_J9_append (p0 : Nat) (p1 : Int32) : Act Nat :=
  bnd (getI 18 3 p0) fun v1 =>
  bnd (gd 18 p0 (nt (f_J9_ensureCapacityInternal p0 (v1 + 1)))) fun _ =>
  bnd (gd 18 p0 (nt (f_J9_isLatin1 p0))) fun v2 =>
  jn (fun (_ : Unit) =>
    fail) fun j45 =>
  if v2 = 0 then
    j45 ()
  else
    bnd (nt (f_J13_canEncode p1)) fun v3 =>
    if v3 = 0 then
      j45 ()
    else
      bnd (getR 18 0 p0) fun v4 =>
      bnd (getI 18 3 p0) fun v5 =>
      bnd (putI 18 3 p0 (v5 + 1)) fun _ =>
      bnd (stI 2 v4 v5 p1.toInt8.toInt32) fun _ =>
      pur p0
set_option maxHeartbeats 4000000 in
theorem ct_J9_append (l : Launch) (p0 : Nat) (p1 : Int32) : Ct l (@Eq Mem) yJ9_append (ws_ yJ9_append cJ9_append 2 (some (FieldType.object "java/lang/AbstractStringBuilder"))) 4 94 cvR [rv p0, .int p1] (f_J9_append p0 p1) := by
  refine Ct.of (own := RJ9) (L := [(0, rv p0), (1, .int p1)]) (by decide +kernel) rfl (by first | decide | simp [lg_sl, rv_cat, cat_i, cat_l]) (by first | rfl | simp [lv_args, rv_cat, cat_i, cat_l]) eqZ (fun X hXl hX hnh hin => ?_)
  subst hXl
  unfold f_J9_append
  refine s_aload_n hX dJ9_append_0 rfl 0 rfl ?_
  refine s_aload_n hX dJ9_append_1 rfl 0 rfl ?_
  refine s_getI (ci := 18) (j := 3) (ref := "java/lang/AbstractStringBuilder") hX (eqG 18) in_J10 (Or.inl q601) (by decide) (by decide) (by decide) rfl dJ9_append_2 (fun _ h9 => h9) (fun v1 => ?_)
  refine s_iconst (v := 1) hX dJ9_append_5 rfl ?_
  refine s_iadd hX dJ9_append_6 ?_
  refine s_callU (z := yJ9_ensureCapacityInternal) (ci := 18) (n := 1) (As := [.int (v1 + 1)]) (st := []) hX (eqK 19) (by decide) (ct_J9_ensureCapacityInternal X.l p0 (v1 + 1)) q618 q620 q2111 q620 q621 (Ok.selP hX (by decide) (by decide) q619 q620 q2111) q105 q621 ycJ9_ensureCapacityInternal (by decide) rfl (by first | decide | simp [rv_cat, cat_i, cat_l]) dJ9_append_7 (fun _ => ?_)
  refine s_aload_n hX dJ9_append_10 rfl 0 rfl ?_
  refine s_callU (z := yJ9_isLatin1) (ci := 18) (n := 0) (As := []) (st := []) hX (eqK 19) (by decide) (ct_J9_isLatin1 X.l p0) q638 q639 q640 q639 q642 (hX.hts _ q641) q105 q642 ycJ9_isLatin1 (by decide) rfl (by first | decide | simp [rv_cat, cat_i, cat_l]) dJ9_append_11 (fun v2 => ?_)
  refine s_jn (P := fun j => ∀ (u : Unit), Sim X cvR 45 [] [] (j u)) ?_ (fun j45 hj45 => ?_)
  · intro u
    exact s_fail
  · refine s_if_eq (tgt := 45) hX dJ9_append_14 (by decide) ?_ ?_
    · exact s_sub [] rfl (hj45 ())
    · refine s_iload_n hX dJ9_append_17 rfl 1 rfl ?_
      refine s_callS_I (n := 1) (As := [.int p1]) (st := []) hX (ct_J13_canEncode X.l p1) q643 q644 q109 q645 ycJ13_canEncode (by decide) rfl (by first | decide | simp [rv_cat, cat_i, cat_l]) dJ9_append_18 (fun v3 => ?_)
      refine s_if_eq (tgt := 45) hX dJ9_append_21 (by decide) ?_ ?_
      · exact s_sub [] rfl (hj45 ())
      · refine s_aload_n hX dJ9_append_24 rfl 0 rfl ?_
        refine s_getR (ci := 18) (j := 0) (ref := "java/lang/AbstractStringBuilder") hX (eqG 18) in_J10 (Or.inl q598) (by decide) (by decide) (by decide) rfl dJ9_append_25 (fun _ h9 => h9) (fun v4 => ?_)
        refine s_aload_n hX dJ9_append_28 rfl 0 rfl ?_
        refine s_dup hX dJ9_append_29 (rv_cat _) ?_
        refine s_getI (ci := 18) (j := 3) (ref := "java/lang/AbstractStringBuilder") hX (eqG 18) in_J10 (Or.inl q601) (by decide) (by decide) (by decide) rfl dJ9_append_30 (fun _ h9 => h9) (fun v5 => ?_)
        refine s_dup_x1 hX dJ9_append_33 rfl (rv_cat _) ?_
        refine s_iconst (v := 1) hX dJ9_append_34 rfl ?_
        refine s_iadd hX dJ9_append_35 ?_
        refine s_putI (ci := 18) (j := 3) (ref := "java/lang/AbstractStringBuilder") hX (eqG 18) (eqP 18) in_J10 tyJ10_ok nmJ10 (Or.inl q601) (by decide) (by decide) (by decide) rfl rfl rfl dJ9_append_36 (fun _ h9 => h9) ?_
        refine s_iload_n hX dJ9_append_39 rfl 1 rfl ?_
        refine s_i2b hX dJ9_append_40 ?_
        refine s_bast hX (eqA 2) (eqB 2) dJ9_append_41 ?_
        refine s_goto (tgt := 75) hX dJ9_append_42 (by decide) ?_
        refine s_aload_n hX dJ9_append_75 rfl 0 rfl ?_
        exact s_aret hX (Or.inl ⟨_, rfl⟩) dJ9_append_76
theorem dJ10_append_0 : decode cJ10_append 0 = .ok (.aload_n 0, 1) := by decide +kernel
theorem dJ10_append_1 : decode cJ10_append 1 = .ok (.iload_n 1, 1) := by decide +kernel
theorem dJ10_append_2 : decode cJ10_append 2 = .ok (.invokespecial 50, 3) := by decide +kernel
theorem dJ10_append_5 : decode cJ10_append 5 = .ok (.pop, 1) := by decide +kernel
theorem dJ10_append_6 : decode cJ10_append 6 = .ok (.aload_n 0, 1) := by decide +kernel
theorem dJ10_append_7 : decode cJ10_append 7 = .ok (.areturn, 1) := by decide +kernel
theorem ycJ10_append : yJ10_append.cls ≠ "java/lang/invoke/MethodHandle" ∧ yJ10_append.cls ≠ "java/lang/invoke/VarHandle" ∧ (parseMethodDescriptor yJ10_append.desc).map (fun d => d.parameters.length) = some 1 := by decide +kernel
theorem yvJ10_append : yJ10_append.cls = RR 18 ∧ yJ10_append.cls ≠ "java/lang/invoke/MethodHandle" ∧ yJ10_append.cls ≠ "java/lang/invoke/VarHandle" ∧ (parseMethodDescriptor yJ10_append.desc).map (fun d => d.parameters.length) = some 1 := ⟨rfl, ycJ10_append⟩
def f_J10_append (p0 : Nat) (p1 : Int32) : Act Nat :=
  bnd (gd 18 p0 (nt (f_J9_append p0 p1))) fun v1 =>
  pur p0
set_option maxHeartbeats 4000000 in
theorem ct_J10_append (l : Launch) (p0 : Nat) (p1 : Int32) : Ct l (@Eq Mem) yJ10_append (ws_ yJ10_append cJ10_append 2 (some (FieldType.object "java/lang/StringBuilder"))) 5 115 cvR [rv p0, .int p1] (f_J10_append p0 p1) := by
  refine Ct.of (own := RJ10) (L := [(0, rv p0), (1, .int p1)]) (by decide +kernel) rfl (by first | decide | simp [lg_sl, rv_cat, cat_i, cat_l]) (by first | rfl | simp [lv_args, rv_cat, cat_i, cat_l]) eqZ (fun X hXl hX hnh hin => ?_)
  subst hXl
  unfold f_J10_append
  refine s_aload_n hX dJ10_append_0 rfl 0 rfl ?_
  refine s_iload_n hX dJ10_append_1 rfl 1 rfl ?_
  refine s_callSU (ci := 18) (n := 1) (As := [.int p1]) (st := []) hX (eqK 19) (by decide) (ct_J9_append X.l p0 p1) q615 q616 q2110 q610 q105 q617 (by decide) ycJ9_append (by decide) rfl (by first | decide | simp [rv_cat, cat_i, cat_l]) dJ10_append_2 (fun v1 => ?_)
  refine s_pop hX dJ10_append_5 (rv_cat _) ?_
  refine s_aload_n hX dJ10_append_6 rfl 0 rfl ?_
  exact s_aret hX (Or.inl ⟨_, rfl⟩) dJ10_append_7
theorem dJ9_getValue_0 : decode cJ9_getValue 0 = .ok (.aload_n 0, 1) := by decide +kernel
theorem dJ9_getValue_1 : decode cJ9_getValue 1 = .ok (.getfield 15, 3) := by decide +kernel
theorem dJ9_getValue_4 : decode cJ9_getValue 4 = .ok (.areturn, 1) := by decide +kernel
theorem ycJ9_getValue : yJ9_getValue.cls ≠ "java/lang/invoke/MethodHandle" ∧ yJ9_getValue.cls ≠ "java/lang/invoke/VarHandle" ∧ (parseMethodDescriptor yJ9_getValue.desc).map (fun d => d.parameters.length) = some 0 := by decide +kernel
def f_J9_getValue (p0 : Nat) : Act Nat :=
  bnd (getR 18 0 p0) fun v1 =>
  pur v1
set_option maxHeartbeats 4000000 in
theorem ct_J9_getValue (l : Launch) (p0 : Nat) : Ct l (@Eq Mem) yJ9_getValue (ws_ yJ9_getValue cJ9_getValue 1 (some (FieldType.array FieldType.byte))) 0 0 cvR [rv p0] (f_J9_getValue p0) := by
  refine Ct.of (own := RJ9) (L := [(0, rv p0)]) (by decide +kernel) rfl (by first | decide | simp [lg_sl, rv_cat, cat_i, cat_l]) (by first | rfl | simp [lv_args, rv_cat, cat_i, cat_l]) eqZ (fun X hXl hX hnh hin => ?_)
  subst hXl
  unfold f_J9_getValue
  refine s_aload_n hX dJ9_getValue_0 rfl 0 rfl ?_
  refine s_getR (ci := 18) (j := 0) (ref := "java/lang/AbstractStringBuilder") hX (eqG 18) in_J10 (Or.inl q598) (by decide) (by decide) (by decide) rfl dJ9_getValue_1 (fun _ h9 => h9) (fun v1 => ?_)
  exact s_aret hX (Or.inr ⟨_, rfl⟩) dJ9_getValue_4
