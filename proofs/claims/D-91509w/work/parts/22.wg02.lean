set_option maxRecDepth 100000
theorem dX0_storeOf_0 : decode cX0_storeOf 0 = .ok (.aload_n 0, 1) := by decide +kernel
theorem dX0_storeOf_1 : decode cX0_storeOf 1 = .ok (.iload_n 1, 1) := by decide +kernel
theorem dX0_storeOf_2 : decode cX0_storeOf 2 = .ok (.invokevirtual 361, 3) := by decide +kernel
theorem dX0_storeOf_5 : decode cX0_storeOf 5 = .ok (.astore_n 3, 1) := by decide +kernel
theorem dX0_storeOf_6 : decode cX0_storeOf 6 = .ok (.aload_n 3, 1) := by decide +kernel
theorem dX0_storeOf_7 : decode cX0_storeOf 7 = .ok (.ifnonnull 7, 3) := by decide +kernel
theorem dX0_storeOf_10 : decode cX0_storeOf 10 = .ok (.ldc2_w 381, 3) := by decide +kernel
theorem dX0_storeOf_13 : decode cX0_storeOf 13 = .ok (.lreturn, 1) := by decide +kernel
theorem dX0_storeOf_14 : decode cX0_storeOf 14 = .ok (.iload_n 2, 1) := by decide +kernel
theorem dX0_storeOf_15 : decode cX0_storeOf 15 = .ok (.tableswitch 74 0 5 #[37, 43, 49, 58, 64, 69], 37) := by decide +kernel
theorem dX0_storeOf_52 : decode cX0_storeOf 52 = .ok (.aload_n 3, 1) := by decide +kernel
theorem dX0_storeOf_53 : decode cX0_storeOf 53 = .ok (.getfield 365, 3) := by decide +kernel
theorem dX0_storeOf_56 : decode cX0_storeOf 56 = .ok (.i2l, 1) := by decide +kernel
theorem dX0_storeOf_57 : decode cX0_storeOf 57 = .ok (.lreturn, 1) := by decide +kernel
theorem dX0_storeOf_58 : decode cX0_storeOf 58 = .ok (.aload_n 3, 1) := by decide +kernel
theorem dX0_storeOf_59 : decode cX0_storeOf 59 = .ok (.invokevirtual 383, 3) := by decide +kernel
theorem dX0_storeOf_62 : decode cX0_storeOf 62 = .ok (.i2l, 1) := by decide +kernel
theorem dX0_storeOf_63 : decode cX0_storeOf 63 = .ok (.lreturn, 1) := by decide +kernel
theorem dX0_storeOf_64 : decode cX0_storeOf 64 = .ok (.aload_n 3, 1) := by decide +kernel
theorem dX0_storeOf_65 : decode cX0_storeOf 65 = .ok (.getfield 386, 3) := by decide +kernel
theorem dX0_storeOf_68 : decode cX0_storeOf 68 = .ok (.invokevirtual 124, 3) := by decide +kernel
theorem dX0_storeOf_71 : decode cX0_storeOf 71 = .ok (.i2l, 1) := by decide +kernel
theorem dX0_storeOf_72 : decode cX0_storeOf 72 = .ok (.lreturn, 1) := by decide +kernel
theorem dX0_storeOf_73 : decode cX0_storeOf 73 = .ok (.aload_n 3, 1) := by decide +kernel
theorem dX0_storeOf_74 : decode cX0_storeOf 74 = .ok (.getfield 372, 3) := by decide +kernel
theorem dX0_storeOf_77 : decode cX0_storeOf 77 = .ok (.i2l, 1) := by decide +kernel
theorem dX0_storeOf_78 : decode cX0_storeOf 78 = .ok (.lreturn, 1) := by decide +kernel
theorem dX0_storeOf_79 : decode cX0_storeOf 79 = .ok (.aload_n 3, 1) := by decide +kernel
theorem dX0_storeOf_80 : decode cX0_storeOf 80 = .ok (.getfield 389, 3) := by decide +kernel
theorem dX0_storeOf_83 : decode cX0_storeOf 83 = .ok (.lreturn, 1) := by decide +kernel
theorem dX0_storeOf_84 : decode cX0_storeOf 84 = .ok (.aload_n 3, 1) := by decide +kernel
theorem dX0_storeOf_85 : decode cX0_storeOf 85 = .ok (.getfield 393, 3) := by decide +kernel
theorem dX0_storeOf_88 : decode cX0_storeOf 88 = .ok (.lreturn, 1) := by decide +kernel
theorem dX0_storeOf_89 : decode cX0_storeOf 89 = .ok (.ldc2_w 381, 3) := by decide +kernel
theorem dX0_storeOf_92 : decode cX0_storeOf 92 = .ok (.lreturn, 1) := by decide +kernel
theorem ycX0_storeOf : yX0_storeOf.cls ≠ "java/lang/invoke/MethodHandle" ∧ yX0_storeOf.cls ≠ "java/lang/invoke/VarHandle" ∧ (parseMethodDescriptor yX0_storeOf.desc).map (fun d => d.parameters.length) = some 2 := by decide +kernel
theorem yvX0_storeOf : yX0_storeOf.cls = RR 0 ∧ yX0_storeOf.cls ≠ "java/lang/invoke/MethodHandle" ∧ yX0_storeOf.cls ≠ "java/lang/invoke/VarHandle" ∧ (parseMethodDescriptor yX0_storeOf.desc).map (fun d => d.parameters.length) = some 2 := ⟨rfl, ycX0_storeOf⟩
noncomputable def f_X0_storeOf (n : Nat) (p0 : Nat) (p1 : Int32) (p2 : Int32) : Act Int64 :=
  bnd (gd 0 p0 (nt (f_X0_storeAt p0 p1))) fun v1 =>
  if ¬ v1 = 0 then
    sw p2 (0) [
      bnd (getI 3 4 v1) fun v2 =>
      pur v2.toInt64,
      bnd (gd 3 v1 (nt (f_X3_foul n v1))) fun v3 =>
      pur v3.toInt64,
      bnd (getR 3 0 v1) fun v4 =>
      bnd (gd 17 v4 (nt (P_size v4))) fun v5 =>
      pur v5.toInt64,
      bnd (getI 3 1 v1) fun v6 =>
      pur v6.toInt64,
      bnd (getL 3 7 v1) fun v7 =>
      pur v7,
      bnd (getL 3 8 v1) fun v8 =>
      pur v8] (
      pur (-1))
  else
    pur (-1)
set_option maxHeartbeats 4000000 in
theorem ct_X0_storeOf (l : Launch) (n : Nat) (p0 : Nat) (p1 : Int32) (p2 : Int32) : Ct l Pic yX0_storeOf (ws_ yX0_storeOf cX0_storeOf 4 (some FieldType.long)) 4 86 cvL [rv p0, .int p1, .int p2] (f_X0_storeOf n p0 p1 p2) := by
  refine Ct.of (own := RX0) (L := [(0, rv p0), (1, .int p1), (2, .int p2)]) (plainFor_of_name (by decide)) rfl (by first | decide | simp [lg_sl, rv_cat, cat_i, cat_l]) (by first | rfl | simp [lv_args, rv_cat, cat_i, cat_l]) pcZ (fun X hXl hX hnh hin => ?_)
  subst hXl
  unfold f_X0_storeOf
  refine s_aload_n hX dX0_storeOf_0 rfl 0 rfl ?_
  refine s_iload_n hX dX0_storeOf_1 rfl 1 rfl ?_
  refine s_callV_R (ci := 0) (n := 1) (As := [.int p1]) (st := []) hX (pcK 1) (by decide) (ct_X0_storeAt X.l p0 p1) q1038 q1040 qs22 q84 q1041 yvX0_storeAt (by decide) rfl (by first | decide | simp [rv_cat, cat_i, cat_l]) dX0_storeOf_2 (fun v1 => ?_)
  refine s_astore_n (i := 3) (L2 := [(3, rv v1), (0, rv p0), (1, .int p1), (2, .int p2)]) hX dX0_storeOf_5 rfl (by decide) rfl ?_
  refine s_aload_n hX dX0_storeOf_6 rfl 0 rfl ?_
  refine s_ifnonnull (tgt := 14) hX dX0_storeOf_7 (by decide) ?_ ?_
  · refine s_iload_n hX dX0_storeOf_14 rfl 3 rfl ?_
    refine s_sw hX dX0_storeOf_15 (dt := 89) (by decide) (tgts := [52, 58, 64, 73, 79, 84]) (by decide) (by decide) ?_ ?_
    · refine s_ldc2 (v := -1) hX dX0_storeOf_89 q1048 ?_
      exact s_lret hX dX0_storeOf_92
    · refine ⟨?_, ?_, ?_, ?_, ?_, ?_, trivial⟩
      · refine s_aload_n hX dX0_storeOf_52 rfl 0 rfl ?_
        refine s_getI (ci := 3) (j := 4) (ref := "WindGas$Store") hX (pcG 3) in_X3 (Or.inr ⟨_, q240⟩) (by decide) (by decide) (by decide) rfl dX0_storeOf_53 (fun _ h9 => h9) (fun v2 => ?_)
        refine s_i2l hX dX0_storeOf_56 ?_
        exact s_lret hX dX0_storeOf_57
      · refine s_aload_n hX dX0_storeOf_58 rfl 0 rfl ?_
        refine s_callV_I (ci := 3) (n := 0) (As := []) (st := []) hX (pcK 4) (by decide) (ct_X3_foul X.l n v1) q1049 q1050 q1051 q90 q1052 yvX3_foul (by decide) rfl (by first | decide | simp [rv_cat, cat_i, cat_l]) dX0_storeOf_59 (fun v3 => ?_)
        refine s_i2l hX dX0_storeOf_62 ?_
        exact s_lret hX dX0_storeOf_63
      · refine s_aload_n hX dX0_storeOf_64 rfl 0 rfl ?_
        refine s_getR (ci := 3) (j := 0) (ref := "WindGas$Store") hX (pcG 3) in_X3 (Or.inr ⟨_, q234⟩) (by decide) (by decide) (by decide) rfl dX0_storeOf_65 (fun _ h9 => h9) (fun v4 => ?_)
        refine s_callV_I (ci := 17) (n := 0) (As := []) (st := []) hX (pcK 18) (by decide) (pt_size X.l v4) q554 q417 q418 q88 q419 yvJ2_size (by decide) rfl (by first | decide | simp [rv_cat, cat_i, cat_l]) dX0_storeOf_68 (fun v5 => ?_)
        refine s_i2l hX dX0_storeOf_71 ?_
        exact s_lret hX dX0_storeOf_72
      · refine s_aload_n hX dX0_storeOf_73 rfl 0 rfl ?_
        refine s_getI (ci := 3) (j := 1) (ref := "WindGas$Store") hX (pcG 3) in_X3 (Or.inr ⟨_, q235⟩) (by decide) (by decide) (by decide) rfl dX0_storeOf_74 (fun _ h9 => h9) (fun v6 => ?_)
        refine s_i2l hX dX0_storeOf_77 ?_
        exact s_lret hX dX0_storeOf_78
      · refine s_aload_n hX dX0_storeOf_79 rfl 0 rfl ?_
        refine s_getL (ci := 3) (j := 7) (ref := "WindGas$Store") hX (pcG 3) in_X3 (Or.inr ⟨_, q244⟩) (by decide) (by decide) (by decide) rfl dX0_storeOf_80 (fun _ h9 => h9) (fun v7 => ?_)
        exact s_lret hX dX0_storeOf_83
      · refine s_aload_n hX dX0_storeOf_84 rfl 0 rfl ?_
        refine s_getL (ci := 3) (j := 8) (ref := "WindGas$Store") hX (pcG 3) in_X3 (Or.inr ⟨_, q245⟩) (by decide) (by decide) (by decide) rfl dX0_storeOf_85 (fun _ h9 => h9) (fun v8 => ?_)
        exact s_lret hX dX0_storeOf_88
  · refine s_ldc2 (v := -1) hX dX0_storeOf_10 q1048 ?_
    exact s_lret hX dX0_storeOf_13
theorem dX0_lot_0 : decode cX0_lot 0 = .ok (.aload_n 0, 1) := by decide +kernel
theorem dX0_lot_1 : decode cX0_lot 1 = .ok (.iload_n 1, 1) := by decide +kernel
theorem dX0_lot_2 : decode cX0_lot 2 = .ok (.invokevirtual 361, 3) := by decide +kernel
theorem dX0_lot_5 : decode cX0_lot 5 = .ok (.astore 4, 2) := by decide +kernel
theorem dX0_lot_7 : decode cX0_lot 7 = .ok (.aload 4, 2) := by decide +kernel
theorem dX0_lot_9 : decode cX0_lot 9 = .ok (.ifnull 23, 3) := by decide +kernel
theorem dX0_lot_12 : decode cX0_lot 12 = .ok (.iload_n 2, 1) := by decide +kernel
theorem dX0_lot_13 : decode cX0_lot 13 = .ok (.i2l, 1) := by decide +kernel
theorem dX0_lot_14 : decode cX0_lot 14 = .ok (.lconst 0, 1) := by decide +kernel
theorem dX0_lot_15 : decode cX0_lot 15 = .ok (.aload 4, 2) := by decide +kernel
theorem dX0_lot_17 : decode cX0_lot 17 = .ok (.getfield 386, 3) := by decide +kernel
theorem dX0_lot_20 : decode cX0_lot 20 = .ok (.invokevirtual 124, 3) := by decide +kernel
theorem dX0_lot_23 : decode cX0_lot 23 = .ok (.iconst 1, 1) := by decide +kernel
theorem dX0_lot_24 : decode cX0_lot 24 = .ok (.isub, 1) := by decide +kernel
theorem dX0_lot_25 : decode cX0_lot 25 = .ok (.i2l, 1) := by decide +kernel
theorem dX0_lot_26 : decode cX0_lot 26 = .ok (.invokestatic 101, 3) := by decide +kernel
theorem dX0_lot_29 : decode cX0_lot 29 = .ok (.ifCond .ne 5, 3) := by decide +kernel
theorem dX0_lot_32 : decode cX0_lot 32 = .ok (.iconst (-1), 1) := by decide +kernel
theorem dX0_lot_33 : decode cX0_lot 33 = .ok (.ireturn, 1) := by decide +kernel
theorem dX0_lot_34 : decode cX0_lot 34 = .ok (.aload 4, 2) := by decide +kernel
theorem dX0_lot_36 : decode cX0_lot 36 = .ok (.getfield 386, 3) := by decide +kernel
theorem dX0_lot_39 : decode cX0_lot 39 = .ok (.iload_n 2, 1) := by decide +kernel
theorem dX0_lot_40 : decode cX0_lot 40 = .ok (.invokevirtual 128, 3) := by decide +kernel
theorem dX0_lot_43 : decode cX0_lot 43 = .ok (.checkcast 396, 3) := by decide +kernel
theorem dX0_lot_46 : decode cX0_lot 46 = .ok (.astore 5, 2) := by decide +kernel
theorem dX0_lot_48 : decode cX0_lot 48 = .ok (.iload_n 3, 1) := by decide +kernel
theorem dX0_lot_49 : decode cX0_lot 49 = .ok (.ifCond .ne 11, 3) := by decide +kernel
theorem dX0_lot_52 : decode cX0_lot 52 = .ok (.aload 5, 2) := by decide +kernel
theorem dX0_lot_54 : decode cX0_lot 54 = .ok (.getfield 398, 3) := by decide +kernel
theorem dX0_lot_57 : decode cX0_lot 57 = .ok (.goto 30, 3) := by decide +kernel
theorem dX0_lot_60 : decode cX0_lot 60 = .ok (.iload_n 3, 1) := by decide +kernel
theorem dX0_lot_61 : decode cX0_lot 61 = .ok (.iconst 1, 1) := by decide +kernel
theorem dX0_lot_62 : decode cX0_lot 62 = .ok (.if_icmp .ne 11, 3) := by decide +kernel
theorem dX0_lot_65 : decode cX0_lot 65 = .ok (.aload 5, 2) := by decide +kernel
theorem dX0_lot_67 : decode cX0_lot 67 = .ok (.getfield 400, 3) := by decide +kernel
theorem dX0_lot_70 : decode cX0_lot 70 = .ok (.goto 17, 3) := by decide +kernel
theorem dX0_lot_73 : decode cX0_lot 73 = .ok (.iload_n 3, 1) := by decide +kernel
theorem dX0_lot_74 : decode cX0_lot 74 = .ok (.iconst 2, 1) := by decide +kernel
theorem dX0_lot_75 : decode cX0_lot 75 = .ok (.if_icmp .ne 11, 3) := by decide +kernel
theorem dX0_lot_78 : decode cX0_lot 78 = .ok (.aload 5, 2) := by decide +kernel
theorem dX0_lot_80 : decode cX0_lot 80 = .ok (.getfield 401, 3) := by decide +kernel
theorem dX0_lot_83 : decode cX0_lot 83 = .ok (.goto 4, 3) := by decide +kernel
theorem dX0_lot_86 : decode cX0_lot 86 = .ok (.iconst (-1), 1) := by decide +kernel
theorem dX0_lot_87 : decode cX0_lot 87 = .ok (.ireturn, 1) := by decide +kernel
theorem ycX0_lot : yX0_lot.cls ≠ "java/lang/invoke/MethodHandle" ∧ yX0_lot.cls ≠ "java/lang/invoke/VarHandle" ∧ (parseMethodDescriptor yX0_lot.desc).map (fun d => d.parameters.length) = some 3 := by decide +kernel
theorem yvX0_lot : yX0_lot.cls = RR 0 ∧ yX0_lot.cls ≠ "java/lang/invoke/MethodHandle" ∧ yX0_lot.cls ≠ "java/lang/invoke/VarHandle" ∧ (parseMethodDescriptor yX0_lot.desc).map (fun d => d.parameters.length) = some 3 := ⟨rfl, ycX0_lot⟩
noncomputable def f_X0_lot (p0 : Nat) (p1 : Int32) (p2 : Int32) (p3 : Int32) : Act Int32 :=
  bnd (gd 0 p0 (nt (f_X0_storeAt p0 p1))) fun v1 =>
  jn (fun (_ : Unit) =>
    pur (-1)) fun j32 =>
  if v1 = 0 then
    j32 ()
  else
    bnd (getR 3 0 v1) fun v2 =>
    bnd (gd 17 v2 (nt (P_size v2))) fun v3 =>
    bnd (nt (f_X0_isIn p2.toInt64 (0 : Int64) ((v3 - 1).toInt64))) fun v4 =>
    if ¬ v4 = 0 then
      bnd (getR 3 0 v1) fun v5 =>
      bnd (gd 17 v5 (nt (P_get v5 p2))) fun v6 =>
      bnd (cst [9] v6) fun _ =>
      jn (fun (v7 : Int32) =>
        pur v7) fun j87 =>
      if ¬ p3 = 0 then
        if ¬ p3 = 1 then
          if ¬ p3 = 2 then
            j87 (-1)
          else
            bnd (getI 8 2 v6) fun v8 =>
            j87 v8
        else
          bnd (getI 8 1 v6) fun v9 =>
          j87 v9
      else
        bnd (getI 8 0 v6) fun v10 =>
        j87 v10
    else
      j32 ()
set_option maxHeartbeats 4000000 in
theorem ct_X0_lot (l : Launch) (p0 : Nat) (p1 : Int32) (p2 : Int32) (p3 : Int32) : Ct l Pic yX0_lot (ws_ yX0_lot cX0_lot 6 (some FieldType.int)) 3 64 cvI [rv p0, .int p1, .int p2, .int p3] (f_X0_lot p0 p1 p2 p3) := by
  refine Ct.of (own := RX0) (L := [(0, rv p0), (1, .int p1), (2, .int p2), (3, .int p3)]) (plainFor_of_name (by decide)) rfl (by first | decide | simp [lg_sl, rv_cat, cat_i, cat_l]) (by first | rfl | simp [lv_args, rv_cat, cat_i, cat_l]) pcZ (fun X hXl hX hnh hin => ?_)
  subst hXl
  unfold f_X0_lot
  refine s_aload_n hX dX0_lot_0 rfl 0 rfl ?_
  refine s_iload_n hX dX0_lot_1 rfl 1 rfl ?_
  refine s_callV_R (ci := 0) (n := 1) (As := [.int p1]) (st := []) hX (pcK 1) (by decide) (ct_X0_storeAt X.l p0 p1) q1038 q1040 qs22 q84 q1041 yvX0_storeAt (by decide) rfl (by first | decide | simp [rv_cat, cat_i, cat_l]) dX0_lot_2 (fun v1 => ?_)
  refine s_astore (i := 4) (L2 := [(4, rv v1), (0, rv p0), (1, .int p1), (2, .int p2), (3, .int p3)]) hX dX0_lot_5 (by decide) rfl ?_
  refine s_aload hX dX0_lot_7 0 rfl ?_
  refine s_jn (P := fun j => ∀ (u : Unit), Sim X cvI 32 [] [] (j u)) ?_ (fun j32 hj32 => ?_)
  · intro u
    refine s_iconst (v := -1) hX dX0_lot_32 (by decide) ?_
    exact s_iret hX dX0_lot_33
  · refine s_ifnull (tgt := 32) hX dX0_lot_9 (by decide) ?_ ?_
    · exact s_sub [] rfl (hj32 ())
    · refine s_iload_n hX dX0_lot_12 rfl 3 rfl ?_
      refine s_i2l hX dX0_lot_13 ?_
      refine s_lconst (v := 0) hX dX0_lot_14 (by decide) ?_
      refine s_aload hX dX0_lot_15 0 rfl ?_
      refine s_getR (ci := 3) (j := 0) (ref := "WindGas$Store") hX (pcG 3) in_X3 (Or.inr ⟨_, q234⟩) (by decide) (by decide) (by decide) rfl dX0_lot_17 (fun _ h9 => h9) (fun v2 => ?_)
      refine s_callV_I (ci := 17) (n := 0) (As := []) (st := [.long 0, .long p2.toInt64]) hX (pcK 18) (by decide) (pt_size X.l v2) q554 q417 q418 q88 q419 yvJ2_size (by decide) rfl (by first | decide | simp [rv_cat, cat_i, cat_l]) dX0_lot_20 (fun v3 => ?_)
      refine s_iconst (v := 1) hX dX0_lot_23 rfl ?_
      refine s_isub hX dX0_lot_24 ?_
      refine s_i2l hX dX0_lot_25 ?_
      refine s_callS_I (n := 3) (As := [.long p2.toInt64, .long 0, .long (v3 - 1).toInt64]) (st := []) hX (ct_X0_isIn X.l p2.toInt64 (0 : Int64) ((v3 - 1).toInt64)) q400 q401 q84 q402 ycX0_isIn (by decide) rfl (by first | decide | simp [rv_cat, cat_i, cat_l]) dX0_lot_26 (fun v4 => ?_)
      refine s_if_ne (tgt := 34) hX dX0_lot_29 (by decide) ?_ ?_
      · refine s_aload hX dX0_lot_34 0 rfl ?_
        refine s_getR (ci := 3) (j := 0) (ref := "WindGas$Store") hX (pcG 3) in_X3 (Or.inr ⟨_, q234⟩) (by decide) (by decide) (by decide) rfl dX0_lot_36 (fun _ h9 => h9) (fun v5 => ?_)
        refine s_iload_n hX dX0_lot_39 rfl 3 rfl ?_
        refine s_callV_R (ci := 17) (n := 1) (As := [.int p2]) (st := []) hX (pcK 18) (by decide) (pt_get X.l v5 p2) q555 q516 q517 q88 q518 yvJ2_get (by decide) rfl (by first | decide | simp [rv_cat, cat_i, cat_l]) dX0_lot_40 (fun v6 => ?_)
        refine s_cast (ks := [9]) hX (elC 8 (by decide)) q1060 dX0_lot_43 ?_
        refine s_astore (i := 5) (L2 := [(5, rv v6), (4, rv v1), (0, rv p0), (1, .int p1), (2, .int p2), (3, .int p3)]) hX dX0_lot_46 (by decide) (by first | (simp [rv_cat, cat_i, cat_l]; done) | (simp [rv_cat, cat_i, cat_l]; decide)) ?_
        refine s_iload_n hX dX0_lot_48 rfl 5 rfl ?_
        refine s_jn (P := fun j => ∀ (v7 : Int32), Sim X cvI 87 [] [.int v7] (j v7)) ?_ (fun j87 hj87 => ?_)
        · intro v7
          exact s_iret hX dX0_lot_87
        · refine s_if_ne (tgt := 60) hX dX0_lot_49 (by decide) ?_ ?_
          · refine s_iload_n hX dX0_lot_60 rfl 5 rfl ?_
            refine s_iconst (v := 1) hX dX0_lot_61 rfl ?_
            refine s_icmp_ne (tgt := 73) hX dX0_lot_62 (by decide) ?_ ?_
            · refine s_iload_n hX dX0_lot_73 rfl 5 rfl ?_
              refine s_iconst (v := 2) hX dX0_lot_74 rfl ?_
              refine s_icmp_ne (tgt := 86) hX dX0_lot_75 (by decide) ?_ ?_
              · refine s_iconst (v := -1) hX dX0_lot_86 (by decide) ?_
                exact s_sub [] rfl (hj87 (-1))
              · refine s_aload hX dX0_lot_78 0 rfl ?_
                refine s_getI (ci := 8) (j := 2) (ref := "WindGas$Lot") hX (pcG 8) in_X8 (Or.inr ⟨_, q1264⟩) (by decide) (by decide) (by decide) rfl dX0_lot_80 (fun _ h9 => h9) (fun v8 => ?_)
                refine s_goto (tgt := 87) hX dX0_lot_83 (by decide) ?_
                exact s_sub [] rfl (hj87 v8)
            · refine s_aload hX dX0_lot_65 0 rfl ?_
              refine s_getI (ci := 8) (j := 1) (ref := "WindGas$Lot") hX (pcG 8) in_X8 (Or.inr ⟨_, q1261⟩) (by decide) (by decide) (by decide) rfl dX0_lot_67 (fun _ h9 => h9) (fun v9 => ?_)
              refine s_goto (tgt := 87) hX dX0_lot_70 (by decide) ?_
              exact s_sub [] rfl (hj87 v9)
          · refine s_aload hX dX0_lot_52 0 rfl ?_
            refine s_getI (ci := 8) (j := 0) (ref := "WindGas$Lot") hX (pcG 8) in_X8 (Or.inr ⟨_, q1258⟩) (by decide) (by decide) (by decide) rfl dX0_lot_54 (fun _ h9 => h9) (fun v10 => ?_)
            refine s_goto (tgt := 87) hX dX0_lot_57 (by decide) ?_
            exact s_sub [] rfl (hj87 v10)
      · exact s_sub [] rfl (hj32 ())
theorem dX9_init_0 : decode cX9_init 0 = .ok (.aload_n 0, 1) := by decide +kernel
theorem dX9_init_1 : decode cX9_init 1 = .ok (.invokespecial 1, 3) := by decide +kernel
theorem dX9_init_4 : decode cX9_init 4 = .ok (.aload_n 0, 1) := by decide +kernel
theorem dX9_init_5 : decode cX9_init 5 = .ok (.iload_n 1, 1) := by decide +kernel
theorem dX9_init_6 : decode cX9_init 6 = .ok (.putfield 7, 3) := by decide +kernel
theorem dX9_init_9 : decode cX9_init 9 = .ok (.aload_n 0, 1) := by decide +kernel
theorem dX9_init_10 : decode cX9_init 10 = .ok (.iload_n 2, 1) := by decide +kernel
theorem dX9_init_11 : decode cX9_init 11 = .ok (.putfield 13, 3) := by decide +kernel
theorem dX9_init_14 : decode cX9_init 14 = .ok (.return_, 1) := by decide +kernel
theorem ycX9_init : yX9_init.cls ≠ "java/lang/invoke/MethodHandle" ∧ yX9_init.cls ≠ "java/lang/invoke/VarHandle" ∧ (parseMethodDescriptor yX9_init.desc).map (fun d => d.parameters.length) = some 2 := by decide +kernel
theorem yvX9_init : yX9_init.cls = RR 9 ∧ yX9_init.cls ≠ "java/lang/invoke/MethodHandle" ∧ yX9_init.cls ≠ "java/lang/invoke/VarHandle" ∧ (parseMethodDescriptor yX9_init.desc).map (fun d => d.parameters.length) = some 2 := ⟨rfl, ycX9_init⟩
noncomputable def f_X9_init (p0 : Nat) (p1 : Int32) (p2 : Int32) : Act Unit :=
  bnd (gd 9 p0 (nt (f_J3_init p0))) fun _ =>
  bnd (putI 9 0 p0 p1) fun _ =>
  bnd (putI 9 1 p0 p2) fun _ =>
  pur ()
set_option maxHeartbeats 4000000 in
theorem ct_X9_init (l : Launch) (p0 : Nat) (p1 : Int32) (p2 : Int32) : Ct l Pic yX9_init (ws_ yX9_init cX9_init 3 none) 2 44 cvU [rv p0, .int p1, .int p2] (f_X9_init p0 p1 p2) := by
  refine Ct.of (own := RX9) (L := [(0, rv p0), (1, .int p1), (2, .int p2)]) (plainFor_of_name (by decide)) rfl (by first | decide | simp [lg_sl, rv_cat, cat_i, cat_l]) (by first | rfl | simp [lv_args, rv_cat, cat_i, cat_l]) pcZ (fun X hXl hX hnh hin => ?_)
  subst hXl
  unfold f_X9_init
  refine s_aload_n hX dX9_init_0 rfl 0 rfl ?_
  refine s_callI_U (ci := 9) (n := 0) (As := []) (st := []) hX (pcK 10) (by decide) (ct_J3_init X.l p0) q1076 q426 q92 q427 rfl ycJ3_init (by decide) rfl (by first | decide | simp [rv_cat, cat_i, cat_l]) dX9_init_1 (fun _ => ?_)
  refine s_aload_n hX dX9_init_4 rfl 0 rfl ?_
  refine s_iload_n hX dX9_init_5 rfl 1 rfl ?_
  refine s_putIF (ci := 9) (j := 0) (ref := "WindGas$Sip") hX (pcG 9) (pcP 9) in_X9 tyX9_ok nmX9 q1077 (by decide) (by decide) (by decide) rfl rfl rfl (hin rfl) rfl dX9_init_6 (fun _ h9 => h9) ?_
  refine s_aload_n hX dX9_init_9 rfl 0 rfl ?_
  refine s_iload_n hX dX9_init_10 rfl 2 rfl ?_
  refine s_putIF (ci := 9) (j := 1) (ref := "WindGas$Sip") hX (pcG 9) (pcP 9) in_X9 tyX9_ok nmX9 q1078 (by decide) (by decide) (by decide) rfl rfl rfl (hin rfl) rfl dX9_init_11 (fun _ h9 => h9) ?_
  exact s_vret hX dX9_init_14
theorem dX8_foulOf_0 : decode cX8_foulOf 0 = .ok (.iload_n 1, 1) := by decide +kernel
theorem dX8_foulOf_1 : decode cX8_foulOf 1 = .ok (.aload_n 0, 1) := by decide +kernel
theorem dX8_foulOf_2 : decode cX8_foulOf 2 = .ok (.getfield 13, 3) := by decide +kernel
theorem dX8_foulOf_5 : decode cX8_foulOf 5 = .ok (.if_icmp .ne 10, 3) := by decide +kernel
theorem dX8_foulOf_8 : decode cX8_foulOf 8 = .ok (.aload_n 0, 1) := by decide +kernel
theorem dX8_foulOf_9 : decode cX8_foulOf 9 = .ok (.getfield 16, 3) := by decide +kernel
theorem dX8_foulOf_12 : decode cX8_foulOf 12 = .ok (.goto 18, 3) := by decide +kernel
theorem dX8_foulOf_15 : decode cX8_foulOf 15 = .ok (.aload_n 0, 1) := by decide +kernel
theorem dX8_foulOf_16 : decode cX8_foulOf 16 = .ok (.getfield 16, 3) := by decide +kernel
theorem dX8_foulOf_19 : decode cX8_foulOf 19 = .ok (.i2l, 1) := by decide +kernel
theorem dX8_foulOf_20 : decode cX8_foulOf 20 = .ok (.iload_n 1, 1) := by decide +kernel
theorem dX8_foulOf_21 : decode cX8_foulOf 21 = .ok (.i2l, 1) := by decide +kernel
theorem dX8_foulOf_22 : decode cX8_foulOf 22 = .ok (.lmul, 1) := by decide +kernel
theorem dX8_foulOf_23 : decode cX8_foulOf 23 = .ok (.aload_n 0, 1) := by decide +kernel
theorem dX8_foulOf_24 : decode cX8_foulOf 24 = .ok (.getfield 13, 3) := by decide +kernel
theorem dX8_foulOf_27 : decode cX8_foulOf 27 = .ok (.i2l, 1) := by decide +kernel
theorem dX8_foulOf_28 : decode cX8_foulOf 28 = .ok (.ldiv, 1) := by decide +kernel
theorem dX8_foulOf_29 : decode cX8_foulOf 29 = .ok (.l2i, 1) := by decide +kernel
theorem dX8_foulOf_30 : decode cX8_foulOf 30 = .ok (.ireturn, 1) := by decide +kernel
theorem ycX8_foulOf : yX8_foulOf.cls ≠ "java/lang/invoke/MethodHandle" ∧ yX8_foulOf.cls ≠ "java/lang/invoke/VarHandle" ∧ (parseMethodDescriptor yX8_foulOf.desc).map (fun d => d.parameters.length) = some 1 := by decide +kernel
theorem yvX8_foulOf : yX8_foulOf.cls = RR 8 ∧ yX8_foulOf.cls ≠ "java/lang/invoke/MethodHandle" ∧ yX8_foulOf.cls ≠ "java/lang/invoke/VarHandle" ∧ (parseMethodDescriptor yX8_foulOf.desc).map (fun d => d.parameters.length) = some 1 := ⟨rfl, ycX8_foulOf⟩
noncomputable def f_X8_foulOf (p0 : Nat) (p1 : Int32) : Act Int32 :=
  bnd (getI 8 1 p0) fun v1 =>
  jn (fun (v2 : Int32) =>
    pur v2) fun j30 =>
  if ¬ p1 = v1 then
    bnd (getI 8 2 p0) fun v3 =>
    bnd (getI 8 1 p0) fun v4 =>
    nzl v4.toInt64 <|
    j30 (((v3.toInt64 * p1.toInt64) / v4.toInt64).toInt32)
  else
    bnd (getI 8 2 p0) fun v5 =>
    j30 v5
set_option maxHeartbeats 4000000 in
theorem ct_X8_foulOf (l : Launch) (p0 : Nat) (p1 : Int32) : Ct l Pic yX8_foulOf (ws_ yX8_foulOf cX8_foulOf 2 (some FieldType.int)) 0 0 cvI [rv p0, .int p1] (f_X8_foulOf p0 p1) := by
  refine Ct.of (own := RX8) (L := [(0, rv p0), (1, .int p1)]) (plainFor_of_name (by decide)) rfl (by first | decide | simp [lg_sl, rv_cat, cat_i, cat_l]) (by first | rfl | simp [lv_args, rv_cat, cat_i, cat_l]) pcZ (fun X hXl hX hnh hin => ?_)
  subst hXl
  unfold f_X8_foulOf
  refine s_iload_n hX dX8_foulOf_0 rfl 1 rfl ?_
  refine s_aload_n hX dX8_foulOf_1 rfl 0 rfl ?_
  refine s_getI (ci := 8) (j := 1) (ref := "WindGas$Lot") hX (pcG 8) in_X8 (Or.inl q1259) (by decide) (by decide) (by decide) rfl dX8_foulOf_2 (fun _ h9 => h9) (fun v1 => ?_)
  refine s_jn (P := fun j => ∀ (v2 : Int32), Sim X cvI 30 [] [.int v2] (j v2)) ?_ (fun j30 hj30 => ?_)
  · intro v2
    exact s_iret hX dX8_foulOf_30
  · refine s_icmp_ne (tgt := 15) hX dX8_foulOf_5 (by decide) ?_ ?_
    · refine s_aload_n hX dX8_foulOf_15 rfl 0 rfl ?_
      refine s_getI (ci := 8) (j := 2) (ref := "WindGas$Lot") hX (pcG 8) in_X8 (Or.inl q1262) (by decide) (by decide) (by decide) rfl dX8_foulOf_16 (fun _ h9 => h9) (fun v3 => ?_)
      refine s_i2l hX dX8_foulOf_19 ?_
      refine s_iload_n hX dX8_foulOf_20 rfl 1 rfl ?_
      refine s_i2l hX dX8_foulOf_21 ?_
      refine s_lmul hX dX8_foulOf_22 ?_
      refine s_aload_n hX dX8_foulOf_23 rfl 0 rfl ?_
      refine s_getI (ci := 8) (j := 1) (ref := "WindGas$Lot") hX (pcG 8) in_X8 (Or.inl q1259) (by decide) (by decide) (by decide) rfl dX8_foulOf_24 (fun _ h9 => h9) (fun v4 => ?_)
      refine s_i2l hX dX8_foulOf_27 ?_
      refine s_ldiv hX dX8_foulOf_28 ?_
      refine s_l2i hX dX8_foulOf_29 ?_
      exact s_sub [] rfl (hj30 (((v3.toInt64 * p1.toInt64) / v4.toInt64).toInt32))
    · refine s_aload_n hX dX8_foulOf_8 rfl 0 rfl ?_
      refine s_getI (ci := 8) (j := 2) (ref := "WindGas$Lot") hX (pcG 8) in_X8 (Or.inl q1262) (by decide) (by decide) (by decide) rfl dX8_foulOf_9 (fun _ h9 => h9) (fun v5 => ?_)
      refine s_goto (tgt := 30) hX dX8_foulOf_12 (by decide) ?_
      exact s_sub [] rfl (hj30 v5)
theorem dX8_takes_0 : decode cX8_takes 0 = .ok (.aload_n 0, 1) := by decide +kernel
theorem dX8_takes_1 : decode cX8_takes 1 = .ok (.dup, 1) := by decide +kernel
theorem dX8_takes_2 : decode cX8_takes 2 = .ok (.getfield 16, 3) := by decide +kernel
theorem dX8_takes_5 : decode cX8_takes 5 = .ok (.aload_n 0, 1) := by decide +kernel
theorem dX8_takes_6 : decode cX8_takes 6 = .ok (.iload_n 1, 1) := by decide +kernel
theorem dX8_takes_7 : decode cX8_takes 7 = .ok (.invokevirtual 19, 3) := by decide +kernel
theorem dX8_takes_10 : decode cX8_takes 10 = .ok (.isub, 1) := by decide +kernel
theorem dX8_takes_11 : decode cX8_takes 11 = .ok (.putfield 16, 3) := by decide +kernel
theorem dX8_takes_14 : decode cX8_takes 14 = .ok (.aload_n 0, 1) := by decide +kernel
theorem dX8_takes_15 : decode cX8_takes 15 = .ok (.dup, 1) := by decide +kernel
theorem dX8_takes_16 : decode cX8_takes 16 = .ok (.getfield 13, 3) := by decide +kernel
theorem dX8_takes_19 : decode cX8_takes 19 = .ok (.iload_n 1, 1) := by decide +kernel
theorem dX8_takes_20 : decode cX8_takes 20 = .ok (.isub, 1) := by decide +kernel
theorem dX8_takes_21 : decode cX8_takes 21 = .ok (.putfield 13, 3) := by decide +kernel
theorem dX8_takes_24 : decode cX8_takes 24 = .ok (.return_, 1) := by decide +kernel
theorem ycX8_takes : yX8_takes.cls ≠ "java/lang/invoke/MethodHandle" ∧ yX8_takes.cls ≠ "java/lang/invoke/VarHandle" ∧ (parseMethodDescriptor yX8_takes.desc).map (fun d => d.parameters.length) = some 1 := by decide +kernel
theorem yvX8_takes : yX8_takes.cls = RR 8 ∧ yX8_takes.cls ≠ "java/lang/invoke/MethodHandle" ∧ yX8_takes.cls ≠ "java/lang/invoke/VarHandle" ∧ (parseMethodDescriptor yX8_takes.desc).map (fun d => d.parameters.length) = some 1 := ⟨rfl, ycX8_takes⟩
noncomputable def f_X8_takes (p0 : Nat) (p1 : Int32) : Act Unit :=
  bnd (getI 8 2 p0) fun v1 =>
  bnd (gd 8 p0 (nt (f_X8_foulOf p0 p1))) fun v2 =>
  bnd (putI 8 2 p0 (v1 - v2)) fun _ =>
  bnd (getI 8 1 p0) fun v3 =>
  bnd (putI 8 1 p0 (v3 - p1)) fun _ =>
  pur ()
set_option maxHeartbeats 4000000 in
theorem ct_X8_takes (l : Launch) (p0 : Nat) (p1 : Int32) : Ct l Pic yX8_takes (ws_ yX8_takes cX8_takes 2 none) 1 21 cvU [rv p0, .int p1] (f_X8_takes p0 p1) := by
  refine Ct.of (own := RX8) (L := [(0, rv p0), (1, .int p1)]) (plainFor_of_name (by decide)) rfl (by first | decide | simp [lg_sl, rv_cat, cat_i, cat_l]) (by first | rfl | simp [lv_args, rv_cat, cat_i, cat_l]) pcZ (fun X hXl hX hnh hin => ?_)
  subst hXl
  unfold f_X8_takes
  refine s_aload_n hX dX8_takes_0 rfl 0 rfl ?_
  refine s_dup hX dX8_takes_1 (rv_cat _) ?_
  refine s_getI (ci := 8) (j := 2) (ref := "WindGas$Lot") hX (pcG 8) in_X8 (Or.inl q1262) (by decide) (by decide) (by decide) rfl dX8_takes_2 (fun _ h9 => h9) (fun v1 => ?_)
  refine s_aload_n hX dX8_takes_5 rfl 0 rfl ?_
  refine s_iload_n hX dX8_takes_6 rfl 1 rfl ?_
  refine s_callV_I (ci := 8) (n := 1) (As := [.int p1]) (st := [.int v1, rv p0]) hX (pcK 9) (by decide) (ct_X8_foulOf X.l p0 p1) q1089 q1090 q1091 q102 q1092 yvX8_foulOf (by decide) rfl (by first | decide | simp [rv_cat, cat_i, cat_l]) dX8_takes_7 (fun v2 => ?_)
  refine s_isub hX dX8_takes_10 ?_
  refine s_putI (ci := 8) (j := 2) (ref := "WindGas$Lot") hX (pcG 8) (pcP 8) in_X8 tyX8_ok nmX8 (Or.inl q1262) (by decide) (by decide) (by decide) rfl rfl rfl dX8_takes_11 (fun _ h9 => h9) ?_
  refine s_aload_n hX dX8_takes_14 rfl 0 rfl ?_
  refine s_dup hX dX8_takes_15 (rv_cat _) ?_
  refine s_getI (ci := 8) (j := 1) (ref := "WindGas$Lot") hX (pcG 8) in_X8 (Or.inl q1259) (by decide) (by decide) (by decide) rfl dX8_takes_16 (fun _ h9 => h9) (fun v3 => ?_)
  refine s_iload_n hX dX8_takes_19 rfl 1 rfl ?_
  refine s_isub hX dX8_takes_20 ?_
  refine s_putI (ci := 8) (j := 1) (ref := "WindGas$Lot") hX (pcG 8) (pcP 8) in_X8 tyX8_ok nmX8 (Or.inl q1259) (by decide) (by decide) (by decide) rfl rfl rfl dX8_takes_21 (fun _ h9 => h9) ?_
  exact s_vret hX dX8_takes_24
theorem dX3_takes_0 : decode cX3_takes 0 = .ok (.iload_n 1, 1) := by decide +kernel
theorem dX3_takes_1 : decode cX3_takes 1 = .ok (.istore_n 3, 1) := by decide +kernel
theorem dX3_takes_2 : decode cX3_takes 2 = .ok (.aload_n 0, 1) := by decide +kernel
theorem dX3_takes_3 : decode cX3_takes 3 = .ok (.dup, 1) := by decide +kernel
theorem dX3_takes_4 : decode cX3_takes 4 = .ok (.getfield 47, 3) := by decide +kernel
theorem dX3_takes_7 : decode cX3_takes 7 = .ok (.iload_n 1, 1) := by decide +kernel
theorem dX3_takes_8 : decode cX3_takes 8 = .ok (.isub, 1) := by decide +kernel
theorem dX3_takes_9 : decode cX3_takes 9 = .ok (.putfield 47, 3) := by decide +kernel
theorem dX3_takes_12 : decode cX3_takes 12 = .ok (.iload_n 3, 1) := by decide +kernel
theorem dX3_takes_13 : decode cX3_takes 13 = .ok (.ifCond .le 85, 3) := by decide +kernel
theorem dX3_takes_16 : decode cX3_takes 16 = .ok (.aload_n 0, 1) := by decide +kernel
theorem dX3_takes_17 : decode cX3_takes 17 = .ok (.getfield 10, 3) := by decide +kernel
theorem dX3_takes_20 : decode cX3_takes 20 = .ok (.iconst 0, 1) := by decide +kernel
theorem dX3_takes_21 : decode cX3_takes 21 = .ok (.invokevirtual 20, 3) := by decide +kernel
theorem dX3_takes_24 : decode cX3_takes 24 = .ok (.checkcast 24, 3) := by decide +kernel
theorem dX3_takes_27 : decode cX3_takes 27 = .ok (.astore 4, 2) := by decide +kernel
theorem dX3_takes_29 : decode cX3_takes 29 = .ok (.iload_n 3, 1) := by decide +kernel
theorem dX3_takes_30 : decode cX3_takes 30 = .ok (.aload 4, 2) := by decide +kernel
theorem dX3_takes_32 : decode cX3_takes 32 = .ok (.getfield 44, 3) := by decide +kernel
theorem dX3_takes_35 : decode cX3_takes 35 = .ok (.invokestatic 48, 3) := by decide +kernel
theorem dX3_takes_38 : decode cX3_takes 38 = .ok (.istore 5, 2) := by decide +kernel
theorem dX3_takes_40 : decode cX3_takes 40 = .ok (.aload_n 2, 1) := by decide +kernel
theorem dX3_takes_41 : decode cX3_takes 41 = .ok (.ifnull 25, 3) := by decide +kernel
theorem dX3_takes_44 : decode cX3_takes 44 = .ok (.aload_n 2, 1) := by decide +kernel
theorem dX3_takes_45 : decode cX3_takes 45 = .ok (.getfield 58, 3) := by decide +kernel
theorem dX3_takes_48 : decode cX3_takes 48 = .ok (.new 63, 3) := by decide +kernel
theorem dX3_takes_51 : decode cX3_takes 51 = .ok (.dup, 1) := by decide +kernel
theorem dX3_takes_52 : decode cX3_takes 52 = .ok (.aload 4, 2) := by decide +kernel
theorem dX3_takes_54 : decode cX3_takes 54 = .ok (.getfield 34, 3) := by decide +kernel
theorem dX3_takes_57 : decode cX3_takes 57 = .ok (.iload 5, 2) := by decide +kernel
theorem dX3_takes_59 : decode cX3_takes 59 = .ok (.invokespecial 65, 3) := by decide +kernel
theorem dX3_takes_62 : decode cX3_takes 62 = .ok (.invokevirtual 40, 3) := by decide +kernel
theorem dX3_takes_65 : decode cX3_takes 65 = .ok (.pop, 1) := by decide +kernel
theorem dX3_takes_66 : decode cX3_takes 66 = .ok (.aload 4, 2) := by decide +kernel
theorem dX3_takes_68 : decode cX3_takes 68 = .ok (.iload 5, 2) := by decide +kernel
theorem dX3_takes_70 : decode cX3_takes 70 = .ok (.invokevirtual 68, 3) := by decide +kernel
theorem dX3_takes_73 : decode cX3_takes 73 = .ok (.iload_n 3, 1) := by decide +kernel
theorem dX3_takes_74 : decode cX3_takes 74 = .ok (.iload 5, 2) := by decide +kernel
theorem dX3_takes_76 : decode cX3_takes 76 = .ok (.isub, 1) := by decide +kernel
theorem dX3_takes_77 : decode cX3_takes 77 = .ok (.istore_n 3, 1) := by decide +kernel
theorem dX3_takes_78 : decode cX3_takes 78 = .ok (.aload 4, 2) := by decide +kernel
theorem dX3_takes_80 : decode cX3_takes 80 = .ok (.getfield 44, 3) := by decide +kernel
theorem dX3_takes_83 : decode cX3_takes 83 = .ok (.ifCond .ne 12, 3) := by decide +kernel
theorem dX3_takes_86 : decode cX3_takes 86 = .ok (.aload_n 0, 1) := by decide +kernel
theorem dX3_takes_87 : decode cX3_takes 87 = .ok (.getfield 10, 3) := by decide +kernel
theorem dX3_takes_90 : decode cX3_takes 90 = .ok (.iconst 0, 1) := by decide +kernel
theorem dX3_takes_91 : decode cX3_takes 91 = .ok (.invokevirtual 71, 3) := by decide +kernel
theorem dX3_takes_94 : decode cX3_takes 94 = .ok (.pop, 1) := by decide +kernel
theorem dX3_takes_95 : decode cX3_takes 95 = .ok (.goto (-83), 3) := by decide +kernel
theorem dX3_takes_98 : decode cX3_takes 98 = .ok (.return_, 1) := by decide +kernel
theorem ycX3_takes : yX3_takes.cls ≠ "java/lang/invoke/MethodHandle" ∧ yX3_takes.cls ≠ "java/lang/invoke/VarHandle" ∧ (parseMethodDescriptor yX3_takes.desc).map (fun d => d.parameters.length) = some 2 := by decide +kernel
theorem yvX3_takes : yX3_takes.cls = RR 3 ∧ yX3_takes.cls ≠ "java/lang/invoke/MethodHandle" ∧ yX3_takes.cls ≠ "java/lang/invoke/VarHandle" ∧ (parseMethodDescriptor yX3_takes.desc).map (fun d => d.parameters.length) = some 2 := ⟨rfl, ycX3_takes⟩
noncomputable def lp_X3_takes_12 (p0 : Nat) (p2 : Nat) (q : Nat) : Int32 → Act Unit := match q with
  | 0 => fun _ => fail
  | q + 1 => fun w2 =>
    if w2 ≤ 0 then
      pur ()
    else
      bnd (getR 3 0 p0) fun v3 =>
      bnd (gd 17 v3 (nt (P_get v3 (0 : Int32)))) fun v4 =>
      bnd (cst [9] v4) fun _ =>
      bnd (getI 8 1 v4) fun v5 =>
      jn (fun (_ : Unit) =>
        bnd (gd 8 v4 (nt (f_X8_takes v4 (mn w2 v5)))) fun _ =>
        bnd (getI 8 1 v4) fun v6 =>
        jn (fun (_ : Unit) =>
          (lp_X3_takes_12 p0 p2 q) (w2 - (mn w2 v5))) fun j95 =>
        if ¬ v6 = 0 then
          j95 ()
        else
          bnd (getR 3 0 p0) fun v7 =>
          bnd (gd 17 v7 (nt (P_rem v7 (0 : Int32)))) fun v8 =>
          j95 ()) fun j66 =>
      if p2 = 0 then
        j66 ()
      else
        bnd (getR 7 3 p2) fun v9 =>
        bnd (newO 9 2) fun v10 =>
        bnd (getI 8 0 v4) fun v11 =>
        bnd (gd 9 v10 (nt (f_X9_init v10 v11 (mn w2 v5)))) fun _ =>
        bnd (gd 17 v9 (nt (P_add v9 v10))) fun v12 =>
        j66 ()
noncomputable def f_X3_takes (n : Nat) (p0 : Nat) (p1 : Int32) (p2 : Nat) : Act Unit :=
  bnd (getI 3 4 p0) fun v1 =>
  bnd (putI 3 4 p0 (v1 - p1)) fun _ =>
  lp_X3_takes_12 p0 p2 n p1
set_option maxHeartbeats 4000000 in
theorem s_lp_X3_takes_12 {X : Cx} (hX : Ok X Pic cX3_takes RX3 6 none 7 171) (hnh : Noh X) (p0 : Nat) (p2 : Nat) (q : Nat) : ∀ (w2 : Int32), Sim X cvU 12 [(0, rv p0), (2, rv p2), (3, .int w2)] [] (lp_X3_takes_12 p0 p2 q w2) := by
  induction q with
  | zero => intro w2; exact s_fail
  | succ q ih12 =>
    intro w2
    rw [lp_X3_takes_12]
    refine s_iload_n hX dX3_takes_12 rfl 2 rfl ?_
    refine s_if_le (tgt := 98) hX dX3_takes_13 (by decide) ?_ ?_
    · exact s_vret hX dX3_takes_98
    · refine s_aload_n hX dX3_takes_16 rfl 0 rfl ?_
      refine s_getR (ci := 3) (j := 0) (ref := "WindGas$Store") hX (pcG 3) in_X3 (Or.inl q233) (by decide) (by decide) (by decide) rfl dX3_takes_17 (fun _ h9 => h9) (fun v3 => ?_)
      refine s_iconst (v := 0) hX dX3_takes_20 rfl ?_
      refine s_callV_R (ci := 17) (n := 1) (As := [.int 0]) (st := []) hX (pcK 18) (by decide) (pt_get X.l v3 (0 : Int32)) q1054 q516 q517 q88 q518 yvJ2_get (by decide) rfl (by first | decide | simp [rv_cat, cat_i, cat_l]) dX3_takes_21 (fun v4 => ?_)
      refine s_cast (ks := [9]) hX (elC 8 (by decide)) q1055 dX3_takes_24 ?_
      refine s_astore (i := 4) (L2 := [(4, rv v4), (0, rv p0), (2, rv p2), (3, .int w2)]) hX dX3_takes_27 (by decide) rfl ?_
      refine s_iload_n hX dX3_takes_29 rfl 3 rfl ?_
      refine s_aload hX dX3_takes_30 0 rfl ?_
      refine s_getI (ci := 8) (j := 1) (ref := "WindGas$Lot") hX (pcG 8) in_X8 (Or.inr ⟨_, q1260⟩) (by decide) (by decide) (by decide) rfl dX3_takes_32 (fun _ h9 => h9) (fun v5 => ?_)
      refine s_mmin hX q1070 q500 q95 q501 rfl (by omega) (by first | decide | (simp [rv_cat, cat_i, cat_l]; try omega)) dX3_takes_35 ?_
      refine s_istore (i := 5) (L2 := [(5, .int (mn w2 v5)), (4, rv v4), (0, rv p0), (2, rv p2), (3, .int w2)]) hX dX3_takes_38 (by decide) (by first | (simp [rv_cat, cat_i, cat_l]; done) | (simp [rv_cat, cat_i, cat_l]; decide)) ?_
      refine s_aload_n hX dX3_takes_40 rfl 3 rfl ?_
      refine s_jn (P := fun j => ∀ (u : Unit), Sim X cvU 66 [(0, rv p0), (2, rv p2), (3, .int w2), (4, rv v4), (5, .int (mn w2 v5))] [] (j u)) ?_ (fun j66 hj66 => ?_)
      · intro u
        refine s_aload hX dX3_takes_66 3 rfl ?_
        refine s_iload hX dX3_takes_68 4 rfl ?_
        refine s_callV_U (ci := 8) (n := 1) (As := [.int (mn w2 v5)]) (st := []) hX (pcK 9) (by decide) (ct_X8_takes X.l v4 (mn w2 v5)) q1085 q1086 q1087 q102 q1088 yvX8_takes (by decide) rfl (by first | decide | simp [rv_cat, cat_i, cat_l]) dX3_takes_70 (fun _ => ?_)
        refine s_iload_n hX dX3_takes_73 rfl 2 rfl ?_
        refine s_iload hX dX3_takes_74 4 rfl ?_
        refine s_isub hX dX3_takes_76 ?_
        refine s_istore_n (i := 3) (L2 := [(3, .int (w2 - (mn w2 v5))), (0, rv p0), (2, rv p2), (4, rv v4), (5, .int (mn w2 v5))]) hX dX3_takes_77 rfl (by decide) (by first | (simp [rv_cat, cat_i, cat_l]; done) | (simp [rv_cat, cat_i, cat_l]; decide)) ?_
        refine s_aload hX dX3_takes_78 3 rfl ?_
        refine s_getI (ci := 8) (j := 1) (ref := "WindGas$Lot") hX (pcG 8) in_X8 (Or.inr ⟨_, q1260⟩) (by decide) (by decide) (by decide) rfl dX3_takes_80 (fun _ h9 => h9) (fun v6 => ?_)
        refine s_jn (P := fun j => ∀ (u : Unit), Sim X cvU 95 [(0, rv p0), (2, rv p2), (3, .int (w2 - (mn w2 v5)))] [] (j u)) ?_ (fun j95 hj95 => ?_)
        · intro u
          refine s_goto (tgt := 12) hX dX3_takes_95 (by decide) ?_
          exact ih12 (w2 - (mn w2 v5))
        · refine s_if_ne (tgt := 95) hX dX3_takes_83 (by decide) ?_ ?_
          · exact s_sub [1, 2, 0] rfl (hj95 ())
          · refine s_aload_n hX dX3_takes_86 rfl 1 rfl ?_
            refine s_getR (ci := 3) (j := 0) (ref := "WindGas$Store") hX (pcG 3) in_X3 (Or.inl q233) (by decide) (by decide) (by decide) rfl dX3_takes_87 (fun _ h9 => h9) (fun v7 => ?_)
            refine s_iconst (v := 0) hX dX3_takes_90 rfl ?_
            refine s_callV_R (ci := 17) (n := 1) (As := [.int 0]) (st := []) hX (pcK 18) (by decide) (pt_rem X.l v7 (0 : Int32)) q1093 q1094 q1095 q88 q1096 yvJ2_remove (by decide) rfl (by first | decide | simp [rv_cat, cat_i, cat_l]) dX3_takes_91 (fun v8 => ?_)
            refine s_pop hX dX3_takes_94 (rv_cat _) ?_
            exact s_sub [1, 2, 0] rfl (hj95 ())
      · refine s_ifnull (tgt := 66) hX dX3_takes_41 (by decide) ?_ ?_
        · exact s_sub [2, 3, 4, 1, 0] rfl (hj66 ())
        · refine s_aload_n hX dX3_takes_44 rfl 3 rfl ?_
          refine s_getR (ci := 7) (j := 3) (ref := "WindGas$Trip") hX (pcG 7) in_X7 (Or.inr ⟨_, q1316⟩) (by decide) (by decide) (by decide) rfl dX3_takes_45 (fun _ h9 => h9) (fun v9 => ?_)
          refine s_new (ci := 9) hX (pcN 9) in_X9 tyX9_ok (by decide) (by decide) q1071 q1072 q103 dX3_takes_48 (fun v10 => ?_)
          refine s_dup hX dX3_takes_51 (rv_cat _) ?_
          refine s_aload hX dX3_takes_52 1 rfl ?_
          refine s_getI (ci := 8) (j := 0) (ref := "WindGas$Lot") hX (pcG 8) in_X8 (Or.inr ⟨_, q1257⟩) (by decide) (by decide) (by decide) rfl dX3_takes_54 (fun _ h9 => h9) (fun v11 => ?_)
          refine s_iload hX dX3_takes_57 0 rfl ?_
          refine s_callIN_U (ci := 9) (n := 2) (As := [.int v11, .int (mn w2 v5)]) (st := [rv v10, rv v9]) hX (pcK 10) (by decide) (ct_X9_init X.l v10 v11 (mn w2 v5)) q1073 q1074 q103 q1075 rfl ycX9_init (by decide) rfl (by first | decide | simp [rv_cat, cat_i, cat_l]) dX3_takes_59 (fun _ => ?_)
          refine s_callV_I (ci := 17) (n := 1) (As := [rv v10]) (st := []) hX (pcK 18) (by decide) (pt_add X.l v9 v10) q1084 q440 q441 q88 q442 yvJ2_add (by decide) rfl (by first | decide | simp [rv_cat, cat_i, cat_l]) dX3_takes_62 (fun v12 => ?_)
          refine s_pop hX dX3_takes_65 rfl ?_
          exact s_sub [2, 3, 4, 1, 0] rfl (hj66 ())
set_option maxHeartbeats 4000000 in
theorem ct_X3_takes (l : Launch) (n : Nat) (p0 : Nat) (p1 : Int32) (p2 : Nat) : Ct l Pic yX3_takes (ws_ yX3_takes cX3_takes 6 none) 7 171 cvU [rv p0, .int p1, rv p2] (f_X3_takes n p0 p1 p2) := by
  refine Ct.of (own := RX3) (L := [(0, rv p0), (1, .int p1), (2, rv p2)]) (plainFor_of_name (by decide)) rfl (by first | decide | simp [lg_sl, rv_cat, cat_i, cat_l]) (by first | rfl | simp [lv_args, rv_cat, cat_i, cat_l]) pcZ (fun X hXl hX hnh hin => ?_)
  subst hXl
  unfold f_X3_takes
  refine s_iload_n hX dX3_takes_0 rfl 1 rfl ?_
  refine s_istore_n (i := 3) (L2 := [(3, .int p1), (0, rv p0), (1, .int p1), (2, rv p2)]) hX dX3_takes_1 rfl (by decide) (by first | (simp [rv_cat, cat_i, cat_l]; done) | (simp [rv_cat, cat_i, cat_l]; decide)) ?_
  refine s_aload_n hX dX3_takes_2 rfl 1 rfl ?_
  refine s_dup hX dX3_takes_3 (rv_cat _) ?_
  refine s_getI (ci := 3) (j := 4) (ref := "WindGas$Store") hX (pcG 3) in_X3 (Or.inl q239) (by decide) (by decide) (by decide) rfl dX3_takes_4 (fun _ h9 => h9) (fun v1 => ?_)
  refine s_iload_n hX dX3_takes_7 rfl 2 rfl ?_
  refine s_isub hX dX3_takes_8 ?_
  refine s_putI (ci := 3) (j := 4) (ref := "WindGas$Store") hX (pcG 3) (pcP 3) in_X3 tyX3_ok nmX3 (Or.inl q239) (by decide) (by decide) (by decide) rfl rfl rfl dX3_takes_9 (fun _ h9 => h9) ?_
  exact s_sub [1, 3, 0] rfl (s_lp_X3_takes_12 hX hnh p0 p2 n p1)
theorem dX0_meter_0 : decode cX0_meter 0 = .ok (.aload_n 0, 1) := by decide +kernel
theorem dX0_meter_1 : decode cX0_meter 1 = .ok (.iload_n 1, 1) := by decide +kernel
theorem dX0_meter_2 : decode cX0_meter 2 = .ok (.invokevirtual 361, 3) := by decide +kernel
theorem dX0_meter_5 : decode cX0_meter 5 = .ok (.astore 4, 2) := by decide +kernel
theorem dX0_meter_7 : decode cX0_meter 7 = .ok (.aload 4, 2) := by decide +kernel
theorem dX0_meter_9 : decode cX0_meter 9 = .ok (.ifnull 27, 3) := by decide +kernel
theorem dX0_meter_12 : decode cX0_meter 12 = .ok (.iload_n 2, 1) := by decide +kernel
theorem dX0_meter_13 : decode cX0_meter 13 = .ok (.i2l, 1) := by decide +kernel
theorem dX0_meter_14 : decode cX0_meter 14 = .ok (.lconst 0, 1) := by decide +kernel
theorem dX0_meter_15 : decode cX0_meter 15 = .ok (.ldc2_w 368, 3) := by decide +kernel
theorem dX0_meter_18 : decode cX0_meter 18 = .ok (.invokestatic 101, 3) := by decide +kernel
theorem dX0_meter_21 : decode cX0_meter 21 = .ok (.ifCond .eq 15, 3) := by decide +kernel
theorem dX0_meter_24 : decode cX0_meter 24 = .ok (.iload_n 3, 1) := by decide +kernel
theorem dX0_meter_25 : decode cX0_meter 25 = .ok (.i2l, 1) := by decide +kernel
theorem dX0_meter_26 : decode cX0_meter 26 = .ok (.lconst 0, 1) := by decide +kernel
theorem dX0_meter_27 : decode cX0_meter 27 = .ok (.ldc2_w 403, 3) := by decide +kernel
theorem dX0_meter_30 : decode cX0_meter 30 = .ok (.invokestatic 101, 3) := by decide +kernel
theorem dX0_meter_33 : decode cX0_meter 33 = .ok (.ifCond .ne 5, 3) := by decide +kernel
theorem dX0_meter_36 : decode cX0_meter 36 = .ok (.iconst (-1), 1) := by decide +kernel
theorem dX0_meter_37 : decode cX0_meter 37 = .ok (.ireturn, 1) := by decide +kernel
theorem dX0_meter_38 : decode cX0_meter 38 = .ok (.aload 4, 2) := by decide +kernel
theorem dX0_meter_40 : decode cX0_meter 40 = .ok (.getfield 365, 3) := by decide +kernel
theorem dX0_meter_43 : decode cX0_meter 43 = .ok (.i2l, 1) := by decide +kernel
theorem dX0_meter_44 : decode cX0_meter 44 = .ok (.iload_n 3, 1) := by decide +kernel
theorem dX0_meter_45 : decode cX0_meter 45 = .ok (.i2l, 1) := by decide +kernel
theorem dX0_meter_46 : decode cX0_meter 46 = .ok (.lmul, 1) := by decide +kernel
theorem dX0_meter_47 : decode cX0_meter 47 = .ok (.ldc2_w 370, 3) := by decide +kernel
theorem dX0_meter_50 : decode cX0_meter 50 = .ok (.ldiv, 1) := by decide +kernel
theorem dX0_meter_51 : decode cX0_meter 51 = .ok (.l2i, 1) := by decide +kernel
theorem dX0_meter_52 : decode cX0_meter 52 = .ok (.istore 5, 2) := by decide +kernel
theorem dX0_meter_54 : decode cX0_meter 54 = .ok (.aload 4, 2) := by decide +kernel
theorem dX0_meter_56 : decode cX0_meter 56 = .ok (.getfield 365, 3) := by decide +kernel
theorem dX0_meter_59 : decode cX0_meter 59 = .ok (.iload_n 2, 1) := by decide +kernel
theorem dX0_meter_60 : decode cX0_meter 60 = .ok (.isub, 1) := by decide +kernel
theorem dX0_meter_61 : decode cX0_meter 61 = .ok (.istore 6, 2) := by decide +kernel
theorem dX0_meter_63 : decode cX0_meter 63 = .ok (.iload 6, 2) := by decide +kernel
theorem dX0_meter_65 : decode cX0_meter 65 = .ok (.iload 5, 2) := by decide +kernel
theorem dX0_meter_67 : decode cX0_meter 67 = .ok (.if_icmp .le 26, 3) := by decide +kernel
theorem dX0_meter_70 : decode cX0_meter 70 = .ok (.aload 4, 2) := by decide +kernel
theorem dX0_meter_72 : decode cX0_meter 72 = .ok (.iload 6, 2) := by decide +kernel
theorem dX0_meter_74 : decode cX0_meter 74 = .ok (.aconst_null, 1) := by decide +kernel
theorem dX0_meter_75 : decode cX0_meter 75 = .ok (.invokevirtual 405, 3) := by decide +kernel
theorem dX0_meter_78 : decode cX0_meter 78 = .ok (.aload 4, 2) := by decide +kernel
theorem dX0_meter_80 : decode cX0_meter 80 = .ok (.dup, 1) := by decide +kernel
theorem dX0_meter_81 : decode cX0_meter 81 = .ok (.getfield 393, 3) := by decide +kernel
theorem dX0_meter_84 : decode cX0_meter 84 = .ok (.iload 6, 2) := by decide +kernel
theorem dX0_meter_86 : decode cX0_meter 86 = .ok (.i2l, 1) := by decide +kernel
theorem dX0_meter_87 : decode cX0_meter 87 = .ok (.ladd, 1) := by decide +kernel
theorem dX0_meter_88 : decode cX0_meter 88 = .ok (.putfield 393, 3) := by decide +kernel
theorem dX0_meter_91 : decode cX0_meter 91 = .ok (.iconst 1, 1) := by decide +kernel
theorem dX0_meter_92 : decode cX0_meter 92 = .ok (.ireturn, 1) := by decide +kernel
theorem dX0_meter_93 : decode cX0_meter 93 = .ok (.iload 6, 2) := by decide +kernel
theorem dX0_meter_95 : decode cX0_meter 95 = .ok (.ineg, 1) := by decide +kernel
theorem dX0_meter_96 : decode cX0_meter 96 = .ok (.iload 5, 2) := by decide +kernel
theorem dX0_meter_98 : decode cX0_meter 98 = .ok (.if_icmp .le 7, 3) := by decide +kernel
theorem dX0_meter_101 : decode cX0_meter 101 = .ok (.iconst 2, 1) := by decide +kernel
theorem dX0_meter_102 : decode cX0_meter 102 = .ok (.goto 4, 3) := by decide +kernel
theorem dX0_meter_105 : decode cX0_meter 105 = .ok (.iconst 0, 1) := by decide +kernel
theorem dX0_meter_106 : decode cX0_meter 106 = .ok (.ireturn, 1) := by decide +kernel
theorem ycX0_meter : yX0_meter.cls ≠ "java/lang/invoke/MethodHandle" ∧ yX0_meter.cls ≠ "java/lang/invoke/VarHandle" ∧ (parseMethodDescriptor yX0_meter.desc).map (fun d => d.parameters.length) = some 3 := by decide +kernel
theorem yvX0_meter : yX0_meter.cls = RR 0 ∧ yX0_meter.cls ≠ "java/lang/invoke/MethodHandle" ∧ yX0_meter.cls ≠ "java/lang/invoke/VarHandle" ∧ (parseMethodDescriptor yX0_meter.desc).map (fun d => d.parameters.length) = some 3 := ⟨rfl, ycX0_meter⟩
noncomputable def f_X0_meter (n : Nat) (p0 : Nat) (p1 : Int32) (p2 : Int32) (p3 : Int32) : Act Int32 :=
  bnd (gd 0 p0 (nt (f_X0_storeAt p0 p1))) fun v1 =>
  jn (fun (_ : Unit) =>
    pur (-1)) fun j36 =>
  if v1 = 0 then
    j36 ()
  else
    bnd (nt (f_X0_isIn p2.toInt64 (0 : Int64) (1000000 : Int64))) fun v2 =>
    if v2 = 0 then
      j36 ()
    else
      bnd (nt (f_X0_isIn p3.toInt64 (0 : Int64) (50 : Int64))) fun v3 =>
      if ¬ v3 = 0 then
        bnd (getI 3 4 v1) fun v4 =>
        bnd (getI 3 4 v1) fun v5 =>
        if (v5 - p2) ≤ (((v4.toInt64 * p3.toInt64) / 100).toInt32) then
          jn (fun (v6 : Int32) =>
            pur v6) fun j106 =>
          if (-(v5 - p2)) ≤ (((v4.toInt64 * p3.toInt64) / 100).toInt32) then
            j106 0
          else
            j106 2
        else
          bnd (gd 3 v1 (nt (f_X3_takes n v1 (v5 - p2) (0 : Nat)))) fun _ =>
          bnd (getL 3 8 v1) fun v7 =>
          bnd (putL 3 8 v1 (v7 + ((v5 - p2).toInt64))) fun _ =>
          pur 1
      else
        j36 ()
set_option maxHeartbeats 4000000 in
theorem ct_X0_meter (l : Launch) (n : Nat) (p0 : Nat) (p1 : Int32) (p2 : Int32) (p3 : Int32) : Ct l Pic yX0_meter (ws_ yX0_meter cX0_meter 7 (some FieldType.int)) 8 196 cvI [rv p0, .int p1, .int p2, .int p3] (f_X0_meter n p0 p1 p2 p3) := by
  refine Ct.of (own := RX0) (L := [(0, rv p0), (1, .int p1), (2, .int p2), (3, .int p3)]) (plainFor_of_name (by decide)) rfl (by first | decide | simp [lg_sl, rv_cat, cat_i, cat_l]) (by first | rfl | simp [lv_args, rv_cat, cat_i, cat_l]) pcZ (fun X hXl hX hnh hin => ?_)
  subst hXl
  unfold f_X0_meter
  refine s_aload_n hX dX0_meter_0 rfl 0 rfl ?_
  refine s_iload_n hX dX0_meter_1 rfl 1 rfl ?_
  refine s_callV_R (ci := 0) (n := 1) (As := [.int p1]) (st := []) hX (pcK 1) (by decide) (ct_X0_storeAt X.l p0 p1) q1038 q1040 qs22 q84 q1041 yvX0_storeAt (by decide) rfl (by first | decide | simp [rv_cat, cat_i, cat_l]) dX0_meter_2 (fun v1 => ?_)
  refine s_astore (i := 4) (L2 := [(4, rv v1), (0, rv p0), (1, .int p1), (2, .int p2), (3, .int p3)]) hX dX0_meter_5 (by decide) rfl ?_
  refine s_aload hX dX0_meter_7 0 rfl ?_
  refine s_jn (P := fun j => ∀ (u : Unit), Sim X cvI 36 [] [] (j u)) ?_ (fun j36 hj36 => ?_)
  · intro u
    refine s_iconst (v := -1) hX dX0_meter_36 (by decide) ?_
    exact s_iret hX dX0_meter_37
  · refine s_ifnull (tgt := 36) hX dX0_meter_9 (by decide) ?_ ?_
    · exact s_sub [] rfl (hj36 ())
    · refine s_iload_n hX dX0_meter_12 rfl 3 rfl ?_
      refine s_i2l hX dX0_meter_13 ?_
      refine s_lconst (v := 0) hX dX0_meter_14 (by decide) ?_
      refine s_ldc2 (v := 1000000) hX dX0_meter_15 q1042 ?_
      refine s_callS_I (n := 3) (As := [.long p2.toInt64, .long 0, .long 1000000]) (st := []) hX (ct_X0_isIn X.l p2.toInt64 (0 : Int64) (1000000 : Int64)) q400 q401 q84 q402 ycX0_isIn (by decide) rfl (by first | decide | simp [rv_cat, cat_i, cat_l]) dX0_meter_18 (fun v2 => ?_)
      refine s_if_eq (tgt := 36) hX dX0_meter_21 (by decide) ?_ ?_
      · exact s_sub [] rfl (hj36 ())
      · refine s_iload_n hX dX0_meter_24 rfl 4 rfl ?_
        refine s_i2l hX dX0_meter_25 ?_
        refine s_lconst (v := 0) hX dX0_meter_26 (by decide) ?_
        refine s_ldc2 (v := 50) hX dX0_meter_27 q1065 ?_
        refine s_callS_I (n := 3) (As := [.long p3.toInt64, .long 0, .long 50]) (st := []) hX (ct_X0_isIn X.l p3.toInt64 (0 : Int64) (50 : Int64)) q400 q401 q84 q402 ycX0_isIn (by decide) rfl (by first | decide | simp [rv_cat, cat_i, cat_l]) dX0_meter_30 (fun v3 => ?_)
        refine s_if_ne (tgt := 38) hX dX0_meter_33 (by decide) ?_ ?_
        · refine s_aload hX dX0_meter_38 0 rfl ?_
          refine s_getI (ci := 3) (j := 4) (ref := "WindGas$Store") hX (pcG 3) in_X3 (Or.inr ⟨_, q240⟩) (by decide) (by decide) (by decide) rfl dX0_meter_40 (fun _ h9 => h9) (fun v4 => ?_)
          refine s_i2l hX dX0_meter_43 ?_
          refine s_iload_n hX dX0_meter_44 rfl 4 rfl ?_
          refine s_i2l hX dX0_meter_45 ?_
          refine s_lmul hX dX0_meter_46 ?_
          refine s_ldc2 (v := 100) hX dX0_meter_47 q1043 ?_
          refine s_ldivc hX dX0_meter_50 (by decide) ?_
          refine s_l2i hX dX0_meter_51 ?_
          refine s_istore (i := 5) (L2 := [(5, .int ((v4.toInt64 * p3.toInt64) / 100).toInt32), (4, rv v1), (0, rv p0), (1, .int p1), (2, .int p2), (3, .int p3)]) hX dX0_meter_52 (by decide) (by first | (simp [rv_cat, cat_i, cat_l]; done) | (simp [rv_cat, cat_i, cat_l]; decide)) ?_
          refine s_aload hX dX0_meter_54 1 rfl ?_
          refine s_getI (ci := 3) (j := 4) (ref := "WindGas$Store") hX (pcG 3) in_X3 (Or.inr ⟨_, q240⟩) (by decide) (by decide) (by decide) rfl dX0_meter_56 (fun _ h9 => h9) (fun v5 => ?_)
          refine s_iload_n hX dX0_meter_59 rfl 4 rfl ?_
          refine s_isub hX dX0_meter_60 ?_
          refine s_istore (i := 6) (L2 := [(6, .int (v5 - p2)), (5, .int ((v4.toInt64 * p3.toInt64) / 100).toInt32), (4, rv v1), (0, rv p0), (1, .int p1), (2, .int p2), (3, .int p3)]) hX dX0_meter_61 (by decide) rfl ?_
          refine s_iload hX dX0_meter_63 0 rfl ?_
          refine s_iload hX dX0_meter_65 1 rfl ?_
          refine s_icmp_le (tgt := 93) hX dX0_meter_67 (by decide) ?_ ?_
          · refine s_iload hX dX0_meter_93 0 rfl ?_
            refine s_ineg hX dX0_meter_95 ?_
            refine s_iload hX dX0_meter_96 1 rfl ?_
            refine s_jn (P := fun j => ∀ (v6 : Int32), Sim X cvI 106 [] [.int v6] (j v6)) ?_ (fun j106 hj106 => ?_)
            · intro v6
              exact s_iret hX dX0_meter_106
            · refine s_icmp_le (tgt := 105) hX dX0_meter_98 (by decide) ?_ ?_
              · refine s_iconst (v := 0) hX dX0_meter_105 rfl ?_
                exact s_sub [] rfl (hj106 0)
              · refine s_iconst (v := 2) hX dX0_meter_101 rfl ?_
                refine s_goto (tgt := 106) hX dX0_meter_102 (by decide) ?_
                exact s_sub [] rfl (hj106 2)
          · refine s_aload hX dX0_meter_70 2 rfl ?_
            refine s_iload hX dX0_meter_72 0 rfl ?_
            refine s_null hX dX0_meter_74 ?_
            refine s_callV_U (ci := 3) (n := 2) (As := [.int (v5 - p2), rv 0]) (st := []) hX (pcK 4) (by decide) (ct_X3_takes X.l n v1 (v5 - p2) (0 : Nat)) q1066 q1067 q1068 q90 q1069 yvX3_takes (by decide) rfl (by first | decide | simp [rv_cat, cat_i, cat_l]) dX0_meter_75 (fun _ => ?_)
            refine s_aload hX dX0_meter_78 2 rfl ?_
            refine s_dup hX dX0_meter_80 (rv_cat _) ?_
            refine s_getL (ci := 3) (j := 8) (ref := "WindGas$Store") hX (pcG 3) in_X3 (Or.inr ⟨_, q245⟩) (by decide) (by decide) (by decide) rfl dX0_meter_81 (fun _ h9 => h9) (fun v7 => ?_)
            refine s_iload hX dX0_meter_84 0 rfl ?_
            refine s_i2l hX dX0_meter_86 ?_
            refine s_ladd hX dX0_meter_87 ?_
            refine s_putL (ci := 3) (j := 8) (ref := "WindGas$Store") hX (pcG 3) (pcP 3) in_X3 tyX3_ok nmX3 (Or.inr ⟨_, q245⟩) (by decide) (by decide) (by decide) rfl rfl rfl dX0_meter_88 (fun _ h9 => h9) ?_
            refine s_iconst (v := 1) hX dX0_meter_91 rfl ?_
            exact s_iret hX dX0_meter_92
        · exact s_sub [] rfl (hj36 ())
theorem dX6_init_0 : decode cX6_init 0 = .ok (.aload_n 0, 1) := by decide +kernel
theorem dX6_init_1 : decode cX6_init 1 = .ok (.invokespecial 3, 3) := by decide +kernel
theorem dX6_init_4 : decode cX6_init 4 = .ok (.aload_n 0, 1) := by decide +kernel
theorem dX6_init_5 : decode cX6_init 5 = .ok (.iload_n 1, 1) := by decide +kernel
theorem dX6_init_6 : decode cX6_init 6 = .ok (.putfield 9, 3) := by decide +kernel
theorem dX6_init_9 : decode cX6_init 9 = .ok (.aload_n 0, 1) := by decide +kernel
theorem dX6_init_10 : decode cX6_init 10 = .ok (.iload_n 2, 1) := by decide +kernel
theorem dX6_init_11 : decode cX6_init 11 = .ok (.putfield 15, 3) := by decide +kernel
theorem dX6_init_14 : decode cX6_init 14 = .ok (.aload_n 0, 1) := by decide +kernel
theorem dX6_init_15 : decode cX6_init 15 = .ok (.iload_n 3, 1) := by decide +kernel
theorem dX6_init_16 : decode cX6_init 16 = .ok (.putfield 18, 3) := by decide +kernel
theorem dX6_init_19 : decode cX6_init 19 = .ok (.aload_n 0, 1) := by decide +kernel
theorem dX6_init_20 : decode cX6_init 20 = .ok (.iload 4, 2) := by decide +kernel
theorem dX6_init_22 : decode cX6_init 22 = .ok (.putfield 21, 3) := by decide +kernel
theorem dX6_init_25 : decode cX6_init 25 = .ok (.return_, 1) := by decide +kernel
theorem ycX6_init : yX6_init.cls ≠ "java/lang/invoke/MethodHandle" ∧ yX6_init.cls ≠ "java/lang/invoke/VarHandle" ∧ (parseMethodDescriptor yX6_init.desc).map (fun d => d.parameters.length) = some 4 := by decide +kernel
theorem yvX6_init : yX6_init.cls = RR 6 ∧ yX6_init.cls ≠ "java/lang/invoke/MethodHandle" ∧ yX6_init.cls ≠ "java/lang/invoke/VarHandle" ∧ (parseMethodDescriptor yX6_init.desc).map (fun d => d.parameters.length) = some 4 := ⟨rfl, ycX6_init⟩
noncomputable def f_X6_init (p0 : Nat) (p1 : Int32) (p2 : Int32) (p3 : Int32) (p4 : Int32) : Act Unit :=
  nn p0 <|
  bnd (putI 6 0 p0 p1) fun _ =>
  bnd (putI 6 1 p0 p2) fun _ =>
  bnd (putI 6 2 p0 p3) fun _ =>
  bnd (putI 6 3 p0 p4) fun _ =>
  pur ()
set_option maxHeartbeats 4000000 in
theorem ct_X6_init (l : Launch) (p0 : Nat) (p1 : Int32) (p2 : Int32) (p3 : Int32) (p4 : Int32) : Ct l Pic yX6_init (ws_ yX6_init cX6_init 5 none) 1 24 cvU [rv p0, .int p1, .int p2, .int p3, .int p4] (f_X6_init p0 p1 p2 p3 p4) := by
  refine Ct.of (own := RX6) (L := [(0, rv p0), (1, .int p1), (2, .int p2), (3, .int p3), (4, .int p4)]) (plainFor_of_name (by decide)) rfl (by first | decide | simp [lg_sl, rv_cat, cat_i, cat_l]) (by first | rfl | simp [lv_args, rv_cat, cat_i, cat_l]) pcZ (fun X hXl hX hnh hin => ?_)
  subst hXl
  unfold f_X6_init
  refine s_aload_n hX dX6_init_0 rfl 0 rfl ?_
  refine s_oinit hX (by decide) q1115 q126 q127 (by decide) (by decide) dX6_init_1 ?_
  refine s_aload_n hX dX6_init_4 rfl 0 rfl ?_
  refine s_iload_n hX dX6_init_5 rfl 1 rfl ?_
  refine s_putIF (ci := 6) (j := 0) (ref := "WindGas$Stack") hX (pcG 6) (pcP 6) in_X6 tyX6_ok nmX6 q1116 (by decide) (by decide) (by decide) rfl rfl rfl (hin rfl) rfl dX6_init_6 (fun _ h9 => h9) ?_
  refine s_aload_n hX dX6_init_9 rfl 0 rfl ?_
  refine s_iload_n hX dX6_init_10 rfl 2 rfl ?_
  refine s_putIF (ci := 6) (j := 1) (ref := "WindGas$Stack") hX (pcG 6) (pcP 6) in_X6 tyX6_ok nmX6 q1118 (by decide) (by decide) (by decide) rfl rfl rfl (hin rfl) rfl dX6_init_11 (fun _ h9 => h9) ?_
  refine s_aload_n hX dX6_init_14 rfl 0 rfl ?_
  refine s_iload_n hX dX6_init_15 rfl 3 rfl ?_
  refine s_putIF (ci := 6) (j := 2) (ref := "WindGas$Stack") hX (pcG 6) (pcP 6) in_X6 tyX6_ok nmX6 q1120 (by decide) (by decide) (by decide) rfl rfl rfl (hin rfl) rfl dX6_init_16 (fun _ h9 => h9) ?_
  refine s_aload_n hX dX6_init_19 rfl 0 rfl ?_
  refine s_iload hX dX6_init_20 4 rfl ?_
  refine s_putIF (ci := 6) (j := 3) (ref := "WindGas$Stack") hX (pcG 6) (pcP 6) in_X6 tyX6_ok nmX6 q1121 (by decide) (by decide) (by decide) rfl rfl rfl (hin rfl) rfl dX6_init_22 (fun _ h9 => h9) ?_
  exact s_vret hX dX6_init_25
theorem dX0_stack_0 : decode cX0_stack 0 = .ok (.iload_n 1, 1) := by decide +kernel
theorem dX0_stack_1 : decode cX0_stack 1 = .ok (.i2l, 1) := by decide +kernel
theorem dX0_stack_2 : decode cX0_stack 2 = .ok (.ldc2_w 409, 3) := by decide +kernel
theorem dX0_stack_5 : decode cX0_stack 5 = .ok (.ldc2_w 411, 3) := by decide +kernel
theorem dX0_stack_8 : decode cX0_stack 8 = .ok (.invokestatic 101, 3) := by decide +kernel
theorem dX0_stack_11 : decode cX0_stack 11 = .ok (.ifCond .eq 38, 3) := by decide +kernel
theorem dX0_stack_14 : decode cX0_stack 14 = .ok (.iload_n 2, 1) := by decide +kernel
theorem dX0_stack_15 : decode cX0_stack 15 = .ok (.i2l, 1) := by decide +kernel
theorem dX0_stack_16 : decode cX0_stack 16 = .ok (.lconst 1, 1) := by decide +kernel
theorem dX0_stack_17 : decode cX0_stack 17 = .ok (.ldc2_w 413, 3) := by decide +kernel
theorem dX0_stack_20 : decode cX0_stack 20 = .ok (.invokestatic 101, 3) := by decide +kernel
theorem dX0_stack_23 : decode cX0_stack 23 = .ok (.ifCond .eq 26, 3) := by decide +kernel
theorem dX0_stack_26 : decode cX0_stack 26 = .ok (.iload_n 3, 1) := by decide +kernel
theorem dX0_stack_27 : decode cX0_stack 27 = .ok (.i2l, 1) := by decide +kernel
theorem dX0_stack_28 : decode cX0_stack 28 = .ok (.lconst 0, 1) := by decide +kernel
theorem dX0_stack_29 : decode cX0_stack 29 = .ok (.ldc2_w 415, 3) := by decide +kernel
theorem dX0_stack_32 : decode cX0_stack 32 = .ok (.invokestatic 101, 3) := by decide +kernel
theorem dX0_stack_35 : decode cX0_stack 35 = .ok (.ifCond .eq 14, 3) := by decide +kernel
theorem dX0_stack_38 : decode cX0_stack 38 = .ok (.aload_n 0, 1) := by decide +kernel
theorem dX0_stack_39 : decode cX0_stack 39 = .ok (.getfield 64, 3) := by decide +kernel
theorem dX0_stack_42 : decode cX0_stack 42 = .ok (.invokevirtual 124, 3) := by decide +kernel
theorem dX0_stack_45 : decode cX0_stack 45 = .ok (.iconst 4, 1) := by decide +kernel
theorem dX0_stack_46 : decode cX0_stack 46 = .ok (.if_icmp .ne 5, 3) := by decide +kernel
theorem dX0_stack_49 : decode cX0_stack 49 = .ok (.iconst (-1), 1) := by decide +kernel
theorem dX0_stack_50 : decode cX0_stack 50 = .ok (.ireturn, 1) := by decide +kernel
theorem dX0_stack_51 : decode cX0_stack 51 = .ok (.aload_n 0, 1) := by decide +kernel
theorem dX0_stack_52 : decode cX0_stack 52 = .ok (.getfield 64, 3) := by decide +kernel
theorem dX0_stack_55 : decode cX0_stack 55 = .ok (.new 417, 3) := by decide +kernel
theorem dX0_stack_58 : decode cX0_stack 58 = .ok (.dup, 1) := by decide +kernel
theorem dX0_stack_59 : decode cX0_stack 59 = .ok (.aload_n 0, 1) := by decide +kernel
theorem dX0_stack_60 : decode cX0_stack 60 = .ok (.getfield 64, 3) := by decide +kernel
theorem dX0_stack_63 : decode cX0_stack 63 = .ok (.invokevirtual 124, 3) := by decide +kernel
theorem dX0_stack_66 : decode cX0_stack 66 = .ok (.iload_n 1, 1) := by decide +kernel
theorem dX0_stack_67 : decode cX0_stack 67 = .ok (.iload_n 2, 1) := by decide +kernel
theorem dX0_stack_68 : decode cX0_stack 68 = .ok (.iload_n 3, 1) := by decide +kernel
theorem dX0_stack_69 : decode cX0_stack 69 = .ok (.invokespecial 419, 3) := by decide +kernel
theorem dX0_stack_72 : decode cX0_stack 72 = .ok (.invokevirtual 302, 3) := by decide +kernel
theorem dX0_stack_75 : decode cX0_stack 75 = .ok (.pop, 1) := by decide +kernel
theorem dX0_stack_76 : decode cX0_stack 76 = .ok (.aload_n 0, 1) := by decide +kernel
theorem dX0_stack_77 : decode cX0_stack 77 = .ok (.getfield 64, 3) := by decide +kernel
theorem dX0_stack_80 : decode cX0_stack 80 = .ok (.invokevirtual 124, 3) := by decide +kernel
theorem dX0_stack_83 : decode cX0_stack 83 = .ok (.iconst 1, 1) := by decide +kernel
theorem dX0_stack_84 : decode cX0_stack 84 = .ok (.isub, 1) := by decide +kernel
theorem dX0_stack_85 : decode cX0_stack 85 = .ok (.ireturn, 1) := by decide +kernel
theorem ycX0_stack : yX0_stack.cls ≠ "java/lang/invoke/MethodHandle" ∧ yX0_stack.cls ≠ "java/lang/invoke/VarHandle" ∧ (parseMethodDescriptor yX0_stack.desc).map (fun d => d.parameters.length) = some 3 := by decide +kernel
theorem yvX0_stack : yX0_stack.cls = RR 0 ∧ yX0_stack.cls ≠ "java/lang/invoke/MethodHandle" ∧ yX0_stack.cls ≠ "java/lang/invoke/VarHandle" ∧ (parseMethodDescriptor yX0_stack.desc).map (fun d => d.parameters.length) = some 3 := ⟨rfl, ycX0_stack⟩
noncomputable def f_X0_stack (p0 : Nat) (p1 : Int32) (p2 : Int32) (p3 : Int32) : Act Int32 :=
  bnd (nt (f_X0_isIn p1.toInt64 (10 : Int64) (500 : Int64))) fun v1 =>
  jn (fun (_ : Unit) =>
    pur (-1)) fun j49 =>
  if v1 = 0 then
    j49 ()
  else
    bnd (nt (f_X0_isIn p2.toInt64 (1 : Int64) (20 : Int64))) fun v2 =>
    if v2 = 0 then
      j49 ()
    else
      bnd (nt (f_X0_isIn p3.toInt64 (0 : Int64) (200 : Int64))) fun v3 =>
      if v3 = 0 then
        j49 ()
      else
        bnd (getR 0 18 p0) fun v4 =>
        bnd (gd 17 v4 (nt (P_size v4))) fun v5 =>
        if ¬ v5 = 4 then
          bnd (getR 0 18 p0) fun v6 =>
          bnd (newO 6 9) fun v7 =>
          bnd (getR 0 18 p0) fun v8 =>
          bnd (gd 17 v8 (nt (P_size v8))) fun v9 =>
          bnd (gd 6 v7 (nt (f_X6_init v7 v9 p1 p2 p3))) fun _ =>
          bnd (gd 17 v6 (nt (P_add v6 v7))) fun v10 =>
          bnd (getR 0 18 p0) fun v11 =>
          bnd (gd 17 v11 (nt (P_size v11))) fun v12 =>
          pur (v12 - 1)
        else
          j49 ()
set_option maxHeartbeats 4000000 in
theorem ct_X0_stack (l : Launch) (p0 : Nat) (p1 : Int32) (p2 : Int32) (p3 : Int32) : Ct l Pic yX0_stack (ws_ yX0_stack cX0_stack 4 (some FieldType.int)) 7 171 cvI [rv p0, .int p1, .int p2, .int p3] (f_X0_stack p0 p1 p2 p3) := by
  refine Ct.of (own := RX0) (L := [(0, rv p0), (1, .int p1), (2, .int p2), (3, .int p3)]) (plainFor_of_name (by decide)) rfl (by first | decide | simp [lg_sl, rv_cat, cat_i, cat_l]) (by first | rfl | simp [lv_args, rv_cat, cat_i, cat_l]) pcZ (fun X hXl hX hnh hin => ?_)
  subst hXl
  unfold f_X0_stack
  refine s_iload_n hX dX0_stack_0 rfl 1 rfl ?_
  refine s_i2l hX dX0_stack_1 ?_
  refine s_ldc2 (v := 10) hX dX0_stack_2 q1106 ?_
  refine s_ldc2 (v := 500) hX dX0_stack_5 q1107 ?_
  refine s_callS_I (n := 3) (As := [.long p1.toInt64, .long 10, .long 500]) (st := []) hX (ct_X0_isIn X.l p1.toInt64 (10 : Int64) (500 : Int64)) q400 q401 q84 q402 ycX0_isIn (by decide) rfl (by first | decide | simp [rv_cat, cat_i, cat_l]) dX0_stack_8 (fun v1 => ?_)
  refine s_jn (P := fun j => ∀ (u : Unit), Sim X cvI 49 [] [] (j u)) ?_ (fun j49 hj49 => ?_)
  · intro u
    refine s_iconst (v := -1) hX dX0_stack_49 (by decide) ?_
    exact s_iret hX dX0_stack_50
  · refine s_if_eq (tgt := 49) hX dX0_stack_11 (by decide) ?_ ?_
    · exact s_sub [] rfl (hj49 ())
    · refine s_iload_n hX dX0_stack_14 rfl 2 rfl ?_
      refine s_i2l hX dX0_stack_15 ?_
      refine s_lconst (v := 1) hX dX0_stack_16 (by decide) ?_
      refine s_ldc2 (v := 20) hX dX0_stack_17 q1108 ?_
      refine s_callS_I (n := 3) (As := [.long p2.toInt64, .long 1, .long 20]) (st := []) hX (ct_X0_isIn X.l p2.toInt64 (1 : Int64) (20 : Int64)) q400 q401 q84 q402 ycX0_isIn (by decide) rfl (by first | decide | simp [rv_cat, cat_i, cat_l]) dX0_stack_20 (fun v2 => ?_)
      refine s_if_eq (tgt := 49) hX dX0_stack_23 (by decide) ?_ ?_
      · exact s_sub [] rfl (hj49 ())
      · refine s_iload_n hX dX0_stack_26 rfl 3 rfl ?_
        refine s_i2l hX dX0_stack_27 ?_
        refine s_lconst (v := 0) hX dX0_stack_28 (by decide) ?_
        refine s_ldc2 (v := 200) hX dX0_stack_29 q1109 ?_
        refine s_callS_I (n := 3) (As := [.long p3.toInt64, .long 0, .long 200]) (st := []) hX (ct_X0_isIn X.l p3.toInt64 (0 : Int64) (200 : Int64)) q400 q401 q84 q402 ycX0_isIn (by decide) rfl (by first | decide | simp [rv_cat, cat_i, cat_l]) dX0_stack_32 (fun v3 => ?_)
        refine s_if_eq (tgt := 49) hX dX0_stack_35 (by decide) ?_ ?_
        · exact s_sub [] rfl (hj49 ())
        · refine s_aload_n hX dX0_stack_38 rfl 0 rfl ?_
          refine s_getR (ci := 0) (j := 18) (ref := "WindGas") hX (pcG 0) in_X0 (Or.inl q284) (by decide) (by decide) (by decide) rfl dX0_stack_39 (fun _ h9 => h9) (fun v4 => ?_)
          refine s_callV_I (ci := 17) (n := 0) (As := []) (st := []) hX (pcK 18) (by decide) (pt_size X.l v4) q554 q417 q418 q88 q419 yvJ2_size (by decide) rfl (by first | decide | simp [rv_cat, cat_i, cat_l]) dX0_stack_42 (fun v5 => ?_)
          refine s_iconst (v := 4) hX dX0_stack_45 rfl ?_
          refine s_icmp_ne (tgt := 51) hX dX0_stack_46 (by decide) ?_ ?_
          · refine s_aload_n hX dX0_stack_51 rfl 0 rfl ?_
            refine s_getR (ci := 0) (j := 18) (ref := "WindGas") hX (pcG 0) in_X0 (Or.inl q284) (by decide) (by decide) (by decide) rfl dX0_stack_52 (fun _ h9 => h9) (fun v6 => ?_)
            refine s_new (ci := 6) hX (pcN 6) in_X6 tyX6_ok (by decide) (by decide) q1110 q1111 q100 dX0_stack_55 (fun v7 => ?_)
            refine s_dup hX dX0_stack_58 (rv_cat _) ?_
            refine s_aload_n hX dX0_stack_59 rfl 0 rfl ?_
            refine s_getR (ci := 0) (j := 18) (ref := "WindGas") hX (pcG 0) in_X0 (Or.inl q284) (by decide) (by decide) (by decide) rfl dX0_stack_60 (fun _ h9 => h9) (fun v8 => ?_)
            refine s_callV_I (ci := 17) (n := 0) (As := []) (st := [rv v7, rv v7, rv v6]) hX (pcK 18) (by decide) (pt_size X.l v8) q554 q417 q418 q88 q419 yvJ2_size (by decide) rfl (by first | decide | simp [rv_cat, cat_i, cat_l]) dX0_stack_63 (fun v9 => ?_)
            refine s_iload_n hX dX0_stack_66 rfl 1 rfl ?_
            refine s_iload_n hX dX0_stack_67 rfl 2 rfl ?_
            refine s_iload_n hX dX0_stack_68 rfl 3 rfl ?_
            refine s_callI_U (ci := 6) (n := 4) (As := [.int v9, .int p1, .int p2, .int p3]) (st := [rv v7, rv v6]) hX (pcK 7) (by decide) (ct_X6_init X.l v7 v9 p1 p2 p3) q1112 q1113 q100 q1114 rfl ycX6_init (by decide) rfl (by first | decide | simp [rv_cat, cat_i, cat_l]) dX0_stack_69 (fun _ => ?_)
            refine s_callV_I (ci := 17) (n := 1) (As := [rv v7]) (st := []) hX (pcK 18) (by decide) (pt_add X.l v6 v7) q1000 q440 q441 q88 q442 yvJ2_add (by decide) rfl (by first | decide | simp [rv_cat, cat_i, cat_l]) dX0_stack_72 (fun v10 => ?_)
            refine s_pop hX dX0_stack_75 rfl ?_
            refine s_aload_n hX dX0_stack_76 rfl 0 rfl ?_
            refine s_getR (ci := 0) (j := 18) (ref := "WindGas") hX (pcG 0) in_X0 (Or.inl q284) (by decide) (by decide) (by decide) rfl dX0_stack_77 (fun _ h9 => h9) (fun v11 => ?_)
            refine s_callV_I (ci := 17) (n := 0) (As := []) (st := []) hX (pcK 18) (by decide) (pt_size X.l v11) q554 q417 q418 q88 q419 yvJ2_size (by decide) rfl (by first | decide | simp [rv_cat, cat_i, cat_l]) dX0_stack_80 (fun v12 => ?_)
            refine s_iconst (v := 1) hX dX0_stack_83 rfl ?_
            refine s_isub hX dX0_stack_84 ?_
            exact s_iret hX dX0_stack_85
          · exact s_sub [] rfl (hj49 ())
theorem dX0_tank_0 : decode cX0_tank 0 = .ok (.iload_n 1, 1) := by decide +kernel
theorem dX0_tank_1 : decode cX0_tank 1 = .ok (.i2l, 1) := by decide +kernel
theorem dX0_tank_2 : decode cX0_tank 2 = .ok (.lconst 0, 1) := by decide +kernel
theorem dX0_tank_3 : decode cX0_tank 3 = .ok (.ldc2_w 420, 3) := by decide +kernel
theorem dX0_tank_6 : decode cX0_tank 6 = .ok (.invokestatic 101, 3) := by decide +kernel
theorem dX0_tank_9 : decode cX0_tank 9 = .ok (.ifCond .eq 14, 3) := by decide +kernel
theorem dX0_tank_12 : decode cX0_tank 12 = .ok (.iload_n 2, 1) := by decide +kernel
theorem dX0_tank_13 : decode cX0_tank 13 = .ok (.i2l, 1) := by decide +kernel
theorem dX0_tank_14 : decode cX0_tank 14 = .ok (.lconst 0, 1) := by decide +kernel
theorem dX0_tank_15 : decode cX0_tank 15 = .ok (.iload_n 1, 1) := by decide +kernel
theorem dX0_tank_16 : decode cX0_tank 16 = .ok (.i2l, 1) := by decide +kernel
theorem dX0_tank_17 : decode cX0_tank 17 = .ok (.invokestatic 101, 3) := by decide +kernel
theorem dX0_tank_20 : decode cX0_tank 20 = .ok (.ifCond .ne 5, 3) := by decide +kernel
theorem dX0_tank_23 : decode cX0_tank 23 = .ok (.iconst 0, 1) := by decide +kernel
theorem dX0_tank_24 : decode cX0_tank 24 = .ok (.ireturn, 1) := by decide +kernel
theorem dX0_tank_25 : decode cX0_tank 25 = .ok (.aload_n 0, 1) := by decide +kernel
theorem dX0_tank_26 : decode cX0_tank 26 = .ok (.iload_n 1, 1) := by decide +kernel
theorem dX0_tank_27 : decode cX0_tank 27 = .ok (.putfield 422, 3) := by decide +kernel
theorem dX0_tank_30 : decode cX0_tank 30 = .ok (.aload_n 0, 1) := by decide +kernel
theorem dX0_tank_31 : decode cX0_tank 31 = .ok (.iload_n 2, 1) := by decide +kernel
theorem dX0_tank_32 : decode cX0_tank 32 = .ok (.putfield 425, 3) := by decide +kernel
theorem dX0_tank_35 : decode cX0_tank 35 = .ok (.iconst 1, 1) := by decide +kernel
theorem dX0_tank_36 : decode cX0_tank 36 = .ok (.ireturn, 1) := by decide +kernel
theorem ycX0_tank : yX0_tank.cls ≠ "java/lang/invoke/MethodHandle" ∧ yX0_tank.cls ≠ "java/lang/invoke/VarHandle" ∧ (parseMethodDescriptor yX0_tank.desc).map (fun d => d.parameters.length) = some 2 := by decide +kernel
theorem yvX0_tank : yX0_tank.cls = RR 0 ∧ yX0_tank.cls ≠ "java/lang/invoke/MethodHandle" ∧ yX0_tank.cls ≠ "java/lang/invoke/VarHandle" ∧ (parseMethodDescriptor yX0_tank.desc).map (fun d => d.parameters.length) = some 2 := ⟨rfl, ycX0_tank⟩
noncomputable def f_X0_tank (p0 : Nat) (p1 : Int32) (p2 : Int32) : Act Int32 :=
  bnd (nt (f_X0_isIn p1.toInt64 (0 : Int64) (100000 : Int64))) fun v1 =>
  jn (fun (_ : Unit) =>
    purS (ty := .boolean) 0) fun j23 =>
  if v1 = 0 then
    j23 ()
  else
    bnd (nt (f_X0_isIn p2.toInt64 (0 : Int64) p1.toInt64)) fun v2 =>
    if ¬ v2 = 0 then
      bnd (putI 0 19 p0 p1) fun _ =>
      bnd (putI 0 20 p0 p2) fun _ =>
      purS (ty := .boolean) 1
    else
      j23 ()
set_option maxHeartbeats 4000000 in
theorem ct_X0_tank (l : Launch) (p0 : Nat) (p1 : Int32) (p2 : Int32) : Ct l Pic yX0_tank (ws_ yX0_tank cX0_tank 3 (some FieldType.boolean)) 1 25 cvI [rv p0, .int p1, .int p2] (f_X0_tank p0 p1 p2) := by
  refine Ct.of (own := RX0) (L := [(0, rv p0), (1, .int p1), (2, .int p2)]) (plainFor_of_name (by decide)) rfl (by first | decide | simp [lg_sl, rv_cat, cat_i, cat_l]) (by first | rfl | simp [lv_args, rv_cat, cat_i, cat_l]) pcZ (fun X hXl hX hnh hin => ?_)
  subst hXl
  unfold f_X0_tank
  refine s_iload_n hX dX0_tank_0 rfl 1 rfl ?_
  refine s_i2l hX dX0_tank_1 ?_
  refine s_lconst (v := 0) hX dX0_tank_2 (by decide) ?_
  refine s_ldc2 (v := 100000) hX dX0_tank_3 q1151 ?_
  refine s_callS_I (n := 3) (As := [.long p1.toInt64, .long 0, .long 100000]) (st := []) hX (ct_X0_isIn X.l p1.toInt64 (0 : Int64) (100000 : Int64)) q400 q401 q84 q402 ycX0_isIn (by decide) rfl (by first | decide | simp [rv_cat, cat_i, cat_l]) dX0_tank_6 (fun v1 => ?_)
  refine s_jn (P := fun j => ∀ (u : Unit), Sim X cvI 23 [] [] (j u)) ?_ (fun j23 hj23 => ?_)
  · intro u
    refine s_iconst (v := 0) hX dX0_tank_23 rfl ?_
    exact s_zret hX dX0_tank_24
  · refine s_if_eq (tgt := 23) hX dX0_tank_9 (by decide) ?_ ?_
    · exact s_sub [] rfl (hj23 ())
    · refine s_iload_n hX dX0_tank_12 rfl 2 rfl ?_
      refine s_i2l hX dX0_tank_13 ?_
      refine s_lconst (v := 0) hX dX0_tank_14 (by decide) ?_
      refine s_iload_n hX dX0_tank_15 rfl 1 rfl ?_
      refine s_i2l hX dX0_tank_16 ?_
      refine s_callS_I (n := 3) (As := [.long p2.toInt64, .long 0, .long p1.toInt64]) (st := []) hX (ct_X0_isIn X.l p2.toInt64 (0 : Int64) p1.toInt64) q400 q401 q84 q402 ycX0_isIn (by decide) rfl (by first | decide | simp [rv_cat, cat_i, cat_l]) dX0_tank_17 (fun v2 => ?_)
      refine s_if_ne (tgt := 25) hX dX0_tank_20 (by decide) ?_ ?_
      · refine s_aload_n hX dX0_tank_25 rfl 0 rfl ?_
        refine s_iload_n hX dX0_tank_26 rfl 1 rfl ?_
        refine s_putI (ci := 0) (j := 19) (ref := "WindGas") hX (pcG 0) (pcP 0) in_X0 tyX0_ok nmX0 (Or.inl q285) (by decide) (by decide) (by decide) rfl rfl rfl dX0_tank_27 (fun _ h9 => h9) ?_
        refine s_aload_n hX dX0_tank_30 rfl 0 rfl ?_
        refine s_iload_n hX dX0_tank_31 rfl 2 rfl ?_
        refine s_putI (ci := 0) (j := 20) (ref := "WindGas") hX (pcG 0) (pcP 0) in_X0 tyX0_ok nmX0 (Or.inl q286) (by decide) (by decide) (by decide) rfl rfl rfl dX0_tank_32 (fun _ h9 => h9) ?_
        refine s_iconst (v := 1) hX dX0_tank_35 rfl ?_
        exact s_zret hX dX0_tank_36
      · exact s_sub [] rfl (hj23 ())
theorem dX0_runs_0 : decode cX0_runs 0 = .ok (.iconst 0, 1) := by decide +kernel
theorem dX0_runs_1 : decode cX0_runs 1 = .ok (.istore_n 1, 1) := by decide +kernel
theorem dX0_runs_2 : decode cX0_runs 2 = .ok (.iconst 0, 1) := by decide +kernel
theorem dX0_runs_3 : decode cX0_runs 3 = .ok (.istore_n 2, 1) := by decide +kernel
theorem dX0_runs_4 : decode cX0_runs 4 = .ok (.iload_n 2, 1) := by decide +kernel
theorem dX0_runs_5 : decode cX0_runs 5 = .ok (.aload_n 0, 1) := by decide +kernel
theorem dX0_runs_6 : decode cX0_runs 6 = .ok (.getfield 64, 3) := by decide +kernel
theorem dX0_runs_9 : decode cX0_runs 9 = .ok (.invokevirtual 124, 3) := by decide +kernel
theorem dX0_runs_12 : decode cX0_runs 12 = .ok (.if_icmp .ge 34, 3) := by decide +kernel
theorem dX0_runs_15 : decode cX0_runs 15 = .ok (.iload_n 1, 1) := by decide +kernel
theorem dX0_runs_16 : decode cX0_runs 16 = .ok (.aload_n 0, 1) := by decide +kernel
theorem dX0_runs_17 : decode cX0_runs 17 = .ok (.getfield 64, 3) := by decide +kernel
theorem dX0_runs_20 : decode cX0_runs 20 = .ok (.iload_n 2, 1) := by decide +kernel
theorem dX0_runs_21 : decode cX0_runs 21 = .ok (.invokevirtual 128, 3) := by decide +kernel
theorem dX0_runs_24 : decode cX0_runs 24 = .ok (.checkcast 417, 3) := by decide +kernel
theorem dX0_runs_27 : decode cX0_runs 27 = .ok (.getfield 428, 3) := by decide +kernel
theorem dX0_runs_30 : decode cX0_runs 30 = .ok (.ifCond .eq 7, 3) := by decide +kernel
theorem dX0_runs_33 : decode cX0_runs 33 = .ok (.iconst 1, 1) := by decide +kernel
theorem dX0_runs_34 : decode cX0_runs 34 = .ok (.goto 4, 3) := by decide +kernel
theorem dX0_runs_37 : decode cX0_runs 37 = .ok (.iconst 0, 1) := by decide +kernel
theorem dX0_runs_38 : decode cX0_runs 38 = .ok (.iadd, 1) := by decide +kernel
theorem dX0_runs_39 : decode cX0_runs 39 = .ok (.istore_n 1, 1) := by decide +kernel
theorem dX0_runs_40 : decode cX0_runs 40 = .ok (.iinc 2 1, 3) := by decide +kernel
theorem dX0_runs_43 : decode cX0_runs 43 = .ok (.goto (-39), 3) := by decide +kernel
theorem dX0_runs_46 : decode cX0_runs 46 = .ok (.iload_n 1, 1) := by decide +kernel
theorem dX0_runs_47 : decode cX0_runs 47 = .ok (.ireturn, 1) := by decide +kernel
theorem ycX0_runs : yX0_runs.cls ≠ "java/lang/invoke/MethodHandle" ∧ yX0_runs.cls ≠ "java/lang/invoke/VarHandle" ∧ (parseMethodDescriptor yX0_runs.desc).map (fun d => d.parameters.length) = some 0 := by decide +kernel
theorem yvX0_runs : yX0_runs.cls = RR 0 ∧ yX0_runs.cls ≠ "java/lang/invoke/MethodHandle" ∧ yX0_runs.cls ≠ "java/lang/invoke/VarHandle" ∧ (parseMethodDescriptor yX0_runs.desc).map (fun d => d.parameters.length) = some 0 := ⟨rfl, ycX0_runs⟩
noncomputable def lp_X0_runs_4 (p0 : Nat) (q : Nat) : Int32 → Int32 → Act Int32 := match q with
  | 0 => fun _ _ => fail
  | q + 1 => fun w1 w2 =>
    bnd (getR 0 18 p0) fun v3 =>
    bnd (gd 17 v3 (nt (P_size v3))) fun v4 =>
    if v4 ≤ w2 then
      pur w1
    else
      bnd (getR 0 18 p0) fun v5 =>
      bnd (gd 17 v5 (nt (P_get v5 w2))) fun v6 =>
      bnd (cst [7] v6) fun _ =>
      bnd (getI 6 7 v6) fun v7 =>
      jn (fun (v8 : Int32) =>
        (lp_X0_runs_4 p0 q) (w1 + v8) (w2 + 1)) fun j38 =>
      if v7 = 0 then
        j38 0
      else
        j38 1
noncomputable def f_X0_runs (n : Nat) (p0 : Nat) : Act Int32 :=
  lp_X0_runs_4 p0 n 0 0
set_option maxHeartbeats 4000000 in
theorem s_lp_X0_runs_4 {X : Cx} (hX : Ok X Pic cX0_runs RX0 3 (some FieldType.int) 3 64) (hnh : Noh X) (p0 : Nat) (q : Nat) : ∀ (w1 : Int32) (w2 : Int32), Sim X cvI 4 [(0, rv p0), (1, .int w1), (2, .int w2)] [] (lp_X0_runs_4 p0 q w1 w2) := by
  induction q with
  | zero => intro w1 w2; exact s_fail
  | succ q ih4 =>
    intro w1 w2
    rw [lp_X0_runs_4]
    refine s_iload_n hX dX0_runs_4 rfl 2 rfl ?_
    refine s_aload_n hX dX0_runs_5 rfl 0 rfl ?_
    refine s_getR (ci := 0) (j := 18) (ref := "WindGas") hX (pcG 0) in_X0 (Or.inl q284) (by decide) (by decide) (by decide) rfl dX0_runs_6 (fun _ h9 => h9) (fun v3 => ?_)
    refine s_callV_I (ci := 17) (n := 0) (As := []) (st := [.int w2]) hX (pcK 18) (by decide) (pt_size X.l v3) q554 q417 q418 q88 q419 yvJ2_size (by decide) rfl (by first | decide | simp [rv_cat, cat_i, cat_l]) dX0_runs_9 (fun v4 => ?_)
    refine s_icmp_ge (tgt := 46) hX dX0_runs_12 (by decide) ?_ ?_
    · refine s_iload_n hX dX0_runs_46 rfl 1 rfl ?_
      exact s_iret hX dX0_runs_47
    · refine s_iload_n hX dX0_runs_15 rfl 1 rfl ?_
      refine s_aload_n hX dX0_runs_16 rfl 0 rfl ?_
      refine s_getR (ci := 0) (j := 18) (ref := "WindGas") hX (pcG 0) in_X0 (Or.inl q284) (by decide) (by decide) (by decide) rfl dX0_runs_17 (fun _ h9 => h9) (fun v5 => ?_)
      refine s_iload_n hX dX0_runs_20 rfl 2 rfl ?_
      refine s_callV_R (ci := 17) (n := 1) (As := [.int w2]) (st := [.int w1]) hX (pcK 18) (by decide) (pt_get X.l v5 w2) q555 q516 q517 q88 q518 yvJ2_get (by decide) rfl (by first | decide | simp [rv_cat, cat_i, cat_l]) dX0_runs_21 (fun v6 => ?_)
      refine s_cast (ks := [7]) hX (elC 6 (by decide)) q1110 dX0_runs_24 ?_
      refine s_getI (ci := 6) (j := 7) (ref := "WindGas$Stack") hX (pcG 6) in_X6 (Or.inr ⟨_, q1126⟩) (by decide) (by decide) (by decide) rfl dX0_runs_27 (fun _ h9 => h9) (fun v7 => ?_)
      refine s_jn (P := fun j => ∀ (v8 : Int32), Sim X cvI 38 [(0, rv p0), (2, .int w2)] [.int v8, .int w1] (j v8)) ?_ (fun j38 hj38 => ?_)
      · intro v8
        refine s_iadd hX dX0_runs_38 ?_
        refine s_istore_n (i := 1) (L2 := [(1, .int (w1 + v8)), (0, rv p0), (2, .int w2)]) hX dX0_runs_39 rfl (by decide) (by first | (simp [rv_cat, cat_i, cat_l]; done) | (simp [rv_cat, cat_i, cat_l]; decide)) ?_
        refine s_iinc (k := 2) (v := (w2 + 1)) (L2 := [(2, .int (w2 + 1)), (1, .int (w1 + v8)), (0, rv p0)]) hX dX0_runs_40 rfl rfl (by decide) rfl ?_
        refine s_goto (tgt := 4) hX dX0_runs_43 (by decide) ?_
        exact s_sub [2, 1, 0] rfl (ih4 (w1 + v8) (w2 + 1))
      · refine s_if_eq (tgt := 37) hX dX0_runs_30 (by decide) ?_ ?_
        · refine s_iconst (v := 0) hX dX0_runs_37 rfl ?_
          exact s_sub [0, 2] rfl (hj38 0)
        · refine s_iconst (v := 1) hX dX0_runs_33 rfl ?_
          refine s_goto (tgt := 38) hX dX0_runs_34 (by decide) ?_
          exact s_sub [0, 2] rfl (hj38 1)
set_option maxHeartbeats 4000000 in
theorem ct_X0_runs (l : Launch) (n : Nat) (p0 : Nat) : Ct l Pic yX0_runs (ws_ yX0_runs cX0_runs 3 (some FieldType.int)) 3 64 cvI [rv p0] (f_X0_runs n p0) := by
  refine Ct.of (own := RX0) (L := [(0, rv p0)]) (plainFor_of_name (by decide)) rfl (by first | decide | simp [lg_sl, rv_cat, cat_i, cat_l]) (by first | rfl | simp [lv_args, rv_cat, cat_i, cat_l]) pcZ (fun X hXl hX hnh hin => ?_)
  subst hXl
  unfold f_X0_runs
  refine s_iconst (v := 0) hX dX0_runs_0 rfl ?_
  refine s_istore_n (i := 1) (L2 := [(1, .int 0), (0, rv p0)]) hX dX0_runs_1 rfl (by decide) (by first | (simp [rv_cat, cat_i, cat_l]; done) | (simp [rv_cat, cat_i, cat_l]; decide)) ?_
  refine s_iconst (v := 0) hX dX0_runs_2 rfl ?_
  refine s_istore_n (i := 2) (L2 := [(2, .int 0), (1, .int 0), (0, rv p0)]) hX dX0_runs_3 rfl (by decide) rfl ?_
  exact s_sub [2, 1, 0] rfl (s_lp_X0_runs_4 hX hnh p0 n 0 0)
theorem dX0_asked_0 : decode cX0_asked 0 = .ok (.aload_n 0, 1) := by decide +kernel
theorem dX0_asked_1 : decode cX0_asked 1 = .ok (.getfield 77, 3) := by decide +kernel
theorem dX0_asked_4 : decode cX0_asked 4 = .ok (.iconst 0, 1) := by decide +kernel
theorem dX0_asked_5 : decode cX0_asked 5 = .ok (.aload_n 0, 1) := by decide +kernel
theorem dX0_asked_6 : decode cX0_asked 6 = .ok (.getfield 14, 3) := by decide +kernel
theorem dX0_asked_9 : decode cX0_asked 9 = .ok (.iload_n 1, 1) := by decide +kernel
theorem dX0_asked_10 : decode cX0_asked 10 = .ok (.invokevirtual 119, 3) := by decide +kernel
theorem dX0_asked_13 : decode cX0_asked 13 = .ok (.i2l, 1) := by decide +kernel
theorem dX0_asked_14 : decode cX0_asked 14 = .ok (.lastore, 1) := by decide +kernel
theorem dX0_asked_15 : decode cX0_asked 15 = .ok (.aload_n 0, 1) := by decide +kernel
theorem dX0_asked_16 : decode cX0_asked 16 = .ok (.getfield 77, 3) := by decide +kernel
theorem dX0_asked_19 : decode cX0_asked 19 = .ok (.iconst 1, 1) := by decide +kernel
theorem dX0_asked_20 : decode cX0_asked 20 = .ok (.aload_n 0, 1) := by decide +kernel
theorem dX0_asked_21 : decode cX0_asked 21 = .ok (.getfield 18, 3) := by decide +kernel
theorem dX0_asked_24 : decode cX0_asked 24 = .ok (.iload_n 1, 1) := by decide +kernel
theorem dX0_asked_25 : decode cX0_asked 25 = .ok (.invokevirtual 119, 3) := by decide +kernel
theorem dX0_asked_28 : decode cX0_asked 28 = .ok (.i2l, 1) := by decide +kernel
theorem dX0_asked_29 : decode cX0_asked 29 = .ok (.lastore, 1) := by decide +kernel
theorem dX0_asked_30 : decode cX0_asked 30 = .ok (.aload_n 0, 1) := by decide +kernel
theorem dX0_asked_31 : decode cX0_asked 31 = .ok (.getfield 77, 3) := by decide +kernel
theorem dX0_asked_34 : decode cX0_asked 34 = .ok (.iconst 2, 1) := by decide +kernel
theorem dX0_asked_35 : decode cX0_asked 35 = .ok (.aload_n 0, 1) := by decide +kernel
theorem dX0_asked_36 : decode cX0_asked 36 = .ok (.getfield 21, 3) := by decide +kernel
theorem dX0_asked_39 : decode cX0_asked 39 = .ok (.iload_n 1, 1) := by decide +kernel
theorem dX0_asked_40 : decode cX0_asked 40 = .ok (.invokevirtual 119, 3) := by decide +kernel
theorem dX0_asked_43 : decode cX0_asked 43 = .ok (.i2l, 1) := by decide +kernel
theorem dX0_asked_44 : decode cX0_asked 44 = .ok (.lastore, 1) := by decide +kernel
theorem dX0_asked_45 : decode cX0_asked 45 = .ok (.aload_n 0, 1) := by decide +kernel
theorem dX0_asked_46 : decode cX0_asked 46 = .ok (.getfield 77, 3) := by decide +kernel
theorem dX0_asked_49 : decode cX0_asked 49 = .ok (.iconst 3, 1) := by decide +kernel
theorem dX0_asked_50 : decode cX0_asked 50 = .ok (.iload_n 1, 1) := by decide +kernel
theorem dX0_asked_51 : decode cX0_asked 51 = .ok (.sipush 144, 3) := by decide +kernel
theorem dX0_asked_54 : decode cX0_asked 54 = .ok (.irem, 1) := by decide +kernel
theorem dX0_asked_55 : decode cX0_asked 55 = .ok (.bipush 6, 2) := by decide +kernel
theorem dX0_asked_57 : decode cX0_asked 57 = .ok (.idiv, 1) := by decide +kernel
theorem dX0_asked_58 : decode cX0_asked 58 = .ok (.i2l, 1) := by decide +kernel
theorem dX0_asked_59 : decode cX0_asked 59 = .ok (.lastore, 1) := by decide +kernel
theorem dX0_asked_60 : decode cX0_asked 60 = .ok (.aload_n 0, 1) := by decide +kernel
theorem dX0_asked_61 : decode cX0_asked 61 = .ok (.getfield 77, 3) := by decide +kernel
theorem dX0_asked_64 : decode cX0_asked 64 = .ok (.iconst 4, 1) := by decide +kernel
theorem dX0_asked_65 : decode cX0_asked 65 = .ok (.iload_n 1, 1) := by decide +kernel
theorem dX0_asked_66 : decode cX0_asked 66 = .ok (.sipush 144, 3) := by decide +kernel
theorem dX0_asked_69 : decode cX0_asked 69 = .ok (.idiv, 1) := by decide +kernel
theorem dX0_asked_70 : decode cX0_asked 70 = .ok (.i2l, 1) := by decide +kernel
theorem dX0_asked_71 : decode cX0_asked 71 = .ok (.lastore, 1) := by decide +kernel
theorem dX0_asked_72 : decode cX0_asked 72 = .ok (.aload_n 0, 1) := by decide +kernel
theorem dX0_asked_73 : decode cX0_asked 73 = .ok (.getfield 77, 3) := by decide +kernel
theorem dX0_asked_76 : decode cX0_asked 76 = .ok (.iconst 5, 1) := by decide +kernel
theorem dX0_asked_77 : decode cX0_asked 77 = .ok (.lload_n 2, 1) := by decide +kernel
theorem dX0_asked_78 : decode cX0_asked 78 = .ok (.lastore, 1) := by decide +kernel
theorem dX0_asked_79 : decode cX0_asked 79 = .ok (.aload_n 0, 1) := by decide +kernel
theorem dX0_asked_80 : decode cX0_asked 80 = .ok (.getfield 77, 3) := by decide +kernel
theorem dX0_asked_83 : decode cX0_asked 83 = .ok (.bipush 6, 2) := by decide +kernel
theorem dX0_asked_85 : decode cX0_asked 85 = .ok (.lload 4, 2) := by decide +kernel
theorem dX0_asked_87 : decode cX0_asked 87 = .ok (.lastore, 1) := by decide +kernel
theorem dX0_asked_88 : decode cX0_asked 88 = .ok (.aload_n 0, 1) := by decide +kernel
theorem dX0_asked_89 : decode cX0_asked 89 = .ok (.getfield 77, 3) := by decide +kernel
theorem dX0_asked_92 : decode cX0_asked 92 = .ok (.bipush 7, 2) := by decide +kernel
theorem dX0_asked_94 : decode cX0_asked 94 = .ok (.lload 6, 2) := by decide +kernel
theorem dX0_asked_96 : decode cX0_asked 96 = .ok (.lastore, 1) := by decide +kernel
theorem dX0_asked_97 : decode cX0_asked 97 = .ok (.return_, 1) := by decide +kernel
theorem ycX0_asked : yX0_asked.cls ≠ "java/lang/invoke/MethodHandle" ∧ yX0_asked.cls ≠ "java/lang/invoke/VarHandle" ∧ (parseMethodDescriptor yX0_asked.desc).map (fun d => d.parameters.length) = some 4 := by decide +kernel
theorem yvX0_asked : yX0_asked.cls = RR 0 ∧ yX0_asked.cls ≠ "java/lang/invoke/MethodHandle" ∧ yX0_asked.cls ≠ "java/lang/invoke/VarHandle" ∧ (parseMethodDescriptor yX0_asked.desc).map (fun d => d.parameters.length) = some 4 := ⟨rfl, ycX0_asked⟩
noncomputable def f_X0_asked (n : Nat) (p0 : Nat) (p1 : Int32) (p2 : Int64) (p3 : Int64) (p4 : Int64) : Act Unit :=
  bnd (getR 0 33 p0) fun v1 =>
  bnd (getR 0 1 p0) fun v2 =>
  bnd (gd 1 v2 (nt (f_X1_at n v2 p1))) fun v3 =>
  bnd (stL 1 v1 0 v3.toInt64) fun _ =>
  bnd (getR 0 33 p0) fun v4 =>
  bnd (getR 0 2 p0) fun v5 =>
  bnd (gd 1 v5 (nt (f_X1_at n v5 p1))) fun v6 =>
  bnd (stL 1 v4 1 v6.toInt64) fun _ =>
  bnd (getR 0 33 p0) fun v7 =>
  bnd (getR 0 3 p0) fun v8 =>
  bnd (gd 1 v8 (nt (f_X1_at n v8 p1))) fun v9 =>
  bnd (stL 1 v7 2 v9.toInt64) fun _ =>
  bnd (getR 0 33 p0) fun v10 =>
  bnd (stL 1 v10 3 (((p1 - p1 / 144 * 144) / 6).toInt64)) fun _ =>
  bnd (getR 0 33 p0) fun v11 =>
  bnd (stL 1 v11 4 ((p1 / 144).toInt64)) fun _ =>
  bnd (getR 0 33 p0) fun v12 =>
  bnd (stL 1 v12 5 p2) fun _ =>
  bnd (getR 0 33 p0) fun v13 =>
  bnd (stL 1 v13 6 p3) fun _ =>
  bnd (getR 0 33 p0) fun v14 =>
  bnd (stL 1 v14 7 p4) fun _ =>
  pur ()
set_option maxHeartbeats 4000000 in
theorem ct_X0_asked (l : Launch) (n : Nat) (p0 : Nat) (p1 : Int32) (p2 : Int64) (p3 : Int64) (p4 : Int64) : Ct l Pic yX0_asked (ws_ yX0_asked cX0_asked 8 none) 4 86 cvU [rv p0, .int p1, .long p2, .long p3, .long p4] (f_X0_asked n p0 p1 p2 p3 p4) := by
  refine Ct.of (own := RX0) (L := [(0, rv p0), (1, .int p1), (2, .long p2), (4, .long p3), (6, .long p4)]) (plainFor_of_name (by decide)) rfl (by first | decide | simp [lg_sl, rv_cat, cat_i, cat_l]) (by first | rfl | simp [lv_args, rv_cat, cat_i, cat_l]) pcZ (fun X hXl hX hnh hin => ?_)
  subst hXl
  unfold f_X0_asked
  refine s_aload_n hX dX0_asked_0 rfl 0 rfl ?_
  refine s_getR (ci := 0) (j := 33) (ref := "WindGas") hX (pcG 0) in_X0 (Or.inl q299) (by decide) (by decide) (by decide) rfl dX0_asked_1 (fun _ h9 => h9) (fun v1 => ?_)
  refine s_iconst (v := 0) hX dX0_asked_4 rfl ?_
  refine s_aload_n hX dX0_asked_5 rfl 0 rfl ?_
  refine s_getR (ci := 0) (j := 1) (ref := "WindGas") hX (pcG 0) in_X0 (Or.inl q267) (by decide) (by decide) (by decide) rfl dX0_asked_6 (fun _ h9 => h9) (fun v2 => ?_)
  refine s_iload_n hX dX0_asked_9 rfl 1 rfl ?_
  refine s_callV_I (ci := 1) (n := 1) (As := [.int p1]) (st := [.int 0, rv v1]) hX (pcK 2) (by decide) (ct_X1_at X.l n v2 p1) q511 q512 q513 q85 q514 yvX1_at (by decide) rfl (by first | decide | simp [rv_cat, cat_i, cat_l]) dX0_asked_10 (fun v3 => ?_)
  refine s_i2l hX dX0_asked_13 ?_
  refine s_last hX (pcA 1) (pcB 1) dX0_asked_14 ?_
  refine s_aload_n hX dX0_asked_15 rfl 0 rfl ?_
  refine s_getR (ci := 0) (j := 33) (ref := "WindGas") hX (pcG 0) in_X0 (Or.inl q299) (by decide) (by decide) (by decide) rfl dX0_asked_16 (fun _ h9 => h9) (fun v4 => ?_)
  refine s_iconst (v := 1) hX dX0_asked_19 rfl ?_
  refine s_aload_n hX dX0_asked_20 rfl 0 rfl ?_
  refine s_getR (ci := 0) (j := 2) (ref := "WindGas") hX (pcG 0) in_X0 (Or.inl q268) (by decide) (by decide) (by decide) rfl dX0_asked_21 (fun _ h9 => h9) (fun v5 => ?_)
  refine s_iload_n hX dX0_asked_24 rfl 1 rfl ?_
  refine s_callV_I (ci := 1) (n := 1) (As := [.int p1]) (st := [.int 1, rv v4]) hX (pcK 2) (by decide) (ct_X1_at X.l n v5 p1) q511 q512 q513 q85 q514 yvX1_at (by decide) rfl (by first | decide | simp [rv_cat, cat_i, cat_l]) dX0_asked_25 (fun v6 => ?_)
  refine s_i2l hX dX0_asked_28 ?_
  refine s_last hX (pcA 1) (pcB 1) dX0_asked_29 ?_
  refine s_aload_n hX dX0_asked_30 rfl 0 rfl ?_
  refine s_getR (ci := 0) (j := 33) (ref := "WindGas") hX (pcG 0) in_X0 (Or.inl q299) (by decide) (by decide) (by decide) rfl dX0_asked_31 (fun _ h9 => h9) (fun v7 => ?_)
  refine s_iconst (v := 2) hX dX0_asked_34 rfl ?_
  refine s_aload_n hX dX0_asked_35 rfl 0 rfl ?_
  refine s_getR (ci := 0) (j := 3) (ref := "WindGas") hX (pcG 0) in_X0 (Or.inl q269) (by decide) (by decide) (by decide) rfl dX0_asked_36 (fun _ h9 => h9) (fun v8 => ?_)
  refine s_iload_n hX dX0_asked_39 rfl 1 rfl ?_
  refine s_callV_I (ci := 1) (n := 1) (As := [.int p1]) (st := [.int 2, rv v7]) hX (pcK 2) (by decide) (ct_X1_at X.l n v8 p1) q511 q512 q513 q85 q514 yvX1_at (by decide) rfl (by first | decide | simp [rv_cat, cat_i, cat_l]) dX0_asked_40 (fun v9 => ?_)
  refine s_i2l hX dX0_asked_43 ?_
  refine s_last hX (pcA 1) (pcB 1) dX0_asked_44 ?_
  refine s_aload_n hX dX0_asked_45 rfl 0 rfl ?_
  refine s_getR (ci := 0) (j := 33) (ref := "WindGas") hX (pcG 0) in_X0 (Or.inl q299) (by decide) (by decide) (by decide) rfl dX0_asked_46 (fun _ h9 => h9) (fun v10 => ?_)
  refine s_iconst (v := 3) hX dX0_asked_49 rfl ?_
  refine s_iload_n hX dX0_asked_50 rfl 1 rfl ?_
  refine s_sipush (v := 144) hX dX0_asked_51 (by decide) ?_
  refine s_iremc hX dX0_asked_54 (by decide) ?_
  refine s_bipush (v := 6) hX dX0_asked_55 (by decide) ?_
  refine s_idivc hX dX0_asked_57 (by decide) ?_
  refine s_i2l hX dX0_asked_58 ?_
  refine s_last hX (pcA 1) (pcB 1) dX0_asked_59 ?_
  refine s_aload_n hX dX0_asked_60 rfl 0 rfl ?_
  refine s_getR (ci := 0) (j := 33) (ref := "WindGas") hX (pcG 0) in_X0 (Or.inl q299) (by decide) (by decide) (by decide) rfl dX0_asked_61 (fun _ h9 => h9) (fun v11 => ?_)
  refine s_iconst (v := 4) hX dX0_asked_64 rfl ?_
  refine s_iload_n hX dX0_asked_65 rfl 1 rfl ?_
  refine s_sipush (v := 144) hX dX0_asked_66 (by decide) ?_
  refine s_idivc hX dX0_asked_69 (by decide) ?_
  refine s_i2l hX dX0_asked_70 ?_
  refine s_last hX (pcA 1) (pcB 1) dX0_asked_71 ?_
  refine s_aload_n hX dX0_asked_72 rfl 0 rfl ?_
  refine s_getR (ci := 0) (j := 33) (ref := "WindGas") hX (pcG 0) in_X0 (Or.inl q299) (by decide) (by decide) (by decide) rfl dX0_asked_73 (fun _ h9 => h9) (fun v12 => ?_)
  refine s_iconst (v := 5) hX dX0_asked_76 rfl ?_
  refine s_lload_n hX dX0_asked_77 rfl 2 rfl ?_
  refine s_last hX (pcA 1) (pcB 1) dX0_asked_78 ?_
  refine s_aload_n hX dX0_asked_79 rfl 0 rfl ?_
  refine s_getR (ci := 0) (j := 33) (ref := "WindGas") hX (pcG 0) in_X0 (Or.inl q299) (by decide) (by decide) (by decide) rfl dX0_asked_80 (fun _ h9 => h9) (fun v13 => ?_)
  refine s_bipush (v := 6) hX dX0_asked_83 (by decide) ?_
  refine s_lload hX dX0_asked_85 3 rfl ?_
  refine s_last hX (pcA 1) (pcB 1) dX0_asked_87 ?_
  refine s_aload_n hX dX0_asked_88 rfl 0 rfl ?_
  refine s_getR (ci := 0) (j := 33) (ref := "WindGas") hX (pcG 0) in_X0 (Or.inl q299) (by decide) (by decide) (by decide) rfl dX0_asked_89 (fun _ h9 => h9) (fun v14 => ?_)
  refine s_bipush (v := 7) hX dX0_asked_92 (by decide) ?_
  refine s_lload hX dX0_asked_94 4 rfl ?_
  refine s_last hX (pcA 1) (pcB 1) dX0_asked_96 ?_
  exact s_vret hX dX0_asked_97
theorem ycX12_holds : yX12_holds.cls ≠ "java/lang/invoke/MethodHandle" ∧ yX12_holds.cls ≠ "java/lang/invoke/VarHandle" ∧ (parseMethodDescriptor yX12_holds.desc).map (fun d => d.parameters.length) = some 1 := by decide +kernel
theorem yvX12_holds : yX12_holds.cls = RR 12 ∧ yX12_holds.cls ≠ "java/lang/invoke/MethodHandle" ∧ yX12_holds.cls ≠ "java/lang/invoke/VarHandle" ∧ (parseMethodDescriptor yX12_holds.desc).map (fun d => d.parameters.length) = some 1 := ⟨rfl, ycX12_holds⟩
theorem ycX13_holds : yX13_holds.cls ≠ "java/lang/invoke/MethodHandle" ∧ yX13_holds.cls ≠ "java/lang/invoke/VarHandle" ∧ (parseMethodDescriptor yX13_holds.desc).map (fun d => d.parameters.length) = some 1 := by decide +kernel
theorem yvX13_holds : yX13_holds.cls = RR 13 ∧ yX13_holds.cls ≠ "java/lang/invoke/MethodHandle" ∧ yX13_holds.cls ≠ "java/lang/invoke/VarHandle" ∧ (parseMethodDescriptor yX13_holds.desc).map (fun d => d.parameters.length) = some 1 := ⟨rfl, ycX13_holds⟩
theorem ycX14_holds : yX14_holds.cls ≠ "java/lang/invoke/MethodHandle" ∧ yX14_holds.cls ≠ "java/lang/invoke/VarHandle" ∧ (parseMethodDescriptor yX14_holds.desc).map (fun d => d.parameters.length) = some 1 := by decide +kernel
theorem yvX14_holds : yX14_holds.cls = RR 14 ∧ yX14_holds.cls ≠ "java/lang/invoke/MethodHandle" ∧ yX14_holds.cls ≠ "java/lang/invoke/VarHandle" ∧ (parseMethodDescriptor yX14_holds.desc).map (fun d => d.parameters.length) = some 1 := ⟨rfl, ycX14_holds⟩
noncomputable def dsp {α : Type} (x : Nat) (fR fN fT : Act α) : Act α := act (fun M => if M.k x = 13 then fR.run M else if M.k x = 14 then fN.run M else if M.k x = 15 then fT.run M else none) (fun M r M' h => by
  by_cases q : M.k x = 13
  · rw [if_pos q] at h; exact fR.mono h
  · rw [if_neg q] at h
    by_cases q : M.k x = 14
    · rw [if_pos q] at h; exact fN.mono h
    · rw [if_neg q] at h
      by_cases q : M.k x = 15
      · rw [if_pos q] at h; exact fT.mono h
      · rw [if_neg q] at h; cases h)
noncomputable def hld (G : Nat → Nat → Nat → Act Int32) (x b : Nat) : Act Int32 := dsp x (nt (G 0 x b)) (nt (G 1 x b)) (nt (G 2 x b))
theorem ycH : (⟨"WindGas$Cond", "holds", "([J)Z"⟩ : MethodName).cls ≠ "java/lang/invoke/MethodHandle" ∧ (⟨"WindGas$Cond", "holds", "([J)Z"⟩ : MethodName).cls ≠ "java/lang/invoke/VarHandle" ∧ (parseMethodDescriptor (⟨"WindGas$Cond", "holds", "([J)Z"⟩ : MethodName).desc).map (fun d => d.parameters.length) = some 1 := by decide +kernel
theorem s_dsp {α β : Type} {X : Cx} {cv : α → Option Value} {pc : Nat} {L : List (Nat × Value)} {st : List Value} {x : Nat} {fR fN fT : Act β} {k : β → Act α} (hR : Sim X cv pc L st (bnd (gd 12 x fR) k)) (hN : Sim X cv pc L st (bnd (gd 13 x fN) k)) (hT : Sim X cv pc L st (bnd (gd 14 x fT) k)) : Sim X cv pc L st (bnd (dsp x fR fN fT) k) := by
  intro M Z H locs ls rr h1
  rw [bnd_run] at h1
  by_cases q : M.k x = 13
  · refine hR M Z H locs ls rr ?_
    rw [bnd_run, gd_of q]
    rw [show (dsp x fR fN fT).run M = fR.run M from if_pos q] at h1
    exact h1
  · by_cases q2 : M.k x = 14
    · refine hN M Z H locs ls rr ?_
      rw [bnd_run, gd_of q2]
      rw [show (dsp x fR fN fT).run M = fN.run M from (if_neg q).trans (if_pos q2)] at h1
      exact h1
    · by_cases q3 : M.k x = 15
      · refine hT M Z H locs ls rr ?_
        rw [bnd_run, gd_of q3]
        rw [show (dsp x fR fN fT).run M = fT.run M from (if_neg q).trans ((if_neg q2).trans (if_pos q3))] at h1
        exact h1
      · rw [show (dsp x fR fN fT).run M = none from (if_neg q).trans ((if_neg q2).trans (if_neg q3))] at h1
        cases h1
theorem s_callH {α : Type} {X : Cx} {cc : ByteArray} {own : String} {nL : Nat} {rt : Option FieldType} {fr lo index count pc frG loG x b : Nat} {cv : α → Option Value} {L : List (Nat × Value)} {st : List Value} {k : Int32 → Act α} (hX : Ok X Pic cc own nL rt fr lo) (K13 : CpK Pic 13) (K14 : CpK Pic 14) (K15 : CpK Pic 15) (G : Nat → Nat → Nat → Act Int32) (hG : (∀ p0 p1, Ct X.l Pic yX12_holds (ws_ yX12_holds cX12_holds 3 (some FieldType.boolean)) frG loG cvI [rv p0, rv p1] (G 0 p0 p1)) ∧ (∀ p0 p1, Ct X.l Pic yX13_holds (ws_ yX13_holds cX13_holds 2 (some FieldType.boolean)) frG loG cvI [rv p0, rv p1] (G 1 p0 p1)) ∧ (∀ p0 p1, Ct X.l Pic yX14_holds (ws_ yX14_holds cX14_holds 2 (some FieldType.boolean)) frG loG cvI [rv p0, rv p1] (G 2 p0 p1)))
    (q1 : Cond.methodLink own index (⟨"WindGas$Cond", "holds", "([J)Z"⟩ : MethodName) ∈ lw_all) (hR : frG + 1 ≤ fr ∧ 8 + (3 + 11) + loG ≤ lo) (hst : (st.map fun v => v.category).sum ≤ 8) (hd : decode cc pc = .ok (.invokeinterface index count, 5)) (h : ∀ v, Sim X cv (pc + 5) L (.int v :: st) (k v)) : Sim X cv pc L (rv b :: rv x :: st) (bnd (hld G x b) k) :=
  s_dsp (s_callF1 (z := (⟨"WindGas$Cond", "holds", "([J)Z"⟩ : MethodName)) (ci := 12) (n := 1) (As := [rv b]) (st := st) (cw := cvI) hX K13 (by decide) (hG.1 x b) q1 q1189 q1187 q114 q1191 q1177 q1176 q1190 q1188 q1186 ycH ⟨hR.1, by have := hR.2; omega⟩ rfl hst hd h)
    (s_callF1 (z := (⟨"WindGas$Cond", "holds", "([J)Z"⟩ : MethodName)) (ci := 13) (n := 1) (As := [rv b]) (st := st) (cw := cvI) hX K14 (by decide) (hG.2.1 x b) q1 q1181 q1179 q115 q1183 q1177 q1176 q1182 q1180 q1178 ycH ⟨hR.1, by have := hR.2; omega⟩ rfl hst hd h)
    (s_callF1 (z := (⟨"WindGas$Cond", "holds", "([J)Z"⟩ : MethodName)) (ci := 14) (n := 1) (As := [rv b]) (st := st) (cw := cvI) hX K15 (by decide) (hG.2.2 x b) q1 q1200 q1198 q116 q1202 q1177 q1176 q1201 q1199 q1197 ycH ⟨hR.1, by have := hR.2; omega⟩ rfl hst hd h)
theorem dX12_holds_0 : decode cX12_holds 0 = .ok (.iconst 0, 1) := by decide +kernel
theorem dX12_holds_1 : decode cX12_holds 1 = .ok (.istore_n 2, 1) := by decide +kernel
theorem dX12_holds_2 : decode cX12_holds 2 = .ok (.iload_n 2, 1) := by decide +kernel
theorem dX12_holds_3 : decode cX12_holds 3 = .ok (.aload_n 0, 1) := by decide +kernel
theorem dX12_holds_4 : decode cX12_holds 4 = .ok (.getfield 10, 3) := by decide +kernel
theorem dX12_holds_7 : decode cX12_holds 7 = .ok (.invokevirtual 24, 3) := by decide +kernel
theorem dX12_holds_10 : decode cX12_holds 10 = .ok (.if_icmp .ge 46, 3) := by decide +kernel
theorem dX12_holds_13 : decode cX12_holds 13 = .ok (.aload_n 0, 1) := by decide +kernel
theorem dX12_holds_14 : decode cX12_holds 14 = .ok (.getfield 10, 3) := by decide +kernel
theorem dX12_holds_17 : decode cX12_holds 17 = .ok (.iload_n 2, 1) := by decide +kernel
theorem dX12_holds_18 : decode cX12_holds 18 = .ok (.invokevirtual 28, 3) := by decide +kernel
theorem dX12_holds_21 : decode cX12_holds 21 = .ok (.checkcast 32, 3) := by decide +kernel
theorem dX12_holds_24 : decode cX12_holds 24 = .ok (.aload_n 1, 1) := by decide +kernel
theorem dX12_holds_25 : decode cX12_holds 25 = .ok (.invokeinterface 34 2, 5) := by decide +kernel
theorem dX12_holds_30 : decode cX12_holds 30 = .ok (.aload_n 0, 1) := by decide +kernel
theorem dX12_holds_31 : decode cX12_holds 31 = .ok (.getfield 16, 3) := by decide +kernel
theorem dX12_holds_34 : decode cX12_holds 34 = .ok (.if_icmp .eq 16, 3) := by decide +kernel
theorem dX12_holds_37 : decode cX12_holds 37 = .ok (.aload_n 0, 1) := by decide +kernel
theorem dX12_holds_38 : decode cX12_holds 38 = .ok (.getfield 16, 3) := by decide +kernel
theorem dX12_holds_41 : decode cX12_holds 41 = .ok (.ifCond .ne 7, 3) := by decide +kernel
theorem dX12_holds_44 : decode cX12_holds 44 = .ok (.iconst 1, 1) := by decide +kernel
theorem dX12_holds_45 : decode cX12_holds 45 = .ok (.goto 4, 3) := by decide +kernel
theorem dX12_holds_48 : decode cX12_holds 48 = .ok (.iconst 0, 1) := by decide +kernel
theorem dX12_holds_49 : decode cX12_holds 49 = .ok (.ireturn, 1) := by decide +kernel
theorem dX12_holds_50 : decode cX12_holds 50 = .ok (.iinc 2 1, 3) := by decide +kernel
theorem dX12_holds_53 : decode cX12_holds 53 = .ok (.goto (-51), 3) := by decide +kernel
theorem dX12_holds_56 : decode cX12_holds 56 = .ok (.aload_n 0, 1) := by decide +kernel
theorem dX12_holds_57 : decode cX12_holds 57 = .ok (.getfield 16, 3) := by decide +kernel
theorem dX12_holds_60 : decode cX12_holds 60 = .ok (.ireturn, 1) := by decide +kernel
noncomputable def lp_X12_holds_2 (G : Nat → Nat → Nat → Act Int32) (p0 : Nat) (p1 : Nat) (j37 : Unit → Act Int32) (q : Nat) : Int32 → Act Int32 := match q with
  | 0 => fun _ => fail
  | q + 1 => fun w1 =>
    bnd (getR 12 1 p0) fun v4 =>
    bnd (gd 17 v4 (nt (P_size v4))) fun v5 =>
    if v5 ≤ w1 then
      bnd (getI 12 0 p0) fun v6 =>
      purS (ty := .boolean) v6
    else
      bnd (getR 12 1 p0) fun v7 =>
      bnd (gd 17 v7 (nt (P_get v7 w1))) fun v8 =>
      bnd (cst [13, 14, 15] v8) fun _ =>
      bnd (hld G v8 p1) fun v9 =>
      bnd (getI 12 0 p0) fun v10 =>
      if v9 = v10 then
        (lp_X12_holds_2 G p0 p1 j37 q) (w1 + 1)
      else
        j37 ()
noncomputable def f_X12_holds (n : Nat) (G : Nat → Nat → Nat → Act Int32) (p0 : Nat) (p1 : Nat) : Act Int32 :=
  jn (fun (_ : Unit) =>
    bnd (getI 12 0 p0) fun v2 =>
    jn (fun (v3 : Int32) =>
      purS (ty := .boolean) v3) fun j49 =>
    if ¬ v2 = 0 then
      j49 0
    else
      j49 1) fun j37 =>
  lp_X12_holds_2 G p0 p1 j37 n 0
set_option maxHeartbeats 4000000 in
theorem s_lp_X12_holds_2 {X : Cx} {frG loG : Nat} (hX : Ok X Pic cX12_holds RX12 3 (some FieldType.boolean) (frG + 4) (loG + 86)) (hnh : Noh X) (G : Nat → Nat → Nat → Act Int32) (hfr : True) (hG : (∀ p0 p1, Ct X.l Pic yX12_holds (ws_ yX12_holds cX12_holds 3 (some FieldType.boolean)) frG loG cvI [rv p0, rv p1] (G 0 p0 p1)) ∧ (∀ p0 p1, Ct X.l Pic yX13_holds (ws_ yX13_holds cX13_holds 2 (some FieldType.boolean)) frG loG cvI [rv p0, rv p1] (G 1 p0 p1)) ∧ (∀ p0 p1, Ct X.l Pic yX14_holds (ws_ yX14_holds cX14_holds 2 (some FieldType.boolean)) frG loG cvI [rv p0, rv p1] (G 2 p0 p1))) (p0 : Nat) (p1 : Nat) (j37 : Unit → Act Int32) (hj37 : ∀ (u : Unit), Sim X cvI 37 [(0, rv p0)] [] (j37 u)) (q : Nat) : ∀ (w1 : Int32), Sim X cvI 2 [(0, rv p0), (1, rv p1), (2, .int w1)] [] (lp_X12_holds_2 G p0 p1 j37 q w1) := by
  induction q with
  | zero => intro w1; exact s_fail
  | succ q ih2 =>
    intro w1
    rw [lp_X12_holds_2]
    refine s_iload_n hX dX12_holds_2 rfl 2 rfl ?_
    refine s_aload_n hX dX12_holds_3 rfl 0 rfl ?_
    refine s_getR (ci := 12) (j := 1) (ref := "WindGas$Row") hX (pcG 12) in_X12 (Or.inl q992) (by decide) (by decide) (by decide) rfl dX12_holds_4 (fun _ h9 => h9) (fun v4 => ?_)
    refine s_callV_I (ci := 17) (n := 0) (As := []) (st := [.int w1]) hX (pcK 18) (by decide) (pt_size X.l v4) q1192 q417 q418 q88 q419 yvJ2_size ⟨by omega, by omega⟩ rfl (by first | decide | simp [rv_cat, cat_i, cat_l]) dX12_holds_7 (fun v5 => ?_)
    refine s_icmp_ge (tgt := 56) hX dX12_holds_10 (by decide) ?_ ?_
    · refine s_aload_n hX dX12_holds_56 rfl 0 rfl ?_
      refine s_getI (ci := 12) (j := 0) (ref := "WindGas$Row") hX (pcG 12) in_X12 (Or.inl q991) (by decide) (by decide) (by decide) rfl dX12_holds_57 (fun _ h9 => h9) (fun v6 => ?_)
      exact s_zret hX dX12_holds_60
    · refine s_aload_n hX dX12_holds_13 rfl 0 rfl ?_
      refine s_getR (ci := 12) (j := 1) (ref := "WindGas$Row") hX (pcG 12) in_X12 (Or.inl q992) (by decide) (by decide) (by decide) rfl dX12_holds_14 (fun _ h9 => h9) (fun v7 => ?_)
      refine s_iload_n hX dX12_holds_17 rfl 2 rfl ?_
      refine s_callV_R (ci := 17) (n := 1) (As := [.int w1]) (st := []) hX (pcK 18) (by decide) (pt_get X.l v7 w1) q1193 q516 q517 q88 q518 yvJ2_get ⟨by omega, by omega⟩ rfl (by first | decide | simp [rv_cat, cat_i, cat_l]) dX12_holds_18 (fun v8 => ?_)
      refine s_cast (ks := [13, 14, 15]) hX elCond q1194 dX12_holds_21 ?_
      refine s_aload_n hX dX12_holds_24 rfl 1 rfl ?_
      refine s_callH (st := []) hX (pcK 13) (pcK 14) (pcK 15) G hG q1196 ⟨by omega, by omega⟩ (by first | decide | simp [rv_cat, cat_i, cat_l]) dX12_holds_25 (fun v9 => ?_)
      refine s_aload_n hX dX12_holds_30 rfl 0 rfl ?_
      refine s_getI (ci := 12) (j := 0) (ref := "WindGas$Row") hX (pcG 12) in_X12 (Or.inl q991) (by decide) (by decide) (by decide) rfl dX12_holds_31 (fun _ h9 => h9) (fun v10 => ?_)
      refine s_icmp_eq (tgt := 50) hX dX12_holds_34 (by decide) ?_ ?_
      · refine s_iinc (k := 2) (v := (w1 + 1)) (L2 := [(2, .int (w1 + 1)), (0, rv p0), (1, rv p1)]) hX dX12_holds_50 rfl rfl (by decide) (by first | (simp [rv_cat, cat_i, cat_l]; done) | (simp [rv_cat, cat_i, cat_l]; decide)) ?_
        refine s_goto (tgt := 2) hX dX12_holds_53 (by decide) ?_
        exact s_sub [1, 2, 0] rfl (ih2 (w1 + 1))
      · exact s_sub [0] rfl (hj37 ())
set_option maxHeartbeats 4000000 in
theorem ct_X12_holds {frG loG : Nat} (l : Launch) (n : Nat) (G : Nat → Nat → Nat → Act Int32) (hfr : True) (hG : (∀ p0 p1, Ct l Pic yX12_holds (ws_ yX12_holds cX12_holds 3 (some FieldType.boolean)) frG loG cvI [rv p0, rv p1] (G 0 p0 p1)) ∧ (∀ p0 p1, Ct l Pic yX13_holds (ws_ yX13_holds cX13_holds 2 (some FieldType.boolean)) frG loG cvI [rv p0, rv p1] (G 1 p0 p1)) ∧ (∀ p0 p1, Ct l Pic yX14_holds (ws_ yX14_holds cX14_holds 2 (some FieldType.boolean)) frG loG cvI [rv p0, rv p1] (G 2 p0 p1))) (p0 : Nat) (p1 : Nat) : Ct l Pic yX12_holds (ws_ yX12_holds cX12_holds 3 (some FieldType.boolean)) (frG + 4) (loG + 86) cvI [rv p0, rv p1] (f_X12_holds n G p0 p1) := by
  refine Ct.of (own := RX12) (L := [(0, rv p0), (1, rv p1)]) (plainFor_of_name (by decide)) rfl (by first | decide | simp [lg_sl, rv_cat, cat_i, cat_l]) (by first | rfl | simp [lv_args, rv_cat, cat_i, cat_l]) pcZ (fun X hXl hX hnh hin => ?_)
  subst hXl
  unfold f_X12_holds
  refine s_iconst (v := 0) hX dX12_holds_0 rfl ?_
  refine s_istore_n (i := 2) (L2 := [(2, .int 0), (0, rv p0), (1, rv p1)]) hX dX12_holds_1 rfl (by decide) (by first | (simp [rv_cat, cat_i, cat_l]; done) | (simp [rv_cat, cat_i, cat_l]; decide)) ?_
  refine s_jn (P := fun j => ∀ (u : Unit), Sim X cvI 37 [(0, rv p0)] [] (j u)) ?_ (fun j37 hj37 => ?_)
  · intro u
    refine s_aload_n hX dX12_holds_37 rfl 0 rfl ?_
    refine s_getI (ci := 12) (j := 0) (ref := "WindGas$Row") hX (pcG 12) in_X12 (Or.inl q991) (by decide) (by decide) (by decide) rfl dX12_holds_38 (fun _ h9 => h9) (fun v2 => ?_)
    refine s_jn (P := fun j => ∀ (v3 : Int32), Sim X cvI 49 [] [.int v3] (j v3)) ?_ (fun j49 hj49 => ?_)
    · intro v3
      exact s_zret hX dX12_holds_49
    · refine s_if_ne (tgt := 48) hX dX12_holds_41 (by decide) ?_ ?_
      · refine s_iconst (v := 0) hX dX12_holds_48 rfl ?_
        exact s_sub [] rfl (hj49 0)
      · refine s_iconst (v := 1) hX dX12_holds_44 rfl ?_
        refine s_goto (tgt := 49) hX dX12_holds_45 (by decide) ?_
        exact s_sub [] rfl (hj49 1)
  · exact s_sub [1, 2, 0] rfl (s_lp_X12_holds_2 hX hnh G trivial hG p0 p1 j37 hj37 n 0)
theorem dX13_holds_0 : decode cX13_holds 0 = .ok (.aload_n 0, 1) := by decide +kernel
theorem dX13_holds_1 : decode cX13_holds 1 = .ok (.getfield 7, 3) := by decide +kernel
theorem dX13_holds_4 : decode cX13_holds 4 = .ok (.aload_n 1, 1) := by decide +kernel
theorem dX13_holds_5 : decode cX13_holds 5 = .ok (.invokeinterface 13 2, 5) := by decide +kernel
theorem dX13_holds_10 : decode cX13_holds 10 = .ok (.ifCond .ne 7, 3) := by decide +kernel
theorem dX13_holds_13 : decode cX13_holds 13 = .ok (.iconst 1, 1) := by decide +kernel
theorem dX13_holds_14 : decode cX13_holds 14 = .ok (.goto 4, 3) := by decide +kernel
theorem dX13_holds_17 : decode cX13_holds 17 = .ok (.iconst 0, 1) := by decide +kernel
theorem dX13_holds_18 : decode cX13_holds 18 = .ok (.ireturn, 1) := by decide +kernel
noncomputable def f_X13_holds (n : Nat) (G : Nat → Nat → Nat → Act Int32) (p0 : Nat) (p1 : Nat) : Act Int32 :=
  bnd (getR 13 0 p0) fun v1 =>
  bnd (hld G v1 p1) fun v2 =>
  jn (fun (v3 : Int32) =>
    purS (ty := .boolean) v3) fun j18 =>
  if ¬ v2 = 0 then
    j18 0
  else
    j18 1
set_option maxHeartbeats 4000000 in
theorem ct_X13_holds {frG loG : Nat} (l : Launch) (n : Nat) (G : Nat → Nat → Nat → Act Int32) (hfr : True) (hG : (∀ p0 p1, Ct l Pic yX12_holds (ws_ yX12_holds cX12_holds 3 (some FieldType.boolean)) frG loG cvI [rv p0, rv p1] (G 0 p0 p1)) ∧ (∀ p0 p1, Ct l Pic yX13_holds (ws_ yX13_holds cX13_holds 2 (some FieldType.boolean)) frG loG cvI [rv p0, rv p1] (G 1 p0 p1)) ∧ (∀ p0 p1, Ct l Pic yX14_holds (ws_ yX14_holds cX14_holds 2 (some FieldType.boolean)) frG loG cvI [rv p0, rv p1] (G 2 p0 p1))) (p0 : Nat) (p1 : Nat) : Ct l Pic yX13_holds (ws_ yX13_holds cX13_holds 2 (some FieldType.boolean)) (frG + 4) (loG + 86) cvI [rv p0, rv p1] (f_X13_holds n G p0 p1) := by
  refine Ct.of (own := RX13) (L := [(0, rv p0), (1, rv p1)]) (plainFor_of_name (by decide)) rfl (by first | decide | simp [lg_sl, rv_cat, cat_i, cat_l]) (by first | rfl | simp [lv_args, rv_cat, cat_i, cat_l]) pcZ (fun X hXl hX hnh hin => ?_)
  subst hXl
  unfold f_X13_holds
  refine s_aload_n hX dX13_holds_0 rfl 0 rfl ?_
  refine s_getR (ci := 13) (j := 0) (ref := "WindGas$Not") hX (pcG 13) in_X13 (Or.inl q956) (by decide) (by decide) (by decide) rfl dX13_holds_1 (fun _ h9 => h9) (fun v1 => ?_)
  refine s_aload_n hX dX13_holds_4 rfl 1 rfl ?_
  refine s_callH (st := []) hX (pcK 13) (pcK 14) (pcK 15) G hG q1185 ⟨by omega, by omega⟩ (by first | decide | simp [rv_cat, cat_i, cat_l]) dX13_holds_5 (fun v2 => ?_)
  refine s_jn (P := fun j => ∀ (v3 : Int32), Sim X cvI 18 [] [.int v3] (j v3)) ?_ (fun j18 hj18 => ?_)
  · intro v3
    exact s_zret hX dX13_holds_18
  · refine s_if_ne (tgt := 17) hX dX13_holds_10 (by decide) ?_ ?_
    · refine s_iconst (v := 0) hX dX13_holds_17 rfl ?_
      exact s_sub [] rfl (hj18 0)
    · refine s_iconst (v := 1) hX dX13_holds_13 rfl ?_
      refine s_goto (tgt := 18) hX dX13_holds_14 (by decide) ?_
      exact s_sub [] rfl (hj18 1)
theorem dX14_holds_0 : decode cX14_holds 0 = .ok (.aload_n 0, 1) := by decide +kernel
theorem dX14_holds_1 : decode cX14_holds 1 = .ok (.getfield 13, 3) := by decide +kernel
theorem dX14_holds_4 : decode cX14_holds 4 = .ok (.bipush 60, 2) := by decide +kernel
theorem dX14_holds_6 : decode cX14_holds 6 = .ok (.if_icmp .ne 26, 3) := by decide +kernel
theorem dX14_holds_9 : decode cX14_holds 9 = .ok (.aload_n 1, 1) := by decide +kernel
theorem dX14_holds_10 : decode cX14_holds 10 = .ok (.aload_n 0, 1) := by decide +kernel
theorem dX14_holds_11 : decode cX14_holds 11 = .ok (.getfield 7, 3) := by decide +kernel
theorem dX14_holds_14 : decode cX14_holds 14 = .ok (.laload, 1) := by decide +kernel
theorem dX14_holds_15 : decode cX14_holds 15 = .ok (.aload_n 0, 1) := by decide +kernel
theorem dX14_holds_16 : decode cX14_holds 16 = .ok (.getfield 16, 3) := by decide +kernel
theorem dX14_holds_19 : decode cX14_holds 19 = .ok (.i2l, 1) := by decide +kernel
theorem dX14_holds_20 : decode cX14_holds 20 = .ok (.lcmp, 1) := by decide +kernel
theorem dX14_holds_21 : decode cX14_holds 21 = .ok (.ifCond .ge 7, 3) := by decide +kernel
theorem dX14_holds_24 : decode cX14_holds 24 = .ok (.iconst 1, 1) := by decide +kernel
theorem dX14_holds_25 : decode cX14_holds 25 = .ok (.goto 59, 3) := by decide +kernel
theorem dX14_holds_28 : decode cX14_holds 28 = .ok (.iconst 0, 1) := by decide +kernel
theorem dX14_holds_29 : decode cX14_holds 29 = .ok (.goto 55, 3) := by decide +kernel
theorem dX14_holds_32 : decode cX14_holds 32 = .ok (.aload_n 0, 1) := by decide +kernel
theorem dX14_holds_33 : decode cX14_holds 33 = .ok (.getfield 13, 3) := by decide +kernel
theorem dX14_holds_36 : decode cX14_holds 36 = .ok (.bipush 62, 2) := by decide +kernel
theorem dX14_holds_38 : decode cX14_holds 38 = .ok (.if_icmp .ne 26, 3) := by decide +kernel
theorem dX14_holds_41 : decode cX14_holds 41 = .ok (.aload_n 1, 1) := by decide +kernel
theorem dX14_holds_42 : decode cX14_holds 42 = .ok (.aload_n 0, 1) := by decide +kernel
theorem dX14_holds_43 : decode cX14_holds 43 = .ok (.getfield 7, 3) := by decide +kernel
theorem dX14_holds_46 : decode cX14_holds 46 = .ok (.laload, 1) := by decide +kernel
theorem dX14_holds_47 : decode cX14_holds 47 = .ok (.aload_n 0, 1) := by decide +kernel
theorem dX14_holds_48 : decode cX14_holds 48 = .ok (.getfield 16, 3) := by decide +kernel
theorem dX14_holds_51 : decode cX14_holds 51 = .ok (.i2l, 1) := by decide +kernel
theorem dX14_holds_52 : decode cX14_holds 52 = .ok (.lcmp, 1) := by decide +kernel
theorem dX14_holds_53 : decode cX14_holds 53 = .ok (.ifCond .le 7, 3) := by decide +kernel
theorem dX14_holds_56 : decode cX14_holds 56 = .ok (.iconst 1, 1) := by decide +kernel
theorem dX14_holds_57 : decode cX14_holds 57 = .ok (.goto 27, 3) := by decide +kernel
theorem dX14_holds_60 : decode cX14_holds 60 = .ok (.iconst 0, 1) := by decide +kernel
theorem dX14_holds_61 : decode cX14_holds 61 = .ok (.goto 23, 3) := by decide +kernel
theorem dX14_holds_64 : decode cX14_holds 64 = .ok (.aload_n 1, 1) := by decide +kernel
theorem dX14_holds_65 : decode cX14_holds 65 = .ok (.aload_n 0, 1) := by decide +kernel
theorem dX14_holds_66 : decode cX14_holds 66 = .ok (.getfield 7, 3) := by decide +kernel
theorem dX14_holds_69 : decode cX14_holds 69 = .ok (.laload, 1) := by decide +kernel
theorem dX14_holds_70 : decode cX14_holds 70 = .ok (.aload_n 0, 1) := by decide +kernel
theorem dX14_holds_71 : decode cX14_holds 71 = .ok (.getfield 16, 3) := by decide +kernel
theorem dX14_holds_74 : decode cX14_holds 74 = .ok (.i2l, 1) := by decide +kernel
theorem dX14_holds_75 : decode cX14_holds 75 = .ok (.lcmp, 1) := by decide +kernel
theorem dX14_holds_76 : decode cX14_holds 76 = .ok (.ifCond .ne 7, 3) := by decide +kernel
theorem dX14_holds_79 : decode cX14_holds 79 = .ok (.iconst 1, 1) := by decide +kernel
theorem dX14_holds_80 : decode cX14_holds 80 = .ok (.goto 4, 3) := by decide +kernel
theorem dX14_holds_83 : decode cX14_holds 83 = .ok (.iconst 0, 1) := by decide +kernel
theorem dX14_holds_84 : decode cX14_holds 84 = .ok (.ireturn, 1) := by decide +kernel
noncomputable def f_X14_holds (n : Nat) (G : Nat → Nat → Nat → Act Int32) (p0 : Nat) (p1 : Nat) : Act Int32 :=
  bnd (getI 14 1 p0) fun v1 =>
  jn (fun (v2 : Int32) =>
    purS (ty := .boolean) v2) fun j84 =>
  if ¬ v1 = 60 then
    bnd (getI 14 1 p0) fun v3 =>
    if ¬ v3 = 62 then
      bnd (getI 14 0 p0) fun v4 =>
      bnd (ldL 1 p1 v4) fun v5 =>
      bnd (getI 14 2 p0) fun v6 =>
      if ¬ (lg_cmp v5 v6.toInt64) = 0 then
        j84 0
      else
        j84 1
    else
      bnd (getI 14 0 p0) fun v7 =>
      bnd (ldL 1 p1 v7) fun v8 =>
      bnd (getI 14 2 p0) fun v9 =>
      if (lg_cmp v8 v9.toInt64) ≤ 0 then
        j84 0
      else
        j84 1
  else
    bnd (getI 14 0 p0) fun v10 =>
    bnd (ldL 1 p1 v10) fun v11 =>
    bnd (getI 14 2 p0) fun v12 =>
    if 0 ≤ (lg_cmp v11 v12.toInt64) then
      j84 0
    else
      j84 1
set_option maxHeartbeats 4000000 in
theorem ct_X14_holds {frG loG : Nat} (l : Launch) (n : Nat) (G : Nat → Nat → Nat → Act Int32) (hfr : True) (hG : (∀ p0 p1, Ct l Pic yX12_holds (ws_ yX12_holds cX12_holds 3 (some FieldType.boolean)) frG loG cvI [rv p0, rv p1] (G 0 p0 p1)) ∧ (∀ p0 p1, Ct l Pic yX13_holds (ws_ yX13_holds cX13_holds 2 (some FieldType.boolean)) frG loG cvI [rv p0, rv p1] (G 1 p0 p1)) ∧ (∀ p0 p1, Ct l Pic yX14_holds (ws_ yX14_holds cX14_holds 2 (some FieldType.boolean)) frG loG cvI [rv p0, rv p1] (G 2 p0 p1))) (p0 : Nat) (p1 : Nat) : Ct l Pic yX14_holds (ws_ yX14_holds cX14_holds 2 (some FieldType.boolean)) (frG + 4) (loG + 86) cvI [rv p0, rv p1] (f_X14_holds n G p0 p1) := by
  refine Ct.of (own := RX14) (L := [(0, rv p0), (1, rv p1)]) (plainFor_of_name (by decide)) rfl (by first | decide | simp [lg_sl, rv_cat, cat_i, cat_l]) (by first | rfl | simp [lv_args, rv_cat, cat_i, cat_l]) pcZ (fun X hXl hX hnh hin => ?_)
  subst hXl
  unfold f_X14_holds
  refine s_aload_n hX dX14_holds_0 rfl 0 rfl ?_
  refine s_getI (ci := 14) (j := 1) (ref := "WindGas$Test") hX (pcG 14) in_X14 (Or.inl q975) (by decide) (by decide) (by decide) rfl dX14_holds_1 (fun _ h9 => h9) (fun v1 => ?_)
  refine s_bipush (v := 60) hX dX14_holds_4 (by decide) ?_
  refine s_jn (P := fun j => ∀ (v2 : Int32), Sim X cvI 84 [] [.int v2] (j v2)) ?_ (fun j84 hj84 => ?_)
  · intro v2
    exact s_zret hX dX14_holds_84
  · refine s_icmp_ne (tgt := 32) hX dX14_holds_6 (by decide) ?_ ?_
    · refine s_aload_n hX dX14_holds_32 rfl 0 rfl ?_
      refine s_getI (ci := 14) (j := 1) (ref := "WindGas$Test") hX (pcG 14) in_X14 (Or.inl q975) (by decide) (by decide) (by decide) rfl dX14_holds_33 (fun _ h9 => h9) (fun v3 => ?_)
      refine s_bipush (v := 62) hX dX14_holds_36 (by decide) ?_
      refine s_icmp_ne (tgt := 64) hX dX14_holds_38 (by decide) ?_ ?_
      · refine s_aload_n hX dX14_holds_64 rfl 1 rfl ?_
        refine s_aload_n hX dX14_holds_65 rfl 0 rfl ?_
        refine s_getI (ci := 14) (j := 0) (ref := "WindGas$Test") hX (pcG 14) in_X14 (Or.inl q974) (by decide) (by decide) (by decide) rfl dX14_holds_66 (fun _ h9 => h9) (fun v4 => ?_)
        refine s_lald hX (pcA 1) dX14_holds_69 (fun v5 => ?_)
        refine s_aload_n hX dX14_holds_70 rfl 0 rfl ?_
        refine s_getI (ci := 14) (j := 2) (ref := "WindGas$Test") hX (pcG 14) in_X14 (Or.inl q976) (by decide) (by decide) (by decide) rfl dX14_holds_71 (fun _ h9 => h9) (fun v6 => ?_)
        refine s_i2l hX dX14_holds_74 ?_
        refine s_lcmp hX dX14_holds_75 ?_
        refine s_if_ne (tgt := 83) hX dX14_holds_76 (by decide) ?_ ?_
        · refine s_iconst (v := 0) hX dX14_holds_83 rfl ?_
          exact s_sub [] rfl (hj84 0)
        · refine s_iconst (v := 1) hX dX14_holds_79 rfl ?_
          refine s_goto (tgt := 84) hX dX14_holds_80 (by decide) ?_
          exact s_sub [] rfl (hj84 1)
      · refine s_aload_n hX dX14_holds_41 rfl 1 rfl ?_
        refine s_aload_n hX dX14_holds_42 rfl 0 rfl ?_
        refine s_getI (ci := 14) (j := 0) (ref := "WindGas$Test") hX (pcG 14) in_X14 (Or.inl q974) (by decide) (by decide) (by decide) rfl dX14_holds_43 (fun _ h9 => h9) (fun v7 => ?_)
        refine s_lald hX (pcA 1) dX14_holds_46 (fun v8 => ?_)
        refine s_aload_n hX dX14_holds_47 rfl 0 rfl ?_
        refine s_getI (ci := 14) (j := 2) (ref := "WindGas$Test") hX (pcG 14) in_X14 (Or.inl q976) (by decide) (by decide) (by decide) rfl dX14_holds_48 (fun _ h9 => h9) (fun v9 => ?_)
        refine s_i2l hX dX14_holds_51 ?_
        refine s_lcmp hX dX14_holds_52 ?_
        refine s_if_le (tgt := 60) hX dX14_holds_53 (by decide) ?_ ?_
        · refine s_iconst (v := 0) hX dX14_holds_60 rfl ?_
          refine s_goto (tgt := 84) hX dX14_holds_61 (by decide) ?_
          exact s_sub [] rfl (hj84 0)
        · refine s_iconst (v := 1) hX dX14_holds_56 rfl ?_
          refine s_goto (tgt := 84) hX dX14_holds_57 (by decide) ?_
          exact s_sub [] rfl (hj84 1)
    · refine s_aload_n hX dX14_holds_9 rfl 1 rfl ?_
      refine s_aload_n hX dX14_holds_10 rfl 0 rfl ?_
      refine s_getI (ci := 14) (j := 0) (ref := "WindGas$Test") hX (pcG 14) in_X14 (Or.inl q974) (by decide) (by decide) (by decide) rfl dX14_holds_11 (fun _ h9 => h9) (fun v10 => ?_)
      refine s_lald hX (pcA 1) dX14_holds_14 (fun v11 => ?_)
      refine s_aload_n hX dX14_holds_15 rfl 0 rfl ?_
      refine s_getI (ci := 14) (j := 2) (ref := "WindGas$Test") hX (pcG 14) in_X14 (Or.inl q976) (by decide) (by decide) (by decide) rfl dX14_holds_16 (fun _ h9 => h9) (fun v12 => ?_)
      refine s_i2l hX dX14_holds_19 ?_
      refine s_lcmp hX dX14_holds_20 ?_
      refine s_if_ge (tgt := 28) hX dX14_holds_21 (by decide) ?_ ?_
      · refine s_iconst (v := 0) hX dX14_holds_28 rfl ?_
        refine s_goto (tgt := 84) hX dX14_holds_29 (by decide) ?_
        exact s_sub [] rfl (hj84 0)
      · refine s_iconst (v := 1) hX dX14_holds_24 rfl ?_
        refine s_goto (tgt := 84) hX dX14_holds_25 (by decide) ?_
        exact s_sub [] rfl (hj84 1)
noncomputable def g_cond (n d : Nat) : Nat → Nat → Nat → Act Int32 := match d with
  | 0 => fun _ _ _ => fail
  | d + 1 => fun i x0 x1 => if i = 0 then f_X12_holds n (g_cond n d) x0 x1 else if i = 1 then f_X13_holds n (g_cond n d) x0 x1 else f_X14_holds n (g_cond n d) x0 x1
theorem g_cond_ct (l : Launch) (n d : Nat) : (∀ x0 x1, Ct l Pic yX12_holds (ws_ yX12_holds cX12_holds 3 (some FieldType.boolean)) (4 * d) (86 * d) cvI [rv x0, rv x1] (g_cond n d 0 x0 x1)) ∧ (∀ x0 x1, Ct l Pic yX13_holds (ws_ yX13_holds cX13_holds 2 (some FieldType.boolean)) (4 * d) (86 * d) cvI [rv x0, rv x1] (g_cond n d 1 x0 x1)) ∧ (∀ x0 x1, Ct l Pic yX14_holds (ws_ yX14_holds cX14_holds 2 (some FieldType.boolean)) (4 * d) (86 * d) cvI [rv x0, rv x1] (g_cond n d 2 x0 x1)) := by
  induction d with
  | zero => exact ⟨fun x0 x1 => Ct.fail, fun x0 x1 => Ct.fail, fun x0 x1 => Ct.fail⟩
  | succ d ih =>
    exact ⟨fun x0 x1 => ct_X12_holds l n (g_cond n d) trivial ih x0 x1, fun x0 x1 => ct_X13_holds l n (g_cond n d) trivial ih x0 x1, fun x0 x1 => ct_X14_holds l n (g_cond n d) trivial ih x0 x1⟩
theorem dX2_any_0 : decode cX2_any 0 = .ok (.iconst 0, 1) := by decide +kernel
theorem dX2_any_1 : decode cX2_any 1 = .ok (.istore_n 2, 1) := by decide +kernel
theorem dX2_any_2 : decode cX2_any 2 = .ok (.iload_n 2, 1) := by decide +kernel
theorem dX2_any_3 : decode cX2_any 3 = .ok (.aload_n 0, 1) := by decide +kernel
theorem dX2_any_4 : decode cX2_any 4 = .ok (.invokevirtual 41, 3) := by decide +kernel
theorem dX2_any_7 : decode cX2_any 7 = .ok (.if_icmp .ge 28, 3) := by decide +kernel
theorem dX2_any_10 : decode cX2_any 10 = .ok (.aload_n 0, 1) := by decide +kernel
theorem dX2_any_11 : decode cX2_any 11 = .ok (.iload_n 2, 1) := by decide +kernel
theorem dX2_any_12 : decode cX2_any 12 = .ok (.invokevirtual 45, 3) := by decide +kernel
theorem dX2_any_15 : decode cX2_any 15 = .ok (.checkcast 49, 3) := by decide +kernel
theorem dX2_any_18 : decode cX2_any 18 = .ok (.aload_n 1, 1) := by decide +kernel
theorem dX2_any_19 : decode cX2_any 19 = .ok (.invokeinterface 51 2, 5) := by decide +kernel
theorem dX2_any_24 : decode cX2_any 24 = .ok (.ifCond .eq 5, 3) := by decide +kernel
theorem dX2_any_27 : decode cX2_any 27 = .ok (.iconst 1, 1) := by decide +kernel
theorem dX2_any_28 : decode cX2_any 28 = .ok (.ireturn, 1) := by decide +kernel
theorem dX2_any_29 : decode cX2_any 29 = .ok (.iinc 2 1, 3) := by decide +kernel
theorem dX2_any_32 : decode cX2_any 32 = .ok (.goto (-30), 3) := by decide +kernel
theorem dX2_any_35 : decode cX2_any 35 = .ok (.iconst 0, 1) := by decide +kernel
theorem dX2_any_36 : decode cX2_any 36 = .ok (.ireturn, 1) := by decide +kernel
theorem ycX2_any : yX2_any.cls ≠ "java/lang/invoke/MethodHandle" ∧ yX2_any.cls ≠ "java/lang/invoke/VarHandle" ∧ (parseMethodDescriptor yX2_any.desc).map (fun d => d.parameters.length) = some 2 := by decide +kernel
noncomputable def lp_X2_any_2 (n : Nat) (p0 : Nat) (p1 : Nat) (q : Nat) : Int32 → Act Int32 := match q with
  | 0 => fun _ => fail
  | q + 1 => fun w1 =>
    bnd (gd 17 p0 (nt (P_size p0))) fun v2 =>
    if v2 ≤ w1 then
      purS (ty := .boolean) 0
    else
      bnd (gd 17 p0 (nt (P_get p0 w1))) fun v3 =>
      bnd (cst [13, 14, 15] v3) fun _ =>
      bnd (hld (g_cond n 40) v3 p1) fun v4 =>
      if v4 = 0 then
        (lp_X2_any_2 n p0 p1 q) (w1 + 1)
      else
        purS (ty := .boolean) 1
noncomputable def f_X2_any (n : Nat) (p0 : Nat) (p1 : Nat) : Act Int32 :=
  lp_X2_any_2 n p0 p1 n 0
set_option maxHeartbeats 4000000 in
theorem s_lp_X2_any_2 {X : Cx} (hX : Ok X Pic cX2_any RX2 3 (some FieldType.boolean) 161 3462) (hnh : Noh X) (n : Nat) (p0 : Nat) (p1 : Nat) (q : Nat) : ∀ (w1 : Int32), Sim X cvI 2 [(0, rv p0), (1, rv p1), (2, .int w1)] [] (lp_X2_any_2 n p0 p1 q w1) := by
  induction q with
  | zero => intro w1; exact s_fail
  | succ q ih2 =>
    intro w1
    rw [lp_X2_any_2]
    refine s_iload_n hX dX2_any_2 rfl 2 rfl ?_
    refine s_aload_n hX dX2_any_3 rfl 0 rfl ?_
    refine s_callV_I (ci := 17) (n := 0) (As := []) (st := [.int w1]) hX (pcK 18) (by decide) (pt_size X.l p0) q1171 q417 q418 q88 q419 yvJ2_size (by decide) rfl (by first | decide | simp [rv_cat, cat_i, cat_l]) dX2_any_4 (fun v2 => ?_)
    refine s_icmp_ge (tgt := 35) hX dX2_any_7 (by decide) ?_ ?_
    · refine s_iconst (v := 0) hX dX2_any_35 rfl ?_
      exact s_zret hX dX2_any_36
    · refine s_aload_n hX dX2_any_10 rfl 0 rfl ?_
      refine s_iload_n hX dX2_any_11 rfl 2 rfl ?_
      refine s_callV_R (ci := 17) (n := 1) (As := [.int w1]) (st := []) hX (pcK 18) (by decide) (pt_get X.l p0 w1) q1172 q516 q517 q88 q518 yvJ2_get (by decide) rfl (by first | decide | simp [rv_cat, cat_i, cat_l]) dX2_any_12 (fun v3 => ?_)
      refine s_cast (ks := [13, 14, 15]) hX elCond q1173 dX2_any_15 ?_
      refine s_aload_n hX dX2_any_18 rfl 1 rfl ?_
      refine s_callH (st := []) hX (pcK 13) (pcK 14) (pcK 15) (g_cond n 40) (g_cond_ct X.l n 40) q1175 (by decide) (by first | decide | simp [rv_cat, cat_i, cat_l]) dX2_any_19 (fun v4 => ?_)
      refine s_if_eq (tgt := 29) hX dX2_any_24 (by decide) ?_ ?_
      · refine s_iinc (k := 2) (v := (w1 + 1)) (L2 := [(2, .int (w1 + 1)), (0, rv p0), (1, rv p1)]) hX dX2_any_29 rfl rfl (by decide) (by first | (simp [rv_cat, cat_i, cat_l]; done) | (simp [rv_cat, cat_i, cat_l]; decide)) ?_
        refine s_goto (tgt := 2) hX dX2_any_32 (by decide) ?_
        exact s_sub [1, 2, 0] rfl (ih2 (w1 + 1))
      · refine s_iconst (v := 1) hX dX2_any_27 rfl ?_
        exact s_zret hX dX2_any_28
set_option maxHeartbeats 4000000 in
theorem ct_X2_any (l : Launch) (n : Nat) (p0 : Nat) (p1 : Nat) : Ct l Pic yX2_any (ws_ yX2_any cX2_any 3 (some FieldType.boolean)) 161 3462 cvI [rv p0, rv p1] (f_X2_any n p0 p1) := by
  refine Ct.of (own := RX2) (L := [(0, rv p0), (1, rv p1)]) (plainFor_of_name (by decide)) rfl (by first | decide | simp [lg_sl, rv_cat, cat_i, cat_l]) (by first | rfl | simp [lv_args, rv_cat, cat_i, cat_l]) pcZ (fun X hXl hX hnh hin => ?_)
  subst hXl
  unfold f_X2_any
  refine s_iconst (v := 0) hX dX2_any_0 rfl ?_
  refine s_istore_n (i := 2) (L2 := [(2, .int 0), (0, rv p0), (1, rv p1)]) hX dX2_any_1 rfl (by decide) (by first | (simp [rv_cat, cat_i, cat_l]; done) | (simp [rv_cat, cat_i, cat_l]; decide)) ?_
  exact s_sub [1, 2, 0] rfl (s_lp_X2_any_2 hX hnh n p0 p1 n 0)
theorem dX0_isAhead_0 : decode cX0_isAhead 0 = .ok (.aload_n 0, 1) := by decide +kernel
theorem dX0_isAhead_1 : decode cX0_isAhead 1 = .ok (.getfield 156, 3) := by decide +kernel
theorem dX0_isAhead_4 : decode cX0_isAhead 4 = .ok (.ifCond .eq 22, 3) := by decide +kernel
theorem dX0_isAhead_7 : decode cX0_isAhead 7 = .ok (.aload_n 1, 1) := by decide +kernel
theorem dX0_isAhead_8 : decode cX0_isAhead 8 = .ok (.getfield 435, 3) := by decide +kernel
theorem dX0_isAhead_11 : decode cX0_isAhead 11 = .ok (.aload_n 2, 1) := by decide +kernel
theorem dX0_isAhead_12 : decode cX0_isAhead 12 = .ok (.getfield 435, 3) := by decide +kernel
theorem dX0_isAhead_15 : decode cX0_isAhead 15 = .ok (.if_icmp .le 7, 3) := by decide +kernel
theorem dX0_isAhead_18 : decode cX0_isAhead 18 = .ok (.iconst 1, 1) := by decide +kernel
theorem dX0_isAhead_19 : decode cX0_isAhead 19 = .ok (.goto 23, 3) := by decide +kernel
theorem dX0_isAhead_22 : decode cX0_isAhead 22 = .ok (.iconst 0, 1) := by decide +kernel
theorem dX0_isAhead_23 : decode cX0_isAhead 23 = .ok (.goto 19, 3) := by decide +kernel
theorem dX0_isAhead_26 : decode cX0_isAhead 26 = .ok (.aload_n 1, 1) := by decide +kernel
theorem dX0_isAhead_27 : decode cX0_isAhead 27 = .ok (.getfield 435, 3) := by decide +kernel
theorem dX0_isAhead_30 : decode cX0_isAhead 30 = .ok (.aload_n 2, 1) := by decide +kernel
theorem dX0_isAhead_31 : decode cX0_isAhead 31 = .ok (.getfield 435, 3) := by decide +kernel
theorem dX0_isAhead_34 : decode cX0_isAhead 34 = .ok (.if_icmp .ge 7, 3) := by decide +kernel
theorem dX0_isAhead_37 : decode cX0_isAhead 37 = .ok (.iconst 1, 1) := by decide +kernel
theorem dX0_isAhead_38 : decode cX0_isAhead 38 = .ok (.goto 4, 3) := by decide +kernel
theorem dX0_isAhead_41 : decode cX0_isAhead 41 = .ok (.iconst 0, 1) := by decide +kernel
theorem dX0_isAhead_42 : decode cX0_isAhead 42 = .ok (.ireturn, 1) := by decide +kernel
theorem ycX0_isAhead : yX0_isAhead.cls ≠ "java/lang/invoke/MethodHandle" ∧ yX0_isAhead.cls ≠ "java/lang/invoke/VarHandle" ∧ (parseMethodDescriptor yX0_isAhead.desc).map (fun d => d.parameters.length) = some 3 := by decide +kernel
noncomputable def f_X0_isAhead (p0 : Nat) (p1 : Nat) (p2 : Nat) : Act Int32 :=
  bnd (getI 2 7 p0) fun v1 =>
  jn (fun (v2 : Int32) =>
    purS (ty := .boolean) v2) fun j42 =>
  if v1 = 0 then
    bnd (getI 6 4 p1) fun v3 =>
    bnd (getI 6 4 p2) fun v4 =>
    if v4 ≤ v3 then
      j42 0
    else
      j42 1
  else
    bnd (getI 6 4 p1) fun v5 =>
    bnd (getI 6 4 p2) fun v6 =>
    if v5 ≤ v6 then
      j42 0
    else
      j42 1
set_option maxHeartbeats 4000000 in
theorem ct_X0_isAhead (l : Launch) (p0 : Nat) (p1 : Nat) (p2 : Nat) : Ct l Pic yX0_isAhead (ws_ yX0_isAhead cX0_isAhead 3 (some FieldType.boolean)) 0 0 cvI [rv p0, rv p1, rv p2] (f_X0_isAhead p0 p1 p2) := by
  refine Ct.of (own := RX0) (L := [(0, rv p0), (1, rv p1), (2, rv p2)]) (plainFor_of_name (by decide)) rfl (by first | decide | simp [lg_sl, rv_cat, cat_i, cat_l]) (by first | rfl | simp [lv_args, rv_cat, cat_i, cat_l]) pcZ (fun X hXl hX hnh hin => ?_)
  subst hXl
  unfold f_X0_isAhead
  refine s_aload_n hX dX0_isAhead_0 rfl 0 rfl ?_
  refine s_getI (ci := 2) (j := 7) (ref := "WindGas$Rules") hX (pcG 2) in_X2 (Or.inr ⟨_, q194⟩) (by decide) (by decide) (by decide) rfl dX0_isAhead_1 (fun _ h9 => h9) (fun v1 => ?_)
  refine s_jn (P := fun j => ∀ (v2 : Int32), Sim X cvI 42 [] [.int v2] (j v2)) ?_ (fun j42 hj42 => ?_)
  · intro v2
    exact s_zret hX dX0_isAhead_42
  · refine s_if_eq (tgt := 26) hX dX0_isAhead_4 (by decide) ?_ ?_
    · refine s_aload_n hX dX0_isAhead_26 rfl 1 rfl ?_
      refine s_getI (ci := 6) (j := 4) (ref := "WindGas$Stack") hX (pcG 6) in_X6 (Or.inr ⟨_, q1123⟩) (by decide) (by decide) (by decide) rfl dX0_isAhead_27 (fun _ h9 => h9) (fun v3 => ?_)
      refine s_aload_n hX dX0_isAhead_30 rfl 2 rfl ?_
      refine s_getI (ci := 6) (j := 4) (ref := "WindGas$Stack") hX (pcG 6) in_X6 (Or.inr ⟨_, q1123⟩) (by decide) (by decide) (by decide) rfl dX0_isAhead_31 (fun _ h9 => h9) (fun v4 => ?_)
      refine s_icmp_ge (tgt := 41) hX dX0_isAhead_34 (by decide) ?_ ?_
      · refine s_iconst (v := 0) hX dX0_isAhead_41 rfl ?_
        exact s_sub [] rfl (hj42 0)
      · refine s_iconst (v := 1) hX dX0_isAhead_37 rfl ?_
        refine s_goto (tgt := 42) hX dX0_isAhead_38 (by decide) ?_
        exact s_sub [] rfl (hj42 1)
    · refine s_aload_n hX dX0_isAhead_7 rfl 1 rfl ?_
      refine s_getI (ci := 6) (j := 4) (ref := "WindGas$Stack") hX (pcG 6) in_X6 (Or.inr ⟨_, q1123⟩) (by decide) (by decide) (by decide) rfl dX0_isAhead_8 (fun _ h9 => h9) (fun v5 => ?_)
      refine s_aload_n hX dX0_isAhead_11 rfl 2 rfl ?_
      refine s_getI (ci := 6) (j := 4) (ref := "WindGas$Stack") hX (pcG 6) in_X6 (Or.inr ⟨_, q1123⟩) (by decide) (by decide) (by decide) rfl dX0_isAhead_12 (fun _ h9 => h9) (fun v6 => ?_)
      refine s_icmp_le (tgt := 22) hX dX0_isAhead_15 (by decide) ?_ ?_
      · refine s_iconst (v := 0) hX dX0_isAhead_22 rfl ?_
        refine s_goto (tgt := 42) hX dX0_isAhead_23 (by decide) ?_
        exact s_sub [] rfl (hj42 0)
      · refine s_iconst (v := 1) hX dX0_isAhead_18 rfl ?_
        refine s_goto (tgt := 42) hX dX0_isAhead_19 (by decide) ?_
        exact s_sub [] rfl (hj42 1)
theorem dX0_orders_0 : decode cX0_orders 0 = .ok (.iconst 0, 1) := by decide +kernel
theorem dX0_orders_1 : decode cX0_orders 1 = .ok (.istore_n 2, 1) := by decide +kernel
theorem dX0_orders_2 : decode cX0_orders 2 = .ok (.iload_n 2, 1) := by decide +kernel
theorem dX0_orders_3 : decode cX0_orders 3 = .ok (.aload_n 0, 1) := by decide +kernel
theorem dX0_orders_4 : decode cX0_orders 4 = .ok (.getfield 64, 3) := by decide +kernel
theorem dX0_orders_7 : decode cX0_orders 7 = .ok (.invokevirtual 124, 3) := by decide +kernel
theorem dX0_orders_10 : decode cX0_orders 10 = .ok (.if_icmp .ge 78, 3) := by decide +kernel
theorem dX0_orders_13 : decode cX0_orders 13 = .ok (.iload_n 2, 1) := by decide +kernel
theorem dX0_orders_14 : decode cX0_orders 14 = .ok (.istore_n 3, 1) := by decide +kernel
theorem dX0_orders_15 : decode cX0_orders 15 = .ok (.iload_n 3, 1) := by decide +kernel
theorem dX0_orders_16 : decode cX0_orders 16 = .ok (.ifCond .le 59, 3) := by decide +kernel
theorem dX0_orders_19 : decode cX0_orders 19 = .ok (.aload_n 1, 1) := by decide +kernel
theorem dX0_orders_20 : decode cX0_orders 20 = .ok (.aload_n 0, 1) := by decide +kernel
theorem dX0_orders_21 : decode cX0_orders 21 = .ok (.getfield 64, 3) := by decide +kernel
theorem dX0_orders_24 : decode cX0_orders 24 = .ok (.iload_n 2, 1) := by decide +kernel
theorem dX0_orders_25 : decode cX0_orders 25 = .ok (.invokevirtual 128, 3) := by decide +kernel
theorem dX0_orders_28 : decode cX0_orders 28 = .ok (.checkcast 417, 3) := by decide +kernel
theorem dX0_orders_31 : decode cX0_orders 31 = .ok (.aload_n 0, 1) := by decide +kernel
theorem dX0_orders_32 : decode cX0_orders 32 = .ok (.getfield 64, 3) := by decide +kernel
theorem dX0_orders_35 : decode cX0_orders 35 = .ok (.aload_n 0, 1) := by decide +kernel
theorem dX0_orders_36 : decode cX0_orders 36 = .ok (.getfield 81, 3) := by decide +kernel
theorem dX0_orders_39 : decode cX0_orders 39 = .ok (.iload_n 3, 1) := by decide +kernel
theorem dX0_orders_40 : decode cX0_orders 40 = .ok (.iconst 1, 1) := by decide +kernel
theorem dX0_orders_41 : decode cX0_orders 41 = .ok (.isub, 1) := by decide +kernel
theorem dX0_orders_42 : decode cX0_orders 42 = .ok (.iaload, 1) := by decide +kernel
theorem dX0_orders_43 : decode cX0_orders 43 = .ok (.invokevirtual 128, 3) := by decide +kernel
theorem dX0_orders_46 : decode cX0_orders 46 = .ok (.checkcast 417, 3) := by decide +kernel
theorem dX0_orders_49 : decode cX0_orders 49 = .ok (.invokestatic 431, 3) := by decide +kernel
theorem dX0_orders_52 : decode cX0_orders 52 = .ok (.ifCond .eq 23, 3) := by decide +kernel
theorem dX0_orders_55 : decode cX0_orders 55 = .ok (.aload_n 0, 1) := by decide +kernel
theorem dX0_orders_56 : decode cX0_orders 56 = .ok (.getfield 81, 3) := by decide +kernel
theorem dX0_orders_59 : decode cX0_orders 59 = .ok (.iload_n 3, 1) := by decide +kernel
theorem dX0_orders_60 : decode cX0_orders 60 = .ok (.aload_n 0, 1) := by decide +kernel
theorem dX0_orders_61 : decode cX0_orders 61 = .ok (.getfield 81, 3) := by decide +kernel
theorem dX0_orders_64 : decode cX0_orders 64 = .ok (.iload_n 3, 1) := by decide +kernel
theorem dX0_orders_65 : decode cX0_orders 65 = .ok (.iconst 1, 1) := by decide +kernel
theorem dX0_orders_66 : decode cX0_orders 66 = .ok (.isub, 1) := by decide +kernel
theorem dX0_orders_67 : decode cX0_orders 67 = .ok (.iaload, 1) := by decide +kernel
theorem dX0_orders_68 : decode cX0_orders 68 = .ok (.iastore, 1) := by decide +kernel
theorem dX0_orders_69 : decode cX0_orders 69 = .ok (.iinc 3 (-1), 3) := by decide +kernel
theorem dX0_orders_72 : decode cX0_orders 72 = .ok (.goto (-57), 3) := by decide +kernel
theorem dX0_orders_75 : decode cX0_orders 75 = .ok (.aload_n 0, 1) := by decide +kernel
theorem dX0_orders_76 : decode cX0_orders 76 = .ok (.getfield 81, 3) := by decide +kernel
theorem dX0_orders_79 : decode cX0_orders 79 = .ok (.iload_n 3, 1) := by decide +kernel
theorem dX0_orders_80 : decode cX0_orders 80 = .ok (.iload_n 2, 1) := by decide +kernel
theorem dX0_orders_81 : decode cX0_orders 81 = .ok (.iastore, 1) := by decide +kernel
theorem dX0_orders_82 : decode cX0_orders 82 = .ok (.iinc 2 1, 3) := by decide +kernel
theorem dX0_orders_85 : decode cX0_orders 85 = .ok (.goto (-83), 3) := by decide +kernel
theorem dX0_orders_88 : decode cX0_orders 88 = .ok (.return_, 1) := by decide +kernel
theorem ycX0_orders : yX0_orders.cls ≠ "java/lang/invoke/MethodHandle" ∧ yX0_orders.cls ≠ "java/lang/invoke/VarHandle" ∧ (parseMethodDescriptor yX0_orders.desc).map (fun d => d.parameters.length) = some 1 := by decide +kernel
theorem yvX0_orders : yX0_orders.cls = RR 0 ∧ yX0_orders.cls ≠ "java/lang/invoke/MethodHandle" ∧ yX0_orders.cls ≠ "java/lang/invoke/VarHandle" ∧ (parseMethodDescriptor yX0_orders.desc).map (fun d => d.parameters.length) = some 1 := ⟨rfl, ycX0_orders⟩
noncomputable def lp_X0_orders_15 (p0 : Nat) (p1 : Nat) (w1 : Int32) (j75 : Int32 → Act Unit) (q : Nat) : Int32 → Act Unit := match q with
  | 0 => fun _ => fail
  | q + 1 => fun w4 =>
    if w4 ≤ 0 then
      j75 w4
    else
      bnd (getR 0 18 p0) fun v7 =>
      bnd (gd 17 v7 (nt (P_get v7 w1))) fun v8 =>
      bnd (cst [7] v8) fun _ =>
      bnd (getR 0 18 p0) fun v9 =>
      bnd (getR 0 34 p0) fun v10 =>
      bnd (ldI 0 v10 (w4 - 1)) fun v11 =>
      bnd (gd 17 v9 (nt (P_get v9 v11))) fun v12 =>
      bnd (cst [7] v12) fun _ =>
      bnd (nt (f_X0_isAhead p1 v8 v12)) fun v13 =>
      if v13 = 0 then
        j75 w4
      else
        bnd (getR 0 34 p0) fun v14 =>
        bnd (getR 0 34 p0) fun v15 =>
        bnd (ldI 0 v15 (w4 - 1)) fun v16 =>
        bnd (stI 0 v14 w4 v16) fun _ =>
        (lp_X0_orders_15 p0 p1 w1 j75 q) (w4 + (-1))
noncomputable def lp_X0_orders_2 (n : Nat) (p0 : Nat) (p1 : Nat) (q : Nat) : Int32 → Act Unit := match q with
  | 0 => fun _ => fail
  | q + 1 => fun w1 =>
    bnd (getR 0 18 p0) fun v2 =>
    bnd (gd 17 v2 (nt (P_size v2))) fun v3 =>
    if v3 ≤ w1 then
      pur ()
    else
      jn (fun (v5 : Int32) =>
        bnd (getR 0 34 p0) fun v6 =>
        bnd (stI 0 v6 v5 w1) fun _ =>
        (lp_X0_orders_2 n p0 p1 q) (w1 + 1)) fun j75 =>
      lp_X0_orders_15 p0 p1 w1 j75 n w1
noncomputable def f_X0_orders (n : Nat) (p0 : Nat) (p1 : Nat) : Act Unit :=
  lp_X0_orders_2 n p0 p1 n 0
set_option maxHeartbeats 4000000 in
theorem s_lp_X0_orders_15 {X : Cx} (hX : Ok X Pic cX0_orders RX0 4 none 3 64) (hnh : Noh X) (p0 : Nat) (p1 : Nat) (w1 : Int32) (j75 : Int32 → Act Unit) (hj75 : ∀ (v5 : Int32), Sim X cvU 75 [(0, rv p0), (1, rv p1), (2, .int w1), (3, .int v5)] [] (j75 v5)) (q : Nat) : ∀ (w4 : Int32), Sim X cvU 15 [(0, rv p0), (1, rv p1), (2, .int w1), (3, .int w4)] [] (lp_X0_orders_15 p0 p1 w1 j75 q w4) := by
  induction q with
  | zero => intro w4; exact s_fail
  | succ q ih15 =>
    intro w4
    rw [lp_X0_orders_15]
    refine s_iload_n hX dX0_orders_15 rfl 3 rfl ?_
    refine s_if_le (tgt := 75) hX dX0_orders_16 (by decide) ?_ ?_
    · exact hj75 w4
    · refine s_aload_n hX dX0_orders_19 rfl 1 rfl ?_
      refine s_aload_n hX dX0_orders_20 rfl 0 rfl ?_
      refine s_getR (ci := 0) (j := 18) (ref := "WindGas") hX (pcG 0) in_X0 (Or.inl q284) (by decide) (by decide) (by decide) rfl dX0_orders_21 (fun _ h9 => h9) (fun v7 => ?_)
      refine s_iload_n hX dX0_orders_24 rfl 2 rfl ?_
      refine s_callV_R (ci := 17) (n := 1) (As := [.int w1]) (st := [rv p1]) hX (pcK 18) (by decide) (pt_get X.l v7 w1) q555 q516 q517 q88 q518 yvJ2_get (by decide) rfl (by first | decide | simp [rv_cat, cat_i, cat_l]) dX0_orders_25 (fun v8 => ?_)
      refine s_cast (ks := [7]) hX (elC 6 (by decide)) q1110 dX0_orders_28 ?_
      refine s_aload_n hX dX0_orders_31 rfl 0 rfl ?_
      refine s_getR (ci := 0) (j := 18) (ref := "WindGas") hX (pcG 0) in_X0 (Or.inl q284) (by decide) (by decide) (by decide) rfl dX0_orders_32 (fun _ h9 => h9) (fun v9 => ?_)
      refine s_aload_n hX dX0_orders_35 rfl 0 rfl ?_
      refine s_getR (ci := 0) (j := 34) (ref := "WindGas") hX (pcG 0) in_X0 (Or.inl q300) (by decide) (by decide) (by decide) rfl dX0_orders_36 (fun _ h9 => h9) (fun v10 => ?_)
      refine s_iload_n hX dX0_orders_39 rfl 3 rfl ?_
      refine s_iconst (v := 1) hX dX0_orders_40 rfl ?_
      refine s_isub hX dX0_orders_41 ?_
      refine s_iald hX (pcA 0) dX0_orders_42 (fun v11 => ?_)
      refine s_callV_R (ci := 17) (n := 1) (As := [.int v11]) (st := [rv v8, rv p1]) hX (pcK 18) (by decide) (pt_get X.l v9 v11) q555 q516 q517 q88 q518 yvJ2_get (by decide) rfl (by first | decide | simp [rv_cat, cat_i, cat_l]) dX0_orders_43 (fun v12 => ?_)
      refine s_cast (ks := [7]) hX (elC 6 (by decide)) q1110 dX0_orders_46 ?_
      refine s_callS_I (n := 3) (As := [rv p1, rv v8, rv v12]) (st := []) hX (ct_X0_isAhead X.l p1 v8 v12) q1211 q1212 q84 q1213 ycX0_isAhead (by decide) rfl (by first | decide | simp [rv_cat, cat_i, cat_l]) dX0_orders_49 (fun v13 => ?_)
      refine s_if_eq (tgt := 75) hX dX0_orders_52 (by decide) ?_ ?_
      · exact hj75 w4
      · refine s_aload_n hX dX0_orders_55 rfl 0 rfl ?_
        refine s_getR (ci := 0) (j := 34) (ref := "WindGas") hX (pcG 0) in_X0 (Or.inl q300) (by decide) (by decide) (by decide) rfl dX0_orders_56 (fun _ h9 => h9) (fun v14 => ?_)
        refine s_iload_n hX dX0_orders_59 rfl 3 rfl ?_
        refine s_aload_n hX dX0_orders_60 rfl 0 rfl ?_
        refine s_getR (ci := 0) (j := 34) (ref := "WindGas") hX (pcG 0) in_X0 (Or.inl q300) (by decide) (by decide) (by decide) rfl dX0_orders_61 (fun _ h9 => h9) (fun v15 => ?_)
        refine s_iload_n hX dX0_orders_64 rfl 3 rfl ?_
        refine s_iconst (v := 1) hX dX0_orders_65 rfl ?_
        refine s_isub hX dX0_orders_66 ?_
        refine s_iald hX (pcA 0) dX0_orders_67 (fun v16 => ?_)
        refine s_iast hX (pcA 0) (pcB 0) dX0_orders_68 ?_
        refine s_iinc (k := 3) (v := (w4 + (-1))) (L2 := [(3, .int (w4 + (-1))), (0, rv p0), (1, rv p1), (2, .int w1)]) hX dX0_orders_69 rfl rfl (by decide) rfl ?_
        refine s_goto (tgt := 15) hX dX0_orders_72 (by decide) ?_
        exact s_sub [1, 2, 3, 0] rfl (ih15 (w4 + (-1)))
set_option maxHeartbeats 4000000 in
theorem s_lp_X0_orders_2 {X : Cx} (hX : Ok X Pic cX0_orders RX0 4 none 3 64) (hnh : Noh X) (n : Nat) (p0 : Nat) (p1 : Nat) (q : Nat) : ∀ (w1 : Int32), Sim X cvU 2 [(0, rv p0), (1, rv p1), (2, .int w1)] [] (lp_X0_orders_2 n p0 p1 q w1) := by
  induction q with
  | zero => intro w1; exact s_fail
  | succ q ih2 =>
    intro w1
    rw [lp_X0_orders_2]
    refine s_iload_n hX dX0_orders_2 rfl 2 rfl ?_
    refine s_aload_n hX dX0_orders_3 rfl 0 rfl ?_
    refine s_getR (ci := 0) (j := 18) (ref := "WindGas") hX (pcG 0) in_X0 (Or.inl q284) (by decide) (by decide) (by decide) rfl dX0_orders_4 (fun _ h9 => h9) (fun v2 => ?_)
    refine s_callV_I (ci := 17) (n := 0) (As := []) (st := [.int w1]) hX (pcK 18) (by decide) (pt_size X.l v2) q554 q417 q418 q88 q419 yvJ2_size (by decide) rfl (by first | decide | simp [rv_cat, cat_i, cat_l]) dX0_orders_7 (fun v3 => ?_)
    refine s_icmp_ge (tgt := 88) hX dX0_orders_10 (by decide) ?_ ?_
    · exact s_vret hX dX0_orders_88
    · refine s_iload_n hX dX0_orders_13 rfl 2 rfl ?_
      refine s_istore_n (i := 3) (L2 := [(3, .int w1), (0, rv p0), (1, rv p1), (2, .int w1)]) hX dX0_orders_14 rfl (by decide) rfl ?_
      refine s_jn (P := fun j => ∀ (v5 : Int32), Sim X cvU 75 [(0, rv p0), (1, rv p1), (2, .int w1), (3, .int v5)] [] (j v5)) ?_ (fun j75 hj75 => ?_)
      · intro v5
        refine s_aload_n hX dX0_orders_75 rfl 0 rfl ?_
        refine s_getR (ci := 0) (j := 34) (ref := "WindGas") hX (pcG 0) in_X0 (Or.inl q300) (by decide) (by decide) (by decide) rfl dX0_orders_76 (fun _ h9 => h9) (fun v6 => ?_)
        refine s_iload_n hX dX0_orders_79 rfl 3 rfl ?_
        refine s_iload_n hX dX0_orders_80 rfl 2 rfl ?_
        refine s_iast hX (pcA 0) (pcB 0) dX0_orders_81 ?_
        refine s_iinc (k := 2) (v := (w1 + 1)) (L2 := [(2, .int (w1 + 1)), (0, rv p0), (1, rv p1), (3, .int v5)]) hX dX0_orders_82 rfl rfl (by decide) (by first | (simp [rv_cat, cat_i, cat_l]; done) | (simp [rv_cat, cat_i, cat_l]; decide)) ?_
        refine s_goto (tgt := 2) hX dX0_orders_85 (by decide) ?_
        exact s_sub [1, 2, 0] rfl (ih2 (w1 + 1))
      · exact s_sub [1, 2, 3, 0] rfl (s_lp_X0_orders_15 hX hnh p0 p1 w1 j75 hj75 n w1)
set_option maxHeartbeats 4000000 in
theorem ct_X0_orders (l : Launch) (n : Nat) (p0 : Nat) (p1 : Nat) : Ct l Pic yX0_orders (ws_ yX0_orders cX0_orders 4 none) 3 64 cvU [rv p0, rv p1] (f_X0_orders n p0 p1) := by
  refine Ct.of (own := RX0) (L := [(0, rv p0), (1, rv p1)]) (plainFor_of_name (by decide)) rfl (by first | decide | simp [lg_sl, rv_cat, cat_i, cat_l]) (by first | rfl | simp [lv_args, rv_cat, cat_i, cat_l]) pcZ (fun X hXl hX hnh hin => ?_)
  subst hXl
  unfold f_X0_orders
  refine s_iconst (v := 0) hX dX0_orders_0 rfl ?_
  refine s_istore_n (i := 2) (L2 := [(2, .int 0), (0, rv p0), (1, rv p1)]) hX dX0_orders_1 rfl (by decide) (by first | (simp [rv_cat, cat_i, cat_l]; done) | (simp [rv_cat, cat_i, cat_l]; decide)) ?_
  exact s_sub [1, 2, 0] rfl (s_lp_X0_orders_2 hX hnh n p0 p1 n 0)
theorem dX6_least_0 : decode cX6_least 0 = .ok (.iconst 1, 1) := by decide +kernel
theorem dX6_least_1 : decode cX6_least 1 = .ok (.aload_n 0, 1) := by decide +kernel
theorem dX6_least_2 : decode cX6_least 2 = .ok (.getfield 15, 3) := by decide +kernel
theorem dX6_least_5 : decode cX6_least 5 = .ok (.aload_n 1, 1) := by decide +kernel
theorem dX6_least_6 : decode cX6_least 6 = .ok (.getfield 24, 3) := by decide +kernel
theorem dX6_least_9 : decode cX6_least 9 = .ok (.imul, 1) := by decide +kernel
theorem dX6_least_10 : decode cX6_least 10 = .ok (.bipush 100, 2) := by decide +kernel
theorem dX6_least_12 : decode cX6_least 12 = .ok (.idiv, 1) := by decide +kernel
theorem dX6_least_13 : decode cX6_least 13 = .ok (.invokestatic 29, 3) := by decide +kernel
theorem dX6_least_16 : decode cX6_least 16 = .ok (.ireturn, 1) := by decide +kernel
theorem ycX6_least : yX6_least.cls ≠ "java/lang/invoke/MethodHandle" ∧ yX6_least.cls ≠ "java/lang/invoke/VarHandle" ∧ (parseMethodDescriptor yX6_least.desc).map (fun d => d.parameters.length) = some 1 := by decide +kernel
theorem yvX6_least : yX6_least.cls = RR 6 ∧ yX6_least.cls ≠ "java/lang/invoke/MethodHandle" ∧ yX6_least.cls ≠ "java/lang/invoke/VarHandle" ∧ (parseMethodDescriptor yX6_least.desc).map (fun d => d.parameters.length) = some 1 := ⟨rfl, ycX6_least⟩
noncomputable def f_X6_least (p0 : Nat) (p1 : Nat) : Act Int32 :=
  bnd (getI 6 1 p0) fun v1 =>
  bnd (getI 2 3 p1) fun v2 =>
  pur (mx (1 : Int32) ((v1 * v2) / 100))
set_option maxHeartbeats 4000000 in
theorem ct_X6_least (l : Launch) (p0 : Nat) (p1 : Nat) : Ct l Pic yX6_least (ws_ yX6_least cX6_least 2 (some FieldType.int)) 1 24 cvI [rv p0, rv p1] (f_X6_least p0 p1) := by
  refine Ct.of (own := RX6) (L := [(0, rv p0), (1, rv p1)]) (plainFor_of_name (by decide)) rfl (by first | decide | simp [lg_sl, rv_cat, cat_i, cat_l]) (by first | rfl | simp [lv_args, rv_cat, cat_i, cat_l]) pcZ (fun X hXl hX hnh hin => ?_)
  subst hXl
  unfold f_X6_least
  refine s_iconst (v := 1) hX dX6_least_0 rfl ?_
  refine s_aload_n hX dX6_least_1 rfl 0 rfl ?_
  refine s_getI (ci := 6) (j := 1) (ref := "WindGas$Stack") hX (pcG 6) in_X6 (Or.inl q1118) (by decide) (by decide) (by decide) rfl dX6_least_2 (fun _ h9 => h9) (fun v1 => ?_)
  refine s_aload_n hX dX6_least_5 rfl 1 rfl ?_
  refine s_getI (ci := 2) (j := 3) (ref := "WindGas$Rules") hX (pcG 2) in_X2 (Or.inr ⟨_, q187⟩) (by decide) (by decide) (by decide) rfl dX6_least_6 (fun _ h9 => h9) (fun v2 => ?_)
  refine s_imul hX dX6_least_9 ?_
  refine s_bipush (v := 100) hX dX6_least_10 (by decide) ?_
  refine s_idivc hX dX6_least_12 (by decide) ?_
  refine s_mmax hX q1222 q459 q95 q460 rfl (by omega) (by first | decide | (simp [rv_cat, cat_i, cat_l]; try omega)) dX6_least_13 ?_
  exact s_iret hX dX6_least_16
theorem dX6_wears_0 : decode cX6_wears 0 = .ok (.aload_n 0, 1) := by decide +kernel
theorem dX6_wears_1 : decode cX6_wears 1 = .ok (.ldc 43, 2) := by decide +kernel
theorem dX6_wears_3 : decode cX6_wears 3 = .ok (.aload_n 0, 1) := by decide +kernel
theorem dX6_wears_4 : decode cX6_wears 4 = .ok (.getfield 35, 3) := by decide +kernel
theorem dX6_wears_7 : decode cX6_wears 7 = .ok (.iload_n 1, 1) := by decide +kernel
theorem dX6_wears_8 : decode cX6_wears 8 = .ok (.iadd, 1) := by decide +kernel
theorem dX6_wears_9 : decode cX6_wears 9 = .ok (.invokestatic 38, 3) := by decide +kernel
theorem dX6_wears_12 : decode cX6_wears 12 = .ok (.putfield 35, 3) := by decide +kernel
theorem dX6_wears_15 : decode cX6_wears 15 = .ok (.return_, 1) := by decide +kernel
theorem ycX6_wears : yX6_wears.cls ≠ "java/lang/invoke/MethodHandle" ∧ yX6_wears.cls ≠ "java/lang/invoke/VarHandle" ∧ (parseMethodDescriptor yX6_wears.desc).map (fun d => d.parameters.length) = some 1 := by decide +kernel
theorem yvX6_wears : yX6_wears.cls = RR 6 ∧ yX6_wears.cls ≠ "java/lang/invoke/MethodHandle" ∧ yX6_wears.cls ≠ "java/lang/invoke/VarHandle" ∧ (parseMethodDescriptor yX6_wears.desc).map (fun d => d.parameters.length) = some 1 := ⟨rfl, ycX6_wears⟩
noncomputable def f_X6_wears (p0 : Nat) (p1 : Int32) : Act Unit :=
  bnd (getI 6 4 p0) fun v1 =>
  bnd (putI 6 4 p0 (mn (50000 : Int32) (v1 + p1))) fun _ =>
  pur ()
set_option maxHeartbeats 4000000 in
theorem ct_X6_wears (l : Launch) (p0 : Nat) (p1 : Int32) : Ct l Pic yX6_wears (ws_ yX6_wears cX6_wears 2 none) 1 24 cvU [rv p0, .int p1] (f_X6_wears p0 p1) := by
  refine Ct.of (own := RX6) (L := [(0, rv p0), (1, .int p1)]) (plainFor_of_name (by decide)) rfl (by first | decide | simp [lg_sl, rv_cat, cat_i, cat_l]) (by first | rfl | simp [lv_args, rv_cat, cat_i, cat_l]) pcZ (fun X hXl hX hnh hin => ?_)
  subst hXl
  unfold f_X6_wears
  refine s_aload_n hX dX6_wears_0 rfl 0 rfl ?_
  refine s_ldc (v := 50000) hX dX6_wears_1 q1227 ?_
  refine s_aload_n hX dX6_wears_3 rfl 0 rfl ?_
  refine s_getI (ci := 6) (j := 4) (ref := "WindGas$Stack") hX (pcG 6) in_X6 (Or.inl q1122) (by decide) (by decide) (by decide) rfl dX6_wears_4 (fun _ h9 => h9) (fun v1 => ?_)
  refine s_iload_n hX dX6_wears_7 rfl 1 rfl ?_
  refine s_iadd hX dX6_wears_8 ?_
  refine s_mmin hX q1228 q500 q95 q501 rfl (by omega) (by first | decide | (simp [rv_cat, cat_i, cat_l]; try omega)) dX6_wears_9 ?_
  refine s_putI (ci := 6) (j := 4) (ref := "WindGas$Stack") hX (pcG 6) (pcP 6) in_X6 tyX6_ok nmX6 (Or.inl q1122) (by decide) (by decide) (by decide) rfl rfl rfl dX6_wears_12 (fun _ h9 => h9) ?_
  exact s_vret hX dX6_wears_15
theorem dX6_gas_0 : decode cX6_gas 0 = .ok (.iload_n 1, 1) := by decide +kernel
theorem dX6_gas_1 : decode cX6_gas 1 = .ok (.aload_n 0, 1) := by decide +kernel
theorem dX6_gas_2 : decode cX6_gas 2 = .ok (.getfield 18, 3) := by decide +kernel
theorem dX6_gas_5 : decode cX6_gas 5 = .ok (.imul, 1) := by decide +kernel
theorem dX6_gas_6 : decode cX6_gas 6 = .ok (.iload_n 1, 1) := by decide +kernel
theorem dX6_gas_7 : decode cX6_gas 7 = .ok (.aload_n 0, 1) := by decide +kernel
theorem dX6_gas_8 : decode cX6_gas 8 = .ok (.getfield 18, 3) := by decide +kernel
theorem dX6_gas_11 : decode cX6_gas 11 = .ok (.imul, 1) := by decide +kernel
theorem dX6_gas_12 : decode cX6_gas 12 = .ok (.bipush 90, 2) := by decide +kernel
theorem dX6_gas_14 : decode cX6_gas 14 = .ok (.aload_n 0, 1) := by decide +kernel
theorem dX6_gas_15 : decode cX6_gas 15 = .ok (.getfield 35, 3) := by decide +kernel
theorem dX6_gas_18 : decode cX6_gas 18 = .ok (.sipush 1000, 3) := by decide +kernel
theorem dX6_gas_21 : decode cX6_gas 21 = .ok (.idiv, 1) := by decide +kernel
theorem dX6_gas_22 : decode cX6_gas 22 = .ok (.invokestatic 38, 3) := by decide +kernel
theorem dX6_gas_25 : decode cX6_gas 25 = .ok (.imul, 1) := by decide +kernel
theorem dX6_gas_26 : decode cX6_gas 26 = .ok (.bipush 100, 2) := by decide +kernel
theorem dX6_gas_28 : decode cX6_gas 28 = .ok (.idiv, 1) := by decide +kernel
theorem dX6_gas_29 : decode cX6_gas 29 = .ok (.isub, 1) := by decide +kernel
theorem dX6_gas_30 : decode cX6_gas 30 = .ok (.ireturn, 1) := by decide +kernel
theorem ycX6_gas : yX6_gas.cls ≠ "java/lang/invoke/MethodHandle" ∧ yX6_gas.cls ≠ "java/lang/invoke/VarHandle" ∧ (parseMethodDescriptor yX6_gas.desc).map (fun d => d.parameters.length) = some 1 := by decide +kernel
theorem yvX6_gas : yX6_gas.cls = RR 6 ∧ yX6_gas.cls ≠ "java/lang/invoke/MethodHandle" ∧ yX6_gas.cls ≠ "java/lang/invoke/VarHandle" ∧ (parseMethodDescriptor yX6_gas.desc).map (fun d => d.parameters.length) = some 1 := ⟨rfl, ycX6_gas⟩
noncomputable def f_X6_gas (p0 : Nat) (p1 : Int32) : Act Int32 :=
  bnd (getI 6 2 p0) fun v1 =>
  bnd (getI 6 2 p0) fun v2 =>
  bnd (getI 6 4 p0) fun v3 =>
  pur ((p1 * v1) - (((p1 * v2) * (mn (90 : Int32) (v3 / 1000))) / 100))
set_option maxHeartbeats 4000000 in
theorem ct_X6_gas (l : Launch) (p0 : Nat) (p1 : Int32) : Ct l Pic yX6_gas (ws_ yX6_gas cX6_gas 2 (some FieldType.int)) 1 24 cvI [rv p0, .int p1] (f_X6_gas p0 p1) := by
  refine Ct.of (own := RX6) (L := [(0, rv p0), (1, .int p1)]) (plainFor_of_name (by decide)) rfl (by first | decide | simp [lg_sl, rv_cat, cat_i, cat_l]) (by first | rfl | simp [lv_args, rv_cat, cat_i, cat_l]) pcZ (fun X hXl hX hnh hin => ?_)
  subst hXl
  unfold f_X6_gas
  refine s_iload_n hX dX6_gas_0 rfl 1 rfl ?_
  refine s_aload_n hX dX6_gas_1 rfl 0 rfl ?_
  refine s_getI (ci := 6) (j := 2) (ref := "WindGas$Stack") hX (pcG 6) in_X6 (Or.inl q1120) (by decide) (by decide) (by decide) rfl dX6_gas_2 (fun _ h9 => h9) (fun v1 => ?_)
  refine s_imul hX dX6_gas_5 ?_
  refine s_iload_n hX dX6_gas_6 rfl 1 rfl ?_
  refine s_aload_n hX dX6_gas_7 rfl 0 rfl ?_
  refine s_getI (ci := 6) (j := 2) (ref := "WindGas$Stack") hX (pcG 6) in_X6 (Or.inl q1120) (by decide) (by decide) (by decide) rfl dX6_gas_8 (fun _ h9 => h9) (fun v2 => ?_)
  refine s_imul hX dX6_gas_11 ?_
  refine s_bipush (v := 90) hX dX6_gas_12 (by decide) ?_
  refine s_aload_n hX dX6_gas_14 rfl 0 rfl ?_
  refine s_getI (ci := 6) (j := 4) (ref := "WindGas$Stack") hX (pcG 6) in_X6 (Or.inl q1122) (by decide) (by decide) (by decide) rfl dX6_gas_15 (fun _ h9 => h9) (fun v3 => ?_)
  refine s_sipush (v := 1000) hX dX6_gas_18 (by decide) ?_
  refine s_idivc hX dX6_gas_21 (by decide) ?_
  refine s_mmin hX q1228 q500 q95 q501 rfl (by omega) (by first | decide | (simp [rv_cat, cat_i, cat_l]; try omega)) dX6_gas_22 ?_
  refine s_imul hX dX6_gas_25 ?_
  refine s_bipush (v := 100) hX dX6_gas_26 (by decide) ?_
  refine s_idivc hX dX6_gas_28 (by decide) ?_
  refine s_isub hX dX6_gas_29 ?_
  exact s_iret hX dX6_gas_30
theorem dX6_foul_0 : decode cX6_foul 0 = .ok (.iload_n 1, 1) := by decide +kernel
theorem dX6_foul_1 : decode cX6_foul 1 = .ok (.i2l, 1) := by decide +kernel
theorem dX6_foul_2 : decode cX6_foul 2 = .ok (.sipush 10000, 3) := by decide +kernel
theorem dX6_foul_5 : decode cX6_foul 5 = .ok (.aload_n 0, 1) := by decide +kernel
theorem dX6_foul_6 : decode cX6_foul 6 = .ok (.getfield 21, 3) := by decide +kernel
theorem dX6_foul_9 : decode cX6_foul 9 = .ok (.aload_n 0, 1) := by decide +kernel
theorem dX6_foul_10 : decode cX6_foul 10 = .ok (.getfield 35, 3) := by decide +kernel
theorem dX6_foul_13 : decode cX6_foul 13 = .ok (.sipush 500, 3) := by decide +kernel
theorem dX6_foul_16 : decode cX6_foul 16 = .ok (.idiv, 1) := by decide +kernel
theorem dX6_foul_17 : decode cX6_foul 17 = .ok (.iadd, 1) := by decide +kernel
theorem dX6_foul_18 : decode cX6_foul 18 = .ok (.invokestatic 38, 3) := by decide +kernel
theorem dX6_foul_21 : decode cX6_foul 21 = .ok (.i2l, 1) := by decide +kernel
theorem dX6_foul_22 : decode cX6_foul 22 = .ok (.lmul, 1) := by decide +kernel
theorem dX6_foul_23 : decode cX6_foul 23 = .ok (.ldc2_w 41, 3) := by decide +kernel
theorem dX6_foul_26 : decode cX6_foul 26 = .ok (.ldiv, 1) := by decide +kernel
theorem dX6_foul_27 : decode cX6_foul 27 = .ok (.l2i, 1) := by decide +kernel
theorem dX6_foul_28 : decode cX6_foul 28 = .ok (.ireturn, 1) := by decide +kernel
theorem ycX6_foul : yX6_foul.cls ≠ "java/lang/invoke/MethodHandle" ∧ yX6_foul.cls ≠ "java/lang/invoke/VarHandle" ∧ (parseMethodDescriptor yX6_foul.desc).map (fun d => d.parameters.length) = some 1 := by decide +kernel
theorem yvX6_foul : yX6_foul.cls = RR 6 ∧ yX6_foul.cls ≠ "java/lang/invoke/MethodHandle" ∧ yX6_foul.cls ≠ "java/lang/invoke/VarHandle" ∧ (parseMethodDescriptor yX6_foul.desc).map (fun d => d.parameters.length) = some 1 := ⟨rfl, ycX6_foul⟩
noncomputable def f_X6_foul (p0 : Nat) (p1 : Int32) : Act Int32 :=
  bnd (getI 6 3 p0) fun v1 =>
  bnd (getI 6 4 p0) fun v2 =>
  pur (((p1.toInt64 * ((mn (10000 : Int32) (v1 + (v2 / 500))).toInt64)) / 10000).toInt32)
set_option maxHeartbeats 4000000 in
theorem ct_X6_foul (l : Launch) (p0 : Nat) (p1 : Int32) : Ct l Pic yX6_foul (ws_ yX6_foul cX6_foul 2 (some FieldType.int)) 1 24 cvI [rv p0, .int p1] (f_X6_foul p0 p1) := by
  refine Ct.of (own := RX6) (L := [(0, rv p0), (1, .int p1)]) (plainFor_of_name (by decide)) rfl (by first | decide | simp [lg_sl, rv_cat, cat_i, cat_l]) (by first | rfl | simp [lv_args, rv_cat, cat_i, cat_l]) pcZ (fun X hXl hX hnh hin => ?_)
  subst hXl
  unfold f_X6_foul
  refine s_iload_n hX dX6_foul_0 rfl 1 rfl ?_
  refine s_i2l hX dX6_foul_1 ?_
  refine s_sipush (v := 10000) hX dX6_foul_2 (by decide) ?_
  refine s_aload_n hX dX6_foul_5 rfl 0 rfl ?_
  refine s_getI (ci := 6) (j := 3) (ref := "WindGas$Stack") hX (pcG 6) in_X6 (Or.inl q1121) (by decide) (by decide) (by decide) rfl dX6_foul_6 (fun _ h9 => h9) (fun v1 => ?_)
  refine s_aload_n hX dX6_foul_9 rfl 0 rfl ?_
  refine s_getI (ci := 6) (j := 4) (ref := "WindGas$Stack") hX (pcG 6) in_X6 (Or.inl q1122) (by decide) (by decide) (by decide) rfl dX6_foul_10 (fun _ h9 => h9) (fun v2 => ?_)
  refine s_sipush (v := 500) hX dX6_foul_13 (by decide) ?_
  refine s_idivc hX dX6_foul_16 (by decide) ?_
  refine s_iadd hX dX6_foul_17 ?_
  refine s_mmin hX q1228 q500 q95 q501 rfl (by omega) (by first | decide | (simp [rv_cat, cat_i, cat_l]; try omega)) dX6_foul_18 ?_
  refine s_i2l hX dX6_foul_21 ?_
  refine s_lmul hX dX6_foul_22 ?_
  refine s_ldc2 (v := 10000) hX dX6_foul_23 q1237 ?_
  refine s_ldivc hX dX6_foul_26 (by decide) ?_
  refine s_l2i hX dX6_foul_27 ?_
  exact s_iret hX dX6_foul_28
