set_option maxRecDepth 100000
theorem dX4_meter_0 : decode cX4_meter 0 = .ok (.iload_n 1, 1) := by decide +kernel
theorem dX4_meter_1 : decode cX4_meter 1 = .ok (.invokestatic 218, 3) := by decide +kernel
theorem dX4_meter_4 : decode cX4_meter 4 = .ok (.ifCond .eq 23, 3) := by decide +kernel
theorem dX4_meter_7 : decode cX4_meter 7 = .ok (.iload_n 2, 1) := by decide +kernel
theorem dX4_meter_8 : decode cX4_meter 8 = .ok (.iconst 0, 1) := by decide +kernel
theorem dX4_meter_9 : decode cX4_meter 9 = .ok (.ldc 221, 2) := by decide +kernel
theorem dX4_meter_11 : decode cX4_meter 11 = .ok (.invokestatic 198, 3) := by decide +kernel
theorem dX4_meter_14 : decode cX4_meter 14 = .ok (.ifCond .eq 13, 3) := by decide +kernel
theorem dX4_meter_17 : decode cX4_meter 17 = .ok (.iload_n 3, 1) := by decide +kernel
theorem dX4_meter_18 : decode cX4_meter 18 = .ok (.iconst 0, 1) := by decide +kernel
theorem dX4_meter_19 : decode cX4_meter 19 = .ok (.bipush 50, 2) := by decide +kernel
theorem dX4_meter_21 : decode cX4_meter 21 = .ok (.invokestatic 198, 3) := by decide +kernel
theorem dX4_meter_24 : decode cX4_meter 24 = .ok (.ifCond .ne 5, 3) := by decide +kernel
theorem dX4_meter_27 : decode cX4_meter 27 = .ok (.iconst (-1), 1) := by decide +kernel
theorem dX4_meter_28 : decode cX4_meter 28 = .ok (.ireturn, 1) := by decide +kernel
theorem dX4_meter_29 : decode cX4_meter 29 = .ok (.aload_n 0, 1) := by decide +kernel
theorem dX4_meter_30 : decode cX4_meter 30 = .ok (.getfield 63, 3) := by decide +kernel
theorem dX4_meter_33 : decode cX4_meter 33 = .ok (.iload_n 1, 1) := by decide +kernel
theorem dX4_meter_34 : decode cX4_meter 34 = .ok (.iaload, 1) := by decide +kernel
theorem dX4_meter_35 : decode cX4_meter 35 = .ok (.i2l, 1) := by decide +kernel
theorem dX4_meter_36 : decode cX4_meter 36 = .ok (.iload_n 3, 1) := by decide +kernel
theorem dX4_meter_37 : decode cX4_meter 37 = .ok (.i2l, 1) := by decide +kernel
theorem dX4_meter_38 : decode cX4_meter 38 = .ok (.lmul, 1) := by decide +kernel
theorem dX4_meter_39 : decode cX4_meter 39 = .ok (.ldc2_w 337, 3) := by decide +kernel
theorem dX4_meter_42 : decode cX4_meter 42 = .ok (.ldiv, 1) := by decide +kernel
theorem dX4_meter_43 : decode cX4_meter 43 = .ok (.l2i, 1) := by decide +kernel
theorem dX4_meter_44 : decode cX4_meter 44 = .ok (.istore 4, 2) := by decide +kernel
theorem dX4_meter_46 : decode cX4_meter 46 = .ok (.iload_n 2, 1) := by decide +kernel
theorem dX4_meter_47 : decode cX4_meter 47 = .ok (.aload_n 0, 1) := by decide +kernel
theorem dX4_meter_48 : decode cX4_meter 48 = .ok (.getfield 63, 3) := by decide +kernel
theorem dX4_meter_51 : decode cX4_meter 51 = .ok (.iload_n 1, 1) := by decide +kernel
theorem dX4_meter_52 : decode cX4_meter 52 = .ok (.iaload, 1) := by decide +kernel
theorem dX4_meter_53 : decode cX4_meter 53 = .ok (.iload 4, 2) := by decide +kernel
theorem dX4_meter_55 : decode cX4_meter 55 = .ok (.iadd, 1) := by decide +kernel
theorem dX4_meter_56 : decode cX4_meter 56 = .ok (.if_icmp .le 5, 3) := by decide +kernel
theorem dX4_meter_59 : decode cX4_meter 59 = .ok (.iconst 2, 1) := by decide +kernel
theorem dX4_meter_60 : decode cX4_meter 60 = .ok (.ireturn, 1) := by decide +kernel
theorem dX4_meter_61 : decode cX4_meter 61 = .ok (.iload_n 2, 1) := by decide +kernel
theorem dX4_meter_62 : decode cX4_meter 62 = .ok (.aload_n 0, 1) := by decide +kernel
theorem dX4_meter_63 : decode cX4_meter 63 = .ok (.getfield 63, 3) := by decide +kernel
theorem dX4_meter_66 : decode cX4_meter 66 = .ok (.iload_n 1, 1) := by decide +kernel
theorem dX4_meter_67 : decode cX4_meter 67 = .ok (.iaload, 1) := by decide +kernel
theorem dX4_meter_68 : decode cX4_meter 68 = .ok (.iload 4, 2) := by decide +kernel
theorem dX4_meter_70 : decode cX4_meter 70 = .ok (.isub, 1) := by decide +kernel
theorem dX4_meter_71 : decode cX4_meter 71 = .ok (.if_icmp .lt 5, 3) := by decide +kernel
theorem dX4_meter_74 : decode cX4_meter 74 = .ok (.iconst 0, 1) := by decide +kernel
theorem dX4_meter_75 : decode cX4_meter 75 = .ok (.ireturn, 1) := by decide +kernel
theorem dX4_meter_76 : decode cX4_meter 76 = .ok (.aload_n 0, 1) := by decide +kernel
theorem dX4_meter_77 : decode cX4_meter 77 = .ok (.getfield 63, 3) := by decide +kernel
theorem dX4_meter_80 : decode cX4_meter 80 = .ok (.iload_n 1, 1) := by decide +kernel
theorem dX4_meter_81 : decode cX4_meter 81 = .ok (.iaload, 1) := by decide +kernel
theorem dX4_meter_82 : decode cX4_meter 82 = .ok (.iload_n 2, 1) := by decide +kernel
theorem dX4_meter_83 : decode cX4_meter 83 = .ok (.isub, 1) := by decide +kernel
theorem dX4_meter_84 : decode cX4_meter 84 = .ok (.istore 5, 2) := by decide +kernel
theorem dX4_meter_86 : decode cX4_meter 86 = .ok (.aload_n 0, 1) := by decide +kernel
theorem dX4_meter_87 : decode cX4_meter 87 = .ok (.iload_n 1, 1) := by decide +kernel
theorem dX4_meter_88 : decode cX4_meter 88 = .ok (.iload 5, 2) := by decide +kernel
theorem dX4_meter_90 : decode cX4_meter 90 = .ok (.iconst (-1), 1) := by decide +kernel
theorem dX4_meter_91 : decode cX4_meter 91 = .ok (.invokevirtual 256, 3) := by decide +kernel
theorem dX4_meter_94 : decode cX4_meter 94 = .ok (.aload_n 0, 1) := by decide +kernel
theorem dX4_meter_95 : decode cX4_meter 95 = .ok (.getfield 78, 3) := by decide +kernel
theorem dX4_meter_98 : decode cX4_meter 98 = .ok (.iload_n 1, 1) := by decide +kernel
theorem dX4_meter_99 : decode cX4_meter 99 = .ok (.dup2, 1) := by decide +kernel
theorem dX4_meter_100 : decode cX4_meter 100 = .ok (.laload, 1) := by decide +kernel
theorem dX4_meter_101 : decode cX4_meter 101 = .ok (.iload 5, 2) := by decide +kernel
theorem dX4_meter_103 : decode cX4_meter 103 = .ok (.i2l, 1) := by decide +kernel
theorem dX4_meter_104 : decode cX4_meter 104 = .ok (.ladd, 1) := by decide +kernel
theorem dX4_meter_105 : decode cX4_meter 105 = .ok (.lastore, 1) := by decide +kernel
theorem dX4_meter_106 : decode cX4_meter 106 = .ok (.aload_n 0, 1) := by decide +kernel
theorem dX4_meter_107 : decode cX4_meter 107 = .ok (.getfield 51, 3) := by decide +kernel
theorem dX4_meter_110 : decode cX4_meter 110 = .ok (.bipush 8, 2) := by decide +kernel
theorem dX4_meter_112 : decode cX4_meter 112 = .ok (.dup2, 1) := by decide +kernel
theorem dX4_meter_113 : decode cX4_meter 113 = .ok (.laload, 1) := by decide +kernel
theorem dX4_meter_114 : decode cX4_meter 114 = .ok (.iload 5, 2) := by decide +kernel
theorem dX4_meter_116 : decode cX4_meter 116 = .ok (.i2l, 1) := by decide +kernel
theorem dX4_meter_117 : decode cX4_meter 117 = .ok (.ladd, 1) := by decide +kernel
theorem dX4_meter_118 : decode cX4_meter 118 = .ok (.lastore, 1) := by decide +kernel
theorem dX4_meter_119 : decode cX4_meter 119 = .ok (.iconst 1, 1) := by decide +kernel
theorem dX4_meter_120 : decode cX4_meter 120 = .ok (.ireturn, 1) := by decide +kernel
theorem ycX4_meter : yX4_meter.cls ≠ "java/lang/invoke/MethodHandle" ∧ yX4_meter.cls ≠ "java/lang/invoke/VarHandle" ∧ (parseMethodDescriptor yX4_meter.desc).map (fun d => d.parameters.length) = some 3 := by decide +kernel
theorem yvX4_meter : yX4_meter.cls = RR 4 ∧ yX4_meter.cls ≠ "java/lang/invoke/MethodHandle" ∧ yX4_meter.cls ≠ "java/lang/invoke/VarHandle" ∧ (parseMethodDescriptor yX4_meter.desc).map (fun d => d.parameters.length) = some 3 := ⟨rfl, ycX4_meter⟩
def f_X4_meter (n : Nat) (p0 : Nat) (p1 : Int32) (p2 : Int32) (p3 : Int32) : Act Int32 :=
  bnd (nt (f_X4_isStore p1)) fun v1 =>
  jn (fun (_ : Unit) =>
    pur (-1)) fun j27 =>
  if v1 = 0 then
    j27 ()
  else
    bnd (nt (f_X4_isIn p2 (0 : Int32) (1000000 : Int32))) fun v2 =>
    if v2 = 0 then
      j27 ()
    else
      bnd (nt (f_X4_isIn p3 (0 : Int32) (50 : Int32))) fun v3 =>
      if ¬ v3 = 0 then
        bnd (getR 4 23 p0) fun v4 =>
        bnd (ldI 0 v4 p1) fun v5 =>
        bnd (getR 4 23 p0) fun v6 =>
        bnd (ldI 0 v6 p1) fun v7 =>
        if p2 ≤ (v7 + (((v5.toInt64 * p3.toInt64) / 100).toInt32)) then
          bnd (getR 4 23 p0) fun v8 =>
          bnd (ldI 0 v8 p1) fun v9 =>
          if p2 < (v9 - (((v5.toInt64 * p3.toInt64) / 100).toInt32)) then
            bnd (getR 4 23 p0) fun v10 =>
            bnd (ldI 0 v10 p1) fun v11 =>
            bnd (gd 4 p0 (nt (f_X4_goesOut n p0 p1 (v11 - p2) (-1 : Int32)))) fun _ =>
            bnd (getR 4 28 p0) fun v12 =>
            bnd (ldL 1 v12 p1) fun v13 =>
            bnd (stL 1 v12 p1 (v13 + ((v11 - p2).toInt64))) fun _ =>
            bnd (getR 4 17 p0) fun v14 =>
            bnd (ldL 1 v14 8) fun v15 =>
            bnd (stL 1 v14 8 (v15 + ((v11 - p2).toInt64))) fun _ =>
            pur 1
          else
            pur 0
        else
          pur 2
      else
        j27 ()
set_option maxHeartbeats 4000000 in
theorem ct_X4_meter (l : Launch) (n : Nat) (p0 : Nat) (p1 : Int32) (p2 : Int32) (p3 : Int32) : Ct l Pic yX4_meter (ws_ yX4_meter cX4_meter 6 (some FieldType.int)) 2 51 cvI [rv p0, .int p1, .int p2, .int p3] (f_X4_meter n p0 p1 p2 p3) := by
  refine Ct.of (own := RX4) (L := [(0, rv p0), (1, .int p1), (2, .int p2), (3, .int p3)]) (plainFor_of_name (by decide)) rfl (by first | decide | simp [lg_sl, rv_cat, cat_i, cat_l]) (by first | rfl | simp [lv_args, rv_cat, cat_i, cat_l]) pcZ (fun X hXl hX hnh hin => ?_)
  subst hXl
  unfold f_X4_meter
  refine s_iload_n hX dX4_meter_0 rfl 1 rfl ?_
  refine s_callS_I (n := 1) (As := [.int p1]) (st := []) hX (ct_X4_isStore X.l p1) q1807 q1808 q91 q1809 ycX4_isStore (by decide) rfl (by first | decide | simp [rv_cat, cat_i, cat_l]) dX4_meter_1 (fun v1 => ?_)
  refine s_jn (P := fun j => ∀ (u : Unit), Sim X cvI 27 [] [] (j u)) ?_ (fun j27 hj27 => ?_)
  · intro u
    refine s_iconst (v := -1) hX dX4_meter_27 (by decide) ?_
    exact s_iret hX dX4_meter_28
  · refine s_if_eq (tgt := 27) hX dX4_meter_4 (by decide) ?_ ?_
    · exact s_sub [] rfl (hj27 ())
    · refine s_iload_n hX dX4_meter_7 rfl 2 rfl ?_
      refine s_iconst (v := 0) hX dX4_meter_8 rfl ?_
      refine s_ldc (v := 1000000) hX dX4_meter_9 q1810 ?_
      refine s_callS_I (n := 3) (As := [.int p2, .int 0, .int 1000000]) (st := []) hX (ct_X4_isIn X.l p2 (0 : Int32) (1000000 : Int32)) q1781 q1782 q91 q1783 ycX4_isIn (by decide) rfl (by first | decide | simp [rv_cat, cat_i, cat_l]) dX4_meter_11 (fun v2 => ?_)
      refine s_if_eq (tgt := 27) hX dX4_meter_14 (by decide) ?_ ?_
      · exact s_sub [] rfl (hj27 ())
      · refine s_iload_n hX dX4_meter_17 rfl 3 rfl ?_
        refine s_iconst (v := 0) hX dX4_meter_18 rfl ?_
        refine s_bipush (v := 50) hX dX4_meter_19 (by decide) ?_
        refine s_callS_I (n := 3) (As := [.int p3, .int 0, .int 50]) (st := []) hX (ct_X4_isIn X.l p3 (0 : Int32) (50 : Int32)) q1781 q1782 q91 q1783 ycX4_isIn (by decide) rfl (by first | decide | simp [rv_cat, cat_i, cat_l]) dX4_meter_21 (fun v3 => ?_)
        refine s_if_ne (tgt := 29) hX dX4_meter_24 (by decide) ?_ ?_
        · refine s_aload_n hX dX4_meter_29 rfl 0 rfl ?_
          refine s_getR (ci := 4) (j := 23) (ref := "WindGasModel") hX (pcG 4) in_X4 (Or.inl q1561) (by decide) (by decide) (by decide) rfl dX4_meter_30 (fun _ h9 => h9) (fun v4 => ?_)
          refine s_iload_n hX dX4_meter_33 rfl 1 rfl ?_
          refine s_iald hX (pcA 0) dX4_meter_34 (fun v5 => ?_)
          refine s_i2l hX dX4_meter_35 ?_
          refine s_iload_n hX dX4_meter_36 rfl 3 rfl ?_
          refine s_i2l hX dX4_meter_37 ?_
          refine s_lmul hX dX4_meter_38 ?_
          refine s_ldc2 (v := 100) hX dX4_meter_39 q1961 ?_
          refine s_ldivc hX dX4_meter_42 (by decide) ?_
          refine s_l2i hX dX4_meter_43 ?_
          refine s_istore (i := 4) (L2 := [(4, .int ((v5.toInt64 * p3.toInt64) / 100).toInt32), (0, rv p0), (1, .int p1), (2, .int p2), (3, .int p3)]) hX dX4_meter_44 (by decide) rfl ?_
          refine s_iload_n hX dX4_meter_46 rfl 3 rfl ?_
          refine s_aload_n hX dX4_meter_47 rfl 1 rfl ?_
          refine s_getR (ci := 4) (j := 23) (ref := "WindGasModel") hX (pcG 4) in_X4 (Or.inl q1561) (by decide) (by decide) (by decide) rfl dX4_meter_48 (fun _ h9 => h9) (fun v6 => ?_)
          refine s_iload_n hX dX4_meter_51 rfl 2 rfl ?_
          refine s_iald hX (pcA 0) dX4_meter_52 (fun v7 => ?_)
          refine s_iload hX dX4_meter_53 0 rfl ?_
          refine s_iadd hX dX4_meter_55 ?_
          refine s_icmp_le (tgt := 61) hX dX4_meter_56 (by decide) ?_ ?_
          · refine s_iload_n hX dX4_meter_61 rfl 3 rfl ?_
            refine s_aload_n hX dX4_meter_62 rfl 1 rfl ?_
            refine s_getR (ci := 4) (j := 23) (ref := "WindGasModel") hX (pcG 4) in_X4 (Or.inl q1561) (by decide) (by decide) (by decide) rfl dX4_meter_63 (fun _ h9 => h9) (fun v8 => ?_)
            refine s_iload_n hX dX4_meter_66 rfl 2 rfl ?_
            refine s_iald hX (pcA 0) dX4_meter_67 (fun v9 => ?_)
            refine s_iload hX dX4_meter_68 0 rfl ?_
            refine s_isub hX dX4_meter_70 ?_
            refine s_icmp_lt (tgt := 76) hX dX4_meter_71 (by decide) ?_ ?_
            · refine s_aload_n hX dX4_meter_76 rfl 1 rfl ?_
              refine s_getR (ci := 4) (j := 23) (ref := "WindGasModel") hX (pcG 4) in_X4 (Or.inl q1561) (by decide) (by decide) (by decide) rfl dX4_meter_77 (fun _ h9 => h9) (fun v10 => ?_)
              refine s_iload_n hX dX4_meter_80 rfl 2 rfl ?_
              refine s_iald hX (pcA 0) dX4_meter_81 (fun v11 => ?_)
              refine s_iload_n hX dX4_meter_82 rfl 3 rfl ?_
              refine s_isub hX dX4_meter_83 ?_
              refine s_istore (i := 5) (L2 := [(5, .int (v11 - p2)), (4, .int ((v5.toInt64 * p3.toInt64) / 100).toInt32), (0, rv p0), (1, .int p1), (2, .int p2), (3, .int p3)]) hX dX4_meter_84 (by decide) rfl ?_
              refine s_aload_n hX dX4_meter_86 rfl 2 rfl ?_
              refine s_iload_n hX dX4_meter_87 rfl 3 rfl ?_
              refine s_iload hX dX4_meter_88 0 rfl ?_
              refine s_iconst (v := -1) hX dX4_meter_90 (by decide) ?_
              refine s_callV_U (ci := 4) (n := 3) (As := [.int p1, .int (v11 - p2), .int (-1)]) (st := []) hX (pcK 5) (by decide) (ct_X4_goesOut X.l n p0 p1 (v11 - p2) (-1 : Int32)) q1896 q1898 qs58 q91 q1899 yvX4_goesOut (by decide) rfl (by first | decide | simp [rv_cat, cat_i, cat_l]) dX4_meter_91 (fun _ => ?_)
              refine s_aload_n hX dX4_meter_94 rfl 2 rfl ?_
              refine s_getR (ci := 4) (j := 28) (ref := "WindGasModel") hX (pcG 4) in_X4 (Or.inl q1566) (by decide) (by decide) (by decide) rfl dX4_meter_95 (fun _ h9 => h9) (fun v12 => ?_)
              refine s_iload_n hX dX4_meter_98 rfl 3 rfl ?_
              refine s_dup2 hX dX4_meter_99 rfl (rv_cat _) ?_
              refine s_lald hX (pcA 1) dX4_meter_100 (fun v13 => ?_)
              refine s_iload hX dX4_meter_101 0 rfl ?_
              refine s_i2l hX dX4_meter_103 ?_
              refine s_ladd hX dX4_meter_104 ?_
              refine s_last hX (pcA 1) (pcB 1) dX4_meter_105 ?_
              refine s_aload_n hX dX4_meter_106 rfl 2 rfl ?_
              refine s_getR (ci := 4) (j := 17) (ref := "WindGasModel") hX (pcG 4) in_X4 (Or.inl q1555) (by decide) (by decide) (by decide) rfl dX4_meter_107 (fun _ h9 => h9) (fun v14 => ?_)
              refine s_bipush (v := 8) hX dX4_meter_110 (by decide) ?_
              refine s_dup2 hX dX4_meter_112 rfl (rv_cat _) ?_
              refine s_lald hX (pcA 1) dX4_meter_113 (fun v15 => ?_)
              refine s_iload hX dX4_meter_114 0 rfl ?_
              refine s_i2l hX dX4_meter_116 ?_
              refine s_ladd hX dX4_meter_117 ?_
              refine s_last hX (pcA 1) (pcB 1) dX4_meter_118 ?_
              refine s_iconst (v := 1) hX dX4_meter_119 rfl ?_
              exact s_iret hX dX4_meter_120
            · refine s_iconst (v := 0) hX dX4_meter_74 rfl ?_
              exact s_iret hX dX4_meter_75
          · refine s_iconst (v := 2) hX dX4_meter_59 rfl ?_
            exact s_iret hX dX4_meter_60
        · exact s_sub [] rfl (hj27 ())
theorem dX4_four_0 : decode cX4_four 0 = .ok (.bipush 24, 2) := by decide +kernel
theorem dX4_four_2 : decode cX4_four 2 = .ok (.istore_n 2, 1) := by decide +kernel
theorem dX4_four_3 : decode cX4_four 3 = .ok (.iload_n 2, 1) := by decide +kernel
theorem dX4_four_4 : decode cX4_four 4 = .ok (.ifCond .lt 32, 3) := by decide +kernel
theorem dX4_four_7 : decode cX4_four 7 = .ok (.aload_n 0, 1) := by decide +kernel
theorem dX4_four_8 : decode cX4_four 8 = .ok (.getfield 173, 3) := by decide +kernel
theorem dX4_four_11 : decode cX4_four 11 = .ok (.aload_n 0, 1) := by decide +kernel
theorem dX4_four_12 : decode cX4_four 12 = .ok (.getfield 339, 3) := by decide +kernel
theorem dX4_four_15 : decode cX4_four 15 = .ok (.iload_n 1, 1) := by decide +kernel
theorem dX4_four_16 : decode cX4_four 16 = .ok (.iload_n 2, 1) := by decide +kernel
theorem dX4_four_17 : decode cX4_four 17 = .ok (.ishr, 1) := by decide +kernel
theorem dX4_four_18 : decode cX4_four 18 = .ok (.i2b, 1) := by decide +kernel
theorem dX4_four_19 : decode cX4_four 19 = .ok (.bastore, 1) := by decide +kernel
theorem dX4_four_20 : decode cX4_four 20 = .ok (.aload_n 0, 1) := by decide +kernel
theorem dX4_four_21 : decode cX4_four 21 = .ok (.dup, 1) := by decide +kernel
theorem dX4_four_22 : decode cX4_four 22 = .ok (.getfield 339, 3) := by decide +kernel
theorem dX4_four_25 : decode cX4_four 25 = .ok (.iconst 1, 1) := by decide +kernel
theorem dX4_four_26 : decode cX4_four 26 = .ok (.iadd, 1) := by decide +kernel
theorem dX4_four_27 : decode cX4_four 27 = .ok (.putfield 339, 3) := by decide +kernel
theorem dX4_four_30 : decode cX4_four 30 = .ok (.iinc 2 (-8), 3) := by decide +kernel
theorem dX4_four_33 : decode cX4_four 33 = .ok (.goto (-30), 3) := by decide +kernel
theorem dX4_four_36 : decode cX4_four 36 = .ok (.return_, 1) := by decide +kernel
theorem ycX4_four : yX4_four.cls ≠ "java/lang/invoke/MethodHandle" ∧ yX4_four.cls ≠ "java/lang/invoke/VarHandle" ∧ (parseMethodDescriptor yX4_four.desc).map (fun d => d.parameters.length) = some 1 := by decide +kernel
theorem yvX4_four : yX4_four.cls = RR 4 ∧ yX4_four.cls ≠ "java/lang/invoke/MethodHandle" ∧ yX4_four.cls ≠ "java/lang/invoke/VarHandle" ∧ (parseMethodDescriptor yX4_four.desc).map (fun d => d.parameters.length) = some 1 := ⟨rfl, ycX4_four⟩
def lp_X4_four_3 (p0 : Nat) (p1 : Int32) (q : Nat) : Int32 → Act Unit := match q with
  | 0 => fun _ => fail
  | q + 1 => fun w1 =>
    if w1 < 0 then
      pur ()
    else
      bnd (getR 4 68 p0) fun v2 =>
      bnd (getI 4 51 p0) fun v3 =>
      bnd (stI 2 v2 v3 ((p1 >>> (w1 &&& 31)).toInt8.toInt32)) fun _ =>
      bnd (getI 4 51 p0) fun v4 =>
      bnd (putI 4 51 p0 (v4 + 1)) fun _ =>
      (lp_X4_four_3 p0 p1 q) (w1 + (-8))
def f_X4_four (n : Nat) (p0 : Nat) (p1 : Int32) : Act Unit :=
  lp_X4_four_3 p0 p1 n 24
set_option maxHeartbeats 4000000 in
theorem s_lp_X4_four_3 {X : Cx} (hX : Ok X Pic cX4_four RX4 3 none 0 0) (hnh : Noh X) (p0 : Nat) (p1 : Int32) (q : Nat) : ∀ (w1 : Int32), Sim X cvU 3 [(0, rv p0), (1, .int p1), (2, .int w1)] [] (lp_X4_four_3 p0 p1 q w1) := by
  induction q with
  | zero => intro w1; exact s_fail
  | succ q ih3 =>
    intro w1
    rw [lp_X4_four_3]
    refine s_iload_n hX dX4_four_3 rfl 2 rfl ?_
    refine s_if_lt (tgt := 36) hX dX4_four_4 (by decide) ?_ ?_
    · exact s_vret hX dX4_four_36
    · refine s_aload_n hX dX4_four_7 rfl 0 rfl ?_
      refine s_getR (ci := 4) (j := 68) (ref := "WindGasModel") hX (pcG 4) in_X4 (Or.inl q1606) (by decide) (by decide) (by decide) rfl dX4_four_8 (fun _ h9 => h9) (fun v2 => ?_)
      refine s_aload_n hX dX4_four_11 rfl 0 rfl ?_
      refine s_getI (ci := 4) (j := 51) (ref := "WindGasModel") hX (pcG 4) in_X4 (Or.inl q1589) (by decide) (by decide) (by decide) rfl dX4_four_12 (fun _ h9 => h9) (fun v3 => ?_)
      refine s_iload_n hX dX4_four_15 rfl 1 rfl ?_
      refine s_iload_n hX dX4_four_16 rfl 2 rfl ?_
      refine s_ishr hX dX4_four_17 ?_
      refine s_i2b hX dX4_four_18 ?_
      refine s_bast hX (pcA 2) (pcB 2) dX4_four_19 ?_
      refine s_aload_n hX dX4_four_20 rfl 0 rfl ?_
      refine s_dup hX dX4_four_21 (rv_cat _) ?_
      refine s_getI (ci := 4) (j := 51) (ref := "WindGasModel") hX (pcG 4) in_X4 (Or.inl q1589) (by decide) (by decide) (by decide) rfl dX4_four_22 (fun _ h9 => h9) (fun v4 => ?_)
      refine s_iconst (v := 1) hX dX4_four_25 rfl ?_
      refine s_iadd hX dX4_four_26 ?_
      refine s_putI (ci := 4) (j := 51) (ref := "WindGasModel") hX (pcG 4) (pcP 4) in_X4 tyX4_ok nmX4 (Or.inl q1589) (by decide) (by decide) (by decide) rfl rfl rfl dX4_four_27 (fun _ h9 => h9) ?_
      refine s_iinc (k := 2) (v := (w1 + (-8))) (L2 := [(2, .int (w1 + (-8))), (0, rv p0), (1, .int p1)]) hX dX4_four_30 rfl rfl (by decide) rfl ?_
      refine s_goto (tgt := 3) hX dX4_four_33 (by decide) ?_
      exact s_sub [1, 2, 0] rfl (ih3 (w1 + (-8)))
set_option maxHeartbeats 4000000 in
theorem ct_X4_four (l : Launch) (n : Nat) (p0 : Nat) (p1 : Int32) : Ct l Pic yX4_four (ws_ yX4_four cX4_four 3 none) 0 0 cvU [rv p0, .int p1] (f_X4_four n p0 p1) := by
  refine Ct.of (own := RX4) (L := [(0, rv p0), (1, .int p1)]) (plainFor_of_name (by decide)) rfl (by first | decide | simp [lg_sl, rv_cat, cat_i, cat_l]) (by first | rfl | simp [lv_args, rv_cat, cat_i, cat_l]) pcZ (fun X hXl hX hnh hin => ?_)
  subst hXl
  unfold f_X4_four
  refine s_bipush (v := 24) hX dX4_four_0 (by decide) ?_
  refine s_istore_n (i := 2) (L2 := [(2, .int 24), (0, rv p0), (1, .int p1)]) hX dX4_four_2 rfl (by decide) rfl ?_
  exact s_sub [1, 2, 0] rfl (s_lp_X4_four_3 hX hnh p0 p1 n 24)
theorem dX4_feed_0 : decode cX4_feed 0 = .ok (.aload_n 0, 1) := by decide +kernel
theorem dX4_feed_1 : decode cX4_feed 1 = .ok (.getfield 339, 3) := by decide +kernel
theorem dX4_feed_4 : decode cX4_feed 4 = .ok (.bipush 20, 2) := by decide +kernel
theorem dX4_feed_6 : decode cX4_feed 6 = .ok (.iadd, 1) := by decide +kernel
theorem dX4_feed_7 : decode cX4_feed 7 = .ok (.sipush 600, 3) := by decide +kernel
theorem dX4_feed_10 : decode cX4_feed 10 = .ok (.if_icmp .le 5, 3) := by decide +kernel
theorem dX4_feed_13 : decode cX4_feed 13 = .ok (.iconst (-1), 1) := by decide +kernel
theorem dX4_feed_14 : decode cX4_feed 14 = .ok (.ireturn, 1) := by decide +kernel
theorem dX4_feed_15 : decode cX4_feed 15 = .ok (.aload_n 0, 1) := by decide +kernel
theorem dX4_feed_16 : decode cX4_feed 16 = .ok (.iload_n 1, 1) := by decide +kernel
theorem dX4_feed_17 : decode cX4_feed 17 = .ok (.invokevirtual 342, 3) := by decide +kernel
theorem dX4_feed_20 : decode cX4_feed 20 = .ok (.aload_n 0, 1) := by decide +kernel
theorem dX4_feed_21 : decode cX4_feed 21 = .ok (.iload_n 2, 1) := by decide +kernel
theorem dX4_feed_22 : decode cX4_feed 22 = .ok (.invokevirtual 342, 3) := by decide +kernel
theorem dX4_feed_25 : decode cX4_feed 25 = .ok (.aload_n 0, 1) := by decide +kernel
theorem dX4_feed_26 : decode cX4_feed 26 = .ok (.iload_n 3, 1) := by decide +kernel
theorem dX4_feed_27 : decode cX4_feed 27 = .ok (.invokevirtual 342, 3) := by decide +kernel
theorem dX4_feed_30 : decode cX4_feed 30 = .ok (.aload_n 0, 1) := by decide +kernel
theorem dX4_feed_31 : decode cX4_feed 31 = .ok (.iload 4, 2) := by decide +kernel
theorem dX4_feed_33 : decode cX4_feed 33 = .ok (.invokevirtual 342, 3) := by decide +kernel
theorem dX4_feed_36 : decode cX4_feed 36 = .ok (.aload_n 0, 1) := by decide +kernel
theorem dX4_feed_37 : decode cX4_feed 37 = .ok (.iload 5, 2) := by decide +kernel
theorem dX4_feed_39 : decode cX4_feed 39 = .ok (.invokevirtual 342, 3) := by decide +kernel
theorem dX4_feed_42 : decode cX4_feed 42 = .ok (.aload_n 0, 1) := by decide +kernel
theorem dX4_feed_43 : decode cX4_feed 43 = .ok (.getfield 339, 3) := by decide +kernel
theorem dX4_feed_46 : decode cX4_feed 46 = .ok (.ireturn, 1) := by decide +kernel
theorem ycX4_feed : yX4_feed.cls ≠ "java/lang/invoke/MethodHandle" ∧ yX4_feed.cls ≠ "java/lang/invoke/VarHandle" ∧ (parseMethodDescriptor yX4_feed.desc).map (fun d => d.parameters.length) = some 5 := by decide +kernel
theorem yvX4_feed : yX4_feed.cls = RR 4 ∧ yX4_feed.cls ≠ "java/lang/invoke/MethodHandle" ∧ yX4_feed.cls ≠ "java/lang/invoke/VarHandle" ∧ (parseMethodDescriptor yX4_feed.desc).map (fun d => d.parameters.length) = some 5 := ⟨rfl, ycX4_feed⟩
def f_X4_feed (n : Nat) (p0 : Nat) (p1 : Int32) (p2 : Int32) (p3 : Int32) (p4 : Int32) (p5 : Int32) : Act Int32 :=
  bnd (getI 4 51 p0) fun v1 =>
  if (v1 + 20) ≤ 600 then
    bnd (gd 4 p0 (nt (f_X4_four n p0 p1))) fun _ =>
    bnd (gd 4 p0 (nt (f_X4_four n p0 p2))) fun _ =>
    bnd (gd 4 p0 (nt (f_X4_four n p0 p3))) fun _ =>
    bnd (gd 4 p0 (nt (f_X4_four n p0 p4))) fun _ =>
    bnd (gd 4 p0 (nt (f_X4_four n p0 p5))) fun _ =>
    bnd (getI 4 51 p0) fun v2 =>
    pur v2
  else
    pur (-1)
set_option maxHeartbeats 4000000 in
theorem ct_X4_feed (l : Launch) (n : Nat) (p0 : Nat) (p1 : Int32) (p2 : Int32) (p3 : Int32) (p4 : Int32) (p5 : Int32) : Ct l Pic yX4_feed (ws_ yX4_feed cX4_feed 6 (some FieldType.int)) 1 22 cvI [rv p0, .int p1, .int p2, .int p3, .int p4, .int p5] (f_X4_feed n p0 p1 p2 p3 p4 p5) := by
  refine Ct.of (own := RX4) (L := [(0, rv p0), (1, .int p1), (2, .int p2), (3, .int p3), (4, .int p4), (5, .int p5)]) (plainFor_of_name (by decide)) rfl (by first | decide | simp [lg_sl, rv_cat, cat_i, cat_l]) (by first | rfl | simp [lv_args, rv_cat, cat_i, cat_l]) pcZ (fun X hXl hX hnh hin => ?_)
  subst hXl
  unfold f_X4_feed
  refine s_aload_n hX dX4_feed_0 rfl 0 rfl ?_
  refine s_getI (ci := 4) (j := 51) (ref := "WindGasModel") hX (pcG 4) in_X4 (Or.inl q1589) (by decide) (by decide) (by decide) rfl dX4_feed_1 (fun _ h9 => h9) (fun v1 => ?_)
  refine s_bipush (v := 20) hX dX4_feed_4 (by decide) ?_
  refine s_iadd hX dX4_feed_6 ?_
  refine s_sipush (v := 600) hX dX4_feed_7 (by decide) ?_
  refine s_icmp_le (tgt := 15) hX dX4_feed_10 (by decide) ?_ ?_
  · refine s_aload_n hX dX4_feed_15 rfl 0 rfl ?_
    refine s_iload_n hX dX4_feed_16 rfl 1 rfl ?_
    refine s_callV_U (ci := 4) (n := 1) (As := [.int p1]) (st := []) hX (pcK 5) (by decide) (ct_X4_four X.l n p0 p1) q1966 q1968 qs65 q91 q1969 yvX4_four (by decide) rfl (by first | decide | simp [rv_cat, cat_i, cat_l]) dX4_feed_17 (fun _ => ?_)
    refine s_aload_n hX dX4_feed_20 rfl 0 rfl ?_
    refine s_iload_n hX dX4_feed_21 rfl 2 rfl ?_
    refine s_callV_U (ci := 4) (n := 1) (As := [.int p2]) (st := []) hX (pcK 5) (by decide) (ct_X4_four X.l n p0 p2) q1966 q1968 qs65 q91 q1969 yvX4_four (by decide) rfl (by first | decide | simp [rv_cat, cat_i, cat_l]) dX4_feed_22 (fun _ => ?_)
    refine s_aload_n hX dX4_feed_25 rfl 0 rfl ?_
    refine s_iload_n hX dX4_feed_26 rfl 3 rfl ?_
    refine s_callV_U (ci := 4) (n := 1) (As := [.int p3]) (st := []) hX (pcK 5) (by decide) (ct_X4_four X.l n p0 p3) q1966 q1968 qs65 q91 q1969 yvX4_four (by decide) rfl (by first | decide | simp [rv_cat, cat_i, cat_l]) dX4_feed_27 (fun _ => ?_)
    refine s_aload_n hX dX4_feed_30 rfl 0 rfl ?_
    refine s_iload hX dX4_feed_31 4 rfl ?_
    refine s_callV_U (ci := 4) (n := 1) (As := [.int p4]) (st := []) hX (pcK 5) (by decide) (ct_X4_four X.l n p0 p4) q1966 q1968 qs65 q91 q1969 yvX4_four (by decide) rfl (by first | decide | simp [rv_cat, cat_i, cat_l]) dX4_feed_33 (fun _ => ?_)
    refine s_aload_n hX dX4_feed_36 rfl 0 rfl ?_
    refine s_iload hX dX4_feed_37 5 rfl ?_
    refine s_callV_U (ci := 4) (n := 1) (As := [.int p5]) (st := []) hX (pcK 5) (by decide) (ct_X4_four X.l n p0 p5) q1966 q1968 qs65 q91 q1969 yvX4_four (by decide) rfl (by first | decide | simp [rv_cat, cat_i, cat_l]) dX4_feed_39 (fun _ => ?_)
    refine s_aload_n hX dX4_feed_42 rfl 0 rfl ?_
    refine s_getI (ci := 4) (j := 51) (ref := "WindGasModel") hX (pcG 4) in_X4 (Or.inl q1589) (by decide) (by decide) (by decide) rfl dX4_feed_43 (fun _ h9 => h9) (fun v2 => ?_)
    exact s_iret hX dX4_feed_46
  · refine s_iconst (v := -1) hX dX4_feed_13 (by decide) ?_
    exact s_iret hX dX4_feed_14
theorem dX4_blanks_0 : decode cX4_blanks 0 = .ok (.aload_n 0, 1) := by decide +kernel
theorem dX4_blanks_1 : decode cX4_blanks 1 = .ok (.getfield 345, 3) := by decide +kernel
theorem dX4_blanks_4 : decode cX4_blanks 4 = .ok (.aload_n 0, 1) := by decide +kernel
theorem dX4_blanks_5 : decode cX4_blanks 5 = .ok (.getfield 348, 3) := by decide +kernel
theorem dX4_blanks_8 : decode cX4_blanks 8 = .ok (.if_icmp .ge 44, 3) := by decide +kernel
theorem dX4_blanks_11 : decode cX4_blanks 11 = .ok (.aload_n 0, 1) := by decide +kernel
theorem dX4_blanks_12 : decode cX4_blanks 12 = .ok (.getfield 177, 3) := by decide +kernel
theorem dX4_blanks_15 : decode cX4_blanks 15 = .ok (.aload_n 0, 1) := by decide +kernel
theorem dX4_blanks_16 : decode cX4_blanks 16 = .ok (.getfield 345, 3) := by decide +kernel
theorem dX4_blanks_19 : decode cX4_blanks 19 = .ok (.baload, 1) := by decide +kernel
theorem dX4_blanks_20 : decode cX4_blanks 20 = .ok (.bipush 32, 2) := by decide +kernel
theorem dX4_blanks_22 : decode cX4_blanks 22 = .ok (.if_icmp .eq 17, 3) := by decide +kernel
theorem dX4_blanks_25 : decode cX4_blanks 25 = .ok (.aload_n 0, 1) := by decide +kernel
theorem dX4_blanks_26 : decode cX4_blanks 26 = .ok (.getfield 177, 3) := by decide +kernel
theorem dX4_blanks_29 : decode cX4_blanks 29 = .ok (.aload_n 0, 1) := by decide +kernel
theorem dX4_blanks_30 : decode cX4_blanks 30 = .ok (.getfield 345, 3) := by decide +kernel
theorem dX4_blanks_33 : decode cX4_blanks 33 = .ok (.baload, 1) := by decide +kernel
theorem dX4_blanks_34 : decode cX4_blanks 34 = .ok (.bipush 10, 2) := by decide +kernel
theorem dX4_blanks_36 : decode cX4_blanks 36 = .ok (.if_icmp .ne 16, 3) := by decide +kernel
theorem dX4_blanks_39 : decode cX4_blanks 39 = .ok (.aload_n 0, 1) := by decide +kernel
theorem dX4_blanks_40 : decode cX4_blanks 40 = .ok (.dup, 1) := by decide +kernel
theorem dX4_blanks_41 : decode cX4_blanks 41 = .ok (.getfield 345, 3) := by decide +kernel
theorem dX4_blanks_44 : decode cX4_blanks 44 = .ok (.iconst 1, 1) := by decide +kernel
theorem dX4_blanks_45 : decode cX4_blanks 45 = .ok (.iadd, 1) := by decide +kernel
theorem dX4_blanks_46 : decode cX4_blanks 46 = .ok (.putfield 345, 3) := by decide +kernel
theorem dX4_blanks_49 : decode cX4_blanks 49 = .ok (.goto (-49), 3) := by decide +kernel
theorem dX4_blanks_52 : decode cX4_blanks 52 = .ok (.return_, 1) := by decide +kernel
theorem ycX4_blanks : yX4_blanks.cls ≠ "java/lang/invoke/MethodHandle" ∧ yX4_blanks.cls ≠ "java/lang/invoke/VarHandle" ∧ (parseMethodDescriptor yX4_blanks.desc).map (fun d => d.parameters.length) = some 0 := by decide +kernel
theorem yvX4_blanks : yX4_blanks.cls = RR 4 ∧ yX4_blanks.cls ≠ "java/lang/invoke/MethodHandle" ∧ yX4_blanks.cls ≠ "java/lang/invoke/VarHandle" ∧ (parseMethodDescriptor yX4_blanks.desc).map (fun d => d.parameters.length) = some 0 := ⟨rfl, ycX4_blanks⟩
def lp_X4_blanks_0 (p0 : Nat) (q : Nat) : Unit → Act Unit := match q with
  | 0 => fun _ => fail
  | q + 1 => fun _ =>
    bnd (getI 4 53 p0) fun v1 =>
    bnd (getI 4 52 p0) fun v2 =>
    jn (fun (_ : Unit) =>
      pur ()) fun j52 =>
    if v2 ≤ v1 then
      j52 ()
    else
      bnd (getR 4 69 p0) fun v3 =>
      bnd (getI 4 53 p0) fun v4 =>
      bnd (ldI 2 v3 v4) fun v5 =>
      jn (fun (_ : Unit) =>
        bnd (getI 4 53 p0) fun v6 =>
        bnd (putI 4 53 p0 (v6 + 1)) fun _ =>
        (lp_X4_blanks_0 p0 q) ()) fun j39 =>
      if v5 = 32 then
        j39 ()
      else
        bnd (getR 4 69 p0) fun v7 =>
        bnd (getI 4 53 p0) fun v8 =>
        bnd (ldI 2 v7 v8) fun v9 =>
        if ¬ v9 = 10 then
          j52 ()
        else
          j39 ()
def f_X4_blanks (n : Nat) (p0 : Nat) : Act Unit :=
  lp_X4_blanks_0 p0 n ()
set_option maxHeartbeats 4000000 in
theorem s_lp_X4_blanks_0 {X : Cx} (hX : Ok X Pic cX4_blanks RX4 1 none 0 0) (hnh : Noh X) (p0 : Nat) (q : Nat) : ∀ (u : Unit), Sim X cvU 0 [(0, rv p0)] [] (lp_X4_blanks_0 p0 q u) := by
  induction q with
  | zero => intro u; exact s_fail
  | succ q ih0 =>
    intro u
    rw [lp_X4_blanks_0]
    refine s_aload_n hX dX4_blanks_0 rfl 0 rfl ?_
    refine s_getI (ci := 4) (j := 53) (ref := "WindGasModel") hX (pcG 4) in_X4 (Or.inl q1591) (by decide) (by decide) (by decide) rfl dX4_blanks_1 (fun _ h9 => h9) (fun v1 => ?_)
    refine s_aload_n hX dX4_blanks_4 rfl 0 rfl ?_
    refine s_getI (ci := 4) (j := 52) (ref := "WindGasModel") hX (pcG 4) in_X4 (Or.inl q1590) (by decide) (by decide) (by decide) rfl dX4_blanks_5 (fun _ h9 => h9) (fun v2 => ?_)
    refine s_jn (P := fun j => ∀ (u : Unit), Sim X cvU 52 [] [] (j u)) ?_ (fun j52 hj52 => ?_)
    · intro u
      exact s_vret hX dX4_blanks_52
    · refine s_icmp_ge (tgt := 52) hX dX4_blanks_8 (by decide) ?_ ?_
      · exact s_sub [] rfl (hj52 ())
      · refine s_aload_n hX dX4_blanks_11 rfl 0 rfl ?_
        refine s_getR (ci := 4) (j := 69) (ref := "WindGasModel") hX (pcG 4) in_X4 (Or.inl q1607) (by decide) (by decide) (by decide) rfl dX4_blanks_12 (fun _ h9 => h9) (fun v3 => ?_)
        refine s_aload_n hX dX4_blanks_15 rfl 0 rfl ?_
        refine s_getI (ci := 4) (j := 53) (ref := "WindGasModel") hX (pcG 4) in_X4 (Or.inl q1591) (by decide) (by decide) (by decide) rfl dX4_blanks_16 (fun _ h9 => h9) (fun v4 => ?_)
        refine s_bald hX (pcA 2) dX4_blanks_19 (fun v5 => ?_)
        refine s_bipush (v := 32) hX dX4_blanks_20 (by decide) ?_
        refine s_jn (P := fun j => ∀ (u : Unit), Sim X cvU 39 [(0, rv p0)] [] (j u)) ?_ (fun j39 hj39 => ?_)
        · intro u
          refine s_aload_n hX dX4_blanks_39 rfl 0 rfl ?_
          refine s_dup hX dX4_blanks_40 (rv_cat _) ?_
          refine s_getI (ci := 4) (j := 53) (ref := "WindGasModel") hX (pcG 4) in_X4 (Or.inl q1591) (by decide) (by decide) (by decide) rfl dX4_blanks_41 (fun _ h9 => h9) (fun v6 => ?_)
          refine s_iconst (v := 1) hX dX4_blanks_44 rfl ?_
          refine s_iadd hX dX4_blanks_45 ?_
          refine s_putI (ci := 4) (j := 53) (ref := "WindGasModel") hX (pcG 4) (pcP 4) in_X4 tyX4_ok nmX4 (Or.inl q1591) (by decide) (by decide) (by decide) rfl rfl rfl dX4_blanks_46 (fun _ h9 => h9) ?_
          refine s_goto (tgt := 0) hX dX4_blanks_49 (by decide) ?_
          exact ih0 ()
        · refine s_icmp_eq (tgt := 39) hX dX4_blanks_22 (by decide) ?_ ?_
          · exact hj39 ()
          · refine s_aload_n hX dX4_blanks_25 rfl 0 rfl ?_
            refine s_getR (ci := 4) (j := 69) (ref := "WindGasModel") hX (pcG 4) in_X4 (Or.inl q1607) (by decide) (by decide) (by decide) rfl dX4_blanks_26 (fun _ h9 => h9) (fun v7 => ?_)
            refine s_aload_n hX dX4_blanks_29 rfl 0 rfl ?_
            refine s_getI (ci := 4) (j := 53) (ref := "WindGasModel") hX (pcG 4) in_X4 (Or.inl q1591) (by decide) (by decide) (by decide) rfl dX4_blanks_30 (fun _ h9 => h9) (fun v8 => ?_)
            refine s_bald hX (pcA 2) dX4_blanks_33 (fun v9 => ?_)
            refine s_bipush (v := 10) hX dX4_blanks_34 (by decide) ?_
            refine s_icmp_ne (tgt := 52) hX dX4_blanks_36 (by decide) ?_ ?_
            · exact s_sub [] rfl (hj52 ())
            · exact hj39 ()
set_option maxHeartbeats 4000000 in
theorem ct_X4_blanks (l : Launch) (n : Nat) (p0 : Nat) : Ct l Pic yX4_blanks (ws_ yX4_blanks cX4_blanks 1 none) 0 0 cvU [rv p0] (f_X4_blanks n p0) := by
  refine Ct.of (own := RX4) (L := [(0, rv p0)]) (plainFor_of_name (by decide)) rfl (by first | decide | simp [lg_sl, rv_cat, cat_i, cat_l]) (by first | rfl | simp [lv_args, rv_cat, cat_i, cat_l]) pcZ (fun X hXl hX hnh hin => ?_)
  subst hXl
  unfold f_X4_blanks
  exact s_lp_X4_blanks_0 hX hnh p0 n ()
theorem dX4_word_0 : decode cX4_word 0 = .ok (.aload_n 0, 1) := by decide +kernel
theorem dX4_word_1 : decode cX4_word 1 = .ok (.invokevirtual 351, 3) := by decide +kernel
theorem dX4_word_4 : decode cX4_word 4 = .ok (.aload_n 0, 1) := by decide +kernel
theorem dX4_word_5 : decode cX4_word 5 = .ok (.aload_n 0, 1) := by decide +kernel
theorem dX4_word_6 : decode cX4_word 6 = .ok (.getfield 345, 3) := by decide +kernel
theorem dX4_word_9 : decode cX4_word 9 = .ok (.putfield 354, 3) := by decide +kernel
theorem dX4_word_12 : decode cX4_word 12 = .ok (.lconst 0, 1) := by decide +kernel
theorem dX4_word_13 : decode cX4_word 13 = .ok (.lstore_n 1, 1) := by decide +kernel
theorem dX4_word_14 : decode cX4_word 14 = .ok (.aload_n 0, 1) := by decide +kernel
theorem dX4_word_15 : decode cX4_word 15 = .ok (.getfield 354, 3) := by decide +kernel
theorem dX4_word_18 : decode cX4_word 18 = .ok (.aload_n 0, 1) := by decide +kernel
theorem dX4_word_19 : decode cX4_word 19 = .ok (.getfield 348, 3) := by decide +kernel
theorem dX4_word_22 : decode cX4_word 22 = .ok (.if_icmp .ge 78, 3) := by decide +kernel
theorem dX4_word_25 : decode cX4_word 25 = .ok (.aload_n 0, 1) := by decide +kernel
theorem dX4_word_26 : decode cX4_word 26 = .ok (.getfield 177, 3) := by decide +kernel
theorem dX4_word_29 : decode cX4_word 29 = .ok (.aload_n 0, 1) := by decide +kernel
theorem dX4_word_30 : decode cX4_word 30 = .ok (.getfield 354, 3) := by decide +kernel
theorem dX4_word_33 : decode cX4_word 33 = .ok (.baload, 1) := by decide +kernel
theorem dX4_word_34 : decode cX4_word 34 = .ok (.bipush 97, 2) := by decide +kernel
theorem dX4_word_36 : decode cX4_word 36 = .ok (.if_icmp .lt 64, 3) := by decide +kernel
theorem dX4_word_39 : decode cX4_word 39 = .ok (.aload_n 0, 1) := by decide +kernel
theorem dX4_word_40 : decode cX4_word 40 = .ok (.getfield 177, 3) := by decide +kernel
theorem dX4_word_43 : decode cX4_word 43 = .ok (.aload_n 0, 1) := by decide +kernel
theorem dX4_word_44 : decode cX4_word 44 = .ok (.getfield 354, 3) := by decide +kernel
theorem dX4_word_47 : decode cX4_word 47 = .ok (.baload, 1) := by decide +kernel
theorem dX4_word_48 : decode cX4_word 48 = .ok (.bipush 122, 2) := by decide +kernel
theorem dX4_word_50 : decode cX4_word 50 = .ok (.if_icmp .gt 50, 3) := by decide +kernel
theorem dX4_word_53 : decode cX4_word 53 = .ok (.aload_n 0, 1) := by decide +kernel
theorem dX4_word_54 : decode cX4_word 54 = .ok (.getfield 354, 3) := by decide +kernel
theorem dX4_word_57 : decode cX4_word 57 = .ok (.aload_n 0, 1) := by decide +kernel
theorem dX4_word_58 : decode cX4_word 58 = .ok (.getfield 345, 3) := by decide +kernel
theorem dX4_word_61 : decode cX4_word 61 = .ok (.isub, 1) := by decide +kernel
theorem dX4_word_62 : decode cX4_word 62 = .ok (.bipush 7, 2) := by decide +kernel
theorem dX4_word_64 : decode cX4_word 64 = .ok (.if_icmp .ge 21, 3) := by decide +kernel
theorem dX4_word_67 : decode cX4_word 67 = .ok (.lload_n 1, 1) := by decide +kernel
theorem dX4_word_68 : decode cX4_word 68 = .ok (.bipush 8, 2) := by decide +kernel
theorem dX4_word_70 : decode cX4_word 70 = .ok (.lshl, 1) := by decide +kernel
theorem dX4_word_71 : decode cX4_word 71 = .ok (.aload_n 0, 1) := by decide +kernel
theorem dX4_word_72 : decode cX4_word 72 = .ok (.getfield 177, 3) := by decide +kernel
theorem dX4_word_75 : decode cX4_word 75 = .ok (.aload_n 0, 1) := by decide +kernel
theorem dX4_word_76 : decode cX4_word 76 = .ok (.getfield 354, 3) := by decide +kernel
theorem dX4_word_79 : decode cX4_word 79 = .ok (.baload, 1) := by decide +kernel
theorem dX4_word_80 : decode cX4_word 80 = .ok (.i2l, 1) := by decide +kernel
theorem dX4_word_81 : decode cX4_word 81 = .ok (.lor, 1) := by decide +kernel
theorem dX4_word_82 : decode cX4_word 82 = .ok (.goto 4, 3) := by decide +kernel
theorem dX4_word_85 : decode cX4_word 85 = .ok (.lconst 0, 1) := by decide +kernel
theorem dX4_word_86 : decode cX4_word 86 = .ok (.lstore_n 1, 1) := by decide +kernel
theorem dX4_word_87 : decode cX4_word 87 = .ok (.aload_n 0, 1) := by decide +kernel
theorem dX4_word_88 : decode cX4_word 88 = .ok (.dup, 1) := by decide +kernel
theorem dX4_word_89 : decode cX4_word 89 = .ok (.getfield 354, 3) := by decide +kernel
theorem dX4_word_92 : decode cX4_word 92 = .ok (.iconst 1, 1) := by decide +kernel
theorem dX4_word_93 : decode cX4_word 93 = .ok (.iadd, 1) := by decide +kernel
theorem dX4_word_94 : decode cX4_word 94 = .ok (.putfield 354, 3) := by decide +kernel
theorem dX4_word_97 : decode cX4_word 97 = .ok (.goto (-83), 3) := by decide +kernel
theorem dX4_word_100 : decode cX4_word 100 = .ok (.aload_n 0, 1) := by decide +kernel
theorem dX4_word_101 : decode cX4_word 101 = .ok (.getfield 354, 3) := by decide +kernel
theorem dX4_word_104 : decode cX4_word 104 = .ok (.aload_n 0, 1) := by decide +kernel
theorem dX4_word_105 : decode cX4_word 105 = .ok (.getfield 345, 3) := by decide +kernel
theorem dX4_word_108 : decode cX4_word 108 = .ok (.isub, 1) := by decide +kernel
theorem dX4_word_109 : decode cX4_word 109 = .ok (.bipush 7, 2) := by decide +kernel
theorem dX4_word_111 : decode cX4_word 111 = .ok (.if_icmp .le 7, 3) := by decide +kernel
theorem dX4_word_114 : decode cX4_word 114 = .ok (.lconst 0, 1) := by decide +kernel
theorem dX4_word_115 : decode cX4_word 115 = .ok (.goto 4, 3) := by decide +kernel
theorem dX4_word_118 : decode cX4_word 118 = .ok (.lload_n 1, 1) := by decide +kernel
theorem dX4_word_119 : decode cX4_word 119 = .ok (.lreturn, 1) := by decide +kernel
theorem ycX4_word : yX4_word.cls ≠ "java/lang/invoke/MethodHandle" ∧ yX4_word.cls ≠ "java/lang/invoke/VarHandle" ∧ (parseMethodDescriptor yX4_word.desc).map (fun d => d.parameters.length) = some 0 := by decide +kernel
theorem yvX4_word : yX4_word.cls = RR 4 ∧ yX4_word.cls ≠ "java/lang/invoke/MethodHandle" ∧ yX4_word.cls ≠ "java/lang/invoke/VarHandle" ∧ (parseMethodDescriptor yX4_word.desc).map (fun d => d.parameters.length) = some 0 := ⟨rfl, ycX4_word⟩
def lp_X4_word_14 (p0 : Nat) (j100 : Int64 → Act Int64) (q : Nat) : Int64 → Act Int64 := match q with
  | 0 => fun _ => fail
  | q + 1 => fun w2 =>
    bnd (getI 4 71 p0) fun v7 =>
    bnd (getI 4 52 p0) fun v8 =>
    if v8 ≤ v7 then
      j100 w2
    else
      bnd (getR 4 69 p0) fun v9 =>
      bnd (getI 4 71 p0) fun v10 =>
      bnd (ldI 2 v9 v10) fun v11 =>
      if v11 < 97 then
        j100 w2
      else
        bnd (getR 4 69 p0) fun v12 =>
        bnd (getI 4 71 p0) fun v13 =>
        bnd (ldI 2 v12 v13) fun v14 =>
        if 122 < v14 then
          j100 w2
        else
          bnd (getI 4 71 p0) fun v15 =>
          bnd (getI 4 53 p0) fun v16 =>
          jn (fun (v17 : Int64) =>
            bnd (getI 4 71 p0) fun v18 =>
            bnd (putI 4 71 p0 (v18 + 1)) fun _ =>
            (lp_X4_word_14 p0 j100 q) v17) fun j86 =>
          if 7 ≤ (v15 - v16) then
            j86 0
          else
            bnd (getR 4 69 p0) fun v19 =>
            bnd (getI 4 71 p0) fun v20 =>
            bnd (ldI 2 v19 v20) fun v21 =>
            j86 ((w2 <<< ((8 : Int32).toInt64 &&& 63)) ||| v21.toInt64)
def f_X4_word (n : Nat) (p0 : Nat) : Act Int64 :=
  bnd (gd 4 p0 (nt (f_X4_blanks n p0))) fun _ =>
  bnd (getI 4 53 p0) fun v1 =>
  bnd (putI 4 71 p0 v1) fun _ =>
  jn (fun (v3 : Int64) =>
    bnd (getI 4 71 p0) fun v4 =>
    bnd (getI 4 53 p0) fun v5 =>
    jn (fun (v6 : Int64) =>
      pur v6) fun j119 =>
    if (v4 - v5) ≤ 7 then
      j119 v3
    else
      j119 0) fun j100 =>
  lp_X4_word_14 p0 j100 n 0
set_option maxHeartbeats 4000000 in
theorem s_lp_X4_word_14 {X : Cx} (hX : Ok X Pic cX4_word RX4 3 (some FieldType.long) 1 20) (hnh : Noh X) (p0 : Nat) (j100 : Int64 → Act Int64) (hj100 : ∀ (v3 : Int64), Sim X cvL 100 [(0, rv p0), (1, .long v3)] [] (j100 v3)) (q : Nat) : ∀ (w2 : Int64), Sim X cvL 14 [(0, rv p0), (1, .long w2)] [] (lp_X4_word_14 p0 j100 q w2) := by
  induction q with
  | zero => intro w2; exact s_fail
  | succ q ih14 =>
    intro w2
    rw [lp_X4_word_14]
    refine s_aload_n hX dX4_word_14 rfl 0 rfl ?_
    refine s_getI (ci := 4) (j := 71) (ref := "WindGasModel") hX (pcG 4) in_X4 (Or.inl q1609) (by decide) (by decide) (by decide) rfl dX4_word_15 (fun _ h9 => h9) (fun v7 => ?_)
    refine s_aload_n hX dX4_word_18 rfl 0 rfl ?_
    refine s_getI (ci := 4) (j := 52) (ref := "WindGasModel") hX (pcG 4) in_X4 (Or.inl q1590) (by decide) (by decide) (by decide) rfl dX4_word_19 (fun _ h9 => h9) (fun v8 => ?_)
    refine s_icmp_ge (tgt := 100) hX dX4_word_22 (by decide) ?_ ?_
    · exact hj100 w2
    · refine s_aload_n hX dX4_word_25 rfl 0 rfl ?_
      refine s_getR (ci := 4) (j := 69) (ref := "WindGasModel") hX (pcG 4) in_X4 (Or.inl q1607) (by decide) (by decide) (by decide) rfl dX4_word_26 (fun _ h9 => h9) (fun v9 => ?_)
      refine s_aload_n hX dX4_word_29 rfl 0 rfl ?_
      refine s_getI (ci := 4) (j := 71) (ref := "WindGasModel") hX (pcG 4) in_X4 (Or.inl q1609) (by decide) (by decide) (by decide) rfl dX4_word_30 (fun _ h9 => h9) (fun v10 => ?_)
      refine s_bald hX (pcA 2) dX4_word_33 (fun v11 => ?_)
      refine s_bipush (v := 97) hX dX4_word_34 (by decide) ?_
      refine s_icmp_lt (tgt := 100) hX dX4_word_36 (by decide) ?_ ?_
      · exact hj100 w2
      · refine s_aload_n hX dX4_word_39 rfl 0 rfl ?_
        refine s_getR (ci := 4) (j := 69) (ref := "WindGasModel") hX (pcG 4) in_X4 (Or.inl q1607) (by decide) (by decide) (by decide) rfl dX4_word_40 (fun _ h9 => h9) (fun v12 => ?_)
        refine s_aload_n hX dX4_word_43 rfl 0 rfl ?_
        refine s_getI (ci := 4) (j := 71) (ref := "WindGasModel") hX (pcG 4) in_X4 (Or.inl q1609) (by decide) (by decide) (by decide) rfl dX4_word_44 (fun _ h9 => h9) (fun v13 => ?_)
        refine s_bald hX (pcA 2) dX4_word_47 (fun v14 => ?_)
        refine s_bipush (v := 122) hX dX4_word_48 (by decide) ?_
        refine s_icmp_gt (tgt := 100) hX dX4_word_50 (by decide) ?_ ?_
        · exact hj100 w2
        · refine s_aload_n hX dX4_word_53 rfl 0 rfl ?_
          refine s_getI (ci := 4) (j := 71) (ref := "WindGasModel") hX (pcG 4) in_X4 (Or.inl q1609) (by decide) (by decide) (by decide) rfl dX4_word_54 (fun _ h9 => h9) (fun v15 => ?_)
          refine s_aload_n hX dX4_word_57 rfl 0 rfl ?_
          refine s_getI (ci := 4) (j := 53) (ref := "WindGasModel") hX (pcG 4) in_X4 (Or.inl q1591) (by decide) (by decide) (by decide) rfl dX4_word_58 (fun _ h9 => h9) (fun v16 => ?_)
          refine s_isub hX dX4_word_61 ?_
          refine s_bipush (v := 7) hX dX4_word_62 (by decide) ?_
          refine s_jn (P := fun j => ∀ (v17 : Int64), Sim X cvL 86 [(0, rv p0)] [.long v17] (j v17)) ?_ (fun j86 hj86 => ?_)
          · intro v17
            refine s_lstore_n (i := 1) (L2 := [(1, .long v17), (0, rv p0)]) hX dX4_word_86 rfl (by decide) (by first | (simp [rv_cat, cat_i, cat_l]; done) | (simp [rv_cat, cat_i, cat_l]; decide)) ?_
            refine s_aload_n hX dX4_word_87 rfl 1 rfl ?_
            refine s_dup hX dX4_word_88 (rv_cat _) ?_
            refine s_getI (ci := 4) (j := 71) (ref := "WindGasModel") hX (pcG 4) in_X4 (Or.inl q1609) (by decide) (by decide) (by decide) rfl dX4_word_89 (fun _ h9 => h9) (fun v18 => ?_)
            refine s_iconst (v := 1) hX dX4_word_92 rfl ?_
            refine s_iadd hX dX4_word_93 ?_
            refine s_putI (ci := 4) (j := 71) (ref := "WindGasModel") hX (pcG 4) (pcP 4) in_X4 tyX4_ok nmX4 (Or.inl q1609) (by decide) (by decide) (by decide) rfl rfl rfl dX4_word_94 (fun _ h9 => h9) ?_
            refine s_goto (tgt := 14) hX dX4_word_97 (by decide) ?_
            exact s_sub [1, 0] rfl (ih14 v17)
          · refine s_icmp_ge (tgt := 85) hX dX4_word_64 (by decide) ?_ ?_
            · refine s_lconst (v := 0) hX dX4_word_85 (by decide) ?_
              exact s_sub [0] rfl (hj86 0)
            · refine s_lload_n hX dX4_word_67 rfl 1 rfl ?_
              refine s_bipush (v := 8) hX dX4_word_68 (by decide) ?_
              refine s_lshl hX dX4_word_70 ?_
              refine s_aload_n hX dX4_word_71 rfl 0 rfl ?_
              refine s_getR (ci := 4) (j := 69) (ref := "WindGasModel") hX (pcG 4) in_X4 (Or.inl q1607) (by decide) (by decide) (by decide) rfl dX4_word_72 (fun _ h9 => h9) (fun v19 => ?_)
              refine s_aload_n hX dX4_word_75 rfl 0 rfl ?_
              refine s_getI (ci := 4) (j := 71) (ref := "WindGasModel") hX (pcG 4) in_X4 (Or.inl q1609) (by decide) (by decide) (by decide) rfl dX4_word_76 (fun _ h9 => h9) (fun v20 => ?_)
              refine s_bald hX (pcA 2) dX4_word_79 (fun v21 => ?_)
              refine s_i2l hX dX4_word_80 ?_
              refine s_lor hX dX4_word_81 ?_
              refine s_goto (tgt := 86) hX dX4_word_82 (by decide) ?_
              exact s_sub [0] rfl (hj86 ((w2 <<< ((8 : Int32).toInt64 &&& 63)) ||| v21.toInt64))
set_option maxHeartbeats 4000000 in
theorem ct_X4_word (l : Launch) (n : Nat) (p0 : Nat) : Ct l Pic yX4_word (ws_ yX4_word cX4_word 3 (some FieldType.long)) 1 20 cvL [rv p0] (f_X4_word n p0) := by
  refine Ct.of (own := RX4) (L := [(0, rv p0)]) (plainFor_of_name (by decide)) rfl (by first | decide | simp [lg_sl, rv_cat, cat_i, cat_l]) (by first | rfl | simp [lv_args, rv_cat, cat_i, cat_l]) pcZ (fun X hXl hX hnh hin => ?_)
  subst hXl
  unfold f_X4_word
  refine s_aload_n hX dX4_word_0 rfl 0 rfl ?_
  refine s_callV_U (ci := 4) (n := 0) (As := []) (st := []) hX (pcK 5) (by decide) (ct_X4_blanks X.l n p0) q1974 q1976 qs66 q91 q1977 yvX4_blanks (by decide) rfl (by first | decide | simp [rv_cat, cat_i, cat_l]) dX4_word_1 (fun _ => ?_)
  refine s_aload_n hX dX4_word_4 rfl 0 rfl ?_
  refine s_aload_n hX dX4_word_5 rfl 0 rfl ?_
  refine s_getI (ci := 4) (j := 53) (ref := "WindGasModel") hX (pcG 4) in_X4 (Or.inl q1591) (by decide) (by decide) (by decide) rfl dX4_word_6 (fun _ h9 => h9) (fun v1 => ?_)
  refine s_putI (ci := 4) (j := 71) (ref := "WindGasModel") hX (pcG 4) (pcP 4) in_X4 tyX4_ok nmX4 (Or.inl q1609) (by decide) (by decide) (by decide) rfl rfl rfl dX4_word_9 (fun _ h9 => h9) ?_
  refine s_lconst (v := 0) hX dX4_word_12 (by decide) ?_
  refine s_lstore_n (i := 1) (L2 := [(1, .long 0), (0, rv p0)]) hX dX4_word_13 rfl (by decide) (by first | (simp [rv_cat, cat_i, cat_l]; done) | (simp [rv_cat, cat_i, cat_l]; decide)) ?_
  refine s_jn (P := fun j => ∀ (v3 : Int64), Sim X cvL 100 [(0, rv p0), (1, .long v3)] [] (j v3)) ?_ (fun j100 hj100 => ?_)
  · intro v3
    refine s_aload_n hX dX4_word_100 rfl 0 rfl ?_
    refine s_getI (ci := 4) (j := 71) (ref := "WindGasModel") hX (pcG 4) in_X4 (Or.inl q1609) (by decide) (by decide) (by decide) rfl dX4_word_101 (fun _ h9 => h9) (fun v4 => ?_)
    refine s_aload_n hX dX4_word_104 rfl 0 rfl ?_
    refine s_getI (ci := 4) (j := 53) (ref := "WindGasModel") hX (pcG 4) in_X4 (Or.inl q1591) (by decide) (by decide) (by decide) rfl dX4_word_105 (fun _ h9 => h9) (fun v5 => ?_)
    refine s_isub hX dX4_word_108 ?_
    refine s_bipush (v := 7) hX dX4_word_109 (by decide) ?_
    refine s_jn (P := fun j => ∀ (v6 : Int64), Sim X cvL 119 [] [.long v6] (j v6)) ?_ (fun j119 hj119 => ?_)
    · intro v6
      exact s_lret hX dX4_word_119
    · refine s_icmp_le (tgt := 118) hX dX4_word_111 (by decide) ?_ ?_
      · refine s_lload_n hX dX4_word_118 rfl 1 rfl ?_
        exact s_sub [] rfl (hj119 v3)
      · refine s_lconst (v := 0) hX dX4_word_114 (by decide) ?_
        refine s_goto (tgt := 119) hX dX4_word_115 (by decide) ?_
        exact s_sub [] rfl (hj119 0)
  · exact s_sub [1, 0] rfl (s_lp_X4_word_14 hX hnh p0 j100 hj100 n 0)
theorem dX4_takes_0 : decode cX4_takes 0 = .ok (.aload_n 0, 1) := by decide +kernel
theorem dX4_takes_1 : decode cX4_takes 1 = .ok (.invokevirtual 357, 3) := by decide +kernel
theorem dX4_takes_4 : decode cX4_takes 4 = .ok (.lload_n 1, 1) := by decide +kernel
theorem dX4_takes_5 : decode cX4_takes 5 = .ok (.lcmp, 1) := by decide +kernel
theorem dX4_takes_6 : decode cX4_takes 6 = .ok (.ifCond .eq 5, 3) := by decide +kernel
theorem dX4_takes_9 : decode cX4_takes 9 = .ok (.iconst 0, 1) := by decide +kernel
theorem dX4_takes_10 : decode cX4_takes 10 = .ok (.ireturn, 1) := by decide +kernel
theorem dX4_takes_11 : decode cX4_takes 11 = .ok (.aload_n 0, 1) := by decide +kernel
theorem dX4_takes_12 : decode cX4_takes 12 = .ok (.aload_n 0, 1) := by decide +kernel
theorem dX4_takes_13 : decode cX4_takes 13 = .ok (.getfield 354, 3) := by decide +kernel
theorem dX4_takes_16 : decode cX4_takes 16 = .ok (.putfield 345, 3) := by decide +kernel
theorem dX4_takes_19 : decode cX4_takes 19 = .ok (.iconst 1, 1) := by decide +kernel
theorem dX4_takes_20 : decode cX4_takes 20 = .ok (.ireturn, 1) := by decide +kernel
theorem ycX4_takes : yX4_takes.cls ≠ "java/lang/invoke/MethodHandle" ∧ yX4_takes.cls ≠ "java/lang/invoke/VarHandle" ∧ (parseMethodDescriptor yX4_takes.desc).map (fun d => d.parameters.length) = some 1 := by decide +kernel
theorem yvX4_takes : yX4_takes.cls = RR 4 ∧ yX4_takes.cls ≠ "java/lang/invoke/MethodHandle" ∧ yX4_takes.cls ≠ "java/lang/invoke/VarHandle" ∧ (parseMethodDescriptor yX4_takes.desc).map (fun d => d.parameters.length) = some 1 := ⟨rfl, ycX4_takes⟩
def f_X4_takes (n : Nat) (p0 : Nat) (p1 : Int64) : Act Int32 :=
  bnd (gd 4 p0 (nt (f_X4_word n p0))) fun v1 =>
  if (lg_cmp v1 p1) = 0 then
    bnd (getI 4 71 p0) fun v2 =>
    bnd (putI 4 53 p0 v2) fun _ =>
    purS (ty := .boolean) 1
  else
    purS (ty := .boolean) 0
set_option maxHeartbeats 4000000 in
theorem ct_X4_takes (l : Launch) (n : Nat) (p0 : Nat) (p1 : Int64) : Ct l Pic yX4_takes (ws_ yX4_takes cX4_takes 3 (some FieldType.boolean)) 2 42 cvI [rv p0, .long p1] (f_X4_takes n p0 p1) := by
  refine Ct.of (own := RX4) (L := [(0, rv p0), (1, .long p1)]) (plainFor_of_name (by decide)) rfl (by first | decide | simp [lg_sl, rv_cat, cat_i, cat_l]) (by first | rfl | simp [lv_args, rv_cat, cat_i, cat_l]) pcZ (fun X hXl hX hnh hin => ?_)
  subst hXl
  unfold f_X4_takes
  refine s_aload_n hX dX4_takes_0 rfl 0 rfl ?_
  refine s_callV_L (ci := 4) (n := 0) (As := []) (st := []) hX (pcK 5) (by decide) (ct_X4_word X.l n p0) q1987 q1989 qs69 q91 q1990 yvX4_word (by decide) rfl (by first | decide | simp [rv_cat, cat_i, cat_l]) dX4_takes_1 (fun v1 => ?_)
  refine s_lload_n hX dX4_takes_4 rfl 1 rfl ?_
  refine s_lcmp hX dX4_takes_5 ?_
  refine s_if_eq (tgt := 11) hX dX4_takes_6 (by decide) ?_ ?_
  · refine s_aload_n hX dX4_takes_11 rfl 0 rfl ?_
    refine s_aload_n hX dX4_takes_12 rfl 0 rfl ?_
    refine s_getI (ci := 4) (j := 71) (ref := "WindGasModel") hX (pcG 4) in_X4 (Or.inl q1609) (by decide) (by decide) (by decide) rfl dX4_takes_13 (fun _ h9 => h9) (fun v2 => ?_)
    refine s_putI (ci := 4) (j := 53) (ref := "WindGasModel") hX (pcG 4) (pcP 4) in_X4 tyX4_ok nmX4 (Or.inl q1591) (by decide) (by decide) (by decide) rfl rfl rfl dX4_takes_16 (fun _ h9 => h9) ?_
    refine s_iconst (v := 1) hX dX4_takes_19 rfl ?_
    exact s_zret hX dX4_takes_20
  · refine s_iconst (v := 0) hX dX4_takes_9 rfl ?_
    exact s_zret hX dX4_takes_10
theorem dX4_takesNumber_0 : decode cX4_takesNumber 0 = .ok (.aload_n 0, 1) := by decide +kernel
theorem dX4_takesNumber_1 : decode cX4_takesNumber 1 = .ok (.invokevirtual 351, 3) := by decide +kernel
theorem dX4_takesNumber_4 : decode cX4_takesNumber 4 = .ok (.aload_n 0, 1) := by decide +kernel
theorem dX4_takesNumber_5 : decode cX4_takesNumber 5 = .ok (.getfield 345, 3) := by decide +kernel
theorem dX4_takesNumber_8 : decode cX4_takesNumber 8 = .ok (.istore_n 3, 1) := by decide +kernel
theorem dX4_takesNumber_9 : decode cX4_takesNumber 9 = .ok (.aload_n 0, 1) := by decide +kernel
theorem dX4_takesNumber_10 : decode cX4_takesNumber 10 = .ok (.iconst 0, 1) := by decide +kernel
theorem dX4_takesNumber_11 : decode cX4_takesNumber 11 = .ok (.putfield 361, 3) := by decide +kernel
theorem dX4_takesNumber_14 : decode cX4_takesNumber 14 = .ok (.iload_n 3, 1) := by decide +kernel
theorem dX4_takesNumber_15 : decode cX4_takesNumber 15 = .ok (.aload_n 0, 1) := by decide +kernel
theorem dX4_takesNumber_16 : decode cX4_takesNumber 16 = .ok (.getfield 348, 3) := by decide +kernel
theorem dX4_takesNumber_19 : decode cX4_takesNumber 19 = .ok (.if_icmp .ge 63, 3) := by decide +kernel
theorem dX4_takesNumber_22 : decode cX4_takesNumber 22 = .ok (.aload_n 0, 1) := by decide +kernel
theorem dX4_takesNumber_23 : decode cX4_takesNumber 23 = .ok (.getfield 177, 3) := by decide +kernel
theorem dX4_takesNumber_26 : decode cX4_takesNumber 26 = .ok (.iload_n 3, 1) := by decide +kernel
theorem dX4_takesNumber_27 : decode cX4_takesNumber 27 = .ok (.baload, 1) := by decide +kernel
theorem dX4_takesNumber_28 : decode cX4_takesNumber 28 = .ok (.bipush 48, 2) := by decide +kernel
theorem dX4_takesNumber_30 : decode cX4_takesNumber 30 = .ok (.if_icmp .lt 52, 3) := by decide +kernel
theorem dX4_takesNumber_33 : decode cX4_takesNumber 33 = .ok (.aload_n 0, 1) := by decide +kernel
theorem dX4_takesNumber_34 : decode cX4_takesNumber 34 = .ok (.getfield 177, 3) := by decide +kernel
theorem dX4_takesNumber_37 : decode cX4_takesNumber 37 = .ok (.iload_n 3, 1) := by decide +kernel
theorem dX4_takesNumber_38 : decode cX4_takesNumber 38 = .ok (.baload, 1) := by decide +kernel
theorem dX4_takesNumber_39 : decode cX4_takesNumber 39 = .ok (.bipush 57, 2) := by decide +kernel
theorem dX4_takesNumber_41 : decode cX4_takesNumber 41 = .ok (.if_icmp .gt 41, 3) := by decide +kernel
theorem dX4_takesNumber_44 : decode cX4_takesNumber 44 = .ok (.iload_n 3, 1) := by decide +kernel
theorem dX4_takesNumber_45 : decode cX4_takesNumber 45 = .ok (.aload_n 0, 1) := by decide +kernel
theorem dX4_takesNumber_46 : decode cX4_takesNumber 46 = .ok (.getfield 345, 3) := by decide +kernel
theorem dX4_takesNumber_49 : decode cX4_takesNumber 49 = .ok (.isub, 1) := by decide +kernel
theorem dX4_takesNumber_50 : decode cX4_takesNumber 50 = .ok (.bipush 6, 2) := by decide +kernel
theorem dX4_takesNumber_52 : decode cX4_takesNumber 52 = .ok (.if_icmp .ge 24, 3) := by decide +kernel
theorem dX4_takesNumber_55 : decode cX4_takesNumber 55 = .ok (.aload_n 0, 1) := by decide +kernel
theorem dX4_takesNumber_56 : decode cX4_takesNumber 56 = .ok (.bipush 10, 2) := by decide +kernel
theorem dX4_takesNumber_58 : decode cX4_takesNumber 58 = .ok (.aload_n 0, 1) := by decide +kernel
theorem dX4_takesNumber_59 : decode cX4_takesNumber 59 = .ok (.getfield 361, 3) := by decide +kernel
theorem dX4_takesNumber_62 : decode cX4_takesNumber 62 = .ok (.imul, 1) := by decide +kernel
theorem dX4_takesNumber_63 : decode cX4_takesNumber 63 = .ok (.aload_n 0, 1) := by decide +kernel
theorem dX4_takesNumber_64 : decode cX4_takesNumber 64 = .ok (.getfield 177, 3) := by decide +kernel
theorem dX4_takesNumber_67 : decode cX4_takesNumber 67 = .ok (.iload_n 3, 1) := by decide +kernel
theorem dX4_takesNumber_68 : decode cX4_takesNumber 68 = .ok (.baload, 1) := by decide +kernel
theorem dX4_takesNumber_69 : decode cX4_takesNumber 69 = .ok (.iadd, 1) := by decide +kernel
theorem dX4_takesNumber_70 : decode cX4_takesNumber 70 = .ok (.bipush 48, 2) := by decide +kernel
theorem dX4_takesNumber_72 : decode cX4_takesNumber 72 = .ok (.isub, 1) := by decide +kernel
theorem dX4_takesNumber_73 : decode cX4_takesNumber 73 = .ok (.putfield 361, 3) := by decide +kernel
theorem dX4_takesNumber_76 : decode cX4_takesNumber 76 = .ok (.iinc 3 1, 3) := by decide +kernel
theorem dX4_takesNumber_79 : decode cX4_takesNumber 79 = .ok (.goto (-65), 3) := by decide +kernel
theorem dX4_takesNumber_82 : decode cX4_takesNumber 82 = .ok (.iload_n 3, 1) := by decide +kernel
theorem dX4_takesNumber_83 : decode cX4_takesNumber 83 = .ok (.aload_n 0, 1) := by decide +kernel
theorem dX4_takesNumber_84 : decode cX4_takesNumber 84 = .ok (.getfield 345, 3) := by decide +kernel
theorem dX4_takesNumber_87 : decode cX4_takesNumber 87 = .ok (.if_icmp .eq 26, 3) := by decide +kernel
theorem dX4_takesNumber_90 : decode cX4_takesNumber 90 = .ok (.iload_n 3, 1) := by decide +kernel
theorem dX4_takesNumber_91 : decode cX4_takesNumber 91 = .ok (.aload_n 0, 1) := by decide +kernel
theorem dX4_takesNumber_92 : decode cX4_takesNumber 92 = .ok (.getfield 345, 3) := by decide +kernel
theorem dX4_takesNumber_95 : decode cX4_takesNumber 95 = .ok (.isub, 1) := by decide +kernel
theorem dX4_takesNumber_96 : decode cX4_takesNumber 96 = .ok (.bipush 6, 2) := by decide +kernel
theorem dX4_takesNumber_98 : decode cX4_takesNumber 98 = .ok (.if_icmp .gt 15, 3) := by decide +kernel
theorem dX4_takesNumber_101 : decode cX4_takesNumber 101 = .ok (.aload_n 0, 1) := by decide +kernel
theorem dX4_takesNumber_102 : decode cX4_takesNumber 102 = .ok (.getfield 361, 3) := by decide +kernel
theorem dX4_takesNumber_105 : decode cX4_takesNumber 105 = .ok (.iload_n 1, 1) := by decide +kernel
theorem dX4_takesNumber_106 : decode cX4_takesNumber 106 = .ok (.iload_n 2, 1) := by decide +kernel
theorem dX4_takesNumber_107 : decode cX4_takesNumber 107 = .ok (.invokestatic 198, 3) := by decide +kernel
theorem dX4_takesNumber_110 : decode cX4_takesNumber 110 = .ok (.ifCond .ne 5, 3) := by decide +kernel
theorem dX4_takesNumber_113 : decode cX4_takesNumber 113 = .ok (.iconst 0, 1) := by decide +kernel
theorem dX4_takesNumber_114 : decode cX4_takesNumber 114 = .ok (.ireturn, 1) := by decide +kernel
theorem dX4_takesNumber_115 : decode cX4_takesNumber 115 = .ok (.aload_n 0, 1) := by decide +kernel
theorem dX4_takesNumber_116 : decode cX4_takesNumber 116 = .ok (.iload_n 3, 1) := by decide +kernel
theorem dX4_takesNumber_117 : decode cX4_takesNumber 117 = .ok (.putfield 345, 3) := by decide +kernel
theorem dX4_takesNumber_120 : decode cX4_takesNumber 120 = .ok (.iconst 1, 1) := by decide +kernel
theorem dX4_takesNumber_121 : decode cX4_takesNumber 121 = .ok (.ireturn, 1) := by decide +kernel
theorem ycX4_takesNumber : yX4_takesNumber.cls ≠ "java/lang/invoke/MethodHandle" ∧ yX4_takesNumber.cls ≠ "java/lang/invoke/VarHandle" ∧ (parseMethodDescriptor yX4_takesNumber.desc).map (fun d => d.parameters.length) = some 2 := by decide +kernel
theorem yvX4_takesNumber : yX4_takesNumber.cls = RR 4 ∧ yX4_takesNumber.cls ≠ "java/lang/invoke/MethodHandle" ∧ yX4_takesNumber.cls ≠ "java/lang/invoke/VarHandle" ∧ (parseMethodDescriptor yX4_takesNumber.desc).map (fun d => d.parameters.length) = some 2 := ⟨rfl, ycX4_takesNumber⟩
def lp_X4_takesNumber_14 (p0 : Nat) (p1 : Int32) (p2 : Int32) (j82 : Int32 → Act Int32) (q : Nat) : Int32 → Act Int32 := match q with
  | 0 => fun _ => fail
  | q + 1 => fun w2 =>
    bnd (getI 4 52 p0) fun v8 =>
    if v8 ≤ w2 then
      j82 w2
    else
      bnd (getR 4 69 p0) fun v9 =>
      bnd (ldI 2 v9 w2) fun v10 =>
      if v10 < 48 then
        j82 w2
      else
        bnd (getR 4 69 p0) fun v11 =>
        bnd (ldI 2 v11 w2) fun v12 =>
        if 57 < v12 then
          j82 w2
        else
          bnd (getI 4 53 p0) fun v13 =>
          jn (fun (_ : Unit) =>
            (lp_X4_takesNumber_14 p0 p1 p2 j82 q) (w2 + 1)) fun j76 =>
          if 6 ≤ (w2 - v13) then
            j76 ()
          else
            bnd (getI 4 72 p0) fun v14 =>
            bnd (getR 4 69 p0) fun v15 =>
            bnd (ldI 2 v15 w2) fun v16 =>
            bnd (putI 4 72 p0 (((10 * v14) + v16) - 48)) fun _ =>
            j76 ()
def f_X4_takesNumber (n : Nat) (p0 : Nat) (p1 : Int32) (p2 : Int32) : Act Int32 :=
  bnd (gd 4 p0 (nt (f_X4_blanks n p0))) fun _ =>
  bnd (getI 4 53 p0) fun v1 =>
  bnd (putI 4 72 p0 0) fun _ =>
  jn (fun (v3 : Int32) =>
    bnd (getI 4 53 p0) fun v4 =>
    jn (fun (_ : Unit) =>
      purS (ty := .boolean) 0) fun j113 =>
    if v3 = v4 then
      j113 ()
    else
      bnd (getI 4 53 p0) fun v5 =>
      if 6 < (v3 - v5) then
        j113 ()
      else
        bnd (getI 4 72 p0) fun v6 =>
        bnd (nt (f_X4_isIn v6 p1 p2)) fun v7 =>
        if ¬ v7 = 0 then
          bnd (putI 4 53 p0 v3) fun _ =>
          purS (ty := .boolean) 1
        else
          j113 ()) fun j82 =>
  lp_X4_takesNumber_14 p0 p1 p2 j82 n v1
set_option maxHeartbeats 4000000 in
theorem s_lp_X4_takesNumber_14 {X : Cx} (hX : Ok X Pic cX4_takesNumber RX4 4 (some FieldType.boolean) 1 22) (hnh : Noh X) (p0 : Nat) (p1 : Int32) (p2 : Int32) (j82 : Int32 → Act Int32) (hj82 : ∀ (v3 : Int32), Sim X cvI 82 [(0, rv p0), (1, .int p1), (2, .int p2), (3, .int v3)] [] (j82 v3)) (q : Nat) : ∀ (w2 : Int32), Sim X cvI 14 [(0, rv p0), (1, .int p1), (2, .int p2), (3, .int w2)] [] (lp_X4_takesNumber_14 p0 p1 p2 j82 q w2) := by
  induction q with
  | zero => intro w2; exact s_fail
  | succ q ih14 =>
    intro w2
    rw [lp_X4_takesNumber_14]
    refine s_iload_n hX dX4_takesNumber_14 rfl 3 rfl ?_
    refine s_aload_n hX dX4_takesNumber_15 rfl 0 rfl ?_
    refine s_getI (ci := 4) (j := 52) (ref := "WindGasModel") hX (pcG 4) in_X4 (Or.inl q1590) (by decide) (by decide) (by decide) rfl dX4_takesNumber_16 (fun _ h9 => h9) (fun v8 => ?_)
    refine s_icmp_ge (tgt := 82) hX dX4_takesNumber_19 (by decide) ?_ ?_
    · exact hj82 w2
    · refine s_aload_n hX dX4_takesNumber_22 rfl 0 rfl ?_
      refine s_getR (ci := 4) (j := 69) (ref := "WindGasModel") hX (pcG 4) in_X4 (Or.inl q1607) (by decide) (by decide) (by decide) rfl dX4_takesNumber_23 (fun _ h9 => h9) (fun v9 => ?_)
      refine s_iload_n hX dX4_takesNumber_26 rfl 3 rfl ?_
      refine s_bald hX (pcA 2) dX4_takesNumber_27 (fun v10 => ?_)
      refine s_bipush (v := 48) hX dX4_takesNumber_28 (by decide) ?_
      refine s_icmp_lt (tgt := 82) hX dX4_takesNumber_30 (by decide) ?_ ?_
      · exact hj82 w2
      · refine s_aload_n hX dX4_takesNumber_33 rfl 0 rfl ?_
        refine s_getR (ci := 4) (j := 69) (ref := "WindGasModel") hX (pcG 4) in_X4 (Or.inl q1607) (by decide) (by decide) (by decide) rfl dX4_takesNumber_34 (fun _ h9 => h9) (fun v11 => ?_)
        refine s_iload_n hX dX4_takesNumber_37 rfl 3 rfl ?_
        refine s_bald hX (pcA 2) dX4_takesNumber_38 (fun v12 => ?_)
        refine s_bipush (v := 57) hX dX4_takesNumber_39 (by decide) ?_
        refine s_icmp_gt (tgt := 82) hX dX4_takesNumber_41 (by decide) ?_ ?_
        · exact hj82 w2
        · refine s_iload_n hX dX4_takesNumber_44 rfl 3 rfl ?_
          refine s_aload_n hX dX4_takesNumber_45 rfl 0 rfl ?_
          refine s_getI (ci := 4) (j := 53) (ref := "WindGasModel") hX (pcG 4) in_X4 (Or.inl q1591) (by decide) (by decide) (by decide) rfl dX4_takesNumber_46 (fun _ h9 => h9) (fun v13 => ?_)
          refine s_isub hX dX4_takesNumber_49 ?_
          refine s_bipush (v := 6) hX dX4_takesNumber_50 (by decide) ?_
          refine s_jn (P := fun j => ∀ (u : Unit), Sim X cvI 76 [(0, rv p0), (1, .int p1), (2, .int p2), (3, .int w2)] [] (j u)) ?_ (fun j76 hj76 => ?_)
          · intro u
            refine s_iinc (k := 3) (v := (w2 + 1)) (L2 := [(3, .int (w2 + 1)), (0, rv p0), (1, .int p1), (2, .int p2)]) hX dX4_takesNumber_76 rfl rfl (by decide) rfl ?_
            refine s_goto (tgt := 14) hX dX4_takesNumber_79 (by decide) ?_
            exact s_sub [1, 2, 3, 0] rfl (ih14 (w2 + 1))
          · refine s_icmp_ge (tgt := 76) hX dX4_takesNumber_52 (by decide) ?_ ?_
            · exact hj76 ()
            · refine s_aload_n hX dX4_takesNumber_55 rfl 0 rfl ?_
              refine s_bipush (v := 10) hX dX4_takesNumber_56 (by decide) ?_
              refine s_aload_n hX dX4_takesNumber_58 rfl 0 rfl ?_
              refine s_getI (ci := 4) (j := 72) (ref := "WindGasModel") hX (pcG 4) in_X4 (Or.inl q1610) (by decide) (by decide) (by decide) rfl dX4_takesNumber_59 (fun _ h9 => h9) (fun v14 => ?_)
              refine s_imul hX dX4_takesNumber_62 ?_
              refine s_aload_n hX dX4_takesNumber_63 rfl 0 rfl ?_
              refine s_getR (ci := 4) (j := 69) (ref := "WindGasModel") hX (pcG 4) in_X4 (Or.inl q1607) (by decide) (by decide) (by decide) rfl dX4_takesNumber_64 (fun _ h9 => h9) (fun v15 => ?_)
              refine s_iload_n hX dX4_takesNumber_67 rfl 3 rfl ?_
              refine s_bald hX (pcA 2) dX4_takesNumber_68 (fun v16 => ?_)
              refine s_iadd hX dX4_takesNumber_69 ?_
              refine s_bipush (v := 48) hX dX4_takesNumber_70 (by decide) ?_
              refine s_isub hX dX4_takesNumber_72 ?_
              refine s_putI (ci := 4) (j := 72) (ref := "WindGasModel") hX (pcG 4) (pcP 4) in_X4 tyX4_ok nmX4 (Or.inl q1610) (by decide) (by decide) (by decide) rfl rfl rfl dX4_takesNumber_73 (fun _ h9 => h9) ?_
              exact hj76 ()
set_option maxHeartbeats 4000000 in
theorem ct_X4_takesNumber (l : Launch) (n : Nat) (p0 : Nat) (p1 : Int32) (p2 : Int32) : Ct l Pic yX4_takesNumber (ws_ yX4_takesNumber cX4_takesNumber 4 (some FieldType.boolean)) 1 22 cvI [rv p0, .int p1, .int p2] (f_X4_takesNumber n p0 p1 p2) := by
  refine Ct.of (own := RX4) (L := [(0, rv p0), (1, .int p1), (2, .int p2)]) (plainFor_of_name (by decide)) rfl (by first | decide | simp [lg_sl, rv_cat, cat_i, cat_l]) (by first | rfl | simp [lv_args, rv_cat, cat_i, cat_l]) pcZ (fun X hXl hX hnh hin => ?_)
  subst hXl
  unfold f_X4_takesNumber
  refine s_aload_n hX dX4_takesNumber_0 rfl 0 rfl ?_
  refine s_callV_U (ci := 4) (n := 0) (As := []) (st := []) hX (pcK 5) (by decide) (ct_X4_blanks X.l n p0) q1974 q1976 qs66 q91 q1977 yvX4_blanks (by decide) rfl (by first | decide | simp [rv_cat, cat_i, cat_l]) dX4_takesNumber_1 (fun _ => ?_)
  refine s_aload_n hX dX4_takesNumber_4 rfl 0 rfl ?_
  refine s_getI (ci := 4) (j := 53) (ref := "WindGasModel") hX (pcG 4) in_X4 (Or.inl q1591) (by decide) (by decide) (by decide) rfl dX4_takesNumber_5 (fun _ h9 => h9) (fun v1 => ?_)
  refine s_istore_n (i := 3) (L2 := [(3, .int v1), (0, rv p0), (1, .int p1), (2, .int p2)]) hX dX4_takesNumber_8 rfl (by decide) rfl ?_
  refine s_aload_n hX dX4_takesNumber_9 rfl 1 rfl ?_
  refine s_iconst (v := 0) hX dX4_takesNumber_10 rfl ?_
  refine s_putI (ci := 4) (j := 72) (ref := "WindGasModel") hX (pcG 4) (pcP 4) in_X4 tyX4_ok nmX4 (Or.inl q1610) (by decide) (by decide) (by decide) rfl rfl rfl dX4_takesNumber_11 (fun _ h9 => h9) ?_
  refine s_jn (P := fun j => ∀ (v3 : Int32), Sim X cvI 82 [(0, rv p0), (1, .int p1), (2, .int p2), (3, .int v3)] [] (j v3)) ?_ (fun j82 hj82 => ?_)
  · intro v3
    refine s_iload_n hX dX4_takesNumber_82 rfl 3 rfl ?_
    refine s_aload_n hX dX4_takesNumber_83 rfl 0 rfl ?_
    refine s_getI (ci := 4) (j := 53) (ref := "WindGasModel") hX (pcG 4) in_X4 (Or.inl q1591) (by decide) (by decide) (by decide) rfl dX4_takesNumber_84 (fun _ h9 => h9) (fun v4 => ?_)
    refine s_jn (P := fun j => ∀ (u : Unit), Sim X cvI 113 [] [] (j u)) ?_ (fun j113 hj113 => ?_)
    · intro u
      refine s_iconst (v := 0) hX dX4_takesNumber_113 rfl ?_
      exact s_zret hX dX4_takesNumber_114
    · refine s_icmp_eq (tgt := 113) hX dX4_takesNumber_87 (by decide) ?_ ?_
      · exact s_sub [] rfl (hj113 ())
      · refine s_iload_n hX dX4_takesNumber_90 rfl 3 rfl ?_
        refine s_aload_n hX dX4_takesNumber_91 rfl 0 rfl ?_
        refine s_getI (ci := 4) (j := 53) (ref := "WindGasModel") hX (pcG 4) in_X4 (Or.inl q1591) (by decide) (by decide) (by decide) rfl dX4_takesNumber_92 (fun _ h9 => h9) (fun v5 => ?_)
        refine s_isub hX dX4_takesNumber_95 ?_
        refine s_bipush (v := 6) hX dX4_takesNumber_96 (by decide) ?_
        refine s_icmp_gt (tgt := 113) hX dX4_takesNumber_98 (by decide) ?_ ?_
        · exact s_sub [] rfl (hj113 ())
        · refine s_aload_n hX dX4_takesNumber_101 rfl 0 rfl ?_
          refine s_getI (ci := 4) (j := 72) (ref := "WindGasModel") hX (pcG 4) in_X4 (Or.inl q1610) (by decide) (by decide) (by decide) rfl dX4_takesNumber_102 (fun _ h9 => h9) (fun v6 => ?_)
          refine s_iload_n hX dX4_takesNumber_105 rfl 1 rfl ?_
          refine s_iload_n hX dX4_takesNumber_106 rfl 2 rfl ?_
          refine s_callS_I (n := 3) (As := [.int v6, .int p1, .int p2]) (st := []) hX (ct_X4_isIn X.l v6 p1 p2) q1781 q1782 q91 q1783 ycX4_isIn (by decide) rfl (by first | decide | simp [rv_cat, cat_i, cat_l]) dX4_takesNumber_107 (fun v7 => ?_)
          refine s_if_ne (tgt := 115) hX dX4_takesNumber_110 (by decide) ?_ ?_
          · refine s_aload_n hX dX4_takesNumber_115 rfl 0 rfl ?_
            refine s_iload_n hX dX4_takesNumber_116 rfl 3 rfl ?_
            refine s_putI (ci := 4) (j := 53) (ref := "WindGasModel") hX (pcG 4) (pcP 4) in_X4 tyX4_ok nmX4 (Or.inl q1591) (by decide) (by decide) (by decide) rfl rfl rfl dX4_takesNumber_117 (fun _ h9 => h9) ?_
            refine s_iconst (v := 1) hX dX4_takesNumber_120 rfl ?_
            exact s_zret hX dX4_takesNumber_121
          · exact s_sub [] rfl (hj113 ())
  · exact s_sub [1, 2, 3, 0] rfl (s_lp_X4_takesNumber_14 hX hnh p0 p1 p2 j82 hj82 n v1)
theorem dX4_plain_0 : decode cX4_plain 0 = .ok (.aload_n 0, 1) := by decide +kernel
theorem dX4_plain_1 : decode cX4_plain 1 = .ok (.getfield 143, 3) := by decide +kernel
theorem dX4_plain_4 : decode cX4_plain 4 = .ok (.iload_n 1, 1) := by decide +kernel
theorem dX4_plain_5 : decode cX4_plain 5 = .ok (.iload_n 2, 1) := by decide +kernel
theorem dX4_plain_6 : decode cX4_plain 6 = .ok (.iastore, 1) := by decide +kernel
theorem dX4_plain_7 : decode cX4_plain 7 = .ok (.aload_n 0, 1) := by decide +kernel
theorem dX4_plain_8 : decode cX4_plain 8 = .ok (.iload_n 3, 1) := by decide +kernel
theorem dX4_plain_9 : decode cX4_plain 9 = .ok (.iload 4, 2) := by decide +kernel
theorem dX4_plain_11 : decode cX4_plain 11 = .ok (.invokevirtual 416, 3) := by decide +kernel
theorem dX4_plain_14 : decode cX4_plain 14 = .ok (.ifCond .ne 5, 3) := by decide +kernel
theorem dX4_plain_17 : decode cX4_plain 17 = .ok (.iconst 0, 1) := by decide +kernel
theorem dX4_plain_18 : decode cX4_plain 18 = .ok (.ireturn, 1) := by decide +kernel
theorem dX4_plain_19 : decode cX4_plain 19 = .ok (.aload_n 0, 1) := by decide +kernel
theorem dX4_plain_20 : decode cX4_plain 20 = .ok (.getfield 146, 3) := by decide +kernel
theorem dX4_plain_23 : decode cX4_plain 23 = .ok (.iload_n 1, 1) := by decide +kernel
theorem dX4_plain_24 : decode cX4_plain 24 = .ok (.aload_n 0, 1) := by decide +kernel
theorem dX4_plain_25 : decode cX4_plain 25 = .ok (.getfield 361, 3) := by decide +kernel
theorem dX4_plain_28 : decode cX4_plain 28 = .ok (.iastore, 1) := by decide +kernel
theorem dX4_plain_29 : decode cX4_plain 29 = .ok (.iconst 1, 1) := by decide +kernel
theorem dX4_plain_30 : decode cX4_plain 30 = .ok (.ireturn, 1) := by decide +kernel
theorem ycX4_plain : yX4_plain.cls ≠ "java/lang/invoke/MethodHandle" ∧ yX4_plain.cls ≠ "java/lang/invoke/VarHandle" ∧ (parseMethodDescriptor yX4_plain.desc).map (fun d => d.parameters.length) = some 4 := by decide +kernel
theorem yvX4_plain : yX4_plain.cls = RR 4 ∧ yX4_plain.cls ≠ "java/lang/invoke/MethodHandle" ∧ yX4_plain.cls ≠ "java/lang/invoke/VarHandle" ∧ (parseMethodDescriptor yX4_plain.desc).map (fun d => d.parameters.length) = some 4 := ⟨rfl, ycX4_plain⟩
def f_X4_plain (n : Nat) (p0 : Nat) (p1 : Int32) (p2 : Int32) (p3 : Int32) (p4 : Int32) : Act Int32 :=
  bnd (getR 4 58 p0) fun v1 =>
  bnd (stI 0 v1 p1 p2) fun _ =>
  bnd (gd 4 p0 (nt (f_X4_takesNumber n p0 p3 p4))) fun v2 =>
  if ¬ v2 = 0 then
    bnd (getR 4 59 p0) fun v3 =>
    bnd (getI 4 72 p0) fun v4 =>
    bnd (stI 0 v3 p1 v4) fun _ =>
    purS (ty := .boolean) 1
  else
    purS (ty := .boolean) 0
set_option maxHeartbeats 4000000 in
theorem ct_X4_plain (l : Launch) (n : Nat) (p0 : Nat) (p1 : Int32) (p2 : Int32) (p3 : Int32) (p4 : Int32) : Ct l Pic yX4_plain (ws_ yX4_plain cX4_plain 5 (some FieldType.boolean)) 2 45 cvI [rv p0, .int p1, .int p2, .int p3, .int p4] (f_X4_plain n p0 p1 p2 p3 p4) := by
  refine Ct.of (own := RX4) (L := [(0, rv p0), (1, .int p1), (2, .int p2), (3, .int p3), (4, .int p4)]) (plainFor_of_name (by decide)) rfl (by first | decide | simp [lg_sl, rv_cat, cat_i, cat_l]) (by first | rfl | simp [lv_args, rv_cat, cat_i, cat_l]) pcZ (fun X hXl hX hnh hin => ?_)
  subst hXl
  unfold f_X4_plain
  refine s_aload_n hX dX4_plain_0 rfl 0 rfl ?_
  refine s_getR (ci := 4) (j := 58) (ref := "WindGasModel") hX (pcG 4) in_X4 (Or.inl q1596) (by decide) (by decide) (by decide) rfl dX4_plain_1 (fun _ h9 => h9) (fun v1 => ?_)
  refine s_iload_n hX dX4_plain_4 rfl 1 rfl ?_
  refine s_iload_n hX dX4_plain_5 rfl 2 rfl ?_
  refine s_iast hX (pcA 0) (pcB 0) dX4_plain_6 ?_
  refine s_aload_n hX dX4_plain_7 rfl 0 rfl ?_
  refine s_iload_n hX dX4_plain_8 rfl 3 rfl ?_
  refine s_iload hX dX4_plain_9 4 rfl ?_
  refine s_callV_I (ci := 4) (n := 2) (As := [.int p3, .int p4]) (st := []) hX (pcK 5) (by decide) (ct_X4_takesNumber X.l n p0 p3 p4) q1996 q1998 qs71 q91 q1999 yvX4_takesNumber (by decide) rfl (by first | decide | simp [rv_cat, cat_i, cat_l]) dX4_plain_11 (fun v2 => ?_)
  refine s_if_ne (tgt := 19) hX dX4_plain_14 (by decide) ?_ ?_
  · refine s_aload_n hX dX4_plain_19 rfl 0 rfl ?_
    refine s_getR (ci := 4) (j := 59) (ref := "WindGasModel") hX (pcG 4) in_X4 (Or.inl q1597) (by decide) (by decide) (by decide) rfl dX4_plain_20 (fun _ h9 => h9) (fun v3 => ?_)
    refine s_iload_n hX dX4_plain_23 rfl 1 rfl ?_
    refine s_aload_n hX dX4_plain_24 rfl 0 rfl ?_
    refine s_getI (ci := 4) (j := 72) (ref := "WindGasModel") hX (pcG 4) in_X4 (Or.inl q1610) (by decide) (by decide) (by decide) rfl dX4_plain_25 (fun _ h9 => h9) (fun v4 => ?_)
    refine s_iast hX (pcA 0) (pcB 0) dX4_plain_28 ?_
    refine s_iconst (v := 1) hX dX4_plain_29 rfl ?_
    exact s_zret hX dX4_plain_30
  · refine s_iconst (v := 0) hX dX4_plain_17 rfl ?_
    exact s_zret hX dX4_plain_18
theorem dX4_node_0 : decode cX4_node 0 = .ok (.aload_n 0, 1) := by decide +kernel
theorem dX4_node_1 : decode cX4_node 1 = .ok (.getfield 155, 3) := by decide +kernel
theorem dX4_node_4 : decode cX4_node 4 = .ok (.aload_n 0, 1) := by decide +kernel
theorem dX4_node_5 : decode cX4_node 5 = .ok (.getfield 364, 3) := by decide +kernel
theorem dX4_node_8 : decode cX4_node 8 = .ok (.iload_n 1, 1) := by decide +kernel
theorem dX4_node_9 : decode cX4_node 9 = .ok (.iastore, 1) := by decide +kernel
theorem dX4_node_10 : decode cX4_node 10 = .ok (.aload_n 0, 1) := by decide +kernel
theorem dX4_node_11 : decode cX4_node 11 = .ok (.getfield 158, 3) := by decide +kernel
theorem dX4_node_14 : decode cX4_node 14 = .ok (.aload_n 0, 1) := by decide +kernel
theorem dX4_node_15 : decode cX4_node 15 = .ok (.getfield 364, 3) := by decide +kernel
theorem dX4_node_18 : decode cX4_node 18 = .ok (.iconst (-1), 1) := by decide +kernel
theorem dX4_node_19 : decode cX4_node 19 = .ok (.iastore, 1) := by decide +kernel
theorem dX4_node_20 : decode cX4_node 20 = .ok (.aload_n 0, 1) := by decide +kernel
theorem dX4_node_21 : decode cX4_node 21 = .ok (.getfield 161, 3) := by decide +kernel
theorem dX4_node_24 : decode cX4_node 24 = .ok (.aload_n 0, 1) := by decide +kernel
theorem dX4_node_25 : decode cX4_node 25 = .ok (.getfield 364, 3) := by decide +kernel
theorem dX4_node_28 : decode cX4_node 28 = .ok (.iconst (-1), 1) := by decide +kernel
theorem dX4_node_29 : decode cX4_node 29 = .ok (.iastore, 1) := by decide +kernel
theorem dX4_node_30 : decode cX4_node 30 = .ok (.aload_n 0, 1) := by decide +kernel
theorem dX4_node_31 : decode cX4_node 31 = .ok (.dup, 1) := by decide +kernel
theorem dX4_node_32 : decode cX4_node 32 = .ok (.getfield 364, 3) := by decide +kernel
theorem dX4_node_35 : decode cX4_node 35 = .ok (.iconst 1, 1) := by decide +kernel
theorem dX4_node_36 : decode cX4_node 36 = .ok (.iadd, 1) := by decide +kernel
theorem dX4_node_37 : decode cX4_node 37 = .ok (.putfield 364, 3) := by decide +kernel
theorem dX4_node_40 : decode cX4_node 40 = .ok (.aload_n 0, 1) := by decide +kernel
theorem dX4_node_41 : decode cX4_node 41 = .ok (.getfield 364, 3) := by decide +kernel
theorem dX4_node_44 : decode cX4_node 44 = .ok (.iconst 1, 1) := by decide +kernel
theorem dX4_node_45 : decode cX4_node 45 = .ok (.isub, 1) := by decide +kernel
theorem dX4_node_46 : decode cX4_node 46 = .ok (.ireturn, 1) := by decide +kernel
theorem ycX4_node : yX4_node.cls ≠ "java/lang/invoke/MethodHandle" ∧ yX4_node.cls ≠ "java/lang/invoke/VarHandle" ∧ (parseMethodDescriptor yX4_node.desc).map (fun d => d.parameters.length) = some 1 := by decide +kernel
theorem yvX4_node : yX4_node.cls = RR 4 ∧ yX4_node.cls ≠ "java/lang/invoke/MethodHandle" ∧ yX4_node.cls ≠ "java/lang/invoke/VarHandle" ∧ (parseMethodDescriptor yX4_node.desc).map (fun d => d.parameters.length) = some 1 := ⟨rfl, ycX4_node⟩
def f_X4_node (p0 : Nat) (p1 : Int32) : Act Int32 :=
  bnd (getR 4 62 p0) fun v1 =>
  bnd (getI 4 50 p0) fun v2 =>
  bnd (stI 0 v1 v2 p1) fun _ =>
  bnd (getR 4 63 p0) fun v3 =>
  bnd (getI 4 50 p0) fun v4 =>
  bnd (stI 0 v3 v4 (-1)) fun _ =>
  bnd (getR 4 64 p0) fun v5 =>
  bnd (getI 4 50 p0) fun v6 =>
  bnd (stI 0 v5 v6 (-1)) fun _ =>
  bnd (getI 4 50 p0) fun v7 =>
  bnd (putI 4 50 p0 (v7 + 1)) fun _ =>
  bnd (getI 4 50 p0) fun v8 =>
  pur (v8 - 1)
set_option maxHeartbeats 4000000 in
theorem ct_X4_node (l : Launch) (p0 : Nat) (p1 : Int32) : Ct l Pic yX4_node (ws_ yX4_node cX4_node 2 (some FieldType.int)) 0 0 cvI [rv p0, .int p1] (f_X4_node p0 p1) := by
  refine Ct.of (own := RX4) (L := [(0, rv p0), (1, .int p1)]) (plainFor_of_name (by decide)) rfl (by first | decide | simp [lg_sl, rv_cat, cat_i, cat_l]) (by first | rfl | simp [lv_args, rv_cat, cat_i, cat_l]) pcZ (fun X hXl hX hnh hin => ?_)
  subst hXl
  unfold f_X4_node
  refine s_aload_n hX dX4_node_0 rfl 0 rfl ?_
  refine s_getR (ci := 4) (j := 62) (ref := "WindGasModel") hX (pcG 4) in_X4 (Or.inl q1600) (by decide) (by decide) (by decide) rfl dX4_node_1 (fun _ h9 => h9) (fun v1 => ?_)
  refine s_aload_n hX dX4_node_4 rfl 0 rfl ?_
  refine s_getI (ci := 4) (j := 50) (ref := "WindGasModel") hX (pcG 4) in_X4 (Or.inl q1588) (by decide) (by decide) (by decide) rfl dX4_node_5 (fun _ h9 => h9) (fun v2 => ?_)
  refine s_iload_n hX dX4_node_8 rfl 1 rfl ?_
  refine s_iast hX (pcA 0) (pcB 0) dX4_node_9 ?_
  refine s_aload_n hX dX4_node_10 rfl 0 rfl ?_
  refine s_getR (ci := 4) (j := 63) (ref := "WindGasModel") hX (pcG 4) in_X4 (Or.inl q1601) (by decide) (by decide) (by decide) rfl dX4_node_11 (fun _ h9 => h9) (fun v3 => ?_)
  refine s_aload_n hX dX4_node_14 rfl 0 rfl ?_
  refine s_getI (ci := 4) (j := 50) (ref := "WindGasModel") hX (pcG 4) in_X4 (Or.inl q1588) (by decide) (by decide) (by decide) rfl dX4_node_15 (fun _ h9 => h9) (fun v4 => ?_)
  refine s_iconst (v := -1) hX dX4_node_18 (by decide) ?_
  refine s_iast hX (pcA 0) (pcB 0) dX4_node_19 ?_
  refine s_aload_n hX dX4_node_20 rfl 0 rfl ?_
  refine s_getR (ci := 4) (j := 64) (ref := "WindGasModel") hX (pcG 4) in_X4 (Or.inl q1602) (by decide) (by decide) (by decide) rfl dX4_node_21 (fun _ h9 => h9) (fun v5 => ?_)
  refine s_aload_n hX dX4_node_24 rfl 0 rfl ?_
  refine s_getI (ci := 4) (j := 50) (ref := "WindGasModel") hX (pcG 4) in_X4 (Or.inl q1588) (by decide) (by decide) (by decide) rfl dX4_node_25 (fun _ h9 => h9) (fun v6 => ?_)
  refine s_iconst (v := -1) hX dX4_node_28 (by decide) ?_
  refine s_iast hX (pcA 0) (pcB 0) dX4_node_29 ?_
  refine s_aload_n hX dX4_node_30 rfl 0 rfl ?_
  refine s_dup hX dX4_node_31 (rv_cat _) ?_
  refine s_getI (ci := 4) (j := 50) (ref := "WindGasModel") hX (pcG 4) in_X4 (Or.inl q1588) (by decide) (by decide) (by decide) rfl dX4_node_32 (fun _ h9 => h9) (fun v7 => ?_)
  refine s_iconst (v := 1) hX dX4_node_35 rfl ?_
  refine s_iadd hX dX4_node_36 ?_
  refine s_putI (ci := 4) (j := 50) (ref := "WindGasModel") hX (pcG 4) (pcP 4) in_X4 tyX4_ok nmX4 (Or.inl q1588) (by decide) (by decide) (by decide) rfl rfl rfl dX4_node_37 (fun _ h9 => h9) ?_
  refine s_aload_n hX dX4_node_40 rfl 0 rfl ?_
  refine s_getI (ci := 4) (j := 50) (ref := "WindGasModel") hX (pcG 4) in_X4 (Or.inl q1588) (by decide) (by decide) (by decide) rfl dX4_node_41 (fun _ h9 => h9) (fun v8 => ?_)
  refine s_iconst (v := 1) hX dX4_node_44 rfl ?_
  refine s_isub hX dX4_node_45 ?_
  exact s_iret hX dX4_node_46
theorem dX4_takesSign_0 : decode cX4_takesSign 0 = .ok (.aload_n 0, 1) := by decide +kernel
theorem dX4_takesSign_1 : decode cX4_takesSign 1 = .ok (.invokevirtual 351, 3) := by decide +kernel
theorem dX4_takesSign_4 : decode cX4_takesSign 4 = .ok (.aload_n 0, 1) := by decide +kernel
theorem dX4_takesSign_5 : decode cX4_takesSign 5 = .ok (.getfield 345, 3) := by decide +kernel
theorem dX4_takesSign_8 : decode cX4_takesSign 8 = .ok (.aload_n 0, 1) := by decide +kernel
theorem dX4_takesSign_9 : decode cX4_takesSign 9 = .ok (.getfield 348, 3) := by decide +kernel
theorem dX4_takesSign_12 : decode cX4_takesSign 12 = .ok (.if_icmp .eq 16, 3) := by decide +kernel
theorem dX4_takesSign_15 : decode cX4_takesSign 15 = .ok (.aload_n 0, 1) := by decide +kernel
theorem dX4_takesSign_16 : decode cX4_takesSign 16 = .ok (.getfield 177, 3) := by decide +kernel
theorem dX4_takesSign_19 : decode cX4_takesSign 19 = .ok (.aload_n 0, 1) := by decide +kernel
theorem dX4_takesSign_20 : decode cX4_takesSign 20 = .ok (.getfield 345, 3) := by decide +kernel
theorem dX4_takesSign_23 : decode cX4_takesSign 23 = .ok (.baload, 1) := by decide +kernel
theorem dX4_takesSign_24 : decode cX4_takesSign 24 = .ok (.iload_n 1, 1) := by decide +kernel
theorem dX4_takesSign_25 : decode cX4_takesSign 25 = .ok (.if_icmp .eq 5, 3) := by decide +kernel
theorem dX4_takesSign_28 : decode cX4_takesSign 28 = .ok (.iconst 0, 1) := by decide +kernel
theorem dX4_takesSign_29 : decode cX4_takesSign 29 = .ok (.ireturn, 1) := by decide +kernel
theorem dX4_takesSign_30 : decode cX4_takesSign 30 = .ok (.aload_n 0, 1) := by decide +kernel
theorem dX4_takesSign_31 : decode cX4_takesSign 31 = .ok (.dup, 1) := by decide +kernel
theorem dX4_takesSign_32 : decode cX4_takesSign 32 = .ok (.getfield 345, 3) := by decide +kernel
theorem dX4_takesSign_35 : decode cX4_takesSign 35 = .ok (.iconst 1, 1) := by decide +kernel
theorem dX4_takesSign_36 : decode cX4_takesSign 36 = .ok (.iadd, 1) := by decide +kernel
theorem dX4_takesSign_37 : decode cX4_takesSign 37 = .ok (.putfield 345, 3) := by decide +kernel
theorem dX4_takesSign_40 : decode cX4_takesSign 40 = .ok (.iconst 1, 1) := by decide +kernel
theorem dX4_takesSign_41 : decode cX4_takesSign 41 = .ok (.ireturn, 1) := by decide +kernel
theorem ycX4_takesSign : yX4_takesSign.cls ≠ "java/lang/invoke/MethodHandle" ∧ yX4_takesSign.cls ≠ "java/lang/invoke/VarHandle" ∧ (parseMethodDescriptor yX4_takesSign.desc).map (fun d => d.parameters.length) = some 1 := by decide +kernel
theorem yvX4_takesSign : yX4_takesSign.cls = RR 4 ∧ yX4_takesSign.cls ≠ "java/lang/invoke/MethodHandle" ∧ yX4_takesSign.cls ≠ "java/lang/invoke/VarHandle" ∧ (parseMethodDescriptor yX4_takesSign.desc).map (fun d => d.parameters.length) = some 1 := ⟨rfl, ycX4_takesSign⟩
def f_X4_takesSign (n : Nat) (p0 : Nat) (p1 : Int32) : Act Int32 :=
  bnd (gd 4 p0 (nt (f_X4_blanks n p0))) fun _ =>
  bnd (getI 4 53 p0) fun v1 =>
  bnd (getI 4 52 p0) fun v2 =>
  jn (fun (_ : Unit) =>
    purS (ty := .boolean) 0) fun j28 =>
  if v1 = v2 then
    j28 ()
  else
    bnd (getR 4 69 p0) fun v3 =>
    bnd (getI 4 53 p0) fun v4 =>
    bnd (ldI 2 v3 v4) fun v5 =>
    if v5 = p1 then
      bnd (getI 4 53 p0) fun v6 =>
      bnd (putI 4 53 p0 (v6 + 1)) fun _ =>
      purS (ty := .boolean) 1
    else
      j28 ()
set_option maxHeartbeats 4000000 in
theorem ct_X4_takesSign (l : Launch) (n : Nat) (p0 : Nat) (p1 : Int32) : Ct l Pic yX4_takesSign (ws_ yX4_takesSign cX4_takesSign 2 (some FieldType.boolean)) 1 20 cvI [rv p0, .int p1] (f_X4_takesSign n p0 p1) := by
  refine Ct.of (own := RX4) (L := [(0, rv p0), (1, .int p1)]) (plainFor_of_name (by decide)) rfl (by first | decide | simp [lg_sl, rv_cat, cat_i, cat_l]) (by first | rfl | simp [lv_args, rv_cat, cat_i, cat_l]) pcZ (fun X hXl hX hnh hin => ?_)
  subst hXl
  unfold f_X4_takesSign
  refine s_aload_n hX dX4_takesSign_0 rfl 0 rfl ?_
  refine s_callV_U (ci := 4) (n := 0) (As := []) (st := []) hX (pcK 5) (by decide) (ct_X4_blanks X.l n p0) q1974 q1976 qs66 q91 q1977 yvX4_blanks (by decide) rfl (by first | decide | simp [rv_cat, cat_i, cat_l]) dX4_takesSign_1 (fun _ => ?_)
  refine s_aload_n hX dX4_takesSign_4 rfl 0 rfl ?_
  refine s_getI (ci := 4) (j := 53) (ref := "WindGasModel") hX (pcG 4) in_X4 (Or.inl q1591) (by decide) (by decide) (by decide) rfl dX4_takesSign_5 (fun _ h9 => h9) (fun v1 => ?_)
  refine s_aload_n hX dX4_takesSign_8 rfl 0 rfl ?_
  refine s_getI (ci := 4) (j := 52) (ref := "WindGasModel") hX (pcG 4) in_X4 (Or.inl q1590) (by decide) (by decide) (by decide) rfl dX4_takesSign_9 (fun _ h9 => h9) (fun v2 => ?_)
  refine s_jn (P := fun j => ∀ (u : Unit), Sim X cvI 28 [] [] (j u)) ?_ (fun j28 hj28 => ?_)
  · intro u
    refine s_iconst (v := 0) hX dX4_takesSign_28 rfl ?_
    exact s_zret hX dX4_takesSign_29
  · refine s_icmp_eq (tgt := 28) hX dX4_takesSign_12 (by decide) ?_ ?_
    · exact s_sub [] rfl (hj28 ())
    · refine s_aload_n hX dX4_takesSign_15 rfl 0 rfl ?_
      refine s_getR (ci := 4) (j := 69) (ref := "WindGasModel") hX (pcG 4) in_X4 (Or.inl q1607) (by decide) (by decide) (by decide) rfl dX4_takesSign_16 (fun _ h9 => h9) (fun v3 => ?_)
      refine s_aload_n hX dX4_takesSign_19 rfl 0 rfl ?_
      refine s_getI (ci := 4) (j := 53) (ref := "WindGasModel") hX (pcG 4) in_X4 (Or.inl q1591) (by decide) (by decide) (by decide) rfl dX4_takesSign_20 (fun _ h9 => h9) (fun v4 => ?_)
      refine s_bald hX (pcA 2) dX4_takesSign_23 (fun v5 => ?_)
      refine s_iload_n hX dX4_takesSign_24 rfl 1 rfl ?_
      refine s_icmp_eq (tgt := 30) hX dX4_takesSign_25 (by decide) ?_ ?_
      · refine s_aload_n hX dX4_takesSign_30 rfl 0 rfl ?_
        refine s_dup hX dX4_takesSign_31 (rv_cat _) ?_
        refine s_getI (ci := 4) (j := 53) (ref := "WindGasModel") hX (pcG 4) in_X4 (Or.inl q1591) (by decide) (by decide) (by decide) rfl dX4_takesSign_32 (fun _ h9 => h9) (fun v6 => ?_)
        refine s_iconst (v := 1) hX dX4_takesSign_35 rfl ?_
        refine s_iadd hX dX4_takesSign_36 ?_
        refine s_putI (ci := 4) (j := 53) (ref := "WindGasModel") hX (pcG 4) (pcP 4) in_X4 tyX4_ok nmX4 (Or.inl q1591) (by decide) (by decide) (by decide) rfl rfl rfl dX4_takesSign_37 (fun _ h9 => h9) ?_
        refine s_iconst (v := 1) hX dX4_takesSign_40 rfl ?_
        exact s_zret hX dX4_takesSign_41
      · exact s_sub [] rfl (hj28 ())
theorem dX4_asked_0 : decode cX4_asked 0 = .ok (.lload_n 0, 1) := by decide +kernel
theorem dX4_asked_1 : decode cX4_asked 1 = .ok (.ldc2_w 384, 3) := by decide +kernel
theorem dX4_asked_4 : decode cX4_asked 4 = .ok (.lcmp, 1) := by decide +kernel
theorem dX4_asked_5 : decode cX4_asked 5 = .ok (.ifCond .ne 7, 3) := by decide +kernel
theorem dX4_asked_8 : decode cX4_asked 8 = .ok (.iconst 0, 1) := by decide +kernel
theorem dX4_asked_9 : decode cX4_asked 9 = .ok (.goto 90, 3) := by decide +kernel
theorem dX4_asked_12 : decode cX4_asked 12 = .ok (.lload_n 0, 1) := by decide +kernel
theorem dX4_asked_13 : decode cX4_asked 13 = .ok (.ldc2_w 386, 3) := by decide +kernel
theorem dX4_asked_16 : decode cX4_asked 16 = .ok (.lcmp, 1) := by decide +kernel
theorem dX4_asked_17 : decode cX4_asked 17 = .ok (.ifCond .ne 7, 3) := by decide +kernel
theorem dX4_asked_20 : decode cX4_asked 20 = .ok (.iconst 1, 1) := by decide +kernel
theorem dX4_asked_21 : decode cX4_asked 21 = .ok (.goto 78, 3) := by decide +kernel
theorem dX4_asked_24 : decode cX4_asked 24 = .ok (.lload_n 0, 1) := by decide +kernel
theorem dX4_asked_25 : decode cX4_asked 25 = .ok (.ldc2_w 388, 3) := by decide +kernel
theorem dX4_asked_28 : decode cX4_asked 28 = .ok (.lcmp, 1) := by decide +kernel
theorem dX4_asked_29 : decode cX4_asked 29 = .ok (.ifCond .ne 7, 3) := by decide +kernel
theorem dX4_asked_32 : decode cX4_asked 32 = .ok (.iconst 2, 1) := by decide +kernel
theorem dX4_asked_33 : decode cX4_asked 33 = .ok (.goto 66, 3) := by decide +kernel
theorem dX4_asked_36 : decode cX4_asked 36 = .ok (.lload_n 0, 1) := by decide +kernel
theorem dX4_asked_37 : decode cX4_asked 37 = .ok (.ldc2_w 390, 3) := by decide +kernel
theorem dX4_asked_40 : decode cX4_asked 40 = .ok (.lcmp, 1) := by decide +kernel
theorem dX4_asked_41 : decode cX4_asked 41 = .ok (.ifCond .ne 7, 3) := by decide +kernel
theorem dX4_asked_44 : decode cX4_asked 44 = .ok (.iconst 3, 1) := by decide +kernel
theorem dX4_asked_45 : decode cX4_asked 45 = .ok (.goto 54, 3) := by decide +kernel
theorem dX4_asked_48 : decode cX4_asked 48 = .ok (.lload_n 0, 1) := by decide +kernel
theorem dX4_asked_49 : decode cX4_asked 49 = .ok (.ldc2_w 392, 3) := by decide +kernel
theorem dX4_asked_52 : decode cX4_asked 52 = .ok (.lcmp, 1) := by decide +kernel
theorem dX4_asked_53 : decode cX4_asked 53 = .ok (.ifCond .ne 7, 3) := by decide +kernel
theorem dX4_asked_56 : decode cX4_asked 56 = .ok (.iconst 4, 1) := by decide +kernel
theorem dX4_asked_57 : decode cX4_asked 57 = .ok (.goto 42, 3) := by decide +kernel
theorem dX4_asked_60 : decode cX4_asked 60 = .ok (.lload_n 0, 1) := by decide +kernel
theorem dX4_asked_61 : decode cX4_asked 61 = .ok (.ldc2_w 394, 3) := by decide +kernel
theorem dX4_asked_64 : decode cX4_asked 64 = .ok (.lcmp, 1) := by decide +kernel
theorem dX4_asked_65 : decode cX4_asked 65 = .ok (.ifCond .ne 7, 3) := by decide +kernel
theorem dX4_asked_68 : decode cX4_asked 68 = .ok (.iconst 5, 1) := by decide +kernel
theorem dX4_asked_69 : decode cX4_asked 69 = .ok (.goto 30, 3) := by decide +kernel
theorem dX4_asked_72 : decode cX4_asked 72 = .ok (.lload_n 0, 1) := by decide +kernel
theorem dX4_asked_73 : decode cX4_asked 73 = .ok (.ldc2_w 396, 3) := by decide +kernel
theorem dX4_asked_76 : decode cX4_asked 76 = .ok (.lcmp, 1) := by decide +kernel
theorem dX4_asked_77 : decode cX4_asked 77 = .ok (.ifCond .ne 8, 3) := by decide +kernel
theorem dX4_asked_80 : decode cX4_asked 80 = .ok (.bipush 6, 2) := by decide +kernel
theorem dX4_asked_82 : decode cX4_asked 82 = .ok (.goto 17, 3) := by decide +kernel
theorem dX4_asked_85 : decode cX4_asked 85 = .ok (.lload_n 0, 1) := by decide +kernel
theorem dX4_asked_86 : decode cX4_asked 86 = .ok (.ldc2_w 398, 3) := by decide +kernel
theorem dX4_asked_89 : decode cX4_asked 89 = .ok (.lcmp, 1) := by decide +kernel
theorem dX4_asked_90 : decode cX4_asked 90 = .ok (.ifCond .ne 8, 3) := by decide +kernel
theorem dX4_asked_93 : decode cX4_asked 93 = .ok (.bipush 7, 2) := by decide +kernel
theorem dX4_asked_95 : decode cX4_asked 95 = .ok (.goto 4, 3) := by decide +kernel
theorem dX4_asked_98 : decode cX4_asked 98 = .ok (.iconst (-1), 1) := by decide +kernel
theorem dX4_asked_99 : decode cX4_asked 99 = .ok (.ireturn, 1) := by decide +kernel
theorem ycX4_asked : yX4_asked.cls ≠ "java/lang/invoke/MethodHandle" ∧ yX4_asked.cls ≠ "java/lang/invoke/VarHandle" ∧ (parseMethodDescriptor yX4_asked.desc).map (fun d => d.parameters.length) = some 1 := by decide +kernel
def f_X4_asked (p0 : Int64) : Act Int32 :=
  jn (fun (v1 : Int32) =>
    pur v1) fun j99 =>
  if ¬ (lg_cmp p0 2003398244) = 0 then
    if ¬ (lg_cmp p0 482955846501) = 0 then
      if ¬ (lg_cmp p0 1918986606) = 0 then
        if ¬ (lg_cmp p0 1752135026) = 0 then
          if ¬ (lg_cmp p0 6578553) = 0 then
            if ¬ (lg_cmp p0 126943923168612) = 0 then
              if ¬ (lg_cmp p0 512736126322) = 0 then
                if ¬ (lg_cmp p0 32217264504270439) = 0 then
                  j99 (-1)
                else
                  j99 7
              else
                j99 6
            else
              j99 5
          else
            j99 4
        else
          j99 3
      else
        j99 2
    else
      j99 1
  else
    j99 0
set_option maxHeartbeats 4000000 in
theorem ct_X4_asked (l : Launch) (p0 : Int64) : Ct l Pic yX4_asked (ws_ yX4_asked cX4_asked 2 (some FieldType.int)) 0 0 cvI [.long p0] (f_X4_asked p0) := by
  refine Ct.of (own := RX4) (L := [(0, .long p0)]) (plainFor_of_name (by decide)) rfl (by first | decide | simp [lg_sl, rv_cat, cat_i, cat_l]) (by first | rfl | simp [lv_args, rv_cat, cat_i, cat_l]) pcZ (fun X hXl hX hnh hin => ?_)
  subst hXl
  unfold f_X4_asked
  refine s_lload_n hX dX4_asked_0 rfl 0 rfl ?_
  refine s_ldc2 (v := 2003398244) hX dX4_asked_1 q2037 ?_
  refine s_lcmp hX dX4_asked_4 ?_
  refine s_jn (P := fun j => ∀ (v1 : Int32), Sim X cvI 99 [] [.int v1] (j v1)) ?_ (fun j99 hj99 => ?_)
  · intro v1
    exact s_iret hX dX4_asked_99
  · refine s_if_ne (tgt := 12) hX dX4_asked_5 (by decide) ?_ ?_
    · refine s_lload_n hX dX4_asked_12 rfl 0 rfl ?_
      refine s_ldc2 (v := 482955846501) hX dX4_asked_13 q2038 ?_
      refine s_lcmp hX dX4_asked_16 ?_
      refine s_if_ne (tgt := 24) hX dX4_asked_17 (by decide) ?_ ?_
      · refine s_lload_n hX dX4_asked_24 rfl 0 rfl ?_
        refine s_ldc2 (v := 1918986606) hX dX4_asked_25 q2039 ?_
        refine s_lcmp hX dX4_asked_28 ?_
        refine s_if_ne (tgt := 36) hX dX4_asked_29 (by decide) ?_ ?_
        · refine s_lload_n hX dX4_asked_36 rfl 0 rfl ?_
          refine s_ldc2 (v := 1752135026) hX dX4_asked_37 q2040 ?_
          refine s_lcmp hX dX4_asked_40 ?_
          refine s_if_ne (tgt := 48) hX dX4_asked_41 (by decide) ?_ ?_
          · refine s_lload_n hX dX4_asked_48 rfl 0 rfl ?_
            refine s_ldc2 (v := 6578553) hX dX4_asked_49 q2041 ?_
            refine s_lcmp hX dX4_asked_52 ?_
            refine s_if_ne (tgt := 60) hX dX4_asked_53 (by decide) ?_ ?_
            · refine s_lload_n hX dX4_asked_60 rfl 0 rfl ?_
              refine s_ldc2 (v := 126943923168612) hX dX4_asked_61 q2042 ?_
              refine s_lcmp hX dX4_asked_64 ?_
              refine s_if_ne (tgt := 72) hX dX4_asked_65 (by decide) ?_ ?_
              · refine s_lload_n hX dX4_asked_72 rfl 0 rfl ?_
                refine s_ldc2 (v := 512736126322) hX dX4_asked_73 q2043 ?_
                refine s_lcmp hX dX4_asked_76 ?_
                refine s_if_ne (tgt := 85) hX dX4_asked_77 (by decide) ?_ ?_
                · refine s_lload_n hX dX4_asked_85 rfl 0 rfl ?_
                  refine s_ldc2 (v := 32217264504270439) hX dX4_asked_86 q2044 ?_
                  refine s_lcmp hX dX4_asked_89 ?_
                  refine s_if_ne (tgt := 98) hX dX4_asked_90 (by decide) ?_ ?_
                  · refine s_iconst (v := -1) hX dX4_asked_98 (by decide) ?_
                    exact s_sub [] rfl (hj99 (-1))
                  · refine s_bipush (v := 7) hX dX4_asked_93 (by decide) ?_
                    refine s_goto (tgt := 99) hX dX4_asked_95 (by decide) ?_
                    exact s_sub [] rfl (hj99 7)
                · refine s_bipush (v := 6) hX dX4_asked_80 (by decide) ?_
                  refine s_goto (tgt := 99) hX dX4_asked_82 (by decide) ?_
                  exact s_sub [] rfl (hj99 6)
              · refine s_iconst (v := 5) hX dX4_asked_68 rfl ?_
                refine s_goto (tgt := 99) hX dX4_asked_69 (by decide) ?_
                exact s_sub [] rfl (hj99 5)
            · refine s_iconst (v := 4) hX dX4_asked_56 rfl ?_
              refine s_goto (tgt := 99) hX dX4_asked_57 (by decide) ?_
              exact s_sub [] rfl (hj99 4)
          · refine s_iconst (v := 3) hX dX4_asked_44 rfl ?_
            refine s_goto (tgt := 99) hX dX4_asked_45 (by decide) ?_
            exact s_sub [] rfl (hj99 3)
        · refine s_iconst (v := 2) hX dX4_asked_32 rfl ?_
          refine s_goto (tgt := 99) hX dX4_asked_33 (by decide) ?_
          exact s_sub [] rfl (hj99 2)
      · refine s_iconst (v := 1) hX dX4_asked_20 rfl ?_
        refine s_goto (tgt := 99) hX dX4_asked_21 (by decide) ?_
        exact s_sub [] rfl (hj99 1)
    · refine s_iconst (v := 0) hX dX4_asked_8 rfl ?_
      refine s_goto (tgt := 99) hX dX4_asked_9 (by decide) ?_
      exact s_sub [] rfl (hj99 0)
theorem ycX4_any : yX4_any.cls ≠ "java/lang/invoke/MethodHandle" ∧ yX4_any.cls ≠ "java/lang/invoke/VarHandle" ∧ (parseMethodDescriptor yX4_any.desc).map (fun d => d.parameters.length) = some 0 := by decide +kernel
theorem yvX4_any : yX4_any.cls = RR 4 ∧ yX4_any.cls ≠ "java/lang/invoke/MethodHandle" ∧ yX4_any.cls ≠ "java/lang/invoke/VarHandle" ∧ (parseMethodDescriptor yX4_any.desc).map (fun d => d.parameters.length) = some 0 := ⟨rfl, ycX4_any⟩
theorem ycX4_all : yX4_all.cls ≠ "java/lang/invoke/MethodHandle" ∧ yX4_all.cls ≠ "java/lang/invoke/VarHandle" ∧ (parseMethodDescriptor yX4_all.desc).map (fun d => d.parameters.length) = some 0 := by decide +kernel
theorem yvX4_all : yX4_all.cls = RR 4 ∧ yX4_all.cls ≠ "java/lang/invoke/MethodHandle" ∧ yX4_all.cls ≠ "java/lang/invoke/VarHandle" ∧ (parseMethodDescriptor yX4_all.desc).map (fun d => d.parameters.length) = some 0 := ⟨rfl, ycX4_all⟩
theorem ycX4_single : yX4_single.cls ≠ "java/lang/invoke/MethodHandle" ∧ yX4_single.cls ≠ "java/lang/invoke/VarHandle" ∧ (parseMethodDescriptor yX4_single.desc).map (fun d => d.parameters.length) = some 0 := by decide +kernel
theorem yvX4_single : yX4_single.cls = RR 4 ∧ yX4_single.cls ≠ "java/lang/invoke/MethodHandle" ∧ yX4_single.cls ≠ "java/lang/invoke/VarHandle" ∧ (parseMethodDescriptor yX4_single.desc).map (fun d => d.parameters.length) = some 0 := ⟨rfl, ycX4_single⟩
theorem dX4_any_0 : decode cX4_any 0 = .ok (.aload_n 0, 1) := by decide +kernel
theorem dX4_any_1 : decode cX4_any 1 = .ok (.iconst 0, 1) := by decide +kernel
theorem dX4_any_2 : decode cX4_any 2 = .ok (.invokevirtual 367, 3) := by decide +kernel
theorem dX4_any_5 : decode cX4_any 5 = .ok (.istore_n 1, 1) := by decide +kernel
theorem dX4_any_6 : decode cX4_any 6 = .ok (.iconst (-1), 1) := by decide +kernel
theorem dX4_any_7 : decode cX4_any 7 = .ok (.istore_n 2, 1) := by decide +kernel
theorem dX4_any_8 : decode cX4_any 8 = .ok (.aload_n 0, 1) := by decide +kernel
theorem dX4_any_9 : decode cX4_any 9 = .ok (.invokevirtual 370, 3) := by decide +kernel
theorem dX4_any_12 : decode cX4_any 12 = .ok (.istore_n 3, 1) := by decide +kernel
theorem dX4_any_13 : decode cX4_any 13 = .ok (.iload_n 3, 1) := by decide +kernel
theorem dX4_any_14 : decode cX4_any 14 = .ok (.iconst (-1), 1) := by decide +kernel
theorem dX4_any_15 : decode cX4_any 15 = .ok (.if_icmp .ne 5, 3) := by decide +kernel
theorem dX4_any_18 : decode cX4_any 18 = .ok (.iconst (-1), 1) := by decide +kernel
theorem dX4_any_19 : decode cX4_any 19 = .ok (.ireturn, 1) := by decide +kernel
theorem dX4_any_20 : decode cX4_any 20 = .ok (.iload_n 2, 1) := by decide +kernel
theorem dX4_any_21 : decode cX4_any 21 = .ok (.iconst (-1), 1) := by decide +kernel
theorem dX4_any_22 : decode cX4_any 22 = .ok (.if_icmp .ne 13, 3) := by decide +kernel
theorem dX4_any_25 : decode cX4_any 25 = .ok (.aload_n 0, 1) := by decide +kernel
theorem dX4_any_26 : decode cX4_any 26 = .ok (.getfield 158, 3) := by decide +kernel
theorem dX4_any_29 : decode cX4_any 29 = .ok (.iload_n 1, 1) := by decide +kernel
theorem dX4_any_30 : decode cX4_any 30 = .ok (.iload_n 3, 1) := by decide +kernel
theorem dX4_any_31 : decode cX4_any 31 = .ok (.iastore, 1) := by decide +kernel
theorem dX4_any_32 : decode cX4_any 32 = .ok (.goto 10, 3) := by decide +kernel
theorem dX4_any_35 : decode cX4_any 35 = .ok (.aload_n 0, 1) := by decide +kernel
theorem dX4_any_36 : decode cX4_any 36 = .ok (.getfield 161, 3) := by decide +kernel
theorem dX4_any_39 : decode cX4_any 39 = .ok (.iload_n 2, 1) := by decide +kernel
theorem dX4_any_40 : decode cX4_any 40 = .ok (.iload_n 3, 1) := by decide +kernel
theorem dX4_any_41 : decode cX4_any 41 = .ok (.iastore, 1) := by decide +kernel
theorem dX4_any_42 : decode cX4_any 42 = .ok (.iload_n 3, 1) := by decide +kernel
theorem dX4_any_43 : decode cX4_any 43 = .ok (.istore_n 2, 1) := by decide +kernel
theorem dX4_any_44 : decode cX4_any 44 = .ok (.aload_n 0, 1) := by decide +kernel
theorem dX4_any_45 : decode cX4_any 45 = .ok (.ldc2_w 373, 3) := by decide +kernel
theorem dX4_any_48 : decode cX4_any 48 = .ok (.invokevirtual 375, 3) := by decide +kernel
theorem dX4_any_51 : decode cX4_any 51 = .ok (.ifCond .ne (-43), 3) := by decide +kernel
theorem dX4_any_54 : decode cX4_any 54 = .ok (.iload_n 1, 1) := by decide +kernel
theorem dX4_any_55 : decode cX4_any 55 = .ok (.ireturn, 1) := by decide +kernel
def lp_X4_any_8 (G : Nat → Nat → Act Int32) (n : Nat) (p0 : Nat) (v1 : Int32) (q : Nat) : Int32 → Act Int32 := match q with
  | 0 => fun _ => fail
  | q + 1 => fun w2 =>
    bnd (gd 4 p0 (nt (G 1 p0))) fun v3 =>
    if ¬ v3 = (-1) then
      jn (fun (_ : Unit) =>
        bnd (gd 4 p0 (nt (f_X4_takes n p0 (28530 : Int64)))) fun v4 =>
        if ¬ v4 = 0 then
          (lp_X4_any_8 G n p0 v1 q) v3
        else
          pur v1) fun j42 =>
      if ¬ w2 = (-1) then
        bnd (getR 4 64 p0) fun v5 =>
        bnd (stI 0 v5 w2 v3) fun _ =>
        j42 ()
      else
        bnd (getR 4 63 p0) fun v6 =>
        bnd (stI 0 v6 v1 v3) fun _ =>
        j42 ()
    else
      pur (-1)
def f_X4_any (n : Nat) (G : Nat → Nat → Act Int32) (p0 : Nat) : Act Int32 :=
  bnd (gd 4 p0 (nt (f_X4_node p0 (0 : Int32)))) fun v1 =>
  lp_X4_any_8 G n p0 v1 n (-1)
set_option maxHeartbeats 4000000 in
theorem s_lp_X4_any_8 {X : Cx} {frG loG : Nat} (hX : Ok X Pic cX4_any RX4 4 (some FieldType.int) (frG + 4) (loG + 87)) (hnh : Noh X) (G : Nat → Nat → Act Int32) (hfr : True) (hG : (∀ p0, Ct X.l Pic yX4_any (ws_ yX4_any cX4_any 4 (some FieldType.int)) frG loG cvI [rv p0] (G 0 p0)) ∧ (∀ p0, Ct X.l Pic yX4_all (ws_ yX4_all cX4_all 4 (some FieldType.int)) frG loG cvI [rv p0] (G 1 p0)) ∧ (∀ p0, Ct X.l Pic yX4_single (ws_ yX4_single cX4_single 3 (some FieldType.int)) frG loG cvI [rv p0] (G 2 p0))) (n : Nat) (p0 : Nat) (v1 : Int32) (q : Nat) : ∀ (w2 : Int32), Sim X cvI 8 [(0, rv p0), (1, .int v1), (2, .int w2)] [] (lp_X4_any_8 G n p0 v1 q w2) := by
  induction q with
  | zero => intro w2; exact s_fail
  | succ q ih8 =>
    intro w2
    rw [lp_X4_any_8]
    refine s_aload_n hX dX4_any_8 rfl 0 rfl ?_
    refine s_callV_I (ci := 4) (n := 0) (As := []) (st := []) hX (pcK 5) (by decide) ((hG.2.1 p0)) q2021 q2023 qs75 q91 q2024 yvX4_all ⟨by omega, by omega⟩ rfl (by first | decide | simp [rv_cat, cat_i, cat_l]) dX4_any_9 (fun v3 => ?_)
    refine s_istore_n (i := 3) (L2 := [(3, .int v3), (0, rv p0), (1, .int v1), (2, .int w2)]) hX dX4_any_12 rfl (by decide) rfl ?_
    refine s_iload_n hX dX4_any_13 rfl 0 rfl ?_
    refine s_iconst (v := -1) hX dX4_any_14 (by decide) ?_
    refine s_icmp_ne (tgt := 20) hX dX4_any_15 (by decide) ?_ ?_
    · refine s_iload_n hX dX4_any_20 rfl 3 rfl ?_
      refine s_iconst (v := -1) hX dX4_any_21 (by decide) ?_
      refine s_jn (P := fun j => ∀ (u : Unit), Sim X cvI 42 [(0, rv p0), (1, .int v1), (3, .int v3)] [] (j u)) ?_ (fun j42 hj42 => ?_)
      · intro u
        refine s_iload_n hX dX4_any_42 rfl 2 rfl ?_
        refine s_istore_n (i := 2) (L2 := [(2, .int v3), (0, rv p0), (1, .int v1), (3, .int v3)]) hX dX4_any_43 rfl (by decide) rfl ?_
        refine s_aload_n hX dX4_any_44 rfl 1 rfl ?_
        refine s_ldc2 (v := 28530) hX dX4_any_45 q2046 ?_
        refine s_callV_I (ci := 4) (n := 1) (As := [.long 28530]) (st := []) hX (pcK 5) (by decide) (ct_X4_takes X.l n p0 (28530 : Int64)) q1983 q1985 qs68 q91 q1986 yvX4_takes ⟨by omega, by omega⟩ rfl (by first | decide | simp [rv_cat, cat_i, cat_l]) dX4_any_48 (fun v4 => ?_)
        refine s_if_ne (tgt := 8) hX dX4_any_51 (by decide) ?_ ?_
        · exact s_sub [1, 2, 0] rfl (ih8 v3)
        · refine s_iload_n hX dX4_any_54 rfl 2 rfl ?_
          exact s_iret hX dX4_any_55
      · refine s_icmp_ne (tgt := 35) hX dX4_any_22 (by decide) ?_ ?_
        · refine s_aload_n hX dX4_any_35 rfl 1 rfl ?_
          refine s_getR (ci := 4) (j := 64) (ref := "WindGasModel") hX (pcG 4) in_X4 (Or.inl q1602) (by decide) (by decide) (by decide) rfl dX4_any_36 (fun _ h9 => h9) (fun v5 => ?_)
          refine s_iload_n hX dX4_any_39 rfl 3 rfl ?_
          refine s_iload_n hX dX4_any_40 rfl 0 rfl ?_
          refine s_iast hX (pcA 0) (pcB 0) dX4_any_41 ?_
          exact s_sub [1, 2, 0] rfl (hj42 ())
        · refine s_aload_n hX dX4_any_25 rfl 1 rfl ?_
          refine s_getR (ci := 4) (j := 63) (ref := "WindGasModel") hX (pcG 4) in_X4 (Or.inl q1601) (by decide) (by decide) (by decide) rfl dX4_any_26 (fun _ h9 => h9) (fun v6 => ?_)
          refine s_iload_n hX dX4_any_29 rfl 2 rfl ?_
          refine s_iload_n hX dX4_any_30 rfl 0 rfl ?_
          refine s_iast hX (pcA 0) (pcB 0) dX4_any_31 ?_
          refine s_goto (tgt := 42) hX dX4_any_32 (by decide) ?_
          exact s_sub [1, 2, 0] rfl (hj42 ())
    · refine s_iconst (v := -1) hX dX4_any_18 (by decide) ?_
      exact s_iret hX dX4_any_19
set_option maxHeartbeats 4000000 in
theorem ct_X4_any {frG loG : Nat} (l : Launch) (n : Nat) (G : Nat → Nat → Act Int32) (hfr : True) (hG : (∀ p0, Ct l Pic yX4_any (ws_ yX4_any cX4_any 4 (some FieldType.int)) frG loG cvI [rv p0] (G 0 p0)) ∧ (∀ p0, Ct l Pic yX4_all (ws_ yX4_all cX4_all 4 (some FieldType.int)) frG loG cvI [rv p0] (G 1 p0)) ∧ (∀ p0, Ct l Pic yX4_single (ws_ yX4_single cX4_single 3 (some FieldType.int)) frG loG cvI [rv p0] (G 2 p0))) (p0 : Nat) : Ct l Pic yX4_any (ws_ yX4_any cX4_any 4 (some FieldType.int)) (frG + 4) (loG + 87) cvI [rv p0] (f_X4_any n G p0) := by
  refine Ct.of (own := RX4) (L := [(0, rv p0)]) (plainFor_of_name (by decide)) rfl (by first | decide | simp [lg_sl, rv_cat, cat_i, cat_l]) (by first | rfl | simp [lv_args, rv_cat, cat_i, cat_l]) pcZ (fun X hXl hX hnh hin => ?_)
  subst hXl
  unfold f_X4_any
  refine s_aload_n hX dX4_any_0 rfl 0 rfl ?_
  refine s_iconst (v := 0) hX dX4_any_1 rfl ?_
  refine s_callV_I (ci := 4) (n := 1) (As := [.int 0]) (st := []) hX (pcK 5) (by decide) (ct_X4_node X.l p0 (0 : Int32)) q2017 q2019 qs74 q91 q2020 yvX4_node ⟨by omega, by omega⟩ rfl (by first | decide | simp [rv_cat, cat_i, cat_l]) dX4_any_2 (fun v1 => ?_)
  refine s_istore_n (i := 1) (L2 := [(1, .int v1), (0, rv p0)]) hX dX4_any_5 rfl (by decide) (by first | (simp [rv_cat, cat_i, cat_l]; done) | (simp [rv_cat, cat_i, cat_l]; decide)) ?_
  refine s_iconst (v := -1) hX dX4_any_6 (by decide) ?_
  refine s_istore_n (i := 2) (L2 := [(2, .int (-1)), (1, .int v1), (0, rv p0)]) hX dX4_any_7 rfl (by decide) rfl ?_
  exact s_sub [2, 1, 0] rfl (s_lp_X4_any_8 hX hnh G trivial hG n p0 v1 n (-1))
theorem dX4_all_0 : decode cX4_all 0 = .ok (.aload_n 0, 1) := by decide +kernel
theorem dX4_all_1 : decode cX4_all 1 = .ok (.iconst 1, 1) := by decide +kernel
theorem dX4_all_2 : decode cX4_all 2 = .ok (.invokevirtual 367, 3) := by decide +kernel
theorem dX4_all_5 : decode cX4_all 5 = .ok (.istore_n 1, 1) := by decide +kernel
theorem dX4_all_6 : decode cX4_all 6 = .ok (.iconst (-1), 1) := by decide +kernel
theorem dX4_all_7 : decode cX4_all 7 = .ok (.istore_n 2, 1) := by decide +kernel
theorem dX4_all_8 : decode cX4_all 8 = .ok (.aload_n 0, 1) := by decide +kernel
theorem dX4_all_9 : decode cX4_all 9 = .ok (.invokevirtual 379, 3) := by decide +kernel
theorem dX4_all_12 : decode cX4_all 12 = .ok (.istore_n 3, 1) := by decide +kernel
theorem dX4_all_13 : decode cX4_all 13 = .ok (.iload_n 3, 1) := by decide +kernel
theorem dX4_all_14 : decode cX4_all 14 = .ok (.iconst (-1), 1) := by decide +kernel
theorem dX4_all_15 : decode cX4_all 15 = .ok (.if_icmp .ne 5, 3) := by decide +kernel
theorem dX4_all_18 : decode cX4_all 18 = .ok (.iconst (-1), 1) := by decide +kernel
theorem dX4_all_19 : decode cX4_all 19 = .ok (.ireturn, 1) := by decide +kernel
theorem dX4_all_20 : decode cX4_all 20 = .ok (.iload_n 2, 1) := by decide +kernel
theorem dX4_all_21 : decode cX4_all 21 = .ok (.iconst (-1), 1) := by decide +kernel
theorem dX4_all_22 : decode cX4_all 22 = .ok (.if_icmp .ne 13, 3) := by decide +kernel
theorem dX4_all_25 : decode cX4_all 25 = .ok (.aload_n 0, 1) := by decide +kernel
theorem dX4_all_26 : decode cX4_all 26 = .ok (.getfield 158, 3) := by decide +kernel
theorem dX4_all_29 : decode cX4_all 29 = .ok (.iload_n 1, 1) := by decide +kernel
theorem dX4_all_30 : decode cX4_all 30 = .ok (.iload_n 3, 1) := by decide +kernel
theorem dX4_all_31 : decode cX4_all 31 = .ok (.iastore, 1) := by decide +kernel
theorem dX4_all_32 : decode cX4_all 32 = .ok (.goto 10, 3) := by decide +kernel
theorem dX4_all_35 : decode cX4_all 35 = .ok (.aload_n 0, 1) := by decide +kernel
theorem dX4_all_36 : decode cX4_all 36 = .ok (.getfield 161, 3) := by decide +kernel
theorem dX4_all_39 : decode cX4_all 39 = .ok (.iload_n 2, 1) := by decide +kernel
theorem dX4_all_40 : decode cX4_all 40 = .ok (.iload_n 3, 1) := by decide +kernel
theorem dX4_all_41 : decode cX4_all 41 = .ok (.iastore, 1) := by decide +kernel
theorem dX4_all_42 : decode cX4_all 42 = .ok (.iload_n 3, 1) := by decide +kernel
theorem dX4_all_43 : decode cX4_all 43 = .ok (.istore_n 2, 1) := by decide +kernel
theorem dX4_all_44 : decode cX4_all 44 = .ok (.aload_n 0, 1) := by decide +kernel
theorem dX4_all_45 : decode cX4_all 45 = .ok (.ldc2_w 382, 3) := by decide +kernel
theorem dX4_all_48 : decode cX4_all 48 = .ok (.invokevirtual 375, 3) := by decide +kernel
theorem dX4_all_51 : decode cX4_all 51 = .ok (.ifCond .ne (-43), 3) := by decide +kernel
theorem dX4_all_54 : decode cX4_all 54 = .ok (.iload_n 1, 1) := by decide +kernel
theorem dX4_all_55 : decode cX4_all 55 = .ok (.ireturn, 1) := by decide +kernel
def lp_X4_all_8 (G : Nat → Nat → Act Int32) (n : Nat) (p0 : Nat) (v1 : Int32) (q : Nat) : Int32 → Act Int32 := match q with
  | 0 => fun _ => fail
  | q + 1 => fun w2 =>
    bnd (gd 4 p0 (nt (G 2 p0))) fun v3 =>
    if ¬ v3 = (-1) then
      jn (fun (_ : Unit) =>
        bnd (gd 4 p0 (nt (f_X4_takes n p0 (6385252 : Int64)))) fun v4 =>
        if ¬ v4 = 0 then
          (lp_X4_all_8 G n p0 v1 q) v3
        else
          pur v1) fun j42 =>
      if ¬ w2 = (-1) then
        bnd (getR 4 64 p0) fun v5 =>
        bnd (stI 0 v5 w2 v3) fun _ =>
        j42 ()
      else
        bnd (getR 4 63 p0) fun v6 =>
        bnd (stI 0 v6 v1 v3) fun _ =>
        j42 ()
    else
      pur (-1)
def f_X4_all (n : Nat) (G : Nat → Nat → Act Int32) (p0 : Nat) : Act Int32 :=
  bnd (gd 4 p0 (nt (f_X4_node p0 (1 : Int32)))) fun v1 =>
  lp_X4_all_8 G n p0 v1 n (-1)
set_option maxHeartbeats 4000000 in
theorem s_lp_X4_all_8 {X : Cx} {frG loG : Nat} (hX : Ok X Pic cX4_all RX4 4 (some FieldType.int) (frG + 4) (loG + 87)) (hnh : Noh X) (G : Nat → Nat → Act Int32) (hfr : True) (hG : (∀ p0, Ct X.l Pic yX4_any (ws_ yX4_any cX4_any 4 (some FieldType.int)) frG loG cvI [rv p0] (G 0 p0)) ∧ (∀ p0, Ct X.l Pic yX4_all (ws_ yX4_all cX4_all 4 (some FieldType.int)) frG loG cvI [rv p0] (G 1 p0)) ∧ (∀ p0, Ct X.l Pic yX4_single (ws_ yX4_single cX4_single 3 (some FieldType.int)) frG loG cvI [rv p0] (G 2 p0))) (n : Nat) (p0 : Nat) (v1 : Int32) (q : Nat) : ∀ (w2 : Int32), Sim X cvI 8 [(0, rv p0), (1, .int v1), (2, .int w2)] [] (lp_X4_all_8 G n p0 v1 q w2) := by
  induction q with
  | zero => intro w2; exact s_fail
  | succ q ih8 =>
    intro w2
    rw [lp_X4_all_8]
    refine s_aload_n hX dX4_all_8 rfl 0 rfl ?_
    refine s_callV_I (ci := 4) (n := 0) (As := []) (st := []) hX (pcK 5) (by decide) ((hG.2.2 p0)) q2025 q2027 qs76 q91 q2028 yvX4_single ⟨by omega, by omega⟩ rfl (by first | decide | simp [rv_cat, cat_i, cat_l]) dX4_all_9 (fun v3 => ?_)
    refine s_istore_n (i := 3) (L2 := [(3, .int v3), (0, rv p0), (1, .int v1), (2, .int w2)]) hX dX4_all_12 rfl (by decide) rfl ?_
    refine s_iload_n hX dX4_all_13 rfl 0 rfl ?_
    refine s_iconst (v := -1) hX dX4_all_14 (by decide) ?_
    refine s_icmp_ne (tgt := 20) hX dX4_all_15 (by decide) ?_ ?_
    · refine s_iload_n hX dX4_all_20 rfl 3 rfl ?_
      refine s_iconst (v := -1) hX dX4_all_21 (by decide) ?_
      refine s_jn (P := fun j => ∀ (u : Unit), Sim X cvI 42 [(0, rv p0), (1, .int v1), (3, .int v3)] [] (j u)) ?_ (fun j42 hj42 => ?_)
      · intro u
        refine s_iload_n hX dX4_all_42 rfl 2 rfl ?_
        refine s_istore_n (i := 2) (L2 := [(2, .int v3), (0, rv p0), (1, .int v1), (3, .int v3)]) hX dX4_all_43 rfl (by decide) rfl ?_
        refine s_aload_n hX dX4_all_44 rfl 1 rfl ?_
        refine s_ldc2 (v := 6385252) hX dX4_all_45 q2045 ?_
        refine s_callV_I (ci := 4) (n := 1) (As := [.long 6385252]) (st := []) hX (pcK 5) (by decide) (ct_X4_takes X.l n p0 (6385252 : Int64)) q1983 q1985 qs68 q91 q1986 yvX4_takes ⟨by omega, by omega⟩ rfl (by first | decide | simp [rv_cat, cat_i, cat_l]) dX4_all_48 (fun v4 => ?_)
        refine s_if_ne (tgt := 8) hX dX4_all_51 (by decide) ?_ ?_
        · exact s_sub [1, 2, 0] rfl (ih8 v3)
        · refine s_iload_n hX dX4_all_54 rfl 2 rfl ?_
          exact s_iret hX dX4_all_55
      · refine s_icmp_ne (tgt := 35) hX dX4_all_22 (by decide) ?_ ?_
        · refine s_aload_n hX dX4_all_35 rfl 1 rfl ?_
          refine s_getR (ci := 4) (j := 64) (ref := "WindGasModel") hX (pcG 4) in_X4 (Or.inl q1602) (by decide) (by decide) (by decide) rfl dX4_all_36 (fun _ h9 => h9) (fun v5 => ?_)
          refine s_iload_n hX dX4_all_39 rfl 3 rfl ?_
          refine s_iload_n hX dX4_all_40 rfl 0 rfl ?_
          refine s_iast hX (pcA 0) (pcB 0) dX4_all_41 ?_
          exact s_sub [1, 2, 0] rfl (hj42 ())
        · refine s_aload_n hX dX4_all_25 rfl 1 rfl ?_
          refine s_getR (ci := 4) (j := 63) (ref := "WindGasModel") hX (pcG 4) in_X4 (Or.inl q1601) (by decide) (by decide) (by decide) rfl dX4_all_26 (fun _ h9 => h9) (fun v6 => ?_)
          refine s_iload_n hX dX4_all_29 rfl 2 rfl ?_
          refine s_iload_n hX dX4_all_30 rfl 0 rfl ?_
          refine s_iast hX (pcA 0) (pcB 0) dX4_all_31 ?_
          refine s_goto (tgt := 42) hX dX4_all_32 (by decide) ?_
          exact s_sub [1, 2, 0] rfl (hj42 ())
    · refine s_iconst (v := -1) hX dX4_all_18 (by decide) ?_
      exact s_iret hX dX4_all_19
set_option maxHeartbeats 4000000 in
theorem ct_X4_all {frG loG : Nat} (l : Launch) (n : Nat) (G : Nat → Nat → Act Int32) (hfr : True) (hG : (∀ p0, Ct l Pic yX4_any (ws_ yX4_any cX4_any 4 (some FieldType.int)) frG loG cvI [rv p0] (G 0 p0)) ∧ (∀ p0, Ct l Pic yX4_all (ws_ yX4_all cX4_all 4 (some FieldType.int)) frG loG cvI [rv p0] (G 1 p0)) ∧ (∀ p0, Ct l Pic yX4_single (ws_ yX4_single cX4_single 3 (some FieldType.int)) frG loG cvI [rv p0] (G 2 p0))) (p0 : Nat) : Ct l Pic yX4_all (ws_ yX4_all cX4_all 4 (some FieldType.int)) (frG + 4) (loG + 87) cvI [rv p0] (f_X4_all n G p0) := by
  refine Ct.of (own := RX4) (L := [(0, rv p0)]) (plainFor_of_name (by decide)) rfl (by first | decide | simp [lg_sl, rv_cat, cat_i, cat_l]) (by first | rfl | simp [lv_args, rv_cat, cat_i, cat_l]) pcZ (fun X hXl hX hnh hin => ?_)
  subst hXl
  unfold f_X4_all
  refine s_aload_n hX dX4_all_0 rfl 0 rfl ?_
  refine s_iconst (v := 1) hX dX4_all_1 rfl ?_
  refine s_callV_I (ci := 4) (n := 1) (As := [.int 1]) (st := []) hX (pcK 5) (by decide) (ct_X4_node X.l p0 (1 : Int32)) q2017 q2019 qs74 q91 q2020 yvX4_node ⟨by omega, by omega⟩ rfl (by first | decide | simp [rv_cat, cat_i, cat_l]) dX4_all_2 (fun v1 => ?_)
  refine s_istore_n (i := 1) (L2 := [(1, .int v1), (0, rv p0)]) hX dX4_all_5 rfl (by decide) (by first | (simp [rv_cat, cat_i, cat_l]; done) | (simp [rv_cat, cat_i, cat_l]; decide)) ?_
  refine s_iconst (v := -1) hX dX4_all_6 (by decide) ?_
  refine s_istore_n (i := 2) (L2 := [(2, .int (-1)), (1, .int v1), (0, rv p0)]) hX dX4_all_7 rfl (by decide) rfl ?_
  exact s_sub [2, 1, 0] rfl (s_lp_X4_all_8 hX hnh G trivial hG n p0 v1 n (-1))
theorem dX4_single_0 : decode cX4_single 0 = .ok (.aload_n 0, 1) := by decide +kernel
theorem dX4_single_1 : decode cX4_single 1 = .ok (.invokevirtual 357, 3) := by decide +kernel
theorem dX4_single_4 : decode cX4_single 4 = .ok (.ldc2_w 400, 3) := by decide +kernel
theorem dX4_single_7 : decode cX4_single 7 = .ok (.lcmp, 1) := by decide +kernel
theorem dX4_single_8 : decode cX4_single 8 = .ok (.ifCond .ne 71, 3) := by decide +kernel
theorem dX4_single_11 : decode cX4_single 11 = .ok (.aload_n 0, 1) := by decide +kernel
theorem dX4_single_12 : decode cX4_single 12 = .ok (.getfield 402, 3) := by decide +kernel
theorem dX4_single_15 : decode cX4_single 15 = .ok (.bipush 10, 2) := by decide +kernel
theorem dX4_single_17 : decode cX4_single 17 = .ok (.if_icmp .ne 5, 3) := by decide +kernel
theorem dX4_single_20 : decode cX4_single 20 = .ok (.iconst (-1), 1) := by decide +kernel
theorem dX4_single_21 : decode cX4_single 21 = .ok (.ireturn, 1) := by decide +kernel
theorem dX4_single_22 : decode cX4_single 22 = .ok (.aload_n 0, 1) := by decide +kernel
theorem dX4_single_23 : decode cX4_single 23 = .ok (.dup, 1) := by decide +kernel
theorem dX4_single_24 : decode cX4_single 24 = .ok (.getfield 402, 3) := by decide +kernel
theorem dX4_single_27 : decode cX4_single 27 = .ok (.iconst 1, 1) := by decide +kernel
theorem dX4_single_28 : decode cX4_single 28 = .ok (.iadd, 1) := by decide +kernel
theorem dX4_single_29 : decode cX4_single 29 = .ok (.putfield 402, 3) := by decide +kernel
theorem dX4_single_32 : decode cX4_single 32 = .ok (.aload_n 0, 1) := by decide +kernel
theorem dX4_single_33 : decode cX4_single 33 = .ok (.aload_n 0, 1) := by decide +kernel
theorem dX4_single_34 : decode cX4_single 34 = .ok (.getfield 354, 3) := by decide +kernel
theorem dX4_single_37 : decode cX4_single 37 = .ok (.putfield 345, 3) := by decide +kernel
theorem dX4_single_40 : decode cX4_single 40 = .ok (.aload_n 0, 1) := by decide +kernel
theorem dX4_single_41 : decode cX4_single 41 = .ok (.iconst 2, 1) := by decide +kernel
theorem dX4_single_42 : decode cX4_single 42 = .ok (.invokevirtual 367, 3) := by decide +kernel
theorem dX4_single_45 : decode cX4_single 45 = .ok (.istore_n 1, 1) := by decide +kernel
theorem dX4_single_46 : decode cX4_single 46 = .ok (.aload_n 0, 1) := by decide +kernel
theorem dX4_single_47 : decode cX4_single 47 = .ok (.invokevirtual 379, 3) := by decide +kernel
theorem dX4_single_50 : decode cX4_single 50 = .ok (.istore_n 2, 1) := by decide +kernel
theorem dX4_single_51 : decode cX4_single 51 = .ok (.aload_n 0, 1) := by decide +kernel
theorem dX4_single_52 : decode cX4_single 52 = .ok (.getfield 158, 3) := by decide +kernel
theorem dX4_single_55 : decode cX4_single 55 = .ok (.iload_n 1, 1) := by decide +kernel
theorem dX4_single_56 : decode cX4_single 56 = .ok (.iload_n 2, 1) := by decide +kernel
theorem dX4_single_57 : decode cX4_single 57 = .ok (.iastore, 1) := by decide +kernel
theorem dX4_single_58 : decode cX4_single 58 = .ok (.aload_n 0, 1) := by decide +kernel
theorem dX4_single_59 : decode cX4_single 59 = .ok (.dup, 1) := by decide +kernel
theorem dX4_single_60 : decode cX4_single 60 = .ok (.getfield 402, 3) := by decide +kernel
theorem dX4_single_63 : decode cX4_single 63 = .ok (.iconst 1, 1) := by decide +kernel
theorem dX4_single_64 : decode cX4_single 64 = .ok (.isub, 1) := by decide +kernel
theorem dX4_single_65 : decode cX4_single 65 = .ok (.putfield 402, 3) := by decide +kernel
theorem dX4_single_68 : decode cX4_single 68 = .ok (.iload_n 2, 1) := by decide +kernel
theorem dX4_single_69 : decode cX4_single 69 = .ok (.iconst (-1), 1) := by decide +kernel
theorem dX4_single_70 : decode cX4_single 70 = .ok (.if_icmp .ne 7, 3) := by decide +kernel
theorem dX4_single_73 : decode cX4_single 73 = .ok (.iconst (-1), 1) := by decide +kernel
theorem dX4_single_74 : decode cX4_single 74 = .ok (.goto 4, 3) := by decide +kernel
theorem dX4_single_77 : decode cX4_single 77 = .ok (.iload_n 1, 1) := by decide +kernel
theorem dX4_single_78 : decode cX4_single 78 = .ok (.ireturn, 1) := by decide +kernel
theorem dX4_single_79 : decode cX4_single 79 = .ok (.aload_n 0, 1) := by decide +kernel
theorem dX4_single_80 : decode cX4_single 80 = .ok (.getfield 345, 3) := by decide +kernel
theorem dX4_single_83 : decode cX4_single 83 = .ok (.aload_n 0, 1) := by decide +kernel
theorem dX4_single_84 : decode cX4_single 84 = .ok (.getfield 348, 3) := by decide +kernel
theorem dX4_single_87 : decode cX4_single 87 = .ok (.if_icmp .ge 83, 3) := by decide +kernel
theorem dX4_single_90 : decode cX4_single 90 = .ok (.aload_n 0, 1) := by decide +kernel
theorem dX4_single_91 : decode cX4_single 91 = .ok (.getfield 177, 3) := by decide +kernel
theorem dX4_single_94 : decode cX4_single 94 = .ok (.aload_n 0, 1) := by decide +kernel
theorem dX4_single_95 : decode cX4_single 95 = .ok (.getfield 345, 3) := by decide +kernel
theorem dX4_single_98 : decode cX4_single 98 = .ok (.baload, 1) := by decide +kernel
theorem dX4_single_99 : decode cX4_single 99 = .ok (.bipush 40, 2) := by decide +kernel
theorem dX4_single_101 : decode cX4_single 101 = .ok (.if_icmp .ne 69, 3) := by decide +kernel
theorem dX4_single_104 : decode cX4_single 104 = .ok (.aload_n 0, 1) := by decide +kernel
theorem dX4_single_105 : decode cX4_single 105 = .ok (.getfield 402, 3) := by decide +kernel
theorem dX4_single_108 : decode cX4_single 108 = .ok (.bipush 10, 2) := by decide +kernel
theorem dX4_single_110 : decode cX4_single 110 = .ok (.if_icmp .ne 5, 3) := by decide +kernel
theorem dX4_single_113 : decode cX4_single 113 = .ok (.iconst (-1), 1) := by decide +kernel
theorem dX4_single_114 : decode cX4_single 114 = .ok (.ireturn, 1) := by decide +kernel
theorem dX4_single_115 : decode cX4_single 115 = .ok (.aload_n 0, 1) := by decide +kernel
theorem dX4_single_116 : decode cX4_single 116 = .ok (.dup, 1) := by decide +kernel
theorem dX4_single_117 : decode cX4_single 117 = .ok (.getfield 402, 3) := by decide +kernel
theorem dX4_single_120 : decode cX4_single 120 = .ok (.iconst 1, 1) := by decide +kernel
theorem dX4_single_121 : decode cX4_single 121 = .ok (.iadd, 1) := by decide +kernel
theorem dX4_single_122 : decode cX4_single 122 = .ok (.putfield 402, 3) := by decide +kernel
theorem dX4_single_125 : decode cX4_single 125 = .ok (.aload_n 0, 1) := by decide +kernel
theorem dX4_single_126 : decode cX4_single 126 = .ok (.dup, 1) := by decide +kernel
theorem dX4_single_127 : decode cX4_single 127 = .ok (.getfield 345, 3) := by decide +kernel
theorem dX4_single_130 : decode cX4_single 130 = .ok (.iconst 1, 1) := by decide +kernel
theorem dX4_single_131 : decode cX4_single 131 = .ok (.iadd, 1) := by decide +kernel
theorem dX4_single_132 : decode cX4_single 132 = .ok (.putfield 345, 3) := by decide +kernel
theorem dX4_single_135 : decode cX4_single 135 = .ok (.aload_n 0, 1) := by decide +kernel
theorem dX4_single_136 : decode cX4_single 136 = .ok (.invokevirtual 405, 3) := by decide +kernel
theorem dX4_single_139 : decode cX4_single 139 = .ok (.istore_n 1, 1) := by decide +kernel
theorem dX4_single_140 : decode cX4_single 140 = .ok (.aload_n 0, 1) := by decide +kernel
theorem dX4_single_141 : decode cX4_single 141 = .ok (.dup, 1) := by decide +kernel
theorem dX4_single_142 : decode cX4_single 142 = .ok (.getfield 402, 3) := by decide +kernel
theorem dX4_single_145 : decode cX4_single 145 = .ok (.iconst 1, 1) := by decide +kernel
theorem dX4_single_146 : decode cX4_single 146 = .ok (.isub, 1) := by decide +kernel
theorem dX4_single_147 : decode cX4_single 147 = .ok (.putfield 402, 3) := by decide +kernel
theorem dX4_single_150 : decode cX4_single 150 = .ok (.iload_n 1, 1) := by decide +kernel
theorem dX4_single_151 : decode cX4_single 151 = .ok (.iconst (-1), 1) := by decide +kernel
theorem dX4_single_152 : decode cX4_single 152 = .ok (.if_icmp .eq 12, 3) := by decide +kernel
theorem dX4_single_155 : decode cX4_single 155 = .ok (.aload_n 0, 1) := by decide +kernel
theorem dX4_single_156 : decode cX4_single 156 = .ok (.bipush 41, 2) := by decide +kernel
theorem dX4_single_158 : decode cX4_single 158 = .ok (.invokevirtual 408, 3) := by decide +kernel
theorem dX4_single_161 : decode cX4_single 161 = .ok (.ifCond .ne 7, 3) := by decide +kernel
theorem dX4_single_164 : decode cX4_single 164 = .ok (.iconst (-1), 1) := by decide +kernel
theorem dX4_single_165 : decode cX4_single 165 = .ok (.goto 4, 3) := by decide +kernel
theorem dX4_single_168 : decode cX4_single 168 = .ok (.iload_n 1, 1) := by decide +kernel
theorem dX4_single_169 : decode cX4_single 169 = .ok (.ireturn, 1) := by decide +kernel
theorem dX4_single_170 : decode cX4_single 170 = .ok (.aload_n 0, 1) := by decide +kernel
theorem dX4_single_171 : decode cX4_single 171 = .ok (.iconst 3, 1) := by decide +kernel
theorem dX4_single_172 : decode cX4_single 172 = .ok (.invokevirtual 367, 3) := by decide +kernel
theorem dX4_single_175 : decode cX4_single 175 = .ok (.istore_n 1, 1) := by decide +kernel
theorem dX4_single_176 : decode cX4_single 176 = .ok (.aload_n 0, 1) := by decide +kernel
theorem dX4_single_177 : decode cX4_single 177 = .ok (.getfield 164, 3) := by decide +kernel
theorem dX4_single_180 : decode cX4_single 180 = .ok (.iload_n 1, 1) := by decide +kernel
theorem dX4_single_181 : decode cX4_single 181 = .ok (.aload_n 0, 1) := by decide +kernel
theorem dX4_single_182 : decode cX4_single 182 = .ok (.invokevirtual 357, 3) := by decide +kernel
theorem dX4_single_185 : decode cX4_single 185 = .ok (.invokestatic 411, 3) := by decide +kernel
theorem dX4_single_188 : decode cX4_single 188 = .ok (.iastore, 1) := by decide +kernel
theorem dX4_single_189 : decode cX4_single 189 = .ok (.aload_n 0, 1) := by decide +kernel
theorem dX4_single_190 : decode cX4_single 190 = .ok (.getfield 164, 3) := by decide +kernel
theorem dX4_single_193 : decode cX4_single 193 = .ok (.iload_n 1, 1) := by decide +kernel
theorem dX4_single_194 : decode cX4_single 194 = .ok (.iaload, 1) := by decide +kernel
theorem dX4_single_195 : decode cX4_single 195 = .ok (.iconst (-1), 1) := by decide +kernel
theorem dX4_single_196 : decode cX4_single 196 = .ok (.if_icmp .ne 5, 3) := by decide +kernel
theorem dX4_single_199 : decode cX4_single 199 = .ok (.iconst (-1), 1) := by decide +kernel
theorem dX4_single_200 : decode cX4_single 200 = .ok (.ireturn, 1) := by decide +kernel
theorem dX4_single_201 : decode cX4_single 201 = .ok (.aload_n 0, 1) := by decide +kernel
theorem dX4_single_202 : decode cX4_single 202 = .ok (.aload_n 0, 1) := by decide +kernel
theorem dX4_single_203 : decode cX4_single 203 = .ok (.getfield 354, 3) := by decide +kernel
theorem dX4_single_206 : decode cX4_single 206 = .ok (.putfield 345, 3) := by decide +kernel
theorem dX4_single_209 : decode cX4_single 209 = .ok (.aload_n 0, 1) := by decide +kernel
theorem dX4_single_210 : decode cX4_single 210 = .ok (.getfield 167, 3) := by decide +kernel
theorem dX4_single_213 : decode cX4_single 213 = .ok (.iload_n 1, 1) := by decide +kernel
theorem dX4_single_214 : decode cX4_single 214 = .ok (.aload_n 0, 1) := by decide +kernel
theorem dX4_single_215 : decode cX4_single 215 = .ok (.bipush 60, 2) := by decide +kernel
theorem dX4_single_217 : decode cX4_single 217 = .ok (.invokevirtual 408, 3) := by decide +kernel
theorem dX4_single_220 : decode cX4_single 220 = .ok (.ifCond .eq 8, 3) := by decide +kernel
theorem dX4_single_223 : decode cX4_single 223 = .ok (.bipush 60, 2) := by decide +kernel
theorem dX4_single_225 : decode cX4_single 225 = .ok (.goto 32, 3) := by decide +kernel
theorem dX4_single_228 : decode cX4_single 228 = .ok (.aload_n 0, 1) := by decide +kernel
theorem dX4_single_229 : decode cX4_single 229 = .ok (.bipush 62, 2) := by decide +kernel
theorem dX4_single_231 : decode cX4_single 231 = .ok (.invokevirtual 408, 3) := by decide +kernel
theorem dX4_single_234 : decode cX4_single 234 = .ok (.ifCond .eq 8, 3) := by decide +kernel
theorem dX4_single_237 : decode cX4_single 237 = .ok (.bipush 62, 2) := by decide +kernel
theorem dX4_single_239 : decode cX4_single 239 = .ok (.goto 18, 3) := by decide +kernel
theorem dX4_single_242 : decode cX4_single 242 = .ok (.aload_n 0, 1) := by decide +kernel
theorem dX4_single_243 : decode cX4_single 243 = .ok (.bipush 61, 2) := by decide +kernel
theorem dX4_single_245 : decode cX4_single 245 = .ok (.invokevirtual 408, 3) := by decide +kernel
theorem dX4_single_248 : decode cX4_single 248 = .ok (.ifCond .eq 8, 3) := by decide +kernel
theorem dX4_single_251 : decode cX4_single 251 = .ok (.bipush 61, 2) := by decide +kernel
theorem dX4_single_253 : decode cX4_single 253 = .ok (.goto 4, 3) := by decide +kernel
theorem dX4_single_256 : decode cX4_single 256 = .ok (.iconst (-1), 1) := by decide +kernel
theorem dX4_single_257 : decode cX4_single 257 = .ok (.iastore, 1) := by decide +kernel
theorem dX4_single_258 : decode cX4_single 258 = .ok (.aload_n 0, 1) := by decide +kernel
theorem dX4_single_259 : decode cX4_single 259 = .ok (.getfield 167, 3) := by decide +kernel
theorem dX4_single_262 : decode cX4_single 262 = .ok (.iload_n 1, 1) := by decide +kernel
theorem dX4_single_263 : decode cX4_single 263 = .ok (.iaload, 1) := by decide +kernel
theorem dX4_single_264 : decode cX4_single 264 = .ok (.iconst (-1), 1) := by decide +kernel
theorem dX4_single_265 : decode cX4_single 265 = .ok (.if_icmp .ne 5, 3) := by decide +kernel
theorem dX4_single_268 : decode cX4_single 268 = .ok (.iconst (-1), 1) := by decide +kernel
theorem dX4_single_269 : decode cX4_single 269 = .ok (.ireturn, 1) := by decide +kernel
theorem dX4_single_270 : decode cX4_single 270 = .ok (.aload_n 0, 1) := by decide +kernel
theorem dX4_single_271 : decode cX4_single 271 = .ok (.bipush 45, 2) := by decide +kernel
theorem dX4_single_273 : decode cX4_single 273 = .ok (.invokevirtual 408, 3) := by decide +kernel
theorem dX4_single_276 : decode cX4_single 276 = .ok (.istore_n 2, 1) := by decide +kernel
theorem dX4_single_277 : decode cX4_single 277 = .ok (.aload_n 0, 1) := by decide +kernel
theorem dX4_single_278 : decode cX4_single 278 = .ok (.iconst 0, 1) := by decide +kernel
theorem dX4_single_279 : decode cX4_single 279 = .ok (.ldc_w 415, 3) := by decide +kernel
theorem dX4_single_282 : decode cX4_single 282 = .ok (.invokevirtual 416, 3) := by decide +kernel
theorem dX4_single_285 : decode cX4_single 285 = .ok (.ifCond .ne 5, 3) := by decide +kernel
theorem dX4_single_288 : decode cX4_single 288 = .ok (.iconst (-1), 1) := by decide +kernel
theorem dX4_single_289 : decode cX4_single 289 = .ok (.ireturn, 1) := by decide +kernel
theorem dX4_single_290 : decode cX4_single 290 = .ok (.aload_n 0, 1) := by decide +kernel
theorem dX4_single_291 : decode cX4_single 291 = .ok (.getfield 170, 3) := by decide +kernel
theorem dX4_single_294 : decode cX4_single 294 = .ok (.iload_n 1, 1) := by decide +kernel
theorem dX4_single_295 : decode cX4_single 295 = .ok (.iload_n 2, 1) := by decide +kernel
theorem dX4_single_296 : decode cX4_single 296 = .ok (.ifCond .eq 11, 3) := by decide +kernel
theorem dX4_single_299 : decode cX4_single 299 = .ok (.aload_n 0, 1) := by decide +kernel
theorem dX4_single_300 : decode cX4_single 300 = .ok (.getfield 361, 3) := by decide +kernel
theorem dX4_single_303 : decode cX4_single 303 = .ok (.ineg, 1) := by decide +kernel
theorem dX4_single_304 : decode cX4_single 304 = .ok (.goto 7, 3) := by decide +kernel
theorem dX4_single_307 : decode cX4_single 307 = .ok (.aload_n 0, 1) := by decide +kernel
theorem dX4_single_308 : decode cX4_single 308 = .ok (.getfield 361, 3) := by decide +kernel
theorem dX4_single_311 : decode cX4_single 311 = .ok (.iastore, 1) := by decide +kernel
theorem dX4_single_312 : decode cX4_single 312 = .ok (.iload_n 1, 1) := by decide +kernel
theorem dX4_single_313 : decode cX4_single 313 = .ok (.ireturn, 1) := by decide +kernel
def f_X4_single (n : Nat) (G : Nat → Nat → Act Int32) (p0 : Nat) : Act Int32 :=
  bnd (gd 4 p0 (nt (f_X4_word n p0))) fun v1 =>
  if ¬ (lg_cmp v1 7237492) = 0 then
    bnd (getI 4 53 p0) fun v2 =>
    bnd (getI 4 52 p0) fun v3 =>
    jn (fun (_ : Unit) =>
      bnd (gd 4 p0 (nt (f_X4_node p0 (3 : Int32)))) fun v4 =>
      bnd (getR 4 65 p0) fun v5 =>
      bnd (gd 4 p0 (nt (f_X4_word n p0))) fun v6 =>
      bnd (nt (f_X4_asked v6)) fun v7 =>
      bnd (stI 0 v5 v4 v7) fun _ =>
      bnd (getR 4 65 p0) fun v8 =>
      bnd (ldI 0 v8 v4) fun v9 =>
      if ¬ v9 = (-1) then
        bnd (getI 4 71 p0) fun v10 =>
        bnd (putI 4 53 p0 v10) fun _ =>
        bnd (getR 4 66 p0) fun v11 =>
        bnd (gd 4 p0 (nt (f_X4_takesSign n p0 (60 : Int32)))) fun v12 =>
        jn (fun (v13 : Int32) =>
          bnd (stI 0 v11 v4 v13) fun _ =>
          bnd (getR 4 66 p0) fun v14 =>
          bnd (ldI 0 v14 v4) fun v15 =>
          if ¬ v15 = (-1) then
            bnd (gd 4 p0 (nt (f_X4_takesSign n p0 (45 : Int32)))) fun v16 =>
            bnd (gd 4 p0 (nt (f_X4_takesNumber n p0 (0 : Int32) (999999 : Int32)))) fun v17 =>
            if ¬ v17 = 0 then
              bnd (getR 4 67 p0) fun v18 =>
              jn (fun (v19 : Int32) =>
                bnd (stI 0 v18 v4 v19) fun _ =>
                pur v4) fun j311 =>
              if v16 = 0 then
                bnd (getI 4 72 p0) fun v20 =>
                j311 v20
              else
                bnd (getI 4 72 p0) fun v21 =>
                j311 (-v21)
            else
              pur (-1)
          else
            pur (-1)) fun j257 =>
        if v12 = 0 then
          bnd (gd 4 p0 (nt (f_X4_takesSign n p0 (62 : Int32)))) fun v22 =>
          if v22 = 0 then
            bnd (gd 4 p0 (nt (f_X4_takesSign n p0 (61 : Int32)))) fun v23 =>
            if v23 = 0 then
              j257 (-1)
            else
              j257 61
          else
            j257 62
        else
          j257 60
      else
        pur (-1)) fun j170 =>
    if v3 ≤ v2 then
      j170 ()
    else
      bnd (getR 4 69 p0) fun v24 =>
      bnd (getI 4 53 p0) fun v25 =>
      bnd (ldI 2 v24 v25) fun v26 =>
      if ¬ v26 = 40 then
        j170 ()
      else
        bnd (getI 4 54 p0) fun v27 =>
        if ¬ v27 = 10 then
          bnd (getI 4 54 p0) fun v28 =>
          bnd (putI 4 54 p0 (v28 + 1)) fun _ =>
          bnd (getI 4 53 p0) fun v29 =>
          bnd (putI 4 53 p0 (v29 + 1)) fun _ =>
          bnd (gd 4 p0 (nt (G 0 p0))) fun v30 =>
          bnd (getI 4 54 p0) fun v31 =>
          bnd (putI 4 54 p0 (v31 - 1)) fun _ =>
          jn (fun (v32 : Int32) =>
            pur v32) fun j169 =>
          jn (fun (_ : Unit) =>
            j169 (-1)) fun j164 =>
          if v30 = (-1) then
            j164 ()
          else
            bnd (gd 4 p0 (nt (f_X4_takesSign n p0 (41 : Int32)))) fun v33 =>
            if ¬ v33 = 0 then
              j169 v30
            else
              j164 ()
        else
          pur (-1)
  else
    bnd (getI 4 54 p0) fun v34 =>
    if ¬ v34 = 10 then
      bnd (getI 4 54 p0) fun v35 =>
      bnd (putI 4 54 p0 (v35 + 1)) fun _ =>
      bnd (getI 4 71 p0) fun v36 =>
      bnd (putI 4 53 p0 v36) fun _ =>
      bnd (gd 4 p0 (nt (f_X4_node p0 (2 : Int32)))) fun v37 =>
      bnd (gd 4 p0 (nt (G 2 p0))) fun v38 =>
      bnd (getR 4 63 p0) fun v39 =>
      bnd (stI 0 v39 v37 v38) fun _ =>
      bnd (getI 4 54 p0) fun v40 =>
      bnd (putI 4 54 p0 (v40 - 1)) fun _ =>
      jn (fun (v41 : Int32) =>
        pur v41) fun j78 =>
      if ¬ v38 = (-1) then
        j78 v37
      else
        j78 (-1)
    else
      pur (-1)
set_option maxHeartbeats 4000000 in
theorem ct_X4_single {frG loG : Nat} (l : Launch) (n : Nat) (G : Nat → Nat → Act Int32) (hfr : True) (hG : (∀ p0, Ct l Pic yX4_any (ws_ yX4_any cX4_any 4 (some FieldType.int)) frG loG cvI [rv p0] (G 0 p0)) ∧ (∀ p0, Ct l Pic yX4_all (ws_ yX4_all cX4_all 4 (some FieldType.int)) frG loG cvI [rv p0] (G 1 p0)) ∧ (∀ p0, Ct l Pic yX4_single (ws_ yX4_single cX4_single 3 (some FieldType.int)) frG loG cvI [rv p0] (G 2 p0))) (p0 : Nat) : Ct l Pic yX4_single (ws_ yX4_single cX4_single 3 (some FieldType.int)) (frG + 4) (loG + 87) cvI [rv p0] (f_X4_single n G p0) := by
  refine Ct.of (own := RX4) (L := [(0, rv p0)]) (plainFor_of_name (by decide)) rfl (by first | decide | simp [lg_sl, rv_cat, cat_i, cat_l]) (by first | rfl | simp [lv_args, rv_cat, cat_i, cat_l]) pcZ (fun X hXl hX hnh hin => ?_)
  subst hXl
  unfold f_X4_single
  refine s_aload_n hX dX4_single_0 rfl 0 rfl ?_
  refine s_callV_L (ci := 4) (n := 0) (As := []) (st := []) hX (pcK 5) (by decide) (ct_X4_word X.l n p0) q1987 q1989 qs69 q91 q1990 yvX4_word ⟨by omega, by omega⟩ rfl (by first | decide | simp [rv_cat, cat_i, cat_l]) dX4_single_1 (fun v1 => ?_)
  refine s_ldc2 (v := 7237492) hX dX4_single_4 q2029 ?_
  refine s_lcmp hX dX4_single_7 ?_
  refine s_if_ne (tgt := 79) hX dX4_single_8 (by decide) ?_ ?_
  · refine s_aload_n hX dX4_single_79 rfl 0 rfl ?_
    refine s_getI (ci := 4) (j := 53) (ref := "WindGasModel") hX (pcG 4) in_X4 (Or.inl q1591) (by decide) (by decide) (by decide) rfl dX4_single_80 (fun _ h9 => h9) (fun v2 => ?_)
    refine s_aload_n hX dX4_single_83 rfl 0 rfl ?_
    refine s_getI (ci := 4) (j := 52) (ref := "WindGasModel") hX (pcG 4) in_X4 (Or.inl q1590) (by decide) (by decide) (by decide) rfl dX4_single_84 (fun _ h9 => h9) (fun v3 => ?_)
    refine s_jn (P := fun j => ∀ (u : Unit), Sim X cvI 170 [(0, rv p0)] [] (j u)) ?_ (fun j170 hj170 => ?_)
    · intro u
      refine s_aload_n hX dX4_single_170 rfl 0 rfl ?_
      refine s_iconst (v := 3) hX dX4_single_171 rfl ?_
      refine s_callV_I (ci := 4) (n := 1) (As := [.int 3]) (st := []) hX (pcK 5) (by decide) (ct_X4_node X.l p0 (3 : Int32)) q2017 q2019 qs74 q91 q2020 yvX4_node ⟨by omega, by omega⟩ rfl (by first | decide | simp [rv_cat, cat_i, cat_l]) dX4_single_172 (fun v4 => ?_)
      refine s_istore_n (i := 1) (L2 := [(1, .int v4), (0, rv p0)]) hX dX4_single_175 rfl (by decide) (by first | (simp [rv_cat, cat_i, cat_l]; done) | (simp [rv_cat, cat_i, cat_l]; decide)) ?_
      refine s_aload_n hX dX4_single_176 rfl 1 rfl ?_
      refine s_getR (ci := 4) (j := 65) (ref := "WindGasModel") hX (pcG 4) in_X4 (Or.inl q1603) (by decide) (by decide) (by decide) rfl dX4_single_177 (fun _ h9 => h9) (fun v5 => ?_)
      refine s_iload_n hX dX4_single_180 rfl 0 rfl ?_
      refine s_aload_n hX dX4_single_181 rfl 1 rfl ?_
      refine s_callV_L (ci := 4) (n := 0) (As := []) (st := [.int v4, rv v5]) hX (pcK 5) (by decide) (ct_X4_word X.l n p0) q1987 q1989 qs69 q91 q1990 yvX4_word ⟨by omega, by omega⟩ rfl (by first | decide | simp [rv_cat, cat_i, cat_l]) dX4_single_182 (fun v6 => ?_)
      refine s_callS_I (n := 1) (As := [.long v6]) (st := [.int v4, rv v5]) hX (ct_X4_asked X.l v6) q2034 q2035 q91 q2036 ycX4_asked ⟨by omega, by omega⟩ rfl (by first | decide | simp [rv_cat, cat_i, cat_l]) dX4_single_185 (fun v7 => ?_)
      refine s_iast hX (pcA 0) (pcB 0) dX4_single_188 ?_
      refine s_aload_n hX dX4_single_189 rfl 1 rfl ?_
      refine s_getR (ci := 4) (j := 65) (ref := "WindGasModel") hX (pcG 4) in_X4 (Or.inl q1603) (by decide) (by decide) (by decide) rfl dX4_single_190 (fun _ h9 => h9) (fun v8 => ?_)
      refine s_iload_n hX dX4_single_193 rfl 0 rfl ?_
      refine s_iald hX (pcA 0) dX4_single_194 (fun v9 => ?_)
      refine s_iconst (v := -1) hX dX4_single_195 (by decide) ?_
      refine s_icmp_ne (tgt := 201) hX dX4_single_196 (by decide) ?_ ?_
      · refine s_aload_n hX dX4_single_201 rfl 1 rfl ?_
        refine s_aload_n hX dX4_single_202 rfl 1 rfl ?_
        refine s_getI (ci := 4) (j := 71) (ref := "WindGasModel") hX (pcG 4) in_X4 (Or.inl q1609) (by decide) (by decide) (by decide) rfl dX4_single_203 (fun _ h9 => h9) (fun v10 => ?_)
        refine s_putI (ci := 4) (j := 53) (ref := "WindGasModel") hX (pcG 4) (pcP 4) in_X4 tyX4_ok nmX4 (Or.inl q1591) (by decide) (by decide) (by decide) rfl rfl rfl dX4_single_206 (fun _ h9 => h9) ?_
        refine s_aload_n hX dX4_single_209 rfl 1 rfl ?_
        refine s_getR (ci := 4) (j := 66) (ref := "WindGasModel") hX (pcG 4) in_X4 (Or.inl q1604) (by decide) (by decide) (by decide) rfl dX4_single_210 (fun _ h9 => h9) (fun v11 => ?_)
        refine s_iload_n hX dX4_single_213 rfl 0 rfl ?_
        refine s_aload_n hX dX4_single_214 rfl 1 rfl ?_
        refine s_bipush (v := 60) hX dX4_single_215 (by decide) ?_
        refine s_callV_I (ci := 4) (n := 1) (As := [.int 60]) (st := [.int v4, rv v11]) hX (pcK 5) (by decide) (ct_X4_takesSign X.l n p0 (60 : Int32)) q2030 q2032 qs77 q91 q2033 yvX4_takesSign ⟨by omega, by omega⟩ rfl (by first | decide | simp [rv_cat, cat_i, cat_l]) dX4_single_217 (fun v12 => ?_)
        refine s_jn (P := fun j => ∀ (v13 : Int32), Sim X cvI 257 [(0, rv p0), (1, .int v4)] [.int v13, .int v4, rv v11] (j v13)) ?_ (fun j257 hj257 => ?_)
        · intro v13
          refine s_iast hX (pcA 0) (pcB 0) dX4_single_257 ?_
          refine s_aload_n hX dX4_single_258 rfl 0 rfl ?_
          refine s_getR (ci := 4) (j := 66) (ref := "WindGasModel") hX (pcG 4) in_X4 (Or.inl q1604) (by decide) (by decide) (by decide) rfl dX4_single_259 (fun _ h9 => h9) (fun v14 => ?_)
          refine s_iload_n hX dX4_single_262 rfl 1 rfl ?_
          refine s_iald hX (pcA 0) dX4_single_263 (fun v15 => ?_)
          refine s_iconst (v := -1) hX dX4_single_264 (by decide) ?_
          refine s_icmp_ne (tgt := 270) hX dX4_single_265 (by decide) ?_ ?_
          · refine s_aload_n hX dX4_single_270 rfl 0 rfl ?_
            refine s_bipush (v := 45) hX dX4_single_271 (by decide) ?_
            refine s_callV_I (ci := 4) (n := 1) (As := [.int 45]) (st := []) hX (pcK 5) (by decide) (ct_X4_takesSign X.l n p0 (45 : Int32)) q2030 q2032 qs77 q91 q2033 yvX4_takesSign ⟨by omega, by omega⟩ rfl (by first | decide | simp [rv_cat, cat_i, cat_l]) dX4_single_273 (fun v16 => ?_)
            refine s_istore_n (i := 2) (L2 := [(2, .int v16), (0, rv p0), (1, .int v4)]) hX dX4_single_276 rfl (by decide) rfl ?_
            refine s_aload_n hX dX4_single_277 rfl 1 rfl ?_
            refine s_iconst (v := 0) hX dX4_single_278 rfl ?_
            refine s_ldcw (v := 999999) hX dX4_single_279 q1991 ?_
            refine s_callV_I (ci := 4) (n := 2) (As := [.int 0, .int 999999]) (st := []) hX (pcK 5) (by decide) (ct_X4_takesNumber X.l n p0 (0 : Int32) (999999 : Int32)) q1996 q1998 qs71 q91 q1999 yvX4_takesNumber ⟨by omega, by omega⟩ rfl (by first | decide | simp [rv_cat, cat_i, cat_l]) dX4_single_282 (fun v17 => ?_)
            refine s_if_ne (tgt := 290) hX dX4_single_285 (by decide) ?_ ?_
            · refine s_aload_n hX dX4_single_290 rfl 1 rfl ?_
              refine s_getR (ci := 4) (j := 67) (ref := "WindGasModel") hX (pcG 4) in_X4 (Or.inl q1605) (by decide) (by decide) (by decide) rfl dX4_single_291 (fun _ h9 => h9) (fun v18 => ?_)
              refine s_iload_n hX dX4_single_294 rfl 2 rfl ?_
              refine s_iload_n hX dX4_single_295 rfl 0 rfl ?_
              refine s_jn (P := fun j => ∀ (v19 : Int32), Sim X cvI 311 [(1, .int v4)] [.int v19, .int v4, rv v18] (j v19)) ?_ (fun j311 hj311 => ?_)
              · intro v19
                refine s_iast hX (pcA 0) (pcB 0) dX4_single_311 ?_
                refine s_iload_n hX dX4_single_312 rfl 0 rfl ?_
                exact s_iret hX dX4_single_313
              · refine s_if_eq (tgt := 307) hX dX4_single_296 (by decide) ?_ ?_
                · refine s_aload_n hX dX4_single_307 rfl 1 rfl ?_
                  refine s_getI (ci := 4) (j := 72) (ref := "WindGasModel") hX (pcG 4) in_X4 (Or.inl q1610) (by decide) (by decide) (by decide) rfl dX4_single_308 (fun _ h9 => h9) (fun v20 => ?_)
                  exact s_sub [2] rfl (hj311 v20)
                · refine s_aload_n hX dX4_single_299 rfl 1 rfl ?_
                  refine s_getI (ci := 4) (j := 72) (ref := "WindGasModel") hX (pcG 4) in_X4 (Or.inl q1610) (by decide) (by decide) (by decide) rfl dX4_single_300 (fun _ h9 => h9) (fun v21 => ?_)
                  refine s_ineg hX dX4_single_303 ?_
                  refine s_goto (tgt := 311) hX dX4_single_304 (by decide) ?_
                  exact s_sub [2] rfl (hj311 (-v21))
            · refine s_iconst (v := -1) hX dX4_single_288 (by decide) ?_
              exact s_iret hX dX4_single_289
          · refine s_iconst (v := -1) hX dX4_single_268 (by decide) ?_
            exact s_iret hX dX4_single_269
        · refine s_if_eq (tgt := 228) hX dX4_single_220 (by decide) ?_ ?_
          · refine s_aload_n hX dX4_single_228 rfl 1 rfl ?_
            refine s_bipush (v := 62) hX dX4_single_229 (by decide) ?_
            refine s_callV_I (ci := 4) (n := 1) (As := [.int 62]) (st := [.int v4, rv v11]) hX (pcK 5) (by decide) (ct_X4_takesSign X.l n p0 (62 : Int32)) q2030 q2032 qs77 q91 q2033 yvX4_takesSign ⟨by omega, by omega⟩ rfl (by first | decide | simp [rv_cat, cat_i, cat_l]) dX4_single_231 (fun v22 => ?_)
            refine s_if_eq (tgt := 242) hX dX4_single_234 (by decide) ?_ ?_
            · refine s_aload_n hX dX4_single_242 rfl 1 rfl ?_
              refine s_bipush (v := 61) hX dX4_single_243 (by decide) ?_
              refine s_callV_I (ci := 4) (n := 1) (As := [.int 61]) (st := [.int v4, rv v11]) hX (pcK 5) (by decide) (ct_X4_takesSign X.l n p0 (61 : Int32)) q2030 q2032 qs77 q91 q2033 yvX4_takesSign ⟨by omega, by omega⟩ rfl (by first | decide | simp [rv_cat, cat_i, cat_l]) dX4_single_245 (fun v23 => ?_)
              refine s_if_eq (tgt := 256) hX dX4_single_248 (by decide) ?_ ?_
              · refine s_iconst (v := -1) hX dX4_single_256 (by decide) ?_
                exact s_sub [1, 0] rfl (hj257 (-1))
              · refine s_bipush (v := 61) hX dX4_single_251 (by decide) ?_
                refine s_goto (tgt := 257) hX dX4_single_253 (by decide) ?_
                exact s_sub [1, 0] rfl (hj257 61)
            · refine s_bipush (v := 62) hX dX4_single_237 (by decide) ?_
              refine s_goto (tgt := 257) hX dX4_single_239 (by decide) ?_
              exact s_sub [1, 0] rfl (hj257 62)
          · refine s_bipush (v := 60) hX dX4_single_223 (by decide) ?_
            refine s_goto (tgt := 257) hX dX4_single_225 (by decide) ?_
            exact s_sub [1, 0] rfl (hj257 60)
      · refine s_iconst (v := -1) hX dX4_single_199 (by decide) ?_
        exact s_iret hX dX4_single_200
    · refine s_icmp_ge (tgt := 170) hX dX4_single_87 (by decide) ?_ ?_
      · exact hj170 ()
      · refine s_aload_n hX dX4_single_90 rfl 0 rfl ?_
        refine s_getR (ci := 4) (j := 69) (ref := "WindGasModel") hX (pcG 4) in_X4 (Or.inl q1607) (by decide) (by decide) (by decide) rfl dX4_single_91 (fun _ h9 => h9) (fun v24 => ?_)
        refine s_aload_n hX dX4_single_94 rfl 0 rfl ?_
        refine s_getI (ci := 4) (j := 53) (ref := "WindGasModel") hX (pcG 4) in_X4 (Or.inl q1591) (by decide) (by decide) (by decide) rfl dX4_single_95 (fun _ h9 => h9) (fun v25 => ?_)
        refine s_bald hX (pcA 2) dX4_single_98 (fun v26 => ?_)
        refine s_bipush (v := 40) hX dX4_single_99 (by decide) ?_
        refine s_icmp_ne (tgt := 170) hX dX4_single_101 (by decide) ?_ ?_
        · exact hj170 ()
        · refine s_aload_n hX dX4_single_104 rfl 0 rfl ?_
          refine s_getI (ci := 4) (j := 54) (ref := "WindGasModel") hX (pcG 4) in_X4 (Or.inl q1592) (by decide) (by decide) (by decide) rfl dX4_single_105 (fun _ h9 => h9) (fun v27 => ?_)
          refine s_bipush (v := 10) hX dX4_single_108 (by decide) ?_
          refine s_icmp_ne (tgt := 115) hX dX4_single_110 (by decide) ?_ ?_
          · refine s_aload_n hX dX4_single_115 rfl 0 rfl ?_
            refine s_dup hX dX4_single_116 (rv_cat _) ?_
            refine s_getI (ci := 4) (j := 54) (ref := "WindGasModel") hX (pcG 4) in_X4 (Or.inl q1592) (by decide) (by decide) (by decide) rfl dX4_single_117 (fun _ h9 => h9) (fun v28 => ?_)
            refine s_iconst (v := 1) hX dX4_single_120 rfl ?_
            refine s_iadd hX dX4_single_121 ?_
            refine s_putI (ci := 4) (j := 54) (ref := "WindGasModel") hX (pcG 4) (pcP 4) in_X4 tyX4_ok nmX4 (Or.inl q1592) (by decide) (by decide) (by decide) rfl rfl rfl dX4_single_122 (fun _ h9 => h9) ?_
            refine s_aload_n hX dX4_single_125 rfl 0 rfl ?_
            refine s_dup hX dX4_single_126 (rv_cat _) ?_
            refine s_getI (ci := 4) (j := 53) (ref := "WindGasModel") hX (pcG 4) in_X4 (Or.inl q1591) (by decide) (by decide) (by decide) rfl dX4_single_127 (fun _ h9 => h9) (fun v29 => ?_)
            refine s_iconst (v := 1) hX dX4_single_130 rfl ?_
            refine s_iadd hX dX4_single_131 ?_
            refine s_putI (ci := 4) (j := 53) (ref := "WindGasModel") hX (pcG 4) (pcP 4) in_X4 tyX4_ok nmX4 (Or.inl q1591) (by decide) (by decide) (by decide) rfl rfl rfl dX4_single_132 (fun _ h9 => h9) ?_
            refine s_aload_n hX dX4_single_135 rfl 0 rfl ?_
            refine s_callV_I (ci := 4) (n := 0) (As := []) (st := []) hX (pcK 5) (by decide) ((hG.1 p0)) q2013 q2015 qs73 q91 q2016 yvX4_any ⟨by omega, by omega⟩ rfl (by first | decide | simp [rv_cat, cat_i, cat_l]) dX4_single_136 (fun v30 => ?_)
            refine s_istore_n (i := 1) (L2 := [(1, .int v30), (0, rv p0)]) hX dX4_single_139 rfl (by decide) (by first | (simp [rv_cat, cat_i, cat_l]; done) | (simp [rv_cat, cat_i, cat_l]; decide)) ?_
            refine s_aload_n hX dX4_single_140 rfl 1 rfl ?_
            refine s_dup hX dX4_single_141 (rv_cat _) ?_
            refine s_getI (ci := 4) (j := 54) (ref := "WindGasModel") hX (pcG 4) in_X4 (Or.inl q1592) (by decide) (by decide) (by decide) rfl dX4_single_142 (fun _ h9 => h9) (fun v31 => ?_)
            refine s_iconst (v := 1) hX dX4_single_145 rfl ?_
            refine s_isub hX dX4_single_146 ?_
            refine s_putI (ci := 4) (j := 54) (ref := "WindGasModel") hX (pcG 4) (pcP 4) in_X4 tyX4_ok nmX4 (Or.inl q1592) (by decide) (by decide) (by decide) rfl rfl rfl dX4_single_147 (fun _ h9 => h9) ?_
            refine s_iload_n hX dX4_single_150 rfl 0 rfl ?_
            refine s_iconst (v := -1) hX dX4_single_151 (by decide) ?_
            refine s_jn (P := fun j => ∀ (v32 : Int32), Sim X cvI 169 [] [.int v32] (j v32)) ?_ (fun j169 hj169 => ?_)
            · intro v32
              exact s_iret hX dX4_single_169
            · refine s_jn (P := fun j => ∀ (u : Unit), Sim X cvI 164 [] [] (j u)) ?_ (fun j164 hj164 => ?_)
              · intro u
                refine s_iconst (v := -1) hX dX4_single_164 (by decide) ?_
                refine s_goto (tgt := 169) hX dX4_single_165 (by decide) ?_
                exact hj169 (-1)
              · refine s_icmp_eq (tgt := 164) hX dX4_single_152 (by decide) ?_ ?_
                · exact s_sub [] rfl (hj164 ())
                · refine s_aload_n hX dX4_single_155 rfl 1 rfl ?_
                  refine s_bipush (v := 41) hX dX4_single_156 (by decide) ?_
                  refine s_callV_I (ci := 4) (n := 1) (As := [.int 41]) (st := []) hX (pcK 5) (by decide) (ct_X4_takesSign X.l n p0 (41 : Int32)) q2030 q2032 qs77 q91 q2033 yvX4_takesSign ⟨by omega, by omega⟩ rfl (by first | decide | simp [rv_cat, cat_i, cat_l]) dX4_single_158 (fun v33 => ?_)
                  refine s_if_ne (tgt := 168) hX dX4_single_161 (by decide) ?_ ?_
                  · refine s_iload_n hX dX4_single_168 rfl 0 rfl ?_
                    exact s_sub [] rfl (hj169 v30)
                  · exact s_sub [] rfl (hj164 ())
          · refine s_iconst (v := -1) hX dX4_single_113 (by decide) ?_
            exact s_iret hX dX4_single_114
  · refine s_aload_n hX dX4_single_11 rfl 0 rfl ?_
    refine s_getI (ci := 4) (j := 54) (ref := "WindGasModel") hX (pcG 4) in_X4 (Or.inl q1592) (by decide) (by decide) (by decide) rfl dX4_single_12 (fun _ h9 => h9) (fun v34 => ?_)
    refine s_bipush (v := 10) hX dX4_single_15 (by decide) ?_
    refine s_icmp_ne (tgt := 22) hX dX4_single_17 (by decide) ?_ ?_
    · refine s_aload_n hX dX4_single_22 rfl 0 rfl ?_
      refine s_dup hX dX4_single_23 (rv_cat _) ?_
      refine s_getI (ci := 4) (j := 54) (ref := "WindGasModel") hX (pcG 4) in_X4 (Or.inl q1592) (by decide) (by decide) (by decide) rfl dX4_single_24 (fun _ h9 => h9) (fun v35 => ?_)
      refine s_iconst (v := 1) hX dX4_single_27 rfl ?_
      refine s_iadd hX dX4_single_28 ?_
      refine s_putI (ci := 4) (j := 54) (ref := "WindGasModel") hX (pcG 4) (pcP 4) in_X4 tyX4_ok nmX4 (Or.inl q1592) (by decide) (by decide) (by decide) rfl rfl rfl dX4_single_29 (fun _ h9 => h9) ?_
      refine s_aload_n hX dX4_single_32 rfl 0 rfl ?_
      refine s_aload_n hX dX4_single_33 rfl 0 rfl ?_
      refine s_getI (ci := 4) (j := 71) (ref := "WindGasModel") hX (pcG 4) in_X4 (Or.inl q1609) (by decide) (by decide) (by decide) rfl dX4_single_34 (fun _ h9 => h9) (fun v36 => ?_)
      refine s_putI (ci := 4) (j := 53) (ref := "WindGasModel") hX (pcG 4) (pcP 4) in_X4 tyX4_ok nmX4 (Or.inl q1591) (by decide) (by decide) (by decide) rfl rfl rfl dX4_single_37 (fun _ h9 => h9) ?_
      refine s_aload_n hX dX4_single_40 rfl 0 rfl ?_
      refine s_iconst (v := 2) hX dX4_single_41 rfl ?_
      refine s_callV_I (ci := 4) (n := 1) (As := [.int 2]) (st := []) hX (pcK 5) (by decide) (ct_X4_node X.l p0 (2 : Int32)) q2017 q2019 qs74 q91 q2020 yvX4_node ⟨by omega, by omega⟩ rfl (by first | decide | simp [rv_cat, cat_i, cat_l]) dX4_single_42 (fun v37 => ?_)
      refine s_istore_n (i := 1) (L2 := [(1, .int v37), (0, rv p0)]) hX dX4_single_45 rfl (by decide) (by first | (simp [rv_cat, cat_i, cat_l]; done) | (simp [rv_cat, cat_i, cat_l]; decide)) ?_
      refine s_aload_n hX dX4_single_46 rfl 1 rfl ?_
      refine s_callV_I (ci := 4) (n := 0) (As := []) (st := []) hX (pcK 5) (by decide) ((hG.2.2 p0)) q2025 q2027 qs76 q91 q2028 yvX4_single ⟨by omega, by omega⟩ rfl (by first | decide | simp [rv_cat, cat_i, cat_l]) dX4_single_47 (fun v38 => ?_)
      refine s_istore_n (i := 2) (L2 := [(2, .int v38), (1, .int v37), (0, rv p0)]) hX dX4_single_50 rfl (by decide) rfl ?_
      refine s_aload_n hX dX4_single_51 rfl 2 rfl ?_
      refine s_getR (ci := 4) (j := 63) (ref := "WindGasModel") hX (pcG 4) in_X4 (Or.inl q1601) (by decide) (by decide) (by decide) rfl dX4_single_52 (fun _ h9 => h9) (fun v39 => ?_)
      refine s_iload_n hX dX4_single_55 rfl 1 rfl ?_
      refine s_iload_n hX dX4_single_56 rfl 0 rfl ?_
      refine s_iast hX (pcA 0) (pcB 0) dX4_single_57 ?_
      refine s_aload_n hX dX4_single_58 rfl 2 rfl ?_
      refine s_dup hX dX4_single_59 (rv_cat _) ?_
      refine s_getI (ci := 4) (j := 54) (ref := "WindGasModel") hX (pcG 4) in_X4 (Or.inl q1592) (by decide) (by decide) (by decide) rfl dX4_single_60 (fun _ h9 => h9) (fun v40 => ?_)
      refine s_iconst (v := 1) hX dX4_single_63 rfl ?_
      refine s_isub hX dX4_single_64 ?_
      refine s_putI (ci := 4) (j := 54) (ref := "WindGasModel") hX (pcG 4) (pcP 4) in_X4 tyX4_ok nmX4 (Or.inl q1592) (by decide) (by decide) (by decide) rfl rfl rfl dX4_single_65 (fun _ h9 => h9) ?_
      refine s_iload_n hX dX4_single_68 rfl 0 rfl ?_
      refine s_iconst (v := -1) hX dX4_single_69 (by decide) ?_
      refine s_jn (P := fun j => ∀ (v41 : Int32), Sim X cvI 78 [] [.int v41] (j v41)) ?_ (fun j78 hj78 => ?_)
      · intro v41
        exact s_iret hX dX4_single_78
      · refine s_icmp_ne (tgt := 77) hX dX4_single_70 (by decide) ?_ ?_
        · refine s_iload_n hX dX4_single_77 rfl 1 rfl ?_
          exact s_sub [] rfl (hj78 v37)
        · refine s_iconst (v := -1) hX dX4_single_73 (by decide) ?_
          refine s_goto (tgt := 78) hX dX4_single_74 (by decide) ?_
          exact s_sub [] rfl (hj78 (-1))
    · refine s_iconst (v := -1) hX dX4_single_20 (by decide) ?_
      exact s_iret hX dX4_single_21
def g_any (n d : Nat) : Nat → Nat → Act Int32 := match d with
  | 0 => fun _ _ => fail
  | d + 1 => fun i x0 => if i = 0 then f_X4_any n (g_any n d) x0 else if i = 1 then f_X4_all n (g_any n d) x0 else f_X4_single n (g_any n d) x0
theorem g_any_ct (l : Launch) (n d : Nat) : (∀ x0, Ct l Pic yX4_any (ws_ yX4_any cX4_any 4 (some FieldType.int)) (4 * d) (87 * d) cvI [rv x0] (g_any n d 0 x0)) ∧ (∀ x0, Ct l Pic yX4_all (ws_ yX4_all cX4_all 4 (some FieldType.int)) (4 * d) (87 * d) cvI [rv x0] (g_any n d 1 x0)) ∧ (∀ x0, Ct l Pic yX4_single (ws_ yX4_single cX4_single 3 (some FieldType.int)) (4 * d) (87 * d) cvI [rv x0] (g_any n d 2 x0)) := by
  induction d with
  | zero => exact ⟨fun x0 => Ct.fail, fun x0 => Ct.fail, fun x0 => Ct.fail⟩
  | succ d ih =>
    exact ⟨fun x0 => ct_X4_any l n (g_any n d) trivial ih x0, fun x0 => ct_X4_all l n (g_any n d) trivial ih x0, fun x0 => ct_X4_single l n (g_any n d) trivial ih x0⟩
theorem dX4_condition_0 : decode cX4_condition 0 = .ok (.aload_n 0, 1) := by decide +kernel
theorem dX4_condition_1 : decode cX4_condition 1 = .ok (.getfield 143, 3) := by decide +kernel
theorem dX4_condition_4 : decode cX4_condition 4 = .ok (.iload_n 1, 1) := by decide +kernel
theorem dX4_condition_5 : decode cX4_condition 5 = .ok (.iload_n 2, 1) := by decide +kernel
theorem dX4_condition_6 : decode cX4_condition 6 = .ok (.iastore, 1) := by decide +kernel
theorem dX4_condition_7 : decode cX4_condition 7 = .ok (.aload_n 0, 1) := by decide +kernel
theorem dX4_condition_8 : decode cX4_condition 8 = .ok (.ldc2_w 419, 3) := by decide +kernel
theorem dX4_condition_11 : decode cX4_condition 11 = .ok (.invokevirtual 375, 3) := by decide +kernel
theorem dX4_condition_14 : decode cX4_condition 14 = .ok (.ifCond .ne 5, 3) := by decide +kernel
theorem dX4_condition_17 : decode cX4_condition 17 = .ok (.iconst 0, 1) := by decide +kernel
theorem dX4_condition_18 : decode cX4_condition 18 = .ok (.ireturn, 1) := by decide +kernel
theorem dX4_condition_19 : decode cX4_condition 19 = .ok (.aload_n 0, 1) := by decide +kernel
theorem dX4_condition_20 : decode cX4_condition 20 = .ok (.iconst 0, 1) := by decide +kernel
theorem dX4_condition_21 : decode cX4_condition 21 = .ok (.putfield 402, 3) := by decide +kernel
theorem dX4_condition_24 : decode cX4_condition 24 = .ok (.aload_n 0, 1) := by decide +kernel
theorem dX4_condition_25 : decode cX4_condition 25 = .ok (.getfield 146, 3) := by decide +kernel
theorem dX4_condition_28 : decode cX4_condition 28 = .ok (.iload_n 1, 1) := by decide +kernel
theorem dX4_condition_29 : decode cX4_condition 29 = .ok (.aload_n 0, 1) := by decide +kernel
theorem dX4_condition_30 : decode cX4_condition 30 = .ok (.invokevirtual 405, 3) := by decide +kernel
theorem dX4_condition_33 : decode cX4_condition 33 = .ok (.iastore, 1) := by decide +kernel
theorem dX4_condition_34 : decode cX4_condition 34 = .ok (.aload_n 0, 1) := by decide +kernel
theorem dX4_condition_35 : decode cX4_condition 35 = .ok (.getfield 146, 3) := by decide +kernel
theorem dX4_condition_38 : decode cX4_condition 38 = .ok (.iload_n 1, 1) := by decide +kernel
theorem dX4_condition_39 : decode cX4_condition 39 = .ok (.iaload, 1) := by decide +kernel
theorem dX4_condition_40 : decode cX4_condition 40 = .ok (.iconst (-1), 1) := by decide +kernel
theorem dX4_condition_41 : decode cX4_condition 41 = .ok (.if_icmp .eq 7, 3) := by decide +kernel
theorem dX4_condition_44 : decode cX4_condition 44 = .ok (.iconst 1, 1) := by decide +kernel
theorem dX4_condition_45 : decode cX4_condition 45 = .ok (.goto 4, 3) := by decide +kernel
theorem dX4_condition_48 : decode cX4_condition 48 = .ok (.iconst 0, 1) := by decide +kernel
theorem dX4_condition_49 : decode cX4_condition 49 = .ok (.ireturn, 1) := by decide +kernel
theorem ycX4_condition : yX4_condition.cls ≠ "java/lang/invoke/MethodHandle" ∧ yX4_condition.cls ≠ "java/lang/invoke/VarHandle" ∧ (parseMethodDescriptor yX4_condition.desc).map (fun d => d.parameters.length) = some 2 := by decide +kernel
theorem yvX4_condition : yX4_condition.cls = RR 4 ∧ yX4_condition.cls ≠ "java/lang/invoke/MethodHandle" ∧ yX4_condition.cls ≠ "java/lang/invoke/VarHandle" ∧ (parseMethodDescriptor yX4_condition.desc).map (fun d => d.parameters.length) = some 2 := ⟨rfl, ycX4_condition⟩
def f_X4_condition (n : Nat) (p0 : Nat) (p1 : Int32) (p2 : Int32) : Act Int32 :=
  bnd (getR 4 58 p0) fun v1 =>
  bnd (stI 0 v1 p1 p2) fun _ =>
  bnd (gd 4 p0 (nt (f_X4_takes n p0 (26982 : Int64)))) fun v2 =>
  if ¬ v2 = 0 then
    bnd (putI 4 54 p0 0) fun _ =>
    bnd (getR 4 59 p0) fun v3 =>
    bnd (gd 4 p0 (nt (g_any n 40 0 p0))) fun v4 =>
    bnd (stI 0 v3 p1 v4) fun _ =>
    bnd (getR 4 59 p0) fun v5 =>
    bnd (ldI 0 v5 p1) fun v6 =>
    jn (fun (v7 : Int32) =>
      purS (ty := .boolean) v7) fun j49 =>
    if v6 = (-1) then
      j49 0
    else
      j49 1
  else
    purS (ty := .boolean) 0
set_option maxHeartbeats 4000000 in
theorem ct_X4_condition (l : Launch) (n : Nat) (p0 : Nat) (p1 : Int32) (p2 : Int32) : Ct l Pic yX4_condition (ws_ yX4_condition cX4_condition 3 (some FieldType.boolean)) 161 3503 cvI [rv p0, .int p1, .int p2] (f_X4_condition n p0 p1 p2) := by
  refine Ct.of (own := RX4) (L := [(0, rv p0), (1, .int p1), (2, .int p2)]) (plainFor_of_name (by decide)) rfl (by first | decide | simp [lg_sl, rv_cat, cat_i, cat_l]) (by first | rfl | simp [lv_args, rv_cat, cat_i, cat_l]) pcZ (fun X hXl hX hnh hin => ?_)
  subst hXl
  unfold f_X4_condition
  refine s_aload_n hX dX4_condition_0 rfl 0 rfl ?_
  refine s_getR (ci := 4) (j := 58) (ref := "WindGasModel") hX (pcG 4) in_X4 (Or.inl q1596) (by decide) (by decide) (by decide) rfl dX4_condition_1 (fun _ h9 => h9) (fun v1 => ?_)
  refine s_iload_n hX dX4_condition_4 rfl 1 rfl ?_
  refine s_iload_n hX dX4_condition_5 rfl 2 rfl ?_
  refine s_iast hX (pcA 0) (pcB 0) dX4_condition_6 ?_
  refine s_aload_n hX dX4_condition_7 rfl 0 rfl ?_
  refine s_ldc2 (v := 26982) hX dX4_condition_8 q2012 ?_
  refine s_callV_I (ci := 4) (n := 1) (As := [.long 26982]) (st := []) hX (pcK 5) (by decide) (ct_X4_takes X.l n p0 (26982 : Int64)) q1983 q1985 qs68 q91 q1986 yvX4_takes (by decide) rfl (by first | decide | simp [rv_cat, cat_i, cat_l]) dX4_condition_11 (fun v2 => ?_)
  refine s_if_ne (tgt := 19) hX dX4_condition_14 (by decide) ?_ ?_
  · refine s_aload_n hX dX4_condition_19 rfl 0 rfl ?_
    refine s_iconst (v := 0) hX dX4_condition_20 rfl ?_
    refine s_putI (ci := 4) (j := 54) (ref := "WindGasModel") hX (pcG 4) (pcP 4) in_X4 tyX4_ok nmX4 (Or.inl q1592) (by decide) (by decide) (by decide) rfl rfl rfl dX4_condition_21 (fun _ h9 => h9) ?_
    refine s_aload_n hX dX4_condition_24 rfl 0 rfl ?_
    refine s_getR (ci := 4) (j := 59) (ref := "WindGasModel") hX (pcG 4) in_X4 (Or.inl q1597) (by decide) (by decide) (by decide) rfl dX4_condition_25 (fun _ h9 => h9) (fun v3 => ?_)
    refine s_iload_n hX dX4_condition_28 rfl 1 rfl ?_
    refine s_aload_n hX dX4_condition_29 rfl 0 rfl ?_
    refine s_callV_I (ci := 4) (n := 0) (As := []) (st := [.int p1, rv v3]) hX (pcK 5) (by decide) ((g_any_ct X.l n 40).1 p0) q2013 q2015 qs73 q91 q2016 yvX4_any (by decide) rfl (by first | decide | simp [rv_cat, cat_i, cat_l]) dX4_condition_30 (fun v4 => ?_)
    refine s_iast hX (pcA 0) (pcB 0) dX4_condition_33 ?_
    refine s_aload_n hX dX4_condition_34 rfl 0 rfl ?_
    refine s_getR (ci := 4) (j := 59) (ref := "WindGasModel") hX (pcG 4) in_X4 (Or.inl q1597) (by decide) (by decide) (by decide) rfl dX4_condition_35 (fun _ h9 => h9) (fun v5 => ?_)
    refine s_iload_n hX dX4_condition_38 rfl 1 rfl ?_
    refine s_iald hX (pcA 0) dX4_condition_39 (fun v6 => ?_)
    refine s_iconst (v := -1) hX dX4_condition_40 (by decide) ?_
    refine s_jn (P := fun j => ∀ (v7 : Int32), Sim X cvI 49 [] [.int v7] (j v7)) ?_ (fun j49 hj49 => ?_)
    · intro v7
      exact s_zret hX dX4_condition_49
    · refine s_icmp_eq (tgt := 48) hX dX4_condition_41 (by decide) ?_ ?_
      · refine s_iconst (v := 0) hX dX4_condition_48 rfl ?_
        exact s_sub [] rfl (hj49 0)
      · refine s_iconst (v := 1) hX dX4_condition_44 rfl ?_
        refine s_goto (tgt := 49) hX dX4_condition_45 (by decide) ?_
        exact s_sub [] rfl (hj49 1)
  · refine s_iconst (v := 0) hX dX4_condition_17 rfl ?_
    exact s_zret hX dX4_condition_18
theorem dX4_kind_0 : decode cX4_kind 0 = .ok (.aload_n 0, 1) := by decide +kernel
theorem dX4_kind_1 : decode cX4_kind 1 = .ok (.ldc2_w 421, 3) := by decide +kernel
theorem dX4_kind_4 : decode cX4_kind 4 = .ok (.invokevirtual 375, 3) := by decide +kernel
theorem dX4_kind_7 : decode cX4_kind 7 = .ok (.ifCond .eq 7, 3) := by decide +kernel
theorem dX4_kind_10 : decode cX4_kind 10 = .ok (.iconst 0, 1) := by decide +kernel
theorem dX4_kind_11 : decode cX4_kind 11 = .ok (.goto 60, 3) := by decide +kernel
theorem dX4_kind_14 : decode cX4_kind 14 = .ok (.aload_n 0, 1) := by decide +kernel
theorem dX4_kind_15 : decode cX4_kind 15 = .ok (.ldc2_w 423, 3) := by decide +kernel
theorem dX4_kind_18 : decode cX4_kind 18 = .ok (.invokevirtual 375, 3) := by decide +kernel
theorem dX4_kind_21 : decode cX4_kind 21 = .ok (.ifCond .eq 7, 3) := by decide +kernel
theorem dX4_kind_24 : decode cX4_kind 24 = .ok (.iconst 1, 1) := by decide +kernel
theorem dX4_kind_25 : decode cX4_kind 25 = .ok (.goto 46, 3) := by decide +kernel
theorem dX4_kind_28 : decode cX4_kind 28 = .ok (.aload_n 0, 1) := by decide +kernel
theorem dX4_kind_29 : decode cX4_kind 29 = .ok (.ldc2_w 425, 3) := by decide +kernel
theorem dX4_kind_32 : decode cX4_kind 32 = .ok (.invokevirtual 375, 3) := by decide +kernel
theorem dX4_kind_35 : decode cX4_kind 35 = .ok (.ifCond .eq 7, 3) := by decide +kernel
theorem dX4_kind_38 : decode cX4_kind 38 = .ok (.iconst 2, 1) := by decide +kernel
theorem dX4_kind_39 : decode cX4_kind 39 = .ok (.goto 32, 3) := by decide +kernel
theorem dX4_kind_42 : decode cX4_kind 42 = .ok (.aload_n 0, 1) := by decide +kernel
theorem dX4_kind_43 : decode cX4_kind 43 = .ok (.ldc2_w 427, 3) := by decide +kernel
theorem dX4_kind_46 : decode cX4_kind 46 = .ok (.invokevirtual 375, 3) := by decide +kernel
theorem dX4_kind_49 : decode cX4_kind 49 = .ok (.ifCond .eq 7, 3) := by decide +kernel
theorem dX4_kind_52 : decode cX4_kind 52 = .ok (.iconst 3, 1) := by decide +kernel
theorem dX4_kind_53 : decode cX4_kind 53 = .ok (.goto 18, 3) := by decide +kernel
theorem dX4_kind_56 : decode cX4_kind 56 = .ok (.aload_n 0, 1) := by decide +kernel
theorem dX4_kind_57 : decode cX4_kind 57 = .ok (.ldc2_w 429, 3) := by decide +kernel
theorem dX4_kind_60 : decode cX4_kind 60 = .ok (.invokevirtual 375, 3) := by decide +kernel
theorem dX4_kind_63 : decode cX4_kind 63 = .ok (.ifCond .eq 7, 3) := by decide +kernel
theorem dX4_kind_66 : decode cX4_kind 66 = .ok (.iconst 4, 1) := by decide +kernel
theorem dX4_kind_67 : decode cX4_kind 67 = .ok (.goto 4, 3) := by decide +kernel
theorem dX4_kind_70 : decode cX4_kind 70 = .ok (.iconst (-1), 1) := by decide +kernel
theorem dX4_kind_71 : decode cX4_kind 71 = .ok (.ireturn, 1) := by decide +kernel
theorem ycX4_kind : yX4_kind.cls ≠ "java/lang/invoke/MethodHandle" ∧ yX4_kind.cls ≠ "java/lang/invoke/VarHandle" ∧ (parseMethodDescriptor yX4_kind.desc).map (fun d => d.parameters.length) = some 0 := by decide +kernel
theorem yvX4_kind : yX4_kind.cls = RR 4 ∧ yX4_kind.cls ≠ "java/lang/invoke/MethodHandle" ∧ yX4_kind.cls ≠ "java/lang/invoke/VarHandle" ∧ (parseMethodDescriptor yX4_kind.desc).map (fun d => d.parameters.length) = some 0 := ⟨rfl, ycX4_kind⟩
def f_X4_kind (n : Nat) (p0 : Nat) : Act Int32 :=
  bnd (gd 4 p0 (nt (f_X4_takes n p0 (495873778539 : Int64)))) fun v1 =>
  jn (fun (v2 : Int32) =>
    pur v2) fun j71 =>
  if v1 = 0 then
    bnd (gd 4 p0 (nt (f_X4_takes n p0 (109270249337454 : Int64)))) fun v3 =>
    if v3 = 0 then
      bnd (gd 4 p0 (nt (f_X4_takes n p0 (448546567013 : Int64)))) fun v4 =>
      if v4 = 0 then
        bnd (gd 4 p0 (nt (f_X4_takes n p0 (1903518073 : Int64)))) fun v5 =>
        if v5 = 0 then
          bnd (gd 4 p0 (nt (f_X4_takes n p0 (431198596980 : Int64)))) fun v6 =>
          if v6 = 0 then
            j71 (-1)
          else
            j71 4
        else
          j71 3
      else
        j71 2
    else
      j71 1
  else
    j71 0
set_option maxHeartbeats 4000000 in
theorem ct_X4_kind (l : Launch) (n : Nat) (p0 : Nat) : Ct l Pic yX4_kind (ws_ yX4_kind cX4_kind 1 (some FieldType.int)) 3 64 cvI [rv p0] (f_X4_kind n p0) := by
  refine Ct.of (own := RX4) (L := [(0, rv p0)]) (plainFor_of_name (by decide)) rfl (by first | decide | simp [lg_sl, rv_cat, cat_i, cat_l]) (by first | rfl | simp [lv_args, rv_cat, cat_i, cat_l]) pcZ (fun X hXl hX hnh hin => ?_)
  subst hXl
  unfold f_X4_kind
  refine s_aload_n hX dX4_kind_0 rfl 0 rfl ?_
  refine s_ldc2 (v := 495873778539) hX dX4_kind_1 q2057 ?_
  refine s_callV_I (ci := 4) (n := 1) (As := [.long 495873778539]) (st := []) hX (pcK 5) (by decide) (ct_X4_takes X.l n p0 (495873778539 : Int64)) q1983 q1985 qs68 q91 q1986 yvX4_takes (by decide) rfl (by first | decide | simp [rv_cat, cat_i, cat_l]) dX4_kind_4 (fun v1 => ?_)
  refine s_jn (P := fun j => ∀ (v2 : Int32), Sim X cvI 71 [] [.int v2] (j v2)) ?_ (fun j71 hj71 => ?_)
  · intro v2
    exact s_iret hX dX4_kind_71
  · refine s_if_eq (tgt := 14) hX dX4_kind_7 (by decide) ?_ ?_
    · refine s_aload_n hX dX4_kind_14 rfl 0 rfl ?_
      refine s_ldc2 (v := 109270249337454) hX dX4_kind_15 q2058 ?_
      refine s_callV_I (ci := 4) (n := 1) (As := [.long 109270249337454]) (st := []) hX (pcK 5) (by decide) (ct_X4_takes X.l n p0 (109270249337454 : Int64)) q1983 q1985 qs68 q91 q1986 yvX4_takes (by decide) rfl (by first | decide | simp [rv_cat, cat_i, cat_l]) dX4_kind_18 (fun v3 => ?_)
      refine s_if_eq (tgt := 28) hX dX4_kind_21 (by decide) ?_ ?_
      · refine s_aload_n hX dX4_kind_28 rfl 0 rfl ?_
        refine s_ldc2 (v := 448546567013) hX dX4_kind_29 q2059 ?_
        refine s_callV_I (ci := 4) (n := 1) (As := [.long 448546567013]) (st := []) hX (pcK 5) (by decide) (ct_X4_takes X.l n p0 (448546567013 : Int64)) q1983 q1985 qs68 q91 q1986 yvX4_takes (by decide) rfl (by first | decide | simp [rv_cat, cat_i, cat_l]) dX4_kind_32 (fun v4 => ?_)
        refine s_if_eq (tgt := 42) hX dX4_kind_35 (by decide) ?_ ?_
        · refine s_aload_n hX dX4_kind_42 rfl 0 rfl ?_
          refine s_ldc2 (v := 1903518073) hX dX4_kind_43 q2060 ?_
          refine s_callV_I (ci := 4) (n := 1) (As := [.long 1903518073]) (st := []) hX (pcK 5) (by decide) (ct_X4_takes X.l n p0 (1903518073 : Int64)) q1983 q1985 qs68 q91 q1986 yvX4_takes (by decide) rfl (by first | decide | simp [rv_cat, cat_i, cat_l]) dX4_kind_46 (fun v5 => ?_)
          refine s_if_eq (tgt := 56) hX dX4_kind_49 (by decide) ?_ ?_
          · refine s_aload_n hX dX4_kind_56 rfl 0 rfl ?_
            refine s_ldc2 (v := 431198596980) hX dX4_kind_57 q2061 ?_
            refine s_callV_I (ci := 4) (n := 1) (As := [.long 431198596980]) (st := []) hX (pcK 5) (by decide) (ct_X4_takes X.l n p0 (431198596980 : Int64)) q1983 q1985 qs68 q91 q1986 yvX4_takes (by decide) rfl (by first | decide | simp [rv_cat, cat_i, cat_l]) dX4_kind_60 (fun v6 => ?_)
            refine s_if_eq (tgt := 70) hX dX4_kind_63 (by decide) ?_ ?_
            · refine s_iconst (v := -1) hX dX4_kind_70 (by decide) ?_
              exact s_sub [] rfl (hj71 (-1))
            · refine s_iconst (v := 4) hX dX4_kind_66 rfl ?_
              refine s_goto (tgt := 71) hX dX4_kind_67 (by decide) ?_
              exact s_sub [] rfl (hj71 4)
          · refine s_iconst (v := 3) hX dX4_kind_52 rfl ?_
            refine s_goto (tgt := 71) hX dX4_kind_53 (by decide) ?_
            exact s_sub [] rfl (hj71 3)
        · refine s_iconst (v := 2) hX dX4_kind_38 rfl ?_
          refine s_goto (tgt := 71) hX dX4_kind_39 (by decide) ?_
          exact s_sub [] rfl (hj71 2)
      · refine s_iconst (v := 1) hX dX4_kind_24 rfl ?_
        refine s_goto (tgt := 71) hX dX4_kind_25 (by decide) ?_
        exact s_sub [] rfl (hj71 1)
    · refine s_iconst (v := 0) hX dX4_kind_10 rfl ?_
      refine s_goto (tgt := 71) hX dX4_kind_11 (by decide) ?_
      exact s_sub [] rfl (hj71 0)
theorem dX4_kinds_0 : decode cX4_kinds 0 = .ok (.aload_n 0, 1) := by decide +kernel
theorem dX4_kinds_1 : decode cX4_kinds 1 = .ok (.getfield 143, 3) := by decide +kernel
theorem dX4_kinds_4 : decode cX4_kinds 4 = .ok (.iload_n 1, 1) := by decide +kernel
theorem dX4_kinds_5 : decode cX4_kinds 5 = .ok (.bipush 8, 2) := by decide +kernel
theorem dX4_kinds_7 : decode cX4_kinds 7 = .ok (.iastore, 1) := by decide +kernel
theorem dX4_kinds_8 : decode cX4_kinds 8 = .ok (.aload_n 0, 1) := by decide +kernel
theorem dX4_kinds_9 : decode cX4_kinds 9 = .ok (.getfield 146, 3) := by decide +kernel
theorem dX4_kinds_12 : decode cX4_kinds 12 = .ok (.iload_n 1, 1) := by decide +kernel
theorem dX4_kinds_13 : decode cX4_kinds 13 = .ok (.aload_n 0, 1) := by decide +kernel
theorem dX4_kinds_14 : decode cX4_kinds 14 = .ok (.invokevirtual 431, 3) := by decide +kernel
theorem dX4_kinds_17 : decode cX4_kinds 17 = .ok (.iastore, 1) := by decide +kernel
theorem dX4_kinds_18 : decode cX4_kinds 18 = .ok (.aload_n 0, 1) := by decide +kernel
theorem dX4_kinds_19 : decode cX4_kinds 19 = .ok (.getfield 146, 3) := by decide +kernel
theorem dX4_kinds_22 : decode cX4_kinds 22 = .ok (.iload_n 1, 1) := by decide +kernel
theorem dX4_kinds_23 : decode cX4_kinds 23 = .ok (.iaload, 1) := by decide +kernel
theorem dX4_kinds_24 : decode cX4_kinds 24 = .ok (.iconst (-1), 1) := by decide +kernel
theorem dX4_kinds_25 : decode cX4_kinds 25 = .ok (.if_icmp .ne 5, 3) := by decide +kernel
theorem dX4_kinds_28 : decode cX4_kinds 28 = .ok (.iconst 0, 1) := by decide +kernel
theorem dX4_kinds_29 : decode cX4_kinds 29 = .ok (.ireturn, 1) := by decide +kernel
theorem dX4_kinds_30 : decode cX4_kinds 30 = .ok (.aload_n 0, 1) := by decide +kernel
theorem dX4_kinds_31 : decode cX4_kinds 31 = .ok (.getfield 149, 3) := by decide +kernel
theorem dX4_kinds_34 : decode cX4_kinds 34 = .ok (.iload_n 1, 1) := by decide +kernel
theorem dX4_kinds_35 : decode cX4_kinds 35 = .ok (.aload_n 0, 1) := by decide +kernel
theorem dX4_kinds_36 : decode cX4_kinds 36 = .ok (.invokevirtual 431, 3) := by decide +kernel
theorem dX4_kinds_39 : decode cX4_kinds 39 = .ok (.iastore, 1) := by decide +kernel
theorem dX4_kinds_40 : decode cX4_kinds 40 = .ok (.aload_n 0, 1) := by decide +kernel
theorem dX4_kinds_41 : decode cX4_kinds 41 = .ok (.getfield 149, 3) := by decide +kernel
theorem dX4_kinds_44 : decode cX4_kinds 44 = .ok (.iload_n 1, 1) := by decide +kernel
theorem dX4_kinds_45 : decode cX4_kinds 45 = .ok (.iaload, 1) := by decide +kernel
theorem dX4_kinds_46 : decode cX4_kinds 46 = .ok (.iconst (-1), 1) := by decide +kernel
theorem dX4_kinds_47 : decode cX4_kinds 47 = .ok (.if_icmp .eq 14, 3) := by decide +kernel
theorem dX4_kinds_50 : decode cX4_kinds 50 = .ok (.aload_n 0, 1) := by decide +kernel
theorem dX4_kinds_51 : decode cX4_kinds 51 = .ok (.iconst 0, 1) := by decide +kernel
theorem dX4_kinds_52 : decode cX4_kinds 52 = .ok (.ldc_w 415, 3) := by decide +kernel
theorem dX4_kinds_55 : decode cX4_kinds 55 = .ok (.invokevirtual 416, 3) := by decide +kernel
theorem dX4_kinds_58 : decode cX4_kinds 58 = .ok (.ifCond .ne 5, 3) := by decide +kernel
theorem dX4_kinds_61 : decode cX4_kinds 61 = .ok (.iconst 0, 1) := by decide +kernel
theorem dX4_kinds_62 : decode cX4_kinds 62 = .ok (.ireturn, 1) := by decide +kernel
theorem dX4_kinds_63 : decode cX4_kinds 63 = .ok (.aload_n 0, 1) := by decide +kernel
theorem dX4_kinds_64 : decode cX4_kinds 64 = .ok (.getfield 152, 3) := by decide +kernel
theorem dX4_kinds_67 : decode cX4_kinds 67 = .ok (.iload_n 1, 1) := by decide +kernel
theorem dX4_kinds_68 : decode cX4_kinds 68 = .ok (.aload_n 0, 1) := by decide +kernel
theorem dX4_kinds_69 : decode cX4_kinds 69 = .ok (.getfield 361, 3) := by decide +kernel
theorem dX4_kinds_72 : decode cX4_kinds 72 = .ok (.iastore, 1) := by decide +kernel
theorem dX4_kinds_73 : decode cX4_kinds 73 = .ok (.iconst 1, 1) := by decide +kernel
theorem dX4_kinds_74 : decode cX4_kinds 74 = .ok (.ireturn, 1) := by decide +kernel
theorem ycX4_kinds : yX4_kinds.cls ≠ "java/lang/invoke/MethodHandle" ∧ yX4_kinds.cls ≠ "java/lang/invoke/VarHandle" ∧ (parseMethodDescriptor yX4_kinds.desc).map (fun d => d.parameters.length) = some 1 := by decide +kernel
theorem yvX4_kinds : yX4_kinds.cls = RR 4 ∧ yX4_kinds.cls ≠ "java/lang/invoke/MethodHandle" ∧ yX4_kinds.cls ≠ "java/lang/invoke/VarHandle" ∧ (parseMethodDescriptor yX4_kinds.desc).map (fun d => d.parameters.length) = some 1 := ⟨rfl, ycX4_kinds⟩
def f_X4_kinds (n : Nat) (p0 : Nat) (p1 : Int32) : Act Int32 :=
  bnd (getR 4 58 p0) fun v1 =>
  bnd (stI 0 v1 p1 8) fun _ =>
  bnd (getR 4 59 p0) fun v2 =>
  bnd (gd 4 p0 (nt (f_X4_kind n p0))) fun v3 =>
  bnd (stI 0 v2 p1 v3) fun _ =>
  bnd (getR 4 59 p0) fun v4 =>
  bnd (ldI 0 v4 p1) fun v5 =>
  if ¬ v5 = (-1) then
    bnd (getR 4 60 p0) fun v6 =>
    bnd (gd 4 p0 (nt (f_X4_kind n p0))) fun v7 =>
    bnd (stI 0 v6 p1 v7) fun _ =>
    bnd (getR 4 60 p0) fun v8 =>
    bnd (ldI 0 v8 p1) fun v9 =>
    jn (fun (_ : Unit) =>
      purS (ty := .boolean) 0) fun j61 =>
    if v9 = (-1) then
      j61 ()
    else
      bnd (gd 4 p0 (nt (f_X4_takesNumber n p0 (0 : Int32) (999999 : Int32)))) fun v10 =>
      if ¬ v10 = 0 then
        bnd (getR 4 61 p0) fun v11 =>
        bnd (getI 4 72 p0) fun v12 =>
        bnd (stI 0 v11 p1 v12) fun _ =>
        purS (ty := .boolean) 1
      else
        j61 ()
  else
    purS (ty := .boolean) 0
set_option maxHeartbeats 4000000 in
theorem ct_X4_kinds (l : Launch) (n : Nat) (p0 : Nat) (p1 : Int32) : Ct l Pic yX4_kinds (ws_ yX4_kinds cX4_kinds 2 (some FieldType.boolean)) 4 84 cvI [rv p0, .int p1] (f_X4_kinds n p0 p1) := by
  refine Ct.of (own := RX4) (L := [(0, rv p0), (1, .int p1)]) (plainFor_of_name (by decide)) rfl (by first | decide | simp [lg_sl, rv_cat, cat_i, cat_l]) (by first | rfl | simp [lv_args, rv_cat, cat_i, cat_l]) pcZ (fun X hXl hX hnh hin => ?_)
  subst hXl
  unfold f_X4_kinds
  refine s_aload_n hX dX4_kinds_0 rfl 0 rfl ?_
  refine s_getR (ci := 4) (j := 58) (ref := "WindGasModel") hX (pcG 4) in_X4 (Or.inl q1596) (by decide) (by decide) (by decide) rfl dX4_kinds_1 (fun _ h9 => h9) (fun v1 => ?_)
  refine s_iload_n hX dX4_kinds_4 rfl 1 rfl ?_
  refine s_bipush (v := 8) hX dX4_kinds_5 (by decide) ?_
  refine s_iast hX (pcA 0) (pcB 0) dX4_kinds_7 ?_
  refine s_aload_n hX dX4_kinds_8 rfl 0 rfl ?_
  refine s_getR (ci := 4) (j := 59) (ref := "WindGasModel") hX (pcG 4) in_X4 (Or.inl q1597) (by decide) (by decide) (by decide) rfl dX4_kinds_9 (fun _ h9 => h9) (fun v2 => ?_)
  refine s_iload_n hX dX4_kinds_12 rfl 1 rfl ?_
  refine s_aload_n hX dX4_kinds_13 rfl 0 rfl ?_
  refine s_callV_I (ci := 4) (n := 0) (As := []) (st := [.int p1, rv v2]) hX (pcK 5) (by decide) (ct_X4_kind X.l n p0) q2053 q2055 qs79 q91 q2056 yvX4_kind (by decide) rfl (by first | decide | simp [rv_cat, cat_i, cat_l]) dX4_kinds_14 (fun v3 => ?_)
  refine s_iast hX (pcA 0) (pcB 0) dX4_kinds_17 ?_
  refine s_aload_n hX dX4_kinds_18 rfl 0 rfl ?_
  refine s_getR (ci := 4) (j := 59) (ref := "WindGasModel") hX (pcG 4) in_X4 (Or.inl q1597) (by decide) (by decide) (by decide) rfl dX4_kinds_19 (fun _ h9 => h9) (fun v4 => ?_)
  refine s_iload_n hX dX4_kinds_22 rfl 1 rfl ?_
  refine s_iald hX (pcA 0) dX4_kinds_23 (fun v5 => ?_)
  refine s_iconst (v := -1) hX dX4_kinds_24 (by decide) ?_
  refine s_icmp_ne (tgt := 30) hX dX4_kinds_25 (by decide) ?_ ?_
  · refine s_aload_n hX dX4_kinds_30 rfl 0 rfl ?_
    refine s_getR (ci := 4) (j := 60) (ref := "WindGasModel") hX (pcG 4) in_X4 (Or.inl q1598) (by decide) (by decide) (by decide) rfl dX4_kinds_31 (fun _ h9 => h9) (fun v6 => ?_)
    refine s_iload_n hX dX4_kinds_34 rfl 1 rfl ?_
    refine s_aload_n hX dX4_kinds_35 rfl 0 rfl ?_
    refine s_callV_I (ci := 4) (n := 0) (As := []) (st := [.int p1, rv v6]) hX (pcK 5) (by decide) (ct_X4_kind X.l n p0) q2053 q2055 qs79 q91 q2056 yvX4_kind (by decide) rfl (by first | decide | simp [rv_cat, cat_i, cat_l]) dX4_kinds_36 (fun v7 => ?_)
    refine s_iast hX (pcA 0) (pcB 0) dX4_kinds_39 ?_
    refine s_aload_n hX dX4_kinds_40 rfl 0 rfl ?_
    refine s_getR (ci := 4) (j := 60) (ref := "WindGasModel") hX (pcG 4) in_X4 (Or.inl q1598) (by decide) (by decide) (by decide) rfl dX4_kinds_41 (fun _ h9 => h9) (fun v8 => ?_)
    refine s_iload_n hX dX4_kinds_44 rfl 1 rfl ?_
    refine s_iald hX (pcA 0) dX4_kinds_45 (fun v9 => ?_)
    refine s_iconst (v := -1) hX dX4_kinds_46 (by decide) ?_
    refine s_jn (P := fun j => ∀ (u : Unit), Sim X cvI 61 [] [] (j u)) ?_ (fun j61 hj61 => ?_)
    · intro u
      refine s_iconst (v := 0) hX dX4_kinds_61 rfl ?_
      exact s_zret hX dX4_kinds_62
    · refine s_icmp_eq (tgt := 61) hX dX4_kinds_47 (by decide) ?_ ?_
      · exact s_sub [] rfl (hj61 ())
      · refine s_aload_n hX dX4_kinds_50 rfl 0 rfl ?_
        refine s_iconst (v := 0) hX dX4_kinds_51 rfl ?_
        refine s_ldcw (v := 999999) hX dX4_kinds_52 q1991 ?_
        refine s_callV_I (ci := 4) (n := 2) (As := [.int 0, .int 999999]) (st := []) hX (pcK 5) (by decide) (ct_X4_takesNumber X.l n p0 (0 : Int32) (999999 : Int32)) q1996 q1998 qs71 q91 q1999 yvX4_takesNumber (by decide) rfl (by first | decide | simp [rv_cat, cat_i, cat_l]) dX4_kinds_55 (fun v10 => ?_)
        refine s_if_ne (tgt := 63) hX dX4_kinds_58 (by decide) ?_ ?_
        · refine s_aload_n hX dX4_kinds_63 rfl 0 rfl ?_
          refine s_getR (ci := 4) (j := 61) (ref := "WindGasModel") hX (pcG 4) in_X4 (Or.inl q1599) (by decide) (by decide) (by decide) rfl dX4_kinds_64 (fun _ h9 => h9) (fun v11 => ?_)
          refine s_iload_n hX dX4_kinds_67 rfl 1 rfl ?_
          refine s_aload_n hX dX4_kinds_68 rfl 0 rfl ?_
          refine s_getI (ci := 4) (j := 72) (ref := "WindGasModel") hX (pcG 4) in_X4 (Or.inl q1610) (by decide) (by decide) (by decide) rfl dX4_kinds_69 (fun _ h9 => h9) (fun v12 => ?_)
          refine s_iast hX (pcA 0) (pcB 0) dX4_kinds_72 ?_
          refine s_iconst (v := 1) hX dX4_kinds_73 rfl ?_
          exact s_zret hX dX4_kinds_74
        · exact s_sub [] rfl (hj61 ())
  · refine s_iconst (v := 0) hX dX4_kinds_28 rfl ?_
    exact s_zret hX dX4_kinds_29
