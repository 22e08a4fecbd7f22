set_option maxRecDepth 100000
theorem dX0_paper_0 : decode cX0_paper 0 = .ok (.aload_n 0, 1) := by decide +kernel
theorem dX0_paper_1 : decode cX0_paper 1 = .ok (.iload_n 1, 1) := by decide +kernel
theorem dX0_paper_2 : decode cX0_paper 2 = .ok (.invokevirtual 571, 3) := by decide +kernel
theorem dX0_paper_5 : decode cX0_paper 5 = .ok (.astore 4, 2) := by decide +kernel
theorem dX0_paper_7 : decode cX0_paper 7 = .ok (.aload 4, 2) := by decide +kernel
theorem dX0_paper_9 : decode cX0_paper 9 = .ok (.ifnull 48, 3) := by decide +kernel
theorem dX0_paper_12 : decode cX0_paper 12 = .ok (.aload 4, 2) := by decide +kernel
theorem dX0_paper_14 : decode cX0_paper 14 = .ok (.getfield 533, 3) := by decide +kernel
theorem dX0_paper_17 : decode cX0_paper 17 = .ok (.iconst 1, 1) := by decide +kernel
theorem dX0_paper_18 : decode cX0_paper 18 = .ok (.if_icmp .ne 39, 3) := by decide +kernel
theorem dX0_paper_21 : decode cX0_paper 21 = .ok (.iload_n 2, 1) := by decide +kernel
theorem dX0_paper_22 : decode cX0_paper 22 = .ok (.i2l, 1) := by decide +kernel
theorem dX0_paper_23 : decode cX0_paper 23 = .ok (.lconst 0, 1) := by decide +kernel
theorem dX0_paper_24 : decode cX0_paper 24 = .ok (.ldc2_w 587, 3) := by decide +kernel
theorem dX0_paper_27 : decode cX0_paper 27 = .ok (.invokestatic 101, 3) := by decide +kernel
theorem dX0_paper_30 : decode cX0_paper 30 = .ok (.ifCond .eq 27, 3) := by decide +kernel
theorem dX0_paper_33 : decode cX0_paper 33 = .ok (.iload_n 3, 1) := by decide +kernel
theorem dX0_paper_34 : decode cX0_paper 34 = .ok (.i2l, 1) := by decide +kernel
theorem dX0_paper_35 : decode cX0_paper 35 = .ok (.lconst 1, 1) := by decide +kernel
theorem dX0_paper_36 : decode cX0_paper 36 = .ok (.ldc2_w 530, 3) := by decide +kernel
theorem dX0_paper_39 : decode cX0_paper 39 = .ok (.invokestatic 101, 3) := by decide +kernel
theorem dX0_paper_42 : decode cX0_paper 42 = .ok (.ifCond .eq 15, 3) := by decide +kernel
theorem dX0_paper_45 : decode cX0_paper 45 = .ok (.aload_n 0, 1) := by decide +kernel
theorem dX0_paper_46 : decode cX0_paper 46 = .ok (.getfield 87, 3) := by decide +kernel
theorem dX0_paper_49 : decode cX0_paper 49 = .ok (.invokevirtual 124, 3) := by decide +kernel
theorem dX0_paper_52 : decode cX0_paper 52 = .ok (.bipush 60, 2) := by decide +kernel
theorem dX0_paper_54 : decode cX0_paper 54 = .ok (.if_icmp .ne 5, 3) := by decide +kernel
theorem dX0_paper_57 : decode cX0_paper 57 = .ok (.iconst (-1), 1) := by decide +kernel
theorem dX0_paper_58 : decode cX0_paper 58 = .ok (.ireturn, 1) := by decide +kernel
theorem dX0_paper_59 : decode cX0_paper 59 = .ok (.aload_n 0, 1) := by decide +kernel
theorem dX0_paper_60 : decode cX0_paper 60 = .ok (.getfield 87, 3) := by decide +kernel
theorem dX0_paper_63 : decode cX0_paper 63 = .ok (.new 589, 3) := by decide +kernel
theorem dX0_paper_66 : decode cX0_paper 66 = .ok (.dup, 1) := by decide +kernel
theorem dX0_paper_67 : decode cX0_paper 67 = .ok (.iload_n 1, 1) := by decide +kernel
theorem dX0_paper_68 : decode cX0_paper 68 = .ok (.iload_n 2, 1) := by decide +kernel
theorem dX0_paper_69 : decode cX0_paper 69 = .ok (.iload_n 3, 1) := by decide +kernel
theorem dX0_paper_70 : decode cX0_paper 70 = .ok (.invokespecial 591, 3) := by decide +kernel
theorem dX0_paper_73 : decode cX0_paper 73 = .ok (.invokevirtual 302, 3) := by decide +kernel
theorem dX0_paper_76 : decode cX0_paper 76 = .ok (.pop, 1) := by decide +kernel
theorem dX0_paper_77 : decode cX0_paper 77 = .ok (.aload_n 0, 1) := by decide +kernel
theorem dX0_paper_78 : decode cX0_paper 78 = .ok (.getfield 87, 3) := by decide +kernel
theorem dX0_paper_81 : decode cX0_paper 81 = .ok (.invokevirtual 124, 3) := by decide +kernel
theorem dX0_paper_84 : decode cX0_paper 84 = .ok (.iconst 1, 1) := by decide +kernel
theorem dX0_paper_85 : decode cX0_paper 85 = .ok (.isub, 1) := by decide +kernel
theorem dX0_paper_86 : decode cX0_paper 86 = .ok (.ireturn, 1) := by decide +kernel
theorem ycX0_paper : yX0_paper.cls ≠ "java/lang/invoke/MethodHandle" ∧ yX0_paper.cls ≠ "java/lang/invoke/VarHandle" ∧ (parseMethodDescriptor yX0_paper.desc).map (fun d => d.parameters.length) = some 3 := by decide +kernel
theorem yvX0_paper : yX0_paper.cls = RR 0 ∧ yX0_paper.cls ≠ "java/lang/invoke/MethodHandle" ∧ yX0_paper.cls ≠ "java/lang/invoke/VarHandle" ∧ (parseMethodDescriptor yX0_paper.desc).map (fun d => d.parameters.length) = some 3 := ⟨rfl, ycX0_paper⟩
noncomputable def f_X0_paper (p0 : Nat) (p1 : Int32) (p2 : Int32) (p3 : Int32) : Act Int32 :=
  bnd (gd 0 p0 (nt (f_X0_tripAt p0 p1))) fun v1 =>
  jn (fun (_ : Unit) =>
    pur (-1)) fun j57 =>
  if v1 = 0 then
    j57 ()
  else
    bnd (getI 7 4 v1) fun v2 =>
    if ¬ v2 = 1 then
      j57 ()
    else
      bnd (nt (f_X0_isIn p2.toInt64 (0 : Int64) (9 : Int64))) fun v3 =>
      if v3 = 0 then
        j57 ()
      else
        bnd (nt (f_X0_isIn p3.toInt64 (1 : Int64) (50000 : Int64))) fun v4 =>
        if v4 = 0 then
          j57 ()
        else
          bnd (getR 0 38 p0) fun v5 =>
          bnd (gd 17 v5 (nt (P_size v5))) fun v6 =>
          if ¬ v6 = 60 then
            bnd (getR 0 38 p0) fun v7 =>
            bnd (newO 10 3) fun v8 =>
            bnd (gd 10 v8 (nt (f_X10_init v8 p1 p2 p3))) fun _ =>
            bnd (gd 17 v7 (nt (P_add v7 v8))) fun v9 =>
            bnd (getR 0 38 p0) fun v10 =>
            bnd (gd 17 v10 (nt (P_size v10))) fun v11 =>
            pur (v11 - 1)
          else
            j57 ()
set_option maxHeartbeats 4000000 in
theorem ct_X0_paper (l : Launch) (p0 : Nat) (p1 : Int32) (p2 : Int32) (p3 : Int32) : Ct l Pic yX0_paper (ws_ yX0_paper cX0_paper 5 (some FieldType.int)) 7 171 cvI [rv p0, .int p1, .int p2, .int p3] (f_X0_paper p0 p1 p2 p3) := by
  refine Ct.of (own := RX0) (L := [(0, rv p0), (1, .int p1), (2, .int p2), (3, .int p3)]) (plainFor_of_name (by decide)) rfl (by first | decide | simp [lg_sl, rv_cat, cat_i, cat_l]) (by first | rfl | simp [lv_args, rv_cat, cat_i, cat_l]) pcZ (fun X hXl hX hnh hin => ?_)
  subst hXl
  unfold f_X0_paper
  refine s_aload_n hX dX0_paper_0 rfl 0 rfl ?_
  refine s_iload_n hX dX0_paper_1 rfl 1 rfl ?_
  refine s_callV_R (ci := 0) (n := 1) (As := [.int p1]) (st := []) hX (pcK 1) (by decide) (ct_X0_tripAt X.l p0 p1) q1354 q1356 qs34 q84 q1357 yvX0_tripAt (by decide) rfl (by first | decide | simp [rv_cat, cat_i, cat_l]) dX0_paper_2 (fun v1 => ?_)
  refine s_astore (i := 4) (L2 := [(4, rv v1), (0, rv p0), (1, .int p1), (2, .int p2), (3, .int p3)]) hX dX0_paper_5 (by decide) rfl ?_
  refine s_aload hX dX0_paper_7 0 rfl ?_
  refine s_jn (P := fun j => ∀ (u : Unit), Sim X cvI 57 [] [] (j u)) ?_ (fun j57 hj57 => ?_)
  · intro u
    refine s_iconst (v := -1) hX dX0_paper_57 (by decide) ?_
    exact s_iret hX dX0_paper_58
  · refine s_ifnull (tgt := 57) hX dX0_paper_9 (by decide) ?_ ?_
    · exact s_sub [] rfl (hj57 ())
    · refine s_aload hX dX0_paper_12 0 rfl ?_
      refine s_getI (ci := 7) (j := 4) (ref := "WindGas$Trip") hX (pcG 7) in_X7 (Or.inr ⟨_, q1318⟩) (by decide) (by decide) (by decide) rfl dX0_paper_14 (fun _ h9 => h9) (fun v2 => ?_)
      refine s_iconst (v := 1) hX dX0_paper_17 rfl ?_
      refine s_icmp_ne (tgt := 57) hX dX0_paper_18 (by decide) ?_ ?_
      · exact s_sub [] rfl (hj57 ())
      · refine s_iload_n hX dX0_paper_21 rfl 3 rfl ?_
        refine s_i2l hX dX0_paper_22 ?_
        refine s_lconst (v := 0) hX dX0_paper_23 (by decide) ?_
        refine s_ldc2 (v := 9) hX dX0_paper_24 q1391 ?_
        refine s_callS_I (n := 3) (As := [.long p2.toInt64, .long 0, .long 9]) (st := []) hX (ct_X0_isIn X.l p2.toInt64 (0 : Int64) (9 : Int64)) q400 q401 q84 q402 ycX0_isIn (by decide) rfl (by first | decide | simp [rv_cat, cat_i, cat_l]) dX0_paper_27 (fun v3 => ?_)
        refine s_if_eq (tgt := 57) hX dX0_paper_30 (by decide) ?_ ?_
        · exact s_sub [] rfl (hj57 ())
        · refine s_iload_n hX dX0_paper_33 rfl 4 rfl ?_
          refine s_i2l hX dX0_paper_34 ?_
          refine s_lconst (v := 1) hX dX0_paper_35 (by decide) ?_
          refine s_ldc2 (v := 50000) hX dX0_paper_36 q1301 ?_
          refine s_callS_I (n := 3) (As := [.long p3.toInt64, .long 1, .long 50000]) (st := []) hX (ct_X0_isIn X.l p3.toInt64 (1 : Int64) (50000 : Int64)) q400 q401 q84 q402 ycX0_isIn (by decide) rfl (by first | decide | simp [rv_cat, cat_i, cat_l]) dX0_paper_39 (fun v4 => ?_)
          refine s_if_eq (tgt := 57) hX dX0_paper_42 (by decide) ?_ ?_
          · exact s_sub [] rfl (hj57 ())
          · refine s_aload_n hX dX0_paper_45 rfl 1 rfl ?_
            refine s_getR (ci := 0) (j := 38) (ref := "WindGas") hX (pcG 0) in_X0 (Or.inl q304) (by decide) (by decide) (by decide) rfl dX0_paper_46 (fun _ h9 => h9) (fun v5 => ?_)
            refine s_callV_I (ci := 17) (n := 0) (As := []) (st := []) hX (pcK 18) (by decide) (pt_size X.l v5) q554 q417 q418 q88 q419 yvJ2_size (by decide) rfl (by first | decide | simp [rv_cat, cat_i, cat_l]) dX0_paper_49 (fun v6 => ?_)
            refine s_bipush (v := 60) hX dX0_paper_52 (by decide) ?_
            refine s_icmp_ne (tgt := 59) hX dX0_paper_54 (by decide) ?_ ?_
            · refine s_aload_n hX dX0_paper_59 rfl 1 rfl ?_
              refine s_getR (ci := 0) (j := 38) (ref := "WindGas") hX (pcG 0) in_X0 (Or.inl q304) (by decide) (by decide) (by decide) rfl dX0_paper_60 (fun _ h9 => h9) (fun v7 => ?_)
              refine s_new (ci := 10) hX (pcN 10) in_X10 tyX10_ok (by decide) (by decide) q1392 q1393 q104 dX0_paper_63 (fun v8 => ?_)
              refine s_dup hX dX0_paper_66 (rv_cat _) ?_
              refine s_iload_n hX dX0_paper_67 rfl 2 rfl ?_
              refine s_iload_n hX dX0_paper_68 rfl 3 rfl ?_
              refine s_iload_n hX dX0_paper_69 rfl 4 rfl ?_
              refine s_callIN_U (ci := 10) (n := 3) (As := [.int p1, .int p2, .int p3]) (st := [rv v8, rv v7]) hX (pcK 11) (by decide) (ct_X10_init X.l v8 p1 p2 p3) q1394 q1395 q104 q1396 rfl ycX10_init (by decide) rfl (by first | decide | simp [rv_cat, cat_i, cat_l]) dX0_paper_70 (fun _ => ?_)
              refine s_callV_I (ci := 17) (n := 1) (As := [rv v8]) (st := []) hX (pcK 18) (by decide) (pt_add X.l v7 v8) q1000 q440 q441 q88 q442 yvJ2_add (by decide) rfl (by first | decide | simp [rv_cat, cat_i, cat_l]) dX0_paper_73 (fun v9 => ?_)
              refine s_pop hX dX0_paper_76 rfl ?_
              refine s_aload_n hX dX0_paper_77 rfl 1 rfl ?_
              refine s_getR (ci := 0) (j := 38) (ref := "WindGas") hX (pcG 0) in_X0 (Or.inl q304) (by decide) (by decide) (by decide) rfl dX0_paper_78 (fun _ h9 => h9) (fun v10 => ?_)
              refine s_callV_I (ci := 17) (n := 0) (As := []) (st := []) hX (pcK 18) (by decide) (pt_size X.l v10) q554 q417 q418 q88 q419 yvJ2_size (by decide) rfl (by first | decide | simp [rv_cat, cat_i, cat_l]) dX0_paper_81 (fun v11 => ?_)
              refine s_iconst (v := 1) hX dX0_paper_84 rfl ?_
              refine s_isub hX dX0_paper_85 ?_
              exact s_iret hX dX0_paper_86
            · exact s_sub [] rfl (hj57 ())
theorem dX10_trip_0 : decode cX10_trip 0 = .ok (.aload_n 0, 1) := by decide +kernel
theorem dX10_trip_1 : decode cX10_trip 1 = .ok (.getfield 7, 3) := by decide +kernel
theorem dX10_trip_4 : decode cX10_trip 4 = .ok (.ireturn, 1) := by decide +kernel
theorem ycX10_trip : yX10_trip.cls ≠ "java/lang/invoke/MethodHandle" ∧ yX10_trip.cls ≠ "java/lang/invoke/VarHandle" ∧ (parseMethodDescriptor yX10_trip.desc).map (fun d => d.parameters.length) = some 0 := by decide +kernel
theorem yvX10_trip : yX10_trip.cls = RR 10 ∧ yX10_trip.cls ≠ "java/lang/invoke/MethodHandle" ∧ yX10_trip.cls ≠ "java/lang/invoke/VarHandle" ∧ (parseMethodDescriptor yX10_trip.desc).map (fun d => d.parameters.length) = some 0 := ⟨rfl, ycX10_trip⟩
noncomputable def f_X10_trip (p0 : Nat) : Act Int32 :=
  bnd (getI 10 0 p0) fun v1 =>
  pur v1
set_option maxHeartbeats 4000000 in
theorem ct_X10_trip (l : Launch) (p0 : Nat) : Ct l Pic yX10_trip (ws_ yX10_trip cX10_trip 1 (some FieldType.int)) 0 0 cvI [rv p0] (f_X10_trip p0) := by
  refine Ct.of (own := RX10) (L := [(0, rv p0)]) (plainFor_of_name (by decide)) rfl (by first | decide | simp [lg_sl, rv_cat, cat_i, cat_l]) (by first | rfl | simp [lv_args, rv_cat, cat_i, cat_l]) pcZ (fun X hXl hX hnh hin => ?_)
  subst hXl
  unfold f_X10_trip
  refine s_aload_n hX dX10_trip_0 rfl 0 rfl ?_
  refine s_getI (ci := 10) (j := 0) (ref := "WindGas$Paper") hX (pcG 10) in_X10 (Or.inl q1398) (by decide) (by decide) (by decide) rfl dX10_trip_1 (fun _ h9 => h9) (fun v1 => ?_)
  exact s_iret hX dX10_trip_4
theorem dX10_buyer_0 : decode cX10_buyer 0 = .ok (.aload_n 0, 1) := by decide +kernel
theorem dX10_buyer_1 : decode cX10_buyer 1 = .ok (.getfield 13, 3) := by decide +kernel
theorem dX10_buyer_4 : decode cX10_buyer 4 = .ok (.ireturn, 1) := by decide +kernel
theorem ycX10_buyer : yX10_buyer.cls ≠ "java/lang/invoke/MethodHandle" ∧ yX10_buyer.cls ≠ "java/lang/invoke/VarHandle" ∧ (parseMethodDescriptor yX10_buyer.desc).map (fun d => d.parameters.length) = some 0 := by decide +kernel
theorem yvX10_buyer : yX10_buyer.cls = RR 10 ∧ yX10_buyer.cls ≠ "java/lang/invoke/MethodHandle" ∧ yX10_buyer.cls ≠ "java/lang/invoke/VarHandle" ∧ (parseMethodDescriptor yX10_buyer.desc).map (fun d => d.parameters.length) = some 0 := ⟨rfl, ycX10_buyer⟩
noncomputable def f_X10_buyer (p0 : Nat) : Act Int32 :=
  bnd (getI 10 1 p0) fun v1 =>
  pur v1
set_option maxHeartbeats 4000000 in
theorem ct_X10_buyer (l : Launch) (p0 : Nat) : Ct l Pic yX10_buyer (ws_ yX10_buyer cX10_buyer 1 (some FieldType.int)) 0 0 cvI [rv p0] (f_X10_buyer p0) := by
  refine Ct.of (own := RX10) (L := [(0, rv p0)]) (plainFor_of_name (by decide)) rfl (by first | decide | simp [lg_sl, rv_cat, cat_i, cat_l]) (by first | rfl | simp [lv_args, rv_cat, cat_i, cat_l]) pcZ (fun X hXl hX hnh hin => ?_)
  subst hXl
  unfold f_X10_buyer
  refine s_aload_n hX dX10_buyer_0 rfl 0 rfl ?_
  refine s_getI (ci := 10) (j := 1) (ref := "WindGas$Paper") hX (pcG 10) in_X10 (Or.inl q1399) (by decide) (by decide) (by decide) rfl dX10_buyer_1 (fun _ h9 => h9) (fun v1 => ?_)
  exact s_iret hX dX10_buyer_4
theorem dX10_grams_0 : decode cX10_grams 0 = .ok (.aload_n 0, 1) := by decide +kernel
theorem dX10_grams_1 : decode cX10_grams 1 = .ok (.getfield 16, 3) := by decide +kernel
theorem dX10_grams_4 : decode cX10_grams 4 = .ok (.ireturn, 1) := by decide +kernel
theorem ycX10_grams : yX10_grams.cls ≠ "java/lang/invoke/MethodHandle" ∧ yX10_grams.cls ≠ "java/lang/invoke/VarHandle" ∧ (parseMethodDescriptor yX10_grams.desc).map (fun d => d.parameters.length) = some 0 := by decide +kernel
theorem yvX10_grams : yX10_grams.cls = RR 10 ∧ yX10_grams.cls ≠ "java/lang/invoke/MethodHandle" ∧ yX10_grams.cls ≠ "java/lang/invoke/VarHandle" ∧ (parseMethodDescriptor yX10_grams.desc).map (fun d => d.parameters.length) = some 0 := ⟨rfl, ycX10_grams⟩
noncomputable def f_X10_grams (p0 : Nat) : Act Int32 :=
  bnd (getI 10 2 p0) fun v1 =>
  pur v1
set_option maxHeartbeats 4000000 in
theorem ct_X10_grams (l : Launch) (p0 : Nat) : Ct l Pic yX10_grams (ws_ yX10_grams cX10_grams 1 (some FieldType.int)) 0 0 cvI [rv p0] (f_X10_grams p0) := by
  refine Ct.of (own := RX10) (L := [(0, rv p0)]) (plainFor_of_name (by decide)) rfl (by first | decide | simp [lg_sl, rv_cat, cat_i, cat_l]) (by first | rfl | simp [lv_args, rv_cat, cat_i, cat_l]) pcZ (fun X hXl hX hnh hin => ?_)
  subst hXl
  unfold f_X10_grams
  refine s_aload_n hX dX10_grams_0 rfl 0 rfl ?_
  refine s_getI (ci := 10) (j := 2) (ref := "WindGas$Paper") hX (pcG 10) in_X10 (Or.inl q1400) (by decide) (by decide) (by decide) rfl dX10_grams_1 (fun _ h9 => h9) (fun v1 => ?_)
  exact s_iret hX dX10_grams_4
theorem dX0_isValid_0 : decode cX0_isValid 0 = .ok (.aload_n 0, 1) := by decide +kernel
theorem dX0_isValid_1 : decode cX0_isValid 1 = .ok (.getfield 87, 3) := by decide +kernel
theorem dX0_isValid_4 : decode cX0_isValid 4 = .ok (.iload_n 1, 1) := by decide +kernel
theorem dX0_isValid_5 : decode cX0_isValid 5 = .ok (.invokevirtual 128, 3) := by decide +kernel
theorem dX0_isValid_8 : decode cX0_isValid 8 = .ok (.checkcast 589, 3) := by decide +kernel
theorem dX0_isValid_11 : decode cX0_isValid 11 = .ok (.invokevirtual 592, 3) := by decide +kernel
theorem dX0_isValid_14 : decode cX0_isValid 14 = .ok (.istore_n 2, 1) := by decide +kernel
theorem dX0_isValid_15 : decode cX0_isValid 15 = .ok (.aload_n 0, 1) := by decide +kernel
theorem dX0_isValid_16 : decode cX0_isValid 16 = .ok (.aload_n 0, 1) := by decide +kernel
theorem dX0_isValid_17 : decode cX0_isValid 17 = .ok (.getfield 84, 3) := by decide +kernel
theorem dX0_isValid_20 : decode cX0_isValid 20 = .ok (.iload_n 2, 1) := by decide +kernel
theorem dX0_isValid_21 : decode cX0_isValid 21 = .ok (.invokevirtual 128, 3) := by decide +kernel
theorem dX0_isValid_24 : decode cX0_isValid 24 = .ok (.checkcast 518, 3) := by decide +kernel
theorem dX0_isValid_27 : decode cX0_isValid 27 = .ok (.invokevirtual 577, 3) := by decide +kernel
theorem dX0_isValid_30 : decode cX0_isValid 30 = .ok (.istore_n 3, 1) := by decide +kernel
theorem dX0_isValid_31 : decode cX0_isValid 31 = .ok (.iconst 0, 1) := by decide +kernel
theorem dX0_isValid_32 : decode cX0_isValid 32 = .ok (.istore 4, 2) := by decide +kernel
theorem dX0_isValid_34 : decode cX0_isValid 34 = .ok (.iconst 0, 1) := by decide +kernel
theorem dX0_isValid_35 : decode cX0_isValid 35 = .ok (.istore 5, 2) := by decide +kernel
theorem dX0_isValid_37 : decode cX0_isValid 37 = .ok (.iconst 0, 1) := by decide +kernel
theorem dX0_isValid_38 : decode cX0_isValid 38 = .ok (.istore 6, 2) := by decide +kernel
theorem dX0_isValid_40 : decode cX0_isValid 40 = .ok (.iload 6, 2) := by decide +kernel
theorem dX0_isValid_42 : decode cX0_isValid 42 = .ok (.iload_n 1, 1) := by decide +kernel
theorem dX0_isValid_43 : decode cX0_isValid 43 = .ok (.if_icmp .gt 89, 3) := by decide +kernel
theorem dX0_isValid_46 : decode cX0_isValid 46 = .ok (.aload_n 0, 1) := by decide +kernel
theorem dX0_isValid_47 : decode cX0_isValid 47 = .ok (.getfield 87, 3) := by decide +kernel
theorem dX0_isValid_50 : decode cX0_isValid 50 = .ok (.iload 6, 2) := by decide +kernel
theorem dX0_isValid_52 : decode cX0_isValid 52 = .ok (.invokevirtual 128, 3) := by decide +kernel
theorem dX0_isValid_55 : decode cX0_isValid 55 = .ok (.checkcast 589, 3) := by decide +kernel
theorem dX0_isValid_58 : decode cX0_isValid 58 = .ok (.invokevirtual 592, 3) := by decide +kernel
theorem dX0_isValid_61 : decode cX0_isValid 61 = .ok (.iload_n 2, 1) := by decide +kernel
theorem dX0_isValid_62 : decode cX0_isValid 62 = .ok (.if_icmp .eq 6, 3) := by decide +kernel
theorem dX0_isValid_65 : decode cX0_isValid 65 = .ok (.goto 61, 3) := by decide +kernel
theorem dX0_isValid_68 : decode cX0_isValid 68 = .ok (.iload 4, 2) := by decide +kernel
theorem dX0_isValid_70 : decode cX0_isValid 70 = .ok (.aload_n 0, 1) := by decide +kernel
theorem dX0_isValid_71 : decode cX0_isValid 71 = .ok (.getfield 87, 3) := by decide +kernel
theorem dX0_isValid_74 : decode cX0_isValid 74 = .ok (.iload 6, 2) := by decide +kernel
theorem dX0_isValid_76 : decode cX0_isValid 76 = .ok (.invokevirtual 128, 3) := by decide +kernel
theorem dX0_isValid_79 : decode cX0_isValid 79 = .ok (.checkcast 589, 3) := by decide +kernel
theorem dX0_isValid_82 : decode cX0_isValid 82 = .ok (.invokevirtual 595, 3) := by decide +kernel
theorem dX0_isValid_85 : decode cX0_isValid 85 = .ok (.iadd, 1) := by decide +kernel
theorem dX0_isValid_86 : decode cX0_isValid 86 = .ok (.iload_n 3, 1) := by decide +kernel
theorem dX0_isValid_87 : decode cX0_isValid 87 = .ok (.if_icmp .gt 7, 3) := by decide +kernel
theorem dX0_isValid_90 : decode cX0_isValid 90 = .ok (.iconst 1, 1) := by decide +kernel
theorem dX0_isValid_91 : decode cX0_isValid 91 = .ok (.goto 4, 3) := by decide +kernel
theorem dX0_isValid_94 : decode cX0_isValid 94 = .ok (.iconst 0, 1) := by decide +kernel
theorem dX0_isValid_95 : decode cX0_isValid 95 = .ok (.istore 5, 2) := by decide +kernel
theorem dX0_isValid_97 : decode cX0_isValid 97 = .ok (.iload 4, 2) := by decide +kernel
theorem dX0_isValid_99 : decode cX0_isValid 99 = .ok (.iload 5, 2) := by decide +kernel
theorem dX0_isValid_101 : decode cX0_isValid 101 = .ok (.ifCond .eq 21, 3) := by decide +kernel
theorem dX0_isValid_104 : decode cX0_isValid 104 = .ok (.aload_n 0, 1) := by decide +kernel
theorem dX0_isValid_105 : decode cX0_isValid 105 = .ok (.getfield 87, 3) := by decide +kernel
theorem dX0_isValid_108 : decode cX0_isValid 108 = .ok (.iload 6, 2) := by decide +kernel
theorem dX0_isValid_110 : decode cX0_isValid 110 = .ok (.invokevirtual 128, 3) := by decide +kernel
theorem dX0_isValid_113 : decode cX0_isValid 113 = .ok (.checkcast 589, 3) := by decide +kernel
theorem dX0_isValid_116 : decode cX0_isValid 116 = .ok (.invokevirtual 595, 3) := by decide +kernel
theorem dX0_isValid_119 : decode cX0_isValid 119 = .ok (.goto 4, 3) := by decide +kernel
theorem dX0_isValid_122 : decode cX0_isValid 122 = .ok (.iconst 0, 1) := by decide +kernel
theorem dX0_isValid_123 : decode cX0_isValid 123 = .ok (.iadd, 1) := by decide +kernel
theorem dX0_isValid_124 : decode cX0_isValid 124 = .ok (.istore 4, 2) := by decide +kernel
theorem dX0_isValid_126 : decode cX0_isValid 126 = .ok (.iinc 6 1, 3) := by decide +kernel
theorem dX0_isValid_129 : decode cX0_isValid 129 = .ok (.goto (-89), 3) := by decide +kernel
theorem dX0_isValid_132 : decode cX0_isValid 132 = .ok (.iload 5, 2) := by decide +kernel
theorem dX0_isValid_134 : decode cX0_isValid 134 = .ok (.ireturn, 1) := by decide +kernel
theorem ycX0_isValid : yX0_isValid.cls ≠ "java/lang/invoke/MethodHandle" ∧ yX0_isValid.cls ≠ "java/lang/invoke/VarHandle" ∧ (parseMethodDescriptor yX0_isValid.desc).map (fun d => d.parameters.length) = some 1 := by decide +kernel
theorem yvX0_isValid : yX0_isValid.cls = RR 0 ∧ yX0_isValid.cls ≠ "java/lang/invoke/MethodHandle" ∧ yX0_isValid.cls ≠ "java/lang/invoke/VarHandle" ∧ (parseMethodDescriptor yX0_isValid.desc).map (fun d => d.parameters.length) = some 1 := ⟨rfl, ycX0_isValid⟩
noncomputable def lp_X0_isValid_40 (p0 : Nat) (p1 : Int32) (v3 : Int32) (v6 : Int32) (q : Nat) : Int32 → Int32 → Int32 → Act Int32 := match q with
  | 0 => fun _ _ _ => fail
  | q + 1 => fun w7 w8 w9 =>
    if p1 < w9 then
      purS (ty := .boolean) w8
    else
      bnd (getR 0 38 p0) fun v10 =>
      bnd (gd 17 v10 (nt (P_get v10 w9))) fun v11 =>
      bnd (cst [11] v11) fun _ =>
      bnd (gd 10 v11 (nt (f_X10_trip v11))) fun v12 =>
      jn (fun (v13 : Int32) (v14 : Int32) =>
        (lp_X0_isValid_40 p0 p1 v3 v6 q) v13 v14 (w9 + 1)) fun j126 =>
      if v12 = v3 then
        bnd (getR 0 38 p0) fun v15 =>
        bnd (gd 17 v15 (nt (P_get v15 w9))) fun v16 =>
        bnd (cst [11] v16) fun _ =>
        bnd (gd 10 v16 (nt (f_X10_grams v16))) fun v17 =>
        jn (fun (v18 : Int32) =>
          jn (fun (v19 : Int32) =>
            j126 (w7 + v19) v18) fun j123 =>
          if v18 = 0 then
            j123 0
          else
            bnd (getR 0 38 p0) fun v20 =>
            bnd (gd 17 v20 (nt (P_get v20 w9))) fun v21 =>
            bnd (cst [11] v21) fun _ =>
            bnd (gd 10 v21 (nt (f_X10_grams v21))) fun v22 =>
            j123 v22) fun j95 =>
        if v6 < (w7 + v17) then
          j95 0
        else
          j95 1
      else
        j126 w7 w8
noncomputable def f_X0_isValid (n : Nat) (p0 : Nat) (p1 : Int32) : Act Int32 :=
  bnd (getR 0 38 p0) fun v1 =>
  bnd (gd 17 v1 (nt (P_get v1 p1))) fun v2 =>
  bnd (cst [11] v2) fun _ =>
  bnd (gd 10 v2 (nt (f_X10_trip v2))) fun v3 =>
  bnd (getR 0 37 p0) fun v4 =>
  bnd (gd 17 v4 (nt (P_get v4 v3))) fun v5 =>
  bnd (cst [8] v5) fun _ =>
  bnd (gd 0 p0 (nt (f_X0_proved n p0 v5))) fun v6 =>
  lp_X0_isValid_40 p0 p1 v3 v6 n 0 0 0
set_option maxHeartbeats 4000000 in
theorem s_lp_X0_isValid_40 {X : Cx} (hX : Ok X Pic cX0_isValid RX0 7 (some FieldType.boolean) 164 3529) (hnh : Noh X) (p0 : Nat) (p1 : Int32) (v3 : Int32) (v6 : Int32) (q : Nat) : ∀ (w7 : Int32) (w8 : Int32) (w9 : Int32), Sim X cvI 40 [(0, rv p0), (1, .int p1), (2, .int v3), (3, .int v6), (4, .int w7), (5, .int w8), (6, .int w9)] [] (lp_X0_isValid_40 p0 p1 v3 v6 q w7 w8 w9) := by
  induction q with
  | zero => intro w7 w8 w9; exact s_fail
  | succ q ih40 =>
    intro w7 w8 w9
    rw [lp_X0_isValid_40]
    refine s_iload hX dX0_isValid_40 6 rfl ?_
    refine s_iload_n hX dX0_isValid_42 rfl 1 rfl ?_
    refine s_icmp_gt (tgt := 132) hX dX0_isValid_43 (by decide) ?_ ?_
    · refine s_iload hX dX0_isValid_132 5 rfl ?_
      exact s_zret hX dX0_isValid_134
    · refine s_aload_n hX dX0_isValid_46 rfl 0 rfl ?_
      refine s_getR (ci := 0) (j := 38) (ref := "WindGas") hX (pcG 0) in_X0 (Or.inl q304) (by decide) (by decide) (by decide) rfl dX0_isValid_47 (fun _ h9 => h9) (fun v10 => ?_)
      refine s_iload hX dX0_isValid_50 6 rfl ?_
      refine s_callV_R (ci := 17) (n := 1) (As := [.int w9]) (st := []) hX (pcK 18) (by decide) (pt_get X.l v10 w9) q555 q516 q517 q88 q518 yvJ2_get (by decide) rfl (by first | decide | simp [rv_cat, cat_i, cat_l]) dX0_isValid_52 (fun v11 => ?_)
      refine s_cast (ks := [11]) hX (elC 10 (by decide)) q1392 dX0_isValid_55 ?_
      refine s_callV_I (ci := 10) (n := 0) (As := []) (st := []) hX (pcK 11) (by decide) (ct_X10_trip X.l v11) q1412 q1413 q1414 q104 q1415 yvX10_trip (by decide) rfl (by first | decide | simp [rv_cat, cat_i, cat_l]) dX0_isValid_58 (fun v12 => ?_)
      refine s_iload_n hX dX0_isValid_61 rfl 2 rfl ?_
      refine s_jn (P := fun j => ∀ (v13 : Int32) (v14 : Int32), Sim X cvI 126 [(0, rv p0), (1, .int p1), (2, .int v3), (3, .int v6), (4, .int v13), (5, .int v14), (6, .int w9)] [] (j v13 v14)) ?_ (fun j126 hj126 => ?_)
      · intro v13 v14
        refine s_iinc (k := 6) (v := (w9 + 1)) (L2 := [(6, .int (w9 + 1)), (0, rv p0), (1, .int p1), (2, .int v3), (3, .int v6), (4, .int v13), (5, .int v14)]) hX dX0_isValid_126 rfl rfl (by decide) rfl ?_
        refine s_goto (tgt := 40) hX dX0_isValid_129 (by decide) ?_
        exact s_sub [1, 2, 3, 4, 5, 6, 0] rfl (ih40 v13 v14 (w9 + 1))
      · refine s_icmp_eq (tgt := 68) hX dX0_isValid_62 (by decide) ?_ ?_
        · refine s_iload hX dX0_isValid_68 4 rfl ?_
          refine s_aload_n hX dX0_isValid_70 rfl 0 rfl ?_
          refine s_getR (ci := 0) (j := 38) (ref := "WindGas") hX (pcG 0) in_X0 (Or.inl q304) (by decide) (by decide) (by decide) rfl dX0_isValid_71 (fun _ h9 => h9) (fun v15 => ?_)
          refine s_iload hX dX0_isValid_74 6 rfl ?_
          refine s_callV_R (ci := 17) (n := 1) (As := [.int w9]) (st := [.int w7]) hX (pcK 18) (by decide) (pt_get X.l v15 w9) q555 q516 q517 q88 q518 yvJ2_get (by decide) rfl (by first | decide | simp [rv_cat, cat_i, cat_l]) dX0_isValid_76 (fun v16 => ?_)
          refine s_cast (ks := [11]) hX (elC 10 (by decide)) q1392 dX0_isValid_79 ?_
          refine s_callV_I (ci := 10) (n := 0) (As := []) (st := [.int w7]) hX (pcK 11) (by decide) (ct_X10_grams X.l v16) q1420 q1421 q1422 q104 q1423 yvX10_grams (by decide) rfl (by first | decide | simp [rv_cat, cat_i, cat_l]) dX0_isValid_82 (fun v17 => ?_)
          refine s_iadd hX dX0_isValid_85 ?_
          refine s_iload_n hX dX0_isValid_86 rfl 3 rfl ?_
          refine s_jn (P := fun j => ∀ (v18 : Int32), Sim X cvI 95 [(0, rv p0), (1, .int p1), (2, .int v3), (3, .int v6), (4, .int w7), (6, .int w9)] [.int v18] (j v18)) ?_ (fun j95 hj95 => ?_)
          · intro v18
            refine s_istore (i := 5) (L2 := [(5, .int v18), (0, rv p0), (1, .int p1), (2, .int v3), (3, .int v6), (4, .int w7), (6, .int w9)]) hX dX0_isValid_95 (by decide) rfl ?_
            refine s_iload hX dX0_isValid_97 5 rfl ?_
            refine s_iload hX dX0_isValid_99 0 rfl ?_
            refine s_jn (P := fun j => ∀ (v19 : Int32), Sim X cvI 123 [(0, rv p0), (1, .int p1), (2, .int v3), (3, .int v6), (5, .int v18), (6, .int w9)] [.int v19, .int w7] (j v19)) ?_ (fun j123 hj123 => ?_)
            · intro v19
              refine s_iadd hX dX0_isValid_123 ?_
              refine s_istore (i := 4) (L2 := [(4, .int (w7 + v19)), (0, rv p0), (1, .int p1), (2, .int v3), (3, .int v6), (5, .int v18), (6, .int w9)]) hX dX0_isValid_124 (by decide) rfl ?_
              exact s_sub [1, 2, 3, 4, 0, 5, 6] rfl (hj126 (w7 + v19) v18)
            · refine s_if_eq (tgt := 122) hX dX0_isValid_101 (by decide) ?_ ?_
              · refine s_iconst (v := 0) hX dX0_isValid_122 rfl ?_
                exact s_sub [1, 2, 3, 4, 0, 6] rfl (hj123 0)
              · refine s_aload_n hX dX0_isValid_104 rfl 1 rfl ?_
                refine s_getR (ci := 0) (j := 38) (ref := "WindGas") hX (pcG 0) in_X0 (Or.inl q304) (by decide) (by decide) (by decide) rfl dX0_isValid_105 (fun _ h9 => h9) (fun v20 => ?_)
                refine s_iload hX dX0_isValid_108 6 rfl ?_
                refine s_callV_R (ci := 17) (n := 1) (As := [.int w9]) (st := [.int w7]) hX (pcK 18) (by decide) (pt_get X.l v20 w9) q555 q516 q517 q88 q518 yvJ2_get (by decide) rfl (by first | decide | simp [rv_cat, cat_i, cat_l]) dX0_isValid_110 (fun v21 => ?_)
                refine s_cast (ks := [11]) hX (elC 10 (by decide)) q1392 dX0_isValid_113 ?_
                refine s_callV_I (ci := 10) (n := 0) (As := []) (st := [.int w7]) hX (pcK 11) (by decide) (ct_X10_grams X.l v21) q1420 q1421 q1422 q104 q1423 yvX10_grams (by decide) rfl (by first | decide | simp [rv_cat, cat_i, cat_l]) dX0_isValid_116 (fun v22 => ?_)
                refine s_goto (tgt := 123) hX dX0_isValid_119 (by decide) ?_
                exact s_sub [1, 2, 3, 4, 0, 6] rfl (hj123 v22)
          · refine s_icmp_gt (tgt := 94) hX dX0_isValid_87 (by decide) ?_ ?_
            · refine s_iconst (v := 0) hX dX0_isValid_94 rfl ?_
              exact s_sub [0, 1, 2, 3, 4, 6] rfl (hj95 0)
            · refine s_iconst (v := 1) hX dX0_isValid_90 rfl ?_
              refine s_goto (tgt := 95) hX dX0_isValid_91 (by decide) ?_
              exact s_sub [0, 1, 2, 3, 4, 6] rfl (hj95 1)
        · refine s_goto (tgt := 126) hX dX0_isValid_65 (by decide) ?_
          exact hj126 w7 w8
set_option maxHeartbeats 4000000 in
theorem ct_X0_isValid (l : Launch) (n : Nat) (p0 : Nat) (p1 : Int32) : Ct l Pic yX0_isValid (ws_ yX0_isValid cX0_isValid 7 (some FieldType.boolean)) 164 3529 cvI [rv p0, .int p1] (f_X0_isValid n p0 p1) := by
  refine Ct.of (own := RX0) (L := [(0, rv p0), (1, .int p1)]) (plainFor_of_name (by decide)) rfl (by first | decide | simp [lg_sl, rv_cat, cat_i, cat_l]) (by first | rfl | simp [lv_args, rv_cat, cat_i, cat_l]) pcZ (fun X hXl hX hnh hin => ?_)
  subst hXl
  unfold f_X0_isValid
  refine s_aload_n hX dX0_isValid_0 rfl 0 rfl ?_
  refine s_getR (ci := 0) (j := 38) (ref := "WindGas") hX (pcG 0) in_X0 (Or.inl q304) (by decide) (by decide) (by decide) rfl dX0_isValid_1 (fun _ h9 => h9) (fun v1 => ?_)
  refine s_iload_n hX dX0_isValid_4 rfl 1 rfl ?_
  refine s_callV_R (ci := 17) (n := 1) (As := [.int p1]) (st := []) hX (pcK 18) (by decide) (pt_get X.l v1 p1) q555 q516 q517 q88 q518 yvJ2_get (by decide) rfl (by first | decide | simp [rv_cat, cat_i, cat_l]) dX0_isValid_5 (fun v2 => ?_)
  refine s_cast (ks := [11]) hX (elC 10 (by decide)) q1392 dX0_isValid_8 ?_
  refine s_callV_I (ci := 10) (n := 0) (As := []) (st := []) hX (pcK 11) (by decide) (ct_X10_trip X.l v2) q1412 q1413 q1414 q104 q1415 yvX10_trip (by decide) rfl (by first | decide | simp [rv_cat, cat_i, cat_l]) dX0_isValid_11 (fun v3 => ?_)
  refine s_istore_n (i := 2) (L2 := [(2, .int v3), (0, rv p0), (1, .int p1)]) hX dX0_isValid_14 rfl (by decide) rfl ?_
  refine s_aload_n hX dX0_isValid_15 rfl 1 rfl ?_
  refine s_aload_n hX dX0_isValid_16 rfl 1 rfl ?_
  refine s_getR (ci := 0) (j := 37) (ref := "WindGas") hX (pcG 0) in_X0 (Or.inl q303) (by decide) (by decide) (by decide) rfl dX0_isValid_17 (fun _ h9 => h9) (fun v4 => ?_)
  refine s_iload_n hX dX0_isValid_20 rfl 0 rfl ?_
  refine s_callV_R (ci := 17) (n := 1) (As := [.int v3]) (st := [rv p0]) hX (pcK 18) (by decide) (pt_get X.l v4 v3) q555 q516 q517 q88 q518 yvJ2_get (by decide) rfl (by first | decide | simp [rv_cat, cat_i, cat_l]) dX0_isValid_21 (fun v5 => ?_)
  refine s_cast (ks := [8]) hX (elC 7 (by decide)) q1272 dX0_isValid_24 ?_
  refine s_callV_I (ci := 0) (n := 1) (As := [rv v5]) (st := []) hX (pcK 1) (by decide) (ct_X0_proved X.l n p0 v5) q1358 q1360 qs35 q84 q1361 yvX0_proved (by decide) rfl (by first | decide | simp [rv_cat, cat_i, cat_l]) dX0_isValid_27 (fun v6 => ?_)
  refine s_istore_n (i := 3) (L2 := [(3, .int v6), (2, .int v3), (0, rv p0), (1, .int p1)]) hX dX0_isValid_30 rfl (by decide) rfl ?_
  refine s_iconst (v := 0) hX dX0_isValid_31 rfl ?_
  refine s_istore (i := 4) (L2 := [(4, .int 0), (3, .int v6), (2, .int v3), (0, rv p0), (1, .int p1)]) hX dX0_isValid_32 (by decide) rfl ?_
  refine s_iconst (v := 0) hX dX0_isValid_34 rfl ?_
  refine s_istore (i := 5) (L2 := [(5, .int 0), (4, .int 0), (3, .int v6), (2, .int v3), (0, rv p0), (1, .int p1)]) hX dX0_isValid_35 (by decide) rfl ?_
  refine s_iconst (v := 0) hX dX0_isValid_37 rfl ?_
  refine s_istore (i := 6) (L2 := [(6, .int 0), (5, .int 0), (4, .int 0), (3, .int v6), (2, .int v3), (0, rv p0), (1, .int p1)]) hX dX0_isValid_38 (by decide) rfl ?_
  exact s_sub [5, 6, 4, 3, 2, 1, 0] rfl (s_lp_X0_isValid_40 hX hnh p0 p1 v3 v6 n 0 0 0)
theorem dX0_paperOf_0 : decode cX0_paperOf 0 = .ok (.iload_n 1, 1) := by decide +kernel
theorem dX0_paperOf_1 : decode cX0_paperOf 1 = .ok (.i2l, 1) := by decide +kernel
theorem dX0_paperOf_2 : decode cX0_paperOf 2 = .ok (.lconst 0, 1) := by decide +kernel
theorem dX0_paperOf_3 : decode cX0_paperOf 3 = .ok (.aload_n 0, 1) := by decide +kernel
theorem dX0_paperOf_4 : decode cX0_paperOf 4 = .ok (.getfield 87, 3) := by decide +kernel
theorem dX0_paperOf_7 : decode cX0_paperOf 7 = .ok (.invokevirtual 124, 3) := by decide +kernel
theorem dX0_paperOf_10 : decode cX0_paperOf 10 = .ok (.iconst 1, 1) := by decide +kernel
theorem dX0_paperOf_11 : decode cX0_paperOf 11 = .ok (.isub, 1) := by decide +kernel
theorem dX0_paperOf_12 : decode cX0_paperOf 12 = .ok (.i2l, 1) := by decide +kernel
theorem dX0_paperOf_13 : decode cX0_paperOf 13 = .ok (.invokestatic 101, 3) := by decide +kernel
theorem dX0_paperOf_16 : decode cX0_paperOf 16 = .ok (.ifCond .ne 5, 3) := by decide +kernel
theorem dX0_paperOf_19 : decode cX0_paperOf 19 = .ok (.iconst (-1), 1) := by decide +kernel
theorem dX0_paperOf_20 : decode cX0_paperOf 20 = .ok (.ireturn, 1) := by decide +kernel
theorem dX0_paperOf_21 : decode cX0_paperOf 21 = .ok (.aload_n 0, 1) := by decide +kernel
theorem dX0_paperOf_22 : decode cX0_paperOf 22 = .ok (.getfield 87, 3) := by decide +kernel
theorem dX0_paperOf_25 : decode cX0_paperOf 25 = .ok (.iload_n 1, 1) := by decide +kernel
theorem dX0_paperOf_26 : decode cX0_paperOf 26 = .ok (.invokevirtual 128, 3) := by decide +kernel
theorem dX0_paperOf_29 : decode cX0_paperOf 29 = .ok (.checkcast 589, 3) := by decide +kernel
theorem dX0_paperOf_32 : decode cX0_paperOf 32 = .ok (.astore_n 3, 1) := by decide +kernel
theorem dX0_paperOf_33 : decode cX0_paperOf 33 = .ok (.iload_n 2, 1) := by decide +kernel
theorem dX0_paperOf_34 : decode cX0_paperOf 34 = .ok (.ifCond .ne 10, 3) := by decide +kernel
theorem dX0_paperOf_37 : decode cX0_paperOf 37 = .ok (.aload_n 3, 1) := by decide +kernel
theorem dX0_paperOf_38 : decode cX0_paperOf 38 = .ok (.invokevirtual 592, 3) := by decide +kernel
theorem dX0_paperOf_41 : decode cX0_paperOf 41 = .ok (.goto 49, 3) := by decide +kernel
theorem dX0_paperOf_44 : decode cX0_paperOf 44 = .ok (.iload_n 2, 1) := by decide +kernel
theorem dX0_paperOf_45 : decode cX0_paperOf 45 = .ok (.iconst 1, 1) := by decide +kernel
theorem dX0_paperOf_46 : decode cX0_paperOf 46 = .ok (.if_icmp .ne 10, 3) := by decide +kernel
theorem dX0_paperOf_49 : decode cX0_paperOf 49 = .ok (.aload_n 3, 1) := by decide +kernel
theorem dX0_paperOf_50 : decode cX0_paperOf 50 = .ok (.invokevirtual 596, 3) := by decide +kernel
theorem dX0_paperOf_53 : decode cX0_paperOf 53 = .ok (.goto 37, 3) := by decide +kernel
theorem dX0_paperOf_56 : decode cX0_paperOf 56 = .ok (.iload_n 2, 1) := by decide +kernel
theorem dX0_paperOf_57 : decode cX0_paperOf 57 = .ok (.iconst 2, 1) := by decide +kernel
theorem dX0_paperOf_58 : decode cX0_paperOf 58 = .ok (.if_icmp .ne 10, 3) := by decide +kernel
theorem dX0_paperOf_61 : decode cX0_paperOf 61 = .ok (.aload_n 3, 1) := by decide +kernel
theorem dX0_paperOf_62 : decode cX0_paperOf 62 = .ok (.invokevirtual 595, 3) := by decide +kernel
theorem dX0_paperOf_65 : decode cX0_paperOf 65 = .ok (.goto 25, 3) := by decide +kernel
theorem dX0_paperOf_68 : decode cX0_paperOf 68 = .ok (.iload_n 2, 1) := by decide +kernel
theorem dX0_paperOf_69 : decode cX0_paperOf 69 = .ok (.iconst 3, 1) := by decide +kernel
theorem dX0_paperOf_70 : decode cX0_paperOf 70 = .ok (.if_icmp .ne 19, 3) := by decide +kernel
theorem dX0_paperOf_73 : decode cX0_paperOf 73 = .ok (.aload_n 0, 1) := by decide +kernel
theorem dX0_paperOf_74 : decode cX0_paperOf 74 = .ok (.iload_n 1, 1) := by decide +kernel
theorem dX0_paperOf_75 : decode cX0_paperOf 75 = .ok (.invokevirtual 599, 3) := by decide +kernel
theorem dX0_paperOf_78 : decode cX0_paperOf 78 = .ok (.ifCond .eq 7, 3) := by decide +kernel
theorem dX0_paperOf_81 : decode cX0_paperOf 81 = .ok (.iconst 1, 1) := by decide +kernel
theorem dX0_paperOf_82 : decode cX0_paperOf 82 = .ok (.goto 8, 3) := by decide +kernel
theorem dX0_paperOf_85 : decode cX0_paperOf 85 = .ok (.iconst 0, 1) := by decide +kernel
theorem dX0_paperOf_86 : decode cX0_paperOf 86 = .ok (.goto 4, 3) := by decide +kernel
theorem dX0_paperOf_89 : decode cX0_paperOf 89 = .ok (.iconst (-1), 1) := by decide +kernel
theorem dX0_paperOf_90 : decode cX0_paperOf 90 = .ok (.ireturn, 1) := by decide +kernel
theorem ycX0_paperOf : yX0_paperOf.cls ≠ "java/lang/invoke/MethodHandle" ∧ yX0_paperOf.cls ≠ "java/lang/invoke/VarHandle" ∧ (parseMethodDescriptor yX0_paperOf.desc).map (fun d => d.parameters.length) = some 2 := by decide +kernel
theorem yvX0_paperOf : yX0_paperOf.cls = RR 0 ∧ yX0_paperOf.cls ≠ "java/lang/invoke/MethodHandle" ∧ yX0_paperOf.cls ≠ "java/lang/invoke/VarHandle" ∧ (parseMethodDescriptor yX0_paperOf.desc).map (fun d => d.parameters.length) = some 2 := ⟨rfl, ycX0_paperOf⟩
noncomputable def f_X0_paperOf (n : Nat) (p0 : Nat) (p1 : Int32) (p2 : Int32) : Act Int32 :=
  bnd (getR 0 38 p0) fun v1 =>
  bnd (gd 17 v1 (nt (P_size v1))) fun v2 =>
  bnd (nt (f_X0_isIn p1.toInt64 (0 : Int64) ((v2 - 1).toInt64))) fun v3 =>
  if ¬ v3 = 0 then
    bnd (getR 0 38 p0) fun v4 =>
    bnd (gd 17 v4 (nt (P_get v4 p1))) fun v5 =>
    bnd (cst [11] v5) fun _ =>
    jn (fun (v6 : Int32) =>
      pur v6) fun j90 =>
    if ¬ p2 = 0 then
      if ¬ p2 = 1 then
        if ¬ p2 = 2 then
          if ¬ p2 = 3 then
            j90 (-1)
          else
            bnd (gd 0 p0 (nt (f_X0_isValid n p0 p1))) fun v7 =>
            if v7 = 0 then
              j90 0
            else
              j90 1
        else
          bnd (gd 10 v5 (nt (f_X10_grams v5))) fun v8 =>
          j90 v8
      else
        bnd (gd 10 v5 (nt (f_X10_buyer v5))) fun v9 =>
        j90 v9
    else
      bnd (gd 10 v5 (nt (f_X10_trip v5))) fun v10 =>
      j90 v10
  else
    pur (-1)
set_option maxHeartbeats 4000000 in
theorem ct_X0_paperOf (l : Launch) (n : Nat) (p0 : Nat) (p1 : Int32) (p2 : Int32) : Ct l Pic yX0_paperOf (ws_ yX0_paperOf cX0_paperOf 4 (some FieldType.int)) 165 3555 cvI [rv p0, .int p1, .int p2] (f_X0_paperOf n p0 p1 p2) := by
  refine Ct.of (own := RX0) (L := [(0, rv p0), (1, .int p1), (2, .int p2)]) (plainFor_of_name (by decide)) rfl (by first | decide | simp [lg_sl, rv_cat, cat_i, cat_l]) (by first | rfl | simp [lv_args, rv_cat, cat_i, cat_l]) pcZ (fun X hXl hX hnh hin => ?_)
  subst hXl
  unfold f_X0_paperOf
  refine s_iload_n hX dX0_paperOf_0 rfl 1 rfl ?_
  refine s_i2l hX dX0_paperOf_1 ?_
  refine s_lconst (v := 0) hX dX0_paperOf_2 (by decide) ?_
  refine s_aload_n hX dX0_paperOf_3 rfl 0 rfl ?_
  refine s_getR (ci := 0) (j := 38) (ref := "WindGas") hX (pcG 0) in_X0 (Or.inl q304) (by decide) (by decide) (by decide) rfl dX0_paperOf_4 (fun _ h9 => h9) (fun v1 => ?_)
  refine s_callV_I (ci := 17) (n := 0) (As := []) (st := [.long 0, .long p1.toInt64]) hX (pcK 18) (by decide) (pt_size X.l v1) q554 q417 q418 q88 q419 yvJ2_size (by decide) rfl (by first | decide | simp [rv_cat, cat_i, cat_l]) dX0_paperOf_7 (fun v2 => ?_)
  refine s_iconst (v := 1) hX dX0_paperOf_10 rfl ?_
  refine s_isub hX dX0_paperOf_11 ?_
  refine s_i2l hX dX0_paperOf_12 ?_
  refine s_callS_I (n := 3) (As := [.long p1.toInt64, .long 0, .long (v2 - 1).toInt64]) (st := []) hX (ct_X0_isIn X.l p1.toInt64 (0 : Int64) ((v2 - 1).toInt64)) q400 q401 q84 q402 ycX0_isIn (by decide) rfl (by first | decide | simp [rv_cat, cat_i, cat_l]) dX0_paperOf_13 (fun v3 => ?_)
  refine s_if_ne (tgt := 21) hX dX0_paperOf_16 (by decide) ?_ ?_
  · refine s_aload_n hX dX0_paperOf_21 rfl 0 rfl ?_
    refine s_getR (ci := 0) (j := 38) (ref := "WindGas") hX (pcG 0) in_X0 (Or.inl q304) (by decide) (by decide) (by decide) rfl dX0_paperOf_22 (fun _ h9 => h9) (fun v4 => ?_)
    refine s_iload_n hX dX0_paperOf_25 rfl 1 rfl ?_
    refine s_callV_R (ci := 17) (n := 1) (As := [.int p1]) (st := []) hX (pcK 18) (by decide) (pt_get X.l v4 p1) q555 q516 q517 q88 q518 yvJ2_get (by decide) rfl (by first | decide | simp [rv_cat, cat_i, cat_l]) dX0_paperOf_26 (fun v5 => ?_)
    refine s_cast (ks := [11]) hX (elC 10 (by decide)) q1392 dX0_paperOf_29 ?_
    refine s_astore_n (i := 3) (L2 := [(3, rv v5), (0, rv p0), (1, .int p1), (2, .int p2)]) hX dX0_paperOf_32 rfl (by decide) rfl ?_
    refine s_iload_n hX dX0_paperOf_33 rfl 3 rfl ?_
    refine s_jn (P := fun j => ∀ (v6 : Int32), Sim X cvI 90 [] [.int v6] (j v6)) ?_ (fun j90 hj90 => ?_)
    · intro v6
      exact s_iret hX dX0_paperOf_90
    · refine s_if_ne (tgt := 44) hX dX0_paperOf_34 (by decide) ?_ ?_
      · refine s_iload_n hX dX0_paperOf_44 rfl 3 rfl ?_
        refine s_iconst (v := 1) hX dX0_paperOf_45 rfl ?_
        refine s_icmp_ne (tgt := 56) hX dX0_paperOf_46 (by decide) ?_ ?_
        · refine s_iload_n hX dX0_paperOf_56 rfl 3 rfl ?_
          refine s_iconst (v := 2) hX dX0_paperOf_57 rfl ?_
          refine s_icmp_ne (tgt := 68) hX dX0_paperOf_58 (by decide) ?_ ?_
          · refine s_iload_n hX dX0_paperOf_68 rfl 3 rfl ?_
            refine s_iconst (v := 3) hX dX0_paperOf_69 rfl ?_
            refine s_icmp_ne (tgt := 89) hX dX0_paperOf_70 (by decide) ?_ ?_
            · refine s_iconst (v := -1) hX dX0_paperOf_89 (by decide) ?_
              exact s_sub [] rfl (hj90 (-1))
            · refine s_aload_n hX dX0_paperOf_73 rfl 1 rfl ?_
              refine s_iload_n hX dX0_paperOf_74 rfl 2 rfl ?_
              refine s_callV_I (ci := 0) (n := 1) (As := [.int p1]) (st := []) hX (pcK 1) (by decide) (ct_X0_isValid X.l n p0 p1) q1424 q1426 qs36 q84 q1427 yvX0_isValid (by decide) rfl (by first | decide | simp [rv_cat, cat_i, cat_l]) dX0_paperOf_75 (fun v7 => ?_)
              refine s_if_eq (tgt := 85) hX dX0_paperOf_78 (by decide) ?_ ?_
              · refine s_iconst (v := 0) hX dX0_paperOf_85 rfl ?_
                refine s_goto (tgt := 90) hX dX0_paperOf_86 (by decide) ?_
                exact s_sub [] rfl (hj90 0)
              · refine s_iconst (v := 1) hX dX0_paperOf_81 rfl ?_
                refine s_goto (tgt := 90) hX dX0_paperOf_82 (by decide) ?_
                exact s_sub [] rfl (hj90 1)
          · refine s_aload_n hX dX0_paperOf_61 rfl 0 rfl ?_
            refine s_callV_I (ci := 10) (n := 0) (As := []) (st := []) hX (pcK 11) (by decide) (ct_X10_grams X.l v5) q1420 q1421 q1422 q104 q1423 yvX10_grams (by decide) rfl (by first | decide | simp [rv_cat, cat_i, cat_l]) dX0_paperOf_62 (fun v8 => ?_)
            refine s_goto (tgt := 90) hX dX0_paperOf_65 (by decide) ?_
            exact s_sub [] rfl (hj90 v8)
        · refine s_aload_n hX dX0_paperOf_49 rfl 0 rfl ?_
          refine s_callV_I (ci := 10) (n := 0) (As := []) (st := []) hX (pcK 11) (by decide) (ct_X10_buyer X.l v5) q1416 q1417 q1418 q104 q1419 yvX10_buyer (by decide) rfl (by first | decide | simp [rv_cat, cat_i, cat_l]) dX0_paperOf_50 (fun v9 => ?_)
          refine s_goto (tgt := 90) hX dX0_paperOf_53 (by decide) ?_
          exact s_sub [] rfl (hj90 v9)
      · refine s_aload_n hX dX0_paperOf_37 rfl 0 rfl ?_
        refine s_callV_I (ci := 10) (n := 0) (As := []) (st := []) hX (pcK 11) (by decide) (ct_X10_trip X.l v5) q1412 q1413 q1414 q104 q1415 yvX10_trip (by decide) rfl (by first | decide | simp [rv_cat, cat_i, cat_l]) dX0_paperOf_38 (fun v10 => ?_)
        refine s_goto (tgt := 90) hX dX0_paperOf_41 (by decide) ?_
        exact s_sub [] rfl (hj90 v10)
  · refine s_iconst (v := -1) hX dX0_paperOf_19 (by decide) ?_
    exact s_iret hX dX0_paperOf_20
theorem dX16_init_0 : decode cX16_init 0 = .ok (.aload_n 0, 1) := by decide +kernel
theorem dX16_init_1 : decode cX16_init 1 = .ok (.invokespecial 1, 3) := by decide +kernel
theorem dX16_init_4 : decode cX16_init 4 = .ok (.aload_n 0, 1) := by decide +kernel
theorem dX16_init_5 : decode cX16_init 5 = .ok (.iload_n 1, 1) := by decide +kernel
theorem dX16_init_6 : decode cX16_init 6 = .ok (.putfield 7, 3) := by decide +kernel
theorem dX16_init_9 : decode cX16_init 9 = .ok (.aload_n 0, 1) := by decide +kernel
theorem dX16_init_10 : decode cX16_init 10 = .ok (.iload_n 2, 1) := by decide +kernel
theorem dX16_init_11 : decode cX16_init 11 = .ok (.putfield 13, 3) := by decide +kernel
theorem dX16_init_14 : decode cX16_init 14 = .ok (.aload_n 0, 1) := by decide +kernel
theorem dX16_init_15 : decode cX16_init 15 = .ok (.iload_n 3, 1) := by decide +kernel
theorem dX16_init_16 : decode cX16_init 16 = .ok (.putfield 16, 3) := by decide +kernel
theorem dX16_init_19 : decode cX16_init 19 = .ok (.return_, 1) := by decide +kernel
theorem ycX16_init : yX16_init.cls ≠ "java/lang/invoke/MethodHandle" ∧ yX16_init.cls ≠ "java/lang/invoke/VarHandle" ∧ (parseMethodDescriptor yX16_init.desc).map (fun d => d.parameters.length) = some 3 := by decide +kernel
theorem yvX16_init : yX16_init.cls = RR 16 ∧ yX16_init.cls ≠ "java/lang/invoke/MethodHandle" ∧ yX16_init.cls ≠ "java/lang/invoke/VarHandle" ∧ (parseMethodDescriptor yX16_init.desc).map (fun d => d.parameters.length) = some 3 := ⟨rfl, ycX16_init⟩
noncomputable def f_X16_init (p0 : Nat) (p1 : Int32) (p2 : Int32) (p3 : Int32) : Act Unit :=
  bnd (gd 16 p0 (nt (f_J3_init p0))) fun _ =>
  bnd (putI 16 0 p0 p1) fun _ =>
  bnd (putI 16 1 p0 p2) fun _ =>
  bnd (putI 16 2 p0 p3) fun _ =>
  pur ()
set_option maxHeartbeats 4000000 in
theorem ct_X16_init (l : Launch) (p0 : Nat) (p1 : Int32) (p2 : Int32) (p3 : Int32) : Ct l Pic yX16_init (ws_ yX16_init cX16_init 4 none) 2 44 cvU [rv p0, .int p1, .int p2, .int p3] (f_X16_init p0 p1 p2 p3) := by
  refine Ct.of (own := RX16) (L := [(0, rv p0), (1, .int p1), (2, .int p2), (3, .int p3)]) (plainFor_of_name (by decide)) rfl (by first | decide | simp [lg_sl, rv_cat, cat_i, cat_l]) (by first | rfl | simp [lv_args, rv_cat, cat_i, cat_l]) pcZ (fun X hXl hX hnh hin => ?_)
  subst hXl
  unfold f_X16_init
  refine s_aload_n hX dX16_init_0 rfl 0 rfl ?_
  refine s_callI_U (ci := 16) (n := 0) (As := []) (st := []) hX (pcK 17) (by decide) (ct_J3_init X.l p0) q1439 q426 q92 q427 rfl ycJ3_init (by decide) rfl (by first | decide | simp [rv_cat, cat_i, cat_l]) dX16_init_1 (fun _ => ?_)
  refine s_aload_n hX dX16_init_4 rfl 0 rfl ?_
  refine s_iload_n hX dX16_init_5 rfl 1 rfl ?_
  refine s_putIF (ci := 16) (j := 0) (ref := "WindGas$Place") hX (pcG 16) (pcP 16) in_X16 tyX16_ok nmX16 q1440 (by decide) (by decide) (by decide) rfl rfl rfl (hin rfl) rfl dX16_init_6 (fun _ h9 => h9) ?_
  refine s_aload_n hX dX16_init_9 rfl 0 rfl ?_
  refine s_iload_n hX dX16_init_10 rfl 2 rfl ?_
  refine s_putIF (ci := 16) (j := 1) (ref := "WindGas$Place") hX (pcG 16) (pcP 16) in_X16 tyX16_ok nmX16 q1441 (by decide) (by decide) (by decide) rfl rfl rfl (hin rfl) rfl dX16_init_11 (fun _ h9 => h9) ?_
  refine s_aload_n hX dX16_init_14 rfl 0 rfl ?_
  refine s_iload_n hX dX16_init_15 rfl 3 rfl ?_
  refine s_putIF (ci := 16) (j := 2) (ref := "WindGas$Place") hX (pcG 16) (pcP 16) in_X16 tyX16_ok nmX16 q1442 (by decide) (by decide) (by decide) rfl rfl rfl (hin rfl) rfl dX16_init_16 (fun _ h9 => h9) ?_
  exact s_vret hX dX16_init_19
theorem dX0_place_0 : decode cX0_place 0 = .ok (.iload_n 1, 1) := by decide +kernel
theorem dX0_place_1 : decode cX0_place 1 = .ok (.i2l, 1) := by decide +kernel
theorem dX0_place_2 : decode cX0_place 2 = .ok (.lconst 0, 1) := by decide +kernel
theorem dX0_place_3 : decode cX0_place 3 = .ok (.ldc2_w 602, 3) := by decide +kernel
theorem dX0_place_6 : decode cX0_place 6 = .ok (.invokestatic 101, 3) := by decide +kernel
theorem dX0_place_9 : decode cX0_place 9 = .ok (.ifCond .eq 39, 3) := by decide +kernel
theorem dX0_place_12 : decode cX0_place 12 = .ok (.iload_n 2, 1) := by decide +kernel
theorem dX0_place_13 : decode cX0_place 13 = .ok (.i2l, 1) := by decide +kernel
theorem dX0_place_14 : decode cX0_place 14 = .ok (.lconst 0, 1) := by decide +kernel
theorem dX0_place_15 : decode cX0_place 15 = .ok (.ldc2_w 604, 3) := by decide +kernel
theorem dX0_place_18 : decode cX0_place 18 = .ok (.invokestatic 101, 3) := by decide +kernel
theorem dX0_place_21 : decode cX0_place 21 = .ok (.ifCond .eq 27, 3) := by decide +kernel
theorem dX0_place_24 : decode cX0_place 24 = .ok (.iload_n 3, 1) := by decide +kernel
theorem dX0_place_25 : decode cX0_place 25 = .ok (.i2l, 1) := by decide +kernel
theorem dX0_place_26 : decode cX0_place 26 = .ok (.lconst 0, 1) := by decide +kernel
theorem dX0_place_27 : decode cX0_place 27 = .ok (.ldc2_w 604, 3) := by decide +kernel
theorem dX0_place_30 : decode cX0_place 30 = .ok (.invokestatic 101, 3) := by decide +kernel
theorem dX0_place_33 : decode cX0_place 33 = .ok (.ifCond .eq 15, 3) := by decide +kernel
theorem dX0_place_36 : decode cX0_place 36 = .ok (.aload_n 0, 1) := by decide +kernel
theorem dX0_place_37 : decode cX0_place 37 = .ok (.getfield 90, 3) := by decide +kernel
theorem dX0_place_40 : decode cX0_place 40 = .ok (.invokevirtual 124, 3) := by decide +kernel
theorem dX0_place_43 : decode cX0_place 43 = .ok (.bipush 20, 2) := by decide +kernel
theorem dX0_place_45 : decode cX0_place 45 = .ok (.if_icmp .ne 5, 3) := by decide +kernel
theorem dX0_place_48 : decode cX0_place 48 = .ok (.iconst (-1), 1) := by decide +kernel
theorem dX0_place_49 : decode cX0_place 49 = .ok (.ireturn, 1) := by decide +kernel
theorem dX0_place_50 : decode cX0_place 50 = .ok (.aload_n 0, 1) := by decide +kernel
theorem dX0_place_51 : decode cX0_place 51 = .ok (.getfield 90, 3) := by decide +kernel
theorem dX0_place_54 : decode cX0_place 54 = .ok (.new 606, 3) := by decide +kernel
theorem dX0_place_57 : decode cX0_place 57 = .ok (.dup, 1) := by decide +kernel
theorem dX0_place_58 : decode cX0_place 58 = .ok (.iload_n 1, 1) := by decide +kernel
theorem dX0_place_59 : decode cX0_place 59 = .ok (.iload_n 2, 1) := by decide +kernel
theorem dX0_place_60 : decode cX0_place 60 = .ok (.iload_n 3, 1) := by decide +kernel
theorem dX0_place_61 : decode cX0_place 61 = .ok (.invokespecial 608, 3) := by decide +kernel
theorem dX0_place_64 : decode cX0_place 64 = .ok (.invokevirtual 302, 3) := by decide +kernel
theorem dX0_place_67 : decode cX0_place 67 = .ok (.pop, 1) := by decide +kernel
theorem dX0_place_68 : decode cX0_place 68 = .ok (.aload_n 0, 1) := by decide +kernel
theorem dX0_place_69 : decode cX0_place 69 = .ok (.getfield 90, 3) := by decide +kernel
theorem dX0_place_72 : decode cX0_place 72 = .ok (.invokevirtual 124, 3) := by decide +kernel
theorem dX0_place_75 : decode cX0_place 75 = .ok (.iconst 1, 1) := by decide +kernel
theorem dX0_place_76 : decode cX0_place 76 = .ok (.isub, 1) := by decide +kernel
theorem dX0_place_77 : decode cX0_place 77 = .ok (.ireturn, 1) := by decide +kernel
theorem ycX0_place : yX0_place.cls ≠ "java/lang/invoke/MethodHandle" ∧ yX0_place.cls ≠ "java/lang/invoke/VarHandle" ∧ (parseMethodDescriptor yX0_place.desc).map (fun d => d.parameters.length) = some 3 := by decide +kernel
theorem yvX0_place : yX0_place.cls = RR 0 ∧ yX0_place.cls ≠ "java/lang/invoke/MethodHandle" ∧ yX0_place.cls ≠ "java/lang/invoke/VarHandle" ∧ (parseMethodDescriptor yX0_place.desc).map (fun d => d.parameters.length) = some 3 := ⟨rfl, ycX0_place⟩
noncomputable def f_X0_place (p0 : Nat) (p1 : Int32) (p2 : Int32) (p3 : Int32) : Act Int32 :=
  bnd (nt (f_X0_isIn p1.toInt64 (0 : Int64) (4 : Int64))) fun v1 =>
  jn (fun (_ : Unit) =>
    pur (-1)) fun j48 =>
  if v1 = 0 then
    j48 ()
  else
    bnd (nt (f_X0_isIn p2.toInt64 (0 : Int64) (99 : Int64))) fun v2 =>
    if v2 = 0 then
      j48 ()
    else
      bnd (nt (f_X0_isIn p3.toInt64 (0 : Int64) (99 : Int64))) fun v3 =>
      if v3 = 0 then
        j48 ()
      else
        bnd (getR 0 39 p0) fun v4 =>
        bnd (gd 17 v4 (nt (P_size v4))) fun v5 =>
        if ¬ v5 = 20 then
          bnd (getR 0 39 p0) fun v6 =>
          bnd (newO 16 3) fun v7 =>
          bnd (gd 16 v7 (nt (f_X16_init v7 p1 p2 p3))) fun _ =>
          bnd (gd 17 v6 (nt (P_add v6 v7))) fun v8 =>
          bnd (getR 0 39 p0) fun v9 =>
          bnd (gd 17 v9 (nt (P_size v9))) fun v10 =>
          pur (v10 - 1)
        else
          j48 ()
set_option maxHeartbeats 4000000 in
theorem ct_X0_place (l : Launch) (p0 : Nat) (p1 : Int32) (p2 : Int32) (p3 : Int32) : Ct l Pic yX0_place (ws_ yX0_place cX0_place 4 (some FieldType.int)) 7 171 cvI [rv p0, .int p1, .int p2, .int p3] (f_X0_place p0 p1 p2 p3) := by
  refine Ct.of (own := RX0) (L := [(0, rv p0), (1, .int p1), (2, .int p2), (3, .int p3)]) (plainFor_of_name (by decide)) rfl (by first | decide | simp [lg_sl, rv_cat, cat_i, cat_l]) (by first | rfl | simp [lv_args, rv_cat, cat_i, cat_l]) pcZ (fun X hXl hX hnh hin => ?_)
  subst hXl
  unfold f_X0_place
  refine s_iload_n hX dX0_place_0 rfl 1 rfl ?_
  refine s_i2l hX dX0_place_1 ?_
  refine s_lconst (v := 0) hX dX0_place_2 (by decide) ?_
  refine s_ldc2 (v := 4) hX dX0_place_3 q1432 ?_
  refine s_callS_I (n := 3) (As := [.long p1.toInt64, .long 0, .long 4]) (st := []) hX (ct_X0_isIn X.l p1.toInt64 (0 : Int64) (4 : Int64)) q400 q401 q84 q402 ycX0_isIn (by decide) rfl (by first | decide | simp [rv_cat, cat_i, cat_l]) dX0_place_6 (fun v1 => ?_)
  refine s_jn (P := fun j => ∀ (u : Unit), Sim X cvI 48 [] [] (j u)) ?_ (fun j48 hj48 => ?_)
  · intro u
    refine s_iconst (v := -1) hX dX0_place_48 (by decide) ?_
    exact s_iret hX dX0_place_49
  · refine s_if_eq (tgt := 48) hX dX0_place_9 (by decide) ?_ ?_
    · exact s_sub [] rfl (hj48 ())
    · refine s_iload_n hX dX0_place_12 rfl 2 rfl ?_
      refine s_i2l hX dX0_place_13 ?_
      refine s_lconst (v := 0) hX dX0_place_14 (by decide) ?_
      refine s_ldc2 (v := 99) hX dX0_place_15 q1433 ?_
      refine s_callS_I (n := 3) (As := [.long p2.toInt64, .long 0, .long 99]) (st := []) hX (ct_X0_isIn X.l p2.toInt64 (0 : Int64) (99 : Int64)) q400 q401 q84 q402 ycX0_isIn (by decide) rfl (by first | decide | simp [rv_cat, cat_i, cat_l]) dX0_place_18 (fun v2 => ?_)
      refine s_if_eq (tgt := 48) hX dX0_place_21 (by decide) ?_ ?_
      · exact s_sub [] rfl (hj48 ())
      · refine s_iload_n hX dX0_place_24 rfl 3 rfl ?_
        refine s_i2l hX dX0_place_25 ?_
        refine s_lconst (v := 0) hX dX0_place_26 (by decide) ?_
        refine s_ldc2 (v := 99) hX dX0_place_27 q1433 ?_
        refine s_callS_I (n := 3) (As := [.long p3.toInt64, .long 0, .long 99]) (st := []) hX (ct_X0_isIn X.l p3.toInt64 (0 : Int64) (99 : Int64)) q400 q401 q84 q402 ycX0_isIn (by decide) rfl (by first | decide | simp [rv_cat, cat_i, cat_l]) dX0_place_30 (fun v3 => ?_)
        refine s_if_eq (tgt := 48) hX dX0_place_33 (by decide) ?_ ?_
        · exact s_sub [] rfl (hj48 ())
        · refine s_aload_n hX dX0_place_36 rfl 0 rfl ?_
          refine s_getR (ci := 0) (j := 39) (ref := "WindGas") hX (pcG 0) in_X0 (Or.inl q305) (by decide) (by decide) (by decide) rfl dX0_place_37 (fun _ h9 => h9) (fun v4 => ?_)
          refine s_callV_I (ci := 17) (n := 0) (As := []) (st := []) hX (pcK 18) (by decide) (pt_size X.l v4) q554 q417 q418 q88 q419 yvJ2_size (by decide) rfl (by first | decide | simp [rv_cat, cat_i, cat_l]) dX0_place_40 (fun v5 => ?_)
          refine s_bipush (v := 20) hX dX0_place_43 (by decide) ?_
          refine s_icmp_ne (tgt := 50) hX dX0_place_45 (by decide) ?_ ?_
          · refine s_aload_n hX dX0_place_50 rfl 0 rfl ?_
            refine s_getR (ci := 0) (j := 39) (ref := "WindGas") hX (pcG 0) in_X0 (Or.inl q305) (by decide) (by decide) (by decide) rfl dX0_place_51 (fun _ h9 => h9) (fun v6 => ?_)
            refine s_new (ci := 16) hX (pcN 16) in_X16 tyX16_ok (by decide) (by decide) q1434 q1435 q118 dX0_place_54 (fun v7 => ?_)
            refine s_dup hX dX0_place_57 (rv_cat _) ?_
            refine s_iload_n hX dX0_place_58 rfl 1 rfl ?_
            refine s_iload_n hX dX0_place_59 rfl 2 rfl ?_
            refine s_iload_n hX dX0_place_60 rfl 3 rfl ?_
            refine s_callIN_U (ci := 16) (n := 3) (As := [.int p1, .int p2, .int p3]) (st := [rv v7, rv v6]) hX (pcK 17) (by decide) (ct_X16_init X.l v7 p1 p2 p3) q1436 q1437 q118 q1438 rfl ycX16_init (by decide) rfl (by first | decide | simp [rv_cat, cat_i, cat_l]) dX0_place_61 (fun _ => ?_)
            refine s_callV_I (ci := 17) (n := 1) (As := [rv v7]) (st := []) hX (pcK 18) (by decide) (pt_add X.l v6 v7) q1000 q440 q441 q88 q442 yvJ2_add (by decide) rfl (by first | decide | simp [rv_cat, cat_i, cat_l]) dX0_place_64 (fun v8 => ?_)
            refine s_pop hX dX0_place_67 rfl ?_
            refine s_aload_n hX dX0_place_68 rfl 0 rfl ?_
            refine s_getR (ci := 0) (j := 39) (ref := "WindGas") hX (pcG 0) in_X0 (Or.inl q305) (by decide) (by decide) (by decide) rfl dX0_place_69 (fun _ h9 => h9) (fun v9 => ?_)
            refine s_callV_I (ci := 17) (n := 0) (As := []) (st := []) hX (pcK 18) (by decide) (pt_size X.l v9) q554 q417 q418 q88 q419 yvJ2_size (by decide) rfl (by first | decide | simp [rv_cat, cat_i, cat_l]) dX0_place_72 (fun v10 => ?_)
            refine s_iconst (v := 1) hX dX0_place_75 rfl ?_
            refine s_isub hX dX0_place_76 ?_
            exact s_iret hX dX0_place_77
          · exact s_sub [] rfl (hj48 ())
theorem dX16_kind_0 : decode cX16_kind 0 = .ok (.aload_n 0, 1) := by decide +kernel
theorem dX16_kind_1 : decode cX16_kind 1 = .ok (.getfield 7, 3) := by decide +kernel
theorem dX16_kind_4 : decode cX16_kind 4 = .ok (.ireturn, 1) := by decide +kernel
theorem ycX16_kind : yX16_kind.cls ≠ "java/lang/invoke/MethodHandle" ∧ yX16_kind.cls ≠ "java/lang/invoke/VarHandle" ∧ (parseMethodDescriptor yX16_kind.desc).map (fun d => d.parameters.length) = some 0 := by decide +kernel
theorem yvX16_kind : yX16_kind.cls = RR 16 ∧ yX16_kind.cls ≠ "java/lang/invoke/MethodHandle" ∧ yX16_kind.cls ≠ "java/lang/invoke/VarHandle" ∧ (parseMethodDescriptor yX16_kind.desc).map (fun d => d.parameters.length) = some 0 := ⟨rfl, ycX16_kind⟩
noncomputable def f_X16_kind (p0 : Nat) : Act Int32 :=
  bnd (getI 16 0 p0) fun v1 =>
  pur v1
set_option maxHeartbeats 4000000 in
theorem ct_X16_kind (l : Launch) (p0 : Nat) : Ct l Pic yX16_kind (ws_ yX16_kind cX16_kind 1 (some FieldType.int)) 0 0 cvI [rv p0] (f_X16_kind p0) := by
  refine Ct.of (own := RX16) (L := [(0, rv p0)]) (plainFor_of_name (by decide)) rfl (by first | decide | simp [lg_sl, rv_cat, cat_i, cat_l]) (by first | rfl | simp [lv_args, rv_cat, cat_i, cat_l]) pcZ (fun X hXl hX hnh hin => ?_)
  subst hXl
  unfold f_X16_kind
  refine s_aload_n hX dX16_kind_0 rfl 0 rfl ?_
  refine s_getI (ci := 16) (j := 0) (ref := "WindGas$Place") hX (pcG 16) in_X16 (Or.inl q1440) (by decide) (by decide) (by decide) rfl dX16_kind_1 (fun _ h9 => h9) (fun v1 => ?_)
  exact s_iret hX dX16_kind_4
theorem dX15_a_0 : decode cX15_a 0 = .ok (.aload_n 0, 1) := by decide +kernel
theorem dX15_a_1 : decode cX15_a 1 = .ok (.getfield 13, 3) := by decide +kernel
theorem dX15_a_4 : decode cX15_a 4 = .ok (.ireturn, 1) := by decide +kernel
theorem ycX15_a : yX15_a.cls ≠ "java/lang/invoke/MethodHandle" ∧ yX15_a.cls ≠ "java/lang/invoke/VarHandle" ∧ (parseMethodDescriptor yX15_a.desc).map (fun d => d.parameters.length) = some 0 := by decide +kernel
theorem yvX15_a : yX15_a.cls = RR 15 ∧ yX15_a.cls ≠ "java/lang/invoke/MethodHandle" ∧ yX15_a.cls ≠ "java/lang/invoke/VarHandle" ∧ (parseMethodDescriptor yX15_a.desc).map (fun d => d.parameters.length) = some 0 := ⟨rfl, ycX15_a⟩
noncomputable def f_X15_a (p0 : Nat) : Act Int32 :=
  bnd (getI 15 1 p0) fun v1 =>
  pur v1
set_option maxHeartbeats 4000000 in
theorem ct_X15_a (l : Launch) (p0 : Nat) : Ct l Pic yX15_a (ws_ yX15_a cX15_a 1 (some FieldType.int)) 0 0 cvI [rv p0] (f_X15_a p0) := by
  refine Ct.of (own := RX15) (L := [(0, rv p0)]) (plainFor_of_name (by decide)) rfl (by first | decide | simp [lg_sl, rv_cat, cat_i, cat_l]) (by first | rfl | simp [lv_args, rv_cat, cat_i, cat_l]) pcZ (fun X hXl hX hnh hin => ?_)
  subst hXl
  unfold f_X15_a
  refine s_aload_n hX dX15_a_0 rfl 0 rfl ?_
  refine s_getI (ci := 15) (j := 1) (ref := "WindGas$Apart") hX (pcG 15) in_X15 (Or.inl q1018) (by decide) (by decide) (by decide) rfl dX15_a_1 (fun _ h9 => h9) (fun v1 => ?_)
  exact s_iret hX dX15_a_4
theorem dX15_b_0 : decode cX15_b 0 = .ok (.aload_n 0, 1) := by decide +kernel
theorem dX15_b_1 : decode cX15_b 1 = .ok (.getfield 16, 3) := by decide +kernel
theorem dX15_b_4 : decode cX15_b 4 = .ok (.ireturn, 1) := by decide +kernel
theorem ycX15_b : yX15_b.cls ≠ "java/lang/invoke/MethodHandle" ∧ yX15_b.cls ≠ "java/lang/invoke/VarHandle" ∧ (parseMethodDescriptor yX15_b.desc).map (fun d => d.parameters.length) = some 0 := by decide +kernel
theorem yvX15_b : yX15_b.cls = RR 15 ∧ yX15_b.cls ≠ "java/lang/invoke/MethodHandle" ∧ yX15_b.cls ≠ "java/lang/invoke/VarHandle" ∧ (parseMethodDescriptor yX15_b.desc).map (fun d => d.parameters.length) = some 0 := ⟨rfl, ycX15_b⟩
noncomputable def f_X15_b (p0 : Nat) : Act Int32 :=
  bnd (getI 15 2 p0) fun v1 =>
  pur v1
set_option maxHeartbeats 4000000 in
theorem ct_X15_b (l : Launch) (p0 : Nat) : Ct l Pic yX15_b (ws_ yX15_b cX15_b 1 (some FieldType.int)) 0 0 cvI [rv p0] (f_X15_b p0) := by
  refine Ct.of (own := RX15) (L := [(0, rv p0)]) (plainFor_of_name (by decide)) rfl (by first | decide | simp [lg_sl, rv_cat, cat_i, cat_l]) (by first | rfl | simp [lv_args, rv_cat, cat_i, cat_l]) pcZ (fun X hXl hX hnh hin => ?_)
  subst hXl
  unfold f_X15_b
  refine s_aload_n hX dX15_b_0 rfl 0 rfl ?_
  refine s_getI (ci := 15) (j := 2) (ref := "WindGas$Apart") hX (pcG 15) in_X15 (Or.inl q1019) (by decide) (by decide) (by decide) rfl dX15_b_1 (fun _ h9 => h9) (fun v1 => ?_)
  exact s_iret hX dX15_b_4
theorem dX0_isPair_0 : decode cX0_isPair 0 = .ok (.aload_n 1, 1) := by decide +kernel
theorem dX0_isPair_1 : decode cX0_isPair 1 = .ok (.invokevirtual 609, 3) := by decide +kernel
theorem dX0_isPair_4 : decode cX0_isPair 4 = .ok (.aload_n 0, 1) := by decide +kernel
theorem dX0_isPair_5 : decode cX0_isPair 5 = .ok (.invokevirtual 610, 3) := by decide +kernel
theorem dX0_isPair_8 : decode cX0_isPair 8 = .ok (.if_icmp .ne 14, 3) := by decide +kernel
theorem dX0_isPair_11 : decode cX0_isPair 11 = .ok (.aload_n 2, 1) := by decide +kernel
theorem dX0_isPair_12 : decode cX0_isPair 12 = .ok (.invokevirtual 609, 3) := by decide +kernel
theorem dX0_isPair_15 : decode cX0_isPair 15 = .ok (.aload_n 0, 1) := by decide +kernel
theorem dX0_isPair_16 : decode cX0_isPair 16 = .ok (.invokevirtual 613, 3) := by decide +kernel
theorem dX0_isPair_19 : decode cX0_isPair 19 = .ok (.if_icmp .eq 25, 3) := by decide +kernel
theorem dX0_isPair_22 : decode cX0_isPair 22 = .ok (.aload_n 1, 1) := by decide +kernel
theorem dX0_isPair_23 : decode cX0_isPair 23 = .ok (.invokevirtual 609, 3) := by decide +kernel
theorem dX0_isPair_26 : decode cX0_isPair 26 = .ok (.aload_n 0, 1) := by decide +kernel
theorem dX0_isPair_27 : decode cX0_isPair 27 = .ok (.invokevirtual 613, 3) := by decide +kernel
theorem dX0_isPair_30 : decode cX0_isPair 30 = .ok (.if_icmp .ne 18, 3) := by decide +kernel
theorem dX0_isPair_33 : decode cX0_isPair 33 = .ok (.aload_n 2, 1) := by decide +kernel
theorem dX0_isPair_34 : decode cX0_isPair 34 = .ok (.invokevirtual 609, 3) := by decide +kernel
theorem dX0_isPair_37 : decode cX0_isPair 37 = .ok (.aload_n 0, 1) := by decide +kernel
theorem dX0_isPair_38 : decode cX0_isPair 38 = .ok (.invokevirtual 610, 3) := by decide +kernel
theorem dX0_isPair_41 : decode cX0_isPair 41 = .ok (.if_icmp .ne 7, 3) := by decide +kernel
theorem dX0_isPair_44 : decode cX0_isPair 44 = .ok (.iconst 1, 1) := by decide +kernel
theorem dX0_isPair_45 : decode cX0_isPair 45 = .ok (.goto 4, 3) := by decide +kernel
theorem dX0_isPair_48 : decode cX0_isPair 48 = .ok (.iconst 0, 1) := by decide +kernel
theorem dX0_isPair_49 : decode cX0_isPair 49 = .ok (.ireturn, 1) := by decide +kernel
theorem ycX0_isPair : yX0_isPair.cls ≠ "java/lang/invoke/MethodHandle" ∧ yX0_isPair.cls ≠ "java/lang/invoke/VarHandle" ∧ (parseMethodDescriptor yX0_isPair.desc).map (fun d => d.parameters.length) = some 3 := by decide +kernel
noncomputable def f_X0_isPair (p0 : Nat) (p1 : Nat) (p2 : Nat) : Act Int32 :=
  bnd (gd 16 p1 (nt (f_X16_kind p1))) fun v1 =>
  bnd (gd 15 p0 (nt (f_X15_a p0))) fun v2 =>
  jn (fun (v3 : Int32) =>
    purS (ty := .boolean) v3) fun j49 =>
  jn (fun (_ : Unit) =>
    j49 1) fun j44 =>
  jn (fun (_ : Unit) =>
    bnd (gd 16 p1 (nt (f_X16_kind p1))) fun v4 =>
    bnd (gd 15 p0 (nt (f_X15_b p0))) fun v5 =>
    jn (fun (_ : Unit) =>
      j49 0) fun j48 =>
    if ¬ v4 = v5 then
      j48 ()
    else
      bnd (gd 16 p2 (nt (f_X16_kind p2))) fun v6 =>
      bnd (gd 15 p0 (nt (f_X15_a p0))) fun v7 =>
      if ¬ v6 = v7 then
        j48 ()
      else
        j44 ()) fun j22 =>
  if ¬ v1 = v2 then
    j22 ()
  else
    bnd (gd 16 p2 (nt (f_X16_kind p2))) fun v8 =>
    bnd (gd 15 p0 (nt (f_X15_b p0))) fun v9 =>
    if v8 = v9 then
      j44 ()
    else
      j22 ()
set_option maxHeartbeats 4000000 in
theorem ct_X0_isPair (l : Launch) (p0 : Nat) (p1 : Nat) (p2 : Nat) : Ct l Pic yX0_isPair (ws_ yX0_isPair cX0_isPair 3 (some FieldType.boolean)) 1 20 cvI [rv p0, rv p1, rv p2] (f_X0_isPair p0 p1 p2) := by
  refine Ct.of (own := RX0) (L := [(0, rv p0), (1, rv p1), (2, rv p2)]) (plainFor_of_name (by decide)) rfl (by first | decide | simp [lg_sl, rv_cat, cat_i, cat_l]) (by first | rfl | simp [lv_args, rv_cat, cat_i, cat_l]) pcZ (fun X hXl hX hnh hin => ?_)
  subst hXl
  unfold f_X0_isPair
  refine s_aload_n hX dX0_isPair_0 rfl 1 rfl ?_
  refine s_callV_I (ci := 16) (n := 0) (As := []) (st := []) hX (pcK 17) (by decide) (ct_X16_kind X.l p1) q1457 q1458 q1459 q118 q1460 yvX16_kind (by decide) rfl (by first | decide | simp [rv_cat, cat_i, cat_l]) dX0_isPair_1 (fun v1 => ?_)
  refine s_aload_n hX dX0_isPair_4 rfl 0 rfl ?_
  refine s_callV_I (ci := 15) (n := 0) (As := []) (st := [.int v1]) hX (pcK 16) (by decide) (ct_X15_a X.l p0) q1461 q1462 q1463 q117 q1464 yvX15_a (by decide) rfl (by first | decide | simp [rv_cat, cat_i, cat_l]) dX0_isPair_5 (fun v2 => ?_)
  refine s_jn (P := fun j => ∀ (v3 : Int32), Sim X cvI 49 [] [.int v3] (j v3)) ?_ (fun j49 hj49 => ?_)
  · intro v3
    exact s_zret hX dX0_isPair_49
  · refine s_jn (P := fun j => ∀ (u : Unit), Sim X cvI 44 [] [] (j u)) ?_ (fun j44 hj44 => ?_)
    · intro u
      refine s_iconst (v := 1) hX dX0_isPair_44 rfl ?_
      refine s_goto (tgt := 49) hX dX0_isPair_45 (by decide) ?_
      exact hj49 1
    · refine s_jn (P := fun j => ∀ (u : Unit), Sim X cvI 22 [(0, rv p0), (1, rv p1), (2, rv p2)] [] (j u)) ?_ (fun j22 hj22 => ?_)
      · intro u
        refine s_aload_n hX dX0_isPair_22 rfl 1 rfl ?_
        refine s_callV_I (ci := 16) (n := 0) (As := []) (st := []) hX (pcK 17) (by decide) (ct_X16_kind X.l p1) q1457 q1458 q1459 q118 q1460 yvX16_kind (by decide) rfl (by first | decide | simp [rv_cat, cat_i, cat_l]) dX0_isPair_23 (fun v4 => ?_)
        refine s_aload_n hX dX0_isPair_26 rfl 0 rfl ?_
        refine s_callV_I (ci := 15) (n := 0) (As := []) (st := [.int v4]) hX (pcK 16) (by decide) (ct_X15_b X.l p0) q1465 q1466 q1467 q117 q1468 yvX15_b (by decide) rfl (by first | decide | simp [rv_cat, cat_i, cat_l]) dX0_isPair_27 (fun v5 => ?_)
        refine s_jn (P := fun j => ∀ (u : Unit), Sim X cvI 48 [] [] (j u)) ?_ (fun j48 hj48 => ?_)
        · intro u
          refine s_iconst (v := 0) hX dX0_isPair_48 rfl ?_
          exact hj49 0
        · refine s_icmp_ne (tgt := 48) hX dX0_isPair_30 (by decide) ?_ ?_
          · exact s_sub [] rfl (hj48 ())
          · refine s_aload_n hX dX0_isPair_33 rfl 2 rfl ?_
            refine s_callV_I (ci := 16) (n := 0) (As := []) (st := []) hX (pcK 17) (by decide) (ct_X16_kind X.l p2) q1457 q1458 q1459 q118 q1460 yvX16_kind (by decide) rfl (by first | decide | simp [rv_cat, cat_i, cat_l]) dX0_isPair_34 (fun v6 => ?_)
            refine s_aload_n hX dX0_isPair_37 rfl 0 rfl ?_
            refine s_callV_I (ci := 15) (n := 0) (As := []) (st := [.int v6]) hX (pcK 16) (by decide) (ct_X15_a X.l p0) q1461 q1462 q1463 q117 q1464 yvX15_a (by decide) rfl (by first | decide | simp [rv_cat, cat_i, cat_l]) dX0_isPair_38 (fun v7 => ?_)
            refine s_icmp_ne (tgt := 48) hX dX0_isPair_41 (by decide) ?_ ?_
            · exact s_sub [] rfl (hj48 ())
            · exact s_sub [] rfl (hj44 ())
      · refine s_icmp_ne (tgt := 22) hX dX0_isPair_8 (by decide) ?_ ?_
        · exact hj22 ()
        · refine s_aload_n hX dX0_isPair_11 rfl 2 rfl ?_
          refine s_callV_I (ci := 16) (n := 0) (As := []) (st := []) hX (pcK 17) (by decide) (ct_X16_kind X.l p2) q1457 q1458 q1459 q118 q1460 yvX16_kind (by decide) rfl (by first | decide | simp [rv_cat, cat_i, cat_l]) dX0_isPair_12 (fun v8 => ?_)
          refine s_aload_n hX dX0_isPair_15 rfl 0 rfl ?_
          refine s_callV_I (ci := 15) (n := 0) (As := []) (st := [.int v8]) hX (pcK 16) (by decide) (ct_X15_b X.l p0) q1465 q1466 q1467 q117 q1468 yvX15_b (by decide) rfl (by first | decide | simp [rv_cat, cat_i, cat_l]) dX0_isPair_16 (fun v9 => ?_)
          refine s_icmp_eq (tgt := 44) hX dX0_isPair_19 (by decide) ?_ ?_
          · exact s_sub [] rfl (hj44 ())
          · exact hj22 ()
theorem dX16_far_0 : decode cX16_far 0 = .ok (.aload_n 0, 1) := by decide +kernel
theorem dX16_far_1 : decode cX16_far 1 = .ok (.getfield 13, 3) := by decide +kernel
theorem dX16_far_4 : decode cX16_far 4 = .ok (.aload_n 1, 1) := by decide +kernel
theorem dX16_far_5 : decode cX16_far 5 = .ok (.getfield 13, 3) := by decide +kernel
theorem dX16_far_8 : decode cX16_far 8 = .ok (.isub, 1) := by decide +kernel
theorem dX16_far_9 : decode cX16_far 9 = .ok (.invokestatic 19, 3) := by decide +kernel
theorem dX16_far_12 : decode cX16_far 12 = .ok (.aload_n 0, 1) := by decide +kernel
theorem dX16_far_13 : decode cX16_far 13 = .ok (.getfield 16, 3) := by decide +kernel
theorem dX16_far_16 : decode cX16_far 16 = .ok (.aload_n 1, 1) := by decide +kernel
theorem dX16_far_17 : decode cX16_far 17 = .ok (.getfield 16, 3) := by decide +kernel
theorem dX16_far_20 : decode cX16_far 20 = .ok (.isub, 1) := by decide +kernel
theorem dX16_far_21 : decode cX16_far 21 = .ok (.invokestatic 19, 3) := by decide +kernel
theorem dX16_far_24 : decode cX16_far 24 = .ok (.invokestatic 25, 3) := by decide +kernel
theorem dX16_far_27 : decode cX16_far 27 = .ok (.ireturn, 1) := by decide +kernel
theorem ycX16_far : yX16_far.cls ≠ "java/lang/invoke/MethodHandle" ∧ yX16_far.cls ≠ "java/lang/invoke/VarHandle" ∧ (parseMethodDescriptor yX16_far.desc).map (fun d => d.parameters.length) = some 1 := by decide +kernel
theorem yvX16_far : yX16_far.cls = RR 16 ∧ yX16_far.cls ≠ "java/lang/invoke/MethodHandle" ∧ yX16_far.cls ≠ "java/lang/invoke/VarHandle" ∧ (parseMethodDescriptor yX16_far.desc).map (fun d => d.parameters.length) = some 1 := ⟨rfl, ycX16_far⟩
noncomputable def f_X16_far (p0 : Nat) (p1 : Nat) : Act Int32 :=
  bnd (getI 16 1 p0) fun v1 =>
  bnd (getI 16 1 p1) fun v2 =>
  bnd (getI 16 2 p0) fun v3 =>
  bnd (getI 16 2 p1) fun v4 =>
  pur (mx (ab (v1 - v2)) (ab (v3 - v4)))
set_option maxHeartbeats 4000000 in
theorem ct_X16_far (l : Launch) (p0 : Nat) (p1 : Nat) : Ct l Pic yX16_far (ws_ yX16_far cX16_far 2 (some FieldType.int)) 1 24 cvI [rv p0, rv p1] (f_X16_far p0 p1) := by
  refine Ct.of (own := RX16) (L := [(0, rv p0), (1, rv p1)]) (plainFor_of_name (by decide)) rfl (by first | decide | simp [lg_sl, rv_cat, cat_i, cat_l]) (by first | rfl | simp [lv_args, rv_cat, cat_i, cat_l]) pcZ (fun X hXl hX hnh hin => ?_)
  subst hXl
  unfold f_X16_far
  refine s_aload_n hX dX16_far_0 rfl 0 rfl ?_
  refine s_getI (ci := 16) (j := 1) (ref := "WindGas$Place") hX (pcG 16) in_X16 (Or.inl q1441) (by decide) (by decide) (by decide) rfl dX16_far_1 (fun _ h9 => h9) (fun v1 => ?_)
  refine s_aload_n hX dX16_far_4 rfl 1 rfl ?_
  refine s_getI (ci := 16) (j := 1) (ref := "WindGas$Place") hX (pcG 16) in_X16 (Or.inl q1441) (by decide) (by decide) (by decide) rfl dX16_far_5 (fun _ h9 => h9) (fun v2 => ?_)
  refine s_isub hX dX16_far_8 ?_
  refine s_mabs hX q1473 q1474 q95 q1475 rfl (by omega) (by first | decide | (simp [rv_cat, cat_i, cat_l]; try omega)) dX16_far_9 ?_
  refine s_aload_n hX dX16_far_12 rfl 0 rfl ?_
  refine s_getI (ci := 16) (j := 2) (ref := "WindGas$Place") hX (pcG 16) in_X16 (Or.inl q1442) (by decide) (by decide) (by decide) rfl dX16_far_13 (fun _ h9 => h9) (fun v3 => ?_)
  refine s_aload_n hX dX16_far_16 rfl 1 rfl ?_
  refine s_getI (ci := 16) (j := 2) (ref := "WindGas$Place") hX (pcG 16) in_X16 (Or.inl q1442) (by decide) (by decide) (by decide) rfl dX16_far_17 (fun _ h9 => h9) (fun v4 => ?_)
  refine s_isub hX dX16_far_20 ?_
  refine s_mabs hX q1473 q1474 q95 q1475 rfl (by omega) (by first | decide | (simp [rv_cat, cat_i, cat_l]; try omega)) dX16_far_21 ?_
  refine s_mmax hX q1476 q459 q95 q460 rfl (by omega) (by first | decide | (simp [rv_cat, cat_i, cat_l]; try omega)) dX16_far_24 ?_
  exact s_iret hX dX16_far_27
theorem dX15_least_0 : decode cX15_least 0 = .ok (.aload_n 0, 1) := by decide +kernel
theorem dX15_least_1 : decode cX15_least 1 = .ok (.getfield 19, 3) := by decide +kernel
theorem dX15_least_4 : decode cX15_least 4 = .ok (.ireturn, 1) := by decide +kernel
theorem ycX15_least : yX15_least.cls ≠ "java/lang/invoke/MethodHandle" ∧ yX15_least.cls ≠ "java/lang/invoke/VarHandle" ∧ (parseMethodDescriptor yX15_least.desc).map (fun d => d.parameters.length) = some 0 := by decide +kernel
theorem yvX15_least : yX15_least.cls = RR 15 ∧ yX15_least.cls ≠ "java/lang/invoke/MethodHandle" ∧ yX15_least.cls ≠ "java/lang/invoke/VarHandle" ∧ (parseMethodDescriptor yX15_least.desc).map (fun d => d.parameters.length) = some 0 := ⟨rfl, ycX15_least⟩
noncomputable def f_X15_least (p0 : Nat) : Act Int32 :=
  bnd (getI 15 3 p0) fun v1 =>
  pur v1
set_option maxHeartbeats 4000000 in
theorem ct_X15_least (l : Launch) (p0 : Nat) : Ct l Pic yX15_least (ws_ yX15_least cX15_least 1 (some FieldType.int)) 0 0 cvI [rv p0] (f_X15_least p0) := by
  refine Ct.of (own := RX15) (L := [(0, rv p0)]) (plainFor_of_name (by decide)) rfl (by first | decide | simp [lg_sl, rv_cat, cat_i, cat_l]) (by first | rfl | simp [lv_args, rv_cat, cat_i, cat_l]) pcZ (fun X hXl hX hnh hin => ?_)
  subst hXl
  unfold f_X15_least
  refine s_aload_n hX dX15_least_0 rfl 0 rfl ?_
  refine s_getI (ci := 15) (j := 3) (ref := "WindGas$Apart") hX (pcG 15) in_X15 (Or.inl q1020) (by decide) (by decide) (by decide) rfl dX15_least_1 (fun _ h9 => h9) (fun v1 => ?_)
  exact s_iret hX dX15_least_4
theorem dX15_statement_0 : decode cX15_statement 0 = .ok (.aload_n 0, 1) := by decide +kernel
theorem dX15_statement_1 : decode cX15_statement 1 = .ok (.getfield 7, 3) := by decide +kernel
theorem dX15_statement_4 : decode cX15_statement 4 = .ok (.ireturn, 1) := by decide +kernel
theorem ycX15_statement : yX15_statement.cls ≠ "java/lang/invoke/MethodHandle" ∧ yX15_statement.cls ≠ "java/lang/invoke/VarHandle" ∧ (parseMethodDescriptor yX15_statement.desc).map (fun d => d.parameters.length) = some 0 := by decide +kernel
theorem yvX15_statement : yX15_statement.cls = RR 15 ∧ yX15_statement.cls ≠ "java/lang/invoke/MethodHandle" ∧ yX15_statement.cls ≠ "java/lang/invoke/VarHandle" ∧ (parseMethodDescriptor yX15_statement.desc).map (fun d => d.parameters.length) = some 0 := ⟨rfl, ycX15_statement⟩
noncomputable def f_X15_statement (p0 : Nat) : Act Int32 :=
  bnd (getI 15 0 p0) fun v1 =>
  pur v1
set_option maxHeartbeats 4000000 in
theorem ct_X15_statement (l : Launch) (p0 : Nat) : Ct l Pic yX15_statement (ws_ yX15_statement cX15_statement 1 (some FieldType.int)) 0 0 cvI [rv p0] (f_X15_statement p0) := by
  refine Ct.of (own := RX15) (L := [(0, rv p0)]) (plainFor_of_name (by decide)) rfl (by first | decide | simp [lg_sl, rv_cat, cat_i, cat_l]) (by first | rfl | simp [lv_args, rv_cat, cat_i, cat_l]) pcZ (fun X hXl hX hnh hin => ?_)
  subst hXl
  unfold f_X15_statement
  refine s_aload_n hX dX15_statement_0 rfl 0 rfl ?_
  refine s_getI (ci := 15) (j := 0) (ref := "WindGas$Apart") hX (pcG 15) in_X15 (Or.inl q1017) (by decide) (by decide) (by decide) rfl dX15_statement_1 (fun _ h9 => h9) (fun v1 => ?_)
  exact s_iret hX dX15_statement_4
theorem dX0_apart_0 : decode cX0_apart 0 = .ok (.iload_n 1, 1) := by decide +kernel
theorem dX0_apart_1 : decode cX0_apart 1 = .ok (.i2l, 1) := by decide +kernel
theorem dX0_apart_2 : decode cX0_apart 2 = .ok (.lconst 0, 1) := by decide +kernel
theorem dX0_apart_3 : decode cX0_apart 3 = .ok (.ldc2_w 105, 3) := by decide +kernel
theorem dX0_apart_6 : decode cX0_apart 6 = .ok (.invokestatic 101, 3) := by decide +kernel
theorem dX0_apart_9 : decode cX0_apart 9 = .ok (.ifCond .ne 5, 3) := by decide +kernel
theorem dX0_apart_12 : decode cX0_apart 12 = .ok (.iconst (-1), 1) := by decide +kernel
theorem dX0_apart_13 : decode cX0_apart 13 = .ok (.ireturn, 1) := by decide +kernel
theorem dX0_apart_14 : decode cX0_apart 14 = .ok (.aload_n 0, 1) := by decide +kernel
theorem dX0_apart_15 : decode cX0_apart 15 = .ok (.aload_n 0, 1) := by decide +kernel
theorem dX0_apart_16 : decode cX0_apart 16 = .ok (.getfield 351, 3) := by decide +kernel
theorem dX0_apart_19 : decode cX0_apart 19 = .ok (.invokevirtual 138, 3) := by decide +kernel
theorem dX0_apart_22 : decode cX0_apart 22 = .ok (.astore_n 2, 1) := by decide +kernel
theorem dX0_apart_23 : decode cX0_apart 23 = .ok (.iconst 0, 1) := by decide +kernel
theorem dX0_apart_24 : decode cX0_apart 24 = .ok (.istore_n 3, 1) := by decide +kernel
theorem dX0_apart_25 : decode cX0_apart 25 = .ok (.iload_n 3, 1) := by decide +kernel
theorem dX0_apart_26 : decode cX0_apart 26 = .ok (.aload_n 2, 1) := by decide +kernel
theorem dX0_apart_27 : decode cX0_apart 27 = .ok (.getfield 343, 3) := by decide +kernel
theorem dX0_apart_30 : decode cX0_apart 30 = .ok (.invokevirtual 124, 3) := by decide +kernel
theorem dX0_apart_33 : decode cX0_apart 33 = .ok (.if_icmp .ge 162, 3) := by decide +kernel
theorem dX0_apart_36 : decode cX0_apart 36 = .ok (.aload_n 2, 1) := by decide +kernel
theorem dX0_apart_37 : decode cX0_apart 37 = .ok (.getfield 343, 3) := by decide +kernel
theorem dX0_apart_40 : decode cX0_apart 40 = .ok (.iload_n 3, 1) := by decide +kernel
theorem dX0_apart_41 : decode cX0_apart 41 = .ok (.invokevirtual 128, 3) := by decide +kernel
theorem dX0_apart_44 : decode cX0_apart 44 = .ok (.checkcast 346, 3) := by decide +kernel
theorem dX0_apart_47 : decode cX0_apart 47 = .ok (.astore 4, 2) := by decide +kernel
theorem dX0_apart_49 : decode cX0_apart 49 = .ok (.iconst 0, 1) := by decide +kernel
theorem dX0_apart_50 : decode cX0_apart 50 = .ok (.istore 5, 2) := by decide +kernel
theorem dX0_apart_52 : decode cX0_apart 52 = .ok (.iload 5, 2) := by decide +kernel
theorem dX0_apart_54 : decode cX0_apart 54 = .ok (.aload_n 0, 1) := by decide +kernel
theorem dX0_apart_55 : decode cX0_apart 55 = .ok (.getfield 90, 3) := by decide +kernel
theorem dX0_apart_58 : decode cX0_apart 58 = .ok (.invokevirtual 124, 3) := by decide +kernel
theorem dX0_apart_61 : decode cX0_apart 61 = .ok (.if_icmp .ge 128, 3) := by decide +kernel
theorem dX0_apart_64 : decode cX0_apart 64 = .ok (.iload 5, 2) := by decide +kernel
theorem dX0_apart_66 : decode cX0_apart 66 = .ok (.iconst 1, 1) := by decide +kernel
theorem dX0_apart_67 : decode cX0_apart 67 = .ok (.iadd, 1) := by decide +kernel
theorem dX0_apart_68 : decode cX0_apart 68 = .ok (.istore 6, 2) := by decide +kernel
theorem dX0_apart_70 : decode cX0_apart 70 = .ok (.iload 6, 2) := by decide +kernel
theorem dX0_apart_72 : decode cX0_apart 72 = .ok (.aload_n 0, 1) := by decide +kernel
theorem dX0_apart_73 : decode cX0_apart 73 = .ok (.getfield 90, 3) := by decide +kernel
theorem dX0_apart_76 : decode cX0_apart 76 = .ok (.invokevirtual 124, 3) := by decide +kernel
theorem dX0_apart_79 : decode cX0_apart 79 = .ok (.if_icmp .ge 104, 3) := by decide +kernel
theorem dX0_apart_82 : decode cX0_apart 82 = .ok (.aload 4, 2) := by decide +kernel
theorem dX0_apart_84 : decode cX0_apart 84 = .ok (.aload_n 0, 1) := by decide +kernel
theorem dX0_apart_85 : decode cX0_apart 85 = .ok (.getfield 90, 3) := by decide +kernel
theorem dX0_apart_88 : decode cX0_apart 88 = .ok (.iload 5, 2) := by decide +kernel
theorem dX0_apart_90 : decode cX0_apart 90 = .ok (.invokevirtual 128, 3) := by decide +kernel
theorem dX0_apart_93 : decode cX0_apart 93 = .ok (.checkcast 606, 3) := by decide +kernel
theorem dX0_apart_96 : decode cX0_apart 96 = .ok (.aload_n 0, 1) := by decide +kernel
theorem dX0_apart_97 : decode cX0_apart 97 = .ok (.getfield 90, 3) := by decide +kernel
theorem dX0_apart_100 : decode cX0_apart 100 = .ok (.iload 6, 2) := by decide +kernel
theorem dX0_apart_102 : decode cX0_apart 102 = .ok (.invokevirtual 128, 3) := by decide +kernel
theorem dX0_apart_105 : decode cX0_apart 105 = .ok (.checkcast 606, 3) := by decide +kernel
theorem dX0_apart_108 : decode cX0_apart 108 = .ok (.invokestatic 616, 3) := by decide +kernel
theorem dX0_apart_111 : decode cX0_apart 111 = .ok (.ifCond .eq 66, 3) := by decide +kernel
theorem dX0_apart_114 : decode cX0_apart 114 = .ok (.aload_n 0, 1) := by decide +kernel
theorem dX0_apart_115 : decode cX0_apart 115 = .ok (.getfield 90, 3) := by decide +kernel
theorem dX0_apart_118 : decode cX0_apart 118 = .ok (.iload 5, 2) := by decide +kernel
theorem dX0_apart_120 : decode cX0_apart 120 = .ok (.invokevirtual 128, 3) := by decide +kernel
theorem dX0_apart_123 : decode cX0_apart 123 = .ok (.checkcast 606, 3) := by decide +kernel
theorem dX0_apart_126 : decode cX0_apart 126 = .ok (.aload_n 0, 1) := by decide +kernel
theorem dX0_apart_127 : decode cX0_apart 127 = .ok (.getfield 90, 3) := by decide +kernel
theorem dX0_apart_130 : decode cX0_apart 130 = .ok (.iload 6, 2) := by decide +kernel
theorem dX0_apart_132 : decode cX0_apart 132 = .ok (.invokevirtual 128, 3) := by decide +kernel
theorem dX0_apart_135 : decode cX0_apart 135 = .ok (.checkcast 606, 3) := by decide +kernel
theorem dX0_apart_138 : decode cX0_apart 138 = .ok (.invokevirtual 620, 3) := by decide +kernel
theorem dX0_apart_141 : decode cX0_apart 141 = .ok (.aload 4, 2) := by decide +kernel
theorem dX0_apart_143 : decode cX0_apart 143 = .ok (.invokevirtual 624, 3) := by decide +kernel
theorem dX0_apart_146 : decode cX0_apart 146 = .ok (.if_icmp .lt 6, 3) := by decide +kernel
theorem dX0_apart_149 : decode cX0_apart 149 = .ok (.goto 28, 3) := by decide +kernel
theorem dX0_apart_152 : decode cX0_apart 152 = .ok (.iload_n 1, 1) := by decide +kernel
theorem dX0_apart_153 : decode cX0_apart 153 = .ok (.ifCond .ne 11, 3) := by decide +kernel
theorem dX0_apart_156 : decode cX0_apart 156 = .ok (.aload 4, 2) := by decide +kernel
theorem dX0_apart_158 : decode cX0_apart 158 = .ok (.invokevirtual 626, 3) := by decide +kernel
theorem dX0_apart_161 : decode cX0_apart 161 = .ok (.goto 15, 3) := by decide +kernel
theorem dX0_apart_164 : decode cX0_apart 164 = .ok (.iload_n 1, 1) := by decide +kernel
theorem dX0_apart_165 : decode cX0_apart 165 = .ok (.iconst 1, 1) := by decide +kernel
theorem dX0_apart_166 : decode cX0_apart 166 = .ok (.if_icmp .ne 8, 3) := by decide +kernel
theorem dX0_apart_169 : decode cX0_apart 169 = .ok (.iload 5, 2) := by decide +kernel
theorem dX0_apart_171 : decode cX0_apart 171 = .ok (.goto 5, 3) := by decide +kernel
theorem dX0_apart_174 : decode cX0_apart 174 = .ok (.iload 6, 2) := by decide +kernel
theorem dX0_apart_176 : decode cX0_apart 176 = .ok (.ireturn, 1) := by decide +kernel
theorem dX0_apart_177 : decode cX0_apart 177 = .ok (.iinc 6 1, 3) := by decide +kernel
theorem dX0_apart_180 : decode cX0_apart 180 = .ok (.goto (-110), 3) := by decide +kernel
theorem dX0_apart_183 : decode cX0_apart 183 = .ok (.iinc 5 1, 3) := by decide +kernel
theorem dX0_apart_186 : decode cX0_apart 186 = .ok (.goto (-134), 3) := by decide +kernel
theorem dX0_apart_189 : decode cX0_apart 189 = .ok (.iinc 3 1, 3) := by decide +kernel
theorem dX0_apart_192 : decode cX0_apart 192 = .ok (.goto (-167), 3) := by decide +kernel
theorem dX0_apart_195 : decode cX0_apart 195 = .ok (.iconst (-1), 1) := by decide +kernel
theorem dX0_apart_196 : decode cX0_apart 196 = .ok (.ireturn, 1) := by decide +kernel
theorem ycX0_apart : yX0_apart.cls ≠ "java/lang/invoke/MethodHandle" ∧ yX0_apart.cls ≠ "java/lang/invoke/VarHandle" ∧ (parseMethodDescriptor yX0_apart.desc).map (fun d => d.parameters.length) = some 1 := by decide +kernel
theorem yvX0_apart : yX0_apart.cls = RR 0 ∧ yX0_apart.cls ≠ "java/lang/invoke/MethodHandle" ∧ yX0_apart.cls ≠ "java/lang/invoke/VarHandle" ∧ (parseMethodDescriptor yX0_apart.desc).map (fun d => d.parameters.length) = some 1 := ⟨rfl, ycX0_apart⟩
noncomputable def lp_X0_apart_70 (p0 : Nat) (p1 : Int32) (v3 : Nat) (w4 : Int32) (v13 : Nat) (w14 : Int32) (j152 : Int32 → Act Int32) (j183 : Unit → Act Int32) (q : Nat) : Int32 → Act Int32 := match q with
  | 0 => fun _ => fail
  | q + 1 => fun w21 =>
    bnd (getR 0 39 p0) fun v25 =>
    bnd (gd 17 v25 (nt (P_size v25))) fun v26 =>
    if v26 ≤ w21 then
      j183 ()
    else
      bnd (getR 0 39 p0) fun v27 =>
      bnd (gd 17 v27 (nt (P_get v27 w14))) fun v28 =>
      bnd (cst [17] v28) fun _ =>
      bnd (getR 0 39 p0) fun v29 =>
      bnd (gd 17 v29 (nt (P_get v29 w21))) fun v30 =>
      bnd (cst [17] v30) fun _ =>
      bnd (nt (f_X0_isPair v13 v28 v30)) fun v31 =>
      jn (fun (_ : Unit) =>
        (lp_X0_apart_70 p0 p1 v3 w4 v13 w14 j152 j183 q) (w21 + 1)) fun j177 =>
      if v31 = 0 then
        j177 ()
      else
        bnd (getR 0 39 p0) fun v32 =>
        bnd (gd 17 v32 (nt (P_get v32 w14))) fun v33 =>
        bnd (cst [17] v33) fun _ =>
        bnd (getR 0 39 p0) fun v34 =>
        bnd (gd 17 v34 (nt (P_get v34 w21))) fun v35 =>
        bnd (cst [17] v35) fun _ =>
        bnd (gd 16 v33 (nt (f_X16_far v33 v35))) fun v36 =>
        bnd (gd 15 v13 (nt (f_X15_least v13))) fun v37 =>
        if v36 < v37 then
          j152 w21
        else
          j177 ()
noncomputable def lp_X0_apart_52 (n : Nat) (p0 : Nat) (p1 : Int32) (v3 : Nat) (w4 : Int32) (v13 : Nat) (j152 : Int32 → Int32 → Act Int32) (j189 : Unit → Act Int32) (q : Nat) : Int32 → Act Int32 := match q with
  | 0 => fun _ => fail
  | q + 1 => fun w14 =>
    bnd (getR 0 39 p0) fun v19 =>
    bnd (gd 17 v19 (nt (P_size v19))) fun v20 =>
    if v20 ≤ w14 then
      j189 ()
    else
      jn (fun (_ : Unit) =>
        (lp_X0_apart_52 n p0 p1 v3 w4 v13 j152 j189 q) (w14 + 1)) fun j183 =>
      jn (fun (v22 : Int32) =>
        jn (fun (v23 : Int32) =>
          pur v23) fun j176 =>
        if ¬ p1 = 0 then
          if ¬ p1 = 1 then
            j176 v22
          else
            j176 w14
        else
          bnd (gd 15 v13 (nt (f_X15_statement v13))) fun v24 =>
          j176 v24) fun j152 =>
      lp_X0_apart_70 p0 p1 v3 w4 v13 w14 j152 j183 n (w14 + 1)
noncomputable def lp_X0_apart_25 (n : Nat) (p0 : Nat) (p1 : Int32) (v3 : Nat) (j152 : Nat → Int32 → Int32 → Act Int32) (q : Nat) : Int32 → Act Int32 := match q with
  | 0 => fun _ => fail
  | q + 1 => fun w4 =>
    bnd (getR 2 10 v3) fun v10 =>
    bnd (gd 17 v10 (nt (P_size v10))) fun v11 =>
    if v11 ≤ w4 then
      pur (-1)
    else
      bnd (getR 2 10 v3) fun v12 =>
      bnd (gd 17 v12 (nt (P_get v12 w4))) fun v13 =>
      bnd (cst [16] v13) fun _ =>
      jn (fun (_ : Unit) =>
        (lp_X0_apart_25 n p0 p1 v3 j152 q) (w4 + 1)) fun j189 =>
      jn (fun (v15 : Int32) (v16 : Int32) =>
        jn (fun (v17 : Int32) =>
          pur v17) fun j176 =>
        if ¬ p1 = 0 then
          if ¬ p1 = 1 then
            j176 v16
          else
            j176 v15
        else
          bnd (gd 15 v13 (nt (f_X15_statement v13))) fun v18 =>
          j176 v18) fun j152 =>
      lp_X0_apart_52 n p0 p1 v3 w4 v13 j152 j189 n 0
noncomputable def f_X0_apart (n : Nat) (p0 : Nat) (p1 : Int32) : Act Int32 :=
  bnd (nt (f_X0_isIn p1.toInt64 (0 : Int64) (2 : Int64))) fun v1 =>
  if ¬ v1 = 0 then
    bnd (getI 0 0 p0) fun v2 =>
    bnd (gd 0 p0 (nt (f_X0_at n p0 v2))) fun v3 =>
    jn (fun (v5 : Nat) (v6 : Int32) (v7 : Int32) =>
      jn (fun (v8 : Int32) =>
        pur v8) fun j176 =>
      if ¬ p1 = 0 then
        if ¬ p1 = 1 then
          j176 v7
        else
          j176 v6
      else
        bnd (gd 15 v5 (nt (f_X15_statement v5))) fun v9 =>
        j176 v9) fun j152 =>
    lp_X0_apart_25 n p0 p1 v3 j152 n 0
  else
    pur (-1)
set_option maxHeartbeats 4000000 in
theorem s_lp_X0_apart_70 {X : Cx} (hX : Ok X Pic cX0_apart RX0 7 (some FieldType.int) 5 108) (hnh : Noh X) (p0 : Nat) (p1 : Int32) (v3 : Nat) (w4 : Int32) (v13 : Nat) (w14 : Int32) (j152 : Int32 → Act Int32) (j183 : Unit → Act Int32) (hj152 : ∀ (v22 : Int32), Sim X cvI 152 [(1, .int p1), (4, rv v13), (5, .int w14), (6, .int v22)] [] (j152 v22)) (hj183 : ∀ (u : Unit), Sim X cvI 183 [(0, rv p0), (1, .int p1), (2, rv v3), (3, .int w4), (4, rv v13), (5, .int w14)] [] (j183 u)) (q : Nat) : ∀ (w21 : Int32), Sim X cvI 70 [(0, rv p0), (1, .int p1), (2, rv v3), (3, .int w4), (4, rv v13), (5, .int w14), (6, .int w21)] [] (lp_X0_apart_70 p0 p1 v3 w4 v13 w14 j152 j183 q w21) := by
  induction q with
  | zero => intro w21; exact s_fail
  | succ q ih70 =>
    intro w21
    rw [lp_X0_apart_70]
    refine s_iload hX dX0_apart_70 6 rfl ?_
    refine s_aload_n hX dX0_apart_72 rfl 0 rfl ?_
    refine s_getR (ci := 0) (j := 39) (ref := "WindGas") hX (pcG 0) in_X0 (Or.inl q305) (by decide) (by decide) (by decide) rfl dX0_apart_73 (fun _ h9 => h9) (fun v25 => ?_)
    refine s_callV_I (ci := 17) (n := 0) (As := []) (st := [.int w21]) hX (pcK 18) (by decide) (pt_size X.l v25) q554 q417 q418 q88 q419 yvJ2_size (by decide) rfl (by first | decide | simp [rv_cat, cat_i, cat_l]) dX0_apart_76 (fun v26 => ?_)
    refine s_icmp_ge (tgt := 183) hX dX0_apart_79 (by decide) ?_ ?_
    · exact s_sub [0, 1, 2, 3, 4, 5] rfl (hj183 ())
    · refine s_aload hX dX0_apart_82 4 rfl ?_
      refine s_aload_n hX dX0_apart_84 rfl 0 rfl ?_
      refine s_getR (ci := 0) (j := 39) (ref := "WindGas") hX (pcG 0) in_X0 (Or.inl q305) (by decide) (by decide) (by decide) rfl dX0_apart_85 (fun _ h9 => h9) (fun v27 => ?_)
      refine s_iload hX dX0_apart_88 5 rfl ?_
      refine s_callV_R (ci := 17) (n := 1) (As := [.int w14]) (st := [rv v13]) hX (pcK 18) (by decide) (pt_get X.l v27 w14) q555 q516 q517 q88 q518 yvJ2_get (by decide) rfl (by first | decide | simp [rv_cat, cat_i, cat_l]) dX0_apart_90 (fun v28 => ?_)
      refine s_cast (ks := [17]) hX (elC 16 (by decide)) q1434 dX0_apart_93 ?_
      refine s_aload_n hX dX0_apart_96 rfl 0 rfl ?_
      refine s_getR (ci := 0) (j := 39) (ref := "WindGas") hX (pcG 0) in_X0 (Or.inl q305) (by decide) (by decide) (by decide) rfl dX0_apart_97 (fun _ h9 => h9) (fun v29 => ?_)
      refine s_iload hX dX0_apart_100 6 rfl ?_
      refine s_callV_R (ci := 17) (n := 1) (As := [.int w21]) (st := [rv v28, rv v13]) hX (pcK 18) (by decide) (pt_get X.l v29 w21) q555 q516 q517 q88 q518 yvJ2_get (by decide) rfl (by first | decide | simp [rv_cat, cat_i, cat_l]) dX0_apart_102 (fun v30 => ?_)
      refine s_cast (ks := [17]) hX (elC 16 (by decide)) q1434 dX0_apart_105 ?_
      refine s_callS_I (n := 3) (As := [rv v13, rv v28, rv v30]) (st := []) hX (ct_X0_isPair X.l v13 v28 v30) q1454 q1455 q84 q1456 ycX0_isPair (by decide) rfl (by first | decide | simp [rv_cat, cat_i, cat_l]) dX0_apart_108 (fun v31 => ?_)
      refine s_jn (P := fun j => ∀ (u : Unit), Sim X cvI 177 [(0, rv p0), (1, .int p1), (2, rv v3), (3, .int w4), (4, rv v13), (5, .int w14), (6, .int w21)] [] (j u)) ?_ (fun j177 hj177 => ?_)
      · intro u
        refine s_iinc (k := 6) (v := (w21 + 1)) (L2 := [(6, .int (w21 + 1)), (0, rv p0), (1, .int p1), (2, rv v3), (3, .int w4), (4, rv v13), (5, .int w14)]) hX dX0_apart_177 rfl rfl (by decide) rfl ?_
        refine s_goto (tgt := 70) hX dX0_apart_180 (by decide) ?_
        exact s_sub [1, 2, 3, 4, 5, 6, 0] rfl (ih70 (w21 + 1))
      · refine s_if_eq (tgt := 177) hX dX0_apart_111 (by decide) ?_ ?_
        · exact hj177 ()
        · refine s_aload_n hX dX0_apart_114 rfl 0 rfl ?_
          refine s_getR (ci := 0) (j := 39) (ref := "WindGas") hX (pcG 0) in_X0 (Or.inl q305) (by decide) (by decide) (by decide) rfl dX0_apart_115 (fun _ h9 => h9) (fun v32 => ?_)
          refine s_iload hX dX0_apart_118 5 rfl ?_
          refine s_callV_R (ci := 17) (n := 1) (As := [.int w14]) (st := []) hX (pcK 18) (by decide) (pt_get X.l v32 w14) q555 q516 q517 q88 q518 yvJ2_get (by decide) rfl (by first | decide | simp [rv_cat, cat_i, cat_l]) dX0_apart_120 (fun v33 => ?_)
          refine s_cast (ks := [17]) hX (elC 16 (by decide)) q1434 dX0_apart_123 ?_
          refine s_aload_n hX dX0_apart_126 rfl 0 rfl ?_
          refine s_getR (ci := 0) (j := 39) (ref := "WindGas") hX (pcG 0) in_X0 (Or.inl q305) (by decide) (by decide) (by decide) rfl dX0_apart_127 (fun _ h9 => h9) (fun v34 => ?_)
          refine s_iload hX dX0_apart_130 6 rfl ?_
          refine s_callV_R (ci := 17) (n := 1) (As := [.int w21]) (st := [rv v33]) hX (pcK 18) (by decide) (pt_get X.l v34 w21) q555 q516 q517 q88 q518 yvJ2_get (by decide) rfl (by first | decide | simp [rv_cat, cat_i, cat_l]) dX0_apart_132 (fun v35 => ?_)
          refine s_cast (ks := [17]) hX (elC 16 (by decide)) q1434 dX0_apart_135 ?_
          refine s_callV_I (ci := 16) (n := 1) (As := [rv v35]) (st := []) hX (pcK 17) (by decide) (ct_X16_far X.l v33 v35) q1469 q1470 q1471 q118 q1472 yvX16_far (by decide) rfl (by first | decide | simp [rv_cat, cat_i, cat_l]) dX0_apart_138 (fun v36 => ?_)
          refine s_aload hX dX0_apart_141 4 rfl ?_
          refine s_callV_I (ci := 15) (n := 0) (As := []) (st := [.int v36]) hX (pcK 16) (by decide) (ct_X15_least X.l v13) q1477 q1478 q1479 q117 q1480 yvX15_least (by decide) rfl (by first | decide | simp [rv_cat, cat_i, cat_l]) dX0_apart_143 (fun v37 => ?_)
          refine s_icmp_lt (tgt := 152) hX dX0_apart_146 (by decide) ?_ ?_
          · exact s_sub [1, 4, 5, 6] rfl (hj152 w21)
          · refine s_goto (tgt := 177) hX dX0_apart_149 (by decide) ?_
            exact hj177 ()
set_option maxHeartbeats 4000000 in
theorem s_lp_X0_apart_52 {X : Cx} (hX : Ok X Pic cX0_apart RX0 7 (some FieldType.int) 5 108) (hnh : Noh X) (n : Nat) (p0 : Nat) (p1 : Int32) (v3 : Nat) (w4 : Int32) (v13 : Nat) (j152 : Int32 → Int32 → Act Int32) (j189 : Unit → Act Int32) (hj152 : ∀ (v15 : Int32) (v16 : Int32), Sim X cvI 152 [(1, .int p1), (4, rv v13), (5, .int v15), (6, .int v16)] [] (j152 v15 v16)) (hj189 : ∀ (u : Unit), Sim X cvI 189 [(0, rv p0), (1, .int p1), (2, rv v3), (3, .int w4)] [] (j189 u)) (q : Nat) : ∀ (w14 : Int32), Sim X cvI 52 [(0, rv p0), (1, .int p1), (2, rv v3), (3, .int w4), (4, rv v13), (5, .int w14)] [] (lp_X0_apart_52 n p0 p1 v3 w4 v13 j152 j189 q w14) := by
  induction q with
  | zero => intro w14; exact s_fail
  | succ q ih52 =>
    intro w14
    rw [lp_X0_apart_52]
    refine s_iload hX dX0_apart_52 5 rfl ?_
    refine s_aload_n hX dX0_apart_54 rfl 0 rfl ?_
    refine s_getR (ci := 0) (j := 39) (ref := "WindGas") hX (pcG 0) in_X0 (Or.inl q305) (by decide) (by decide) (by decide) rfl dX0_apart_55 (fun _ h9 => h9) (fun v19 => ?_)
    refine s_callV_I (ci := 17) (n := 0) (As := []) (st := [.int w14]) hX (pcK 18) (by decide) (pt_size X.l v19) q554 q417 q418 q88 q419 yvJ2_size (by decide) rfl (by first | decide | simp [rv_cat, cat_i, cat_l]) dX0_apart_58 (fun v20 => ?_)
    refine s_icmp_ge (tgt := 189) hX dX0_apart_61 (by decide) ?_ ?_
    · exact s_sub [0, 1, 2, 3] rfl (hj189 ())
    · refine s_iload hX dX0_apart_64 5 rfl ?_
      refine s_iconst (v := 1) hX dX0_apart_66 rfl ?_
      refine s_iadd hX dX0_apart_67 ?_
      refine s_istore (i := 6) (L2 := [(6, .int (w14 + 1)), (0, rv p0), (1, .int p1), (2, rv v3), (3, .int w4), (4, rv v13), (5, .int w14)]) hX dX0_apart_68 (by decide) rfl ?_
      refine s_jn (P := fun j => ∀ (u : Unit), Sim X cvI 183 [(0, rv p0), (1, .int p1), (2, rv v3), (3, .int w4), (4, rv v13), (5, .int w14)] [] (j u)) ?_ (fun j183 hj183 => ?_)
      · intro u
        refine s_iinc (k := 5) (v := (w14 + 1)) (L2 := [(5, .int (w14 + 1)), (0, rv p0), (1, .int p1), (2, rv v3), (3, .int w4), (4, rv v13)]) hX dX0_apart_183 rfl rfl (by decide) (by first | (simp [rv_cat, cat_i, cat_l]; done) | (simp [rv_cat, cat_i, cat_l]; decide)) ?_
        refine s_goto (tgt := 52) hX dX0_apart_186 (by decide) ?_
        exact s_sub [1, 2, 3, 4, 5, 0] rfl (ih52 (w14 + 1))
      · refine s_jn (P := fun j => ∀ (v22 : Int32), Sim X cvI 152 [(1, .int p1), (4, rv v13), (5, .int w14), (6, .int v22)] [] (j v22)) ?_ (fun j152 hj152 => ?_)
        · intro v22
          refine s_iload_n hX dX0_apart_152 rfl 0 rfl ?_
          refine s_jn (P := fun j => ∀ (v23 : Int32), Sim X cvI 176 [] [.int v23] (j v23)) ?_ (fun j176 hj176 => ?_)
          · intro v23
            exact s_iret hX dX0_apart_176
          · refine s_if_ne (tgt := 164) hX dX0_apart_153 (by decide) ?_ ?_
            · refine s_iload_n hX dX0_apart_164 rfl 0 rfl ?_
              refine s_iconst (v := 1) hX dX0_apart_165 rfl ?_
              refine s_icmp_ne (tgt := 174) hX dX0_apart_166 (by decide) ?_ ?_
              · refine s_iload hX dX0_apart_174 3 rfl ?_
                exact s_sub [] rfl (hj176 v22)
              · refine s_iload hX dX0_apart_169 2 rfl ?_
                refine s_goto (tgt := 176) hX dX0_apart_171 (by decide) ?_
                exact s_sub [] rfl (hj176 w14)
            · refine s_aload hX dX0_apart_156 1 rfl ?_
              refine s_callV_I (ci := 15) (n := 0) (As := []) (st := []) hX (pcK 16) (by decide) (ct_X15_statement X.l v13) q1481 q1482 q1483 q117 q1484 yvX15_statement (by decide) rfl (by first | decide | simp [rv_cat, cat_i, cat_l]) dX0_apart_158 (fun v24 => ?_)
              refine s_goto (tgt := 176) hX dX0_apart_161 (by decide) ?_
              exact s_sub [] rfl (hj176 v24)
        · exact s_sub [1, 2, 3, 4, 5, 6, 0] rfl (s_lp_X0_apart_70 hX hnh p0 p1 v3 w4 v13 w14 j152 j183 hj152 hj183 n (w14 + 1))
set_option maxHeartbeats 4000000 in
theorem s_lp_X0_apart_25 {X : Cx} (hX : Ok X Pic cX0_apart RX0 7 (some FieldType.int) 5 108) (hnh : Noh X) (n : Nat) (p0 : Nat) (p1 : Int32) (v3 : Nat) (j152 : Nat → Int32 → Int32 → Act Int32) (hj152 : ∀ (v5 : Nat) (v6 : Int32) (v7 : Int32), Sim X cvI 152 [(1, .int p1), (4, rv v5), (5, .int v6), (6, .int v7)] [] (j152 v5 v6 v7)) (q : Nat) : ∀ (w4 : Int32), Sim X cvI 25 [(0, rv p0), (1, .int p1), (2, rv v3), (3, .int w4)] [] (lp_X0_apart_25 n p0 p1 v3 j152 q w4) := by
  induction q with
  | zero => intro w4; exact s_fail
  | succ q ih25 =>
    intro w4
    rw [lp_X0_apart_25]
    refine s_iload_n hX dX0_apart_25 rfl 3 rfl ?_
    refine s_aload_n hX dX0_apart_26 rfl 2 rfl ?_
    refine s_getR (ci := 2) (j := 10) (ref := "WindGas$Rules") hX (pcG 2) in_X2 (Or.inr ⟨_, q200⟩) (by decide) (by decide) (by decide) rfl dX0_apart_27 (fun _ h9 => h9) (fun v10 => ?_)
    refine s_callV_I (ci := 17) (n := 0) (As := []) (st := [.int w4]) hX (pcK 18) (by decide) (pt_size X.l v10) q554 q417 q418 q88 q419 yvJ2_size (by decide) rfl (by first | decide | simp [rv_cat, cat_i, cat_l]) dX0_apart_30 (fun v11 => ?_)
    refine s_icmp_ge (tgt := 195) hX dX0_apart_33 (by decide) ?_ ?_
    · refine s_iconst (v := -1) hX dX0_apart_195 (by decide) ?_
      exact s_iret hX dX0_apart_196
    · refine s_aload_n hX dX0_apart_36 rfl 2 rfl ?_
      refine s_getR (ci := 2) (j := 10) (ref := "WindGas$Rules") hX (pcG 2) in_X2 (Or.inr ⟨_, q200⟩) (by decide) (by decide) (by decide) rfl dX0_apart_37 (fun _ h9 => h9) (fun v12 => ?_)
      refine s_iload_n hX dX0_apart_40 rfl 3 rfl ?_
      refine s_callV_R (ci := 17) (n := 1) (As := [.int w4]) (st := []) hX (pcK 18) (by decide) (pt_get X.l v12 w4) q555 q516 q517 q88 q518 yvJ2_get (by decide) rfl (by first | decide | simp [rv_cat, cat_i, cat_l]) dX0_apart_41 (fun v13 => ?_)
      refine s_cast (ks := [16]) hX (elC 15 (by decide)) q1011 dX0_apart_44 ?_
      refine s_astore (i := 4) (L2 := [(4, rv v13), (0, rv p0), (1, .int p1), (2, rv v3), (3, .int w4)]) hX dX0_apart_47 (by decide) rfl ?_
      refine s_iconst (v := 0) hX dX0_apart_49 rfl ?_
      refine s_istore (i := 5) (L2 := [(5, .int 0), (4, rv v13), (0, rv p0), (1, .int p1), (2, rv v3), (3, .int w4)]) hX dX0_apart_50 (by decide) (by first | (simp [rv_cat, cat_i, cat_l]; done) | (simp [rv_cat, cat_i, cat_l]; decide)) ?_
      refine s_jn (P := fun j => ∀ (u : Unit), Sim X cvI 189 [(0, rv p0), (1, .int p1), (2, rv v3), (3, .int w4)] [] (j u)) ?_ (fun j189 hj189 => ?_)
      · intro u
        refine s_iinc (k := 3) (v := (w4 + 1)) (L2 := [(3, .int (w4 + 1)), (0, rv p0), (1, .int p1), (2, rv v3)]) hX dX0_apart_189 rfl rfl (by decide) (by first | (simp [rv_cat, cat_i, cat_l]; done) | (simp [rv_cat, cat_i, cat_l]; decide)) ?_
        refine s_goto (tgt := 25) hX dX0_apart_192 (by decide) ?_
        exact s_sub [1, 2, 3, 0] rfl (ih25 (w4 + 1))
      · refine s_jn (P := fun j => ∀ (v15 : Int32) (v16 : Int32), Sim X cvI 152 [(1, .int p1), (4, rv v13), (5, .int v15), (6, .int v16)] [] (j v15 v16)) ?_ (fun j152 hj152 => ?_)
        · intro v15 v16
          refine s_iload_n hX dX0_apart_152 rfl 0 rfl ?_
          refine s_jn (P := fun j => ∀ (v17 : Int32), Sim X cvI 176 [] [.int v17] (j v17)) ?_ (fun j176 hj176 => ?_)
          · intro v17
            exact s_iret hX dX0_apart_176
          · refine s_if_ne (tgt := 164) hX dX0_apart_153 (by decide) ?_ ?_
            · refine s_iload_n hX dX0_apart_164 rfl 0 rfl ?_
              refine s_iconst (v := 1) hX dX0_apart_165 rfl ?_
              refine s_icmp_ne (tgt := 174) hX dX0_apart_166 (by decide) ?_ ?_
              · refine s_iload hX dX0_apart_174 3 rfl ?_
                exact s_sub [] rfl (hj176 v16)
              · refine s_iload hX dX0_apart_169 2 rfl ?_
                refine s_goto (tgt := 176) hX dX0_apart_171 (by decide) ?_
                exact s_sub [] rfl (hj176 v15)
            · refine s_aload hX dX0_apart_156 1 rfl ?_
              refine s_callV_I (ci := 15) (n := 0) (As := []) (st := []) hX (pcK 16) (by decide) (ct_X15_statement X.l v13) q1481 q1482 q1483 q117 q1484 yvX15_statement (by decide) rfl (by first | decide | simp [rv_cat, cat_i, cat_l]) dX0_apart_158 (fun v18 => ?_)
              refine s_goto (tgt := 176) hX dX0_apart_161 (by decide) ?_
              exact s_sub [] rfl (hj176 v18)
        · exact s_sub [2, 3, 4, 5, 1, 0] rfl (s_lp_X0_apart_52 hX hnh n p0 p1 v3 w4 v13 j152 j189 hj152 hj189 n 0)
set_option maxHeartbeats 4000000 in
theorem ct_X0_apart (l : Launch) (n : Nat) (p0 : Nat) (p1 : Int32) : Ct l Pic yX0_apart (ws_ yX0_apart cX0_apart 7 (some FieldType.int)) 5 108 cvI [rv p0, .int p1] (f_X0_apart n p0 p1) := by
  refine Ct.of (own := RX0) (L := [(0, rv p0), (1, .int p1)]) (plainFor_of_name (by decide)) rfl (by first | decide | simp [lg_sl, rv_cat, cat_i, cat_l]) (by first | rfl | simp [lv_args, rv_cat, cat_i, cat_l]) pcZ (fun X hXl hX hnh hin => ?_)
  subst hXl
  unfold f_X0_apart
  refine s_iload_n hX dX0_apart_0 rfl 1 rfl ?_
  refine s_i2l hX dX0_apart_1 ?_
  refine s_lconst (v := 0) hX dX0_apart_2 (by decide) ?_
  refine s_ldc2 (v := 2) hX dX0_apart_3 q399 ?_
  refine s_callS_I (n := 3) (As := [.long p1.toInt64, .long 0, .long 2]) (st := []) hX (ct_X0_isIn X.l p1.toInt64 (0 : Int64) (2 : Int64)) q400 q401 q84 q402 ycX0_isIn (by decide) rfl (by first | decide | simp [rv_cat, cat_i, cat_l]) dX0_apart_6 (fun v1 => ?_)
  refine s_if_ne (tgt := 14) hX dX0_apart_9 (by decide) ?_ ?_
  · refine s_aload_n hX dX0_apart_14 rfl 0 rfl ?_
    refine s_aload_n hX dX0_apart_15 rfl 0 rfl ?_
    refine s_getI (ci := 0) (j := 0) (ref := "WindGas") hX (pcG 0) in_X0 (Or.inl q266) (by decide) (by decide) (by decide) rfl dX0_apart_16 (fun _ h9 => h9) (fun v2 => ?_)
    refine s_callV_R (ci := 0) (n := 1) (As := [.int v2]) (st := []) hX (pcK 1) (by decide) (ct_X0_at X.l n p0 v2) q546 q548 qs4 q84 q549 yvX0_at (by decide) rfl (by first | decide | simp [rv_cat, cat_i, cat_l]) dX0_apart_19 (fun v3 => ?_)
    refine s_astore_n (i := 2) (L2 := [(2, rv v3), (0, rv p0), (1, .int p1)]) hX dX0_apart_22 rfl (by decide) rfl ?_
    refine s_iconst (v := 0) hX dX0_apart_23 rfl ?_
    refine s_istore_n (i := 3) (L2 := [(3, .int 0), (2, rv v3), (0, rv p0), (1, .int p1)]) hX dX0_apart_24 rfl (by decide) (by first | (simp [rv_cat, cat_i, cat_l]; done) | (simp [rv_cat, cat_i, cat_l]; decide)) ?_
    refine s_jn (P := fun j => ∀ (v5 : Nat) (v6 : Int32) (v7 : Int32), Sim X cvI 152 [(1, .int p1), (4, rv v5), (5, .int v6), (6, .int v7)] [] (j v5 v6 v7)) ?_ (fun j152 hj152 => ?_)
    · intro v5 v6 v7
      refine s_iload_n hX dX0_apart_152 rfl 0 rfl ?_
      refine s_jn (P := fun j => ∀ (v8 : Int32), Sim X cvI 176 [] [.int v8] (j v8)) ?_ (fun j176 hj176 => ?_)
      · intro v8
        exact s_iret hX dX0_apart_176
      · refine s_if_ne (tgt := 164) hX dX0_apart_153 (by decide) ?_ ?_
        · refine s_iload_n hX dX0_apart_164 rfl 0 rfl ?_
          refine s_iconst (v := 1) hX dX0_apart_165 rfl ?_
          refine s_icmp_ne (tgt := 174) hX dX0_apart_166 (by decide) ?_ ?_
          · refine s_iload hX dX0_apart_174 3 rfl ?_
            exact s_sub [] rfl (hj176 v7)
          · refine s_iload hX dX0_apart_169 2 rfl ?_
            refine s_goto (tgt := 176) hX dX0_apart_171 (by decide) ?_
            exact s_sub [] rfl (hj176 v6)
        · refine s_aload hX dX0_apart_156 1 rfl ?_
          refine s_callV_I (ci := 15) (n := 0) (As := []) (st := []) hX (pcK 16) (by decide) (ct_X15_statement X.l v5) q1481 q1482 q1483 q117 q1484 yvX15_statement (by decide) rfl (by first | decide | simp [rv_cat, cat_i, cat_l]) dX0_apart_158 (fun v9 => ?_)
          refine s_goto (tgt := 176) hX dX0_apart_161 (by decide) ?_
          exact s_sub [] rfl (hj176 v9)
    · exact s_sub [2, 3, 1, 0] rfl (s_lp_X0_apart_25 hX hnh n p0 p1 v3 j152 hj152 n 0)
  · refine s_iconst (v := -1) hX dX0_apart_12 (by decide) ?_
    exact s_iret hX dX0_apart_13
theorem dX0_hundreds_0 : decode cX0_hundreds 0 = .ok (.iload_n 2, 1) := by decide +kernel
theorem dX0_hundreds_1 : decode cX0_hundreds 1 = .ok (.istore 4, 2) := by decide +kernel
theorem dX0_hundreds_3 : decode cX0_hundreds 3 = .ok (.iconst 0, 1) := by decide +kernel
theorem dX0_hundreds_4 : decode cX0_hundreds 4 = .ok (.istore 5, 2) := by decide +kernel
theorem dX0_hundreds_6 : decode cX0_hundreds 6 = .ok (.iconst 0, 1) := by decide +kernel
theorem dX0_hundreds_7 : decode cX0_hundreds 7 = .ok (.istore 6, 2) := by decide +kernel
theorem dX0_hundreds_9 : decode cX0_hundreds 9 = .ok (.iload 6, 2) := by decide +kernel
theorem dX0_hundreds_11 : decode cX0_hundreds 11 = .ok (.aload_n 0, 1) := by decide +kernel
theorem dX0_hundreds_12 : decode cX0_hundreds 12 = .ok (.getfield 64, 3) := by decide +kernel
theorem dX0_hundreds_15 : decode cX0_hundreds 15 = .ok (.invokevirtual 124, 3) := by decide +kernel
theorem dX0_hundreds_18 : decode cX0_hundreds 18 = .ok (.if_icmp .ge 87, 3) := by decide +kernel
theorem dX0_hundreds_21 : decode cX0_hundreds 21 = .ok (.aload_n 0, 1) := by decide +kernel
theorem dX0_hundreds_22 : decode cX0_hundreds 22 = .ok (.getfield 64, 3) := by decide +kernel
theorem dX0_hundreds_25 : decode cX0_hundreds 25 = .ok (.aload_n 0, 1) := by decide +kernel
theorem dX0_hundreds_26 : decode cX0_hundreds 26 = .ok (.getfield 81, 3) := by decide +kernel
theorem dX0_hundreds_29 : decode cX0_hundreds 29 = .ok (.iload 6, 2) := by decide +kernel
theorem dX0_hundreds_31 : decode cX0_hundreds 31 = .ok (.iaload, 1) := by decide +kernel
theorem dX0_hundreds_32 : decode cX0_hundreds 32 = .ok (.invokevirtual 128, 3) := by decide +kernel
theorem dX0_hundreds_35 : decode cX0_hundreds 35 = .ok (.checkcast 417, 3) := by decide +kernel
theorem dX0_hundreds_38 : decode cX0_hundreds 38 = .ok (.astore 7, 2) := by decide +kernel
theorem dX0_hundreds_40 : decode cX0_hundreds 40 = .ok (.iload_n 1, 1) := by decide +kernel
theorem dX0_hundreds_41 : decode cX0_hundreds 41 = .ok (.aload 7, 2) := by decide +kernel
theorem dX0_hundreds_43 : decode cX0_hundreds 43 = .ok (.getfield 628, 3) := by decide +kernel
theorem dX0_hundreds_46 : decode cX0_hundreds 46 = .ok (.ishr, 1) := by decide +kernel
theorem dX0_hundreds_47 : decode cX0_hundreds 47 = .ok (.iconst 1, 1) := by decide +kernel
theorem dX0_hundreds_48 : decode cX0_hundreds 48 = .ok (.iand, 1) := by decide +kernel
theorem dX0_hundreds_49 : decode cX0_hundreds 49 = .ok (.ifCond .ne 6, 3) := by decide +kernel
theorem dX0_hundreds_52 : decode cX0_hundreds 52 = .ok (.goto 47, 3) := by decide +kernel
theorem dX0_hundreds_55 : decode cX0_hundreds 55 = .ok (.iload 4, 2) := by decide +kernel
theorem dX0_hundreds_57 : decode cX0_hundreds 57 = .ok (.aload 7, 2) := by decide +kernel
theorem dX0_hundreds_59 : decode cX0_hundreds 59 = .ok (.aload_n 3, 1) := by decide +kernel
theorem dX0_hundreds_60 : decode cX0_hundreds 60 = .ok (.invokevirtual 438, 3) := by decide +kernel
theorem dX0_hundreds_63 : decode cX0_hundreds 63 = .ok (.if_icmp .ge 5, 3) := by decide +kernel
theorem dX0_hundreds_66 : decode cX0_hundreds 66 = .ok (.iconst (-1), 1) := by decide +kernel
theorem dX0_hundreds_67 : decode cX0_hundreds 67 = .ok (.ireturn, 1) := by decide +kernel
theorem dX0_hundreds_68 : decode cX0_hundreds 68 = .ok (.aload 7, 2) := by decide +kernel
theorem dX0_hundreds_70 : decode cX0_hundreds 70 = .ok (.getfield 448, 3) := by decide +kernel
theorem dX0_hundreds_73 : decode cX0_hundreds 73 = .ok (.iload 4, 2) := by decide +kernel
theorem dX0_hundreds_75 : decode cX0_hundreds 75 = .ok (.invokestatic 205, 3) := by decide +kernel
theorem dX0_hundreds_78 : decode cX0_hundreds 78 = .ok (.istore 8, 2) := by decide +kernel
theorem dX0_hundreds_80 : decode cX0_hundreds 80 = .ok (.iload 5, 2) := by decide +kernel
theorem dX0_hundreds_82 : decode cX0_hundreds 82 = .ok (.aload 7, 2) := by decide +kernel
theorem dX0_hundreds_84 : decode cX0_hundreds 84 = .ok (.iload 8, 2) := by decide +kernel
theorem dX0_hundreds_86 : decode cX0_hundreds 86 = .ok (.invokevirtual 450, 3) := by decide +kernel
theorem dX0_hundreds_89 : decode cX0_hundreds 89 = .ok (.iadd, 1) := by decide +kernel
theorem dX0_hundreds_90 : decode cX0_hundreds 90 = .ok (.istore 5, 2) := by decide +kernel
theorem dX0_hundreds_92 : decode cX0_hundreds 92 = .ok (.iload 4, 2) := by decide +kernel
theorem dX0_hundreds_94 : decode cX0_hundreds 94 = .ok (.iload 8, 2) := by decide +kernel
theorem dX0_hundreds_96 : decode cX0_hundreds 96 = .ok (.isub, 1) := by decide +kernel
theorem dX0_hundreds_97 : decode cX0_hundreds 97 = .ok (.istore 4, 2) := by decide +kernel
theorem dX0_hundreds_99 : decode cX0_hundreds 99 = .ok (.iinc 6 1, 3) := by decide +kernel
theorem dX0_hundreds_102 : decode cX0_hundreds 102 = .ok (.goto (-93), 3) := by decide +kernel
theorem dX0_hundreds_105 : decode cX0_hundreds 105 = .ok (.iload 5, 2) := by decide +kernel
theorem dX0_hundreds_107 : decode cX0_hundreds 107 = .ok (.bipush 100, 2) := by decide +kernel
theorem dX0_hundreds_109 : decode cX0_hundreds 109 = .ok (.idiv, 1) := by decide +kernel
theorem dX0_hundreds_110 : decode cX0_hundreds 110 = .ok (.ireturn, 1) := by decide +kernel
theorem ycX0_hundreds : yX0_hundreds.cls ≠ "java/lang/invoke/MethodHandle" ∧ yX0_hundreds.cls ≠ "java/lang/invoke/VarHandle" ∧ (parseMethodDescriptor yX0_hundreds.desc).map (fun d => d.parameters.length) = some 3 := by decide +kernel
theorem yvX0_hundreds : yX0_hundreds.cls = RR 0 ∧ yX0_hundreds.cls ≠ "java/lang/invoke/MethodHandle" ∧ yX0_hundreds.cls ≠ "java/lang/invoke/VarHandle" ∧ (parseMethodDescriptor yX0_hundreds.desc).map (fun d => d.parameters.length) = some 3 := ⟨rfl, ycX0_hundreds⟩
noncomputable def lp_X0_hundreds_9 (p0 : Nat) (p1 : Int32) (p3 : Nat) (j105 : Int32 → Act Int32) (q : Nat) : Int32 → Int32 → Int32 → Act Int32 := match q with
  | 0 => fun _ _ _ => fail
  | q + 1 => fun w1 w2 w3 =>
    bnd (getR 0 18 p0) fun v5 =>
    bnd (gd 17 v5 (nt (P_size v5))) fun v6 =>
    if v6 ≤ w3 then
      j105 w2
    else
      bnd (getR 0 18 p0) fun v7 =>
      bnd (getR 0 34 p0) fun v8 =>
      bnd (ldI 0 v8 w3) fun v9 =>
      bnd (gd 17 v7 (nt (P_get v7 v9))) fun v10 =>
      bnd (cst [7] v10) fun _ =>
      bnd (getI 6 0 v10) fun v11 =>
      jn (fun (v12 : Int32) (v13 : Int32) =>
        (lp_X0_hundreds_9 p0 p1 p3 j105 q) v12 v13 (w3 + 1)) fun j99 =>
      if ¬ ((p1 >>> (v11 &&& 31)) &&& 1) = 0 then
        bnd (gd 6 v10 (nt (f_X6_least v10 p3))) fun v14 =>
        if v14 ≤ w1 then
          bnd (getI 6 1 v10) fun v15 =>
          bnd (gd 6 v10 (nt (f_X6_gas v10 (mn v15 w1)))) fun v16 =>
          j99 (w1 - (mn v15 w1)) (w2 + v16)
        else
          pur (-1)
      else
        j99 w1 w2
noncomputable def f_X0_hundreds (n : Nat) (p0 : Nat) (p1 : Int32) (p2 : Int32) (p3 : Nat) : Act Int32 :=
  jn (fun (v4 : Int32) =>
    pur (v4 / 100)) fun j105 =>
  lp_X0_hundreds_9 p0 p1 p3 j105 n p2 0 0
set_option maxHeartbeats 4000000 in
theorem s_lp_X0_hundreds_9 {X : Cx} (hX : Ok X Pic cX0_hundreds RX0 9 (some FieldType.int) 3 64) (hnh : Noh X) (p0 : Nat) (p1 : Int32) (p3 : Nat) (j105 : Int32 → Act Int32) (hj105 : ∀ (v4 : Int32), Sim X cvI 105 [(5, .int v4)] [] (j105 v4)) (q : Nat) : ∀ (w1 : Int32) (w2 : Int32) (w3 : Int32), Sim X cvI 9 [(0, rv p0), (1, .int p1), (3, rv p3), (4, .int w1), (5, .int w2), (6, .int w3)] [] (lp_X0_hundreds_9 p0 p1 p3 j105 q w1 w2 w3) := by
  induction q with
  | zero => intro w1 w2 w3; exact s_fail
  | succ q ih9 =>
    intro w1 w2 w3
    rw [lp_X0_hundreds_9]
    refine s_iload hX dX0_hundreds_9 5 rfl ?_
    refine s_aload_n hX dX0_hundreds_11 rfl 0 rfl ?_
    refine s_getR (ci := 0) (j := 18) (ref := "WindGas") hX (pcG 0) in_X0 (Or.inl q284) (by decide) (by decide) (by decide) rfl dX0_hundreds_12 (fun _ h9 => h9) (fun v5 => ?_)
    refine s_callV_I (ci := 17) (n := 0) (As := []) (st := [.int w3]) hX (pcK 18) (by decide) (pt_size X.l v5) q554 q417 q418 q88 q419 yvJ2_size (by decide) rfl (by first | decide | simp [rv_cat, cat_i, cat_l]) dX0_hundreds_15 (fun v6 => ?_)
    refine s_icmp_ge (tgt := 105) hX dX0_hundreds_18 (by decide) ?_ ?_
    · exact s_sub [4] rfl (hj105 w2)
    · refine s_aload_n hX dX0_hundreds_21 rfl 0 rfl ?_
      refine s_getR (ci := 0) (j := 18) (ref := "WindGas") hX (pcG 0) in_X0 (Or.inl q284) (by decide) (by decide) (by decide) rfl dX0_hundreds_22 (fun _ h9 => h9) (fun v7 => ?_)
      refine s_aload_n hX dX0_hundreds_25 rfl 0 rfl ?_
      refine s_getR (ci := 0) (j := 34) (ref := "WindGas") hX (pcG 0) in_X0 (Or.inl q300) (by decide) (by decide) (by decide) rfl dX0_hundreds_26 (fun _ h9 => h9) (fun v8 => ?_)
      refine s_iload hX dX0_hundreds_29 5 rfl ?_
      refine s_iald hX (pcA 0) dX0_hundreds_31 (fun v9 => ?_)
      refine s_callV_R (ci := 17) (n := 1) (As := [.int v9]) (st := []) hX (pcK 18) (by decide) (pt_get X.l v7 v9) q555 q516 q517 q88 q518 yvJ2_get (by decide) rfl (by first | decide | simp [rv_cat, cat_i, cat_l]) dX0_hundreds_32 (fun v10 => ?_)
      refine s_cast (ks := [7]) hX (elC 6 (by decide)) q1110 dX0_hundreds_35 ?_
      refine s_astore (i := 7) (L2 := [(7, rv v10), (0, rv p0), (1, .int p1), (3, rv p3), (4, .int w1), (5, .int w2), (6, .int w3)]) hX dX0_hundreds_38 (by decide) rfl ?_
      refine s_iload_n hX dX0_hundreds_40 rfl 2 rfl ?_
      refine s_aload hX dX0_hundreds_41 0 rfl ?_
      refine s_getI (ci := 6) (j := 0) (ref := "WindGas$Stack") hX (pcG 6) in_X6 (Or.inr ⟨_, q1117⟩) (by decide) (by decide) (by decide) rfl dX0_hundreds_43 (fun _ h9 => h9) (fun v11 => ?_)
      refine s_ishr hX dX0_hundreds_46 ?_
      refine s_iconst (v := 1) hX dX0_hundreds_47 rfl ?_
      refine s_iand hX dX0_hundreds_48 ?_
      refine s_jn (P := fun j => ∀ (v12 : Int32) (v13 : Int32), Sim X cvI 99 [(0, rv p0), (1, .int p1), (3, rv p3), (4, .int v12), (5, .int v13), (6, .int w3)] [] (j v12 v13)) ?_ (fun j99 hj99 => ?_)
      · intro v12 v13
        refine s_iinc (k := 5) (v := (w3 + 1)) (L2 := [(6, .int (w3 + 1)), (0, rv p0), (1, .int p1), (3, rv p3), (4, .int v12), (5, .int v13)]) hX dX0_hundreds_99 rfl rfl (by decide) rfl ?_
        refine s_goto (tgt := 9) hX dX0_hundreds_102 (by decide) ?_
        exact s_sub [1, 2, 3, 4, 5, 0] rfl (ih9 v12 v13 (w3 + 1))
      · refine s_if_ne (tgt := 55) hX dX0_hundreds_49 (by decide) ?_ ?_
        · refine s_iload hX dX0_hundreds_55 4 rfl ?_
          refine s_aload hX dX0_hundreds_57 0 rfl ?_
          refine s_aload_n hX dX0_hundreds_59 rfl 3 rfl ?_
          refine s_callV_I (ci := 6) (n := 1) (As := [rv p3]) (st := [.int w1]) hX (pcK 7) (by decide) (ct_X6_least X.l v10 p3) q1218 q1219 q1220 q100 q1221 yvX6_least (by decide) rfl (by first | decide | simp [rv_cat, cat_i, cat_l]) dX0_hundreds_60 (fun v14 => ?_)
          refine s_icmp_ge (tgt := 68) hX dX0_hundreds_63 (by decide) ?_ ?_
          · refine s_aload hX dX0_hundreds_68 0 rfl ?_
            refine s_getI (ci := 6) (j := 1) (ref := "WindGas$Stack") hX (pcG 6) in_X6 (Or.inr ⟨_, q1119⟩) (by decide) (by decide) (by decide) rfl dX0_hundreds_70 (fun _ h9 => h9) (fun v15 => ?_)
            refine s_iload hX dX0_hundreds_73 4 rfl ?_
            refine s_mmin hX q756 q500 q95 q501 rfl (by omega) (by first | decide | (simp [rv_cat, cat_i, cat_l]; try omega)) dX0_hundreds_75 ?_
            refine s_istore (i := 8) (L2 := [(8, .int (mn v15 w1)), (7, rv v10), (0, rv p0), (1, .int p1), (3, rv p3), (4, .int w1), (5, .int w2), (6, .int w3)]) hX dX0_hundreds_78 (by decide) (by first | (simp [rv_cat, cat_i, cat_l]; done) | (simp [rv_cat, cat_i, cat_l]; decide)) ?_
            refine s_iload hX dX0_hundreds_80 6 rfl ?_
            refine s_aload hX dX0_hundreds_82 1 rfl ?_
            refine s_iload hX dX0_hundreds_84 0 rfl ?_
            refine s_callV_I (ci := 6) (n := 1) (As := [.int (mn v15 w1)]) (st := [.int w2]) hX (pcK 7) (by decide) (ct_X6_gas X.l v10 (mn v15 w1)) q1229 q1230 q1231 q100 q1232 yvX6_gas (by decide) rfl (by first | decide | simp [rv_cat, cat_i, cat_l]) dX0_hundreds_86 (fun v16 => ?_)
            refine s_iadd hX dX0_hundreds_89 ?_
            refine s_istore (i := 5) (L2 := [(5, .int (w2 + v16)), (8, .int (mn v15 w1)), (7, rv v10), (0, rv p0), (1, .int p1), (3, rv p3), (4, .int w1), (6, .int w3)]) hX dX0_hundreds_90 (by decide) rfl ?_
            refine s_iload hX dX0_hundreds_92 6 rfl ?_
            refine s_iload hX dX0_hundreds_94 1 rfl ?_
            refine s_isub hX dX0_hundreds_96 ?_
            refine s_istore (i := 4) (L2 := [(4, .int (w1 - (mn v15 w1))), (5, .int (w2 + v16)), (8, .int (mn v15 w1)), (7, rv v10), (0, rv p0), (1, .int p1), (3, rv p3), (6, .int w3)]) hX dX0_hundreds_97 (by decide) (by first | (simp [rv_cat, cat_i, cat_l]; done) | (simp [rv_cat, cat_i, cat_l]; decide)) ?_
            exact s_sub [4, 5, 6, 0, 1, 7] rfl (hj99 (w1 - (mn v15 w1)) (w2 + v16))
          · refine s_iconst (v := -1) hX dX0_hundreds_66 (by decide) ?_
            exact s_iret hX dX0_hundreds_67
        · refine s_goto (tgt := 99) hX dX0_hundreds_52 (by decide) ?_
          exact s_sub [1, 2, 3, 4, 5, 6] rfl (hj99 w1 w2)
set_option maxHeartbeats 4000000 in
theorem ct_X0_hundreds (l : Launch) (n : Nat) (p0 : Nat) (p1 : Int32) (p2 : Int32) (p3 : Nat) : Ct l Pic yX0_hundreds (ws_ yX0_hundreds cX0_hundreds 9 (some FieldType.int)) 3 64 cvI [rv p0, .int p1, .int p2, rv p3] (f_X0_hundreds n p0 p1 p2 p3) := by
  refine Ct.of (own := RX0) (L := [(0, rv p0), (1, .int p1), (2, .int p2), (3, rv p3)]) (plainFor_of_name (by decide)) rfl (by first | decide | simp [lg_sl, rv_cat, cat_i, cat_l]) (by first | rfl | simp [lv_args, rv_cat, cat_i, cat_l]) pcZ (fun X hXl hX hnh hin => ?_)
  subst hXl
  unfold f_X0_hundreds
  refine s_iload_n hX dX0_hundreds_0 rfl 2 rfl ?_
  refine s_istore (i := 4) (L2 := [(4, .int p2), (0, rv p0), (1, .int p1), (2, .int p2), (3, rv p3)]) hX dX0_hundreds_1 (by decide) (by first | (simp [rv_cat, cat_i, cat_l]; done) | (simp [rv_cat, cat_i, cat_l]; decide)) ?_
  refine s_iconst (v := 0) hX dX0_hundreds_3 rfl ?_
  refine s_istore (i := 5) (L2 := [(5, .int 0), (4, .int p2), (0, rv p0), (1, .int p1), (2, .int p2), (3, rv p3)]) hX dX0_hundreds_4 (by decide) rfl ?_
  refine s_iconst (v := 0) hX dX0_hundreds_6 rfl ?_
  refine s_istore (i := 6) (L2 := [(6, .int 0), (5, .int 0), (4, .int p2), (0, rv p0), (1, .int p1), (2, .int p2), (3, rv p3)]) hX dX0_hundreds_7 (by decide) rfl ?_
  refine s_jn (P := fun j => ∀ (v4 : Int32), Sim X cvI 105 [(5, .int v4)] [] (j v4)) ?_ (fun j105 hj105 => ?_)
  · intro v4
    refine s_iload hX dX0_hundreds_105 0 rfl ?_
    refine s_bipush (v := 100) hX dX0_hundreds_107 (by decide) ?_
    refine s_idivc hX dX0_hundreds_109 (by decide) ?_
    exact s_iret hX dX0_hundreds_110
  · exact s_sub [3, 4, 6, 2, 1, 0] rfl (s_lp_X0_hundreds_9 hX hnh p0 p1 p3 j105 hj105 n p2 0 0)
theorem dJ17_bitCount_0 : decode cJ17_bitCount 0 = .ok (.iload_n 0, 1) := by decide +kernel
theorem dJ17_bitCount_1 : decode cJ17_bitCount 1 = .ok (.iload_n 0, 1) := by decide +kernel
theorem dJ17_bitCount_2 : decode cJ17_bitCount 2 = .ok (.iconst 1, 1) := by decide +kernel
theorem dJ17_bitCount_3 : decode cJ17_bitCount 3 = .ok (.iushr, 1) := by decide +kernel
theorem dJ17_bitCount_4 : decode cJ17_bitCount 4 = .ok (.ldc_w 265, 3) := by decide +kernel
theorem dJ17_bitCount_7 : decode cJ17_bitCount 7 = .ok (.iand, 1) := by decide +kernel
theorem dJ17_bitCount_8 : decode cJ17_bitCount 8 = .ok (.isub, 1) := by decide +kernel
theorem dJ17_bitCount_9 : decode cJ17_bitCount 9 = .ok (.istore_n 0, 1) := by decide +kernel
theorem dJ17_bitCount_10 : decode cJ17_bitCount 10 = .ok (.iload_n 0, 1) := by decide +kernel
theorem dJ17_bitCount_11 : decode cJ17_bitCount 11 = .ok (.ldc_w 266, 3) := by decide +kernel
theorem dJ17_bitCount_14 : decode cJ17_bitCount 14 = .ok (.iand, 1) := by decide +kernel
theorem dJ17_bitCount_15 : decode cJ17_bitCount 15 = .ok (.iload_n 0, 1) := by decide +kernel
theorem dJ17_bitCount_16 : decode cJ17_bitCount 16 = .ok (.iconst 2, 1) := by decide +kernel
theorem dJ17_bitCount_17 : decode cJ17_bitCount 17 = .ok (.iushr, 1) := by decide +kernel
theorem dJ17_bitCount_18 : decode cJ17_bitCount 18 = .ok (.ldc_w 266, 3) := by decide +kernel
theorem dJ17_bitCount_21 : decode cJ17_bitCount 21 = .ok (.iand, 1) := by decide +kernel
theorem dJ17_bitCount_22 : decode cJ17_bitCount 22 = .ok (.iadd, 1) := by decide +kernel
theorem dJ17_bitCount_23 : decode cJ17_bitCount 23 = .ok (.istore_n 0, 1) := by decide +kernel
theorem dJ17_bitCount_24 : decode cJ17_bitCount 24 = .ok (.iload_n 0, 1) := by decide +kernel
theorem dJ17_bitCount_25 : decode cJ17_bitCount 25 = .ok (.iload_n 0, 1) := by decide +kernel
theorem dJ17_bitCount_26 : decode cJ17_bitCount 26 = .ok (.iconst 4, 1) := by decide +kernel
theorem dJ17_bitCount_27 : decode cJ17_bitCount 27 = .ok (.iushr, 1) := by decide +kernel
theorem dJ17_bitCount_28 : decode cJ17_bitCount 28 = .ok (.iadd, 1) := by decide +kernel
theorem dJ17_bitCount_29 : decode cJ17_bitCount 29 = .ok (.ldc_w 267, 3) := by decide +kernel
theorem dJ17_bitCount_32 : decode cJ17_bitCount 32 = .ok (.iand, 1) := by decide +kernel
theorem dJ17_bitCount_33 : decode cJ17_bitCount 33 = .ok (.istore_n 0, 1) := by decide +kernel
theorem dJ17_bitCount_34 : decode cJ17_bitCount 34 = .ok (.iload_n 0, 1) := by decide +kernel
theorem dJ17_bitCount_35 : decode cJ17_bitCount 35 = .ok (.iload_n 0, 1) := by decide +kernel
theorem dJ17_bitCount_36 : decode cJ17_bitCount 36 = .ok (.bipush 8, 2) := by decide +kernel
theorem dJ17_bitCount_38 : decode cJ17_bitCount 38 = .ok (.iushr, 1) := by decide +kernel
theorem dJ17_bitCount_39 : decode cJ17_bitCount 39 = .ok (.iadd, 1) := by decide +kernel
theorem dJ17_bitCount_40 : decode cJ17_bitCount 40 = .ok (.istore_n 0, 1) := by decide +kernel
theorem dJ17_bitCount_41 : decode cJ17_bitCount 41 = .ok (.iload_n 0, 1) := by decide +kernel
theorem dJ17_bitCount_42 : decode cJ17_bitCount 42 = .ok (.iload_n 0, 1) := by decide +kernel
theorem dJ17_bitCount_43 : decode cJ17_bitCount 43 = .ok (.bipush 16, 2) := by decide +kernel
theorem dJ17_bitCount_45 : decode cJ17_bitCount 45 = .ok (.iushr, 1) := by decide +kernel
theorem dJ17_bitCount_46 : decode cJ17_bitCount 46 = .ok (.iadd, 1) := by decide +kernel
theorem dJ17_bitCount_47 : decode cJ17_bitCount 47 = .ok (.istore_n 0, 1) := by decide +kernel
theorem dJ17_bitCount_48 : decode cJ17_bitCount 48 = .ok (.iload_n 0, 1) := by decide +kernel
theorem dJ17_bitCount_49 : decode cJ17_bitCount 49 = .ok (.bipush 63, 2) := by decide +kernel
theorem dJ17_bitCount_51 : decode cJ17_bitCount 51 = .ok (.iand, 1) := by decide +kernel
theorem dJ17_bitCount_52 : decode cJ17_bitCount 52 = .ok (.ireturn, 1) := by decide +kernel
theorem ycJ17_bitCount : yJ17_bitCount.cls ≠ "java/lang/invoke/MethodHandle" ∧ yJ17_bitCount.cls ≠ "java/lang/invoke/VarHandle" ∧ (parseMethodDescriptor yJ17_bitCount.desc).map (fun d => d.parameters.length) = some 1 := by decide +kernel
noncomputable def f_J17_bitCount (p0 : Int32) : Act Int32 :=
  pur ((((((((p0 - (((p0.toUInt32 >>> ((1 : Int32).toUInt32 &&& Int32.toUInt32 31)).toInt32) &&& 1431655765)) &&& 858993459) + ((((p0 - (((p0.toUInt32 >>> ((1 : Int32).toUInt32 &&& Int32.toUInt32 31)).toInt32) &&& 1431655765)).toUInt32 >>> ((2 : Int32).toUInt32 &&& Int32.toUInt32 31)).toInt32) &&& 858993459)) + (((((p0 - (((p0.toUInt32 >>> ((1 : Int32).toUInt32 &&& Int32.toUInt32 31)).toInt32) &&& 1431655765)) &&& 858993459) + ((((p0 - (((p0.toUInt32 >>> ((1 : Int32).toUInt32 &&& Int32.toUInt32 31)).toInt32) &&& 1431655765)).toUInt32 >>> ((2 : Int32).toUInt32 &&& Int32.toUInt32 31)).toInt32) &&& 858993459)).toUInt32 >>> ((4 : Int32).toUInt32 &&& Int32.toUInt32 31)).toInt32)) &&& 252645135) + (((((((p0 - (((p0.toUInt32 >>> ((1 : Int32).toUInt32 &&& Int32.toUInt32 31)).toInt32) &&& 1431655765)) &&& 858993459) + ((((p0 - (((p0.toUInt32 >>> ((1 : Int32).toUInt32 &&& Int32.toUInt32 31)).toInt32) &&& 1431655765)).toUInt32 >>> ((2 : Int32).toUInt32 &&& Int32.toUInt32 31)).toInt32) &&& 858993459)) + (((((p0 - (((p0.toUInt32 >>> ((1 : Int32).toUInt32 &&& Int32.toUInt32 31)).toInt32) &&& 1431655765)) &&& 858993459) + ((((p0 - (((p0.toUInt32 >>> ((1 : Int32).toUInt32 &&& Int32.toUInt32 31)).toInt32) &&& 1431655765)).toUInt32 >>> ((2 : Int32).toUInt32 &&& Int32.toUInt32 31)).toInt32) &&& 858993459)).toUInt32 >>> ((4 : Int32).toUInt32 &&& Int32.toUInt32 31)).toInt32)) &&& 252645135).toUInt32 >>> ((8 : Int32).toUInt32 &&& Int32.toUInt32 31)).toInt32)) + ((((((((p0 - (((p0.toUInt32 >>> ((1 : Int32).toUInt32 &&& Int32.toUInt32 31)).toInt32) &&& 1431655765)) &&& 858993459) + ((((p0 - (((p0.toUInt32 >>> ((1 : Int32).toUInt32 &&& Int32.toUInt32 31)).toInt32) &&& 1431655765)).toUInt32 >>> ((2 : Int32).toUInt32 &&& Int32.toUInt32 31)).toInt32) &&& 858993459)) + (((((p0 - (((p0.toUInt32 >>> ((1 : Int32).toUInt32 &&& Int32.toUInt32 31)).toInt32) &&& 1431655765)) &&& 858993459) + ((((p0 - (((p0.toUInt32 >>> ((1 : Int32).toUInt32 &&& Int32.toUInt32 31)).toInt32) &&& 1431655765)).toUInt32 >>> ((2 : Int32).toUInt32 &&& Int32.toUInt32 31)).toInt32) &&& 858993459)).toUInt32 >>> ((4 : Int32).toUInt32 &&& Int32.toUInt32 31)).toInt32)) &&& 252645135) + (((((((p0 - (((p0.toUInt32 >>> ((1 : Int32).toUInt32 &&& Int32.toUInt32 31)).toInt32) &&& 1431655765)) &&& 858993459) + ((((p0 - (((p0.toUInt32 >>> ((1 : Int32).toUInt32 &&& Int32.toUInt32 31)).toInt32) &&& 1431655765)).toUInt32 >>> ((2 : Int32).toUInt32 &&& Int32.toUInt32 31)).toInt32) &&& 858993459)) + (((((p0 - (((p0.toUInt32 >>> ((1 : Int32).toUInt32 &&& Int32.toUInt32 31)).toInt32) &&& 1431655765)) &&& 858993459) + ((((p0 - (((p0.toUInt32 >>> ((1 : Int32).toUInt32 &&& Int32.toUInt32 31)).toInt32) &&& 1431655765)).toUInt32 >>> ((2 : Int32).toUInt32 &&& Int32.toUInt32 31)).toInt32) &&& 858993459)).toUInt32 >>> ((4 : Int32).toUInt32 &&& Int32.toUInt32 31)).toInt32)) &&& 252645135).toUInt32 >>> ((8 : Int32).toUInt32 &&& Int32.toUInt32 31)).toInt32)).toUInt32 >>> ((16 : Int32).toUInt32 &&& Int32.toUInt32 31)).toInt32)) &&& 63)
set_option maxHeartbeats 4000000 in
theorem ct_J17_bitCount (l : Launch) (p0 : Int32) : Ct l Pic yJ17_bitCount (ws_ yJ17_bitCount cJ17_bitCount 1 (some FieldType.int)) 0 0 cvI [.int p0] (f_J17_bitCount p0) := by
  refine Ct.of (own := RJ17) (L := [(0, .int p0)]) (by decide +kernel) rfl (by first | decide | simp [lg_sl, rv_cat, cat_i, cat_l]) (by first | rfl | simp [lv_args, rv_cat, cat_i, cat_l]) pcZ (fun X hXl hX hnh hin => ?_)
  subst hXl
  unfold f_J17_bitCount
  refine s_iload_n hX dJ17_bitCount_0 rfl 0 rfl ?_
  refine s_iload_n hX dJ17_bitCount_1 rfl 0 rfl ?_
  refine s_iconst (v := 1) hX dJ17_bitCount_2 rfl ?_
  refine s_iushr hX dJ17_bitCount_3 ?_
  refine s_ldcw (v := 1431655765) hX dJ17_bitCount_4 q1502 ?_
  refine s_iand hX dJ17_bitCount_7 ?_
  refine s_isub hX dJ17_bitCount_8 ?_
  refine s_istore_n (i := 0) (L2 := [(0, .int (p0 - (((p0.toUInt32 >>> ((1 : Int32).toUInt32 &&& Int32.toUInt32 31)).toInt32) &&& 1431655765)))]) hX dJ17_bitCount_9 rfl (by decide) rfl ?_
  refine s_iload_n hX dJ17_bitCount_10 rfl 0 rfl ?_
  refine s_ldcw (v := 858993459) hX dJ17_bitCount_11 q1503 ?_
  refine s_iand hX dJ17_bitCount_14 ?_
  refine s_iload_n hX dJ17_bitCount_15 rfl 0 rfl ?_
  refine s_iconst (v := 2) hX dJ17_bitCount_16 rfl ?_
  refine s_iushr hX dJ17_bitCount_17 ?_
  refine s_ldcw (v := 858993459) hX dJ17_bitCount_18 q1503 ?_
  refine s_iand hX dJ17_bitCount_21 ?_
  refine s_iadd hX dJ17_bitCount_22 ?_
  refine s_istore_n (i := 0) (L2 := [(0, .int (((p0 - (((p0.toUInt32 >>> ((1 : Int32).toUInt32 &&& Int32.toUInt32 31)).toInt32) &&& 1431655765)) &&& 858993459) + ((((p0 - (((p0.toUInt32 >>> ((1 : Int32).toUInt32 &&& Int32.toUInt32 31)).toInt32) &&& 1431655765)).toUInt32 >>> ((2 : Int32).toUInt32 &&& Int32.toUInt32 31)).toInt32) &&& 858993459)))]) hX dJ17_bitCount_23 rfl (by decide) rfl ?_
  refine s_iload_n hX dJ17_bitCount_24 rfl 0 rfl ?_
  refine s_iload_n hX dJ17_bitCount_25 rfl 0 rfl ?_
  refine s_iconst (v := 4) hX dJ17_bitCount_26 rfl ?_
  refine s_iushr hX dJ17_bitCount_27 ?_
  refine s_iadd hX dJ17_bitCount_28 ?_
  refine s_ldcw (v := 252645135) hX dJ17_bitCount_29 q1504 ?_
  refine s_iand hX dJ17_bitCount_32 ?_
  refine s_istore_n (i := 0) (L2 := [(0, .int (((((p0 - (((p0.toUInt32 >>> ((1 : Int32).toUInt32 &&& Int32.toUInt32 31)).toInt32) &&& 1431655765)) &&& 858993459) + ((((p0 - (((p0.toUInt32 >>> ((1 : Int32).toUInt32 &&& Int32.toUInt32 31)).toInt32) &&& 1431655765)).toUInt32 >>> ((2 : Int32).toUInt32 &&& Int32.toUInt32 31)).toInt32) &&& 858993459)) + (((((p0 - (((p0.toUInt32 >>> ((1 : Int32).toUInt32 &&& Int32.toUInt32 31)).toInt32) &&& 1431655765)) &&& 858993459) + ((((p0 - (((p0.toUInt32 >>> ((1 : Int32).toUInt32 &&& Int32.toUInt32 31)).toInt32) &&& 1431655765)).toUInt32 >>> ((2 : Int32).toUInt32 &&& Int32.toUInt32 31)).toInt32) &&& 858993459)).toUInt32 >>> ((4 : Int32).toUInt32 &&& Int32.toUInt32 31)).toInt32)) &&& 252645135))]) hX dJ17_bitCount_33 rfl (by decide) rfl ?_
  refine s_iload_n hX dJ17_bitCount_34 rfl 0 rfl ?_
  refine s_iload_n hX dJ17_bitCount_35 rfl 0 rfl ?_
  refine s_bipush (v := 8) hX dJ17_bitCount_36 (by decide) ?_
  refine s_iushr hX dJ17_bitCount_38 ?_
  refine s_iadd hX dJ17_bitCount_39 ?_
  refine s_istore_n (i := 0) (L2 := [(0, .int ((((((p0 - (((p0.toUInt32 >>> ((1 : Int32).toUInt32 &&& Int32.toUInt32 31)).toInt32) &&& 1431655765)) &&& 858993459) + ((((p0 - (((p0.toUInt32 >>> ((1 : Int32).toUInt32 &&& Int32.toUInt32 31)).toInt32) &&& 1431655765)).toUInt32 >>> ((2 : Int32).toUInt32 &&& Int32.toUInt32 31)).toInt32) &&& 858993459)) + (((((p0 - (((p0.toUInt32 >>> ((1 : Int32).toUInt32 &&& Int32.toUInt32 31)).toInt32) &&& 1431655765)) &&& 858993459) + ((((p0 - (((p0.toUInt32 >>> ((1 : Int32).toUInt32 &&& Int32.toUInt32 31)).toInt32) &&& 1431655765)).toUInt32 >>> ((2 : Int32).toUInt32 &&& Int32.toUInt32 31)).toInt32) &&& 858993459)).toUInt32 >>> ((4 : Int32).toUInt32 &&& Int32.toUInt32 31)).toInt32)) &&& 252645135) + (((((((p0 - (((p0.toUInt32 >>> ((1 : Int32).toUInt32 &&& Int32.toUInt32 31)).toInt32) &&& 1431655765)) &&& 858993459) + ((((p0 - (((p0.toUInt32 >>> ((1 : Int32).toUInt32 &&& Int32.toUInt32 31)).toInt32) &&& 1431655765)).toUInt32 >>> ((2 : Int32).toUInt32 &&& Int32.toUInt32 31)).toInt32) &&& 858993459)) + (((((p0 - (((p0.toUInt32 >>> ((1 : Int32).toUInt32 &&& Int32.toUInt32 31)).toInt32) &&& 1431655765)) &&& 858993459) + ((((p0 - (((p0.toUInt32 >>> ((1 : Int32).toUInt32 &&& Int32.toUInt32 31)).toInt32) &&& 1431655765)).toUInt32 >>> ((2 : Int32).toUInt32 &&& Int32.toUInt32 31)).toInt32) &&& 858993459)).toUInt32 >>> ((4 : Int32).toUInt32 &&& Int32.toUInt32 31)).toInt32)) &&& 252645135).toUInt32 >>> ((8 : Int32).toUInt32 &&& Int32.toUInt32 31)).toInt32)))]) hX dJ17_bitCount_40 rfl (by decide) rfl ?_
  refine s_iload_n hX dJ17_bitCount_41 rfl 0 rfl ?_
  refine s_iload_n hX dJ17_bitCount_42 rfl 0 rfl ?_
  refine s_bipush (v := 16) hX dJ17_bitCount_43 (by decide) ?_
  refine s_iushr hX dJ17_bitCount_45 ?_
  refine s_iadd hX dJ17_bitCount_46 ?_
  refine s_istore_n (i := 0) (L2 := [(0, .int (((((((p0 - (((p0.toUInt32 >>> ((1 : Int32).toUInt32 &&& Int32.toUInt32 31)).toInt32) &&& 1431655765)) &&& 858993459) + ((((p0 - (((p0.toUInt32 >>> ((1 : Int32).toUInt32 &&& Int32.toUInt32 31)).toInt32) &&& 1431655765)).toUInt32 >>> ((2 : Int32).toUInt32 &&& Int32.toUInt32 31)).toInt32) &&& 858993459)) + (((((p0 - (((p0.toUInt32 >>> ((1 : Int32).toUInt32 &&& Int32.toUInt32 31)).toInt32) &&& 1431655765)) &&& 858993459) + ((((p0 - (((p0.toUInt32 >>> ((1 : Int32).toUInt32 &&& Int32.toUInt32 31)).toInt32) &&& 1431655765)).toUInt32 >>> ((2 : Int32).toUInt32 &&& Int32.toUInt32 31)).toInt32) &&& 858993459)).toUInt32 >>> ((4 : Int32).toUInt32 &&& Int32.toUInt32 31)).toInt32)) &&& 252645135) + (((((((p0 - (((p0.toUInt32 >>> ((1 : Int32).toUInt32 &&& Int32.toUInt32 31)).toInt32) &&& 1431655765)) &&& 858993459) + ((((p0 - (((p0.toUInt32 >>> ((1 : Int32).toUInt32 &&& Int32.toUInt32 31)).toInt32) &&& 1431655765)).toUInt32 >>> ((2 : Int32).toUInt32 &&& Int32.toUInt32 31)).toInt32) &&& 858993459)) + (((((p0 - (((p0.toUInt32 >>> ((1 : Int32).toUInt32 &&& Int32.toUInt32 31)).toInt32) &&& 1431655765)) &&& 858993459) + ((((p0 - (((p0.toUInt32 >>> ((1 : Int32).toUInt32 &&& Int32.toUInt32 31)).toInt32) &&& 1431655765)).toUInt32 >>> ((2 : Int32).toUInt32 &&& Int32.toUInt32 31)).toInt32) &&& 858993459)).toUInt32 >>> ((4 : Int32).toUInt32 &&& Int32.toUInt32 31)).toInt32)) &&& 252645135).toUInt32 >>> ((8 : Int32).toUInt32 &&& Int32.toUInt32 31)).toInt32)) + ((((((((p0 - (((p0.toUInt32 >>> ((1 : Int32).toUInt32 &&& Int32.toUInt32 31)).toInt32) &&& 1431655765)) &&& 858993459) + ((((p0 - (((p0.toUInt32 >>> ((1 : Int32).toUInt32 &&& Int32.toUInt32 31)).toInt32) &&& 1431655765)).toUInt32 >>> ((2 : Int32).toUInt32 &&& Int32.toUInt32 31)).toInt32) &&& 858993459)) + (((((p0 - (((p0.toUInt32 >>> ((1 : Int32).toUInt32 &&& Int32.toUInt32 31)).toInt32) &&& 1431655765)) &&& 858993459) + ((((p0 - (((p0.toUInt32 >>> ((1 : Int32).toUInt32 &&& Int32.toUInt32 31)).toInt32) &&& 1431655765)).toUInt32 >>> ((2 : Int32).toUInt32 &&& Int32.toUInt32 31)).toInt32) &&& 858993459)).toUInt32 >>> ((4 : Int32).toUInt32 &&& Int32.toUInt32 31)).toInt32)) &&& 252645135) + (((((((p0 - (((p0.toUInt32 >>> ((1 : Int32).toUInt32 &&& Int32.toUInt32 31)).toInt32) &&& 1431655765)) &&& 858993459) + ((((p0 - (((p0.toUInt32 >>> ((1 : Int32).toUInt32 &&& Int32.toUInt32 31)).toInt32) &&& 1431655765)).toUInt32 >>> ((2 : Int32).toUInt32 &&& Int32.toUInt32 31)).toInt32) &&& 858993459)) + (((((p0 - (((p0.toUInt32 >>> ((1 : Int32).toUInt32 &&& Int32.toUInt32 31)).toInt32) &&& 1431655765)) &&& 858993459) + ((((p0 - (((p0.toUInt32 >>> ((1 : Int32).toUInt32 &&& Int32.toUInt32 31)).toInt32) &&& 1431655765)).toUInt32 >>> ((2 : Int32).toUInt32 &&& Int32.toUInt32 31)).toInt32) &&& 858993459)).toUInt32 >>> ((4 : Int32).toUInt32 &&& Int32.toUInt32 31)).toInt32)) &&& 252645135).toUInt32 >>> ((8 : Int32).toUInt32 &&& Int32.toUInt32 31)).toInt32)).toUInt32 >>> ((16 : Int32).toUInt32 &&& Int32.toUInt32 31)).toInt32)))]) hX dJ17_bitCount_47 rfl (by decide) rfl ?_
  refine s_iload_n hX dJ17_bitCount_48 rfl 0 rfl ?_
  refine s_bipush (v := 63) hX dJ17_bitCount_49 (by decide) ?_
  refine s_iand hX dJ17_bitCount_51 ?_
  exact s_iret hX dJ17_bitCount_52
theorem dX0_costOf_0 : decode cX0_costOf 0 = .ok (.aload_n 0, 1) := by decide +kernel
theorem dX0_costOf_1 : decode cX0_costOf 1 = .ok (.getfield 96, 3) := by decide +kernel
theorem dX0_costOf_4 : decode cX0_costOf 4 = .ok (.bipush 16, 2) := by decide +kernel
theorem dX0_costOf_6 : decode cX0_costOf 6 = .ok (.iload_n 1, 1) := by decide +kernel
theorem dX0_costOf_7 : decode cX0_costOf 7 = .ok (.imul, 1) := by decide +kernel
theorem dX0_costOf_8 : decode cX0_costOf 8 = .ok (.iload_n 3, 1) := by decide +kernel
theorem dX0_costOf_9 : decode cX0_costOf 9 = .ok (.iadd, 1) := by decide +kernel
theorem dX0_costOf_10 : decode cX0_costOf 10 = .ok (.iaload, 1) := by decide +kernel
theorem dX0_costOf_11 : decode cX0_costOf 11 = .ok (.istore 5, 2) := by decide +kernel
theorem dX0_costOf_13 : decode cX0_costOf 13 = .ok (.iload 5, 2) := by decide +kernel
theorem dX0_costOf_15 : decode cX0_costOf 15 = .ok (.ifCond .ge 7, 3) := by decide +kernel
theorem dX0_costOf_18 : decode cX0_costOf 18 = .ok (.ldc_w 501, 3) := by decide +kernel
theorem dX0_costOf_21 : decode cX0_costOf 21 = .ok (.ireturn, 1) := by decide +kernel
theorem dX0_costOf_22 : decode cX0_costOf 22 = .ok (.ldc_w 501, 3) := by decide +kernel
theorem dX0_costOf_25 : decode cX0_costOf 25 = .ok (.bipush 50, 2) := by decide +kernel
theorem dX0_costOf_27 : decode cX0_costOf 27 = .ok (.iload_n 3, 1) := by decide +kernel
theorem dX0_costOf_28 : decode cX0_costOf 28 = .ok (.iload_n 2, 1) := by decide +kernel
theorem dX0_costOf_29 : decode cX0_costOf 29 = .ok (.iconst (-1), 1) := by decide +kernel
theorem dX0_costOf_30 : decode cX0_costOf 30 = .ok (.ixor, 1) := by decide +kernel
theorem dX0_costOf_31 : decode cX0_costOf 31 = .ok (.iand, 1) := by decide +kernel
theorem dX0_costOf_32 : decode cX0_costOf 32 = .ok (.invokestatic 630, 3) := by decide +kernel
theorem dX0_costOf_35 : decode cX0_costOf 35 = .ok (.imul, 1) := by decide +kernel
theorem dX0_costOf_36 : decode cX0_costOf 36 = .ok (.iconst 3, 1) := by decide +kernel
theorem dX0_costOf_37 : decode cX0_costOf 37 = .ok (.iload_n 3, 1) := by decide +kernel
theorem dX0_costOf_38 : decode cX0_costOf 38 = .ok (.invokestatic 630, 3) := by decide +kernel
theorem dX0_costOf_41 : decode cX0_costOf 41 = .ok (.imul, 1) := by decide +kernel
theorem dX0_costOf_42 : decode cX0_costOf 42 = .ok (.iadd, 1) := by decide +kernel
theorem dX0_costOf_43 : decode cX0_costOf 43 = .ok (.aload_n 0, 1) := by decide +kernel
theorem dX0_costOf_44 : decode cX0_costOf 44 = .ok (.getfield 93, 3) := by decide +kernel
theorem dX0_costOf_47 : decode cX0_costOf 47 = .ok (.bipush 16, 2) := by decide +kernel
theorem dX0_costOf_49 : decode cX0_costOf 49 = .ok (.iload_n 1, 1) := by decide +kernel
theorem dX0_costOf_50 : decode cX0_costOf 50 = .ok (.iconst 1, 1) := by decide +kernel
theorem dX0_costOf_51 : decode cX0_costOf 51 = .ok (.iadd, 1) := by decide +kernel
theorem dX0_costOf_52 : decode cX0_costOf 52 = .ok (.imul, 1) := by decide +kernel
theorem dX0_costOf_53 : decode cX0_costOf 53 = .ok (.iload_n 3, 1) := by decide +kernel
theorem dX0_costOf_54 : decode cX0_costOf 54 = .ok (.iadd, 1) := by decide +kernel
theorem dX0_costOf_55 : decode cX0_costOf 55 = .ok (.bipush 61, 2) := by decide +kernel
theorem dX0_costOf_57 : decode cX0_costOf 57 = .ok (.imul, 1) := by decide +kernel
theorem dX0_costOf_58 : decode cX0_costOf 58 = .ok (.iconst 0, 1) := by decide +kernel
theorem dX0_costOf_59 : decode cX0_costOf 59 = .ok (.iload 4, 2) := by decide +kernel
theorem dX0_costOf_61 : decode cX0_costOf 61 = .ok (.iload 5, 2) := by decide +kernel
theorem dX0_costOf_63 : decode cX0_costOf 63 = .ok (.isub, 1) := by decide +kernel
theorem dX0_costOf_64 : decode cX0_costOf 64 = .ok (.invokestatic 635, 3) := by decide +kernel
theorem dX0_costOf_67 : decode cX0_costOf 67 = .ok (.iadd, 1) := by decide +kernel
theorem dX0_costOf_68 : decode cX0_costOf 68 = .ok (.iaload, 1) := by decide +kernel
theorem dX0_costOf_69 : decode cX0_costOf 69 = .ok (.iadd, 1) := by decide +kernel
theorem dX0_costOf_70 : decode cX0_costOf 70 = .ok (.invokestatic 205, 3) := by decide +kernel
theorem dX0_costOf_73 : decode cX0_costOf 73 = .ok (.ireturn, 1) := by decide +kernel
theorem ycX0_costOf : yX0_costOf.cls ≠ "java/lang/invoke/MethodHandle" ∧ yX0_costOf.cls ≠ "java/lang/invoke/VarHandle" ∧ (parseMethodDescriptor yX0_costOf.desc).map (fun d => d.parameters.length) = some 4 := by decide +kernel
theorem yvX0_costOf : yX0_costOf.cls = RR 0 ∧ yX0_costOf.cls ≠ "java/lang/invoke/MethodHandle" ∧ yX0_costOf.cls ≠ "java/lang/invoke/VarHandle" ∧ (parseMethodDescriptor yX0_costOf.desc).map (fun d => d.parameters.length) = some 4 := ⟨rfl, ycX0_costOf⟩
noncomputable def f_X0_costOf (p0 : Nat) (p1 : Int32) (p2 : Int32) (p3 : Int32) (p4 : Int32) : Act Int32 :=
  bnd (getR 0 41 p0) fun v1 =>
  bnd (ldI 0 v1 ((16 * p1) + p3)) fun v2 =>
  if 0 ≤ v2 then
    bnd (nt (f_J17_bitCount (p3 &&& (p2 ^^^ (-1))))) fun v3 =>
    bnd (nt (f_J17_bitCount p3)) fun v4 =>
    bnd (getR 0 40 p0) fun v5 =>
    bnd (ldI 0 v5 ((((16 * (p1 + 1)) + p3) * 61) + (mx (0 : Int32) (p4 - v2)))) fun v6 =>
    pur (mn (1000000 : Int32) (((50 * v3) + (3 * v4)) + v6))
  else
    pur 1000000
set_option maxHeartbeats 4000000 in
theorem ct_X0_costOf (l : Launch) (p0 : Nat) (p1 : Int32) (p2 : Int32) (p3 : Int32) (p4 : Int32) : Ct l Pic yX0_costOf (ws_ yX0_costOf cX0_costOf 6 (some FieldType.int)) 1 24 cvI [rv p0, .int p1, .int p2, .int p3, .int p4] (f_X0_costOf p0 p1 p2 p3 p4) := by
  refine Ct.of (own := RX0) (L := [(0, rv p0), (1, .int p1), (2, .int p2), (3, .int p3), (4, .int p4)]) (plainFor_of_name (by decide)) rfl (by first | decide | simp [lg_sl, rv_cat, cat_i, cat_l]) (by first | rfl | simp [lv_args, rv_cat, cat_i, cat_l]) pcZ (fun X hXl hX hnh hin => ?_)
  subst hXl
  unfold f_X0_costOf
  refine s_aload_n hX dX0_costOf_0 rfl 0 rfl ?_
  refine s_getR (ci := 0) (j := 41) (ref := "WindGas") hX (pcG 0) in_X0 (Or.inl q307) (by decide) (by decide) (by decide) rfl dX0_costOf_1 (fun _ h9 => h9) (fun v1 => ?_)
  refine s_bipush (v := 16) hX dX0_costOf_4 (by decide) ?_
  refine s_iload_n hX dX0_costOf_6 rfl 1 rfl ?_
  refine s_imul hX dX0_costOf_7 ?_
  refine s_iload_n hX dX0_costOf_8 rfl 3 rfl ?_
  refine s_iadd hX dX0_costOf_9 ?_
  refine s_iald hX (pcA 0) dX0_costOf_10 (fun v2 => ?_)
  refine s_istore (i := 5) (L2 := [(5, .int v2), (0, rv p0), (1, .int p1), (2, .int p2), (3, .int p3), (4, .int p4)]) hX dX0_costOf_11 (by decide) rfl ?_
  refine s_iload hX dX0_costOf_13 0 rfl ?_
  refine s_if_ge (tgt := 22) hX dX0_costOf_15 (by decide) ?_ ?_
  · refine s_ldcw (v := 1000000) hX dX0_costOf_22 q1238 ?_
    refine s_bipush (v := 50) hX dX0_costOf_25 (by decide) ?_
    refine s_iload_n hX dX0_costOf_27 rfl 4 rfl ?_
    refine s_iload_n hX dX0_costOf_28 rfl 3 rfl ?_
    refine s_iconst (v := -1) hX dX0_costOf_29 (by decide) ?_
    refine s_ixor hX dX0_costOf_30 ?_
    refine s_iand hX dX0_costOf_31 ?_
    refine s_callS_I (n := 1) (As := [.int (p3 &&& (p2 ^^^ (-1)))]) (st := [.int 50, .int 1000000]) hX (ct_J17_bitCount X.l (p3 &&& (p2 ^^^ (-1)))) q1499 q1500 q119 q1501 ycJ17_bitCount (by decide) rfl (by first | decide | simp [rv_cat, cat_i, cat_l]) dX0_costOf_32 (fun v3 => ?_)
    refine s_imul hX dX0_costOf_35 ?_
    refine s_iconst (v := 3) hX dX0_costOf_36 rfl ?_
    refine s_iload_n hX dX0_costOf_37 rfl 4 rfl ?_
    refine s_callS_I (n := 1) (As := [.int p3]) (st := [.int 3, .int (50 * v3), .int 1000000]) hX (ct_J17_bitCount X.l p3) q1499 q1500 q119 q1501 ycJ17_bitCount (by decide) rfl (by first | decide | simp [rv_cat, cat_i, cat_l]) dX0_costOf_38 (fun v4 => ?_)
    refine s_imul hX dX0_costOf_41 ?_
    refine s_iadd hX dX0_costOf_42 ?_
    refine s_aload_n hX dX0_costOf_43 rfl 1 rfl ?_
    refine s_getR (ci := 0) (j := 40) (ref := "WindGas") hX (pcG 0) in_X0 (Or.inl q306) (by decide) (by decide) (by decide) rfl dX0_costOf_44 (fun _ h9 => h9) (fun v5 => ?_)
    refine s_bipush (v := 16) hX dX0_costOf_47 (by decide) ?_
    refine s_iload_n hX dX0_costOf_49 rfl 2 rfl ?_
    refine s_iconst (v := 1) hX dX0_costOf_50 rfl ?_
    refine s_iadd hX dX0_costOf_51 ?_
    refine s_imul hX dX0_costOf_52 ?_
    refine s_iload_n hX dX0_costOf_53 rfl 4 rfl ?_
    refine s_iadd hX dX0_costOf_54 ?_
    refine s_bipush (v := 61) hX dX0_costOf_55 (by decide) ?_
    refine s_imul hX dX0_costOf_57 ?_
    refine s_iconst (v := 0) hX dX0_costOf_58 rfl ?_
    refine s_iload hX dX0_costOf_59 5 rfl ?_
    refine s_iload hX dX0_costOf_61 0 rfl ?_
    refine s_isub hX dX0_costOf_63 ?_
    refine s_mmax hX q1505 q459 q95 q460 rfl (by omega) (by first | decide | (simp [rv_cat, cat_i, cat_l]; try omega)) dX0_costOf_64 ?_
    refine s_iadd hX dX0_costOf_67 ?_
    refine s_iald hX (pcA 0) dX0_costOf_68 (fun v6 => ?_)
    refine s_iadd hX dX0_costOf_69 ?_
    refine s_mmin hX q756 q500 q95 q501 rfl (by omega) (by first | decide | (simp [rv_cat, cat_i, cat_l]; try omega)) dX0_costOf_70 ?_
    exact s_iret hX dX0_costOf_73
  · refine s_ldcw (v := 1000000) hX dX0_costOf_18 q1238 ?_
    exact s_iret hX dX0_costOf_21
theorem dX0_running_0 : decode cX0_running 0 = .ok (.iconst 0, 1) := by decide +kernel
theorem dX0_running_1 : decode cX0_running 1 = .ok (.istore_n 1, 1) := by decide +kernel
theorem dX0_running_2 : decode cX0_running 2 = .ok (.iconst 0, 1) := by decide +kernel
theorem dX0_running_3 : decode cX0_running 3 = .ok (.istore_n 2, 1) := by decide +kernel
theorem dX0_running_4 : decode cX0_running 4 = .ok (.iload_n 2, 1) := by decide +kernel
theorem dX0_running_5 : decode cX0_running 5 = .ok (.aload_n 0, 1) := by decide +kernel
theorem dX0_running_6 : decode cX0_running 6 = .ok (.getfield 64, 3) := by decide +kernel
theorem dX0_running_9 : decode cX0_running 9 = .ok (.invokevirtual 124, 3) := by decide +kernel
theorem dX0_running_12 : decode cX0_running 12 = .ok (.if_icmp .ge 36, 3) := by decide +kernel
theorem dX0_running_15 : decode cX0_running 15 = .ok (.iload_n 1, 1) := by decide +kernel
theorem dX0_running_16 : decode cX0_running 16 = .ok (.aload_n 0, 1) := by decide +kernel
theorem dX0_running_17 : decode cX0_running 17 = .ok (.getfield 64, 3) := by decide +kernel
theorem dX0_running_20 : decode cX0_running 20 = .ok (.iload_n 2, 1) := by decide +kernel
theorem dX0_running_21 : decode cX0_running 21 = .ok (.invokevirtual 128, 3) := by decide +kernel
theorem dX0_running_24 : decode cX0_running 24 = .ok (.checkcast 417, 3) := by decide +kernel
theorem dX0_running_27 : decode cX0_running 27 = .ok (.getfield 428, 3) := by decide +kernel
theorem dX0_running_30 : decode cX0_running 30 = .ok (.ifCond .eq 9, 3) := by decide +kernel
theorem dX0_running_33 : decode cX0_running 33 = .ok (.iconst 1, 1) := by decide +kernel
theorem dX0_running_34 : decode cX0_running 34 = .ok (.iload_n 2, 1) := by decide +kernel
theorem dX0_running_35 : decode cX0_running 35 = .ok (.ishl, 1) := by decide +kernel
theorem dX0_running_36 : decode cX0_running 36 = .ok (.goto 4, 3) := by decide +kernel
theorem dX0_running_39 : decode cX0_running 39 = .ok (.iconst 0, 1) := by decide +kernel
theorem dX0_running_40 : decode cX0_running 40 = .ok (.ior, 1) := by decide +kernel
theorem dX0_running_41 : decode cX0_running 41 = .ok (.istore_n 1, 1) := by decide +kernel
theorem dX0_running_42 : decode cX0_running 42 = .ok (.iinc 2 1, 3) := by decide +kernel
theorem dX0_running_45 : decode cX0_running 45 = .ok (.goto (-41), 3) := by decide +kernel
theorem dX0_running_48 : decode cX0_running 48 = .ok (.iload_n 1, 1) := by decide +kernel
theorem dX0_running_49 : decode cX0_running 49 = .ok (.ireturn, 1) := by decide +kernel
theorem ycX0_running : yX0_running.cls ≠ "java/lang/invoke/MethodHandle" ∧ yX0_running.cls ≠ "java/lang/invoke/VarHandle" ∧ (parseMethodDescriptor yX0_running.desc).map (fun d => d.parameters.length) = some 0 := by decide +kernel
theorem yvX0_running : yX0_running.cls = RR 0 ∧ yX0_running.cls ≠ "java/lang/invoke/MethodHandle" ∧ yX0_running.cls ≠ "java/lang/invoke/VarHandle" ∧ (parseMethodDescriptor yX0_running.desc).map (fun d => d.parameters.length) = some 0 := ⟨rfl, ycX0_running⟩
noncomputable def lp_X0_running_4 (p0 : Nat) (q : Nat) : Int32 → Int32 → Act Int32 := match q with
  | 0 => fun _ _ => fail
  | q + 1 => fun w1 w2 =>
    bnd (getR 0 18 p0) fun v3 =>
    bnd (gd 17 v3 (nt (P_size v3))) fun v4 =>
    if v4 ≤ w2 then
      pur w1
    else
      bnd (getR 0 18 p0) fun v5 =>
      bnd (gd 17 v5 (nt (P_get v5 w2))) fun v6 =>
      bnd (cst [7] v6) fun _ =>
      bnd (getI 6 7 v6) fun v7 =>
      jn (fun (v8 : Int32) =>
        (lp_X0_running_4 p0 q) (w1 ||| v8) (w2 + 1)) fun j40 =>
      if v7 = 0 then
        j40 0
      else
        j40 (1 <<< (w2 &&& 31))
noncomputable def f_X0_running (n : Nat) (p0 : Nat) : Act Int32 :=
  lp_X0_running_4 p0 n 0 0
set_option maxHeartbeats 4000000 in
theorem s_lp_X0_running_4 {X : Cx} (hX : Ok X Pic cX0_running RX0 3 (some FieldType.int) 3 64) (hnh : Noh X) (p0 : Nat) (q : Nat) : ∀ (w1 : Int32) (w2 : Int32), Sim X cvI 4 [(0, rv p0), (1, .int w1), (2, .int w2)] [] (lp_X0_running_4 p0 q w1 w2) := by
  induction q with
  | zero => intro w1 w2; exact s_fail
  | succ q ih4 =>
    intro w1 w2
    rw [lp_X0_running_4]
    refine s_iload_n hX dX0_running_4 rfl 2 rfl ?_
    refine s_aload_n hX dX0_running_5 rfl 0 rfl ?_
    refine s_getR (ci := 0) (j := 18) (ref := "WindGas") hX (pcG 0) in_X0 (Or.inl q284) (by decide) (by decide) (by decide) rfl dX0_running_6 (fun _ h9 => h9) (fun v3 => ?_)
    refine s_callV_I (ci := 17) (n := 0) (As := []) (st := [.int w2]) hX (pcK 18) (by decide) (pt_size X.l v3) q554 q417 q418 q88 q419 yvJ2_size (by decide) rfl (by first | decide | simp [rv_cat, cat_i, cat_l]) dX0_running_9 (fun v4 => ?_)
    refine s_icmp_ge (tgt := 48) hX dX0_running_12 (by decide) ?_ ?_
    · refine s_iload_n hX dX0_running_48 rfl 1 rfl ?_
      exact s_iret hX dX0_running_49
    · refine s_iload_n hX dX0_running_15 rfl 1 rfl ?_
      refine s_aload_n hX dX0_running_16 rfl 0 rfl ?_
      refine s_getR (ci := 0) (j := 18) (ref := "WindGas") hX (pcG 0) in_X0 (Or.inl q284) (by decide) (by decide) (by decide) rfl dX0_running_17 (fun _ h9 => h9) (fun v5 => ?_)
      refine s_iload_n hX dX0_running_20 rfl 2 rfl ?_
      refine s_callV_R (ci := 17) (n := 1) (As := [.int w2]) (st := [.int w1]) hX (pcK 18) (by decide) (pt_get X.l v5 w2) q555 q516 q517 q88 q518 yvJ2_get (by decide) rfl (by first | decide | simp [rv_cat, cat_i, cat_l]) dX0_running_21 (fun v6 => ?_)
      refine s_cast (ks := [7]) hX (elC 6 (by decide)) q1110 dX0_running_24 ?_
      refine s_getI (ci := 6) (j := 7) (ref := "WindGas$Stack") hX (pcG 6) in_X6 (Or.inr ⟨_, q1126⟩) (by decide) (by decide) (by decide) rfl dX0_running_27 (fun _ h9 => h9) (fun v7 => ?_)
      refine s_jn (P := fun j => ∀ (v8 : Int32), Sim X cvI 40 [(0, rv p0), (2, .int w2)] [.int v8, .int w1] (j v8)) ?_ (fun j40 hj40 => ?_)
      · intro v8
        refine s_ior hX dX0_running_40 ?_
        refine s_istore_n (i := 1) (L2 := [(1, .int (w1 ||| v8)), (0, rv p0), (2, .int w2)]) hX dX0_running_41 rfl (by decide) (by first | (simp [rv_cat, cat_i, cat_l]; done) | (simp [rv_cat, cat_i, cat_l]; decide)) ?_
        refine s_iinc (k := 2) (v := (w2 + 1)) (L2 := [(2, .int (w2 + 1)), (1, .int (w1 ||| v8)), (0, rv p0)]) hX dX0_running_42 rfl rfl (by decide) rfl ?_
        refine s_goto (tgt := 4) hX dX0_running_45 (by decide) ?_
        exact s_sub [2, 1, 0] rfl (ih4 (w1 ||| v8) (w2 + 1))
      · refine s_if_eq (tgt := 39) hX dX0_running_30 (by decide) ?_ ?_
        · refine s_iconst (v := 0) hX dX0_running_39 rfl ?_
          exact s_sub [0, 2] rfl (hj40 0)
        · refine s_iconst (v := 1) hX dX0_running_33 rfl ?_
          refine s_iload_n hX dX0_running_34 rfl 2 rfl ?_
          refine s_ishl hX dX0_running_35 ?_
          refine s_goto (tgt := 40) hX dX0_running_36 (by decide) ?_
          exact s_sub [0, 2] rfl (hj40 (1 <<< (w2 &&& 31)))
set_option maxHeartbeats 4000000 in
theorem ct_X0_running (l : Launch) (n : Nat) (p0 : Nat) : Ct l Pic yX0_running (ws_ yX0_running cX0_running 3 (some FieldType.int)) 3 64 cvI [rv p0] (f_X0_running n p0) := by
  refine Ct.of (own := RX0) (L := [(0, rv p0)]) (plainFor_of_name (by decide)) rfl (by first | decide | simp [lg_sl, rv_cat, cat_i, cat_l]) (by first | rfl | simp [lv_args, rv_cat, cat_i, cat_l]) pcZ (fun X hXl hX hnh hin => ?_)
  subst hXl
  unfold f_X0_running
  refine s_iconst (v := 0) hX dX0_running_0 rfl ?_
  refine s_istore_n (i := 1) (L2 := [(1, .int 0), (0, rv p0)]) hX dX0_running_1 rfl (by decide) (by first | (simp [rv_cat, cat_i, cat_l]; done) | (simp [rv_cat, cat_i, cat_l]; decide)) ?_
  refine s_iconst (v := 0) hX dX0_running_2 rfl ?_
  refine s_istore_n (i := 2) (L2 := [(2, .int 0), (1, .int 0), (0, rv p0)]) hX dX0_running_3 rfl (by decide) rfl ?_
  exact s_sub [2, 1, 0] rfl (s_lp_X0_running_4 hX hnh p0 n 0 0)
