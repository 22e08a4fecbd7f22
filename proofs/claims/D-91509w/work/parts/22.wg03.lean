set_option maxRecDepth 100000
theorem dX0_works_0 : decode cX0_works 0 = .ok (.iload_n 3, 1) := by decide +kernel
theorem dX0_works_1 : decode cX0_works 1 = .ok (.aload_n 1, 1) := by decide +kernel
theorem dX0_works_2 : decode cX0_works 2 = .ok (.aload_n 2, 1) := by decide +kernel
theorem dX0_works_3 : decode cX0_works 3 = .ok (.invokevirtual 438, 3) := by decide +kernel
theorem dX0_works_6 : decode cX0_works 6 = .ok (.if_icmp .lt 7, 3) := by decide +kernel
theorem dX0_works_9 : decode cX0_works 9 = .ok (.iconst 1, 1) := by decide +kernel
theorem dX0_works_10 : decode cX0_works 10 = .ok (.goto 4, 3) := by decide +kernel
theorem dX0_works_13 : decode cX0_works 13 = .ok (.iconst 0, 1) := by decide +kernel
theorem dX0_works_14 : decode cX0_works 14 = .ok (.istore 4, 2) := by decide +kernel
theorem dX0_works_16 : decode cX0_works 16 = .ok (.aload_n 1, 1) := by decide +kernel
theorem dX0_works_17 : decode cX0_works 17 = .ok (.getfield 428, 3) := by decide +kernel
theorem dX0_works_20 : decode cX0_works 20 = .ok (.ifCond .ne 50, 3) := by decide +kernel
theorem dX0_works_23 : decode cX0_works 23 = .ok (.iload 4, 2) := by decide +kernel
theorem dX0_works_25 : decode cX0_works 25 = .ok (.ifCond .eq 45, 3) := by decide +kernel
theorem dX0_works_28 : decode cX0_works 28 = .ok (.aload_n 1, 1) := by decide +kernel
theorem dX0_works_29 : decode cX0_works 29 = .ok (.getfield 441, 3) := by decide +kernel
theorem dX0_works_32 : decode cX0_works 32 = .ok (.aload_n 2, 1) := by decide +kernel
theorem dX0_works_33 : decode cX0_works 33 = .ok (.getfield 150, 3) := by decide +kernel
theorem dX0_works_36 : decode cX0_works 36 = .ok (.if_icmp .ge 34, 3) := by decide +kernel
theorem dX0_works_39 : decode cX0_works 39 = .ok (.aload_n 1, 1) := by decide +kernel
theorem dX0_works_40 : decode cX0_works 40 = .ok (.iconst 1, 1) := by decide +kernel
theorem dX0_works_41 : decode cX0_works 41 = .ok (.putfield 428, 3) := by decide +kernel
theorem dX0_works_44 : decode cX0_works 44 = .ok (.aload_n 1, 1) := by decide +kernel
theorem dX0_works_45 : decode cX0_works 45 = .ok (.dup, 1) := by decide +kernel
theorem dX0_works_46 : decode cX0_works 46 = .ok (.getfield 441, 3) := by decide +kernel
theorem dX0_works_49 : decode cX0_works 49 = .ok (.iconst 1, 1) := by decide +kernel
theorem dX0_works_50 : decode cX0_works 50 = .ok (.iadd, 1) := by decide +kernel
theorem dX0_works_51 : decode cX0_works 51 = .ok (.putfield 441, 3) := by decide +kernel
theorem dX0_works_54 : decode cX0_works 54 = .ok (.aload_n 1, 1) := by decide +kernel
theorem dX0_works_55 : decode cX0_works 55 = .ok (.dup, 1) := by decide +kernel
theorem dX0_works_56 : decode cX0_works 56 = .ok (.getfield 444, 3) := by decide +kernel
theorem dX0_works_59 : decode cX0_works 59 = .ok (.iconst 1, 1) := by decide +kernel
theorem dX0_works_60 : decode cX0_works 60 = .ok (.iadd, 1) := by decide +kernel
theorem dX0_works_61 : decode cX0_works 61 = .ok (.putfield 444, 3) := by decide +kernel
theorem dX0_works_64 : decode cX0_works 64 = .ok (.aload_n 1, 1) := by decide +kernel
theorem dX0_works_65 : decode cX0_works 65 = .ok (.bipush 100, 2) := by decide +kernel
theorem dX0_works_67 : decode cX0_works 67 = .ok (.invokevirtual 445, 3) := by decide +kernel
theorem dX0_works_70 : decode cX0_works 70 = .ok (.aload_n 1, 1) := by decide +kernel
theorem dX0_works_71 : decode cX0_works 71 = .ok (.dup, 1) := by decide +kernel
theorem dX0_works_72 : decode cX0_works 72 = .ok (.getfield 428, 3) := by decide +kernel
theorem dX0_works_75 : decode cX0_works 75 = .ok (.iload 4, 2) := by decide +kernel
theorem dX0_works_77 : decode cX0_works 77 = .ok (.iand, 1) := by decide +kernel
theorem dX0_works_78 : decode cX0_works 78 = .ok (.putfield 428, 3) := by decide +kernel
theorem dX0_works_81 : decode cX0_works 81 = .ok (.aload_n 1, 1) := by decide +kernel
theorem dX0_works_82 : decode cX0_works 82 = .ok (.getfield 428, 3) := by decide +kernel
theorem dX0_works_85 : decode cX0_works 85 = .ok (.ifCond .ne 5, 3) := by decide +kernel
theorem dX0_works_88 : decode cX0_works 88 = .ok (.iconst 0, 1) := by decide +kernel
theorem dX0_works_89 : decode cX0_works 89 = .ok (.ireturn, 1) := by decide +kernel
theorem dX0_works_90 : decode cX0_works 90 = .ok (.aload_n 1, 1) := by decide +kernel
theorem dX0_works_91 : decode cX0_works 91 = .ok (.getfield 448, 3) := by decide +kernel
theorem dX0_works_94 : decode cX0_works 94 = .ok (.iload_n 3, 1) := by decide +kernel
theorem dX0_works_95 : decode cX0_works 95 = .ok (.invokestatic 205, 3) := by decide +kernel
theorem dX0_works_98 : decode cX0_works 98 = .ok (.istore 5, 2) := by decide +kernel
theorem dX0_works_100 : decode cX0_works 100 = .ok (.aload_n 1, 1) := by decide +kernel
theorem dX0_works_101 : decode cX0_works 101 = .ok (.iload 5, 2) := by decide +kernel
theorem dX0_works_103 : decode cX0_works 103 = .ok (.invokevirtual 450, 3) := by decide +kernel
theorem dX0_works_106 : decode cX0_works 106 = .ok (.istore 6, 2) := by decide +kernel
theorem dX0_works_108 : decode cX0_works 108 = .ok (.bipush 9, 2) := by decide +kernel
theorem dX0_works_110 : decode cX0_works 110 = .ok (.iload 6, 2) := by decide +kernel
theorem dX0_works_112 : decode cX0_works 112 = .ok (.imul, 1) := by decide +kernel
theorem dX0_works_113 : decode cX0_works 113 = .ok (.sipush 999, 3) := by decide +kernel
theorem dX0_works_116 : decode cX0_works 116 = .ok (.iadd, 1) := by decide +kernel
theorem dX0_works_117 : decode cX0_works 117 = .ok (.sipush 1000, 3) := by decide +kernel
theorem dX0_works_120 : decode cX0_works 120 = .ok (.idiv, 1) := by decide +kernel
theorem dX0_works_121 : decode cX0_works 121 = .ok (.istore 7, 2) := by decide +kernel
theorem dX0_works_123 : decode cX0_works 123 = .ok (.iload 7, 2) := by decide +kernel
theorem dX0_works_125 : decode cX0_works 125 = .ok (.aload_n 0, 1) := by decide +kernel
theorem dX0_works_126 : decode cX0_works 126 = .ok (.getfield 425, 3) := by decide +kernel
theorem dX0_works_129 : decode cX0_works 129 = .ok (.if_icmp .le 10, 3) := by decide +kernel
theorem dX0_works_132 : decode cX0_works 132 = .ok (.aload_n 1, 1) := by decide +kernel
theorem dX0_works_133 : decode cX0_works 133 = .ok (.iconst 0, 1) := by decide +kernel
theorem dX0_works_134 : decode cX0_works 134 = .ok (.putfield 428, 3) := by decide +kernel
theorem dX0_works_137 : decode cX0_works 137 = .ok (.iconst 0, 1) := by decide +kernel
theorem dX0_works_138 : decode cX0_works 138 = .ok (.ireturn, 1) := by decide +kernel
theorem dX0_works_139 : decode cX0_works 139 = .ok (.aload_n 0, 1) := by decide +kernel
theorem dX0_works_140 : decode cX0_works 140 = .ok (.dup, 1) := by decide +kernel
theorem dX0_works_141 : decode cX0_works 141 = .ok (.getfield 425, 3) := by decide +kernel
theorem dX0_works_144 : decode cX0_works 144 = .ok (.iload 7, 2) := by decide +kernel
theorem dX0_works_146 : decode cX0_works 146 = .ok (.isub, 1) := by decide +kernel
theorem dX0_works_147 : decode cX0_works 147 = .ok (.putfield 425, 3) := by decide +kernel
theorem dX0_works_150 : decode cX0_works 150 = .ok (.aload_n 0, 1) := by decide +kernel
theorem dX0_works_151 : decode cX0_works 151 = .ok (.dup, 1) := by decide +kernel
theorem dX0_works_152 : decode cX0_works 152 = .ok (.getfield 453, 3) := by decide +kernel
theorem dX0_works_155 : decode cX0_works 155 = .ok (.iload 6, 2) := by decide +kernel
theorem dX0_works_157 : decode cX0_works 157 = .ok (.iadd, 1) := by decide +kernel
theorem dX0_works_158 : decode cX0_works 158 = .ok (.putfield 453, 3) := by decide +kernel
theorem dX0_works_161 : decode cX0_works 161 = .ok (.aload_n 0, 1) := by decide +kernel
theorem dX0_works_162 : decode cX0_works 162 = .ok (.dup, 1) := by decide +kernel
theorem dX0_works_163 : decode cX0_works 163 = .ok (.getfield 455, 3) := by decide +kernel
theorem dX0_works_166 : decode cX0_works 166 = .ok (.aload_n 1, 1) := by decide +kernel
theorem dX0_works_167 : decode cX0_works 167 = .ok (.iload 6, 2) := by decide +kernel
theorem dX0_works_169 : decode cX0_works 169 = .ok (.invokevirtual 456, 3) := by decide +kernel
theorem dX0_works_172 : decode cX0_works 172 = .ok (.iadd, 1) := by decide +kernel
theorem dX0_works_173 : decode cX0_works 173 = .ok (.putfield 455, 3) := by decide +kernel
theorem dX0_works_176 : decode cX0_works 176 = .ok (.aload_n 1, 1) := by decide +kernel
theorem dX0_works_177 : decode cX0_works 177 = .ok (.dup, 1) := by decide +kernel
theorem dX0_works_178 : decode cX0_works 178 = .ok (.getfield 458, 3) := by decide +kernel
theorem dX0_works_181 : decode cX0_works 181 = .ok (.iload 6, 2) := by decide +kernel
theorem dX0_works_183 : decode cX0_works 183 = .ok (.i2l, 1) := by decide +kernel
theorem dX0_works_184 : decode cX0_works 184 = .ok (.ladd, 1) := by decide +kernel
theorem dX0_works_185 : decode cX0_works 185 = .ok (.putfield 458, 3) := by decide +kernel
theorem dX0_works_188 : decode cX0_works 188 = .ok (.aload_n 1, 1) := by decide +kernel
theorem dX0_works_189 : decode cX0_works 189 = .ok (.iconst 1, 1) := by decide +kernel
theorem dX0_works_190 : decode cX0_works 190 = .ok (.invokevirtual 445, 3) := by decide +kernel
theorem dX0_works_193 : decode cX0_works 193 = .ok (.iload 5, 2) := by decide +kernel
theorem dX0_works_195 : decode cX0_works 195 = .ok (.ireturn, 1) := by decide +kernel
theorem ycX0_works : yX0_works.cls ≠ "java/lang/invoke/MethodHandle" ∧ yX0_works.cls ≠ "java/lang/invoke/VarHandle" ∧ (parseMethodDescriptor yX0_works.desc).map (fun d => d.parameters.length) = some 3 := by decide +kernel
theorem yvX0_works : yX0_works.cls = RR 0 ∧ yX0_works.cls ≠ "java/lang/invoke/MethodHandle" ∧ yX0_works.cls ≠ "java/lang/invoke/VarHandle" ∧ (parseMethodDescriptor yX0_works.desc).map (fun d => d.parameters.length) = some 3 := ⟨rfl, ycX0_works⟩
noncomputable def f_X0_works (p0 : Nat) (p1 : Nat) (p2 : Nat) (p3 : Int32) : Act Int32 :=
  bnd (gd 6 p1 (nt (f_X6_least p1 p2))) fun v1 =>
  jn (fun (v2 : Int32) =>
    bnd (getI 6 7 p1) fun v3 =>
    jn (fun (_ : Unit) =>
      bnd (getI 6 7 p1) fun v4 =>
      bnd (putS .boolean 6 7 p1 (v4 &&& v2)) fun _ =>
      bnd (getI 6 7 p1) fun v5 =>
      if ¬ v5 = 0 then
        bnd (getI 6 1 p1) fun v6 =>
        bnd (gd 6 p1 (nt (f_X6_gas p1 (mn v6 p3)))) fun v7 =>
        bnd (getI 0 20 p0) fun v8 =>
        if (((9 * v7) + 999) / 1000) ≤ v8 then
          bnd (getI 0 20 p0) fun v9 =>
          bnd (putI 0 20 p0 (v9 - (((9 * v7) + 999) / 1000))) fun _ =>
          bnd (getI 0 35 p0) fun v10 =>
          bnd (putI 0 35 p0 (v10 + v7)) fun _ =>
          bnd (getI 0 36 p0) fun v11 =>
          bnd (gd 6 p1 (nt (f_X6_foul p1 v7))) fun v12 =>
          bnd (putI 0 36 p0 (v11 + v12)) fun _ =>
          bnd (getL 6 8 p1) fun v13 =>
          bnd (putL 6 8 p1 (v13 + v7.toInt64)) fun _ =>
          bnd (gd 6 p1 (nt (f_X6_wears p1 (1 : Int32)))) fun _ =>
          pur (mn v6 p3)
        else
          bnd (putS .boolean 6 7 p1 0) fun _ =>
          pur 0
      else
        pur 0) fun j70 =>
    if ¬ v3 = 0 then
      j70 ()
    else
      if v2 = 0 then
        j70 ()
      else
        bnd (getI 6 5 p1) fun v14 =>
        bnd (getI 2 4 p2) fun v15 =>
        if v15 ≤ v14 then
          j70 ()
        else
          bnd (putS .boolean 6 7 p1 1) fun _ =>
          bnd (getI 6 5 p1) fun v16 =>
          bnd (putI 6 5 p1 (v16 + 1)) fun _ =>
          bnd (getI 6 6 p1) fun v17 =>
          bnd (putI 6 6 p1 (v17 + 1)) fun _ =>
          bnd (gd 6 p1 (nt (f_X6_wears p1 (100 : Int32)))) fun _ =>
          j70 ()) fun j14 =>
  if p3 < v1 then
    j14 0
  else
    j14 1
set_option maxHeartbeats 4000000 in
theorem ct_X0_works (l : Launch) (p0 : Nat) (p1 : Nat) (p2 : Nat) (p3 : Int32) : Ct l Pic yX0_works (ws_ yX0_works cX0_works 8 (some FieldType.int)) 2 45 cvI [rv p0, rv p1, rv p2, .int p3] (f_X0_works p0 p1 p2 p3) := by
  refine Ct.of (own := RX0) (L := [(0, rv p0), (1, rv p1), (2, rv p2), (3, .int p3)]) (plainFor_of_name (by decide)) rfl (by first | decide | simp [lg_sl, rv_cat, cat_i, cat_l]) (by first | rfl | simp [lv_args, rv_cat, cat_i, cat_l]) pcZ (fun X hXl hX hnh hin => ?_)
  subst hXl
  unfold f_X0_works
  refine s_iload_n hX dX0_works_0 rfl 3 rfl ?_
  refine s_aload_n hX dX0_works_1 rfl 1 rfl ?_
  refine s_aload_n hX dX0_works_2 rfl 2 rfl ?_
  refine s_callV_I (ci := 6) (n := 1) (As := [rv p2]) (st := [.int p3]) hX (pcK 7) (by decide) (ct_X6_least X.l p1 p2) q1218 q1219 q1220 q100 q1221 yvX6_least (by decide) rfl (by first | decide | simp [rv_cat, cat_i, cat_l]) dX0_works_3 (fun v1 => ?_)
  refine s_jn (P := fun j => ∀ (v2 : Int32), Sim X cvI 14 [(0, rv p0), (1, rv p1), (2, rv p2), (3, .int p3)] [.int v2] (j v2)) ?_ (fun j14 hj14 => ?_)
  · intro v2
    refine s_istore (i := 4) (L2 := [(4, .int v2), (0, rv p0), (1, rv p1), (2, rv p2), (3, .int p3)]) hX dX0_works_14 (by decide) rfl ?_
    refine s_aload_n hX dX0_works_16 rfl 2 rfl ?_
    refine s_getI (ci := 6) (j := 7) (ref := "WindGas$Stack") hX (pcG 6) in_X6 (Or.inr ⟨_, q1126⟩) (by decide) (by decide) (by decide) rfl dX0_works_17 (fun _ h9 => h9) (fun v3 => ?_)
    refine s_jn (P := fun j => ∀ (u : Unit), Sim X cvI 70 [(0, rv p0), (1, rv p1), (3, .int p3), (4, .int v2)] [] (j u)) ?_ (fun j70 hj70 => ?_)
    · intro u
      refine s_aload_n hX dX0_works_70 rfl 1 rfl ?_
      refine s_dup hX dX0_works_71 (rv_cat _) ?_
      refine s_getI (ci := 6) (j := 7) (ref := "WindGas$Stack") hX (pcG 6) in_X6 (Or.inr ⟨_, q1126⟩) (by decide) (by decide) (by decide) rfl dX0_works_72 (fun _ h9 => h9) (fun v4 => ?_)
      refine s_iload hX dX0_works_75 3 rfl ?_
      refine s_iand hX dX0_works_77 ?_
      refine s_putS (ci := 6) (j := 7) (ref := "WindGas$Stack") hX (pcG 6) (pcP 6) in_X6 tyX6_ok nmX6 (Or.inr ⟨_, q1126⟩) (by decide) (by decide) (by decide) rfl rfl rfl dX0_works_78 (fun _ h9 => h9) ?_
      refine s_aload_n hX dX0_works_81 rfl 1 rfl ?_
      refine s_getI (ci := 6) (j := 7) (ref := "WindGas$Stack") hX (pcG 6) in_X6 (Or.inr ⟨_, q1126⟩) (by decide) (by decide) (by decide) rfl dX0_works_82 (fun _ h9 => h9) (fun v5 => ?_)
      refine s_if_ne (tgt := 90) hX dX0_works_85 (by decide) ?_ ?_
      · refine s_aload_n hX dX0_works_90 rfl 1 rfl ?_
        refine s_getI (ci := 6) (j := 1) (ref := "WindGas$Stack") hX (pcG 6) in_X6 (Or.inr ⟨_, q1119⟩) (by decide) (by decide) (by decide) rfl dX0_works_91 (fun _ h9 => h9) (fun v6 => ?_)
        refine s_iload_n hX dX0_works_94 rfl 2 rfl ?_
        refine s_mmin hX q756 q500 q95 q501 rfl (by omega) (by first | decide | (simp [rv_cat, cat_i, cat_l]; try omega)) dX0_works_95 ?_
        refine s_istore (i := 5) (L2 := [(5, .int (mn v6 p3)), (0, rv p0), (1, rv p1), (3, .int p3), (4, .int v2)]) hX dX0_works_98 (by decide) rfl ?_
        refine s_aload_n hX dX0_works_100 rfl 2 rfl ?_
        refine s_iload hX dX0_works_101 0 rfl ?_
        refine s_callV_I (ci := 6) (n := 1) (As := [.int (mn v6 p3)]) (st := []) hX (pcK 7) (by decide) (ct_X6_gas X.l p1 (mn v6 p3)) q1229 q1230 q1231 q100 q1232 yvX6_gas (by decide) rfl (by first | decide | simp [rv_cat, cat_i, cat_l]) dX0_works_103 (fun v7 => ?_)
        refine s_istore (i := 6) (L2 := [(6, .int v7), (5, .int (mn v6 p3)), (0, rv p0), (1, rv p1), (3, .int p3), (4, .int v2)]) hX dX0_works_106 (by decide) rfl ?_
        refine s_bipush (v := 9) hX dX0_works_108 (by decide) ?_
        refine s_iload hX dX0_works_110 0 rfl ?_
        refine s_imul hX dX0_works_112 ?_
        refine s_sipush (v := 999) hX dX0_works_113 (by decide) ?_
        refine s_iadd hX dX0_works_116 ?_
        refine s_sipush (v := 1000) hX dX0_works_117 (by decide) ?_
        refine s_idivc hX dX0_works_120 (by decide) ?_
        refine s_istore (i := 7) (L2 := [(7, .int (((9 * v7) + 999) / 1000)), (6, .int v7), (5, .int (mn v6 p3)), (0, rv p0), (1, rv p1), (3, .int p3), (4, .int v2)]) hX dX0_works_121 (by decide) rfl ?_
        refine s_iload hX dX0_works_123 0 rfl ?_
        refine s_aload_n hX dX0_works_125 rfl 3 rfl ?_
        refine s_getI (ci := 0) (j := 20) (ref := "WindGas") hX (pcG 0) in_X0 (Or.inl q286) (by decide) (by decide) (by decide) rfl dX0_works_126 (fun _ h9 => h9) (fun v8 => ?_)
        refine s_icmp_le (tgt := 139) hX dX0_works_129 (by decide) ?_ ?_
        · refine s_aload_n hX dX0_works_139 rfl 3 rfl ?_
          refine s_dup hX dX0_works_140 (rv_cat _) ?_
          refine s_getI (ci := 0) (j := 20) (ref := "WindGas") hX (pcG 0) in_X0 (Or.inl q286) (by decide) (by decide) (by decide) rfl dX0_works_141 (fun _ h9 => h9) (fun v9 => ?_)
          refine s_iload hX dX0_works_144 0 rfl ?_
          refine s_isub hX dX0_works_146 ?_
          refine s_putI (ci := 0) (j := 20) (ref := "WindGas") hX (pcG 0) (pcP 0) in_X0 tyX0_ok nmX0 (Or.inl q286) (by decide) (by decide) (by decide) rfl rfl rfl dX0_works_147 (fun _ h9 => h9) ?_
          refine s_aload_n hX dX0_works_150 rfl 3 rfl ?_
          refine s_dup hX dX0_works_151 (rv_cat _) ?_
          refine s_getI (ci := 0) (j := 35) (ref := "WindGas") hX (pcG 0) in_X0 (Or.inl q301) (by decide) (by decide) (by decide) rfl dX0_works_152 (fun _ h9 => h9) (fun v10 => ?_)
          refine s_iload hX dX0_works_155 1 rfl ?_
          refine s_iadd hX dX0_works_157 ?_
          refine s_putI (ci := 0) (j := 35) (ref := "WindGas") hX (pcG 0) (pcP 0) in_X0 tyX0_ok nmX0 (Or.inl q301) (by decide) (by decide) (by decide) rfl rfl rfl dX0_works_158 (fun _ h9 => h9) ?_
          refine s_aload_n hX dX0_works_161 rfl 3 rfl ?_
          refine s_dup hX dX0_works_162 (rv_cat _) ?_
          refine s_getI (ci := 0) (j := 36) (ref := "WindGas") hX (pcG 0) in_X0 (Or.inl q302) (by decide) (by decide) (by decide) rfl dX0_works_163 (fun _ h9 => h9) (fun v11 => ?_)
          refine s_aload_n hX dX0_works_166 rfl 4 rfl ?_
          refine s_iload hX dX0_works_167 1 rfl ?_
          refine s_callV_I (ci := 6) (n := 1) (As := [.int v7]) (st := [.int v11, rv p0]) hX (pcK 7) (by decide) (ct_X6_foul X.l p1 v7) q1233 q1234 q1235 q100 q1236 yvX6_foul (by decide) rfl (by first | decide | simp [rv_cat, cat_i, cat_l]) dX0_works_169 (fun v12 => ?_)
          refine s_iadd hX dX0_works_172 ?_
          refine s_putI (ci := 0) (j := 36) (ref := "WindGas") hX (pcG 0) (pcP 0) in_X0 tyX0_ok nmX0 (Or.inl q302) (by decide) (by decide) (by decide) rfl rfl rfl dX0_works_173 (fun _ h9 => h9) ?_
          refine s_aload_n hX dX0_works_176 rfl 4 rfl ?_
          refine s_dup hX dX0_works_177 (rv_cat _) ?_
          refine s_getL (ci := 6) (j := 8) (ref := "WindGas$Stack") hX (pcG 6) in_X6 (Or.inr ⟨_, q1127⟩) (by decide) (by decide) (by decide) rfl dX0_works_178 (fun _ h9 => h9) (fun v13 => ?_)
          refine s_iload hX dX0_works_181 1 rfl ?_
          refine s_i2l hX dX0_works_183 ?_
          refine s_ladd hX dX0_works_184 ?_
          refine s_putL (ci := 6) (j := 8) (ref := "WindGas$Stack") hX (pcG 6) (pcP 6) in_X6 tyX6_ok nmX6 (Or.inr ⟨_, q1127⟩) (by decide) (by decide) (by decide) rfl rfl rfl dX0_works_185 (fun _ h9 => h9) ?_
          refine s_aload_n hX dX0_works_188 rfl 4 rfl ?_
          refine s_iconst (v := 1) hX dX0_works_189 rfl ?_
          refine s_callV_U (ci := 6) (n := 1) (As := [.int 1]) (st := []) hX (pcK 7) (by decide) (ct_X6_wears X.l p1 (1 : Int32)) q1223 q1224 q1225 q100 q1226 yvX6_wears (by decide) rfl (by first | decide | simp [rv_cat, cat_i, cat_l]) dX0_works_190 (fun _ => ?_)
          refine s_iload hX dX0_works_193 2 rfl ?_
          exact s_iret hX dX0_works_195
        · refine s_aload_n hX dX0_works_132 rfl 4 rfl ?_
          refine s_iconst (v := 0) hX dX0_works_133 rfl ?_
          refine s_putS (ci := 6) (j := 7) (ref := "WindGas$Stack") hX (pcG 6) (pcP 6) in_X6 tyX6_ok nmX6 (Or.inr ⟨_, q1126⟩) (by decide) (by decide) (by decide) rfl rfl rfl dX0_works_134 (fun _ h9 => h9) ?_
          refine s_iconst (v := 0) hX dX0_works_137 rfl ?_
          exact s_iret hX dX0_works_138
      · refine s_iconst (v := 0) hX dX0_works_88 rfl ?_
        exact s_iret hX dX0_works_89
    · refine s_if_ne (tgt := 70) hX dX0_works_20 (by decide) ?_ ?_
      · exact s_sub [1, 2, 4, 0] rfl (hj70 ())
      · refine s_iload hX dX0_works_23 0 rfl ?_
        refine s_if_eq (tgt := 70) hX dX0_works_25 (by decide) ?_ ?_
        · exact s_sub [1, 2, 4, 0] rfl (hj70 ())
        · refine s_aload_n hX dX0_works_28 rfl 2 rfl ?_
          refine s_getI (ci := 6) (j := 5) (ref := "WindGas$Stack") hX (pcG 6) in_X6 (Or.inr ⟨_, q1124⟩) (by decide) (by decide) (by decide) rfl dX0_works_29 (fun _ h9 => h9) (fun v14 => ?_)
          refine s_aload_n hX dX0_works_32 rfl 3 rfl ?_
          refine s_getI (ci := 2) (j := 4) (ref := "WindGas$Rules") hX (pcG 2) in_X2 (Or.inr ⟨_, q190⟩) (by decide) (by decide) (by decide) rfl dX0_works_33 (fun _ h9 => h9) (fun v15 => ?_)
          refine s_icmp_ge (tgt := 70) hX dX0_works_36 (by decide) ?_ ?_
          · exact s_sub [1, 2, 4, 0] rfl (hj70 ())
          · refine s_aload_n hX dX0_works_39 rfl 2 rfl ?_
            refine s_iconst (v := 1) hX dX0_works_40 rfl ?_
            refine s_putS (ci := 6) (j := 7) (ref := "WindGas$Stack") hX (pcG 6) (pcP 6) in_X6 tyX6_ok nmX6 (Or.inr ⟨_, q1126⟩) (by decide) (by decide) (by decide) rfl rfl rfl dX0_works_41 (fun _ h9 => h9) ?_
            refine s_aload_n hX dX0_works_44 rfl 2 rfl ?_
            refine s_dup hX dX0_works_45 (rv_cat _) ?_
            refine s_getI (ci := 6) (j := 5) (ref := "WindGas$Stack") hX (pcG 6) in_X6 (Or.inr ⟨_, q1124⟩) (by decide) (by decide) (by decide) rfl dX0_works_46 (fun _ h9 => h9) (fun v16 => ?_)
            refine s_iconst (v := 1) hX dX0_works_49 rfl ?_
            refine s_iadd hX dX0_works_50 ?_
            refine s_putI (ci := 6) (j := 5) (ref := "WindGas$Stack") hX (pcG 6) (pcP 6) in_X6 tyX6_ok nmX6 (Or.inr ⟨_, q1124⟩) (by decide) (by decide) (by decide) rfl rfl rfl dX0_works_51 (fun _ h9 => h9) ?_
            refine s_aload_n hX dX0_works_54 rfl 2 rfl ?_
            refine s_dup hX dX0_works_55 (rv_cat _) ?_
            refine s_getI (ci := 6) (j := 6) (ref := "WindGas$Stack") hX (pcG 6) in_X6 (Or.inr ⟨_, q1125⟩) (by decide) (by decide) (by decide) rfl dX0_works_56 (fun _ h9 => h9) (fun v17 => ?_)
            refine s_iconst (v := 1) hX dX0_works_59 rfl ?_
            refine s_iadd hX dX0_works_60 ?_
            refine s_putI (ci := 6) (j := 6) (ref := "WindGas$Stack") hX (pcG 6) (pcP 6) in_X6 tyX6_ok nmX6 (Or.inr ⟨_, q1125⟩) (by decide) (by decide) (by decide) rfl rfl rfl dX0_works_61 (fun _ h9 => h9) ?_
            refine s_aload_n hX dX0_works_64 rfl 2 rfl ?_
            refine s_bipush (v := 100) hX dX0_works_65 (by decide) ?_
            refine s_callV_U (ci := 6) (n := 1) (As := [.int 100]) (st := []) hX (pcK 7) (by decide) (ct_X6_wears X.l p1 (100 : Int32)) q1223 q1224 q1225 q100 q1226 yvX6_wears (by decide) rfl (by first | decide | simp [rv_cat, cat_i, cat_l]) dX0_works_67 (fun _ => ?_)
            exact s_sub [1, 2, 4, 0] rfl (hj70 ())
  · refine s_icmp_lt (tgt := 13) hX dX0_works_6 (by decide) ?_ ?_
    · refine s_iconst (v := 0) hX dX0_works_13 rfl ?_
      exact hj14 0
    · refine s_iconst (v := 1) hX dX0_works_9 rfl ?_
      refine s_goto (tgt := 14) hX dX0_works_10 (by decide) ?_
      exact hj14 1
theorem dX0_splits_0 : decode cX0_splits 0 = .ok (.aload_n 0, 1) := by decide +kernel
theorem dX0_splits_1 : decode cX0_splits 1 = .ok (.iconst 0, 1) := by decide +kernel
theorem dX0_splits_2 : decode cX0_splits 2 = .ok (.putfield 453, 3) := by decide +kernel
theorem dX0_splits_5 : decode cX0_splits 5 = .ok (.aload_n 0, 1) := by decide +kernel
theorem dX0_splits_6 : decode cX0_splits 6 = .ok (.iconst 0, 1) := by decide +kernel
theorem dX0_splits_7 : decode cX0_splits 7 = .ok (.putfield 455, 3) := by decide +kernel
theorem dX0_splits_10 : decode cX0_splits 10 = .ok (.iload_n 2, 1) := by decide +kernel
theorem dX0_splits_11 : decode cX0_splits 11 = .ok (.aload_n 1, 1) := by decide +kernel
theorem dX0_splits_12 : decode cX0_splits 12 = .ok (.getfield 144, 3) := by decide +kernel
theorem dX0_splits_15 : decode cX0_splits 15 = .ok (.if_icmp .lt 39, 3) := by decide +kernel
theorem dX0_splits_18 : decode cX0_splits 18 = .ok (.iconst 0, 1) := by decide +kernel
theorem dX0_splits_19 : decode cX0_splits 19 = .ok (.istore_n 3, 1) := by decide +kernel
theorem dX0_splits_20 : decode cX0_splits 20 = .ok (.iload_n 3, 1) := by decide +kernel
theorem dX0_splits_21 : decode cX0_splits 21 = .ok (.aload_n 0, 1) := by decide +kernel
theorem dX0_splits_22 : decode cX0_splits 22 = .ok (.getfield 64, 3) := by decide +kernel
theorem dX0_splits_25 : decode cX0_splits 25 = .ok (.invokevirtual 124, 3) := by decide +kernel
theorem dX0_splits_28 : decode cX0_splits 28 = .ok (.if_icmp .ge 24, 3) := by decide +kernel
theorem dX0_splits_31 : decode cX0_splits 31 = .ok (.aload_n 0, 1) := by decide +kernel
theorem dX0_splits_32 : decode cX0_splits 32 = .ok (.getfield 64, 3) := by decide +kernel
theorem dX0_splits_35 : decode cX0_splits 35 = .ok (.iload_n 3, 1) := by decide +kernel
theorem dX0_splits_36 : decode cX0_splits 36 = .ok (.invokevirtual 128, 3) := by decide +kernel
theorem dX0_splits_39 : decode cX0_splits 39 = .ok (.checkcast 417, 3) := by decide +kernel
theorem dX0_splits_42 : decode cX0_splits 42 = .ok (.iconst 0, 1) := by decide +kernel
theorem dX0_splits_43 : decode cX0_splits 43 = .ok (.putfield 428, 3) := by decide +kernel
theorem dX0_splits_46 : decode cX0_splits 46 = .ok (.iinc 3 1, 3) := by decide +kernel
theorem dX0_splits_49 : decode cX0_splits 49 = .ok (.goto (-29), 3) := by decide +kernel
theorem dX0_splits_52 : decode cX0_splits 52 = .ok (.iload_n 2, 1) := by decide +kernel
theorem dX0_splits_53 : decode cX0_splits 53 = .ok (.ireturn, 1) := by decide +kernel
theorem dX0_splits_54 : decode cX0_splits 54 = .ok (.aload_n 0, 1) := by decide +kernel
theorem dX0_splits_55 : decode cX0_splits 55 = .ok (.aload_n 1, 1) := by decide +kernel
theorem dX0_splits_56 : decode cX0_splits 56 = .ok (.invokevirtual 461, 3) := by decide +kernel
theorem dX0_splits_59 : decode cX0_splits 59 = .ok (.iload_n 2, 1) := by decide +kernel
theorem dX0_splits_60 : decode cX0_splits 60 = .ok (.istore_n 3, 1) := by decide +kernel
theorem dX0_splits_61 : decode cX0_splits 61 = .ok (.iconst 0, 1) := by decide +kernel
theorem dX0_splits_62 : decode cX0_splits 62 = .ok (.istore 4, 2) := by decide +kernel
theorem dX0_splits_64 : decode cX0_splits 64 = .ok (.iload 4, 2) := by decide +kernel
theorem dX0_splits_66 : decode cX0_splits 66 = .ok (.aload_n 0, 1) := by decide +kernel
theorem dX0_splits_67 : decode cX0_splits 67 = .ok (.getfield 64, 3) := by decide +kernel
theorem dX0_splits_70 : decode cX0_splits 70 = .ok (.invokevirtual 124, 3) := by decide +kernel
theorem dX0_splits_73 : decode cX0_splits 73 = .ok (.if_icmp .ge 35, 3) := by decide +kernel
theorem dX0_splits_76 : decode cX0_splits 76 = .ok (.iload_n 3, 1) := by decide +kernel
theorem dX0_splits_77 : decode cX0_splits 77 = .ok (.aload_n 0, 1) := by decide +kernel
theorem dX0_splits_78 : decode cX0_splits 78 = .ok (.aload_n 0, 1) := by decide +kernel
theorem dX0_splits_79 : decode cX0_splits 79 = .ok (.getfield 64, 3) := by decide +kernel
theorem dX0_splits_82 : decode cX0_splits 82 = .ok (.aload_n 0, 1) := by decide +kernel
theorem dX0_splits_83 : decode cX0_splits 83 = .ok (.getfield 81, 3) := by decide +kernel
theorem dX0_splits_86 : decode cX0_splits 86 = .ok (.iload 4, 2) := by decide +kernel
theorem dX0_splits_88 : decode cX0_splits 88 = .ok (.iaload, 1) := by decide +kernel
theorem dX0_splits_89 : decode cX0_splits 89 = .ok (.invokevirtual 128, 3) := by decide +kernel
theorem dX0_splits_92 : decode cX0_splits 92 = .ok (.checkcast 417, 3) := by decide +kernel
theorem dX0_splits_95 : decode cX0_splits 95 = .ok (.aload_n 1, 1) := by decide +kernel
theorem dX0_splits_96 : decode cX0_splits 96 = .ok (.iload_n 3, 1) := by decide +kernel
theorem dX0_splits_97 : decode cX0_splits 97 = .ok (.invokevirtual 464, 3) := by decide +kernel
theorem dX0_splits_100 : decode cX0_splits 100 = .ok (.isub, 1) := by decide +kernel
theorem dX0_splits_101 : decode cX0_splits 101 = .ok (.istore_n 3, 1) := by decide +kernel
theorem dX0_splits_102 : decode cX0_splits 102 = .ok (.iinc 4 1, 3) := by decide +kernel
theorem dX0_splits_105 : decode cX0_splits 105 = .ok (.goto (-41), 3) := by decide +kernel
theorem dX0_splits_108 : decode cX0_splits 108 = .ok (.iload_n 3, 1) := by decide +kernel
theorem dX0_splits_109 : decode cX0_splits 109 = .ok (.ireturn, 1) := by decide +kernel
theorem ycX0_splits : yX0_splits.cls ≠ "java/lang/invoke/MethodHandle" ∧ yX0_splits.cls ≠ "java/lang/invoke/VarHandle" ∧ (parseMethodDescriptor yX0_splits.desc).map (fun d => d.parameters.length) = some 2 := by decide +kernel
theorem yvX0_splits : yX0_splits.cls = RR 0 ∧ yX0_splits.cls ≠ "java/lang/invoke/MethodHandle" ∧ yX0_splits.cls ≠ "java/lang/invoke/VarHandle" ∧ (parseMethodDescriptor yX0_splits.desc).map (fun d => d.parameters.length) = some 2 := ⟨rfl, ycX0_splits⟩
noncomputable def lp_X0_splits_64 (p0 : Nat) (p1 : Nat) (q : Nat) : Int32 → Int32 → Act Int32 := match q with
  | 0 => fun _ _ => fail
  | q + 1 => fun w2 w3 =>
    bnd (getR 0 18 p0) fun v4 =>
    bnd (gd 17 v4 (nt (P_size v4))) fun v5 =>
    if v5 ≤ w3 then
      pur w2
    else
      bnd (getR 0 18 p0) fun v6 =>
      bnd (getR 0 34 p0) fun v7 =>
      bnd (ldI 0 v7 w3) fun v8 =>
      bnd (gd 17 v6 (nt (P_get v6 v8))) fun v9 =>
      bnd (cst [7] v9) fun _ =>
      bnd (gd 0 p0 (nt (f_X0_works p0 v9 p1 w2))) fun v10 =>
      (lp_X0_splits_64 p0 p1 q) (w2 - v10) (w3 + 1)
noncomputable def lp_X0_splits_20 (p0 : Nat) (p2 : Int32) (q : Nat) : Int32 → Act Int32 := match q with
  | 0 => fun _ => fail
  | q + 1 => fun w11 =>
    bnd (getR 0 18 p0) fun v12 =>
    bnd (gd 17 v12 (nt (P_size v12))) fun v13 =>
    if v13 ≤ w11 then
      pur p2
    else
      bnd (getR 0 18 p0) fun v14 =>
      bnd (gd 17 v14 (nt (P_get v14 w11))) fun v15 =>
      bnd (cst [7] v15) fun _ =>
      bnd (putS .boolean 6 7 v15 0) fun _ =>
      (lp_X0_splits_20 p0 p2 q) (w11 + 1)
noncomputable def f_X0_splits (n : Nat) (p0 : Nat) (p1 : Nat) (p2 : Int32) : Act Int32 :=
  bnd (putI 0 35 p0 0) fun _ =>
  bnd (putI 0 36 p0 0) fun _ =>
  bnd (getI 2 2 p1) fun v1 =>
  if p2 < v1 then
    bnd (gd 0 p0 (nt (f_X0_orders n p0 p1))) fun _ =>
    lp_X0_splits_64 p0 p1 n p2 0
  else
    lp_X0_splits_20 p0 p2 n 0
set_option maxHeartbeats 4000000 in
theorem s_lp_X0_splits_64 {X : Cx} (hX : Ok X Pic cX0_splits RX0 5 (some FieldType.int) 4 87) (hnh : Noh X) (p0 : Nat) (p1 : Nat) (q : Nat) : ∀ (w2 : Int32) (w3 : Int32), Sim X cvI 64 [(0, rv p0), (1, rv p1), (3, .int w2), (4, .int w3)] [] (lp_X0_splits_64 p0 p1 q w2 w3) := by
  induction q with
  | zero => intro w2 w3; exact s_fail
  | succ q ih64 =>
    intro w2 w3
    rw [lp_X0_splits_64]
    refine s_iload hX dX0_splits_64 3 rfl ?_
    refine s_aload_n hX dX0_splits_66 rfl 0 rfl ?_
    refine s_getR (ci := 0) (j := 18) (ref := "WindGas") hX (pcG 0) in_X0 (Or.inl q284) (by decide) (by decide) (by decide) rfl dX0_splits_67 (fun _ h9 => h9) (fun v4 => ?_)
    refine s_callV_I (ci := 17) (n := 0) (As := []) (st := [.int w3]) hX (pcK 18) (by decide) (pt_size X.l v4) q554 q417 q418 q88 q419 yvJ2_size (by decide) rfl (by first | decide | simp [rv_cat, cat_i, cat_l]) dX0_splits_70 (fun v5 => ?_)
    refine s_icmp_ge (tgt := 108) hX dX0_splits_73 (by decide) ?_ ?_
    · refine s_iload_n hX dX0_splits_108 rfl 2 rfl ?_
      exact s_iret hX dX0_splits_109
    · refine s_iload_n hX dX0_splits_76 rfl 2 rfl ?_
      refine s_aload_n hX dX0_splits_77 rfl 0 rfl ?_
      refine s_aload_n hX dX0_splits_78 rfl 0 rfl ?_
      refine s_getR (ci := 0) (j := 18) (ref := "WindGas") hX (pcG 0) in_X0 (Or.inl q284) (by decide) (by decide) (by decide) rfl dX0_splits_79 (fun _ h9 => h9) (fun v6 => ?_)
      refine s_aload_n hX dX0_splits_82 rfl 0 rfl ?_
      refine s_getR (ci := 0) (j := 34) (ref := "WindGas") hX (pcG 0) in_X0 (Or.inl q300) (by decide) (by decide) (by decide) rfl dX0_splits_83 (fun _ h9 => h9) (fun v7 => ?_)
      refine s_iload hX dX0_splits_86 3 rfl ?_
      refine s_iald hX (pcA 0) dX0_splits_88 (fun v8 => ?_)
      refine s_callV_R (ci := 17) (n := 1) (As := [.int v8]) (st := [rv p0, .int w2]) hX (pcK 18) (by decide) (pt_get X.l v6 v8) q555 q516 q517 q88 q518 yvJ2_get (by decide) rfl (by first | decide | simp [rv_cat, cat_i, cat_l]) dX0_splits_89 (fun v9 => ?_)
      refine s_cast (ks := [7]) hX (elC 6 (by decide)) q1110 dX0_splits_92 ?_
      refine s_aload_n hX dX0_splits_95 rfl 1 rfl ?_
      refine s_iload_n hX dX0_splits_96 rfl 2 rfl ?_
      refine s_callV_I (ci := 0) (n := 3) (As := [rv v9, rv p1, .int w2]) (st := [.int w2]) hX (pcK 1) (by decide) (ct_X0_works X.l p0 v9 p1 w2) q1214 q1216 qs29 q84 q1217 yvX0_works (by decide) rfl (by first | decide | simp [rv_cat, cat_i, cat_l]) dX0_splits_97 (fun v10 => ?_)
      refine s_isub hX dX0_splits_100 ?_
      refine s_istore_n (i := 3) (L2 := [(3, .int (w2 - v10)), (0, rv p0), (1, rv p1), (4, .int w3)]) hX dX0_splits_101 rfl (by decide) rfl ?_
      refine s_iinc (k := 3) (v := (w3 + 1)) (L2 := [(4, .int (w3 + 1)), (3, .int (w2 - v10)), (0, rv p0), (1, rv p1)]) hX dX0_splits_102 rfl rfl (by decide) rfl ?_
      refine s_goto (tgt := 64) hX dX0_splits_105 (by decide) ?_
      exact s_sub [2, 3, 1, 0] rfl (ih64 (w2 - v10) (w3 + 1))
set_option maxHeartbeats 4000000 in
theorem s_lp_X0_splits_20 {X : Cx} (hX : Ok X Pic cX0_splits RX0 5 (some FieldType.int) 4 87) (hnh : Noh X) (p0 : Nat) (p2 : Int32) (q : Nat) : ∀ (w11 : Int32), Sim X cvI 20 [(0, rv p0), (2, .int p2), (3, .int w11)] [] (lp_X0_splits_20 p0 p2 q w11) := by
  induction q with
  | zero => intro w11; exact s_fail
  | succ q ih20 =>
    intro w11
    rw [lp_X0_splits_20]
    refine s_iload_n hX dX0_splits_20 rfl 2 rfl ?_
    refine s_aload_n hX dX0_splits_21 rfl 0 rfl ?_
    refine s_getR (ci := 0) (j := 18) (ref := "WindGas") hX (pcG 0) in_X0 (Or.inl q284) (by decide) (by decide) (by decide) rfl dX0_splits_22 (fun _ h9 => h9) (fun v12 => ?_)
    refine s_callV_I (ci := 17) (n := 0) (As := []) (st := [.int w11]) hX (pcK 18) (by decide) (pt_size X.l v12) q554 q417 q418 q88 q419 yvJ2_size (by decide) rfl (by first | decide | simp [rv_cat, cat_i, cat_l]) dX0_splits_25 (fun v13 => ?_)
    refine s_icmp_ge (tgt := 52) hX dX0_splits_28 (by decide) ?_ ?_
    · refine s_iload_n hX dX0_splits_52 rfl 1 rfl ?_
      exact s_iret hX dX0_splits_53
    · refine s_aload_n hX dX0_splits_31 rfl 0 rfl ?_
      refine s_getR (ci := 0) (j := 18) (ref := "WindGas") hX (pcG 0) in_X0 (Or.inl q284) (by decide) (by decide) (by decide) rfl dX0_splits_32 (fun _ h9 => h9) (fun v14 => ?_)
      refine s_iload_n hX dX0_splits_35 rfl 2 rfl ?_
      refine s_callV_R (ci := 17) (n := 1) (As := [.int w11]) (st := []) hX (pcK 18) (by decide) (pt_get X.l v14 w11) q555 q516 q517 q88 q518 yvJ2_get (by decide) rfl (by first | decide | simp [rv_cat, cat_i, cat_l]) dX0_splits_36 (fun v15 => ?_)
      refine s_cast (ks := [7]) hX (elC 6 (by decide)) q1110 dX0_splits_39 ?_
      refine s_iconst (v := 0) hX dX0_splits_42 rfl ?_
      refine s_putS (ci := 6) (j := 7) (ref := "WindGas$Stack") hX (pcG 6) (pcP 6) in_X6 tyX6_ok nmX6 (Or.inr ⟨_, q1126⟩) (by decide) (by decide) (by decide) rfl rfl rfl dX0_splits_43 (fun _ h9 => h9) ?_
      refine s_iinc (k := 2) (v := (w11 + 1)) (L2 := [(3, .int (w11 + 1)), (0, rv p0), (2, .int p2)]) hX dX0_splits_46 rfl rfl (by decide) rfl ?_
      refine s_goto (tgt := 20) hX dX0_splits_49 (by decide) ?_
      exact s_sub [1, 2, 0] rfl (ih20 (w11 + 1))
set_option maxHeartbeats 4000000 in
theorem ct_X0_splits (l : Launch) (n : Nat) (p0 : Nat) (p1 : Nat) (p2 : Int32) : Ct l Pic yX0_splits (ws_ yX0_splits cX0_splits 5 (some FieldType.int)) 4 87 cvI [rv p0, rv p1, .int p2] (f_X0_splits n p0 p1 p2) := by
  refine Ct.of (own := RX0) (L := [(0, rv p0), (1, rv p1), (2, .int p2)]) (plainFor_of_name (by decide)) rfl (by first | decide | simp [lg_sl, rv_cat, cat_i, cat_l]) (by first | rfl | simp [lv_args, rv_cat, cat_i, cat_l]) pcZ (fun X hXl hX hnh hin => ?_)
  subst hXl
  unfold f_X0_splits
  refine s_aload_n hX dX0_splits_0 rfl 0 rfl ?_
  refine s_iconst (v := 0) hX dX0_splits_1 rfl ?_
  refine s_putI (ci := 0) (j := 35) (ref := "WindGas") hX (pcG 0) (pcP 0) in_X0 tyX0_ok nmX0 (Or.inl q301) (by decide) (by decide) (by decide) rfl rfl rfl dX0_splits_2 (fun _ h9 => h9) ?_
  refine s_aload_n hX dX0_splits_5 rfl 0 rfl ?_
  refine s_iconst (v := 0) hX dX0_splits_6 rfl ?_
  refine s_putI (ci := 0) (j := 36) (ref := "WindGas") hX (pcG 0) (pcP 0) in_X0 tyX0_ok nmX0 (Or.inl q302) (by decide) (by decide) (by decide) rfl rfl rfl dX0_splits_7 (fun _ h9 => h9) ?_
  refine s_iload_n hX dX0_splits_10 rfl 2 rfl ?_
  refine s_aload_n hX dX0_splits_11 rfl 1 rfl ?_
  refine s_getI (ci := 2) (j := 2) (ref := "WindGas$Rules") hX (pcG 2) in_X2 (Or.inr ⟨_, q185⟩) (by decide) (by decide) (by decide) rfl dX0_splits_12 (fun _ h9 => h9) (fun v1 => ?_)
  refine s_icmp_lt (tgt := 54) hX dX0_splits_15 (by decide) ?_ ?_
  · refine s_aload_n hX dX0_splits_54 rfl 0 rfl ?_
    refine s_aload_n hX dX0_splits_55 rfl 1 rfl ?_
    refine s_callV_U (ci := 0) (n := 1) (As := [rv p1]) (st := []) hX (pcK 1) (by decide) (ct_X0_orders X.l n p0 p1) q1207 q1209 qs28 q84 q1210 yvX0_orders (by decide) rfl (by first | decide | simp [rv_cat, cat_i, cat_l]) dX0_splits_56 (fun _ => ?_)
    refine s_iload_n hX dX0_splits_59 rfl 2 rfl ?_
    refine s_istore_n (i := 3) (L2 := [(3, .int p2), (0, rv p0), (1, rv p1), (2, .int p2)]) hX dX0_splits_60 rfl (by decide) rfl ?_
    refine s_iconst (v := 0) hX dX0_splits_61 rfl ?_
    refine s_istore (i := 4) (L2 := [(4, .int 0), (3, .int p2), (0, rv p0), (1, rv p1), (2, .int p2)]) hX dX0_splits_62 (by decide) rfl ?_
    exact s_sub [2, 3, 1, 0] rfl (s_lp_X0_splits_64 hX hnh p0 p1 n p2 0)
  · refine s_iconst (v := 0) hX dX0_splits_18 rfl ?_
    refine s_istore_n (i := 3) (L2 := [(3, .int 0), (0, rv p0), (1, rv p1), (2, .int p2)]) hX dX0_splits_19 rfl (by decide) rfl ?_
    exact s_sub [1, 3, 0] rfl (s_lp_X0_splits_20 hX hnh p0 p2 n 0)
theorem dX8_init_0 : decode cX8_init 0 = .ok (.aload_n 0, 1) := by decide +kernel
theorem dX8_init_1 : decode cX8_init 1 = .ok (.invokespecial 1, 3) := by decide +kernel
theorem dX8_init_4 : decode cX8_init 4 = .ok (.aload_n 0, 1) := by decide +kernel
theorem dX8_init_5 : decode cX8_init 5 = .ok (.iload_n 1, 1) := by decide +kernel
theorem dX8_init_6 : decode cX8_init 6 = .ok (.putfield 7, 3) := by decide +kernel
theorem dX8_init_9 : decode cX8_init 9 = .ok (.return_, 1) := by decide +kernel
theorem ycX8_init : yX8_init.cls ≠ "java/lang/invoke/MethodHandle" ∧ yX8_init.cls ≠ "java/lang/invoke/VarHandle" ∧ (parseMethodDescriptor yX8_init.desc).map (fun d => d.parameters.length) = some 1 := by decide +kernel
theorem yvX8_init : yX8_init.cls = RR 8 ∧ yX8_init.cls ≠ "java/lang/invoke/MethodHandle" ∧ yX8_init.cls ≠ "java/lang/invoke/VarHandle" ∧ (parseMethodDescriptor yX8_init.desc).map (fun d => d.parameters.length) = some 1 := ⟨rfl, ycX8_init⟩
noncomputable def f_X8_init (p0 : Nat) (p1 : Int32) : Act Unit :=
  nn p0 <|
  bnd (putI 8 0 p0 p1) fun _ =>
  pur ()
set_option maxHeartbeats 4000000 in
theorem ct_X8_init (l : Launch) (p0 : Nat) (p1 : Int32) : Ct l Pic yX8_init (ws_ yX8_init cX8_init 2 none) 1 24 cvU [rv p0, .int p1] (f_X8_init p0 p1) := by
  refine Ct.of (own := RX8) (L := [(0, rv p0), (1, .int p1)]) (plainFor_of_name (by decide)) rfl (by first | decide | simp [lg_sl, rv_cat, cat_i, cat_l]) (by first | rfl | simp [lv_args, rv_cat, cat_i, cat_l]) pcZ (fun X hXl hX hnh hin => ?_)
  subst hXl
  unfold f_X8_init
  refine s_aload_n hX dX8_init_0 rfl 0 rfl ?_
  refine s_oinit hX (by decide) q1255 q126 q127 (by decide) (by decide) dX8_init_1 ?_
  refine s_aload_n hX dX8_init_4 rfl 0 rfl ?_
  refine s_iload_n hX dX8_init_5 rfl 1 rfl ?_
  refine s_putIF (ci := 8) (j := 0) (ref := "WindGas$Lot") hX (pcG 8) (pcP 8) in_X8 tyX8_ok nmX8 q1256 (by decide) (by decide) (by decide) rfl rfl rfl (hin rfl) rfl dX8_init_6 (fun _ h9 => h9) ?_
  exact s_vret hX dX8_init_9
theorem dX3_adds_0 : decode cX3_adds 0 = .ok (.iload_n 2, 1) := by decide +kernel
theorem dX3_adds_1 : decode cX3_adds 1 = .ok (.ifCond .ne 4, 3) := by decide +kernel
theorem dX3_adds_4 : decode cX3_adds 4 = .ok (.return_, 1) := by decide +kernel
theorem dX3_adds_5 : decode cX3_adds 5 = .ok (.aload_n 0, 1) := by decide +kernel
theorem dX3_adds_6 : decode cX3_adds 6 = .ok (.getfield 10, 3) := by decide +kernel
theorem dX3_adds_9 : decode cX3_adds 9 = .ok (.invokevirtual 30, 3) := by decide +kernel
theorem dX3_adds_12 : decode cX3_adds 12 = .ok (.ifCond .ne 29, 3) := by decide +kernel
theorem dX3_adds_15 : decode cX3_adds 15 = .ok (.aload_n 0, 1) := by decide +kernel
theorem dX3_adds_16 : decode cX3_adds 16 = .ok (.getfield 10, 3) := by decide +kernel
theorem dX3_adds_19 : decode cX3_adds 19 = .ok (.aload_n 0, 1) := by decide +kernel
theorem dX3_adds_20 : decode cX3_adds 20 = .ok (.getfield 10, 3) := by decide +kernel
theorem dX3_adds_23 : decode cX3_adds 23 = .ok (.invokevirtual 16, 3) := by decide +kernel
theorem dX3_adds_26 : decode cX3_adds 26 = .ok (.iconst 1, 1) := by decide +kernel
theorem dX3_adds_27 : decode cX3_adds 27 = .ok (.isub, 1) := by decide +kernel
theorem dX3_adds_28 : decode cX3_adds 28 = .ok (.invokevirtual 20, 3) := by decide +kernel
theorem dX3_adds_31 : decode cX3_adds 31 = .ok (.checkcast 24, 3) := by decide +kernel
theorem dX3_adds_34 : decode cX3_adds 34 = .ok (.getfield 34, 3) := by decide +kernel
theorem dX3_adds_37 : decode cX3_adds 37 = .ok (.iload_n 1, 1) := by decide +kernel
theorem dX3_adds_38 : decode cX3_adds 38 = .ok (.if_icmp .eq 19, 3) := by decide +kernel
theorem dX3_adds_41 : decode cX3_adds 41 = .ok (.aload_n 0, 1) := by decide +kernel
theorem dX3_adds_42 : decode cX3_adds 42 = .ok (.getfield 10, 3) := by decide +kernel
theorem dX3_adds_45 : decode cX3_adds 45 = .ok (.new 24, 3) := by decide +kernel
theorem dX3_adds_48 : decode cX3_adds 48 = .ok (.dup, 1) := by decide +kernel
theorem dX3_adds_49 : decode cX3_adds 49 = .ok (.iload_n 1, 1) := by decide +kernel
theorem dX3_adds_50 : decode cX3_adds 50 = .ok (.invokespecial 37, 3) := by decide +kernel
theorem dX3_adds_53 : decode cX3_adds 53 = .ok (.invokevirtual 40, 3) := by decide +kernel
theorem dX3_adds_56 : decode cX3_adds 56 = .ok (.pop, 1) := by decide +kernel
theorem dX3_adds_57 : decode cX3_adds 57 = .ok (.aload_n 0, 1) := by decide +kernel
theorem dX3_adds_58 : decode cX3_adds 58 = .ok (.getfield 10, 3) := by decide +kernel
theorem dX3_adds_61 : decode cX3_adds 61 = .ok (.aload_n 0, 1) := by decide +kernel
theorem dX3_adds_62 : decode cX3_adds 62 = .ok (.getfield 10, 3) := by decide +kernel
theorem dX3_adds_65 : decode cX3_adds 65 = .ok (.invokevirtual 16, 3) := by decide +kernel
theorem dX3_adds_68 : decode cX3_adds 68 = .ok (.iconst 1, 1) := by decide +kernel
theorem dX3_adds_69 : decode cX3_adds 69 = .ok (.isub, 1) := by decide +kernel
theorem dX3_adds_70 : decode cX3_adds 70 = .ok (.invokevirtual 20, 3) := by decide +kernel
theorem dX3_adds_73 : decode cX3_adds 73 = .ok (.checkcast 24, 3) := by decide +kernel
theorem dX3_adds_76 : decode cX3_adds 76 = .ok (.astore 4, 2) := by decide +kernel
theorem dX3_adds_78 : decode cX3_adds 78 = .ok (.aload 4, 2) := by decide +kernel
theorem dX3_adds_80 : decode cX3_adds 80 = .ok (.dup, 1) := by decide +kernel
theorem dX3_adds_81 : decode cX3_adds 81 = .ok (.getfield 44, 3) := by decide +kernel
theorem dX3_adds_84 : decode cX3_adds 84 = .ok (.iload_n 2, 1) := by decide +kernel
theorem dX3_adds_85 : decode cX3_adds 85 = .ok (.iadd, 1) := by decide +kernel
theorem dX3_adds_86 : decode cX3_adds 86 = .ok (.putfield 44, 3) := by decide +kernel
theorem dX3_adds_89 : decode cX3_adds 89 = .ok (.aload 4, 2) := by decide +kernel
theorem dX3_adds_91 : decode cX3_adds 91 = .ok (.dup, 1) := by decide +kernel
theorem dX3_adds_92 : decode cX3_adds 92 = .ok (.getfield 26, 3) := by decide +kernel
theorem dX3_adds_95 : decode cX3_adds 95 = .ok (.iload_n 3, 1) := by decide +kernel
theorem dX3_adds_96 : decode cX3_adds 96 = .ok (.iadd, 1) := by decide +kernel
theorem dX3_adds_97 : decode cX3_adds 97 = .ok (.putfield 26, 3) := by decide +kernel
theorem dX3_adds_100 : decode cX3_adds 100 = .ok (.aload_n 0, 1) := by decide +kernel
theorem dX3_adds_101 : decode cX3_adds 101 = .ok (.dup, 1) := by decide +kernel
theorem dX3_adds_102 : decode cX3_adds 102 = .ok (.getfield 47, 3) := by decide +kernel
theorem dX3_adds_105 : decode cX3_adds 105 = .ok (.iload_n 2, 1) := by decide +kernel
theorem dX3_adds_106 : decode cX3_adds 106 = .ok (.iadd, 1) := by decide +kernel
theorem dX3_adds_107 : decode cX3_adds 107 = .ok (.putfield 47, 3) := by decide +kernel
theorem dX3_adds_110 : decode cX3_adds 110 = .ok (.return_, 1) := by decide +kernel
theorem ycX3_adds : yX3_adds.cls ≠ "java/lang/invoke/MethodHandle" ∧ yX3_adds.cls ≠ "java/lang/invoke/VarHandle" ∧ (parseMethodDescriptor yX3_adds.desc).map (fun d => d.parameters.length) = some 3 := by decide +kernel
theorem yvX3_adds : yX3_adds.cls = RR 3 ∧ yX3_adds.cls ≠ "java/lang/invoke/MethodHandle" ∧ yX3_adds.cls ≠ "java/lang/invoke/VarHandle" ∧ (parseMethodDescriptor yX3_adds.desc).map (fun d => d.parameters.length) = some 3 := ⟨rfl, ycX3_adds⟩
noncomputable def f_X3_adds (p0 : Nat) (p1 : Int32) (p2 : Int32) (p3 : Int32) : Act Unit :=
  if ¬ p2 = 0 then
    bnd (getR 3 0 p0) fun v1 =>
    bnd (gd 17 v1 (nt (P_isEmpty v1))) fun v2 =>
    jn (fun (_ : Unit) =>
      bnd (getR 3 0 p0) fun v3 =>
      bnd (getR 3 0 p0) fun v4 =>
      bnd (gd 17 v4 (nt (P_size v4))) fun v5 =>
      bnd (gd 17 v3 (nt (P_get v3 (v5 - 1)))) fun v6 =>
      bnd (cst [9] v6) fun _ =>
      bnd (getI 8 1 v6) fun v7 =>
      bnd (putI 8 1 v6 (v7 + p2)) fun _ =>
      bnd (getI 8 2 v6) fun v8 =>
      bnd (putI 8 2 v6 (v8 + p3)) fun _ =>
      bnd (getI 3 4 p0) fun v9 =>
      bnd (putI 3 4 p0 (v9 + p2)) fun _ =>
      pur ()) fun j57 =>
    jn (fun (_ : Unit) =>
      bnd (getR 3 0 p0) fun v10 =>
      bnd (newO 8 3) fun v11 =>
      bnd (gd 8 v11 (nt (f_X8_init v11 p1))) fun _ =>
      bnd (gd 17 v10 (nt (P_add v10 v11))) fun v12 =>
      j57 ()) fun j41 =>
    if ¬ v2 = 0 then
      j41 ()
    else
      bnd (getR 3 0 p0) fun v13 =>
      bnd (getR 3 0 p0) fun v14 =>
      bnd (gd 17 v14 (nt (P_size v14))) fun v15 =>
      bnd (gd 17 v13 (nt (P_get v13 (v15 - 1)))) fun v16 =>
      bnd (cst [9] v16) fun _ =>
      bnd (getI 8 0 v16) fun v17 =>
      if v17 = p1 then
        j57 ()
      else
        j41 ()
  else
    pur ()
set_option maxHeartbeats 4000000 in
theorem ct_X3_adds (l : Launch) (p0 : Nat) (p1 : Int32) (p2 : Int32) (p3 : Int32) : Ct l Pic yX3_adds (ws_ yX3_adds cX3_adds 5 none) 7 171 cvU [rv p0, .int p1, .int p2, .int p3] (f_X3_adds p0 p1 p2 p3) := by
  refine Ct.of (own := RX3) (L := [(0, rv p0), (1, .int p1), (2, .int p2), (3, .int p3)]) (plainFor_of_name (by decide)) rfl (by first | decide | simp [lg_sl, rv_cat, cat_i, cat_l]) (by first | rfl | simp [lv_args, rv_cat, cat_i, cat_l]) pcZ (fun X hXl hX hnh hin => ?_)
  subst hXl
  unfold f_X3_adds
  refine s_iload_n hX dX3_adds_0 rfl 2 rfl ?_
  refine s_if_ne (tgt := 5) hX dX3_adds_1 (by decide) ?_ ?_
  · refine s_aload_n hX dX3_adds_5 rfl 0 rfl ?_
    refine s_getR (ci := 3) (j := 0) (ref := "WindGas$Store") hX (pcG 3) in_X3 (Or.inl q233) (by decide) (by decide) (by decide) rfl dX3_adds_6 (fun _ h9 => h9) (fun v1 => ?_)
    refine s_callV_I (ci := 17) (n := 0) (As := []) (st := []) hX (pcK 18) (by decide) (pt_isEmpty X.l v1) q1247 q1248 q1249 q88 q1250 yvJ2_isEmpty (by decide) rfl (by first | decide | simp [rv_cat, cat_i, cat_l]) dX3_adds_9 (fun v2 => ?_)
    refine s_jn (P := fun j => ∀ (u : Unit), Sim X cvU 57 [(0, rv p0), (2, .int p2), (3, .int p3)] [] (j u)) ?_ (fun j57 hj57 => ?_)
    · intro u
      refine s_aload_n hX dX3_adds_57 rfl 0 rfl ?_
      refine s_getR (ci := 3) (j := 0) (ref := "WindGas$Store") hX (pcG 3) in_X3 (Or.inl q233) (by decide) (by decide) (by decide) rfl dX3_adds_58 (fun _ h9 => h9) (fun v3 => ?_)
      refine s_aload_n hX dX3_adds_61 rfl 0 rfl ?_
      refine s_getR (ci := 3) (j := 0) (ref := "WindGas$Store") hX (pcG 3) in_X3 (Or.inl q233) (by decide) (by decide) (by decide) rfl dX3_adds_62 (fun _ h9 => h9) (fun v4 => ?_)
      refine s_callV_I (ci := 17) (n := 0) (As := []) (st := [rv v3]) hX (pcK 18) (by decide) (pt_size X.l v4) q1053 q417 q418 q88 q419 yvJ2_size (by decide) rfl (by first | decide | simp [rv_cat, cat_i, cat_l]) dX3_adds_65 (fun v5 => ?_)
      refine s_iconst (v := 1) hX dX3_adds_68 rfl ?_
      refine s_isub hX dX3_adds_69 ?_
      refine s_callV_R (ci := 17) (n := 1) (As := [.int (v5 - 1)]) (st := []) hX (pcK 18) (by decide) (pt_get X.l v3 (v5 - 1)) q1054 q516 q517 q88 q518 yvJ2_get (by decide) rfl (by first | decide | simp [rv_cat, cat_i, cat_l]) dX3_adds_70 (fun v6 => ?_)
      refine s_cast (ks := [9]) hX (elC 8 (by decide)) q1055 dX3_adds_73 ?_
      refine s_astore (i := 4) (L2 := [(4, rv v6), (0, rv p0), (2, .int p2), (3, .int p3)]) hX dX3_adds_76 (by decide) rfl ?_
      refine s_aload hX dX3_adds_78 0 rfl ?_
      refine s_dup hX dX3_adds_80 (rv_cat _) ?_
      refine s_getI (ci := 8) (j := 1) (ref := "WindGas$Lot") hX (pcG 8) in_X8 (Or.inr ⟨_, q1260⟩) (by decide) (by decide) (by decide) rfl dX3_adds_81 (fun _ h9 => h9) (fun v7 => ?_)
      refine s_iload_n hX dX3_adds_84 rfl 2 rfl ?_
      refine s_iadd hX dX3_adds_85 ?_
      refine s_putI (ci := 8) (j := 1) (ref := "WindGas$Lot") hX (pcG 8) (pcP 8) in_X8 tyX8_ok nmX8 (Or.inr ⟨_, q1260⟩) (by decide) (by decide) (by decide) rfl rfl rfl dX3_adds_86 (fun _ h9 => h9) ?_
      refine s_aload hX dX3_adds_89 0 rfl ?_
      refine s_dup hX dX3_adds_91 (rv_cat _) ?_
      refine s_getI (ci := 8) (j := 2) (ref := "WindGas$Lot") hX (pcG 8) in_X8 (Or.inr ⟨_, q1263⟩) (by decide) (by decide) (by decide) rfl dX3_adds_92 (fun _ h9 => h9) (fun v8 => ?_)
      refine s_iload_n hX dX3_adds_95 rfl 3 rfl ?_
      refine s_iadd hX dX3_adds_96 ?_
      refine s_putI (ci := 8) (j := 2) (ref := "WindGas$Lot") hX (pcG 8) (pcP 8) in_X8 tyX8_ok nmX8 (Or.inr ⟨_, q1263⟩) (by decide) (by decide) (by decide) rfl rfl rfl dX3_adds_97 (fun _ h9 => h9) ?_
      refine s_aload_n hX dX3_adds_100 rfl 1 rfl ?_
      refine s_dup hX dX3_adds_101 (rv_cat _) ?_
      refine s_getI (ci := 3) (j := 4) (ref := "WindGas$Store") hX (pcG 3) in_X3 (Or.inl q239) (by decide) (by decide) (by decide) rfl dX3_adds_102 (fun _ h9 => h9) (fun v9 => ?_)
      refine s_iload_n hX dX3_adds_105 rfl 2 rfl ?_
      refine s_iadd hX dX3_adds_106 ?_
      refine s_putI (ci := 3) (j := 4) (ref := "WindGas$Store") hX (pcG 3) (pcP 3) in_X3 tyX3_ok nmX3 (Or.inl q239) (by decide) (by decide) (by decide) rfl rfl rfl dX3_adds_107 (fun _ h9 => h9) ?_
      exact s_vret hX dX3_adds_110
    · refine s_jn (P := fun j => ∀ (u : Unit), Sim X cvU 41 [(0, rv p0), (1, .int p1), (2, .int p2), (3, .int p3)] [] (j u)) ?_ (fun j41 hj41 => ?_)
      · intro u
        refine s_aload_n hX dX3_adds_41 rfl 0 rfl ?_
        refine s_getR (ci := 3) (j := 0) (ref := "WindGas$Store") hX (pcG 3) in_X3 (Or.inl q233) (by decide) (by decide) (by decide) rfl dX3_adds_42 (fun _ h9 => h9) (fun v10 => ?_)
        refine s_new (ci := 8) hX (pcN 8) in_X8 tyX8_ok (by decide) (by decide) q1055 q1251 q102 dX3_adds_45 (fun v11 => ?_)
        refine s_dup hX dX3_adds_48 (rv_cat _) ?_
        refine s_iload_n hX dX3_adds_49 rfl 1 rfl ?_
        refine s_callI_U (ci := 8) (n := 1) (As := [.int p1]) (st := [rv v11, rv v10]) hX (pcK 9) (by decide) (ct_X8_init X.l v11 p1) q1252 q1253 q102 q1254 rfl ycX8_init (by decide) rfl (by first | decide | simp [rv_cat, cat_i, cat_l]) dX3_adds_50 (fun _ => ?_)
        refine s_callV_I (ci := 17) (n := 1) (As := [rv v11]) (st := []) hX (pcK 18) (by decide) (pt_add X.l v10 v11) q1084 q440 q441 q88 q442 yvJ2_add (by decide) rfl (by first | decide | simp [rv_cat, cat_i, cat_l]) dX3_adds_53 (fun v12 => ?_)
        refine s_pop hX dX3_adds_56 rfl ?_
        exact s_sub [0, 2, 3] rfl (hj57 ())
      · refine s_if_ne (tgt := 41) hX dX3_adds_12 (by decide) ?_ ?_
        · exact hj41 ()
        · refine s_aload_n hX dX3_adds_15 rfl 0 rfl ?_
          refine s_getR (ci := 3) (j := 0) (ref := "WindGas$Store") hX (pcG 3) in_X3 (Or.inl q233) (by decide) (by decide) (by decide) rfl dX3_adds_16 (fun _ h9 => h9) (fun v13 => ?_)
          refine s_aload_n hX dX3_adds_19 rfl 0 rfl ?_
          refine s_getR (ci := 3) (j := 0) (ref := "WindGas$Store") hX (pcG 3) in_X3 (Or.inl q233) (by decide) (by decide) (by decide) rfl dX3_adds_20 (fun _ h9 => h9) (fun v14 => ?_)
          refine s_callV_I (ci := 17) (n := 0) (As := []) (st := [rv v13]) hX (pcK 18) (by decide) (pt_size X.l v14) q1053 q417 q418 q88 q419 yvJ2_size (by decide) rfl (by first | decide | simp [rv_cat, cat_i, cat_l]) dX3_adds_23 (fun v15 => ?_)
          refine s_iconst (v := 1) hX dX3_adds_26 rfl ?_
          refine s_isub hX dX3_adds_27 ?_
          refine s_callV_R (ci := 17) (n := 1) (As := [.int (v15 - 1)]) (st := []) hX (pcK 18) (by decide) (pt_get X.l v13 (v15 - 1)) q1054 q516 q517 q88 q518 yvJ2_get (by decide) rfl (by first | decide | simp [rv_cat, cat_i, cat_l]) dX3_adds_28 (fun v16 => ?_)
          refine s_cast (ks := [9]) hX (elC 8 (by decide)) q1055 dX3_adds_31 ?_
          refine s_getI (ci := 8) (j := 0) (ref := "WindGas$Lot") hX (pcG 8) in_X8 (Or.inr ⟨_, q1257⟩) (by decide) (by decide) (by decide) rfl dX3_adds_34 (fun _ h9 => h9) (fun v17 => ?_)
          refine s_iload_n hX dX3_adds_37 rfl 1 rfl ?_
          refine s_icmp_eq (tgt := 57) hX dX3_adds_38 (by decide) ?_ ?_
          · exact s_sub [0, 2, 3] rfl (hj57 ())
          · exact hj41 ()
  · exact s_vret hX dX3_adds_4
theorem dX0_fills_0 : decode cX0_fills 0 = .ok (.aload_n 0, 1) := by decide +kernel
theorem dX0_fills_1 : decode cX0_fills 1 = .ok (.getfield 453, 3) := by decide +kernel
theorem dX0_fills_4 : decode cX0_fills 4 = .ok (.iload_n 2, 1) := by decide +kernel
theorem dX0_fills_5 : decode cX0_fills 5 = .ok (.aload_n 1, 1) := by decide +kernel
theorem dX0_fills_6 : decode cX0_fills 6 = .ok (.getfield 372, 3) := by decide +kernel
theorem dX0_fills_9 : decode cX0_fills 9 = .ok (.aload_n 1, 1) := by decide +kernel
theorem dX0_fills_10 : decode cX0_fills 10 = .ok (.getfield 365, 3) := by decide +kernel
theorem dX0_fills_13 : decode cX0_fills 13 = .ok (.isub, 1) := by decide +kernel
theorem dX0_fills_14 : decode cX0_fills 14 = .ok (.invokestatic 205, 3) := by decide +kernel
theorem dX0_fills_17 : decode cX0_fills 17 = .ok (.invokestatic 205, 3) := by decide +kernel
theorem dX0_fills_20 : decode cX0_fills 20 = .ok (.istore_n 3, 1) := by decide +kernel
theorem dX0_fills_21 : decode cX0_fills 21 = .ok (.iload_n 3, 1) := by decide +kernel
theorem dX0_fills_22 : decode cX0_fills 22 = .ok (.ifCond .gt 4, 3) := by decide +kernel
theorem dX0_fills_25 : decode cX0_fills 25 = .ok (.return_, 1) := by decide +kernel
theorem dX0_fills_26 : decode cX0_fills 26 = .ok (.iload_n 3, 1) := by decide +kernel
theorem dX0_fills_27 : decode cX0_fills 27 = .ok (.aload_n 0, 1) := by decide +kernel
theorem dX0_fills_28 : decode cX0_fills 28 = .ok (.getfield 453, 3) := by decide +kernel
theorem dX0_fills_31 : decode cX0_fills 31 = .ok (.if_icmp .ne 10, 3) := by decide +kernel
theorem dX0_fills_34 : decode cX0_fills 34 = .ok (.aload_n 0, 1) := by decide +kernel
theorem dX0_fills_35 : decode cX0_fills 35 = .ok (.getfield 455, 3) := by decide +kernel
theorem dX0_fills_38 : decode cX0_fills 38 = .ok (.goto 18, 3) := by decide +kernel
theorem dX0_fills_41 : decode cX0_fills 41 = .ok (.aload_n 0, 1) := by decide +kernel
theorem dX0_fills_42 : decode cX0_fills 42 = .ok (.getfield 455, 3) := by decide +kernel
theorem dX0_fills_45 : decode cX0_fills 45 = .ok (.i2l, 1) := by decide +kernel
theorem dX0_fills_46 : decode cX0_fills 46 = .ok (.iload_n 3, 1) := by decide +kernel
theorem dX0_fills_47 : decode cX0_fills 47 = .ok (.i2l, 1) := by decide +kernel
theorem dX0_fills_48 : decode cX0_fills 48 = .ok (.lmul, 1) := by decide +kernel
theorem dX0_fills_49 : decode cX0_fills 49 = .ok (.aload_n 0, 1) := by decide +kernel
theorem dX0_fills_50 : decode cX0_fills 50 = .ok (.getfield 453, 3) := by decide +kernel
theorem dX0_fills_53 : decode cX0_fills 53 = .ok (.i2l, 1) := by decide +kernel
theorem dX0_fills_54 : decode cX0_fills 54 = .ok (.ldiv, 1) := by decide +kernel
theorem dX0_fills_55 : decode cX0_fills 55 = .ok (.l2i, 1) := by decide +kernel
theorem dX0_fills_56 : decode cX0_fills 56 = .ok (.istore 4, 2) := by decide +kernel
theorem dX0_fills_58 : decode cX0_fills 58 = .ok (.aload_n 1, 1) := by decide +kernel
theorem dX0_fills_59 : decode cX0_fills 59 = .ok (.aload_n 0, 1) := by decide +kernel
theorem dX0_fills_60 : decode cX0_fills 60 = .ok (.getfield 351, 3) := by decide +kernel
theorem dX0_fills_63 : decode cX0_fills 63 = .ok (.bipush 6, 2) := by decide +kernel
theorem dX0_fills_65 : decode cX0_fills 65 = .ok (.idiv, 1) := by decide +kernel
theorem dX0_fills_66 : decode cX0_fills 66 = .ok (.iload_n 3, 1) := by decide +kernel
theorem dX0_fills_67 : decode cX0_fills 67 = .ok (.iload 4, 2) := by decide +kernel
theorem dX0_fills_69 : decode cX0_fills 69 = .ok (.invokevirtual 468, 3) := by decide +kernel
theorem dX0_fills_72 : decode cX0_fills 72 = .ok (.aload_n 0, 1) := by decide +kernel
theorem dX0_fills_73 : decode cX0_fills 73 = .ok (.dup, 1) := by decide +kernel
theorem dX0_fills_74 : decode cX0_fills 74 = .ok (.getfield 453, 3) := by decide +kernel
theorem dX0_fills_77 : decode cX0_fills 77 = .ok (.iload_n 3, 1) := by decide +kernel
theorem dX0_fills_78 : decode cX0_fills 78 = .ok (.isub, 1) := by decide +kernel
theorem dX0_fills_79 : decode cX0_fills 79 = .ok (.putfield 453, 3) := by decide +kernel
theorem dX0_fills_82 : decode cX0_fills 82 = .ok (.aload_n 0, 1) := by decide +kernel
theorem dX0_fills_83 : decode cX0_fills 83 = .ok (.dup, 1) := by decide +kernel
theorem dX0_fills_84 : decode cX0_fills 84 = .ok (.getfield 455, 3) := by decide +kernel
theorem dX0_fills_87 : decode cX0_fills 87 = .ok (.iload 4, 2) := by decide +kernel
theorem dX0_fills_89 : decode cX0_fills 89 = .ok (.isub, 1) := by decide +kernel
theorem dX0_fills_90 : decode cX0_fills 90 = .ok (.putfield 455, 3) := by decide +kernel
theorem dX0_fills_93 : decode cX0_fills 93 = .ok (.return_, 1) := by decide +kernel
theorem ycX0_fills : yX0_fills.cls ≠ "java/lang/invoke/MethodHandle" ∧ yX0_fills.cls ≠ "java/lang/invoke/VarHandle" ∧ (parseMethodDescriptor yX0_fills.desc).map (fun d => d.parameters.length) = some 2 := by decide +kernel
theorem yvX0_fills : yX0_fills.cls = RR 0 ∧ yX0_fills.cls ≠ "java/lang/invoke/MethodHandle" ∧ yX0_fills.cls ≠ "java/lang/invoke/VarHandle" ∧ (parseMethodDescriptor yX0_fills.desc).map (fun d => d.parameters.length) = some 2 := ⟨rfl, ycX0_fills⟩
noncomputable def f_X0_fills (p0 : Nat) (p1 : Nat) (p2 : Int32) : Act Unit :=
  bnd (getI 0 35 p0) fun v1 =>
  bnd (getI 3 1 p1) fun v2 =>
  bnd (getI 3 4 p1) fun v3 =>
  if 0 < (mn v1 (mn p2 (v2 - v3))) then
    bnd (getI 0 35 p0) fun v4 =>
    jn (fun (v5 : Int32) =>
      bnd (getI 0 0 p0) fun v6 =>
      bnd (gd 3 p1 (nt (f_X3_adds p1 (v6 / 6) (mn v1 (mn p2 (v2 - v3))) v5))) fun _ =>
      bnd (getI 0 35 p0) fun v7 =>
      bnd (putI 0 35 p0 (v7 - (mn v1 (mn p2 (v2 - v3))))) fun _ =>
      bnd (getI 0 36 p0) fun v8 =>
      bnd (putI 0 36 p0 (v8 - v5)) fun _ =>
      pur ()) fun j56 =>
    if ¬ (mn v1 (mn p2 (v2 - v3))) = v4 then
      bnd (getI 0 36 p0) fun v9 =>
      bnd (getI 0 35 p0) fun v10 =>
      nzl v10.toInt64 <|
      j56 (((v9.toInt64 * ((mn v1 (mn p2 (v2 - v3))).toInt64)) / v10.toInt64).toInt32)
    else
      bnd (getI 0 36 p0) fun v11 =>
      j56 v11
  else
    pur ()
set_option maxHeartbeats 4000000 in
theorem ct_X0_fills (l : Launch) (p0 : Nat) (p1 : Nat) (p2 : Int32) : Ct l Pic yX0_fills (ws_ yX0_fills cX0_fills 5 none) 8 195 cvU [rv p0, rv p1, .int p2] (f_X0_fills p0 p1 p2) := by
  refine Ct.of (own := RX0) (L := [(0, rv p0), (1, rv p1), (2, .int p2)]) (plainFor_of_name (by decide)) rfl (by first | decide | simp [lg_sl, rv_cat, cat_i, cat_l]) (by first | rfl | simp [lv_args, rv_cat, cat_i, cat_l]) pcZ (fun X hXl hX hnh hin => ?_)
  subst hXl
  unfold f_X0_fills
  refine s_aload_n hX dX0_fills_0 rfl 0 rfl ?_
  refine s_getI (ci := 0) (j := 35) (ref := "WindGas") hX (pcG 0) in_X0 (Or.inl q301) (by decide) (by decide) (by decide) rfl dX0_fills_1 (fun _ h9 => h9) (fun v1 => ?_)
  refine s_iload_n hX dX0_fills_4 rfl 2 rfl ?_
  refine s_aload_n hX dX0_fills_5 rfl 1 rfl ?_
  refine s_getI (ci := 3) (j := 1) (ref := "WindGas$Store") hX (pcG 3) in_X3 (Or.inr ⟨_, q235⟩) (by decide) (by decide) (by decide) rfl dX0_fills_6 (fun _ h9 => h9) (fun v2 => ?_)
  refine s_aload_n hX dX0_fills_9 rfl 1 rfl ?_
  refine s_getI (ci := 3) (j := 4) (ref := "WindGas$Store") hX (pcG 3) in_X3 (Or.inr ⟨_, q240⟩) (by decide) (by decide) (by decide) rfl dX0_fills_10 (fun _ h9 => h9) (fun v3 => ?_)
  refine s_isub hX dX0_fills_13 ?_
  refine s_mmin hX q756 q500 q95 q501 rfl (by omega) (by first | decide | (simp [rv_cat, cat_i, cat_l]; try omega)) dX0_fills_14 ?_
  refine s_mmin hX q756 q500 q95 q501 rfl (by omega) (by first | decide | (simp [rv_cat, cat_i, cat_l]; try omega)) dX0_fills_17 ?_
  refine s_istore_n (i := 3) (L2 := [(3, .int (mn v1 (mn p2 (v2 - v3)))), (0, rv p0), (1, rv p1), (2, .int p2)]) hX dX0_fills_20 rfl (by decide) rfl ?_
  refine s_iload_n hX dX0_fills_21 rfl 0 rfl ?_
  refine s_if_gt (tgt := 26) hX dX0_fills_22 (by decide) ?_ ?_
  · refine s_iload_n hX dX0_fills_26 rfl 0 rfl ?_
    refine s_aload_n hX dX0_fills_27 rfl 1 rfl ?_
    refine s_getI (ci := 0) (j := 35) (ref := "WindGas") hX (pcG 0) in_X0 (Or.inl q301) (by decide) (by decide) (by decide) rfl dX0_fills_28 (fun _ h9 => h9) (fun v4 => ?_)
    refine s_jn (P := fun j => ∀ (v5 : Int32), Sim X cvU 56 [(0, rv p0), (1, rv p1), (3, .int (mn v1 (mn p2 (v2 - v3))))] [.int v5] (j v5)) ?_ (fun j56 hj56 => ?_)
    · intro v5
      refine s_istore (i := 4) (L2 := [(4, .int v5), (0, rv p0), (1, rv p1), (3, .int (mn v1 (mn p2 (v2 - v3))))]) hX dX0_fills_56 (by decide) rfl ?_
      refine s_aload_n hX dX0_fills_58 rfl 2 rfl ?_
      refine s_aload_n hX dX0_fills_59 rfl 1 rfl ?_
      refine s_getI (ci := 0) (j := 0) (ref := "WindGas") hX (pcG 0) in_X0 (Or.inl q266) (by decide) (by decide) (by decide) rfl dX0_fills_60 (fun _ h9 => h9) (fun v6 => ?_)
      refine s_bipush (v := 6) hX dX0_fills_63 (by decide) ?_
      refine s_idivc hX dX0_fills_65 (by decide) ?_
      refine s_iload_n hX dX0_fills_66 rfl 3 rfl ?_
      refine s_iload hX dX0_fills_67 0 rfl ?_
      refine s_callV_U (ci := 3) (n := 3) (As := [.int (v6 / 6), .int (mn v1 (mn p2 (v2 - v3))), .int v5]) (st := []) hX (pcK 4) (by decide) (ct_X3_adds X.l p1 (v6 / 6) (mn v1 (mn p2 (v2 - v3))) v5) q1243 q1244 q1245 q90 q1246 yvX3_adds (by decide) rfl (by first | decide | simp [rv_cat, cat_i, cat_l]) dX0_fills_69 (fun _ => ?_)
      refine s_aload_n hX dX0_fills_72 rfl 1 rfl ?_
      refine s_dup hX dX0_fills_73 (rv_cat _) ?_
      refine s_getI (ci := 0) (j := 35) (ref := "WindGas") hX (pcG 0) in_X0 (Or.inl q301) (by decide) (by decide) (by decide) rfl dX0_fills_74 (fun _ h9 => h9) (fun v7 => ?_)
      refine s_iload_n hX dX0_fills_77 rfl 3 rfl ?_
      refine s_isub hX dX0_fills_78 ?_
      refine s_putI (ci := 0) (j := 35) (ref := "WindGas") hX (pcG 0) (pcP 0) in_X0 tyX0_ok nmX0 (Or.inl q301) (by decide) (by decide) (by decide) rfl rfl rfl dX0_fills_79 (fun _ h9 => h9) ?_
      refine s_aload_n hX dX0_fills_82 rfl 1 rfl ?_
      refine s_dup hX dX0_fills_83 (rv_cat _) ?_
      refine s_getI (ci := 0) (j := 36) (ref := "WindGas") hX (pcG 0) in_X0 (Or.inl q302) (by decide) (by decide) (by decide) rfl dX0_fills_84 (fun _ h9 => h9) (fun v8 => ?_)
      refine s_iload hX dX0_fills_87 0 rfl ?_
      refine s_isub hX dX0_fills_89 ?_
      refine s_putI (ci := 0) (j := 36) (ref := "WindGas") hX (pcG 0) (pcP 0) in_X0 tyX0_ok nmX0 (Or.inl q302) (by decide) (by decide) (by decide) rfl rfl rfl dX0_fills_90 (fun _ h9 => h9) ?_
      exact s_vret hX dX0_fills_93
    · refine s_icmp_ne (tgt := 41) hX dX0_fills_31 (by decide) ?_ ?_
      · refine s_aload_n hX dX0_fills_41 rfl 1 rfl ?_
        refine s_getI (ci := 0) (j := 36) (ref := "WindGas") hX (pcG 0) in_X0 (Or.inl q302) (by decide) (by decide) (by decide) rfl dX0_fills_42 (fun _ h9 => h9) (fun v9 => ?_)
        refine s_i2l hX dX0_fills_45 ?_
        refine s_iload_n hX dX0_fills_46 rfl 0 rfl ?_
        refine s_i2l hX dX0_fills_47 ?_
        refine s_lmul hX dX0_fills_48 ?_
        refine s_aload_n hX dX0_fills_49 rfl 1 rfl ?_
        refine s_getI (ci := 0) (j := 35) (ref := "WindGas") hX (pcG 0) in_X0 (Or.inl q301) (by decide) (by decide) (by decide) rfl dX0_fills_50 (fun _ h9 => h9) (fun v10 => ?_)
        refine s_i2l hX dX0_fills_53 ?_
        refine s_ldiv hX dX0_fills_54 ?_
        refine s_l2i hX dX0_fills_55 ?_
        exact s_sub [1, 2, 0] rfl (hj56 (((v9.toInt64 * ((mn v1 (mn p2 (v2 - v3))).toInt64)) / v10.toInt64).toInt32))
      · refine s_aload_n hX dX0_fills_34 rfl 1 rfl ?_
        refine s_getI (ci := 0) (j := 36) (ref := "WindGas") hX (pcG 0) in_X0 (Or.inl q302) (by decide) (by decide) (by decide) rfl dX0_fills_35 (fun _ h9 => h9) (fun v11 => ?_)
        refine s_goto (tgt := 56) hX dX0_fills_38 (by decide) ?_
        exact s_sub [1, 2, 0] rfl (hj56 v11)
  · exact s_vret hX dX0_fills_25
theorem dX3_foulOf_0 : decode cX3_foulOf 0 = .ok (.iconst 0, 1) := by decide +kernel
theorem dX3_foulOf_1 : decode cX3_foulOf 1 = .ok (.istore_n 2, 1) := by decide +kernel
theorem dX3_foulOf_2 : decode cX3_foulOf 2 = .ok (.iload_n 1, 1) := by decide +kernel
theorem dX3_foulOf_3 : decode cX3_foulOf 3 = .ok (.istore_n 3, 1) := by decide +kernel
theorem dX3_foulOf_4 : decode cX3_foulOf 4 = .ok (.iconst 0, 1) := by decide +kernel
theorem dX3_foulOf_5 : decode cX3_foulOf 5 = .ok (.istore 4, 2) := by decide +kernel
theorem dX3_foulOf_7 : decode cX3_foulOf 7 = .ok (.iload 4, 2) := by decide +kernel
theorem dX3_foulOf_9 : decode cX3_foulOf 9 = .ok (.aload_n 0, 1) := by decide +kernel
theorem dX3_foulOf_10 : decode cX3_foulOf 10 = .ok (.getfield 10, 3) := by decide +kernel
theorem dX3_foulOf_13 : decode cX3_foulOf 13 = .ok (.invokevirtual 16, 3) := by decide +kernel
theorem dX3_foulOf_16 : decode cX3_foulOf 16 = .ok (.if_icmp .ge 59, 3) := by decide +kernel
theorem dX3_foulOf_19 : decode cX3_foulOf 19 = .ok (.iload_n 3, 1) := by decide +kernel
theorem dX3_foulOf_20 : decode cX3_foulOf 20 = .ok (.ifCond .le 55, 3) := by decide +kernel
theorem dX3_foulOf_23 : decode cX3_foulOf 23 = .ok (.iload_n 3, 1) := by decide +kernel
theorem dX3_foulOf_24 : decode cX3_foulOf 24 = .ok (.aload_n 0, 1) := by decide +kernel
theorem dX3_foulOf_25 : decode cX3_foulOf 25 = .ok (.getfield 10, 3) := by decide +kernel
theorem dX3_foulOf_28 : decode cX3_foulOf 28 = .ok (.iload 4, 2) := by decide +kernel
theorem dX3_foulOf_30 : decode cX3_foulOf 30 = .ok (.invokevirtual 20, 3) := by decide +kernel
theorem dX3_foulOf_33 : decode cX3_foulOf 33 = .ok (.checkcast 24, 3) := by decide +kernel
theorem dX3_foulOf_36 : decode cX3_foulOf 36 = .ok (.getfield 44, 3) := by decide +kernel
theorem dX3_foulOf_39 : decode cX3_foulOf 39 = .ok (.invokestatic 48, 3) := by decide +kernel
theorem dX3_foulOf_42 : decode cX3_foulOf 42 = .ok (.istore 5, 2) := by decide +kernel
theorem dX3_foulOf_44 : decode cX3_foulOf 44 = .ok (.iload_n 2, 1) := by decide +kernel
theorem dX3_foulOf_45 : decode cX3_foulOf 45 = .ok (.aload_n 0, 1) := by decide +kernel
theorem dX3_foulOf_46 : decode cX3_foulOf 46 = .ok (.getfield 10, 3) := by decide +kernel
theorem dX3_foulOf_49 : decode cX3_foulOf 49 = .ok (.iload 4, 2) := by decide +kernel
theorem dX3_foulOf_51 : decode cX3_foulOf 51 = .ok (.invokevirtual 20, 3) := by decide +kernel
theorem dX3_foulOf_54 : decode cX3_foulOf 54 = .ok (.checkcast 24, 3) := by decide +kernel
theorem dX3_foulOf_57 : decode cX3_foulOf 57 = .ok (.iload 5, 2) := by decide +kernel
theorem dX3_foulOf_59 : decode cX3_foulOf 59 = .ok (.invokevirtual 54, 3) := by decide +kernel
theorem dX3_foulOf_62 : decode cX3_foulOf 62 = .ok (.iadd, 1) := by decide +kernel
theorem dX3_foulOf_63 : decode cX3_foulOf 63 = .ok (.istore_n 2, 1) := by decide +kernel
theorem dX3_foulOf_64 : decode cX3_foulOf 64 = .ok (.iload_n 3, 1) := by decide +kernel
theorem dX3_foulOf_65 : decode cX3_foulOf 65 = .ok (.iload 5, 2) := by decide +kernel
theorem dX3_foulOf_67 : decode cX3_foulOf 67 = .ok (.isub, 1) := by decide +kernel
theorem dX3_foulOf_68 : decode cX3_foulOf 68 = .ok (.istore_n 3, 1) := by decide +kernel
theorem dX3_foulOf_69 : decode cX3_foulOf 69 = .ok (.iinc 4 1, 3) := by decide +kernel
theorem dX3_foulOf_72 : decode cX3_foulOf 72 = .ok (.goto (-65), 3) := by decide +kernel
theorem dX3_foulOf_75 : decode cX3_foulOf 75 = .ok (.iload_n 2, 1) := by decide +kernel
theorem dX3_foulOf_76 : decode cX3_foulOf 76 = .ok (.ireturn, 1) := by decide +kernel
theorem ycX3_foulOf : yX3_foulOf.cls ≠ "java/lang/invoke/MethodHandle" ∧ yX3_foulOf.cls ≠ "java/lang/invoke/VarHandle" ∧ (parseMethodDescriptor yX3_foulOf.desc).map (fun d => d.parameters.length) = some 1 := by decide +kernel
theorem yvX3_foulOf : yX3_foulOf.cls = RR 3 ∧ yX3_foulOf.cls ≠ "java/lang/invoke/MethodHandle" ∧ yX3_foulOf.cls ≠ "java/lang/invoke/VarHandle" ∧ (parseMethodDescriptor yX3_foulOf.desc).map (fun d => d.parameters.length) = some 1 := ⟨rfl, ycX3_foulOf⟩
noncomputable def lp_X3_foulOf_7 (p0 : Nat) (q : Nat) : Int32 → Int32 → Int32 → Act Int32 := match q with
  | 0 => fun _ _ _ => fail
  | q + 1 => fun w1 w2 w3 =>
    bnd (getR 3 0 p0) fun v4 =>
    bnd (gd 17 v4 (nt (P_size v4))) fun v5 =>
    jn (fun (_ : Unit) =>
      pur w1) fun j75 =>
    if v5 ≤ w3 then
      j75 ()
    else
      if w2 ≤ 0 then
        j75 ()
      else
        bnd (getR 3 0 p0) fun v6 =>
        bnd (gd 17 v6 (nt (P_get v6 w3))) fun v7 =>
        bnd (cst [9] v7) fun _ =>
        bnd (getI 8 1 v7) fun v8 =>
        bnd (getR 3 0 p0) fun v9 =>
        bnd (gd 17 v9 (nt (P_get v9 w3))) fun v10 =>
        bnd (cst [9] v10) fun _ =>
        bnd (gd 8 v10 (nt (f_X8_foulOf v10 (mn w2 v8)))) fun v11 =>
        (lp_X3_foulOf_7 p0 q) (w1 + v11) (w2 - (mn w2 v8)) (w3 + 1)
noncomputable def f_X3_foulOf (n : Nat) (p0 : Nat) (p1 : Int32) : Act Int32 :=
  lp_X3_foulOf_7 p0 n 0 p1 0
set_option maxHeartbeats 4000000 in
theorem s_lp_X3_foulOf_7 {X : Cx} (hX : Ok X Pic cX3_foulOf RX3 6 (some FieldType.int) 3 64) (hnh : Noh X) (p0 : Nat) (q : Nat) : ∀ (w1 : Int32) (w2 : Int32) (w3 : Int32), Sim X cvI 7 [(0, rv p0), (2, .int w1), (3, .int w2), (4, .int w3)] [] (lp_X3_foulOf_7 p0 q w1 w2 w3) := by
  induction q with
  | zero => intro w1 w2 w3; exact s_fail
  | succ q ih7 =>
    intro w1 w2 w3
    rw [lp_X3_foulOf_7]
    refine s_iload hX dX3_foulOf_7 3 rfl ?_
    refine s_aload_n hX dX3_foulOf_9 rfl 0 rfl ?_
    refine s_getR (ci := 3) (j := 0) (ref := "WindGas$Store") hX (pcG 3) in_X3 (Or.inl q233) (by decide) (by decide) (by decide) rfl dX3_foulOf_10 (fun _ h9 => h9) (fun v4 => ?_)
    refine s_callV_I (ci := 17) (n := 0) (As := []) (st := [.int w3]) hX (pcK 18) (by decide) (pt_size X.l v4) q1053 q417 q418 q88 q419 yvJ2_size (by decide) rfl (by first | decide | simp [rv_cat, cat_i, cat_l]) dX3_foulOf_13 (fun v5 => ?_)
    refine s_jn (P := fun j => ∀ (u : Unit), Sim X cvI 75 [(2, .int w1)] [] (j u)) ?_ (fun j75 hj75 => ?_)
    · intro u
      refine s_iload_n hX dX3_foulOf_75 rfl 0 rfl ?_
      exact s_iret hX dX3_foulOf_76
    · refine s_icmp_ge (tgt := 75) hX dX3_foulOf_16 (by decide) ?_ ?_
      · exact s_sub [1] rfl (hj75 ())
      · refine s_iload_n hX dX3_foulOf_19 rfl 2 rfl ?_
        refine s_if_le (tgt := 75) hX dX3_foulOf_20 (by decide) ?_ ?_
        · exact s_sub [1] rfl (hj75 ())
        · refine s_iload_n hX dX3_foulOf_23 rfl 2 rfl ?_
          refine s_aload_n hX dX3_foulOf_24 rfl 0 rfl ?_
          refine s_getR (ci := 3) (j := 0) (ref := "WindGas$Store") hX (pcG 3) in_X3 (Or.inl q233) (by decide) (by decide) (by decide) rfl dX3_foulOf_25 (fun _ h9 => h9) (fun v6 => ?_)
          refine s_iload hX dX3_foulOf_28 3 rfl ?_
          refine s_callV_R (ci := 17) (n := 1) (As := [.int w3]) (st := [.int w2]) hX (pcK 18) (by decide) (pt_get X.l v6 w3) q1054 q516 q517 q88 q518 yvJ2_get (by decide) rfl (by first | decide | simp [rv_cat, cat_i, cat_l]) dX3_foulOf_30 (fun v7 => ?_)
          refine s_cast (ks := [9]) hX (elC 8 (by decide)) q1055 dX3_foulOf_33 ?_
          refine s_getI (ci := 8) (j := 1) (ref := "WindGas$Lot") hX (pcG 8) in_X8 (Or.inr ⟨_, q1260⟩) (by decide) (by decide) (by decide) rfl dX3_foulOf_36 (fun _ h9 => h9) (fun v8 => ?_)
          refine s_mmin hX q1070 q500 q95 q501 rfl (by omega) (by first | decide | (simp [rv_cat, cat_i, cat_l]; try omega)) dX3_foulOf_39 ?_
          refine s_istore (i := 5) (L2 := [(5, .int (mn w2 v8)), (0, rv p0), (2, .int w1), (3, .int w2), (4, .int w3)]) hX dX3_foulOf_42 (by decide) rfl ?_
          refine s_iload_n hX dX3_foulOf_44 rfl 2 rfl ?_
          refine s_aload_n hX dX3_foulOf_45 rfl 1 rfl ?_
          refine s_getR (ci := 3) (j := 0) (ref := "WindGas$Store") hX (pcG 3) in_X3 (Or.inl q233) (by decide) (by decide) (by decide) rfl dX3_foulOf_46 (fun _ h9 => h9) (fun v9 => ?_)
          refine s_iload hX dX3_foulOf_49 4 rfl ?_
          refine s_callV_R (ci := 17) (n := 1) (As := [.int w3]) (st := [.int w1]) hX (pcK 18) (by decide) (pt_get X.l v9 w3) q1054 q516 q517 q88 q518 yvJ2_get (by decide) rfl (by first | decide | simp [rv_cat, cat_i, cat_l]) dX3_foulOf_51 (fun v10 => ?_)
          refine s_cast (ks := [9]) hX (elC 8 (by decide)) q1055 dX3_foulOf_54 ?_
          refine s_iload hX dX3_foulOf_57 0 rfl ?_
          refine s_callV_I (ci := 8) (n := 1) (As := [.int (mn w2 v8)]) (st := [.int w1]) hX (pcK 9) (by decide) (ct_X8_foulOf X.l v10 (mn w2 v8)) q1281 q1090 q1091 q102 q1092 yvX8_foulOf (by decide) rfl (by first | decide | simp [rv_cat, cat_i, cat_l]) dX3_foulOf_59 (fun v11 => ?_)
          refine s_iadd hX dX3_foulOf_62 ?_
          refine s_istore_n (i := 2) (L2 := [(2, .int (w1 + v11)), (5, .int (mn w2 v8)), (0, rv p0), (3, .int w2), (4, .int w3)]) hX dX3_foulOf_63 rfl (by decide) rfl ?_
          refine s_iload_n hX dX3_foulOf_64 rfl 3 rfl ?_
          refine s_iload hX dX3_foulOf_65 1 rfl ?_
          refine s_isub hX dX3_foulOf_67 ?_
          refine s_istore_n (i := 3) (L2 := [(3, .int (w2 - (mn w2 v8))), (2, .int (w1 + v11)), (5, .int (mn w2 v8)), (0, rv p0), (4, .int w3)]) hX dX3_foulOf_68 rfl (by decide) rfl ?_
          refine s_iinc (k := 4) (v := (w3 + 1)) (L2 := [(4, .int (w3 + 1)), (3, .int (w2 - (mn w2 v8))), (2, .int (w1 + v11)), (5, .int (mn w2 v8)), (0, rv p0)]) hX dX3_foulOf_69 rfl rfl (by decide) rfl ?_
          refine s_goto (tgt := 7) hX dX3_foulOf_72 (by decide) ?_
          exact s_sub [4, 2, 1, 0] rfl (ih7 (w1 + v11) (w2 - (mn w2 v8)) (w3 + 1))
set_option maxHeartbeats 4000000 in
theorem ct_X3_foulOf (l : Launch) (n : Nat) (p0 : Nat) (p1 : Int32) : Ct l Pic yX3_foulOf (ws_ yX3_foulOf cX3_foulOf 6 (some FieldType.int)) 3 64 cvI [rv p0, .int p1] (f_X3_foulOf n p0 p1) := by
  refine Ct.of (own := RX3) (L := [(0, rv p0), (1, .int p1)]) (plainFor_of_name (by decide)) rfl (by first | decide | simp [lg_sl, rv_cat, cat_i, cat_l]) (by first | rfl | simp [lv_args, rv_cat, cat_i, cat_l]) pcZ (fun X hXl hX hnh hin => ?_)
  subst hXl
  unfold f_X3_foulOf
  refine s_iconst (v := 0) hX dX3_foulOf_0 rfl ?_
  refine s_istore_n (i := 2) (L2 := [(2, .int 0), (0, rv p0), (1, .int p1)]) hX dX3_foulOf_1 rfl (by decide) rfl ?_
  refine s_iload_n hX dX3_foulOf_2 rfl 2 rfl ?_
  refine s_istore_n (i := 3) (L2 := [(3, .int p1), (2, .int 0), (0, rv p0), (1, .int p1)]) hX dX3_foulOf_3 rfl (by decide) rfl ?_
  refine s_iconst (v := 0) hX dX3_foulOf_4 rfl ?_
  refine s_istore (i := 4) (L2 := [(4, .int 0), (3, .int p1), (2, .int 0), (0, rv p0), (1, .int p1)]) hX dX3_foulOf_5 (by decide) rfl ?_
  exact s_sub [3, 2, 1, 0] rfl (s_lp_X3_foulOf_7 hX hnh p0 n 0 p1 0)
theorem dX7_last_0 : decode cX7_last 0 = .ok (.aload_n 0, 1) := by decide +kernel
theorem dX7_last_1 : decode cX7_last 1 = .ok (.getfield 25, 3) := by decide +kernel
theorem dX7_last_4 : decode cX7_last 4 = .ok (.aload_n 0, 1) := by decide +kernel
theorem dX7_last_5 : decode cX7_last 5 = .ok (.getfield 22, 3) := by decide +kernel
theorem dX7_last_8 : decode cX7_last 8 = .ok (.ifCond .ne 8, 3) := by decide +kernel
theorem dX7_last_11 : decode cX7_last 11 = .ok (.bipush 11, 2) := by decide +kernel
theorem dX7_last_13 : decode cX7_last 13 = .ok (.goto 4, 3) := by decide +kernel
theorem dX7_last_16 : decode cX7_last 16 = .ok (.iconst 0, 1) := by decide +kernel
theorem dX7_last_17 : decode cX7_last 17 = .ok (.iadd, 1) := by decide +kernel
theorem dX7_last_18 : decode cX7_last 18 = .ok (.ireturn, 1) := by decide +kernel
theorem ycX7_last : yX7_last.cls ≠ "java/lang/invoke/MethodHandle" ∧ yX7_last.cls ≠ "java/lang/invoke/VarHandle" ∧ (parseMethodDescriptor yX7_last.desc).map (fun d => d.parameters.length) = some 0 := by decide +kernel
theorem yvX7_last : yX7_last.cls = RR 7 ∧ yX7_last.cls ≠ "java/lang/invoke/MethodHandle" ∧ yX7_last.cls ≠ "java/lang/invoke/VarHandle" ∧ (parseMethodDescriptor yX7_last.desc).map (fun d => d.parameters.length) = some 0 := ⟨rfl, ycX7_last⟩
noncomputable def f_X7_last (p0 : Nat) : Act Int32 :=
  bnd (getI 7 1 p0) fun v1 =>
  bnd (getI 7 0 p0) fun v2 =>
  jn (fun (v3 : Int32) =>
    pur (v1 + v3)) fun j17 =>
  if ¬ v2 = 0 then
    j17 0
  else
    j17 11
set_option maxHeartbeats 4000000 in
theorem ct_X7_last (l : Launch) (p0 : Nat) : Ct l Pic yX7_last (ws_ yX7_last cX7_last 1 (some FieldType.int)) 0 0 cvI [rv p0] (f_X7_last p0) := by
  refine Ct.of (own := RX7) (L := [(0, rv p0)]) (plainFor_of_name (by decide)) rfl (by first | decide | simp [lg_sl, rv_cat, cat_i, cat_l]) (by first | rfl | simp [lv_args, rv_cat, cat_i, cat_l]) pcZ (fun X hXl hX hnh hin => ?_)
  subst hXl
  unfold f_X7_last
  refine s_aload_n hX dX7_last_0 rfl 0 rfl ?_
  refine s_getI (ci := 7) (j := 1) (ref := "WindGas$Trip") hX (pcG 7) in_X7 (Or.inl q1311) (by decide) (by decide) (by decide) rfl dX7_last_1 (fun _ h9 => h9) (fun v1 => ?_)
  refine s_aload_n hX dX7_last_4 rfl 0 rfl ?_
  refine s_getI (ci := 7) (j := 0) (ref := "WindGas$Trip") hX (pcG 7) in_X7 (Or.inl q1309) (by decide) (by decide) (by decide) rfl dX7_last_5 (fun _ h9 => h9) (fun v2 => ?_)
  refine s_jn (P := fun j => ∀ (v3 : Int32), Sim X cvI 17 [] [.int v3, .int v1] (j v3)) ?_ (fun j17 hj17 => ?_)
  · intro v3
    refine s_iadd hX dX7_last_17 ?_
    exact s_iret hX dX7_last_18
  · refine s_if_ne (tgt := 16) hX dX7_last_8 (by decide) ?_ ?_
    · refine s_iconst (v := 0) hX dX7_last_16 rfl ?_
      exact s_sub [] rfl (hj17 0)
    · refine s_bipush (v := 11) hX dX7_last_11 (by decide) ?_
      refine s_goto (tgt := 17) hX dX7_last_13 (by decide) ?_
      exact s_sub [] rfl (hj17 11)
theorem dX0_tries_0 : decode cX0_tries 0 = .ok (.aload_n 1, 1) := by decide +kernel
theorem dX0_tries_1 : decode cX0_tries 1 = .ok (.getfield 533, 3) := by decide +kernel
theorem dX0_tries_4 : decode cX0_tries 4 = .ok (.ifCond .ne 14, 3) := by decide +kernel
theorem dX0_tries_7 : decode cX0_tries 7 = .ok (.aload_n 0, 1) := by decide +kernel
theorem dX0_tries_8 : decode cX0_tries 8 = .ok (.getfield 351, 3) := by decide +kernel
theorem dX0_tries_11 : decode cX0_tries 11 = .ok (.aload_n 1, 1) := by decide +kernel
theorem dX0_tries_12 : decode cX0_tries 12 = .ok (.getfield 536, 3) := by decide +kernel
theorem dX0_tries_15 : decode cX0_tries 15 = .ok (.if_icmp .ge 4, 3) := by decide +kernel
theorem dX0_tries_18 : decode cX0_tries 18 = .ok (.return_, 1) := by decide +kernel
theorem dX0_tries_19 : decode cX0_tries 19 = .ok (.aload_n 1, 1) := by decide +kernel
theorem dX0_tries_20 : decode cX0_tries 20 = .ok (.getfield 538, 3) := by decide +kernel
theorem dX0_tries_23 : decode cX0_tries 23 = .ok (.aload_n 0, 1) := by decide +kernel
theorem dX0_tries_24 : decode cX0_tries 24 = .ok (.getfield 57, 3) := by decide +kernel
theorem dX0_tries_27 : decode cX0_tries 27 = .ok (.getfield 365, 3) := by decide +kernel
theorem dX0_tries_30 : decode cX0_tries 30 = .ok (.invokestatic 205, 3) := by decide +kernel
theorem dX0_tries_33 : decode cX0_tries 33 = .ok (.istore_n 3, 1) := by decide +kernel
theorem dX0_tries_34 : decode cX0_tries 34 = .ok (.aload_n 1, 1) := by decide +kernel
theorem dX0_tries_35 : decode cX0_tries 35 = .ok (.getfield 538, 3) := by decide +kernel
theorem dX0_tries_38 : decode cX0_tries 38 = .ok (.iload_n 3, 1) := by decide +kernel
theorem dX0_tries_39 : decode cX0_tries 39 = .ok (.isub, 1) := by decide +kernel
theorem dX0_tries_40 : decode cX0_tries 40 = .ok (.istore 4, 2) := by decide +kernel
theorem dX0_tries_42 : decode cX0_tries 42 = .ok (.iload 4, 2) := by decide +kernel
theorem dX0_tries_44 : decode cX0_tries 44 = .ok (.aload_n 0, 1) := by decide +kernel
theorem dX0_tries_45 : decode cX0_tries 45 = .ok (.getfield 61, 3) := by decide +kernel
theorem dX0_tries_48 : decode cX0_tries 48 = .ok (.getfield 365, 3) := by decide +kernel
theorem dX0_tries_51 : decode cX0_tries 51 = .ok (.aload_n 0, 1) := by decide +kernel
theorem dX0_tries_52 : decode cX0_tries 52 = .ok (.getfield 61, 3) := by decide +kernel
theorem dX0_tries_55 : decode cX0_tries 55 = .ok (.getfield 498, 3) := by decide +kernel
theorem dX0_tries_58 : decode cX0_tries 58 = .ok (.invokestatic 205, 3) := by decide +kernel
theorem dX0_tries_61 : decode cX0_tries 61 = .ok (.if_icmp .gt 112, 3) := by decide +kernel
theorem dX0_tries_64 : decode cX0_tries 64 = .ok (.aload_n 0, 1) := by decide +kernel
theorem dX0_tries_65 : decode cX0_tries 65 = .ok (.getfield 57, 3) := by decide +kernel
theorem dX0_tries_68 : decode cX0_tries 68 = .ok (.iload_n 3, 1) := by decide +kernel
theorem dX0_tries_69 : decode cX0_tries 69 = .ok (.invokevirtual 539, 3) := by decide +kernel
theorem dX0_tries_72 : decode cX0_tries 72 = .ok (.aload_n 0, 1) := by decide +kernel
theorem dX0_tries_73 : decode cX0_tries 73 = .ok (.getfield 61, 3) := by decide +kernel
theorem dX0_tries_76 : decode cX0_tries 76 = .ok (.iload 4, 2) := by decide +kernel
theorem dX0_tries_78 : decode cX0_tries 78 = .ok (.invokevirtual 539, 3) := by decide +kernel
theorem dX0_tries_81 : decode cX0_tries 81 = .ok (.iadd, 1) := by decide +kernel
theorem dX0_tries_82 : decode cX0_tries 82 = .ok (.istore 5, 2) := by decide +kernel
theorem dX0_tries_84 : decode cX0_tries 84 = .ok (.ldc2_w 542, 3) := by decide +kernel
theorem dX0_tries_87 : decode cX0_tries 87 = .ok (.iload 5, 2) := by decide +kernel
theorem dX0_tries_89 : decode cX0_tries 89 = .ok (.i2l, 1) := by decide +kernel
theorem dX0_tries_90 : decode cX0_tries 90 = .ok (.lmul, 1) := by decide +kernel
theorem dX0_tries_91 : decode cX0_tries 91 = .ok (.aload_n 1, 1) := by decide +kernel
theorem dX0_tries_92 : decode cX0_tries 92 = .ok (.getfield 538, 3) := by decide +kernel
theorem dX0_tries_95 : decode cX0_tries 95 = .ok (.i2l, 1) := by decide +kernel
theorem dX0_tries_96 : decode cX0_tries 96 = .ok (.ldiv, 1) := by decide +kernel
theorem dX0_tries_97 : decode cX0_tries 97 = .ok (.aload_n 2, 1) := by decide +kernel
theorem dX0_tries_98 : decode cX0_tries 98 = .ok (.getfield 141, 3) := by decide +kernel
theorem dX0_tries_101 : decode cX0_tries 101 = .ok (.i2l, 1) := by decide +kernel
theorem dX0_tries_102 : decode cX0_tries 102 = .ok (.lcmp, 1) := by decide +kernel
theorem dX0_tries_103 : decode cX0_tries 103 = .ok (.ifCond .gt 70, 3) := by decide +kernel
theorem dX0_tries_106 : decode cX0_tries 106 = .ok (.aload_n 0, 1) := by decide +kernel
theorem dX0_tries_107 : decode cX0_tries 107 = .ok (.getfield 57, 3) := by decide +kernel
theorem dX0_tries_110 : decode cX0_tries 110 = .ok (.iload_n 3, 1) := by decide +kernel
theorem dX0_tries_111 : decode cX0_tries 111 = .ok (.aload_n 1, 1) := by decide +kernel
theorem dX0_tries_112 : decode cX0_tries 112 = .ok (.invokevirtual 405, 3) := by decide +kernel
theorem dX0_tries_115 : decode cX0_tries 115 = .ok (.aload_n 0, 1) := by decide +kernel
theorem dX0_tries_116 : decode cX0_tries 116 = .ok (.getfield 61, 3) := by decide +kernel
theorem dX0_tries_119 : decode cX0_tries 119 = .ok (.iload 4, 2) := by decide +kernel
theorem dX0_tries_121 : decode cX0_tries 121 = .ok (.aload_n 1, 1) := by decide +kernel
theorem dX0_tries_122 : decode cX0_tries 122 = .ok (.invokevirtual 405, 3) := by decide +kernel
theorem dX0_tries_125 : decode cX0_tries 125 = .ok (.aload_n 0, 1) := by decide +kernel
theorem dX0_tries_126 : decode cX0_tries 126 = .ok (.getfield 61, 3) := by decide +kernel
theorem dX0_tries_129 : decode cX0_tries 129 = .ok (.dup, 1) := by decide +kernel
theorem dX0_tries_130 : decode cX0_tries 130 = .ok (.getfield 498, 3) := by decide +kernel
theorem dX0_tries_133 : decode cX0_tries 133 = .ok (.iload 4, 2) := by decide +kernel
theorem dX0_tries_135 : decode cX0_tries 135 = .ok (.isub, 1) := by decide +kernel
theorem dX0_tries_136 : decode cX0_tries 136 = .ok (.putfield 498, 3) := by decide +kernel
theorem dX0_tries_139 : decode cX0_tries 139 = .ok (.aload_n 0, 1) := by decide +kernel
theorem dX0_tries_140 : decode cX0_tries 140 = .ok (.dup, 1) := by decide +kernel
theorem dX0_tries_141 : decode cX0_tries 141 = .ok (.getfield 544, 3) := by decide +kernel
theorem dX0_tries_144 : decode cX0_tries 144 = .ok (.aload_n 1, 1) := by decide +kernel
theorem dX0_tries_145 : decode cX0_tries 145 = .ok (.getfield 538, 3) := by decide +kernel
theorem dX0_tries_148 : decode cX0_tries 148 = .ok (.i2l, 1) := by decide +kernel
theorem dX0_tries_149 : decode cX0_tries 149 = .ok (.ladd, 1) := by decide +kernel
theorem dX0_tries_150 : decode cX0_tries 150 = .ok (.putfield 544, 3) := by decide +kernel
theorem dX0_tries_153 : decode cX0_tries 153 = .ok (.aload_n 1, 1) := by decide +kernel
theorem dX0_tries_154 : decode cX0_tries 154 = .ok (.iconst 1, 1) := by decide +kernel
theorem dX0_tries_155 : decode cX0_tries 155 = .ok (.putfield 533, 3) := by decide +kernel
theorem dX0_tries_158 : decode cX0_tries 158 = .ok (.aload_n 1, 1) := by decide +kernel
theorem dX0_tries_159 : decode cX0_tries 159 = .ok (.aload_n 0, 1) := by decide +kernel
theorem dX0_tries_160 : decode cX0_tries 160 = .ok (.getfield 351, 3) := by decide +kernel
theorem dX0_tries_163 : decode cX0_tries 163 = .ok (.putfield 547, 3) := by decide +kernel
theorem dX0_tries_166 : decode cX0_tries 166 = .ok (.aload_n 1, 1) := by decide +kernel
theorem dX0_tries_167 : decode cX0_tries 167 = .ok (.iload 5, 2) := by decide +kernel
theorem dX0_tries_169 : decode cX0_tries 169 = .ok (.putfield 550, 3) := by decide +kernel
theorem dX0_tries_172 : decode cX0_tries 172 = .ok (.return_, 1) := by decide +kernel
theorem dX0_tries_173 : decode cX0_tries 173 = .ok (.aload_n 0, 1) := by decide +kernel
theorem dX0_tries_174 : decode cX0_tries 174 = .ok (.getfield 351, 3) := by decide +kernel
theorem dX0_tries_177 : decode cX0_tries 177 = .ok (.aload_n 1, 1) := by decide +kernel
theorem dX0_tries_178 : decode cX0_tries 178 = .ok (.invokevirtual 551, 3) := by decide +kernel
theorem dX0_tries_181 : decode cX0_tries 181 = .ok (.if_icmp .lt 8, 3) := by decide +kernel
theorem dX0_tries_184 : decode cX0_tries 184 = .ok (.aload_n 1, 1) := by decide +kernel
theorem dX0_tries_185 : decode cX0_tries 185 = .ok (.iconst 2, 1) := by decide +kernel
theorem dX0_tries_186 : decode cX0_tries 186 = .ok (.putfield 533, 3) := by decide +kernel
theorem dX0_tries_189 : decode cX0_tries 189 = .ok (.return_, 1) := by decide +kernel
theorem ycX0_tries : yX0_tries.cls ≠ "java/lang/invoke/MethodHandle" ∧ yX0_tries.cls ≠ "java/lang/invoke/VarHandle" ∧ (parseMethodDescriptor yX0_tries.desc).map (fun d => d.parameters.length) = some 2 := by decide +kernel
theorem yvX0_tries : yX0_tries.cls = RR 0 ∧ yX0_tries.cls ≠ "java/lang/invoke/MethodHandle" ∧ yX0_tries.cls ≠ "java/lang/invoke/VarHandle" ∧ (parseMethodDescriptor yX0_tries.desc).map (fun d => d.parameters.length) = some 2 := ⟨rfl, ycX0_tries⟩
noncomputable def f_X0_tries (n : Nat) (p0 : Nat) (p1 : Nat) (p2 : Nat) : Act Unit :=
  bnd (getI 7 4 p1) fun v1 =>
  jn (fun (_ : Unit) =>
    pur ()) fun j18 =>
  if ¬ v1 = 0 then
    j18 ()
  else
    bnd (getI 0 0 p0) fun v2 =>
    bnd (getI 7 1 p1) fun v3 =>
    if v3 ≤ v2 then
      bnd (getI 7 2 p1) fun v4 =>
      bnd (getR 0 16 p0) fun v5 =>
      bnd (getI 3 4 v5) fun v6 =>
      bnd (getI 7 2 p1) fun v7 =>
      bnd (getR 0 17 p0) fun v8 =>
      bnd (getI 3 4 v8) fun v9 =>
      bnd (getR 0 17 p0) fun v10 =>
      bnd (getI 3 6 v10) fun v11 =>
      jn (fun (_ : Unit) =>
        bnd (getI 0 0 p0) fun v12 =>
        bnd (gd 7 p1 (nt (f_X7_last p1))) fun v13 =>
        jn (fun (_ : Unit) =>
          pur ()) fun j189 =>
        if v12 < v13 then
          j189 ()
        else
          bnd (putI 7 4 p1 2) fun _ =>
          j189 ()) fun j173 =>
      if (mn v9 v11) < (v7 - (mn v4 v6)) then
        j173 ()
      else
        bnd (getR 0 16 p0) fun v14 =>
        bnd (gd 3 v14 (nt (f_X3_foulOf n v14 (mn v4 v6)))) fun v15 =>
        bnd (getR 0 17 p0) fun v16 =>
        bnd (gd 3 v16 (nt (f_X3_foulOf n v16 (v7 - (mn v4 v6))))) fun v17 =>
        bnd (getI 7 2 p1) fun v18 =>
        nzl v18.toInt64 <|
        bnd (getI 2 1 p2) fun v19 =>
        if 0 < (lg_cmp ((10000 * ((v15 + v17).toInt64)) / v18.toInt64) v19.toInt64) then
          j173 ()
        else
          bnd (getR 0 16 p0) fun v20 =>
          bnd (gd 3 v20 (nt (f_X3_takes n v20 (mn v4 v6) p1))) fun _ =>
          bnd (getR 0 17 p0) fun v21 =>
          bnd (gd 3 v21 (nt (f_X3_takes n v21 (v7 - (mn v4 v6)) p1))) fun _ =>
          bnd (getR 0 17 p0) fun v22 =>
          bnd (getI 3 6 v22) fun v23 =>
          bnd (putI 3 6 v22 (v23 - (v7 - (mn v4 v6)))) fun _ =>
          bnd (getL 0 27 p0) fun v24 =>
          bnd (getI 7 2 p1) fun v25 =>
          bnd (putL 0 27 p0 (v24 + v25.toInt64)) fun _ =>
          bnd (putI 7 4 p1 1) fun _ =>
          bnd (getI 0 0 p0) fun v26 =>
          bnd (putI 7 5 p1 v26) fun _ =>
          bnd (putI 7 6 p1 (v15 + v17)) fun _ =>
          pur ()
    else
      j18 ()
set_option maxHeartbeats 4000000 in
theorem ct_X0_tries (l : Launch) (n : Nat) (p0 : Nat) (p1 : Nat) (p2 : Nat) : Ct l Pic yX0_tries (ws_ yX0_tries cX0_tries 6 none) 8 196 cvU [rv p0, rv p1, rv p2] (f_X0_tries n p0 p1 p2) := by
  refine Ct.of (own := RX0) (L := [(0, rv p0), (1, rv p1), (2, rv p2)]) (plainFor_of_name (by decide)) rfl (by first | decide | simp [lg_sl, rv_cat, cat_i, cat_l]) (by first | rfl | simp [lv_args, rv_cat, cat_i, cat_l]) pcZ (fun X hXl hX hnh hin => ?_)
  subst hXl
  unfold f_X0_tries
  refine s_aload_n hX dX0_tries_0 rfl 1 rfl ?_
  refine s_getI (ci := 7) (j := 4) (ref := "WindGas$Trip") hX (pcG 7) in_X7 (Or.inr ⟨_, q1318⟩) (by decide) (by decide) (by decide) rfl dX0_tries_1 (fun _ h9 => h9) (fun v1 => ?_)
  refine s_jn (P := fun j => ∀ (u : Unit), Sim X cvU 18 [] [] (j u)) ?_ (fun j18 hj18 => ?_)
  · intro u
    exact s_vret hX dX0_tries_18
  · refine s_if_ne (tgt := 18) hX dX0_tries_4 (by decide) ?_ ?_
    · exact s_sub [] rfl (hj18 ())
    · refine s_aload_n hX dX0_tries_7 rfl 0 rfl ?_
      refine s_getI (ci := 0) (j := 0) (ref := "WindGas") hX (pcG 0) in_X0 (Or.inl q266) (by decide) (by decide) (by decide) rfl dX0_tries_8 (fun _ h9 => h9) (fun v2 => ?_)
      refine s_aload_n hX dX0_tries_11 rfl 1 rfl ?_
      refine s_getI (ci := 7) (j := 1) (ref := "WindGas$Trip") hX (pcG 7) in_X7 (Or.inr ⟨_, q1312⟩) (by decide) (by decide) (by decide) rfl dX0_tries_12 (fun _ h9 => h9) (fun v3 => ?_)
      refine s_icmp_ge (tgt := 19) hX dX0_tries_15 (by decide) ?_ ?_
      · refine s_aload_n hX dX0_tries_19 rfl 1 rfl ?_
        refine s_getI (ci := 7) (j := 2) (ref := "WindGas$Trip") hX (pcG 7) in_X7 (Or.inr ⟨_, q1314⟩) (by decide) (by decide) (by decide) rfl dX0_tries_20 (fun _ h9 => h9) (fun v4 => ?_)
        refine s_aload_n hX dX0_tries_23 rfl 0 rfl ?_
        refine s_getR (ci := 0) (j := 16) (ref := "WindGas") hX (pcG 0) in_X0 (Or.inl q282) (by decide) (by decide) (by decide) rfl dX0_tries_24 (fun _ h9 => h9) (fun v5 => ?_)
        refine s_getI (ci := 3) (j := 4) (ref := "WindGas$Store") hX (pcG 3) in_X3 (Or.inr ⟨_, q240⟩) (by decide) (by decide) (by decide) rfl dX0_tries_27 (fun _ h9 => h9) (fun v6 => ?_)
        refine s_mmin hX q756 q500 q95 q501 rfl (by omega) (by first | decide | (simp [rv_cat, cat_i, cat_l]; try omega)) dX0_tries_30 ?_
        refine s_istore_n (i := 3) (L2 := [(3, .int (mn v4 v6)), (0, rv p0), (1, rv p1), (2, rv p2)]) hX dX0_tries_33 rfl (by decide) (by first | (simp [rv_cat, cat_i, cat_l]; done) | (simp [rv_cat, cat_i, cat_l]; decide)) ?_
        refine s_aload_n hX dX0_tries_34 rfl 2 rfl ?_
        refine s_getI (ci := 7) (j := 2) (ref := "WindGas$Trip") hX (pcG 7) in_X7 (Or.inr ⟨_, q1314⟩) (by decide) (by decide) (by decide) rfl dX0_tries_35 (fun _ h9 => h9) (fun v7 => ?_)
        refine s_iload_n hX dX0_tries_38 rfl 0 rfl ?_
        refine s_isub hX dX0_tries_39 ?_
        refine s_istore (i := 4) (L2 := [(4, .int (v7 - (mn v4 v6))), (3, .int (mn v4 v6)), (0, rv p0), (1, rv p1), (2, rv p2)]) hX dX0_tries_40 (by decide) rfl ?_
        refine s_iload hX dX0_tries_42 0 rfl ?_
        refine s_aload_n hX dX0_tries_44 rfl 2 rfl ?_
        refine s_getR (ci := 0) (j := 17) (ref := "WindGas") hX (pcG 0) in_X0 (Or.inl q283) (by decide) (by decide) (by decide) rfl dX0_tries_45 (fun _ h9 => h9) (fun v8 => ?_)
        refine s_getI (ci := 3) (j := 4) (ref := "WindGas$Store") hX (pcG 3) in_X3 (Or.inr ⟨_, q240⟩) (by decide) (by decide) (by decide) rfl dX0_tries_48 (fun _ h9 => h9) (fun v9 => ?_)
        refine s_aload_n hX dX0_tries_51 rfl 2 rfl ?_
        refine s_getR (ci := 0) (j := 17) (ref := "WindGas") hX (pcG 0) in_X0 (Or.inl q283) (by decide) (by decide) (by decide) rfl dX0_tries_52 (fun _ h9 => h9) (fun v10 => ?_)
        refine s_getI (ci := 3) (j := 6) (ref := "WindGas$Store") hX (pcG 3) in_X3 (Or.inr ⟨_, q242⟩) (by decide) (by decide) (by decide) rfl dX0_tries_55 (fun _ h9 => h9) (fun v11 => ?_)
        refine s_mmin hX q756 q500 q95 q501 rfl (by omega) (by first | decide | (simp [rv_cat, cat_i, cat_l]; try omega)) dX0_tries_58 ?_
        refine s_jn (P := fun j => ∀ (u : Unit), Sim X cvU 173 [(0, rv p0), (1, rv p1)] [] (j u)) ?_ (fun j173 hj173 => ?_)
        · intro u
          refine s_aload_n hX dX0_tries_173 rfl 0 rfl ?_
          refine s_getI (ci := 0) (j := 0) (ref := "WindGas") hX (pcG 0) in_X0 (Or.inl q266) (by decide) (by decide) (by decide) rfl dX0_tries_174 (fun _ h9 => h9) (fun v12 => ?_)
          refine s_aload_n hX dX0_tries_177 rfl 1 rfl ?_
          refine s_callV_I (ci := 7) (n := 0) (As := []) (st := [.int v12]) hX (pcK 8) (by decide) (ct_X7_last X.l p1) q1283 q1284 q1285 q101 q1286 yvX7_last (by decide) rfl (by first | decide | simp [rv_cat, cat_i, cat_l]) dX0_tries_178 (fun v13 => ?_)
          refine s_jn (P := fun j => ∀ (u : Unit), Sim X cvU 189 [] [] (j u)) ?_ (fun j189 hj189 => ?_)
          · intro u
            exact s_vret hX dX0_tries_189
          · refine s_icmp_lt (tgt := 189) hX dX0_tries_181 (by decide) ?_ ?_
            · exact s_sub [] rfl (hj189 ())
            · refine s_aload_n hX dX0_tries_184 rfl 1 rfl ?_
              refine s_iconst (v := 2) hX dX0_tries_185 rfl ?_
              refine s_putI (ci := 7) (j := 4) (ref := "WindGas$Trip") hX (pcG 7) (pcP 7) in_X7 tyX7_ok nmX7 (Or.inr ⟨_, q1318⟩) (by decide) (by decide) (by decide) rfl rfl rfl dX0_tries_186 (fun _ h9 => h9) ?_
              exact s_sub [] rfl (hj189 ())
        · refine s_icmp_gt (tgt := 173) hX dX0_tries_61 (by decide) ?_ ?_
          · exact s_sub [2, 3] rfl (hj173 ())
          · refine s_aload_n hX dX0_tries_64 rfl 2 rfl ?_
            refine s_getR (ci := 0) (j := 16) (ref := "WindGas") hX (pcG 0) in_X0 (Or.inl q282) (by decide) (by decide) (by decide) rfl dX0_tries_65 (fun _ h9 => h9) (fun v14 => ?_)
            refine s_iload_n hX dX0_tries_68 rfl 1 rfl ?_
            refine s_callV_I (ci := 3) (n := 1) (As := [.int (mn v4 v6)]) (st := []) hX (pcK 4) (by decide) (ct_X3_foulOf X.l n v14 (mn v4 v6)) q1277 q1278 q1279 q90 q1280 yvX3_foulOf (by decide) rfl (by first | decide | simp [rv_cat, cat_i, cat_l]) dX0_tries_69 (fun v15 => ?_)
            refine s_aload_n hX dX0_tries_72 rfl 2 rfl ?_
            refine s_getR (ci := 0) (j := 17) (ref := "WindGas") hX (pcG 0) in_X0 (Or.inl q283) (by decide) (by decide) (by decide) rfl dX0_tries_73 (fun _ h9 => h9) (fun v16 => ?_)
            refine s_iload hX dX0_tries_76 0 rfl ?_
            refine s_callV_I (ci := 3) (n := 1) (As := [.int (v7 - (mn v4 v6))]) (st := [.int v15]) hX (pcK 4) (by decide) (ct_X3_foulOf X.l n v16 (v7 - (mn v4 v6))) q1277 q1278 q1279 q90 q1280 yvX3_foulOf (by decide) rfl (by first | decide | simp [rv_cat, cat_i, cat_l]) dX0_tries_78 (fun v17 => ?_)
            refine s_iadd hX dX0_tries_81 ?_
            refine s_istore (i := 5) (L2 := [(5, .int (v15 + v17)), (4, .int (v7 - (mn v4 v6))), (3, .int (mn v4 v6)), (0, rv p0), (1, rv p1), (2, rv p2)]) hX dX0_tries_82 (by decide) rfl ?_
            refine s_ldc2 (v := 10000) hX dX0_tries_84 q1282 ?_
            refine s_iload hX dX0_tries_87 0 rfl ?_
            refine s_i2l hX dX0_tries_89 ?_
            refine s_lmul hX dX0_tries_90 ?_
            refine s_aload_n hX dX0_tries_91 rfl 4 rfl ?_
            refine s_getI (ci := 7) (j := 2) (ref := "WindGas$Trip") hX (pcG 7) in_X7 (Or.inr ⟨_, q1314⟩) (by decide) (by decide) (by decide) rfl dX0_tries_92 (fun _ h9 => h9) (fun v18 => ?_)
            refine s_i2l hX dX0_tries_95 ?_
            refine s_ldiv hX dX0_tries_96 ?_
            refine s_aload_n hX dX0_tries_97 rfl 5 rfl ?_
            refine s_getI (ci := 2) (j := 1) (ref := "WindGas$Rules") hX (pcG 2) in_X2 (Or.inr ⟨_, q183⟩) (by decide) (by decide) (by decide) rfl dX0_tries_98 (fun _ h9 => h9) (fun v19 => ?_)
            refine s_i2l hX dX0_tries_101 ?_
            refine s_lcmp hX dX0_tries_102 ?_
            refine s_if_gt (tgt := 173) hX dX0_tries_103 (by decide) ?_ ?_
            · exact s_sub [3, 4] rfl (hj173 ())
            · refine s_aload_n hX dX0_tries_106 rfl 3 rfl ?_
              refine s_getR (ci := 0) (j := 16) (ref := "WindGas") hX (pcG 0) in_X0 (Or.inl q282) (by decide) (by decide) (by decide) rfl dX0_tries_107 (fun _ h9 => h9) (fun v20 => ?_)
              refine s_iload_n hX dX0_tries_110 rfl 2 rfl ?_
              refine s_aload_n hX dX0_tries_111 rfl 4 rfl ?_
              refine s_callV_U (ci := 3) (n := 2) (As := [.int (mn v4 v6), rv p1]) (st := []) hX (pcK 4) (by decide) (ct_X3_takes X.l n v20 (mn v4 v6) p1) q1066 q1067 q1068 q90 q1069 yvX3_takes (by decide) rfl (by first | decide | simp [rv_cat, cat_i, cat_l]) dX0_tries_112 (fun _ => ?_)
              refine s_aload_n hX dX0_tries_115 rfl 3 rfl ?_
              refine s_getR (ci := 0) (j := 17) (ref := "WindGas") hX (pcG 0) in_X0 (Or.inl q283) (by decide) (by decide) (by decide) rfl dX0_tries_116 (fun _ h9 => h9) (fun v21 => ?_)
              refine s_iload hX dX0_tries_119 1 rfl ?_
              refine s_aload_n hX dX0_tries_121 rfl 4 rfl ?_
              refine s_callV_U (ci := 3) (n := 2) (As := [.int (v7 - (mn v4 v6)), rv p1]) (st := []) hX (pcK 4) (by decide) (ct_X3_takes X.l n v21 (v7 - (mn v4 v6)) p1) q1066 q1067 q1068 q90 q1069 yvX3_takes (by decide) rfl (by first | decide | simp [rv_cat, cat_i, cat_l]) dX0_tries_122 (fun _ => ?_)
              refine s_aload_n hX dX0_tries_125 rfl 3 rfl ?_
              refine s_getR (ci := 0) (j := 17) (ref := "WindGas") hX (pcG 0) in_X0 (Or.inl q283) (by decide) (by decide) (by decide) rfl dX0_tries_126 (fun _ h9 => h9) (fun v22 => ?_)
              refine s_dup hX dX0_tries_129 (rv_cat _) ?_
              refine s_getI (ci := 3) (j := 6) (ref := "WindGas$Store") hX (pcG 3) in_X3 (Or.inr ⟨_, q242⟩) (by decide) (by decide) (by decide) rfl dX0_tries_130 (fun _ h9 => h9) (fun v23 => ?_)
              refine s_iload hX dX0_tries_133 1 rfl ?_
              refine s_isub hX dX0_tries_135 ?_
              refine s_putI (ci := 3) (j := 6) (ref := "WindGas$Store") hX (pcG 3) (pcP 3) in_X3 tyX3_ok nmX3 (Or.inr ⟨_, q242⟩) (by decide) (by decide) (by decide) rfl rfl rfl dX0_tries_136 (fun _ h9 => h9) ?_
              refine s_aload_n hX dX0_tries_139 rfl 3 rfl ?_
              refine s_dup hX dX0_tries_140 (rv_cat _) ?_
              refine s_getL (ci := 0) (j := 27) (ref := "WindGas") hX (pcG 0) in_X0 (Or.inl q293) (by decide) (by decide) (by decide) rfl dX0_tries_141 (fun _ h9 => h9) (fun v24 => ?_)
              refine s_aload_n hX dX0_tries_144 rfl 4 rfl ?_
              refine s_getI (ci := 7) (j := 2) (ref := "WindGas$Trip") hX (pcG 7) in_X7 (Or.inr ⟨_, q1314⟩) (by decide) (by decide) (by decide) rfl dX0_tries_145 (fun _ h9 => h9) (fun v25 => ?_)
              refine s_i2l hX dX0_tries_148 ?_
              refine s_ladd hX dX0_tries_149 ?_
              refine s_putL (ci := 0) (j := 27) (ref := "WindGas") hX (pcG 0) (pcP 0) in_X0 tyX0_ok nmX0 (Or.inl q293) (by decide) (by decide) (by decide) rfl rfl rfl dX0_tries_150 (fun _ h9 => h9) ?_
              refine s_aload_n hX dX0_tries_153 rfl 4 rfl ?_
              refine s_iconst (v := 1) hX dX0_tries_154 rfl ?_
              refine s_putI (ci := 7) (j := 4) (ref := "WindGas$Trip") hX (pcG 7) (pcP 7) in_X7 tyX7_ok nmX7 (Or.inr ⟨_, q1318⟩) (by decide) (by decide) (by decide) rfl rfl rfl dX0_tries_155 (fun _ h9 => h9) ?_
              refine s_aload_n hX dX0_tries_158 rfl 4 rfl ?_
              refine s_aload_n hX dX0_tries_159 rfl 3 rfl ?_
              refine s_getI (ci := 0) (j := 0) (ref := "WindGas") hX (pcG 0) in_X0 (Or.inl q266) (by decide) (by decide) (by decide) rfl dX0_tries_160 (fun _ h9 => h9) (fun v26 => ?_)
              refine s_putI (ci := 7) (j := 5) (ref := "WindGas$Trip") hX (pcG 7) (pcP 7) in_X7 tyX7_ok nmX7 (Or.inr ⟨_, q1320⟩) (by decide) (by decide) (by decide) rfl rfl rfl dX0_tries_163 (fun _ h9 => h9) ?_
              refine s_aload_n hX dX0_tries_166 rfl 4 rfl ?_
              refine s_iload hX dX0_tries_167 0 rfl ?_
              refine s_putI (ci := 7) (j := 6) (ref := "WindGas$Trip") hX (pcG 7) (pcP 7) in_X7 tyX7_ok nmX7 (Or.inr ⟨_, q1321⟩) (by decide) (by decide) (by decide) rfl rfl rfl dX0_tries_169 (fun _ h9 => h9) ?_
              exact s_vret hX dX0_tries_172
      · exact s_sub [] rfl (hj18 ())
theorem dX3_leaks_0 : decode cX3_leaks 0 = .ok (.aload_n 0, 1) := by decide +kernel
theorem dX3_leaks_1 : decode cX3_leaks 1 = .ok (.getfield 47, 3) := by decide +kernel
theorem dX3_leaks_4 : decode cX3_leaks 4 = .ok (.i2l, 1) := by decide +kernel
theorem dX3_leaks_5 : decode cX3_leaks 5 = .ok (.aload_n 0, 1) := by decide +kernel
theorem dX3_leaks_6 : decode cX3_leaks 6 = .ok (.getfield 74, 3) := by decide +kernel
theorem dX3_leaks_9 : decode cX3_leaks 9 = .ok (.i2l, 1) := by decide +kernel
theorem dX3_leaks_10 : decode cX3_leaks 10 = .ok (.lmul, 1) := by decide +kernel
theorem dX3_leaks_11 : decode cX3_leaks 11 = .ok (.ldc2_w 77, 3) := by decide +kernel
theorem dX3_leaks_14 : decode cX3_leaks 14 = .ok (.ldiv, 1) := by decide +kernel
theorem dX3_leaks_15 : decode cX3_leaks 15 = .ok (.l2i, 1) := by decide +kernel
theorem dX3_leaks_16 : decode cX3_leaks 16 = .ok (.istore_n 1, 1) := by decide +kernel
theorem dX3_leaks_17 : decode cX3_leaks 17 = .ok (.aload_n 0, 1) := by decide +kernel
theorem dX3_leaks_18 : decode cX3_leaks 18 = .ok (.iload_n 1, 1) := by decide +kernel
theorem dX3_leaks_19 : decode cX3_leaks 19 = .ok (.aconst_null, 1) := by decide +kernel
theorem dX3_leaks_20 : decode cX3_leaks 20 = .ok (.invokevirtual 79, 3) := by decide +kernel
theorem dX3_leaks_23 : decode cX3_leaks 23 = .ok (.aload_n 0, 1) := by decide +kernel
theorem dX3_leaks_24 : decode cX3_leaks 24 = .ok (.dup, 1) := by decide +kernel
theorem dX3_leaks_25 : decode cX3_leaks 25 = .ok (.getfield 82, 3) := by decide +kernel
theorem dX3_leaks_28 : decode cX3_leaks 28 = .ok (.iload_n 1, 1) := by decide +kernel
theorem dX3_leaks_29 : decode cX3_leaks 29 = .ok (.i2l, 1) := by decide +kernel
theorem dX3_leaks_30 : decode cX3_leaks 30 = .ok (.ladd, 1) := by decide +kernel
theorem dX3_leaks_31 : decode cX3_leaks 31 = .ok (.putfield 82, 3) := by decide +kernel
theorem dX3_leaks_34 : decode cX3_leaks 34 = .ok (.return_, 1) := by decide +kernel
theorem ycX3_leaks : yX3_leaks.cls ≠ "java/lang/invoke/MethodHandle" ∧ yX3_leaks.cls ≠ "java/lang/invoke/VarHandle" ∧ (parseMethodDescriptor yX3_leaks.desc).map (fun d => d.parameters.length) = some 0 := by decide +kernel
theorem yvX3_leaks : yX3_leaks.cls = RR 3 ∧ yX3_leaks.cls ≠ "java/lang/invoke/MethodHandle" ∧ yX3_leaks.cls ≠ "java/lang/invoke/VarHandle" ∧ (parseMethodDescriptor yX3_leaks.desc).map (fun d => d.parameters.length) = some 0 := ⟨rfl, ycX3_leaks⟩
noncomputable def f_X3_leaks (n : Nat) (p0 : Nat) : Act Unit :=
  bnd (getI 3 4 p0) fun v1 =>
  bnd (getI 3 2 p0) fun v2 =>
  bnd (gd 3 p0 (nt (f_X3_takes n p0 (((v1.toInt64 * v2.toInt64) / 10000).toInt32) (0 : Nat)))) fun _ =>
  bnd (getL 3 7 p0) fun v3 =>
  bnd (putL 3 7 p0 (v3 + ((((v1.toInt64 * v2.toInt64) / 10000).toInt32).toInt64))) fun _ =>
  pur ()
set_option maxHeartbeats 4000000 in
theorem ct_X3_leaks (l : Launch) (n : Nat) (p0 : Nat) : Ct l Pic yX3_leaks (ws_ yX3_leaks cX3_leaks 2 none) 8 196 cvU [rv p0] (f_X3_leaks n p0) := by
  refine Ct.of (own := RX3) (L := [(0, rv p0)]) (plainFor_of_name (by decide)) rfl (by first | decide | simp [lg_sl, rv_cat, cat_i, cat_l]) (by first | rfl | simp [lv_args, rv_cat, cat_i, cat_l]) pcZ (fun X hXl hX hnh hin => ?_)
  subst hXl
  unfold f_X3_leaks
  refine s_aload_n hX dX3_leaks_0 rfl 0 rfl ?_
  refine s_getI (ci := 3) (j := 4) (ref := "WindGas$Store") hX (pcG 3) in_X3 (Or.inl q239) (by decide) (by decide) (by decide) rfl dX3_leaks_1 (fun _ h9 => h9) (fun v1 => ?_)
  refine s_i2l hX dX3_leaks_4 ?_
  refine s_aload_n hX dX3_leaks_5 rfl 0 rfl ?_
  refine s_getI (ci := 3) (j := 2) (ref := "WindGas$Store") hX (pcG 3) in_X3 (Or.inl q236) (by decide) (by decide) (by decide) rfl dX3_leaks_6 (fun _ h9 => h9) (fun v2 => ?_)
  refine s_i2l hX dX3_leaks_9 ?_
  refine s_lmul hX dX3_leaks_10 ?_
  refine s_ldc2 (v := 10000) hX dX3_leaks_11 q1291 ?_
  refine s_ldivc hX dX3_leaks_14 (by decide) ?_
  refine s_l2i hX dX3_leaks_15 ?_
  refine s_istore_n (i := 1) (L2 := [(1, .int ((v1.toInt64 * v2.toInt64) / 10000).toInt32), (0, rv p0)]) hX dX3_leaks_16 rfl (by decide) (by first | (simp [rv_cat, cat_i, cat_l]; done) | (simp [rv_cat, cat_i, cat_l]; decide)) ?_
  refine s_aload_n hX dX3_leaks_17 rfl 1 rfl ?_
  refine s_iload_n hX dX3_leaks_18 rfl 0 rfl ?_
  refine s_null hX dX3_leaks_19 ?_
  refine s_callV_U (ci := 3) (n := 2) (As := [.int ((v1.toInt64 * v2.toInt64) / 10000).toInt32, rv 0]) (st := []) hX (pcK 4) (by decide) (ct_X3_takes X.l n p0 (((v1.toInt64 * v2.toInt64) / 10000).toInt32) (0 : Nat)) q1292 q1067 q1068 q90 q1069 yvX3_takes (by decide) rfl (by first | decide | simp [rv_cat, cat_i, cat_l]) dX3_leaks_20 (fun _ => ?_)
  refine s_aload_n hX dX3_leaks_23 rfl 1 rfl ?_
  refine s_dup hX dX3_leaks_24 (rv_cat _) ?_
  refine s_getL (ci := 3) (j := 7) (ref := "WindGas$Store") hX (pcG 3) in_X3 (Or.inl q243) (by decide) (by decide) (by decide) rfl dX3_leaks_25 (fun _ h9 => h9) (fun v3 => ?_)
  refine s_iload_n hX dX3_leaks_28 rfl 0 rfl ?_
  refine s_i2l hX dX3_leaks_29 ?_
  refine s_ladd hX dX3_leaks_30 ?_
  refine s_putL (ci := 3) (j := 7) (ref := "WindGas$Store") hX (pcG 3) (pcP 3) in_X3 tyX3_ok nmX3 (Or.inl q243) (by decide) (by decide) (by decide) rfl rfl rfl dX3_leaks_31 (fun _ h9 => h9) ?_
  exact s_vret hX dX3_leaks_34
