set_option maxRecDepth 100000
theorem dX4_count_0 : decode cX4_count 0 = .ok (.iconst 0, 1) := by decide +kernel
theorem dX4_count_1 : decode cX4_count 1 = .ok (.istore_n 2, 1) := by decide +kernel
theorem dX4_count_2 : decode cX4_count 2 = .ok (.iload_n 1, 1) := by decide +kernel
theorem dX4_count_3 : decode cX4_count 3 = .ok (.tableswitch 193 0 10 #[57, 62, 67, 72, 77, 116, 121, 150, 155, 160, 165], 57) := by decide +kernel
theorem dX4_count_60 : decode cX4_count 60 = .ok (.aload_n 0, 1) := by decide +kernel
theorem dX4_count_61 : decode cX4_count 61 = .ok (.getfield 229, 3) := by decide +kernel
theorem dX4_count_64 : decode cX4_count 64 = .ok (.ireturn, 1) := by decide +kernel
theorem dX4_count_65 : decode cX4_count 65 = .ok (.aload_n 0, 1) := by decide +kernel
theorem dX4_count_66 : decode cX4_count 66 = .ok (.getfield 215, 3) := by decide +kernel
theorem dX4_count_69 : decode cX4_count 69 = .ok (.ireturn, 1) := by decide +kernel
theorem dX4_count_70 : decode cX4_count 70 = .ok (.aload_n 0, 1) := by decide +kernel
theorem dX4_count_71 : decode cX4_count 71 = .ok (.invokevirtual 286, 3) := by decide +kernel
theorem dX4_count_74 : decode cX4_count 74 = .ok (.ireturn, 1) := by decide +kernel
theorem dX4_count_75 : decode cX4_count 75 = .ok (.aload_n 0, 1) := by decide +kernel
theorem dX4_count_76 : decode cX4_count 76 = .ok (.getfield 245, 3) := by decide +kernel
theorem dX4_count_79 : decode cX4_count 79 = .ok (.ireturn, 1) := by decide +kernel
theorem dX4_count_80 : decode cX4_count 80 = .ok (.iconst 0, 1) := by decide +kernel
theorem dX4_count_81 : decode cX4_count 81 = .ok (.istore_n 3, 1) := by decide +kernel
theorem dX4_count_82 : decode cX4_count 82 = .ok (.iload_n 3, 1) := by decide +kernel
theorem dX4_count_83 : decode cX4_count 83 = .ok (.aload_n 0, 1) := by decide +kernel
theorem dX4_count_84 : decode cX4_count 84 = .ok (.getfield 245, 3) := by decide +kernel
theorem dX4_count_87 : decode cX4_count 87 = .ok (.if_icmp .ge 30, 3) := by decide +kernel
theorem dX4_count_90 : decode cX4_count 90 = .ok (.iload_n 2, 1) := by decide +kernel
theorem dX4_count_91 : decode cX4_count 91 = .ok (.aload_n 0, 1) := by decide +kernel
theorem dX4_count_92 : decode cX4_count 92 = .ok (.getfield 99, 3) := by decide +kernel
theorem dX4_count_95 : decode cX4_count 95 = .ok (.iload_n 3, 1) := by decide +kernel
theorem dX4_count_96 : decode cX4_count 96 = .ok (.iaload, 1) := by decide +kernel
theorem dX4_count_97 : decode cX4_count 97 = .ok (.iconst 1, 1) := by decide +kernel
theorem dX4_count_98 : decode cX4_count 98 = .ok (.if_icmp .ne 7, 3) := by decide +kernel
theorem dX4_count_101 : decode cX4_count 101 = .ok (.iconst 1, 1) := by decide +kernel
theorem dX4_count_102 : decode cX4_count 102 = .ok (.goto 4, 3) := by decide +kernel
theorem dX4_count_105 : decode cX4_count 105 = .ok (.iconst 0, 1) := by decide +kernel
theorem dX4_count_106 : decode cX4_count 106 = .ok (.invokestatic 266, 3) := by decide +kernel
theorem dX4_count_109 : decode cX4_count 109 = .ok (.iadd, 1) := by decide +kernel
theorem dX4_count_110 : decode cX4_count 110 = .ok (.istore_n 2, 1) := by decide +kernel
theorem dX4_count_111 : decode cX4_count 111 = .ok (.iinc 3 1, 3) := by decide +kernel
theorem dX4_count_114 : decode cX4_count 114 = .ok (.goto (-32), 3) := by decide +kernel
theorem dX4_count_117 : decode cX4_count 117 = .ok (.iload_n 2, 1) := by decide +kernel
theorem dX4_count_118 : decode cX4_count 118 = .ok (.ireturn, 1) := by decide +kernel
theorem dX4_count_119 : decode cX4_count 119 = .ok (.aload_n 0, 1) := by decide +kernel
theorem dX4_count_120 : decode cX4_count 120 = .ok (.getfield 331, 3) := by decide +kernel
theorem dX4_count_123 : decode cX4_count 123 = .ok (.ireturn, 1) := by decide +kernel
theorem dX4_count_124 : decode cX4_count 124 = .ok (.iconst 0, 1) := by decide +kernel
theorem dX4_count_125 : decode cX4_count 125 = .ok (.istore_n 3, 1) := by decide +kernel
theorem dX4_count_126 : decode cX4_count 126 = .ok (.iload_n 3, 1) := by decide +kernel
theorem dX4_count_127 : decode cX4_count 127 = .ok (.aload_n 0, 1) := by decide +kernel
theorem dX4_count_128 : decode cX4_count 128 = .ok (.getfield 331, 3) := by decide +kernel
theorem dX4_count_131 : decode cX4_count 131 = .ok (.if_icmp .ge 20, 3) := by decide +kernel
theorem dX4_count_134 : decode cX4_count 134 = .ok (.iload_n 2, 1) := by decide +kernel
theorem dX4_count_135 : decode cX4_count 135 = .ok (.aload_n 0, 1) := by decide +kernel
theorem dX4_count_136 : decode cX4_count 136 = .ok (.iload_n 3, 1) := by decide +kernel
theorem dX4_count_137 : decode cX4_count 137 = .ok (.invokevirtual 334, 3) := by decide +kernel
theorem dX4_count_140 : decode cX4_count 140 = .ok (.invokestatic 266, 3) := by decide +kernel
theorem dX4_count_143 : decode cX4_count 143 = .ok (.iadd, 1) := by decide +kernel
theorem dX4_count_144 : decode cX4_count 144 = .ok (.istore_n 2, 1) := by decide +kernel
theorem dX4_count_145 : decode cX4_count 145 = .ok (.iinc 3 1, 3) := by decide +kernel
theorem dX4_count_148 : decode cX4_count 148 = .ok (.goto (-22), 3) := by decide +kernel
theorem dX4_count_151 : decode cX4_count 151 = .ok (.iload_n 2, 1) := by decide +kernel
theorem dX4_count_152 : decode cX4_count 152 = .ok (.ireturn, 1) := by decide +kernel
theorem dX4_count_153 : decode cX4_count 153 = .ok (.aload_n 0, 1) := by decide +kernel
theorem dX4_count_154 : decode cX4_count 154 = .ok (.getfield 466, 3) := by decide +kernel
theorem dX4_count_157 : decode cX4_count 157 = .ok (.ireturn, 1) := by decide +kernel
theorem dX4_count_158 : decode cX4_count 158 = .ok (.aload_n 0, 1) := by decide +kernel
theorem dX4_count_159 : decode cX4_count 159 = .ok (.getfield 478, 3) := by decide +kernel
theorem dX4_count_162 : decode cX4_count 162 = .ok (.ireturn, 1) := by decide +kernel
theorem dX4_count_163 : decode cX4_count 163 = .ok (.aload_n 0, 1) := by decide +kernel
theorem dX4_count_164 : decode cX4_count 164 = .ok (.getfield 339, 3) := by decide +kernel
theorem dX4_count_167 : decode cX4_count 167 = .ok (.ireturn, 1) := by decide +kernel
theorem dX4_count_168 : decode cX4_count 168 = .ok (.iconst 0, 1) := by decide +kernel
theorem dX4_count_169 : decode cX4_count 169 = .ok (.istore_n 3, 1) := by decide +kernel
theorem dX4_count_170 : decode cX4_count 170 = .ok (.iload_n 3, 1) := by decide +kernel
theorem dX4_count_171 : decode cX4_count 171 = .ok (.sipush 834, 3) := by decide +kernel
theorem dX4_count_174 : decode cX4_count 174 = .ok (.if_icmp .ge 20, 3) := by decide +kernel
theorem dX4_count_177 : decode cX4_count 177 = .ok (.iload_n 2, 1) := by decide +kernel
theorem dX4_count_178 : decode cX4_count 178 = .ok (.aload_n 0, 1) := by decide +kernel
theorem dX4_count_179 : decode cX4_count 179 = .ok (.iload_n 3, 1) := by decide +kernel
theorem dX4_count_180 : decode cX4_count 180 = .ok (.invokevirtual 319, 3) := by decide +kernel
theorem dX4_count_183 : decode cX4_count 183 = .ok (.invokestatic 266, 3) := by decide +kernel
theorem dX4_count_186 : decode cX4_count 186 = .ok (.iadd, 1) := by decide +kernel
theorem dX4_count_187 : decode cX4_count 187 = .ok (.istore_n 2, 1) := by decide +kernel
theorem dX4_count_188 : decode cX4_count 188 = .ok (.iinc 3 1, 3) := by decide +kernel
theorem dX4_count_191 : decode cX4_count 191 = .ok (.goto (-21), 3) := by decide +kernel
theorem dX4_count_194 : decode cX4_count 194 = .ok (.iload_n 2, 1) := by decide +kernel
theorem dX4_count_195 : decode cX4_count 195 = .ok (.ireturn, 1) := by decide +kernel
theorem dX4_count_196 : decode cX4_count 196 = .ok (.iconst (-1), 1) := by decide +kernel
theorem dX4_count_197 : decode cX4_count 197 = .ok (.ireturn, 1) := by decide +kernel
theorem ycX4_count : yX4_count.cls ≠ "java/lang/invoke/MethodHandle" ∧ yX4_count.cls ≠ "java/lang/invoke/VarHandle" ∧ (parseMethodDescriptor yX4_count.desc).map (fun d => d.parameters.length) = some 1 := by decide +kernel
theorem yvX4_count : yX4_count.cls = RR 4 ∧ yX4_count.cls ≠ "java/lang/invoke/MethodHandle" ∧ yX4_count.cls ≠ "java/lang/invoke/VarHandle" ∧ (parseMethodDescriptor yX4_count.desc).map (fun d => d.parameters.length) = some 1 := ⟨rfl, ycX4_count⟩
def lp_X4_count_82 (p0 : Nat) (q : Nat) : Int32 → Int32 → Act Int32 := match q with
  | 0 => fun _ _ => fail
  | q + 1 => fun w5 w6 =>
    bnd (getI 4 2 p0) fun v7 =>
    if v7 ≤ w6 then
      pur w5
    else
      bnd (getR 4 35 p0) fun v8 =>
      bnd (ldI 0 v8 w6) fun v9 =>
      jn (fun (v10 : Int32) =>
        bnd (nt (f_X4_one v10)) fun v11 =>
        (lp_X4_count_82 p0 q) (w5 + v11) (w6 + 1)) fun j106 =>
      if ¬ v9 = 1 then
        j106 0
      else
        j106 1
def lp_X4_count_126 (n : Nat) (p0 : Nat) (q : Nat) : Int32 → Int32 → Act Int32 := match q with
  | 0 => fun _ _ => fail
  | q + 1 => fun w13 w14 =>
    bnd (getI 4 3 p0) fun v15 =>
    if v15 ≤ w14 then
      pur w13
    else
      bnd (gd 4 p0 (nt (f_X4_isValid n p0 w14))) fun v16 =>
      bnd (nt (f_X4_one v16)) fun v17 =>
      (lp_X4_count_126 n p0 q) (w13 + v17) (w14 + 1)
def lp_X4_count_170 (n : Nat) (p0 : Nat) (q : Nat) : Int32 → Int32 → Act Int32 := match q with
  | 0 => fun _ _ => fail
  | q + 1 => fun w21 w22 =>
    if 834 ≤ w22 then
      pur w21
    else
      bnd (gd 4 p0 (nt (f_X4_isGreen n p0 w22))) fun v23 =>
      bnd (nt (f_X4_one v23)) fun v24 =>
      (lp_X4_count_170 n p0 q) (w21 + v24) (w22 + 1)
def f_X4_count (n : Nat) (p0 : Nat) (p1 : Int32) : Act Int32 :=
  sw p1 (0) [
    bnd (getI 4 0 p0) fun v1 =>
    pur v1,
    bnd (getI 4 1 p0) fun v2 =>
    pur v2,
    bnd (gd 4 p0 (nt (f_X4_runningNow n p0))) fun v3 =>
    pur v3,
    bnd (getI 4 2 p0) fun v4 =>
    pur v4,
    lp_X4_count_82 p0 n 0 0,
    bnd (getI 4 3 p0) fun v12 =>
    pur v12,
    lp_X4_count_126 n p0 n 0 0,
    bnd (getI 4 49 p0) fun v18 =>
    pur v18,
    bnd (getI 4 73 p0) fun v19 =>
    pur v19,
    bnd (getI 4 51 p0) fun v20 =>
    pur v20,
    lp_X4_count_170 n p0 n 0 0] (
    pur (-1))
set_option maxHeartbeats 4000000 in
theorem s_lp_X4_count_82 {X : Cx} (hX : Ok X Pic cX4_count RX4 4 (some FieldType.int) 45 1041) (hnh : Noh X) (p0 : Nat) (q : Nat) : ∀ (w5 : Int32) (w6 : Int32), Sim X cvI 82 [(0, rv p0), (2, .int w5), (3, .int w6)] [] (lp_X4_count_82 p0 q w5 w6) := by
  induction q with
  | zero => intro w5 w6; exact s_fail
  | succ q ih82 =>
    intro w5 w6
    rw [lp_X4_count_82]
    refine s_iload_n hX dX4_count_82 rfl 2 rfl ?_
    refine s_aload_n hX dX4_count_83 rfl 0 rfl ?_
    refine s_getI (ci := 4) (j := 2) (ref := "WindGasModel") hX (pcG 4) in_X4 (Or.inl q1540) (by decide) (by decide) (by decide) rfl dX4_count_84 (fun _ h9 => h9) (fun v7 => ?_)
    refine s_icmp_ge (tgt := 117) hX dX4_count_87 (by decide) ?_ ?_
    · refine s_iload_n hX dX4_count_117 rfl 1 rfl ?_
      exact s_iret hX dX4_count_118
    · refine s_iload_n hX dX4_count_90 rfl 1 rfl ?_
      refine s_aload_n hX dX4_count_91 rfl 0 rfl ?_
      refine s_getR (ci := 4) (j := 35) (ref := "WindGasModel") hX (pcG 4) in_X4 (Or.inl q1573) (by decide) (by decide) (by decide) rfl dX4_count_92 (fun _ h9 => h9) (fun v8 => ?_)
      refine s_iload_n hX dX4_count_95 rfl 2 rfl ?_
      refine s_iald hX (pcA 0) dX4_count_96 (fun v9 => ?_)
      refine s_iconst (v := 1) hX dX4_count_97 rfl ?_
      refine s_jn (P := fun j => ∀ (v10 : Int32), Sim X cvI 106 [(0, rv p0), (3, .int w6)] [.int v10, .int w5] (j v10)) ?_ (fun j106 hj106 => ?_)
      · intro v10
        refine s_callS_I (n := 1) (As := [.int v10]) (st := [.int w5]) hX (ct_X4_one X.l v10) q1837 q1838 q91 q1839 ycX4_one (by decide) rfl (by first | decide | simp [rv_cat, cat_i, cat_l]) dX4_count_106 (fun v11 => ?_)
        refine s_iadd hX dX4_count_109 ?_
        refine s_istore_n (i := 2) (L2 := [(2, .int (w5 + v11)), (0, rv p0), (3, .int w6)]) hX dX4_count_110 rfl (by decide) rfl ?_
        refine s_iinc (k := 2) (v := (w6 + 1)) (L2 := [(3, .int (w6 + 1)), (2, .int (w5 + v11)), (0, rv p0)]) hX dX4_count_111 rfl rfl (by decide) rfl ?_
        refine s_goto (tgt := 82) hX dX4_count_114 (by decide) ?_
        exact s_sub [2, 1, 0] rfl (ih82 (w5 + v11) (w6 + 1))
      · refine s_icmp_ne (tgt := 105) hX dX4_count_98 (by decide) ?_ ?_
        · refine s_iconst (v := 0) hX dX4_count_105 rfl ?_
          exact s_sub [0, 2] rfl (hj106 0)
        · refine s_iconst (v := 1) hX dX4_count_101 rfl ?_
          refine s_goto (tgt := 106) hX dX4_count_102 (by decide) ?_
          exact s_sub [0, 2] rfl (hj106 1)
set_option maxHeartbeats 4000000 in
theorem s_lp_X4_count_126 {X : Cx} (hX : Ok X Pic cX4_count RX4 4 (some FieldType.int) 45 1041) (hnh : Noh X) (n : Nat) (p0 : Nat) (q : Nat) : ∀ (w13 : Int32) (w14 : Int32), Sim X cvI 126 [(0, rv p0), (2, .int w13), (3, .int w14)] [] (lp_X4_count_126 n p0 q w13 w14) := by
  induction q with
  | zero => intro w13 w14; exact s_fail
  | succ q ih126 =>
    intro w13 w14
    rw [lp_X4_count_126]
    refine s_iload_n hX dX4_count_126 rfl 2 rfl ?_
    refine s_aload_n hX dX4_count_127 rfl 0 rfl ?_
    refine s_getI (ci := 4) (j := 3) (ref := "WindGasModel") hX (pcG 4) in_X4 (Or.inl q1541) (by decide) (by decide) (by decide) rfl dX4_count_128 (fun _ h9 => h9) (fun v15 => ?_)
    refine s_icmp_ge (tgt := 151) hX dX4_count_131 (by decide) ?_ ?_
    · refine s_iload_n hX dX4_count_151 rfl 1 rfl ?_
      exact s_iret hX dX4_count_152
    · refine s_iload_n hX dX4_count_134 rfl 1 rfl ?_
      refine s_aload_n hX dX4_count_135 rfl 0 rfl ?_
      refine s_iload_n hX dX4_count_136 rfl 2 rfl ?_
      refine s_callV_I (ci := 4) (n := 1) (As := [.int w14]) (st := [.int w13]) hX (pcK 5) (by decide) (ct_X4_isValid X.l n p0 w14) q1953 q1955 qs64 q91 q1956 yvX4_isValid (by decide) rfl (by first | decide | simp [rv_cat, cat_i, cat_l]) dX4_count_137 (fun v16 => ?_)
      refine s_callS_I (n := 1) (As := [.int v16]) (st := [.int w13]) hX (ct_X4_one X.l v16) q1837 q1838 q91 q1839 ycX4_one (by decide) rfl (by first | decide | simp [rv_cat, cat_i, cat_l]) dX4_count_140 (fun v17 => ?_)
      refine s_iadd hX dX4_count_143 ?_
      refine s_istore_n (i := 2) (L2 := [(2, .int (w13 + v17)), (0, rv p0), (3, .int w14)]) hX dX4_count_144 rfl (by decide) rfl ?_
      refine s_iinc (k := 2) (v := (w14 + 1)) (L2 := [(3, .int (w14 + 1)), (2, .int (w13 + v17)), (0, rv p0)]) hX dX4_count_145 rfl rfl (by decide) rfl ?_
      refine s_goto (tgt := 126) hX dX4_count_148 (by decide) ?_
      exact s_sub [2, 1, 0] rfl (ih126 (w13 + v17) (w14 + 1))
set_option maxHeartbeats 4000000 in
theorem s_lp_X4_count_170 {X : Cx} (hX : Ok X Pic cX4_count RX4 4 (some FieldType.int) 45 1041) (hnh : Noh X) (n : Nat) (p0 : Nat) (q : Nat) : ∀ (w21 : Int32) (w22 : Int32), Sim X cvI 170 [(0, rv p0), (2, .int w21), (3, .int w22)] [] (lp_X4_count_170 n p0 q w21 w22) := by
  induction q with
  | zero => intro w21 w22; exact s_fail
  | succ q ih170 =>
    intro w21 w22
    rw [lp_X4_count_170]
    refine s_iload_n hX dX4_count_170 rfl 2 rfl ?_
    refine s_sipush (v := 834) hX dX4_count_171 (by decide) ?_
    refine s_icmp_ge (tgt := 194) hX dX4_count_174 (by decide) ?_ ?_
    · refine s_iload_n hX dX4_count_194 rfl 1 rfl ?_
      exact s_iret hX dX4_count_195
    · refine s_iload_n hX dX4_count_177 rfl 1 rfl ?_
      refine s_aload_n hX dX4_count_178 rfl 0 rfl ?_
      refine s_iload_n hX dX4_count_179 rfl 2 rfl ?_
      refine s_callV_I (ci := 4) (n := 1) (As := [.int w22]) (st := [.int w21]) hX (pcK 5) (by decide) (ct_X4_isGreen X.l n p0 w22) q1929 q1931 qs62 q91 q1932 yvX4_isGreen (by decide) rfl (by first | decide | simp [rv_cat, cat_i, cat_l]) dX4_count_180 (fun v23 => ?_)
      refine s_callS_I (n := 1) (As := [.int v23]) (st := [.int w21]) hX (ct_X4_one X.l v23) q1837 q1838 q91 q1839 ycX4_one (by decide) rfl (by first | decide | simp [rv_cat, cat_i, cat_l]) dX4_count_183 (fun v24 => ?_)
      refine s_iadd hX dX4_count_186 ?_
      refine s_istore_n (i := 2) (L2 := [(2, .int (w21 + v24)), (0, rv p0), (3, .int w22)]) hX dX4_count_187 rfl (by decide) rfl ?_
      refine s_iinc (k := 2) (v := (w22 + 1)) (L2 := [(3, .int (w22 + 1)), (2, .int (w21 + v24)), (0, rv p0)]) hX dX4_count_188 rfl rfl (by decide) rfl ?_
      refine s_goto (tgt := 170) hX dX4_count_191 (by decide) ?_
      exact s_sub [2, 1, 0] rfl (ih170 (w21 + v24) (w22 + 1))
set_option maxHeartbeats 4000000 in
theorem ct_X4_count (l : Launch) (n : Nat) (p0 : Nat) (p1 : Int32) : Ct l Pic yX4_count (ws_ yX4_count cX4_count 4 (some FieldType.int)) 45 1041 cvI [rv p0, .int p1] (f_X4_count n p0 p1) := by
  refine Ct.of (own := RX4) (L := [(0, rv p0), (1, .int p1)]) (plainFor_of_name (by decide)) rfl (by first | decide | simp [lg_sl, rv_cat, cat_i, cat_l]) (by first | rfl | simp [lv_args, rv_cat, cat_i, cat_l]) pcZ (fun X hXl hX hnh hin => ?_)
  subst hXl
  unfold f_X4_count
  refine s_iconst (v := 0) hX dX4_count_0 rfl ?_
  refine s_istore_n (i := 2) (L2 := [(2, .int 0), (0, rv p0), (1, .int p1)]) hX dX4_count_1 rfl (by decide) rfl ?_
  refine s_iload_n hX dX4_count_2 rfl 2 rfl ?_
  refine s_sw hX dX4_count_3 (dt := 196) (by decide) (tgts := [60, 65, 70, 75, 80, 119, 124, 153, 158, 163, 168]) (by decide) (by decide) ?_ ?_
  · refine s_iconst (v := -1) hX dX4_count_196 (by decide) ?_
    exact s_iret hX dX4_count_197
  · refine ⟨?_, ?_, ?_, ?_, ?_, ?_, ?_, ?_, ?_, ?_, ?_, trivial⟩
    · refine s_aload_n hX dX4_count_60 rfl 1 rfl ?_
      refine s_getI (ci := 4) (j := 0) (ref := "WindGasModel") hX (pcG 4) in_X4 (Or.inl q1538) (by decide) (by decide) (by decide) rfl dX4_count_61 (fun _ h9 => h9) (fun v1 => ?_)
      exact s_iret hX dX4_count_64
    · refine s_aload_n hX dX4_count_65 rfl 1 rfl ?_
      refine s_getI (ci := 4) (j := 1) (ref := "WindGasModel") hX (pcG 4) in_X4 (Or.inl q1539) (by decide) (by decide) (by decide) rfl dX4_count_66 (fun _ h9 => h9) (fun v2 => ?_)
      exact s_iret hX dX4_count_69
    · refine s_aload_n hX dX4_count_70 rfl 1 rfl ?_
      refine s_callV_I (ci := 4) (n := 0) (As := []) (st := []) hX (pcK 5) (by decide) (ct_X4_runningNow X.l n p0) q1833 q1835 qs46 q91 q1836 yvX4_runningNow (by decide) rfl (by first | decide | simp [rv_cat, cat_i, cat_l]) dX4_count_71 (fun v3 => ?_)
      exact s_iret hX dX4_count_74
    · refine s_aload_n hX dX4_count_75 rfl 1 rfl ?_
      refine s_getI (ci := 4) (j := 2) (ref := "WindGasModel") hX (pcG 4) in_X4 (Or.inl q1540) (by decide) (by decide) (by decide) rfl dX4_count_76 (fun _ h9 => h9) (fun v4 => ?_)
      exact s_iret hX dX4_count_79
    · refine s_iconst (v := 0) hX dX4_count_80 rfl ?_
      refine s_istore_n (i := 3) (L2 := [(3, .int 0), (2, .int 0), (0, rv p0), (1, .int p1)]) hX dX4_count_81 rfl (by decide) rfl ?_
      exact s_sub [2, 1, 0] rfl (s_lp_X4_count_82 hX hnh p0 n 0 0)
    · refine s_aload_n hX dX4_count_119 rfl 1 rfl ?_
      refine s_getI (ci := 4) (j := 3) (ref := "WindGasModel") hX (pcG 4) in_X4 (Or.inl q1541) (by decide) (by decide) (by decide) rfl dX4_count_120 (fun _ h9 => h9) (fun v12 => ?_)
      exact s_iret hX dX4_count_123
    · refine s_iconst (v := 0) hX dX4_count_124 rfl ?_
      refine s_istore_n (i := 3) (L2 := [(3, .int 0), (2, .int 0), (0, rv p0), (1, .int p1)]) hX dX4_count_125 rfl (by decide) rfl ?_
      exact s_sub [2, 1, 0] rfl (s_lp_X4_count_126 hX hnh n p0 n 0 0)
    · refine s_aload_n hX dX4_count_153 rfl 1 rfl ?_
      refine s_getI (ci := 4) (j := 49) (ref := "WindGasModel") hX (pcG 4) in_X4 (Or.inl q1587) (by decide) (by decide) (by decide) rfl dX4_count_154 (fun _ h9 => h9) (fun v18 => ?_)
      exact s_iret hX dX4_count_157
    · refine s_aload_n hX dX4_count_158 rfl 1 rfl ?_
      refine s_getI (ci := 4) (j := 73) (ref := "WindGasModel") hX (pcG 4) in_X4 (Or.inl q1611) (by decide) (by decide) (by decide) rfl dX4_count_159 (fun _ h9 => h9) (fun v19 => ?_)
      exact s_iret hX dX4_count_162
    · refine s_aload_n hX dX4_count_163 rfl 1 rfl ?_
      refine s_getI (ci := 4) (j := 51) (ref := "WindGasModel") hX (pcG 4) in_X4 (Or.inl q1589) (by decide) (by decide) (by decide) rfl dX4_count_164 (fun _ h9 => h9) (fun v20 => ?_)
      exact s_iret hX dX4_count_167
    · refine s_iconst (v := 0) hX dX4_count_168 rfl ?_
      refine s_istore_n (i := 3) (L2 := [(3, .int 0), (2, .int 0), (0, rv p0), (1, .int p1)]) hX dX4_count_169 rfl (by decide) rfl ?_
      exact s_sub [2, 1, 0] rfl (s_lp_X4_count_170 hX hnh n p0 n 0 0)
