set_option maxRecDepth 100000
theorem dX4_tells_0 : decode cX4_tells 0 = .ok (.iload_n 2, 1) := by decide +kernel
theorem dX4_tells_1 : decode cX4_tells 1 = .ok (.invokestatic 472, 3) := by decide +kernel
theorem dX4_tells_4 : decode cX4_tells 4 = .ok (.istore_n 3, 1) := by decide +kernel
theorem dX4_tells_5 : decode cX4_tells 5 = .ok (.bipush 24, 2) := by decide +kernel
theorem dX4_tells_7 : decode cX4_tells 7 = .ok (.iload_n 1, 1) := by decide +kernel
theorem dX4_tells_8 : decode cX4_tells 8 = .ok (.imul, 1) := by decide +kernel
theorem dX4_tells_9 : decode cX4_tells 9 = .ok (.istore 4, 2) := by decide +kernel
theorem dX4_tells_11 : decode cX4_tells 11 = .ok (.iload_n 1, 1) := by decide +kernel
theorem dX4_tells_12 : decode cX4_tells 12 = .ok (.iconst (-1), 1) := by decide +kernel
theorem dX4_tells_13 : decode cX4_tells 13 = .ok (.if_icmp .eq 44, 3) := by decide +kernel
theorem dX4_tells_16 : decode cX4_tells 16 = .ok (.iload 4, 2) := by decide +kernel
theorem dX4_tells_18 : decode cX4_tells 18 = .ok (.bipush 24, 2) := by decide +kernel
theorem dX4_tells_20 : decode cX4_tells 20 = .ok (.iload_n 1, 1) := by decide +kernel
theorem dX4_tells_21 : decode cX4_tells 21 = .ok (.imul, 1) := by decide +kernel
theorem dX4_tells_22 : decode cX4_tells 22 = .ok (.aload_n 0, 1) := by decide +kernel
theorem dX4_tells_23 : decode cX4_tells 23 = .ok (.getfield 137, 3) := by decide +kernel
theorem dX4_tells_26 : decode cX4_tells 26 = .ok (.iload_n 1, 1) := by decide +kernel
theorem dX4_tells_27 : decode cX4_tells 27 = .ok (.iaload, 1) := by decide +kernel
theorem dX4_tells_28 : decode cX4_tells 28 = .ok (.iadd, 1) := by decide +kernel
theorem dX4_tells_29 : decode cX4_tells 29 = .ok (.if_icmp .ge 28, 3) := by decide +kernel
theorem dX4_tells_32 : decode cX4_tells 32 = .ok (.aload_n 0, 1) := by decide +kernel
theorem dX4_tells_33 : decode cX4_tells 33 = .ok (.getfield 143, 3) := by decide +kernel
theorem dX4_tells_36 : decode cX4_tells 36 = .ok (.iload 4, 2) := by decide +kernel
theorem dX4_tells_38 : decode cX4_tells 38 = .ok (.iaload, 1) := by decide +kernel
theorem dX4_tells_39 : decode cX4_tells 39 = .ok (.iload_n 2, 1) := by decide +kernel
theorem dX4_tells_40 : decode cX4_tells 40 = .ok (.if_icmp .ne 11, 3) := by decide +kernel
theorem dX4_tells_43 : decode cX4_tells 43 = .ok (.aload_n 0, 1) := by decide +kernel
theorem dX4_tells_44 : decode cX4_tells 44 = .ok (.getfield 146, 3) := by decide +kernel
theorem dX4_tells_47 : decode cX4_tells 47 = .ok (.iload 4, 2) := by decide +kernel
theorem dX4_tells_49 : decode cX4_tells 49 = .ok (.iaload, 1) := by decide +kernel
theorem dX4_tells_50 : decode cX4_tells 50 = .ok (.istore_n 3, 1) := by decide +kernel
theorem dX4_tells_51 : decode cX4_tells 51 = .ok (.iinc 4 1, 3) := by decide +kernel
theorem dX4_tells_54 : decode cX4_tells 54 = .ok (.goto (-43), 3) := by decide +kernel
theorem dX4_tells_57 : decode cX4_tells 57 = .ok (.iload_n 3, 1) := by decide +kernel
theorem dX4_tells_58 : decode cX4_tells 58 = .ok (.ireturn, 1) := by decide +kernel
theorem ycX4_tells : yX4_tells.cls ≠ "java/lang/invoke/MethodHandle" ∧ yX4_tells.cls ≠ "java/lang/invoke/VarHandle" ∧ (parseMethodDescriptor yX4_tells.desc).map (fun d => d.parameters.length) = some 2 := by decide +kernel
theorem yvX4_tells : yX4_tells.cls = RR 4 ∧ yX4_tells.cls ≠ "java/lang/invoke/MethodHandle" ∧ yX4_tells.cls ≠ "java/lang/invoke/VarHandle" ∧ (parseMethodDescriptor yX4_tells.desc).map (fun d => d.parameters.length) = some 2 := ⟨rfl, ycX4_tells⟩
def lp_X4_tells_11 (p0 : Nat) (p1 : Int32) (p2 : Int32) (q : Nat) : Int32 → Int32 → Act Int32 := match q with
  | 0 => fun _ _ => fail
  | q + 1 => fun w2 w3 =>
    jn (fun (_ : Unit) =>
      pur w2) fun j57 =>
    if p1 = (-1) then
      j57 ()
    else
      bnd (getR 4 56 p0) fun v4 =>
      bnd (ldI 0 v4 p1) fun v5 =>
      if ((24 * p1) + v5) ≤ w3 then
        j57 ()
      else
        bnd (getR 4 58 p0) fun v6 =>
        bnd (ldI 0 v6 w3) fun v7 =>
        jn (fun (v8 : Int32) =>
          (lp_X4_tells_11 p0 p1 p2 q) v8 (w3 + 1)) fun j51 =>
        if ¬ v7 = p2 then
          j51 w2
        else
          bnd (getR 4 59 p0) fun v9 =>
          bnd (ldI 0 v9 w3) fun v10 =>
          j51 v10
def f_X4_tells (n : Nat) (p0 : Nat) (p1 : Int32) (p2 : Int32) : Act Int32 :=
  bnd (nt (f_X4_bare p2)) fun v1 =>
  lp_X4_tells_11 p0 p1 p2 n v1 (24 * p1)
set_option maxHeartbeats 4000000 in
theorem s_lp_X4_tells_11 {X : Cx} (hX : Ok X Pic cX4_tells RX4 5 (some FieldType.int) 1 20) (hnh : Noh X) (p0 : Nat) (p1 : Int32) (p2 : Int32) (q : Nat) : ∀ (w2 : Int32) (w3 : Int32), Sim X cvI 11 [(0, rv p0), (1, .int p1), (2, .int p2), (3, .int w2), (4, .int w3)] [] (lp_X4_tells_11 p0 p1 p2 q w2 w3) := by
  induction q with
  | zero => intro w2 w3; exact s_fail
  | succ q ih11 =>
    intro w2 w3
    rw [lp_X4_tells_11]
    refine s_iload_n hX dX4_tells_11 rfl 1 rfl ?_
    refine s_iconst (v := -1) hX dX4_tells_12 (by decide) ?_
    refine s_jn (P := fun j => ∀ (u : Unit), Sim X cvI 57 [(3, .int w2)] [] (j u)) ?_ (fun j57 hj57 => ?_)
    · intro u
      refine s_iload_n hX dX4_tells_57 rfl 0 rfl ?_
      exact s_iret hX dX4_tells_58
    · refine s_icmp_eq (tgt := 57) hX dX4_tells_13 (by decide) ?_ ?_
      · exact s_sub [3] rfl (hj57 ())
      · refine s_iload hX dX4_tells_16 4 rfl ?_
        refine s_bipush (v := 24) hX dX4_tells_18 (by decide) ?_
        refine s_iload_n hX dX4_tells_20 rfl 1 rfl ?_
        refine s_imul hX dX4_tells_21 ?_
        refine s_aload_n hX dX4_tells_22 rfl 0 rfl ?_
        refine s_getR (ci := 4) (j := 56) (ref := "WindGasModel") hX (pcG 4) in_X4 (Or.inl q1594) (by decide) (by decide) (by decide) rfl dX4_tells_23 (fun _ h9 => h9) (fun v4 => ?_)
        refine s_iload_n hX dX4_tells_26 rfl 1 rfl ?_
        refine s_iald hX (pcA 0) dX4_tells_27 (fun v5 => ?_)
        refine s_iadd hX dX4_tells_28 ?_
        refine s_icmp_ge (tgt := 57) hX dX4_tells_29 (by decide) ?_ ?_
        · exact s_sub [3] rfl (hj57 ())
        · refine s_aload_n hX dX4_tells_32 rfl 0 rfl ?_
          refine s_getR (ci := 4) (j := 58) (ref := "WindGasModel") hX (pcG 4) in_X4 (Or.inl q1596) (by decide) (by decide) (by decide) rfl dX4_tells_33 (fun _ h9 => h9) (fun v6 => ?_)
          refine s_iload hX dX4_tells_36 4 rfl ?_
          refine s_iald hX (pcA 0) dX4_tells_38 (fun v7 => ?_)
          refine s_iload_n hX dX4_tells_39 rfl 2 rfl ?_
          refine s_jn (P := fun j => ∀ (v8 : Int32), Sim X cvI 51 [(0, rv p0), (1, .int p1), (2, .int p2), (3, .int v8), (4, .int w3)] [] (j v8)) ?_ (fun j51 hj51 => ?_)
          · intro v8
            refine s_iinc (k := 4) (v := (w3 + 1)) (L2 := [(4, .int (w3 + 1)), (0, rv p0), (1, .int p1), (2, .int p2), (3, .int v8)]) hX dX4_tells_51 rfl rfl (by decide) rfl ?_
            refine s_goto (tgt := 11) hX dX4_tells_54 (by decide) ?_
            exact s_sub [1, 2, 3, 4, 0] rfl (ih11 v8 (w3 + 1))
          · refine s_icmp_ne (tgt := 51) hX dX4_tells_40 (by decide) ?_ ?_
            · exact hj51 w2
            · refine s_aload_n hX dX4_tells_43 rfl 0 rfl ?_
              refine s_getR (ci := 4) (j := 59) (ref := "WindGasModel") hX (pcG 4) in_X4 (Or.inl q1597) (by decide) (by decide) (by decide) rfl dX4_tells_44 (fun _ h9 => h9) (fun v9 => ?_)
              refine s_iload hX dX4_tells_47 4 rfl ?_
              refine s_iald hX (pcA 0) dX4_tells_49 (fun v10 => ?_)
              refine s_istore_n (i := 3) (L2 := [(3, .int v10), (0, rv p0), (1, .int p1), (2, .int p2), (4, .int w3)]) hX dX4_tells_50 rfl (by decide) rfl ?_
              exact s_sub [1, 2, 3, 0, 4] rfl (hj51 v10)
set_option maxHeartbeats 4000000 in
theorem ct_X4_tells (l : Launch) (n : Nat) (p0 : Nat) (p1 : Int32) (p2 : Int32) : Ct l Pic yX4_tells (ws_ yX4_tells cX4_tells 5 (some FieldType.int)) 1 20 cvI [rv p0, .int p1, .int p2] (f_X4_tells n p0 p1 p2) := by
  refine Ct.of (own := RX4) (L := [(0, rv p0), (1, .int p1), (2, .int p2)]) (plainFor_of_name (by decide)) rfl (by first | decide | simp [lg_sl, rv_cat, cat_i, cat_l]) (by first | rfl | simp [lv_args, rv_cat, cat_i, cat_l]) pcZ (fun X hXl hX hnh hin => ?_)
  subst hXl
  unfold f_X4_tells
  refine s_iload_n hX dX4_tells_0 rfl 2 rfl ?_
  refine s_callS_I (n := 1) (As := [.int p2]) (st := []) hX (ct_X4_bare X.l p2) q1857 q1858 q91 q1859 ycX4_bare (by decide) rfl (by first | decide | simp [rv_cat, cat_i, cat_l]) dX4_tells_1 (fun v1 => ?_)
  refine s_istore_n (i := 3) (L2 := [(3, .int v1), (0, rv p0), (1, .int p1), (2, .int p2)]) hX dX4_tells_4 rfl (by decide) rfl ?_
  refine s_bipush (v := 24) hX dX4_tells_5 (by decide) ?_
  refine s_iload_n hX dX4_tells_7 rfl 2 rfl ?_
  refine s_imul hX dX4_tells_8 ?_
  refine s_istore (i := 4) (L2 := [(4, .int (24 * p1)), (3, .int v1), (0, rv p0), (1, .int p1), (2, .int p2)]) hX dX4_tells_9 (by decide) rfl ?_
  exact s_sub [2, 3, 4, 1, 0] rfl (s_lp_X4_tells_11 hX hnh p0 p1 p2 n v1 (24 * p1))
theorem dX4_orders_0 : decode cX4_orders 0 = .ok (.aload_n 0, 1) := by decide +kernel
theorem dX4_orders_1 : decode cX4_orders 1 = .ok (.iload_n 1, 1) := by decide +kernel
theorem dX4_orders_2 : decode cX4_orders 2 = .ok (.iconst 5, 1) := by decide +kernel
theorem dX4_orders_3 : decode cX4_orders 3 = .ok (.invokevirtual 260, 3) := by decide +kernel
theorem dX4_orders_6 : decode cX4_orders 6 = .ok (.iconst 1, 1) := by decide +kernel
theorem dX4_orders_7 : decode cX4_orders 7 = .ok (.if_icmp .ne 7, 3) := by decide +kernel
theorem dX4_orders_10 : decode cX4_orders 10 = .ok (.iconst 1, 1) := by decide +kernel
theorem dX4_orders_11 : decode cX4_orders 11 = .ok (.goto 4, 3) := by decide +kernel
theorem dX4_orders_14 : decode cX4_orders 14 = .ok (.iconst 0, 1) := by decide +kernel
theorem dX4_orders_15 : decode cX4_orders 15 = .ok (.istore_n 2, 1) := by decide +kernel
theorem dX4_orders_16 : decode cX4_orders 16 = .ok (.iconst 0, 1) := by decide +kernel
theorem dX4_orders_17 : decode cX4_orders 17 = .ok (.istore_n 3, 1) := by decide +kernel
theorem dX4_orders_18 : decode cX4_orders 18 = .ok (.iload_n 3, 1) := by decide +kernel
theorem dX4_orders_19 : decode cX4_orders 19 = .ok (.aload_n 0, 1) := by decide +kernel
theorem dX4_orders_20 : decode cX4_orders 20 = .ok (.getfield 215, 3) := by decide +kernel
theorem dX4_orders_23 : decode cX4_orders 23 = .ok (.if_icmp .ge 100, 3) := by decide +kernel
theorem dX4_orders_26 : decode cX4_orders 26 = .ok (.iload_n 3, 1) := by decide +kernel
theorem dX4_orders_27 : decode cX4_orders 27 = .ok (.istore 4, 2) := by decide +kernel
theorem dX4_orders_29 : decode cX4_orders 29 = .ok (.iload 4, 2) := by decide +kernel
theorem dX4_orders_31 : decode cX4_orders 31 = .ok (.ifCond .le 78, 3) := by decide +kernel
theorem dX4_orders_34 : decode cX4_orders 34 = .ok (.iload_n 2, 1) := by decide +kernel
theorem dX4_orders_35 : decode cX4_orders 35 = .ok (.ifCond .eq 29, 3) := by decide +kernel
theorem dX4_orders_38 : decode cX4_orders 38 = .ok (.aload_n 0, 1) := by decide +kernel
theorem dX4_orders_39 : decode cX4_orders 39 = .ok (.getfield 31, 3) := by decide +kernel
theorem dX4_orders_42 : decode cX4_orders 42 = .ok (.aload_n 0, 1) := by decide +kernel
theorem dX4_orders_43 : decode cX4_orders 43 = .ok (.getfield 112, 3) := by decide +kernel
theorem dX4_orders_46 : decode cX4_orders 46 = .ok (.iload 4, 2) := by decide +kernel
theorem dX4_orders_48 : decode cX4_orders 48 = .ok (.iconst 1, 1) := by decide +kernel
theorem dX4_orders_49 : decode cX4_orders 49 = .ok (.isub, 1) := by decide +kernel
theorem dX4_orders_50 : decode cX4_orders 50 = .ok (.iaload, 1) := by decide +kernel
theorem dX4_orders_51 : decode cX4_orders 51 = .ok (.iaload, 1) := by decide +kernel
theorem dX4_orders_52 : decode cX4_orders 52 = .ok (.aload_n 0, 1) := by decide +kernel
theorem dX4_orders_53 : decode cX4_orders 53 = .ok (.getfield 31, 3) := by decide +kernel
theorem dX4_orders_56 : decode cX4_orders 56 = .ok (.iload_n 3, 1) := by decide +kernel
theorem dX4_orders_57 : decode cX4_orders 57 = .ok (.iaload, 1) := by decide +kernel
theorem dX4_orders_58 : decode cX4_orders 58 = .ok (.if_icmp .ge 51, 3) := by decide +kernel
theorem dX4_orders_61 : decode cX4_orders 61 = .ok (.goto 26, 3) := by decide +kernel
theorem dX4_orders_64 : decode cX4_orders 64 = .ok (.aload_n 0, 1) := by decide +kernel
theorem dX4_orders_65 : decode cX4_orders 65 = .ok (.getfield 31, 3) := by decide +kernel
theorem dX4_orders_68 : decode cX4_orders 68 = .ok (.aload_n 0, 1) := by decide +kernel
theorem dX4_orders_69 : decode cX4_orders 69 = .ok (.getfield 112, 3) := by decide +kernel
theorem dX4_orders_72 : decode cX4_orders 72 = .ok (.iload 4, 2) := by decide +kernel
theorem dX4_orders_74 : decode cX4_orders 74 = .ok (.iconst 1, 1) := by decide +kernel
theorem dX4_orders_75 : decode cX4_orders 75 = .ok (.isub, 1) := by decide +kernel
theorem dX4_orders_76 : decode cX4_orders 76 = .ok (.iaload, 1) := by decide +kernel
theorem dX4_orders_77 : decode cX4_orders 77 = .ok (.iaload, 1) := by decide +kernel
theorem dX4_orders_78 : decode cX4_orders 78 = .ok (.aload_n 0, 1) := by decide +kernel
theorem dX4_orders_79 : decode cX4_orders 79 = .ok (.getfield 31, 3) := by decide +kernel
theorem dX4_orders_82 : decode cX4_orders 82 = .ok (.iload_n 3, 1) := by decide +kernel
theorem dX4_orders_83 : decode cX4_orders 83 = .ok (.iaload, 1) := by decide +kernel
theorem dX4_orders_84 : decode cX4_orders 84 = .ok (.if_icmp .le 25, 3) := by decide +kernel
theorem dX4_orders_87 : decode cX4_orders 87 = .ok (.aload_n 0, 1) := by decide +kernel
theorem dX4_orders_88 : decode cX4_orders 88 = .ok (.getfield 112, 3) := by decide +kernel
theorem dX4_orders_91 : decode cX4_orders 91 = .ok (.iload 4, 2) := by decide +kernel
theorem dX4_orders_93 : decode cX4_orders 93 = .ok (.aload_n 0, 1) := by decide +kernel
theorem dX4_orders_94 : decode cX4_orders 94 = .ok (.getfield 112, 3) := by decide +kernel
theorem dX4_orders_97 : decode cX4_orders 97 = .ok (.iload 4, 2) := by decide +kernel
theorem dX4_orders_99 : decode cX4_orders 99 = .ok (.iconst 1, 1) := by decide +kernel
theorem dX4_orders_100 : decode cX4_orders 100 = .ok (.isub, 1) := by decide +kernel
theorem dX4_orders_101 : decode cX4_orders 101 = .ok (.iaload, 1) := by decide +kernel
theorem dX4_orders_102 : decode cX4_orders 102 = .ok (.iastore, 1) := by decide +kernel
theorem dX4_orders_103 : decode cX4_orders 103 = .ok (.iinc 4 (-1), 3) := by decide +kernel
theorem dX4_orders_106 : decode cX4_orders 106 = .ok (.goto (-77), 3) := by decide +kernel
theorem dX4_orders_109 : decode cX4_orders 109 = .ok (.aload_n 0, 1) := by decide +kernel
theorem dX4_orders_110 : decode cX4_orders 110 = .ok (.getfield 112, 3) := by decide +kernel
theorem dX4_orders_113 : decode cX4_orders 113 = .ok (.iload 4, 2) := by decide +kernel
theorem dX4_orders_115 : decode cX4_orders 115 = .ok (.iload_n 3, 1) := by decide +kernel
theorem dX4_orders_116 : decode cX4_orders 116 = .ok (.iastore, 1) := by decide +kernel
theorem dX4_orders_117 : decode cX4_orders 117 = .ok (.iinc 3 1, 3) := by decide +kernel
theorem dX4_orders_120 : decode cX4_orders 120 = .ok (.goto (-102), 3) := by decide +kernel
theorem dX4_orders_123 : decode cX4_orders 123 = .ok (.return_, 1) := by decide +kernel
theorem ycX4_orders : yX4_orders.cls ≠ "java/lang/invoke/MethodHandle" ∧ yX4_orders.cls ≠ "java/lang/invoke/VarHandle" ∧ (parseMethodDescriptor yX4_orders.desc).map (fun d => d.parameters.length) = some 1 := by decide +kernel
theorem yvX4_orders : yX4_orders.cls = RR 4 ∧ yX4_orders.cls ≠ "java/lang/invoke/MethodHandle" ∧ yX4_orders.cls ≠ "java/lang/invoke/VarHandle" ∧ (parseMethodDescriptor yX4_orders.desc).map (fun d => d.parameters.length) = some 1 := ⟨rfl, ycX4_orders⟩
def lp_X4_orders_29 (p0 : Nat) (v2 : Int32) (w3 : Int32) (j109 : Int32 → Act Unit) (q : Nat) : Int32 → Act Unit := match q with
  | 0 => fun _ => fail
  | q + 1 => fun w5 =>
    if w5 ≤ 0 then
      j109 w5
    else
      jn (fun (_ : Unit) =>
        bnd (getR 4 40 p0) fun v8 =>
        bnd (getR 4 40 p0) fun v9 =>
        bnd (ldI 0 v9 (w5 - 1)) fun v10 =>
        bnd (stI 0 v8 w5 v10) fun _ =>
        (lp_X4_orders_29 p0 v2 w3 j109 q) (w5 + (-1))) fun j87 =>
      if v2 = 0 then
        bnd (getR 4 11 p0) fun v11 =>
        bnd (getR 4 40 p0) fun v12 =>
        bnd (ldI 0 v12 (w5 - 1)) fun v13 =>
        bnd (ldI 0 v11 v13) fun v14 =>
        bnd (getR 4 11 p0) fun v15 =>
        bnd (ldI 0 v15 w3) fun v16 =>
        if v14 ≤ v16 then
          j109 w5
        else
          j87 ()
      else
        bnd (getR 4 11 p0) fun v17 =>
        bnd (getR 4 40 p0) fun v18 =>
        bnd (ldI 0 v18 (w5 - 1)) fun v19 =>
        bnd (ldI 0 v17 v19) fun v20 =>
        bnd (getR 4 11 p0) fun v21 =>
        bnd (ldI 0 v21 w3) fun v22 =>
        if v22 ≤ v20 then
          j109 w5
        else
          j87 ()
def lp_X4_orders_18 (n : Nat) (p0 : Nat) (v2 : Int32) (q : Nat) : Int32 → Act Unit := match q with
  | 0 => fun _ => fail
  | q + 1 => fun w3 =>
    bnd (getI 4 1 p0) fun v4 =>
    if v4 ≤ w3 then
      pur ()
    else
      jn (fun (v6 : Int32) =>
        bnd (getR 4 40 p0) fun v7 =>
        bnd (stI 0 v7 v6 w3) fun _ =>
        (lp_X4_orders_18 n p0 v2 q) (w3 + 1)) fun j109 =>
      lp_X4_orders_29 p0 v2 w3 j109 n w3
def f_X4_orders (n : Nat) (p0 : Nat) (p1 : Int32) : Act Unit :=
  bnd (gd 4 p0 (nt (f_X4_tells n p0 p1 (5 : Int32)))) fun v1 =>
  jn (fun (v2 : Int32) =>
    lp_X4_orders_18 n p0 v2 n 0) fun j15 =>
  if ¬ v1 = 1 then
    j15 0
  else
    j15 1
set_option maxHeartbeats 4000000 in
theorem s_lp_X4_orders_29 {X : Cx} (hX : Ok X Pic cX4_orders RX4 5 none 2 44) (hnh : Noh X) (p0 : Nat) (v2 : Int32) (w3 : Int32) (j109 : Int32 → Act Unit) (hj109 : ∀ (v6 : Int32), Sim X cvU 109 [(0, rv p0), (2, .int v2), (3, .int w3), (4, .int v6)] [] (j109 v6)) (q : Nat) : ∀ (w5 : Int32), Sim X cvU 29 [(0, rv p0), (2, .int v2), (3, .int w3), (4, .int w5)] [] (lp_X4_orders_29 p0 v2 w3 j109 q w5) := by
  induction q with
  | zero => intro w5; exact s_fail
  | succ q ih29 =>
    intro w5
    rw [lp_X4_orders_29]
    refine s_iload hX dX4_orders_29 3 rfl ?_
    refine s_if_le (tgt := 109) hX dX4_orders_31 (by decide) ?_ ?_
    · exact hj109 w5
    · refine s_iload_n hX dX4_orders_34 rfl 1 rfl ?_
      refine s_jn (P := fun j => ∀ (u : Unit), Sim X cvU 87 [(0, rv p0), (2, .int v2), (3, .int w3), (4, .int w5)] [] (j u)) ?_ (fun j87 hj87 => ?_)
      · intro u
        refine s_aload_n hX dX4_orders_87 rfl 0 rfl ?_
        refine s_getR (ci := 4) (j := 40) (ref := "WindGasModel") hX (pcG 4) in_X4 (Or.inl q1578) (by decide) (by decide) (by decide) rfl dX4_orders_88 (fun _ h9 => h9) (fun v8 => ?_)
        refine s_iload hX dX4_orders_91 3 rfl ?_
        refine s_aload_n hX dX4_orders_93 rfl 0 rfl ?_
        refine s_getR (ci := 4) (j := 40) (ref := "WindGasModel") hX (pcG 4) in_X4 (Or.inl q1578) (by decide) (by decide) (by decide) rfl dX4_orders_94 (fun _ h9 => h9) (fun v9 => ?_)
        refine s_iload hX dX4_orders_97 3 rfl ?_
        refine s_iconst (v := 1) hX dX4_orders_99 rfl ?_
        refine s_isub hX dX4_orders_100 ?_
        refine s_iald hX (pcA 0) dX4_orders_101 (fun v10 => ?_)
        refine s_iast hX (pcA 0) (pcB 0) dX4_orders_102 ?_
        refine s_iinc (k := 3) (v := (w5 + (-1))) (L2 := [(4, .int (w5 + (-1))), (0, rv p0), (2, .int v2), (3, .int w3)]) hX dX4_orders_103 rfl rfl (by decide) rfl ?_
        refine s_goto (tgt := 29) hX dX4_orders_106 (by decide) ?_
        exact s_sub [1, 2, 3, 0] rfl (ih29 (w5 + (-1)))
      · refine s_if_eq (tgt := 64) hX dX4_orders_35 (by decide) ?_ ?_
        · refine s_aload_n hX dX4_orders_64 rfl 0 rfl ?_
          refine s_getR (ci := 4) (j := 11) (ref := "WindGasModel") hX (pcG 4) in_X4 (Or.inl q1549) (by decide) (by decide) (by decide) rfl dX4_orders_65 (fun _ h9 => h9) (fun v11 => ?_)
          refine s_aload_n hX dX4_orders_68 rfl 0 rfl ?_
          refine s_getR (ci := 4) (j := 40) (ref := "WindGasModel") hX (pcG 4) in_X4 (Or.inl q1578) (by decide) (by decide) (by decide) rfl dX4_orders_69 (fun _ h9 => h9) (fun v12 => ?_)
          refine s_iload hX dX4_orders_72 3 rfl ?_
          refine s_iconst (v := 1) hX dX4_orders_74 rfl ?_
          refine s_isub hX dX4_orders_75 ?_
          refine s_iald hX (pcA 0) dX4_orders_76 (fun v13 => ?_)
          refine s_iald hX (pcA 0) dX4_orders_77 (fun v14 => ?_)
          refine s_aload_n hX dX4_orders_78 rfl 0 rfl ?_
          refine s_getR (ci := 4) (j := 11) (ref := "WindGasModel") hX (pcG 4) in_X4 (Or.inl q1549) (by decide) (by decide) (by decide) rfl dX4_orders_79 (fun _ h9 => h9) (fun v15 => ?_)
          refine s_iload_n hX dX4_orders_82 rfl 2 rfl ?_
          refine s_iald hX (pcA 0) dX4_orders_83 (fun v16 => ?_)
          refine s_icmp_le (tgt := 109) hX dX4_orders_84 (by decide) ?_ ?_
          · exact hj109 w5
          · exact hj87 ()
        · refine s_aload_n hX dX4_orders_38 rfl 0 rfl ?_
          refine s_getR (ci := 4) (j := 11) (ref := "WindGasModel") hX (pcG 4) in_X4 (Or.inl q1549) (by decide) (by decide) (by decide) rfl dX4_orders_39 (fun _ h9 => h9) (fun v17 => ?_)
          refine s_aload_n hX dX4_orders_42 rfl 0 rfl ?_
          refine s_getR (ci := 4) (j := 40) (ref := "WindGasModel") hX (pcG 4) in_X4 (Or.inl q1578) (by decide) (by decide) (by decide) rfl dX4_orders_43 (fun _ h9 => h9) (fun v18 => ?_)
          refine s_iload hX dX4_orders_46 3 rfl ?_
          refine s_iconst (v := 1) hX dX4_orders_48 rfl ?_
          refine s_isub hX dX4_orders_49 ?_
          refine s_iald hX (pcA 0) dX4_orders_50 (fun v19 => ?_)
          refine s_iald hX (pcA 0) dX4_orders_51 (fun v20 => ?_)
          refine s_aload_n hX dX4_orders_52 rfl 0 rfl ?_
          refine s_getR (ci := 4) (j := 11) (ref := "WindGasModel") hX (pcG 4) in_X4 (Or.inl q1549) (by decide) (by decide) (by decide) rfl dX4_orders_53 (fun _ h9 => h9) (fun v21 => ?_)
          refine s_iload_n hX dX4_orders_56 rfl 2 rfl ?_
          refine s_iald hX (pcA 0) dX4_orders_57 (fun v22 => ?_)
          refine s_icmp_ge (tgt := 109) hX dX4_orders_58 (by decide) ?_ ?_
          · exact hj109 w5
          · refine s_goto (tgt := 87) hX dX4_orders_61 (by decide) ?_
            exact hj87 ()
set_option maxHeartbeats 4000000 in
theorem s_lp_X4_orders_18 {X : Cx} (hX : Ok X Pic cX4_orders RX4 5 none 2 44) (hnh : Noh X) (n : Nat) (p0 : Nat) (v2 : Int32) (q : Nat) : ∀ (w3 : Int32), Sim X cvU 18 [(0, rv p0), (2, .int v2), (3, .int w3)] [] (lp_X4_orders_18 n p0 v2 q w3) := by
  induction q with
  | zero => intro w3; exact s_fail
  | succ q ih18 =>
    intro w3
    rw [lp_X4_orders_18]
    refine s_iload_n hX dX4_orders_18 rfl 2 rfl ?_
    refine s_aload_n hX dX4_orders_19 rfl 0 rfl ?_
    refine s_getI (ci := 4) (j := 1) (ref := "WindGasModel") hX (pcG 4) in_X4 (Or.inl q1539) (by decide) (by decide) (by decide) rfl dX4_orders_20 (fun _ h9 => h9) (fun v4 => ?_)
    refine s_icmp_ge (tgt := 123) hX dX4_orders_23 (by decide) ?_ ?_
    · exact s_vret hX dX4_orders_123
    · refine s_iload_n hX dX4_orders_26 rfl 2 rfl ?_
      refine s_istore (i := 4) (L2 := [(4, .int w3), (0, rv p0), (2, .int v2), (3, .int w3)]) hX dX4_orders_27 (by decide) rfl ?_
      refine s_jn (P := fun j => ∀ (v6 : Int32), Sim X cvU 109 [(0, rv p0), (2, .int v2), (3, .int w3), (4, .int v6)] [] (j v6)) ?_ (fun j109 hj109 => ?_)
      · intro v6
        refine s_aload_n hX dX4_orders_109 rfl 0 rfl ?_
        refine s_getR (ci := 4) (j := 40) (ref := "WindGasModel") hX (pcG 4) in_X4 (Or.inl q1578) (by decide) (by decide) (by decide) rfl dX4_orders_110 (fun _ h9 => h9) (fun v7 => ?_)
        refine s_iload hX dX4_orders_113 3 rfl ?_
        refine s_iload_n hX dX4_orders_115 rfl 2 rfl ?_
        refine s_iast hX (pcA 0) (pcB 0) dX4_orders_116 ?_
        refine s_iinc (k := 2) (v := (w3 + 1)) (L2 := [(3, .int (w3 + 1)), (0, rv p0), (2, .int v2), (4, .int v6)]) hX dX4_orders_117 rfl rfl (by decide) rfl ?_
        refine s_goto (tgt := 18) hX dX4_orders_120 (by decide) ?_
        exact s_sub [1, 2, 0] rfl (ih18 (w3 + 1))
      · exact s_sub [1, 2, 3, 0] rfl (s_lp_X4_orders_29 hX hnh p0 v2 w3 j109 hj109 n w3)
set_option maxHeartbeats 4000000 in
theorem ct_X4_orders (l : Launch) (n : Nat) (p0 : Nat) (p1 : Int32) : Ct l Pic yX4_orders (ws_ yX4_orders cX4_orders 5 none) 2 44 cvU [rv p0, .int p1] (f_X4_orders n p0 p1) := by
  refine Ct.of (own := RX4) (L := [(0, rv p0), (1, .int p1)]) (plainFor_of_name (by decide)) rfl (by first | decide | simp [lg_sl, rv_cat, cat_i, cat_l]) (by first | rfl | simp [lv_args, rv_cat, cat_i, cat_l]) pcZ (fun X hXl hX hnh hin => ?_)
  subst hXl
  unfold f_X4_orders
  refine s_aload_n hX dX4_orders_0 rfl 0 rfl ?_
  refine s_iload_n hX dX4_orders_1 rfl 1 rfl ?_
  refine s_iconst (v := 5) hX dX4_orders_2 rfl ?_
  refine s_callV_I (ci := 4) (n := 2) (As := [.int p1, .int 5]) (st := []) hX (pcK 5) (by decide) (ct_X4_tells X.l n p0 p1 (5 : Int32)) q1853 q1855 qs50 q91 q1856 yvX4_tells (by decide) rfl (by first | decide | simp [rv_cat, cat_i, cat_l]) dX4_orders_3 (fun v1 => ?_)
  refine s_iconst (v := 1) hX dX4_orders_6 rfl ?_
  refine s_jn (P := fun j => ∀ (v2 : Int32), Sim X cvU 15 [(0, rv p0)] [.int v2] (j v2)) ?_ (fun j15 hj15 => ?_)
  · intro v2
    refine s_istore_n (i := 2) (L2 := [(2, .int v2), (0, rv p0)]) hX dX4_orders_15 rfl (by decide) rfl ?_
    refine s_iconst (v := 0) hX dX4_orders_16 rfl ?_
    refine s_istore_n (i := 3) (L2 := [(3, .int 0), (2, .int v2), (0, rv p0)]) hX dX4_orders_17 rfl (by decide) rfl ?_
    exact s_sub [2, 1, 0] rfl (s_lp_X4_orders_18 hX hnh n p0 v2 n 0)
  · refine s_icmp_ne (tgt := 14) hX dX4_orders_7 (by decide) ?_ ?_
    · refine s_iconst (v := 0) hX dX4_orders_14 rfl ?_
      exact s_sub [0] rfl (hj15 0)
    · refine s_iconst (v := 1) hX dX4_orders_10 rfl ?_
      refine s_goto (tgt := 15) hX dX4_orders_11 (by decide) ?_
      exact s_sub [0] rfl (hj15 1)
theorem dX4_leastOf_0 : decode cX4_leastOf 0 = .ok (.iconst 1, 1) := by decide +kernel
theorem dX4_leastOf_1 : decode cX4_leastOf 1 = .ok (.aload_n 0, 1) := by decide +kernel
theorem dX4_leastOf_2 : decode cX4_leastOf 2 = .ok (.getfield 22, 3) := by decide +kernel
theorem dX4_leastOf_5 : decode cX4_leastOf 5 = .ok (.iload_n 1, 1) := by decide +kernel
theorem dX4_leastOf_6 : decode cX4_leastOf 6 = .ok (.iaload, 1) := by decide +kernel
theorem dX4_leastOf_7 : decode cX4_leastOf 7 = .ok (.aload_n 0, 1) := by decide +kernel
theorem dX4_leastOf_8 : decode cX4_leastOf 8 = .ok (.iload_n 2, 1) := by decide +kernel
theorem dX4_leastOf_9 : decode cX4_leastOf 9 = .ok (.iconst 2, 1) := by decide +kernel
theorem dX4_leastOf_10 : decode cX4_leastOf 10 = .ok (.invokevirtual 260, 3) := by decide +kernel
theorem dX4_leastOf_13 : decode cX4_leastOf 13 = .ok (.imul, 1) := by decide +kernel
theorem dX4_leastOf_14 : decode cX4_leastOf 14 = .ok (.bipush 100, 2) := by decide +kernel
theorem dX4_leastOf_16 : decode cX4_leastOf 16 = .ok (.idiv, 1) := by decide +kernel
theorem dX4_leastOf_17 : decode cX4_leastOf 17 = .ok (.invokestatic 263, 3) := by decide +kernel
theorem dX4_leastOf_20 : decode cX4_leastOf 20 = .ok (.ireturn, 1) := by decide +kernel
theorem ycX4_leastOf : yX4_leastOf.cls ≠ "java/lang/invoke/MethodHandle" ∧ yX4_leastOf.cls ≠ "java/lang/invoke/VarHandle" ∧ (parseMethodDescriptor yX4_leastOf.desc).map (fun d => d.parameters.length) = some 2 := by decide +kernel
theorem yvX4_leastOf : yX4_leastOf.cls = RR 4 ∧ yX4_leastOf.cls ≠ "java/lang/invoke/MethodHandle" ∧ yX4_leastOf.cls ≠ "java/lang/invoke/VarHandle" ∧ (parseMethodDescriptor yX4_leastOf.desc).map (fun d => d.parameters.length) = some 2 := ⟨rfl, ycX4_leastOf⟩
def f_X4_leastOf (n : Nat) (p0 : Nat) (p1 : Int32) (p2 : Int32) : Act Int32 :=
  bnd (getR 4 8 p0) fun v1 =>
  bnd (ldI 0 v1 p1) fun v2 =>
  bnd (gd 4 p0 (nt (f_X4_tells n p0 p2 (2 : Int32)))) fun v3 =>
  pur (mx (1 : Int32) ((v2 * v3) / 100))
set_option maxHeartbeats 4000000 in
theorem ct_X4_leastOf (l : Launch) (n : Nat) (p0 : Nat) (p1 : Int32) (p2 : Int32) : Ct l Pic yX4_leastOf (ws_ yX4_leastOf cX4_leastOf 3 (some FieldType.int)) 2 44 cvI [rv p0, .int p1, .int p2] (f_X4_leastOf n p0 p1 p2) := by
  refine Ct.of (own := RX4) (L := [(0, rv p0), (1, .int p1), (2, .int p2)]) (plainFor_of_name (by decide)) rfl (by first | decide | simp [lg_sl, rv_cat, cat_i, cat_l]) (by first | rfl | simp [lv_args, rv_cat, cat_i, cat_l]) pcZ (fun X hXl hX hnh hin => ?_)
  subst hXl
  unfold f_X4_leastOf
  refine s_iconst (v := 1) hX dX4_leastOf_0 rfl ?_
  refine s_aload_n hX dX4_leastOf_1 rfl 0 rfl ?_
  refine s_getR (ci := 4) (j := 8) (ref := "WindGasModel") hX (pcG 4) in_X4 (Or.inl q1546) (by decide) (by decide) (by decide) rfl dX4_leastOf_2 (fun _ h9 => h9) (fun v1 => ?_)
  refine s_iload_n hX dX4_leastOf_5 rfl 1 rfl ?_
  refine s_iald hX (pcA 0) dX4_leastOf_6 (fun v2 => ?_)
  refine s_aload_n hX dX4_leastOf_7 rfl 0 rfl ?_
  refine s_iload_n hX dX4_leastOf_8 rfl 2 rfl ?_
  refine s_iconst (v := 2) hX dX4_leastOf_9 rfl ?_
  refine s_callV_I (ci := 4) (n := 2) (As := [.int p2, .int 2]) (st := [.int v2, .int 1]) hX (pcK 5) (by decide) (ct_X4_tells X.l n p0 p2 (2 : Int32)) q1853 q1855 qs50 q91 q1856 yvX4_tells (by decide) rfl (by first | decide | simp [rv_cat, cat_i, cat_l]) dX4_leastOf_10 (fun v3 => ?_)
  refine s_imul hX dX4_leastOf_13 ?_
  refine s_bipush (v := 100) hX dX4_leastOf_14 (by decide) ?_
  refine s_idivc hX dX4_leastOf_16 (by decide) ?_
  refine s_mmax hX q1868 q459 q95 q460 rfl (by omega) (by first | decide | (simp [rv_cat, cat_i, cat_l]; try omega)) dX4_leastOf_17 ?_
  exact s_iret hX dX4_leastOf_20
theorem dX4_gasOf_0 : decode cX4_gasOf 0 = .ok (.iload_n 2, 1) := by decide +kernel
theorem dX4_gasOf_1 : decode cX4_gasOf 1 = .ok (.aload_n 0, 1) := by decide +kernel
theorem dX4_gasOf_2 : decode cX4_gasOf 2 = .ok (.getfield 25, 3) := by decide +kernel
theorem dX4_gasOf_5 : decode cX4_gasOf 5 = .ok (.iload_n 1, 1) := by decide +kernel
theorem dX4_gasOf_6 : decode cX4_gasOf 6 = .ok (.iaload, 1) := by decide +kernel
theorem dX4_gasOf_7 : decode cX4_gasOf 7 = .ok (.imul, 1) := by decide +kernel
theorem dX4_gasOf_8 : decode cX4_gasOf 8 = .ok (.istore_n 3, 1) := by decide +kernel
theorem dX4_gasOf_9 : decode cX4_gasOf 9 = .ok (.iload_n 3, 1) := by decide +kernel
theorem dX4_gasOf_10 : decode cX4_gasOf 10 = .ok (.iload_n 3, 1) := by decide +kernel
theorem dX4_gasOf_11 : decode cX4_gasOf 11 = .ok (.bipush 90, 2) := by decide +kernel
theorem dX4_gasOf_13 : decode cX4_gasOf 13 = .ok (.aload_n 0, 1) := by decide +kernel
theorem dX4_gasOf_14 : decode cX4_gasOf 14 = .ok (.getfield 31, 3) := by decide +kernel
theorem dX4_gasOf_17 : decode cX4_gasOf 17 = .ok (.iload_n 1, 1) := by decide +kernel
theorem dX4_gasOf_18 : decode cX4_gasOf 18 = .ok (.iaload, 1) := by decide +kernel
theorem dX4_gasOf_19 : decode cX4_gasOf 19 = .ok (.sipush 1000, 3) := by decide +kernel
theorem dX4_gasOf_22 : decode cX4_gasOf 22 = .ok (.idiv, 1) := by decide +kernel
theorem dX4_gasOf_23 : decode cX4_gasOf 23 = .ok (.invokestatic 235, 3) := by decide +kernel
theorem dX4_gasOf_26 : decode cX4_gasOf 26 = .ok (.imul, 1) := by decide +kernel
theorem dX4_gasOf_27 : decode cX4_gasOf 27 = .ok (.bipush 100, 2) := by decide +kernel
theorem dX4_gasOf_29 : decode cX4_gasOf 29 = .ok (.idiv, 1) := by decide +kernel
theorem dX4_gasOf_30 : decode cX4_gasOf 30 = .ok (.isub, 1) := by decide +kernel
theorem dX4_gasOf_31 : decode cX4_gasOf 31 = .ok (.ireturn, 1) := by decide +kernel
theorem ycX4_gasOf : yX4_gasOf.cls ≠ "java/lang/invoke/MethodHandle" ∧ yX4_gasOf.cls ≠ "java/lang/invoke/VarHandle" ∧ (parseMethodDescriptor yX4_gasOf.desc).map (fun d => d.parameters.length) = some 2 := by decide +kernel
theorem yvX4_gasOf : yX4_gasOf.cls = RR 4 ∧ yX4_gasOf.cls ≠ "java/lang/invoke/MethodHandle" ∧ yX4_gasOf.cls ≠ "java/lang/invoke/VarHandle" ∧ (parseMethodDescriptor yX4_gasOf.desc).map (fun d => d.parameters.length) = some 2 := ⟨rfl, ycX4_gasOf⟩
def f_X4_gasOf (p0 : Nat) (p1 : Int32) (p2 : Int32) : Act Int32 :=
  bnd (getR 4 9 p0) fun v1 =>
  bnd (ldI 0 v1 p1) fun v2 =>
  bnd (getR 4 11 p0) fun v3 =>
  bnd (ldI 0 v3 p1) fun v4 =>
  pur ((p2 * v2) - (((p2 * v2) * (mn (90 : Int32) (v4 / 1000))) / 100))
set_option maxHeartbeats 4000000 in
theorem ct_X4_gasOf (l : Launch) (p0 : Nat) (p1 : Int32) (p2 : Int32) : Ct l Pic yX4_gasOf (ws_ yX4_gasOf cX4_gasOf 4 (some FieldType.int)) 1 24 cvI [rv p0, .int p1, .int p2] (f_X4_gasOf p0 p1 p2) := by
  refine Ct.of (own := RX4) (L := [(0, rv p0), (1, .int p1), (2, .int p2)]) (plainFor_of_name (by decide)) rfl (by first | decide | simp [lg_sl, rv_cat, cat_i, cat_l]) (by first | rfl | simp [lv_args, rv_cat, cat_i, cat_l]) pcZ (fun X hXl hX hnh hin => ?_)
  subst hXl
  unfold f_X4_gasOf
  refine s_iload_n hX dX4_gasOf_0 rfl 2 rfl ?_
  refine s_aload_n hX dX4_gasOf_1 rfl 0 rfl ?_
  refine s_getR (ci := 4) (j := 9) (ref := "WindGasModel") hX (pcG 4) in_X4 (Or.inl q1547) (by decide) (by decide) (by decide) rfl dX4_gasOf_2 (fun _ h9 => h9) (fun v1 => ?_)
  refine s_iload_n hX dX4_gasOf_5 rfl 1 rfl ?_
  refine s_iald hX (pcA 0) dX4_gasOf_6 (fun v2 => ?_)
  refine s_imul hX dX4_gasOf_7 ?_
  refine s_istore_n (i := 3) (L2 := [(3, .int (p2 * v2)), (0, rv p0), (1, .int p1), (2, .int p2)]) hX dX4_gasOf_8 rfl (by decide) rfl ?_
  refine s_iload_n hX dX4_gasOf_9 rfl 0 rfl ?_
  refine s_iload_n hX dX4_gasOf_10 rfl 0 rfl ?_
  refine s_bipush (v := 90) hX dX4_gasOf_11 (by decide) ?_
  refine s_aload_n hX dX4_gasOf_13 rfl 1 rfl ?_
  refine s_getR (ci := 4) (j := 11) (ref := "WindGasModel") hX (pcG 4) in_X4 (Or.inl q1549) (by decide) (by decide) (by decide) rfl dX4_gasOf_14 (fun _ h9 => h9) (fun v3 => ?_)
  refine s_iload_n hX dX4_gasOf_17 rfl 2 rfl ?_
  refine s_iald hX (pcA 0) dX4_gasOf_18 (fun v4 => ?_)
  refine s_sipush (v := 1000) hX dX4_gasOf_19 (by decide) ?_
  refine s_idivc hX dX4_gasOf_22 (by decide) ?_
  refine s_mmin hX q1848 q500 q95 q501 rfl (by omega) (by first | decide | (simp [rv_cat, cat_i, cat_l]; try omega)) dX4_gasOf_23 ?_
  refine s_imul hX dX4_gasOf_26 ?_
  refine s_bipush (v := 100) hX dX4_gasOf_27 (by decide) ?_
  refine s_idivc hX dX4_gasOf_29 (by decide) ?_
  refine s_isub hX dX4_gasOf_30 ?_
  exact s_iret hX dX4_gasOf_31
theorem dX4_turns_0 : decode cX4_turns 0 = .ok (.iload_n 2, 1) := by decide +kernel
theorem dX4_turns_1 : decode cX4_turns 1 = .ok (.aload_n 0, 1) := by decide +kernel
theorem dX4_turns_2 : decode cX4_turns 2 = .ok (.iload_n 1, 1) := by decide +kernel
theorem dX4_turns_3 : decode cX4_turns 3 = .ok (.iload_n 3, 1) := by decide +kernel
theorem dX4_turns_4 : decode cX4_turns 4 = .ok (.invokevirtual 270, 3) := by decide +kernel
theorem dX4_turns_7 : decode cX4_turns 7 = .ok (.if_icmp .ge 12, 3) := by decide +kernel
theorem dX4_turns_10 : decode cX4_turns 10 = .ok (.aload_n 0, 1) := by decide +kernel
theorem dX4_turns_11 : decode cX4_turns 11 = .ok (.getfield 43, 3) := by decide +kernel
theorem dX4_turns_14 : decode cX4_turns 14 = .ok (.iload_n 1, 1) := by decide +kernel
theorem dX4_turns_15 : decode cX4_turns 15 = .ok (.iconst 0, 1) := by decide +kernel
theorem dX4_turns_16 : decode cX4_turns 16 = .ok (.bastore, 1) := by decide +kernel
theorem dX4_turns_17 : decode cX4_turns 17 = .ok (.iconst 0, 1) := by decide +kernel
theorem dX4_turns_18 : decode cX4_turns 18 = .ok (.ireturn, 1) := by decide +kernel
theorem dX4_turns_19 : decode cX4_turns 19 = .ok (.aload_n 0, 1) := by decide +kernel
theorem dX4_turns_20 : decode cX4_turns 20 = .ok (.getfield 43, 3) := by decide +kernel
theorem dX4_turns_23 : decode cX4_turns 23 = .ok (.iload_n 1, 1) := by decide +kernel
theorem dX4_turns_24 : decode cX4_turns 24 = .ok (.baload, 1) := by decide +kernel
theorem dX4_turns_25 : decode cX4_turns 25 = .ok (.ifCond .ne 103, 3) := by decide +kernel
theorem dX4_turns_28 : decode cX4_turns 28 = .ok (.aload_n 0, 1) := by decide +kernel
theorem dX4_turns_29 : decode cX4_turns 29 = .ok (.getfield 229, 3) := by decide +kernel
theorem dX4_turns_32 : decode cX4_turns 32 = .ok (.sipush 144, 3) := by decide +kernel
theorem dX4_turns_35 : decode cX4_turns 35 = .ok (.idiv, 1) := by decide +kernel
theorem dX4_turns_36 : decode cX4_turns 36 = .ok (.istore 4, 2) := by decide +kernel
theorem dX4_turns_38 : decode cX4_turns 38 = .ok (.aload_n 0, 1) := by decide +kernel
theorem dX4_turns_39 : decode cX4_turns 39 = .ok (.getfield 34, 3) := by decide +kernel
theorem dX4_turns_42 : decode cX4_turns 42 = .ok (.iload_n 1, 1) := by decide +kernel
theorem dX4_turns_43 : decode cX4_turns 43 = .ok (.iaload, 1) := by decide +kernel
theorem dX4_turns_44 : decode cX4_turns 44 = .ok (.iload 4, 2) := by decide +kernel
theorem dX4_turns_46 : decode cX4_turns 46 = .ok (.if_icmp .eq 18, 3) := by decide +kernel
theorem dX4_turns_49 : decode cX4_turns 49 = .ok (.aload_n 0, 1) := by decide +kernel
theorem dX4_turns_50 : decode cX4_turns 50 = .ok (.getfield 34, 3) := by decide +kernel
theorem dX4_turns_53 : decode cX4_turns 53 = .ok (.iload_n 1, 1) := by decide +kernel
theorem dX4_turns_54 : decode cX4_turns 54 = .ok (.iload 4, 2) := by decide +kernel
theorem dX4_turns_56 : decode cX4_turns 56 = .ok (.iastore, 1) := by decide +kernel
theorem dX4_turns_57 : decode cX4_turns 57 = .ok (.aload_n 0, 1) := by decide +kernel
theorem dX4_turns_58 : decode cX4_turns 58 = .ok (.getfield 37, 3) := by decide +kernel
theorem dX4_turns_61 : decode cX4_turns 61 = .ok (.iload_n 1, 1) := by decide +kernel
theorem dX4_turns_62 : decode cX4_turns 62 = .ok (.iconst 0, 1) := by decide +kernel
theorem dX4_turns_63 : decode cX4_turns 63 = .ok (.iastore, 1) := by decide +kernel
theorem dX4_turns_64 : decode cX4_turns 64 = .ok (.aload_n 0, 1) := by decide +kernel
theorem dX4_turns_65 : decode cX4_turns 65 = .ok (.getfield 37, 3) := by decide +kernel
theorem dX4_turns_68 : decode cX4_turns 68 = .ok (.iload_n 1, 1) := by decide +kernel
theorem dX4_turns_69 : decode cX4_turns 69 = .ok (.iaload, 1) := by decide +kernel
theorem dX4_turns_70 : decode cX4_turns 70 = .ok (.aload_n 0, 1) := by decide +kernel
theorem dX4_turns_71 : decode cX4_turns 71 = .ok (.iload_n 3, 1) := by decide +kernel
theorem dX4_turns_72 : decode cX4_turns 72 = .ok (.iconst 3, 1) := by decide +kernel
theorem dX4_turns_73 : decode cX4_turns 73 = .ok (.invokevirtual 260, 3) := by decide +kernel
theorem dX4_turns_76 : decode cX4_turns 76 = .ok (.if_icmp .lt 5, 3) := by decide +kernel
theorem dX4_turns_79 : decode cX4_turns 79 = .ok (.iconst 0, 1) := by decide +kernel
theorem dX4_turns_80 : decode cX4_turns 80 = .ok (.ireturn, 1) := by decide +kernel
theorem dX4_turns_81 : decode cX4_turns 81 = .ok (.aload_n 0, 1) := by decide +kernel
theorem dX4_turns_82 : decode cX4_turns 82 = .ok (.getfield 37, 3) := by decide +kernel
theorem dX4_turns_85 : decode cX4_turns 85 = .ok (.iload_n 1, 1) := by decide +kernel
theorem dX4_turns_86 : decode cX4_turns 86 = .ok (.dup2, 1) := by decide +kernel
theorem dX4_turns_87 : decode cX4_turns 87 = .ok (.iaload, 1) := by decide +kernel
theorem dX4_turns_88 : decode cX4_turns 88 = .ok (.iconst 1, 1) := by decide +kernel
theorem dX4_turns_89 : decode cX4_turns 89 = .ok (.iadd, 1) := by decide +kernel
theorem dX4_turns_90 : decode cX4_turns 90 = .ok (.iastore, 1) := by decide +kernel
theorem dX4_turns_91 : decode cX4_turns 91 = .ok (.aload_n 0, 1) := by decide +kernel
theorem dX4_turns_92 : decode cX4_turns 92 = .ok (.getfield 40, 3) := by decide +kernel
theorem dX4_turns_95 : decode cX4_turns 95 = .ok (.iload_n 1, 1) := by decide +kernel
theorem dX4_turns_96 : decode cX4_turns 96 = .ok (.dup2, 1) := by decide +kernel
theorem dX4_turns_97 : decode cX4_turns 97 = .ok (.iaload, 1) := by decide +kernel
theorem dX4_turns_98 : decode cX4_turns 98 = .ok (.iconst 1, 1) := by decide +kernel
theorem dX4_turns_99 : decode cX4_turns 99 = .ok (.iadd, 1) := by decide +kernel
theorem dX4_turns_100 : decode cX4_turns 100 = .ok (.iastore, 1) := by decide +kernel
theorem dX4_turns_101 : decode cX4_turns 101 = .ok (.aload_n 0, 1) := by decide +kernel
theorem dX4_turns_102 : decode cX4_turns 102 = .ok (.getfield 31, 3) := by decide +kernel
theorem dX4_turns_105 : decode cX4_turns 105 = .ok (.iload_n 1, 1) := by decide +kernel
theorem dX4_turns_106 : decode cX4_turns 106 = .ok (.ldc 244, 2) := by decide +kernel
theorem dX4_turns_108 : decode cX4_turns 108 = .ok (.aload_n 0, 1) := by decide +kernel
theorem dX4_turns_109 : decode cX4_turns 109 = .ok (.getfield 31, 3) := by decide +kernel
theorem dX4_turns_112 : decode cX4_turns 112 = .ok (.iload_n 1, 1) := by decide +kernel
theorem dX4_turns_113 : decode cX4_turns 113 = .ok (.iaload, 1) := by decide +kernel
theorem dX4_turns_114 : decode cX4_turns 114 = .ok (.bipush 100, 2) := by decide +kernel
theorem dX4_turns_116 : decode cX4_turns 116 = .ok (.iadd, 1) := by decide +kernel
theorem dX4_turns_117 : decode cX4_turns 117 = .ok (.invokestatic 235, 3) := by decide +kernel
theorem dX4_turns_120 : decode cX4_turns 120 = .ok (.iastore, 1) := by decide +kernel
theorem dX4_turns_121 : decode cX4_turns 121 = .ok (.aload_n 0, 1) := by decide +kernel
theorem dX4_turns_122 : decode cX4_turns 122 = .ok (.getfield 43, 3) := by decide +kernel
theorem dX4_turns_125 : decode cX4_turns 125 = .ok (.iload_n 1, 1) := by decide +kernel
theorem dX4_turns_126 : decode cX4_turns 126 = .ok (.iconst 1, 1) := by decide +kernel
theorem dX4_turns_127 : decode cX4_turns 127 = .ok (.bastore, 1) := by decide +kernel
theorem dX4_turns_128 : decode cX4_turns 128 = .ok (.iload_n 2, 1) := by decide +kernel
theorem dX4_turns_129 : decode cX4_turns 129 = .ok (.aload_n 0, 1) := by decide +kernel
theorem dX4_turns_130 : decode cX4_turns 130 = .ok (.getfield 22, 3) := by decide +kernel
theorem dX4_turns_133 : decode cX4_turns 133 = .ok (.iload_n 1, 1) := by decide +kernel
theorem dX4_turns_134 : decode cX4_turns 134 = .ok (.iaload, 1) := by decide +kernel
theorem dX4_turns_135 : decode cX4_turns 135 = .ok (.invokestatic 235, 3) := by decide +kernel
theorem dX4_turns_138 : decode cX4_turns 138 = .ok (.istore 4, 2) := by decide +kernel
theorem dX4_turns_140 : decode cX4_turns 140 = .ok (.aload_n 0, 1) := by decide +kernel
theorem dX4_turns_141 : decode cX4_turns 141 = .ok (.iload_n 1, 1) := by decide +kernel
theorem dX4_turns_142 : decode cX4_turns 142 = .ok (.iload 4, 2) := by decide +kernel
theorem dX4_turns_144 : decode cX4_turns 144 = .ok (.invokevirtual 273, 3) := by decide +kernel
theorem dX4_turns_147 : decode cX4_turns 147 = .ok (.istore 5, 2) := by decide +kernel
theorem dX4_turns_149 : decode cX4_turns 149 = .ok (.bipush 9, 2) := by decide +kernel
theorem dX4_turns_151 : decode cX4_turns 151 = .ok (.iload 5, 2) := by decide +kernel
theorem dX4_turns_153 : decode cX4_turns 153 = .ok (.imul, 1) := by decide +kernel
theorem dX4_turns_154 : decode cX4_turns 154 = .ok (.sipush 999, 3) := by decide +kernel
theorem dX4_turns_157 : decode cX4_turns 157 = .ok (.iadd, 1) := by decide +kernel
theorem dX4_turns_158 : decode cX4_turns 158 = .ok (.sipush 1000, 3) := by decide +kernel
theorem dX4_turns_161 : decode cX4_turns 161 = .ok (.idiv, 1) := by decide +kernel
theorem dX4_turns_162 : decode cX4_turns 162 = .ok (.istore 6, 2) := by decide +kernel
theorem dX4_turns_164 : decode cX4_turns 164 = .ok (.iload 6, 2) := by decide +kernel
theorem dX4_turns_166 : decode cX4_turns 166 = .ok (.aload_n 0, 1) := by decide +kernel
theorem dX4_turns_167 : decode cX4_turns 167 = .ok (.getfield 226, 3) := by decide +kernel
theorem dX4_turns_170 : decode cX4_turns 170 = .ok (.if_icmp .le 12, 3) := by decide +kernel
theorem dX4_turns_173 : decode cX4_turns 173 = .ok (.aload_n 0, 1) := by decide +kernel
theorem dX4_turns_174 : decode cX4_turns 174 = .ok (.getfield 43, 3) := by decide +kernel
theorem dX4_turns_177 : decode cX4_turns 177 = .ok (.iload_n 1, 1) := by decide +kernel
theorem dX4_turns_178 : decode cX4_turns 178 = .ok (.iconst 0, 1) := by decide +kernel
theorem dX4_turns_179 : decode cX4_turns 179 = .ok (.bastore, 1) := by decide +kernel
theorem dX4_turns_180 : decode cX4_turns 180 = .ok (.iconst 0, 1) := by decide +kernel
theorem dX4_turns_181 : decode cX4_turns 181 = .ok (.ireturn, 1) := by decide +kernel
theorem dX4_turns_182 : decode cX4_turns 182 = .ok (.aload_n 0, 1) := by decide +kernel
theorem dX4_turns_183 : decode cX4_turns 183 = .ok (.dup, 1) := by decide +kernel
theorem dX4_turns_184 : decode cX4_turns 184 = .ok (.getfield 226, 3) := by decide +kernel
theorem dX4_turns_187 : decode cX4_turns 187 = .ok (.iload 6, 2) := by decide +kernel
theorem dX4_turns_189 : decode cX4_turns 189 = .ok (.isub, 1) := by decide +kernel
theorem dX4_turns_190 : decode cX4_turns 190 = .ok (.putfield 226, 3) := by decide +kernel
theorem dX4_turns_193 : decode cX4_turns 193 = .ok (.aload_n 0, 1) := by decide +kernel
theorem dX4_turns_194 : decode cX4_turns 194 = .ok (.dup, 1) := by decide +kernel
theorem dX4_turns_195 : decode cX4_turns 195 = .ok (.getfield 276, 3) := by decide +kernel
theorem dX4_turns_198 : decode cX4_turns 198 = .ok (.iload 5, 2) := by decide +kernel
theorem dX4_turns_200 : decode cX4_turns 200 = .ok (.iadd, 1) := by decide +kernel
theorem dX4_turns_201 : decode cX4_turns 201 = .ok (.putfield 276, 3) := by decide +kernel
theorem dX4_turns_204 : decode cX4_turns 204 = .ok (.aload_n 0, 1) := by decide +kernel
theorem dX4_turns_205 : decode cX4_turns 205 = .ok (.dup, 1) := by decide +kernel
theorem dX4_turns_206 : decode cX4_turns 206 = .ok (.getfield 279, 3) := by decide +kernel
theorem dX4_turns_209 : decode cX4_turns 209 = .ok (.iload 5, 2) := by decide +kernel
theorem dX4_turns_211 : decode cX4_turns 211 = .ok (.sipush 10000, 3) := by decide +kernel
theorem dX4_turns_214 : decode cX4_turns 214 = .ok (.aload_n 0, 1) := by decide +kernel
theorem dX4_turns_215 : decode cX4_turns 215 = .ok (.getfield 28, 3) := by decide +kernel
theorem dX4_turns_218 : decode cX4_turns 218 = .ok (.iload_n 1, 1) := by decide +kernel
theorem dX4_turns_219 : decode cX4_turns 219 = .ok (.iaload, 1) := by decide +kernel
theorem dX4_turns_220 : decode cX4_turns 220 = .ok (.aload_n 0, 1) := by decide +kernel
theorem dX4_turns_221 : decode cX4_turns 221 = .ok (.getfield 31, 3) := by decide +kernel
theorem dX4_turns_224 : decode cX4_turns 224 = .ok (.iload_n 1, 1) := by decide +kernel
theorem dX4_turns_225 : decode cX4_turns 225 = .ok (.iaload, 1) := by decide +kernel
theorem dX4_turns_226 : decode cX4_turns 226 = .ok (.sipush 500, 3) := by decide +kernel
theorem dX4_turns_229 : decode cX4_turns 229 = .ok (.idiv, 1) := by decide +kernel
theorem dX4_turns_230 : decode cX4_turns 230 = .ok (.iadd, 1) := by decide +kernel
theorem dX4_turns_231 : decode cX4_turns 231 = .ok (.invokestatic 235, 3) := by decide +kernel
theorem dX4_turns_234 : decode cX4_turns 234 = .ok (.imul, 1) := by decide +kernel
theorem dX4_turns_235 : decode cX4_turns 235 = .ok (.sipush 10000, 3) := by decide +kernel
theorem dX4_turns_238 : decode cX4_turns 238 = .ok (.idiv, 1) := by decide +kernel
theorem dX4_turns_239 : decode cX4_turns 239 = .ok (.iadd, 1) := by decide +kernel
theorem dX4_turns_240 : decode cX4_turns 240 = .ok (.putfield 279, 3) := by decide +kernel
theorem dX4_turns_243 : decode cX4_turns 243 = .ok (.aload_n 0, 1) := by decide +kernel
theorem dX4_turns_244 : decode cX4_turns 244 = .ok (.getfield 47, 3) := by decide +kernel
theorem dX4_turns_247 : decode cX4_turns 247 = .ok (.iload_n 1, 1) := by decide +kernel
theorem dX4_turns_248 : decode cX4_turns 248 = .ok (.dup2, 1) := by decide +kernel
theorem dX4_turns_249 : decode cX4_turns 249 = .ok (.laload, 1) := by decide +kernel
theorem dX4_turns_250 : decode cX4_turns 250 = .ok (.iload 5, 2) := by decide +kernel
theorem dX4_turns_252 : decode cX4_turns 252 = .ok (.i2l, 1) := by decide +kernel
theorem dX4_turns_253 : decode cX4_turns 253 = .ok (.ladd, 1) := by decide +kernel
theorem dX4_turns_254 : decode cX4_turns 254 = .ok (.lastore, 1) := by decide +kernel
theorem dX4_turns_255 : decode cX4_turns 255 = .ok (.aload_n 0, 1) := by decide +kernel
theorem dX4_turns_256 : decode cX4_turns 256 = .ok (.getfield 51, 3) := by decide +kernel
theorem dX4_turns_259 : decode cX4_turns 259 = .ok (.iconst 4, 1) := by decide +kernel
theorem dX4_turns_260 : decode cX4_turns 260 = .ok (.dup2, 1) := by decide +kernel
theorem dX4_turns_261 : decode cX4_turns 261 = .ok (.laload, 1) := by decide +kernel
theorem dX4_turns_262 : decode cX4_turns 262 = .ok (.iload 5, 2) := by decide +kernel
theorem dX4_turns_264 : decode cX4_turns 264 = .ok (.i2l, 1) := by decide +kernel
theorem dX4_turns_265 : decode cX4_turns 265 = .ok (.ladd, 1) := by decide +kernel
theorem dX4_turns_266 : decode cX4_turns 266 = .ok (.lastore, 1) := by decide +kernel
theorem dX4_turns_267 : decode cX4_turns 267 = .ok (.aload_n 0, 1) := by decide +kernel
theorem dX4_turns_268 : decode cX4_turns 268 = .ok (.getfield 31, 3) := by decide +kernel
theorem dX4_turns_271 : decode cX4_turns 271 = .ok (.iload_n 1, 1) := by decide +kernel
theorem dX4_turns_272 : decode cX4_turns 272 = .ok (.ldc 244, 2) := by decide +kernel
theorem dX4_turns_274 : decode cX4_turns 274 = .ok (.aload_n 0, 1) := by decide +kernel
theorem dX4_turns_275 : decode cX4_turns 275 = .ok (.getfield 31, 3) := by decide +kernel
theorem dX4_turns_278 : decode cX4_turns 278 = .ok (.iload_n 1, 1) := by decide +kernel
theorem dX4_turns_279 : decode cX4_turns 279 = .ok (.iaload, 1) := by decide +kernel
theorem dX4_turns_280 : decode cX4_turns 280 = .ok (.iconst 1, 1) := by decide +kernel
theorem dX4_turns_281 : decode cX4_turns 281 = .ok (.iadd, 1) := by decide +kernel
theorem dX4_turns_282 : decode cX4_turns 282 = .ok (.invokestatic 235, 3) := by decide +kernel
theorem dX4_turns_285 : decode cX4_turns 285 = .ok (.iastore, 1) := by decide +kernel
theorem dX4_turns_286 : decode cX4_turns 286 = .ok (.iload 4, 2) := by decide +kernel
theorem dX4_turns_288 : decode cX4_turns 288 = .ok (.ireturn, 1) := by decide +kernel
theorem ycX4_turns : yX4_turns.cls ≠ "java/lang/invoke/MethodHandle" ∧ yX4_turns.cls ≠ "java/lang/invoke/VarHandle" ∧ (parseMethodDescriptor yX4_turns.desc).map (fun d => d.parameters.length) = some 3 := by decide +kernel
theorem yvX4_turns : yX4_turns.cls = RR 4 ∧ yX4_turns.cls ≠ "java/lang/invoke/MethodHandle" ∧ yX4_turns.cls ≠ "java/lang/invoke/VarHandle" ∧ (parseMethodDescriptor yX4_turns.desc).map (fun d => d.parameters.length) = some 3 := ⟨rfl, ycX4_turns⟩
def f_X4_turns (n : Nat) (p0 : Nat) (p1 : Int32) (p2 : Int32) (p3 : Int32) : Act Int32 :=
  bnd (gd 4 p0 (nt (f_X4_leastOf n p0 p1 p3))) fun v1 =>
  if v1 ≤ p2 then
    bnd (getR 4 15 p0) fun v2 =>
    bnd (ldI 3 v2 p1) fun v3 =>
    jn (fun (_ : Unit) =>
      bnd (getR 4 8 p0) fun v4 =>
      bnd (ldI 0 v4 p1) fun v5 =>
      bnd (gd 4 p0 (nt (f_X4_gasOf p0 p1 (mn p2 v5)))) fun v6 =>
      bnd (getI 4 19 p0) fun v7 =>
      if (((9 * v6) + 999) / 1000) ≤ v7 then
        bnd (getI 4 19 p0) fun v8 =>
        bnd (putI 4 19 p0 (v8 - (((9 * v6) + 999) / 1000))) fun _ =>
        bnd (getI 4 44 p0) fun v9 =>
        bnd (putI 4 44 p0 (v9 + v6)) fun _ =>
        bnd (getI 4 45 p0) fun v10 =>
        bnd (getR 4 10 p0) fun v11 =>
        bnd (ldI 0 v11 p1) fun v12 =>
        bnd (getR 4 11 p0) fun v13 =>
        bnd (ldI 0 v13 p1) fun v14 =>
        bnd (putI 4 45 p0 (v10 + ((v6 * (mn (10000 : Int32) (v12 + (v14 / 500)))) / 10000))) fun _ =>
        bnd (getR 4 16 p0) fun v15 =>
        bnd (ldL 1 v15 p1) fun v16 =>
        bnd (stL 1 v15 p1 (v16 + v6.toInt64)) fun _ =>
        bnd (getR 4 17 p0) fun v17 =>
        bnd (ldL 1 v17 4) fun v18 =>
        bnd (stL 1 v17 4 (v18 + v6.toInt64)) fun _ =>
        bnd (getR 4 11 p0) fun v19 =>
        bnd (getR 4 11 p0) fun v20 =>
        bnd (ldI 0 v20 p1) fun v21 =>
        bnd (stI 0 v19 p1 (mn (50000 : Int32) (v21 + 1))) fun _ =>
        pur (mn p2 v5)
      else
        bnd (getR 4 15 p0) fun v22 =>
        bnd (stI 3 v22 p1 0) fun _ =>
        pur 0) fun j128 =>
    if ¬ v3 = 0 then
      j128 ()
    else
      bnd (getI 4 0 p0) fun v23 =>
      bnd (getR 4 12 p0) fun v24 =>
      bnd (ldI 0 v24 p1) fun v25 =>
      jn (fun (_ : Unit) =>
        bnd (getR 4 13 p0) fun v26 =>
        bnd (ldI 0 v26 p1) fun v27 =>
        bnd (gd 4 p0 (nt (f_X4_tells n p0 p3 (3 : Int32)))) fun v28 =>
        if v27 < v28 then
          bnd (getR 4 13 p0) fun v29 =>
          bnd (ldI 0 v29 p1) fun v30 =>
          bnd (stI 0 v29 p1 (v30 + 1)) fun _ =>
          bnd (getR 4 14 p0) fun v31 =>
          bnd (ldI 0 v31 p1) fun v32 =>
          bnd (stI 0 v31 p1 (v32 + 1)) fun _ =>
          bnd (getR 4 11 p0) fun v33 =>
          bnd (getR 4 11 p0) fun v34 =>
          bnd (ldI 0 v34 p1) fun v35 =>
          bnd (stI 0 v33 p1 (mn (50000 : Int32) (v35 + 100))) fun _ =>
          bnd (getR 4 15 p0) fun v36 =>
          bnd (stI 3 v36 p1 1) fun _ =>
          j128 ()
        else
          pur 0) fun j64 =>
      if v25 = (v23 / 144) then
        j64 ()
      else
        bnd (getR 4 12 p0) fun v37 =>
        bnd (stI 0 v37 p1 (v23 / 144)) fun _ =>
        bnd (getR 4 13 p0) fun v38 =>
        bnd (stI 0 v38 p1 0) fun _ =>
        j64 ()
  else
    bnd (getR 4 15 p0) fun v39 =>
    bnd (stI 3 v39 p1 0) fun _ =>
    pur 0
set_option maxHeartbeats 4000000 in
theorem ct_X4_turns (l : Launch) (n : Nat) (p0 : Nat) (p1 : Int32) (p2 : Int32) (p3 : Int32) : Ct l Pic yX4_turns (ws_ yX4_turns cX4_turns 7 (some FieldType.int)) 3 66 cvI [rv p0, .int p1, .int p2, .int p3] (f_X4_turns n p0 p1 p2 p3) := by
  refine Ct.of (own := RX4) (L := [(0, rv p0), (1, .int p1), (2, .int p2), (3, .int p3)]) (plainFor_of_name (by decide)) rfl (by first | decide | simp [lg_sl, rv_cat, cat_i, cat_l]) (by first | rfl | simp [lv_args, rv_cat, cat_i, cat_l]) pcZ (fun X hXl hX hnh hin => ?_)
  subst hXl
  unfold f_X4_turns
  refine s_iload_n hX dX4_turns_0 rfl 2 rfl ?_
  refine s_aload_n hX dX4_turns_1 rfl 0 rfl ?_
  refine s_iload_n hX dX4_turns_2 rfl 1 rfl ?_
  refine s_iload_n hX dX4_turns_3 rfl 3 rfl ?_
  refine s_callV_I (ci := 4) (n := 2) (As := [.int p1, .int p3]) (st := [.int p2]) hX (pcK 5) (by decide) (ct_X4_leastOf X.l n p0 p1 p3) q1864 q1866 qs52 q91 q1867 yvX4_leastOf (by decide) rfl (by first | decide | simp [rv_cat, cat_i, cat_l]) dX4_turns_4 (fun v1 => ?_)
  refine s_icmp_ge (tgt := 19) hX dX4_turns_7 (by decide) ?_ ?_
  · refine s_aload_n hX dX4_turns_19 rfl 0 rfl ?_
    refine s_getR (ci := 4) (j := 15) (ref := "WindGasModel") hX (pcG 4) in_X4 (Or.inl q1553) (by decide) (by decide) (by decide) rfl dX4_turns_20 (fun _ h9 => h9) (fun v2 => ?_)
    refine s_iload_n hX dX4_turns_23 rfl 1 rfl ?_
    refine s_zald hX (pcA 3) dX4_turns_24 (fun v3 => ?_)
    refine s_jn (P := fun j => ∀ (u : Unit), Sim X cvI 128 [(0, rv p0), (1, .int p1), (2, .int p2)] [] (j u)) ?_ (fun j128 hj128 => ?_)
    · intro u
      refine s_iload_n hX dX4_turns_128 rfl 2 rfl ?_
      refine s_aload_n hX dX4_turns_129 rfl 0 rfl ?_
      refine s_getR (ci := 4) (j := 8) (ref := "WindGasModel") hX (pcG 4) in_X4 (Or.inl q1546) (by decide) (by decide) (by decide) rfl dX4_turns_130 (fun _ h9 => h9) (fun v4 => ?_)
      refine s_iload_n hX dX4_turns_133 rfl 1 rfl ?_
      refine s_iald hX (pcA 0) dX4_turns_134 (fun v5 => ?_)
      refine s_mmin hX q1848 q500 q95 q501 rfl (by omega) (by first | decide | (simp [rv_cat, cat_i, cat_l]; try omega)) dX4_turns_135 ?_
      refine s_istore (i := 4) (L2 := [(4, .int (mn p2 v5)), (0, rv p0), (1, .int p1), (2, .int p2)]) hX dX4_turns_138 (by decide) rfl ?_
      refine s_aload_n hX dX4_turns_140 rfl 1 rfl ?_
      refine s_iload_n hX dX4_turns_141 rfl 2 rfl ?_
      refine s_iload hX dX4_turns_142 0 rfl ?_
      refine s_callV_I (ci := 4) (n := 2) (As := [.int p1, .int (mn p2 v5)]) (st := []) hX (pcK 5) (by decide) (ct_X4_gasOf X.l p0 p1 (mn p2 v5)) q1869 q1871 qs53 q91 q1872 yvX4_gasOf (by decide) rfl (by first | decide | simp [rv_cat, cat_i, cat_l]) dX4_turns_144 (fun v6 => ?_)
      refine s_istore (i := 5) (L2 := [(5, .int v6), (4, .int (mn p2 v5)), (0, rv p0), (1, .int p1), (2, .int p2)]) hX dX4_turns_147 (by decide) rfl ?_
      refine s_bipush (v := 9) hX dX4_turns_149 (by decide) ?_
      refine s_iload hX dX4_turns_151 0 rfl ?_
      refine s_imul hX dX4_turns_153 ?_
      refine s_sipush (v := 999) hX dX4_turns_154 (by decide) ?_
      refine s_iadd hX dX4_turns_157 ?_
      refine s_sipush (v := 1000) hX dX4_turns_158 (by decide) ?_
      refine s_idivc hX dX4_turns_161 (by decide) ?_
      refine s_istore (i := 6) (L2 := [(6, .int (((9 * v6) + 999) / 1000)), (5, .int v6), (4, .int (mn p2 v5)), (0, rv p0), (1, .int p1), (2, .int p2)]) hX dX4_turns_162 (by decide) rfl ?_
      refine s_iload hX dX4_turns_164 0 rfl ?_
      refine s_aload_n hX dX4_turns_166 rfl 3 rfl ?_
      refine s_getI (ci := 4) (j := 19) (ref := "WindGasModel") hX (pcG 4) in_X4 (Or.inl q1557) (by decide) (by decide) (by decide) rfl dX4_turns_167 (fun _ h9 => h9) (fun v7 => ?_)
      refine s_icmp_le (tgt := 182) hX dX4_turns_170 (by decide) ?_ ?_
      · refine s_aload_n hX dX4_turns_182 rfl 3 rfl ?_
        refine s_dup hX dX4_turns_183 (rv_cat _) ?_
        refine s_getI (ci := 4) (j := 19) (ref := "WindGasModel") hX (pcG 4) in_X4 (Or.inl q1557) (by decide) (by decide) (by decide) rfl dX4_turns_184 (fun _ h9 => h9) (fun v8 => ?_)
        refine s_iload hX dX4_turns_187 0 rfl ?_
        refine s_isub hX dX4_turns_189 ?_
        refine s_putI (ci := 4) (j := 19) (ref := "WindGasModel") hX (pcG 4) (pcP 4) in_X4 tyX4_ok nmX4 (Or.inl q1557) (by decide) (by decide) (by decide) rfl rfl rfl dX4_turns_190 (fun _ h9 => h9) ?_
        refine s_aload_n hX dX4_turns_193 rfl 3 rfl ?_
        refine s_dup hX dX4_turns_194 (rv_cat _) ?_
        refine s_getI (ci := 4) (j := 44) (ref := "WindGasModel") hX (pcG 4) in_X4 (Or.inl q1582) (by decide) (by decide) (by decide) rfl dX4_turns_195 (fun _ h9 => h9) (fun v9 => ?_)
        refine s_iload hX dX4_turns_198 1 rfl ?_
        refine s_iadd hX dX4_turns_200 ?_
        refine s_putI (ci := 4) (j := 44) (ref := "WindGasModel") hX (pcG 4) (pcP 4) in_X4 tyX4_ok nmX4 (Or.inl q1582) (by decide) (by decide) (by decide) rfl rfl rfl dX4_turns_201 (fun _ h9 => h9) ?_
        refine s_aload_n hX dX4_turns_204 rfl 3 rfl ?_
        refine s_dup hX dX4_turns_205 (rv_cat _) ?_
        refine s_getI (ci := 4) (j := 45) (ref := "WindGasModel") hX (pcG 4) in_X4 (Or.inl q1583) (by decide) (by decide) (by decide) rfl dX4_turns_206 (fun _ h9 => h9) (fun v10 => ?_)
        refine s_iload hX dX4_turns_209 1 rfl ?_
        refine s_sipush (v := 10000) hX dX4_turns_211 (by decide) ?_
        refine s_aload_n hX dX4_turns_214 rfl 3 rfl ?_
        refine s_getR (ci := 4) (j := 10) (ref := "WindGasModel") hX (pcG 4) in_X4 (Or.inl q1548) (by decide) (by decide) (by decide) rfl dX4_turns_215 (fun _ h9 => h9) (fun v11 => ?_)
        refine s_iload_n hX dX4_turns_218 rfl 4 rfl ?_
        refine s_iald hX (pcA 0) dX4_turns_219 (fun v12 => ?_)
        refine s_aload_n hX dX4_turns_220 rfl 3 rfl ?_
        refine s_getR (ci := 4) (j := 11) (ref := "WindGasModel") hX (pcG 4) in_X4 (Or.inl q1549) (by decide) (by decide) (by decide) rfl dX4_turns_221 (fun _ h9 => h9) (fun v13 => ?_)
        refine s_iload_n hX dX4_turns_224 rfl 4 rfl ?_
        refine s_iald hX (pcA 0) dX4_turns_225 (fun v14 => ?_)
        refine s_sipush (v := 500) hX dX4_turns_226 (by decide) ?_
        refine s_idivc hX dX4_turns_229 (by decide) ?_
        refine s_iadd hX dX4_turns_230 ?_
        refine s_mmin hX q1848 q500 q95 q501 rfl (by omega) (by first | decide | (simp [rv_cat, cat_i, cat_l]; try omega)) dX4_turns_231 ?_
        refine s_imul hX dX4_turns_234 ?_
        refine s_sipush (v := 10000) hX dX4_turns_235 (by decide) ?_
        refine s_idivc hX dX4_turns_238 (by decide) ?_
        refine s_iadd hX dX4_turns_239 ?_
        refine s_putI (ci := 4) (j := 45) (ref := "WindGasModel") hX (pcG 4) (pcP 4) in_X4 tyX4_ok nmX4 (Or.inl q1583) (by decide) (by decide) (by decide) rfl rfl rfl dX4_turns_240 (fun _ h9 => h9) ?_
        refine s_aload_n hX dX4_turns_243 rfl 3 rfl ?_
        refine s_getR (ci := 4) (j := 16) (ref := "WindGasModel") hX (pcG 4) in_X4 (Or.inl q1554) (by decide) (by decide) (by decide) rfl dX4_turns_244 (fun _ h9 => h9) (fun v15 => ?_)
        refine s_iload_n hX dX4_turns_247 rfl 4 rfl ?_
        refine s_dup2 hX dX4_turns_248 rfl (rv_cat _) ?_
        refine s_lald hX (pcA 1) dX4_turns_249 (fun v16 => ?_)
        refine s_iload hX dX4_turns_250 1 rfl ?_
        refine s_i2l hX dX4_turns_252 ?_
        refine s_ladd hX dX4_turns_253 ?_
        refine s_last hX (pcA 1) (pcB 1) dX4_turns_254 ?_
        refine s_aload_n hX dX4_turns_255 rfl 3 rfl ?_
        refine s_getR (ci := 4) (j := 17) (ref := "WindGasModel") hX (pcG 4) in_X4 (Or.inl q1555) (by decide) (by decide) (by decide) rfl dX4_turns_256 (fun _ h9 => h9) (fun v17 => ?_)
        refine s_iconst (v := 4) hX dX4_turns_259 rfl ?_
        refine s_dup2 hX dX4_turns_260 rfl (rv_cat _) ?_
        refine s_lald hX (pcA 1) dX4_turns_261 (fun v18 => ?_)
        refine s_iload hX dX4_turns_262 1 rfl ?_
        refine s_i2l hX dX4_turns_264 ?_
        refine s_ladd hX dX4_turns_265 ?_
        refine s_last hX (pcA 1) (pcB 1) dX4_turns_266 ?_
        refine s_aload_n hX dX4_turns_267 rfl 3 rfl ?_
        refine s_getR (ci := 4) (j := 11) (ref := "WindGasModel") hX (pcG 4) in_X4 (Or.inl q1549) (by decide) (by decide) (by decide) rfl dX4_turns_268 (fun _ h9 => h9) (fun v19 => ?_)
        refine s_iload_n hX dX4_turns_271 rfl 4 rfl ?_
        refine s_ldc (v := 50000) hX dX4_turns_272 q1820 ?_
        refine s_aload_n hX dX4_turns_274 rfl 3 rfl ?_
        refine s_getR (ci := 4) (j := 11) (ref := "WindGasModel") hX (pcG 4) in_X4 (Or.inl q1549) (by decide) (by decide) (by decide) rfl dX4_turns_275 (fun _ h9 => h9) (fun v20 => ?_)
        refine s_iload_n hX dX4_turns_278 rfl 4 rfl ?_
        refine s_iald hX (pcA 0) dX4_turns_279 (fun v21 => ?_)
        refine s_iconst (v := 1) hX dX4_turns_280 rfl ?_
        refine s_iadd hX dX4_turns_281 ?_
        refine s_mmin hX q1848 q500 q95 q501 rfl (by omega) (by first | decide | (simp [rv_cat, cat_i, cat_l]; try omega)) dX4_turns_282 ?_
        refine s_iast hX (pcA 0) (pcB 0) dX4_turns_285 ?_
        refine s_iload hX dX4_turns_286 2 rfl ?_
        exact s_iret hX dX4_turns_288
      · refine s_aload_n hX dX4_turns_173 rfl 3 rfl ?_
        refine s_getR (ci := 4) (j := 15) (ref := "WindGasModel") hX (pcG 4) in_X4 (Or.inl q1553) (by decide) (by decide) (by decide) rfl dX4_turns_174 (fun _ h9 => h9) (fun v22 => ?_)
        refine s_iload_n hX dX4_turns_177 rfl 4 rfl ?_
        refine s_iconst (v := 0) hX dX4_turns_178 rfl ?_
        refine s_zast hX (pcA 3) (pcB 3) dX4_turns_179 ?_
        refine s_iconst (v := 0) hX dX4_turns_180 rfl ?_
        exact s_iret hX dX4_turns_181
    · refine s_if_ne (tgt := 128) hX dX4_turns_25 (by decide) ?_ ?_
      · exact s_sub [0, 1, 2] rfl (hj128 ())
      · refine s_aload_n hX dX4_turns_28 rfl 0 rfl ?_
        refine s_getI (ci := 4) (j := 0) (ref := "WindGasModel") hX (pcG 4) in_X4 (Or.inl q1538) (by decide) (by decide) (by decide) rfl dX4_turns_29 (fun _ h9 => h9) (fun v23 => ?_)
        refine s_sipush (v := 144) hX dX4_turns_32 (by decide) ?_
        refine s_idivc hX dX4_turns_35 (by decide) ?_
        refine s_istore (i := 4) (L2 := [(4, .int (v23 / 144)), (0, rv p0), (1, .int p1), (2, .int p2), (3, .int p3)]) hX dX4_turns_36 (by decide) rfl ?_
        refine s_aload_n hX dX4_turns_38 rfl 1 rfl ?_
        refine s_getR (ci := 4) (j := 12) (ref := "WindGasModel") hX (pcG 4) in_X4 (Or.inl q1550) (by decide) (by decide) (by decide) rfl dX4_turns_39 (fun _ h9 => h9) (fun v24 => ?_)
        refine s_iload_n hX dX4_turns_42 rfl 2 rfl ?_
        refine s_iald hX (pcA 0) dX4_turns_43 (fun v25 => ?_)
        refine s_iload hX dX4_turns_44 0 rfl ?_
        refine s_jn (P := fun j => ∀ (u : Unit), Sim X cvI 64 [(0, rv p0), (1, .int p1), (2, .int p2), (3, .int p3)] [] (j u)) ?_ (fun j64 hj64 => ?_)
        · intro u
          refine s_aload_n hX dX4_turns_64 rfl 0 rfl ?_
          refine s_getR (ci := 4) (j := 13) (ref := "WindGasModel") hX (pcG 4) in_X4 (Or.inl q1551) (by decide) (by decide) (by decide) rfl dX4_turns_65 (fun _ h9 => h9) (fun v26 => ?_)
          refine s_iload_n hX dX4_turns_68 rfl 1 rfl ?_
          refine s_iald hX (pcA 0) dX4_turns_69 (fun v27 => ?_)
          refine s_aload_n hX dX4_turns_70 rfl 0 rfl ?_
          refine s_iload_n hX dX4_turns_71 rfl 3 rfl ?_
          refine s_iconst (v := 3) hX dX4_turns_72 rfl ?_
          refine s_callV_I (ci := 4) (n := 2) (As := [.int p3, .int 3]) (st := [.int v27]) hX (pcK 5) (by decide) (ct_X4_tells X.l n p0 p3 (3 : Int32)) q1853 q1855 qs50 q91 q1856 yvX4_tells (by decide) rfl (by first | decide | simp [rv_cat, cat_i, cat_l]) dX4_turns_73 (fun v28 => ?_)
          refine s_icmp_lt (tgt := 81) hX dX4_turns_76 (by decide) ?_ ?_
          · refine s_aload_n hX dX4_turns_81 rfl 0 rfl ?_
            refine s_getR (ci := 4) (j := 13) (ref := "WindGasModel") hX (pcG 4) in_X4 (Or.inl q1551) (by decide) (by decide) (by decide) rfl dX4_turns_82 (fun _ h9 => h9) (fun v29 => ?_)
            refine s_iload_n hX dX4_turns_85 rfl 1 rfl ?_
            refine s_dup2 hX dX4_turns_86 rfl (rv_cat _) ?_
            refine s_iald hX (pcA 0) dX4_turns_87 (fun v30 => ?_)
            refine s_iconst (v := 1) hX dX4_turns_88 rfl ?_
            refine s_iadd hX dX4_turns_89 ?_
            refine s_iast hX (pcA 0) (pcB 0) dX4_turns_90 ?_
            refine s_aload_n hX dX4_turns_91 rfl 0 rfl ?_
            refine s_getR (ci := 4) (j := 14) (ref := "WindGasModel") hX (pcG 4) in_X4 (Or.inl q1552) (by decide) (by decide) (by decide) rfl dX4_turns_92 (fun _ h9 => h9) (fun v31 => ?_)
            refine s_iload_n hX dX4_turns_95 rfl 1 rfl ?_
            refine s_dup2 hX dX4_turns_96 rfl (rv_cat _) ?_
            refine s_iald hX (pcA 0) dX4_turns_97 (fun v32 => ?_)
            refine s_iconst (v := 1) hX dX4_turns_98 rfl ?_
            refine s_iadd hX dX4_turns_99 ?_
            refine s_iast hX (pcA 0) (pcB 0) dX4_turns_100 ?_
            refine s_aload_n hX dX4_turns_101 rfl 0 rfl ?_
            refine s_getR (ci := 4) (j := 11) (ref := "WindGasModel") hX (pcG 4) in_X4 (Or.inl q1549) (by decide) (by decide) (by decide) rfl dX4_turns_102 (fun _ h9 => h9) (fun v33 => ?_)
            refine s_iload_n hX dX4_turns_105 rfl 1 rfl ?_
            refine s_ldc (v := 50000) hX dX4_turns_106 q1820 ?_
            refine s_aload_n hX dX4_turns_108 rfl 0 rfl ?_
            refine s_getR (ci := 4) (j := 11) (ref := "WindGasModel") hX (pcG 4) in_X4 (Or.inl q1549) (by decide) (by decide) (by decide) rfl dX4_turns_109 (fun _ h9 => h9) (fun v34 => ?_)
            refine s_iload_n hX dX4_turns_112 rfl 1 rfl ?_
            refine s_iald hX (pcA 0) dX4_turns_113 (fun v35 => ?_)
            refine s_bipush (v := 100) hX dX4_turns_114 (by decide) ?_
            refine s_iadd hX dX4_turns_116 ?_
            refine s_mmin hX q1848 q500 q95 q501 rfl (by omega) (by first | decide | (simp [rv_cat, cat_i, cat_l]; try omega)) dX4_turns_117 ?_
            refine s_iast hX (pcA 0) (pcB 0) dX4_turns_120 ?_
            refine s_aload_n hX dX4_turns_121 rfl 0 rfl ?_
            refine s_getR (ci := 4) (j := 15) (ref := "WindGasModel") hX (pcG 4) in_X4 (Or.inl q1553) (by decide) (by decide) (by decide) rfl dX4_turns_122 (fun _ h9 => h9) (fun v36 => ?_)
            refine s_iload_n hX dX4_turns_125 rfl 1 rfl ?_
            refine s_iconst (v := 1) hX dX4_turns_126 rfl ?_
            refine s_zast hX (pcA 3) (pcB 3) dX4_turns_127 ?_
            exact s_sub [0, 1, 2] rfl (hj128 ())
          · refine s_iconst (v := 0) hX dX4_turns_79 rfl ?_
            exact s_iret hX dX4_turns_80
        · refine s_icmp_eq (tgt := 64) hX dX4_turns_46 (by decide) ?_ ?_
          · exact s_sub [1, 2, 3, 4] rfl (hj64 ())
          · refine s_aload_n hX dX4_turns_49 rfl 1 rfl ?_
            refine s_getR (ci := 4) (j := 12) (ref := "WindGasModel") hX (pcG 4) in_X4 (Or.inl q1550) (by decide) (by decide) (by decide) rfl dX4_turns_50 (fun _ h9 => h9) (fun v37 => ?_)
            refine s_iload_n hX dX4_turns_53 rfl 2 rfl ?_
            refine s_iload hX dX4_turns_54 0 rfl ?_
            refine s_iast hX (pcA 0) (pcB 0) dX4_turns_56 ?_
            refine s_aload_n hX dX4_turns_57 rfl 1 rfl ?_
            refine s_getR (ci := 4) (j := 13) (ref := "WindGasModel") hX (pcG 4) in_X4 (Or.inl q1551) (by decide) (by decide) (by decide) rfl dX4_turns_58 (fun _ h9 => h9) (fun v38 => ?_)
            refine s_iload_n hX dX4_turns_61 rfl 2 rfl ?_
            refine s_iconst (v := 0) hX dX4_turns_62 rfl ?_
            refine s_iast hX (pcA 0) (pcB 0) dX4_turns_63 ?_
            exact s_sub [1, 2, 3, 4] rfl (hj64 ())
  · refine s_aload_n hX dX4_turns_10 rfl 0 rfl ?_
    refine s_getR (ci := 4) (j := 15) (ref := "WindGasModel") hX (pcG 4) in_X4 (Or.inl q1553) (by decide) (by decide) (by decide) rfl dX4_turns_11 (fun _ h9 => h9) (fun v39 => ?_)
    refine s_iload_n hX dX4_turns_14 rfl 1 rfl ?_
    refine s_iconst (v := 0) hX dX4_turns_15 rfl ?_
    refine s_zast hX (pcA 3) (pcB 3) dX4_turns_16 ?_
    refine s_iconst (v := 0) hX dX4_turns_17 rfl ?_
    exact s_iret hX dX4_turns_18
theorem dX4_place_0 : decode cX4_place 0 = .ok (.sipush 840, 3) := by decide +kernel
theorem dX4_place_3 : decode cX4_place 3 = .ok (.iload_n 0, 1) := by decide +kernel
theorem dX4_place_4 : decode cX4_place 4 = .ok (.imul, 1) := by decide +kernel
theorem dX4_place_5 : decode cX4_place 5 = .ok (.iload_n 1, 1) := by decide +kernel
theorem dX4_place_6 : decode cX4_place 6 = .ok (.iadd, 1) := by decide +kernel
theorem dX4_place_7 : decode cX4_place 7 = .ok (.ireturn, 1) := by decide +kernel
theorem ycX4_place : yX4_place.cls ≠ "java/lang/invoke/MethodHandle" ∧ yX4_place.cls ≠ "java/lang/invoke/VarHandle" ∧ (parseMethodDescriptor yX4_place.desc).map (fun d => d.parameters.length) = some 2 := by decide +kernel
def f_X4_place (p0 : Int32) (p1 : Int32) : Act Int32 :=
  pur ((840 * p0) + p1)
set_option maxHeartbeats 4000000 in
theorem ct_X4_place (l : Launch) (p0 : Int32) (p1 : Int32) : Ct l Pic yX4_place (ws_ yX4_place cX4_place 2 (some FieldType.int)) 0 0 cvI [.int p0, .int p1] (f_X4_place p0 p1) := by
  refine Ct.of (own := RX4) (L := [(0, .int p0), (1, .int p1)]) (plainFor_of_name (by decide)) rfl (by first | decide | simp [lg_sl, rv_cat, cat_i, cat_l]) (by first | rfl | simp [lv_args, rv_cat, cat_i, cat_l]) pcZ (fun X hXl hX hnh hin => ?_)
  subst hXl
  unfold f_X4_place
  refine s_sipush (v := 840) hX dX4_place_0 (by decide) ?_
  refine s_iload_n hX dX4_place_3 rfl 0 rfl ?_
  refine s_imul hX dX4_place_4 ?_
  refine s_iload_n hX dX4_place_5 rfl 1 rfl ?_
  refine s_iadd hX dX4_place_6 ?_
  exact s_iret hX dX4_place_7
theorem dX4_puts_0 : decode cX4_puts 0 = .ok (.iload_n 2, 1) := by decide +kernel
theorem dX4_puts_1 : decode cX4_puts 1 = .ok (.ifCond .ne 4, 3) := by decide +kernel
theorem dX4_puts_4 : decode cX4_puts 4 = .ok (.return_, 1) := by decide +kernel
theorem dX4_puts_5 : decode cX4_puts 5 = .ok (.aload_n 0, 1) := by decide +kernel
theorem dX4_puts_6 : decode cX4_puts 6 = .ok (.getfield 229, 3) := by decide +kernel
theorem dX4_puts_9 : decode cX4_puts 9 = .ok (.bipush 6, 2) := by decide +kernel
theorem dX4_puts_11 : decode cX4_puts 11 = .ok (.idiv, 1) := by decide +kernel
theorem dX4_puts_12 : decode cX4_puts 12 = .ok (.istore 4, 2) := by decide +kernel
theorem dX4_puts_14 : decode cX4_puts 14 = .ok (.iload_n 1, 1) := by decide +kernel
theorem dX4_puts_15 : decode cX4_puts 15 = .ok (.aload_n 0, 1) := by decide +kernel
theorem dX4_puts_16 : decode cX4_puts 16 = .ok (.getfield 72, 3) := by decide +kernel
theorem dX4_puts_19 : decode cX4_puts 19 = .ok (.iload_n 1, 1) := by decide +kernel
theorem dX4_puts_20 : decode cX4_puts 20 = .ok (.iaload, 1) := by decide +kernel
theorem dX4_puts_21 : decode cX4_puts 21 = .ok (.aload_n 0, 1) := by decide +kernel
theorem dX4_puts_22 : decode cX4_puts 22 = .ok (.getfield 69, 3) := by decide +kernel
theorem dX4_puts_25 : decode cX4_puts 25 = .ok (.iload_n 1, 1) := by decide +kernel
theorem dX4_puts_26 : decode cX4_puts 26 = .ok (.iaload, 1) := by decide +kernel
theorem dX4_puts_27 : decode cX4_puts 27 = .ok (.iadd, 1) := by decide +kernel
theorem dX4_puts_28 : decode cX4_puts 28 = .ok (.iconst 1, 1) := by decide +kernel
theorem dX4_puts_29 : decode cX4_puts 29 = .ok (.isub, 1) := by decide +kernel
theorem dX4_puts_30 : decode cX4_puts 30 = .ok (.invokestatic 232, 3) := by decide +kernel
theorem dX4_puts_33 : decode cX4_puts 33 = .ok (.istore 5, 2) := by decide +kernel
theorem dX4_puts_35 : decode cX4_puts 35 = .ok (.aload_n 0, 1) := by decide +kernel
theorem dX4_puts_36 : decode cX4_puts 36 = .ok (.getfield 69, 3) := by decide +kernel
theorem dX4_puts_39 : decode cX4_puts 39 = .ok (.iload_n 1, 1) := by decide +kernel
theorem dX4_puts_40 : decode cX4_puts 40 = .ok (.iaload, 1) := by decide +kernel
theorem dX4_puts_41 : decode cX4_puts 41 = .ok (.ifCond .eq 15, 3) := by decide +kernel
theorem dX4_puts_44 : decode cX4_puts 44 = .ok (.aload_n 0, 1) := by decide +kernel
theorem dX4_puts_45 : decode cX4_puts 45 = .ok (.getfield 81, 3) := by decide +kernel
theorem dX4_puts_48 : decode cX4_puts 48 = .ok (.iload 5, 2) := by decide +kernel
theorem dX4_puts_50 : decode cX4_puts 50 = .ok (.iaload, 1) := by decide +kernel
theorem dX4_puts_51 : decode cX4_puts 51 = .ok (.iload 4, 2) := by decide +kernel
theorem dX4_puts_53 : decode cX4_puts 53 = .ok (.if_icmp .eq 59, 3) := by decide +kernel
theorem dX4_puts_56 : decode cX4_puts 56 = .ok (.aload_n 0, 1) := by decide +kernel
theorem dX4_puts_57 : decode cX4_puts 57 = .ok (.getfield 69, 3) := by decide +kernel
theorem dX4_puts_60 : decode cX4_puts 60 = .ok (.iload_n 1, 1) := by decide +kernel
theorem dX4_puts_61 : decode cX4_puts 61 = .ok (.dup2, 1) := by decide +kernel
theorem dX4_puts_62 : decode cX4_puts 62 = .ok (.iaload, 1) := by decide +kernel
theorem dX4_puts_63 : decode cX4_puts 63 = .ok (.iconst 1, 1) := by decide +kernel
theorem dX4_puts_64 : decode cX4_puts 64 = .ok (.iadd, 1) := by decide +kernel
theorem dX4_puts_65 : decode cX4_puts 65 = .ok (.iastore, 1) := by decide +kernel
theorem dX4_puts_66 : decode cX4_puts 66 = .ok (.iload_n 1, 1) := by decide +kernel
theorem dX4_puts_67 : decode cX4_puts 67 = .ok (.aload_n 0, 1) := by decide +kernel
theorem dX4_puts_68 : decode cX4_puts 68 = .ok (.getfield 72, 3) := by decide +kernel
theorem dX4_puts_71 : decode cX4_puts 71 = .ok (.iload_n 1, 1) := by decide +kernel
theorem dX4_puts_72 : decode cX4_puts 72 = .ok (.iaload, 1) := by decide +kernel
theorem dX4_puts_73 : decode cX4_puts 73 = .ok (.aload_n 0, 1) := by decide +kernel
theorem dX4_puts_74 : decode cX4_puts 74 = .ok (.getfield 69, 3) := by decide +kernel
theorem dX4_puts_77 : decode cX4_puts 77 = .ok (.iload_n 1, 1) := by decide +kernel
theorem dX4_puts_78 : decode cX4_puts 78 = .ok (.iaload, 1) := by decide +kernel
theorem dX4_puts_79 : decode cX4_puts 79 = .ok (.iadd, 1) := by decide +kernel
theorem dX4_puts_80 : decode cX4_puts 80 = .ok (.iconst 1, 1) := by decide +kernel
theorem dX4_puts_81 : decode cX4_puts 81 = .ok (.isub, 1) := by decide +kernel
theorem dX4_puts_82 : decode cX4_puts 82 = .ok (.invokestatic 232, 3) := by decide +kernel
theorem dX4_puts_85 : decode cX4_puts 85 = .ok (.istore 5, 2) := by decide +kernel
theorem dX4_puts_87 : decode cX4_puts 87 = .ok (.aload_n 0, 1) := by decide +kernel
theorem dX4_puts_88 : decode cX4_puts 88 = .ok (.getfield 81, 3) := by decide +kernel
theorem dX4_puts_91 : decode cX4_puts 91 = .ok (.iload 5, 2) := by decide +kernel
theorem dX4_puts_93 : decode cX4_puts 93 = .ok (.iload 4, 2) := by decide +kernel
theorem dX4_puts_95 : decode cX4_puts 95 = .ok (.iastore, 1) := by decide +kernel
theorem dX4_puts_96 : decode cX4_puts 96 = .ok (.aload_n 0, 1) := by decide +kernel
theorem dX4_puts_97 : decode cX4_puts 97 = .ok (.getfield 84, 3) := by decide +kernel
theorem dX4_puts_100 : decode cX4_puts 100 = .ok (.iload 5, 2) := by decide +kernel
theorem dX4_puts_102 : decode cX4_puts 102 = .ok (.iconst 0, 1) := by decide +kernel
theorem dX4_puts_103 : decode cX4_puts 103 = .ok (.iastore, 1) := by decide +kernel
theorem dX4_puts_104 : decode cX4_puts 104 = .ok (.aload_n 0, 1) := by decide +kernel
theorem dX4_puts_105 : decode cX4_puts 105 = .ok (.getfield 87, 3) := by decide +kernel
theorem dX4_puts_108 : decode cX4_puts 108 = .ok (.iload 5, 2) := by decide +kernel
theorem dX4_puts_110 : decode cX4_puts 110 = .ok (.iconst 0, 1) := by decide +kernel
theorem dX4_puts_111 : decode cX4_puts 111 = .ok (.iastore, 1) := by decide +kernel
theorem dX4_puts_112 : decode cX4_puts 112 = .ok (.aload_n 0, 1) := by decide +kernel
theorem dX4_puts_113 : decode cX4_puts 113 = .ok (.getfield 84, 3) := by decide +kernel
theorem dX4_puts_116 : decode cX4_puts 116 = .ok (.iload 5, 2) := by decide +kernel
theorem dX4_puts_118 : decode cX4_puts 118 = .ok (.dup2, 1) := by decide +kernel
theorem dX4_puts_119 : decode cX4_puts 119 = .ok (.iaload, 1) := by decide +kernel
theorem dX4_puts_120 : decode cX4_puts 120 = .ok (.iload_n 2, 1) := by decide +kernel
theorem dX4_puts_121 : decode cX4_puts 121 = .ok (.iadd, 1) := by decide +kernel
theorem dX4_puts_122 : decode cX4_puts 122 = .ok (.iastore, 1) := by decide +kernel
theorem dX4_puts_123 : decode cX4_puts 123 = .ok (.aload_n 0, 1) := by decide +kernel
theorem dX4_puts_124 : decode cX4_puts 124 = .ok (.getfield 87, 3) := by decide +kernel
theorem dX4_puts_127 : decode cX4_puts 127 = .ok (.iload 5, 2) := by decide +kernel
theorem dX4_puts_129 : decode cX4_puts 129 = .ok (.dup2, 1) := by decide +kernel
theorem dX4_puts_130 : decode cX4_puts 130 = .ok (.iaload, 1) := by decide +kernel
theorem dX4_puts_131 : decode cX4_puts 131 = .ok (.iload_n 3, 1) := by decide +kernel
theorem dX4_puts_132 : decode cX4_puts 132 = .ok (.iadd, 1) := by decide +kernel
theorem dX4_puts_133 : decode cX4_puts 133 = .ok (.iastore, 1) := by decide +kernel
theorem dX4_puts_134 : decode cX4_puts 134 = .ok (.aload_n 0, 1) := by decide +kernel
theorem dX4_puts_135 : decode cX4_puts 135 = .ok (.getfield 63, 3) := by decide +kernel
theorem dX4_puts_138 : decode cX4_puts 138 = .ok (.iload_n 1, 1) := by decide +kernel
theorem dX4_puts_139 : decode cX4_puts 139 = .ok (.dup2, 1) := by decide +kernel
theorem dX4_puts_140 : decode cX4_puts 140 = .ok (.iaload, 1) := by decide +kernel
theorem dX4_puts_141 : decode cX4_puts 141 = .ok (.iload_n 2, 1) := by decide +kernel
theorem dX4_puts_142 : decode cX4_puts 142 = .ok (.iadd, 1) := by decide +kernel
theorem dX4_puts_143 : decode cX4_puts 143 = .ok (.iastore, 1) := by decide +kernel
theorem dX4_puts_144 : decode cX4_puts 144 = .ok (.aload_n 0, 1) := by decide +kernel
theorem dX4_puts_145 : decode cX4_puts 145 = .ok (.getfield 66, 3) := by decide +kernel
theorem dX4_puts_148 : decode cX4_puts 148 = .ok (.iload_n 1, 1) := by decide +kernel
theorem dX4_puts_149 : decode cX4_puts 149 = .ok (.dup2, 1) := by decide +kernel
theorem dX4_puts_150 : decode cX4_puts 150 = .ok (.iaload, 1) := by decide +kernel
theorem dX4_puts_151 : decode cX4_puts 151 = .ok (.iload_n 3, 1) := by decide +kernel
theorem dX4_puts_152 : decode cX4_puts 152 = .ok (.iadd, 1) := by decide +kernel
theorem dX4_puts_153 : decode cX4_puts 153 = .ok (.iastore, 1) := by decide +kernel
theorem dX4_puts_154 : decode cX4_puts 154 = .ok (.return_, 1) := by decide +kernel
theorem ycX4_puts : yX4_puts.cls ≠ "java/lang/invoke/MethodHandle" ∧ yX4_puts.cls ≠ "java/lang/invoke/VarHandle" ∧ (parseMethodDescriptor yX4_puts.desc).map (fun d => d.parameters.length) = some 3 := by decide +kernel
theorem yvX4_puts : yX4_puts.cls = RR 4 ∧ yX4_puts.cls ≠ "java/lang/invoke/MethodHandle" ∧ yX4_puts.cls ≠ "java/lang/invoke/VarHandle" ∧ (parseMethodDescriptor yX4_puts.desc).map (fun d => d.parameters.length) = some 3 := ⟨rfl, ycX4_puts⟩
def f_X4_puts (p0 : Nat) (p1 : Int32) (p2 : Int32) (p3 : Int32) : Act Unit :=
  if ¬ p2 = 0 then
    bnd (getI 4 0 p0) fun v1 =>
    bnd (getR 4 26 p0) fun v2 =>
    bnd (ldI 0 v2 p1) fun v3 =>
    bnd (getR 4 25 p0) fun v4 =>
    bnd (ldI 0 v4 p1) fun v5 =>
    bnd (nt (f_X4_place p1 ((v3 + v5) - 1))) fun v6 =>
    bnd (getR 4 25 p0) fun v7 =>
    bnd (ldI 0 v7 p1) fun v8 =>
    jn (fun (v9 : Int32) =>
      bnd (getR 4 30 p0) fun v10 =>
      bnd (ldI 0 v10 v9) fun v11 =>
      bnd (stI 0 v10 v9 (v11 + p2)) fun _ =>
      bnd (getR 4 31 p0) fun v12 =>
      bnd (ldI 0 v12 v9) fun v13 =>
      bnd (stI 0 v12 v9 (v13 + p3)) fun _ =>
      bnd (getR 4 23 p0) fun v14 =>
      bnd (ldI 0 v14 p1) fun v15 =>
      bnd (stI 0 v14 p1 (v15 + p2)) fun _ =>
      bnd (getR 4 24 p0) fun v16 =>
      bnd (ldI 0 v16 p1) fun v17 =>
      bnd (stI 0 v16 p1 (v17 + p3)) fun _ =>
      pur ()) fun j112 =>
    jn (fun (_ : Unit) =>
      bnd (getR 4 25 p0) fun v18 =>
      bnd (ldI 0 v18 p1) fun v19 =>
      bnd (stI 0 v18 p1 (v19 + 1)) fun _ =>
      bnd (getR 4 26 p0) fun v20 =>
      bnd (ldI 0 v20 p1) fun v21 =>
      bnd (getR 4 25 p0) fun v22 =>
      bnd (ldI 0 v22 p1) fun v23 =>
      bnd (nt (f_X4_place p1 ((v21 + v23) - 1))) fun v24 =>
      bnd (getR 4 29 p0) fun v25 =>
      bnd (stI 0 v25 v24 (v1 / 6)) fun _ =>
      bnd (getR 4 30 p0) fun v26 =>
      bnd (stI 0 v26 v24 0) fun _ =>
      bnd (getR 4 31 p0) fun v27 =>
      bnd (stI 0 v27 v24 0) fun _ =>
      j112 v24) fun j56 =>
    if v8 = 0 then
      j56 ()
    else
      bnd (getR 4 29 p0) fun v28 =>
      bnd (ldI 0 v28 v6) fun v29 =>
      if v29 = (v1 / 6) then
        j112 v6
      else
        j56 ()
  else
    pur ()
set_option maxHeartbeats 4000000 in
theorem ct_X4_puts (l : Launch) (p0 : Nat) (p1 : Int32) (p2 : Int32) (p3 : Int32) : Ct l Pic yX4_puts (ws_ yX4_puts cX4_puts 6 none) 1 21 cvU [rv p0, .int p1, .int p2, .int p3] (f_X4_puts p0 p1 p2 p3) := by
  refine Ct.of (own := RX4) (L := [(0, rv p0), (1, .int p1), (2, .int p2), (3, .int p3)]) (plainFor_of_name (by decide)) rfl (by first | decide | simp [lg_sl, rv_cat, cat_i, cat_l]) (by first | rfl | simp [lv_args, rv_cat, cat_i, cat_l]) pcZ (fun X hXl hX hnh hin => ?_)
  subst hXl
  unfold f_X4_puts
  refine s_iload_n hX dX4_puts_0 rfl 2 rfl ?_
  refine s_if_ne (tgt := 5) hX dX4_puts_1 (by decide) ?_ ?_
  · refine s_aload_n hX dX4_puts_5 rfl 0 rfl ?_
    refine s_getI (ci := 4) (j := 0) (ref := "WindGasModel") hX (pcG 4) in_X4 (Or.inl q1538) (by decide) (by decide) (by decide) rfl dX4_puts_6 (fun _ h9 => h9) (fun v1 => ?_)
    refine s_bipush (v := 6) hX dX4_puts_9 (by decide) ?_
    refine s_idivc hX dX4_puts_11 (by decide) ?_
    refine s_istore (i := 4) (L2 := [(4, .int (v1 / 6)), (0, rv p0), (1, .int p1), (2, .int p2), (3, .int p3)]) hX dX4_puts_12 (by decide) rfl ?_
    refine s_iload_n hX dX4_puts_14 rfl 2 rfl ?_
    refine s_aload_n hX dX4_puts_15 rfl 1 rfl ?_
    refine s_getR (ci := 4) (j := 26) (ref := "WindGasModel") hX (pcG 4) in_X4 (Or.inl q1564) (by decide) (by decide) (by decide) rfl dX4_puts_16 (fun _ h9 => h9) (fun v2 => ?_)
    refine s_iload_n hX dX4_puts_19 rfl 2 rfl ?_
    refine s_iald hX (pcA 0) dX4_puts_20 (fun v3 => ?_)
    refine s_aload_n hX dX4_puts_21 rfl 1 rfl ?_
    refine s_getR (ci := 4) (j := 25) (ref := "WindGasModel") hX (pcG 4) in_X4 (Or.inl q1563) (by decide) (by decide) (by decide) rfl dX4_puts_22 (fun _ h9 => h9) (fun v4 => ?_)
    refine s_iload_n hX dX4_puts_25 rfl 2 rfl ?_
    refine s_iald hX (pcA 0) dX4_puts_26 (fun v5 => ?_)
    refine s_iadd hX dX4_puts_27 ?_
    refine s_iconst (v := 1) hX dX4_puts_28 rfl ?_
    refine s_isub hX dX4_puts_29 ?_
    refine s_callS_I (n := 2) (As := [.int p1, .int ((v3 + v5) - 1)]) (st := []) hX (ct_X4_place X.l p1 ((v3 + v5) - 1)) q1881 q1882 q91 q1883 ycX4_place (by decide) rfl (by first | decide | simp [rv_cat, cat_i, cat_l]) dX4_puts_30 (fun v6 => ?_)
    refine s_istore (i := 5) (L2 := [(5, .int v6), (4, .int (v1 / 6)), (0, rv p0), (1, .int p1), (2, .int p2), (3, .int p3)]) hX dX4_puts_33 (by decide) rfl ?_
    refine s_aload_n hX dX4_puts_35 rfl 2 rfl ?_
    refine s_getR (ci := 4) (j := 25) (ref := "WindGasModel") hX (pcG 4) in_X4 (Or.inl q1563) (by decide) (by decide) (by decide) rfl dX4_puts_36 (fun _ h9 => h9) (fun v7 => ?_)
    refine s_iload_n hX dX4_puts_39 rfl 3 rfl ?_
    refine s_iald hX (pcA 0) dX4_puts_40 (fun v8 => ?_)
    refine s_jn (P := fun j => ∀ (v9 : Int32), Sim X cvU 112 [(0, rv p0), (1, .int p1), (2, .int p2), (3, .int p3), (5, .int v9)] [] (j v9)) ?_ (fun j112 hj112 => ?_)
    · intro v9
      refine s_aload_n hX dX4_puts_112 rfl 0 rfl ?_
      refine s_getR (ci := 4) (j := 30) (ref := "WindGasModel") hX (pcG 4) in_X4 (Or.inl q1568) (by decide) (by decide) (by decide) rfl dX4_puts_113 (fun _ h9 => h9) (fun v10 => ?_)
      refine s_iload hX dX4_puts_116 4 rfl ?_
      refine s_dup2 hX dX4_puts_118 rfl (rv_cat _) ?_
      refine s_iald hX (pcA 0) dX4_puts_119 (fun v11 => ?_)
      refine s_iload_n hX dX4_puts_120 rfl 2 rfl ?_
      refine s_iadd hX dX4_puts_121 ?_
      refine s_iast hX (pcA 0) (pcB 0) dX4_puts_122 ?_
      refine s_aload_n hX dX4_puts_123 rfl 0 rfl ?_
      refine s_getR (ci := 4) (j := 31) (ref := "WindGasModel") hX (pcG 4) in_X4 (Or.inl q1569) (by decide) (by decide) (by decide) rfl dX4_puts_124 (fun _ h9 => h9) (fun v12 => ?_)
      refine s_iload hX dX4_puts_127 4 rfl ?_
      refine s_dup2 hX dX4_puts_129 rfl (rv_cat _) ?_
      refine s_iald hX (pcA 0) dX4_puts_130 (fun v13 => ?_)
      refine s_iload_n hX dX4_puts_131 rfl 3 rfl ?_
      refine s_iadd hX dX4_puts_132 ?_
      refine s_iast hX (pcA 0) (pcB 0) dX4_puts_133 ?_
      refine s_aload_n hX dX4_puts_134 rfl 0 rfl ?_
      refine s_getR (ci := 4) (j := 23) (ref := "WindGasModel") hX (pcG 4) in_X4 (Or.inl q1561) (by decide) (by decide) (by decide) rfl dX4_puts_135 (fun _ h9 => h9) (fun v14 => ?_)
      refine s_iload_n hX dX4_puts_138 rfl 1 rfl ?_
      refine s_dup2 hX dX4_puts_139 rfl (rv_cat _) ?_
      refine s_iald hX (pcA 0) dX4_puts_140 (fun v15 => ?_)
      refine s_iload_n hX dX4_puts_141 rfl 2 rfl ?_
      refine s_iadd hX dX4_puts_142 ?_
      refine s_iast hX (pcA 0) (pcB 0) dX4_puts_143 ?_
      refine s_aload_n hX dX4_puts_144 rfl 0 rfl ?_
      refine s_getR (ci := 4) (j := 24) (ref := "WindGasModel") hX (pcG 4) in_X4 (Or.inl q1562) (by decide) (by decide) (by decide) rfl dX4_puts_145 (fun _ h9 => h9) (fun v16 => ?_)
      refine s_iload_n hX dX4_puts_148 rfl 1 rfl ?_
      refine s_dup2 hX dX4_puts_149 rfl (rv_cat _) ?_
      refine s_iald hX (pcA 0) dX4_puts_150 (fun v17 => ?_)
      refine s_iload_n hX dX4_puts_151 rfl 3 rfl ?_
      refine s_iadd hX dX4_puts_152 ?_
      refine s_iast hX (pcA 0) (pcB 0) dX4_puts_153 ?_
      exact s_vret hX dX4_puts_154
    · refine s_jn (P := fun j => ∀ (u : Unit), Sim X cvU 56 [(0, rv p0), (1, .int p1), (2, .int p2), (3, .int p3), (4, .int (v1 / 6))] [] (j u)) ?_ (fun j56 hj56 => ?_)
      · intro u
        refine s_aload_n hX dX4_puts_56 rfl 0 rfl ?_
        refine s_getR (ci := 4) (j := 25) (ref := "WindGasModel") hX (pcG 4) in_X4 (Or.inl q1563) (by decide) (by decide) (by decide) rfl dX4_puts_57 (fun _ h9 => h9) (fun v18 => ?_)
        refine s_iload_n hX dX4_puts_60 rfl 1 rfl ?_
        refine s_dup2 hX dX4_puts_61 rfl (rv_cat _) ?_
        refine s_iald hX (pcA 0) dX4_puts_62 (fun v19 => ?_)
        refine s_iconst (v := 1) hX dX4_puts_63 rfl ?_
        refine s_iadd hX dX4_puts_64 ?_
        refine s_iast hX (pcA 0) (pcB 0) dX4_puts_65 ?_
        refine s_iload_n hX dX4_puts_66 rfl 1 rfl ?_
        refine s_aload_n hX dX4_puts_67 rfl 0 rfl ?_
        refine s_getR (ci := 4) (j := 26) (ref := "WindGasModel") hX (pcG 4) in_X4 (Or.inl q1564) (by decide) (by decide) (by decide) rfl dX4_puts_68 (fun _ h9 => h9) (fun v20 => ?_)
        refine s_iload_n hX dX4_puts_71 rfl 1 rfl ?_
        refine s_iald hX (pcA 0) dX4_puts_72 (fun v21 => ?_)
        refine s_aload_n hX dX4_puts_73 rfl 0 rfl ?_
        refine s_getR (ci := 4) (j := 25) (ref := "WindGasModel") hX (pcG 4) in_X4 (Or.inl q1563) (by decide) (by decide) (by decide) rfl dX4_puts_74 (fun _ h9 => h9) (fun v22 => ?_)
        refine s_iload_n hX dX4_puts_77 rfl 1 rfl ?_
        refine s_iald hX (pcA 0) dX4_puts_78 (fun v23 => ?_)
        refine s_iadd hX dX4_puts_79 ?_
        refine s_iconst (v := 1) hX dX4_puts_80 rfl ?_
        refine s_isub hX dX4_puts_81 ?_
        refine s_callS_I (n := 2) (As := [.int p1, .int ((v21 + v23) - 1)]) (st := []) hX (ct_X4_place X.l p1 ((v21 + v23) - 1)) q1881 q1882 q91 q1883 ycX4_place (by decide) rfl (by first | decide | simp [rv_cat, cat_i, cat_l]) dX4_puts_82 (fun v24 => ?_)
        refine s_istore (i := 5) (L2 := [(5, .int v24), (0, rv p0), (1, .int p1), (2, .int p2), (3, .int p3), (4, .int (v1 / 6))]) hX dX4_puts_85 (by decide) rfl ?_
        refine s_aload_n hX dX4_puts_87 rfl 1 rfl ?_
        refine s_getR (ci := 4) (j := 29) (ref := "WindGasModel") hX (pcG 4) in_X4 (Or.inl q1567) (by decide) (by decide) (by decide) rfl dX4_puts_88 (fun _ h9 => h9) (fun v25 => ?_)
        refine s_iload hX dX4_puts_91 0 rfl ?_
        refine s_iload hX dX4_puts_93 5 rfl ?_
        refine s_iast hX (pcA 0) (pcB 0) dX4_puts_95 ?_
        refine s_aload_n hX dX4_puts_96 rfl 1 rfl ?_
        refine s_getR (ci := 4) (j := 30) (ref := "WindGasModel") hX (pcG 4) in_X4 (Or.inl q1568) (by decide) (by decide) (by decide) rfl dX4_puts_97 (fun _ h9 => h9) (fun v26 => ?_)
        refine s_iload hX dX4_puts_100 0 rfl ?_
        refine s_iconst (v := 0) hX dX4_puts_102 rfl ?_
        refine s_iast hX (pcA 0) (pcB 0) dX4_puts_103 ?_
        refine s_aload_n hX dX4_puts_104 rfl 1 rfl ?_
        refine s_getR (ci := 4) (j := 31) (ref := "WindGasModel") hX (pcG 4) in_X4 (Or.inl q1569) (by decide) (by decide) (by decide) rfl dX4_puts_105 (fun _ h9 => h9) (fun v27 => ?_)
        refine s_iload hX dX4_puts_108 0 rfl ?_
        refine s_iconst (v := 0) hX dX4_puts_110 rfl ?_
        refine s_iast hX (pcA 0) (pcB 0) dX4_puts_111 ?_
        exact s_sub [1, 2, 3, 4, 0] rfl (hj112 v24)
      · refine s_if_eq (tgt := 56) hX dX4_puts_41 (by decide) ?_ ?_
        · exact s_sub [2, 3, 4, 5, 1] rfl (hj56 ())
        · refine s_aload_n hX dX4_puts_44 rfl 2 rfl ?_
          refine s_getR (ci := 4) (j := 29) (ref := "WindGasModel") hX (pcG 4) in_X4 (Or.inl q1567) (by decide) (by decide) (by decide) rfl dX4_puts_45 (fun _ h9 => h9) (fun v28 => ?_)
          refine s_iload hX dX4_puts_48 0 rfl ?_
          refine s_iald hX (pcA 0) dX4_puts_50 (fun v29 => ?_)
          refine s_iload hX dX4_puts_51 1 rfl ?_
          refine s_icmp_eq (tgt := 112) hX dX4_puts_53 (by decide) ?_ ?_
          · exact s_sub [2, 3, 4, 5, 0] rfl (hj112 v6)
          · exact s_sub [2, 3, 4, 5, 1] rfl (hj56 ())
  · exact s_vret hX dX4_puts_4
theorem dX4_stores_0 : decode cX4_stores 0 = .ok (.aload_n 0, 1) := by decide +kernel
theorem dX4_stores_1 : decode cX4_stores 1 = .ok (.getfield 276, 3) := by decide +kernel
theorem dX4_stores_4 : decode cX4_stores 4 = .ok (.aload_n 0, 1) := by decide +kernel
theorem dX4_stores_5 : decode cX4_stores 5 = .ok (.getfield 54, 3) := by decide +kernel
theorem dX4_stores_8 : decode cX4_stores 8 = .ok (.iconst 0, 1) := by decide +kernel
theorem dX4_stores_9 : decode cX4_stores 9 = .ok (.iaload, 1) := by decide +kernel
theorem dX4_stores_10 : decode cX4_stores 10 = .ok (.aload_n 0, 1) := by decide +kernel
theorem dX4_stores_11 : decode cX4_stores 11 = .ok (.getfield 63, 3) := by decide +kernel
theorem dX4_stores_14 : decode cX4_stores 14 = .ok (.iconst 0, 1) := by decide +kernel
theorem dX4_stores_15 : decode cX4_stores 15 = .ok (.iaload, 1) := by decide +kernel
theorem dX4_stores_16 : decode cX4_stores 16 = .ok (.isub, 1) := by decide +kernel
theorem dX4_stores_17 : decode cX4_stores 17 = .ok (.invokestatic 235, 3) := by decide +kernel
theorem dX4_stores_20 : decode cX4_stores 20 = .ok (.istore_n 1, 1) := by decide +kernel
theorem dX4_stores_21 : decode cX4_stores 21 = .ok (.iload_n 1, 1) := by decide +kernel
theorem dX4_stores_22 : decode cX4_stores 22 = .ok (.ifCond .ne 7, 3) := by decide +kernel
theorem dX4_stores_25 : decode cX4_stores 25 = .ok (.iconst 0, 1) := by decide +kernel
theorem dX4_stores_26 : decode cX4_stores 26 = .ok (.goto 18, 3) := by decide +kernel
theorem dX4_stores_29 : decode cX4_stores 29 = .ok (.aload_n 0, 1) := by decide +kernel
theorem dX4_stores_30 : decode cX4_stores 30 = .ok (.getfield 279, 3) := by decide +kernel
theorem dX4_stores_33 : decode cX4_stores 33 = .ok (.i2l, 1) := by decide +kernel
theorem dX4_stores_34 : decode cX4_stores 34 = .ok (.iload_n 1, 1) := by decide +kernel
theorem dX4_stores_35 : decode cX4_stores 35 = .ok (.i2l, 1) := by decide +kernel
theorem dX4_stores_36 : decode cX4_stores 36 = .ok (.lmul, 1) := by decide +kernel
theorem dX4_stores_37 : decode cX4_stores 37 = .ok (.aload_n 0, 1) := by decide +kernel
theorem dX4_stores_38 : decode cX4_stores 38 = .ok (.getfield 276, 3) := by decide +kernel
theorem dX4_stores_41 : decode cX4_stores 41 = .ok (.i2l, 1) := by decide +kernel
theorem dX4_stores_42 : decode cX4_stores 42 = .ok (.ldiv, 1) := by decide +kernel
theorem dX4_stores_43 : decode cX4_stores 43 = .ok (.l2i, 1) := by decide +kernel
theorem dX4_stores_44 : decode cX4_stores 44 = .ok (.istore_n 2, 1) := by decide +kernel
theorem dX4_stores_45 : decode cX4_stores 45 = .ok (.aload_n 0, 1) := by decide +kernel
theorem dX4_stores_46 : decode cX4_stores 46 = .ok (.iconst 0, 1) := by decide +kernel
theorem dX4_stores_47 : decode cX4_stores 47 = .ok (.iload_n 1, 1) := by decide +kernel
theorem dX4_stores_48 : decode cX4_stores 48 = .ok (.iload_n 2, 1) := by decide +kernel
theorem dX4_stores_49 : decode cX4_stores 49 = .ok (.invokevirtual 308, 3) := by decide +kernel
theorem dX4_stores_52 : decode cX4_stores 52 = .ok (.aload_n 0, 1) := by decide +kernel
theorem dX4_stores_53 : decode cX4_stores 53 = .ok (.getfield 276, 3) := by decide +kernel
theorem dX4_stores_56 : decode cX4_stores 56 = .ok (.iload_n 1, 1) := by decide +kernel
theorem dX4_stores_57 : decode cX4_stores 57 = .ok (.isub, 1) := by decide +kernel
theorem dX4_stores_58 : decode cX4_stores 58 = .ok (.istore_n 3, 1) := by decide +kernel
theorem dX4_stores_59 : decode cX4_stores 59 = .ok (.aload_n 0, 1) := by decide +kernel
theorem dX4_stores_60 : decode cX4_stores 60 = .ok (.getfield 279, 3) := by decide +kernel
theorem dX4_stores_63 : decode cX4_stores 63 = .ok (.iload_n 2, 1) := by decide +kernel
theorem dX4_stores_64 : decode cX4_stores 64 = .ok (.isub, 1) := by decide +kernel
theorem dX4_stores_65 : decode cX4_stores 65 = .ok (.istore 4, 2) := by decide +kernel
theorem dX4_stores_67 : decode cX4_stores 67 = .ok (.iload_n 3, 1) := by decide +kernel
theorem dX4_stores_68 : decode cX4_stores 68 = .ok (.aload_n 0, 1) := by decide +kernel
theorem dX4_stores_69 : decode cX4_stores 69 = .ok (.getfield 54, 3) := by decide +kernel
theorem dX4_stores_72 : decode cX4_stores 72 = .ok (.iconst 1, 1) := by decide +kernel
theorem dX4_stores_73 : decode cX4_stores 73 = .ok (.iaload, 1) := by decide +kernel
theorem dX4_stores_74 : decode cX4_stores 74 = .ok (.aload_n 0, 1) := by decide +kernel
theorem dX4_stores_75 : decode cX4_stores 75 = .ok (.getfield 63, 3) := by decide +kernel
theorem dX4_stores_78 : decode cX4_stores 78 = .ok (.iconst 1, 1) := by decide +kernel
theorem dX4_stores_79 : decode cX4_stores 79 = .ok (.iaload, 1) := by decide +kernel
theorem dX4_stores_80 : decode cX4_stores 80 = .ok (.isub, 1) := by decide +kernel
theorem dX4_stores_81 : decode cX4_stores 81 = .ok (.aload_n 0, 1) := by decide +kernel
theorem dX4_stores_82 : decode cX4_stores 82 = .ok (.getfield 60, 3) := by decide +kernel
theorem dX4_stores_85 : decode cX4_stores 85 = .ok (.iconst 1, 1) := by decide +kernel
theorem dX4_stores_86 : decode cX4_stores 86 = .ok (.iaload, 1) := by decide +kernel
theorem dX4_stores_87 : decode cX4_stores 87 = .ok (.invokestatic 235, 3) := by decide +kernel
theorem dX4_stores_90 : decode cX4_stores 90 = .ok (.invokestatic 235, 3) := by decide +kernel
theorem dX4_stores_93 : decode cX4_stores 93 = .ok (.istore 5, 2) := by decide +kernel
theorem dX4_stores_95 : decode cX4_stores 95 = .ok (.aload_n 0, 1) := by decide +kernel
theorem dX4_stores_96 : decode cX4_stores 96 = .ok (.iconst 1, 1) := by decide +kernel
theorem dX4_stores_97 : decode cX4_stores 97 = .ok (.iload 5, 2) := by decide +kernel
theorem dX4_stores_99 : decode cX4_stores 99 = .ok (.iload 5, 2) := by decide +kernel
theorem dX4_stores_101 : decode cX4_stores 101 = .ok (.ifCond .ne 7, 3) := by decide +kernel
theorem dX4_stores_104 : decode cX4_stores 104 = .ok (.iconst 0, 1) := by decide +kernel
theorem dX4_stores_105 : decode cX4_stores 105 = .ok (.goto 14, 3) := by decide +kernel
theorem dX4_stores_108 : decode cX4_stores 108 = .ok (.iload 4, 2) := by decide +kernel
theorem dX4_stores_110 : decode cX4_stores 110 = .ok (.i2l, 1) := by decide +kernel
theorem dX4_stores_111 : decode cX4_stores 111 = .ok (.iload 5, 2) := by decide +kernel
theorem dX4_stores_113 : decode cX4_stores 113 = .ok (.i2l, 1) := by decide +kernel
theorem dX4_stores_114 : decode cX4_stores 114 = .ok (.lmul, 1) := by decide +kernel
theorem dX4_stores_115 : decode cX4_stores 115 = .ok (.iload_n 3, 1) := by decide +kernel
theorem dX4_stores_116 : decode cX4_stores 116 = .ok (.i2l, 1) := by decide +kernel
theorem dX4_stores_117 : decode cX4_stores 117 = .ok (.ldiv, 1) := by decide +kernel
theorem dX4_stores_118 : decode cX4_stores 118 = .ok (.l2i, 1) := by decide +kernel
theorem dX4_stores_119 : decode cX4_stores 119 = .ok (.invokevirtual 308, 3) := by decide +kernel
theorem dX4_stores_122 : decode cX4_stores 122 = .ok (.aload_n 0, 1) := by decide +kernel
theorem dX4_stores_123 : decode cX4_stores 123 = .ok (.getfield 51, 3) := by decide +kernel
theorem dX4_stores_126 : decode cX4_stores 126 = .ok (.iconst 5, 1) := by decide +kernel
theorem dX4_stores_127 : decode cX4_stores 127 = .ok (.dup2, 1) := by decide +kernel
theorem dX4_stores_128 : decode cX4_stores 128 = .ok (.laload, 1) := by decide +kernel
theorem dX4_stores_129 : decode cX4_stores 129 = .ok (.iload_n 3, 1) := by decide +kernel
theorem dX4_stores_130 : decode cX4_stores 130 = .ok (.iload 5, 2) := by decide +kernel
theorem dX4_stores_132 : decode cX4_stores 132 = .ok (.isub, 1) := by decide +kernel
theorem dX4_stores_133 : decode cX4_stores 133 = .ok (.i2l, 1) := by decide +kernel
theorem dX4_stores_134 : decode cX4_stores 134 = .ok (.ladd, 1) := by decide +kernel
theorem dX4_stores_135 : decode cX4_stores 135 = .ok (.lastore, 1) := by decide +kernel
theorem dX4_stores_136 : decode cX4_stores 136 = .ok (.return_, 1) := by decide +kernel
theorem ycX4_stores : yX4_stores.cls ≠ "java/lang/invoke/MethodHandle" ∧ yX4_stores.cls ≠ "java/lang/invoke/VarHandle" ∧ (parseMethodDescriptor yX4_stores.desc).map (fun d => d.parameters.length) = some 0 := by decide +kernel
theorem yvX4_stores : yX4_stores.cls = RR 4 ∧ yX4_stores.cls ≠ "java/lang/invoke/MethodHandle" ∧ yX4_stores.cls ≠ "java/lang/invoke/VarHandle" ∧ (parseMethodDescriptor yX4_stores.desc).map (fun d => d.parameters.length) = some 0 := ⟨rfl, ycX4_stores⟩
def f_X4_stores (p0 : Nat) : Act Unit :=
  bnd (getI 4 44 p0) fun v1 =>
  bnd (getR 4 20 p0) fun v2 =>
  bnd (ldI 0 v2 0) fun v3 =>
  bnd (getR 4 23 p0) fun v4 =>
  bnd (ldI 0 v4 0) fun v5 =>
  jn (fun (v6 : Int32) =>
    bnd (gd 4 p0 (nt (f_X4_puts p0 (0 : Int32) (mn v1 (v3 - v5)) v6))) fun _ =>
    bnd (getI 4 44 p0) fun v7 =>
    bnd (getI 4 45 p0) fun v8 =>
    bnd (getR 4 20 p0) fun v9 =>
    bnd (ldI 0 v9 1) fun v10 =>
    bnd (getR 4 23 p0) fun v11 =>
    bnd (ldI 0 v11 1) fun v12 =>
    bnd (getR 4 22 p0) fun v13 =>
    bnd (ldI 0 v13 1) fun v14 =>
    jn (fun (v15 : Int32) =>
      bnd (gd 4 p0 (nt (f_X4_puts p0 (1 : Int32) (mn (v7 - (mn v1 (v3 - v5))) (mn (v10 - v12) v14)) v15))) fun _ =>
      bnd (getR 4 17 p0) fun v16 =>
      bnd (ldL 1 v16 5) fun v17 =>
      bnd (stL 1 v16 5 (v17 + (((v7 - (mn v1 (v3 - v5))) - (mn (v7 - (mn v1 (v3 - v5))) (mn (v10 - v12) v14))).toInt64))) fun _ =>
      pur ()) fun j119 =>
    if ¬ (mn (v7 - (mn v1 (v3 - v5))) (mn (v10 - v12) v14)) = 0 then
      nzl ((v7 - (mn v1 (v3 - v5))).toInt64) <|
      j119 (((((v8 - v6).toInt64) * ((mn (v7 - (mn v1 (v3 - v5))) (mn (v10 - v12) v14)).toInt64)) / ((v7 - (mn v1 (v3 - v5))).toInt64)).toInt32)
    else
      j119 0) fun j44 =>
  if ¬ (mn v1 (v3 - v5)) = 0 then
    bnd (getI 4 45 p0) fun v18 =>
    bnd (getI 4 44 p0) fun v19 =>
    nzl v19.toInt64 <|
    j44 (((v18.toInt64 * ((mn v1 (v3 - v5)).toInt64)) / v19.toInt64).toInt32)
  else
    j44 0
set_option maxHeartbeats 4000000 in
theorem ct_X4_stores (l : Launch) (p0 : Nat) : Ct l Pic yX4_stores (ws_ yX4_stores cX4_stores 6 none) 2 46 cvU [rv p0] (f_X4_stores p0) := by
  refine Ct.of (own := RX4) (L := [(0, rv p0)]) (plainFor_of_name (by decide)) rfl (by first | decide | simp [lg_sl, rv_cat, cat_i, cat_l]) (by first | rfl | simp [lv_args, rv_cat, cat_i, cat_l]) pcZ (fun X hXl hX hnh hin => ?_)
  subst hXl
  unfold f_X4_stores
  refine s_aload_n hX dX4_stores_0 rfl 0 rfl ?_
  refine s_getI (ci := 4) (j := 44) (ref := "WindGasModel") hX (pcG 4) in_X4 (Or.inl q1582) (by decide) (by decide) (by decide) rfl dX4_stores_1 (fun _ h9 => h9) (fun v1 => ?_)
  refine s_aload_n hX dX4_stores_4 rfl 0 rfl ?_
  refine s_getR (ci := 4) (j := 20) (ref := "WindGasModel") hX (pcG 4) in_X4 (Or.inl q1558) (by decide) (by decide) (by decide) rfl dX4_stores_5 (fun _ h9 => h9) (fun v2 => ?_)
  refine s_iconst (v := 0) hX dX4_stores_8 rfl ?_
  refine s_iald hX (pcA 0) dX4_stores_9 (fun v3 => ?_)
  refine s_aload_n hX dX4_stores_10 rfl 0 rfl ?_
  refine s_getR (ci := 4) (j := 23) (ref := "WindGasModel") hX (pcG 4) in_X4 (Or.inl q1561) (by decide) (by decide) (by decide) rfl dX4_stores_11 (fun _ h9 => h9) (fun v4 => ?_)
  refine s_iconst (v := 0) hX dX4_stores_14 rfl ?_
  refine s_iald hX (pcA 0) dX4_stores_15 (fun v5 => ?_)
  refine s_isub hX dX4_stores_16 ?_
  refine s_mmin hX q1848 q500 q95 q501 rfl (by omega) (by first | decide | (simp [rv_cat, cat_i, cat_l]; try omega)) dX4_stores_17 ?_
  refine s_istore_n (i := 1) (L2 := [(1, .int (mn v1 (v3 - v5))), (0, rv p0)]) hX dX4_stores_20 rfl (by decide) (by first | (simp [rv_cat, cat_i, cat_l]; done) | (simp [rv_cat, cat_i, cat_l]; decide)) ?_
  refine s_iload_n hX dX4_stores_21 rfl 0 rfl ?_
  refine s_jn (P := fun j => ∀ (v6 : Int32), Sim X cvU 44 [(0, rv p0), (1, .int (mn v1 (v3 - v5)))] [.int v6] (j v6)) ?_ (fun j44 hj44 => ?_)
  · intro v6
    refine s_istore_n (i := 2) (L2 := [(2, .int v6), (0, rv p0), (1, .int (mn v1 (v3 - v5)))]) hX dX4_stores_44 rfl (by decide) rfl ?_
    refine s_aload_n hX dX4_stores_45 rfl 1 rfl ?_
    refine s_iconst (v := 0) hX dX4_stores_46 rfl ?_
    refine s_iload_n hX dX4_stores_47 rfl 2 rfl ?_
    refine s_iload_n hX dX4_stores_48 rfl 0 rfl ?_
    refine s_callV_U (ci := 4) (n := 3) (As := [.int 0, .int (mn v1 (v3 - v5)), .int v6]) (st := []) hX (pcK 5) (by decide) (ct_X4_puts X.l p0 (0 : Int32) (mn v1 (v3 - v5)) v6) q1877 q1879 qs55 q91 q1880 yvX4_puts (by decide) rfl (by first | decide | simp [rv_cat, cat_i, cat_l]) dX4_stores_49 (fun _ => ?_)
    refine s_aload_n hX dX4_stores_52 rfl 1 rfl ?_
    refine s_getI (ci := 4) (j := 44) (ref := "WindGasModel") hX (pcG 4) in_X4 (Or.inl q1582) (by decide) (by decide) (by decide) rfl dX4_stores_53 (fun _ h9 => h9) (fun v7 => ?_)
    refine s_iload_n hX dX4_stores_56 rfl 2 rfl ?_
    refine s_isub hX dX4_stores_57 ?_
    refine s_istore_n (i := 3) (L2 := [(3, .int (v7 - (mn v1 (v3 - v5)))), (2, .int v6), (0, rv p0), (1, .int (mn v1 (v3 - v5)))]) hX dX4_stores_58 rfl (by decide) rfl ?_
    refine s_aload_n hX dX4_stores_59 rfl 2 rfl ?_
    refine s_getI (ci := 4) (j := 45) (ref := "WindGasModel") hX (pcG 4) in_X4 (Or.inl q1583) (by decide) (by decide) (by decide) rfl dX4_stores_60 (fun _ h9 => h9) (fun v8 => ?_)
    refine s_iload_n hX dX4_stores_63 rfl 1 rfl ?_
    refine s_isub hX dX4_stores_64 ?_
    refine s_istore (i := 4) (L2 := [(4, .int (v8 - v6)), (3, .int (v7 - (mn v1 (v3 - v5)))), (2, .int v6), (0, rv p0), (1, .int (mn v1 (v3 - v5)))]) hX dX4_stores_65 (by decide) rfl ?_
    refine s_iload_n hX dX4_stores_67 rfl 1 rfl ?_
    refine s_aload_n hX dX4_stores_68 rfl 3 rfl ?_
    refine s_getR (ci := 4) (j := 20) (ref := "WindGasModel") hX (pcG 4) in_X4 (Or.inl q1558) (by decide) (by decide) (by decide) rfl dX4_stores_69 (fun _ h9 => h9) (fun v9 => ?_)
    refine s_iconst (v := 1) hX dX4_stores_72 rfl ?_
    refine s_iald hX (pcA 0) dX4_stores_73 (fun v10 => ?_)
    refine s_aload_n hX dX4_stores_74 rfl 3 rfl ?_
    refine s_getR (ci := 4) (j := 23) (ref := "WindGasModel") hX (pcG 4) in_X4 (Or.inl q1561) (by decide) (by decide) (by decide) rfl dX4_stores_75 (fun _ h9 => h9) (fun v11 => ?_)
    refine s_iconst (v := 1) hX dX4_stores_78 rfl ?_
    refine s_iald hX (pcA 0) dX4_stores_79 (fun v12 => ?_)
    refine s_isub hX dX4_stores_80 ?_
    refine s_aload_n hX dX4_stores_81 rfl 3 rfl ?_
    refine s_getR (ci := 4) (j := 22) (ref := "WindGasModel") hX (pcG 4) in_X4 (Or.inl q1560) (by decide) (by decide) (by decide) rfl dX4_stores_82 (fun _ h9 => h9) (fun v13 => ?_)
    refine s_iconst (v := 1) hX dX4_stores_85 rfl ?_
    refine s_iald hX (pcA 0) dX4_stores_86 (fun v14 => ?_)
    refine s_mmin hX q1848 q500 q95 q501 rfl (by omega) (by first | decide | (simp [rv_cat, cat_i, cat_l]; try omega)) dX4_stores_87 ?_
    refine s_mmin hX q1848 q500 q95 q501 rfl (by omega) (by first | decide | (simp [rv_cat, cat_i, cat_l]; try omega)) dX4_stores_90 ?_
    refine s_istore (i := 5) (L2 := [(5, .int (mn (v7 - (mn v1 (v3 - v5))) (mn (v10 - v12) v14))), (4, .int (v8 - v6)), (3, .int (v7 - (mn v1 (v3 - v5)))), (2, .int v6), (0, rv p0), (1, .int (mn v1 (v3 - v5)))]) hX dX4_stores_93 (by decide) rfl ?_
    refine s_aload_n hX dX4_stores_95 rfl 4 rfl ?_
    refine s_iconst (v := 1) hX dX4_stores_96 rfl ?_
    refine s_iload hX dX4_stores_97 0 rfl ?_
    refine s_iload hX dX4_stores_99 0 rfl ?_
    refine s_jn (P := fun j => ∀ (v15 : Int32), Sim X cvU 119 [(0, rv p0), (3, .int (v7 - (mn v1 (v3 - v5)))), (5, .int (mn (v7 - (mn v1 (v3 - v5))) (mn (v10 - v12) v14)))] [.int v15, .int (mn (v7 - (mn v1 (v3 - v5))) (mn (v10 - v12) v14)), .int 1, rv p0] (j v15)) ?_ (fun j119 hj119 => ?_)
    · intro v15
      refine s_callV_U (ci := 4) (n := 3) (As := [.int 1, .int (mn (v7 - (mn v1 (v3 - v5))) (mn (v10 - v12) v14)), .int v15]) (st := []) hX (pcK 5) (by decide) (ct_X4_puts X.l p0 (1 : Int32) (mn (v7 - (mn v1 (v3 - v5))) (mn (v10 - v12) v14)) v15) q1877 q1879 qs55 q91 q1880 yvX4_puts (by decide) rfl (by first | decide | simp [rv_cat, cat_i, cat_l]) dX4_stores_119 (fun _ => ?_)
      refine s_aload_n hX dX4_stores_122 rfl 0 rfl ?_
      refine s_getR (ci := 4) (j := 17) (ref := "WindGasModel") hX (pcG 4) in_X4 (Or.inl q1555) (by decide) (by decide) (by decide) rfl dX4_stores_123 (fun _ h9 => h9) (fun v16 => ?_)
      refine s_iconst (v := 5) hX dX4_stores_126 rfl ?_
      refine s_dup2 hX dX4_stores_127 rfl (rv_cat _) ?_
      refine s_lald hX (pcA 1) dX4_stores_128 (fun v17 => ?_)
      refine s_iload_n hX dX4_stores_129 rfl 1 rfl ?_
      refine s_iload hX dX4_stores_130 2 rfl ?_
      refine s_isub hX dX4_stores_132 ?_
      refine s_i2l hX dX4_stores_133 ?_
      refine s_ladd hX dX4_stores_134 ?_
      refine s_last hX (pcA 1) (pcB 1) dX4_stores_135 ?_
      exact s_vret hX dX4_stores_136
    · refine s_if_ne (tgt := 108) hX dX4_stores_101 (by decide) ?_ ?_
      · refine s_iload hX dX4_stores_108 1 rfl ?_
        refine s_i2l hX dX4_stores_110 ?_
        refine s_iload hX dX4_stores_111 0 rfl ?_
        refine s_i2l hX dX4_stores_113 ?_
        refine s_lmul hX dX4_stores_114 ?_
        refine s_iload_n hX dX4_stores_115 rfl 2 rfl ?_
        refine s_i2l hX dX4_stores_116 ?_
        refine s_ldiv hX dX4_stores_117 ?_
        refine s_l2i hX dX4_stores_118 ?_
        exact s_sub [4, 2, 0] rfl (hj119 (((((v8 - v6).toInt64) * ((mn (v7 - (mn v1 (v3 - v5))) (mn (v10 - v12) v14)).toInt64)) / ((v7 - (mn v1 (v3 - v5))).toInt64)).toInt32))
      · refine s_iconst (v := 0) hX dX4_stores_104 rfl ?_
        refine s_goto (tgt := 119) hX dX4_stores_105 (by decide) ?_
        exact s_sub [4, 2, 0] rfl (hj119 0)
  · refine s_if_ne (tgt := 29) hX dX4_stores_22 (by decide) ?_ ?_
    · refine s_aload_n hX dX4_stores_29 rfl 1 rfl ?_
      refine s_getI (ci := 4) (j := 45) (ref := "WindGasModel") hX (pcG 4) in_X4 (Or.inl q1583) (by decide) (by decide) (by decide) rfl dX4_stores_30 (fun _ h9 => h9) (fun v18 => ?_)
      refine s_i2l hX dX4_stores_33 ?_
      refine s_iload_n hX dX4_stores_34 rfl 0 rfl ?_
      refine s_i2l hX dX4_stores_35 ?_
      refine s_lmul hX dX4_stores_36 ?_
      refine s_aload_n hX dX4_stores_37 rfl 1 rfl ?_
      refine s_getI (ci := 4) (j := 44) (ref := "WindGasModel") hX (pcG 4) in_X4 (Or.inl q1582) (by decide) (by decide) (by decide) rfl dX4_stores_38 (fun _ h9 => h9) (fun v19 => ?_)
      refine s_i2l hX dX4_stores_41 ?_
      refine s_ldiv hX dX4_stores_42 ?_
      refine s_l2i hX dX4_stores_43 ?_
      exact s_sub [1, 0] rfl (hj44 (((v18.toInt64 * ((mn v1 (v3 - v5)).toInt64)) / v19.toInt64).toInt32))
    · refine s_iconst (v := 0) hX dX4_stores_25 rfl ?_
      refine s_goto (tgt := 44) hX dX4_stores_26 (by decide) ?_
      exact s_sub [1, 0] rfl (hj44 0)
theorem dX4_part_0 : decode cX4_part 0 = .ok (.iload_n 1, 1) := by decide +kernel
theorem dX4_part_1 : decode cX4_part 1 = .ok (.iload_n 2, 1) := by decide +kernel
theorem dX4_part_2 : decode cX4_part 2 = .ok (.if_icmp .ne 7, 3) := by decide +kernel
theorem dX4_part_5 : decode cX4_part 5 = .ok (.iload_n 0, 1) := by decide +kernel
theorem dX4_part_6 : decode cX4_part 6 = .ok (.goto 12, 3) := by decide +kernel
theorem dX4_part_9 : decode cX4_part 9 = .ok (.iload_n 0, 1) := by decide +kernel
theorem dX4_part_10 : decode cX4_part 10 = .ok (.i2l, 1) := by decide +kernel
theorem dX4_part_11 : decode cX4_part 11 = .ok (.iload_n 1, 1) := by decide +kernel
theorem dX4_part_12 : decode cX4_part 12 = .ok (.i2l, 1) := by decide +kernel
theorem dX4_part_13 : decode cX4_part 13 = .ok (.lmul, 1) := by decide +kernel
theorem dX4_part_14 : decode cX4_part 14 = .ok (.iload_n 2, 1) := by decide +kernel
theorem dX4_part_15 : decode cX4_part 15 = .ok (.i2l, 1) := by decide +kernel
theorem dX4_part_16 : decode cX4_part 16 = .ok (.ldiv, 1) := by decide +kernel
theorem dX4_part_17 : decode cX4_part 17 = .ok (.l2i, 1) := by decide +kernel
theorem dX4_part_18 : decode cX4_part 18 = .ok (.ireturn, 1) := by decide +kernel
theorem ycX4_part : yX4_part.cls ≠ "java/lang/invoke/MethodHandle" ∧ yX4_part.cls ≠ "java/lang/invoke/VarHandle" ∧ (parseMethodDescriptor yX4_part.desc).map (fun d => d.parameters.length) = some 3 := by decide +kernel
def f_X4_part (p0 : Int32) (p1 : Int32) (p2 : Int32) : Act Int32 :=
  jn (fun (v1 : Int32) =>
    pur v1) fun j18 =>
  if ¬ p1 = p2 then
    nzl p2.toInt64 <|
    j18 (((p0.toInt64 * p1.toInt64) / p2.toInt64).toInt32)
  else
    j18 p0
set_option maxHeartbeats 4000000 in
theorem ct_X4_part (l : Launch) (p0 : Int32) (p1 : Int32) (p2 : Int32) : Ct l Pic yX4_part (ws_ yX4_part cX4_part 3 (some FieldType.int)) 0 0 cvI [.int p0, .int p1, .int p2] (f_X4_part p0 p1 p2) := by
  refine Ct.of (own := RX4) (L := [(0, .int p0), (1, .int p1), (2, .int p2)]) (plainFor_of_name (by decide)) rfl (by first | decide | simp [lg_sl, rv_cat, cat_i, cat_l]) (by first | rfl | simp [lv_args, rv_cat, cat_i, cat_l]) pcZ (fun X hXl hX hnh hin => ?_)
  subst hXl
  unfold f_X4_part
  refine s_iload_n hX dX4_part_0 rfl 1 rfl ?_
  refine s_iload_n hX dX4_part_1 rfl 2 rfl ?_
  refine s_jn (P := fun j => ∀ (v1 : Int32), Sim X cvI 18 [] [.int v1] (j v1)) ?_ (fun j18 hj18 => ?_)
  · intro v1
    exact s_iret hX dX4_part_18
  · refine s_icmp_ne (tgt := 9) hX dX4_part_2 (by decide) ?_ ?_
    · refine s_iload_n hX dX4_part_9 rfl 0 rfl ?_
      refine s_i2l hX dX4_part_10 ?_
      refine s_iload_n hX dX4_part_11 rfl 1 rfl ?_
      refine s_i2l hX dX4_part_12 ?_
      refine s_lmul hX dX4_part_13 ?_
      refine s_iload_n hX dX4_part_14 rfl 2 rfl ?_
      refine s_i2l hX dX4_part_15 ?_
      refine s_ldiv hX dX4_part_16 ?_
      refine s_l2i hX dX4_part_17 ?_
      exact s_sub [] rfl (hj18 (((p0.toInt64 * p1.toInt64) / p2.toInt64).toInt32))
    · refine s_iload_n hX dX4_part_5 rfl 0 rfl ?_
      refine s_goto (tgt := 18) hX dX4_part_6 (by decide) ?_
      exact s_sub [] rfl (hj18 p0)
theorem dX4_foulIn_0 : decode cX4_foulIn 0 = .ok (.iload_n 2, 1) := by decide +kernel
theorem dX4_foulIn_1 : decode cX4_foulIn 1 = .ok (.istore_n 3, 1) := by decide +kernel
theorem dX4_foulIn_2 : decode cX4_foulIn 2 = .ok (.iconst 0, 1) := by decide +kernel
theorem dX4_foulIn_3 : decode cX4_foulIn 3 = .ok (.istore 4, 2) := by decide +kernel
theorem dX4_foulIn_5 : decode cX4_foulIn 5 = .ok (.iconst 0, 1) := by decide +kernel
theorem dX4_foulIn_6 : decode cX4_foulIn 6 = .ok (.istore 5, 2) := by decide +kernel
theorem dX4_foulIn_8 : decode cX4_foulIn 8 = .ok (.iload_n 3, 1) := by decide +kernel
theorem dX4_foulIn_9 : decode cX4_foulIn 9 = .ok (.ifCond .le 66, 3) := by decide +kernel
theorem dX4_foulIn_12 : decode cX4_foulIn 12 = .ok (.iload_n 1, 1) := by decide +kernel
theorem dX4_foulIn_13 : decode cX4_foulIn 13 = .ok (.aload_n 0, 1) := by decide +kernel
theorem dX4_foulIn_14 : decode cX4_foulIn 14 = .ok (.getfield 72, 3) := by decide +kernel
theorem dX4_foulIn_17 : decode cX4_foulIn 17 = .ok (.iload_n 1, 1) := by decide +kernel
theorem dX4_foulIn_18 : decode cX4_foulIn 18 = .ok (.iaload, 1) := by decide +kernel
theorem dX4_foulIn_19 : decode cX4_foulIn 19 = .ok (.iload 5, 2) := by decide +kernel
theorem dX4_foulIn_21 : decode cX4_foulIn 21 = .ok (.iadd, 1) := by decide +kernel
theorem dX4_foulIn_22 : decode cX4_foulIn 22 = .ok (.invokestatic 232, 3) := by decide +kernel
theorem dX4_foulIn_25 : decode cX4_foulIn 25 = .ok (.istore 6, 2) := by decide +kernel
theorem dX4_foulIn_27 : decode cX4_foulIn 27 = .ok (.iload_n 3, 1) := by decide +kernel
theorem dX4_foulIn_28 : decode cX4_foulIn 28 = .ok (.aload_n 0, 1) := by decide +kernel
theorem dX4_foulIn_29 : decode cX4_foulIn 29 = .ok (.getfield 84, 3) := by decide +kernel
theorem dX4_foulIn_32 : decode cX4_foulIn 32 = .ok (.iload 6, 2) := by decide +kernel
theorem dX4_foulIn_34 : decode cX4_foulIn 34 = .ok (.iaload, 1) := by decide +kernel
theorem dX4_foulIn_35 : decode cX4_foulIn 35 = .ok (.invokestatic 235, 3) := by decide +kernel
theorem dX4_foulIn_38 : decode cX4_foulIn 38 = .ok (.istore 7, 2) := by decide +kernel
theorem dX4_foulIn_40 : decode cX4_foulIn 40 = .ok (.iload 4, 2) := by decide +kernel
theorem dX4_foulIn_42 : decode cX4_foulIn 42 = .ok (.aload_n 0, 1) := by decide +kernel
theorem dX4_foulIn_43 : decode cX4_foulIn 43 = .ok (.getfield 87, 3) := by decide +kernel
theorem dX4_foulIn_46 : decode cX4_foulIn 46 = .ok (.iload 6, 2) := by decide +kernel
theorem dX4_foulIn_48 : decode cX4_foulIn 48 = .ok (.iaload, 1) := by decide +kernel
theorem dX4_foulIn_49 : decode cX4_foulIn 49 = .ok (.iload 7, 2) := by decide +kernel
theorem dX4_foulIn_51 : decode cX4_foulIn 51 = .ok (.aload_n 0, 1) := by decide +kernel
theorem dX4_foulIn_52 : decode cX4_foulIn 52 = .ok (.getfield 84, 3) := by decide +kernel
theorem dX4_foulIn_55 : decode cX4_foulIn 55 = .ok (.iload 6, 2) := by decide +kernel
theorem dX4_foulIn_57 : decode cX4_foulIn 57 = .ok (.iaload, 1) := by decide +kernel
theorem dX4_foulIn_58 : decode cX4_foulIn 58 = .ok (.invokestatic 240, 3) := by decide +kernel
theorem dX4_foulIn_61 : decode cX4_foulIn 61 = .ok (.iadd, 1) := by decide +kernel
theorem dX4_foulIn_62 : decode cX4_foulIn 62 = .ok (.istore 4, 2) := by decide +kernel
theorem dX4_foulIn_64 : decode cX4_foulIn 64 = .ok (.iload_n 3, 1) := by decide +kernel
theorem dX4_foulIn_65 : decode cX4_foulIn 65 = .ok (.iload 7, 2) := by decide +kernel
theorem dX4_foulIn_67 : decode cX4_foulIn 67 = .ok (.isub, 1) := by decide +kernel
theorem dX4_foulIn_68 : decode cX4_foulIn 68 = .ok (.istore_n 3, 1) := by decide +kernel
theorem dX4_foulIn_69 : decode cX4_foulIn 69 = .ok (.iinc 5 1, 3) := by decide +kernel
theorem dX4_foulIn_72 : decode cX4_foulIn 72 = .ok (.goto (-64), 3) := by decide +kernel
theorem dX4_foulIn_75 : decode cX4_foulIn 75 = .ok (.iload 4, 2) := by decide +kernel
theorem dX4_foulIn_77 : decode cX4_foulIn 77 = .ok (.ireturn, 1) := by decide +kernel
theorem ycX4_foulIn : yX4_foulIn.cls ≠ "java/lang/invoke/MethodHandle" ∧ yX4_foulIn.cls ≠ "java/lang/invoke/VarHandle" ∧ (parseMethodDescriptor yX4_foulIn.desc).map (fun d => d.parameters.length) = some 2 := by decide +kernel
theorem yvX4_foulIn : yX4_foulIn.cls = RR 4 ∧ yX4_foulIn.cls ≠ "java/lang/invoke/MethodHandle" ∧ yX4_foulIn.cls ≠ "java/lang/invoke/VarHandle" ∧ (parseMethodDescriptor yX4_foulIn.desc).map (fun d => d.parameters.length) = some 2 := ⟨rfl, ycX4_foulIn⟩
def lp_X4_foulIn_8 (p0 : Nat) (p1 : Int32) (q : Nat) : Int32 → Int32 → Int32 → Act Int32 := match q with
  | 0 => fun _ _ _ => fail
  | q + 1 => fun w1 w2 w3 =>
    if w1 ≤ 0 then
      pur w2
    else
      bnd (getR 4 26 p0) fun v4 =>
      bnd (ldI 0 v4 p1) fun v5 =>
      bnd (nt (f_X4_place p1 (v5 + w3))) fun v6 =>
      bnd (getR 4 30 p0) fun v7 =>
      bnd (ldI 0 v7 v6) fun v8 =>
      bnd (getR 4 31 p0) fun v9 =>
      bnd (ldI 0 v9 v6) fun v10 =>
      bnd (getR 4 30 p0) fun v11 =>
      bnd (ldI 0 v11 v6) fun v12 =>
      bnd (nt (f_X4_part v10 (mn w1 v8) v12)) fun v13 =>
      (lp_X4_foulIn_8 p0 p1 q) (w1 - (mn w1 v8)) (w2 + v13) (w3 + 1)
def f_X4_foulIn (n : Nat) (p0 : Nat) (p1 : Int32) (p2 : Int32) : Act Int32 :=
  lp_X4_foulIn_8 p0 p1 n p2 0 0
set_option maxHeartbeats 4000000 in
theorem s_lp_X4_foulIn_8 {X : Cx} (hX : Ok X Pic cX4_foulIn RX4 8 (some FieldType.int) 1 24) (hnh : Noh X) (p0 : Nat) (p1 : Int32) (q : Nat) : ∀ (w1 : Int32) (w2 : Int32) (w3 : Int32), Sim X cvI 8 [(0, rv p0), (1, .int p1), (3, .int w1), (4, .int w2), (5, .int w3)] [] (lp_X4_foulIn_8 p0 p1 q w1 w2 w3) := by
  induction q with
  | zero => intro w1 w2 w3; exact s_fail
  | succ q ih8 =>
    intro w1 w2 w3
    rw [lp_X4_foulIn_8]
    refine s_iload_n hX dX4_foulIn_8 rfl 2 rfl ?_
    refine s_if_le (tgt := 75) hX dX4_foulIn_9 (by decide) ?_ ?_
    · refine s_iload hX dX4_foulIn_75 3 rfl ?_
      exact s_iret hX dX4_foulIn_77
    · refine s_iload_n hX dX4_foulIn_12 rfl 1 rfl ?_
      refine s_aload_n hX dX4_foulIn_13 rfl 0 rfl ?_
      refine s_getR (ci := 4) (j := 26) (ref := "WindGasModel") hX (pcG 4) in_X4 (Or.inl q1564) (by decide) (by decide) (by decide) rfl dX4_foulIn_14 (fun _ h9 => h9) (fun v4 => ?_)
      refine s_iload_n hX dX4_foulIn_17 rfl 1 rfl ?_
      refine s_iald hX (pcA 0) dX4_foulIn_18 (fun v5 => ?_)
      refine s_iload hX dX4_foulIn_19 4 rfl ?_
      refine s_iadd hX dX4_foulIn_21 ?_
      refine s_callS_I (n := 2) (As := [.int p1, .int (v5 + w3)]) (st := []) hX (ct_X4_place X.l p1 (v5 + w3)) q1881 q1882 q91 q1883 ycX4_place (by decide) rfl (by first | decide | simp [rv_cat, cat_i, cat_l]) dX4_foulIn_22 (fun v6 => ?_)
      refine s_istore (i := 6) (L2 := [(6, .int v6), (0, rv p0), (1, .int p1), (3, .int w1), (4, .int w2), (5, .int w3)]) hX dX4_foulIn_25 (by decide) rfl ?_
      refine s_iload_n hX dX4_foulIn_27 rfl 3 rfl ?_
      refine s_aload_n hX dX4_foulIn_28 rfl 1 rfl ?_
      refine s_getR (ci := 4) (j := 30) (ref := "WindGasModel") hX (pcG 4) in_X4 (Or.inl q1568) (by decide) (by decide) (by decide) rfl dX4_foulIn_29 (fun _ h9 => h9) (fun v7 => ?_)
      refine s_iload hX dX4_foulIn_32 0 rfl ?_
      refine s_iald hX (pcA 0) dX4_foulIn_34 (fun v8 => ?_)
      refine s_mmin hX q1848 q500 q95 q501 rfl (by omega) (by first | decide | (simp [rv_cat, cat_i, cat_l]; try omega)) dX4_foulIn_35 ?_
      refine s_istore (i := 7) (L2 := [(7, .int (mn w1 v8)), (6, .int v6), (0, rv p0), (1, .int p1), (3, .int w1), (4, .int w2), (5, .int w3)]) hX dX4_foulIn_38 (by decide) rfl ?_
      refine s_iload hX dX4_foulIn_40 5 rfl ?_
      refine s_aload_n hX dX4_foulIn_42 rfl 2 rfl ?_
      refine s_getR (ci := 4) (j := 31) (ref := "WindGasModel") hX (pcG 4) in_X4 (Or.inl q1569) (by decide) (by decide) (by decide) rfl dX4_foulIn_43 (fun _ h9 => h9) (fun v9 => ?_)
      refine s_iload hX dX4_foulIn_46 1 rfl ?_
      refine s_iald hX (pcA 0) dX4_foulIn_48 (fun v10 => ?_)
      refine s_iload hX dX4_foulIn_49 0 rfl ?_
      refine s_aload_n hX dX4_foulIn_51 rfl 2 rfl ?_
      refine s_getR (ci := 4) (j := 30) (ref := "WindGasModel") hX (pcG 4) in_X4 (Or.inl q1568) (by decide) (by decide) (by decide) rfl dX4_foulIn_52 (fun _ h9 => h9) (fun v11 => ?_)
      refine s_iload hX dX4_foulIn_55 1 rfl ?_
      refine s_iald hX (pcA 0) dX4_foulIn_57 (fun v12 => ?_)
      refine s_callS_I (n := 3) (As := [.int v10, .int (mn w1 v8), .int v12]) (st := [.int w2]) hX (ct_X4_part X.l v10 (mn w1 v8) v12) q1892 q1893 q91 q1894 ycX4_part (by decide) rfl (by first | decide | simp [rv_cat, cat_i, cat_l]) dX4_foulIn_58 (fun v13 => ?_)
      refine s_iadd hX dX4_foulIn_61 ?_
      refine s_istore (i := 4) (L2 := [(4, .int (w2 + v13)), (7, .int (mn w1 v8)), (6, .int v6), (0, rv p0), (1, .int p1), (3, .int w1), (5, .int w3)]) hX dX4_foulIn_62 (by decide) rfl ?_
      refine s_iload_n hX dX4_foulIn_64 rfl 5 rfl ?_
      refine s_iload hX dX4_foulIn_65 1 rfl ?_
      refine s_isub hX dX4_foulIn_67 ?_
      refine s_istore_n (i := 3) (L2 := [(3, .int (w1 - (mn w1 v8))), (4, .int (w2 + v13)), (7, .int (mn w1 v8)), (6, .int v6), (0, rv p0), (1, .int p1), (5, .int w3)]) hX dX4_foulIn_68 rfl (by decide) rfl ?_
      refine s_iinc (k := 6) (v := (w3 + 1)) (L2 := [(5, .int (w3 + 1)), (3, .int (w1 - (mn w1 v8))), (4, .int (w2 + v13)), (7, .int (mn w1 v8)), (6, .int v6), (0, rv p0), (1, .int p1)]) hX dX4_foulIn_69 rfl rfl (by decide) rfl ?_
      refine s_goto (tgt := 8) hX dX4_foulIn_72 (by decide) ?_
      exact s_sub [5, 6, 1, 2, 0] rfl (ih8 (w1 - (mn w1 v8)) (w2 + v13) (w3 + 1))
set_option maxHeartbeats 4000000 in
theorem ct_X4_foulIn (l : Launch) (n : Nat) (p0 : Nat) (p1 : Int32) (p2 : Int32) : Ct l Pic yX4_foulIn (ws_ yX4_foulIn cX4_foulIn 8 (some FieldType.int)) 1 24 cvI [rv p0, .int p1, .int p2] (f_X4_foulIn n p0 p1 p2) := by
  refine Ct.of (own := RX4) (L := [(0, rv p0), (1, .int p1), (2, .int p2)]) (plainFor_of_name (by decide)) rfl (by first | decide | simp [lg_sl, rv_cat, cat_i, cat_l]) (by first | rfl | simp [lv_args, rv_cat, cat_i, cat_l]) pcZ (fun X hXl hX hnh hin => ?_)
  subst hXl
  unfold f_X4_foulIn
  refine s_iload_n hX dX4_foulIn_0 rfl 2 rfl ?_
  refine s_istore_n (i := 3) (L2 := [(3, .int p2), (0, rv p0), (1, .int p1), (2, .int p2)]) hX dX4_foulIn_1 rfl (by decide) rfl ?_
  refine s_iconst (v := 0) hX dX4_foulIn_2 rfl ?_
  refine s_istore (i := 4) (L2 := [(4, .int 0), (3, .int p2), (0, rv p0), (1, .int p1), (2, .int p2)]) hX dX4_foulIn_3 (by decide) rfl ?_
  refine s_iconst (v := 0) hX dX4_foulIn_5 rfl ?_
  refine s_istore (i := 5) (L2 := [(5, .int 0), (4, .int 0), (3, .int p2), (0, rv p0), (1, .int p1), (2, .int p2)]) hX dX4_foulIn_6 (by decide) rfl ?_
  exact s_sub [3, 4, 2, 1, 0] rfl (s_lp_X4_foulIn_8 hX hnh p0 p1 n p2 0 0)
theorem dX4_goesOut_0 : decode cX4_goesOut 0 = .ok (.iload_n 2, 1) := by decide +kernel
theorem dX4_goesOut_1 : decode cX4_goesOut 1 = .ok (.istore 4, 2) := by decide +kernel
theorem dX4_goesOut_3 : decode cX4_goesOut 3 = .ok (.iload 4, 2) := by decide +kernel
theorem dX4_goesOut_5 : decode cX4_goesOut 5 = .ok (.ifCond .le 195, 3) := by decide +kernel
theorem dX4_goesOut_8 : decode cX4_goesOut 8 = .ok (.iload_n 1, 1) := by decide +kernel
theorem dX4_goesOut_9 : decode cX4_goesOut 9 = .ok (.aload_n 0, 1) := by decide +kernel
theorem dX4_goesOut_10 : decode cX4_goesOut 10 = .ok (.getfield 72, 3) := by decide +kernel
theorem dX4_goesOut_13 : decode cX4_goesOut 13 = .ok (.iload_n 1, 1) := by decide +kernel
theorem dX4_goesOut_14 : decode cX4_goesOut 14 = .ok (.iaload, 1) := by decide +kernel
theorem dX4_goesOut_15 : decode cX4_goesOut 15 = .ok (.invokestatic 232, 3) := by decide +kernel
theorem dX4_goesOut_18 : decode cX4_goesOut 18 = .ok (.istore 5, 2) := by decide +kernel
theorem dX4_goesOut_20 : decode cX4_goesOut 20 = .ok (.iload 4, 2) := by decide +kernel
theorem dX4_goesOut_22 : decode cX4_goesOut 22 = .ok (.aload_n 0, 1) := by decide +kernel
theorem dX4_goesOut_23 : decode cX4_goesOut 23 = .ok (.getfield 84, 3) := by decide +kernel
theorem dX4_goesOut_26 : decode cX4_goesOut 26 = .ok (.iload 5, 2) := by decide +kernel
theorem dX4_goesOut_28 : decode cX4_goesOut 28 = .ok (.iaload, 1) := by decide +kernel
theorem dX4_goesOut_29 : decode cX4_goesOut 29 = .ok (.invokestatic 235, 3) := by decide +kernel
theorem dX4_goesOut_32 : decode cX4_goesOut 32 = .ok (.istore 6, 2) := by decide +kernel
theorem dX4_goesOut_34 : decode cX4_goesOut 34 = .ok (.aload_n 0, 1) := by decide +kernel
theorem dX4_goesOut_35 : decode cX4_goesOut 35 = .ok (.getfield 87, 3) := by decide +kernel
theorem dX4_goesOut_38 : decode cX4_goesOut 38 = .ok (.iload 5, 2) := by decide +kernel
theorem dX4_goesOut_40 : decode cX4_goesOut 40 = .ok (.iaload, 1) := by decide +kernel
theorem dX4_goesOut_41 : decode cX4_goesOut 41 = .ok (.iload 6, 2) := by decide +kernel
theorem dX4_goesOut_43 : decode cX4_goesOut 43 = .ok (.aload_n 0, 1) := by decide +kernel
theorem dX4_goesOut_44 : decode cX4_goesOut 44 = .ok (.getfield 84, 3) := by decide +kernel
theorem dX4_goesOut_47 : decode cX4_goesOut 47 = .ok (.iload 5, 2) := by decide +kernel
theorem dX4_goesOut_49 : decode cX4_goesOut 49 = .ok (.iaload, 1) := by decide +kernel
theorem dX4_goesOut_50 : decode cX4_goesOut 50 = .ok (.invokestatic 240, 3) := by decide +kernel
theorem dX4_goesOut_53 : decode cX4_goesOut 53 = .ok (.istore 7, 2) := by decide +kernel
theorem dX4_goesOut_55 : decode cX4_goesOut 55 = .ok (.aload_n 0, 1) := by decide +kernel
theorem dX4_goesOut_56 : decode cX4_goesOut 56 = .ok (.getfield 84, 3) := by decide +kernel
theorem dX4_goesOut_59 : decode cX4_goesOut 59 = .ok (.iload 5, 2) := by decide +kernel
theorem dX4_goesOut_61 : decode cX4_goesOut 61 = .ok (.dup2, 1) := by decide +kernel
theorem dX4_goesOut_62 : decode cX4_goesOut 62 = .ok (.iaload, 1) := by decide +kernel
theorem dX4_goesOut_63 : decode cX4_goesOut 63 = .ok (.iload 6, 2) := by decide +kernel
theorem dX4_goesOut_65 : decode cX4_goesOut 65 = .ok (.isub, 1) := by decide +kernel
theorem dX4_goesOut_66 : decode cX4_goesOut 66 = .ok (.iastore, 1) := by decide +kernel
theorem dX4_goesOut_67 : decode cX4_goesOut 67 = .ok (.aload_n 0, 1) := by decide +kernel
theorem dX4_goesOut_68 : decode cX4_goesOut 68 = .ok (.getfield 87, 3) := by decide +kernel
theorem dX4_goesOut_71 : decode cX4_goesOut 71 = .ok (.iload 5, 2) := by decide +kernel
theorem dX4_goesOut_73 : decode cX4_goesOut 73 = .ok (.dup2, 1) := by decide +kernel
theorem dX4_goesOut_74 : decode cX4_goesOut 74 = .ok (.iaload, 1) := by decide +kernel
theorem dX4_goesOut_75 : decode cX4_goesOut 75 = .ok (.iload 7, 2) := by decide +kernel
theorem dX4_goesOut_77 : decode cX4_goesOut 77 = .ok (.isub, 1) := by decide +kernel
theorem dX4_goesOut_78 : decode cX4_goesOut 78 = .ok (.iastore, 1) := by decide +kernel
theorem dX4_goesOut_79 : decode cX4_goesOut 79 = .ok (.aload_n 0, 1) := by decide +kernel
theorem dX4_goesOut_80 : decode cX4_goesOut 80 = .ok (.getfield 63, 3) := by decide +kernel
theorem dX4_goesOut_83 : decode cX4_goesOut 83 = .ok (.iload_n 1, 1) := by decide +kernel
theorem dX4_goesOut_84 : decode cX4_goesOut 84 = .ok (.dup2, 1) := by decide +kernel
theorem dX4_goesOut_85 : decode cX4_goesOut 85 = .ok (.iaload, 1) := by decide +kernel
theorem dX4_goesOut_86 : decode cX4_goesOut 86 = .ok (.iload 6, 2) := by decide +kernel
theorem dX4_goesOut_88 : decode cX4_goesOut 88 = .ok (.isub, 1) := by decide +kernel
theorem dX4_goesOut_89 : decode cX4_goesOut 89 = .ok (.iastore, 1) := by decide +kernel
theorem dX4_goesOut_90 : decode cX4_goesOut 90 = .ok (.aload_n 0, 1) := by decide +kernel
theorem dX4_goesOut_91 : decode cX4_goesOut 91 = .ok (.getfield 66, 3) := by decide +kernel
theorem dX4_goesOut_94 : decode cX4_goesOut 94 = .ok (.iload_n 1, 1) := by decide +kernel
theorem dX4_goesOut_95 : decode cX4_goesOut 95 = .ok (.dup2, 1) := by decide +kernel
theorem dX4_goesOut_96 : decode cX4_goesOut 96 = .ok (.iaload, 1) := by decide +kernel
theorem dX4_goesOut_97 : decode cX4_goesOut 97 = .ok (.iload 7, 2) := by decide +kernel
theorem dX4_goesOut_99 : decode cX4_goesOut 99 = .ok (.isub, 1) := by decide +kernel
theorem dX4_goesOut_100 : decode cX4_goesOut 100 = .ok (.iastore, 1) := by decide +kernel
theorem dX4_goesOut_101 : decode cX4_goesOut 101 = .ok (.iload 4, 2) := by decide +kernel
theorem dX4_goesOut_103 : decode cX4_goesOut 103 = .ok (.iload 6, 2) := by decide +kernel
theorem dX4_goesOut_105 : decode cX4_goesOut 105 = .ok (.isub, 1) := by decide +kernel
theorem dX4_goesOut_106 : decode cX4_goesOut 106 = .ok (.istore 4, 2) := by decide +kernel
theorem dX4_goesOut_108 : decode cX4_goesOut 108 = .ok (.iload_n 3, 1) := by decide +kernel
theorem dX4_goesOut_109 : decode cX4_goesOut 109 = .ok (.iconst (-1), 1) := by decide +kernel
theorem dX4_goesOut_110 : decode cX4_goesOut 110 = .ok (.if_icmp .eq 37, 3) := by decide +kernel
theorem dX4_goesOut_113 : decode cX4_goesOut 113 = .ok (.aload_n 0, 1) := by decide +kernel
theorem dX4_goesOut_114 : decode cX4_goesOut 114 = .ok (.getfield 109, 3) := by decide +kernel
theorem dX4_goesOut_117 : decode cX4_goesOut 117 = .ok (.sipush 834, 3) := by decide +kernel
theorem dX4_goesOut_120 : decode cX4_goesOut 120 = .ok (.iload_n 3, 1) := by decide +kernel
theorem dX4_goesOut_121 : decode cX4_goesOut 121 = .ok (.imul, 1) := by decide +kernel
theorem dX4_goesOut_122 : decode cX4_goesOut 122 = .ok (.aload_n 0, 1) := by decide +kernel
theorem dX4_goesOut_123 : decode cX4_goesOut 123 = .ok (.getfield 81, 3) := by decide +kernel
theorem dX4_goesOut_126 : decode cX4_goesOut 126 = .ok (.iload 5, 2) := by decide +kernel
theorem dX4_goesOut_128 : decode cX4_goesOut 128 = .ok (.iaload, 1) := by decide +kernel
theorem dX4_goesOut_129 : decode cX4_goesOut 129 = .ok (.iadd, 1) := by decide +kernel
theorem dX4_goesOut_130 : decode cX4_goesOut 130 = .ok (.dup2, 1) := by decide +kernel
theorem dX4_goesOut_131 : decode cX4_goesOut 131 = .ok (.iaload, 1) := by decide +kernel
theorem dX4_goesOut_132 : decode cX4_goesOut 132 = .ok (.iload 6, 2) := by decide +kernel
theorem dX4_goesOut_134 : decode cX4_goesOut 134 = .ok (.iadd, 1) := by decide +kernel
theorem dX4_goesOut_135 : decode cX4_goesOut 135 = .ok (.iastore, 1) := by decide +kernel
theorem dX4_goesOut_136 : decode cX4_goesOut 136 = .ok (.aload_n 0, 1) := by decide +kernel
theorem dX4_goesOut_137 : decode cX4_goesOut 137 = .ok (.getfield 105, 3) := by decide +kernel
theorem dX4_goesOut_140 : decode cX4_goesOut 140 = .ok (.iload_n 3, 1) := by decide +kernel
theorem dX4_goesOut_141 : decode cX4_goesOut 141 = .ok (.dup2, 1) := by decide +kernel
theorem dX4_goesOut_142 : decode cX4_goesOut 142 = .ok (.iaload, 1) := by decide +kernel
theorem dX4_goesOut_143 : decode cX4_goesOut 143 = .ok (.iload 7, 2) := by decide +kernel
theorem dX4_goesOut_145 : decode cX4_goesOut 145 = .ok (.iadd, 1) := by decide +kernel
theorem dX4_goesOut_146 : decode cX4_goesOut 146 = .ok (.iastore, 1) := by decide +kernel
theorem dX4_goesOut_147 : decode cX4_goesOut 147 = .ok (.aload_n 0, 1) := by decide +kernel
theorem dX4_goesOut_148 : decode cX4_goesOut 148 = .ok (.getfield 84, 3) := by decide +kernel
theorem dX4_goesOut_151 : decode cX4_goesOut 151 = .ok (.iload 5, 2) := by decide +kernel
theorem dX4_goesOut_153 : decode cX4_goesOut 153 = .ok (.iaload, 1) := by decide +kernel
theorem dX4_goesOut_154 : decode cX4_goesOut 154 = .ok (.ifCond .le 6, 3) := by decide +kernel
theorem dX4_goesOut_157 : decode cX4_goesOut 157 = .ok (.goto (-154), 3) := by decide +kernel
theorem dX4_goesOut_160 : decode cX4_goesOut 160 = .ok (.aload_n 0, 1) := by decide +kernel
theorem dX4_goesOut_161 : decode cX4_goesOut 161 = .ok (.getfield 69, 3) := by decide +kernel
theorem dX4_goesOut_164 : decode cX4_goesOut 164 = .ok (.iload_n 1, 1) := by decide +kernel
theorem dX4_goesOut_165 : decode cX4_goesOut 165 = .ok (.dup2, 1) := by decide +kernel
theorem dX4_goesOut_166 : decode cX4_goesOut 166 = .ok (.iaload, 1) := by decide +kernel
theorem dX4_goesOut_167 : decode cX4_goesOut 167 = .ok (.iconst 1, 1) := by decide +kernel
theorem dX4_goesOut_168 : decode cX4_goesOut 168 = .ok (.isub, 1) := by decide +kernel
theorem dX4_goesOut_169 : decode cX4_goesOut 169 = .ok (.iastore, 1) := by decide +kernel
theorem dX4_goesOut_170 : decode cX4_goesOut 170 = .ok (.aload_n 0, 1) := by decide +kernel
theorem dX4_goesOut_171 : decode cX4_goesOut 171 = .ok (.getfield 72, 3) := by decide +kernel
theorem dX4_goesOut_174 : decode cX4_goesOut 174 = .ok (.iload_n 1, 1) := by decide +kernel
theorem dX4_goesOut_175 : decode cX4_goesOut 175 = .ok (.aload_n 0, 1) := by decide +kernel
theorem dX4_goesOut_176 : decode cX4_goesOut 176 = .ok (.getfield 69, 3) := by decide +kernel
theorem dX4_goesOut_179 : decode cX4_goesOut 179 = .ok (.iload_n 1, 1) := by decide +kernel
theorem dX4_goesOut_180 : decode cX4_goesOut 180 = .ok (.iaload, 1) := by decide +kernel
theorem dX4_goesOut_181 : decode cX4_goesOut 181 = .ok (.ifCond .ne 7, 3) := by decide +kernel
theorem dX4_goesOut_184 : decode cX4_goesOut 184 = .ok (.iconst 0, 1) := by decide +kernel
theorem dX4_goesOut_185 : decode cX4_goesOut 185 = .ok (.goto 11, 3) := by decide +kernel
theorem dX4_goesOut_188 : decode cX4_goesOut 188 = .ok (.aload_n 0, 1) := by decide +kernel
theorem dX4_goesOut_189 : decode cX4_goesOut 189 = .ok (.getfield 72, 3) := by decide +kernel
theorem dX4_goesOut_192 : decode cX4_goesOut 192 = .ok (.iload_n 1, 1) := by decide +kernel
theorem dX4_goesOut_193 : decode cX4_goesOut 193 = .ok (.iaload, 1) := by decide +kernel
theorem dX4_goesOut_194 : decode cX4_goesOut 194 = .ok (.iconst 1, 1) := by decide +kernel
theorem dX4_goesOut_195 : decode cX4_goesOut 195 = .ok (.iadd, 1) := by decide +kernel
theorem dX4_goesOut_196 : decode cX4_goesOut 196 = .ok (.iastore, 1) := by decide +kernel
theorem dX4_goesOut_197 : decode cX4_goesOut 197 = .ok (.goto (-194), 3) := by decide +kernel
theorem dX4_goesOut_200 : decode cX4_goesOut 200 = .ok (.return_, 1) := by decide +kernel
theorem ycX4_goesOut : yX4_goesOut.cls ≠ "java/lang/invoke/MethodHandle" ∧ yX4_goesOut.cls ≠ "java/lang/invoke/VarHandle" ∧ (parseMethodDescriptor yX4_goesOut.desc).map (fun d => d.parameters.length) = some 3 := by decide +kernel
theorem yvX4_goesOut : yX4_goesOut.cls = RR 4 ∧ yX4_goesOut.cls ≠ "java/lang/invoke/MethodHandle" ∧ yX4_goesOut.cls ≠ "java/lang/invoke/VarHandle" ∧ (parseMethodDescriptor yX4_goesOut.desc).map (fun d => d.parameters.length) = some 3 := ⟨rfl, ycX4_goesOut⟩
def lp_X4_goesOut_3 (p0 : Nat) (p1 : Int32) (p3 : Int32) (q : Nat) : Int32 → Act Unit := match q with
  | 0 => fun _ => fail
  | q + 1 => fun w1 =>
    if w1 ≤ 0 then
      pur ()
    else
      bnd (getR 4 26 p0) fun v2 =>
      bnd (ldI 0 v2 p1) fun v3 =>
      bnd (nt (f_X4_place p1 v3)) fun v4 =>
      bnd (getR 4 30 p0) fun v5 =>
      bnd (ldI 0 v5 v4) fun v6 =>
      bnd (getR 4 31 p0) fun v7 =>
      bnd (ldI 0 v7 v4) fun v8 =>
      bnd (getR 4 30 p0) fun v9 =>
      bnd (ldI 0 v9 v4) fun v10 =>
      bnd (nt (f_X4_part v8 (mn w1 v6) v10)) fun v11 =>
      bnd (getR 4 30 p0) fun v12 =>
      bnd (ldI 0 v12 v4) fun v13 =>
      bnd (stI 0 v12 v4 (v13 - (mn w1 v6))) fun _ =>
      bnd (getR 4 31 p0) fun v14 =>
      bnd (ldI 0 v14 v4) fun v15 =>
      bnd (stI 0 v14 v4 (v15 - v11)) fun _ =>
      bnd (getR 4 23 p0) fun v16 =>
      bnd (ldI 0 v16 p1) fun v17 =>
      bnd (stI 0 v16 p1 (v17 - (mn w1 v6))) fun _ =>
      bnd (getR 4 24 p0) fun v18 =>
      bnd (ldI 0 v18 p1) fun v19 =>
      bnd (stI 0 v18 p1 (v19 - v11)) fun _ =>
      jn (fun (_ : Unit) =>
        bnd (getR 4 30 p0) fun v20 =>
        bnd (ldI 0 v20 v4) fun v21 =>
        if v21 ≤ 0 then
          bnd (getR 4 25 p0) fun v22 =>
          bnd (ldI 0 v22 p1) fun v23 =>
          bnd (stI 0 v22 p1 (v23 - 1)) fun _ =>
          bnd (getR 4 26 p0) fun v24 =>
          bnd (getR 4 25 p0) fun v25 =>
          bnd (ldI 0 v25 p1) fun v26 =>
          jn (fun (v27 : Int32) =>
            bnd (stI 0 v24 p1 v27) fun _ =>
            (lp_X4_goesOut_3 p0 p1 p3 q) (w1 - (mn w1 v6))) fun j196 =>
          if ¬ v26 = 0 then
            bnd (getR 4 26 p0) fun v28 =>
            bnd (ldI 0 v28 p1) fun v29 =>
            j196 (v29 + 1)
          else
            j196 0
        else
          (lp_X4_goesOut_3 p0 p1 p3 q) (w1 - (mn w1 v6))) fun j147 =>
      if p3 = (-1) then
        j147 ()
      else
        bnd (getR 4 38 p0) fun v30 =>
        bnd (getR 4 29 p0) fun v31 =>
        bnd (ldI 0 v31 v4) fun v32 =>
        bnd (ldI 0 v30 ((834 * p3) + v32)) fun v33 =>
        bnd (stI 0 v30 ((834 * p3) + v32) (v33 + (mn w1 v6))) fun _ =>
        bnd (getR 4 37 p0) fun v34 =>
        bnd (ldI 0 v34 p3) fun v35 =>
        bnd (stI 0 v34 p3 (v35 + v11)) fun _ =>
        j147 ()
def f_X4_goesOut (n : Nat) (p0 : Nat) (p1 : Int32) (p2 : Int32) (p3 : Int32) : Act Unit :=
  lp_X4_goesOut_3 p0 p1 p3 n p2
set_option maxHeartbeats 4000000 in
theorem s_lp_X4_goesOut_3 {X : Cx} (hX : Ok X Pic cX4_goesOut RX4 8 none 1 24) (hnh : Noh X) (p0 : Nat) (p1 : Int32) (p3 : Int32) (q : Nat) : ∀ (w1 : Int32), Sim X cvU 3 [(0, rv p0), (1, .int p1), (3, .int p3), (4, .int w1)] [] (lp_X4_goesOut_3 p0 p1 p3 q w1) := by
  induction q with
  | zero => intro w1; exact s_fail
  | succ q ih3 =>
    intro w1
    rw [lp_X4_goesOut_3]
    refine s_iload hX dX4_goesOut_3 3 rfl ?_
    refine s_if_le (tgt := 200) hX dX4_goesOut_5 (by decide) ?_ ?_
    · exact s_vret hX dX4_goesOut_200
    · refine s_iload_n hX dX4_goesOut_8 rfl 1 rfl ?_
      refine s_aload_n hX dX4_goesOut_9 rfl 0 rfl ?_
      refine s_getR (ci := 4) (j := 26) (ref := "WindGasModel") hX (pcG 4) in_X4 (Or.inl q1564) (by decide) (by decide) (by decide) rfl dX4_goesOut_10 (fun _ h9 => h9) (fun v2 => ?_)
      refine s_iload_n hX dX4_goesOut_13 rfl 1 rfl ?_
      refine s_iald hX (pcA 0) dX4_goesOut_14 (fun v3 => ?_)
      refine s_callS_I (n := 2) (As := [.int p1, .int v3]) (st := []) hX (ct_X4_place X.l p1 v3) q1881 q1882 q91 q1883 ycX4_place (by decide) rfl (by first | decide | simp [rv_cat, cat_i, cat_l]) dX4_goesOut_15 (fun v4 => ?_)
      refine s_istore (i := 5) (L2 := [(5, .int v4), (0, rv p0), (1, .int p1), (3, .int p3), (4, .int w1)]) hX dX4_goesOut_18 (by decide) rfl ?_
      refine s_iload hX dX4_goesOut_20 4 rfl ?_
      refine s_aload_n hX dX4_goesOut_22 rfl 1 rfl ?_
      refine s_getR (ci := 4) (j := 30) (ref := "WindGasModel") hX (pcG 4) in_X4 (Or.inl q1568) (by decide) (by decide) (by decide) rfl dX4_goesOut_23 (fun _ h9 => h9) (fun v5 => ?_)
      refine s_iload hX dX4_goesOut_26 0 rfl ?_
      refine s_iald hX (pcA 0) dX4_goesOut_28 (fun v6 => ?_)
      refine s_mmin hX q1848 q500 q95 q501 rfl (by omega) (by first | decide | (simp [rv_cat, cat_i, cat_l]; try omega)) dX4_goesOut_29 ?_
      refine s_istore (i := 6) (L2 := [(6, .int (mn w1 v6)), (5, .int v4), (0, rv p0), (1, .int p1), (3, .int p3), (4, .int w1)]) hX dX4_goesOut_32 (by decide) rfl ?_
      refine s_aload_n hX dX4_goesOut_34 rfl 2 rfl ?_
      refine s_getR (ci := 4) (j := 31) (ref := "WindGasModel") hX (pcG 4) in_X4 (Or.inl q1569) (by decide) (by decide) (by decide) rfl dX4_goesOut_35 (fun _ h9 => h9) (fun v7 => ?_)
      refine s_iload hX dX4_goesOut_38 1 rfl ?_
      refine s_iald hX (pcA 0) dX4_goesOut_40 (fun v8 => ?_)
      refine s_iload hX dX4_goesOut_41 0 rfl ?_
      refine s_aload_n hX dX4_goesOut_43 rfl 2 rfl ?_
      refine s_getR (ci := 4) (j := 30) (ref := "WindGasModel") hX (pcG 4) in_X4 (Or.inl q1568) (by decide) (by decide) (by decide) rfl dX4_goesOut_44 (fun _ h9 => h9) (fun v9 => ?_)
      refine s_iload hX dX4_goesOut_47 1 rfl ?_
      refine s_iald hX (pcA 0) dX4_goesOut_49 (fun v10 => ?_)
      refine s_callS_I (n := 3) (As := [.int v8, .int (mn w1 v6), .int v10]) (st := []) hX (ct_X4_part X.l v8 (mn w1 v6) v10) q1892 q1893 q91 q1894 ycX4_part (by decide) rfl (by first | decide | simp [rv_cat, cat_i, cat_l]) dX4_goesOut_50 (fun v11 => ?_)
      refine s_istore (i := 7) (L2 := [(7, .int v11), (6, .int (mn w1 v6)), (5, .int v4), (0, rv p0), (1, .int p1), (3, .int p3), (4, .int w1)]) hX dX4_goesOut_53 (by decide) rfl ?_
      refine s_aload_n hX dX4_goesOut_55 rfl 3 rfl ?_
      refine s_getR (ci := 4) (j := 30) (ref := "WindGasModel") hX (pcG 4) in_X4 (Or.inl q1568) (by decide) (by decide) (by decide) rfl dX4_goesOut_56 (fun _ h9 => h9) (fun v12 => ?_)
      refine s_iload hX dX4_goesOut_59 2 rfl ?_
      refine s_dup2 hX dX4_goesOut_61 rfl (rv_cat _) ?_
      refine s_iald hX (pcA 0) dX4_goesOut_62 (fun v13 => ?_)
      refine s_iload hX dX4_goesOut_63 1 rfl ?_
      refine s_isub hX dX4_goesOut_65 ?_
      refine s_iast hX (pcA 0) (pcB 0) dX4_goesOut_66 ?_
      refine s_aload_n hX dX4_goesOut_67 rfl 3 rfl ?_
      refine s_getR (ci := 4) (j := 31) (ref := "WindGasModel") hX (pcG 4) in_X4 (Or.inl q1569) (by decide) (by decide) (by decide) rfl dX4_goesOut_68 (fun _ h9 => h9) (fun v14 => ?_)
      refine s_iload hX dX4_goesOut_71 2 rfl ?_
      refine s_dup2 hX dX4_goesOut_73 rfl (rv_cat _) ?_
      refine s_iald hX (pcA 0) dX4_goesOut_74 (fun v15 => ?_)
      refine s_iload hX dX4_goesOut_75 0 rfl ?_
      refine s_isub hX dX4_goesOut_77 ?_
      refine s_iast hX (pcA 0) (pcB 0) dX4_goesOut_78 ?_
      refine s_aload_n hX dX4_goesOut_79 rfl 3 rfl ?_
      refine s_getR (ci := 4) (j := 23) (ref := "WindGasModel") hX (pcG 4) in_X4 (Or.inl q1561) (by decide) (by decide) (by decide) rfl dX4_goesOut_80 (fun _ h9 => h9) (fun v16 => ?_)
      refine s_iload_n hX dX4_goesOut_83 rfl 4 rfl ?_
      refine s_dup2 hX dX4_goesOut_84 rfl (rv_cat _) ?_
      refine s_iald hX (pcA 0) dX4_goesOut_85 (fun v17 => ?_)
      refine s_iload hX dX4_goesOut_86 1 rfl ?_
      refine s_isub hX dX4_goesOut_88 ?_
      refine s_iast hX (pcA 0) (pcB 0) dX4_goesOut_89 ?_
      refine s_aload_n hX dX4_goesOut_90 rfl 3 rfl ?_
      refine s_getR (ci := 4) (j := 24) (ref := "WindGasModel") hX (pcG 4) in_X4 (Or.inl q1562) (by decide) (by decide) (by decide) rfl dX4_goesOut_91 (fun _ h9 => h9) (fun v18 => ?_)
      refine s_iload_n hX dX4_goesOut_94 rfl 4 rfl ?_
      refine s_dup2 hX dX4_goesOut_95 rfl (rv_cat _) ?_
      refine s_iald hX (pcA 0) dX4_goesOut_96 (fun v19 => ?_)
      refine s_iload hX dX4_goesOut_97 0 rfl ?_
      refine s_isub hX dX4_goesOut_99 ?_
      refine s_iast hX (pcA 0) (pcB 0) dX4_goesOut_100 ?_
      refine s_iload hX dX4_goesOut_101 6 rfl ?_
      refine s_iload hX dX4_goesOut_103 1 rfl ?_
      refine s_isub hX dX4_goesOut_105 ?_
      refine s_istore (i := 4) (L2 := [(4, .int (w1 - (mn w1 v6))), (7, .int v11), (6, .int (mn w1 v6)), (5, .int v4), (0, rv p0), (1, .int p1), (3, .int p3)]) hX dX4_goesOut_106 (by decide) rfl ?_
      refine s_iload_n hX dX4_goesOut_108 rfl 6 rfl ?_
      refine s_iconst (v := -1) hX dX4_goesOut_109 (by decide) ?_
      refine s_jn (P := fun j => ∀ (u : Unit), Sim X cvU 147 [(0, rv p0), (1, .int p1), (3, .int p3), (4, .int (w1 - (mn w1 v6))), (5, .int v4)] [] (j u)) ?_ (fun j147 hj147 => ?_)
      · intro u
        refine s_aload_n hX dX4_goesOut_147 rfl 0 rfl ?_
        refine s_getR (ci := 4) (j := 30) (ref := "WindGasModel") hX (pcG 4) in_X4 (Or.inl q1568) (by decide) (by decide) (by decide) rfl dX4_goesOut_148 (fun _ h9 => h9) (fun v20 => ?_)
        refine s_iload hX dX4_goesOut_151 4 rfl ?_
        refine s_iald hX (pcA 0) dX4_goesOut_153 (fun v21 => ?_)
        refine s_if_le (tgt := 160) hX dX4_goesOut_154 (by decide) ?_ ?_
        · refine s_aload_n hX dX4_goesOut_160 rfl 0 rfl ?_
          refine s_getR (ci := 4) (j := 25) (ref := "WindGasModel") hX (pcG 4) in_X4 (Or.inl q1563) (by decide) (by decide) (by decide) rfl dX4_goesOut_161 (fun _ h9 => h9) (fun v22 => ?_)
          refine s_iload_n hX dX4_goesOut_164 rfl 1 rfl ?_
          refine s_dup2 hX dX4_goesOut_165 rfl (rv_cat _) ?_
          refine s_iald hX (pcA 0) dX4_goesOut_166 (fun v23 => ?_)
          refine s_iconst (v := 1) hX dX4_goesOut_167 rfl ?_
          refine s_isub hX dX4_goesOut_168 ?_
          refine s_iast hX (pcA 0) (pcB 0) dX4_goesOut_169 ?_
          refine s_aload_n hX dX4_goesOut_170 rfl 0 rfl ?_
          refine s_getR (ci := 4) (j := 26) (ref := "WindGasModel") hX (pcG 4) in_X4 (Or.inl q1564) (by decide) (by decide) (by decide) rfl dX4_goesOut_171 (fun _ h9 => h9) (fun v24 => ?_)
          refine s_iload_n hX dX4_goesOut_174 rfl 1 rfl ?_
          refine s_aload_n hX dX4_goesOut_175 rfl 0 rfl ?_
          refine s_getR (ci := 4) (j := 25) (ref := "WindGasModel") hX (pcG 4) in_X4 (Or.inl q1563) (by decide) (by decide) (by decide) rfl dX4_goesOut_176 (fun _ h9 => h9) (fun v25 => ?_)
          refine s_iload_n hX dX4_goesOut_179 rfl 1 rfl ?_
          refine s_iald hX (pcA 0) dX4_goesOut_180 (fun v26 => ?_)
          refine s_jn (P := fun j => ∀ (v27 : Int32), Sim X cvU 196 [(0, rv p0), (1, .int p1), (3, .int p3), (4, .int (w1 - (mn w1 v6)))] [.int v27, .int p1, rv v24] (j v27)) ?_ (fun j196 hj196 => ?_)
          · intro v27
            refine s_iast hX (pcA 0) (pcB 0) dX4_goesOut_196 ?_
            refine s_goto (tgt := 3) hX dX4_goesOut_197 (by decide) ?_
            exact ih3 (w1 - (mn w1 v6))
          · refine s_if_ne (tgt := 188) hX dX4_goesOut_181 (by decide) ?_ ?_
            · refine s_aload_n hX dX4_goesOut_188 rfl 0 rfl ?_
              refine s_getR (ci := 4) (j := 26) (ref := "WindGasModel") hX (pcG 4) in_X4 (Or.inl q1564) (by decide) (by decide) (by decide) rfl dX4_goesOut_189 (fun _ h9 => h9) (fun v28 => ?_)
              refine s_iload_n hX dX4_goesOut_192 rfl 1 rfl ?_
              refine s_iald hX (pcA 0) dX4_goesOut_193 (fun v29 => ?_)
              refine s_iconst (v := 1) hX dX4_goesOut_194 rfl ?_
              refine s_iadd hX dX4_goesOut_195 ?_
              exact s_sub [0, 1, 2, 3] rfl (hj196 (v29 + 1))
            · refine s_iconst (v := 0) hX dX4_goesOut_184 rfl ?_
              refine s_goto (tgt := 196) hX dX4_goesOut_185 (by decide) ?_
              exact s_sub [0, 1, 2, 3] rfl (hj196 0)
        · refine s_goto (tgt := 3) hX dX4_goesOut_157 (by decide) ?_
          exact s_sub [0, 1, 2, 3] rfl (ih3 (w1 - (mn w1 v6)))
      · refine s_icmp_eq (tgt := 147) hX dX4_goesOut_110 (by decide) ?_ ?_
        · exact s_sub [4, 5, 6, 0, 3] rfl (hj147 ())
        · refine s_aload_n hX dX4_goesOut_113 rfl 4 rfl ?_
          refine s_getR (ci := 4) (j := 38) (ref := "WindGasModel") hX (pcG 4) in_X4 (Or.inl q1576) (by decide) (by decide) (by decide) rfl dX4_goesOut_114 (fun _ h9 => h9) (fun v30 => ?_)
          refine s_sipush (v := 834) hX dX4_goesOut_117 (by decide) ?_
          refine s_iload_n hX dX4_goesOut_120 rfl 6 rfl ?_
          refine s_imul hX dX4_goesOut_121 ?_
          refine s_aload_n hX dX4_goesOut_122 rfl 4 rfl ?_
          refine s_getR (ci := 4) (j := 29) (ref := "WindGasModel") hX (pcG 4) in_X4 (Or.inl q1567) (by decide) (by decide) (by decide) rfl dX4_goesOut_123 (fun _ h9 => h9) (fun v31 => ?_)
          refine s_iload hX dX4_goesOut_126 3 rfl ?_
          refine s_iald hX (pcA 0) dX4_goesOut_128 (fun v32 => ?_)
          refine s_iadd hX dX4_goesOut_129 ?_
          refine s_dup2 hX dX4_goesOut_130 rfl (rv_cat _) ?_
          refine s_iald hX (pcA 0) dX4_goesOut_131 (fun v33 => ?_)
          refine s_iload hX dX4_goesOut_132 2 rfl ?_
          refine s_iadd hX dX4_goesOut_134 ?_
          refine s_iast hX (pcA 0) (pcB 0) dX4_goesOut_135 ?_
          refine s_aload_n hX dX4_goesOut_136 rfl 4 rfl ?_
          refine s_getR (ci := 4) (j := 37) (ref := "WindGasModel") hX (pcG 4) in_X4 (Or.inl q1575) (by decide) (by decide) (by decide) rfl dX4_goesOut_137 (fun _ h9 => h9) (fun v34 => ?_)
          refine s_iload_n hX dX4_goesOut_140 rfl 6 rfl ?_
          refine s_dup2 hX dX4_goesOut_141 rfl (rv_cat _) ?_
          refine s_iald hX (pcA 0) dX4_goesOut_142 (fun v35 => ?_)
          refine s_iload hX dX4_goesOut_143 1 rfl ?_
          refine s_iadd hX dX4_goesOut_145 ?_
          refine s_iast hX (pcA 0) (pcB 0) dX4_goesOut_146 ?_
          exact s_sub [4, 5, 6, 0, 3] rfl (hj147 ())
set_option maxHeartbeats 4000000 in
theorem ct_X4_goesOut (l : Launch) (n : Nat) (p0 : Nat) (p1 : Int32) (p2 : Int32) (p3 : Int32) : Ct l Pic yX4_goesOut (ws_ yX4_goesOut cX4_goesOut 8 none) 1 24 cvU [rv p0, .int p1, .int p2, .int p3] (f_X4_goesOut n p0 p1 p2 p3) := by
  refine Ct.of (own := RX4) (L := [(0, rv p0), (1, .int p1), (2, .int p2), (3, .int p3)]) (plainFor_of_name (by decide)) rfl (by first | decide | simp [lg_sl, rv_cat, cat_i, cat_l]) (by first | rfl | simp [lv_args, rv_cat, cat_i, cat_l]) pcZ (fun X hXl hX hnh hin => ?_)
  subst hXl
  unfold f_X4_goesOut
  refine s_iload_n hX dX4_goesOut_0 rfl 2 rfl ?_
  refine s_istore (i := 4) (L2 := [(4, .int p2), (0, rv p0), (1, .int p1), (2, .int p2), (3, .int p3)]) hX dX4_goesOut_1 (by decide) rfl ?_
  exact s_sub [1, 2, 4, 0] rfl (s_lp_X4_goesOut_3 hX hnh p0 p1 p3 n p2)
theorem dX4_tries_0 : decode cX4_tries 0 = .ok (.aload_n 0, 1) := by decide +kernel
theorem dX4_tries_1 : decode cX4_tries 1 = .ok (.getfield 93, 3) := by decide +kernel
theorem dX4_tries_4 : decode cX4_tries 4 = .ok (.iload_n 1, 1) := by decide +kernel
theorem dX4_tries_5 : decode cX4_tries 5 = .ok (.iaload, 1) := by decide +kernel
theorem dX4_tries_6 : decode cX4_tries 6 = .ok (.aload_n 0, 1) := by decide +kernel
theorem dX4_tries_7 : decode cX4_tries 7 = .ok (.getfield 90, 3) := by decide +kernel
theorem dX4_tries_10 : decode cX4_tries 10 = .ok (.iload_n 1, 1) := by decide +kernel
theorem dX4_tries_11 : decode cX4_tries 11 = .ok (.iaload, 1) := by decide +kernel
theorem dX4_tries_12 : decode cX4_tries 12 = .ok (.ifCond .ne 8, 3) := by decide +kernel
theorem dX4_tries_15 : decode cX4_tries 15 = .ok (.bipush 11, 2) := by decide +kernel
theorem dX4_tries_17 : decode cX4_tries 17 = .ok (.goto 4, 3) := by decide +kernel
theorem dX4_tries_20 : decode cX4_tries 20 = .ok (.iconst 0, 1) := by decide +kernel
theorem dX4_tries_21 : decode cX4_tries 21 = .ok (.iadd, 1) := by decide +kernel
theorem dX4_tries_22 : decode cX4_tries 22 = .ok (.istore_n 3, 1) := by decide +kernel
theorem dX4_tries_23 : decode cX4_tries 23 = .ok (.aload_n 0, 1) := by decide +kernel
theorem dX4_tries_24 : decode cX4_tries 24 = .ok (.getfield 99, 3) := by decide +kernel
theorem dX4_tries_27 : decode cX4_tries 27 = .ok (.iload_n 1, 1) := by decide +kernel
theorem dX4_tries_28 : decode cX4_tries 28 = .ok (.iaload, 1) := by decide +kernel
theorem dX4_tries_29 : decode cX4_tries 29 = .ok (.ifCond .ne 16, 3) := by decide +kernel
theorem dX4_tries_32 : decode cX4_tries 32 = .ok (.aload_n 0, 1) := by decide +kernel
theorem dX4_tries_33 : decode cX4_tries 33 = .ok (.getfield 229, 3) := by decide +kernel
theorem dX4_tries_36 : decode cX4_tries 36 = .ok (.aload_n 0, 1) := by decide +kernel
theorem dX4_tries_37 : decode cX4_tries 37 = .ok (.getfield 93, 3) := by decide +kernel
theorem dX4_tries_40 : decode cX4_tries 40 = .ok (.iload_n 1, 1) := by decide +kernel
theorem dX4_tries_41 : decode cX4_tries 41 = .ok (.iaload, 1) := by decide +kernel
theorem dX4_tries_42 : decode cX4_tries 42 = .ok (.if_icmp .ge 4, 3) := by decide +kernel
theorem dX4_tries_45 : decode cX4_tries 45 = .ok (.return_, 1) := by decide +kernel
theorem dX4_tries_46 : decode cX4_tries 46 = .ok (.aload_n 0, 1) := by decide +kernel
theorem dX4_tries_47 : decode cX4_tries 47 = .ok (.getfield 96, 3) := by decide +kernel
theorem dX4_tries_50 : decode cX4_tries 50 = .ok (.iload_n 1, 1) := by decide +kernel
theorem dX4_tries_51 : decode cX4_tries 51 = .ok (.iaload, 1) := by decide +kernel
theorem dX4_tries_52 : decode cX4_tries 52 = .ok (.istore 4, 2) := by decide +kernel
theorem dX4_tries_54 : decode cX4_tries 54 = .ok (.iload 4, 2) := by decide +kernel
theorem dX4_tries_56 : decode cX4_tries 56 = .ok (.aload_n 0, 1) := by decide +kernel
theorem dX4_tries_57 : decode cX4_tries 57 = .ok (.getfield 63, 3) := by decide +kernel
theorem dX4_tries_60 : decode cX4_tries 60 = .ok (.iconst 0, 1) := by decide +kernel
theorem dX4_tries_61 : decode cX4_tries 61 = .ok (.iaload, 1) := by decide +kernel
theorem dX4_tries_62 : decode cX4_tries 62 = .ok (.invokestatic 235, 3) := by decide +kernel
theorem dX4_tries_65 : decode cX4_tries 65 = .ok (.istore 5, 2) := by decide +kernel
theorem dX4_tries_67 : decode cX4_tries 67 = .ok (.iload 4, 2) := by decide +kernel
theorem dX4_tries_69 : decode cX4_tries 69 = .ok (.iload 5, 2) := by decide +kernel
theorem dX4_tries_71 : decode cX4_tries 71 = .ok (.isub, 1) := by decide +kernel
theorem dX4_tries_72 : decode cX4_tries 72 = .ok (.istore 6, 2) := by decide +kernel
theorem dX4_tries_74 : decode cX4_tries 74 = .ok (.iload 6, 2) := by decide +kernel
theorem dX4_tries_76 : decode cX4_tries 76 = .ok (.aload_n 0, 1) := by decide +kernel
theorem dX4_tries_77 : decode cX4_tries 77 = .ok (.getfield 63, 3) := by decide +kernel
theorem dX4_tries_80 : decode cX4_tries 80 = .ok (.iconst 1, 1) := by decide +kernel
theorem dX4_tries_81 : decode cX4_tries 81 = .ok (.iaload, 1) := by decide +kernel
theorem dX4_tries_82 : decode cX4_tries 82 = .ok (.aload_n 0, 1) := by decide +kernel
theorem dX4_tries_83 : decode cX4_tries 83 = .ok (.getfield 248, 3) := by decide +kernel
theorem dX4_tries_86 : decode cX4_tries 86 = .ok (.invokestatic 235, 3) := by decide +kernel
theorem dX4_tries_89 : decode cX4_tries 89 = .ok (.if_icmp .gt 7, 3) := by decide +kernel
theorem dX4_tries_92 : decode cX4_tries 92 = .ok (.iconst 1, 1) := by decide +kernel
theorem dX4_tries_93 : decode cX4_tries 93 = .ok (.goto 4, 3) := by decide +kernel
theorem dX4_tries_96 : decode cX4_tries 96 = .ok (.iconst 0, 1) := by decide +kernel
theorem dX4_tries_97 : decode cX4_tries 97 = .ok (.istore 7, 2) := by decide +kernel
theorem dX4_tries_99 : decode cX4_tries 99 = .ok (.iload 7, 2) := by decide +kernel
theorem dX4_tries_101 : decode cX4_tries 101 = .ok (.ifCond .eq 40, 3) := by decide +kernel
theorem dX4_tries_104 : decode cX4_tries 104 = .ok (.aload_n 0, 1) := by decide +kernel
theorem dX4_tries_105 : decode cX4_tries 105 = .ok (.iconst 0, 1) := by decide +kernel
theorem dX4_tries_106 : decode cX4_tries 106 = .ok (.iload 5, 2) := by decide +kernel
theorem dX4_tries_108 : decode cX4_tries 108 = .ok (.invokevirtual 251, 3) := by decide +kernel
theorem dX4_tries_111 : decode cX4_tries 111 = .ok (.aload_n 0, 1) := by decide +kernel
theorem dX4_tries_112 : decode cX4_tries 112 = .ok (.iconst 1, 1) := by decide +kernel
theorem dX4_tries_113 : decode cX4_tries 113 = .ok (.iload 6, 2) := by decide +kernel
theorem dX4_tries_115 : decode cX4_tries 115 = .ok (.invokevirtual 251, 3) := by decide +kernel
theorem dX4_tries_118 : decode cX4_tries 118 = .ok (.iadd, 1) := by decide +kernel
theorem dX4_tries_119 : decode cX4_tries 119 = .ok (.i2l, 1) := by decide +kernel
theorem dX4_tries_120 : decode cX4_tries 120 = .ok (.ldc2_w 254, 3) := by decide +kernel
theorem dX4_tries_123 : decode cX4_tries 123 = .ok (.lmul, 1) := by decide +kernel
theorem dX4_tries_124 : decode cX4_tries 124 = .ok (.iload 4, 2) := by decide +kernel
theorem dX4_tries_126 : decode cX4_tries 126 = .ok (.i2l, 1) := by decide +kernel
theorem dX4_tries_127 : decode cX4_tries 127 = .ok (.ldiv, 1) := by decide +kernel
theorem dX4_tries_128 : decode cX4_tries 128 = .ok (.iload_n 2, 1) := by decide +kernel
theorem dX4_tries_129 : decode cX4_tries 129 = .ok (.i2l, 1) := by decide +kernel
theorem dX4_tries_130 : decode cX4_tries 130 = .ok (.lcmp, 1) := by decide +kernel
theorem dX4_tries_131 : decode cX4_tries 131 = .ok (.ifCond .gt 7, 3) := by decide +kernel
theorem dX4_tries_134 : decode cX4_tries 134 = .ok (.iconst 1, 1) := by decide +kernel
theorem dX4_tries_135 : decode cX4_tries 135 = .ok (.goto 4, 3) := by decide +kernel
theorem dX4_tries_138 : decode cX4_tries 138 = .ok (.iconst 0, 1) := by decide +kernel
theorem dX4_tries_139 : decode cX4_tries 139 = .ok (.istore 7, 2) := by decide +kernel
theorem dX4_tries_141 : decode cX4_tries 141 = .ok (.iload 7, 2) := by decide +kernel
theorem dX4_tries_143 : decode cX4_tries 143 = .ok (.ifCond .eq 63, 3) := by decide +kernel
theorem dX4_tries_146 : decode cX4_tries 146 = .ok (.aload_n 0, 1) := by decide +kernel
theorem dX4_tries_147 : decode cX4_tries 147 = .ok (.iconst 0, 1) := by decide +kernel
theorem dX4_tries_148 : decode cX4_tries 148 = .ok (.iload 5, 2) := by decide +kernel
theorem dX4_tries_150 : decode cX4_tries 150 = .ok (.iload_n 1, 1) := by decide +kernel
theorem dX4_tries_151 : decode cX4_tries 151 = .ok (.invokevirtual 256, 3) := by decide +kernel
theorem dX4_tries_154 : decode cX4_tries 154 = .ok (.aload_n 0, 1) := by decide +kernel
theorem dX4_tries_155 : decode cX4_tries 155 = .ok (.iconst 1, 1) := by decide +kernel
theorem dX4_tries_156 : decode cX4_tries 156 = .ok (.iload 6, 2) := by decide +kernel
theorem dX4_tries_158 : decode cX4_tries 158 = .ok (.iload_n 1, 1) := by decide +kernel
theorem dX4_tries_159 : decode cX4_tries 159 = .ok (.invokevirtual 256, 3) := by decide +kernel
theorem dX4_tries_162 : decode cX4_tries 162 = .ok (.aload_n 0, 1) := by decide +kernel
theorem dX4_tries_163 : decode cX4_tries 163 = .ok (.dup, 1) := by decide +kernel
theorem dX4_tries_164 : decode cX4_tries 164 = .ok (.getfield 248, 3) := by decide +kernel
theorem dX4_tries_167 : decode cX4_tries 167 = .ok (.iload 6, 2) := by decide +kernel
theorem dX4_tries_169 : decode cX4_tries 169 = .ok (.isub, 1) := by decide +kernel
theorem dX4_tries_170 : decode cX4_tries 170 = .ok (.putfield 248, 3) := by decide +kernel
theorem dX4_tries_173 : decode cX4_tries 173 = .ok (.aload_n 0, 1) := by decide +kernel
theorem dX4_tries_174 : decode cX4_tries 174 = .ok (.getfield 99, 3) := by decide +kernel
theorem dX4_tries_177 : decode cX4_tries 177 = .ok (.iload_n 1, 1) := by decide +kernel
theorem dX4_tries_178 : decode cX4_tries 178 = .ok (.iconst 1, 1) := by decide +kernel
theorem dX4_tries_179 : decode cX4_tries 179 = .ok (.iastore, 1) := by decide +kernel
theorem dX4_tries_180 : decode cX4_tries 180 = .ok (.aload_n 0, 1) := by decide +kernel
theorem dX4_tries_181 : decode cX4_tries 181 = .ok (.getfield 102, 3) := by decide +kernel
theorem dX4_tries_184 : decode cX4_tries 184 = .ok (.iload_n 1, 1) := by decide +kernel
theorem dX4_tries_185 : decode cX4_tries 185 = .ok (.aload_n 0, 1) := by decide +kernel
theorem dX4_tries_186 : decode cX4_tries 186 = .ok (.getfield 229, 3) := by decide +kernel
theorem dX4_tries_189 : decode cX4_tries 189 = .ok (.iastore, 1) := by decide +kernel
theorem dX4_tries_190 : decode cX4_tries 190 = .ok (.aload_n 0, 1) := by decide +kernel
theorem dX4_tries_191 : decode cX4_tries 191 = .ok (.getfield 51, 3) := by decide +kernel
theorem dX4_tries_194 : decode cX4_tries 194 = .ok (.bipush 6, 2) := by decide +kernel
theorem dX4_tries_196 : decode cX4_tries 196 = .ok (.dup2, 1) := by decide +kernel
theorem dX4_tries_197 : decode cX4_tries 197 = .ok (.laload, 1) := by decide +kernel
theorem dX4_tries_198 : decode cX4_tries 198 = .ok (.iload 4, 2) := by decide +kernel
theorem dX4_tries_200 : decode cX4_tries 200 = .ok (.i2l, 1) := by decide +kernel
theorem dX4_tries_201 : decode cX4_tries 201 = .ok (.ladd, 1) := by decide +kernel
theorem dX4_tries_202 : decode cX4_tries 202 = .ok (.lastore, 1) := by decide +kernel
theorem dX4_tries_203 : decode cX4_tries 203 = .ok (.goto 18, 3) := by decide +kernel
theorem dX4_tries_206 : decode cX4_tries 206 = .ok (.aload_n 0, 1) := by decide +kernel
theorem dX4_tries_207 : decode cX4_tries 207 = .ok (.getfield 229, 3) := by decide +kernel
theorem dX4_tries_210 : decode cX4_tries 210 = .ok (.iload_n 3, 1) := by decide +kernel
theorem dX4_tries_211 : decode cX4_tries 211 = .ok (.if_icmp .ne 10, 3) := by decide +kernel
theorem dX4_tries_214 : decode cX4_tries 214 = .ok (.aload_n 0, 1) := by decide +kernel
theorem dX4_tries_215 : decode cX4_tries 215 = .ok (.getfield 99, 3) := by decide +kernel
theorem dX4_tries_218 : decode cX4_tries 218 = .ok (.iload_n 1, 1) := by decide +kernel
theorem dX4_tries_219 : decode cX4_tries 219 = .ok (.iconst 2, 1) := by decide +kernel
theorem dX4_tries_220 : decode cX4_tries 220 = .ok (.iastore, 1) := by decide +kernel
theorem dX4_tries_221 : decode cX4_tries 221 = .ok (.return_, 1) := by decide +kernel
theorem ycX4_tries : yX4_tries.cls ≠ "java/lang/invoke/MethodHandle" ∧ yX4_tries.cls ≠ "java/lang/invoke/VarHandle" ∧ (parseMethodDescriptor yX4_tries.desc).map (fun d => d.parameters.length) = some 2 := by decide +kernel
theorem yvX4_tries : yX4_tries.cls = RR 4 ∧ yX4_tries.cls ≠ "java/lang/invoke/MethodHandle" ∧ yX4_tries.cls ≠ "java/lang/invoke/VarHandle" ∧ (parseMethodDescriptor yX4_tries.desc).map (fun d => d.parameters.length) = some 2 := ⟨rfl, ycX4_tries⟩
def f_X4_tries (n : Nat) (p0 : Nat) (p1 : Int32) (p2 : Int32) : Act Unit :=
  bnd (getR 4 33 p0) fun v1 =>
  bnd (ldI 0 v1 p1) fun v2 =>
  bnd (getR 4 32 p0) fun v3 =>
  bnd (ldI 0 v3 p1) fun v4 =>
  jn (fun (v5 : Int32) =>
    bnd (getR 4 35 p0) fun v6 =>
    bnd (ldI 0 v6 p1) fun v7 =>
    jn (fun (_ : Unit) =>
      pur ()) fun j45 =>
    if ¬ v7 = 0 then
      j45 ()
    else
      bnd (getI 4 0 p0) fun v8 =>
      bnd (getR 4 33 p0) fun v9 =>
      bnd (ldI 0 v9 p1) fun v10 =>
      if v10 ≤ v8 then
        bnd (getR 4 34 p0) fun v11 =>
        bnd (ldI 0 v11 p1) fun v12 =>
        bnd (getR 4 23 p0) fun v13 =>
        bnd (ldI 0 v13 0) fun v14 =>
        bnd (getR 4 23 p0) fun v15 =>
        bnd (ldI 0 v15 1) fun v16 =>
        bnd (getI 4 39 p0) fun v17 =>
        jn (fun (v18 : Int32) =>
          jn (fun (v19 : Int32) =>
            jn (fun (_ : Unit) =>
              pur ()) fun j221 =>
            if v19 = 0 then
              bnd (getI 4 0 p0) fun v20 =>
              if ¬ v20 = (v2 + v5) then
                j221 ()
              else
                bnd (getR 4 35 p0) fun v21 =>
                bnd (stI 0 v21 p1 2) fun _ =>
                j221 ()
            else
              bnd (gd 4 p0 (nt (f_X4_goesOut n p0 (0 : Int32) (mn v12 v14) p1))) fun _ =>
              bnd (gd 4 p0 (nt (f_X4_goesOut n p0 (1 : Int32) (v12 - (mn v12 v14)) p1))) fun _ =>
              bnd (getI 4 39 p0) fun v22 =>
              bnd (putI 4 39 p0 (v22 - (v12 - (mn v12 v14)))) fun _ =>
              bnd (getR 4 35 p0) fun v23 =>
              bnd (stI 0 v23 p1 1) fun _ =>
              bnd (getR 4 36 p0) fun v24 =>
              bnd (getI 4 0 p0) fun v25 =>
              bnd (stI 0 v24 p1 v25) fun _ =>
              bnd (getR 4 17 p0) fun v26 =>
              bnd (ldL 1 v26 6) fun v27 =>
              bnd (stL 1 v26 6 (v27 + v12.toInt64)) fun _ =>
              j221 ()) fun j141 =>
          if v18 = 0 then
            j141 v18
          else
            bnd (gd 4 p0 (nt (f_X4_foulIn n p0 (0 : Int32) (mn v12 v14)))) fun v28 =>
            bnd (gd 4 p0 (nt (f_X4_foulIn n p0 (1 : Int32) (v12 - (mn v12 v14))))) fun v29 =>
            nzl v12.toInt64 <|
            jn (fun (v30 : Int32) =>
              j141 v30) fun j139 =>
            if 0 < (lg_cmp ((((v28 + v29).toInt64) * 10000) / v12.toInt64) p2.toInt64) then
              j139 0
            else
              j139 1) fun j97 =>
        if (mn v16 v17) < (v12 - (mn v12 v14)) then
          j97 0
        else
          j97 1
      else
        j45 ()) fun j21 =>
  if ¬ v4 = 0 then
    j21 0
  else
    j21 11
set_option maxHeartbeats 4000000 in
theorem ct_X4_tries (l : Launch) (n : Nat) (p0 : Nat) (p1 : Int32) (p2 : Int32) : Ct l Pic yX4_tries (ws_ yX4_tries cX4_tries 8 none) 2 51 cvU [rv p0, .int p1, .int p2] (f_X4_tries n p0 p1 p2) := by
  refine Ct.of (own := RX4) (L := [(0, rv p0), (1, .int p1), (2, .int p2)]) (plainFor_of_name (by decide)) rfl (by first | decide | simp [lg_sl, rv_cat, cat_i, cat_l]) (by first | rfl | simp [lv_args, rv_cat, cat_i, cat_l]) pcZ (fun X hXl hX hnh hin => ?_)
  subst hXl
  unfold f_X4_tries
  refine s_aload_n hX dX4_tries_0 rfl 0 rfl ?_
  refine s_getR (ci := 4) (j := 33) (ref := "WindGasModel") hX (pcG 4) in_X4 (Or.inl q1571) (by decide) (by decide) (by decide) rfl dX4_tries_1 (fun _ h9 => h9) (fun v1 => ?_)
  refine s_iload_n hX dX4_tries_4 rfl 1 rfl ?_
  refine s_iald hX (pcA 0) dX4_tries_5 (fun v2 => ?_)
  refine s_aload_n hX dX4_tries_6 rfl 0 rfl ?_
  refine s_getR (ci := 4) (j := 32) (ref := "WindGasModel") hX (pcG 4) in_X4 (Or.inl q1570) (by decide) (by decide) (by decide) rfl dX4_tries_7 (fun _ h9 => h9) (fun v3 => ?_)
  refine s_iload_n hX dX4_tries_10 rfl 1 rfl ?_
  refine s_iald hX (pcA 0) dX4_tries_11 (fun v4 => ?_)
  refine s_jn (P := fun j => ∀ (v5 : Int32), Sim X cvU 21 [(0, rv p0), (1, .int p1), (2, .int p2)] [.int v5, .int v2] (j v5)) ?_ (fun j21 hj21 => ?_)
  · intro v5
    refine s_iadd hX dX4_tries_21 ?_
    refine s_istore_n (i := 3) (L2 := [(3, .int (v2 + v5)), (0, rv p0), (1, .int p1), (2, .int p2)]) hX dX4_tries_22 rfl (by decide) rfl ?_
    refine s_aload_n hX dX4_tries_23 rfl 1 rfl ?_
    refine s_getR (ci := 4) (j := 35) (ref := "WindGasModel") hX (pcG 4) in_X4 (Or.inl q1573) (by decide) (by decide) (by decide) rfl dX4_tries_24 (fun _ h9 => h9) (fun v6 => ?_)
    refine s_iload_n hX dX4_tries_27 rfl 2 rfl ?_
    refine s_iald hX (pcA 0) dX4_tries_28 (fun v7 => ?_)
    refine s_jn (P := fun j => ∀ (u : Unit), Sim X cvU 45 [] [] (j u)) ?_ (fun j45 hj45 => ?_)
    · intro u
      exact s_vret hX dX4_tries_45
    · refine s_if_ne (tgt := 45) hX dX4_tries_29 (by decide) ?_ ?_
      · exact s_sub [] rfl (hj45 ())
      · refine s_aload_n hX dX4_tries_32 rfl 1 rfl ?_
        refine s_getI (ci := 4) (j := 0) (ref := "WindGasModel") hX (pcG 4) in_X4 (Or.inl q1538) (by decide) (by decide) (by decide) rfl dX4_tries_33 (fun _ h9 => h9) (fun v8 => ?_)
        refine s_aload_n hX dX4_tries_36 rfl 1 rfl ?_
        refine s_getR (ci := 4) (j := 33) (ref := "WindGasModel") hX (pcG 4) in_X4 (Or.inl q1571) (by decide) (by decide) (by decide) rfl dX4_tries_37 (fun _ h9 => h9) (fun v9 => ?_)
        refine s_iload_n hX dX4_tries_40 rfl 2 rfl ?_
        refine s_iald hX (pcA 0) dX4_tries_41 (fun v10 => ?_)
        refine s_icmp_ge (tgt := 46) hX dX4_tries_42 (by decide) ?_ ?_
        · refine s_aload_n hX dX4_tries_46 rfl 1 rfl ?_
          refine s_getR (ci := 4) (j := 34) (ref := "WindGasModel") hX (pcG 4) in_X4 (Or.inl q1572) (by decide) (by decide) (by decide) rfl dX4_tries_47 (fun _ h9 => h9) (fun v11 => ?_)
          refine s_iload_n hX dX4_tries_50 rfl 2 rfl ?_
          refine s_iald hX (pcA 0) dX4_tries_51 (fun v12 => ?_)
          refine s_istore (i := 4) (L2 := [(4, .int v12), (3, .int (v2 + v5)), (0, rv p0), (1, .int p1), (2, .int p2)]) hX dX4_tries_52 (by decide) rfl ?_
          refine s_iload hX dX4_tries_54 0 rfl ?_
          refine s_aload_n hX dX4_tries_56 rfl 2 rfl ?_
          refine s_getR (ci := 4) (j := 23) (ref := "WindGasModel") hX (pcG 4) in_X4 (Or.inl q1561) (by decide) (by decide) (by decide) rfl dX4_tries_57 (fun _ h9 => h9) (fun v13 => ?_)
          refine s_iconst (v := 0) hX dX4_tries_60 rfl ?_
          refine s_iald hX (pcA 0) dX4_tries_61 (fun v14 => ?_)
          refine s_mmin hX q1848 q500 q95 q501 rfl (by omega) (by first | decide | (simp [rv_cat, cat_i, cat_l]; try omega)) dX4_tries_62 ?_
          refine s_istore (i := 5) (L2 := [(5, .int (mn v12 v14)), (4, .int v12), (3, .int (v2 + v5)), (0, rv p0), (1, .int p1), (2, .int p2)]) hX dX4_tries_65 (by decide) rfl ?_
          refine s_iload hX dX4_tries_67 1 rfl ?_
          refine s_iload hX dX4_tries_69 0 rfl ?_
          refine s_isub hX dX4_tries_71 ?_
          refine s_istore (i := 6) (L2 := [(6, .int (v12 - (mn v12 v14))), (5, .int (mn v12 v14)), (4, .int v12), (3, .int (v2 + v5)), (0, rv p0), (1, .int p1), (2, .int p2)]) hX dX4_tries_72 (by decide) rfl ?_
          refine s_iload hX dX4_tries_74 0 rfl ?_
          refine s_aload_n hX dX4_tries_76 rfl 4 rfl ?_
          refine s_getR (ci := 4) (j := 23) (ref := "WindGasModel") hX (pcG 4) in_X4 (Or.inl q1561) (by decide) (by decide) (by decide) rfl dX4_tries_77 (fun _ h9 => h9) (fun v15 => ?_)
          refine s_iconst (v := 1) hX dX4_tries_80 rfl ?_
          refine s_iald hX (pcA 0) dX4_tries_81 (fun v16 => ?_)
          refine s_aload_n hX dX4_tries_82 rfl 4 rfl ?_
          refine s_getI (ci := 4) (j := 39) (ref := "WindGasModel") hX (pcG 4) in_X4 (Or.inl q1577) (by decide) (by decide) (by decide) rfl dX4_tries_83 (fun _ h9 => h9) (fun v17 => ?_)
          refine s_mmin hX q1848 q500 q95 q501 rfl (by omega) (by first | decide | (simp [rv_cat, cat_i, cat_l]; try omega)) dX4_tries_86 ?_
          refine s_jn (P := fun j => ∀ (v18 : Int32), Sim X cvU 97 [(0, rv p0), (1, .int p1), (2, .int p2), (3, .int (v2 + v5)), (4, .int v12), (5, .int (mn v12 v14)), (6, .int (v12 - (mn v12 v14)))] [.int v18] (j v18)) ?_ (fun j97 hj97 => ?_)
          · intro v18
            refine s_istore (i := 7) (L2 := [(7, .int v18), (0, rv p0), (1, .int p1), (2, .int p2), (3, .int (v2 + v5)), (4, .int v12), (5, .int (mn v12 v14)), (6, .int (v12 - (mn v12 v14)))]) hX dX4_tries_97 (by decide) rfl ?_
            refine s_iload hX dX4_tries_99 0 rfl ?_
            refine s_jn (P := fun j => ∀ (v19 : Int32), Sim X cvU 141 [(0, rv p0), (1, .int p1), (3, .int (v2 + v5)), (4, .int v12), (5, .int (mn v12 v14)), (6, .int (v12 - (mn v12 v14))), (7, .int v19)] [] (j v19)) ?_ (fun j141 hj141 => ?_)
            · intro v19
              refine s_iload hX dX4_tries_141 6 rfl ?_
              refine s_jn (P := fun j => ∀ (u : Unit), Sim X cvU 221 [] [] (j u)) ?_ (fun j221 hj221 => ?_)
              · intro u
                exact s_vret hX dX4_tries_221
              · refine s_if_eq (tgt := 206) hX dX4_tries_143 (by decide) ?_ ?_
                · refine s_aload_n hX dX4_tries_206 rfl 0 rfl ?_
                  refine s_getI (ci := 4) (j := 0) (ref := "WindGasModel") hX (pcG 4) in_X4 (Or.inl q1538) (by decide) (by decide) (by decide) rfl dX4_tries_207 (fun _ h9 => h9) (fun v20 => ?_)
                  refine s_iload_n hX dX4_tries_210 rfl 2 rfl ?_
                  refine s_icmp_ne (tgt := 221) hX dX4_tries_211 (by decide) ?_ ?_
                  · exact s_sub [] rfl (hj221 ())
                  · refine s_aload_n hX dX4_tries_214 rfl 0 rfl ?_
                    refine s_getR (ci := 4) (j := 35) (ref := "WindGasModel") hX (pcG 4) in_X4 (Or.inl q1573) (by decide) (by decide) (by decide) rfl dX4_tries_215 (fun _ h9 => h9) (fun v21 => ?_)
                    refine s_iload_n hX dX4_tries_218 rfl 1 rfl ?_
                    refine s_iconst (v := 2) hX dX4_tries_219 rfl ?_
                    refine s_iast hX (pcA 0) (pcB 0) dX4_tries_220 ?_
                    exact s_sub [] rfl (hj221 ())
                · refine s_aload_n hX dX4_tries_146 rfl 0 rfl ?_
                  refine s_iconst (v := 0) hX dX4_tries_147 rfl ?_
                  refine s_iload hX dX4_tries_148 4 rfl ?_
                  refine s_iload_n hX dX4_tries_150 rfl 1 rfl ?_
                  refine s_callV_U (ci := 4) (n := 3) (As := [.int 0, .int (mn v12 v14), .int p1]) (st := []) hX (pcK 5) (by decide) (ct_X4_goesOut X.l n p0 (0 : Int32) (mn v12 v14) p1) q1896 q1898 qs58 q91 q1899 yvX4_goesOut (by decide) rfl (by first | decide | simp [rv_cat, cat_i, cat_l]) dX4_tries_151 (fun _ => ?_)
                  refine s_aload_n hX dX4_tries_154 rfl 0 rfl ?_
                  refine s_iconst (v := 1) hX dX4_tries_155 rfl ?_
                  refine s_iload hX dX4_tries_156 5 rfl ?_
                  refine s_iload_n hX dX4_tries_158 rfl 1 rfl ?_
                  refine s_callV_U (ci := 4) (n := 3) (As := [.int 1, .int (v12 - (mn v12 v14)), .int p1]) (st := []) hX (pcK 5) (by decide) (ct_X4_goesOut X.l n p0 (1 : Int32) (v12 - (mn v12 v14)) p1) q1896 q1898 qs58 q91 q1899 yvX4_goesOut (by decide) rfl (by first | decide | simp [rv_cat, cat_i, cat_l]) dX4_tries_159 (fun _ => ?_)
                  refine s_aload_n hX dX4_tries_162 rfl 0 rfl ?_
                  refine s_dup hX dX4_tries_163 (rv_cat _) ?_
                  refine s_getI (ci := 4) (j := 39) (ref := "WindGasModel") hX (pcG 4) in_X4 (Or.inl q1577) (by decide) (by decide) (by decide) rfl dX4_tries_164 (fun _ h9 => h9) (fun v22 => ?_)
                  refine s_iload hX dX4_tries_167 5 rfl ?_
                  refine s_isub hX dX4_tries_169 ?_
                  refine s_putI (ci := 4) (j := 39) (ref := "WindGasModel") hX (pcG 4) (pcP 4) in_X4 tyX4_ok nmX4 (Or.inl q1577) (by decide) (by decide) (by decide) rfl rfl rfl dX4_tries_170 (fun _ h9 => h9) ?_
                  refine s_aload_n hX dX4_tries_173 rfl 0 rfl ?_
                  refine s_getR (ci := 4) (j := 35) (ref := "WindGasModel") hX (pcG 4) in_X4 (Or.inl q1573) (by decide) (by decide) (by decide) rfl dX4_tries_174 (fun _ h9 => h9) (fun v23 => ?_)
                  refine s_iload_n hX dX4_tries_177 rfl 1 rfl ?_
                  refine s_iconst (v := 1) hX dX4_tries_178 rfl ?_
                  refine s_iast hX (pcA 0) (pcB 0) dX4_tries_179 ?_
                  refine s_aload_n hX dX4_tries_180 rfl 0 rfl ?_
                  refine s_getR (ci := 4) (j := 36) (ref := "WindGasModel") hX (pcG 4) in_X4 (Or.inl q1574) (by decide) (by decide) (by decide) rfl dX4_tries_181 (fun _ h9 => h9) (fun v24 => ?_)
                  refine s_iload_n hX dX4_tries_184 rfl 1 rfl ?_
                  refine s_aload_n hX dX4_tries_185 rfl 0 rfl ?_
                  refine s_getI (ci := 4) (j := 0) (ref := "WindGasModel") hX (pcG 4) in_X4 (Or.inl q1538) (by decide) (by decide) (by decide) rfl dX4_tries_186 (fun _ h9 => h9) (fun v25 => ?_)
                  refine s_iast hX (pcA 0) (pcB 0) dX4_tries_189 ?_
                  refine s_aload_n hX dX4_tries_190 rfl 0 rfl ?_
                  refine s_getR (ci := 4) (j := 17) (ref := "WindGasModel") hX (pcG 4) in_X4 (Or.inl q1555) (by decide) (by decide) (by decide) rfl dX4_tries_191 (fun _ h9 => h9) (fun v26 => ?_)
                  refine s_bipush (v := 6) hX dX4_tries_194 (by decide) ?_
                  refine s_dup2 hX dX4_tries_196 rfl (rv_cat _) ?_
                  refine s_lald hX (pcA 1) dX4_tries_197 (fun v27 => ?_)
                  refine s_iload hX dX4_tries_198 3 rfl ?_
                  refine s_i2l hX dX4_tries_200 ?_
                  refine s_ladd hX dX4_tries_201 ?_
                  refine s_last hX (pcA 1) (pcB 1) dX4_tries_202 ?_
                  refine s_goto (tgt := 221) hX dX4_tries_203 (by decide) ?_
                  exact s_sub [] rfl (hj221 ())
            · refine s_if_eq (tgt := 141) hX dX4_tries_101 (by decide) ?_ ?_
              · exact s_sub [1, 2, 4, 5, 6, 7, 0] rfl (hj141 v18)
              · refine s_aload_n hX dX4_tries_104 rfl 1 rfl ?_
                refine s_iconst (v := 0) hX dX4_tries_105 rfl ?_
                refine s_iload hX dX4_tries_106 6 rfl ?_
                refine s_callV_I (ci := 4) (n := 2) (As := [.int 0, .int (mn v12 v14)]) (st := []) hX (pcK 5) (by decide) (ct_X4_foulIn X.l n p0 (0 : Int32) (mn v12 v14)) q1888 q1890 qs57 q91 q1891 yvX4_foulIn (by decide) rfl (by first | decide | simp [rv_cat, cat_i, cat_l]) dX4_tries_108 (fun v28 => ?_)
                refine s_aload_n hX dX4_tries_111 rfl 1 rfl ?_
                refine s_iconst (v := 1) hX dX4_tries_112 rfl ?_
                refine s_iload hX dX4_tries_113 7 rfl ?_
                refine s_callV_I (ci := 4) (n := 2) (As := [.int 1, .int (v12 - (mn v12 v14))]) (st := [.int v28]) hX (pcK 5) (by decide) (ct_X4_foulIn X.l n p0 (1 : Int32) (v12 - (mn v12 v14))) q1888 q1890 qs57 q91 q1891 yvX4_foulIn (by decide) rfl (by first | decide | simp [rv_cat, cat_i, cat_l]) dX4_tries_115 (fun v29 => ?_)
                refine s_iadd hX dX4_tries_118 ?_
                refine s_i2l hX dX4_tries_119 ?_
                refine s_ldc2 (v := 10000) hX dX4_tries_120 q1895 ?_
                refine s_lmul hX dX4_tries_123 ?_
                refine s_iload hX dX4_tries_124 5 rfl ?_
                refine s_i2l hX dX4_tries_126 ?_
                refine s_ldiv hX dX4_tries_127 ?_
                refine s_iload_n hX dX4_tries_128 rfl 3 rfl ?_
                refine s_i2l hX dX4_tries_129 ?_
                refine s_lcmp hX dX4_tries_130 ?_
                refine s_jn (P := fun j => ∀ (v30 : Int32), Sim X cvU 139 [(0, rv p0), (1, .int p1), (3, .int (v2 + v5)), (4, .int v12), (5, .int (mn v12 v14)), (6, .int (v12 - (mn v12 v14)))] [.int v30] (j v30)) ?_ (fun j139 hj139 => ?_)
                · intro v30
                  refine s_istore (i := 7) (L2 := [(7, .int v30), (0, rv p0), (1, .int p1), (3, .int (v2 + v5)), (4, .int v12), (5, .int (mn v12 v14)), (6, .int (v12 - (mn v12 v14)))]) hX dX4_tries_139 (by decide) rfl ?_
                  exact s_sub [1, 2, 3, 4, 5, 6, 0] rfl (hj141 v30)
                · refine s_if_gt (tgt := 138) hX dX4_tries_131 (by decide) ?_ ?_
                  · refine s_iconst (v := 0) hX dX4_tries_138 rfl ?_
                    exact s_sub [1, 2, 4, 5, 6, 7] rfl (hj139 0)
                  · refine s_iconst (v := 1) hX dX4_tries_134 rfl ?_
                    refine s_goto (tgt := 139) hX dX4_tries_135 (by decide) ?_
                    exact s_sub [1, 2, 4, 5, 6, 7] rfl (hj139 1)
          · refine s_icmp_gt (tgt := 96) hX dX4_tries_89 (by decide) ?_ ?_
            · refine s_iconst (v := 0) hX dX4_tries_96 rfl ?_
              exact s_sub [4, 5, 6, 3, 2, 1, 0] rfl (hj97 0)
            · refine s_iconst (v := 1) hX dX4_tries_92 rfl ?_
              refine s_goto (tgt := 97) hX dX4_tries_93 (by decide) ?_
              exact s_sub [4, 5, 6, 3, 2, 1, 0] rfl (hj97 1)
        · exact s_sub [] rfl (hj45 ())
  · refine s_if_ne (tgt := 20) hX dX4_tries_12 (by decide) ?_ ?_
    · refine s_iconst (v := 0) hX dX4_tries_20 rfl ?_
      exact hj21 0
    · refine s_bipush (v := 11) hX dX4_tries_15 (by decide) ?_
      refine s_goto (tgt := 21) hX dX4_tries_17 (by decide) ?_
      exact hj21 11
