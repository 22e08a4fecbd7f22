set_option maxRecDepth 100000
noncomputable def lp_L_law_18 (n : Nat) (p0 : Nat) (v1 : Nat) (v2 : Nat) (q : Nat) : Int32 → Act Int32 := match q with
  | 0 => fun _ => fail
  | q + 1 => fun w3 =>
    bnd (lenq 0 p0) fun v4 =>
    if (v4 - 6) < w3 then
      purS (ty := .boolean) 1
    else
      bnd (ldI 0 p0 w3) fun v5 =>
      jn (fun (_ : Unit) =>
        (lp_L_law_18 n p0 v1 v2 q) (w3 + 6)) fun j1036 =>
      sw (v5 &&& 31) (0) [
        bnd (ldI 0 p0 (w3 + 1)) fun v6 =>
        bnd (ldI 0 p0 (w3 + 2)) fun v7 =>
        bnd (ldI 0 p0 (w3 + 3)) fun v8 =>
        bnd (ldI 0 p0 (w3 + 4)) fun v9 =>
        bnd (gd 0 v1 (nt (f_X0_tell v1 v6 v7 v8 v9))) fun v10 =>
        bnd (ldI 0 p0 (w3 + 1)) fun v11 =>
        bnd (ldI 0 p0 (w3 + 2)) fun v12 =>
        bnd (ldI 0 p0 (w3 + 3)) fun v13 =>
        bnd (ldI 0 p0 (w3 + 4)) fun v14 =>
        bnd (gd 4 v2 (nt (f_X4_tell v2 v11 v12 v13 v14))) fun v15 =>
        if v10 = v15 then
          j1036 ()
        else
          purS (ty := .boolean) 0,
        bnd (ldI 0 p0 (w3 + 1)) fun v16 =>
        bnd (ldI 0 p0 (w3 + 2)) fun v17 =>
        bnd (gd 0 v1 (nt (f_X0_said n v1 v16 v17))) fun v18 =>
        bnd (ldI 0 p0 (w3 + 1)) fun v19 =>
        bnd (ldI 0 p0 (w3 + 2)) fun v20 =>
        bnd (gd 4 v2 (nt (f_X4_said n v2 v19 v20))) fun v21 =>
        if v18 = v21 then
          j1036 ()
        else
          purS (ty := .boolean) 0,
        bnd (ldI 0 p0 (w3 + 1)) fun v22 =>
        bnd (ldI 0 p0 (w3 + 2)) fun v23 =>
        bnd (ldI 0 p0 (w3 + 3)) fun v24 =>
        bnd (gd 0 v1 (nt (f_X0_stack v1 v22 v23 v24))) fun v25 =>
        bnd (ldI 0 p0 (w3 + 1)) fun v26 =>
        bnd (ldI 0 p0 (w3 + 2)) fun v27 =>
        bnd (ldI 0 p0 (w3 + 3)) fun v28 =>
        bnd (gd 4 v2 (nt (f_X4_stack v2 v26 v27 v28))) fun v29 =>
        if v25 = v29 then
          j1036 ()
        else
          purS (ty := .boolean) 0,
        bnd (ldI 0 p0 (w3 + 1)) fun v30 =>
        bnd (ldI 0 p0 (w3 + 2)) fun v31 =>
        bnd (ldI 0 p0 (w3 + 3)) fun v32 =>
        bnd (ldI 0 p0 (w3 + 4)) fun v33 =>
        bnd (gd 0 v1 (nt (f_X0_store v1 v30 v31 v32 v33))) fun v34 =>
        bnd (ldI 0 p0 (w3 + 1)) fun v35 =>
        bnd (ldI 0 p0 (w3 + 2)) fun v36 =>
        bnd (ldI 0 p0 (w3 + 3)) fun v37 =>
        bnd (ldI 0 p0 (w3 + 4)) fun v38 =>
        bnd (gd 4 v2 (nt (f_X4_store v2 v35 v36 v37 v38))) fun v39 =>
        if v34 = v39 then
          j1036 ()
        else
          purS (ty := .boolean) 0,
        bnd (ldI 0 p0 (w3 + 1)) fun v40 =>
        bnd (ldI 0 p0 (w3 + 2)) fun v41 =>
        bnd (gd 0 v1 (nt (f_X0_tank v1 v40 v41))) fun v42 =>
        bnd (ldI 0 p0 (w3 + 1)) fun v43 =>
        bnd (ldI 0 p0 (w3 + 2)) fun v44 =>
        bnd (gd 4 v2 (nt (f_X4_tank v2 v43 v44))) fun v45 =>
        if v42 = v45 then
          j1036 ()
        else
          purS (ty := .boolean) 0,
        bnd (ldI 0 p0 (w3 + 1)) fun v46 =>
        bnd (ldI 0 p0 (w3 + 2)) fun v47 =>
        bnd (ldI 0 p0 (w3 + 3)) fun v48 =>
        bnd (gd 0 v1 (nt (f_X0_trip v1 v46 v47 v48))) fun v49 =>
        bnd (ldI 0 p0 (w3 + 1)) fun v50 =>
        bnd (ldI 0 p0 (w3 + 2)) fun v51 =>
        bnd (ldI 0 p0 (w3 + 3)) fun v52 =>
        bnd (gd 4 v2 (nt (f_X4_trip v2 v50 v51 v52))) fun v53 =>
        if v49 = v53 then
          j1036 ()
        else
          purS (ty := .boolean) 0,
        bnd (ldI 0 p0 (w3 + 1)) fun v54 =>
        bnd (gd 0 v1 (nt (f_X0_pass n v1 v54))) fun v55 =>
        bnd (ldI 0 p0 (w3 + 1)) fun v56 =>
        bnd (gd 4 v2 (nt (f_X4_pass n v2 v56))) fun v57 =>
        if v55 = v57 then
          j1036 ()
        else
          purS (ty := .boolean) 0,
        bnd (ldI 0 p0 (w3 + 1)) fun v58 =>
        bnd (ldI 0 p0 (w3 + 2)) fun v59 =>
        bnd (gd 0 v1 (nt (f_X0_stackOf n v1 v58 v59))) fun v60 =>
        bnd (ldI 0 p0 (w3 + 1)) fun v61 =>
        bnd (ldI 0 p0 (w3 + 2)) fun v62 =>
        bnd (gd 4 v2 (nt (f_X4_stackOf n v2 v61 v62))) fun v63 =>
        if (lg_cmp v60 v63) = 0 then
          j1036 ()
        else
          purS (ty := .boolean) 0,
        bnd (ldI 0 p0 (w3 + 1)) fun v64 =>
        bnd (ldI 0 p0 (w3 + 2)) fun v65 =>
        bnd (gd 0 v1 (nt (f_X0_storeOf n v1 v64 v65))) fun v66 =>
        bnd (ldI 0 p0 (w3 + 1)) fun v67 =>
        bnd (ldI 0 p0 (w3 + 2)) fun v68 =>
        bnd (gd 4 v2 (nt (f_X4_storeOf v2 v67 v68))) fun v69 =>
        if (lg_cmp v66 v69) = 0 then
          j1036 ()
        else
          purS (ty := .boolean) 0,
        bnd (ldI 0 p0 (w3 + 1)) fun v70 =>
        bnd (ldI 0 p0 (w3 + 2)) fun v71 =>
        bnd (ldI 0 p0 (w3 + 3)) fun v72 =>
        bnd (gd 0 v1 (nt (f_X0_lot v1 v70 v71 v72))) fun v73 =>
        bnd (ldI 0 p0 (w3 + 1)) fun v74 =>
        bnd (ldI 0 p0 (w3 + 2)) fun v75 =>
        bnd (ldI 0 p0 (w3 + 3)) fun v76 =>
        bnd (gd 4 v2 (nt (f_X4_lot v2 v74 v75 v76))) fun v77 =>
        if v73 = v77 then
          j1036 ()
        else
          purS (ty := .boolean) 0,
        bnd (ldI 0 p0 (w3 + 1)) fun v78 =>
        bnd (ldI 0 p0 (w3 + 2)) fun v79 =>
        bnd (gd 0 v1 (nt (f_X0_tripOf n v1 v78 v79))) fun v80 =>
        bnd (ldI 0 p0 (w3 + 1)) fun v81 =>
        bnd (ldI 0 p0 (w3 + 2)) fun v82 =>
        bnd (gd 4 v2 (nt (f_X4_tripOf n v2 v81 v82))) fun v83 =>
        if v80 = v83 then
          j1036 ()
        else
          purS (ty := .boolean) 0,
        bnd (ldI 0 p0 (w3 + 1)) fun v84 =>
        bnd (ldI 0 p0 (w3 + 2)) fun v85 =>
        bnd (gd 0 v1 (nt (f_X0_drank n v1 v84 v85))) fun v86 =>
        bnd (ldI 0 p0 (w3 + 1)) fun v87 =>
        bnd (ldI 0 p0 (w3 + 2)) fun v88 =>
        bnd (gd 4 v2 (nt (f_X4_drank v2 v87 v88))) fun v89 =>
        if v86 = v89 then
          j1036 ()
        else
          purS (ty := .boolean) 0,
        bnd (ldI 0 p0 (w3 + 1)) fun v90 =>
        bnd (gd 0 v1 (nt (f_X0_green n v1 v90))) fun v91 =>
        bnd (ldI 0 p0 (w3 + 1)) fun v92 =>
        bnd (gd 4 v2 (nt (f_X4_green n v2 v92))) fun v93 =>
        if v91 = v93 then
          j1036 ()
        else
          purS (ty := .boolean) 0,
        bnd (ldI 0 p0 (w3 + 1)) fun v94 =>
        bnd (ldI 0 p0 (w3 + 2)) fun v95 =>
        bnd (ldI 0 p0 (w3 + 3)) fun v96 =>
        bnd (gd 0 v1 (nt (f_X0_paper v1 v94 v95 v96))) fun v97 =>
        bnd (ldI 0 p0 (w3 + 1)) fun v98 =>
        bnd (ldI 0 p0 (w3 + 2)) fun v99 =>
        bnd (ldI 0 p0 (w3 + 3)) fun v100 =>
        bnd (gd 4 v2 (nt (f_X4_paper v2 v98 v99 v100))) fun v101 =>
        if v97 = v101 then
          j1036 ()
        else
          purS (ty := .boolean) 0,
        bnd (ldI 0 p0 (w3 + 1)) fun v102 =>
        bnd (ldI 0 p0 (w3 + 2)) fun v103 =>
        bnd (gd 0 v1 (nt (f_X0_paperOf n v1 v102 v103))) fun v104 =>
        bnd (ldI 0 p0 (w3 + 1)) fun v105 =>
        bnd (ldI 0 p0 (w3 + 2)) fun v106 =>
        bnd (gd 4 v2 (nt (f_X4_paperOf n v2 v105 v106))) fun v107 =>
        if v104 = v107 then
          j1036 ()
        else
          purS (ty := .boolean) 0,
        bnd (ldI 0 p0 (w3 + 1)) fun v108 =>
        bnd (ldI 0 p0 (w3 + 2)) fun v109 =>
        bnd (ldI 0 p0 (w3 + 3)) fun v110 =>
        bnd (gd 0 v1 (nt (f_X0_meter n v1 v108 v109 v110))) fun v111 =>
        bnd (ldI 0 p0 (w3 + 1)) fun v112 =>
        bnd (ldI 0 p0 (w3 + 2)) fun v113 =>
        bnd (ldI 0 p0 (w3 + 3)) fun v114 =>
        bnd (gd 4 v2 (nt (f_X4_meter n v2 v112 v113 v114))) fun v115 =>
        if v111 = v115 then
          j1036 ()
        else
          purS (ty := .boolean) 0,
        bnd (ldI 0 p0 (w3 + 1)) fun v116 =>
        bnd (ldI 0 p0 (w3 + 2)) fun v117 =>
        bnd (ldI 0 p0 (w3 + 3)) fun v118 =>
        bnd (ldI 0 p0 (w3 + 4)) fun v119 =>
        bnd (ldI 0 p0 (w3 + 5)) fun v120 =>
        bnd (gd 0 v1 (nt (f_X0_feed n v1 v116 v117 v118 v119 v120))) fun v121 =>
        bnd (ldI 0 p0 (w3 + 1)) fun v122 =>
        bnd (ldI 0 p0 (w3 + 2)) fun v123 =>
        bnd (ldI 0 p0 (w3 + 3)) fun v124 =>
        bnd (ldI 0 p0 (w3 + 4)) fun v125 =>
        bnd (ldI 0 p0 (w3 + 5)) fun v126 =>
        bnd (gd 4 v2 (nt (f_X4_feed n v2 v122 v123 v124 v125 v126))) fun v127 =>
        if v121 = v127 then
          j1036 ()
        else
          purS (ty := .boolean) 0,
        bnd (ldI 0 p0 (w3 + 1)) fun v128 =>
        bnd (gd 0 v1 (nt (f_X0_rules n v1 v128))) fun v129 =>
        bnd (ldI 0 p0 (w3 + 1)) fun v130 =>
        bnd (gd 4 v2 (nt (f_X4_rules n v2 v130))) fun v131 =>
        if v129 = v131 then
          j1036 ()
        else
          purS (ty := .boolean) 0,
        bnd (gd 0 v1 (nt (f_X0_fault v1))) fun v132 =>
        bnd (gd 4 v2 (nt (f_X4_fault v2))) fun v133 =>
        if v132 = v133 then
          j1036 ()
        else
          purS (ty := .boolean) 0,
        bnd (ldI 0 p0 (w3 + 1)) fun v134 =>
        bnd (ldI 0 p0 (w3 + 2)) fun v135 =>
        bnd (gd 0 v1 (nt (f_X0_law n v1 v134 v135))) fun v136 =>
        bnd (ldI 0 p0 (w3 + 1)) fun v137 =>
        bnd (ldI 0 p0 (w3 + 2)) fun v138 =>
        bnd (gd 4 v2 (nt (f_X4_law n v2 v137 v138))) fun v139 =>
        if v136 = v139 then
          j1036 ()
        else
          purS (ty := .boolean) 0,
        bnd (ldI 0 p0 (w3 + 1)) fun v140 =>
        bnd (ldI 0 p0 (w3 + 2)) fun v141 =>
        bnd (ldI 0 p0 (w3 + 3)) fun v142 =>
        bnd (gd 0 v1 (nt (f_X0_place v1 v140 v141 v142))) fun v143 =>
        bnd (ldI 0 p0 (w3 + 1)) fun v144 =>
        bnd (ldI 0 p0 (w3 + 2)) fun v145 =>
        bnd (ldI 0 p0 (w3 + 3)) fun v146 =>
        bnd (gd 4 v2 (nt (f_X4_place_2 v2 v144 v145 v146))) fun v147 =>
        if v143 = v147 then
          j1036 ()
        else
          purS (ty := .boolean) 0,
        bnd (ldI 0 p0 (w3 + 1)) fun v148 =>
        bnd (gd 0 v1 (nt (f_X0_apart n v1 v148))) fun v149 =>
        bnd (ldI 0 p0 (w3 + 1)) fun v150 =>
        bnd (gd 4 v2 (nt (f_X4_apart n v2 v150))) fun v151 =>
        if v149 = v151 then
          j1036 ()
        else
          purS (ty := .boolean) 0,
        bnd (ldI 0 p0 (w3 + 1)) fun v152 =>
        bnd (ldI 0 p0 (w3 + 2)) fun v153 =>
        bnd (ldI 0 p0 (w3 + 3)) fun v154 =>
        bnd (gd 0 v1 (nt (f_X0_plan n v1 v152 v153 v154))) fun v155 =>
        bnd (ldI 0 p0 (w3 + 1)) fun v156 =>
        bnd (ldI 0 p0 (w3 + 2)) fun v157 =>
        bnd (ldI 0 p0 (w3 + 3)) fun v158 =>
        bnd (gd 4 v2 (nt (f_X4_plan n v2 v156 v157 v158))) fun v159 =>
        if v155 = v159 then
          j1036 ()
        else
          purS (ty := .boolean) 0,
        bnd (ldI 0 p0 (w3 + 1)) fun v160 =>
        bnd (gd 0 v1 (nt (f_X0_sum v1 v160))) fun v161 =>
        bnd (ldI 0 p0 (w3 + 1)) fun v162 =>
        bnd (gd 4 v2 (nt (f_X4_sum v2 v162))) fun v163 =>
        if (lg_cmp v161 v163) = 0 then
          j1036 ()
        else
          purS (ty := .boolean) 0,
        bnd (ldI 0 p0 (w3 + 1)) fun v164 =>
        bnd (gd 0 v1 (nt (f_X0_count n v1 v164))) fun v165 =>
        bnd (ldI 0 p0 (w3 + 1)) fun v166 =>
        bnd (gd 4 v2 (nt (f_X4_count n v2 v166))) fun v167 =>
        if v165 = v167 then
          j1036 ()
        else
          purS (ty := .boolean) 0] (
        j1036 ())
noncomputable def f_L_law (n : Nat) (p0 : Nat) : Act Int32 :=
  bnd (newO 0 42) fun v1 =>
  bnd (gd 0 v1 (nt (f_X0_init v1))) fun _ =>
  bnd (newO 4 79) fun v2 =>
  bnd (gd 4 v2 (nt (f_X4_init v2))) fun _ =>
  lp_L_law_18 n p0 v1 v2 n 0
set_option maxHeartbeats 40000000 in
theorem s_lp_L_law_18 {X : Cx} (hX : Ok X Pic cL_law R_law 4 (some FieldType.boolean) 2048 84000) (hnh : Noh X) (n : Nat) (p0 : Nat) (v1 : Nat) (v2 : Nat) (q : Nat) : ∀ (w3 : Int32), Sim X cvI 18 [(0, rv p0), (1, rv v1), (2, rv v2), (3, .int w3)] [] (lp_L_law_18 n p0 v1 v2 q w3) := by
  induction q with
  | zero => intro w3; exact s_fail
  | succ q ih18 =>
    intro w3
    rw [lp_L_law_18]
    refine s_iload_n hX dL_law_18 rfl 3 rfl ?_
    refine s_aload_n hX dL_law_19 rfl 0 rfl ?_
    refine s_alen (q := 0) hX (by decide) (pcA 0) dL_law_20 (fun v4 => ?_)
    refine s_bipush (v := 6) hX dL_law_21 (by decide) ?_
    refine s_isub hX dL_law_23 ?_
    refine s_icmp_gt (tgt := 1042) hX dL_law_24 (by decide) ?_ ?_
    · refine s_iconst (v := 1) hX dL_law_1042 rfl ?_
      exact s_zret hX dL_law_1043
    · refine s_aload_n hX dL_law_27 rfl 0 rfl ?_
      refine s_iload_n hX dL_law_28 rfl 3 rfl ?_
      refine s_iald hX (pcA 0) dL_law_29 (fun v5 => ?_)
      refine s_bipush (v := 31) hX dL_law_30 (by decide) ?_
      refine s_iand hX dL_law_32 ?_
      refine s_jn (P := fun j => ∀ (u : Unit), Sim X cvI 1036 [(0, rv p0), (1, rv v1), (2, rv v2), (3, .int w3)] [] (j u)) ?_ (fun j1036 hj1036 => ?_)
      · intro u
        refine s_iinc (k := 3) (v := (w3 + 6)) (L2 := [(3, .int (w3 + 6)), (0, rv p0), (1, rv v1), (2, rv v2)]) hX dL_law_1036 rfl rfl (by decide) (by first | (simp [rv_cat, cat_i, cat_l]; done) | (simp [rv_cat, cat_i, cat_l]; decide)) ?_
        refine s_goto (tgt := 18) hX dL_law_1039 (by decide) ?_
        exact s_sub [1, 2, 3, 0] rfl (ih18 (w3 + 6))
      · refine s_sw hX dL_law_33 (dt := 1036) (by decide) (tgts := [148, 201, 234, 277, 330, 363, 406, 429, 463, 497, 540, 573, 606, 629, 672, 705, 748, 811, 834, 847, 880, 923, 946, 989, 1013]) (by decide) (by decide) ?_ ?_
        · exact hj1036 ()
        · refine ⟨?_, ?_, ?_, ?_, ?_, ?_, ?_, ?_, ?_, ?_, ?_, ?_, ?_, ?_, ?_, ?_, ?_, ?_, ?_, ?_, ?_, ?_, ?_, ?_, ?_, trivial⟩
          · refine s_aload_n hX dL_law_148 rfl 1 rfl ?_
            refine s_aload_n hX dL_law_149 rfl 0 rfl ?_
            refine s_iload_n hX dL_law_150 rfl 3 rfl ?_
            refine s_iconst (v := 1) hX dL_law_151 rfl ?_
            refine s_iadd hX dL_law_152 ?_
            refine s_iald hX (pcA 0) dL_law_153 (fun v6 => ?_)
            refine s_aload_n hX dL_law_154 rfl 0 rfl ?_
            refine s_iload_n hX dL_law_155 rfl 3 rfl ?_
            refine s_iconst (v := 2) hX dL_law_156 rfl ?_
            refine s_iadd hX dL_law_157 ?_
            refine s_iald hX (pcA 0) dL_law_158 (fun v7 => ?_)
            refine s_aload_n hX dL_law_159 rfl 0 rfl ?_
            refine s_iload_n hX dL_law_160 rfl 3 rfl ?_
            refine s_iconst (v := 3) hX dL_law_161 rfl ?_
            refine s_iadd hX dL_law_162 ?_
            refine s_iald hX (pcA 0) dL_law_163 (fun v8 => ?_)
            refine s_aload_n hX dL_law_164 rfl 0 rfl ?_
            refine s_iload_n hX dL_law_165 rfl 3 rfl ?_
            refine s_iconst (v := 4) hX dL_law_166 rfl ?_
            refine s_iadd hX dL_law_167 ?_
            refine s_iald hX (pcA 0) dL_law_168 (fun v9 => ?_)
            refine s_callV_I (ci := 0) (n := 4) (As := [.int v6, .int v7, .int v8, .int v9]) (st := []) hX (pcK 1) (by decide) (ct_X0_tell X.l v1 v6 v7 v8 v9) q395 q396 q397 q84 q398 yvX0_tell (by decide) rfl (by first | decide | simp [rv_cat, cat_i, cat_l]) dL_law_169 (fun v10 => ?_)
            refine s_aload_n hX dL_law_172 rfl 2 rfl ?_
            refine s_aload_n hX dL_law_173 rfl 0 rfl ?_
            refine s_iload_n hX dL_law_174 rfl 3 rfl ?_
            refine s_iconst (v := 1) hX dL_law_175 rfl ?_
            refine s_iadd hX dL_law_176 ?_
            refine s_iald hX (pcA 0) dL_law_177 (fun v11 => ?_)
            refine s_aload_n hX dL_law_178 rfl 0 rfl ?_
            refine s_iload_n hX dL_law_179 rfl 3 rfl ?_
            refine s_iconst (v := 2) hX dL_law_180 rfl ?_
            refine s_iadd hX dL_law_181 ?_
            refine s_iald hX (pcA 0) dL_law_182 (fun v12 => ?_)
            refine s_aload_n hX dL_law_183 rfl 0 rfl ?_
            refine s_iload_n hX dL_law_184 rfl 3 rfl ?_
            refine s_iconst (v := 3) hX dL_law_185 rfl ?_
            refine s_iadd hX dL_law_186 ?_
            refine s_iald hX (pcA 0) dL_law_187 (fun v13 => ?_)
            refine s_aload_n hX dL_law_188 rfl 0 rfl ?_
            refine s_iload_n hX dL_law_189 rfl 3 rfl ?_
            refine s_iconst (v := 4) hX dL_law_190 rfl ?_
            refine s_iadd hX dL_law_191 ?_
            refine s_iald hX (pcA 0) dL_law_192 (fun v14 => ?_)
            refine s_callV_I (ci := 4) (n := 4) (As := [.int v11, .int v12, .int v13, .int v14]) (st := [.int v10]) hX (pcK 5) (by decide) (ct_X4_tell X.l v2 v11 v12 v13 v14) q1777 q1778 q1779 q91 q1780 yvX4_tell (by decide) rfl (by first | decide | simp [rv_cat, cat_i, cat_l]) dL_law_193 (fun v15 => ?_)
            refine s_icmp_eq (tgt := 1036) hX dL_law_196 (by decide) ?_ ?_
            · exact hj1036 ()
            · refine s_iconst (v := 0) hX dL_law_199 rfl ?_
              exact s_zret hX dL_law_200
          · refine s_aload_n hX dL_law_201 rfl 1 rfl ?_
            refine s_aload_n hX dL_law_202 rfl 0 rfl ?_
            refine s_iload_n hX dL_law_203 rfl 3 rfl ?_
            refine s_iconst (v := 1) hX dL_law_204 rfl ?_
            refine s_iadd hX dL_law_205 ?_
            refine s_iald hX (pcA 0) dL_law_206 (fun v16 => ?_)
            refine s_aload_n hX dL_law_207 rfl 0 rfl ?_
            refine s_iload_n hX dL_law_208 rfl 3 rfl ?_
            refine s_iconst (v := 2) hX dL_law_209 rfl ?_
            refine s_iadd hX dL_law_210 ?_
            refine s_iald hX (pcA 0) dL_law_211 (fun v17 => ?_)
            refine s_callV_I (ci := 0) (n := 2) (As := [.int v16, .int v17]) (st := []) hX (pcK 1) (by decide) (ct_X0_said X.l n v1 v16 v17) q507 q508 q509 q84 q510 yvX0_said (by decide) rfl (by first | decide | simp [rv_cat, cat_i, cat_l]) dL_law_212 (fun v18 => ?_)
            refine s_aload_n hX dL_law_215 rfl 2 rfl ?_
            refine s_aload_n hX dL_law_216 rfl 0 rfl ?_
            refine s_iload_n hX dL_law_217 rfl 3 rfl ?_
            refine s_iconst (v := 1) hX dL_law_218 rfl ?_
            refine s_iadd hX dL_law_219 ?_
            refine s_iald hX (pcA 0) dL_law_220 (fun v19 => ?_)
            refine s_aload_n hX dL_law_221 rfl 0 rfl ?_
            refine s_iload_n hX dL_law_222 rfl 3 rfl ?_
            refine s_iconst (v := 2) hX dL_law_223 rfl ?_
            refine s_iadd hX dL_law_224 ?_
            refine s_iald hX (pcA 0) dL_law_225 (fun v20 => ?_)
            refine s_callV_I (ci := 4) (n := 2) (As := [.int v19, .int v20]) (st := [.int v18]) hX (pcK 5) (by decide) (ct_X4_said X.l n v2 v19 v20) q1790 q1791 q1792 q91 q1793 yvX4_said (by decide) rfl (by first | decide | simp [rv_cat, cat_i, cat_l]) dL_law_226 (fun v21 => ?_)
            refine s_icmp_eq (tgt := 1036) hX dL_law_229 (by decide) ?_ ?_
            · exact hj1036 ()
            · refine s_iconst (v := 0) hX dL_law_232 rfl ?_
              exact s_zret hX dL_law_233
          · refine s_aload_n hX dL_law_234 rfl 1 rfl ?_
            refine s_aload_n hX dL_law_235 rfl 0 rfl ?_
            refine s_iload_n hX dL_law_236 rfl 3 rfl ?_
            refine s_iconst (v := 1) hX dL_law_237 rfl ?_
            refine s_iadd hX dL_law_238 ?_
            refine s_iald hX (pcA 0) dL_law_239 (fun v22 => ?_)
            refine s_aload_n hX dL_law_240 rfl 0 rfl ?_
            refine s_iload_n hX dL_law_241 rfl 3 rfl ?_
            refine s_iconst (v := 2) hX dL_law_242 rfl ?_
            refine s_iadd hX dL_law_243 ?_
            refine s_iald hX (pcA 0) dL_law_244 (fun v23 => ?_)
            refine s_aload_n hX dL_law_245 rfl 0 rfl ?_
            refine s_iload_n hX dL_law_246 rfl 3 rfl ?_
            refine s_iconst (v := 3) hX dL_law_247 rfl ?_
            refine s_iadd hX dL_law_248 ?_
            refine s_iald hX (pcA 0) dL_law_249 (fun v24 => ?_)
            refine s_callV_I (ci := 0) (n := 3) (As := [.int v22, .int v23, .int v24]) (st := []) hX (pcK 1) (by decide) (ct_X0_stack X.l v1 v22 v23 v24) q1102 q1103 q1104 q84 q1105 yvX0_stack (by decide) rfl (by first | decide | simp [rv_cat, cat_i, cat_l]) dL_law_250 (fun v25 => ?_)
            refine s_aload_n hX dL_law_253 rfl 2 rfl ?_
            refine s_aload_n hX dL_law_254 rfl 0 rfl ?_
            refine s_iload_n hX dL_law_255 rfl 3 rfl ?_
            refine s_iconst (v := 1) hX dL_law_256 rfl ?_
            refine s_iadd hX dL_law_257 ?_
            refine s_iald hX (pcA 0) dL_law_258 (fun v26 => ?_)
            refine s_aload_n hX dL_law_259 rfl 0 rfl ?_
            refine s_iload_n hX dL_law_260 rfl 3 rfl ?_
            refine s_iconst (v := 2) hX dL_law_261 rfl ?_
            refine s_iadd hX dL_law_262 ?_
            refine s_iald hX (pcA 0) dL_law_263 (fun v27 => ?_)
            refine s_aload_n hX dL_law_264 rfl 0 rfl ?_
            refine s_iload_n hX dL_law_265 rfl 3 rfl ?_
            refine s_iconst (v := 3) hX dL_law_266 rfl ?_
            refine s_iadd hX dL_law_267 ?_
            refine s_iald hX (pcA 0) dL_law_268 (fun v28 => ?_)
            refine s_callV_I (ci := 4) (n := 3) (As := [.int v26, .int v27, .int v28]) (st := [.int v25]) hX (pcK 5) (by decide) (ct_X4_stack X.l v2 v26 v27 v28) q1799 q1800 q1801 q91 q1802 yvX4_stack (by decide) rfl (by first | decide | simp [rv_cat, cat_i, cat_l]) dL_law_269 (fun v29 => ?_)
            refine s_icmp_eq (tgt := 1036) hX dL_law_272 (by decide) ?_ ?_
            · exact hj1036 ()
            · refine s_iconst (v := 0) hX dL_law_275 rfl ?_
              exact s_zret hX dL_law_276
          · refine s_aload_n hX dL_law_277 rfl 1 rfl ?_
            refine s_aload_n hX dL_law_278 rfl 0 rfl ?_
            refine s_iload_n hX dL_law_279 rfl 3 rfl ?_
            refine s_iconst (v := 1) hX dL_law_280 rfl ?_
            refine s_iadd hX dL_law_281 ?_
            refine s_iald hX (pcA 0) dL_law_282 (fun v30 => ?_)
            refine s_aload_n hX dL_law_283 rfl 0 rfl ?_
            refine s_iload_n hX dL_law_284 rfl 3 rfl ?_
            refine s_iconst (v := 2) hX dL_law_285 rfl ?_
            refine s_iadd hX dL_law_286 ?_
            refine s_iald hX (pcA 0) dL_law_287 (fun v31 => ?_)
            refine s_aload_n hX dL_law_288 rfl 0 rfl ?_
            refine s_iload_n hX dL_law_289 rfl 3 rfl ?_
            refine s_iconst (v := 3) hX dL_law_290 rfl ?_
            refine s_iadd hX dL_law_291 ?_
            refine s_iald hX (pcA 0) dL_law_292 (fun v32 => ?_)
            refine s_aload_n hX dL_law_293 rfl 0 rfl ?_
            refine s_iload_n hX dL_law_294 rfl 3 rfl ?_
            refine s_iconst (v := 4) hX dL_law_295 rfl ?_
            refine s_iadd hX dL_law_296 ?_
            refine s_iald hX (pcA 0) dL_law_297 (fun v33 => ?_)
            refine s_callV_I (ci := 0) (n := 4) (As := [.int v30, .int v31, .int v32, .int v33]) (st := []) hX (pcK 1) (by decide) (ct_X0_store X.l v1 v30 v31 v32 v33) q1034 q1035 q1036 q84 q1037 yvX0_store (by decide) rfl (by first | decide | simp [rv_cat, cat_i, cat_l]) dL_law_298 (fun v34 => ?_)
            refine s_aload_n hX dL_law_301 rfl 2 rfl ?_
            refine s_aload_n hX dL_law_302 rfl 0 rfl ?_
            refine s_iload_n hX dL_law_303 rfl 3 rfl ?_
            refine s_iconst (v := 1) hX dL_law_304 rfl ?_
            refine s_iadd hX dL_law_305 ?_
            refine s_iald hX (pcA 0) dL_law_306 (fun v35 => ?_)
            refine s_aload_n hX dL_law_307 rfl 0 rfl ?_
            refine s_iload_n hX dL_law_308 rfl 3 rfl ?_
            refine s_iconst (v := 2) hX dL_law_309 rfl ?_
            refine s_iadd hX dL_law_310 ?_
            refine s_iald hX (pcA 0) dL_law_311 (fun v36 => ?_)
            refine s_aload_n hX dL_law_312 rfl 0 rfl ?_
            refine s_iload_n hX dL_law_313 rfl 3 rfl ?_
            refine s_iconst (v := 3) hX dL_law_314 rfl ?_
            refine s_iadd hX dL_law_315 ?_
            refine s_iald hX (pcA 0) dL_law_316 (fun v37 => ?_)
            refine s_aload_n hX dL_law_317 rfl 0 rfl ?_
            refine s_iload_n hX dL_law_318 rfl 3 rfl ?_
            refine s_iconst (v := 4) hX dL_law_319 rfl ?_
            refine s_iadd hX dL_law_320 ?_
            refine s_iald hX (pcA 0) dL_law_321 (fun v38 => ?_)
            refine s_callV_I (ci := 4) (n := 4) (As := [.int v35, .int v36, .int v37, .int v38]) (st := [.int v34]) hX (pcK 5) (by decide) (ct_X4_store X.l v2 v35 v36 v37 v38) q1803 q1804 q1805 q91 q1806 yvX4_store (by decide) rfl (by first | decide | simp [rv_cat, cat_i, cat_l]) dL_law_322 (fun v39 => ?_)
            refine s_icmp_eq (tgt := 1036) hX dL_law_325 (by decide) ?_ ?_
            · exact hj1036 ()
            · refine s_iconst (v := 0) hX dL_law_328 rfl ?_
              exact s_zret hX dL_law_329
          · refine s_aload_n hX dL_law_330 rfl 1 rfl ?_
            refine s_aload_n hX dL_law_331 rfl 0 rfl ?_
            refine s_iload_n hX dL_law_332 rfl 3 rfl ?_
            refine s_iconst (v := 1) hX dL_law_333 rfl ?_
            refine s_iadd hX dL_law_334 ?_
            refine s_iald hX (pcA 0) dL_law_335 (fun v40 => ?_)
            refine s_aload_n hX dL_law_336 rfl 0 rfl ?_
            refine s_iload_n hX dL_law_337 rfl 3 rfl ?_
            refine s_iconst (v := 2) hX dL_law_338 rfl ?_
            refine s_iadd hX dL_law_339 ?_
            refine s_iald hX (pcA 0) dL_law_340 (fun v41 => ?_)
            refine s_callV_I (ci := 0) (n := 2) (As := [.int v40, .int v41]) (st := []) hX (pcK 1) (by decide) (ct_X0_tank X.l v1 v40 v41) q1147 q1148 q1149 q84 q1150 yvX0_tank (by decide) rfl (by first | decide | simp [rv_cat, cat_i, cat_l]) dL_law_341 (fun v42 => ?_)
            refine s_aload_n hX dL_law_344 rfl 2 rfl ?_
            refine s_aload_n hX dL_law_345 rfl 0 rfl ?_
            refine s_iload_n hX dL_law_346 rfl 3 rfl ?_
            refine s_iconst (v := 1) hX dL_law_347 rfl ?_
            refine s_iadd hX dL_law_348 ?_
            refine s_iald hX (pcA 0) dL_law_349 (fun v43 => ?_)
            refine s_aload_n hX dL_law_350 rfl 0 rfl ?_
            refine s_iload_n hX dL_law_351 rfl 3 rfl ?_
            refine s_iconst (v := 2) hX dL_law_352 rfl ?_
            refine s_iadd hX dL_law_353 ?_
            refine s_iald hX (pcA 0) dL_law_354 (fun v44 => ?_)
            refine s_callV_I (ci := 4) (n := 2) (As := [.int v43, .int v44]) (st := [.int v42]) hX (pcK 5) (by decide) (ct_X4_tank X.l v2 v43 v44) q1811 q1812 q1813 q91 q1814 yvX4_tank (by decide) rfl (by first | decide | simp [rv_cat, cat_i, cat_l]) dL_law_355 (fun v45 => ?_)
            refine s_icmp_eq (tgt := 1036) hX dL_law_358 (by decide) ?_ ?_
            · exact hj1036 ()
            · refine s_iconst (v := 0) hX dL_law_361 rfl ?_
              exact s_zret hX dL_law_362
          · refine s_aload_n hX dL_law_363 rfl 1 rfl ?_
            refine s_aload_n hX dL_law_364 rfl 0 rfl ?_
            refine s_iload_n hX dL_law_365 rfl 3 rfl ?_
            refine s_iconst (v := 1) hX dL_law_366 rfl ?_
            refine s_iadd hX dL_law_367 ?_
            refine s_iald hX (pcA 0) dL_law_368 (fun v46 => ?_)
            refine s_aload_n hX dL_law_369 rfl 0 rfl ?_
            refine s_iload_n hX dL_law_370 rfl 3 rfl ?_
            refine s_iconst (v := 2) hX dL_law_371 rfl ?_
            refine s_iadd hX dL_law_372 ?_
            refine s_iald hX (pcA 0) dL_law_373 (fun v47 => ?_)
            refine s_aload_n hX dL_law_374 rfl 0 rfl ?_
            refine s_iload_n hX dL_law_375 rfl 3 rfl ?_
            refine s_iconst (v := 3) hX dL_law_376 rfl ?_
            refine s_iadd hX dL_law_377 ?_
            refine s_iald hX (pcA 0) dL_law_378 (fun v48 => ?_)
            refine s_callV_I (ci := 0) (n := 3) (As := [.int v46, .int v47, .int v48]) (st := []) hX (pcK 1) (by decide) (ct_X0_trip X.l v1 v46 v47 v48) q1297 q1298 q1299 q84 q1300 yvX0_trip (by decide) rfl (by first | decide | simp [rv_cat, cat_i, cat_l]) dL_law_379 (fun v49 => ?_)
            refine s_aload_n hX dL_law_382 rfl 2 rfl ?_
            refine s_aload_n hX dL_law_383 rfl 0 rfl ?_
            refine s_iload_n hX dL_law_384 rfl 3 rfl ?_
            refine s_iconst (v := 1) hX dL_law_385 rfl ?_
            refine s_iadd hX dL_law_386 ?_
            refine s_iald hX (pcA 0) dL_law_387 (fun v50 => ?_)
            refine s_aload_n hX dL_law_388 rfl 0 rfl ?_
            refine s_iload_n hX dL_law_389 rfl 3 rfl ?_
            refine s_iconst (v := 2) hX dL_law_390 rfl ?_
            refine s_iadd hX dL_law_391 ?_
            refine s_iald hX (pcA 0) dL_law_392 (fun v51 => ?_)
            refine s_aload_n hX dL_law_393 rfl 0 rfl ?_
            refine s_iload_n hX dL_law_394 rfl 3 rfl ?_
            refine s_iconst (v := 3) hX dL_law_395 rfl ?_
            refine s_iadd hX dL_law_396 ?_
            refine s_iald hX (pcA 0) dL_law_397 (fun v52 => ?_)
            refine s_callV_I (ci := 4) (n := 3) (As := [.int v50, .int v51, .int v52]) (st := [.int v49]) hX (pcK 5) (by decide) (ct_X4_trip X.l v2 v50 v51 v52) q1816 q1817 q1818 q91 q1819 yvX4_trip (by decide) rfl (by first | decide | simp [rv_cat, cat_i, cat_l]) dL_law_398 (fun v53 => ?_)
            refine s_icmp_eq (tgt := 1036) hX dL_law_401 (by decide) ?_ ?_
            · exact hj1036 ()
            · refine s_iconst (v := 0) hX dL_law_404 rfl ?_
              exact s_zret hX dL_law_405
          · refine s_aload_n hX dL_law_406 rfl 1 rfl ?_
            refine s_aload_n hX dL_law_407 rfl 0 rfl ?_
            refine s_iload_n hX dL_law_408 rfl 3 rfl ?_
            refine s_iconst (v := 1) hX dL_law_409 rfl ?_
            refine s_iadd hX dL_law_410 ?_
            refine s_iald hX (pcA 0) dL_law_411 (fun v54 => ?_)
            refine s_callV_I (ci := 0) (n := 1) (As := [.int v54]) (st := []) hX (pcK 1) (by decide) (ct_X0_pass X.l n v1 v54) q1152 q1153 q1154 q84 q1155 yvX0_pass (by decide) rfl (by first | decide | simp [rv_cat, cat_i, cat_l]) dL_law_412 (fun v55 => ?_)
            refine s_aload_n hX dL_law_415 rfl 2 rfl ?_
            refine s_aload_n hX dL_law_416 rfl 0 rfl ?_
            refine s_iload_n hX dL_law_417 rfl 3 rfl ?_
            refine s_iconst (v := 1) hX dL_law_418 rfl ?_
            refine s_iadd hX dL_law_419 ?_
            refine s_iald hX (pcA 0) dL_law_420 (fun v56 => ?_)
            refine s_callV_I (ci := 4) (n := 1) (As := [.int v56]) (st := [.int v55]) hX (pcK 5) (by decide) (ct_X4_pass X.l n v2 v56) q1821 q1822 q1823 q91 q1824 yvX4_pass (by decide) rfl (by first | decide | simp [rv_cat, cat_i, cat_l]) dL_law_421 (fun v57 => ?_)
            refine s_icmp_eq (tgt := 1036) hX dL_law_424 (by decide) ?_ ?_
            · exact hj1036 ()
            · refine s_iconst (v := 0) hX dL_law_427 rfl ?_
              exact s_zret hX dL_law_428
          · refine s_aload_n hX dL_law_429 rfl 1 rfl ?_
            refine s_aload_n hX dL_law_430 rfl 0 rfl ?_
            refine s_iload_n hX dL_law_431 rfl 3 rfl ?_
            refine s_iconst (v := 1) hX dL_law_432 rfl ?_
            refine s_iadd hX dL_law_433 ?_
            refine s_iald hX (pcA 0) dL_law_434 (fun v58 => ?_)
            refine s_aload_n hX dL_law_435 rfl 0 rfl ?_
            refine s_iload_n hX dL_law_436 rfl 3 rfl ?_
            refine s_iconst (v := 2) hX dL_law_437 rfl ?_
            refine s_iadd hX dL_law_438 ?_
            refine s_iald hX (pcA 0) dL_law_439 (fun v59 => ?_)
            refine s_callV_L (ci := 0) (n := 2) (As := [.int v58, .int v59]) (st := []) hX (pcK 1) (by decide) (ct_X0_stackOf X.l n v1 v58 v59) q1293 q1294 q1295 q84 q1296 yvX0_stackOf (by decide) rfl (by first | decide | simp [rv_cat, cat_i, cat_l]) dL_law_440 (fun v60 => ?_)
            refine s_aload_n hX dL_law_443 rfl 2 rfl ?_
            refine s_aload_n hX dL_law_444 rfl 0 rfl ?_
            refine s_iload_n hX dL_law_445 rfl 3 rfl ?_
            refine s_iconst (v := 1) hX dL_law_446 rfl ?_
            refine s_iadd hX dL_law_447 ?_
            refine s_iald hX (pcA 0) dL_law_448 (fun v61 => ?_)
            refine s_aload_n hX dL_law_449 rfl 0 rfl ?_
            refine s_iload_n hX dL_law_450 rfl 3 rfl ?_
            refine s_iconst (v := 2) hX dL_law_451 rfl ?_
            refine s_iadd hX dL_law_452 ?_
            refine s_iald hX (pcA 0) dL_law_453 (fun v62 => ?_)
            refine s_callV_L (ci := 4) (n := 2) (As := [.int v61, .int v62]) (st := [.long v60]) hX (pcK 5) (by decide) (ct_X4_stackOf X.l n v2 v61 v62) q1900 q1901 q1902 q91 q1903 yvX4_stackOf (by decide) rfl (by first | decide | simp [rv_cat, cat_i, cat_l]) dL_law_454 (fun v63 => ?_)
            refine s_lcmp hX dL_law_457 ?_
            refine s_if_eq (tgt := 1036) hX dL_law_458 (by decide) ?_ ?_
            · exact hj1036 ()
            · refine s_iconst (v := 0) hX dL_law_461 rfl ?_
              exact s_zret hX dL_law_462
          · refine s_aload_n hX dL_law_463 rfl 1 rfl ?_
            refine s_aload_n hX dL_law_464 rfl 0 rfl ?_
            refine s_iload_n hX dL_law_465 rfl 3 rfl ?_
            refine s_iconst (v := 1) hX dL_law_466 rfl ?_
            refine s_iadd hX dL_law_467 ?_
            refine s_iald hX (pcA 0) dL_law_468 (fun v64 => ?_)
            refine s_aload_n hX dL_law_469 rfl 0 rfl ?_
            refine s_iload_n hX dL_law_470 rfl 3 rfl ?_
            refine s_iconst (v := 2) hX dL_law_471 rfl ?_
            refine s_iadd hX dL_law_472 ?_
            refine s_iald hX (pcA 0) dL_law_473 (fun v65 => ?_)
            refine s_callV_L (ci := 0) (n := 2) (As := [.int v64, .int v65]) (st := []) hX (pcK 1) (by decide) (ct_X0_storeOf X.l n v1 v64 v65) q1044 q1045 q1046 q84 q1047 yvX0_storeOf (by decide) rfl (by first | decide | simp [rv_cat, cat_i, cat_l]) dL_law_474 (fun v66 => ?_)
            refine s_aload_n hX dL_law_477 rfl 2 rfl ?_
            refine s_aload_n hX dL_law_478 rfl 0 rfl ?_
            refine s_iload_n hX dL_law_479 rfl 3 rfl ?_
            refine s_iconst (v := 1) hX dL_law_480 rfl ?_
            refine s_iadd hX dL_law_481 ?_
            refine s_iald hX (pcA 0) dL_law_482 (fun v67 => ?_)
            refine s_aload_n hX dL_law_483 rfl 0 rfl ?_
            refine s_iload_n hX dL_law_484 rfl 3 rfl ?_
            refine s_iconst (v := 2) hX dL_law_485 rfl ?_
            refine s_iadd hX dL_law_486 ?_
            refine s_iald hX (pcA 0) dL_law_487 (fun v68 => ?_)
            refine s_callV_L (ci := 4) (n := 2) (As := [.int v67, .int v68]) (st := [.long v66]) hX (pcK 5) (by decide) (ct_X4_storeOf X.l v2 v67 v68) q1909 q1910 q1911 q91 q1912 yvX4_storeOf (by decide) rfl (by first | decide | simp [rv_cat, cat_i, cat_l]) dL_law_488 (fun v69 => ?_)
            refine s_lcmp hX dL_law_491 ?_
            refine s_if_eq (tgt := 1036) hX dL_law_492 (by decide) ?_ ?_
            · exact hj1036 ()
            · refine s_iconst (v := 0) hX dL_law_495 rfl ?_
              exact s_zret hX dL_law_496
          · refine s_aload_n hX dL_law_497 rfl 1 rfl ?_
            refine s_aload_n hX dL_law_498 rfl 0 rfl ?_
            refine s_iload_n hX dL_law_499 rfl 3 rfl ?_
            refine s_iconst (v := 1) hX dL_law_500 rfl ?_
            refine s_iadd hX dL_law_501 ?_
            refine s_iald hX (pcA 0) dL_law_502 (fun v70 => ?_)
            refine s_aload_n hX dL_law_503 rfl 0 rfl ?_
            refine s_iload_n hX dL_law_504 rfl 3 rfl ?_
            refine s_iconst (v := 2) hX dL_law_505 rfl ?_
            refine s_iadd hX dL_law_506 ?_
            refine s_iald hX (pcA 0) dL_law_507 (fun v71 => ?_)
            refine s_aload_n hX dL_law_508 rfl 0 rfl ?_
            refine s_iload_n hX dL_law_509 rfl 3 rfl ?_
            refine s_iconst (v := 3) hX dL_law_510 rfl ?_
            refine s_iadd hX dL_law_511 ?_
            refine s_iald hX (pcA 0) dL_law_512 (fun v72 => ?_)
            refine s_callV_I (ci := 0) (n := 3) (As := [.int v70, .int v71, .int v72]) (st := []) hX (pcK 1) (by decide) (ct_X0_lot X.l v1 v70 v71 v72) q1056 q1057 q1058 q84 q1059 yvX0_lot (by decide) rfl (by first | decide | simp [rv_cat, cat_i, cat_l]) dL_law_513 (fun v73 => ?_)
            refine s_aload_n hX dL_law_516 rfl 2 rfl ?_
            refine s_aload_n hX dL_law_517 rfl 0 rfl ?_
            refine s_iload_n hX dL_law_518 rfl 3 rfl ?_
            refine s_iconst (v := 1) hX dL_law_519 rfl ?_
            refine s_iadd hX dL_law_520 ?_
            refine s_iald hX (pcA 0) dL_law_521 (fun v74 => ?_)
            refine s_aload_n hX dL_law_522 rfl 0 rfl ?_
            refine s_iload_n hX dL_law_523 rfl 3 rfl ?_
            refine s_iconst (v := 2) hX dL_law_524 rfl ?_
            refine s_iadd hX dL_law_525 ?_
            refine s_iald hX (pcA 0) dL_law_526 (fun v75 => ?_)
            refine s_aload_n hX dL_law_527 rfl 0 rfl ?_
            refine s_iload_n hX dL_law_528 rfl 3 rfl ?_
            refine s_iconst (v := 3) hX dL_law_529 rfl ?_
            refine s_iadd hX dL_law_530 ?_
            refine s_iald hX (pcA 0) dL_law_531 (fun v76 => ?_)
            refine s_callV_I (ci := 4) (n := 3) (As := [.int v74, .int v75, .int v76]) (st := [.int v73]) hX (pcK 5) (by decide) (ct_X4_lot X.l v2 v74 v75 v76) q1913 q1914 q1915 q91 q1916 yvX4_lot (by decide) rfl (by first | decide | simp [rv_cat, cat_i, cat_l]) dL_law_532 (fun v77 => ?_)
            refine s_icmp_eq (tgt := 1036) hX dL_law_535 (by decide) ?_ ?_
            · exact hj1036 ()
            · refine s_iconst (v := 0) hX dL_law_538 rfl ?_
              exact s_zret hX dL_law_539
          · refine s_aload_n hX dL_law_540 rfl 1 rfl ?_
            refine s_aload_n hX dL_law_541 rfl 0 rfl ?_
            refine s_iload_n hX dL_law_542 rfl 3 rfl ?_
            refine s_iconst (v := 1) hX dL_law_543 rfl ?_
            refine s_iadd hX dL_law_544 ?_
            refine s_iald hX (pcA 0) dL_law_545 (fun v78 => ?_)
            refine s_aload_n hX dL_law_546 rfl 0 rfl ?_
            refine s_iload_n hX dL_law_547 rfl 3 rfl ?_
            refine s_iconst (v := 2) hX dL_law_548 rfl ?_
            refine s_iadd hX dL_law_549 ?_
            refine s_iald hX (pcA 0) dL_law_550 (fun v79 => ?_)
            refine s_callV_I (ci := 0) (n := 2) (As := [.int v78, .int v79]) (st := []) hX (pcK 1) (by decide) (ct_X0_tripOf X.l n v1 v78 v79) q1350 q1351 q1352 q84 q1353 yvX0_tripOf (by decide) rfl (by first | decide | simp [rv_cat, cat_i, cat_l]) dL_law_551 (fun v80 => ?_)
            refine s_aload_n hX dL_law_554 rfl 2 rfl ?_
            refine s_aload_n hX dL_law_555 rfl 0 rfl ?_
            refine s_iload_n hX dL_law_556 rfl 3 rfl ?_
            refine s_iconst (v := 1) hX dL_law_557 rfl ?_
            refine s_iadd hX dL_law_558 ?_
            refine s_iald hX (pcA 0) dL_law_559 (fun v81 => ?_)
            refine s_aload_n hX dL_law_560 rfl 0 rfl ?_
            refine s_iload_n hX dL_law_561 rfl 3 rfl ?_
            refine s_iconst (v := 2) hX dL_law_562 rfl ?_
            refine s_iadd hX dL_law_563 ?_
            refine s_iald hX (pcA 0) dL_law_564 (fun v82 => ?_)
            refine s_callV_I (ci := 4) (n := 2) (As := [.int v81, .int v82]) (st := [.int v80]) hX (pcK 5) (by decide) (ct_X4_tripOf X.l n v2 v81 v82) q1917 q1918 q1919 q91 q1920 yvX4_tripOf (by decide) rfl (by first | decide | simp [rv_cat, cat_i, cat_l]) dL_law_565 (fun v83 => ?_)
            refine s_icmp_eq (tgt := 1036) hX dL_law_568 (by decide) ?_ ?_
            · exact hj1036 ()
            · refine s_iconst (v := 0) hX dL_law_571 rfl ?_
              exact s_zret hX dL_law_572
          · refine s_aload_n hX dL_law_573 rfl 1 rfl ?_
            refine s_aload_n hX dL_law_574 rfl 0 rfl ?_
            refine s_iload_n hX dL_law_575 rfl 3 rfl ?_
            refine s_iconst (v := 1) hX dL_law_576 rfl ?_
            refine s_iadd hX dL_law_577 ?_
            refine s_iald hX (pcA 0) dL_law_578 (fun v84 => ?_)
            refine s_aload_n hX dL_law_579 rfl 0 rfl ?_
            refine s_iload_n hX dL_law_580 rfl 3 rfl ?_
            refine s_iconst (v := 2) hX dL_law_581 rfl ?_
            refine s_iadd hX dL_law_582 ?_
            refine s_iald hX (pcA 0) dL_law_583 (fun v85 => ?_)
            refine s_callV_I (ci := 0) (n := 2) (As := [.int v84, .int v85]) (st := []) hX (pcK 1) (by decide) (ct_X0_drank X.l n v1 v84 v85) q1374 q1375 q1376 q84 q1377 yvX0_drank (by decide) rfl (by first | decide | simp [rv_cat, cat_i, cat_l]) dL_law_584 (fun v86 => ?_)
            refine s_aload_n hX dL_law_587 rfl 2 rfl ?_
            refine s_aload_n hX dL_law_588 rfl 0 rfl ?_
            refine s_iload_n hX dL_law_589 rfl 3 rfl ?_
            refine s_iconst (v := 1) hX dL_law_590 rfl ?_
            refine s_iadd hX dL_law_591 ?_
            refine s_iald hX (pcA 0) dL_law_592 (fun v87 => ?_)
            refine s_aload_n hX dL_law_593 rfl 0 rfl ?_
            refine s_iload_n hX dL_law_594 rfl 3 rfl ?_
            refine s_iconst (v := 2) hX dL_law_595 rfl ?_
            refine s_iadd hX dL_law_596 ?_
            refine s_iald hX (pcA 0) dL_law_597 (fun v88 => ?_)
            refine s_callV_I (ci := 4) (n := 2) (As := [.int v87, .int v88]) (st := [.int v86]) hX (pcK 5) (by decide) (ct_X4_drank X.l v2 v87 v88) q1937 q1938 q1939 q91 q1940 yvX4_drank (by decide) rfl (by first | decide | simp [rv_cat, cat_i, cat_l]) dL_law_598 (fun v89 => ?_)
            refine s_icmp_eq (tgt := 1036) hX dL_law_601 (by decide) ?_ ?_
            · exact hj1036 ()
            · refine s_iconst (v := 0) hX dL_law_604 rfl ?_
              exact s_zret hX dL_law_605
          · refine s_aload_n hX dL_law_606 rfl 1 rfl ?_
            refine s_aload_n hX dL_law_607 rfl 0 rfl ?_
            refine s_iload_n hX dL_law_608 rfl 3 rfl ?_
            refine s_iconst (v := 1) hX dL_law_609 rfl ?_
            refine s_iadd hX dL_law_610 ?_
            refine s_iald hX (pcA 0) dL_law_611 (fun v90 => ?_)
            refine s_callV_I (ci := 0) (n := 1) (As := [.int v90]) (st := []) hX (pcK 1) (by decide) (ct_X0_green X.l n v1 v90) q1337 q1338 q1339 q84 q1340 yvX0_green (by decide) rfl (by first | decide | simp [rv_cat, cat_i, cat_l]) dL_law_612 (fun v91 => ?_)
            refine s_aload_n hX dL_law_615 rfl 2 rfl ?_
            refine s_aload_n hX dL_law_616 rfl 0 rfl ?_
            refine s_iload_n hX dL_law_617 rfl 3 rfl ?_
            refine s_iconst (v := 1) hX dL_law_618 rfl ?_
            refine s_iadd hX dL_law_619 ?_
            refine s_iald hX (pcA 0) dL_law_620 (fun v92 => ?_)
            refine s_callV_I (ci := 4) (n := 1) (As := [.int v92]) (st := [.int v91]) hX (pcK 5) (by decide) (ct_X4_green X.l n v2 v92) q1941 q1942 q1943 q91 q1944 yvX4_green (by decide) rfl (by first | decide | simp [rv_cat, cat_i, cat_l]) dL_law_621 (fun v93 => ?_)
            refine s_icmp_eq (tgt := 1036) hX dL_law_624 (by decide) ?_ ?_
            · exact hj1036 ()
            · refine s_iconst (v := 0) hX dL_law_627 rfl ?_
              exact s_zret hX dL_law_628
          · refine s_aload_n hX dL_law_629 rfl 1 rfl ?_
            refine s_aload_n hX dL_law_630 rfl 0 rfl ?_
            refine s_iload_n hX dL_law_631 rfl 3 rfl ?_
            refine s_iconst (v := 1) hX dL_law_632 rfl ?_
            refine s_iadd hX dL_law_633 ?_
            refine s_iald hX (pcA 0) dL_law_634 (fun v94 => ?_)
            refine s_aload_n hX dL_law_635 rfl 0 rfl ?_
            refine s_iload_n hX dL_law_636 rfl 3 rfl ?_
            refine s_iconst (v := 2) hX dL_law_637 rfl ?_
            refine s_iadd hX dL_law_638 ?_
            refine s_iald hX (pcA 0) dL_law_639 (fun v95 => ?_)
            refine s_aload_n hX dL_law_640 rfl 0 rfl ?_
            refine s_iload_n hX dL_law_641 rfl 3 rfl ?_
            refine s_iconst (v := 3) hX dL_law_642 rfl ?_
            refine s_iadd hX dL_law_643 ?_
            refine s_iald hX (pcA 0) dL_law_644 (fun v96 => ?_)
            refine s_callV_I (ci := 0) (n := 3) (As := [.int v94, .int v95, .int v96]) (st := []) hX (pcK 1) (by decide) (ct_X0_paper X.l v1 v94 v95 v96) q1387 q1388 q1389 q84 q1390 yvX0_paper (by decide) rfl (by first | decide | simp [rv_cat, cat_i, cat_l]) dL_law_645 (fun v97 => ?_)
            refine s_aload_n hX dL_law_648 rfl 2 rfl ?_
            refine s_aload_n hX dL_law_649 rfl 0 rfl ?_
            refine s_iload_n hX dL_law_650 rfl 3 rfl ?_
            refine s_iconst (v := 1) hX dL_law_651 rfl ?_
            refine s_iadd hX dL_law_652 ?_
            refine s_iald hX (pcA 0) dL_law_653 (fun v98 => ?_)
            refine s_aload_n hX dL_law_654 rfl 0 rfl ?_
            refine s_iload_n hX dL_law_655 rfl 3 rfl ?_
            refine s_iconst (v := 2) hX dL_law_656 rfl ?_
            refine s_iadd hX dL_law_657 ?_
            refine s_iald hX (pcA 0) dL_law_658 (fun v99 => ?_)
            refine s_aload_n hX dL_law_659 rfl 0 rfl ?_
            refine s_iload_n hX dL_law_660 rfl 3 rfl ?_
            refine s_iconst (v := 3) hX dL_law_661 rfl ?_
            refine s_iadd hX dL_law_662 ?_
            refine s_iald hX (pcA 0) dL_law_663 (fun v100 => ?_)
            refine s_callV_I (ci := 4) (n := 3) (As := [.int v98, .int v99, .int v100]) (st := [.int v97]) hX (pcK 5) (by decide) (ct_X4_paper X.l v2 v98 v99 v100) q1945 q1946 q1947 q91 q1948 yvX4_paper (by decide) rfl (by first | decide | simp [rv_cat, cat_i, cat_l]) dL_law_664 (fun v101 => ?_)
            refine s_icmp_eq (tgt := 1036) hX dL_law_667 (by decide) ?_ ?_
            · exact hj1036 ()
            · refine s_iconst (v := 0) hX dL_law_670 rfl ?_
              exact s_zret hX dL_law_671
          · refine s_aload_n hX dL_law_672 rfl 1 rfl ?_
            refine s_aload_n hX dL_law_673 rfl 0 rfl ?_
            refine s_iload_n hX dL_law_674 rfl 3 rfl ?_
            refine s_iconst (v := 1) hX dL_law_675 rfl ?_
            refine s_iadd hX dL_law_676 ?_
            refine s_iald hX (pcA 0) dL_law_677 (fun v102 => ?_)
            refine s_aload_n hX dL_law_678 rfl 0 rfl ?_
            refine s_iload_n hX dL_law_679 rfl 3 rfl ?_
            refine s_iconst (v := 2) hX dL_law_680 rfl ?_
            refine s_iadd hX dL_law_681 ?_
            refine s_iald hX (pcA 0) dL_law_682 (fun v103 => ?_)
            refine s_callV_I (ci := 0) (n := 2) (As := [.int v102, .int v103]) (st := []) hX (pcK 1) (by decide) (ct_X0_paperOf X.l n v1 v102 v103) q1408 q1409 q1410 q84 q1411 yvX0_paperOf (by decide) rfl (by first | decide | simp [rv_cat, cat_i, cat_l]) dL_law_683 (fun v104 => ?_)
            refine s_aload_n hX dL_law_686 rfl 2 rfl ?_
            refine s_aload_n hX dL_law_687 rfl 0 rfl ?_
            refine s_iload_n hX dL_law_688 rfl 3 rfl ?_
            refine s_iconst (v := 1) hX dL_law_689 rfl ?_
            refine s_iadd hX dL_law_690 ?_
            refine s_iald hX (pcA 0) dL_law_691 (fun v105 => ?_)
            refine s_aload_n hX dL_law_692 rfl 0 rfl ?_
            refine s_iload_n hX dL_law_693 rfl 3 rfl ?_
            refine s_iconst (v := 2) hX dL_law_694 rfl ?_
            refine s_iadd hX dL_law_695 ?_
            refine s_iald hX (pcA 0) dL_law_696 (fun v106 => ?_)
            refine s_callV_I (ci := 4) (n := 2) (As := [.int v105, .int v106]) (st := [.int v104]) hX (pcK 5) (by decide) (ct_X4_paperOf X.l n v2 v105 v106) q1949 q1950 q1951 q91 q1952 yvX4_paperOf (by decide) rfl (by first | decide | simp [rv_cat, cat_i, cat_l]) dL_law_697 (fun v107 => ?_)
            refine s_icmp_eq (tgt := 1036) hX dL_law_700 (by decide) ?_ ?_
            · exact hj1036 ()
            · refine s_iconst (v := 0) hX dL_law_703 rfl ?_
              exact s_zret hX dL_law_704
          · refine s_aload_n hX dL_law_705 rfl 1 rfl ?_
            refine s_aload_n hX dL_law_706 rfl 0 rfl ?_
            refine s_iload_n hX dL_law_707 rfl 3 rfl ?_
            refine s_iconst (v := 1) hX dL_law_708 rfl ?_
            refine s_iadd hX dL_law_709 ?_
            refine s_iald hX (pcA 0) dL_law_710 (fun v108 => ?_)
            refine s_aload_n hX dL_law_711 rfl 0 rfl ?_
            refine s_iload_n hX dL_law_712 rfl 3 rfl ?_
            refine s_iconst (v := 2) hX dL_law_713 rfl ?_
            refine s_iadd hX dL_law_714 ?_
            refine s_iald hX (pcA 0) dL_law_715 (fun v109 => ?_)
            refine s_aload_n hX dL_law_716 rfl 0 rfl ?_
            refine s_iload_n hX dL_law_717 rfl 3 rfl ?_
            refine s_iconst (v := 3) hX dL_law_718 rfl ?_
            refine s_iadd hX dL_law_719 ?_
            refine s_iald hX (pcA 0) dL_law_720 (fun v110 => ?_)
            refine s_callV_I (ci := 0) (n := 3) (As := [.int v108, .int v109, .int v110]) (st := []) hX (pcK 1) (by decide) (ct_X0_meter X.l n v1 v108 v109 v110) q1061 q1062 q1063 q84 q1064 yvX0_meter (by decide) rfl (by first | decide | simp [rv_cat, cat_i, cat_l]) dL_law_721 (fun v111 => ?_)
            refine s_aload_n hX dL_law_724 rfl 2 rfl ?_
            refine s_aload_n hX dL_law_725 rfl 0 rfl ?_
            refine s_iload_n hX dL_law_726 rfl 3 rfl ?_
            refine s_iconst (v := 1) hX dL_law_727 rfl ?_
            refine s_iadd hX dL_law_728 ?_
            refine s_iald hX (pcA 0) dL_law_729 (fun v112 => ?_)
            refine s_aload_n hX dL_law_730 rfl 0 rfl ?_
            refine s_iload_n hX dL_law_731 rfl 3 rfl ?_
            refine s_iconst (v := 2) hX dL_law_732 rfl ?_
            refine s_iadd hX dL_law_733 ?_
            refine s_iald hX (pcA 0) dL_law_734 (fun v113 => ?_)
            refine s_aload_n hX dL_law_735 rfl 0 rfl ?_
            refine s_iload_n hX dL_law_736 rfl 3 rfl ?_
            refine s_iconst (v := 3) hX dL_law_737 rfl ?_
            refine s_iadd hX dL_law_738 ?_
            refine s_iald hX (pcA 0) dL_law_739 (fun v114 => ?_)
            refine s_callV_I (ci := 4) (n := 3) (As := [.int v112, .int v113, .int v114]) (st := [.int v111]) hX (pcK 5) (by decide) (ct_X4_meter X.l n v2 v112 v113 v114) q1957 q1958 q1959 q91 q1960 yvX4_meter (by decide) rfl (by first | decide | simp [rv_cat, cat_i, cat_l]) dL_law_740 (fun v115 => ?_)
            refine s_icmp_eq (tgt := 1036) hX dL_law_743 (by decide) ?_ ?_
            · exact hj1036 ()
            · refine s_iconst (v := 0) hX dL_law_746 rfl ?_
              exact s_zret hX dL_law_747
          · refine s_aload_n hX dL_law_748 rfl 1 rfl ?_
            refine s_aload_n hX dL_law_749 rfl 0 rfl ?_
            refine s_iload_n hX dL_law_750 rfl 3 rfl ?_
            refine s_iconst (v := 1) hX dL_law_751 rfl ?_
            refine s_iadd hX dL_law_752 ?_
            refine s_iald hX (pcA 0) dL_law_753 (fun v116 => ?_)
            refine s_aload_n hX dL_law_754 rfl 0 rfl ?_
            refine s_iload_n hX dL_law_755 rfl 3 rfl ?_
            refine s_iconst (v := 2) hX dL_law_756 rfl ?_
            refine s_iadd hX dL_law_757 ?_
            refine s_iald hX (pcA 0) dL_law_758 (fun v117 => ?_)
            refine s_aload_n hX dL_law_759 rfl 0 rfl ?_
            refine s_iload_n hX dL_law_760 rfl 3 rfl ?_
            refine s_iconst (v := 3) hX dL_law_761 rfl ?_
            refine s_iadd hX dL_law_762 ?_
            refine s_iald hX (pcA 0) dL_law_763 (fun v118 => ?_)
            refine s_aload_n hX dL_law_764 rfl 0 rfl ?_
            refine s_iload_n hX dL_law_765 rfl 3 rfl ?_
            refine s_iconst (v := 4) hX dL_law_766 rfl ?_
            refine s_iadd hX dL_law_767 ?_
            refine s_iald hX (pcA 0) dL_law_768 (fun v119 => ?_)
            refine s_aload_n hX dL_law_769 rfl 0 rfl ?_
            refine s_iload_n hX dL_law_770 rfl 3 rfl ?_
            refine s_iconst (v := 5) hX dL_law_771 rfl ?_
            refine s_iadd hX dL_law_772 ?_
            refine s_iald hX (pcA 0) dL_law_773 (fun v120 => ?_)
            refine s_callV_I (ci := 0) (n := 5) (As := [.int v116, .int v117, .int v118, .int v119, .int v120]) (st := []) hX (pcK 1) (by decide) (ct_X0_feed X.l n v1 v116 v117 v118 v119 v120) q556 q557 q558 q84 q559 yvX0_feed (by decide) rfl (by first | decide | simp [rv_cat, cat_i, cat_l]) dL_law_774 (fun v121 => ?_)
            refine s_aload_n hX dL_law_777 rfl 2 rfl ?_
            refine s_aload_n hX dL_law_778 rfl 0 rfl ?_
            refine s_iload_n hX dL_law_779 rfl 3 rfl ?_
            refine s_iconst (v := 1) hX dL_law_780 rfl ?_
            refine s_iadd hX dL_law_781 ?_
            refine s_iald hX (pcA 0) dL_law_782 (fun v122 => ?_)
            refine s_aload_n hX dL_law_783 rfl 0 rfl ?_
            refine s_iload_n hX dL_law_784 rfl 3 rfl ?_
            refine s_iconst (v := 2) hX dL_law_785 rfl ?_
            refine s_iadd hX dL_law_786 ?_
            refine s_iald hX (pcA 0) dL_law_787 (fun v123 => ?_)
            refine s_aload_n hX dL_law_788 rfl 0 rfl ?_
            refine s_iload_n hX dL_law_789 rfl 3 rfl ?_
            refine s_iconst (v := 3) hX dL_law_790 rfl ?_
            refine s_iadd hX dL_law_791 ?_
            refine s_iald hX (pcA 0) dL_law_792 (fun v124 => ?_)
            refine s_aload_n hX dL_law_793 rfl 0 rfl ?_
            refine s_iload_n hX dL_law_794 rfl 3 rfl ?_
            refine s_iconst (v := 4) hX dL_law_795 rfl ?_
            refine s_iadd hX dL_law_796 ?_
            refine s_iald hX (pcA 0) dL_law_797 (fun v125 => ?_)
            refine s_aload_n hX dL_law_798 rfl 0 rfl ?_
            refine s_iload_n hX dL_law_799 rfl 3 rfl ?_
            refine s_iconst (v := 5) hX dL_law_800 rfl ?_
            refine s_iadd hX dL_law_801 ?_
            refine s_iald hX (pcA 0) dL_law_802 (fun v126 => ?_)
            refine s_callV_I (ci := 4) (n := 5) (As := [.int v122, .int v123, .int v124, .int v125, .int v126]) (st := [.int v121]) hX (pcK 5) (by decide) (ct_X4_feed X.l n v2 v122 v123 v124 v125 v126) q1962 q1963 q1964 q91 q1965 yvX4_feed (by decide) rfl (by first | decide | simp [rv_cat, cat_i, cat_l]) dL_law_803 (fun v127 => ?_)
            refine s_icmp_eq (tgt := 1036) hX dL_law_806 (by decide) ?_ ?_
            · exact hj1036 ()
            · refine s_iconst (v := 0) hX dL_law_809 rfl ?_
              exact s_zret hX dL_law_810
          · refine s_aload_n hX dL_law_811 rfl 1 rfl ?_
            refine s_aload_n hX dL_law_812 rfl 0 rfl ?_
            refine s_iload_n hX dL_law_813 rfl 3 rfl ?_
            refine s_iconst (v := 1) hX dL_law_814 rfl ?_
            refine s_iadd hX dL_law_815 ?_
            refine s_iald hX (pcA 0) dL_law_816 (fun v128 => ?_)
            refine s_callVW_I (ci := 0) (n := 1) (As := [.int v128]) (st := []) hX (pcK 1) (by decide) (ct_X0_rules X.l n v1 v128) q564 q565 q566 q84 q567 ycX0_rules (by decide) rfl (by first | decide | simp [rv_cat, cat_i, cat_l]) dL_law_817 (fun v129 => ?_)
            refine s_aload_n hX dL_law_820 rfl 2 rfl ?_
            refine s_aload_n hX dL_law_821 rfl 0 rfl ?_
            refine s_iload_n hX dL_law_822 rfl 3 rfl ?_
            refine s_iconst (v := 1) hX dL_law_823 rfl ?_
            refine s_iadd hX dL_law_824 ?_
            refine s_iald hX (pcA 0) dL_law_825 (fun v130 => ?_)
            refine s_callV_I (ci := 4) (n := 1) (As := [.int v130]) (st := [.int v129]) hX (pcK 5) (by decide) (ct_X4_rules X.l n v2 v130) q1970 q1971 q1972 q91 q1973 yvX4_rules (by decide) rfl (by first | decide | simp [rv_cat, cat_i, cat_l]) dL_law_826 (fun v131 => ?_)
            refine s_icmp_eq (tgt := 1036) hX dL_law_829 (by decide) ?_ ?_
            · exact hj1036 ()
            · refine s_iconst (v := 0) hX dL_law_832 rfl ?_
              exact s_zret hX dL_law_833
          · refine s_aload_n hX dL_law_834 rfl 1 rfl ?_
            refine s_callV_I (ci := 0) (n := 0) (As := []) (st := []) hX (pcK 1) (by decide) (ct_X0_fault X.l v1) q1030 q1031 q1032 q84 q1033 yvX0_fault (by decide) rfl (by first | decide | simp [rv_cat, cat_i, cat_l]) dL_law_835 (fun v132 => ?_)
            refine s_aload_n hX dL_law_838 rfl 2 rfl ?_
            refine s_callV_I (ci := 4) (n := 0) (As := []) (st := [.int v132]) hX (pcK 5) (by decide) (ct_X4_fault X.l v2) q2062 q2063 q2064 q91 q2065 yvX4_fault (by decide) rfl (by first | decide | simp [rv_cat, cat_i, cat_l]) dL_law_839 (fun v133 => ?_)
            refine s_icmp_eq (tgt := 1036) hX dL_law_842 (by decide) ?_ ?_
            · exact hj1036 ()
            · refine s_iconst (v := 0) hX dL_law_845 rfl ?_
              exact s_zret hX dL_law_846
          · refine s_aload_n hX dL_law_847 rfl 1 rfl ?_
            refine s_aload_n hX dL_law_848 rfl 0 rfl ?_
            refine s_iload_n hX dL_law_849 rfl 3 rfl ?_
            refine s_iconst (v := 1) hX dL_law_850 rfl ?_
            refine s_iadd hX dL_law_851 ?_
            refine s_iald hX (pcA 0) dL_law_852 (fun v134 => ?_)
            refine s_aload_n hX dL_law_853 rfl 0 rfl ?_
            refine s_iload_n hX dL_law_854 rfl 3 rfl ?_
            refine s_iconst (v := 2) hX dL_law_855 rfl ?_
            refine s_iadd hX dL_law_856 ?_
            refine s_iald hX (pcA 0) dL_law_857 (fun v135 => ?_)
            refine s_callV_I (ci := 0) (n := 2) (As := [.int v134, .int v135]) (st := []) hX (pcK 1) (by decide) (ct_X0_law X.l n v1 v134 v135) q542 q543 q544 q84 q545 yvX0_law (by decide) rfl (by first | decide | simp [rv_cat, cat_i, cat_l]) dL_law_858 (fun v136 => ?_)
            refine s_aload_n hX dL_law_861 rfl 2 rfl ?_
            refine s_aload_n hX dL_law_862 rfl 0 rfl ?_
            refine s_iload_n hX dL_law_863 rfl 3 rfl ?_
            refine s_iconst (v := 1) hX dL_law_864 rfl ?_
            refine s_iadd hX dL_law_865 ?_
            refine s_iald hX (pcA 0) dL_law_866 (fun v137 => ?_)
            refine s_aload_n hX dL_law_867 rfl 0 rfl ?_
            refine s_iload_n hX dL_law_868 rfl 3 rfl ?_
            refine s_iconst (v := 2) hX dL_law_869 rfl ?_
            refine s_iadd hX dL_law_870 ?_
            refine s_iald hX (pcA 0) dL_law_871 (fun v138 => ?_)
            refine s_callV_I (ci := 4) (n := 2) (As := [.int v137, .int v138]) (st := [.int v136]) hX (pcK 5) (by decide) (ct_X4_law X.l n v2 v137 v138) q2066 q2067 q2068 q91 q2069 yvX4_law (by decide) rfl (by first | decide | simp [rv_cat, cat_i, cat_l]) dL_law_872 (fun v139 => ?_)
            refine s_icmp_eq (tgt := 1036) hX dL_law_875 (by decide) ?_ ?_
            · exact hj1036 ()
            · refine s_iconst (v := 0) hX dL_law_878 rfl ?_
              exact s_zret hX dL_law_879
          · refine s_aload_n hX dL_law_880 rfl 1 rfl ?_
            refine s_aload_n hX dL_law_881 rfl 0 rfl ?_
            refine s_iload_n hX dL_law_882 rfl 3 rfl ?_
            refine s_iconst (v := 1) hX dL_law_883 rfl ?_
            refine s_iadd hX dL_law_884 ?_
            refine s_iald hX (pcA 0) dL_law_885 (fun v140 => ?_)
            refine s_aload_n hX dL_law_886 rfl 0 rfl ?_
            refine s_iload_n hX dL_law_887 rfl 3 rfl ?_
            refine s_iconst (v := 2) hX dL_law_888 rfl ?_
            refine s_iadd hX dL_law_889 ?_
            refine s_iald hX (pcA 0) dL_law_890 (fun v141 => ?_)
            refine s_aload_n hX dL_law_891 rfl 0 rfl ?_
            refine s_iload_n hX dL_law_892 rfl 3 rfl ?_
            refine s_iconst (v := 3) hX dL_law_893 rfl ?_
            refine s_iadd hX dL_law_894 ?_
            refine s_iald hX (pcA 0) dL_law_895 (fun v142 => ?_)
            refine s_callV_I (ci := 0) (n := 3) (As := [.int v140, .int v141, .int v142]) (st := []) hX (pcK 1) (by decide) (ct_X0_place X.l v1 v140 v141 v142) q1428 q1429 q1430 q84 q1431 yvX0_place (by decide) rfl (by first | decide | simp [rv_cat, cat_i, cat_l]) dL_law_896 (fun v143 => ?_)
            refine s_aload_n hX dL_law_899 rfl 2 rfl ?_
            refine s_aload_n hX dL_law_900 rfl 0 rfl ?_
            refine s_iload_n hX dL_law_901 rfl 3 rfl ?_
            refine s_iconst (v := 1) hX dL_law_902 rfl ?_
            refine s_iadd hX dL_law_903 ?_
            refine s_iald hX (pcA 0) dL_law_904 (fun v144 => ?_)
            refine s_aload_n hX dL_law_905 rfl 0 rfl ?_
            refine s_iload_n hX dL_law_906 rfl 3 rfl ?_
            refine s_iconst (v := 2) hX dL_law_907 rfl ?_
            refine s_iadd hX dL_law_908 ?_
            refine s_iald hX (pcA 0) dL_law_909 (fun v145 => ?_)
            refine s_aload_n hX dL_law_910 rfl 0 rfl ?_
            refine s_iload_n hX dL_law_911 rfl 3 rfl ?_
            refine s_iconst (v := 3) hX dL_law_912 rfl ?_
            refine s_iadd hX dL_law_913 ?_
            refine s_iald hX (pcA 0) dL_law_914 (fun v146 => ?_)
            refine s_callV_I (ci := 4) (n := 3) (As := [.int v144, .int v145, .int v146]) (st := [.int v143]) hX (pcK 5) (by decide) (ct_X4_place_2 X.l v2 v144 v145 v146) q2070 q2071 q2072 q91 q2073 yvX4_place_2 (by decide) rfl (by first | decide | simp [rv_cat, cat_i, cat_l]) dL_law_915 (fun v147 => ?_)
            refine s_icmp_eq (tgt := 1036) hX dL_law_918 (by decide) ?_ ?_
            · exact hj1036 ()
            · refine s_iconst (v := 0) hX dL_law_921 rfl ?_
              exact s_zret hX dL_law_922
          · refine s_aload_n hX dL_law_923 rfl 1 rfl ?_
            refine s_aload_n hX dL_law_924 rfl 0 rfl ?_
            refine s_iload_n hX dL_law_925 rfl 3 rfl ?_
            refine s_iconst (v := 1) hX dL_law_926 rfl ?_
            refine s_iadd hX dL_law_927 ?_
            refine s_iald hX (pcA 0) dL_law_928 (fun v148 => ?_)
            refine s_callV_I (ci := 0) (n := 1) (As := [.int v148]) (st := []) hX (pcK 1) (by decide) (ct_X0_apart X.l n v1 v148) q1450 q1451 q1452 q84 q1453 yvX0_apart (by decide) rfl (by first | decide | simp [rv_cat, cat_i, cat_l]) dL_law_929 (fun v149 => ?_)
            refine s_aload_n hX dL_law_932 rfl 2 rfl ?_
            refine s_aload_n hX dL_law_933 rfl 0 rfl ?_
            refine s_iload_n hX dL_law_934 rfl 3 rfl ?_
            refine s_iconst (v := 1) hX dL_law_935 rfl ?_
            refine s_iadd hX dL_law_936 ?_
            refine s_iald hX (pcA 0) dL_law_937 (fun v150 => ?_)
            refine s_callV_I (ci := 4) (n := 1) (As := [.int v150]) (st := [.int v149]) hX (pcK 5) (by decide) (ct_X4_apart X.l n v2 v150) q2074 q2075 q2076 q91 q2077 yvX4_apart (by decide) rfl (by first | decide | simp [rv_cat, cat_i, cat_l]) dL_law_938 (fun v151 => ?_)
            refine s_icmp_eq (tgt := 1036) hX dL_law_941 (by decide) ?_ ?_
            · exact hj1036 ()
            · refine s_iconst (v := 0) hX dL_law_944 rfl ?_
              exact s_zret hX dL_law_945
          · refine s_aload_n hX dL_law_946 rfl 1 rfl ?_
            refine s_aload_n hX dL_law_947 rfl 0 rfl ?_
            refine s_iload_n hX dL_law_948 rfl 3 rfl ?_
            refine s_iconst (v := 1) hX dL_law_949 rfl ?_
            refine s_iadd hX dL_law_950 ?_
            refine s_iald hX (pcA 0) dL_law_951 (fun v152 => ?_)
            refine s_aload_n hX dL_law_952 rfl 0 rfl ?_
            refine s_iload_n hX dL_law_953 rfl 3 rfl ?_
            refine s_iconst (v := 2) hX dL_law_954 rfl ?_
            refine s_iadd hX dL_law_955 ?_
            refine s_iald hX (pcA 0) dL_law_956 (fun v153 => ?_)
            refine s_aload_n hX dL_law_957 rfl 0 rfl ?_
            refine s_iload_n hX dL_law_958 rfl 3 rfl ?_
            refine s_iconst (v := 3) hX dL_law_959 rfl ?_
            refine s_iadd hX dL_law_960 ?_
            refine s_iald hX (pcA 0) dL_law_961 (fun v154 => ?_)
            refine s_callV_I (ci := 0) (n := 3) (As := [.int v152, .int v153, .int v154]) (st := []) hX (pcK 1) (by decide) (ct_X0_plan X.l n v1 v152 v153 v154) q1485 q1486 q1487 q84 q1488 yvX0_plan (by decide) rfl (by first | decide | simp [rv_cat, cat_i, cat_l]) dL_law_962 (fun v155 => ?_)
            refine s_aload_n hX dL_law_965 rfl 2 rfl ?_
            refine s_aload_n hX dL_law_966 rfl 0 rfl ?_
            refine s_iload_n hX dL_law_967 rfl 3 rfl ?_
            refine s_iconst (v := 1) hX dL_law_968 rfl ?_
            refine s_iadd hX dL_law_969 ?_
            refine s_iald hX (pcA 0) dL_law_970 (fun v156 => ?_)
            refine s_aload_n hX dL_law_971 rfl 0 rfl ?_
            refine s_iload_n hX dL_law_972 rfl 3 rfl ?_
            refine s_iconst (v := 2) hX dL_law_973 rfl ?_
            refine s_iadd hX dL_law_974 ?_
            refine s_iald hX (pcA 0) dL_law_975 (fun v157 => ?_)
            refine s_aload_n hX dL_law_976 rfl 0 rfl ?_
            refine s_iload_n hX dL_law_977 rfl 3 rfl ?_
            refine s_iconst (v := 3) hX dL_law_978 rfl ?_
            refine s_iadd hX dL_law_979 ?_
            refine s_iald hX (pcA 0) dL_law_980 (fun v158 => ?_)
            refine s_callV_I (ci := 4) (n := 3) (As := [.int v156, .int v157, .int v158]) (st := [.int v155]) hX (pcK 5) (by decide) (ct_X4_plan X.l n v2 v156 v157 v158) q2083 q2084 q2085 q91 q2086 yvX4_plan (by decide) rfl (by first | decide | simp [rv_cat, cat_i, cat_l]) dL_law_981 (fun v159 => ?_)
            refine s_icmp_eq (tgt := 1036) hX dL_law_984 (by decide) ?_ ?_
            · exact hj1036 ()
            · refine s_iconst (v := 0) hX dL_law_987 rfl ?_
              exact s_zret hX dL_law_988
          · refine s_aload_n hX dL_law_989 rfl 1 rfl ?_
            refine s_aload_n hX dL_law_990 rfl 0 rfl ?_
            refine s_iload_n hX dL_law_991 rfl 3 rfl ?_
            refine s_iconst (v := 1) hX dL_law_992 rfl ?_
            refine s_iadd hX dL_law_993 ?_
            refine s_iald hX (pcA 0) dL_law_994 (fun v160 => ?_)
            refine s_callV_L (ci := 0) (n := 1) (As := [.int v160]) (st := []) hX (pcK 1) (by decide) (ct_X0_sum X.l v1 v160) q1510 q1511 q1512 q84 q1513 yvX0_sum (by decide) rfl (by first | decide | simp [rv_cat, cat_i, cat_l]) dL_law_995 (fun v161 => ?_)
            refine s_aload_n hX dL_law_998 rfl 2 rfl ?_
            refine s_aload_n hX dL_law_999 rfl 0 rfl ?_
            refine s_iload_n hX dL_law_1000 rfl 3 rfl ?_
            refine s_iconst (v := 1) hX dL_law_1001 rfl ?_
            refine s_iadd hX dL_law_1002 ?_
            refine s_iald hX (pcA 0) dL_law_1003 (fun v162 => ?_)
            refine s_callV_L (ci := 4) (n := 1) (As := [.int v162]) (st := [.long v161]) hX (pcK 5) (by decide) (ct_X4_sum X.l v2 v162) q2101 q2102 q2103 q91 q2104 yvX4_sum (by decide) rfl (by first | decide | simp [rv_cat, cat_i, cat_l]) dL_law_1004 (fun v163 => ?_)
            refine s_lcmp hX dL_law_1007 ?_
            refine s_if_eq (tgt := 1036) hX dL_law_1008 (by decide) ?_ ?_
            · exact hj1036 ()
            · refine s_iconst (v := 0) hX dL_law_1011 rfl ?_
              exact s_zret hX dL_law_1012
          · refine s_aload_n hX dL_law_1013 rfl 1 rfl ?_
            refine s_aload_n hX dL_law_1014 rfl 0 rfl ?_
            refine s_iload_n hX dL_law_1015 rfl 3 rfl ?_
            refine s_iconst (v := 1) hX dL_law_1016 rfl ?_
            refine s_iadd hX dL_law_1017 ?_
            refine s_iald hX (pcA 0) dL_law_1018 (fun v164 => ?_)
            refine s_callV_I (ci := 0) (n := 1) (As := [.int v164]) (st := []) hX (pcK 1) (by decide) (ct_X0_count X.l n v1 v164) q1515 q1516 q1517 q84 q1518 yvX0_count (by decide) rfl (by first | decide | simp [rv_cat, cat_i, cat_l]) dL_law_1019 (fun v165 => ?_)
            refine s_aload_n hX dL_law_1022 rfl 2 rfl ?_
            refine s_aload_n hX dL_law_1023 rfl 0 rfl ?_
            refine s_iload_n hX dL_law_1024 rfl 3 rfl ?_
            refine s_iconst (v := 1) hX dL_law_1025 rfl ?_
            refine s_iadd hX dL_law_1026 ?_
            refine s_iald hX (pcA 0) dL_law_1027 (fun v166 => ?_)
            refine s_callV_I (ci := 4) (n := 1) (As := [.int v166]) (st := [.int v165]) hX (pcK 5) (by decide) (ct_X4_count X.l n v2 v166) q2106 q2107 q2108 q91 q2109 yvX4_count (by decide) rfl (by first | decide | simp [rv_cat, cat_i, cat_l]) dL_law_1028 (fun v167 => ?_)
            refine s_icmp_eq (tgt := 1036) hX dL_law_1031 (by decide) ?_ ?_
            · exact hj1036 ()
            · refine s_iconst (v := 0) hX dL_law_1034 rfl ?_
              exact s_zret hX dL_law_1035
set_option maxHeartbeats 40000000 in
theorem sim_law {X : Cx} (hX : Ok X Pic cL_law R_law 4 (some FieldType.boolean) 2048 84000) (hnh : Noh X) (n : Nat) (p0 : Nat) : Sim X cvI 0 [(0, rv p0)] [] (f_L_law n p0) := by
  unfold f_L_law
  refine s_new (ci := 0) hX (pcN 0) in_X0 tyX0_ok (by decide) (by decide) q120 q121 q84 dL_law_0 (fun v1 => ?_)
  refine s_dup hX dL_law_3 (rv_cat _) ?_
  refine s_callI_U (ci := 0) (n := 0) (As := []) (st := [rv v1]) hX (pcK 1) (by decide) (ct_X0_init X.l v1) q122 q123 q84 q124 rfl ycX0_init (by decide) rfl (by first | decide | simp [rv_cat, cat_i, cat_l]) dL_law_4 (fun _ => ?_)
  refine s_astore_n (i := 1) (L2 := [(1, rv v1), (0, rv p0)]) hX dL_law_7 rfl (by decide) (by first | (simp [rv_cat, cat_i, cat_l]; done) | (simp [rv_cat, cat_i, cat_l]; decide)) ?_
  refine s_new (ci := 4) hX (pcN 4) in_X4 tyX4_ok (by decide) (by decide) q1531 q1532 q91 dL_law_8 (fun v2 => ?_)
  refine s_dup hX dL_law_11 (rv_cat _) ?_
  refine s_callI_U (ci := 4) (n := 0) (As := []) (st := [rv v2]) hX (pcK 5) (by decide) (ct_X4_init X.l v2) q1533 q1534 q91 q1535 rfl ycX4_init (by decide) rfl (by first | decide | simp [rv_cat, cat_i, cat_l]) dL_law_12 (fun _ => ?_)
  refine s_astore_n (i := 2) (L2 := [(2, rv v2), (1, rv v1), (0, rv p0)]) hX dL_law_15 rfl (by decide) (by first | (simp [rv_cat, cat_i, cat_l]; done) | (simp [rv_cat, cat_i, cat_l]; decide)) ?_
  refine s_iconst (v := 0) hX dL_law_16 rfl ?_
  refine s_istore_n (i := 3) (L2 := [(3, .int 0), (2, rv v2), (1, rv v1), (0, rv p0)]) hX dL_law_17 rfl (by decide) (by first | (simp [rv_cat, cat_i, cat_l]; done) | (simp [rv_cat, cat_i, cat_l]; decide)) ?_
  exact s_sub [3, 2, 1, 0] rfl (s_lp_L_law_18 hX hnh n p0 v1 v2 n 0)
