set_option maxRecDepth 100000
theorem dX4_statement_0 : decode cX4_statement 0 = .ok (.aload_n 0, 1) := by decide +kernel
theorem dX4_statement_1 : decode cX4_statement 1 = .ok (.ldc2_w 434, 3) := by decide +kernel
theorem dX4_statement_4 : decode cX4_statement 4 = .ok (.invokevirtual 375, 3) := by decide +kernel
theorem dX4_statement_7 : decode cX4_statement 7 = .ok (.ifCond .eq 17, 3) := by decide +kernel
theorem dX4_statement_10 : decode cX4_statement 10 = .ok (.aload_n 0, 1) := by decide +kernel
theorem dX4_statement_11 : decode cX4_statement 11 = .ok (.iload_n 1, 1) := by decide +kernel
theorem dX4_statement_12 : decode cX4_statement 12 = .ok (.iconst 0, 1) := by decide +kernel
theorem dX4_statement_13 : decode cX4_statement 13 = .ok (.iconst 0, 1) := by decide +kernel
theorem dX4_statement_14 : decode cX4_statement 14 = .ok (.ldc_w 415, 3) := by decide +kernel
theorem dX4_statement_17 : decode cX4_statement 17 = .ok (.invokevirtual 436, 3) := by decide +kernel
theorem dX4_statement_20 : decode cX4_statement 20 = .ok (.istore_n 2, 1) := by decide +kernel
theorem dX4_statement_21 : decode cX4_statement 21 = .ok (.goto 235, 3) := by decide +kernel
theorem dX4_statement_24 : decode cX4_statement 24 = .ok (.aload_n 0, 1) := by decide +kernel
theorem dX4_statement_25 : decode cX4_statement 25 = .ok (.ldc2_w 440, 3) := by decide +kernel
theorem dX4_statement_28 : decode cX4_statement 28 = .ok (.invokevirtual 375, 3) := by decide +kernel
theorem dX4_statement_31 : decode cX4_statement 31 = .ok (.ifCond .eq 17, 3) := by decide +kernel
theorem dX4_statement_34 : decode cX4_statement 34 = .ok (.aload_n 0, 1) := by decide +kernel
theorem dX4_statement_35 : decode cX4_statement 35 = .ok (.iload_n 1, 1) := by decide +kernel
theorem dX4_statement_36 : decode cX4_statement 36 = .ok (.iconst 1, 1) := by decide +kernel
theorem dX4_statement_37 : decode cX4_statement 37 = .ok (.iconst 0, 1) := by decide +kernel
theorem dX4_statement_38 : decode cX4_statement 38 = .ok (.ldc_w 415, 3) := by decide +kernel
theorem dX4_statement_41 : decode cX4_statement 41 = .ok (.invokevirtual 436, 3) := by decide +kernel
theorem dX4_statement_44 : decode cX4_statement 44 = .ok (.istore_n 2, 1) := by decide +kernel
theorem dX4_statement_45 : decode cX4_statement 45 = .ok (.goto 211, 3) := by decide +kernel
theorem dX4_statement_48 : decode cX4_statement 48 = .ok (.aload_n 0, 1) := by decide +kernel
theorem dX4_statement_49 : decode cX4_statement 49 = .ok (.ldc2_w 442, 3) := by decide +kernel
theorem dX4_statement_52 : decode cX4_statement 52 = .ok (.invokevirtual 375, 3) := by decide +kernel
theorem dX4_statement_55 : decode cX4_statement 55 = .ok (.ifCond .eq 16, 3) := by decide +kernel
theorem dX4_statement_58 : decode cX4_statement 58 = .ok (.aload_n 0, 1) := by decide +kernel
theorem dX4_statement_59 : decode cX4_statement 59 = .ok (.iload_n 1, 1) := by decide +kernel
theorem dX4_statement_60 : decode cX4_statement 60 = .ok (.iconst 2, 1) := by decide +kernel
theorem dX4_statement_61 : decode cX4_statement 61 = .ok (.iconst 1, 1) := by decide +kernel
theorem dX4_statement_62 : decode cX4_statement 62 = .ok (.bipush 100, 2) := by decide +kernel
theorem dX4_statement_64 : decode cX4_statement 64 = .ok (.invokevirtual 436, 3) := by decide +kernel
theorem dX4_statement_67 : decode cX4_statement 67 = .ok (.istore_n 2, 1) := by decide +kernel
theorem dX4_statement_68 : decode cX4_statement 68 = .ok (.goto 188, 3) := by decide +kernel
theorem dX4_statement_71 : decode cX4_statement 71 = .ok (.aload_n 0, 1) := by decide +kernel
theorem dX4_statement_72 : decode cX4_statement 72 = .ok (.ldc2_w 444, 3) := by decide +kernel
theorem dX4_statement_75 : decode cX4_statement 75 = .ok (.invokevirtual 375, 3) := by decide +kernel
theorem dX4_statement_78 : decode cX4_statement 78 = .ok (.ifCond .eq 17, 3) := by decide +kernel
theorem dX4_statement_81 : decode cX4_statement 81 = .ok (.aload_n 0, 1) := by decide +kernel
theorem dX4_statement_82 : decode cX4_statement 82 = .ok (.iload_n 1, 1) := by decide +kernel
theorem dX4_statement_83 : decode cX4_statement 83 = .ok (.iconst 3, 1) := by decide +kernel
theorem dX4_statement_84 : decode cX4_statement 84 = .ok (.iconst 0, 1) := by decide +kernel
theorem dX4_statement_85 : decode cX4_statement 85 = .ok (.ldc_w 415, 3) := by decide +kernel
theorem dX4_statement_88 : decode cX4_statement 88 = .ok (.invokevirtual 436, 3) := by decide +kernel
theorem dX4_statement_91 : decode cX4_statement 91 = .ok (.istore_n 2, 1) := by decide +kernel
theorem dX4_statement_92 : decode cX4_statement 92 = .ok (.goto 164, 3) := by decide +kernel
theorem dX4_statement_95 : decode cX4_statement 95 = .ok (.aload_n 0, 1) := by decide +kernel
theorem dX4_statement_96 : decode cX4_statement 96 = .ok (.ldc2_w 446, 3) := by decide +kernel
theorem dX4_statement_99 : decode cX4_statement 99 = .ok (.invokevirtual 375, 3) := by decide +kernel
theorem dX4_statement_102 : decode cX4_statement 102 = .ok (.ifCond .eq 17, 3) := by decide +kernel
theorem dX4_statement_105 : decode cX4_statement 105 = .ok (.aload_n 0, 1) := by decide +kernel
theorem dX4_statement_106 : decode cX4_statement 106 = .ok (.iload_n 1, 1) := by decide +kernel
theorem dX4_statement_107 : decode cX4_statement 107 = .ok (.iconst 4, 1) := by decide +kernel
theorem dX4_statement_108 : decode cX4_statement 108 = .ok (.iconst 0, 1) := by decide +kernel
theorem dX4_statement_109 : decode cX4_statement 109 = .ok (.ldc_w 415, 3) := by decide +kernel
theorem dX4_statement_112 : decode cX4_statement 112 = .ok (.invokevirtual 436, 3) := by decide +kernel
theorem dX4_statement_115 : decode cX4_statement 115 = .ok (.istore_n 2, 1) := by decide +kernel
theorem dX4_statement_116 : decode cX4_statement 116 = .ok (.goto 140, 3) := by decide +kernel
theorem dX4_statement_119 : decode cX4_statement 119 = .ok (.aload_n 0, 1) := by decide +kernel
theorem dX4_statement_120 : decode cX4_statement 120 = .ok (.ldc2_w 448, 3) := by decide +kernel
theorem dX4_statement_123 : decode cX4_statement 123 = .ok (.invokevirtual 375, 3) := by decide +kernel
theorem dX4_statement_126 : decode cX4_statement 126 = .ok (.ifCond .eq 64, 3) := by decide +kernel
theorem dX4_statement_129 : decode cX4_statement 129 = .ok (.aload_n 0, 1) := by decide +kernel
theorem dX4_statement_130 : decode cX4_statement 130 = .ok (.getfield 143, 3) := by decide +kernel
theorem dX4_statement_133 : decode cX4_statement 133 = .ok (.iload_n 1, 1) := by decide +kernel
theorem dX4_statement_134 : decode cX4_statement 134 = .ok (.iconst 5, 1) := by decide +kernel
theorem dX4_statement_135 : decode cX4_statement 135 = .ok (.iastore, 1) := by decide +kernel
theorem dX4_statement_136 : decode cX4_statement 136 = .ok (.aload_n 0, 1) := by decide +kernel
theorem dX4_statement_137 : decode cX4_statement 137 = .ok (.getfield 146, 3) := by decide +kernel
theorem dX4_statement_140 : decode cX4_statement 140 = .ok (.iload_n 1, 1) := by decide +kernel
theorem dX4_statement_141 : decode cX4_statement 141 = .ok (.aload_n 0, 1) := by decide +kernel
theorem dX4_statement_142 : decode cX4_statement 142 = .ok (.ldc2_w 450, 3) := by decide +kernel
theorem dX4_statement_145 : decode cX4_statement 145 = .ok (.invokevirtual 375, 3) := by decide +kernel
theorem dX4_statement_148 : decode cX4_statement 148 = .ok (.ifCond .eq 7, 3) := by decide +kernel
theorem dX4_statement_151 : decode cX4_statement 151 = .ok (.iconst 1, 1) := by decide +kernel
theorem dX4_statement_152 : decode cX4_statement 152 = .ok (.goto 18, 3) := by decide +kernel
theorem dX4_statement_155 : decode cX4_statement 155 = .ok (.aload_n 0, 1) := by decide +kernel
theorem dX4_statement_156 : decode cX4_statement 156 = .ok (.ldc2_w 452, 3) := by decide +kernel
theorem dX4_statement_159 : decode cX4_statement 159 = .ok (.invokevirtual 375, 3) := by decide +kernel
theorem dX4_statement_162 : decode cX4_statement 162 = .ok (.ifCond .eq 7, 3) := by decide +kernel
theorem dX4_statement_165 : decode cX4_statement 165 = .ok (.iconst 0, 1) := by decide +kernel
theorem dX4_statement_166 : decode cX4_statement 166 = .ok (.goto 4, 3) := by decide +kernel
theorem dX4_statement_169 : decode cX4_statement 169 = .ok (.iconst (-1), 1) := by decide +kernel
theorem dX4_statement_170 : decode cX4_statement 170 = .ok (.iastore, 1) := by decide +kernel
theorem dX4_statement_171 : decode cX4_statement 171 = .ok (.aload_n 0, 1) := by decide +kernel
theorem dX4_statement_172 : decode cX4_statement 172 = .ok (.getfield 146, 3) := by decide +kernel
theorem dX4_statement_175 : decode cX4_statement 175 = .ok (.iload_n 1, 1) := by decide +kernel
theorem dX4_statement_176 : decode cX4_statement 176 = .ok (.iaload, 1) := by decide +kernel
theorem dX4_statement_177 : decode cX4_statement 177 = .ok (.iconst (-1), 1) := by decide +kernel
theorem dX4_statement_178 : decode cX4_statement 178 = .ok (.if_icmp .eq 7, 3) := by decide +kernel
theorem dX4_statement_181 : decode cX4_statement 181 = .ok (.iconst 1, 1) := by decide +kernel
theorem dX4_statement_182 : decode cX4_statement 182 = .ok (.goto 4, 3) := by decide +kernel
theorem dX4_statement_185 : decode cX4_statement 185 = .ok (.iconst 0, 1) := by decide +kernel
theorem dX4_statement_186 : decode cX4_statement 186 = .ok (.istore_n 2, 1) := by decide +kernel
theorem dX4_statement_187 : decode cX4_statement 187 = .ok (.goto 69, 3) := by decide +kernel
theorem dX4_statement_190 : decode cX4_statement 190 = .ok (.aload_n 0, 1) := by decide +kernel
theorem dX4_statement_191 : decode cX4_statement 191 = .ok (.ldc2_w 454, 3) := by decide +kernel
theorem dX4_statement_194 : decode cX4_statement 194 = .ok (.invokevirtual 375, 3) := by decide +kernel
theorem dX4_statement_197 : decode cX4_statement 197 = .ok (.ifCond .eq 14, 3) := by decide +kernel
theorem dX4_statement_200 : decode cX4_statement 200 = .ok (.aload_n 0, 1) := by decide +kernel
theorem dX4_statement_201 : decode cX4_statement 201 = .ok (.iload_n 1, 1) := by decide +kernel
theorem dX4_statement_202 : decode cX4_statement 202 = .ok (.bipush 6, 2) := by decide +kernel
theorem dX4_statement_204 : decode cX4_statement 204 = .ok (.invokevirtual 456, 3) := by decide +kernel
theorem dX4_statement_207 : decode cX4_statement 207 = .ok (.istore_n 2, 1) := by decide +kernel
theorem dX4_statement_208 : decode cX4_statement 208 = .ok (.goto 48, 3) := by decide +kernel
theorem dX4_statement_211 : decode cX4_statement 211 = .ok (.aload_n 0, 1) := by decide +kernel
theorem dX4_statement_212 : decode cX4_statement 212 = .ok (.ldc2_w 459, 3) := by decide +kernel
theorem dX4_statement_215 : decode cX4_statement 215 = .ok (.invokevirtual 375, 3) := by decide +kernel
theorem dX4_statement_218 : decode cX4_statement 218 = .ok (.ifCond .eq 14, 3) := by decide +kernel
theorem dX4_statement_221 : decode cX4_statement 221 = .ok (.aload_n 0, 1) := by decide +kernel
theorem dX4_statement_222 : decode cX4_statement 222 = .ok (.iload_n 1, 1) := by decide +kernel
theorem dX4_statement_223 : decode cX4_statement 223 = .ok (.bipush 7, 2) := by decide +kernel
theorem dX4_statement_225 : decode cX4_statement 225 = .ok (.invokevirtual 456, 3) := by decide +kernel
theorem dX4_statement_228 : decode cX4_statement 228 = .ok (.istore_n 2, 1) := by decide +kernel
theorem dX4_statement_229 : decode cX4_statement 229 = .ok (.goto 27, 3) := by decide +kernel
theorem dX4_statement_232 : decode cX4_statement 232 = .ok (.aload_n 0, 1) := by decide +kernel
theorem dX4_statement_233 : decode cX4_statement 233 = .ok (.ldc2_w 461, 3) := by decide +kernel
theorem dX4_statement_236 : decode cX4_statement 236 = .ok (.invokevirtual 375, 3) := by decide +kernel
theorem dX4_statement_239 : decode cX4_statement 239 = .ok (.ifCond .eq 15, 3) := by decide +kernel
theorem dX4_statement_242 : decode cX4_statement 242 = .ok (.aload_n 0, 1) := by decide +kernel
theorem dX4_statement_243 : decode cX4_statement 243 = .ok (.iload_n 1, 1) := by decide +kernel
theorem dX4_statement_244 : decode cX4_statement 244 = .ok (.invokevirtual 463, 3) := by decide +kernel
theorem dX4_statement_247 : decode cX4_statement 247 = .ok (.ifCond .eq 7, 3) := by decide +kernel
theorem dX4_statement_250 : decode cX4_statement 250 = .ok (.iconst 1, 1) := by decide +kernel
theorem dX4_statement_251 : decode cX4_statement 251 = .ok (.goto 4, 3) := by decide +kernel
theorem dX4_statement_254 : decode cX4_statement 254 = .ok (.iconst 0, 1) := by decide +kernel
theorem dX4_statement_255 : decode cX4_statement 255 = .ok (.istore_n 2, 1) := by decide +kernel
theorem dX4_statement_256 : decode cX4_statement 256 = .ok (.iload_n 2, 1) := by decide +kernel
theorem dX4_statement_257 : decode cX4_statement 257 = .ok (.ifCond .eq 16, 3) := by decide +kernel
theorem dX4_statement_260 : decode cX4_statement 260 = .ok (.aload_n 0, 1) := by decide +kernel
theorem dX4_statement_261 : decode cX4_statement 261 = .ok (.bipush 59, 2) := by decide +kernel
theorem dX4_statement_263 : decode cX4_statement 263 = .ok (.invokevirtual 408, 3) := by decide +kernel
theorem dX4_statement_266 : decode cX4_statement 266 = .ok (.ifCond .eq 7, 3) := by decide +kernel
theorem dX4_statement_269 : decode cX4_statement 269 = .ok (.iconst 1, 1) := by decide +kernel
theorem dX4_statement_270 : decode cX4_statement 270 = .ok (.goto 4, 3) := by decide +kernel
theorem dX4_statement_273 : decode cX4_statement 273 = .ok (.iconst 0, 1) := by decide +kernel
theorem dX4_statement_274 : decode cX4_statement 274 = .ok (.ireturn, 1) := by decide +kernel
theorem ycX4_statement : yX4_statement.cls ≠ "java/lang/invoke/MethodHandle" ∧ yX4_statement.cls ≠ "java/lang/invoke/VarHandle" ∧ (parseMethodDescriptor yX4_statement.desc).map (fun d => d.parameters.length) = some 1 := by decide +kernel
theorem yvX4_statement : yX4_statement.cls = RR 4 ∧ yX4_statement.cls ≠ "java/lang/invoke/MethodHandle" ∧ yX4_statement.cls ≠ "java/lang/invoke/VarHandle" ∧ (parseMethodDescriptor yX4_statement.desc).map (fun d => d.parameters.length) = some 1 := ⟨rfl, ycX4_statement⟩
def f_X4_statement (n : Nat) (p0 : Nat) (p1 : Int32) : Act Int32 :=
  bnd (gd 4 p0 (nt (f_X4_takes n p0 (123649732998265 : Int64)))) fun v1 =>
  jn (fun (v2 : Int32) =>
    jn (fun (v3 : Int32) =>
      purS (ty := .boolean) v3) fun j274 =>
    jn (fun (_ : Unit) =>
      j274 0) fun j273 =>
    if v2 = 0 then
      j273 ()
    else
      bnd (gd 4 p0 (nt (f_X4_takesSign n p0 (59 : Int32)))) fun v4 =>
      if v4 = 0 then
        j273 ()
      else
        j274 1) fun j256 =>
  if v1 = 0 then
    bnd (gd 4 p0 (nt (f_X4_takes n p0 (495874699885 : Int64)))) fun v5 =>
    if v5 = 0 then
      bnd (gd 4 p0 (nt (f_X4_takes n p0 (465557353332 : Int64)))) fun v6 =>
      if v6 = 0 then
        bnd (gd 4 p0 (nt (f_X4_takes n p0 (126943688291443 : Int64)))) fun v7 =>
        if v7 = 0 then
          bnd (gd 4 p0 (nt (f_X4_takes n p0 (426835602533 : Int64)))) fun v8 =>
          if v8 = 0 then
            bnd (gd 4 p0 (nt (f_X4_takes n p0 (439855772532 : Int64)))) fun v9 =>
            if v9 = 0 then
              bnd (gd 4 p0 (nt (f_X4_takes n p0 (444300879214 : Int64)))) fun v10 =>
              if v10 = 0 then
                bnd (gd 4 p0 (nt (f_X4_takes n p0 (1936026732 : Int64)))) fun v11 =>
                if v11 = 0 then
                  bnd (gd 4 p0 (nt (f_X4_takes n p0 (418497262196 : Int64)))) fun v12 =>
                  jn (fun (v13 : Int32) =>
                    j256 v13) fun j255 =>
                  jn (fun (_ : Unit) =>
                    j255 0) fun j254 =>
                  if v12 = 0 then
                    j254 ()
                  else
                    bnd (gd 4 p0 (nt (f_X4_kinds n p0 p1))) fun v14 =>
                    if v14 = 0 then
                      j254 ()
                    else
                      j255 1
                else
                  bnd (gd 4 p0 (nt (f_X4_condition n p0 p1 (7 : Int32)))) fun v15 =>
                  j256 v15
              else
                bnd (gd 4 p0 (nt (f_X4_condition n p0 p1 (6 : Int32)))) fun v16 =>
                j256 v16
            else
              bnd (getR 4 58 p0) fun v17 =>
              bnd (stI 0 v17 p1 5) fun _ =>
              bnd (getR 4 59 p0) fun v18 =>
              bnd (gd 4 p0 (nt (f_X4_takes n p0 (2003792494 : Int64)))) fun v19 =>
              jn (fun (v20 : Int32) =>
                bnd (stI 0 v18 p1 v20) fun _ =>
                bnd (getR 4 59 p0) fun v21 =>
                bnd (ldI 0 v21 p1) fun v22 =>
                jn (fun (v23 : Int32) =>
                  j256 v23) fun j186 =>
                if v22 = (-1) then
                  j186 0
                else
                  j186 1) fun j170 =>
              if v19 = 0 then
                bnd (gd 4 p0 (nt (f_X4_takes n p0 (440005915496 : Int64)))) fun v24 =>
                if v24 = 0 then
                  j170 (-1)
                else
                  j170 0
              else
                j170 1
          else
            bnd (gd 4 p0 (nt (f_X4_plain n p0 p1 (4 : Int32) (0 : Int32) (999999 : Int32)))) fun v25 =>
            j256 v25
        else
          bnd (gd 4 p0 (nt (f_X4_plain n p0 p1 (3 : Int32) (0 : Int32) (999999 : Int32)))) fun v26 =>
          j256 v26
      else
        bnd (gd 4 p0 (nt (f_X4_plain n p0 p1 (2 : Int32) (1 : Int32) (100 : Int32)))) fun v27 =>
        j256 v27
    else
      bnd (gd 4 p0 (nt (f_X4_plain n p0 p1 (1 : Int32) (0 : Int32) (999999 : Int32)))) fun v28 =>
      j256 v28
  else
    bnd (gd 4 p0 (nt (f_X4_plain n p0 p1 (0 : Int32) (0 : Int32) (999999 : Int32)))) fun v29 =>
    j256 v29
set_option maxHeartbeats 4000000 in
theorem ct_X4_statement (l : Launch) (n : Nat) (p0 : Nat) (p1 : Int32) : Ct l Pic yX4_statement (ws_ yX4_statement cX4_statement 3 (some FieldType.boolean)) 162 3525 cvI [rv p0, .int p1] (f_X4_statement n p0 p1) := by
  refine Ct.of (own := RX4) (L := [(0, rv p0), (1, .int p1)]) (plainFor_of_name (by decide)) rfl (by first | decide | simp [lg_sl, rv_cat, cat_i, cat_l]) (by first | rfl | simp [lv_args, rv_cat, cat_i, cat_l]) pcZ (fun X hXl hX hnh hin => ?_)
  subst hXl
  unfold f_X4_statement
  refine s_aload_n hX dX4_statement_0 rfl 0 rfl ?_
  refine s_ldc2 (v := 123649732998265) hX dX4_statement_1 q1982 ?_
  refine s_callV_I (ci := 4) (n := 1) (As := [.long 123649732998265]) (st := []) hX (pcK 5) (by decide) (ct_X4_takes X.l n p0 (123649732998265 : Int64)) q1983 q1985 qs68 q91 q1986 yvX4_takes (by decide) rfl (by first | decide | simp [rv_cat, cat_i, cat_l]) dX4_statement_4 (fun v1 => ?_)
  refine s_jn (P := fun j => ∀ (v2 : Int32), Sim X cvI 256 [(0, rv p0), (2, .int v2)] [] (j v2)) ?_ (fun j256 hj256 => ?_)
  · intro v2
    refine s_iload_n hX dX4_statement_256 rfl 1 rfl ?_
    refine s_jn (P := fun j => ∀ (v3 : Int32), Sim X cvI 274 [] [.int v3] (j v3)) ?_ (fun j274 hj274 => ?_)
    · intro v3
      exact s_zret hX dX4_statement_274
    · refine s_jn (P := fun j => ∀ (u : Unit), Sim X cvI 273 [] [] (j u)) ?_ (fun j273 hj273 => ?_)
      · intro u
        refine s_iconst (v := 0) hX dX4_statement_273 rfl ?_
        exact hj274 0
      · refine s_if_eq (tgt := 273) hX dX4_statement_257 (by decide) ?_ ?_
        · exact s_sub [] rfl (hj273 ())
        · refine s_aload_n hX dX4_statement_260 rfl 0 rfl ?_
          refine s_bipush (v := 59) hX dX4_statement_261 (by decide) ?_
          refine s_callV_I (ci := 4) (n := 1) (As := [.int 59]) (st := []) hX (pcK 5) (by decide) (ct_X4_takesSign X.l n p0 (59 : Int32)) q2030 q2032 qs77 q91 q2033 yvX4_takesSign (by decide) rfl (by first | decide | simp [rv_cat, cat_i, cat_l]) dX4_statement_263 (fun v4 => ?_)
          refine s_if_eq (tgt := 273) hX dX4_statement_266 (by decide) ?_ ?_
          · exact s_sub [] rfl (hj273 ())
          · refine s_iconst (v := 1) hX dX4_statement_269 rfl ?_
            refine s_goto (tgt := 274) hX dX4_statement_270 (by decide) ?_
            exact s_sub [] rfl (hj274 1)
  · refine s_if_eq (tgt := 24) hX dX4_statement_7 (by decide) ?_ ?_
    · refine s_aload_n hX dX4_statement_24 rfl 0 rfl ?_
      refine s_ldc2 (v := 495874699885) hX dX4_statement_25 q2000 ?_
      refine s_callV_I (ci := 4) (n := 1) (As := [.long 495874699885]) (st := []) hX (pcK 5) (by decide) (ct_X4_takes X.l n p0 (495874699885 : Int64)) q1983 q1985 qs68 q91 q1986 yvX4_takes (by decide) rfl (by first | decide | simp [rv_cat, cat_i, cat_l]) dX4_statement_28 (fun v5 => ?_)
      refine s_if_eq (tgt := 48) hX dX4_statement_31 (by decide) ?_ ?_
      · refine s_aload_n hX dX4_statement_48 rfl 0 rfl ?_
        refine s_ldc2 (v := 465557353332) hX dX4_statement_49 q2001 ?_
        refine s_callV_I (ci := 4) (n := 1) (As := [.long 465557353332]) (st := []) hX (pcK 5) (by decide) (ct_X4_takes X.l n p0 (465557353332 : Int64)) q1983 q1985 qs68 q91 q1986 yvX4_takes (by decide) rfl (by first | decide | simp [rv_cat, cat_i, cat_l]) dX4_statement_52 (fun v6 => ?_)
        refine s_if_eq (tgt := 71) hX dX4_statement_55 (by decide) ?_ ?_
        · refine s_aload_n hX dX4_statement_71 rfl 0 rfl ?_
          refine s_ldc2 (v := 126943688291443) hX dX4_statement_72 q2002 ?_
          refine s_callV_I (ci := 4) (n := 1) (As := [.long 126943688291443]) (st := []) hX (pcK 5) (by decide) (ct_X4_takes X.l n p0 (126943688291443 : Int64)) q1983 q1985 qs68 q91 q1986 yvX4_takes (by decide) rfl (by first | decide | simp [rv_cat, cat_i, cat_l]) dX4_statement_75 (fun v7 => ?_)
          refine s_if_eq (tgt := 95) hX dX4_statement_78 (by decide) ?_ ?_
          · refine s_aload_n hX dX4_statement_95 rfl 0 rfl ?_
            refine s_ldc2 (v := 426835602533) hX dX4_statement_96 q2003 ?_
            refine s_callV_I (ci := 4) (n := 1) (As := [.long 426835602533]) (st := []) hX (pcK 5) (by decide) (ct_X4_takes X.l n p0 (426835602533 : Int64)) q1983 q1985 qs68 q91 q1986 yvX4_takes (by decide) rfl (by first | decide | simp [rv_cat, cat_i, cat_l]) dX4_statement_99 (fun v8 => ?_)
            refine s_if_eq (tgt := 119) hX dX4_statement_102 (by decide) ?_ ?_
            · refine s_aload_n hX dX4_statement_119 rfl 0 rfl ?_
              refine s_ldc2 (v := 439855772532) hX dX4_statement_120 q2004 ?_
              refine s_callV_I (ci := 4) (n := 1) (As := [.long 439855772532]) (st := []) hX (pcK 5) (by decide) (ct_X4_takes X.l n p0 (439855772532 : Int64)) q1983 q1985 qs68 q91 q1986 yvX4_takes (by decide) rfl (by first | decide | simp [rv_cat, cat_i, cat_l]) dX4_statement_123 (fun v9 => ?_)
              refine s_if_eq (tgt := 190) hX dX4_statement_126 (by decide) ?_ ?_
              · refine s_aload_n hX dX4_statement_190 rfl 0 rfl ?_
                refine s_ldc2 (v := 444300879214) hX dX4_statement_191 q2007 ?_
                refine s_callV_I (ci := 4) (n := 1) (As := [.long 444300879214]) (st := []) hX (pcK 5) (by decide) (ct_X4_takes X.l n p0 (444300879214 : Int64)) q1983 q1985 qs68 q91 q1986 yvX4_takes (by decide) rfl (by first | decide | simp [rv_cat, cat_i, cat_l]) dX4_statement_194 (fun v10 => ?_)
                refine s_if_eq (tgt := 211) hX dX4_statement_197 (by decide) ?_ ?_
                · refine s_aload_n hX dX4_statement_211 rfl 0 rfl ?_
                  refine s_ldc2 (v := 1936026732) hX dX4_statement_212 q2047 ?_
                  refine s_callV_I (ci := 4) (n := 1) (As := [.long 1936026732]) (st := []) hX (pcK 5) (by decide) (ct_X4_takes X.l n p0 (1936026732 : Int64)) q1983 q1985 qs68 q91 q1986 yvX4_takes (by decide) rfl (by first | decide | simp [rv_cat, cat_i, cat_l]) dX4_statement_215 (fun v11 => ?_)
                  refine s_if_eq (tgt := 232) hX dX4_statement_218 (by decide) ?_ ?_
                  · refine s_aload_n hX dX4_statement_232 rfl 0 rfl ?_
                    refine s_ldc2 (v := 418497262196) hX dX4_statement_233 q2048 ?_
                    refine s_callV_I (ci := 4) (n := 1) (As := [.long 418497262196]) (st := []) hX (pcK 5) (by decide) (ct_X4_takes X.l n p0 (418497262196 : Int64)) q1983 q1985 qs68 q91 q1986 yvX4_takes (by decide) rfl (by first | decide | simp [rv_cat, cat_i, cat_l]) dX4_statement_236 (fun v12 => ?_)
                    refine s_jn (P := fun j => ∀ (v13 : Int32), Sim X cvI 255 [(0, rv p0)] [.int v13] (j v13)) ?_ (fun j255 hj255 => ?_)
                    · intro v13
                      refine s_istore_n (i := 2) (L2 := [(2, .int v13), (0, rv p0)]) hX dX4_statement_255 rfl (by decide) rfl ?_
                      exact s_sub [1, 0] rfl (hj256 v13)
                    · refine s_jn (P := fun j => ∀ (u : Unit), Sim X cvI 254 [(0, rv p0)] [] (j u)) ?_ (fun j254 hj254 => ?_)
                      · intro u
                        refine s_iconst (v := 0) hX dX4_statement_254 rfl ?_
                        exact hj255 0
                      · refine s_if_eq (tgt := 254) hX dX4_statement_239 (by decide) ?_ ?_
                        · exact s_sub [0] rfl (hj254 ())
                        · refine s_aload_n hX dX4_statement_242 rfl 0 rfl ?_
                          refine s_iload_n hX dX4_statement_243 rfl 1 rfl ?_
                          refine s_callV_I (ci := 4) (n := 1) (As := [.int p1]) (st := []) hX (pcK 5) (by decide) (ct_X4_kinds X.l n p0 p1) q2049 q2051 qs78 q91 q2052 yvX4_kinds (by decide) rfl (by first | decide | simp [rv_cat, cat_i, cat_l]) dX4_statement_244 (fun v14 => ?_)
                          refine s_if_eq (tgt := 254) hX dX4_statement_247 (by decide) ?_ ?_
                          · exact s_sub [0] rfl (hj254 ())
                          · refine s_iconst (v := 1) hX dX4_statement_250 rfl ?_
                            refine s_goto (tgt := 255) hX dX4_statement_251 (by decide) ?_
                            exact s_sub [0] rfl (hj255 1)
                  · refine s_aload_n hX dX4_statement_221 rfl 0 rfl ?_
                    refine s_iload_n hX dX4_statement_222 rfl 1 rfl ?_
                    refine s_bipush (v := 7) hX dX4_statement_223 (by decide) ?_
                    refine s_callV_I (ci := 4) (n := 2) (As := [.int p1, .int 7]) (st := []) hX (pcK 5) (by decide) (ct_X4_condition X.l n p0 p1 (7 : Int32)) q2008 q2010 qs72 q91 q2011 yvX4_condition (by decide) rfl (by first | decide | simp [rv_cat, cat_i, cat_l]) dX4_statement_225 (fun v15 => ?_)
                    refine s_istore_n (i := 2) (L2 := [(2, .int v15), (0, rv p0), (1, .int p1)]) hX dX4_statement_228 rfl (by decide) rfl ?_
                    refine s_goto (tgt := 256) hX dX4_statement_229 (by decide) ?_
                    exact s_sub [1, 0] rfl (hj256 v15)
                · refine s_aload_n hX dX4_statement_200 rfl 0 rfl ?_
                  refine s_iload_n hX dX4_statement_201 rfl 1 rfl ?_
                  refine s_bipush (v := 6) hX dX4_statement_202 (by decide) ?_
                  refine s_callV_I (ci := 4) (n := 2) (As := [.int p1, .int 6]) (st := []) hX (pcK 5) (by decide) (ct_X4_condition X.l n p0 p1 (6 : Int32)) q2008 q2010 qs72 q91 q2011 yvX4_condition (by decide) rfl (by first | decide | simp [rv_cat, cat_i, cat_l]) dX4_statement_204 (fun v16 => ?_)
                  refine s_istore_n (i := 2) (L2 := [(2, .int v16), (0, rv p0), (1, .int p1)]) hX dX4_statement_207 rfl (by decide) rfl ?_
                  refine s_goto (tgt := 256) hX dX4_statement_208 (by decide) ?_
                  exact s_sub [1, 0] rfl (hj256 v16)
              · refine s_aload_n hX dX4_statement_129 rfl 0 rfl ?_
                refine s_getR (ci := 4) (j := 58) (ref := "WindGasModel") hX (pcG 4) in_X4 (Or.inl q1596) (by decide) (by decide) (by decide) rfl dX4_statement_130 (fun _ h9 => h9) (fun v17 => ?_)
                refine s_iload_n hX dX4_statement_133 rfl 1 rfl ?_
                refine s_iconst (v := 5) hX dX4_statement_134 rfl ?_
                refine s_iast hX (pcA 0) (pcB 0) dX4_statement_135 ?_
                refine s_aload_n hX dX4_statement_136 rfl 0 rfl ?_
                refine s_getR (ci := 4) (j := 59) (ref := "WindGasModel") hX (pcG 4) in_X4 (Or.inl q1597) (by decide) (by decide) (by decide) rfl dX4_statement_137 (fun _ h9 => h9) (fun v18 => ?_)
                refine s_iload_n hX dX4_statement_140 rfl 1 rfl ?_
                refine s_aload_n hX dX4_statement_141 rfl 0 rfl ?_
                refine s_ldc2 (v := 2003792494) hX dX4_statement_142 q2005 ?_
                refine s_callV_I (ci := 4) (n := 1) (As := [.long 2003792494]) (st := [.int p1, rv v18]) hX (pcK 5) (by decide) (ct_X4_takes X.l n p0 (2003792494 : Int64)) q1983 q1985 qs68 q91 q1986 yvX4_takes (by decide) rfl (by first | decide | simp [rv_cat, cat_i, cat_l]) dX4_statement_145 (fun v19 => ?_)
                refine s_jn (P := fun j => ∀ (v20 : Int32), Sim X cvI 170 [(0, rv p0), (1, .int p1)] [.int v20, .int p1, rv v18] (j v20)) ?_ (fun j170 hj170 => ?_)
                · intro v20
                  refine s_iast hX (pcA 0) (pcB 0) dX4_statement_170 ?_
                  refine s_aload_n hX dX4_statement_171 rfl 0 rfl ?_
                  refine s_getR (ci := 4) (j := 59) (ref := "WindGasModel") hX (pcG 4) in_X4 (Or.inl q1597) (by decide) (by decide) (by decide) rfl dX4_statement_172 (fun _ h9 => h9) (fun v21 => ?_)
                  refine s_iload_n hX dX4_statement_175 rfl 1 rfl ?_
                  refine s_iald hX (pcA 0) dX4_statement_176 (fun v22 => ?_)
                  refine s_iconst (v := -1) hX dX4_statement_177 (by decide) ?_
                  refine s_jn (P := fun j => ∀ (v23 : Int32), Sim X cvI 186 [(0, rv p0)] [.int v23] (j v23)) ?_ (fun j186 hj186 => ?_)
                  · intro v23
                    refine s_istore_n (i := 2) (L2 := [(2, .int v23), (0, rv p0)]) hX dX4_statement_186 rfl (by decide) rfl ?_
                    refine s_goto (tgt := 256) hX dX4_statement_187 (by decide) ?_
                    exact s_sub [1, 0] rfl (hj256 v23)
                  · refine s_icmp_eq (tgt := 185) hX dX4_statement_178 (by decide) ?_ ?_
                    · refine s_iconst (v := 0) hX dX4_statement_185 rfl ?_
                      exact s_sub [0] rfl (hj186 0)
                    · refine s_iconst (v := 1) hX dX4_statement_181 rfl ?_
                      refine s_goto (tgt := 186) hX dX4_statement_182 (by decide) ?_
                      exact s_sub [0] rfl (hj186 1)
                · refine s_if_eq (tgt := 155) hX dX4_statement_148 (by decide) ?_ ?_
                  · refine s_aload_n hX dX4_statement_155 rfl 0 rfl ?_
                    refine s_ldc2 (v := 440005915496) hX dX4_statement_156 q2006 ?_
                    refine s_callV_I (ci := 4) (n := 1) (As := [.long 440005915496]) (st := [.int p1, rv v18]) hX (pcK 5) (by decide) (ct_X4_takes X.l n p0 (440005915496 : Int64)) q1983 q1985 qs68 q91 q1986 yvX4_takes (by decide) rfl (by first | decide | simp [rv_cat, cat_i, cat_l]) dX4_statement_159 (fun v24 => ?_)
                    refine s_if_eq (tgt := 169) hX dX4_statement_162 (by decide) ?_ ?_
                    · refine s_iconst (v := -1) hX dX4_statement_169 (by decide) ?_
                      exact hj170 (-1)
                    · refine s_iconst (v := 0) hX dX4_statement_165 rfl ?_
                      refine s_goto (tgt := 170) hX dX4_statement_166 (by decide) ?_
                      exact hj170 0
                  · refine s_iconst (v := 1) hX dX4_statement_151 rfl ?_
                    refine s_goto (tgt := 170) hX dX4_statement_152 (by decide) ?_
                    exact hj170 1
            · refine s_aload_n hX dX4_statement_105 rfl 0 rfl ?_
              refine s_iload_n hX dX4_statement_106 rfl 1 rfl ?_
              refine s_iconst (v := 4) hX dX4_statement_107 rfl ?_
              refine s_iconst (v := 0) hX dX4_statement_108 rfl ?_
              refine s_ldcw (v := 999999) hX dX4_statement_109 q1991 ?_
              refine s_callV_I (ci := 4) (n := 4) (As := [.int p1, .int 4, .int 0, .int 999999]) (st := []) hX (pcK 5) (by decide) (ct_X4_plain X.l n p0 p1 (4 : Int32) (0 : Int32) (999999 : Int32)) q1992 q1994 qs70 q91 q1995 yvX4_plain (by decide) rfl (by first | decide | simp [rv_cat, cat_i, cat_l]) dX4_statement_112 (fun v25 => ?_)
              refine s_istore_n (i := 2) (L2 := [(2, .int v25), (0, rv p0), (1, .int p1)]) hX dX4_statement_115 rfl (by decide) rfl ?_
              refine s_goto (tgt := 256) hX dX4_statement_116 (by decide) ?_
              exact s_sub [1, 0] rfl (hj256 v25)
          · refine s_aload_n hX dX4_statement_81 rfl 0 rfl ?_
            refine s_iload_n hX dX4_statement_82 rfl 1 rfl ?_
            refine s_iconst (v := 3) hX dX4_statement_83 rfl ?_
            refine s_iconst (v := 0) hX dX4_statement_84 rfl ?_
            refine s_ldcw (v := 999999) hX dX4_statement_85 q1991 ?_
            refine s_callV_I (ci := 4) (n := 4) (As := [.int p1, .int 3, .int 0, .int 999999]) (st := []) hX (pcK 5) (by decide) (ct_X4_plain X.l n p0 p1 (3 : Int32) (0 : Int32) (999999 : Int32)) q1992 q1994 qs70 q91 q1995 yvX4_plain (by decide) rfl (by first | decide | simp [rv_cat, cat_i, cat_l]) dX4_statement_88 (fun v26 => ?_)
            refine s_istore_n (i := 2) (L2 := [(2, .int v26), (0, rv p0), (1, .int p1)]) hX dX4_statement_91 rfl (by decide) rfl ?_
            refine s_goto (tgt := 256) hX dX4_statement_92 (by decide) ?_
            exact s_sub [1, 0] rfl (hj256 v26)
        · refine s_aload_n hX dX4_statement_58 rfl 0 rfl ?_
          refine s_iload_n hX dX4_statement_59 rfl 1 rfl ?_
          refine s_iconst (v := 2) hX dX4_statement_60 rfl ?_
          refine s_iconst (v := 1) hX dX4_statement_61 rfl ?_
          refine s_bipush (v := 100) hX dX4_statement_62 (by decide) ?_
          refine s_callV_I (ci := 4) (n := 4) (As := [.int p1, .int 2, .int 1, .int 100]) (st := []) hX (pcK 5) (by decide) (ct_X4_plain X.l n p0 p1 (2 : Int32) (1 : Int32) (100 : Int32)) q1992 q1994 qs70 q91 q1995 yvX4_plain (by decide) rfl (by first | decide | simp [rv_cat, cat_i, cat_l]) dX4_statement_64 (fun v27 => ?_)
          refine s_istore_n (i := 2) (L2 := [(2, .int v27), (0, rv p0), (1, .int p1)]) hX dX4_statement_67 rfl (by decide) rfl ?_
          refine s_goto (tgt := 256) hX dX4_statement_68 (by decide) ?_
          exact s_sub [1, 0] rfl (hj256 v27)
      · refine s_aload_n hX dX4_statement_34 rfl 0 rfl ?_
        refine s_iload_n hX dX4_statement_35 rfl 1 rfl ?_
        refine s_iconst (v := 1) hX dX4_statement_36 rfl ?_
        refine s_iconst (v := 0) hX dX4_statement_37 rfl ?_
        refine s_ldcw (v := 999999) hX dX4_statement_38 q1991 ?_
        refine s_callV_I (ci := 4) (n := 4) (As := [.int p1, .int 1, .int 0, .int 999999]) (st := []) hX (pcK 5) (by decide) (ct_X4_plain X.l n p0 p1 (1 : Int32) (0 : Int32) (999999 : Int32)) q1992 q1994 qs70 q91 q1995 yvX4_plain (by decide) rfl (by first | decide | simp [rv_cat, cat_i, cat_l]) dX4_statement_41 (fun v28 => ?_)
        refine s_istore_n (i := 2) (L2 := [(2, .int v28), (0, rv p0), (1, .int p1)]) hX dX4_statement_44 rfl (by decide) rfl ?_
        refine s_goto (tgt := 256) hX dX4_statement_45 (by decide) ?_
        exact s_sub [1, 0] rfl (hj256 v28)
    · refine s_aload_n hX dX4_statement_10 rfl 0 rfl ?_
      refine s_iload_n hX dX4_statement_11 rfl 1 rfl ?_
      refine s_iconst (v := 0) hX dX4_statement_12 rfl ?_
      refine s_iconst (v := 0) hX dX4_statement_13 rfl ?_
      refine s_ldcw (v := 999999) hX dX4_statement_14 q1991 ?_
      refine s_callV_I (ci := 4) (n := 4) (As := [.int p1, .int 0, .int 0, .int 999999]) (st := []) hX (pcK 5) (by decide) (ct_X4_plain X.l n p0 p1 (0 : Int32) (0 : Int32) (999999 : Int32)) q1992 q1994 qs70 q91 q1995 yvX4_plain (by decide) rfl (by first | decide | simp [rv_cat, cat_i, cat_l]) dX4_statement_17 (fun v29 => ?_)
      refine s_istore_n (i := 2) (L2 := [(2, .int v29), (0, rv p0), (1, .int p1)]) hX dX4_statement_20 rfl (by decide) rfl ?_
      refine s_goto (tgt := 256) hX dX4_statement_21 (by decide) ?_
      exact s_sub [1, 0] rfl (hj256 v29)
theorem dX4_rules_0 : decode cX4_rules 0 = .ok (.iload_n 1, 1) := by decide +kernel
theorem dX4_rules_1 : decode cX4_rules 1 = .ok (.iconst 0, 1) := by decide +kernel
theorem dX4_rules_2 : decode cX4_rules 2 = .ok (.aload_n 0, 1) := by decide +kernel
theorem dX4_rules_3 : decode cX4_rules 3 = .ok (.getfield 339, 3) := by decide +kernel
theorem dX4_rules_6 : decode cX4_rules 6 = .ok (.invokestatic 198, 3) := by decide +kernel
theorem dX4_rules_9 : decode cX4_rules 9 = .ok (.ifCond .ne 6, 3) := by decide +kernel
theorem dX4_rules_12 : decode cX4_rules 12 = .ok (.bipush (-2), 2) := by decide +kernel
theorem dX4_rules_14 : decode cX4_rules 14 = .ok (.ireturn, 1) := by decide +kernel
theorem dX4_rules_15 : decode cX4_rules 15 = .ok (.aload_n 0, 1) := by decide +kernel
theorem dX4_rules_16 : decode cX4_rules 16 = .ok (.getfield 466, 3) := by decide +kernel
theorem dX4_rules_19 : decode cX4_rules 19 = .ok (.bipush 8, 2) := by decide +kernel
theorem dX4_rules_21 : decode cX4_rules 21 = .ok (.if_icmp .ne 6, 3) := by decide +kernel
theorem dX4_rules_24 : decode cX4_rules 24 = .ok (.bipush (-3), 2) := by decide +kernel
theorem dX4_rules_26 : decode cX4_rules 26 = .ok (.ireturn, 1) := by decide +kernel
theorem dX4_rules_27 : decode cX4_rules 27 = .ok (.iconst 0, 1) := by decide +kernel
theorem dX4_rules_28 : decode cX4_rules 28 = .ok (.istore_n 2, 1) := by decide +kernel
theorem dX4_rules_29 : decode cX4_rules 29 = .ok (.iload_n 2, 1) := by decide +kernel
theorem dX4_rules_30 : decode cX4_rules 30 = .ok (.iload_n 1, 1) := by decide +kernel
theorem dX4_rules_31 : decode cX4_rules 31 = .ok (.if_icmp .ge 21, 3) := by decide +kernel
theorem dX4_rules_34 : decode cX4_rules 34 = .ok (.aload_n 0, 1) := by decide +kernel
theorem dX4_rules_35 : decode cX4_rules 35 = .ok (.getfield 177, 3) := by decide +kernel
theorem dX4_rules_38 : decode cX4_rules 38 = .ok (.iload_n 2, 1) := by decide +kernel
theorem dX4_rules_39 : decode cX4_rules 39 = .ok (.aload_n 0, 1) := by decide +kernel
theorem dX4_rules_40 : decode cX4_rules 40 = .ok (.getfield 173, 3) := by decide +kernel
theorem dX4_rules_43 : decode cX4_rules 43 = .ok (.iload_n 2, 1) := by decide +kernel
theorem dX4_rules_44 : decode cX4_rules 44 = .ok (.baload, 1) := by decide +kernel
theorem dX4_rules_45 : decode cX4_rules 45 = .ok (.bastore, 1) := by decide +kernel
theorem dX4_rules_46 : decode cX4_rules 46 = .ok (.iinc 2 1, 3) := by decide +kernel
theorem dX4_rules_49 : decode cX4_rules 49 = .ok (.goto (-20), 3) := by decide +kernel
theorem dX4_rules_52 : decode cX4_rules 52 = .ok (.aload_n 0, 1) := by decide +kernel
theorem dX4_rules_53 : decode cX4_rules 53 = .ok (.iload_n 1, 1) := by decide +kernel
theorem dX4_rules_54 : decode cX4_rules 54 = .ok (.putfield 348, 3) := by decide +kernel
theorem dX4_rules_57 : decode cX4_rules 57 = .ok (.aload_n 0, 1) := by decide +kernel
theorem dX4_rules_58 : decode cX4_rules 58 = .ok (.iconst 0, 1) := by decide +kernel
theorem dX4_rules_59 : decode cX4_rules 59 = .ok (.putfield 339, 3) := by decide +kernel
theorem dX4_rules_62 : decode cX4_rules 62 = .ok (.aload_n 0, 1) := by decide +kernel
theorem dX4_rules_63 : decode cX4_rules 63 = .ok (.iconst 0, 1) := by decide +kernel
theorem dX4_rules_64 : decode cX4_rules 64 = .ok (.putfield 345, 3) := by decide +kernel
theorem dX4_rules_67 : decode cX4_rules 67 = .ok (.aload_n 0, 1) := by decide +kernel
theorem dX4_rules_68 : decode cX4_rules 68 = .ok (.getfield 364, 3) := by decide +kernel
theorem dX4_rules_71 : decode cX4_rules 71 = .ok (.istore_n 2, 1) := by decide +kernel
theorem dX4_rules_72 : decode cX4_rules 72 = .ok (.aload_n 0, 1) := by decide +kernel
theorem dX4_rules_73 : decode cX4_rules 73 = .ok (.getfield 137, 3) := by decide +kernel
theorem dX4_rules_76 : decode cX4_rules 76 = .ok (.aload_n 0, 1) := by decide +kernel
theorem dX4_rules_77 : decode cX4_rules 77 = .ok (.getfield 466, 3) := by decide +kernel
theorem dX4_rules_80 : decode cX4_rules 80 = .ok (.iconst 0, 1) := by decide +kernel
theorem dX4_rules_81 : decode cX4_rules 81 = .ok (.iastore, 1) := by decide +kernel
theorem dX4_rules_82 : decode cX4_rules 82 = .ok (.iconst 1, 1) := by decide +kernel
theorem dX4_rules_83 : decode cX4_rules 83 = .ok (.istore_n 3, 1) := by decide +kernel
theorem dX4_rules_84 : decode cX4_rules 84 = .ok (.aload_n 0, 1) := by decide +kernel
theorem dX4_rules_85 : decode cX4_rules 85 = .ok (.invokevirtual 351, 3) := by decide +kernel
theorem dX4_rules_88 : decode cX4_rules 88 = .ok (.iload_n 3, 1) := by decide +kernel
theorem dX4_rules_89 : decode cX4_rules 89 = .ok (.ifCond .eq 85, 3) := by decide +kernel
theorem dX4_rules_92 : decode cX4_rules 92 = .ok (.aload_n 0, 1) := by decide +kernel
theorem dX4_rules_93 : decode cX4_rules 93 = .ok (.getfield 345, 3) := by decide +kernel
theorem dX4_rules_96 : decode cX4_rules 96 = .ok (.aload_n 0, 1) := by decide +kernel
theorem dX4_rules_97 : decode cX4_rules 97 = .ok (.getfield 348, 3) := by decide +kernel
theorem dX4_rules_100 : decode cX4_rules 100 = .ok (.if_icmp .ge 74, 3) := by decide +kernel
theorem dX4_rules_103 : decode cX4_rules 103 = .ok (.aload_n 0, 1) := by decide +kernel
theorem dX4_rules_104 : decode cX4_rules 104 = .ok (.getfield 137, 3) := by decide +kernel
theorem dX4_rules_107 : decode cX4_rules 107 = .ok (.aload_n 0, 1) := by decide +kernel
theorem dX4_rules_108 : decode cX4_rules 108 = .ok (.getfield 466, 3) := by decide +kernel
theorem dX4_rules_111 : decode cX4_rules 111 = .ok (.iaload, 1) := by decide +kernel
theorem dX4_rules_112 : decode cX4_rules 112 = .ok (.bipush 24, 2) := by decide +kernel
theorem dX4_rules_114 : decode cX4_rules 114 = .ok (.if_icmp .ge 31, 3) := by decide +kernel
theorem dX4_rules_117 : decode cX4_rules 117 = .ok (.aload_n 0, 1) := by decide +kernel
theorem dX4_rules_118 : decode cX4_rules 118 = .ok (.bipush 24, 2) := by decide +kernel
theorem dX4_rules_120 : decode cX4_rules 120 = .ok (.aload_n 0, 1) := by decide +kernel
theorem dX4_rules_121 : decode cX4_rules 121 = .ok (.getfield 466, 3) := by decide +kernel
theorem dX4_rules_124 : decode cX4_rules 124 = .ok (.imul, 1) := by decide +kernel
theorem dX4_rules_125 : decode cX4_rules 125 = .ok (.aload_n 0, 1) := by decide +kernel
theorem dX4_rules_126 : decode cX4_rules 126 = .ok (.getfield 137, 3) := by decide +kernel
theorem dX4_rules_129 : decode cX4_rules 129 = .ok (.aload_n 0, 1) := by decide +kernel
theorem dX4_rules_130 : decode cX4_rules 130 = .ok (.getfield 466, 3) := by decide +kernel
theorem dX4_rules_133 : decode cX4_rules 133 = .ok (.iaload, 1) := by decide +kernel
theorem dX4_rules_134 : decode cX4_rules 134 = .ok (.iadd, 1) := by decide +kernel
theorem dX4_rules_135 : decode cX4_rules 135 = .ok (.invokevirtual 469, 3) := by decide +kernel
theorem dX4_rules_138 : decode cX4_rules 138 = .ok (.ifCond .eq 7, 3) := by decide +kernel
theorem dX4_rules_141 : decode cX4_rules 141 = .ok (.iconst 1, 1) := by decide +kernel
theorem dX4_rules_142 : decode cX4_rules 142 = .ok (.goto 4, 3) := by decide +kernel
theorem dX4_rules_145 : decode cX4_rules 145 = .ok (.iconst 0, 1) := by decide +kernel
theorem dX4_rules_146 : decode cX4_rules 146 = .ok (.istore_n 3, 1) := by decide +kernel
theorem dX4_rules_147 : decode cX4_rules 147 = .ok (.iload_n 3, 1) := by decide +kernel
theorem dX4_rules_148 : decode cX4_rules 148 = .ok (.ifCond .ne 6, 3) := by decide +kernel
theorem dX4_rules_151 : decode cX4_rules 151 = .ok (.goto (-63), 3) := by decide +kernel
theorem dX4_rules_154 : decode cX4_rules 154 = .ok (.aload_n 0, 1) := by decide +kernel
theorem dX4_rules_155 : decode cX4_rules 155 = .ok (.getfield 137, 3) := by decide +kernel
theorem dX4_rules_158 : decode cX4_rules 158 = .ok (.aload_n 0, 1) := by decide +kernel
theorem dX4_rules_159 : decode cX4_rules 159 = .ok (.getfield 466, 3) := by decide +kernel
theorem dX4_rules_162 : decode cX4_rules 162 = .ok (.dup2, 1) := by decide +kernel
theorem dX4_rules_163 : decode cX4_rules 163 = .ok (.iaload, 1) := by decide +kernel
theorem dX4_rules_164 : decode cX4_rules 164 = .ok (.iconst 1, 1) := by decide +kernel
theorem dX4_rules_165 : decode cX4_rules 165 = .ok (.iadd, 1) := by decide +kernel
theorem dX4_rules_166 : decode cX4_rules 166 = .ok (.iastore, 1) := by decide +kernel
theorem dX4_rules_167 : decode cX4_rules 167 = .ok (.aload_n 0, 1) := by decide +kernel
theorem dX4_rules_168 : decode cX4_rules 168 = .ok (.invokevirtual 351, 3) := by decide +kernel
theorem dX4_rules_171 : decode cX4_rules 171 = .ok (.goto (-83), 3) := by decide +kernel
theorem dX4_rules_174 : decode cX4_rules 174 = .ok (.aload_n 0, 1) := by decide +kernel
theorem dX4_rules_175 : decode cX4_rules 175 = .ok (.iload_n 3, 1) := by decide +kernel
theorem dX4_rules_176 : decode cX4_rules 176 = .ok (.ifCond .eq 7, 3) := by decide +kernel
theorem dX4_rules_179 : decode cX4_rules 179 = .ok (.iconst (-1), 1) := by decide +kernel
theorem dX4_rules_180 : decode cX4_rules 180 = .ok (.goto 7, 3) := by decide +kernel
theorem dX4_rules_183 : decode cX4_rules 183 = .ok (.aload_n 0, 1) := by decide +kernel
theorem dX4_rules_184 : decode cX4_rules 184 = .ok (.getfield 345, 3) := by decide +kernel
theorem dX4_rules_187 : decode cX4_rules 187 = .ok (.putfield 133, 3) := by decide +kernel
theorem dX4_rules_190 : decode cX4_rules 190 = .ok (.iload_n 3, 1) := by decide +kernel
theorem dX4_rules_191 : decode cX4_rules 191 = .ok (.ifCond .ne 10, 3) := by decide +kernel
theorem dX4_rules_194 : decode cX4_rules 194 = .ok (.aload_n 0, 1) := by decide +kernel
theorem dX4_rules_195 : decode cX4_rules 195 = .ok (.iload_n 2, 1) := by decide +kernel
theorem dX4_rules_196 : decode cX4_rules 196 = .ok (.putfield 364, 3) := by decide +kernel
theorem dX4_rules_199 : decode cX4_rules 199 = .ok (.iconst (-1), 1) := by decide +kernel
theorem dX4_rules_200 : decode cX4_rules 200 = .ok (.ireturn, 1) := by decide +kernel
theorem dX4_rules_201 : decode cX4_rules 201 = .ok (.aload_n 0, 1) := by decide +kernel
theorem dX4_rules_202 : decode cX4_rules 202 = .ok (.getfield 140, 3) := by decide +kernel
theorem dX4_rules_205 : decode cX4_rules 205 = .ok (.aload_n 0, 1) := by decide +kernel
theorem dX4_rules_206 : decode cX4_rules 206 = .ok (.getfield 466, 3) := by decide +kernel
theorem dX4_rules_209 : decode cX4_rules 209 = .ok (.aload_n 0, 1) := by decide +kernel
theorem dX4_rules_210 : decode cX4_rules 210 = .ok (.getfield 229, 3) := by decide +kernel
theorem dX4_rules_213 : decode cX4_rules 213 = .ok (.iastore, 1) := by decide +kernel
theorem dX4_rules_214 : decode cX4_rules 214 = .ok (.aload_n 0, 1) := by decide +kernel
theorem dX4_rules_215 : decode cX4_rules 215 = .ok (.dup, 1) := by decide +kernel
theorem dX4_rules_216 : decode cX4_rules 216 = .ok (.getfield 466, 3) := by decide +kernel
theorem dX4_rules_219 : decode cX4_rules 219 = .ok (.iconst 1, 1) := by decide +kernel
theorem dX4_rules_220 : decode cX4_rules 220 = .ok (.iadd, 1) := by decide +kernel
theorem dX4_rules_221 : decode cX4_rules 221 = .ok (.putfield 466, 3) := by decide +kernel
theorem dX4_rules_224 : decode cX4_rules 224 = .ok (.aload_n 0, 1) := by decide +kernel
theorem dX4_rules_225 : decode cX4_rules 225 = .ok (.getfield 466, 3) := by decide +kernel
theorem dX4_rules_228 : decode cX4_rules 228 = .ok (.iconst 1, 1) := by decide +kernel
theorem dX4_rules_229 : decode cX4_rules 229 = .ok (.isub, 1) := by decide +kernel
theorem dX4_rules_230 : decode cX4_rules 230 = .ok (.ireturn, 1) := by decide +kernel
theorem ycX4_rules : yX4_rules.cls ≠ "java/lang/invoke/MethodHandle" ∧ yX4_rules.cls ≠ "java/lang/invoke/VarHandle" ∧ (parseMethodDescriptor yX4_rules.desc).map (fun d => d.parameters.length) = some 1 := by decide +kernel
theorem yvX4_rules : yX4_rules.cls = RR 4 ∧ yX4_rules.cls ≠ "java/lang/invoke/MethodHandle" ∧ yX4_rules.cls ≠ "java/lang/invoke/VarHandle" ∧ (parseMethodDescriptor yX4_rules.desc).map (fun d => d.parameters.length) = some 1 := ⟨rfl, ycX4_rules⟩
def lp_X4_rules_88 (n : Nat) (p0 : Nat) (v5 : Int32) (j174 : Int32 → Act Int32) (q : Nat) : Int32 → Act Int32 := match q with
  | 0 => fun _ => fail
  | q + 1 => fun w8 =>
    if w8 = 0 then
      j174 w8
    else
      bnd (getI 4 53 p0) fun v17 =>
      bnd (getI 4 52 p0) fun v18 =>
      if v18 ≤ v17 then
        j174 w8
      else
        bnd (getR 4 56 p0) fun v19 =>
        bnd (getI 4 49 p0) fun v20 =>
        bnd (ldI 0 v19 v20) fun v21 =>
        jn (fun (v22 : Int32) =>
          if ¬ v22 = 0 then
            bnd (getR 4 56 p0) fun v23 =>
            bnd (getI 4 49 p0) fun v24 =>
            bnd (ldI 0 v23 v24) fun v25 =>
            bnd (stI 0 v23 v24 (v25 + 1)) fun _ =>
            bnd (gd 4 p0 (nt (f_X4_blanks n p0))) fun _ =>
            (lp_X4_rules_88 n p0 v5 j174 q) v22
          else
            (lp_X4_rules_88 n p0 v5 j174 q) v22) fun j146 =>
        jn (fun (_ : Unit) =>
          j146 0) fun j145 =>
        if 24 ≤ v21 then
          j145 ()
        else
          bnd (getI 4 49 p0) fun v26 =>
          bnd (getR 4 56 p0) fun v27 =>
          bnd (getI 4 49 p0) fun v28 =>
          bnd (ldI 0 v27 v28) fun v29 =>
          bnd (gd 4 p0 (nt (f_X4_statement n p0 ((24 * v26) + v29)))) fun v30 =>
          if v30 = 0 then
            j145 ()
          else
            j146 1
def lp_X4_rules_29 (p0 : Nat) (p1 : Int32) (j52 : Unit → Act Int32) (q : Nat) : Int32 → Act Int32 := match q with
  | 0 => fun _ => fail
  | q + 1 => fun w4 =>
    if p1 ≤ w4 then
      j52 ()
    else
      bnd (getR 4 69 p0) fun v31 =>
      bnd (getR 4 68 p0) fun v32 =>
      bnd (ldI 2 v32 w4) fun v33 =>
      bnd (stI 2 v31 w4 v33) fun _ =>
      (lp_X4_rules_29 p0 p1 j52 q) (w4 + 1)
def f_X4_rules (n : Nat) (p0 : Nat) (p1 : Int32) : Act Int32 :=
  bnd (getI 4 51 p0) fun v1 =>
  bnd (nt (f_X4_isIn p1 (0 : Int32) v1)) fun v2 =>
  if ¬ v2 = 0 then
    bnd (getI 4 49 p0) fun v3 =>
    if ¬ v3 = 8 then
      jn (fun (_ : Unit) =>
        bnd (putI 4 52 p0 p1) fun _ =>
        bnd (putI 4 51 p0 0) fun _ =>
        bnd (putI 4 53 p0 0) fun _ =>
        bnd (getI 4 50 p0) fun v5 =>
        bnd (getR 4 56 p0) fun v6 =>
        bnd (getI 4 49 p0) fun v7 =>
        bnd (stI 0 v6 v7 0) fun _ =>
        bnd (gd 4 p0 (nt (f_X4_blanks n p0))) fun _ =>
        jn (fun (v9 : Int32) =>
          jn (fun (v10 : Int32) =>
            bnd (putI 4 55 p0 v10) fun _ =>
            if ¬ v9 = 0 then
              bnd (getR 4 57 p0) fun v11 =>
              bnd (getI 4 49 p0) fun v12 =>
              bnd (getI 4 0 p0) fun v13 =>
              bnd (stI 0 v11 v12 v13) fun _ =>
              bnd (getI 4 49 p0) fun v14 =>
              bnd (putI 4 49 p0 (v14 + 1)) fun _ =>
              bnd (getI 4 49 p0) fun v15 =>
              pur (v15 - 1)
            else
              bnd (putI 4 50 p0 v5) fun _ =>
              pur (-1)) fun j187 =>
          if v9 = 0 then
            bnd (getI 4 53 p0) fun v16 =>
            j187 v16
          else
            j187 (-1)) fun j174 =>
        lp_X4_rules_88 n p0 v5 j174 n 1) fun j52 =>
      lp_X4_rules_29 p0 p1 j52 n 0
    else
      pur (-3)
  else
    pur (-2)
set_option maxHeartbeats 4000000 in
theorem s_lp_X4_rules_88 {X : Cx} (hX : Ok X Pic cX4_rules RX4 4 (some FieldType.int) 163 3547) (hnh : Noh X) (n : Nat) (p0 : Nat) (v5 : Int32) (j174 : Int32 → Act Int32) (hj174 : ∀ (v9 : Int32), Sim X cvI 174 [(0, rv p0), (2, .int v5), (3, .int v9)] [] (j174 v9)) (q : Nat) : ∀ (w8 : Int32), Sim X cvI 88 [(0, rv p0), (2, .int v5), (3, .int w8)] [] (lp_X4_rules_88 n p0 v5 j174 q w8) := by
  induction q with
  | zero => intro w8; exact s_fail
  | succ q ih88 =>
    intro w8
    rw [lp_X4_rules_88]
    refine s_iload_n hX dX4_rules_88 rfl 2 rfl ?_
    refine s_if_eq (tgt := 174) hX dX4_rules_89 (by decide) ?_ ?_
    · exact hj174 w8
    · refine s_aload_n hX dX4_rules_92 rfl 0 rfl ?_
      refine s_getI (ci := 4) (j := 53) (ref := "WindGasModel") hX (pcG 4) in_X4 (Or.inl q1591) (by decide) (by decide) (by decide) rfl dX4_rules_93 (fun _ h9 => h9) (fun v17 => ?_)
      refine s_aload_n hX dX4_rules_96 rfl 0 rfl ?_
      refine s_getI (ci := 4) (j := 52) (ref := "WindGasModel") hX (pcG 4) in_X4 (Or.inl q1590) (by decide) (by decide) (by decide) rfl dX4_rules_97 (fun _ h9 => h9) (fun v18 => ?_)
      refine s_icmp_ge (tgt := 174) hX dX4_rules_100 (by decide) ?_ ?_
      · exact hj174 w8
      · refine s_aload_n hX dX4_rules_103 rfl 0 rfl ?_
        refine s_getR (ci := 4) (j := 56) (ref := "WindGasModel") hX (pcG 4) in_X4 (Or.inl q1594) (by decide) (by decide) (by decide) rfl dX4_rules_104 (fun _ h9 => h9) (fun v19 => ?_)
        refine s_aload_n hX dX4_rules_107 rfl 0 rfl ?_
        refine s_getI (ci := 4) (j := 49) (ref := "WindGasModel") hX (pcG 4) in_X4 (Or.inl q1587) (by decide) (by decide) (by decide) rfl dX4_rules_108 (fun _ h9 => h9) (fun v20 => ?_)
        refine s_iald hX (pcA 0) dX4_rules_111 (fun v21 => ?_)
        refine s_bipush (v := 24) hX dX4_rules_112 (by decide) ?_
        refine s_jn (P := fun j => ∀ (v22 : Int32), Sim X cvI 146 [(0, rv p0), (2, .int v5)] [.int v22] (j v22)) ?_ (fun j146 hj146 => ?_)
        · intro v22
          refine s_istore_n (i := 3) (L2 := [(3, .int v22), (0, rv p0), (2, .int v5)]) hX dX4_rules_146 rfl (by decide) rfl ?_
          refine s_iload_n hX dX4_rules_147 rfl 0 rfl ?_
          refine s_if_ne (tgt := 154) hX dX4_rules_148 (by decide) ?_ ?_
          · refine s_aload_n hX dX4_rules_154 rfl 1 rfl ?_
            refine s_getR (ci := 4) (j := 56) (ref := "WindGasModel") hX (pcG 4) in_X4 (Or.inl q1594) (by decide) (by decide) (by decide) rfl dX4_rules_155 (fun _ h9 => h9) (fun v23 => ?_)
            refine s_aload_n hX dX4_rules_158 rfl 1 rfl ?_
            refine s_getI (ci := 4) (j := 49) (ref := "WindGasModel") hX (pcG 4) in_X4 (Or.inl q1587) (by decide) (by decide) (by decide) rfl dX4_rules_159 (fun _ h9 => h9) (fun v24 => ?_)
            refine s_dup2 hX dX4_rules_162 rfl (rv_cat _) ?_
            refine s_iald hX (pcA 0) dX4_rules_163 (fun v25 => ?_)
            refine s_iconst (v := 1) hX dX4_rules_164 rfl ?_
            refine s_iadd hX dX4_rules_165 ?_
            refine s_iast hX (pcA 0) (pcB 0) dX4_rules_166 ?_
            refine s_aload_n hX dX4_rules_167 rfl 1 rfl ?_
            refine s_callV_U (ci := 4) (n := 0) (As := []) (st := []) hX (pcK 5) (by decide) (ct_X4_blanks X.l n p0) q1974 q1976 qs66 q91 q1977 yvX4_blanks (by decide) rfl (by first | decide | simp [rv_cat, cat_i, cat_l]) dX4_rules_168 (fun _ => ?_)
            refine s_goto (tgt := 88) hX dX4_rules_171 (by decide) ?_
            exact s_sub [1, 2, 0] rfl (ih88 v22)
          · refine s_goto (tgt := 88) hX dX4_rules_151 (by decide) ?_
            exact s_sub [1, 2, 0] rfl (ih88 v22)
        · refine s_jn (P := fun j => ∀ (u : Unit), Sim X cvI 145 [(0, rv p0), (2, .int v5)] [] (j u)) ?_ (fun j145 hj145 => ?_)
          · intro u
            refine s_iconst (v := 0) hX dX4_rules_145 rfl ?_
            exact hj146 0
          · refine s_icmp_ge (tgt := 145) hX dX4_rules_114 (by decide) ?_ ?_
            · exact s_sub [0, 1] rfl (hj145 ())
            · refine s_aload_n hX dX4_rules_117 rfl 0 rfl ?_
              refine s_bipush (v := 24) hX dX4_rules_118 (by decide) ?_
              refine s_aload_n hX dX4_rules_120 rfl 0 rfl ?_
              refine s_getI (ci := 4) (j := 49) (ref := "WindGasModel") hX (pcG 4) in_X4 (Or.inl q1587) (by decide) (by decide) (by decide) rfl dX4_rules_121 (fun _ h9 => h9) (fun v26 => ?_)
              refine s_imul hX dX4_rules_124 ?_
              refine s_aload_n hX dX4_rules_125 rfl 0 rfl ?_
              refine s_getR (ci := 4) (j := 56) (ref := "WindGasModel") hX (pcG 4) in_X4 (Or.inl q1594) (by decide) (by decide) (by decide) rfl dX4_rules_126 (fun _ h9 => h9) (fun v27 => ?_)
              refine s_aload_n hX dX4_rules_129 rfl 0 rfl ?_
              refine s_getI (ci := 4) (j := 49) (ref := "WindGasModel") hX (pcG 4) in_X4 (Or.inl q1587) (by decide) (by decide) (by decide) rfl dX4_rules_130 (fun _ h9 => h9) (fun v28 => ?_)
              refine s_iald hX (pcA 0) dX4_rules_133 (fun v29 => ?_)
              refine s_iadd hX dX4_rules_134 ?_
              refine s_callV_I (ci := 4) (n := 1) (As := [.int ((24 * v26) + v29)]) (st := []) hX (pcK 5) (by decide) (ct_X4_statement X.l n p0 ((24 * v26) + v29)) q1978 q1980 qs67 q91 q1981 yvX4_statement (by decide) rfl (by first | decide | simp [rv_cat, cat_i, cat_l]) dX4_rules_135 (fun v30 => ?_)
              refine s_if_eq (tgt := 145) hX dX4_rules_138 (by decide) ?_ ?_
              · exact s_sub [0, 1] rfl (hj145 ())
              · refine s_iconst (v := 1) hX dX4_rules_141 rfl ?_
                refine s_goto (tgt := 146) hX dX4_rules_142 (by decide) ?_
                exact s_sub [0, 1] rfl (hj146 1)
set_option maxHeartbeats 4000000 in
theorem s_lp_X4_rules_29 {X : Cx} (hX : Ok X Pic cX4_rules RX4 4 (some FieldType.int) 163 3547) (hnh : Noh X) (p0 : Nat) (p1 : Int32) (j52 : Unit → Act Int32) (hj52 : ∀ (u : Unit), Sim X cvI 52 [(0, rv p0), (1, .int p1)] [] (j52 u)) (q : Nat) : ∀ (w4 : Int32), Sim X cvI 29 [(0, rv p0), (1, .int p1), (2, .int w4)] [] (lp_X4_rules_29 p0 p1 j52 q w4) := by
  induction q with
  | zero => intro w4; exact s_fail
  | succ q ih29 =>
    intro w4
    rw [lp_X4_rules_29]
    refine s_iload_n hX dX4_rules_29 rfl 2 rfl ?_
    refine s_iload_n hX dX4_rules_30 rfl 1 rfl ?_
    refine s_icmp_ge (tgt := 52) hX dX4_rules_31 (by decide) ?_ ?_
    · exact s_sub [0, 1] rfl (hj52 ())
    · refine s_aload_n hX dX4_rules_34 rfl 0 rfl ?_
      refine s_getR (ci := 4) (j := 69) (ref := "WindGasModel") hX (pcG 4) in_X4 (Or.inl q1607) (by decide) (by decide) (by decide) rfl dX4_rules_35 (fun _ h9 => h9) (fun v31 => ?_)
      refine s_iload_n hX dX4_rules_38 rfl 2 rfl ?_
      refine s_aload_n hX dX4_rules_39 rfl 0 rfl ?_
      refine s_getR (ci := 4) (j := 68) (ref := "WindGasModel") hX (pcG 4) in_X4 (Or.inl q1606) (by decide) (by decide) (by decide) rfl dX4_rules_40 (fun _ h9 => h9) (fun v32 => ?_)
      refine s_iload_n hX dX4_rules_43 rfl 2 rfl ?_
      refine s_bald hX (pcA 2) dX4_rules_44 (fun v33 => ?_)
      refine s_bast hX (pcA 2) (pcB 2) dX4_rules_45 ?_
      refine s_iinc (k := 2) (v := (w4 + 1)) (L2 := [(2, .int (w4 + 1)), (0, rv p0), (1, .int p1)]) hX dX4_rules_46 rfl rfl (by decide) rfl ?_
      refine s_goto (tgt := 29) hX dX4_rules_49 (by decide) ?_
      exact s_sub [1, 2, 0] rfl (ih29 (w4 + 1))
set_option maxHeartbeats 4000000 in
theorem ct_X4_rules (l : Launch) (n : Nat) (p0 : Nat) (p1 : Int32) : Ct l Pic yX4_rules (ws_ yX4_rules cX4_rules 4 (some FieldType.int)) 163 3547 cvI [rv p0, .int p1] (f_X4_rules n p0 p1) := by
  refine Ct.of (own := RX4) (L := [(0, rv p0), (1, .int p1)]) (plainFor_of_name (by decide)) rfl (by first | decide | simp [lg_sl, rv_cat, cat_i, cat_l]) (by first | rfl | simp [lv_args, rv_cat, cat_i, cat_l]) pcZ (fun X hXl hX hnh hin => ?_)
  subst hXl
  unfold f_X4_rules
  refine s_iload_n hX dX4_rules_0 rfl 1 rfl ?_
  refine s_iconst (v := 0) hX dX4_rules_1 rfl ?_
  refine s_aload_n hX dX4_rules_2 rfl 0 rfl ?_
  refine s_getI (ci := 4) (j := 51) (ref := "WindGasModel") hX (pcG 4) in_X4 (Or.inl q1589) (by decide) (by decide) (by decide) rfl dX4_rules_3 (fun _ h9 => h9) (fun v1 => ?_)
  refine s_callS_I (n := 3) (As := [.int p1, .int 0, .int v1]) (st := []) hX (ct_X4_isIn X.l p1 (0 : Int32) v1) q1781 q1782 q91 q1783 ycX4_isIn (by decide) rfl (by first | decide | simp [rv_cat, cat_i, cat_l]) dX4_rules_6 (fun v2 => ?_)
  refine s_if_ne (tgt := 15) hX dX4_rules_9 (by decide) ?_ ?_
  · refine s_aload_n hX dX4_rules_15 rfl 0 rfl ?_
    refine s_getI (ci := 4) (j := 49) (ref := "WindGasModel") hX (pcG 4) in_X4 (Or.inl q1587) (by decide) (by decide) (by decide) rfl dX4_rules_16 (fun _ h9 => h9) (fun v3 => ?_)
    refine s_bipush (v := 8) hX dX4_rules_19 (by decide) ?_
    refine s_icmp_ne (tgt := 27) hX dX4_rules_21 (by decide) ?_ ?_
    · refine s_iconst (v := 0) hX dX4_rules_27 rfl ?_
      refine s_istore_n (i := 2) (L2 := [(2, .int 0), (0, rv p0), (1, .int p1)]) hX dX4_rules_28 rfl (by decide) rfl ?_
      refine s_jn (P := fun j => ∀ (u : Unit), Sim X cvI 52 [(0, rv p0), (1, .int p1)] [] (j u)) ?_ (fun j52 hj52 => ?_)
      · intro u
        refine s_aload_n hX dX4_rules_52 rfl 0 rfl ?_
        refine s_iload_n hX dX4_rules_53 rfl 1 rfl ?_
        refine s_putI (ci := 4) (j := 52) (ref := "WindGasModel") hX (pcG 4) (pcP 4) in_X4 tyX4_ok nmX4 (Or.inl q1590) (by decide) (by decide) (by decide) rfl rfl rfl dX4_rules_54 (fun _ h9 => h9) ?_
        refine s_aload_n hX dX4_rules_57 rfl 0 rfl ?_
        refine s_iconst (v := 0) hX dX4_rules_58 rfl ?_
        refine s_putI (ci := 4) (j := 51) (ref := "WindGasModel") hX (pcG 4) (pcP 4) in_X4 tyX4_ok nmX4 (Or.inl q1589) (by decide) (by decide) (by decide) rfl rfl rfl dX4_rules_59 (fun _ h9 => h9) ?_
        refine s_aload_n hX dX4_rules_62 rfl 0 rfl ?_
        refine s_iconst (v := 0) hX dX4_rules_63 rfl ?_
        refine s_putI (ci := 4) (j := 53) (ref := "WindGasModel") hX (pcG 4) (pcP 4) in_X4 tyX4_ok nmX4 (Or.inl q1591) (by decide) (by decide) (by decide) rfl rfl rfl dX4_rules_64 (fun _ h9 => h9) ?_
        refine s_aload_n hX dX4_rules_67 rfl 0 rfl ?_
        refine s_getI (ci := 4) (j := 50) (ref := "WindGasModel") hX (pcG 4) in_X4 (Or.inl q1588) (by decide) (by decide) (by decide) rfl dX4_rules_68 (fun _ h9 => h9) (fun v5 => ?_)
        refine s_istore_n (i := 2) (L2 := [(2, .int v5), (0, rv p0), (1, .int p1)]) hX dX4_rules_71 rfl (by decide) rfl ?_
        refine s_aload_n hX dX4_rules_72 rfl 1 rfl ?_
        refine s_getR (ci := 4) (j := 56) (ref := "WindGasModel") hX (pcG 4) in_X4 (Or.inl q1594) (by decide) (by decide) (by decide) rfl dX4_rules_73 (fun _ h9 => h9) (fun v6 => ?_)
        refine s_aload_n hX dX4_rules_76 rfl 1 rfl ?_
        refine s_getI (ci := 4) (j := 49) (ref := "WindGasModel") hX (pcG 4) in_X4 (Or.inl q1587) (by decide) (by decide) (by decide) rfl dX4_rules_77 (fun _ h9 => h9) (fun v7 => ?_)
        refine s_iconst (v := 0) hX dX4_rules_80 rfl ?_
        refine s_iast hX (pcA 0) (pcB 0) dX4_rules_81 ?_
        refine s_iconst (v := 1) hX dX4_rules_82 rfl ?_
        refine s_istore_n (i := 3) (L2 := [(3, .int 1), (2, .int v5), (0, rv p0), (1, .int p1)]) hX dX4_rules_83 rfl (by decide) rfl ?_
        refine s_aload_n hX dX4_rules_84 rfl 2 rfl ?_
        refine s_callV_U (ci := 4) (n := 0) (As := []) (st := []) hX (pcK 5) (by decide) (ct_X4_blanks X.l n p0) q1974 q1976 qs66 q91 q1977 yvX4_blanks (by decide) rfl (by first | decide | simp [rv_cat, cat_i, cat_l]) dX4_rules_85 (fun _ => ?_)
        refine s_jn (P := fun j => ∀ (v9 : Int32), Sim X cvI 174 [(0, rv p0), (2, .int v5), (3, .int v9)] [] (j v9)) ?_ (fun j174 hj174 => ?_)
        · intro v9
          refine s_aload_n hX dX4_rules_174 rfl 0 rfl ?_
          refine s_iload_n hX dX4_rules_175 rfl 2 rfl ?_
          refine s_jn (P := fun j => ∀ (v10 : Int32), Sim X cvI 187 [(0, rv p0), (2, .int v5), (3, .int v9)] [.int v10, rv p0] (j v10)) ?_ (fun j187 hj187 => ?_)
          · intro v10
            refine s_putI (ci := 4) (j := 55) (ref := "WindGasModel") hX (pcG 4) (pcP 4) in_X4 tyX4_ok nmX4 (Or.inl q1593) (by decide) (by decide) (by decide) rfl rfl rfl dX4_rules_187 (fun _ h9 => h9) ?_
            refine s_iload_n hX dX4_rules_190 rfl 2 rfl ?_
            refine s_if_ne (tgt := 201) hX dX4_rules_191 (by decide) ?_ ?_
            · refine s_aload_n hX dX4_rules_201 rfl 0 rfl ?_
              refine s_getR (ci := 4) (j := 57) (ref := "WindGasModel") hX (pcG 4) in_X4 (Or.inl q1595) (by decide) (by decide) (by decide) rfl dX4_rules_202 (fun _ h9 => h9) (fun v11 => ?_)
              refine s_aload_n hX dX4_rules_205 rfl 0 rfl ?_
              refine s_getI (ci := 4) (j := 49) (ref := "WindGasModel") hX (pcG 4) in_X4 (Or.inl q1587) (by decide) (by decide) (by decide) rfl dX4_rules_206 (fun _ h9 => h9) (fun v12 => ?_)
              refine s_aload_n hX dX4_rules_209 rfl 0 rfl ?_
              refine s_getI (ci := 4) (j := 0) (ref := "WindGasModel") hX (pcG 4) in_X4 (Or.inl q1538) (by decide) (by decide) (by decide) rfl dX4_rules_210 (fun _ h9 => h9) (fun v13 => ?_)
              refine s_iast hX (pcA 0) (pcB 0) dX4_rules_213 ?_
              refine s_aload_n hX dX4_rules_214 rfl 0 rfl ?_
              refine s_dup hX dX4_rules_215 (rv_cat _) ?_
              refine s_getI (ci := 4) (j := 49) (ref := "WindGasModel") hX (pcG 4) in_X4 (Or.inl q1587) (by decide) (by decide) (by decide) rfl dX4_rules_216 (fun _ h9 => h9) (fun v14 => ?_)
              refine s_iconst (v := 1) hX dX4_rules_219 rfl ?_
              refine s_iadd hX dX4_rules_220 ?_
              refine s_putI (ci := 4) (j := 49) (ref := "WindGasModel") hX (pcG 4) (pcP 4) in_X4 tyX4_ok nmX4 (Or.inl q1587) (by decide) (by decide) (by decide) rfl rfl rfl dX4_rules_221 (fun _ h9 => h9) ?_
              refine s_aload_n hX dX4_rules_224 rfl 0 rfl ?_
              refine s_getI (ci := 4) (j := 49) (ref := "WindGasModel") hX (pcG 4) in_X4 (Or.inl q1587) (by decide) (by decide) (by decide) rfl dX4_rules_225 (fun _ h9 => h9) (fun v15 => ?_)
              refine s_iconst (v := 1) hX dX4_rules_228 rfl ?_
              refine s_isub hX dX4_rules_229 ?_
              exact s_iret hX dX4_rules_230
            · refine s_aload_n hX dX4_rules_194 rfl 0 rfl ?_
              refine s_iload_n hX dX4_rules_195 rfl 1 rfl ?_
              refine s_putI (ci := 4) (j := 50) (ref := "WindGasModel") hX (pcG 4) (pcP 4) in_X4 tyX4_ok nmX4 (Or.inl q1588) (by decide) (by decide) (by decide) rfl rfl rfl dX4_rules_196 (fun _ h9 => h9) ?_
              refine s_iconst (v := -1) hX dX4_rules_199 (by decide) ?_
              exact s_iret hX dX4_rules_200
          · refine s_if_eq (tgt := 183) hX dX4_rules_176 (by decide) ?_ ?_
            · refine s_aload_n hX dX4_rules_183 rfl 0 rfl ?_
              refine s_getI (ci := 4) (j := 53) (ref := "WindGasModel") hX (pcG 4) in_X4 (Or.inl q1591) (by decide) (by decide) (by decide) rfl dX4_rules_184 (fun _ h9 => h9) (fun v16 => ?_)
              exact hj187 v16
            · refine s_iconst (v := -1) hX dX4_rules_179 (by decide) ?_
              refine s_goto (tgt := 187) hX dX4_rules_180 (by decide) ?_
              exact hj187 (-1)
        · exact s_sub [2, 1, 0] rfl (s_lp_X4_rules_88 hX hnh n p0 v5 j174 hj174 n 1)
      · exact s_sub [1, 2, 0] rfl (s_lp_X4_rules_29 hX hnh p0 p1 j52 hj52 n 0)
    · refine s_bipush (v := -3) hX dX4_rules_24 (by decide) ?_
      exact s_iret hX dX4_rules_26
  · refine s_bipush (v := -2) hX dX4_rules_12 (by decide) ?_
    exact s_iret hX dX4_rules_14
theorem dX4_fault_0 : decode cX4_fault 0 = .ok (.aload_n 0, 1) := by decide +kernel
theorem dX4_fault_1 : decode cX4_fault 1 = .ok (.getfield 133, 3) := by decide +kernel
theorem dX4_fault_4 : decode cX4_fault 4 = .ok (.ireturn, 1) := by decide +kernel
theorem ycX4_fault : yX4_fault.cls ≠ "java/lang/invoke/MethodHandle" ∧ yX4_fault.cls ≠ "java/lang/invoke/VarHandle" ∧ (parseMethodDescriptor yX4_fault.desc).map (fun d => d.parameters.length) = some 0 := by decide +kernel
theorem yvX4_fault : yX4_fault.cls = RR 4 ∧ yX4_fault.cls ≠ "java/lang/invoke/MethodHandle" ∧ yX4_fault.cls ≠ "java/lang/invoke/VarHandle" ∧ (parseMethodDescriptor yX4_fault.desc).map (fun d => d.parameters.length) = some 0 := ⟨rfl, ycX4_fault⟩
def f_X4_fault (p0 : Nat) : Act Int32 :=
  bnd (getI 4 55 p0) fun v1 =>
  pur v1
set_option maxHeartbeats 4000000 in
theorem ct_X4_fault (l : Launch) (p0 : Nat) : Ct l Pic yX4_fault (ws_ yX4_fault cX4_fault 1 (some FieldType.int)) 0 0 cvI [rv p0] (f_X4_fault p0) := by
  refine Ct.of (own := RX4) (L := [(0, rv p0)]) (plainFor_of_name (by decide)) rfl (by first | decide | simp [lg_sl, rv_cat, cat_i, cat_l]) (by first | rfl | simp [lv_args, rv_cat, cat_i, cat_l]) pcZ (fun X hXl hX hnh hin => ?_)
  subst hXl
  unfold f_X4_fault
  refine s_aload_n hX dX4_fault_0 rfl 0 rfl ?_
  refine s_getI (ci := 4) (j := 55) (ref := "WindGasModel") hX (pcG 4) in_X4 (Or.inl q1593) (by decide) (by decide) (by decide) rfl dX4_fault_1 (fun _ h9 => h9) (fun v1 => ?_)
  exact s_iret hX dX4_fault_4
theorem dX4_law_0 : decode cX4_law 0 = .ok (.iload_n 1, 1) := by decide +kernel
theorem dX4_law_1 : decode cX4_law 1 = .ok (.invokestatic 202, 3) := by decide +kernel
theorem dX4_law_4 : decode cX4_law 4 = .ok (.ifCond .ne 5, 3) := by decide +kernel
theorem dX4_law_7 : decode cX4_law 7 = .ok (.iconst (-1), 1) := by decide +kernel
theorem dX4_law_8 : decode cX4_law 8 = .ok (.ireturn, 1) := by decide +kernel
theorem dX4_law_9 : decode cX4_law 9 = .ok (.aload_n 0, 1) := by decide +kernel
theorem dX4_law_10 : decode cX4_law 10 = .ok (.iload_n 1, 1) := by decide +kernel
theorem dX4_law_11 : decode cX4_law 11 = .ok (.invokevirtual 282, 3) := by decide +kernel
theorem dX4_law_14 : decode cX4_law 14 = .ok (.istore_n 3, 1) := by decide +kernel
theorem dX4_law_15 : decode cX4_law 15 = .ok (.iload_n 2, 1) := by decide +kernel
theorem dX4_law_16 : decode cX4_law 16 = .ok (.iconst 0, 1) := by decide +kernel
theorem dX4_law_17 : decode cX4_law 17 = .ok (.iconst 5, 1) := by decide +kernel
theorem dX4_law_18 : decode cX4_law 18 = .ok (.invokestatic 198, 3) := by decide +kernel
theorem dX4_law_21 : decode cX4_law 21 = .ok (.ifCond .eq 12, 3) := by decide +kernel
theorem dX4_law_24 : decode cX4_law 24 = .ok (.aload_n 0, 1) := by decide +kernel
theorem dX4_law_25 : decode cX4_law 25 = .ok (.iload_n 3, 1) := by decide +kernel
theorem dX4_law_26 : decode cX4_law 26 = .ok (.iload_n 2, 1) := by decide +kernel
theorem dX4_law_27 : decode cX4_law 27 = .ok (.invokevirtual 260, 3) := by decide +kernel
theorem dX4_law_30 : decode cX4_law 30 = .ok (.goto 38, 3) := by decide +kernel
theorem dX4_law_33 : decode cX4_law 33 = .ok (.iload_n 2, 1) := by decide +kernel
theorem dX4_law_34 : decode cX4_law 34 = .ok (.bipush 6, 2) := by decide +kernel
theorem dX4_law_36 : decode cX4_law 36 = .ok (.if_icmp .ne 21, 3) := by decide +kernel
theorem dX4_law_39 : decode cX4_law 39 = .ok (.iload_n 3, 1) := by decide +kernel
theorem dX4_law_40 : decode cX4_law 40 = .ok (.iconst (-1), 1) := by decide +kernel
theorem dX4_law_41 : decode cX4_law 41 = .ok (.if_icmp .ne 7, 3) := by decide +kernel
theorem dX4_law_44 : decode cX4_law 44 = .ok (.iconst 0, 1) := by decide +kernel
theorem dX4_law_45 : decode cX4_law 45 = .ok (.goto 23, 3) := by decide +kernel
theorem dX4_law_48 : decode cX4_law 48 = .ok (.aload_n 0, 1) := by decide +kernel
theorem dX4_law_49 : decode cX4_law 49 = .ok (.getfield 137, 3) := by decide +kernel
theorem dX4_law_52 : decode cX4_law 52 = .ok (.iload_n 3, 1) := by decide +kernel
theorem dX4_law_53 : decode cX4_law 53 = .ok (.iaload, 1) := by decide +kernel
theorem dX4_law_54 : decode cX4_law 54 = .ok (.goto 14, 3) := by decide +kernel
theorem dX4_law_57 : decode cX4_law 57 = .ok (.iload_n 2, 1) := by decide +kernel
theorem dX4_law_58 : decode cX4_law 58 = .ok (.bipush 7, 2) := by decide +kernel
theorem dX4_law_60 : decode cX4_law 60 = .ok (.if_icmp .ne 7, 3) := by decide +kernel
theorem dX4_law_63 : decode cX4_law 63 = .ok (.iload_n 3, 1) := by decide +kernel
theorem dX4_law_64 : decode cX4_law 64 = .ok (.goto 4, 3) := by decide +kernel
theorem dX4_law_67 : decode cX4_law 67 = .ok (.iconst (-1), 1) := by decide +kernel
theorem dX4_law_68 : decode cX4_law 68 = .ok (.ireturn, 1) := by decide +kernel
theorem ycX4_law : yX4_law.cls ≠ "java/lang/invoke/MethodHandle" ∧ yX4_law.cls ≠ "java/lang/invoke/VarHandle" ∧ (parseMethodDescriptor yX4_law.desc).map (fun d => d.parameters.length) = some 2 := by decide +kernel
theorem yvX4_law : yX4_law.cls = RR 4 ∧ yX4_law.cls ≠ "java/lang/invoke/MethodHandle" ∧ yX4_law.cls ≠ "java/lang/invoke/VarHandle" ∧ (parseMethodDescriptor yX4_law.desc).map (fun d => d.parameters.length) = some 2 := ⟨rfl, ycX4_law⟩
def f_X4_law (n : Nat) (p0 : Nat) (p1 : Int32) (p2 : Int32) : Act Int32 :=
  bnd (nt (f_X4_isTen p1)) fun v1 =>
  if ¬ v1 = 0 then
    bnd (gd 4 p0 (nt (f_X4_inForce n p0 p1))) fun v2 =>
    bnd (nt (f_X4_isIn p2 (0 : Int32) (5 : Int32))) fun v3 =>
    jn (fun (v4 : Int32) =>
      pur v4) fun j68 =>
    if v3 = 0 then
      if ¬ p2 = 6 then
        if ¬ p2 = 7 then
          j68 (-1)
        else
          j68 v2
      else
        if ¬ v2 = (-1) then
          bnd (getR 4 56 p0) fun v5 =>
          bnd (ldI 0 v5 v2) fun v6 =>
          j68 v6
        else
          j68 0
    else
      bnd (gd 4 p0 (nt (f_X4_tells n p0 v2 p2))) fun v7 =>
      j68 v7
  else
    pur (-1)
set_option maxHeartbeats 4000000 in
theorem ct_X4_law (l : Launch) (n : Nat) (p0 : Nat) (p1 : Int32) (p2 : Int32) : Ct l Pic yX4_law (ws_ yX4_law cX4_law 4 (some FieldType.int)) 2 44 cvI [rv p0, .int p1, .int p2] (f_X4_law n p0 p1 p2) := by
  refine Ct.of (own := RX4) (L := [(0, rv p0), (1, .int p1), (2, .int p2)]) (plainFor_of_name (by decide)) rfl (by first | decide | simp [lg_sl, rv_cat, cat_i, cat_l]) (by first | rfl | simp [lv_args, rv_cat, cat_i, cat_l]) pcZ (fun X hXl hX hnh hin => ?_)
  subst hXl
  unfold f_X4_law
  refine s_iload_n hX dX4_law_0 rfl 1 rfl ?_
  refine s_callS_I (n := 1) (As := [.int p1]) (st := []) hX (ct_X4_isTen X.l p1) q1784 q1785 q91 q1786 ycX4_isTen (by decide) rfl (by first | decide | simp [rv_cat, cat_i, cat_l]) dX4_law_1 (fun v1 => ?_)
  refine s_if_ne (tgt := 9) hX dX4_law_4 (by decide) ?_ ?_
  · refine s_aload_n hX dX4_law_9 rfl 0 rfl ?_
    refine s_iload_n hX dX4_law_10 rfl 1 rfl ?_
    refine s_callV_I (ci := 4) (n := 1) (As := [.int p1]) (st := []) hX (pcK 5) (by decide) (ct_X4_inForce X.l n p0 p1) q1829 q1831 qs45 q91 q1832 yvX4_inForce (by decide) rfl (by first | decide | simp [rv_cat, cat_i, cat_l]) dX4_law_11 (fun v2 => ?_)
    refine s_istore_n (i := 3) (L2 := [(3, .int v2), (0, rv p0), (1, .int p1), (2, .int p2)]) hX dX4_law_14 rfl (by decide) rfl ?_
    refine s_iload_n hX dX4_law_15 rfl 3 rfl ?_
    refine s_iconst (v := 0) hX dX4_law_16 rfl ?_
    refine s_iconst (v := 5) hX dX4_law_17 rfl ?_
    refine s_callS_I (n := 3) (As := [.int p2, .int 0, .int 5]) (st := []) hX (ct_X4_isIn X.l p2 (0 : Int32) (5 : Int32)) q1781 q1782 q91 q1783 ycX4_isIn (by decide) rfl (by first | decide | simp [rv_cat, cat_i, cat_l]) dX4_law_18 (fun v3 => ?_)
    refine s_jn (P := fun j => ∀ (v4 : Int32), Sim X cvI 68 [] [.int v4] (j v4)) ?_ (fun j68 hj68 => ?_)
    · intro v4
      exact s_iret hX dX4_law_68
    · refine s_if_eq (tgt := 33) hX dX4_law_21 (by decide) ?_ ?_
      · refine s_iload_n hX dX4_law_33 rfl 3 rfl ?_
        refine s_bipush (v := 6) hX dX4_law_34 (by decide) ?_
        refine s_icmp_ne (tgt := 57) hX dX4_law_36 (by decide) ?_ ?_
        · refine s_iload_n hX dX4_law_57 rfl 3 rfl ?_
          refine s_bipush (v := 7) hX dX4_law_58 (by decide) ?_
          refine s_icmp_ne (tgt := 67) hX dX4_law_60 (by decide) ?_ ?_
          · refine s_iconst (v := -1) hX dX4_law_67 (by decide) ?_
            exact s_sub [] rfl (hj68 (-1))
          · refine s_iload_n hX dX4_law_63 rfl 0 rfl ?_
            refine s_goto (tgt := 68) hX dX4_law_64 (by decide) ?_
            exact s_sub [] rfl (hj68 v2)
        · refine s_iload_n hX dX4_law_39 rfl 0 rfl ?_
          refine s_iconst (v := -1) hX dX4_law_40 (by decide) ?_
          refine s_icmp_ne (tgt := 48) hX dX4_law_41 (by decide) ?_ ?_
          · refine s_aload_n hX dX4_law_48 rfl 1 rfl ?_
            refine s_getR (ci := 4) (j := 56) (ref := "WindGasModel") hX (pcG 4) in_X4 (Or.inl q1594) (by decide) (by decide) (by decide) rfl dX4_law_49 (fun _ h9 => h9) (fun v5 => ?_)
            refine s_iload_n hX dX4_law_52 rfl 0 rfl ?_
            refine s_iald hX (pcA 0) dX4_law_53 (fun v6 => ?_)
            refine s_goto (tgt := 68) hX dX4_law_54 (by decide) ?_
            exact s_sub [] rfl (hj68 v6)
          · refine s_iconst (v := 0) hX dX4_law_44 rfl ?_
            refine s_goto (tgt := 68) hX dX4_law_45 (by decide) ?_
            exact s_sub [] rfl (hj68 0)
      · refine s_aload_n hX dX4_law_24 rfl 1 rfl ?_
        refine s_iload_n hX dX4_law_25 rfl 0 rfl ?_
        refine s_iload_n hX dX4_law_26 rfl 3 rfl ?_
        refine s_callV_I (ci := 4) (n := 2) (As := [.int v2, .int p2]) (st := []) hX (pcK 5) (by decide) (ct_X4_tells X.l n p0 v2 p2) q1853 q1855 qs50 q91 q1856 yvX4_tells (by decide) rfl (by first | decide | simp [rv_cat, cat_i, cat_l]) dX4_law_27 (fun v7 => ?_)
        refine s_goto (tgt := 68) hX dX4_law_30 (by decide) ?_
        exact s_sub [] rfl (hj68 v7)
  · refine s_iconst (v := -1) hX dX4_law_7 (by decide) ?_
    exact s_iret hX dX4_law_8
theorem dX4_place_2_0 : decode cX4_place_2 0 = .ok (.iload_n 1, 1) := by decide +kernel
theorem dX4_place_2_1 : decode cX4_place_2 1 = .ok (.iconst 0, 1) := by decide +kernel
theorem dX4_place_2_2 : decode cX4_place_2 2 = .ok (.iconst 4, 1) := by decide +kernel
theorem dX4_place_2_3 : decode cX4_place_2 3 = .ok (.invokestatic 198, 3) := by decide +kernel
theorem dX4_place_2_6 : decode cX4_place_2 6 = .ok (.ifCond .eq 32, 3) := by decide +kernel
theorem dX4_place_2_9 : decode cX4_place_2 9 = .ok (.iload_n 2, 1) := by decide +kernel
theorem dX4_place_2_10 : decode cX4_place_2 10 = .ok (.iconst 0, 1) := by decide +kernel
theorem dX4_place_2_11 : decode cX4_place_2 11 = .ok (.bipush 99, 2) := by decide +kernel
theorem dX4_place_2_13 : decode cX4_place_2 13 = .ok (.invokestatic 198, 3) := by decide +kernel
theorem dX4_place_2_16 : decode cX4_place_2 16 = .ok (.ifCond .eq 22, 3) := by decide +kernel
theorem dX4_place_2_19 : decode cX4_place_2 19 = .ok (.iload_n 3, 1) := by decide +kernel
theorem dX4_place_2_20 : decode cX4_place_2 20 = .ok (.iconst 0, 1) := by decide +kernel
theorem dX4_place_2_21 : decode cX4_place_2 21 = .ok (.bipush 99, 2) := by decide +kernel
theorem dX4_place_2_23 : decode cX4_place_2 23 = .ok (.invokestatic 198, 3) := by decide +kernel
theorem dX4_place_2_26 : decode cX4_place_2 26 = .ok (.ifCond .eq 12, 3) := by decide +kernel
theorem dX4_place_2_29 : decode cX4_place_2 29 = .ok (.aload_n 0, 1) := by decide +kernel
theorem dX4_place_2_30 : decode cX4_place_2 30 = .ok (.getfield 478, 3) := by decide +kernel
theorem dX4_place_2_33 : decode cX4_place_2 33 = .ok (.bipush 20, 2) := by decide +kernel
theorem dX4_place_2_35 : decode cX4_place_2 35 = .ok (.if_icmp .ne 5, 3) := by decide +kernel
theorem dX4_place_2_38 : decode cX4_place_2 38 = .ok (.iconst (-1), 1) := by decide +kernel
theorem dX4_place_2_39 : decode cX4_place_2 39 = .ok (.ireturn, 1) := by decide +kernel
theorem dX4_place_2_40 : decode cX4_place_2 40 = .ok (.aload_n 0, 1) := by decide +kernel
theorem dX4_place_2_41 : decode cX4_place_2 41 = .ok (.getfield 183, 3) := by decide +kernel
theorem dX4_place_2_44 : decode cX4_place_2 44 = .ok (.aload_n 0, 1) := by decide +kernel
theorem dX4_place_2_45 : decode cX4_place_2 45 = .ok (.getfield 478, 3) := by decide +kernel
theorem dX4_place_2_48 : decode cX4_place_2 48 = .ok (.iload_n 1, 1) := by decide +kernel
theorem dX4_place_2_49 : decode cX4_place_2 49 = .ok (.iastore, 1) := by decide +kernel
theorem dX4_place_2_50 : decode cX4_place_2 50 = .ok (.aload_n 0, 1) := by decide +kernel
theorem dX4_place_2_51 : decode cX4_place_2 51 = .ok (.getfield 186, 3) := by decide +kernel
theorem dX4_place_2_54 : decode cX4_place_2 54 = .ok (.aload_n 0, 1) := by decide +kernel
theorem dX4_place_2_55 : decode cX4_place_2 55 = .ok (.getfield 478, 3) := by decide +kernel
theorem dX4_place_2_58 : decode cX4_place_2 58 = .ok (.iload_n 2, 1) := by decide +kernel
theorem dX4_place_2_59 : decode cX4_place_2 59 = .ok (.iastore, 1) := by decide +kernel
theorem dX4_place_2_60 : decode cX4_place_2 60 = .ok (.aload_n 0, 1) := by decide +kernel
theorem dX4_place_2_61 : decode cX4_place_2 61 = .ok (.getfield 189, 3) := by decide +kernel
theorem dX4_place_2_64 : decode cX4_place_2 64 = .ok (.aload_n 0, 1) := by decide +kernel
theorem dX4_place_2_65 : decode cX4_place_2 65 = .ok (.getfield 478, 3) := by decide +kernel
theorem dX4_place_2_68 : decode cX4_place_2 68 = .ok (.iload_n 3, 1) := by decide +kernel
theorem dX4_place_2_69 : decode cX4_place_2 69 = .ok (.iastore, 1) := by decide +kernel
theorem dX4_place_2_70 : decode cX4_place_2 70 = .ok (.aload_n 0, 1) := by decide +kernel
theorem dX4_place_2_71 : decode cX4_place_2 71 = .ok (.dup, 1) := by decide +kernel
theorem dX4_place_2_72 : decode cX4_place_2 72 = .ok (.getfield 478, 3) := by decide +kernel
theorem dX4_place_2_75 : decode cX4_place_2 75 = .ok (.iconst 1, 1) := by decide +kernel
theorem dX4_place_2_76 : decode cX4_place_2 76 = .ok (.iadd, 1) := by decide +kernel
theorem dX4_place_2_77 : decode cX4_place_2 77 = .ok (.putfield 478, 3) := by decide +kernel
theorem dX4_place_2_80 : decode cX4_place_2 80 = .ok (.aload_n 0, 1) := by decide +kernel
theorem dX4_place_2_81 : decode cX4_place_2 81 = .ok (.getfield 478, 3) := by decide +kernel
theorem dX4_place_2_84 : decode cX4_place_2 84 = .ok (.iconst 1, 1) := by decide +kernel
theorem dX4_place_2_85 : decode cX4_place_2 85 = .ok (.isub, 1) := by decide +kernel
theorem dX4_place_2_86 : decode cX4_place_2 86 = .ok (.ireturn, 1) := by decide +kernel
theorem ycX4_place_2 : yX4_place_2.cls ≠ "java/lang/invoke/MethodHandle" ∧ yX4_place_2.cls ≠ "java/lang/invoke/VarHandle" ∧ (parseMethodDescriptor yX4_place_2.desc).map (fun d => d.parameters.length) = some 3 := by decide +kernel
theorem yvX4_place_2 : yX4_place_2.cls = RR 4 ∧ yX4_place_2.cls ≠ "java/lang/invoke/MethodHandle" ∧ yX4_place_2.cls ≠ "java/lang/invoke/VarHandle" ∧ (parseMethodDescriptor yX4_place_2.desc).map (fun d => d.parameters.length) = some 3 := ⟨rfl, ycX4_place_2⟩
def f_X4_place_2 (p0 : Nat) (p1 : Int32) (p2 : Int32) (p3 : Int32) : Act Int32 :=
  bnd (nt (f_X4_isIn p1 (0 : Int32) (4 : Int32))) fun v1 =>
  jn (fun (_ : Unit) =>
    pur (-1)) fun j38 =>
  if v1 = 0 then
    j38 ()
  else
    bnd (nt (f_X4_isIn p2 (0 : Int32) (99 : Int32))) fun v2 =>
    if v2 = 0 then
      j38 ()
    else
      bnd (nt (f_X4_isIn p3 (0 : Int32) (99 : Int32))) fun v3 =>
      if v3 = 0 then
        j38 ()
      else
        bnd (getI 4 73 p0) fun v4 =>
        if ¬ v4 = 20 then
          bnd (getR 4 74 p0) fun v5 =>
          bnd (getI 4 73 p0) fun v6 =>
          bnd (stI 0 v5 v6 p1) fun _ =>
          bnd (getR 4 75 p0) fun v7 =>
          bnd (getI 4 73 p0) fun v8 =>
          bnd (stI 0 v7 v8 p2) fun _ =>
          bnd (getR 4 76 p0) fun v9 =>
          bnd (getI 4 73 p0) fun v10 =>
          bnd (stI 0 v9 v10 p3) fun _ =>
          bnd (getI 4 73 p0) fun v11 =>
          bnd (putI 4 73 p0 (v11 + 1)) fun _ =>
          bnd (getI 4 73 p0) fun v12 =>
          pur (v12 - 1)
        else
          j38 ()
set_option maxHeartbeats 4000000 in
theorem ct_X4_place_2 (l : Launch) (p0 : Nat) (p1 : Int32) (p2 : Int32) (p3 : Int32) : Ct l Pic yX4_place_2 (ws_ yX4_place_2 cX4_place_2 4 (some FieldType.int)) 1 22 cvI [rv p0, .int p1, .int p2, .int p3] (f_X4_place_2 p0 p1 p2 p3) := by
  refine Ct.of (own := RX4) (L := [(0, rv p0), (1, .int p1), (2, .int p2), (3, .int p3)]) (plainFor_of_name (by decide)) rfl (by first | decide | simp [lg_sl, rv_cat, cat_i, cat_l]) (by first | rfl | simp [lv_args, rv_cat, cat_i, cat_l]) pcZ (fun X hXl hX hnh hin => ?_)
  subst hXl
  unfold f_X4_place_2
  refine s_iload_n hX dX4_place_2_0 rfl 1 rfl ?_
  refine s_iconst (v := 0) hX dX4_place_2_1 rfl ?_
  refine s_iconst (v := 4) hX dX4_place_2_2 rfl ?_
  refine s_callS_I (n := 3) (As := [.int p1, .int 0, .int 4]) (st := []) hX (ct_X4_isIn X.l p1 (0 : Int32) (4 : Int32)) q1781 q1782 q91 q1783 ycX4_isIn (by decide) rfl (by first | decide | simp [rv_cat, cat_i, cat_l]) dX4_place_2_3 (fun v1 => ?_)
  refine s_jn (P := fun j => ∀ (u : Unit), Sim X cvI 38 [] [] (j u)) ?_ (fun j38 hj38 => ?_)
  · intro u
    refine s_iconst (v := -1) hX dX4_place_2_38 (by decide) ?_
    exact s_iret hX dX4_place_2_39
  · refine s_if_eq (tgt := 38) hX dX4_place_2_6 (by decide) ?_ ?_
    · exact s_sub [] rfl (hj38 ())
    · refine s_iload_n hX dX4_place_2_9 rfl 2 rfl ?_
      refine s_iconst (v := 0) hX dX4_place_2_10 rfl ?_
      refine s_bipush (v := 99) hX dX4_place_2_11 (by decide) ?_
      refine s_callS_I (n := 3) (As := [.int p2, .int 0, .int 99]) (st := []) hX (ct_X4_isIn X.l p2 (0 : Int32) (99 : Int32)) q1781 q1782 q91 q1783 ycX4_isIn (by decide) rfl (by first | decide | simp [rv_cat, cat_i, cat_l]) dX4_place_2_13 (fun v2 => ?_)
      refine s_if_eq (tgt := 38) hX dX4_place_2_16 (by decide) ?_ ?_
      · exact s_sub [] rfl (hj38 ())
      · refine s_iload_n hX dX4_place_2_19 rfl 3 rfl ?_
        refine s_iconst (v := 0) hX dX4_place_2_20 rfl ?_
        refine s_bipush (v := 99) hX dX4_place_2_21 (by decide) ?_
        refine s_callS_I (n := 3) (As := [.int p3, .int 0, .int 99]) (st := []) hX (ct_X4_isIn X.l p3 (0 : Int32) (99 : Int32)) q1781 q1782 q91 q1783 ycX4_isIn (by decide) rfl (by first | decide | simp [rv_cat, cat_i, cat_l]) dX4_place_2_23 (fun v3 => ?_)
        refine s_if_eq (tgt := 38) hX dX4_place_2_26 (by decide) ?_ ?_
        · exact s_sub [] rfl (hj38 ())
        · refine s_aload_n hX dX4_place_2_29 rfl 0 rfl ?_
          refine s_getI (ci := 4) (j := 73) (ref := "WindGasModel") hX (pcG 4) in_X4 (Or.inl q1611) (by decide) (by decide) (by decide) rfl dX4_place_2_30 (fun _ h9 => h9) (fun v4 => ?_)
          refine s_bipush (v := 20) hX dX4_place_2_33 (by decide) ?_
          refine s_icmp_ne (tgt := 40) hX dX4_place_2_35 (by decide) ?_ ?_
          · refine s_aload_n hX dX4_place_2_40 rfl 0 rfl ?_
            refine s_getR (ci := 4) (j := 74) (ref := "WindGasModel") hX (pcG 4) in_X4 (Or.inl q1612) (by decide) (by decide) (by decide) rfl dX4_place_2_41 (fun _ h9 => h9) (fun v5 => ?_)
            refine s_aload_n hX dX4_place_2_44 rfl 0 rfl ?_
            refine s_getI (ci := 4) (j := 73) (ref := "WindGasModel") hX (pcG 4) in_X4 (Or.inl q1611) (by decide) (by decide) (by decide) rfl dX4_place_2_45 (fun _ h9 => h9) (fun v6 => ?_)
            refine s_iload_n hX dX4_place_2_48 rfl 1 rfl ?_
            refine s_iast hX (pcA 0) (pcB 0) dX4_place_2_49 ?_
            refine s_aload_n hX dX4_place_2_50 rfl 0 rfl ?_
            refine s_getR (ci := 4) (j := 75) (ref := "WindGasModel") hX (pcG 4) in_X4 (Or.inl q1613) (by decide) (by decide) (by decide) rfl dX4_place_2_51 (fun _ h9 => h9) (fun v7 => ?_)
            refine s_aload_n hX dX4_place_2_54 rfl 0 rfl ?_
            refine s_getI (ci := 4) (j := 73) (ref := "WindGasModel") hX (pcG 4) in_X4 (Or.inl q1611) (by decide) (by decide) (by decide) rfl dX4_place_2_55 (fun _ h9 => h9) (fun v8 => ?_)
            refine s_iload_n hX dX4_place_2_58 rfl 2 rfl ?_
            refine s_iast hX (pcA 0) (pcB 0) dX4_place_2_59 ?_
            refine s_aload_n hX dX4_place_2_60 rfl 0 rfl ?_
            refine s_getR (ci := 4) (j := 76) (ref := "WindGasModel") hX (pcG 4) in_X4 (Or.inl q1614) (by decide) (by decide) (by decide) rfl dX4_place_2_61 (fun _ h9 => h9) (fun v9 => ?_)
            refine s_aload_n hX dX4_place_2_64 rfl 0 rfl ?_
            refine s_getI (ci := 4) (j := 73) (ref := "WindGasModel") hX (pcG 4) in_X4 (Or.inl q1611) (by decide) (by decide) (by decide) rfl dX4_place_2_65 (fun _ h9 => h9) (fun v10 => ?_)
            refine s_iload_n hX dX4_place_2_68 rfl 3 rfl ?_
            refine s_iast hX (pcA 0) (pcB 0) dX4_place_2_69 ?_
            refine s_aload_n hX dX4_place_2_70 rfl 0 rfl ?_
            refine s_dup hX dX4_place_2_71 (rv_cat _) ?_
            refine s_getI (ci := 4) (j := 73) (ref := "WindGasModel") hX (pcG 4) in_X4 (Or.inl q1611) (by decide) (by decide) (by decide) rfl dX4_place_2_72 (fun _ h9 => h9) (fun v11 => ?_)
            refine s_iconst (v := 1) hX dX4_place_2_75 rfl ?_
            refine s_iadd hX dX4_place_2_76 ?_
            refine s_putI (ci := 4) (j := 73) (ref := "WindGasModel") hX (pcG 4) (pcP 4) in_X4 tyX4_ok nmX4 (Or.inl q1611) (by decide) (by decide) (by decide) rfl rfl rfl dX4_place_2_77 (fun _ h9 => h9) ?_
            refine s_aload_n hX dX4_place_2_80 rfl 0 rfl ?_
            refine s_getI (ci := 4) (j := 73) (ref := "WindGasModel") hX (pcG 4) in_X4 (Or.inl q1611) (by decide) (by decide) (by decide) rfl dX4_place_2_81 (fun _ h9 => h9) (fun v12 => ?_)
            refine s_iconst (v := 1) hX dX4_place_2_84 rfl ?_
            refine s_isub hX dX4_place_2_85 ?_
            exact s_iret hX dX4_place_2_86
          · exact s_sub [] rfl (hj38 ())
theorem dX4_areOf_0 : decode cX4_areOf 0 = .ok (.aload_n 0, 1) := by decide +kernel
theorem dX4_areOf_1 : decode cX4_areOf 1 = .ok (.getfield 183, 3) := by decide +kernel
theorem dX4_areOf_4 : decode cX4_areOf 4 = .ok (.iload_n 1, 1) := by decide +kernel
theorem dX4_areOf_5 : decode cX4_areOf 5 = .ok (.iaload, 1) := by decide +kernel
theorem dX4_areOf_6 : decode cX4_areOf 6 = .ok (.iload_n 3, 1) := by decide +kernel
theorem dX4_areOf_7 : decode cX4_areOf 7 = .ok (.if_icmp .ne 14, 3) := by decide +kernel
theorem dX4_areOf_10 : decode cX4_areOf 10 = .ok (.aload_n 0, 1) := by decide +kernel
theorem dX4_areOf_11 : decode cX4_areOf 11 = .ok (.getfield 183, 3) := by decide +kernel
theorem dX4_areOf_14 : decode cX4_areOf 14 = .ok (.iload_n 2, 1) := by decide +kernel
theorem dX4_areOf_15 : decode cX4_areOf 15 = .ok (.iaload, 1) := by decide +kernel
theorem dX4_areOf_16 : decode cX4_areOf 16 = .ok (.iload 4, 2) := by decide +kernel
theorem dX4_areOf_18 : decode cX4_areOf 18 = .ok (.if_icmp .eq 24, 3) := by decide +kernel
theorem dX4_areOf_21 : decode cX4_areOf 21 = .ok (.aload_n 0, 1) := by decide +kernel
theorem dX4_areOf_22 : decode cX4_areOf 22 = .ok (.getfield 183, 3) := by decide +kernel
theorem dX4_areOf_25 : decode cX4_areOf 25 = .ok (.iload_n 1, 1) := by decide +kernel
theorem dX4_areOf_26 : decode cX4_areOf 26 = .ok (.iaload, 1) := by decide +kernel
theorem dX4_areOf_27 : decode cX4_areOf 27 = .ok (.iload 4, 2) := by decide +kernel
theorem dX4_areOf_29 : decode cX4_areOf 29 = .ok (.if_icmp .ne 17, 3) := by decide +kernel
theorem dX4_areOf_32 : decode cX4_areOf 32 = .ok (.aload_n 0, 1) := by decide +kernel
theorem dX4_areOf_33 : decode cX4_areOf 33 = .ok (.getfield 183, 3) := by decide +kernel
theorem dX4_areOf_36 : decode cX4_areOf 36 = .ok (.iload_n 2, 1) := by decide +kernel
theorem dX4_areOf_37 : decode cX4_areOf 37 = .ok (.iaload, 1) := by decide +kernel
theorem dX4_areOf_38 : decode cX4_areOf 38 = .ok (.iload_n 3, 1) := by decide +kernel
theorem dX4_areOf_39 : decode cX4_areOf 39 = .ok (.if_icmp .ne 7, 3) := by decide +kernel
theorem dX4_areOf_42 : decode cX4_areOf 42 = .ok (.iconst 1, 1) := by decide +kernel
theorem dX4_areOf_43 : decode cX4_areOf 43 = .ok (.goto 4, 3) := by decide +kernel
theorem dX4_areOf_46 : decode cX4_areOf 46 = .ok (.iconst 0, 1) := by decide +kernel
theorem dX4_areOf_47 : decode cX4_areOf 47 = .ok (.ireturn, 1) := by decide +kernel
theorem ycX4_areOf : yX4_areOf.cls ≠ "java/lang/invoke/MethodHandle" ∧ yX4_areOf.cls ≠ "java/lang/invoke/VarHandle" ∧ (parseMethodDescriptor yX4_areOf.desc).map (fun d => d.parameters.length) = some 4 := by decide +kernel
theorem yvX4_areOf : yX4_areOf.cls = RR 4 ∧ yX4_areOf.cls ≠ "java/lang/invoke/MethodHandle" ∧ yX4_areOf.cls ≠ "java/lang/invoke/VarHandle" ∧ (parseMethodDescriptor yX4_areOf.desc).map (fun d => d.parameters.length) = some 4 := ⟨rfl, ycX4_areOf⟩
def f_X4_areOf (p0 : Nat) (p1 : Int32) (p2 : Int32) (p3 : Int32) (p4 : Int32) : Act Int32 :=
  bnd (getR 4 74 p0) fun v1 =>
  bnd (ldI 0 v1 p1) fun v2 =>
  jn (fun (v3 : Int32) =>
    purS (ty := .boolean) v3) fun j47 =>
  jn (fun (_ : Unit) =>
    j47 1) fun j42 =>
  jn (fun (_ : Unit) =>
    bnd (getR 4 74 p0) fun v4 =>
    bnd (ldI 0 v4 p1) fun v5 =>
    jn (fun (_ : Unit) =>
      j47 0) fun j46 =>
    if ¬ v5 = p4 then
      j46 ()
    else
      bnd (getR 4 74 p0) fun v6 =>
      bnd (ldI 0 v6 p2) fun v7 =>
      if ¬ v7 = p3 then
        j46 ()
      else
        j42 ()) fun j21 =>
  if ¬ v2 = p3 then
    j21 ()
  else
    bnd (getR 4 74 p0) fun v8 =>
    bnd (ldI 0 v8 p2) fun v9 =>
    if v9 = p4 then
      j42 ()
    else
      j21 ()
set_option maxHeartbeats 4000000 in
theorem ct_X4_areOf (l : Launch) (p0 : Nat) (p1 : Int32) (p2 : Int32) (p3 : Int32) (p4 : Int32) : Ct l Pic yX4_areOf (ws_ yX4_areOf cX4_areOf 5 (some FieldType.boolean)) 0 0 cvI [rv p0, .int p1, .int p2, .int p3, .int p4] (f_X4_areOf p0 p1 p2 p3 p4) := by
  refine Ct.of (own := RX4) (L := [(0, rv p0), (1, .int p1), (2, .int p2), (3, .int p3), (4, .int p4)]) (plainFor_of_name (by decide)) rfl (by first | decide | simp [lg_sl, rv_cat, cat_i, cat_l]) (by first | rfl | simp [lv_args, rv_cat, cat_i, cat_l]) pcZ (fun X hXl hX hnh hin => ?_)
  subst hXl
  unfold f_X4_areOf
  refine s_aload_n hX dX4_areOf_0 rfl 0 rfl ?_
  refine s_getR (ci := 4) (j := 74) (ref := "WindGasModel") hX (pcG 4) in_X4 (Or.inl q1612) (by decide) (by decide) (by decide) rfl dX4_areOf_1 (fun _ h9 => h9) (fun v1 => ?_)
  refine s_iload_n hX dX4_areOf_4 rfl 1 rfl ?_
  refine s_iald hX (pcA 0) dX4_areOf_5 (fun v2 => ?_)
  refine s_iload_n hX dX4_areOf_6 rfl 3 rfl ?_
  refine s_jn (P := fun j => ∀ (v3 : Int32), Sim X cvI 47 [] [.int v3] (j v3)) ?_ (fun j47 hj47 => ?_)
  · intro v3
    exact s_zret hX dX4_areOf_47
  · refine s_jn (P := fun j => ∀ (u : Unit), Sim X cvI 42 [] [] (j u)) ?_ (fun j42 hj42 => ?_)
    · intro u
      refine s_iconst (v := 1) hX dX4_areOf_42 rfl ?_
      refine s_goto (tgt := 47) hX dX4_areOf_43 (by decide) ?_
      exact hj47 1
    · refine s_jn (P := fun j => ∀ (u : Unit), Sim X cvI 21 [(0, rv p0), (1, .int p1), (2, .int p2), (3, .int p3), (4, .int p4)] [] (j u)) ?_ (fun j21 hj21 => ?_)
      · intro u
        refine s_aload_n hX dX4_areOf_21 rfl 0 rfl ?_
        refine s_getR (ci := 4) (j := 74) (ref := "WindGasModel") hX (pcG 4) in_X4 (Or.inl q1612) (by decide) (by decide) (by decide) rfl dX4_areOf_22 (fun _ h9 => h9) (fun v4 => ?_)
        refine s_iload_n hX dX4_areOf_25 rfl 1 rfl ?_
        refine s_iald hX (pcA 0) dX4_areOf_26 (fun v5 => ?_)
        refine s_iload hX dX4_areOf_27 4 rfl ?_
        refine s_jn (P := fun j => ∀ (u : Unit), Sim X cvI 46 [] [] (j u)) ?_ (fun j46 hj46 => ?_)
        · intro u
          refine s_iconst (v := 0) hX dX4_areOf_46 rfl ?_
          exact hj47 0
        · refine s_icmp_ne (tgt := 46) hX dX4_areOf_29 (by decide) ?_ ?_
          · exact s_sub [] rfl (hj46 ())
          · refine s_aload_n hX dX4_areOf_32 rfl 0 rfl ?_
            refine s_getR (ci := 4) (j := 74) (ref := "WindGasModel") hX (pcG 4) in_X4 (Or.inl q1612) (by decide) (by decide) (by decide) rfl dX4_areOf_33 (fun _ h9 => h9) (fun v6 => ?_)
            refine s_iload_n hX dX4_areOf_36 rfl 2 rfl ?_
            refine s_iald hX (pcA 0) dX4_areOf_37 (fun v7 => ?_)
            refine s_iload_n hX dX4_areOf_38 rfl 3 rfl ?_
            refine s_icmp_ne (tgt := 46) hX dX4_areOf_39 (by decide) ?_ ?_
            · exact s_sub [] rfl (hj46 ())
            · exact s_sub [] rfl (hj42 ())
      · refine s_icmp_ne (tgt := 21) hX dX4_areOf_7 (by decide) ?_ ?_
        · exact hj21 ()
        · refine s_aload_n hX dX4_areOf_10 rfl 0 rfl ?_
          refine s_getR (ci := 4) (j := 74) (ref := "WindGasModel") hX (pcG 4) in_X4 (Or.inl q1612) (by decide) (by decide) (by decide) rfl dX4_areOf_11 (fun _ h9 => h9) (fun v8 => ?_)
          refine s_iload_n hX dX4_areOf_14 rfl 2 rfl ?_
          refine s_iald hX (pcA 0) dX4_areOf_15 (fun v9 => ?_)
          refine s_iload hX dX4_areOf_16 4 rfl ?_
          refine s_icmp_eq (tgt := 42) hX dX4_areOf_18 (by decide) ?_ ?_
          · exact s_sub [] rfl (hj42 ())
          · exact hj21 ()
theorem dX4_apart_0 : decode cX4_apart 0 = .ok (.aload_n 0, 1) := by decide +kernel
theorem dX4_apart_1 : decode cX4_apart 1 = .ok (.aload_n 0, 1) := by decide +kernel
theorem dX4_apart_2 : decode cX4_apart 2 = .ok (.getfield 229, 3) := by decide +kernel
theorem dX4_apart_5 : decode cX4_apart 5 = .ok (.invokevirtual 282, 3) := by decide +kernel
theorem dX4_apart_8 : decode cX4_apart 8 = .ok (.istore_n 2, 1) := by decide +kernel
theorem dX4_apart_9 : decode cX4_apart 9 = .ok (.bipush 24, 2) := by decide +kernel
theorem dX4_apart_11 : decode cX4_apart 11 = .ok (.iload_n 2, 1) := by decide +kernel
theorem dX4_apart_12 : decode cX4_apart 12 = .ok (.imul, 1) := by decide +kernel
theorem dX4_apart_13 : decode cX4_apart 13 = .ok (.istore_n 3, 1) := by decide +kernel
theorem dX4_apart_14 : decode cX4_apart 14 = .ok (.iload_n 2, 1) := by decide +kernel
theorem dX4_apart_15 : decode cX4_apart 15 = .ok (.iconst (-1), 1) := by decide +kernel
theorem dX4_apart_16 : decode cX4_apart 16 = .ok (.if_icmp .eq 184, 3) := by decide +kernel
theorem dX4_apart_19 : decode cX4_apart 19 = .ok (.iload_n 3, 1) := by decide +kernel
theorem dX4_apart_20 : decode cX4_apart 20 = .ok (.bipush 24, 2) := by decide +kernel
theorem dX4_apart_22 : decode cX4_apart 22 = .ok (.iload_n 2, 1) := by decide +kernel
theorem dX4_apart_23 : decode cX4_apart 23 = .ok (.imul, 1) := by decide +kernel
theorem dX4_apart_24 : decode cX4_apart 24 = .ok (.aload_n 0, 1) := by decide +kernel
theorem dX4_apart_25 : decode cX4_apart 25 = .ok (.getfield 137, 3) := by decide +kernel
theorem dX4_apart_28 : decode cX4_apart 28 = .ok (.iload_n 2, 1) := by decide +kernel
theorem dX4_apart_29 : decode cX4_apart 29 = .ok (.iaload, 1) := by decide +kernel
theorem dX4_apart_30 : decode cX4_apart 30 = .ok (.iadd, 1) := by decide +kernel
theorem dX4_apart_31 : decode cX4_apart 31 = .ok (.if_icmp .ge 169, 3) := by decide +kernel
theorem dX4_apart_34 : decode cX4_apart 34 = .ok (.aload_n 0, 1) := by decide +kernel
theorem dX4_apart_35 : decode cX4_apart 35 = .ok (.getfield 143, 3) := by decide +kernel
theorem dX4_apart_38 : decode cX4_apart 38 = .ok (.iload_n 3, 1) := by decide +kernel
theorem dX4_apart_39 : decode cX4_apart 39 = .ok (.iaload, 1) := by decide +kernel
theorem dX4_apart_40 : decode cX4_apart 40 = .ok (.bipush 8, 2) := by decide +kernel
theorem dX4_apart_42 : decode cX4_apart 42 = .ok (.if_icmp .eq 6, 3) := by decide +kernel
theorem dX4_apart_45 : decode cX4_apart 45 = .ok (.goto 149, 3) := by decide +kernel
theorem dX4_apart_48 : decode cX4_apart 48 = .ok (.iconst 0, 1) := by decide +kernel
theorem dX4_apart_49 : decode cX4_apart 49 = .ok (.istore 4, 2) := by decide +kernel
theorem dX4_apart_51 : decode cX4_apart 51 = .ok (.iload 4, 2) := by decide +kernel
theorem dX4_apart_53 : decode cX4_apart 53 = .ok (.aload_n 0, 1) := by decide +kernel
theorem dX4_apart_54 : decode cX4_apart 54 = .ok (.getfield 478, 3) := by decide +kernel
theorem dX4_apart_57 : decode cX4_apart 57 = .ok (.if_icmp .ge 137, 3) := by decide +kernel
theorem dX4_apart_60 : decode cX4_apart 60 = .ok (.iload 4, 2) := by decide +kernel
theorem dX4_apart_62 : decode cX4_apart 62 = .ok (.iconst 1, 1) := by decide +kernel
theorem dX4_apart_63 : decode cX4_apart 63 = .ok (.iadd, 1) := by decide +kernel
theorem dX4_apart_64 : decode cX4_apart 64 = .ok (.istore 5, 2) := by decide +kernel
theorem dX4_apart_66 : decode cX4_apart 66 = .ok (.iload 5, 2) := by decide +kernel
theorem dX4_apart_68 : decode cX4_apart 68 = .ok (.aload_n 0, 1) := by decide +kernel
theorem dX4_apart_69 : decode cX4_apart 69 = .ok (.getfield 478, 3) := by decide +kernel
theorem dX4_apart_72 : decode cX4_apart 72 = .ok (.if_icmp .ge 116, 3) := by decide +kernel
theorem dX4_apart_75 : decode cX4_apart 75 = .ok (.aload_n 0, 1) := by decide +kernel
theorem dX4_apart_76 : decode cX4_apart 76 = .ok (.iload 4, 2) := by decide +kernel
theorem dX4_apart_78 : decode cX4_apart 78 = .ok (.iload 5, 2) := by decide +kernel
theorem dX4_apart_80 : decode cX4_apart 80 = .ok (.aload_n 0, 1) := by decide +kernel
theorem dX4_apart_81 : decode cX4_apart 81 = .ok (.getfield 146, 3) := by decide +kernel
theorem dX4_apart_84 : decode cX4_apart 84 = .ok (.iload_n 3, 1) := by decide +kernel
theorem dX4_apart_85 : decode cX4_apart 85 = .ok (.iaload, 1) := by decide +kernel
theorem dX4_apart_86 : decode cX4_apart 86 = .ok (.aload_n 0, 1) := by decide +kernel
theorem dX4_apart_87 : decode cX4_apart 87 = .ok (.getfield 149, 3) := by decide +kernel
theorem dX4_apart_90 : decode cX4_apart 90 = .ok (.iload_n 3, 1) := by decide +kernel
theorem dX4_apart_91 : decode cX4_apart 91 = .ok (.iaload, 1) := by decide +kernel
theorem dX4_apart_92 : decode cX4_apart 92 = .ok (.invokevirtual 481, 3) := by decide +kernel
theorem dX4_apart_95 : decode cX4_apart 95 = .ok (.ifCond .eq 87, 3) := by decide +kernel
theorem dX4_apart_98 : decode cX4_apart 98 = .ok (.aload_n 0, 1) := by decide +kernel
theorem dX4_apart_99 : decode cX4_apart 99 = .ok (.getfield 186, 3) := by decide +kernel
theorem dX4_apart_102 : decode cX4_apart 102 = .ok (.iload 4, 2) := by decide +kernel
theorem dX4_apart_104 : decode cX4_apart 104 = .ok (.iaload, 1) := by decide +kernel
theorem dX4_apart_105 : decode cX4_apart 105 = .ok (.aload_n 0, 1) := by decide +kernel
theorem dX4_apart_106 : decode cX4_apart 106 = .ok (.getfield 186, 3) := by decide +kernel
theorem dX4_apart_109 : decode cX4_apart 109 = .ok (.iload 5, 2) := by decide +kernel
theorem dX4_apart_111 : decode cX4_apart 111 = .ok (.iaload, 1) := by decide +kernel
theorem dX4_apart_112 : decode cX4_apart 112 = .ok (.isub, 1) := by decide +kernel
theorem dX4_apart_113 : decode cX4_apart 113 = .ok (.invokestatic 484, 3) := by decide +kernel
theorem dX4_apart_116 : decode cX4_apart 116 = .ok (.aload_n 0, 1) := by decide +kernel
theorem dX4_apart_117 : decode cX4_apart 117 = .ok (.getfield 189, 3) := by decide +kernel
theorem dX4_apart_120 : decode cX4_apart 120 = .ok (.iload 4, 2) := by decide +kernel
theorem dX4_apart_122 : decode cX4_apart 122 = .ok (.iaload, 1) := by decide +kernel
theorem dX4_apart_123 : decode cX4_apart 123 = .ok (.aload_n 0, 1) := by decide +kernel
theorem dX4_apart_124 : decode cX4_apart 124 = .ok (.getfield 189, 3) := by decide +kernel
theorem dX4_apart_127 : decode cX4_apart 127 = .ok (.iload 5, 2) := by decide +kernel
theorem dX4_apart_129 : decode cX4_apart 129 = .ok (.iaload, 1) := by decide +kernel
theorem dX4_apart_130 : decode cX4_apart 130 = .ok (.isub, 1) := by decide +kernel
theorem dX4_apart_131 : decode cX4_apart 131 = .ok (.invokestatic 484, 3) := by decide +kernel
theorem dX4_apart_134 : decode cX4_apart 134 = .ok (.invokestatic 263, 3) := by decide +kernel
theorem dX4_apart_137 : decode cX4_apart 137 = .ok (.aload_n 0, 1) := by decide +kernel
theorem dX4_apart_138 : decode cX4_apart 138 = .ok (.getfield 152, 3) := by decide +kernel
theorem dX4_apart_141 : decode cX4_apart 141 = .ok (.iload_n 3, 1) := by decide +kernel
theorem dX4_apart_142 : decode cX4_apart 142 = .ok (.iaload, 1) := by decide +kernel
theorem dX4_apart_143 : decode cX4_apart 143 = .ok (.if_icmp .lt 6, 3) := by decide +kernel
theorem dX4_apart_146 : decode cX4_apart 146 = .ok (.goto 36, 3) := by decide +kernel
theorem dX4_apart_149 : decode cX4_apart 149 = .ok (.iload_n 1, 1) := by decide +kernel
theorem dX4_apart_150 : decode cX4_apart 150 = .ok (.ifCond .ne 10, 3) := by decide +kernel
theorem dX4_apart_153 : decode cX4_apart 153 = .ok (.iload_n 3, 1) := by decide +kernel
theorem dX4_apart_154 : decode cX4_apart 154 = .ok (.bipush 24, 2) := by decide +kernel
theorem dX4_apart_156 : decode cX4_apart 156 = .ok (.irem, 1) := by decide +kernel
theorem dX4_apart_157 : decode cX4_apart 157 = .ok (.goto 24, 3) := by decide +kernel
theorem dX4_apart_160 : decode cX4_apart 160 = .ok (.iload_n 1, 1) := by decide +kernel
theorem dX4_apart_161 : decode cX4_apart 161 = .ok (.iconst 1, 1) := by decide +kernel
theorem dX4_apart_162 : decode cX4_apart 162 = .ok (.if_icmp .ne 8, 3) := by decide +kernel
theorem dX4_apart_165 : decode cX4_apart 165 = .ok (.iload 4, 2) := by decide +kernel
theorem dX4_apart_167 : decode cX4_apart 167 = .ok (.goto 14, 3) := by decide +kernel
theorem dX4_apart_170 : decode cX4_apart 170 = .ok (.iload_n 1, 1) := by decide +kernel
theorem dX4_apart_171 : decode cX4_apart 171 = .ok (.iconst 2, 1) := by decide +kernel
theorem dX4_apart_172 : decode cX4_apart 172 = .ok (.if_icmp .ne 8, 3) := by decide +kernel
theorem dX4_apart_175 : decode cX4_apart 175 = .ok (.iload 5, 2) := by decide +kernel
theorem dX4_apart_177 : decode cX4_apart 177 = .ok (.goto 4, 3) := by decide +kernel
theorem dX4_apart_180 : decode cX4_apart 180 = .ok (.iconst (-1), 1) := by decide +kernel
theorem dX4_apart_181 : decode cX4_apart 181 = .ok (.ireturn, 1) := by decide +kernel
theorem dX4_apart_182 : decode cX4_apart 182 = .ok (.iinc 5 1, 3) := by decide +kernel
theorem dX4_apart_185 : decode cX4_apart 185 = .ok (.goto (-119), 3) := by decide +kernel
theorem dX4_apart_188 : decode cX4_apart 188 = .ok (.iinc 4 1, 3) := by decide +kernel
theorem dX4_apart_191 : decode cX4_apart 191 = .ok (.goto (-140), 3) := by decide +kernel
theorem dX4_apart_194 : decode cX4_apart 194 = .ok (.iinc 3 1, 3) := by decide +kernel
theorem dX4_apart_197 : decode cX4_apart 197 = .ok (.goto (-183), 3) := by decide +kernel
theorem dX4_apart_200 : decode cX4_apart 200 = .ok (.iconst (-1), 1) := by decide +kernel
theorem dX4_apart_201 : decode cX4_apart 201 = .ok (.ireturn, 1) := by decide +kernel
theorem ycX4_apart : yX4_apart.cls ≠ "java/lang/invoke/MethodHandle" ∧ yX4_apart.cls ≠ "java/lang/invoke/VarHandle" ∧ (parseMethodDescriptor yX4_apart.desc).map (fun d => d.parameters.length) = some 1 := by decide +kernel
theorem yvX4_apart : yX4_apart.cls = RR 4 ∧ yX4_apart.cls ≠ "java/lang/invoke/MethodHandle" ∧ yX4_apart.cls ≠ "java/lang/invoke/VarHandle" ∧ (parseMethodDescriptor yX4_apart.desc).map (fun d => d.parameters.length) = some 1 := ⟨rfl, ycX4_apart⟩
def lp_X4_apart_66 (p0 : Nat) (p1 : Int32) (v2 : Int32) (w3 : Int32) (w12 : Int32) (j149 : Int32 → Act Int32) (j188 : Unit → Act Int32) (q : Nat) : Int32 → Act Int32 := match q with
  | 0 => fun _ => fail
  | q + 1 => fun w17 =>
    bnd (getI 4 73 p0) fun v20 =>
    if v20 ≤ w17 then
      j188 ()
    else
      bnd (getR 4 59 p0) fun v21 =>
      bnd (ldI 0 v21 w3) fun v22 =>
      bnd (getR 4 60 p0) fun v23 =>
      bnd (ldI 0 v23 w3) fun v24 =>
      bnd (gd 4 p0 (nt (f_X4_areOf p0 w12 w17 v22 v24))) fun v25 =>
      jn (fun (_ : Unit) =>
        (lp_X4_apart_66 p0 p1 v2 w3 w12 j149 j188 q) (w17 + 1)) fun j182 =>
      if v25 = 0 then
        j182 ()
      else
        bnd (getR 4 75 p0) fun v26 =>
        bnd (ldI 0 v26 w12) fun v27 =>
        bnd (getR 4 75 p0) fun v28 =>
        bnd (ldI 0 v28 w17) fun v29 =>
        bnd (getR 4 76 p0) fun v30 =>
        bnd (ldI 0 v30 w12) fun v31 =>
        bnd (getR 4 76 p0) fun v32 =>
        bnd (ldI 0 v32 w17) fun v33 =>
        bnd (getR 4 61 p0) fun v34 =>
        bnd (ldI 0 v34 w3) fun v35 =>
        if (mx (ab (v27 - v29)) (ab (v31 - v33))) < v35 then
          j149 w17
        else
          j182 ()
def lp_X4_apart_51 (n : Nat) (p0 : Nat) (p1 : Int32) (v2 : Int32) (w3 : Int32) (j149 : Int32 → Int32 → Act Int32) (j194 : Unit → Act Int32) (q : Nat) : Int32 → Act Int32 := match q with
  | 0 => fun _ => fail
  | q + 1 => fun w12 =>
    bnd (getI 4 73 p0) fun v16 =>
    if v16 ≤ w12 then
      j194 ()
    else
      jn (fun (_ : Unit) =>
        (lp_X4_apart_51 n p0 p1 v2 w3 j149 j194 q) (w12 + 1)) fun j188 =>
      jn (fun (v18 : Int32) =>
        jn (fun (v19 : Int32) =>
          pur v19) fun j181 =>
        if ¬ p1 = 0 then
          if ¬ p1 = 1 then
            if ¬ p1 = 2 then
              j181 (-1)
            else
              j181 v18
          else
            j181 w12
        else
          j181 (w3 - w3 / 24 * 24)) fun j149 =>
      lp_X4_apart_66 p0 p1 v2 w3 w12 j149 j188 n (w12 + 1)
def lp_X4_apart_14 (n : Nat) (p0 : Nat) (p1 : Int32) (v2 : Int32) (j149 : Int32 → Int32 → Int32 → Act Int32) (q : Nat) : Int32 → Act Int32 := match q with
  | 0 => fun _ => fail
  | q + 1 => fun w3 =>
    jn (fun (_ : Unit) =>
      pur (-1)) fun j200 =>
    if v2 = (-1) then
      j200 ()
    else
      bnd (getR 4 56 p0) fun v8 =>
      bnd (ldI 0 v8 v2) fun v9 =>
      if ((24 * v2) + v9) ≤ w3 then
        j200 ()
      else
        bnd (getR 4 58 p0) fun v10 =>
        bnd (ldI 0 v10 w3) fun v11 =>
        jn (fun (_ : Unit) =>
          (lp_X4_apart_14 n p0 p1 v2 j149 q) (w3 + 1)) fun j194 =>
        if v11 = 8 then
          jn (fun (v13 : Int32) (v14 : Int32) =>
            jn (fun (v15 : Int32) =>
              pur v15) fun j181 =>
            if ¬ p1 = 0 then
              if ¬ p1 = 1 then
                if ¬ p1 = 2 then
                  j181 (-1)
                else
                  j181 v14
              else
                j181 v13
            else
              j181 (w3 - w3 / 24 * 24)) fun j149 =>
          lp_X4_apart_51 n p0 p1 v2 w3 j149 j194 n 0
        else
          j194 ()
def f_X4_apart (n : Nat) (p0 : Nat) (p1 : Int32) : Act Int32 :=
  bnd (getI 4 0 p0) fun v1 =>
  bnd (gd 4 p0 (nt (f_X4_inForce n p0 v1))) fun v2 =>
  jn (fun (v4 : Int32) (v5 : Int32) (v6 : Int32) =>
    jn (fun (v7 : Int32) =>
      pur v7) fun j181 =>
    if ¬ p1 = 0 then
      if ¬ p1 = 1 then
        if ¬ p1 = 2 then
          j181 (-1)
        else
          j181 v6
      else
        j181 v5
    else
      j181 (v4 - v4 / 24 * 24)) fun j149 =>
  lp_X4_apart_14 n p0 p1 v2 j149 n (24 * v2)
set_option maxHeartbeats 4000000 in
theorem s_lp_X4_apart_66 {X : Cx} (hX : Ok X Pic cX4_apart RX4 6 (some FieldType.int) 1 24) (hnh : Noh X) (p0 : Nat) (p1 : Int32) (v2 : Int32) (w3 : Int32) (w12 : Int32) (j149 : Int32 → Act Int32) (j188 : Unit → Act Int32) (hj149 : ∀ (v18 : Int32), Sim X cvI 149 [(1, .int p1), (3, .int w3), (4, .int w12), (5, .int v18)] [] (j149 v18)) (hj188 : ∀ (u : Unit), Sim X cvI 188 [(0, rv p0), (1, .int p1), (2, .int v2), (3, .int w3), (4, .int w12)] [] (j188 u)) (q : Nat) : ∀ (w17 : Int32), Sim X cvI 66 [(0, rv p0), (1, .int p1), (2, .int v2), (3, .int w3), (4, .int w12), (5, .int w17)] [] (lp_X4_apart_66 p0 p1 v2 w3 w12 j149 j188 q w17) := by
  induction q with
  | zero => intro w17; exact s_fail
  | succ q ih66 =>
    intro w17
    rw [lp_X4_apart_66]
    refine s_iload hX dX4_apart_66 5 rfl ?_
    refine s_aload_n hX dX4_apart_68 rfl 0 rfl ?_
    refine s_getI (ci := 4) (j := 73) (ref := "WindGasModel") hX (pcG 4) in_X4 (Or.inl q1611) (by decide) (by decide) (by decide) rfl dX4_apart_69 (fun _ h9 => h9) (fun v20 => ?_)
    refine s_icmp_ge (tgt := 188) hX dX4_apart_72 (by decide) ?_ ?_
    · exact s_sub [0, 1, 2, 3, 4] rfl (hj188 ())
    · refine s_aload_n hX dX4_apart_75 rfl 0 rfl ?_
      refine s_iload hX dX4_apart_76 4 rfl ?_
      refine s_iload hX dX4_apart_78 5 rfl ?_
      refine s_aload_n hX dX4_apart_80 rfl 0 rfl ?_
      refine s_getR (ci := 4) (j := 59) (ref := "WindGasModel") hX (pcG 4) in_X4 (Or.inl q1597) (by decide) (by decide) (by decide) rfl dX4_apart_81 (fun _ h9 => h9) (fun v21 => ?_)
      refine s_iload_n hX dX4_apart_84 rfl 3 rfl ?_
      refine s_iald hX (pcA 0) dX4_apart_85 (fun v22 => ?_)
      refine s_aload_n hX dX4_apart_86 rfl 0 rfl ?_
      refine s_getR (ci := 4) (j := 60) (ref := "WindGasModel") hX (pcG 4) in_X4 (Or.inl q1598) (by decide) (by decide) (by decide) rfl dX4_apart_87 (fun _ h9 => h9) (fun v23 => ?_)
      refine s_iload_n hX dX4_apart_90 rfl 3 rfl ?_
      refine s_iald hX (pcA 0) dX4_apart_91 (fun v24 => ?_)
      refine s_callV_I (ci := 4) (n := 4) (As := [.int w12, .int w17, .int v22, .int v24]) (st := []) hX (pcK 5) (by decide) (ct_X4_areOf X.l p0 w12 w17 v22 v24) q2078 q2080 qs80 q91 q2081 yvX4_areOf (by decide) rfl (by first | decide | simp [rv_cat, cat_i, cat_l]) dX4_apart_92 (fun v25 => ?_)
      refine s_jn (P := fun j => ∀ (u : Unit), Sim X cvI 182 [(0, rv p0), (1, .int p1), (2, .int v2), (3, .int w3), (4, .int w12), (5, .int w17)] [] (j u)) ?_ (fun j182 hj182 => ?_)
      · intro u
        refine s_iinc (k := 5) (v := (w17 + 1)) (L2 := [(5, .int (w17 + 1)), (0, rv p0), (1, .int p1), (2, .int v2), (3, .int w3), (4, .int w12)]) hX dX4_apart_182 rfl rfl (by decide) rfl ?_
        refine s_goto (tgt := 66) hX dX4_apart_185 (by decide) ?_
        exact s_sub [1, 2, 3, 4, 5, 0] rfl (ih66 (w17 + 1))
      · refine s_if_eq (tgt := 182) hX dX4_apart_95 (by decide) ?_ ?_
        · exact hj182 ()
        · refine s_aload_n hX dX4_apart_98 rfl 0 rfl ?_
          refine s_getR (ci := 4) (j := 75) (ref := "WindGasModel") hX (pcG 4) in_X4 (Or.inl q1613) (by decide) (by decide) (by decide) rfl dX4_apart_99 (fun _ h9 => h9) (fun v26 => ?_)
          refine s_iload hX dX4_apart_102 4 rfl ?_
          refine s_iald hX (pcA 0) dX4_apart_104 (fun v27 => ?_)
          refine s_aload_n hX dX4_apart_105 rfl 0 rfl ?_
          refine s_getR (ci := 4) (j := 75) (ref := "WindGasModel") hX (pcG 4) in_X4 (Or.inl q1613) (by decide) (by decide) (by decide) rfl dX4_apart_106 (fun _ h9 => h9) (fun v28 => ?_)
          refine s_iload hX dX4_apart_109 5 rfl ?_
          refine s_iald hX (pcA 0) dX4_apart_111 (fun v29 => ?_)
          refine s_isub hX dX4_apart_112 ?_
          refine s_mabs hX q2082 q1474 q95 q1475 rfl (by omega) (by first | decide | (simp [rv_cat, cat_i, cat_l]; try omega)) dX4_apart_113 ?_
          refine s_aload_n hX dX4_apart_116 rfl 0 rfl ?_
          refine s_getR (ci := 4) (j := 76) (ref := "WindGasModel") hX (pcG 4) in_X4 (Or.inl q1614) (by decide) (by decide) (by decide) rfl dX4_apart_117 (fun _ h9 => h9) (fun v30 => ?_)
          refine s_iload hX dX4_apart_120 4 rfl ?_
          refine s_iald hX (pcA 0) dX4_apart_122 (fun v31 => ?_)
          refine s_aload_n hX dX4_apart_123 rfl 0 rfl ?_
          refine s_getR (ci := 4) (j := 76) (ref := "WindGasModel") hX (pcG 4) in_X4 (Or.inl q1614) (by decide) (by decide) (by decide) rfl dX4_apart_124 (fun _ h9 => h9) (fun v32 => ?_)
          refine s_iload hX dX4_apart_127 5 rfl ?_
          refine s_iald hX (pcA 0) dX4_apart_129 (fun v33 => ?_)
          refine s_isub hX dX4_apart_130 ?_
          refine s_mabs hX q2082 q1474 q95 q1475 rfl (by omega) (by first | decide | (simp [rv_cat, cat_i, cat_l]; try omega)) dX4_apart_131 ?_
          refine s_mmax hX q1868 q459 q95 q460 rfl (by omega) (by first | decide | (simp [rv_cat, cat_i, cat_l]; try omega)) dX4_apart_134 ?_
          refine s_aload_n hX dX4_apart_137 rfl 0 rfl ?_
          refine s_getR (ci := 4) (j := 61) (ref := "WindGasModel") hX (pcG 4) in_X4 (Or.inl q1599) (by decide) (by decide) (by decide) rfl dX4_apart_138 (fun _ h9 => h9) (fun v34 => ?_)
          refine s_iload_n hX dX4_apart_141 rfl 3 rfl ?_
          refine s_iald hX (pcA 0) dX4_apart_142 (fun v35 => ?_)
          refine s_icmp_lt (tgt := 149) hX dX4_apart_143 (by decide) ?_ ?_
          · exact s_sub [1, 3, 4, 5] rfl (hj149 w17)
          · refine s_goto (tgt := 182) hX dX4_apart_146 (by decide) ?_
            exact hj182 ()
set_option maxHeartbeats 4000000 in
theorem s_lp_X4_apart_51 {X : Cx} (hX : Ok X Pic cX4_apart RX4 6 (some FieldType.int) 1 24) (hnh : Noh X) (n : Nat) (p0 : Nat) (p1 : Int32) (v2 : Int32) (w3 : Int32) (j149 : Int32 → Int32 → Act Int32) (j194 : Unit → Act Int32) (hj149 : ∀ (v13 : Int32) (v14 : Int32), Sim X cvI 149 [(1, .int p1), (3, .int w3), (4, .int v13), (5, .int v14)] [] (j149 v13 v14)) (hj194 : ∀ (u : Unit), Sim X cvI 194 [(0, rv p0), (1, .int p1), (2, .int v2), (3, .int w3)] [] (j194 u)) (q : Nat) : ∀ (w12 : Int32), Sim X cvI 51 [(0, rv p0), (1, .int p1), (2, .int v2), (3, .int w3), (4, .int w12)] [] (lp_X4_apart_51 n p0 p1 v2 w3 j149 j194 q w12) := by
  induction q with
  | zero => intro w12; exact s_fail
  | succ q ih51 =>
    intro w12
    rw [lp_X4_apart_51]
    refine s_iload hX dX4_apart_51 4 rfl ?_
    refine s_aload_n hX dX4_apart_53 rfl 0 rfl ?_
    refine s_getI (ci := 4) (j := 73) (ref := "WindGasModel") hX (pcG 4) in_X4 (Or.inl q1611) (by decide) (by decide) (by decide) rfl dX4_apart_54 (fun _ h9 => h9) (fun v16 => ?_)
    refine s_icmp_ge (tgt := 194) hX dX4_apart_57 (by decide) ?_ ?_
    · exact s_sub [0, 1, 2, 3] rfl (hj194 ())
    · refine s_iload hX dX4_apart_60 4 rfl ?_
      refine s_iconst (v := 1) hX dX4_apart_62 rfl ?_
      refine s_iadd hX dX4_apart_63 ?_
      refine s_istore (i := 5) (L2 := [(5, .int (w12 + 1)), (0, rv p0), (1, .int p1), (2, .int v2), (3, .int w3), (4, .int w12)]) hX dX4_apart_64 (by decide) rfl ?_
      refine s_jn (P := fun j => ∀ (u : Unit), Sim X cvI 188 [(0, rv p0), (1, .int p1), (2, .int v2), (3, .int w3), (4, .int w12)] [] (j u)) ?_ (fun j188 hj188 => ?_)
      · intro u
        refine s_iinc (k := 4) (v := (w12 + 1)) (L2 := [(4, .int (w12 + 1)), (0, rv p0), (1, .int p1), (2, .int v2), (3, .int w3)]) hX dX4_apart_188 rfl rfl (by decide) rfl ?_
        refine s_goto (tgt := 51) hX dX4_apart_191 (by decide) ?_
        exact s_sub [1, 2, 3, 4, 0] rfl (ih51 (w12 + 1))
      · refine s_jn (P := fun j => ∀ (v18 : Int32), Sim X cvI 149 [(1, .int p1), (3, .int w3), (4, .int w12), (5, .int v18)] [] (j v18)) ?_ (fun j149 hj149 => ?_)
        · intro v18
          refine s_iload_n hX dX4_apart_149 rfl 0 rfl ?_
          refine s_jn (P := fun j => ∀ (v19 : Int32), Sim X cvI 181 [] [.int v19] (j v19)) ?_ (fun j181 hj181 => ?_)
          · intro v19
            exact s_iret hX dX4_apart_181
          · refine s_if_ne (tgt := 160) hX dX4_apart_150 (by decide) ?_ ?_
            · refine s_iload_n hX dX4_apart_160 rfl 0 rfl ?_
              refine s_iconst (v := 1) hX dX4_apart_161 rfl ?_
              refine s_icmp_ne (tgt := 170) hX dX4_apart_162 (by decide) ?_ ?_
              · refine s_iload_n hX dX4_apart_170 rfl 0 rfl ?_
                refine s_iconst (v := 2) hX dX4_apart_171 rfl ?_
                refine s_icmp_ne (tgt := 180) hX dX4_apart_172 (by decide) ?_ ?_
                · refine s_iconst (v := -1) hX dX4_apart_180 (by decide) ?_
                  exact s_sub [] rfl (hj181 (-1))
                · refine s_iload hX dX4_apart_175 3 rfl ?_
                  refine s_goto (tgt := 181) hX dX4_apart_177 (by decide) ?_
                  exact s_sub [] rfl (hj181 v18)
              · refine s_iload hX dX4_apart_165 2 rfl ?_
                refine s_goto (tgt := 181) hX dX4_apart_167 (by decide) ?_
                exact s_sub [] rfl (hj181 w12)
            · refine s_iload_n hX dX4_apart_153 rfl 1 rfl ?_
              refine s_bipush (v := 24) hX dX4_apart_154 (by decide) ?_
              refine s_iremc hX dX4_apart_156 (by decide) ?_
              refine s_goto (tgt := 181) hX dX4_apart_157 (by decide) ?_
              exact s_sub [] rfl (hj181 (w3 - w3 / 24 * 24))
        · exact s_sub [1, 2, 3, 4, 5, 0] rfl (s_lp_X4_apart_66 hX hnh p0 p1 v2 w3 w12 j149 j188 hj149 hj188 n (w12 + 1))
set_option maxHeartbeats 4000000 in
theorem s_lp_X4_apart_14 {X : Cx} (hX : Ok X Pic cX4_apart RX4 6 (some FieldType.int) 1 24) (hnh : Noh X) (n : Nat) (p0 : Nat) (p1 : Int32) (v2 : Int32) (j149 : Int32 → Int32 → Int32 → Act Int32) (hj149 : ∀ (v4 : Int32) (v5 : Int32) (v6 : Int32), Sim X cvI 149 [(1, .int p1), (3, .int v4), (4, .int v5), (5, .int v6)] [] (j149 v4 v5 v6)) (q : Nat) : ∀ (w3 : Int32), Sim X cvI 14 [(0, rv p0), (1, .int p1), (2, .int v2), (3, .int w3)] [] (lp_X4_apart_14 n p0 p1 v2 j149 q w3) := by
  induction q with
  | zero => intro w3; exact s_fail
  | succ q ih14 =>
    intro w3
    rw [lp_X4_apart_14]
    refine s_iload_n hX dX4_apart_14 rfl 2 rfl ?_
    refine s_iconst (v := -1) hX dX4_apart_15 (by decide) ?_
    refine s_jn (P := fun j => ∀ (u : Unit), Sim X cvI 200 [] [] (j u)) ?_ (fun j200 hj200 => ?_)
    · intro u
      refine s_iconst (v := -1) hX dX4_apart_200 (by decide) ?_
      exact s_iret hX dX4_apart_201
    · refine s_icmp_eq (tgt := 200) hX dX4_apart_16 (by decide) ?_ ?_
      · exact s_sub [] rfl (hj200 ())
      · refine s_iload_n hX dX4_apart_19 rfl 3 rfl ?_
        refine s_bipush (v := 24) hX dX4_apart_20 (by decide) ?_
        refine s_iload_n hX dX4_apart_22 rfl 2 rfl ?_
        refine s_imul hX dX4_apart_23 ?_
        refine s_aload_n hX dX4_apart_24 rfl 0 rfl ?_
        refine s_getR (ci := 4) (j := 56) (ref := "WindGasModel") hX (pcG 4) in_X4 (Or.inl q1594) (by decide) (by decide) (by decide) rfl dX4_apart_25 (fun _ h9 => h9) (fun v8 => ?_)
        refine s_iload_n hX dX4_apart_28 rfl 2 rfl ?_
        refine s_iald hX (pcA 0) dX4_apart_29 (fun v9 => ?_)
        refine s_iadd hX dX4_apart_30 ?_
        refine s_icmp_ge (tgt := 200) hX dX4_apart_31 (by decide) ?_ ?_
        · exact s_sub [] rfl (hj200 ())
        · refine s_aload_n hX dX4_apart_34 rfl 0 rfl ?_
          refine s_getR (ci := 4) (j := 58) (ref := "WindGasModel") hX (pcG 4) in_X4 (Or.inl q1596) (by decide) (by decide) (by decide) rfl dX4_apart_35 (fun _ h9 => h9) (fun v10 => ?_)
          refine s_iload_n hX dX4_apart_38 rfl 3 rfl ?_
          refine s_iald hX (pcA 0) dX4_apart_39 (fun v11 => ?_)
          refine s_bipush (v := 8) hX dX4_apart_40 (by decide) ?_
          refine s_jn (P := fun j => ∀ (u : Unit), Sim X cvI 194 [(0, rv p0), (1, .int p1), (2, .int v2), (3, .int w3)] [] (j u)) ?_ (fun j194 hj194 => ?_)
          · intro u
            refine s_iinc (k := 3) (v := (w3 + 1)) (L2 := [(3, .int (w3 + 1)), (0, rv p0), (1, .int p1), (2, .int v2)]) hX dX4_apart_194 rfl rfl (by decide) rfl ?_
            refine s_goto (tgt := 14) hX dX4_apart_197 (by decide) ?_
            exact s_sub [1, 2, 3, 0] rfl (ih14 (w3 + 1))
          · refine s_icmp_eq (tgt := 48) hX dX4_apart_42 (by decide) ?_ ?_
            · refine s_iconst (v := 0) hX dX4_apart_48 rfl ?_
              refine s_istore (i := 4) (L2 := [(4, .int 0), (0, rv p0), (1, .int p1), (2, .int v2), (3, .int w3)]) hX dX4_apart_49 (by decide) rfl ?_
              refine s_jn (P := fun j => ∀ (v13 : Int32) (v14 : Int32), Sim X cvI 149 [(1, .int p1), (3, .int w3), (4, .int v13), (5, .int v14)] [] (j v13 v14)) ?_ (fun j149 hj149 => ?_)
              · intro v13 v14
                refine s_iload_n hX dX4_apart_149 rfl 0 rfl ?_
                refine s_jn (P := fun j => ∀ (v15 : Int32), Sim X cvI 181 [] [.int v15] (j v15)) ?_ (fun j181 hj181 => ?_)
                · intro v15
                  exact s_iret hX dX4_apart_181
                · refine s_if_ne (tgt := 160) hX dX4_apart_150 (by decide) ?_ ?_
                  · refine s_iload_n hX dX4_apart_160 rfl 0 rfl ?_
                    refine s_iconst (v := 1) hX dX4_apart_161 rfl ?_
                    refine s_icmp_ne (tgt := 170) hX dX4_apart_162 (by decide) ?_ ?_
                    · refine s_iload_n hX dX4_apart_170 rfl 0 rfl ?_
                      refine s_iconst (v := 2) hX dX4_apart_171 rfl ?_
                      refine s_icmp_ne (tgt := 180) hX dX4_apart_172 (by decide) ?_ ?_
                      · refine s_iconst (v := -1) hX dX4_apart_180 (by decide) ?_
                        exact s_sub [] rfl (hj181 (-1))
                      · refine s_iload hX dX4_apart_175 3 rfl ?_
                        refine s_goto (tgt := 181) hX dX4_apart_177 (by decide) ?_
                        exact s_sub [] rfl (hj181 v14)
                    · refine s_iload hX dX4_apart_165 2 rfl ?_
                      refine s_goto (tgt := 181) hX dX4_apart_167 (by decide) ?_
                      exact s_sub [] rfl (hj181 v13)
                  · refine s_iload_n hX dX4_apart_153 rfl 1 rfl ?_
                    refine s_bipush (v := 24) hX dX4_apart_154 (by decide) ?_
                    refine s_iremc hX dX4_apart_156 (by decide) ?_
                    refine s_goto (tgt := 181) hX dX4_apart_157 (by decide) ?_
                    exact s_sub [] rfl (hj181 (w3 - w3 / 24 * 24))
              · exact s_sub [1, 2, 3, 4, 0] rfl (s_lp_X4_apart_51 hX hnh n p0 p1 v2 w3 j149 j194 hj149 hj194 n 0)
            · refine s_goto (tgt := 194) hX dX4_apart_45 (by decide) ?_
              exact hj194 ()
set_option maxHeartbeats 4000000 in
theorem ct_X4_apart (l : Launch) (n : Nat) (p0 : Nat) (p1 : Int32) : Ct l Pic yX4_apart (ws_ yX4_apart cX4_apart 6 (some FieldType.int)) 1 24 cvI [rv p0, .int p1] (f_X4_apart n p0 p1) := by
  refine Ct.of (own := RX4) (L := [(0, rv p0), (1, .int p1)]) (plainFor_of_name (by decide)) rfl (by first | decide | simp [lg_sl, rv_cat, cat_i, cat_l]) (by first | rfl | simp [lv_args, rv_cat, cat_i, cat_l]) pcZ (fun X hXl hX hnh hin => ?_)
  subst hXl
  unfold f_X4_apart
  refine s_aload_n hX dX4_apart_0 rfl 0 rfl ?_
  refine s_aload_n hX dX4_apart_1 rfl 0 rfl ?_
  refine s_getI (ci := 4) (j := 0) (ref := "WindGasModel") hX (pcG 4) in_X4 (Or.inl q1538) (by decide) (by decide) (by decide) rfl dX4_apart_2 (fun _ h9 => h9) (fun v1 => ?_)
  refine s_callV_I (ci := 4) (n := 1) (As := [.int v1]) (st := []) hX (pcK 5) (by decide) (ct_X4_inForce X.l n p0 v1) q1829 q1831 qs45 q91 q1832 yvX4_inForce (by decide) rfl (by first | decide | simp [rv_cat, cat_i, cat_l]) dX4_apart_5 (fun v2 => ?_)
  refine s_istore_n (i := 2) (L2 := [(2, .int v2), (0, rv p0), (1, .int p1)]) hX dX4_apart_8 rfl (by decide) rfl ?_
  refine s_bipush (v := 24) hX dX4_apart_9 (by decide) ?_
  refine s_iload_n hX dX4_apart_11 rfl 0 rfl ?_
  refine s_imul hX dX4_apart_12 ?_
  refine s_istore_n (i := 3) (L2 := [(3, .int (24 * v2)), (2, .int v2), (0, rv p0), (1, .int p1)]) hX dX4_apart_13 rfl (by decide) rfl ?_
  refine s_jn (P := fun j => ∀ (v4 : Int32) (v5 : Int32) (v6 : Int32), Sim X cvI 149 [(1, .int p1), (3, .int v4), (4, .int v5), (5, .int v6)] [] (j v4 v5 v6)) ?_ (fun j149 hj149 => ?_)
  · intro v4 v5 v6
    refine s_iload_n hX dX4_apart_149 rfl 0 rfl ?_
    refine s_jn (P := fun j => ∀ (v7 : Int32), Sim X cvI 181 [] [.int v7] (j v7)) ?_ (fun j181 hj181 => ?_)
    · intro v7
      exact s_iret hX dX4_apart_181
    · refine s_if_ne (tgt := 160) hX dX4_apart_150 (by decide) ?_ ?_
      · refine s_iload_n hX dX4_apart_160 rfl 0 rfl ?_
        refine s_iconst (v := 1) hX dX4_apart_161 rfl ?_
        refine s_icmp_ne (tgt := 170) hX dX4_apart_162 (by decide) ?_ ?_
        · refine s_iload_n hX dX4_apart_170 rfl 0 rfl ?_
          refine s_iconst (v := 2) hX dX4_apart_171 rfl ?_
          refine s_icmp_ne (tgt := 180) hX dX4_apart_172 (by decide) ?_ ?_
          · refine s_iconst (v := -1) hX dX4_apart_180 (by decide) ?_
            exact s_sub [] rfl (hj181 (-1))
          · refine s_iload hX dX4_apart_175 3 rfl ?_
            refine s_goto (tgt := 181) hX dX4_apart_177 (by decide) ?_
            exact s_sub [] rfl (hj181 v6)
        · refine s_iload hX dX4_apart_165 2 rfl ?_
          refine s_goto (tgt := 181) hX dX4_apart_167 (by decide) ?_
          exact s_sub [] rfl (hj181 v5)
      · refine s_iload_n hX dX4_apart_153 rfl 1 rfl ?_
        refine s_bipush (v := 24) hX dX4_apart_154 (by decide) ?_
        refine s_iremc hX dX4_apart_156 (by decide) ?_
        refine s_goto (tgt := 181) hX dX4_apart_157 (by decide) ?_
        exact s_sub [] rfl (hj181 (v4 - v4 / 24 * 24))
  · exact s_sub [2, 3, 1, 0] rfl (s_lp_X4_apart_14 hX hnh n p0 p1 v2 j149 hj149 n (24 * v2))
theorem dX4_makes_0 : decode cX4_makes 0 = .ok (.aload_n 0, 1) := by decide +kernel
theorem dX4_makes_1 : decode cX4_makes 1 = .ok (.iconst 0, 1) := by decide +kernel
theorem dX4_makes_2 : decode cX4_makes 2 = .ok (.iload_n 2, 1) := by decide +kernel
theorem dX4_makes_3 : decode cX4_makes 3 = .ok (.invokevirtual 210, 3) := by decide +kernel
theorem dX4_makes_6 : decode cX4_makes 6 = .ok (.istore 4, 2) := by decide +kernel
theorem dX4_makes_8 : decode cX4_makes 8 = .ok (.iconst 0, 1) := by decide +kernel
theorem dX4_makes_9 : decode cX4_makes 9 = .ok (.istore 5, 2) := by decide +kernel
theorem dX4_makes_11 : decode cX4_makes 11 = .ok (.iconst 0, 1) := by decide +kernel
theorem dX4_makes_12 : decode cX4_makes 12 = .ok (.istore 6, 2) := by decide +kernel
theorem dX4_makes_14 : decode cX4_makes 14 = .ok (.iload 6, 2) := by decide +kernel
theorem dX4_makes_16 : decode cX4_makes 16 = .ok (.aload_n 0, 1) := by decide +kernel
theorem dX4_makes_17 : decode cX4_makes 17 = .ok (.getfield 215, 3) := by decide +kernel
theorem dX4_makes_20 : decode cX4_makes 20 = .ok (.if_icmp .ge 78, 3) := by decide +kernel
theorem dX4_makes_23 : decode cX4_makes 23 = .ok (.aload_n 0, 1) := by decide +kernel
theorem dX4_makes_24 : decode cX4_makes 24 = .ok (.getfield 112, 3) := by decide +kernel
theorem dX4_makes_27 : decode cX4_makes 27 = .ok (.iload 6, 2) := by decide +kernel
theorem dX4_makes_29 : decode cX4_makes 29 = .ok (.iaload, 1) := by decide +kernel
theorem dX4_makes_30 : decode cX4_makes 30 = .ok (.istore 7, 2) := by decide +kernel
theorem dX4_makes_32 : decode cX4_makes 32 = .ok (.iload_n 1, 1) := by decide +kernel
theorem dX4_makes_33 : decode cX4_makes 33 = .ok (.iload 7, 2) := by decide +kernel
theorem dX4_makes_35 : decode cX4_makes 35 = .ok (.ishr, 1) := by decide +kernel
theorem dX4_makes_36 : decode cX4_makes 36 = .ok (.iconst 1, 1) := by decide +kernel
theorem dX4_makes_37 : decode cX4_makes 37 = .ok (.iand, 1) := by decide +kernel
theorem dX4_makes_38 : decode cX4_makes 38 = .ok (.ifCond .ne 6, 3) := by decide +kernel
theorem dX4_makes_41 : decode cX4_makes 41 = .ok (.goto 51, 3) := by decide +kernel
theorem dX4_makes_44 : decode cX4_makes 44 = .ok (.iload 4, 2) := by decide +kernel
theorem dX4_makes_46 : decode cX4_makes 46 = .ok (.aload_n 0, 1) := by decide +kernel
theorem dX4_makes_47 : decode cX4_makes 47 = .ok (.iload 7, 2) := by decide +kernel
theorem dX4_makes_49 : decode cX4_makes 49 = .ok (.iload_n 3, 1) := by decide +kernel
theorem dX4_makes_50 : decode cX4_makes 50 = .ok (.invokevirtual 270, 3) := by decide +kernel
theorem dX4_makes_53 : decode cX4_makes 53 = .ok (.if_icmp .ge 5, 3) := by decide +kernel
theorem dX4_makes_56 : decode cX4_makes 56 = .ok (.iconst (-1), 1) := by decide +kernel
theorem dX4_makes_57 : decode cX4_makes 57 = .ok (.ireturn, 1) := by decide +kernel
theorem dX4_makes_58 : decode cX4_makes 58 = .ok (.iload 4, 2) := by decide +kernel
theorem dX4_makes_60 : decode cX4_makes 60 = .ok (.aload_n 0, 1) := by decide +kernel
theorem dX4_makes_61 : decode cX4_makes 61 = .ok (.getfield 22, 3) := by decide +kernel
theorem dX4_makes_64 : decode cX4_makes 64 = .ok (.iload 7, 2) := by decide +kernel
theorem dX4_makes_66 : decode cX4_makes 66 = .ok (.iaload, 1) := by decide +kernel
theorem dX4_makes_67 : decode cX4_makes 67 = .ok (.invokestatic 235, 3) := by decide +kernel
theorem dX4_makes_70 : decode cX4_makes 70 = .ok (.istore 8, 2) := by decide +kernel
theorem dX4_makes_72 : decode cX4_makes 72 = .ok (.iload 4, 2) := by decide +kernel
theorem dX4_makes_74 : decode cX4_makes 74 = .ok (.iload 8, 2) := by decide +kernel
theorem dX4_makes_76 : decode cX4_makes 76 = .ok (.isub, 1) := by decide +kernel
theorem dX4_makes_77 : decode cX4_makes 77 = .ok (.istore 4, 2) := by decide +kernel
theorem dX4_makes_79 : decode cX4_makes 79 = .ok (.iload 5, 2) := by decide +kernel
theorem dX4_makes_81 : decode cX4_makes 81 = .ok (.aload_n 0, 1) := by decide +kernel
theorem dX4_makes_82 : decode cX4_makes 82 = .ok (.iload 7, 2) := by decide +kernel
theorem dX4_makes_84 : decode cX4_makes 84 = .ok (.iload 8, 2) := by decide +kernel
theorem dX4_makes_86 : decode cX4_makes 86 = .ok (.invokevirtual 273, 3) := by decide +kernel
theorem dX4_makes_89 : decode cX4_makes 89 = .ok (.iadd, 1) := by decide +kernel
theorem dX4_makes_90 : decode cX4_makes 90 = .ok (.istore 5, 2) := by decide +kernel
theorem dX4_makes_92 : decode cX4_makes 92 = .ok (.iinc 6 1, 3) := by decide +kernel
theorem dX4_makes_95 : decode cX4_makes 95 = .ok (.goto (-81), 3) := by decide +kernel
theorem dX4_makes_98 : decode cX4_makes 98 = .ok (.iload 5, 2) := by decide +kernel
theorem dX4_makes_100 : decode cX4_makes 100 = .ok (.bipush 100, 2) := by decide +kernel
theorem dX4_makes_102 : decode cX4_makes 102 = .ok (.idiv, 1) := by decide +kernel
theorem dX4_makes_103 : decode cX4_makes 103 = .ok (.ireturn, 1) := by decide +kernel
theorem ycX4_makes : yX4_makes.cls ≠ "java/lang/invoke/MethodHandle" ∧ yX4_makes.cls ≠ "java/lang/invoke/VarHandle" ∧ (parseMethodDescriptor yX4_makes.desc).map (fun d => d.parameters.length) = some 3 := by decide +kernel
theorem yvX4_makes : yX4_makes.cls = RR 4 ∧ yX4_makes.cls ≠ "java/lang/invoke/MethodHandle" ∧ yX4_makes.cls ≠ "java/lang/invoke/VarHandle" ∧ (parseMethodDescriptor yX4_makes.desc).map (fun d => d.parameters.length) = some 3 := ⟨rfl, ycX4_makes⟩
def lp_X4_makes_14 (n : Nat) (p0 : Nat) (p1 : Int32) (p3 : Int32) (j98 : Int32 → Act Int32) (q : Nat) : Int32 → Int32 → Int32 → Act Int32 := match q with
  | 0 => fun _ _ _ => fail
  | q + 1 => fun w2 w3 w4 =>
    bnd (getI 4 1 p0) fun v6 =>
    if v6 ≤ w4 then
      j98 w3
    else
      bnd (getR 4 40 p0) fun v7 =>
      bnd (ldI 0 v7 w4) fun v8 =>
      jn (fun (v9 : Int32) (v10 : Int32) =>
        (lp_X4_makes_14 n p0 p1 p3 j98 q) v9 v10 (w4 + 1)) fun j92 =>
      if ¬ ((p1 >>> (v8 &&& 31)) &&& 1) = 0 then
        bnd (gd 4 p0 (nt (f_X4_leastOf n p0 v8 p3))) fun v11 =>
        if v11 ≤ w2 then
          bnd (getR 4 8 p0) fun v12 =>
          bnd (ldI 0 v12 v8) fun v13 =>
          bnd (gd 4 p0 (nt (f_X4_gasOf p0 v8 (mn w2 v13)))) fun v14 =>
          j92 (w2 - (mn w2 v13)) (w3 + v14)
        else
          pur (-1)
      else
        j92 w2 w3
def f_X4_makes (n : Nat) (p0 : Nat) (p1 : Int32) (p2 : Int32) (p3 : Int32) : Act Int32 :=
  bnd (gd 4 p0 (nt (f_X4_saidOf n p0 (0 : Int32) p2))) fun v1 =>
  jn (fun (v5 : Int32) =>
    pur (v5 / 100)) fun j98 =>
  lp_X4_makes_14 n p0 p1 p3 j98 n v1 0 0
set_option maxHeartbeats 4000000 in
theorem s_lp_X4_makes_14 {X : Cx} (hX : Ok X Pic cX4_makes RX4 9 (some FieldType.int) 3 66) (hnh : Noh X) (n : Nat) (p0 : Nat) (p1 : Int32) (p3 : Int32) (j98 : Int32 → Act Int32) (hj98 : ∀ (v5 : Int32), Sim X cvI 98 [(5, .int v5)] [] (j98 v5)) (q : Nat) : ∀ (w2 : Int32) (w3 : Int32) (w4 : Int32), Sim X cvI 14 [(0, rv p0), (1, .int p1), (3, .int p3), (4, .int w2), (5, .int w3), (6, .int w4)] [] (lp_X4_makes_14 n p0 p1 p3 j98 q w2 w3 w4) := by
  induction q with
  | zero => intro w2 w3 w4; exact s_fail
  | succ q ih14 =>
    intro w2 w3 w4
    rw [lp_X4_makes_14]
    refine s_iload hX dX4_makes_14 5 rfl ?_
    refine s_aload_n hX dX4_makes_16 rfl 0 rfl ?_
    refine s_getI (ci := 4) (j := 1) (ref := "WindGasModel") hX (pcG 4) in_X4 (Or.inl q1539) (by decide) (by decide) (by decide) rfl dX4_makes_17 (fun _ h9 => h9) (fun v6 => ?_)
    refine s_icmp_ge (tgt := 98) hX dX4_makes_20 (by decide) ?_ ?_
    · exact s_sub [4] rfl (hj98 w3)
    · refine s_aload_n hX dX4_makes_23 rfl 0 rfl ?_
      refine s_getR (ci := 4) (j := 40) (ref := "WindGasModel") hX (pcG 4) in_X4 (Or.inl q1578) (by decide) (by decide) (by decide) rfl dX4_makes_24 (fun _ h9 => h9) (fun v7 => ?_)
      refine s_iload hX dX4_makes_27 5 rfl ?_
      refine s_iald hX (pcA 0) dX4_makes_29 (fun v8 => ?_)
      refine s_istore (i := 7) (L2 := [(7, .int v8), (0, rv p0), (1, .int p1), (3, .int p3), (4, .int w2), (5, .int w3), (6, .int w4)]) hX dX4_makes_30 (by decide) rfl ?_
      refine s_iload_n hX dX4_makes_32 rfl 2 rfl ?_
      refine s_iload hX dX4_makes_33 0 rfl ?_
      refine s_ishr hX dX4_makes_35 ?_
      refine s_iconst (v := 1) hX dX4_makes_36 rfl ?_
      refine s_iand hX dX4_makes_37 ?_
      refine s_jn (P := fun j => ∀ (v9 : Int32) (v10 : Int32), Sim X cvI 92 [(0, rv p0), (1, .int p1), (3, .int p3), (4, .int v9), (5, .int v10), (6, .int w4)] [] (j v9 v10)) ?_ (fun j92 hj92 => ?_)
      · intro v9 v10
        refine s_iinc (k := 5) (v := (w4 + 1)) (L2 := [(6, .int (w4 + 1)), (0, rv p0), (1, .int p1), (3, .int p3), (4, .int v9), (5, .int v10)]) hX dX4_makes_92 rfl rfl (by decide) rfl ?_
        refine s_goto (tgt := 14) hX dX4_makes_95 (by decide) ?_
        exact s_sub [1, 2, 3, 4, 5, 0] rfl (ih14 v9 v10 (w4 + 1))
      · refine s_if_ne (tgt := 44) hX dX4_makes_38 (by decide) ?_ ?_
        · refine s_iload hX dX4_makes_44 4 rfl ?_
          refine s_aload_n hX dX4_makes_46 rfl 1 rfl ?_
          refine s_iload hX dX4_makes_47 0 rfl ?_
          refine s_iload_n hX dX4_makes_49 rfl 3 rfl ?_
          refine s_callV_I (ci := 4) (n := 2) (As := [.int v8, .int p3]) (st := [.int w2]) hX (pcK 5) (by decide) (ct_X4_leastOf X.l n p0 v8 p3) q1864 q1866 qs52 q91 q1867 yvX4_leastOf (by decide) rfl (by first | decide | simp [rv_cat, cat_i, cat_l]) dX4_makes_50 (fun v11 => ?_)
          refine s_icmp_ge (tgt := 58) hX dX4_makes_53 (by decide) ?_ ?_
          · refine s_iload hX dX4_makes_58 4 rfl ?_
            refine s_aload_n hX dX4_makes_60 rfl 1 rfl ?_
            refine s_getR (ci := 4) (j := 8) (ref := "WindGasModel") hX (pcG 4) in_X4 (Or.inl q1546) (by decide) (by decide) (by decide) rfl dX4_makes_61 (fun _ h9 => h9) (fun v12 => ?_)
            refine s_iload hX dX4_makes_64 0 rfl ?_
            refine s_iald hX (pcA 0) dX4_makes_66 (fun v13 => ?_)
            refine s_mmin hX q1848 q500 q95 q501 rfl (by omega) (by first | decide | (simp [rv_cat, cat_i, cat_l]; try omega)) dX4_makes_67 ?_
            refine s_istore (i := 8) (L2 := [(8, .int (mn w2 v13)), (7, .int v8), (0, rv p0), (1, .int p1), (3, .int p3), (4, .int w2), (5, .int w3), (6, .int w4)]) hX dX4_makes_70 (by decide) rfl ?_
            refine s_iload hX dX4_makes_72 5 rfl ?_
            refine s_iload hX dX4_makes_74 0 rfl ?_
            refine s_isub hX dX4_makes_76 ?_
            refine s_istore (i := 4) (L2 := [(4, .int (w2 - (mn w2 v13))), (8, .int (mn w2 v13)), (7, .int v8), (0, rv p0), (1, .int p1), (3, .int p3), (5, .int w3), (6, .int w4)]) hX dX4_makes_77 (by decide) rfl ?_
            refine s_iload hX dX4_makes_79 6 rfl ?_
            refine s_aload_n hX dX4_makes_81 rfl 3 rfl ?_
            refine s_iload hX dX4_makes_82 2 rfl ?_
            refine s_iload hX dX4_makes_84 1 rfl ?_
            refine s_callV_I (ci := 4) (n := 2) (As := [.int v8, .int (mn w2 v13)]) (st := [.int w3]) hX (pcK 5) (by decide) (ct_X4_gasOf X.l p0 v8 (mn w2 v13)) q1869 q1871 qs53 q91 q1872 yvX4_gasOf (by decide) rfl (by first | decide | simp [rv_cat, cat_i, cat_l]) dX4_makes_86 (fun v14 => ?_)
            refine s_iadd hX dX4_makes_89 ?_
            refine s_istore (i := 5) (L2 := [(5, .int (w3 + v14)), (4, .int (w2 - (mn w2 v13))), (8, .int (mn w2 v13)), (7, .int v8), (0, rv p0), (1, .int p1), (3, .int p3), (6, .int w4)]) hX dX4_makes_90 (by decide) rfl ?_
            exact s_sub [4, 5, 6, 1, 0, 7] rfl (hj92 (w2 - (mn w2 v13)) (w3 + v14))
          · refine s_iconst (v := -1) hX dX4_makes_56 (by decide) ?_
            exact s_iret hX dX4_makes_57
        · refine s_goto (tgt := 92) hX dX4_makes_41 (by decide) ?_
          exact s_sub [1, 2, 3, 4, 5, 6] rfl (hj92 w2 w3)
set_option maxHeartbeats 4000000 in
theorem ct_X4_makes (l : Launch) (n : Nat) (p0 : Nat) (p1 : Int32) (p2 : Int32) (p3 : Int32) : Ct l Pic yX4_makes (ws_ yX4_makes cX4_makes 9 (some FieldType.int)) 3 66 cvI [rv p0, .int p1, .int p2, .int p3] (f_X4_makes n p0 p1 p2 p3) := by
  refine Ct.of (own := RX4) (L := [(0, rv p0), (1, .int p1), (2, .int p2), (3, .int p3)]) (plainFor_of_name (by decide)) rfl (by first | decide | simp [lg_sl, rv_cat, cat_i, cat_l]) (by first | rfl | simp [lv_args, rv_cat, cat_i, cat_l]) pcZ (fun X hXl hX hnh hin => ?_)
  subst hXl
  unfold f_X4_makes
  refine s_aload_n hX dX4_makes_0 rfl 0 rfl ?_
  refine s_iconst (v := 0) hX dX4_makes_1 rfl ?_
  refine s_iload_n hX dX4_makes_2 rfl 2 rfl ?_
  refine s_callV_I (ci := 4) (n := 2) (As := [.int 0, .int p2]) (st := []) hX (pcK 5) (by decide) (ct_X4_saidOf X.l n p0 (0 : Int32) p2) q1794 q1796 qs43 q91 q1797 yvX4_saidOf (by decide) rfl (by first | decide | simp [rv_cat, cat_i, cat_l]) dX4_makes_3 (fun v1 => ?_)
  refine s_istore (i := 4) (L2 := [(4, .int v1), (0, rv p0), (1, .int p1), (2, .int p2), (3, .int p3)]) hX dX4_makes_6 (by decide) rfl ?_
  refine s_iconst (v := 0) hX dX4_makes_8 rfl ?_
  refine s_istore (i := 5) (L2 := [(5, .int 0), (4, .int v1), (0, rv p0), (1, .int p1), (2, .int p2), (3, .int p3)]) hX dX4_makes_9 (by decide) rfl ?_
  refine s_iconst (v := 0) hX dX4_makes_11 rfl ?_
  refine s_istore (i := 6) (L2 := [(6, .int 0), (5, .int 0), (4, .int v1), (0, rv p0), (1, .int p1), (2, .int p2), (3, .int p3)]) hX dX4_makes_12 (by decide) rfl ?_
  refine s_jn (P := fun j => ∀ (v5 : Int32), Sim X cvI 98 [(5, .int v5)] [] (j v5)) ?_ (fun j98 hj98 => ?_)
  · intro v5
    refine s_iload hX dX4_makes_98 0 rfl ?_
    refine s_bipush (v := 100) hX dX4_makes_100 (by decide) ?_
    refine s_idivc hX dX4_makes_102 (by decide) ?_
    exact s_iret hX dX4_makes_103
  · exact s_sub [3, 4, 6, 2, 1, 0] rfl (s_lp_X4_makes_14 hX hnh n p0 p1 p3 j98 hj98 n v1 0 0)
theorem dX4_state_0 : decode cX4_state 0 = .ok (.bipush 61, 2) := by decide +kernel
theorem dX4_state_2 : decode cX4_state 2 = .ok (.bipush 16, 2) := by decide +kernel
theorem dX4_state_4 : decode cX4_state 4 = .ok (.iload_n 0, 1) := by decide +kernel
theorem dX4_state_5 : decode cX4_state 5 = .ok (.imul, 1) := by decide +kernel
theorem dX4_state_6 : decode cX4_state 6 = .ok (.iload_n 1, 1) := by decide +kernel
theorem dX4_state_7 : decode cX4_state 7 = .ok (.iadd, 1) := by decide +kernel
theorem dX4_state_8 : decode cX4_state 8 = .ok (.imul, 1) := by decide +kernel
theorem dX4_state_9 : decode cX4_state 9 = .ok (.iload_n 2, 1) := by decide +kernel
theorem dX4_state_10 : decode cX4_state 10 = .ok (.iadd, 1) := by decide +kernel
theorem dX4_state_11 : decode cX4_state 11 = .ok (.ireturn, 1) := by decide +kernel
theorem ycX4_state : yX4_state.cls ≠ "java/lang/invoke/MethodHandle" ∧ yX4_state.cls ≠ "java/lang/invoke/VarHandle" ∧ (parseMethodDescriptor yX4_state.desc).map (fun d => d.parameters.length) = some 3 := by decide +kernel
def f_X4_state (p0 : Int32) (p1 : Int32) (p2 : Int32) : Act Int32 :=
  pur ((61 * ((16 * p0) + p1)) + p2)
set_option maxHeartbeats 4000000 in
theorem ct_X4_state (l : Launch) (p0 : Int32) (p1 : Int32) (p2 : Int32) : Ct l Pic yX4_state (ws_ yX4_state cX4_state 3 (some FieldType.int)) 0 0 cvI [.int p0, .int p1, .int p2] (f_X4_state p0 p1 p2) := by
  refine Ct.of (own := RX4) (L := [(0, .int p0), (1, .int p1), (2, .int p2)]) (plainFor_of_name (by decide)) rfl (by first | decide | simp [lg_sl, rv_cat, cat_i, cat_l]) (by first | rfl | simp [lv_args, rv_cat, cat_i, cat_l]) pcZ (fun X hXl hX hnh hin => ?_)
  subst hXl
  unfold f_X4_state
  refine s_bipush (v := 61) hX dX4_state_0 (by decide) ?_
  refine s_bipush (v := 16) hX dX4_state_2 (by decide) ?_
  refine s_iload_n hX dX4_state_4 rfl 0 rfl ?_
  refine s_imul hX dX4_state_5 ?_
  refine s_iload_n hX dX4_state_6 rfl 1 rfl ?_
  refine s_iadd hX dX4_state_7 ?_
  refine s_imul hX dX4_state_8 ?_
  refine s_iload_n hX dX4_state_9 rfl 2 rfl ?_
  refine s_iadd hX dX4_state_10 ?_
  exact s_iret hX dX4_state_11
theorem dX4_bits_0 : decode cX4_bits 0 = .ok (.iconst 0, 1) := by decide +kernel
theorem dX4_bits_1 : decode cX4_bits 1 = .ok (.istore_n 1, 1) := by decide +kernel
theorem dX4_bits_2 : decode cX4_bits 2 = .ok (.iload_n 0, 1) := by decide +kernel
theorem dX4_bits_3 : decode cX4_bits 3 = .ok (.istore_n 2, 1) := by decide +kernel
theorem dX4_bits_4 : decode cX4_bits 4 = .ok (.iload_n 2, 1) := by decide +kernel
theorem dX4_bits_5 : decode cX4_bits 5 = .ok (.ifCond .le 16, 3) := by decide +kernel
theorem dX4_bits_8 : decode cX4_bits 8 = .ok (.iload_n 1, 1) := by decide +kernel
theorem dX4_bits_9 : decode cX4_bits 9 = .ok (.iload_n 2, 1) := by decide +kernel
theorem dX4_bits_10 : decode cX4_bits 10 = .ok (.iconst 1, 1) := by decide +kernel
theorem dX4_bits_11 : decode cX4_bits 11 = .ok (.iand, 1) := by decide +kernel
theorem dX4_bits_12 : decode cX4_bits 12 = .ok (.iadd, 1) := by decide +kernel
theorem dX4_bits_13 : decode cX4_bits 13 = .ok (.istore_n 1, 1) := by decide +kernel
theorem dX4_bits_14 : decode cX4_bits 14 = .ok (.iload_n 2, 1) := by decide +kernel
theorem dX4_bits_15 : decode cX4_bits 15 = .ok (.iconst 1, 1) := by decide +kernel
theorem dX4_bits_16 : decode cX4_bits 16 = .ok (.ishr, 1) := by decide +kernel
theorem dX4_bits_17 : decode cX4_bits 17 = .ok (.istore_n 2, 1) := by decide +kernel
theorem dX4_bits_18 : decode cX4_bits 18 = .ok (.goto (-14), 3) := by decide +kernel
theorem dX4_bits_21 : decode cX4_bits 21 = .ok (.iload_n 1, 1) := by decide +kernel
theorem dX4_bits_22 : decode cX4_bits 22 = .ok (.ireturn, 1) := by decide +kernel
theorem ycX4_bits : yX4_bits.cls ≠ "java/lang/invoke/MethodHandle" ∧ yX4_bits.cls ≠ "java/lang/invoke/VarHandle" ∧ (parseMethodDescriptor yX4_bits.desc).map (fun d => d.parameters.length) = some 1 := by decide +kernel
def lp_X4_bits_4 (q : Nat) : Int32 → Int32 → Act Int32 := match q with
  | 0 => fun _ _ => fail
  | q + 1 => fun w1 w2 =>
    if w2 ≤ 0 then
      pur w1
    else
      (lp_X4_bits_4 q) (w1 + (w2 &&& 1)) (w2 >>> (1 &&& 31))
def f_X4_bits (n : Nat) (p0 : Int32) : Act Int32 :=
  lp_X4_bits_4 n 0 p0
set_option maxHeartbeats 4000000 in
theorem s_lp_X4_bits_4 {X : Cx} (hX : Ok X Pic cX4_bits RX4 3 (some FieldType.int) 0 0) (hnh : Noh X) (q : Nat) : ∀ (w1 : Int32) (w2 : Int32), Sim X cvI 4 [(1, .int w1), (2, .int w2)] [] (lp_X4_bits_4 q w1 w2) := by
  induction q with
  | zero => intro w1 w2; exact s_fail
  | succ q ih4 =>
    intro w1 w2
    rw [lp_X4_bits_4]
    refine s_iload_n hX dX4_bits_4 rfl 1 rfl ?_
    refine s_if_le (tgt := 21) hX dX4_bits_5 (by decide) ?_ ?_
    · refine s_iload_n hX dX4_bits_21 rfl 0 rfl ?_
      exact s_iret hX dX4_bits_22
    · refine s_iload_n hX dX4_bits_8 rfl 0 rfl ?_
      refine s_iload_n hX dX4_bits_9 rfl 1 rfl ?_
      refine s_iconst (v := 1) hX dX4_bits_10 rfl ?_
      refine s_iand hX dX4_bits_11 ?_
      refine s_iadd hX dX4_bits_12 ?_
      refine s_istore_n (i := 1) (L2 := [(1, .int (w1 + (w2 &&& 1))), (2, .int w2)]) hX dX4_bits_13 rfl (by decide) rfl ?_
      refine s_iload_n hX dX4_bits_14 rfl 1 rfl ?_
      refine s_iconst (v := 1) hX dX4_bits_15 rfl ?_
      refine s_ishr hX dX4_bits_16 ?_
      refine s_istore_n (i := 2) (L2 := [(2, .int (w2 >>> (1 &&& 31))), (1, .int (w1 + (w2 &&& 1)))]) hX dX4_bits_17 rfl (by decide) rfl ?_
      refine s_goto (tgt := 4) hX dX4_bits_18 (by decide) ?_
      exact s_sub [1, 0] rfl (ih4 (w1 + (w2 &&& 1)) (w2 >>> (1 &&& 31)))
set_option maxHeartbeats 4000000 in
theorem ct_X4_bits (l : Launch) (n : Nat) (p0 : Int32) : Ct l Pic yX4_bits (ws_ yX4_bits cX4_bits 3 (some FieldType.int)) 0 0 cvI [.int p0] (f_X4_bits n p0) := by
  refine Ct.of (own := RX4) (L := [(0, .int p0)]) (plainFor_of_name (by decide)) rfl (by first | decide | simp [lg_sl, rv_cat, cat_i, cat_l]) (by first | rfl | simp [lv_args, rv_cat, cat_i, cat_l]) pcZ (fun X hXl hX hnh hin => ?_)
  subst hXl
  unfold f_X4_bits
  refine s_iconst (v := 0) hX dX4_bits_0 rfl ?_
  refine s_istore_n (i := 1) (L2 := [(1, .int 0), (0, .int p0)]) hX dX4_bits_1 rfl (by decide) rfl ?_
  refine s_iload_n hX dX4_bits_2 rfl 1 rfl ?_
  refine s_istore_n (i := 2) (L2 := [(2, .int p0), (1, .int 0), (0, .int p0)]) hX dX4_bits_3 rfl (by decide) rfl ?_
  exact s_sub [1, 0] rfl (s_lp_X4_bits_4 hX hnh n 0 p0)
theorem dX4_coins_0 : decode cX4_coins 0 = .ok (.aload_n 0, 1) := by decide +kernel
theorem dX4_coins_1 : decode cX4_coins 1 = .ok (.getfield 195, 3) := by decide +kernel
theorem dX4_coins_4 : decode cX4_coins 4 = .ok (.bipush 16, 2) := by decide +kernel
theorem dX4_coins_6 : decode cX4_coins 6 = .ok (.iload_n 1, 1) := by decide +kernel
theorem dX4_coins_7 : decode cX4_coins 7 = .ok (.imul, 1) := by decide +kernel
theorem dX4_coins_8 : decode cX4_coins 8 = .ok (.iload_n 3, 1) := by decide +kernel
theorem dX4_coins_9 : decode cX4_coins 9 = .ok (.iadd, 1) := by decide +kernel
theorem dX4_coins_10 : decode cX4_coins 10 = .ok (.iaload, 1) := by decide +kernel
theorem dX4_coins_11 : decode cX4_coins 11 = .ok (.iconst (-1), 1) := by decide +kernel
theorem dX4_coins_12 : decode cX4_coins 12 = .ok (.if_icmp .ne 8, 3) := by decide +kernel
theorem dX4_coins_15 : decode cX4_coins 15 = .ok (.ldc 221, 2) := by decide +kernel
theorem dX4_coins_17 : decode cX4_coins 17 = .ok (.goto 52, 3) := by decide +kernel
theorem dX4_coins_20 : decode cX4_coins 20 = .ok (.bipush 50, 2) := by decide +kernel
theorem dX4_coins_22 : decode cX4_coins 22 = .ok (.iload_n 3, 1) := by decide +kernel
theorem dX4_coins_23 : decode cX4_coins 23 = .ok (.iload_n 2, 1) := by decide +kernel
theorem dX4_coins_24 : decode cX4_coins 24 = .ok (.iconst (-1), 1) := by decide +kernel
theorem dX4_coins_25 : decode cX4_coins 25 = .ok (.ixor, 1) := by decide +kernel
theorem dX4_coins_26 : decode cX4_coins 26 = .ok (.iand, 1) := by decide +kernel
theorem dX4_coins_27 : decode cX4_coins 27 = .ok (.invokestatic 487, 3) := by decide +kernel
theorem dX4_coins_30 : decode cX4_coins 30 = .ok (.imul, 1) := by decide +kernel
theorem dX4_coins_31 : decode cX4_coins 31 = .ok (.iconst 3, 1) := by decide +kernel
theorem dX4_coins_32 : decode cX4_coins 32 = .ok (.iload_n 3, 1) := by decide +kernel
theorem dX4_coins_33 : decode cX4_coins 33 = .ok (.invokestatic 487, 3) := by decide +kernel
theorem dX4_coins_36 : decode cX4_coins 36 = .ok (.imul, 1) := by decide +kernel
theorem dX4_coins_37 : decode cX4_coins 37 = .ok (.iadd, 1) := by decide +kernel
theorem dX4_coins_38 : decode cX4_coins 38 = .ok (.aload_n 0, 1) := by decide +kernel
theorem dX4_coins_39 : decode cX4_coins 39 = .ok (.getfield 192, 3) := by decide +kernel
theorem dX4_coins_42 : decode cX4_coins 42 = .ok (.iload_n 1, 1) := by decide +kernel
theorem dX4_coins_43 : decode cX4_coins 43 = .ok (.iconst 1, 1) := by decide +kernel
theorem dX4_coins_44 : decode cX4_coins 44 = .ok (.iadd, 1) := by decide +kernel
theorem dX4_coins_45 : decode cX4_coins 45 = .ok (.iload_n 3, 1) := by decide +kernel
theorem dX4_coins_46 : decode cX4_coins 46 = .ok (.iconst 0, 1) := by decide +kernel
theorem dX4_coins_47 : decode cX4_coins 47 = .ok (.iload 4, 2) := by decide +kernel
theorem dX4_coins_49 : decode cX4_coins 49 = .ok (.aload_n 0, 1) := by decide +kernel
theorem dX4_coins_50 : decode cX4_coins 50 = .ok (.getfield 195, 3) := by decide +kernel
theorem dX4_coins_53 : decode cX4_coins 53 = .ok (.bipush 16, 2) := by decide +kernel
theorem dX4_coins_55 : decode cX4_coins 55 = .ok (.iload_n 1, 1) := by decide +kernel
theorem dX4_coins_56 : decode cX4_coins 56 = .ok (.imul, 1) := by decide +kernel
theorem dX4_coins_57 : decode cX4_coins 57 = .ok (.iload_n 3, 1) := by decide +kernel
theorem dX4_coins_58 : decode cX4_coins 58 = .ok (.iadd, 1) := by decide +kernel
theorem dX4_coins_59 : decode cX4_coins 59 = .ok (.iaload, 1) := by decide +kernel
theorem dX4_coins_60 : decode cX4_coins 60 = .ok (.isub, 1) := by decide +kernel
theorem dX4_coins_61 : decode cX4_coins 61 = .ok (.invokestatic 263, 3) := by decide +kernel
theorem dX4_coins_64 : decode cX4_coins 64 = .ok (.invokestatic 490, 3) := by decide +kernel
theorem dX4_coins_67 : decode cX4_coins 67 = .ok (.iaload, 1) := by decide +kernel
theorem dX4_coins_68 : decode cX4_coins 68 = .ok (.iadd, 1) := by decide +kernel
theorem dX4_coins_69 : decode cX4_coins 69 = .ok (.ireturn, 1) := by decide +kernel
theorem ycX4_coins : yX4_coins.cls ≠ "java/lang/invoke/MethodHandle" ∧ yX4_coins.cls ≠ "java/lang/invoke/VarHandle" ∧ (parseMethodDescriptor yX4_coins.desc).map (fun d => d.parameters.length) = some 4 := by decide +kernel
theorem yvX4_coins : yX4_coins.cls = RR 4 ∧ yX4_coins.cls ≠ "java/lang/invoke/MethodHandle" ∧ yX4_coins.cls ≠ "java/lang/invoke/VarHandle" ∧ (parseMethodDescriptor yX4_coins.desc).map (fun d => d.parameters.length) = some 4 := ⟨rfl, ycX4_coins⟩
def f_X4_coins (n : Nat) (p0 : Nat) (p1 : Int32) (p2 : Int32) (p3 : Int32) (p4 : Int32) : Act Int32 :=
  bnd (getR 4 78 p0) fun v1 =>
  bnd (ldI 0 v1 ((16 * p1) + p3)) fun v2 =>
  jn (fun (v3 : Int32) =>
    pur v3) fun j69 =>
  if ¬ v2 = (-1) then
    bnd (nt (f_X4_bits n (p3 &&& (p2 ^^^ (-1))))) fun v4 =>
    bnd (nt (f_X4_bits n p3)) fun v5 =>
    bnd (getR 4 77 p0) fun v6 =>
    bnd (getR 4 78 p0) fun v7 =>
    bnd (ldI 0 v7 ((16 * p1) + p3)) fun v8 =>
    bnd (nt (f_X4_state (p1 + 1) p3 (mx (0 : Int32) (p4 - v8)))) fun v9 =>
    bnd (ldI 0 v6 v9) fun v10 =>
    j69 (((50 * v4) + (3 * v5)) + v10)
  else
    j69 1000000
set_option maxHeartbeats 4000000 in
theorem ct_X4_coins (l : Launch) (n : Nat) (p0 : Nat) (p1 : Int32) (p2 : Int32) (p3 : Int32) (p4 : Int32) : Ct l Pic yX4_coins (ws_ yX4_coins cX4_coins 5 (some FieldType.int)) 1 24 cvI [rv p0, .int p1, .int p2, .int p3, .int p4] (f_X4_coins n p0 p1 p2 p3 p4) := by
  refine Ct.of (own := RX4) (L := [(0, rv p0), (1, .int p1), (2, .int p2), (3, .int p3), (4, .int p4)]) (plainFor_of_name (by decide)) rfl (by first | decide | simp [lg_sl, rv_cat, cat_i, cat_l]) (by first | rfl | simp [lv_args, rv_cat, cat_i, cat_l]) pcZ (fun X hXl hX hnh hin => ?_)
  subst hXl
  unfold f_X4_coins
  refine s_aload_n hX dX4_coins_0 rfl 0 rfl ?_
  refine s_getR (ci := 4) (j := 78) (ref := "WindGasModel") hX (pcG 4) in_X4 (Or.inl q1616) (by decide) (by decide) (by decide) rfl dX4_coins_1 (fun _ h9 => h9) (fun v1 => ?_)
  refine s_bipush (v := 16) hX dX4_coins_4 (by decide) ?_
  refine s_iload_n hX dX4_coins_6 rfl 1 rfl ?_
  refine s_imul hX dX4_coins_7 ?_
  refine s_iload_n hX dX4_coins_8 rfl 3 rfl ?_
  refine s_iadd hX dX4_coins_9 ?_
  refine s_iald hX (pcA 0) dX4_coins_10 (fun v2 => ?_)
  refine s_iconst (v := -1) hX dX4_coins_11 (by decide) ?_
  refine s_jn (P := fun j => ∀ (v3 : Int32), Sim X cvI 69 [] [.int v3] (j v3)) ?_ (fun j69 hj69 => ?_)
  · intro v3
    exact s_iret hX dX4_coins_69
  · refine s_icmp_ne (tgt := 20) hX dX4_coins_12 (by decide) ?_ ?_
    · refine s_bipush (v := 50) hX dX4_coins_20 (by decide) ?_
      refine s_iload_n hX dX4_coins_22 rfl 3 rfl ?_
      refine s_iload_n hX dX4_coins_23 rfl 2 rfl ?_
      refine s_iconst (v := -1) hX dX4_coins_24 (by decide) ?_
      refine s_ixor hX dX4_coins_25 ?_
      refine s_iand hX dX4_coins_26 ?_
      refine s_callS_I (n := 1) (As := [.int (p3 &&& (p2 ^^^ (-1)))]) (st := [.int 50]) hX (ct_X4_bits X.l n (p3 &&& (p2 ^^^ (-1)))) q2098 q2099 q91 q2100 ycX4_bits (by decide) rfl (by first | decide | simp [rv_cat, cat_i, cat_l]) dX4_coins_27 (fun v4 => ?_)
      refine s_imul hX dX4_coins_30 ?_
      refine s_iconst (v := 3) hX dX4_coins_31 rfl ?_
      refine s_iload_n hX dX4_coins_32 rfl 3 rfl ?_
      refine s_callS_I (n := 1) (As := [.int p3]) (st := [.int 3, .int (50 * v4)]) hX (ct_X4_bits X.l n p3) q2098 q2099 q91 q2100 ycX4_bits (by decide) rfl (by first | decide | simp [rv_cat, cat_i, cat_l]) dX4_coins_33 (fun v5 => ?_)
      refine s_imul hX dX4_coins_36 ?_
      refine s_iadd hX dX4_coins_37 ?_
      refine s_aload_n hX dX4_coins_38 rfl 0 rfl ?_
      refine s_getR (ci := 4) (j := 77) (ref := "WindGasModel") hX (pcG 4) in_X4 (Or.inl q1615) (by decide) (by decide) (by decide) rfl dX4_coins_39 (fun _ h9 => h9) (fun v6 => ?_)
      refine s_iload_n hX dX4_coins_42 rfl 1 rfl ?_
      refine s_iconst (v := 1) hX dX4_coins_43 rfl ?_
      refine s_iadd hX dX4_coins_44 ?_
      refine s_iload_n hX dX4_coins_45 rfl 3 rfl ?_
      refine s_iconst (v := 0) hX dX4_coins_46 rfl ?_
      refine s_iload hX dX4_coins_47 4 rfl ?_
      refine s_aload_n hX dX4_coins_49 rfl 0 rfl ?_
      refine s_getR (ci := 4) (j := 78) (ref := "WindGasModel") hX (pcG 4) in_X4 (Or.inl q1616) (by decide) (by decide) (by decide) rfl dX4_coins_50 (fun _ h9 => h9) (fun v7 => ?_)
      refine s_bipush (v := 16) hX dX4_coins_53 (by decide) ?_
      refine s_iload_n hX dX4_coins_55 rfl 1 rfl ?_
      refine s_imul hX dX4_coins_56 ?_
      refine s_iload_n hX dX4_coins_57 rfl 3 rfl ?_
      refine s_iadd hX dX4_coins_58 ?_
      refine s_iald hX (pcA 0) dX4_coins_59 (fun v8 => ?_)
      refine s_isub hX dX4_coins_60 ?_
      refine s_mmax hX q1868 q459 q95 q460 rfl (by omega) (by first | decide | (simp [rv_cat, cat_i, cat_l]; try omega)) dX4_coins_61 ?_
      refine s_callS_I (n := 3) (As := [.int (p1 + 1), .int p3, .int (mx (0 : Int32) (p4 - v8))]) (st := [rv v6, .int ((50 * v4) + (3 * v5))]) hX (ct_X4_state X.l (p1 + 1) p3 (mx (0 : Int32) (p4 - v8))) q2091 q2092 q91 q2093 ycX4_state (by decide) rfl (by first | decide | simp [rv_cat, cat_i, cat_l]) dX4_coins_64 (fun v9 => ?_)
      refine s_iald hX (pcA 0) dX4_coins_67 (fun v10 => ?_)
      refine s_iadd hX dX4_coins_68 ?_
      exact s_sub [] rfl (hj69 (((50 * v4) + (3 * v5)) + v10))
    · refine s_ldc (v := 1000000) hX dX4_coins_15 q1810 ?_
      refine s_goto (tgt := 69) hX dX4_coins_17 (by decide) ?_
      exact s_sub [] rfl (hj69 1000000)
theorem dX4_plan_0 : decode cX4_plan 0 = .ok (.iload_n 1, 1) := by decide +kernel
theorem dX4_plan_1 : decode cX4_plan 1 = .ok (.iconst 1, 1) := by decide +kernel
theorem dX4_plan_2 : decode cX4_plan 2 = .ok (.bipush 8, 2) := by decide +kernel
theorem dX4_plan_4 : decode cX4_plan 4 = .ok (.invokestatic 198, 3) := by decide +kernel
theorem dX4_plan_7 : decode cX4_plan 7 = .ok (.ifCond .eq 42, 3) := by decide +kernel
theorem dX4_plan_10 : decode cX4_plan 10 = .ok (.aload_n 0, 1) := by decide +kernel
theorem dX4_plan_11 : decode cX4_plan 11 = .ok (.getfield 229, 3) := by decide +kernel
theorem dX4_plan_14 : decode cX4_plan 14 = .ok (.sipush 4999, 3) := by decide +kernel
theorem dX4_plan_17 : decode cX4_plan 17 = .ok (.iload_n 1, 1) := by decide +kernel
theorem dX4_plan_18 : decode cX4_plan 18 = .ok (.isub, 1) := by decide +kernel
theorem dX4_plan_19 : decode cX4_plan 19 = .ok (.if_icmp .gt 30, 3) := by decide +kernel
theorem dX4_plan_22 : decode cX4_plan 22 = .ok (.iload_n 2, 1) := by decide +kernel
theorem dX4_plan_23 : decode cX4_plan 23 = .ok (.iconst 0, 1) := by decide +kernel
theorem dX4_plan_24 : decode cX4_plan 24 = .ok (.bipush 60, 2) := by decide +kernel
theorem dX4_plan_26 : decode cX4_plan 26 = .ok (.invokestatic 198, 3) := by decide +kernel
theorem dX4_plan_29 : decode cX4_plan 29 = .ok (.ifCond .eq 20, 3) := by decide +kernel
theorem dX4_plan_32 : decode cX4_plan 32 = .ok (.iload_n 3, 1) := by decide +kernel
theorem dX4_plan_33 : decode cX4_plan 33 = .ok (.ifCond .eq 18, 3) := by decide +kernel
theorem dX4_plan_36 : decode cX4_plan 36 = .ok (.iload_n 3, 1) := by decide +kernel
theorem dX4_plan_37 : decode cX4_plan 37 = .ok (.bipush 10, 2) := by decide +kernel
theorem dX4_plan_39 : decode cX4_plan 39 = .ok (.bipush 9, 2) := by decide +kernel
theorem dX4_plan_41 : decode cX4_plan 41 = .ok (.iload_n 1, 1) := by decide +kernel
theorem dX4_plan_42 : decode cX4_plan 42 = .ok (.iadd, 1) := by decide +kernel
theorem dX4_plan_43 : decode cX4_plan 43 = .ok (.invokestatic 198, 3) := by decide +kernel
theorem dX4_plan_46 : decode cX4_plan 46 = .ok (.ifCond .ne 5, 3) := by decide +kernel
theorem dX4_plan_49 : decode cX4_plan 49 = .ok (.iconst (-1), 1) := by decide +kernel
theorem dX4_plan_50 : decode cX4_plan 50 = .ok (.ireturn, 1) := by decide +kernel
theorem dX4_plan_51 : decode cX4_plan 51 = .ok (.aload_n 0, 1) := by decide +kernel
theorem dX4_plan_52 : decode cX4_plan 52 = .ok (.aload_n 0, 1) := by decide +kernel
theorem dX4_plan_53 : decode cX4_plan 53 = .ok (.getfield 229, 3) := by decide +kernel
theorem dX4_plan_56 : decode cX4_plan 56 = .ok (.invokevirtual 282, 3) := by decide +kernel
theorem dX4_plan_59 : decode cX4_plan 59 = .ok (.istore 4, 2) := by decide +kernel
theorem dX4_plan_61 : decode cX4_plan 61 = .ok (.aload_n 0, 1) := by decide +kernel
theorem dX4_plan_62 : decode cX4_plan 62 = .ok (.iload 4, 2) := by decide +kernel
theorem dX4_plan_64 : decode cX4_plan 64 = .ok (.invokevirtual 294, 3) := by decide +kernel
theorem dX4_plan_67 : decode cX4_plan 67 = .ok (.iconst 1, 1) := by decide +kernel
theorem dX4_plan_68 : decode cX4_plan 68 = .ok (.aload_n 0, 1) := by decide +kernel
theorem dX4_plan_69 : decode cX4_plan 69 = .ok (.getfield 215, 3) := by decide +kernel
theorem dX4_plan_72 : decode cX4_plan 72 = .ok (.ishl, 1) := by decide +kernel
theorem dX4_plan_73 : decode cX4_plan 73 = .ok (.istore 5, 2) := by decide +kernel
theorem dX4_plan_75 : decode cX4_plan 75 = .ok (.iconst 0, 1) := by decide +kernel
theorem dX4_plan_76 : decode cX4_plan 76 = .ok (.istore 6, 2) := by decide +kernel
theorem dX4_plan_78 : decode cX4_plan 78 = .ok (.iload 6, 2) := by decide +kernel
theorem dX4_plan_80 : decode cX4_plan 80 = .ok (.iload_n 1, 1) := by decide +kernel
theorem dX4_plan_81 : decode cX4_plan 81 = .ok (.if_icmp .ge 53, 3) := by decide +kernel
theorem dX4_plan_84 : decode cX4_plan 84 = .ok (.iconst 0, 1) := by decide +kernel
theorem dX4_plan_85 : decode cX4_plan 85 = .ok (.istore 7, 2) := by decide +kernel
theorem dX4_plan_87 : decode cX4_plan 87 = .ok (.iload 7, 2) := by decide +kernel
theorem dX4_plan_89 : decode cX4_plan 89 = .ok (.iload 5, 2) := by decide +kernel
theorem dX4_plan_91 : decode cX4_plan 91 = .ok (.if_icmp .ge 37, 3) := by decide +kernel
theorem dX4_plan_94 : decode cX4_plan 94 = .ok (.aload_n 0, 1) := by decide +kernel
theorem dX4_plan_95 : decode cX4_plan 95 = .ok (.getfield 195, 3) := by decide +kernel
theorem dX4_plan_98 : decode cX4_plan 98 = .ok (.bipush 16, 2) := by decide +kernel
theorem dX4_plan_100 : decode cX4_plan 100 = .ok (.iload 6, 2) := by decide +kernel
theorem dX4_plan_102 : decode cX4_plan 102 = .ok (.imul, 1) := by decide +kernel
theorem dX4_plan_103 : decode cX4_plan 103 = .ok (.iload 7, 2) := by decide +kernel
theorem dX4_plan_105 : decode cX4_plan 105 = .ok (.iadd, 1) := by decide +kernel
theorem dX4_plan_106 : decode cX4_plan 106 = .ok (.aload_n 0, 1) := by decide +kernel
theorem dX4_plan_107 : decode cX4_plan 107 = .ok (.iload 7, 2) := by decide +kernel
theorem dX4_plan_109 : decode cX4_plan 109 = .ok (.aload_n 0, 1) := by decide +kernel
theorem dX4_plan_110 : decode cX4_plan 110 = .ok (.getfield 229, 3) := by decide +kernel
theorem dX4_plan_113 : decode cX4_plan 113 = .ok (.iload 6, 2) := by decide +kernel
theorem dX4_plan_115 : decode cX4_plan 115 = .ok (.iadd, 1) := by decide +kernel
theorem dX4_plan_116 : decode cX4_plan 116 = .ok (.iload 4, 2) := by decide +kernel
theorem dX4_plan_118 : decode cX4_plan 118 = .ok (.invokevirtual 493, 3) := by decide +kernel
theorem dX4_plan_121 : decode cX4_plan 121 = .ok (.iastore, 1) := by decide +kernel
theorem dX4_plan_122 : decode cX4_plan 122 = .ok (.iinc 7 1, 3) := by decide +kernel
theorem dX4_plan_125 : decode cX4_plan 125 = .ok (.goto (-38), 3) := by decide +kernel
theorem dX4_plan_128 : decode cX4_plan 128 = .ok (.iinc 6 1, 3) := by decide +kernel
theorem dX4_plan_131 : decode cX4_plan 131 = .ok (.goto (-53), 3) := by decide +kernel
theorem dX4_plan_134 : decode cX4_plan 134 = .ok (.iconst 0, 1) := by decide +kernel
theorem dX4_plan_135 : decode cX4_plan 135 = .ok (.istore 6, 2) := by decide +kernel
theorem dX4_plan_137 : decode cX4_plan 137 = .ok (.iload 6, 2) := by decide +kernel
theorem dX4_plan_139 : decode cX4_plan 139 = .ok (.iload 5, 2) := by decide +kernel
theorem dX4_plan_141 : decode cX4_plan 141 = .ok (.if_icmp .ge 49, 3) := by decide +kernel
theorem dX4_plan_144 : decode cX4_plan 144 = .ok (.iconst 0, 1) := by decide +kernel
theorem dX4_plan_145 : decode cX4_plan 145 = .ok (.istore 7, 2) := by decide +kernel
theorem dX4_plan_147 : decode cX4_plan 147 = .ok (.iload 7, 2) := by decide +kernel
theorem dX4_plan_149 : decode cX4_plan 149 = .ok (.bipush 61, 2) := by decide +kernel
theorem dX4_plan_151 : decode cX4_plan 151 = .ok (.if_icmp .ge 33, 3) := by decide +kernel
theorem dX4_plan_154 : decode cX4_plan 154 = .ok (.aload_n 0, 1) := by decide +kernel
theorem dX4_plan_155 : decode cX4_plan 155 = .ok (.getfield 192, 3) := by decide +kernel
theorem dX4_plan_158 : decode cX4_plan 158 = .ok (.iload_n 1, 1) := by decide +kernel
theorem dX4_plan_159 : decode cX4_plan 159 = .ok (.iload 6, 2) := by decide +kernel
theorem dX4_plan_161 : decode cX4_plan 161 = .ok (.iload 7, 2) := by decide +kernel
theorem dX4_plan_163 : decode cX4_plan 163 = .ok (.invokestatic 490, 3) := by decide +kernel
theorem dX4_plan_166 : decode cX4_plan 166 = .ok (.iload 7, 2) := by decide +kernel
theorem dX4_plan_168 : decode cX4_plan 168 = .ok (.ifCond .ne 7, 3) := by decide +kernel
theorem dX4_plan_171 : decode cX4_plan 171 = .ok (.iconst 0, 1) := by decide +kernel
theorem dX4_plan_172 : decode cX4_plan 172 = .ok (.goto 5, 3) := by decide +kernel
theorem dX4_plan_175 : decode cX4_plan 175 = .ok (.ldc 221, 2) := by decide +kernel
theorem dX4_plan_177 : decode cX4_plan 177 = .ok (.iastore, 1) := by decide +kernel
theorem dX4_plan_178 : decode cX4_plan 178 = .ok (.iinc 7 1, 3) := by decide +kernel
theorem dX4_plan_181 : decode cX4_plan 181 = .ok (.goto (-34), 3) := by decide +kernel
theorem dX4_plan_184 : decode cX4_plan 184 = .ok (.iinc 6 1, 3) := by decide +kernel
theorem dX4_plan_187 : decode cX4_plan 187 = .ok (.goto (-50), 3) := by decide +kernel
theorem dX4_plan_190 : decode cX4_plan 190 = .ok (.iload_n 1, 1) := by decide +kernel
theorem dX4_plan_191 : decode cX4_plan 191 = .ok (.iconst 1, 1) := by decide +kernel
theorem dX4_plan_192 : decode cX4_plan 192 = .ok (.isub, 1) := by decide +kernel
theorem dX4_plan_193 : decode cX4_plan 193 = .ok (.istore 6, 2) := by decide +kernel
theorem dX4_plan_195 : decode cX4_plan 195 = .ok (.iload 6, 2) := by decide +kernel
theorem dX4_plan_197 : decode cX4_plan 197 = .ok (.ifCond .lt 96, 3) := by decide +kernel
theorem dX4_plan_200 : decode cX4_plan 200 = .ok (.iconst 0, 1) := by decide +kernel
theorem dX4_plan_201 : decode cX4_plan 201 = .ok (.istore 7, 2) := by decide +kernel
theorem dX4_plan_203 : decode cX4_plan 203 = .ok (.iload 7, 2) := by decide +kernel
theorem dX4_plan_205 : decode cX4_plan 205 = .ok (.iload 5, 2) := by decide +kernel
theorem dX4_plan_207 : decode cX4_plan 207 = .ok (.if_icmp .ge 80, 3) := by decide +kernel
theorem dX4_plan_210 : decode cX4_plan 210 = .ok (.iconst 0, 1) := by decide +kernel
theorem dX4_plan_211 : decode cX4_plan 211 = .ok (.istore 8, 2) := by decide +kernel
theorem dX4_plan_213 : decode cX4_plan 213 = .ok (.iload 8, 2) := by decide +kernel
theorem dX4_plan_215 : decode cX4_plan 215 = .ok (.bipush 61, 2) := by decide +kernel
theorem dX4_plan_217 : decode cX4_plan 217 = .ok (.if_icmp .ge 64, 3) := by decide +kernel
theorem dX4_plan_220 : decode cX4_plan 220 = .ok (.ldc 221, 2) := by decide +kernel
theorem dX4_plan_222 : decode cX4_plan 222 = .ok (.istore 9, 2) := by decide +kernel
theorem dX4_plan_224 : decode cX4_plan 224 = .ok (.iconst 0, 1) := by decide +kernel
theorem dX4_plan_225 : decode cX4_plan 225 = .ok (.istore 10, 2) := by decide +kernel
theorem dX4_plan_227 : decode cX4_plan 227 = .ok (.iload 10, 2) := by decide +kernel
theorem dX4_plan_229 : decode cX4_plan 229 = .ok (.iload 5, 2) := by decide +kernel
theorem dX4_plan_231 : decode cX4_plan 231 = .ok (.if_icmp .ge 28, 3) := by decide +kernel
theorem dX4_plan_234 : decode cX4_plan 234 = .ok (.iload 9, 2) := by decide +kernel
theorem dX4_plan_236 : decode cX4_plan 236 = .ok (.aload_n 0, 1) := by decide +kernel
theorem dX4_plan_237 : decode cX4_plan 237 = .ok (.iload 6, 2) := by decide +kernel
theorem dX4_plan_239 : decode cX4_plan 239 = .ok (.iload 7, 2) := by decide +kernel
theorem dX4_plan_241 : decode cX4_plan 241 = .ok (.iload 10, 2) := by decide +kernel
theorem dX4_plan_243 : decode cX4_plan 243 = .ok (.iload 8, 2) := by decide +kernel
theorem dX4_plan_245 : decode cX4_plan 245 = .ok (.invokevirtual 496, 3) := by decide +kernel
theorem dX4_plan_248 : decode cX4_plan 248 = .ok (.invokestatic 235, 3) := by decide +kernel
theorem dX4_plan_251 : decode cX4_plan 251 = .ok (.istore 9, 2) := by decide +kernel
theorem dX4_plan_253 : decode cX4_plan 253 = .ok (.iinc 10 1, 3) := by decide +kernel
theorem dX4_plan_256 : decode cX4_plan 256 = .ok (.goto (-29), 3) := by decide +kernel
theorem dX4_plan_259 : decode cX4_plan 259 = .ok (.aload_n 0, 1) := by decide +kernel
theorem dX4_plan_260 : decode cX4_plan 260 = .ok (.getfield 192, 3) := by decide +kernel
theorem dX4_plan_263 : decode cX4_plan 263 = .ok (.iload 6, 2) := by decide +kernel
theorem dX4_plan_265 : decode cX4_plan 265 = .ok (.iload 7, 2) := by decide +kernel
theorem dX4_plan_267 : decode cX4_plan 267 = .ok (.iload 8, 2) := by decide +kernel
theorem dX4_plan_269 : decode cX4_plan 269 = .ok (.invokestatic 490, 3) := by decide +kernel
theorem dX4_plan_272 : decode cX4_plan 272 = .ok (.iload 9, 2) := by decide +kernel
theorem dX4_plan_274 : decode cX4_plan 274 = .ok (.iastore, 1) := by decide +kernel
theorem dX4_plan_275 : decode cX4_plan 275 = .ok (.iinc 8 1, 3) := by decide +kernel
theorem dX4_plan_278 : decode cX4_plan 278 = .ok (.goto (-65), 3) := by decide +kernel
theorem dX4_plan_281 : decode cX4_plan 281 = .ok (.iinc 7 1, 3) := by decide +kernel
theorem dX4_plan_284 : decode cX4_plan 284 = .ok (.goto (-81), 3) := by decide +kernel
theorem dX4_plan_287 : decode cX4_plan 287 = .ok (.iinc 6 (-1), 3) := by decide +kernel
theorem dX4_plan_290 : decode cX4_plan 290 = .ok (.goto (-95), 3) := by decide +kernel
theorem dX4_plan_293 : decode cX4_plan 293 = .ok (.iconst 0, 1) := by decide +kernel
theorem dX4_plan_294 : decode cX4_plan 294 = .ok (.istore 6, 2) := by decide +kernel
theorem dX4_plan_296 : decode cX4_plan 296 = .ok (.iconst 0, 1) := by decide +kernel
theorem dX4_plan_297 : decode cX4_plan 297 = .ok (.istore 7, 2) := by decide +kernel
theorem dX4_plan_299 : decode cX4_plan 299 = .ok (.iload 7, 2) := by decide +kernel
theorem dX4_plan_301 : decode cX4_plan 301 = .ok (.aload_n 0, 1) := by decide +kernel
theorem dX4_plan_302 : decode cX4_plan 302 = .ok (.getfield 215, 3) := by decide +kernel
theorem dX4_plan_305 : decode cX4_plan 305 = .ok (.if_icmp .ge 32, 3) := by decide +kernel
theorem dX4_plan_308 : decode cX4_plan 308 = .ok (.iload 6, 2) := by decide +kernel
theorem dX4_plan_310 : decode cX4_plan 310 = .ok (.aload_n 0, 1) := by decide +kernel
theorem dX4_plan_311 : decode cX4_plan 311 = .ok (.getfield 43, 3) := by decide +kernel
theorem dX4_plan_314 : decode cX4_plan 314 = .ok (.iload 7, 2) := by decide +kernel
theorem dX4_plan_316 : decode cX4_plan 316 = .ok (.baload, 1) := by decide +kernel
theorem dX4_plan_317 : decode cX4_plan 317 = .ok (.ifCond .eq 10, 3) := by decide +kernel
theorem dX4_plan_320 : decode cX4_plan 320 = .ok (.iconst 1, 1) := by decide +kernel
theorem dX4_plan_321 : decode cX4_plan 321 = .ok (.iload 7, 2) := by decide +kernel
theorem dX4_plan_323 : decode cX4_plan 323 = .ok (.ishl, 1) := by decide +kernel
theorem dX4_plan_324 : decode cX4_plan 324 = .ok (.goto 4, 3) := by decide +kernel
theorem dX4_plan_327 : decode cX4_plan 327 = .ok (.iconst 0, 1) := by decide +kernel
theorem dX4_plan_328 : decode cX4_plan 328 = .ok (.ior, 1) := by decide +kernel
theorem dX4_plan_329 : decode cX4_plan 329 = .ok (.istore 6, 2) := by decide +kernel
theorem dX4_plan_331 : decode cX4_plan 331 = .ok (.iinc 7 1, 3) := by decide +kernel
theorem dX4_plan_334 : decode cX4_plan 334 = .ok (.goto (-35), 3) := by decide +kernel
theorem dX4_plan_337 : decode cX4_plan 337 = .ok (.aload_n 0, 1) := by decide +kernel
theorem dX4_plan_338 : decode cX4_plan 338 = .ok (.getfield 192, 3) := by decide +kernel
theorem dX4_plan_341 : decode cX4_plan 341 = .ok (.iconst 0, 1) := by decide +kernel
theorem dX4_plan_342 : decode cX4_plan 342 = .ok (.iload 6, 2) := by decide +kernel
theorem dX4_plan_344 : decode cX4_plan 344 = .ok (.iload_n 2, 1) := by decide +kernel
theorem dX4_plan_345 : decode cX4_plan 345 = .ok (.invokestatic 490, 3) := by decide +kernel
theorem dX4_plan_348 : decode cX4_plan 348 = .ok (.iaload, 1) := by decide +kernel
theorem dX4_plan_349 : decode cX4_plan 349 = .ok (.ldc 221, 2) := by decide +kernel
theorem dX4_plan_351 : decode cX4_plan 351 = .ok (.if_icmp .lt 5, 3) := by decide +kernel
theorem dX4_plan_354 : decode cX4_plan 354 = .ok (.iconst (-1), 1) := by decide +kernel
theorem dX4_plan_355 : decode cX4_plan 355 = .ok (.ireturn, 1) := by decide +kernel
theorem dX4_plan_356 : decode cX4_plan 356 = .ok (.iload_n 3, 1) := by decide +kernel
theorem dX4_plan_357 : decode cX4_plan 357 = .ok (.ifCond .ne 16, 3) := by decide +kernel
theorem dX4_plan_360 : decode cX4_plan 360 = .ok (.aload_n 0, 1) := by decide +kernel
theorem dX4_plan_361 : decode cX4_plan 361 = .ok (.getfield 192, 3) := by decide +kernel
theorem dX4_plan_364 : decode cX4_plan 364 = .ok (.iconst 0, 1) := by decide +kernel
theorem dX4_plan_365 : decode cX4_plan 365 = .ok (.iload 6, 2) := by decide +kernel
theorem dX4_plan_367 : decode cX4_plan 367 = .ok (.iload_n 2, 1) := by decide +kernel
theorem dX4_plan_368 : decode cX4_plan 368 = .ok (.invokestatic 490, 3) := by decide +kernel
theorem dX4_plan_371 : decode cX4_plan 371 = .ok (.iaload, 1) := by decide +kernel
theorem dX4_plan_372 : decode cX4_plan 372 = .ok (.ireturn, 1) := by decide +kernel
theorem dX4_plan_373 : decode cX4_plan 373 = .ok (.iload_n 2, 1) := by decide +kernel
theorem dX4_plan_374 : decode cX4_plan 374 = .ok (.istore 7, 2) := by decide +kernel
theorem dX4_plan_376 : decode cX4_plan 376 = .ok (.iconst 0, 1) := by decide +kernel
theorem dX4_plan_377 : decode cX4_plan 377 = .ok (.istore 8, 2) := by decide +kernel
theorem dX4_plan_379 : decode cX4_plan 379 = .ok (.iconst 0, 1) := by decide +kernel
theorem dX4_plan_380 : decode cX4_plan 380 = .ok (.istore 9, 2) := by decide +kernel
theorem dX4_plan_382 : decode cX4_plan 382 = .ok (.iload 9, 2) := by decide +kernel
theorem dX4_plan_384 : decode cX4_plan 384 = .ok (.iload_n 3, 1) := by decide +kernel
theorem dX4_plan_385 : decode cX4_plan 385 = .ok (.bipush 10, 2) := by decide +kernel
theorem dX4_plan_387 : decode cX4_plan 387 = .ok (.isub, 1) := by decide +kernel
theorem dX4_plan_388 : decode cX4_plan 388 = .ok (.if_icmp .gt 73, 3) := by decide +kernel
theorem dX4_plan_391 : decode cX4_plan 391 = .ok (.iconst 0, 1) := by decide +kernel
theorem dX4_plan_392 : decode cX4_plan 392 = .ok (.istore 8, 2) := by decide +kernel
theorem dX4_plan_394 : decode cX4_plan 394 = .ok (.aload_n 0, 1) := by decide +kernel
theorem dX4_plan_395 : decode cX4_plan 395 = .ok (.iload 9, 2) := by decide +kernel
theorem dX4_plan_397 : decode cX4_plan 397 = .ok (.iload 6, 2) := by decide +kernel
theorem dX4_plan_399 : decode cX4_plan 399 = .ok (.iload 8, 2) := by decide +kernel
theorem dX4_plan_401 : decode cX4_plan 401 = .ok (.iload 7, 2) := by decide +kernel
theorem dX4_plan_403 : decode cX4_plan 403 = .ok (.invokevirtual 496, 3) := by decide +kernel
theorem dX4_plan_406 : decode cX4_plan 406 = .ok (.aload_n 0, 1) := by decide +kernel
theorem dX4_plan_407 : decode cX4_plan 407 = .ok (.getfield 192, 3) := by decide +kernel
theorem dX4_plan_410 : decode cX4_plan 410 = .ok (.iload 9, 2) := by decide +kernel
theorem dX4_plan_412 : decode cX4_plan 412 = .ok (.iload 6, 2) := by decide +kernel
theorem dX4_plan_414 : decode cX4_plan 414 = .ok (.iload 7, 2) := by decide +kernel
theorem dX4_plan_416 : decode cX4_plan 416 = .ok (.invokestatic 490, 3) := by decide +kernel
theorem dX4_plan_419 : decode cX4_plan 419 = .ok (.iaload, 1) := by decide +kernel
theorem dX4_plan_420 : decode cX4_plan 420 = .ok (.if_icmp .eq 9, 3) := by decide +kernel
theorem dX4_plan_423 : decode cX4_plan 423 = .ok (.iinc 8 1, 3) := by decide +kernel
theorem dX4_plan_426 : decode cX4_plan 426 = .ok (.goto (-32), 3) := by decide +kernel
theorem dX4_plan_429 : decode cX4_plan 429 = .ok (.iload 8, 2) := by decide +kernel
theorem dX4_plan_431 : decode cX4_plan 431 = .ok (.istore 6, 2) := by decide +kernel
theorem dX4_plan_433 : decode cX4_plan 433 = .ok (.iconst 0, 1) := by decide +kernel
theorem dX4_plan_434 : decode cX4_plan 434 = .ok (.iload 7, 2) := by decide +kernel
theorem dX4_plan_436 : decode cX4_plan 436 = .ok (.aload_n 0, 1) := by decide +kernel
theorem dX4_plan_437 : decode cX4_plan 437 = .ok (.getfield 195, 3) := by decide +kernel
theorem dX4_plan_440 : decode cX4_plan 440 = .ok (.bipush 16, 2) := by decide +kernel
theorem dX4_plan_442 : decode cX4_plan 442 = .ok (.iload 9, 2) := by decide +kernel
theorem dX4_plan_444 : decode cX4_plan 444 = .ok (.imul, 1) := by decide +kernel
theorem dX4_plan_445 : decode cX4_plan 445 = .ok (.iload 8, 2) := by decide +kernel
theorem dX4_plan_447 : decode cX4_plan 447 = .ok (.iadd, 1) := by decide +kernel
theorem dX4_plan_448 : decode cX4_plan 448 = .ok (.iaload, 1) := by decide +kernel
theorem dX4_plan_449 : decode cX4_plan 449 = .ok (.isub, 1) := by decide +kernel
theorem dX4_plan_450 : decode cX4_plan 450 = .ok (.invokestatic 263, 3) := by decide +kernel
theorem dX4_plan_453 : decode cX4_plan 453 = .ok (.istore 7, 2) := by decide +kernel
theorem dX4_plan_455 : decode cX4_plan 455 = .ok (.iinc 9 1, 3) := by decide +kernel
theorem dX4_plan_458 : decode cX4_plan 458 = .ok (.goto (-76), 3) := by decide +kernel
theorem dX4_plan_461 : decode cX4_plan 461 = .ok (.iload 8, 2) := by decide +kernel
theorem dX4_plan_463 : decode cX4_plan 463 = .ok (.ireturn, 1) := by decide +kernel
theorem ycX4_plan : yX4_plan.cls ≠ "java/lang/invoke/MethodHandle" ∧ yX4_plan.cls ≠ "java/lang/invoke/VarHandle" ∧ (parseMethodDescriptor yX4_plan.desc).map (fun d => d.parameters.length) = some 3 := by decide +kernel
theorem yvX4_plan : yX4_plan.cls = RR 4 ∧ yX4_plan.cls ≠ "java/lang/invoke/MethodHandle" ∧ yX4_plan.cls ≠ "java/lang/invoke/VarHandle" ∧ (parseMethodDescriptor yX4_plan.desc).map (fun d => d.parameters.length) = some 3 := ⟨rfl, ycX4_plan⟩
def lp_X4_plan_394 (n : Nat) (p0 : Nat) (p3 : Int32) (w16 : Int32) (w17 : Int32) (w19 : Int32) (j429 : Int32 → Act Int32) (q : Nat) : Int32 → Act Int32 := match q with
  | 0 => fun _ => fail
  | q + 1 => fun w20 =>
    bnd (gd 4 p0 (nt (f_X4_coins n p0 w19 w16 w20 w17))) fun v24 =>
    bnd (getR 4 77 p0) fun v25 =>
    bnd (nt (f_X4_state w19 w16 w17)) fun v26 =>
    bnd (ldI 0 v25 v26) fun v27 =>
    if v24 = v27 then
      j429 w20
    else
      (lp_X4_plan_394 n p0 p3 w16 w17 w19 j429 q) (w20 + 1)
def lp_X4_plan_382 (n : Nat) (p0 : Nat) (p3 : Int32) (q : Nat) : Int32 → Int32 → Int32 → Int32 → Act Int32 := match q with
  | 0 => fun _ _ _ _ => fail
  | q + 1 => fun w16 w17 w18 w19 =>
    if (p3 - 10) < w19 then
      pur w18
    else
      jn (fun (v21 : Int32) =>
        bnd (getR 4 78 p0) fun v22 =>
        bnd (ldI 0 v22 ((16 * w19) + v21)) fun v23 =>
        (lp_X4_plan_382 n p0 p3 q) v21 (mx (0 : Int32) (w17 - v23)) v21 (w19 + 1)) fun j429 =>
      lp_X4_plan_394 n p0 p3 w16 w17 w19 j429 n 0
def lp_X4_plan_299 (p0 : Nat) (p2 : Int32) (p3 : Int32) (j337 : Int32 → Act Int32) (q : Nat) : Int32 → Int32 → Act Int32 := match q with
  | 0 => fun _ _ => fail
  | q + 1 => fun w10 w11 =>
    bnd (getI 4 1 p0) fun v31 =>
    if v31 ≤ w11 then
      j337 w10
    else
      bnd (getR 4 15 p0) fun v32 =>
      bnd (ldI 3 v32 w11) fun v33 =>
      jn (fun (v34 : Int32) =>
        (lp_X4_plan_299 p0 p2 p3 j337 q) (w10 ||| v34) (w11 + 1)) fun j328 =>
      if v33 = 0 then
        j328 0
      else
        j328 (1 <<< (w11 &&& 31))
def lp_X4_plan_227 (n : Nat) (p0 : Nat) (p2 : Int32) (p3 : Int32) (v6 : Int32) (w9 : Int32) (w35 : Int32) (w36 : Int32) (j259 : Int32 → Act Int32) (q : Nat) : Int32 → Int32 → Act Int32 := match q with
  | 0 => fun _ _ => fail
  | q + 1 => fun w37 w38 =>
    if (1 <<< (v6 &&& 31)) ≤ w38 then
      j259 w37
    else
      bnd (gd 4 p0 (nt (f_X4_coins n p0 w9 w35 w38 w36))) fun v42 =>
      (lp_X4_plan_227 n p0 p2 p3 v6 w9 w35 w36 j259 q) (mn w37 v42) (w38 + 1)
def lp_X4_plan_213 (n : Nat) (p0 : Nat) (p2 : Int32) (p3 : Int32) (v6 : Int32) (w9 : Int32) (w35 : Int32) (j281 : Unit → Act Int32) (q : Nat) : Int32 → Act Int32 := match q with
  | 0 => fun _ => fail
  | q + 1 => fun w36 =>
    if 61 ≤ w36 then
      j281 ()
    else
      jn (fun (v39 : Int32) =>
        bnd (getR 4 77 p0) fun v40 =>
        bnd (nt (f_X4_state w9 w35 w36)) fun v41 =>
        bnd (stI 0 v40 v41 v39) fun _ =>
        (lp_X4_plan_213 n p0 p2 p3 v6 w9 w35 j281 q) (w36 + 1)) fun j259 =>
      lp_X4_plan_227 n p0 p2 p3 v6 w9 w35 w36 j259 n 1000000 0
def lp_X4_plan_203 (n : Nat) (p0 : Nat) (p2 : Int32) (p3 : Int32) (v6 : Int32) (w9 : Int32) (j287 : Unit → Act Int32) (q : Nat) : Int32 → Act Int32 := match q with
  | 0 => fun _ => fail
  | q + 1 => fun w35 =>
    if (1 <<< (v6 &&& 31)) ≤ w35 then
      j287 ()
    else
      jn (fun (_ : Unit) =>
        (lp_X4_plan_203 n p0 p2 p3 v6 w9 j287 q) (w35 + 1)) fun j281 =>
      lp_X4_plan_213 n p0 p2 p3 v6 w9 w35 j281 n 0
def lp_X4_plan_195 (n : Nat) (p0 : Nat) (p2 : Int32) (p3 : Int32) (v6 : Int32) (j293 : Unit → Act Int32) (q : Nat) : Int32 → Act Int32 := match q with
  | 0 => fun _ => fail
  | q + 1 => fun w9 =>
    if w9 < 0 then
      j293 ()
    else
      jn (fun (_ : Unit) =>
        (lp_X4_plan_195 n p0 p2 p3 v6 j293 q) (w9 + (-1))) fun j287 =>
      lp_X4_plan_203 n p0 p2 p3 v6 w9 j287 n 0
def lp_X4_plan_147 (p0 : Nat) (p1 : Int32) (p2 : Int32) (p3 : Int32) (v6 : Int32) (w8 : Int32) (j184 : Unit → Act Int32) (q : Nat) : Int32 → Act Int32 := match q with
  | 0 => fun _ => fail
  | q + 1 => fun w43 =>
    if 61 ≤ w43 then
      j184 ()
    else
      bnd (getR 4 77 p0) fun v44 =>
      bnd (nt (f_X4_state p1 w8 w43)) fun v45 =>
      jn (fun (v46 : Int32) =>
        bnd (stI 0 v44 v45 v46) fun _ =>
        (lp_X4_plan_147 p0 p1 p2 p3 v6 w8 j184 q) (w43 + 1)) fun j177 =>
      if ¬ w43 = 0 then
        j177 1000000
      else
        j177 0
def lp_X4_plan_137 (n : Nat) (p0 : Nat) (p1 : Int32) (p2 : Int32) (p3 : Int32) (v6 : Int32) (j190 : Unit → Act Int32) (q : Nat) : Int32 → Act Int32 := match q with
  | 0 => fun _ => fail
  | q + 1 => fun w8 =>
    if (1 <<< (v6 &&& 31)) ≤ w8 then
      j190 ()
    else
      jn (fun (_ : Unit) =>
        (lp_X4_plan_137 n p0 p1 p2 p3 v6 j190 q) (w8 + 1)) fun j184 =>
      lp_X4_plan_147 p0 p1 p2 p3 v6 w8 j184 n 0
def lp_X4_plan_87 (n : Nat) (p0 : Nat) (p1 : Int32) (p2 : Int32) (p3 : Int32) (v5 : Int32) (v6 : Int32) (w7 : Int32) (j128 : Unit → Act Int32) (q : Nat) : Int32 → Act Int32 := match q with
  | 0 => fun _ => fail
  | q + 1 => fun w47 =>
    if (1 <<< (v6 &&& 31)) ≤ w47 then
      j128 ()
    else
      bnd (getR 4 78 p0) fun v48 =>
      bnd (getI 4 0 p0) fun v49 =>
      bnd (gd 4 p0 (nt (f_X4_makes n p0 w47 (v49 + w7) v5))) fun v50 =>
      bnd (stI 0 v48 ((16 * w7) + w47) v50) fun _ =>
      (lp_X4_plan_87 n p0 p1 p2 p3 v5 v6 w7 j128 q) (w47 + 1)
def lp_X4_plan_78 (n : Nat) (p0 : Nat) (p1 : Int32) (p2 : Int32) (p3 : Int32) (v5 : Int32) (v6 : Int32) (j134 : Unit → Act Int32) (q : Nat) : Int32 → Act Int32 := match q with
  | 0 => fun _ => fail
  | q + 1 => fun w7 =>
    if p1 ≤ w7 then
      j134 ()
    else
      jn (fun (_ : Unit) =>
        (lp_X4_plan_78 n p0 p1 p2 p3 v5 v6 j134 q) (w7 + 1)) fun j128 =>
      lp_X4_plan_87 n p0 p1 p2 p3 v5 v6 w7 j128 n 0
def f_X4_plan (n : Nat) (p0 : Nat) (p1 : Int32) (p2 : Int32) (p3 : Int32) : Act Int32 :=
  bnd (nt (f_X4_isIn p1 (1 : Int32) (8 : Int32))) fun v1 =>
  jn (fun (_ : Unit) =>
    pur (-1)) fun j49 =>
  if v1 = 0 then
    j49 ()
  else
    bnd (getI 4 0 p0) fun v2 =>
    if (4999 - p1) < v2 then
      j49 ()
    else
      bnd (nt (f_X4_isIn p2 (0 : Int32) (60 : Int32))) fun v3 =>
      if v3 = 0 then
        j49 ()
      else
        jn (fun (_ : Unit) =>
          bnd (getI 4 0 p0) fun v4 =>
          bnd (gd 4 p0 (nt (f_X4_inForce n p0 v4))) fun v5 =>
          bnd (gd 4 p0 (nt (f_X4_orders n p0 v5))) fun _ =>
          bnd (getI 4 1 p0) fun v6 =>
          jn (fun (_ : Unit) =>
            jn (fun (_ : Unit) =>
              jn (fun (_ : Unit) =>
                jn (fun (v12 : Int32) =>
                  bnd (getR 4 77 p0) fun v13 =>
                  bnd (nt (f_X4_state (0 : Int32) v12 p2)) fun v14 =>
                  bnd (ldI 0 v13 v14) fun v15 =>
                  if v15 < 1000000 then
                    if ¬ p3 = 0 then
                      lp_X4_plan_382 n p0 p3 n v12 p2 0 0
                    else
                      bnd (getR 4 77 p0) fun v28 =>
                      bnd (nt (f_X4_state (0 : Int32) v12 p2)) fun v29 =>
                      bnd (ldI 0 v28 v29) fun v30 =>
                      pur v30
                  else
                    pur (-1)) fun j337 =>
                lp_X4_plan_299 p0 p2 p3 j337 n 0 0) fun j293 =>
              lp_X4_plan_195 n p0 p2 p3 v6 j293 n (p1 - 1)) fun j190 =>
            lp_X4_plan_137 n p0 p1 p2 p3 v6 j190 n 0) fun j134 =>
          lp_X4_plan_78 n p0 p1 p2 p3 v5 v6 j134 n 0) fun j51 =>
        if p3 = 0 then
          j51 ()
        else
          bnd (nt (f_X4_isIn p3 (10 : Int32) (9 + p1))) fun v51 =>
          if ¬ v51 = 0 then
            j51 ()
          else
            j49 ()
set_option maxHeartbeats 4000000 in
theorem s_lp_X4_plan_394 {X : Cx} (hX : Ok X Pic cX4_plan RX4 11 (some FieldType.int) 4 94) (hnh : Noh X) (n : Nat) (p0 : Nat) (p3 : Int32) (w16 : Int32) (w17 : Int32) (w19 : Int32) (j429 : Int32 → Act Int32) (hj429 : ∀ (v21 : Int32), Sim X cvI 429 [(0, rv p0), (3, .int p3), (7, .int w17), (8, .int v21), (9, .int w19)] [] (j429 v21)) (q : Nat) : ∀ (w20 : Int32), Sim X cvI 394 [(0, rv p0), (3, .int p3), (6, .int w16), (7, .int w17), (8, .int w20), (9, .int w19)] [] (lp_X4_plan_394 n p0 p3 w16 w17 w19 j429 q w20) := by
  induction q with
  | zero => intro w20; exact s_fail
  | succ q ih394 =>
    intro w20
    rw [lp_X4_plan_394]
    refine s_aload_n hX dX4_plan_394 rfl 0 rfl ?_
    refine s_iload hX dX4_plan_395 5 rfl ?_
    refine s_iload hX dX4_plan_397 2 rfl ?_
    refine s_iload hX dX4_plan_399 4 rfl ?_
    refine s_iload hX dX4_plan_401 3 rfl ?_
    refine s_callV_I (ci := 4) (n := 4) (As := [.int w19, .int w16, .int w20, .int w17]) (st := []) hX (pcK 5) (by decide) (ct_X4_coins X.l n p0 w19 w16 w20 w17) q2094 q2096 qs82 q91 q2097 yvX4_coins (by decide) rfl (by first | decide | simp [rv_cat, cat_i, cat_l]) dX4_plan_403 (fun v24 => ?_)
    refine s_aload_n hX dX4_plan_406 rfl 0 rfl ?_
    refine s_getR (ci := 4) (j := 77) (ref := "WindGasModel") hX (pcG 4) in_X4 (Or.inl q1615) (by decide) (by decide) (by decide) rfl dX4_plan_407 (fun _ h9 => h9) (fun v25 => ?_)
    refine s_iload hX dX4_plan_410 5 rfl ?_
    refine s_iload hX dX4_plan_412 2 rfl ?_
    refine s_iload hX dX4_plan_414 3 rfl ?_
    refine s_callS_I (n := 3) (As := [.int w19, .int w16, .int w17]) (st := [rv v25, .int v24]) hX (ct_X4_state X.l w19 w16 w17) q2091 q2092 q91 q2093 ycX4_state (by decide) rfl (by first | decide | simp [rv_cat, cat_i, cat_l]) dX4_plan_416 (fun v26 => ?_)
    refine s_iald hX (pcA 0) dX4_plan_419 (fun v27 => ?_)
    refine s_icmp_eq (tgt := 429) hX dX4_plan_420 (by decide) ?_ ?_
    · exact s_sub [0, 1, 3, 4, 5] rfl (hj429 w20)
    · refine s_iinc (k := 4) (v := (w20 + 1)) (L2 := [(8, .int (w20 + 1)), (0, rv p0), (3, .int p3), (6, .int w16), (7, .int w17), (9, .int w19)]) hX dX4_plan_423 rfl rfl (by decide) rfl ?_
      refine s_goto (tgt := 394) hX dX4_plan_426 (by decide) ?_
      exact s_sub [1, 2, 3, 4, 0, 5] rfl (ih394 (w20 + 1))
set_option maxHeartbeats 4000000 in
theorem s_lp_X4_plan_382 {X : Cx} (hX : Ok X Pic cX4_plan RX4 11 (some FieldType.int) 4 94) (hnh : Noh X) (n : Nat) (p0 : Nat) (p3 : Int32) (q : Nat) : ∀ (w16 : Int32) (w17 : Int32) (w18 : Int32) (w19 : Int32), Sim X cvI 382 [(0, rv p0), (3, .int p3), (6, .int w16), (7, .int w17), (8, .int w18), (9, .int w19)] [] (lp_X4_plan_382 n p0 p3 q w16 w17 w18 w19) := by
  induction q with
  | zero => intro w16 w17 w18 w19; exact s_fail
  | succ q ih382 =>
    intro w16 w17 w18 w19
    rw [lp_X4_plan_382]
    refine s_iload hX dX4_plan_382 5 rfl ?_
    refine s_iload_n hX dX4_plan_384 rfl 1 rfl ?_
    refine s_bipush (v := 10) hX dX4_plan_385 (by decide) ?_
    refine s_isub hX dX4_plan_387 ?_
    refine s_icmp_gt (tgt := 461) hX dX4_plan_388 (by decide) ?_ ?_
    · refine s_iload hX dX4_plan_461 4 rfl ?_
      exact s_iret hX dX4_plan_463
    · refine s_iconst (v := 0) hX dX4_plan_391 rfl ?_
      refine s_istore (i := 8) (L2 := [(8, .int 0), (0, rv p0), (3, .int p3), (6, .int w16), (7, .int w17), (9, .int w19)]) hX dX4_plan_392 (by decide) rfl ?_
      refine s_jn (P := fun j => ∀ (v21 : Int32), Sim X cvI 429 [(0, rv p0), (3, .int p3), (7, .int w17), (8, .int v21), (9, .int w19)] [] (j v21)) ?_ (fun j429 hj429 => ?_)
      · intro v21
        refine s_iload hX dX4_plan_429 3 rfl ?_
        refine s_istore (i := 6) (L2 := [(6, .int v21), (0, rv p0), (3, .int p3), (7, .int w17), (8, .int v21), (9, .int w19)]) hX dX4_plan_431 (by decide) rfl ?_
        refine s_iconst (v := 0) hX dX4_plan_433 rfl ?_
        refine s_iload hX dX4_plan_434 3 rfl ?_
        refine s_aload_n hX dX4_plan_436 rfl 1 rfl ?_
        refine s_getR (ci := 4) (j := 78) (ref := "WindGasModel") hX (pcG 4) in_X4 (Or.inl q1616) (by decide) (by decide) (by decide) rfl dX4_plan_437 (fun _ h9 => h9) (fun v22 => ?_)
        refine s_bipush (v := 16) hX dX4_plan_440 (by decide) ?_
        refine s_iload hX dX4_plan_442 5 rfl ?_
        refine s_imul hX dX4_plan_444 ?_
        refine s_iload hX dX4_plan_445 4 rfl ?_
        refine s_iadd hX dX4_plan_447 ?_
        refine s_iald hX (pcA 0) dX4_plan_448 (fun v23 => ?_)
        refine s_isub hX dX4_plan_449 ?_
        refine s_mmax hX q1868 q459 q95 q460 rfl (by omega) (by first | decide | (simp [rv_cat, cat_i, cat_l]; try omega)) dX4_plan_450 ?_
        refine s_istore (i := 7) (L2 := [(7, .int (mx (0 : Int32) (w17 - v23))), (6, .int v21), (0, rv p0), (3, .int p3), (8, .int v21), (9, .int w19)]) hX dX4_plan_453 (by decide) rfl ?_
        refine s_iinc (k := 5) (v := (w19 + 1)) (L2 := [(9, .int (w19 + 1)), (7, .int (mx (0 : Int32) (w17 - v23))), (6, .int v21), (0, rv p0), (3, .int p3), (8, .int v21)]) hX dX4_plan_455 rfl rfl (by decide) rfl ?_
        refine s_goto (tgt := 382) hX dX4_plan_458 (by decide) ?_
        exact s_sub [3, 4, 2, 1, 5, 0] rfl (ih382 v21 (mx (0 : Int32) (w17 - v23)) v21 (w19 + 1))
      · exact s_sub [1, 2, 3, 4, 0, 5] rfl (s_lp_X4_plan_394 hX hnh n p0 p3 w16 w17 w19 j429 hj429 n 0)
set_option maxHeartbeats 4000000 in
theorem s_lp_X4_plan_299 {X : Cx} (hX : Ok X Pic cX4_plan RX4 11 (some FieldType.int) 4 94) (hnh : Noh X) (p0 : Nat) (p2 : Int32) (p3 : Int32) (j337 : Int32 → Act Int32) (hj337 : ∀ (v12 : Int32), Sim X cvI 337 [(0, rv p0), (2, .int p2), (3, .int p3), (6, .int v12)] [] (j337 v12)) (q : Nat) : ∀ (w10 : Int32) (w11 : Int32), Sim X cvI 299 [(0, rv p0), (2, .int p2), (3, .int p3), (6, .int w10), (7, .int w11)] [] (lp_X4_plan_299 p0 p2 p3 j337 q w10 w11) := by
  induction q with
  | zero => intro w10 w11; exact s_fail
  | succ q ih299 =>
    intro w10 w11
    rw [lp_X4_plan_299]
    refine s_iload hX dX4_plan_299 4 rfl ?_
    refine s_aload_n hX dX4_plan_301 rfl 0 rfl ?_
    refine s_getI (ci := 4) (j := 1) (ref := "WindGasModel") hX (pcG 4) in_X4 (Or.inl q1539) (by decide) (by decide) (by decide) rfl dX4_plan_302 (fun _ h9 => h9) (fun v31 => ?_)
    refine s_icmp_ge (tgt := 337) hX dX4_plan_305 (by decide) ?_ ?_
    · exact s_sub [0, 1, 2, 3] rfl (hj337 w10)
    · refine s_iload hX dX4_plan_308 3 rfl ?_
      refine s_aload_n hX dX4_plan_310 rfl 0 rfl ?_
      refine s_getR (ci := 4) (j := 15) (ref := "WindGasModel") hX (pcG 4) in_X4 (Or.inl q1553) (by decide) (by decide) (by decide) rfl dX4_plan_311 (fun _ h9 => h9) (fun v32 => ?_)
      refine s_iload hX dX4_plan_314 4 rfl ?_
      refine s_zald hX (pcA 3) dX4_plan_316 (fun v33 => ?_)
      refine s_jn (P := fun j => ∀ (v34 : Int32), Sim X cvI 328 [(0, rv p0), (2, .int p2), (3, .int p3), (7, .int w11)] [.int v34, .int w10] (j v34)) ?_ (fun j328 hj328 => ?_)
      · intro v34
        refine s_ior hX dX4_plan_328 ?_
        refine s_istore (i := 6) (L2 := [(6, .int (w10 ||| v34)), (0, rv p0), (2, .int p2), (3, .int p3), (7, .int w11)]) hX dX4_plan_329 (by decide) rfl ?_
        refine s_iinc (k := 4) (v := (w11 + 1)) (L2 := [(7, .int (w11 + 1)), (6, .int (w10 ||| v34)), (0, rv p0), (2, .int p2), (3, .int p3)]) hX dX4_plan_331 rfl rfl (by decide) rfl ?_
        refine s_goto (tgt := 299) hX dX4_plan_334 (by decide) ?_
        exact s_sub [2, 3, 4, 1, 0] rfl (ih299 (w10 ||| v34) (w11 + 1))
      · refine s_if_eq (tgt := 327) hX dX4_plan_317 (by decide) ?_ ?_
        · refine s_iconst (v := 0) hX dX4_plan_327 rfl ?_
          exact s_sub [0, 1, 2, 4] rfl (hj328 0)
        · refine s_iconst (v := 1) hX dX4_plan_320 rfl ?_
          refine s_iload hX dX4_plan_321 4 rfl ?_
          refine s_ishl hX dX4_plan_323 ?_
          refine s_goto (tgt := 328) hX dX4_plan_324 (by decide) ?_
          exact s_sub [0, 1, 2, 4] rfl (hj328 (1 <<< (w11 &&& 31)))
set_option maxHeartbeats 4000000 in
theorem s_lp_X4_plan_227 {X : Cx} (hX : Ok X Pic cX4_plan RX4 11 (some FieldType.int) 4 94) (hnh : Noh X) (n : Nat) (p0 : Nat) (p2 : Int32) (p3 : Int32) (v6 : Int32) (w9 : Int32) (w35 : Int32) (w36 : Int32) (j259 : Int32 → Act Int32) (hj259 : ∀ (v39 : Int32), Sim X cvI 259 [(0, rv p0), (2, .int p2), (3, .int p3), (5, .int (1 <<< (v6 &&& 31))), (6, .int w9), (7, .int w35), (8, .int w36), (9, .int v39)] [] (j259 v39)) (q : Nat) : ∀ (w37 : Int32) (w38 : Int32), Sim X cvI 227 [(0, rv p0), (2, .int p2), (3, .int p3), (5, .int (1 <<< (v6 &&& 31))), (6, .int w9), (7, .int w35), (8, .int w36), (9, .int w37), (10, .int w38)] [] (lp_X4_plan_227 n p0 p2 p3 v6 w9 w35 w36 j259 q w37 w38) := by
  induction q with
  | zero => intro w37 w38; exact s_fail
  | succ q ih227 =>
    intro w37 w38
    rw [lp_X4_plan_227]
    refine s_iload hX dX4_plan_227 8 rfl ?_
    refine s_iload hX dX4_plan_229 3 rfl ?_
    refine s_icmp_ge (tgt := 259) hX dX4_plan_231 (by decide) ?_ ?_
    · exact s_sub [0, 1, 2, 3, 4, 5, 6, 7] rfl (hj259 w37)
    · refine s_iload hX dX4_plan_234 7 rfl ?_
      refine s_aload_n hX dX4_plan_236 rfl 0 rfl ?_
      refine s_iload hX dX4_plan_237 4 rfl ?_
      refine s_iload hX dX4_plan_239 5 rfl ?_
      refine s_iload hX dX4_plan_241 8 rfl ?_
      refine s_iload hX dX4_plan_243 6 rfl ?_
      refine s_callV_I (ci := 4) (n := 4) (As := [.int w9, .int w35, .int w38, .int w36]) (st := [.int w37]) hX (pcK 5) (by decide) (ct_X4_coins X.l n p0 w9 w35 w38 w36) q2094 q2096 qs82 q91 q2097 yvX4_coins (by decide) rfl (by first | decide | simp [rv_cat, cat_i, cat_l]) dX4_plan_245 (fun v42 => ?_)
      refine s_mmin hX q1848 q500 q95 q501 rfl (by omega) (by first | decide | (simp [rv_cat, cat_i, cat_l]; try omega)) dX4_plan_248 ?_
      refine s_istore (i := 9) (L2 := [(9, .int (mn w37 v42)), (0, rv p0), (2, .int p2), (3, .int p3), (5, .int (1 <<< (v6 &&& 31))), (6, .int w9), (7, .int w35), (8, .int w36), (10, .int w38)]) hX dX4_plan_251 (by decide) rfl ?_
      refine s_iinc (k := 8) (v := (w38 + 1)) (L2 := [(10, .int (w38 + 1)), (9, .int (mn w37 v42)), (0, rv p0), (2, .int p2), (3, .int p3), (5, .int (1 <<< (v6 &&& 31))), (6, .int w9), (7, .int w35), (8, .int w36)]) hX dX4_plan_253 rfl rfl (by decide) rfl ?_
      refine s_goto (tgt := 227) hX dX4_plan_256 (by decide) ?_
      exact s_sub [2, 3, 4, 5, 6, 7, 8, 1, 0] rfl (ih227 (mn w37 v42) (w38 + 1))
set_option maxHeartbeats 4000000 in
theorem s_lp_X4_plan_213 {X : Cx} (hX : Ok X Pic cX4_plan RX4 11 (some FieldType.int) 4 94) (hnh : Noh X) (n : Nat) (p0 : Nat) (p2 : Int32) (p3 : Int32) (v6 : Int32) (w9 : Int32) (w35 : Int32) (j281 : Unit → Act Int32) (hj281 : ∀ (u : Unit), Sim X cvI 281 [(0, rv p0), (2, .int p2), (3, .int p3), (5, .int (1 <<< (v6 &&& 31))), (6, .int w9), (7, .int w35)] [] (j281 u)) (q : Nat) : ∀ (w36 : Int32), Sim X cvI 213 [(0, rv p0), (2, .int p2), (3, .int p3), (5, .int (1 <<< (v6 &&& 31))), (6, .int w9), (7, .int w35), (8, .int w36)] [] (lp_X4_plan_213 n p0 p2 p3 v6 w9 w35 j281 q w36) := by
  induction q with
  | zero => intro w36; exact s_fail
  | succ q ih213 =>
    intro w36
    rw [lp_X4_plan_213]
    refine s_iload hX dX4_plan_213 6 rfl ?_
    refine s_bipush (v := 61) hX dX4_plan_215 (by decide) ?_
    refine s_icmp_ge (tgt := 281) hX dX4_plan_217 (by decide) ?_ ?_
    · exact s_sub [0, 1, 2, 3, 4, 5] rfl (hj281 ())
    · refine s_ldc (v := 1000000) hX dX4_plan_220 q1810 ?_
      refine s_istore (i := 9) (L2 := [(9, .int 1000000), (0, rv p0), (2, .int p2), (3, .int p3), (5, .int (1 <<< (v6 &&& 31))), (6, .int w9), (7, .int w35), (8, .int w36)]) hX dX4_plan_222 (by decide) rfl ?_
      refine s_iconst (v := 0) hX dX4_plan_224 rfl ?_
      refine s_istore (i := 10) (L2 := [(10, .int 0), (9, .int 1000000), (0, rv p0), (2, .int p2), (3, .int p3), (5, .int (1 <<< (v6 &&& 31))), (6, .int w9), (7, .int w35), (8, .int w36)]) hX dX4_plan_225 (by decide) rfl ?_
      refine s_jn (P := fun j => ∀ (v39 : Int32), Sim X cvI 259 [(0, rv p0), (2, .int p2), (3, .int p3), (5, .int (1 <<< (v6 &&& 31))), (6, .int w9), (7, .int w35), (8, .int w36), (9, .int v39)] [] (j v39)) ?_ (fun j259 hj259 => ?_)
      · intro v39
        refine s_aload_n hX dX4_plan_259 rfl 0 rfl ?_
        refine s_getR (ci := 4) (j := 77) (ref := "WindGasModel") hX (pcG 4) in_X4 (Or.inl q1615) (by decide) (by decide) (by decide) rfl dX4_plan_260 (fun _ h9 => h9) (fun v40 => ?_)
        refine s_iload hX dX4_plan_263 4 rfl ?_
        refine s_iload hX dX4_plan_265 5 rfl ?_
        refine s_iload hX dX4_plan_267 6 rfl ?_
        refine s_callS_I (n := 3) (As := [.int w9, .int w35, .int w36]) (st := [rv v40]) hX (ct_X4_state X.l w9 w35 w36) q2091 q2092 q91 q2093 ycX4_state (by decide) rfl (by first | decide | simp [rv_cat, cat_i, cat_l]) dX4_plan_269 (fun v41 => ?_)
        refine s_iload hX dX4_plan_272 7 rfl ?_
        refine s_iast hX (pcA 0) (pcB 0) dX4_plan_274 ?_
        refine s_iinc (k := 6) (v := (w36 + 1)) (L2 := [(8, .int (w36 + 1)), (0, rv p0), (2, .int p2), (3, .int p3), (5, .int (1 <<< (v6 &&& 31))), (6, .int w9), (7, .int w35), (9, .int v39)]) hX dX4_plan_275 rfl rfl (by decide) rfl ?_
        refine s_goto (tgt := 213) hX dX4_plan_278 (by decide) ?_
        exact s_sub [1, 2, 3, 4, 5, 6, 0] rfl (ih213 (w36 + 1))
      · exact s_sub [2, 3, 4, 5, 6, 7, 8, 1, 0] rfl (s_lp_X4_plan_227 hX hnh n p0 p2 p3 v6 w9 w35 w36 j259 hj259 n 1000000 0)
set_option maxHeartbeats 4000000 in
theorem s_lp_X4_plan_203 {X : Cx} (hX : Ok X Pic cX4_plan RX4 11 (some FieldType.int) 4 94) (hnh : Noh X) (n : Nat) (p0 : Nat) (p2 : Int32) (p3 : Int32) (v6 : Int32) (w9 : Int32) (j287 : Unit → Act Int32) (hj287 : ∀ (u : Unit), Sim X cvI 287 [(0, rv p0), (2, .int p2), (3, .int p3), (5, .int (1 <<< (v6 &&& 31))), (6, .int w9)] [] (j287 u)) (q : Nat) : ∀ (w35 : Int32), Sim X cvI 203 [(0, rv p0), (2, .int p2), (3, .int p3), (5, .int (1 <<< (v6 &&& 31))), (6, .int w9), (7, .int w35)] [] (lp_X4_plan_203 n p0 p2 p3 v6 w9 j287 q w35) := by
  induction q with
  | zero => intro w35; exact s_fail
  | succ q ih203 =>
    intro w35
    rw [lp_X4_plan_203]
    refine s_iload hX dX4_plan_203 5 rfl ?_
    refine s_iload hX dX4_plan_205 3 rfl ?_
    refine s_icmp_ge (tgt := 287) hX dX4_plan_207 (by decide) ?_ ?_
    · exact s_sub [0, 1, 2, 3, 4] rfl (hj287 ())
    · refine s_iconst (v := 0) hX dX4_plan_210 rfl ?_
      refine s_istore (i := 8) (L2 := [(8, .int 0), (0, rv p0), (2, .int p2), (3, .int p3), (5, .int (1 <<< (v6 &&& 31))), (6, .int w9), (7, .int w35)]) hX dX4_plan_211 (by decide) rfl ?_
      refine s_jn (P := fun j => ∀ (u : Unit), Sim X cvI 281 [(0, rv p0), (2, .int p2), (3, .int p3), (5, .int (1 <<< (v6 &&& 31))), (6, .int w9), (7, .int w35)] [] (j u)) ?_ (fun j281 hj281 => ?_)
      · intro u
        refine s_iinc (k := 5) (v := (w35 + 1)) (L2 := [(7, .int (w35 + 1)), (0, rv p0), (2, .int p2), (3, .int p3), (5, .int (1 <<< (v6 &&& 31))), (6, .int w9)]) hX dX4_plan_281 rfl rfl (by decide) rfl ?_
        refine s_goto (tgt := 203) hX dX4_plan_284 (by decide) ?_
        exact s_sub [1, 2, 3, 4, 5, 0] rfl (ih203 (w35 + 1))
      · exact s_sub [1, 2, 3, 4, 5, 6, 0] rfl (s_lp_X4_plan_213 hX hnh n p0 p2 p3 v6 w9 w35 j281 hj281 n 0)
set_option maxHeartbeats 4000000 in
theorem s_lp_X4_plan_195 {X : Cx} (hX : Ok X Pic cX4_plan RX4 11 (some FieldType.int) 4 94) (hnh : Noh X) (n : Nat) (p0 : Nat) (p2 : Int32) (p3 : Int32) (v6 : Int32) (j293 : Unit → Act Int32) (hj293 : ∀ (u : Unit), Sim X cvI 293 [(0, rv p0), (2, .int p2), (3, .int p3)] [] (j293 u)) (q : Nat) : ∀ (w9 : Int32), Sim X cvI 195 [(0, rv p0), (2, .int p2), (3, .int p3), (5, .int (1 <<< (v6 &&& 31))), (6, .int w9)] [] (lp_X4_plan_195 n p0 p2 p3 v6 j293 q w9) := by
  induction q with
  | zero => intro w9; exact s_fail
  | succ q ih195 =>
    intro w9
    rw [lp_X4_plan_195]
    refine s_iload hX dX4_plan_195 4 rfl ?_
    refine s_if_lt (tgt := 293) hX dX4_plan_197 (by decide) ?_ ?_
    · exact s_sub [0, 1, 2] rfl (hj293 ())
    · refine s_iconst (v := 0) hX dX4_plan_200 rfl ?_
      refine s_istore (i := 7) (L2 := [(7, .int 0), (0, rv p0), (2, .int p2), (3, .int p3), (5, .int (1 <<< (v6 &&& 31))), (6, .int w9)]) hX dX4_plan_201 (by decide) rfl ?_
      refine s_jn (P := fun j => ∀ (u : Unit), Sim X cvI 287 [(0, rv p0), (2, .int p2), (3, .int p3), (5, .int (1 <<< (v6 &&& 31))), (6, .int w9)] [] (j u)) ?_ (fun j287 hj287 => ?_)
      · intro u
        refine s_iinc (k := 4) (v := (w9 + (-1))) (L2 := [(6, .int (w9 + (-1))), (0, rv p0), (2, .int p2), (3, .int p3), (5, .int (1 <<< (v6 &&& 31)))]) hX dX4_plan_287 rfl rfl (by decide) rfl ?_
        refine s_goto (tgt := 195) hX dX4_plan_290 (by decide) ?_
        exact s_sub [1, 2, 3, 4, 0] rfl (ih195 (w9 + (-1)))
      · exact s_sub [1, 2, 3, 4, 5, 0] rfl (s_lp_X4_plan_203 hX hnh n p0 p2 p3 v6 w9 j287 hj287 n 0)
set_option maxHeartbeats 4000000 in
theorem s_lp_X4_plan_147 {X : Cx} (hX : Ok X Pic cX4_plan RX4 11 (some FieldType.int) 4 94) (hnh : Noh X) (p0 : Nat) (p1 : Int32) (p2 : Int32) (p3 : Int32) (v6 : Int32) (w8 : Int32) (j184 : Unit → Act Int32) (hj184 : ∀ (u : Unit), Sim X cvI 184 [(0, rv p0), (1, .int p1), (2, .int p2), (3, .int p3), (5, .int (1 <<< (v6 &&& 31))), (6, .int w8)] [] (j184 u)) (q : Nat) : ∀ (w43 : Int32), Sim X cvI 147 [(0, rv p0), (1, .int p1), (2, .int p2), (3, .int p3), (5, .int (1 <<< (v6 &&& 31))), (6, .int w8), (7, .int w43)] [] (lp_X4_plan_147 p0 p1 p2 p3 v6 w8 j184 q w43) := by
  induction q with
  | zero => intro w43; exact s_fail
  | succ q ih147 =>
    intro w43
    rw [lp_X4_plan_147]
    refine s_iload hX dX4_plan_147 6 rfl ?_
    refine s_bipush (v := 61) hX dX4_plan_149 (by decide) ?_
    refine s_icmp_ge (tgt := 184) hX dX4_plan_151 (by decide) ?_ ?_
    · exact s_sub [0, 1, 2, 3, 4, 5] rfl (hj184 ())
    · refine s_aload_n hX dX4_plan_154 rfl 0 rfl ?_
      refine s_getR (ci := 4) (j := 77) (ref := "WindGasModel") hX (pcG 4) in_X4 (Or.inl q1615) (by decide) (by decide) (by decide) rfl dX4_plan_155 (fun _ h9 => h9) (fun v44 => ?_)
      refine s_iload_n hX dX4_plan_158 rfl 1 rfl ?_
      refine s_iload hX dX4_plan_159 5 rfl ?_
      refine s_iload hX dX4_plan_161 6 rfl ?_
      refine s_callS_I (n := 3) (As := [.int p1, .int w8, .int w43]) (st := [rv v44]) hX (ct_X4_state X.l p1 w8 w43) q2091 q2092 q91 q2093 ycX4_state (by decide) rfl (by first | decide | simp [rv_cat, cat_i, cat_l]) dX4_plan_163 (fun v45 => ?_)
      refine s_iload hX dX4_plan_166 6 rfl ?_
      refine s_jn (P := fun j => ∀ (v46 : Int32), Sim X cvI 177 [(0, rv p0), (1, .int p1), (2, .int p2), (3, .int p3), (5, .int (1 <<< (v6 &&& 31))), (6, .int w8), (7, .int w43)] [.int v46, .int v45, rv v44] (j v46)) ?_ (fun j177 hj177 => ?_)
      · intro v46
        refine s_iast hX (pcA 0) (pcB 0) dX4_plan_177 ?_
        refine s_iinc (k := 6) (v := (w43 + 1)) (L2 := [(7, .int (w43 + 1)), (0, rv p0), (1, .int p1), (2, .int p2), (3, .int p3), (5, .int (1 <<< (v6 &&& 31))), (6, .int w8)]) hX dX4_plan_178 rfl rfl (by decide) rfl ?_
        refine s_goto (tgt := 147) hX dX4_plan_181 (by decide) ?_
        exact s_sub [1, 2, 3, 4, 5, 6, 0] rfl (ih147 (w43 + 1))
      · refine s_if_ne (tgt := 175) hX dX4_plan_168 (by decide) ?_ ?_
        · refine s_ldc (v := 1000000) hX dX4_plan_175 q1810 ?_
          exact hj177 1000000
        · refine s_iconst (v := 0) hX dX4_plan_171 rfl ?_
          refine s_goto (tgt := 177) hX dX4_plan_172 (by decide) ?_
          exact hj177 0
set_option maxHeartbeats 4000000 in
theorem s_lp_X4_plan_137 {X : Cx} (hX : Ok X Pic cX4_plan RX4 11 (some FieldType.int) 4 94) (hnh : Noh X) (n : Nat) (p0 : Nat) (p1 : Int32) (p2 : Int32) (p3 : Int32) (v6 : Int32) (j190 : Unit → Act Int32) (hj190 : ∀ (u : Unit), Sim X cvI 190 [(0, rv p0), (1, .int p1), (2, .int p2), (3, .int p3), (5, .int (1 <<< (v6 &&& 31)))] [] (j190 u)) (q : Nat) : ∀ (w8 : Int32), Sim X cvI 137 [(0, rv p0), (1, .int p1), (2, .int p2), (3, .int p3), (5, .int (1 <<< (v6 &&& 31))), (6, .int w8)] [] (lp_X4_plan_137 n p0 p1 p2 p3 v6 j190 q w8) := by
  induction q with
  | zero => intro w8; exact s_fail
  | succ q ih137 =>
    intro w8
    rw [lp_X4_plan_137]
    refine s_iload hX dX4_plan_137 5 rfl ?_
    refine s_iload hX dX4_plan_139 4 rfl ?_
    refine s_icmp_ge (tgt := 190) hX dX4_plan_141 (by decide) ?_ ?_
    · exact s_sub [0, 1, 2, 3, 4] rfl (hj190 ())
    · refine s_iconst (v := 0) hX dX4_plan_144 rfl ?_
      refine s_istore (i := 7) (L2 := [(7, .int 0), (0, rv p0), (1, .int p1), (2, .int p2), (3, .int p3), (5, .int (1 <<< (v6 &&& 31))), (6, .int w8)]) hX dX4_plan_145 (by decide) rfl ?_
      refine s_jn (P := fun j => ∀ (u : Unit), Sim X cvI 184 [(0, rv p0), (1, .int p1), (2, .int p2), (3, .int p3), (5, .int (1 <<< (v6 &&& 31))), (6, .int w8)] [] (j u)) ?_ (fun j184 hj184 => ?_)
      · intro u
        refine s_iinc (k := 5) (v := (w8 + 1)) (L2 := [(6, .int (w8 + 1)), (0, rv p0), (1, .int p1), (2, .int p2), (3, .int p3), (5, .int (1 <<< (v6 &&& 31)))]) hX dX4_plan_184 rfl rfl (by decide) rfl ?_
        refine s_goto (tgt := 137) hX dX4_plan_187 (by decide) ?_
        exact s_sub [1, 2, 3, 4, 5, 0] rfl (ih137 (w8 + 1))
      · exact s_sub [1, 2, 3, 4, 5, 6, 0] rfl (s_lp_X4_plan_147 hX hnh p0 p1 p2 p3 v6 w8 j184 hj184 n 0)
set_option maxHeartbeats 4000000 in
theorem s_lp_X4_plan_87 {X : Cx} (hX : Ok X Pic cX4_plan RX4 11 (some FieldType.int) 4 94) (hnh : Noh X) (n : Nat) (p0 : Nat) (p1 : Int32) (p2 : Int32) (p3 : Int32) (v5 : Int32) (v6 : Int32) (w7 : Int32) (j128 : Unit → Act Int32) (hj128 : ∀ (u : Unit), Sim X cvI 128 [(0, rv p0), (1, .int p1), (2, .int p2), (3, .int p3), (4, .int v5), (5, .int (1 <<< (v6 &&& 31))), (6, .int w7)] [] (j128 u)) (q : Nat) : ∀ (w47 : Int32), Sim X cvI 87 [(0, rv p0), (1, .int p1), (2, .int p2), (3, .int p3), (4, .int v5), (5, .int (1 <<< (v6 &&& 31))), (6, .int w7), (7, .int w47)] [] (lp_X4_plan_87 n p0 p1 p2 p3 v5 v6 w7 j128 q w47) := by
  induction q with
  | zero => intro w47; exact s_fail
  | succ q ih87 =>
    intro w47
    rw [lp_X4_plan_87]
    refine s_iload hX dX4_plan_87 7 rfl ?_
    refine s_iload hX dX4_plan_89 5 rfl ?_
    refine s_icmp_ge (tgt := 128) hX dX4_plan_91 (by decide) ?_ ?_
    · exact s_sub [0, 1, 2, 3, 4, 5, 6] rfl (hj128 ())
    · refine s_aload_n hX dX4_plan_94 rfl 0 rfl ?_
      refine s_getR (ci := 4) (j := 78) (ref := "WindGasModel") hX (pcG 4) in_X4 (Or.inl q1616) (by decide) (by decide) (by decide) rfl dX4_plan_95 (fun _ h9 => h9) (fun v48 => ?_)
      refine s_bipush (v := 16) hX dX4_plan_98 (by decide) ?_
      refine s_iload hX dX4_plan_100 6 rfl ?_
      refine s_imul hX dX4_plan_102 ?_
      refine s_iload hX dX4_plan_103 7 rfl ?_
      refine s_iadd hX dX4_plan_105 ?_
      refine s_aload_n hX dX4_plan_106 rfl 0 rfl ?_
      refine s_iload hX dX4_plan_107 7 rfl ?_
      refine s_aload_n hX dX4_plan_109 rfl 0 rfl ?_
      refine s_getI (ci := 4) (j := 0) (ref := "WindGasModel") hX (pcG 4) in_X4 (Or.inl q1538) (by decide) (by decide) (by decide) rfl dX4_plan_110 (fun _ h9 => h9) (fun v49 => ?_)
      refine s_iload hX dX4_plan_113 6 rfl ?_
      refine s_iadd hX dX4_plan_115 ?_
      refine s_iload hX dX4_plan_116 4 rfl ?_
      refine s_callV_I (ci := 4) (n := 3) (As := [.int w47, .int (v49 + w7), .int v5]) (st := [.int ((16 * w7) + w47), rv v48]) hX (pcK 5) (by decide) (ct_X4_makes X.l n p0 w47 (v49 + w7) v5) q2087 q2089 qs81 q91 q2090 yvX4_makes (by decide) rfl (by first | decide | simp [rv_cat, cat_i, cat_l]) dX4_plan_118 (fun v50 => ?_)
      refine s_iast hX (pcA 0) (pcB 0) dX4_plan_121 ?_
      refine s_iinc (k := 7) (v := (w47 + 1)) (L2 := [(7, .int (w47 + 1)), (0, rv p0), (1, .int p1), (2, .int p2), (3, .int p3), (4, .int v5), (5, .int (1 <<< (v6 &&& 31))), (6, .int w7)]) hX dX4_plan_122 rfl rfl (by decide) rfl ?_
      refine s_goto (tgt := 87) hX dX4_plan_125 (by decide) ?_
      exact s_sub [1, 2, 3, 4, 5, 6, 7, 0] rfl (ih87 (w47 + 1))
set_option maxHeartbeats 4000000 in
theorem s_lp_X4_plan_78 {X : Cx} (hX : Ok X Pic cX4_plan RX4 11 (some FieldType.int) 4 94) (hnh : Noh X) (n : Nat) (p0 : Nat) (p1 : Int32) (p2 : Int32) (p3 : Int32) (v5 : Int32) (v6 : Int32) (j134 : Unit → Act Int32) (hj134 : ∀ (u : Unit), Sim X cvI 134 [(0, rv p0), (1, .int p1), (2, .int p2), (3, .int p3), (5, .int (1 <<< (v6 &&& 31)))] [] (j134 u)) (q : Nat) : ∀ (w7 : Int32), Sim X cvI 78 [(0, rv p0), (1, .int p1), (2, .int p2), (3, .int p3), (4, .int v5), (5, .int (1 <<< (v6 &&& 31))), (6, .int w7)] [] (lp_X4_plan_78 n p0 p1 p2 p3 v5 v6 j134 q w7) := by
  induction q with
  | zero => intro w7; exact s_fail
  | succ q ih78 =>
    intro w7
    rw [lp_X4_plan_78]
    refine s_iload hX dX4_plan_78 6 rfl ?_
    refine s_iload_n hX dX4_plan_80 rfl 1 rfl ?_
    refine s_icmp_ge (tgt := 134) hX dX4_plan_81 (by decide) ?_ ?_
    · exact s_sub [0, 1, 2, 3, 5] rfl (hj134 ())
    · refine s_iconst (v := 0) hX dX4_plan_84 rfl ?_
      refine s_istore (i := 7) (L2 := [(7, .int 0), (0, rv p0), (1, .int p1), (2, .int p2), (3, .int p3), (4, .int v5), (5, .int (1 <<< (v6 &&& 31))), (6, .int w7)]) hX dX4_plan_85 (by decide) rfl ?_
      refine s_jn (P := fun j => ∀ (u : Unit), Sim X cvI 128 [(0, rv p0), (1, .int p1), (2, .int p2), (3, .int p3), (4, .int v5), (5, .int (1 <<< (v6 &&& 31))), (6, .int w7)] [] (j u)) ?_ (fun j128 hj128 => ?_)
      · intro u
        refine s_iinc (k := 6) (v := (w7 + 1)) (L2 := [(6, .int (w7 + 1)), (0, rv p0), (1, .int p1), (2, .int p2), (3, .int p3), (4, .int v5), (5, .int (1 <<< (v6 &&& 31)))]) hX dX4_plan_128 rfl rfl (by decide) rfl ?_
        refine s_goto (tgt := 78) hX dX4_plan_131 (by decide) ?_
        exact s_sub [1, 2, 3, 4, 5, 6, 0] rfl (ih78 (w7 + 1))
      · exact s_sub [1, 2, 3, 4, 5, 6, 7, 0] rfl (s_lp_X4_plan_87 hX hnh n p0 p1 p2 p3 v5 v6 w7 j128 hj128 n 0)
set_option maxHeartbeats 4000000 in
theorem ct_X4_plan (l : Launch) (n : Nat) (p0 : Nat) (p1 : Int32) (p2 : Int32) (p3 : Int32) : Ct l Pic yX4_plan (ws_ yX4_plan cX4_plan 11 (some FieldType.int)) 4 94 cvI [rv p0, .int p1, .int p2, .int p3] (f_X4_plan n p0 p1 p2 p3) := by
  refine Ct.of (own := RX4) (L := [(0, rv p0), (1, .int p1), (2, .int p2), (3, .int p3)]) (plainFor_of_name (by decide)) rfl (by first | decide | simp [lg_sl, rv_cat, cat_i, cat_l]) (by first | rfl | simp [lv_args, rv_cat, cat_i, cat_l]) pcZ (fun X hXl hX hnh hin => ?_)
  subst hXl
  unfold f_X4_plan
  refine s_iload_n hX dX4_plan_0 rfl 1 rfl ?_
  refine s_iconst (v := 1) hX dX4_plan_1 rfl ?_
  refine s_bipush (v := 8) hX dX4_plan_2 (by decide) ?_
  refine s_callS_I (n := 3) (As := [.int p1, .int 1, .int 8]) (st := []) hX (ct_X4_isIn X.l p1 (1 : Int32) (8 : Int32)) q1781 q1782 q91 q1783 ycX4_isIn (by decide) rfl (by first | decide | simp [rv_cat, cat_i, cat_l]) dX4_plan_4 (fun v1 => ?_)
  refine s_jn (P := fun j => ∀ (u : Unit), Sim X cvI 49 [] [] (j u)) ?_ (fun j49 hj49 => ?_)
  · intro u
    refine s_iconst (v := -1) hX dX4_plan_49 (by decide) ?_
    exact s_iret hX dX4_plan_50
  · refine s_if_eq (tgt := 49) hX dX4_plan_7 (by decide) ?_ ?_
    · exact s_sub [] rfl (hj49 ())
    · refine s_aload_n hX dX4_plan_10 rfl 0 rfl ?_
      refine s_getI (ci := 4) (j := 0) (ref := "WindGasModel") hX (pcG 4) in_X4 (Or.inl q1538) (by decide) (by decide) (by decide) rfl dX4_plan_11 (fun _ h9 => h9) (fun v2 => ?_)
      refine s_sipush (v := 4999) hX dX4_plan_14 (by decide) ?_
      refine s_iload_n hX dX4_plan_17 rfl 1 rfl ?_
      refine s_isub hX dX4_plan_18 ?_
      refine s_icmp_gt (tgt := 49) hX dX4_plan_19 (by decide) ?_ ?_
      · exact s_sub [] rfl (hj49 ())
      · refine s_iload_n hX dX4_plan_22 rfl 2 rfl ?_
        refine s_iconst (v := 0) hX dX4_plan_23 rfl ?_
        refine s_bipush (v := 60) hX dX4_plan_24 (by decide) ?_
        refine s_callS_I (n := 3) (As := [.int p2, .int 0, .int 60]) (st := []) hX (ct_X4_isIn X.l p2 (0 : Int32) (60 : Int32)) q1781 q1782 q91 q1783 ycX4_isIn (by decide) rfl (by first | decide | simp [rv_cat, cat_i, cat_l]) dX4_plan_26 (fun v3 => ?_)
        refine s_if_eq (tgt := 49) hX dX4_plan_29 (by decide) ?_ ?_
        · exact s_sub [] rfl (hj49 ())
        · refine s_iload_n hX dX4_plan_32 rfl 3 rfl ?_
          refine s_jn (P := fun j => ∀ (u : Unit), Sim X cvI 51 [(0, rv p0), (1, .int p1), (2, .int p2), (3, .int p3)] [] (j u)) ?_ (fun j51 hj51 => ?_)
          · intro u
            refine s_aload_n hX dX4_plan_51 rfl 0 rfl ?_
            refine s_aload_n hX dX4_plan_52 rfl 0 rfl ?_
            refine s_getI (ci := 4) (j := 0) (ref := "WindGasModel") hX (pcG 4) in_X4 (Or.inl q1538) (by decide) (by decide) (by decide) rfl dX4_plan_53 (fun _ h9 => h9) (fun v4 => ?_)
            refine s_callV_I (ci := 4) (n := 1) (As := [.int v4]) (st := []) hX (pcK 5) (by decide) (ct_X4_inForce X.l n p0 v4) q1829 q1831 qs45 q91 q1832 yvX4_inForce (by decide) rfl (by first | decide | simp [rv_cat, cat_i, cat_l]) dX4_plan_56 (fun v5 => ?_)
            refine s_istore (i := 4) (L2 := [(4, .int v5), (0, rv p0), (1, .int p1), (2, .int p2), (3, .int p3)]) hX dX4_plan_59 (by decide) rfl ?_
            refine s_aload_n hX dX4_plan_61 rfl 1 rfl ?_
            refine s_iload hX dX4_plan_62 0 rfl ?_
            refine s_callV_U (ci := 4) (n := 1) (As := [.int v5]) (st := []) hX (pcK 5) (by decide) (ct_X4_orders X.l n p0 v5) q1849 q1851 qs49 q91 q1852 yvX4_orders (by decide) rfl (by first | decide | simp [rv_cat, cat_i, cat_l]) dX4_plan_64 (fun _ => ?_)
            refine s_iconst (v := 1) hX dX4_plan_67 rfl ?_
            refine s_aload_n hX dX4_plan_68 rfl 1 rfl ?_
            refine s_getI (ci := 4) (j := 1) (ref := "WindGasModel") hX (pcG 4) in_X4 (Or.inl q1539) (by decide) (by decide) (by decide) rfl dX4_plan_69 (fun _ h9 => h9) (fun v6 => ?_)
            refine s_ishl hX dX4_plan_72 ?_
            refine s_istore (i := 5) (L2 := [(5, .int (1 <<< (v6 &&& 31))), (4, .int v5), (0, rv p0), (1, .int p1), (2, .int p2), (3, .int p3)]) hX dX4_plan_73 (by decide) rfl ?_
            refine s_iconst (v := 0) hX dX4_plan_75 rfl ?_
            refine s_istore (i := 6) (L2 := [(6, .int 0), (5, .int (1 <<< (v6 &&& 31))), (4, .int v5), (0, rv p0), (1, .int p1), (2, .int p2), (3, .int p3)]) hX dX4_plan_76 (by decide) rfl ?_
            refine s_jn (P := fun j => ∀ (u : Unit), Sim X cvI 134 [(0, rv p0), (1, .int p1), (2, .int p2), (3, .int p3), (5, .int (1 <<< (v6 &&& 31)))] [] (j u)) ?_ (fun j134 hj134 => ?_)
            · intro u
              refine s_iconst (v := 0) hX dX4_plan_134 rfl ?_
              refine s_istore (i := 6) (L2 := [(6, .int 0), (0, rv p0), (1, .int p1), (2, .int p2), (3, .int p3), (5, .int (1 <<< (v6 &&& 31)))]) hX dX4_plan_135 (by decide) rfl ?_
              refine s_jn (P := fun j => ∀ (u : Unit), Sim X cvI 190 [(0, rv p0), (1, .int p1), (2, .int p2), (3, .int p3), (5, .int (1 <<< (v6 &&& 31)))] [] (j u)) ?_ (fun j190 hj190 => ?_)
              · intro u
                refine s_iload_n hX dX4_plan_190 rfl 1 rfl ?_
                refine s_iconst (v := 1) hX dX4_plan_191 rfl ?_
                refine s_isub hX dX4_plan_192 ?_
                refine s_istore (i := 6) (L2 := [(6, .int (p1 - 1)), (0, rv p0), (1, .int p1), (2, .int p2), (3, .int p3), (5, .int (1 <<< (v6 &&& 31)))]) hX dX4_plan_193 (by decide) rfl ?_
                refine s_jn (P := fun j => ∀ (u : Unit), Sim X cvI 293 [(0, rv p0), (2, .int p2), (3, .int p3)] [] (j u)) ?_ (fun j293 hj293 => ?_)
                · intro u
                  refine s_iconst (v := 0) hX dX4_plan_293 rfl ?_
                  refine s_istore (i := 6) (L2 := [(6, .int 0), (0, rv p0), (2, .int p2), (3, .int p3)]) hX dX4_plan_294 (by decide) rfl ?_
                  refine s_iconst (v := 0) hX dX4_plan_296 rfl ?_
                  refine s_istore (i := 7) (L2 := [(7, .int 0), (6, .int 0), (0, rv p0), (2, .int p2), (3, .int p3)]) hX dX4_plan_297 (by decide) rfl ?_
                  refine s_jn (P := fun j => ∀ (v12 : Int32), Sim X cvI 337 [(0, rv p0), (2, .int p2), (3, .int p3), (6, .int v12)] [] (j v12)) ?_ (fun j337 hj337 => ?_)
                  · intro v12
                    refine s_aload_n hX dX4_plan_337 rfl 0 rfl ?_
                    refine s_getR (ci := 4) (j := 77) (ref := "WindGasModel") hX (pcG 4) in_X4 (Or.inl q1615) (by decide) (by decide) (by decide) rfl dX4_plan_338 (fun _ h9 => h9) (fun v13 => ?_)
                    refine s_iconst (v := 0) hX dX4_plan_341 rfl ?_
                    refine s_iload hX dX4_plan_342 3 rfl ?_
                    refine s_iload_n hX dX4_plan_344 rfl 1 rfl ?_
                    refine s_callS_I (n := 3) (As := [.int 0, .int v12, .int p2]) (st := [rv v13]) hX (ct_X4_state X.l (0 : Int32) v12 p2) q2091 q2092 q91 q2093 ycX4_state (by decide) rfl (by first | decide | simp [rv_cat, cat_i, cat_l]) dX4_plan_345 (fun v14 => ?_)
                    refine s_iald hX (pcA 0) dX4_plan_348 (fun v15 => ?_)
                    refine s_ldc (v := 1000000) hX dX4_plan_349 q1810 ?_
                    refine s_icmp_lt (tgt := 356) hX dX4_plan_351 (by decide) ?_ ?_
                    · refine s_iload_n hX dX4_plan_356 rfl 2 rfl ?_
                      refine s_if_ne (tgt := 373) hX dX4_plan_357 (by decide) ?_ ?_
                      · refine s_iload_n hX dX4_plan_373 rfl 1 rfl ?_
                        refine s_istore (i := 7) (L2 := [(7, .int p2), (0, rv p0), (2, .int p2), (3, .int p3), (6, .int v12)]) hX dX4_plan_374 (by decide) rfl ?_
                        refine s_iconst (v := 0) hX dX4_plan_376 rfl ?_
                        refine s_istore (i := 8) (L2 := [(8, .int 0), (7, .int p2), (0, rv p0), (2, .int p2), (3, .int p3), (6, .int v12)]) hX dX4_plan_377 (by decide) rfl ?_
                        refine s_iconst (v := 0) hX dX4_plan_379 rfl ?_
                        refine s_istore (i := 9) (L2 := [(9, .int 0), (8, .int 0), (7, .int p2), (0, rv p0), (2, .int p2), (3, .int p3), (6, .int v12)]) hX dX4_plan_380 (by decide) rfl ?_
                        exact s_sub [3, 5, 6, 2, 1, 0] rfl (s_lp_X4_plan_382 hX hnh n p0 p3 n v12 p2 0 0)
                      · refine s_aload_n hX dX4_plan_360 rfl 0 rfl ?_
                        refine s_getR (ci := 4) (j := 77) (ref := "WindGasModel") hX (pcG 4) in_X4 (Or.inl q1615) (by decide) (by decide) (by decide) rfl dX4_plan_361 (fun _ h9 => h9) (fun v28 => ?_)
                        refine s_iconst (v := 0) hX dX4_plan_364 rfl ?_
                        refine s_iload hX dX4_plan_365 3 rfl ?_
                        refine s_iload_n hX dX4_plan_367 rfl 1 rfl ?_
                        refine s_callS_I (n := 3) (As := [.int 0, .int v12, .int p2]) (st := [rv v28]) hX (ct_X4_state X.l (0 : Int32) v12 p2) q2091 q2092 q91 q2093 ycX4_state (by decide) rfl (by first | decide | simp [rv_cat, cat_i, cat_l]) dX4_plan_368 (fun v29 => ?_)
                        refine s_iald hX (pcA 0) dX4_plan_371 (fun v30 => ?_)
                        exact s_iret hX dX4_plan_372
                    · refine s_iconst (v := -1) hX dX4_plan_354 (by decide) ?_
                      exact s_iret hX dX4_plan_355
                  · exact s_sub [2, 3, 4, 1, 0] rfl (s_lp_X4_plan_299 hX hnh p0 p2 p3 j337 hj337 n 0 0)
                · exact s_sub [1, 3, 4, 5, 0] rfl (s_lp_X4_plan_195 hX hnh n p0 p2 p3 v6 j293 hj293 n (p1 - 1))
              · exact s_sub [1, 2, 3, 4, 5, 0] rfl (s_lp_X4_plan_137 hX hnh n p0 p1 p2 p3 v6 j190 hj190 n 0)
            · exact s_sub [3, 4, 5, 6, 2, 1, 0] rfl (s_lp_X4_plan_78 hX hnh n p0 p1 p2 p3 v5 v6 j134 hj134 n 0)
          · refine s_if_eq (tgt := 51) hX dX4_plan_33 (by decide) ?_ ?_
            · exact hj51 ()
            · refine s_iload_n hX dX4_plan_36 rfl 3 rfl ?_
              refine s_bipush (v := 10) hX dX4_plan_37 (by decide) ?_
              refine s_bipush (v := 9) hX dX4_plan_39 (by decide) ?_
              refine s_iload_n hX dX4_plan_41 rfl 1 rfl ?_
              refine s_iadd hX dX4_plan_42 ?_
              refine s_callS_I (n := 3) (As := [.int p3, .int 10, .int (9 + p1)]) (st := []) hX (ct_X4_isIn X.l p3 (10 : Int32) (9 + p1)) q1781 q1782 q91 q1783 ycX4_isIn (by decide) rfl (by first | decide | simp [rv_cat, cat_i, cat_l]) dX4_plan_43 (fun v51 => ?_)
              refine s_if_ne (tgt := 51) hX dX4_plan_46 (by decide) ?_ ?_
              · exact hj51 ()
              · exact s_sub [] rfl (hj49 ())
theorem dX4_sum_0 : decode cX4_sum 0 = .ok (.iload_n 1, 1) := by decide +kernel
theorem dX4_sum_1 : decode cX4_sum 1 = .ok (.iconst 0, 1) := by decide +kernel
theorem dX4_sum_2 : decode cX4_sum 2 = .ok (.bipush 12, 2) := by decide +kernel
theorem dX4_sum_4 : decode cX4_sum 4 = .ok (.invokestatic 198, 3) := by decide +kernel
theorem dX4_sum_7 : decode cX4_sum 7 = .ok (.ifCond .ne 7, 3) := by decide +kernel
theorem dX4_sum_10 : decode cX4_sum 10 = .ok (.ldc2_w 500, 3) := by decide +kernel
theorem dX4_sum_13 : decode cX4_sum 13 = .ok (.lreturn, 1) := by decide +kernel
theorem dX4_sum_14 : decode cX4_sum 14 = .ok (.iload_n 1, 1) := by decide +kernel
theorem dX4_sum_15 : decode cX4_sum 15 = .ok (.bipush 9, 2) := by decide +kernel
theorem dX4_sum_17 : decode cX4_sum 17 = .ok (.if_icmp .ne 20, 3) := by decide +kernel
theorem dX4_sum_20 : decode cX4_sum 20 = .ok (.aload_n 0, 1) := by decide +kernel
theorem dX4_sum_21 : decode cX4_sum 21 = .ok (.getfield 63, 3) := by decide +kernel
theorem dX4_sum_24 : decode cX4_sum 24 = .ok (.iconst 0, 1) := by decide +kernel
theorem dX4_sum_25 : decode cX4_sum 25 = .ok (.iaload, 1) := by decide +kernel
theorem dX4_sum_26 : decode cX4_sum 26 = .ok (.aload_n 0, 1) := by decide +kernel
theorem dX4_sum_27 : decode cX4_sum 27 = .ok (.getfield 63, 3) := by decide +kernel
theorem dX4_sum_30 : decode cX4_sum 30 = .ok (.iconst 1, 1) := by decide +kernel
theorem dX4_sum_31 : decode cX4_sum 31 = .ok (.iaload, 1) := by decide +kernel
theorem dX4_sum_32 : decode cX4_sum 32 = .ok (.iadd, 1) := by decide +kernel
theorem dX4_sum_33 : decode cX4_sum 33 = .ok (.i2l, 1) := by decide +kernel
theorem dX4_sum_34 : decode cX4_sum 34 = .ok (.goto 23, 3) := by decide +kernel
theorem dX4_sum_37 : decode cX4_sum 37 = .ok (.iload_n 1, 1) := by decide +kernel
theorem dX4_sum_38 : decode cX4_sum 38 = .ok (.bipush 10, 2) := by decide +kernel
theorem dX4_sum_40 : decode cX4_sum 40 = .ok (.if_icmp .ne 11, 3) := by decide +kernel
theorem dX4_sum_43 : decode cX4_sum 43 = .ok (.aload_n 0, 1) := by decide +kernel
theorem dX4_sum_44 : decode cX4_sum 44 = .ok (.getfield 226, 3) := by decide +kernel
theorem dX4_sum_47 : decode cX4_sum 47 = .ok (.i2l, 1) := by decide +kernel
theorem dX4_sum_48 : decode cX4_sum 48 = .ok (.goto 9, 3) := by decide +kernel
theorem dX4_sum_51 : decode cX4_sum 51 = .ok (.aload_n 0, 1) := by decide +kernel
theorem dX4_sum_52 : decode cX4_sum 52 = .ok (.getfield 51, 3) := by decide +kernel
theorem dX4_sum_55 : decode cX4_sum 55 = .ok (.iload_n 1, 1) := by decide +kernel
theorem dX4_sum_56 : decode cX4_sum 56 = .ok (.laload, 1) := by decide +kernel
theorem dX4_sum_57 : decode cX4_sum 57 = .ok (.lreturn, 1) := by decide +kernel
theorem ycX4_sum : yX4_sum.cls ≠ "java/lang/invoke/MethodHandle" ∧ yX4_sum.cls ≠ "java/lang/invoke/VarHandle" ∧ (parseMethodDescriptor yX4_sum.desc).map (fun d => d.parameters.length) = some 1 := by decide +kernel
theorem yvX4_sum : yX4_sum.cls = RR 4 ∧ yX4_sum.cls ≠ "java/lang/invoke/MethodHandle" ∧ yX4_sum.cls ≠ "java/lang/invoke/VarHandle" ∧ (parseMethodDescriptor yX4_sum.desc).map (fun d => d.parameters.length) = some 1 := ⟨rfl, ycX4_sum⟩
def f_X4_sum (p0 : Nat) (p1 : Int32) : Act Int64 :=
  bnd (nt (f_X4_isIn p1 (0 : Int32) (12 : Int32))) fun v1 =>
  if ¬ v1 = 0 then
    jn (fun (v2 : Int64) =>
      pur v2) fun j57 =>
    if ¬ p1 = 9 then
      if ¬ p1 = 10 then
        bnd (getR 4 17 p0) fun v3 =>
        bnd (ldL 1 v3 p1) fun v4 =>
        j57 v4
      else
        bnd (getI 4 19 p0) fun v5 =>
        j57 v5.toInt64
    else
      bnd (getR 4 23 p0) fun v6 =>
      bnd (ldI 0 v6 0) fun v7 =>
      bnd (getR 4 23 p0) fun v8 =>
      bnd (ldI 0 v8 1) fun v9 =>
      j57 ((v7 + v9).toInt64)
  else
    pur (-1000000000000)
set_option maxHeartbeats 4000000 in
theorem ct_X4_sum (l : Launch) (p0 : Nat) (p1 : Int32) : Ct l Pic yX4_sum (ws_ yX4_sum cX4_sum 2 (some FieldType.long)) 1 22 cvL [rv p0, .int p1] (f_X4_sum p0 p1) := by
  refine Ct.of (own := RX4) (L := [(0, rv p0), (1, .int p1)]) (plainFor_of_name (by decide)) rfl (by first | decide | simp [lg_sl, rv_cat, cat_i, cat_l]) (by first | rfl | simp [lv_args, rv_cat, cat_i, cat_l]) pcZ (fun X hXl hX hnh hin => ?_)
  subst hXl
  unfold f_X4_sum
  refine s_iload_n hX dX4_sum_0 rfl 1 rfl ?_
  refine s_iconst (v := 0) hX dX4_sum_1 rfl ?_
  refine s_bipush (v := 12) hX dX4_sum_2 (by decide) ?_
  refine s_callS_I (n := 3) (As := [.int p1, .int 0, .int 12]) (st := []) hX (ct_X4_isIn X.l p1 (0 : Int32) (12 : Int32)) q1781 q1782 q91 q1783 ycX4_isIn (by decide) rfl (by first | decide | simp [rv_cat, cat_i, cat_l]) dX4_sum_4 (fun v1 => ?_)
  refine s_if_ne (tgt := 14) hX dX4_sum_7 (by decide) ?_ ?_
  · refine s_iload_n hX dX4_sum_14 rfl 1 rfl ?_
    refine s_bipush (v := 9) hX dX4_sum_15 (by decide) ?_
    refine s_jn (P := fun j => ∀ (v2 : Int64), Sim X cvL 57 [] [.long v2] (j v2)) ?_ (fun j57 hj57 => ?_)
    · intro v2
      exact s_lret hX dX4_sum_57
    · refine s_icmp_ne (tgt := 37) hX dX4_sum_17 (by decide) ?_ ?_
      · refine s_iload_n hX dX4_sum_37 rfl 1 rfl ?_
        refine s_bipush (v := 10) hX dX4_sum_38 (by decide) ?_
        refine s_icmp_ne (tgt := 51) hX dX4_sum_40 (by decide) ?_ ?_
        · refine s_aload_n hX dX4_sum_51 rfl 0 rfl ?_
          refine s_getR (ci := 4) (j := 17) (ref := "WindGasModel") hX (pcG 4) in_X4 (Or.inl q1555) (by decide) (by decide) (by decide) rfl dX4_sum_52 (fun _ h9 => h9) (fun v3 => ?_)
          refine s_iload_n hX dX4_sum_55 rfl 1 rfl ?_
          refine s_lald hX (pcA 1) dX4_sum_56 (fun v4 => ?_)
          exact s_sub [] rfl (hj57 v4)
        · refine s_aload_n hX dX4_sum_43 rfl 0 rfl ?_
          refine s_getI (ci := 4) (j := 19) (ref := "WindGasModel") hX (pcG 4) in_X4 (Or.inl q1557) (by decide) (by decide) (by decide) rfl dX4_sum_44 (fun _ h9 => h9) (fun v5 => ?_)
          refine s_i2l hX dX4_sum_47 ?_
          refine s_goto (tgt := 57) hX dX4_sum_48 (by decide) ?_
          exact s_sub [] rfl (hj57 v5.toInt64)
      · refine s_aload_n hX dX4_sum_20 rfl 0 rfl ?_
        refine s_getR (ci := 4) (j := 23) (ref := "WindGasModel") hX (pcG 4) in_X4 (Or.inl q1561) (by decide) (by decide) (by decide) rfl dX4_sum_21 (fun _ h9 => h9) (fun v6 => ?_)
        refine s_iconst (v := 0) hX dX4_sum_24 rfl ?_
        refine s_iald hX (pcA 0) dX4_sum_25 (fun v7 => ?_)
        refine s_aload_n hX dX4_sum_26 rfl 0 rfl ?_
        refine s_getR (ci := 4) (j := 23) (ref := "WindGasModel") hX (pcG 4) in_X4 (Or.inl q1561) (by decide) (by decide) (by decide) rfl dX4_sum_27 (fun _ h9 => h9) (fun v8 => ?_)
        refine s_iconst (v := 1) hX dX4_sum_30 rfl ?_
        refine s_iald hX (pcA 0) dX4_sum_31 (fun v9 => ?_)
        refine s_iadd hX dX4_sum_32 ?_
        refine s_i2l hX dX4_sum_33 ?_
        refine s_goto (tgt := 57) hX dX4_sum_34 (by decide) ?_
        exact s_sub [] rfl (hj57 ((v7 + v9).toInt64))
  · refine s_ldc2 (v := -1000000000000) hX dX4_sum_10 q2105 ?_
    exact s_lret hX dX4_sum_13
