set_option maxRecDepth 100000
theorem elC (ci : Nat) (h : ci < 19) : ElOk Pic (RR ci) [ci + 1] := by
  intro kd hkd
  rw [List.mem_singleton.mp hkd]
  have e : ciOf (ci + 1) = ci := by unfold ciOf; rw [if_neg (by omega)]; omega
  rw [e]
  exact ⟨by omega, Or.inl rfl, Or.inl rfl, pcK _ (Nat.succ_ne_zero ci)⟩
theorem elCond : ElOk Pic "WindGas$Cond" [13, 14, 15] := by
  intro kd hkd
  simp only [List.mem_cons, List.not_mem_nil, or_false] at hkd
  rcases hkd with rfl | rfl | rfl
  · exact ⟨by decide, by decide, Or.inr q1186, pcK _⟩
  · exact ⟨by decide, by decide, Or.inr q1178, pcK _⟩
  · exact ⟨by decide, by decide, Or.inr q1197, pcK _⟩
theorem pt_init (l : Launch) (p0 : Nat) : Ct l Pic yJ2_init (ws_ yJ2_init cJ2_init 1 none) 3 64 cvU [rv p0] (P_init p0) := Ct.pic (ct_J2_init l p0) (ps_init p0)
theorem pt_size (l : Launch) (p0 : Nat) : Ct l Pic yJ2_size (ws_ yJ2_size cJ2_size 1 (some FieldType.int)) 0 0 cvI [rv p0] (P_size p0) := Ct.pic (ct_J2_size l p0) (ps_size p0)
theorem pt_get (l : Launch) (p0 : Nat) (p1 : Int32) : Ct l Pic yJ2_get (ws_ yJ2_get cJ2_get 2 (some (FieldType.object "java/lang/Object"))) 2 43 cvR [rv p0, .int p1] (P_get p0 p1) := Ct.pic (ct_J2_get l p0 p1) (ps_get p0 p1)
theorem pt_add (l : Launch) (p0 : Nat) (p1 : Nat) : Ct l Pic yJ2_add (ws_ yJ2_add cJ2_add 2 (some FieldType.boolean)) 6 150 cvI [rv p0, rv p1] (P_add p0 p1) := Ct.pic (ct_J2_add l p0 p1) (ps_add p0 p1)
theorem pt_rem (l : Launch) (p0 : Nat) (p1 : Int32) : Ct l Pic yJ2_remove (ws_ yJ2_remove cJ2_remove 4 (some (FieldType.object "java/lang/Object"))) 2 63 cvR [rv p0, .int p1] (P_rem p0 p1) := Ct.pic (ct_J2_remove l p0 p1) (ps_rem p0 p1)
theorem pt_isEmpty (l : Launch) (p0 : Nat) : Ct l Pic yJ2_isEmpty (ws_ yJ2_isEmpty cJ2_isEmpty 1 (some FieldType.boolean)) 0 0 cvI [rv p0] (P_isEmpty p0) := Ct.pic (ct_J2_isEmpty l p0) (ps_isEmpty p0)
theorem pt_binit (l : Launch) (p0 : Nat) : Ct l Pic yJ10_init (ws_ yJ10_init cJ10_init 1 none) 2 45 cvU [rv p0] (P_binit p0) := Ct.pic (ct_J10_init l p0) (ps_binit p0)
theorem pt_append (l : Launch) (p0 : Nat) (p1 : Int32) : Ct l Pic yJ10_append (ws_ yJ10_append cJ10_append 2 (some (FieldType.object "java/lang/StringBuilder"))) 5 115 cvR [rv p0, .int p1] (P_append p0 p1) := Ct.pic (ct_J10_append l p0 p1) (ps_append p0 p1)
theorem pt_toString (l : Launch) (p0 : Nat) : Ct l Pic yJ10_toString (ws_ yJ10_toString cJ10_toString 1 (some (FieldType.object "java/lang/String"))) 5 131 cvR [rv p0] (P_toString p0) := Ct.pic (ct_J10_toString l p0) (ps_toString p0)
theorem pt_equals (l : Launch) (p0 : Nat) (p1 : Nat) : Ct l Pic yJ11_equals (ws_ yJ11_equals cJ11_equals 3 (some FieldType.boolean)) 1 22 cvI [rv p0, rv p1] (P_equals p0 p1) := Ct.pic (ct_J11_equals l 60000 p0 p1) (ps_equals p0 p1)
theorem pt_hash (l : Launch) (p0 : Nat) : Ct l Pic yJ11_hashCode (ws_ yJ11_hashCode cJ11_hashCode 2 (some FieldType.int)) 3 69 cvI [rv p0] (P_hash p0) := Ct.pic (ct_J11_hashCode l 60000 p0) (ps_hash p0)
theorem s_callVT_I {α : Type} {X : Cx} {Rp : Mem → Mem → Prop} {cc bytes : ByteArray} {own : String} {nL : Nat} {rt rt2 : Option FieldType} {fr lo fr2 lo2 maxL index n : Nat} {cv : α → Option Value} {pc : Nat} {L : List (Nat × Value)} {st : List Value} {y : MethodName} {fc : Act Int32} {k : Int32 → Act α} (hX : Ok X Rp cc own nL rt fr lo) (hnh : Noh X) {ci x : Nat} {As : List Value} (hC : CpK Rp (ci + 1)) (hci : ci < 20) (hCt : Ct X.l Rp y (ws_ y bytes maxL rt2) fr2 lo2 cvI (rv x :: As) fc)
    (q1 : Cond.methodLink own index y ∈ lw_all) (q2 : Cond.instanceMethod y ∈ lw_all) (q3 : Cond.selects (RR ci) y y ∈ lw_all) (q4 : Cond.initialized (RR ci) ∈ lw_all) (q5 : Cond.code y bytes maxL rt2 ∈ lw_all)
    (hyc : y.cls = RR ci ∧ y.cls ≠ "java/lang/invoke/MethodHandle" ∧ y.cls ≠ "java/lang/invoke/VarHandle" ∧ (parseMethodDescriptor y.desc).map (fun d => d.parameters.length) = some n) (hR : fr2 + 1 ≤ fr ∧ 8 + (maxL + 11) + lo2 ≤ lo) (hn : As.length = n) (hst : (st.map fun v => v.category).sum ≤ 8)
    (hd : decode cc pc = .ok (.invokevirtual index, 3)) (h : ∀ v, Sim X cv (pc + 3) L (.int v :: st) (k v)) : Sim X cv pc L (As.reverse ++ rv x :: st) (bnd (gd ci x fc) k) := s_callVT hX hnh hC hci hCt q1 q2 q3 q4 q5 hyc hR hn hst hd h
theorem s_callVT_R {α : Type} {X : Cx} {Rp : Mem → Mem → Prop} {cc bytes : ByteArray} {own : String} {nL : Nat} {rt rt2 : Option FieldType} {fr lo fr2 lo2 maxL index n : Nat} {cv : α → Option Value} {pc : Nat} {L : List (Nat × Value)} {st : List Value} {y : MethodName} {fc : Act Nat} {k : Nat → Act α} (hX : Ok X Rp cc own nL rt fr lo) (hnh : Noh X) {ci x : Nat} {As : List Value} (hC : CpK Rp (ci + 1)) (hci : ci < 20) (hCt : Ct X.l Rp y (ws_ y bytes maxL rt2) fr2 lo2 cvR (rv x :: As) fc)
    (q1 : Cond.methodLink own index y ∈ lw_all) (q2 : Cond.instanceMethod y ∈ lw_all) (q3 : Cond.selects (RR ci) y y ∈ lw_all) (q4 : Cond.initialized (RR ci) ∈ lw_all) (q5 : Cond.code y bytes maxL rt2 ∈ lw_all)
    (hyc : y.cls = RR ci ∧ y.cls ≠ "java/lang/invoke/MethodHandle" ∧ y.cls ≠ "java/lang/invoke/VarHandle" ∧ (parseMethodDescriptor y.desc).map (fun d => d.parameters.length) = some n) (hR : fr2 + 1 ≤ fr ∧ 8 + (maxL + 11) + lo2 ≤ lo) (hn : As.length = n) (hst : (st.map fun v => v.category).sum ≤ 8)
    (hd : decode cc pc = .ok (.invokevirtual index, 3)) (h : ∀ v, Sim X cv (pc + 3) L (rv v :: st) (k v)) : Sim X cv pc L (As.reverse ++ rv x :: st) (bnd (gd ci x fc) k) := s_callVT hX hnh hC hci hCt q1 q2 q3 q4 q5 hyc hR hn hst hd h
theorem s_callVT_U {α : Type} {X : Cx} {Rp : Mem → Mem → Prop} {cc bytes : ByteArray} {own : String} {nL : Nat} {rt rt2 : Option FieldType} {fr lo fr2 lo2 maxL index n : Nat} {cv : α → Option Value} {pc : Nat} {L : List (Nat × Value)} {st : List Value} {y : MethodName} {fc : Act Unit} {k : Unit → Act α} (hX : Ok X Rp cc own nL rt fr lo) (hnh : Noh X) {ci x : Nat} {As : List Value} (hC : CpK Rp (ci + 1)) (hci : ci < 20) (hCt : Ct X.l Rp y (ws_ y bytes maxL rt2) fr2 lo2 cvU (rv x :: As) fc)
    (q1 : Cond.methodLink own index y ∈ lw_all) (q2 : Cond.instanceMethod y ∈ lw_all) (q3 : Cond.selects (RR ci) y y ∈ lw_all) (q4 : Cond.initialized (RR ci) ∈ lw_all) (q5 : Cond.code y bytes maxL rt2 ∈ lw_all)
    (hyc : y.cls = RR ci ∧ y.cls ≠ "java/lang/invoke/MethodHandle" ∧ y.cls ≠ "java/lang/invoke/VarHandle" ∧ (parseMethodDescriptor y.desc).map (fun d => d.parameters.length) = some n) (hR : fr2 + 1 ≤ fr ∧ 8 + (maxL + 11) + lo2 ≤ lo) (hn : As.length = n) (hst : (st.map fun v => v.category).sum ≤ 8)
    (hd : decode cc pc = .ok (.invokevirtual index, 3)) (h : ∀ v, Sim X cv (pc + 3) L (st) (k v)) : Sim X cv pc L (As.reverse ++ rv x :: st) (bnd (gd ci x fc) k) := s_callVT hX hnh hC hci hCt q1 q2 q3 q4 q5 hyc hR hn hst hd h
