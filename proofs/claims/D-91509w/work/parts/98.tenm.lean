set_option maxRecDepth 100000
/-! ===== a ten of the model's ===== -/
section
variable {x : Nat} {S : MS} {d e : Dt}
/-- a new day: the starts of the day before don't count -/
theorem RS.day {now : Nat} {stk : List Sk} (h : RS S now stk) : RS S (now + 1) (if now % 144 = 0 then stk.map (fun s => s.set_today 0) else stk) := by
  obtain ⟨r1, r2, r3, r4⟩ := h
  by_cases c : now % 144 = 0
  · rw [if_pos c]
    refine ⟨by rw [List.length_map]; exact r1, by rw [List.length_map]; exact r2, fun j hj => ?_, by rw [List.length_map]; exact r4⟩
    rw [List.length_map] at hj
    obtain ⟨h1, h2, h3, h4, h5, h6, h7, h8, h9⟩ := r3 j hj
    rw [List.getElem_map]
    refine ⟨h1, h2, h3, h4, h5, h6, h7, ?_, by omega⟩
    refine if_neg (fun z => ?_)
    have e1 := congrArg Int32.toInt z.2
    have lt := (S.a 9 j).toInt_lt
    by_cases big : now < 100000
    · rw [i_toInt (by omega)] at e1
      omega
    · omega
  · rw [if_neg c]
    refine ⟨r1, r2, fun j hj => ?_, r4⟩
    obtain ⟨h1, h2, h3, h4, h5, h6, h7, h8, h9⟩ := r3 j hj
    refine ⟨h1, h2, h3, h4, h5, h6, h7, ?_, by omega⟩
    rw [← h8]
    have e1 : (now + 1 - 1) / 144 = (now - 1) / 144 := by omega
    rw [e1]
    by_cases q : S.a 9 j = Int32.ofNat ((now - 1) / 144)
    · rw [if_pos ⟨by omega, q⟩, if_pos ⟨by omega, q⟩]
    · rw [if_neg (fun z => q z.2), if_neg (fun z => q z.2)]
end
