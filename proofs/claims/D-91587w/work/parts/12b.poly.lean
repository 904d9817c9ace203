/-! fields and calls of several classes -/
set_option maxRecDepth 100000
theorem fa_ev_0 : ma_fall [11, 12, 13, 14] 0 ("PrairiePool$Event", "week", "I", true) (.int) := by
  intro ci hc
  simp only [List.mem_cons, List.not_mem_nil, or_false] at hc
  rcases hc with rfl | rfl | rfl | rfl
  · exact ⟨_, _, _, cl_11, by decide, rfl, rfl⟩
  · exact ⟨_, _, _, cl_12, by decide, rfl, rfl⟩
  · exact ⟨_, _, _, cl_13, by decide, rfl, rfl⟩
  · exact ⟨_, _, _, cl_14, by decide, rfl, rfl⟩
theorem fa_ev_1 : ma_fall [11, 12, 13, 14] 1 ("PrairiePool$Event", "known", "I", true) (.int) := by
  intro ci hc
  simp only [List.mem_cons, List.not_mem_nil, or_false] at hc
  rcases hc with rfl | rfl | rfl | rfl
  · exact ⟨_, _, _, cl_11, by decide, rfl, rfl⟩
  · exact ⟨_, _, _, cl_12, by decide, rfl, rfl⟩
  · exact ⟨_, _, _, cl_13, by decide, rfl, rfl⟩
  · exact ⟨_, _, _, cl_14, by decide, rfl, rfl⟩
theorem fa_ev_2 : ma_fall [11, 12, 13, 14] 2 ("PrairiePool$Event", "amount", "I", true) (.int) := by
  intro ci hc
  simp only [List.mem_cons, List.not_mem_nil, or_false] at hc
  rcases hc with rfl | rfl | rfl | rfl
  · exact ⟨_, _, _, cl_11, by decide, rfl, rfl⟩
  · exact ⟨_, _, _, cl_12, by decide, rfl, rfl⟩
  · exact ⟨_, _, _, cl_13, by decide, rfl, rfl⟩
  · exact ⟨_, _, _, cl_14, by decide, rfl, rfl⟩
theorem fa_sp_3 : ma_fall [12, 13] 3 ("PrairiePool$Taking", "at", "I", true) (.int) := by
  intro ci hc
  simp only [List.mem_cons, List.not_mem_nil, or_false] at hc
  rcases hc with rfl | rfl
  · exact ⟨_, _, _, cl_12, by decide, rfl, rfl⟩
  · exact ⟨_, _, _, cl_13, by decide, rfl, rfl⟩
theorem fa_sp_4 : ma_fall [12, 13] 4 ("PrairiePool$Taking", "grade", "I", true) (.int) := by
  intro ci hc
  simp only [List.mem_cons, List.not_mem_nil, or_false] at hc
  rcases hc with rfl | rfl
  · exact ⟨_, _, _, cl_12, by decide, rfl, rfl⟩
  · exact ⟨_, _, _, cl_13, by decide, rfl, rfl⟩
theorem fa_sp_5 : ma_fall [12, 13] 5 ("PrairiePool$Taking", "year", "I", true) (.int) := by
  intro ci hc
  simp only [List.mem_cons, List.not_mem_nil, or_false] at hc
  rcases hc with rfl | rfl
  · exact ⟨_, _, _, cl_12, by decide, rfl, rfl⟩
  · exact ⟨_, _, _, cl_13, by decide, rfl, rfl⟩
theorem fa_tk_3 : ma_fall [12, 13, 14] 3 ("PrairiePool$Taking", "at", "I", true) (.int) := by
  intro ci hc
  simp only [List.mem_cons, List.not_mem_nil, or_false] at hc
  rcases hc with rfl | rfl | rfl
  · exact ⟨_, _, _, cl_12, by decide, rfl, rfl⟩
  · exact ⟨_, _, _, cl_13, by decide, rfl, rfl⟩
  · exact ⟨_, _, _, cl_14, by decide, rfl, rfl⟩
theorem fa_tk_4 : ma_fall [12, 13, 14] 4 ("PrairiePool$Taking", "grade", "I", true) (.int) := by
  intro ci hc
  simp only [List.mem_cons, List.not_mem_nil, or_false] at hc
  rcases hc with rfl | rfl | rfl
  · exact ⟨_, _, _, cl_12, by decide, rfl, rfl⟩
  · exact ⟨_, _, _, cl_13, by decide, rfl, rfl⟩
  · exact ⟨_, _, _, cl_14, by decide, rfl, rfl⟩
theorem fa_tk_5 : ma_fall [12, 13, 14] 5 ("PrairiePool$Taking", "year", "I", true) (.int) := by
  intro ci hc
  simp only [List.mem_cons, List.not_mem_nil, or_false] at hc
  rcases hc with rfl | rfl | rfl
  · exact ⟨_, _, _, cl_12, by decide, rfl, rfl⟩
  · exact ⟨_, _, _, cl_13, by decide, rfl, rfl⟩
  · exact ⟨_, _, _, cl_14, by decide, rfl, rfl⟩
theorem fa_tm_0 : ma_fall [16, 17, 18, 19] 0 ("PrairiePool$Term", "next", "LPrairiePool$Term;", false) (.object "PrairiePool$Term") := by
  intro ci hc
  simp only [List.mem_cons, List.not_mem_nil, or_false] at hc
  rcases hc with rfl | rfl | rfl | rfl
  · exact ⟨_, _, _, cl_16, by decide, rfl, rfl⟩
  · exact ⟨_, _, _, cl_17, by decide, rfl, rfl⟩
  · exact ⟨_, _, _, cl_18, by decide, rfl, rfl⟩
  · exact ⟨_, _, _, cl_19, by decide, rfl, rfl⟩
theorem fa_tm_1 : ma_fall [16, 17, 18, 19] 1 ("PrairiePool$Term", "how", "I", false) (.int) := by
  intro ci hc
  simp only [List.mem_cons, List.not_mem_nil, or_false] at hc
  rcases hc with rfl | rfl | rfl | rfl
  · exact ⟨_, _, _, cl_16, by decide, rfl, rfl⟩
  · exact ⟨_, _, _, cl_17, by decide, rfl, rfl⟩
  · exact ⟨_, _, _, cl_18, by decide, rfl, rfl⟩
  · exact ⟨_, _, _, cl_19, by decide, rfl, rfl⟩
theorem ae_ev : ∀ ci ∈ [11, 12, 13, 14], ∃ C T N, ma_cl[ci]? = some (C, T, N) ∧ (C = "PrairiePool$Event" ∨ Cond.castable C "PrairiePool$Event" ∈ lw_tbl) := by
  intro ci hc
  simp only [List.mem_cons, List.not_mem_nil, or_false] at hc
  rcases hc with rfl | rfl | rfl | rfl
  · exact ⟨_, _, _, cl_11, Or.inr q2463⟩
  · exact ⟨_, _, _, cl_12, Or.inr q2466⟩
  · exact ⟨_, _, _, cl_13, Or.inr q2464⟩
  · exact ⟨_, _, _, cl_14, Or.inr q2465⟩
theorem ae_tm : ∀ ci ∈ [16, 17, 18, 19], ∃ C T N, ma_cl[ci]? = some (C, T, N) ∧ (C = "PrairiePool$Term" ∨ Cond.castable C "PrairiePool$Term" ∈ lw_tbl) := by
  intro ci hc
  simp only [List.mem_cons, List.not_mem_nil, or_false] at hc
  rcases hc with rfl | rfl | rfl | rfl
  · exact ⟨_, _, _, cl_16, Or.inr q2467⟩
  · exact ⟨_, _, _, cl_17, Or.inr q2468⟩
  · exact ⟨_, _, _, cl_18, Or.inr q2469⟩
  · exact ⟨_, _, _, cl_19, Or.inr q2470⟩
theorem pu_bushels : ∀ ci ∈ [12, 13, 14], ∃ C T N, ma_cl[ci]? = some (C, T, N) ∧ ma_cal ((fun _ => mi_X11_bushels : Nat → ma_M) (ci + 1)) ∧ ma_up ⟨"PrairiePool$Taking", "bushels", "()I"⟩ ((fun _ => mi_X11_bushels : Nat → ma_M) (ci + 1)).1 C "PrairiePool$Event" ∧ 0 + 1 ≤ ((fun _ => mi_X11_bushels : Nat → ma_M) (ci + 1)).2.2.1 ∧ ((fun _ => mi_X11_bushels : Nat → ma_M) (ci + 1)).2.2.1 ≤ 40 := by
  intro ci hc
  simp only [List.mem_cons, List.not_mem_nil, or_false] at hc
  rcases hc with rfl | rfl | rfl
  · exact ⟨_, _, _, cl_12, ca_X11_bushels, ⟨Or.inl q1094, Or.inl q1095, Or.inl q1098, q1011, by decide, by decide⟩, by decide, by decide⟩
  · exact ⟨_, _, _, cl_13, ca_X11_bushels, ⟨Or.inl q1094, Or.inl q1095, Or.inl q1096, q1011, by decide, by decide⟩, by decide, by decide⟩
  · exact ⟨_, _, _, cl_14, ca_X11_bushels, ⟨Or.inl q1094, Or.inl q1095, Or.inl q1097, q1011, by decide, by decide⟩, by decide, by decide⟩
def vm_goal : Nat → ma_M := fun k => match k with
  | 13 => mi_X14_goal
  | _ => mi_X15_goal
theorem pu_goal : ∀ ci ∈ [12, 13], ∃ C T N, ma_cl[ci]? = some (C, T, N) ∧ ma_cal (vm_goal (ci + 1)) ∧ ma_up ⟨"PrairiePool$Spoil", "goal", "(LPrairiePool$Play;)LPrairiePool$Heap;"⟩ (vm_goal (ci + 1)).1 C "PrairiePool$Spoil" ∧ 1 + 1 ≤ (vm_goal (ci + 1)).2.2.1 ∧ (vm_goal (ci + 1)).2.2.1 ≤ 40 := by
  intro ci hc
  simp only [List.mem_cons, List.not_mem_nil, or_false] at hc
  rcases hc with rfl | rfl
  · exact ⟨_, _, _, cl_12, ca_X14_goal, ⟨Or.inl q1105, Or.inr ⟨mi_X14_goal, rfl, ca_X14_goal, q1103⟩, Or.inl q1104, q1103, by decide, by decide⟩, by decide, by decide⟩
  · exact ⟨_, _, _, cl_13, ca_X15_goal, ⟨Or.inl q1105, Or.inr ⟨mi_X14_goal, rfl, ca_X14_goal, q1103⟩, Or.inl q1106, q1107, by decide, by decide⟩, by decide, by decide⟩
def vm_plays : Nat → ma_M := fun k => match k with
  | 12 => mi_X12_plays
  | 13 => mi_X14_plays
  | 14 => mi_X14_plays
  | _ => mi_X16_plays
theorem pu_plays : ∀ ci ∈ [11, 12, 13, 14], ∃ C T N, ma_cl[ci]? = some (C, T, N) ∧ ma_cal (vm_plays (ci + 1)) ∧ ma_up ⟨"PrairiePool$Event", "plays", "(LPrairiePool$Play;)V"⟩ (vm_plays (ci + 1)).1 C "PrairiePool$Plays" ∧ 1 + 1 ≤ (vm_plays (ci + 1)).2.2.1 ∧ (vm_plays (ci + 1)).2.2.1 ≤ 40 := by
  intro ci hc
  simp only [List.mem_cons, List.not_mem_nil, or_false] at hc
  rcases hc with rfl | rfl | rfl | rfl
  · exact ⟨_, _, _, cl_11, ca_X12_plays, ⟨Or.inr (by simp [defaultWords_1]), Or.inl q1082, Or.inr q1135, q1136, by decide, by decide⟩, by decide, by decide⟩
  · exact ⟨_, _, _, cl_12, ca_X14_plays, ⟨Or.inr (by simp [defaultWords_1]), Or.inl q1082, Or.inr q1152, q1084, by decide, by decide⟩, by decide, by decide⟩
  · exact ⟨_, _, _, cl_13, ca_X14_plays, ⟨Or.inr (by simp [defaultWords_1]), Or.inl q1082, Or.inr q1083, q1084, by decide, by decide⟩, by decide, by decide⟩
  · exact ⟨_, _, _, cl_14, ca_X16_plays, ⟨Or.inr (by simp [defaultWords_1]), Or.inl q1082, Or.inr q1145, q1146, by decide, by decide⟩, by decide, by decide⟩
def vm_row : Nat → ma_M := fun k => match k with
  | 13 => mi_X14_row
  | _ => mi_X15_row
theorem pu_row : ∀ ci ∈ [12, 13], ∃ C T N, ma_cl[ci]? = some (C, T, N) ∧ ma_cal (vm_row (ci + 1)) ∧ ma_up ⟨"PrairiePool$Spoil", "row", "(LPrairiePool$Play;)[I"⟩ (vm_row (ci + 1)).1 C "PrairiePool$Spoil" ∧ 1 + 1 ≤ (vm_row (ci + 1)).2.2.1 ∧ (vm_row (ci + 1)).2.2.1 ≤ 40 := by
  intro ci hc
  simp only [List.mem_cons, List.not_mem_nil, or_false] at hc
  rcases hc with rfl | rfl
  · exact ⟨_, _, _, cl_12, ca_X14_row, ⟨Or.inl q1113, Or.inr ⟨mi_X14_row, rfl, ca_X14_row, q1111⟩, Or.inl q1112, q1111, by decide, by decide⟩, by decide, by decide⟩
  · exact ⟨_, _, _, cl_13, ca_X15_row, ⟨Or.inl q1113, Or.inr ⟨mi_X14_row, rfl, ca_X14_row, q1111⟩, Or.inl q1114, q1115, by decide, by decide⟩, by decide, by decide⟩
theorem pu_some_2 : ∀ ci ∈ [14], ∃ C T N, ma_cl[ci]? = some (C, T, N) ∧ ma_cal ((fun _ => mi_X13_some : Nat → ma_M) (ci + 1)) ∧ ma_up ⟨"PrairiePool$Sale", "some", "(LPrairiePool$Play;LPrairiePool$Heap;)I"⟩ ((fun _ => mi_X13_some : Nat → ma_M) (ci + 1)).1 C "PrairiePool$Taking" ∧ 2 + 1 ≤ ((fun _ => mi_X13_some : Nat → ma_M) (ci + 1)).2.2.1 ∧ ((fun _ => mi_X13_some : Nat → ma_M) (ci + 1)).2.2.1 ≤ 40 := by
  intro ci hc
  simp only [List.mem_cons, List.not_mem_nil, or_false] at hc
  rcases hc with rfl
  · exact ⟨_, _, _, cl_14, ca_X13_some, ⟨Or.inl q1149, Or.inl q1088, Or.inl q1150, q1091, by decide, by decide⟩, by decide, by decide⟩
theorem pu_some_3 : ∀ ci ∈ [12, 13], ∃ C T N, ma_cl[ci]? = some (C, T, N) ∧ ma_cal ((fun _ => mi_X13_some : Nat → ma_M) (ci + 1)) ∧ ma_up ⟨"PrairiePool$Spoil", "some", "(LPrairiePool$Play;LPrairiePool$Heap;)I"⟩ ((fun _ => mi_X13_some : Nat → ma_M) (ci + 1)).1 C "PrairiePool$Taking" ∧ 2 + 1 ≤ ((fun _ => mi_X13_some : Nat → ma_M) (ci + 1)).2.2.1 ∧ ((fun _ => mi_X13_some : Nat → ma_M) (ci + 1)).2.2.1 ≤ 40 := by
  intro ci hc
  simp only [List.mem_cons, List.not_mem_nil, or_false] at hc
  rcases hc with rfl | rfl
  · exact ⟨_, _, _, cl_12, ca_X13_some, ⟨Or.inl q1087, Or.inl q1088, Or.inl q1090, q1091, by decide, by decide⟩, by decide, by decide⟩
  · exact ⟨_, _, _, cl_13, ca_X13_some, ⟨Or.inl q1087, Or.inl q1088, Or.inl q1089, q1091, by decide, by decide⟩, by decide, by decide⟩
def vm_value : Nat → ma_M := fun k => match k with
  | 17 => mi_X19_value
  | 18 => mi_X20_value
  | 19 => mi_X21_value
  | _ => mi_X22_value
theorem pu_value : ∀ ci ∈ [16, 17, 18, 19], ∃ C T N, ma_cl[ci]? = some (C, T, N) ∧ ma_cal (vm_value (ci + 1)) ∧ ma_up ⟨"PrairiePool$Term", "value", "(LPrairiePool$Asked;)J"⟩ (vm_value (ci + 1)).1 C "PrairiePool$Term" ∧ 1 + 1 ≤ (vm_value (ci + 1)).2.2.1 ∧ (vm_value (ci + 1)).2.2.1 ≤ 40 := by
  intro ci hc
  simp only [List.mem_cons, List.not_mem_nil, or_false] at hc
  rcases hc with rfl | rfl | rfl | rfl
  · exact ⟨_, _, _, cl_16, ca_X19_value, ⟨Or.inl q1030, Or.inl q1029, Or.inl q1031, q1032, by decide, by decide⟩, by decide, by decide⟩
  · exact ⟨_, _, _, cl_17, ca_X20_value, ⟨Or.inl q1030, Or.inl q1029, Or.inl q1062, q1050, by decide, by decide⟩, by decide, by decide⟩
  · exact ⟨_, _, _, cl_18, ca_X21_value, ⟨Or.inl q1030, Or.inl q1029, Or.inl q1061, q1048, by decide, by decide⟩, by decide, by decide⟩
  · exact ⟨_, _, _, cl_19, ca_X22_value, ⟨Or.inl q1030, Or.inl q1029, Or.inl q1060, q1035, by decide, by decide⟩, by decide, by decide⟩
