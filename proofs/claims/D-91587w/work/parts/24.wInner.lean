/-! walks -/
set_option maxRecDepth 100000
theorem dX1_init_0 : decode mi_X1_init.2.1 0 = .ok (.aload_n 0, 1) := by decide +kernel
theorem dX1_init_1 : decode mi_X1_init.2.1 1 = .ok (.invokespecial 3, 3) := by decide +kernel
theorem dX1_init_4 : decode mi_X1_init.2.1 4 = .ok (.aload_n 0, 1) := by decide +kernel
theorem dX1_init_5 : decode mi_X1_init.2.1 5 = .ok (.bipush 8, 2) := by decide +kernel
theorem dX1_init_7 : decode mi_X1_init.2.1 7 = .ok (.bipush 6, 2) := by decide +kernel
theorem dX1_init_9 : decode mi_X1_init.2.1 9 = .ok (.bipush 10, 2) := by decide +kernel
theorem dX1_init_11 : decode mi_X1_init.2.1 11 = .ok (.multianewarray 9 3, 4) := by decide +kernel
theorem dX1_init_15 : decode mi_X1_init.2.1 15 = .ok (.putfield 11, 3) := by decide +kernel
theorem dX1_init_18 : decode mi_X1_init.2.1 18 = .ok (.aload_n 0, 1) := by decide +kernel
theorem dX1_init_19 : decode mi_X1_init.2.1 19 = .ok (.iconst 2, 1) := by decide +kernel
theorem dX1_init_20 : decode mi_X1_init.2.1 20 = .ok (.bipush 6, 2) := by decide +kernel
theorem dX1_init_22 : decode mi_X1_init.2.1 22 = .ok (.bipush 10, 2) := by decide +kernel
theorem dX1_init_24 : decode mi_X1_init.2.1 24 = .ok (.multianewarray 9 3, 4) := by decide +kernel
theorem dX1_init_28 : decode mi_X1_init.2.1 28 = .ok (.putfield 16, 3) := by decide +kernel
theorem dX1_init_31 : decode mi_X1_init.2.1 31 = .ok (.aload_n 0, 1) := by decide +kernel
theorem dX1_init_32 : decode mi_X1_init.2.1 32 = .ok (.bipush 6, 2) := by decide +kernel
theorem dX1_init_34 : decode mi_X1_init.2.1 34 = .ok (.bipush 10, 2) := by decide +kernel
theorem dX1_init_36 : decode mi_X1_init.2.1 36 = .ok (.multianewarray 19 2, 4) := by decide +kernel
theorem dX1_init_40 : decode mi_X1_init.2.1 40 = .ok (.putfield 21, 3) := by decide +kernel
theorem dX1_init_43 : decode mi_X1_init.2.1 43 = .ok (.aload_n 0, 1) := by decide +kernel
theorem dX1_init_44 : decode mi_X1_init.2.1 44 = .ok (.bipush 6, 2) := by decide +kernel
theorem dX1_init_46 : decode mi_X1_init.2.1 46 = .ok (.bipush 10, 2) := by decide +kernel
theorem dX1_init_48 : decode mi_X1_init.2.1 48 = .ok (.multianewarray 24 2, 4) := by decide +kernel
theorem dX1_init_52 : decode mi_X1_init.2.1 52 = .ok (.putfield 26, 3) := by decide +kernel
theorem dX1_init_55 : decode mi_X1_init.2.1 55 = .ok (.aload_n 0, 1) := by decide +kernel
theorem dX1_init_56 : decode mi_X1_init.2.1 56 = .ok (.bipush 8, 2) := by decide +kernel
theorem dX1_init_58 : decode mi_X1_init.2.1 58 = .ok (.newarray .int, 2) := by decide +kernel
theorem dX1_init_60 : decode mi_X1_init.2.1 60 = .ok (.putfield 29, 3) := by decide +kernel
theorem dX1_init_63 : decode mi_X1_init.2.1 63 = .ok (.aload_n 0, 1) := by decide +kernel
theorem dX1_init_64 : decode mi_X1_init.2.1 64 = .ok (.bipush 8, 2) := by decide +kernel
theorem dX1_init_66 : decode mi_X1_init.2.1 66 = .ok (.newarray .int, 2) := by decide +kernel
theorem dX1_init_68 : decode mi_X1_init.2.1 68 = .ok (.putfield 33, 3) := by decide +kernel
theorem dX1_init_71 : decode mi_X1_init.2.1 71 = .ok (.aload_n 0, 1) := by decide +kernel
theorem dX1_init_72 : decode mi_X1_init.2.1 72 = .ok (.bipush 20, 2) := by decide +kernel
theorem dX1_init_74 : decode mi_X1_init.2.1 74 = .ok (.newarray .int, 2) := by decide +kernel
theorem dX1_init_76 : decode mi_X1_init.2.1 76 = .ok (.putfield 36, 3) := by decide +kernel
theorem dX1_init_79 : decode mi_X1_init.2.1 79 = .ok (.aload_n 0, 1) := by decide +kernel
theorem dX1_init_80 : decode mi_X1_init.2.1 80 = .ok (.bipush 20, 2) := by decide +kernel
theorem dX1_init_82 : decode mi_X1_init.2.1 82 = .ok (.newarray .int, 2) := by decide +kernel
theorem dX1_init_84 : decode mi_X1_init.2.1 84 = .ok (.putfield 39, 3) := by decide +kernel
theorem dX1_init_87 : decode mi_X1_init.2.1 87 = .ok (.aload_n 0, 1) := by decide +kernel
theorem dX1_init_88 : decode mi_X1_init.2.1 88 = .ok (.bipush 20, 2) := by decide +kernel
theorem dX1_init_90 : decode mi_X1_init.2.1 90 = .ok (.newarray .int, 2) := by decide +kernel
theorem dX1_init_92 : decode mi_X1_init.2.1 92 = .ok (.putfield 42, 3) := by decide +kernel
theorem dX1_init_95 : decode mi_X1_init.2.1 95 = .ok (.aload_n 0, 1) := by decide +kernel
theorem dX1_init_96 : decode mi_X1_init.2.1 96 = .ok (.bipush 20, 2) := by decide +kernel
theorem dX1_init_98 : decode mi_X1_init.2.1 98 = .ok (.newarray .int, 2) := by decide +kernel
theorem dX1_init_100 : decode mi_X1_init.2.1 100 = .ok (.putfield 45, 3) := by decide +kernel
theorem dX1_init_103 : decode mi_X1_init.2.1 103 = .ok (.aload_n 0, 1) := by decide +kernel
theorem dX1_init_104 : decode mi_X1_init.2.1 104 = .ok (.new 48, 3) := by decide +kernel
theorem dX1_init_107 : decode mi_X1_init.2.1 107 = .ok (.dup, 1) := by decide +kernel
theorem dX1_init_108 : decode mi_X1_init.2.1 108 = .ok (.invokespecial 50, 3) := by decide +kernel
theorem dX1_init_111 : decode mi_X1_init.2.1 111 = .ok (.putfield 51, 3) := by decide +kernel
theorem dX1_init_114 : decode mi_X1_init.2.1 114 = .ok (.iconst 0, 1) := by decide +kernel
theorem dX1_init_115 : decode mi_X1_init.2.1 115 = .ok (.istore_n 1, 1) := by decide +kernel
theorem dX1_init_116 : decode mi_X1_init.2.1 116 = .ok (.iload_n 1, 1) := by decide +kernel
theorem dX1_init_117 : decode mi_X1_init.2.1 117 = .ok (.bipush 6, 2) := by decide +kernel
theorem dX1_init_119 : decode mi_X1_init.2.1 119 = .ok (.if_icmp .ge 99, 3) := by decide +kernel
theorem dX1_init_122 : decode mi_X1_init.2.1 122 = .ok (.iconst 0, 1) := by decide +kernel
theorem dX1_init_123 : decode mi_X1_init.2.1 123 = .ok (.istore_n 2, 1) := by decide +kernel
theorem dX1_init_124 : decode mi_X1_init.2.1 124 = .ok (.iload_n 2, 1) := by decide +kernel
theorem dX1_init_125 : decode mi_X1_init.2.1 125 = .ok (.bipush 10, 2) := by decide +kernel
theorem dX1_init_127 : decode mi_X1_init.2.1 127 = .ok (.if_icmp .ge 85, 3) := by decide +kernel
theorem dX1_init_130 : decode mi_X1_init.2.1 130 = .ok (.iconst 0, 1) := by decide +kernel
theorem dX1_init_131 : decode mi_X1_init.2.1 131 = .ok (.istore_n 3, 1) := by decide +kernel
theorem dX1_init_132 : decode mi_X1_init.2.1 132 = .ok (.iload_n 3, 1) := by decide +kernel
theorem dX1_init_133 : decode mi_X1_init.2.1 133 = .ok (.bipush 8, 2) := by decide +kernel
theorem dX1_init_135 : decode mi_X1_init.2.1 135 = .ok (.if_icmp .ge 26, 3) := by decide +kernel
theorem dX1_init_138 : decode mi_X1_init.2.1 138 = .ok (.aload_n 0, 1) := by decide +kernel
theorem dX1_init_139 : decode mi_X1_init.2.1 139 = .ok (.getfield 11, 3) := by decide +kernel
theorem dX1_init_142 : decode mi_X1_init.2.1 142 = .ok (.iload_n 3, 1) := by decide +kernel
theorem dX1_init_143 : decode mi_X1_init.2.1 143 = .ok (.aaload, 1) := by decide +kernel
theorem dX1_init_144 : decode mi_X1_init.2.1 144 = .ok (.iload_n 1, 1) := by decide +kernel
theorem dX1_init_145 : decode mi_X1_init.2.1 145 = .ok (.aaload, 1) := by decide +kernel
theorem dX1_init_146 : decode mi_X1_init.2.1 146 = .ok (.iload_n 2, 1) := by decide +kernel
theorem dX1_init_147 : decode mi_X1_init.2.1 147 = .ok (.new 55, 3) := by decide +kernel
theorem dX1_init_150 : decode mi_X1_init.2.1 150 = .ok (.dup, 1) := by decide +kernel
theorem dX1_init_151 : decode mi_X1_init.2.1 151 = .ok (.invokespecial 57, 3) := by decide +kernel
theorem dX1_init_154 : decode mi_X1_init.2.1 154 = .ok (.aastore, 1) := by decide +kernel
theorem dX1_init_155 : decode mi_X1_init.2.1 155 = .ok (.iinc 3 1, 3) := by decide +kernel
theorem dX1_init_158 : decode mi_X1_init.2.1 158 = .ok (.goto (-26), 3) := by decide +kernel
theorem dX1_init_161 : decode mi_X1_init.2.1 161 = .ok (.iconst 0, 1) := by decide +kernel
theorem dX1_init_162 : decode mi_X1_init.2.1 162 = .ok (.istore_n 3, 1) := by decide +kernel
theorem dX1_init_163 : decode mi_X1_init.2.1 163 = .ok (.iload_n 3, 1) := by decide +kernel
theorem dX1_init_164 : decode mi_X1_init.2.1 164 = .ok (.iconst 2, 1) := by decide +kernel
theorem dX1_init_165 : decode mi_X1_init.2.1 165 = .ok (.if_icmp .ge 26, 3) := by decide +kernel
theorem dX1_init_168 : decode mi_X1_init.2.1 168 = .ok (.aload_n 0, 1) := by decide +kernel
theorem dX1_init_169 : decode mi_X1_init.2.1 169 = .ok (.getfield 16, 3) := by decide +kernel
theorem dX1_init_172 : decode mi_X1_init.2.1 172 = .ok (.iload_n 3, 1) := by decide +kernel
theorem dX1_init_173 : decode mi_X1_init.2.1 173 = .ok (.aaload, 1) := by decide +kernel
theorem dX1_init_174 : decode mi_X1_init.2.1 174 = .ok (.iload_n 1, 1) := by decide +kernel
theorem dX1_init_175 : decode mi_X1_init.2.1 175 = .ok (.aaload, 1) := by decide +kernel
theorem dX1_init_176 : decode mi_X1_init.2.1 176 = .ok (.iload_n 2, 1) := by decide +kernel
theorem dX1_init_177 : decode mi_X1_init.2.1 177 = .ok (.new 55, 3) := by decide +kernel
theorem dX1_init_180 : decode mi_X1_init.2.1 180 = .ok (.dup, 1) := by decide +kernel
theorem dX1_init_181 : decode mi_X1_init.2.1 181 = .ok (.invokespecial 57, 3) := by decide +kernel
theorem dX1_init_184 : decode mi_X1_init.2.1 184 = .ok (.aastore, 1) := by decide +kernel
theorem dX1_init_185 : decode mi_X1_init.2.1 185 = .ok (.iinc 3 1, 3) := by decide +kernel
theorem dX1_init_188 : decode mi_X1_init.2.1 188 = .ok (.goto (-25), 3) := by decide +kernel
theorem dX1_init_191 : decode mi_X1_init.2.1 191 = .ok (.aload_n 0, 1) := by decide +kernel
theorem dX1_init_192 : decode mi_X1_init.2.1 192 = .ok (.getfield 21, 3) := by decide +kernel
theorem dX1_init_195 : decode mi_X1_init.2.1 195 = .ok (.iload_n 1, 1) := by decide +kernel
theorem dX1_init_196 : decode mi_X1_init.2.1 196 = .ok (.aaload, 1) := by decide +kernel
theorem dX1_init_197 : decode mi_X1_init.2.1 197 = .ok (.iload_n 2, 1) := by decide +kernel
theorem dX1_init_198 : decode mi_X1_init.2.1 198 = .ok (.new 55, 3) := by decide +kernel
theorem dX1_init_201 : decode mi_X1_init.2.1 201 = .ok (.dup, 1) := by decide +kernel
theorem dX1_init_202 : decode mi_X1_init.2.1 202 = .ok (.invokespecial 57, 3) := by decide +kernel
theorem dX1_init_205 : decode mi_X1_init.2.1 205 = .ok (.aastore, 1) := by decide +kernel
theorem dX1_init_206 : decode mi_X1_init.2.1 206 = .ok (.iinc 2 1, 3) := by decide +kernel
theorem dX1_init_209 : decode mi_X1_init.2.1 209 = .ok (.goto (-85), 3) := by decide +kernel
theorem dX1_init_212 : decode mi_X1_init.2.1 212 = .ok (.iinc 1 1, 3) := by decide +kernel
theorem dX1_init_215 : decode mi_X1_init.2.1 215 = .ok (.goto (-99), 3) := by decide +kernel
theorem dX1_init_218 : decode mi_X1_init.2.1 218 = .ok (.return_, 1) := by decide +kernel
theorem v_X1_init {G : ma_G} {d : Nat} {a0 : Nat} {h : ah_T} {Q : Option ma_V → ah_T → Prop} {E : Nat → ah_T → Prop}  (H : ah_kd h a0 ≠ 0 ∧ (1 + 7 * 8 ≤ ah_rc h ∧ 8 + 8 * 66 ≤ ah_rs h) ∧ ∀ h3 : ah_T, h3 = ah_mk3 h 8 8 → ah_ext h h3 → ah_liv h → ah_kd h3 a0 = 2 ∧ ah_R h3 a0 0 = 0 ∧ ∀ h7 : ah_T, h7 = ah_wR h3 a0 0 (ah_sz h) → ah_ext h3 h7 → (1 + 7 * 2 ≤ ah_rc h7 ∧ 2 + 2 * 66 ≤ ah_rs h7) ∧ ∀ h9 : ah_T, h9 = ah_mk3 h7 2 2 → ah_ext h7 h9 → ah_liv h7 → ah_R h9 a0 1 = 0 ∧ ∀ h14 : ah_T, h14 = ah_wR h9 a0 1 (ah_sz h7) → ah_ext h9 h14 → (1 + 6 ≤ ah_rc h14 ∧ 6 + 6 * 10 ≤ ah_rs h14) ∧ ∀ h16 : ah_T, h16 = ah_mk2 h14 12 6 11 10 6 → ah_ext h14 h16 → ah_liv h14 → ah_R h16 a0 2 = 0 ∧ ∀ h22 : ah_T, h22 = ah_wR h16 a0 2 (ah_sz h14) → ah_ext h16 h22 → (1 + 6 ≤ ah_rc h22 ∧ 6 + 6 * 10 ≤ ah_rs h22) ∧ ∀ h24 : ah_T, h24 = ah_mk2 h22 15 6 1 10 6 → ah_ext h22 h24 → ah_liv h22 → ah_R h24 a0 3 = 0 ∧ ∀ h31 : ah_T, h31 = ah_wR h24 a0 3 (ah_sz h22) → ah_ext h24 h31 → (1 ≤ ah_rc h31 ∧ 8 ≤ ah_rs h31) ∧ ∀ h33 : ah_T, h33 = ah_new h31 40 8 8 → ah_ext h31 h33 → ah_liv h31 → ah_R h33 a0 4 = 0 ∧ ∀ h41 : ah_T, h41 = ah_wR h33 a0 4 (ah_sz h31) → ah_ext h33 h41 → (1 ≤ ah_rc h41 ∧ 8 ≤ ah_rs h41) ∧ ∀ h43 : ah_T, h43 = ah_new h41 40 8 8 → ah_ext h41 h43 → ah_liv h41 → ah_R h43 a0 5 = 0 ∧ ∀ h52 : ah_T, h52 = ah_wR h43 a0 5 (ah_sz h41) → ah_ext h43 h52 → (1 ≤ ah_rc h52 ∧ 20 ≤ ah_rs h52) ∧ ∀ h54 : ah_T, h54 = ah_new h52 40 20 20 → ah_ext h52 h54 → ah_liv h52 → ah_R h54 a0 6 = 0 ∧ ∀ h64 : ah_T, h64 = ah_wR h54 a0 6 (ah_sz h52) → ah_ext h54 h64 → (1 ≤ ah_rc h64 ∧ 20 ≤ ah_rs h64) ∧ ∀ h66 : ah_T, h66 = ah_new h64 40 20 20 → ah_ext h64 h66 → ah_liv h64 → ah_R h66 a0 7 = 0 ∧ ∀ h77 : ah_T, h77 = ah_wR h66 a0 7 (ah_sz h64) → ah_ext h66 h77 → (1 ≤ ah_rc h77 ∧ 20 ≤ ah_rs h77) ∧ ∀ h79 : ah_T, h79 = ah_new h77 40 20 20 → ah_ext h77 h79 → ah_liv h77 → ah_R h79 a0 8 = 0 ∧ ∀ h91 : ah_T, h91 = ah_wR h79 a0 8 (ah_sz h77) → ah_ext h79 h91 → (1 ≤ ah_rc h91 ∧ 20 ≤ ah_rs h91) ∧ ∀ h93 : ah_T, h93 = ah_new h91 40 20 20 → ah_ext h91 h93 → ah_liv h91 → ah_R h93 a0 9 = 0 ∧ ∀ h106 : ah_T, h106 = ah_wR h93 a0 9 (ah_sz h91) → ah_ext h93 h106 → (1 ≤ ah_rc h106 ∧ 3 ≤ ah_rs h106) ∧ ∀ h108 : ah_T, h108 = ah_new h106 3 0 3 → ah_ext h106 h108 → ah_liv h106 → MX G mi_X2_init d 0 [some (rv (ah_sz h106))] [] h108 (Qv fun h121 => ah_ext h108 h121 → ah_R h121 a0 10 = 0 ∧ ∀ h136 : ah_T, h136 = ah_wR h121 a0 10 (ah_sz h106) → ah_ext h121 h136 → MX G mi_X1_init (d + 1) 116 [some (rv a0), some (iv (0 : Int32)), none, none] [] h136 Q E) E) : MX G mi_X1_init (d + 1) 0 [some (rv a0), none, none, none] [] h Q E := by
  refine mx_aload_n dX1_init_0 rfl rfl ?_
  obtain ⟨k1, H⟩ := H
  refine mx_objInit q178 qobj1 qobj2 dX1_init_1 (Nat.le_of_ble_eq_true rfl) k1 ?_
  refine mx_aload_n dX1_init_4 rfl rfl ?_
  refine mx_bipush dX1_init_5 ib_8 ?_
  refine mx_bipush dX1_init_7 ib_6 ?_
  refine mx_bipush dX1_init_9 ib_10 ?_
  obtain ⟨k2, H⟩ := H
  refine mx_multi3 q180 q181 q179 dX1_init_11 (by decide) (by decide) k2.1 k2.2 (by decide) (fun x_ lv_ => ?_)
  refine mx_nmG x_ lv_ (fun h3 eh3 Xh3 lv_ => ?_)
  have H := H h3 eh3 Xh3 lv_
  have k4 : ah_kd h3 (ah_sz h) = 53 := by rw [eh3]; exact (mk3_1 _ _ _).2.2.2.1
  obtain ⟨k5, H⟩ := H
  obtain ⟨k6, H⟩ := H
  refine mx_putA 1 0 (ref := "PrairiePool$Play") cl_1 (Nat.le_of_ble_eq_true rfl) (Or.inl q223) (Or.inl rfl) dX1_init_15 (Or.inr ⟨rfl, rfl, rfl, q223⟩) rfl (Or.inr k6) k5 ?_
  refine mx_nmR (ah_ext.wR (Or.inr (Or.inl k6))) (fun h7 eh7 Xh7 Kh7 Lh7 => ?_)
  have H := H h7 eh7 Xh7
  refine mx_aload_n dX1_init_18 rfl rfl ?_
  refine mx_iconst dX1_init_19 ic_2 ?_
  refine mx_bipush dX1_init_20 ib_6 ?_
  refine mx_bipush dX1_init_22 ib_10 ?_
  obtain ⟨k8, H⟩ := H
  refine mx_multi3 q180 q181 q179 dX1_init_24 (by decide) (by decide) k8.1 k8.2 (by decide) (fun x_ lv_ => ?_)
  refine mx_nmG x_ lv_ (fun h9 eh9 Xh9 lv_ => ?_)
  have H := H h9 eh9 Xh9 lv_
  have k10 := Xh9.kd ((ma_kde Kh7 (k4)))
  have k11 := Xh9.kd ((ma_kde Kh7 (k5)))
  have k12 : ah_kd h9 (ah_sz h7) = 53 := by rw [eh9]; exact (mk3_1 _ _ _).2.2.2.1
  obtain ⟨k13, H⟩ := H
  refine mx_putA 1 1 (ref := "PrairiePool$Play") cl_1 (Nat.le_of_ble_eq_true rfl) (Or.inl q227) (Or.inl rfl) dX1_init_28 (Or.inr ⟨rfl, rfl, rfl, q227⟩) rfl (Or.inr k13) k11 ?_
  refine mx_nmR (ah_ext.wR (Or.inr (Or.inl k13))) (fun h14 eh14 Xh14 Kh14 Lh14 => ?_)
  have H := H h14 eh14 Xh14
  refine mx_aload_n dX1_init_31 rfl rfl ?_
  refine mx_bipush dX1_init_32 ib_6 ?_
  refine mx_bipush dX1_init_34 ib_10 ?_
  obtain ⟨k15, H⟩ := H
  refine mx_multi2 12 11 (by decide) (by decide) rfl rfl q181 q183 rfl dX1_init_36 (by decide) (by decide) (by decide) (by decide) k15.1 k15.2 (by decide) (by decide) (fun x_ lv_ => ?_)
  refine mx_nmG x_ lv_ (fun h16 eh16 Xh16 lv_ => ?_)
  have H := H h16 eh16 Xh16 lv_
  have k17 := Xh16.kd ((ma_kde Kh14 (k10)))
  have k18 := Xh16.kd ((ma_kde Kh14 (k11)))
  have k19 := Xh16.kd ((ma_kde Kh14 (k12)))
  have k20 : ah_kd h16 (ah_sz h14) = 52 := by rw [eh16]; exact (mk2_1 _ _ _ _ _ _).2.2.2.1
  obtain ⟨k21, H⟩ := H
  refine mx_putA 1 2 (ref := "PrairiePool$Play") cl_1 (Nat.le_of_ble_eq_true rfl) (Or.inl q231) (Or.inl rfl) dX1_init_40 (Or.inr ⟨rfl, rfl, rfl, q231⟩) rfl (Or.inr k21) k18 ?_
  refine mx_nmR (ah_ext.wR (Or.inr (Or.inl k21))) (fun h22 eh22 Xh22 Kh22 Lh22 => ?_)
  have H := H h22 eh22 Xh22
  refine mx_aload_n dX1_init_43 rfl rfl ?_
  refine mx_bipush dX1_init_44 ib_6 ?_
  refine mx_bipush dX1_init_46 ib_10 ?_
  obtain ⟨k23, H⟩ := H
  refine mx_multi2 15 1 (by decide) (by decide) rfl rfl q185 q184 rfl dX1_init_48 (by decide) (by decide) (by decide) (by decide) k23.1 k23.2 (by decide) (by decide) (fun x_ lv_ => ?_)
  refine mx_nmG x_ lv_ (fun h24 eh24 Xh24 lv_ => ?_)
  have H := H h24 eh24 Xh24 lv_
  have k25 := Xh24.kd ((ma_kde Kh22 (k17)))
  have k26 := Xh24.kd ((ma_kde Kh22 (k18)))
  have k27 := Xh24.kd ((ma_kde Kh22 (k19)))
  have k28 := Xh24.kd ((ma_kde Kh22 (k20)))
  have k29 : ah_kd h24 (ah_sz h22) = 55 := by rw [eh24]; exact (mk2_1 _ _ _ _ _ _).2.2.2.1
  obtain ⟨k30, H⟩ := H
  refine mx_putA 1 3 (ref := "PrairiePool$Play") cl_1 (Nat.le_of_ble_eq_true rfl) (Or.inl q234) (Or.inl rfl) dX1_init_52 (Or.inr ⟨rfl, rfl, rfl, q234⟩) rfl (Or.inr k30) k26 ?_
  refine mx_nmR (ah_ext.wR (Or.inr (Or.inl k30))) (fun h31 eh31 Xh31 Kh31 Lh31 => ?_)
  have H := H h31 eh31 Xh31
  refine mx_aload_n dX1_init_55 rfl rfl ?_
  refine mx_bipush dX1_init_56 ib_8 ?_
  obtain ⟨k32, H⟩ := H
  refine mx_newa 0 rfl (by decide) q205 dX1_init_58 cn_8 (by decide) k32.1 k32.2 (by decide) (fun x_ lv_ => ?_)
  refine mx_nmN x_ lv_ (fun h33 eh33 Xh33 lv_ => ?_)
  have H := H h33 eh33 Xh33 lv_
  have k34 := Xh33.kd ((ma_kde Kh31 (k25)))
  have k35 := Xh33.kd ((ma_kde Kh31 (k26)))
  have k36 := Xh33.kd ((ma_kde Kh31 (k27)))
  have k37 := Xh33.kd ((ma_kde Kh31 (k28)))
  have k38 := Xh33.kd ((ma_kde Kh31 (k29)))
  have k39 : ah_kd h33 (ah_sz h31) = 40 := by rw [eh33]; exact if_pos rfl
  obtain ⟨k40, H⟩ := H
  refine mx_putA 1 4 (ref := "PrairiePool$Play") cl_1 (Nat.le_of_ble_eq_true rfl) (Or.inl q237) (Or.inl rfl) dX1_init_60 (Or.inr ⟨rfl, rfl, rfl, q237⟩) rfl (Or.inr k40) k35 ?_
  refine mx_nmR (ah_ext.wR (Or.inr (Or.inl k40))) (fun h41 eh41 Xh41 Kh41 Lh41 => ?_)
  have H := H h41 eh41 Xh41
  refine mx_aload_n dX1_init_63 rfl rfl ?_
  refine mx_bipush dX1_init_64 ib_8 ?_
  obtain ⟨k42, H⟩ := H
  refine mx_newa 0 rfl (by decide) q205 dX1_init_66 cn_8 (by decide) k42.1 k42.2 (by decide) (fun x_ lv_ => ?_)
  refine mx_nmN x_ lv_ (fun h43 eh43 Xh43 lv_ => ?_)
  have H := H h43 eh43 Xh43 lv_
  have k44 := Xh43.kd ((ma_kde Kh41 (k34)))
  have k45 := Xh43.kd ((ma_kde Kh41 (k35)))
  have k46 := Xh43.kd ((ma_kde Kh41 (k36)))
  have k47 := Xh43.kd ((ma_kde Kh41 (k37)))
  have k48 := Xh43.kd ((ma_kde Kh41 (k38)))
  have k49 := Xh43.kd ((ma_kde Kh41 (k39)))
  have k50 : ah_kd h43 (ah_sz h41) = 40 := by rw [eh43]; exact if_pos rfl
  obtain ⟨k51, H⟩ := H
  refine mx_putA 1 5 (ref := "PrairiePool$Play") cl_1 (Nat.le_of_ble_eq_true rfl) (Or.inl q240) (Or.inl rfl) dX1_init_68 (Or.inr ⟨rfl, rfl, rfl, q240⟩) rfl (Or.inr k51) k45 ?_
  refine mx_nmR (ah_ext.wR (Or.inr (Or.inl k51))) (fun h52 eh52 Xh52 Kh52 Lh52 => ?_)
  have H := H h52 eh52 Xh52
  refine mx_aload_n dX1_init_71 rfl rfl ?_
  refine mx_bipush dX1_init_72 ib_20 ?_
  obtain ⟨k53, H⟩ := H
  refine mx_newa 0 rfl (by decide) q205 dX1_init_74 cn_20 (by decide) k53.1 k53.2 (by decide) (fun x_ lv_ => ?_)
  refine mx_nmN x_ lv_ (fun h54 eh54 Xh54 lv_ => ?_)
  have H := H h54 eh54 Xh54 lv_
  have k55 := Xh54.kd ((ma_kde Kh52 (k44)))
  have k56 := Xh54.kd ((ma_kde Kh52 (k45)))
  have k57 := Xh54.kd ((ma_kde Kh52 (k46)))
  have k58 := Xh54.kd ((ma_kde Kh52 (k47)))
  have k59 := Xh54.kd ((ma_kde Kh52 (k48)))
  have k60 := Xh54.kd ((ma_kde Kh52 (k49)))
  have k61 := Xh54.kd ((ma_kde Kh52 (k50)))
  have k62 : ah_kd h54 (ah_sz h52) = 40 := by rw [eh54]; exact if_pos rfl
  obtain ⟨k63, H⟩ := H
  refine mx_putA 1 6 (ref := "PrairiePool$Play") cl_1 (Nat.le_of_ble_eq_true rfl) (Or.inl q244) (Or.inl rfl) dX1_init_76 (Or.inr ⟨rfl, rfl, rfl, q244⟩) rfl (Or.inr k63) k56 ?_
  refine mx_nmR (ah_ext.wR (Or.inr (Or.inl k63))) (fun h64 eh64 Xh64 Kh64 Lh64 => ?_)
  have H := H h64 eh64 Xh64
  refine mx_aload_n dX1_init_79 rfl rfl ?_
  refine mx_bipush dX1_init_80 ib_20 ?_
  obtain ⟨k65, H⟩ := H
  refine mx_newa 0 rfl (by decide) q205 dX1_init_82 cn_20 (by decide) k65.1 k65.2 (by decide) (fun x_ lv_ => ?_)
  refine mx_nmN x_ lv_ (fun h66 eh66 Xh66 lv_ => ?_)
  have H := H h66 eh66 Xh66 lv_
  have k67 := Xh66.kd ((ma_kde Kh64 (k55)))
  have k68 := Xh66.kd ((ma_kde Kh64 (k56)))
  have k69 := Xh66.kd ((ma_kde Kh64 (k57)))
  have k70 := Xh66.kd ((ma_kde Kh64 (k58)))
  have k71 := Xh66.kd ((ma_kde Kh64 (k59)))
  have k72 := Xh66.kd ((ma_kde Kh64 (k60)))
  have k73 := Xh66.kd ((ma_kde Kh64 (k61)))
  have k74 := Xh66.kd ((ma_kde Kh64 (k62)))
  have k75 : ah_kd h66 (ah_sz h64) = 40 := by rw [eh66]; exact if_pos rfl
  obtain ⟨k76, H⟩ := H
  refine mx_putA 1 7 (ref := "PrairiePool$Play") cl_1 (Nat.le_of_ble_eq_true rfl) (Or.inl q247) (Or.inl rfl) dX1_init_84 (Or.inr ⟨rfl, rfl, rfl, q247⟩) rfl (Or.inr k76) k68 ?_
  refine mx_nmR (ah_ext.wR (Or.inr (Or.inl k76))) (fun h77 eh77 Xh77 Kh77 Lh77 => ?_)
  have H := H h77 eh77 Xh77
  refine mx_aload_n dX1_init_87 rfl rfl ?_
  refine mx_bipush dX1_init_88 ib_20 ?_
  obtain ⟨k78, H⟩ := H
  refine mx_newa 0 rfl (by decide) q205 dX1_init_90 cn_20 (by decide) k78.1 k78.2 (by decide) (fun x_ lv_ => ?_)
  refine mx_nmN x_ lv_ (fun h79 eh79 Xh79 lv_ => ?_)
  have H := H h79 eh79 Xh79 lv_
  have k80 := Xh79.kd ((ma_kde Kh77 (k67)))
  have k81 := Xh79.kd ((ma_kde Kh77 (k68)))
  have k82 := Xh79.kd ((ma_kde Kh77 (k69)))
  have k83 := Xh79.kd ((ma_kde Kh77 (k70)))
  have k84 := Xh79.kd ((ma_kde Kh77 (k71)))
  have k85 := Xh79.kd ((ma_kde Kh77 (k72)))
  have k86 := Xh79.kd ((ma_kde Kh77 (k73)))
  have k87 := Xh79.kd ((ma_kde Kh77 (k74)))
  have k88 := Xh79.kd ((ma_kde Kh77 (k75)))
  have k89 : ah_kd h79 (ah_sz h77) = 40 := by rw [eh79]; exact if_pos rfl
  obtain ⟨k90, H⟩ := H
  refine mx_putA 1 8 (ref := "PrairiePool$Play") cl_1 (Nat.le_of_ble_eq_true rfl) (Or.inl q250) (Or.inl rfl) dX1_init_92 (Or.inr ⟨rfl, rfl, rfl, q250⟩) rfl (Or.inr k90) k81 ?_
  refine mx_nmR (ah_ext.wR (Or.inr (Or.inl k90))) (fun h91 eh91 Xh91 Kh91 Lh91 => ?_)
  have H := H h91 eh91 Xh91
  refine mx_aload_n dX1_init_95 rfl rfl ?_
  refine mx_bipush dX1_init_96 ib_20 ?_
  obtain ⟨k92, H⟩ := H
  refine mx_newa 0 rfl (by decide) q205 dX1_init_98 cn_20 (by decide) k92.1 k92.2 (by decide) (fun x_ lv_ => ?_)
  refine mx_nmN x_ lv_ (fun h93 eh93 Xh93 lv_ => ?_)
  have H := H h93 eh93 Xh93 lv_
  have k94 := Xh93.kd ((ma_kde Kh91 (k80)))
  have k95 := Xh93.kd ((ma_kde Kh91 (k81)))
  have k96 := Xh93.kd ((ma_kde Kh91 (k82)))
  have k97 := Xh93.kd ((ma_kde Kh91 (k83)))
  have k98 := Xh93.kd ((ma_kde Kh91 (k84)))
  have k99 := Xh93.kd ((ma_kde Kh91 (k85)))
  have k100 := Xh93.kd ((ma_kde Kh91 (k86)))
  have k101 := Xh93.kd ((ma_kde Kh91 (k87)))
  have k102 := Xh93.kd ((ma_kde Kh91 (k88)))
  have k103 := Xh93.kd ((ma_kde Kh91 (k89)))
  have k104 : ah_kd h93 (ah_sz h91) = 40 := by rw [eh93]; exact if_pos rfl
  obtain ⟨k105, H⟩ := H
  refine mx_putA 1 9 (ref := "PrairiePool$Play") cl_1 (Nat.le_of_ble_eq_true rfl) (Or.inl q253) (Or.inl rfl) dX1_init_100 (Or.inr ⟨rfl, rfl, rfl, q253⟩) rfl (Or.inr k105) k95 ?_
  refine mx_nmR (ah_ext.wR (Or.inr (Or.inl k105))) (fun h106 eh106 Xh106 Kh106 Lh106 => ?_)
  have H := H h106 eh106 Xh106
  refine mx_aload_n dX1_init_103 rfl rfl ?_
  obtain ⟨k107, H⟩ := H
  refine mx_new 2 cl_2 dk_2 q186 q187 q121 dX1_init_104 k107.1 k107.2 (fun x_ lv_ => ?_)
  refine mx_nmN x_ lv_ (fun h108 eh108 Xh108 lv_ => ?_)
  have H := H h108 eh108 Xh108 lv_
  have k109 := Xh108.kd ((ma_kde Kh106 (k94)))
  have k110 := Xh108.kd ((ma_kde Kh106 (k95)))
  have k111 := Xh108.kd ((ma_kde Kh106 (k96)))
  have k112 := Xh108.kd ((ma_kde Kh106 (k97)))
  have k113 := Xh108.kd ((ma_kde Kh106 (k98)))
  have k114 := Xh108.kd ((ma_kde Kh106 (k99)))
  have k115 := Xh108.kd ((ma_kde Kh106 (k100)))
  have k116 := Xh108.kd ((ma_kde Kh106 (k101)))
  have k117 := Xh108.kd ((ma_kde Kh106 (k102)))
  have k118 := Xh108.kd ((ma_kde Kh106 (k103)))
  have k119 := Xh108.kd ((ma_kde Kh106 (k104)))
  have k120 : ah_kd h108 (ah_sz h106) = 3 := by rw [eh108]; exact if_pos rfl
  refine mx_dup_r dX1_init_107 ?_
  refine mx_callI (y' := mi_X2_init) (vs := []) (st := [rv (ah_sz h106), rv a0]) (al' := [some (rv (ah_sz h106))]) I_X2_init (Or.inr ⟨_, q188⟩) dX1_init_108 rfl rfl (Nat.le_of_ble_eq_true rfl) (Nat.le_of_ble_eq_true rfl) (by rw [k120]; decide) ?_
  refine ma_kv H (fun h121 Xh121 H => ?_) (fun x1 h1 X1 H => mt_out rfl H)
  have H := H Xh121
  have k123 := Xh121.kd (k109)
  have k124 := Xh121.kd (k110)
  have k125 := Xh121.kd (k111)
  have k126 := Xh121.kd (k112)
  have k127 := Xh121.kd (k113)
  have k128 := Xh121.kd (k114)
  have k129 := Xh121.kd (k115)
  have k130 := Xh121.kd (k116)
  have k131 := Xh121.kd (k117)
  have k132 := Xh121.kd (k118)
  have k133 := Xh121.kd (k119)
  have k134 := Xh121.kd (k120)
  obtain ⟨k135, H⟩ := H
  refine mx_putO 1 10 (ref := "PrairiePool$Play") cl_1 (Nat.le_of_ble_eq_true rfl) (Or.inl q256) (Or.inl rfl) dX1_init_111 (Or.inr ⟨rfl, rfl, rfl, q256⟩) rfl (Or.inr k135) k124 ?_
  refine mx_nmR (ah_ext.wR (Or.inr (Or.inl k135))) (fun h136 eh136 Xh136 Kh136 Lh136 => ?_)
  have H := H h136 eh136 Xh136
  refine mx_iconst dX1_init_114 ic_0 ?_
  refine mx_istore_n (al' := [some (rv a0), some (iv (0 : Int32)), none, none]) dX1_init_115 rfl (Nat.le_of_ble_eq_true rfl) rfl ?_
  exact mx_weak (al' := [some (rv a0), some (iv (0 : Int32)), none, none]) ⟨rfl, ⟨rfl, trivial⟩⟩ H
theorem v_X1_init_116 {G : ma_G} {d : Nat} {a0 : Nat} {x1 : Int32} {h : ah_T} {Q : Option ma_V → ah_T → Prop} {E : Nat → ah_T → Prop}  (H : ((6 : Int32) ≤ x1 → Q none h) ∧ (¬ (6 : Int32) ≤ x1 → MX G mi_X1_init (d + 1) 124 [some (rv a0), some (iv x1), some (iv (0 : Int32)), none] [] h Q E)) : MX G mi_X1_init (d + 1) 116 [some (rv a0), some (iv x1), none, none] [] h Q E := by
  refine mx_iload_n dX1_init_116 rfl rfl ?_
  refine mx_bipush dX1_init_117 ib_6 ?_
  refine mx_icmp_ge (tgt := 218) dX1_init_119 rfl (fun c1 => ?_) (fun c1 => ?_)
  · have H := H.1 c1
    exact mx_vret rfl dX1_init_218 H
  · have H := H.2 c1
    refine mx_iconst dX1_init_122 ic_0 ?_
    refine mx_istore_n (al' := [some (rv a0), some (iv x1), some (iv (0 : Int32)), none]) dX1_init_123 rfl (Nat.le_of_ble_eq_true rfl) rfl ?_
    exact mx_weak (al' := [some (rv a0), some (iv x1), some (iv (0 : Int32)), none]) ⟨rfl, ⟨rfl, ⟨rfl, trivial⟩⟩⟩ H
theorem v_X1_init_124 {G : ma_G} {d : Nat} {a0 : Nat} {x1 : Int32} {x2 : Int32} {h : ah_T} {Q : Option ma_V → ah_T → Prop} {E : Nat → ah_T → Prop}  (H : ((10 : Int32) ≤ x2 → MX G mi_X1_init (d + 1) 116 [some (rv a0), some (iv (x1 + (1 : Int32))), none, none] [] h Q E) ∧ (¬ (10 : Int32) ≤ x2 → MX G mi_X1_init (d + 1) 132 [some (rv a0), some (iv x1), some (iv x2), some (iv (0 : Int32))] [] h Q E)) : MX G mi_X1_init (d + 1) 124 [some (rv a0), some (iv x1), some (iv x2), none] [] h Q E := by
  refine mx_iload_n dX1_init_124 rfl rfl ?_
  refine mx_bipush dX1_init_125 ib_10 ?_
  refine mx_icmp_ge (tgt := 212) dX1_init_127 rfl (fun c1 => ?_) (fun c1 => ?_)
  · have H := H.1 c1
    refine mx_iinc (al' := [some (rv a0), some (iv (x1 + (1 : Int32))), some (iv x2), none]) dX1_init_212 rfl ic_1 rfl ?_
    refine mx_goto (tgt := 116) dX1_init_215 rfl ?_
    exact mx_weak (al' := [some (rv a0), some (iv (x1 + (1 : Int32))), none, none]) ⟨rfl, ⟨rfl, trivial⟩⟩ H
  · have H := H.2 c1
    refine mx_iconst dX1_init_130 ic_0 ?_
    refine mx_istore_n (al' := [some (rv a0), some (iv x1), some (iv x2), some (iv (0 : Int32))]) dX1_init_131 rfl (Nat.le_of_ble_eq_true rfl) rfl ?_
    exact mx_weak (al' := [some (rv a0), some (iv x1), some (iv x2), some (iv (0 : Int32))]) ⟨rfl, ⟨rfl, ⟨rfl, ⟨rfl, trivial⟩⟩⟩⟩ H
theorem v_X1_init_132 {G : ma_G} {d : Nat} {a0 : Nat} {x1 : Int32} {x2 : Int32} {x3 : Int32} {h : ah_T} {Q : Option ma_V → ah_T → Prop} {E : Nat → ah_T → Prop}  (H : ((8 : Int32) ≤ x3 → MX G mi_X1_init (d + 1) 163 [some (rv a0), some (iv x1), some (iv x2), some (iv (0 : Int32))] [] h Q E) ∧ (¬ (8 : Int32) ≤ x3 → ah_kd h a0 = 2 ∧ aok h 53 (ah_R h a0 0) x3 ∧ aok h 52 (ah_R h (ah_R h a0 0) x3.toNatClampNeg) x1 ∧ (1 ≤ ah_rc h ∧ 2 ≤ ah_rs h) ∧ ∀ h6 : ah_T, h6 = ah_new h 4 0 2 → ah_ext h h6 → ah_liv h → MX G mi_X3_init d 0 [some (rv (ah_sz h))] [] h6 (Qv fun h13 => ah_ext h6 h13 → aok h13 51 (ah_R h (ah_R h (ah_R h a0 0) x3.toNatClampNeg) x1.toNatClampNeg) x2 ∧ ah_R h13 (ah_R h (ah_R h (ah_R h a0 0) x3.toNatClampNeg) x1.toNatClampNeg) x2.toNatClampNeg = 0 ∧ ∀ h23 : ah_T, h23 = ah_wR h13 (ah_R h (ah_R h (ah_R h a0 0) x3.toNatClampNeg) x1.toNatClampNeg) x2.toNatClampNeg (ah_sz h) → ah_ext h13 h23 → MX G mi_X1_init (d + 1) 132 [some (rv a0), some (iv x1), some (iv x2), some (iv (x3 + (1 : Int32)))] [] h23 Q E) E)) : MX G mi_X1_init (d + 1) 132 [some (rv a0), some (iv x1), some (iv x2), some (iv x3)] [] h Q E := by
  refine mx_iload_n dX1_init_132 rfl rfl ?_
  refine mx_bipush dX1_init_133 ib_8 ?_
  refine mx_icmp_ge (tgt := 161) dX1_init_135 rfl (fun c1 => ?_) (fun c1 => ?_)
  · have H := H.1 c1
    refine mx_iconst dX1_init_161 ic_0 ?_
    refine mx_istore_n (al' := [some (rv a0), some (iv x1), some (iv x2), some (iv (0 : Int32))]) dX1_init_162 rfl (Nat.le_of_ble_eq_true rfl) rfl ?_
    exact mx_weak (al' := [some (rv a0), some (iv x1), some (iv x2), some (iv (0 : Int32))]) ⟨rfl, ⟨rfl, ⟨rfl, ⟨rfl, trivial⟩⟩⟩⟩ H
  · have H := H.2 c1
    refine mx_aload_n dX1_init_138 rfl rfl ?_
    obtain ⟨k2, H⟩ := H
    refine mx_get 1 0 (ref := "PrairiePool$Play") cl_1 (Nat.le_of_ble_eq_true rfl) (Or.inl q223) (Or.inl rfl) dX1_init_139 (fv_1_0 _ _) k2 ?_
    refine mx_iload_n dX1_init_142 rfl rfl ?_
    obtain ⟨k3, H⟩ := H
    refine my_aald 13 dX1_init_143 (by decide) rfl k3 ?_
    refine mx_iload_n dX1_init_144 rfl rfl ?_
    obtain ⟨k4, H⟩ := H
    refine my_aald 12 dX1_init_145 (by decide) rfl k4 ?_
    refine mx_iload_n dX1_init_146 rfl rfl ?_
    obtain ⟨k5, H⟩ := H
    refine mx_new 3 cl_3 dk_3 q207 q208 q122 dX1_init_147 k5.1 k5.2 (fun x_ lv_ => ?_)
    refine mx_nmN x_ lv_ (fun h6 eh6 Xh6 lv_ => ?_)
    have H := H h6 eh6 Xh6 lv_
    have k7 := Xh6.kd (k2)
    have k8 := ma_aokx Xh6 (k3)
    have k9 := Xh6.kd (k3.1)
    have k10 := ma_aokx Xh6 (k4)
    have k11 := Xh6.kd (k4.1)
    have k12 : ah_kd h6 (ah_sz h) = 4 := by rw [eh6]; exact if_pos rfl
    refine mx_dup_r dX1_init_150 ?_
    refine mx_callI (y' := mi_X3_init) (vs := []) (st := [rv (ah_sz h), iv x2, rv (ah_R h (ah_R h (ah_R h a0 0) x3.toNatClampNeg) x1.toNatClampNeg)]) (al' := [some (rv (ah_sz h))]) I_X3_init (Or.inr ⟨_, q209⟩) dX1_init_151 rfl rfl (Nat.le_of_ble_eq_true rfl) (Nat.le_of_ble_eq_true rfl) (by rw [k12]; decide) ?_
    refine ma_kv H (fun h13 Xh13 H => ?_) (fun x1 h1 X1 H => mt_out rfl H)
    have H := H Xh13
    have k15 := Xh13.kd (k7)
    have k16 := ma_aokx Xh13 (k8)
    have k17 := Xh13.kd (k9)
    have k18 := ma_aokx Xh13 (k10)
    have k19 := Xh13.kd (k11)
    have k20 := Xh13.kd (k12)
    obtain ⟨k21, H⟩ := H
    obtain ⟨k22, H⟩ := H
    refine mx_astq 11 3 (by decide) rfl cl_3 (Or.inl rfl) dX1_init_154 rfl k21 k20 k22 ?_
    refine mx_nmR (ah_ext.wR (Or.inr (Or.inl k22))) (fun h23 eh23 Xh23 Kh23 Lh23 => ?_)
    have H := H h23 eh23 Xh23
    refine mx_iinc (al' := [some (rv a0), some (iv x1), some (iv x2), some (iv (x3 + (1 : Int32)))]) dX1_init_155 rfl ic_1 rfl ?_
    refine mx_goto (tgt := 132) dX1_init_158 rfl ?_
    exact mx_weak (al' := [some (rv a0), some (iv x1), some (iv x2), some (iv (x3 + (1 : Int32)))]) ⟨rfl, ⟨rfl, ⟨rfl, ⟨rfl, trivial⟩⟩⟩⟩ H
theorem v_X1_init_163 {G : ma_G} {d : Nat} {a0 : Nat} {x1 : Int32} {x2 : Int32} {x3 : Int32} {h : ah_T} {Q : Option ma_V → ah_T → Prop} {E : Nat → ah_T → Prop}  (H : ((2 : Int32) ≤ x3 → ah_kd h a0 = 2 ∧ aok h 52 (ah_R h a0 2) x1 ∧ (1 ≤ ah_rc h ∧ 2 ≤ ah_rs h) ∧ ∀ h5 : ah_T, h5 = ah_new h 4 0 2 → ah_ext h h5 → ah_liv h → MX G mi_X3_init d 0 [some (rv (ah_sz h))] [] h5 (Qv fun h10 => ah_ext h5 h10 → aok h10 51 (ah_R h (ah_R h a0 2) x1.toNatClampNeg) x2 ∧ ah_R h10 (ah_R h (ah_R h a0 2) x1.toNatClampNeg) x2.toNatClampNeg = 0 ∧ ∀ h18 : ah_T, h18 = ah_wR h10 (ah_R h (ah_R h a0 2) x1.toNatClampNeg) x2.toNatClampNeg (ah_sz h) → ah_ext h10 h18 → MX G mi_X1_init (d + 1) 124 [some (rv a0), some (iv x1), some (iv (x2 + (1 : Int32))), none] [] h18 Q E) E) ∧ (¬ (2 : Int32) ≤ x3 → ah_kd h a0 = 2 ∧ aok h 53 (ah_R h a0 1) x3 ∧ aok h 52 (ah_R h (ah_R h a0 1) x3.toNatClampNeg) x1 ∧ (1 ≤ ah_rc h ∧ 2 ≤ ah_rs h) ∧ ∀ h23 : ah_T, h23 = ah_new h 4 0 2 → ah_ext h h23 → ah_liv h → MX G mi_X3_init d 0 [some (rv (ah_sz h))] [] h23 (Qv fun h30 => ah_ext h23 h30 → aok h30 51 (ah_R h (ah_R h (ah_R h a0 1) x3.toNatClampNeg) x1.toNatClampNeg) x2 ∧ ah_R h30 (ah_R h (ah_R h (ah_R h a0 1) x3.toNatClampNeg) x1.toNatClampNeg) x2.toNatClampNeg = 0 ∧ ∀ h40 : ah_T, h40 = ah_wR h30 (ah_R h (ah_R h (ah_R h a0 1) x3.toNatClampNeg) x1.toNatClampNeg) x2.toNatClampNeg (ah_sz h) → ah_ext h30 h40 → MX G mi_X1_init (d + 1) 163 [some (rv a0), some (iv x1), some (iv x2), some (iv (x3 + (1 : Int32)))] [] h40 Q E) E)) : MX G mi_X1_init (d + 1) 163 [some (rv a0), some (iv x1), some (iv x2), some (iv x3)] [] h Q E := by
  refine mx_iload_n dX1_init_163 rfl rfl ?_
  refine mx_iconst dX1_init_164 ic_2 ?_
  refine mx_icmp_ge (tgt := 191) dX1_init_165 rfl (fun c1 => ?_) (fun c1 => ?_)
  · have H := H.1 c1
    refine mx_aload_n dX1_init_191 rfl rfl ?_
    obtain ⟨k2, H⟩ := H
    refine mx_get 1 2 (ref := "PrairiePool$Play") cl_1 (Nat.le_of_ble_eq_true rfl) (Or.inl q231) (Or.inl rfl) dX1_init_192 (fv_1_2 _ _) k2 ?_
    refine mx_iload_n dX1_init_195 rfl rfl ?_
    obtain ⟨k3, H⟩ := H
    refine my_aald 12 dX1_init_196 (by decide) rfl k3 ?_
    refine mx_iload_n dX1_init_197 rfl rfl ?_
    obtain ⟨k4, H⟩ := H
    refine mx_new 3 cl_3 dk_3 q207 q208 q122 dX1_init_198 k4.1 k4.2 (fun x_ lv_ => ?_)
    refine mx_nmN x_ lv_ (fun h5 eh5 Xh5 lv_ => ?_)
    have H := H h5 eh5 Xh5 lv_
    have k6 := Xh5.kd (k2)
    have k7 := ma_aokx Xh5 (k3)
    have k8 := Xh5.kd (k3.1)
    have k9 : ah_kd h5 (ah_sz h) = 4 := by rw [eh5]; exact if_pos rfl
    refine mx_dup_r dX1_init_201 ?_
    refine mx_callI (y' := mi_X3_init) (vs := []) (st := [rv (ah_sz h), iv x2, rv (ah_R h (ah_R h a0 2) x1.toNatClampNeg)]) (al' := [some (rv (ah_sz h))]) I_X3_init (Or.inr ⟨_, q209⟩) dX1_init_202 rfl rfl (Nat.le_of_ble_eq_true rfl) (Nat.le_of_ble_eq_true rfl) (by rw [k9]; decide) ?_
    refine ma_kv H (fun h10 Xh10 H => ?_) (fun x1 h1 X1 H => mt_out rfl H)
    have H := H Xh10
    have k12 := Xh10.kd (k6)
    have k13 := ma_aokx Xh10 (k7)
    have k14 := Xh10.kd (k8)
    have k15 := Xh10.kd (k9)
    obtain ⟨k16, H⟩ := H
    obtain ⟨k17, H⟩ := H
    refine mx_astq 11 3 (by decide) rfl cl_3 (Or.inl rfl) dX1_init_205 rfl k16 k15 k17 ?_
    refine mx_nmR (ah_ext.wR (Or.inr (Or.inl k17))) (fun h18 eh18 Xh18 Kh18 Lh18 => ?_)
    have H := H h18 eh18 Xh18
    refine mx_iinc (al' := [some (rv a0), some (iv x1), some (iv (x2 + (1 : Int32))), some (iv x3)]) dX1_init_206 rfl ic_1 rfl ?_
    refine mx_goto (tgt := 124) dX1_init_209 rfl ?_
    exact mx_weak (al' := [some (rv a0), some (iv x1), some (iv (x2 + (1 : Int32))), none]) ⟨rfl, ⟨rfl, ⟨rfl, trivial⟩⟩⟩ H
  · have H := H.2 c1
    refine mx_aload_n dX1_init_168 rfl rfl ?_
    obtain ⟨k19, H⟩ := H
    refine mx_get 1 1 (ref := "PrairiePool$Play") cl_1 (Nat.le_of_ble_eq_true rfl) (Or.inl q227) (Or.inl rfl) dX1_init_169 (fv_1_1 _ _) k19 ?_
    refine mx_iload_n dX1_init_172 rfl rfl ?_
    obtain ⟨k20, H⟩ := H
    refine my_aald 13 dX1_init_173 (by decide) rfl k20 ?_
    refine mx_iload_n dX1_init_174 rfl rfl ?_
    obtain ⟨k21, H⟩ := H
    refine my_aald 12 dX1_init_175 (by decide) rfl k21 ?_
    refine mx_iload_n dX1_init_176 rfl rfl ?_
    obtain ⟨k22, H⟩ := H
    refine mx_new 3 cl_3 dk_3 q207 q208 q122 dX1_init_177 k22.1 k22.2 (fun x_ lv_ => ?_)
    refine mx_nmN x_ lv_ (fun h23 eh23 Xh23 lv_ => ?_)
    have H := H h23 eh23 Xh23 lv_
    have k24 := Xh23.kd (k19)
    have k25 := ma_aokx Xh23 (k20)
    have k26 := Xh23.kd (k20.1)
    have k27 := ma_aokx Xh23 (k21)
    have k28 := Xh23.kd (k21.1)
    have k29 : ah_kd h23 (ah_sz h) = 4 := by rw [eh23]; exact if_pos rfl
    refine mx_dup_r dX1_init_180 ?_
    refine mx_callI (y' := mi_X3_init) (vs := []) (st := [rv (ah_sz h), iv x2, rv (ah_R h (ah_R h (ah_R h a0 1) x3.toNatClampNeg) x1.toNatClampNeg)]) (al' := [some (rv (ah_sz h))]) I_X3_init (Or.inr ⟨_, q209⟩) dX1_init_181 rfl rfl (Nat.le_of_ble_eq_true rfl) (Nat.le_of_ble_eq_true rfl) (by rw [k29]; decide) ?_
    refine ma_kv H (fun h30 Xh30 H => ?_) (fun x1 h1 X1 H => mt_out rfl H)
    have H := H Xh30
    have k32 := Xh30.kd (k24)
    have k33 := ma_aokx Xh30 (k25)
    have k34 := Xh30.kd (k26)
    have k35 := ma_aokx Xh30 (k27)
    have k36 := Xh30.kd (k28)
    have k37 := Xh30.kd (k29)
    obtain ⟨k38, H⟩ := H
    obtain ⟨k39, H⟩ := H
    refine mx_astq 11 3 (by decide) rfl cl_3 (Or.inl rfl) dX1_init_184 rfl k38 k37 k39 ?_
    refine mx_nmR (ah_ext.wR (Or.inr (Or.inl k39))) (fun h40 eh40 Xh40 Kh40 Lh40 => ?_)
    have H := H h40 eh40 Xh40
    refine mx_iinc (al' := [some (rv a0), some (iv x1), some (iv x2), some (iv (x3 + (1 : Int32)))]) dX1_init_185 rfl ic_1 rfl ?_
    refine mx_goto (tgt := 163) dX1_init_188 rfl ?_
    exact mx_weak (al' := [some (rv a0), some (iv x1), some (iv x2), some (iv (x3 + (1 : Int32)))]) ⟨rfl, ⟨rfl, ⟨rfl, ⟨rfl, trivial⟩⟩⟩⟩ H
theorem dX1_begin_0 : decode mi_X1_begin.2.1 0 = .ok (.aload_n 0, 1) := by decide +kernel
theorem dX1_begin_1 : decode mi_X1_begin.2.1 1 = .ok (.lconst 0, 1) := by decide +kernel
theorem dX1_begin_2 : decode mi_X1_begin.2.1 2 = .ok (.putfield 58, 3) := by decide +kernel
theorem dX1_begin_5 : decode mi_X1_begin.2.1 5 = .ok (.iconst 0, 1) := by decide +kernel
theorem dX1_begin_6 : decode mi_X1_begin.2.1 6 = .ok (.istore_n 1, 1) := by decide +kernel
theorem dX1_begin_7 : decode mi_X1_begin.2.1 7 = .ok (.iload_n 1, 1) := by decide +kernel
theorem dX1_begin_8 : decode mi_X1_begin.2.1 8 = .ok (.bipush 8, 2) := by decide +kernel
theorem dX1_begin_10 : decode mi_X1_begin.2.1 10 = .ok (.if_icmp .ge 16, 3) := by decide +kernel
theorem dX1_begin_13 : decode mi_X1_begin.2.1 13 = .ok (.aload_n 0, 1) := by decide +kernel
theorem dX1_begin_14 : decode mi_X1_begin.2.1 14 = .ok (.getfield 33, 3) := by decide +kernel
theorem dX1_begin_17 : decode mi_X1_begin.2.1 17 = .ok (.iload_n 1, 1) := by decide +kernel
theorem dX1_begin_18 : decode mi_X1_begin.2.1 18 = .ok (.iconst 0, 1) := by decide +kernel
theorem dX1_begin_19 : decode mi_X1_begin.2.1 19 = .ok (.iastore, 1) := by decide +kernel
theorem dX1_begin_20 : decode mi_X1_begin.2.1 20 = .ok (.iinc 1 1, 3) := by decide +kernel
theorem dX1_begin_23 : decode mi_X1_begin.2.1 23 = .ok (.goto (-16), 3) := by decide +kernel
theorem dX1_begin_26 : decode mi_X1_begin.2.1 26 = .ok (.iconst 0, 1) := by decide +kernel
theorem dX1_begin_27 : decode mi_X1_begin.2.1 27 = .ok (.istore_n 1, 1) := by decide +kernel
theorem dX1_begin_28 : decode mi_X1_begin.2.1 28 = .ok (.iload_n 1, 1) := by decide +kernel
theorem dX1_begin_29 : decode mi_X1_begin.2.1 29 = .ok (.bipush 20, 2) := by decide +kernel
theorem dX1_begin_31 : decode mi_X1_begin.2.1 31 = .ok (.if_icmp .ge 37, 3) := by decide +kernel
theorem dX1_begin_34 : decode mi_X1_begin.2.1 34 = .ok (.aload_n 0, 1) := by decide +kernel
theorem dX1_begin_35 : decode mi_X1_begin.2.1 35 = .ok (.getfield 36, 3) := by decide +kernel
theorem dX1_begin_38 : decode mi_X1_begin.2.1 38 = .ok (.iload_n 1, 1) := by decide +kernel
theorem dX1_begin_39 : decode mi_X1_begin.2.1 39 = .ok (.iconst 0, 1) := by decide +kernel
theorem dX1_begin_40 : decode mi_X1_begin.2.1 40 = .ok (.iastore, 1) := by decide +kernel
theorem dX1_begin_41 : decode mi_X1_begin.2.1 41 = .ok (.aload_n 0, 1) := by decide +kernel
theorem dX1_begin_42 : decode mi_X1_begin.2.1 42 = .ok (.getfield 39, 3) := by decide +kernel
theorem dX1_begin_45 : decode mi_X1_begin.2.1 45 = .ok (.iload_n 1, 1) := by decide +kernel
theorem dX1_begin_46 : decode mi_X1_begin.2.1 46 = .ok (.iconst 0, 1) := by decide +kernel
theorem dX1_begin_47 : decode mi_X1_begin.2.1 47 = .ok (.iastore, 1) := by decide +kernel
theorem dX1_begin_48 : decode mi_X1_begin.2.1 48 = .ok (.aload_n 0, 1) := by decide +kernel
theorem dX1_begin_49 : decode mi_X1_begin.2.1 49 = .ok (.getfield 42, 3) := by decide +kernel
theorem dX1_begin_52 : decode mi_X1_begin.2.1 52 = .ok (.iload_n 1, 1) := by decide +kernel
theorem dX1_begin_53 : decode mi_X1_begin.2.1 53 = .ok (.iconst 0, 1) := by decide +kernel
theorem dX1_begin_54 : decode mi_X1_begin.2.1 54 = .ok (.iastore, 1) := by decide +kernel
theorem dX1_begin_55 : decode mi_X1_begin.2.1 55 = .ok (.aload_n 0, 1) := by decide +kernel
theorem dX1_begin_56 : decode mi_X1_begin.2.1 56 = .ok (.getfield 45, 3) := by decide +kernel
theorem dX1_begin_59 : decode mi_X1_begin.2.1 59 = .ok (.iload_n 1, 1) := by decide +kernel
theorem dX1_begin_60 : decode mi_X1_begin.2.1 60 = .ok (.iconst 0, 1) := by decide +kernel
theorem dX1_begin_61 : decode mi_X1_begin.2.1 61 = .ok (.iastore, 1) := by decide +kernel
theorem dX1_begin_62 : decode mi_X1_begin.2.1 62 = .ok (.iinc 1 1, 3) := by decide +kernel
theorem dX1_begin_65 : decode mi_X1_begin.2.1 65 = .ok (.goto (-37), 3) := by decide +kernel
theorem dX1_begin_68 : decode mi_X1_begin.2.1 68 = .ok (.iconst 0, 1) := by decide +kernel
theorem dX1_begin_69 : decode mi_X1_begin.2.1 69 = .ok (.istore_n 1, 1) := by decide +kernel
theorem dX1_begin_70 : decode mi_X1_begin.2.1 70 = .ok (.iload_n 1, 1) := by decide +kernel
theorem dX1_begin_71 : decode mi_X1_begin.2.1 71 = .ok (.bipush 6, 2) := by decide +kernel
theorem dX1_begin_73 : decode mi_X1_begin.2.1 73 = .ok (.if_icmp .ge 96, 3) := by decide +kernel
theorem dX1_begin_76 : decode mi_X1_begin.2.1 76 = .ok (.iconst 0, 1) := by decide +kernel
theorem dX1_begin_77 : decode mi_X1_begin.2.1 77 = .ok (.istore_n 2, 1) := by decide +kernel
theorem dX1_begin_78 : decode mi_X1_begin.2.1 78 = .ok (.iload_n 2, 1) := by decide +kernel
theorem dX1_begin_79 : decode mi_X1_begin.2.1 79 = .ok (.bipush 10, 2) := by decide +kernel
theorem dX1_begin_81 : decode mi_X1_begin.2.1 81 = .ok (.if_icmp .ge 82, 3) := by decide +kernel
theorem dX1_begin_84 : decode mi_X1_begin.2.1 84 = .ok (.iconst 0, 1) := by decide +kernel
theorem dX1_begin_85 : decode mi_X1_begin.2.1 85 = .ok (.istore_n 3, 1) := by decide +kernel
theorem dX1_begin_86 : decode mi_X1_begin.2.1 86 = .ok (.iload_n 3, 1) := by decide +kernel
theorem dX1_begin_87 : decode mi_X1_begin.2.1 87 = .ok (.bipush 8, 2) := by decide +kernel
theorem dX1_begin_89 : decode mi_X1_begin.2.1 89 = .ok (.if_icmp .ge 22, 3) := by decide +kernel
theorem dX1_begin_92 : decode mi_X1_begin.2.1 92 = .ok (.aload_n 0, 1) := by decide +kernel
theorem dX1_begin_93 : decode mi_X1_begin.2.1 93 = .ok (.getfield 11, 3) := by decide +kernel
theorem dX1_begin_96 : decode mi_X1_begin.2.1 96 = .ok (.iload_n 3, 1) := by decide +kernel
theorem dX1_begin_97 : decode mi_X1_begin.2.1 97 = .ok (.aaload, 1) := by decide +kernel
theorem dX1_begin_98 : decode mi_X1_begin.2.1 98 = .ok (.iload_n 1, 1) := by decide +kernel
theorem dX1_begin_99 : decode mi_X1_begin.2.1 99 = .ok (.aaload, 1) := by decide +kernel
theorem dX1_begin_100 : decode mi_X1_begin.2.1 100 = .ok (.iload_n 2, 1) := by decide +kernel
theorem dX1_begin_101 : decode mi_X1_begin.2.1 101 = .ok (.aaload, 1) := by decide +kernel
theorem dX1_begin_102 : decode mi_X1_begin.2.1 102 = .ok (.invokevirtual 62, 3) := by decide +kernel
theorem dX1_begin_105 : decode mi_X1_begin.2.1 105 = .ok (.iinc 3 1, 3) := by decide +kernel
theorem dX1_begin_108 : decode mi_X1_begin.2.1 108 = .ok (.goto (-22), 3) := by decide +kernel
theorem dX1_begin_111 : decode mi_X1_begin.2.1 111 = .ok (.iconst 0, 1) := by decide +kernel
theorem dX1_begin_112 : decode mi_X1_begin.2.1 112 = .ok (.istore_n 3, 1) := by decide +kernel
theorem dX1_begin_113 : decode mi_X1_begin.2.1 113 = .ok (.iload_n 3, 1) := by decide +kernel
theorem dX1_begin_114 : decode mi_X1_begin.2.1 114 = .ok (.iconst 2, 1) := by decide +kernel
theorem dX1_begin_115 : decode mi_X1_begin.2.1 115 = .ok (.if_icmp .ge 22, 3) := by decide +kernel
theorem dX1_begin_118 : decode mi_X1_begin.2.1 118 = .ok (.aload_n 0, 1) := by decide +kernel
theorem dX1_begin_119 : decode mi_X1_begin.2.1 119 = .ok (.getfield 16, 3) := by decide +kernel
theorem dX1_begin_122 : decode mi_X1_begin.2.1 122 = .ok (.iload_n 3, 1) := by decide +kernel
theorem dX1_begin_123 : decode mi_X1_begin.2.1 123 = .ok (.aaload, 1) := by decide +kernel
theorem dX1_begin_124 : decode mi_X1_begin.2.1 124 = .ok (.iload_n 1, 1) := by decide +kernel
theorem dX1_begin_125 : decode mi_X1_begin.2.1 125 = .ok (.aaload, 1) := by decide +kernel
theorem dX1_begin_126 : decode mi_X1_begin.2.1 126 = .ok (.iload_n 2, 1) := by decide +kernel
theorem dX1_begin_127 : decode mi_X1_begin.2.1 127 = .ok (.aaload, 1) := by decide +kernel
theorem dX1_begin_128 : decode mi_X1_begin.2.1 128 = .ok (.invokevirtual 62, 3) := by decide +kernel
theorem dX1_begin_131 : decode mi_X1_begin.2.1 131 = .ok (.iinc 3 1, 3) := by decide +kernel
theorem dX1_begin_134 : decode mi_X1_begin.2.1 134 = .ok (.goto (-21), 3) := by decide +kernel
theorem dX1_begin_137 : decode mi_X1_begin.2.1 137 = .ok (.aload_n 0, 1) := by decide +kernel
theorem dX1_begin_138 : decode mi_X1_begin.2.1 138 = .ok (.getfield 21, 3) := by decide +kernel
theorem dX1_begin_141 : decode mi_X1_begin.2.1 141 = .ok (.iload_n 1, 1) := by decide +kernel
theorem dX1_begin_142 : decode mi_X1_begin.2.1 142 = .ok (.aaload, 1) := by decide +kernel
theorem dX1_begin_143 : decode mi_X1_begin.2.1 143 = .ok (.iload_n 2, 1) := by decide +kernel
theorem dX1_begin_144 : decode mi_X1_begin.2.1 144 = .ok (.aaload, 1) := by decide +kernel
theorem dX1_begin_145 : decode mi_X1_begin.2.1 145 = .ok (.invokevirtual 62, 3) := by decide +kernel
theorem dX1_begin_148 : decode mi_X1_begin.2.1 148 = .ok (.aload_n 0, 1) := by decide +kernel
theorem dX1_begin_149 : decode mi_X1_begin.2.1 149 = .ok (.getfield 26, 3) := by decide +kernel
theorem dX1_begin_152 : decode mi_X1_begin.2.1 152 = .ok (.iload_n 1, 1) := by decide +kernel
theorem dX1_begin_153 : decode mi_X1_begin.2.1 153 = .ok (.aaload, 1) := by decide +kernel
theorem dX1_begin_154 : decode mi_X1_begin.2.1 154 = .ok (.iload_n 2, 1) := by decide +kernel
theorem dX1_begin_155 : decode mi_X1_begin.2.1 155 = .ok (.lconst 0, 1) := by decide +kernel
theorem dX1_begin_156 : decode mi_X1_begin.2.1 156 = .ok (.lastore, 1) := by decide +kernel
theorem dX1_begin_157 : decode mi_X1_begin.2.1 157 = .ok (.iinc 2 1, 3) := by decide +kernel
theorem dX1_begin_160 : decode mi_X1_begin.2.1 160 = .ok (.goto (-82), 3) := by decide +kernel
theorem dX1_begin_163 : decode mi_X1_begin.2.1 163 = .ok (.iinc 1 1, 3) := by decide +kernel
theorem dX1_begin_166 : decode mi_X1_begin.2.1 166 = .ok (.goto (-96), 3) := by decide +kernel
theorem dX1_begin_169 : decode mi_X1_begin.2.1 169 = .ok (.return_, 1) := by decide +kernel
theorem v_X1_begin {G : ma_G} {d : Nat} {a0 : Nat} {h : ah_T} {Q : Option ma_V → ah_T → Prop} {E : Nat → ah_T → Prop} (La0_h : LY1 h a0) (H : ∀ h1 : ah_T, h1 = ah_wJ h a0 11 (0 : Int64) → ah_ext h h1 → MX G mi_X1_begin (d + 1) 7 [some (rv a0), some (iv (0 : Int32)), none, none] [] h1 Q E) : MX G mi_X1_begin (d + 1) 0 [some (rv a0), none, none, none] [] h Q E := by
  refine mx_aload_n dX1_begin_0 rfl rfl ?_
  refine mx_lconst dX1_begin_1 lc_0 ?_
  refine mx_putJ 1 11 (ref := "PrairiePool$Play") cl_1 (Nat.le_of_ble_eq_true rfl) (Or.inl q259) (Or.inl rfl) dX1_begin_2 (Or.inl rfl) rfl (ly1_k La0_h) ?_
  refine mx_nmJ  (fun h1 eh1 Xh1 Kh1 Lh1 => ?_)
  have H := H h1 eh1 Xh1
  have La0_h1 := La0_h.ext Xh1
  refine mx_iconst dX1_begin_5 ic_0 ?_
  refine mx_istore_n (al' := [some (rv a0), some (iv (0 : Int32)), none, none]) dX1_begin_6 rfl (Nat.le_of_ble_eq_true rfl) rfl ?_
  exact mx_weak (al' := [some (rv a0), some (iv (0 : Int32)), none, none]) ⟨rfl, ⟨rfl, trivial⟩⟩ H
theorem v_X1_begin_7 {G : ma_G} {d : Nat} {a0 : Nat} {x1 : Int32} {h : ah_T} {Q : Option ma_V → ah_T → Prop} {E : Nat → ah_T → Prop} (La0_h : LY1 h a0) (H : ((8 : Int32) ≤ x1 → MX G mi_X1_begin (d + 1) 28 [some (rv a0), some (iv (0 : Int32)), none, none] [] h Q E) ∧ (¬ (8 : Int32) ≤ x1 → vp_in x1 8 ∧ ∀ h3 : ah_T, h3 = ah_wI h (a0 + 88) x1.toNatClampNeg (0 : Int32) → ah_ext h h3 → MX G mi_X1_begin (d + 1) 7 [some (rv a0), some (iv (x1 + (1 : Int32))), none, none] [] h3 Q E)) : MX G mi_X1_begin (d + 1) 7 [some (rv a0), some (iv x1), none, none] [] h Q E := by
  refine mx_iload_n dX1_begin_7 rfl rfl ?_
  refine mx_bipush dX1_begin_8 ib_8 ?_
  refine mx_icmp_ge (tgt := 26) dX1_begin_10 rfl (fun c1 => ?_) (fun c1 => ?_)
  · have H := H.1 c1
    refine mx_iconst dX1_begin_26 ic_0 ?_
    refine mx_istore_n (al' := [some (rv a0), some (iv (0 : Int32)), none, none]) dX1_begin_27 rfl (Nat.le_of_ble_eq_true rfl) rfl ?_
    exact mx_weak (al' := [some (rv a0), some (iv (0 : Int32)), none, none]) ⟨rfl, ⟨rfl, trivial⟩⟩ H
  · have H := H.2 c1
    refine mx_aload_n dX1_begin_13 rfl rfl ?_
    refine mx_get 1 5 (ref := "PrairiePool$Play") cl_1 (Nat.le_of_ble_eq_true rfl) (Or.inl q240) (Or.inl rfl) dX1_begin_14 (fv_1_5 _ _) (ly1_k La0_h) ?_
    refine mx_tr (ly1_R_0_5 La0_h) ?_
    refine mx_iload_n dX1_begin_17 rfl rfl ?_
    refine mx_iconst dX1_begin_18 ic_0 ?_
    obtain ⟨k2, H⟩ := H
    refine my_iast dX1_begin_19 rfl (ly1_A_88 La0_h k2) ?_
    refine mx_nmI  (fun h3 eh3 Xh3 Kh3 Lh3 => ?_)
    have H := H h3 eh3 Xh3
    have La0_h3 := La0_h.ext Xh3
    refine mx_iinc (al' := [some (rv a0), some (iv (x1 + (1 : Int32))), none, none]) dX1_begin_20 rfl ic_1 rfl ?_
    refine mx_goto (tgt := 7) dX1_begin_23 rfl ?_
    exact mx_weak (al' := [some (rv a0), some (iv (x1 + (1 : Int32))), none, none]) ⟨rfl, ⟨rfl, trivial⟩⟩ H
theorem v_X1_begin_28 {G : ma_G} {d : Nat} {a0 : Nat} {x1 : Int32} {h : ah_T} {Q : Option ma_V → ah_T → Prop} {E : Nat → ah_T → Prop} (La0_h : LY1 h a0) (H : ((20 : Int32) ≤ x1 → MX G mi_X1_begin (d + 1) 70 [some (rv a0), some (iv (0 : Int32)), none, none] [] h Q E) ∧ (¬ (20 : Int32) ≤ x1 → vp_in x1 20 ∧ ∀ h3 : ah_T, h3 = ah_wI h (a0 + 89) x1.toNatClampNeg (0 : Int32) → ah_ext h h3 → ∀ h4 : ah_T, h4 = ah_wI h3 (a0 + 90) x1.toNatClampNeg (0 : Int32) → ah_ext h3 h4 → ∀ h5 : ah_T, h5 = ah_wI h4 (a0 + 91) x1.toNatClampNeg (0 : Int32) → ah_ext h4 h5 → ∀ h6 : ah_T, h6 = ah_wI h5 (a0 + 92) x1.toNatClampNeg (0 : Int32) → ah_ext h5 h6 → MX G mi_X1_begin (d + 1) 28 [some (rv a0), some (iv (x1 + (1 : Int32))), none, none] [] h6 Q E)) : MX G mi_X1_begin (d + 1) 28 [some (rv a0), some (iv x1), none, none] [] h Q E := by
  refine mx_iload_n dX1_begin_28 rfl rfl ?_
  refine mx_bipush dX1_begin_29 ib_20 ?_
  refine mx_icmp_ge (tgt := 68) dX1_begin_31 rfl (fun c1 => ?_) (fun c1 => ?_)
  · have H := H.1 c1
    refine mx_iconst dX1_begin_68 ic_0 ?_
    refine mx_istore_n (al' := [some (rv a0), some (iv (0 : Int32)), none, none]) dX1_begin_69 rfl (Nat.le_of_ble_eq_true rfl) rfl ?_
    exact mx_weak (al' := [some (rv a0), some (iv (0 : Int32)), none, none]) ⟨rfl, ⟨rfl, trivial⟩⟩ H
  · have H := H.2 c1
    refine mx_aload_n dX1_begin_34 rfl rfl ?_
    refine mx_get 1 6 (ref := "PrairiePool$Play") cl_1 (Nat.le_of_ble_eq_true rfl) (Or.inl q244) (Or.inl rfl) dX1_begin_35 (fv_1_6 _ _) (ly1_k La0_h) ?_
    refine mx_tr (ly1_R_0_6 La0_h) ?_
    refine mx_iload_n dX1_begin_38 rfl rfl ?_
    refine mx_iconst dX1_begin_39 ic_0 ?_
    obtain ⟨k2, H⟩ := H
    refine my_iast dX1_begin_40 rfl (ly1_A_89 La0_h k2) ?_
    refine mx_nmI  (fun h3 eh3 Xh3 Kh3 Lh3 => ?_)
    have H := H h3 eh3 Xh3
    have La0_h3 := La0_h.ext Xh3
    refine mx_aload_n dX1_begin_41 rfl rfl ?_
    refine mx_get 1 7 (ref := "PrairiePool$Play") cl_1 (Nat.le_of_ble_eq_true rfl) (Or.inl q247) (Or.inl rfl) dX1_begin_42 (fv_1_7 _ _) (ly1_k La0_h3) ?_
    refine mx_tr (ly1_R_0_7 La0_h3) ?_
    refine mx_iload_n dX1_begin_45 rfl rfl ?_
    refine mx_iconst dX1_begin_46 ic_0 ?_
    refine my_iast dX1_begin_47 rfl (ly1_A_90 La0_h3 k2) ?_
    refine mx_nmI  (fun h4 eh4 Xh4 Kh4 Lh4 => ?_)
    have H := H h4 eh4 Xh4
    have Kh4 := Kh4.trans Kh3
    have Lh4 := Lh4.trans Lh3
    have La0_h4 := La0_h3.ext Xh4
    refine mx_aload_n dX1_begin_48 rfl rfl ?_
    refine mx_get 1 8 (ref := "PrairiePool$Play") cl_1 (Nat.le_of_ble_eq_true rfl) (Or.inl q250) (Or.inl rfl) dX1_begin_49 (fv_1_8 _ _) (ly1_k La0_h4) ?_
    refine mx_tr (ly1_R_0_8 La0_h4) ?_
    refine mx_iload_n dX1_begin_52 rfl rfl ?_
    refine mx_iconst dX1_begin_53 ic_0 ?_
    refine my_iast dX1_begin_54 rfl (ly1_A_91 La0_h4 k2) ?_
    refine mx_nmI  (fun h5 eh5 Xh5 Kh5 Lh5 => ?_)
    have H := H h5 eh5 Xh5
    have Kh5 := Kh5.trans Kh4
    have Lh5 := Lh5.trans Lh4
    have La0_h5 := La0_h4.ext Xh5
    refine mx_aload_n dX1_begin_55 rfl rfl ?_
    refine mx_get 1 9 (ref := "PrairiePool$Play") cl_1 (Nat.le_of_ble_eq_true rfl) (Or.inl q253) (Or.inl rfl) dX1_begin_56 (fv_1_9 _ _) (ly1_k La0_h5) ?_
    refine mx_tr (ly1_R_0_9 La0_h5) ?_
    refine mx_iload_n dX1_begin_59 rfl rfl ?_
    refine mx_iconst dX1_begin_60 ic_0 ?_
    refine my_iast dX1_begin_61 rfl (ly1_A_92 La0_h5 k2) ?_
    refine mx_nmI  (fun h6 eh6 Xh6 Kh6 Lh6 => ?_)
    have H := H h6 eh6 Xh6
    have Kh6 := Kh6.trans Kh5
    have Lh6 := Lh6.trans Lh5
    have La0_h6 := La0_h5.ext Xh6
    refine mx_iinc (al' := [some (rv a0), some (iv (x1 + (1 : Int32))), none, none]) dX1_begin_62 rfl ic_1 rfl ?_
    refine mx_goto (tgt := 28) dX1_begin_65 rfl ?_
    exact mx_weak (al' := [some (rv a0), some (iv (x1 + (1 : Int32))), none, none]) ⟨rfl, ⟨rfl, trivial⟩⟩ H
theorem v_X1_begin_70 {G : ma_G} {d : Nat} {a0 : Nat} {x1 : Int32} {h : ah_T} {Q : Option ma_V → ah_T → Prop} {E : Nat → ah_T → Prop} (La0_h : LY1 h a0) (H : ((6 : Int32) ≤ x1 → Q none h) ∧ (¬ (6 : Int32) ≤ x1 → MX G mi_X1_begin (d + 1) 78 [some (rv a0), some (iv x1), some (iv (0 : Int32)), none] [] h Q E)) : MX G mi_X1_begin (d + 1) 70 [some (rv a0), some (iv x1), none, none] [] h Q E := by
  refine mx_iload_n dX1_begin_70 rfl rfl ?_
  refine mx_bipush dX1_begin_71 ib_6 ?_
  refine mx_icmp_ge (tgt := 169) dX1_begin_73 rfl (fun c1 => ?_) (fun c1 => ?_)
  · have H := H.1 c1
    exact mx_vret rfl dX1_begin_169 H
  · have H := H.2 c1
    refine mx_iconst dX1_begin_76 ic_0 ?_
    refine mx_istore_n (al' := [some (rv a0), some (iv x1), some (iv (0 : Int32)), none]) dX1_begin_77 rfl (Nat.le_of_ble_eq_true rfl) rfl ?_
    exact mx_weak (al' := [some (rv a0), some (iv x1), some (iv (0 : Int32)), none]) ⟨rfl, ⟨rfl, ⟨rfl, trivial⟩⟩⟩ H
theorem v_X1_begin_78 {G : ma_G} {d : Nat} {a0 : Nat} {x1 : Int32} {x2 : Int32} {h : ah_T} {Q : Option ma_V → ah_T → Prop} {E : Nat → ah_T → Prop} (La0_h : LY1 h a0) (H : ((10 : Int32) ≤ x2 → MX G mi_X1_begin (d + 1) 70 [some (rv a0), some (iv (x1 + (1 : Int32))), none, none] [] h Q E) ∧ (¬ (10 : Int32) ≤ x2 → MX G mi_X1_begin (d + 1) 86 [some (rv a0), some (iv x1), some (iv x2), some (iv (0 : Int32))] [] h Q E)) : MX G mi_X1_begin (d + 1) 78 [some (rv a0), some (iv x1), some (iv x2), none] [] h Q E := by
  refine mx_iload_n dX1_begin_78 rfl rfl ?_
  refine mx_bipush dX1_begin_79 ib_10 ?_
  refine mx_icmp_ge (tgt := 163) dX1_begin_81 rfl (fun c1 => ?_) (fun c1 => ?_)
  · have H := H.1 c1
    refine mx_iinc (al' := [some (rv a0), some (iv (x1 + (1 : Int32))), some (iv x2), none]) dX1_begin_163 rfl ic_1 rfl ?_
    refine mx_goto (tgt := 70) dX1_begin_166 rfl ?_
    exact mx_weak (al' := [some (rv a0), some (iv (x1 + (1 : Int32))), none, none]) ⟨rfl, ⟨rfl, trivial⟩⟩ H
  · have H := H.2 c1
    refine mx_iconst dX1_begin_84 ic_0 ?_
    refine mx_istore_n (al' := [some (rv a0), some (iv x1), some (iv x2), some (iv (0 : Int32))]) dX1_begin_85 rfl (Nat.le_of_ble_eq_true rfl) rfl ?_
    exact mx_weak (al' := [some (rv a0), some (iv x1), some (iv x2), some (iv (0 : Int32))]) ⟨rfl, ⟨rfl, ⟨rfl, ⟨rfl, trivial⟩⟩⟩⟩ H
theorem v_X1_begin_86 {G : ma_G} {d : Nat} {a0 : Nat} {x1 : Int32} {x2 : Int32} {x3 : Int32} {h : ah_T} {Q : Option ma_V → ah_T → Prop} {E : Nat → ah_T → Prop} (La0_h : LY1 h a0) (H : ((8 : Int32) ≤ x3 → MX G mi_X1_begin (d + 1) 113 [some (rv a0), some (iv x1), some (iv x2), some (iv (0 : Int32))] [] h Q E) ∧ (¬ (8 : Int32) ≤ x3 → vp_in x3 8 ∧ vp_in x1 6 ∧ vp_in x2 10 ∧ MX G mi_X3_clear d 0 [some (rv (a0 + (97 + 22 * (10 * x1.toNatClampNeg + x2.toNatClampNeg) + 2 * x3.toNatClampNeg))), none] [] h (Qv fun h5 => ah_ext h h5 → MX G mi_X1_begin (d + 1) 86 [some (rv a0), some (iv x1), some (iv x2), some (iv (x3 + (1 : Int32)))] [] h5 Q E) E)) : MX G mi_X1_begin (d + 1) 86 [some (rv a0), some (iv x1), some (iv x2), some (iv x3)] [] h Q E := by
  refine mx_iload_n dX1_begin_86 rfl rfl ?_
  refine mx_bipush dX1_begin_87 ib_8 ?_
  refine mx_icmp_ge (tgt := 111) dX1_begin_89 rfl (fun c1 => ?_) (fun c1 => ?_)
  · have H := H.1 c1
    refine mx_iconst dX1_begin_111 ic_0 ?_
    refine mx_istore_n (al' := [some (rv a0), some (iv x1), some (iv x2), some (iv (0 : Int32))]) dX1_begin_112 rfl (Nat.le_of_ble_eq_true rfl) rfl ?_
    exact mx_weak (al' := [some (rv a0), some (iv x1), some (iv x2), some (iv (0 : Int32))]) ⟨rfl, ⟨rfl, ⟨rfl, ⟨rfl, trivial⟩⟩⟩⟩ H
  · have H := H.2 c1
    refine mx_aload_n dX1_begin_92 rfl rfl ?_
    refine mx_get 1 0 (ref := "PrairiePool$Play") cl_1 (Nat.le_of_ble_eq_true rfl) (Or.inl q223) (Or.inl rfl) dX1_begin_93 (fv_1_0 _ _) (ly1_k La0_h) ?_
    refine mx_tr (ly1_R_0_0 La0_h) ?_
    refine mx_iload_n dX1_begin_96 rfl rfl ?_
    obtain ⟨k2, H⟩ := H
    refine my_aald 13 dX1_begin_97 (by decide) rfl (ly1_A_1 La0_h k2) ?_
    refine mx_tr (ly1_G1_1 La0_h (vp_lt k2)) ?_
    refine mx_iload_n dX1_begin_98 rfl rfl ?_
    obtain ⟨k3, H⟩ := H
    refine my_aald 12 dX1_begin_99 (by decide) rfl ⟨(ly1_K1_1 La0_h (vp_lt k2)), by rw [ly1_N1_1 La0_h (vp_lt k2)]; exact k3⟩ ?_
    refine mx_tr (ly1_G2_1 La0_h (vp_lt k2) (vp_lt k3)) ?_
    refine mx_iload_n dX1_begin_100 rfl rfl ?_
    obtain ⟨k4, H⟩ := H
    refine my_aald 11 dX1_begin_101 (by decide) rfl ⟨(ly1_K2_1 La0_h (vp_lt k2) (vp_lt k3)), by rw [ly1_N2_1 La0_h (vp_lt k2) (vp_lt k3)]; exact k4⟩ ?_
    refine mx_tr (ly1_G3_1 La0_h (vp_lt k2) (vp_lt k3) (vp_lt k4)) ?_
    refine mx_callV 3 (y' := mi_X3_clear) (vs := []) (st := []) (al' := [some (rv (a0 + (97 + 22 * (10 * x1.toNatClampNeg + x2.toNatClampNeg) + 2 * x3.toNatClampNeg))), none]) cl_3 V_X3_clear (Or.inl q1077) dX1_begin_102 rfl rfl (Nat.le_of_ble_eq_true rfl) (Nat.le_of_ble_eq_true rfl) (ly3_k (ly1_H3_1 La0_h (vp_lt k2) (vp_lt k3) (vp_lt k4))) ?_
    refine ma_kv H (fun h5 Xh5 H => ?_) (fun x1 h1 X1 H => mt_out rfl H)
    have H := H Xh5
    have La0_h5 := La0_h.ext Xh5
    refine mx_iinc (al' := [some (rv a0), some (iv x1), some (iv x2), some (iv (x3 + (1 : Int32)))]) dX1_begin_105 rfl ic_1 rfl ?_
    refine mx_goto (tgt := 86) dX1_begin_108 rfl ?_
    exact mx_weak (al' := [some (rv a0), some (iv x1), some (iv x2), some (iv (x3 + (1 : Int32)))]) ⟨rfl, ⟨rfl, ⟨rfl, ⟨rfl, trivial⟩⟩⟩⟩ H
theorem v_X1_begin_113 {G : ma_G} {d : Nat} {a0 : Nat} {x1 : Int32} {x2 : Int32} {x3 : Int32} {h : ah_T} {Q : Option ma_V → ah_T → Prop} {E : Nat → ah_T → Prop} (La0_h : LY1 h a0) (H : ((2 : Int32) ≤ x3 → vp_in x1 6 ∧ vp_in x2 10 ∧ MX G mi_X3_clear d 0 [some (rv (a0 + (117 + 22 * (10 * x1.toNatClampNeg + x2.toNatClampNeg)))), none] [] h (Qv fun h4 => ah_ext h h4 → ∀ h6 : ah_T, h6 = ah_wJ h4 (a0 + (81 + x1.toNatClampNeg)) x2.toNatClampNeg (0 : Int64) → ah_ext h4 h6 → MX G mi_X1_begin (d + 1) 78 [some (rv a0), some (iv x1), some (iv (x2 + (1 : Int32))), none] [] h6 Q E) E) ∧ (¬ (2 : Int32) ≤ x3 → vp_in x3 2 ∧ vp_in x1 6 ∧ vp_in x2 10 ∧ MX G mi_X3_clear d 0 [some (rv (a0 + (113 + 22 * (10 * x1.toNatClampNeg + x2.toNatClampNeg) + 2 * x3.toNatClampNeg))), none] [] h (Qv fun h10 => ah_ext h h10 → MX G mi_X1_begin (d + 1) 113 [some (rv a0), some (iv x1), some (iv x2), some (iv (x3 + (1 : Int32)))] [] h10 Q E) E)) : MX G mi_X1_begin (d + 1) 113 [some (rv a0), some (iv x1), some (iv x2), some (iv x3)] [] h Q E := by
  refine mx_iload_n dX1_begin_113 rfl rfl ?_
  refine mx_iconst dX1_begin_114 ic_2 ?_
  refine mx_icmp_ge (tgt := 137) dX1_begin_115 rfl (fun c1 => ?_) (fun c1 => ?_)
  · have H := H.1 c1
    refine mx_aload_n dX1_begin_137 rfl rfl ?_
    refine mx_get 1 2 (ref := "PrairiePool$Play") cl_1 (Nat.le_of_ble_eq_true rfl) (Or.inl q231) (Or.inl rfl) dX1_begin_138 (fv_1_2 _ _) (ly1_k La0_h) ?_
    refine mx_tr (ly1_R_0_2 La0_h) ?_
    refine mx_iload_n dX1_begin_141 rfl rfl ?_
    obtain ⟨k2, H⟩ := H
    refine my_aald 12 dX1_begin_142 (by decide) rfl (ly1_A_73 La0_h k2) ?_
    refine mx_tr (ly1_G1_73 La0_h (vp_lt k2)) ?_
    refine mx_iload_n dX1_begin_143 rfl rfl ?_
    obtain ⟨k3, H⟩ := H
    refine my_aald 11 dX1_begin_144 (by decide) rfl ⟨(ly1_K1_73 La0_h (vp_lt k2)), by rw [ly1_N1_73 La0_h (vp_lt k2)]; exact k3⟩ ?_
    refine mx_tr (ly1_G2_73 La0_h (vp_lt k2) (vp_lt k3)) ?_
    refine mx_callV 3 (y' := mi_X3_clear) (vs := []) (st := []) (al' := [some (rv (a0 + (117 + 22 * (10 * x1.toNatClampNeg + x2.toNatClampNeg)))), none]) cl_3 V_X3_clear (Or.inl q1077) dX1_begin_145 rfl rfl (Nat.le_of_ble_eq_true rfl) (Nat.le_of_ble_eq_true rfl) (ly3_k (ly1_H2_73 La0_h (vp_lt k2) (vp_lt k3))) ?_
    refine ma_kv H (fun h4 Xh4 H => ?_) (fun x1 h1 X1 H => mt_out rfl H)
    have H := H Xh4
    have La0_h4 := La0_h.ext Xh4
    refine mx_aload_n dX1_begin_148 rfl rfl ?_
    refine mx_get 1 3 (ref := "PrairiePool$Play") cl_1 (Nat.le_of_ble_eq_true rfl) (Or.inl q234) (Or.inl rfl) dX1_begin_149 (fv_1_3 _ _) (ly1_k La0_h4) ?_
    refine mx_tr (ly1_R_0_3 La0_h4) ?_
    refine mx_iload_n dX1_begin_152 rfl rfl ?_
    refine my_aald 15 dX1_begin_153 (by decide) rfl (ly1_A_80 La0_h4 k2) ?_
    refine mx_tr (ly1_G1_80 La0_h4 (vp_lt k2)) ?_
    refine mx_iload_n dX1_begin_154 rfl rfl ?_
    refine mx_lconst dX1_begin_155 lc_0 ?_
    refine my_last dX1_begin_156 rfl ⟨(ly1_K1_80 La0_h4 (vp_lt k2)), by rw [ly1_N1_80 La0_h4 (vp_lt k2)]; exact k3⟩ ?_
    refine mx_nmJ  (fun h6 eh6 Xh6 Kh6 Lh6 => ?_)
    have H := H h6 eh6 Xh6
    have La0_h6 := La0_h4.ext Xh6
    refine mx_iinc (al' := [some (rv a0), some (iv x1), some (iv (x2 + (1 : Int32))), some (iv x3)]) dX1_begin_157 rfl ic_1 rfl ?_
    refine mx_goto (tgt := 78) dX1_begin_160 rfl ?_
    exact mx_weak (al' := [some (rv a0), some (iv x1), some (iv (x2 + (1 : Int32))), none]) ⟨rfl, ⟨rfl, ⟨rfl, trivial⟩⟩⟩ H
  · have H := H.2 c1
    refine mx_aload_n dX1_begin_118 rfl rfl ?_
    refine mx_get 1 1 (ref := "PrairiePool$Play") cl_1 (Nat.le_of_ble_eq_true rfl) (Or.inl q227) (Or.inl rfl) dX1_begin_119 (fv_1_1 _ _) (ly1_k La0_h) ?_
    refine mx_tr (ly1_R_0_1 La0_h) ?_
    refine mx_iload_n dX1_begin_122 rfl rfl ?_
    obtain ⟨k7, H⟩ := H
    refine my_aald 13 dX1_begin_123 (by decide) rfl (ly1_A_58 La0_h k7) ?_
    refine mx_tr (ly1_G1_58 La0_h (vp_lt k7)) ?_
    refine mx_iload_n dX1_begin_124 rfl rfl ?_
    obtain ⟨k8, H⟩ := H
    refine my_aald 12 dX1_begin_125 (by decide) rfl ⟨(ly1_K1_58 La0_h (vp_lt k7)), by rw [ly1_N1_58 La0_h (vp_lt k7)]; exact k8⟩ ?_
    refine mx_tr (ly1_G2_58 La0_h (vp_lt k7) (vp_lt k8)) ?_
    refine mx_iload_n dX1_begin_126 rfl rfl ?_
    obtain ⟨k9, H⟩ := H
    refine my_aald 11 dX1_begin_127 (by decide) rfl ⟨(ly1_K2_58 La0_h (vp_lt k7) (vp_lt k8)), by rw [ly1_N2_58 La0_h (vp_lt k7) (vp_lt k8)]; exact k9⟩ ?_
    refine mx_tr (ly1_G3_58 La0_h (vp_lt k7) (vp_lt k8) (vp_lt k9)) ?_
    refine mx_callV 3 (y' := mi_X3_clear) (vs := []) (st := []) (al' := [some (rv (a0 + (113 + 22 * (10 * x1.toNatClampNeg + x2.toNatClampNeg) + 2 * x3.toNatClampNeg))), none]) cl_3 V_X3_clear (Or.inl q1077) dX1_begin_128 rfl rfl (Nat.le_of_ble_eq_true rfl) (Nat.le_of_ble_eq_true rfl) (ly3_k (ly1_H3_58 La0_h (vp_lt k7) (vp_lt k8) (vp_lt k9))) ?_
    refine ma_kv H (fun h10 Xh10 H => ?_) (fun x1 h1 X1 H => mt_out rfl H)
    have H := H Xh10
    have La0_h10 := La0_h.ext Xh10
    refine mx_iinc (al' := [some (rv a0), some (iv x1), some (iv x2), some (iv (x3 + (1 : Int32)))]) dX1_begin_131 rfl ic_1 rfl ?_
    refine mx_goto (tgt := 113) dX1_begin_134 rfl ?_
    exact mx_weak (al' := [some (rv a0), some (iv x1), some (iv x2), some (iv (x3 + (1 : Int32)))]) ⟨rfl, ⟨rfl, ⟨rfl, ⟨rfl, trivial⟩⟩⟩⟩ H
theorem dX2_init_0 : decode mi_X2_init.2.1 0 = .ok (.aload_n 0, 1) := by decide +kernel
theorem dX2_init_1 : decode mi_X2_init.2.1 1 = .ok (.invokespecial 3, 3) := by decide +kernel
theorem dX2_init_4 : decode mi_X2_init.2.1 4 = .ok (.aload_n 0, 1) := by decide +kernel
theorem dX2_init_5 : decode mi_X2_init.2.1 5 = .ok (.bipush 20, 2) := by decide +kernel
theorem dX2_init_7 : decode mi_X2_init.2.1 7 = .ok (.newarray .long, 2) := by decide +kernel
theorem dX2_init_9 : decode mi_X2_init.2.1 9 = .ok (.putfield 9, 3) := by decide +kernel
theorem dX2_init_12 : decode mi_X2_init.2.1 12 = .ok (.aload_n 0, 1) := by decide +kernel
theorem dX2_init_13 : decode mi_X2_init.2.1 13 = .ok (.bipush 20, 2) := by decide +kernel
theorem dX2_init_15 : decode mi_X2_init.2.1 15 = .ok (.newarray .long, 2) := by decide +kernel
theorem dX2_init_17 : decode mi_X2_init.2.1 17 = .ok (.putfield 15, 3) := by decide +kernel
theorem dX2_init_20 : decode mi_X2_init.2.1 20 = .ok (.aload_n 0, 1) := by decide +kernel
theorem dX2_init_21 : decode mi_X2_init.2.1 21 = .ok (.bipush 20, 2) := by decide +kernel
theorem dX2_init_23 : decode mi_X2_init.2.1 23 = .ok (.newarray .long, 2) := by decide +kernel
theorem dX2_init_25 : decode mi_X2_init.2.1 25 = .ok (.putfield 18, 3) := by decide +kernel
theorem dX2_init_28 : decode mi_X2_init.2.1 28 = .ok (.return_, 1) := by decide +kernel
theorem v_X2_init {G : ma_G} {d : Nat} {a0 : Nat} {h : ah_T} {Q : Option ma_V → ah_T → Prop} {E : Nat → ah_T → Prop}  (H : ah_kd h a0 ≠ 0 ∧ (1 ≤ ah_rc h ∧ 20 ≤ ah_rs h) ∧ ∀ h3 : ah_T, h3 = ah_new h 41 20 20 → ah_ext h h3 → ah_liv h → ah_kd h3 a0 = 3 ∧ ah_R h3 a0 0 = 0 ∧ ∀ h7 : ah_T, h7 = ah_wR h3 a0 0 (ah_sz h) → ah_ext h3 h7 → (1 ≤ ah_rc h7 ∧ 20 ≤ ah_rs h7) ∧ ∀ h9 : ah_T, h9 = ah_new h7 41 20 20 → ah_ext h7 h9 → ah_liv h7 → ah_R h9 a0 1 = 0 ∧ ∀ h14 : ah_T, h14 = ah_wR h9 a0 1 (ah_sz h7) → ah_ext h9 h14 → (1 ≤ ah_rc h14 ∧ 20 ≤ ah_rs h14) ∧ ∀ h16 : ah_T, h16 = ah_new h14 41 20 20 → ah_ext h14 h16 → ah_liv h14 → ah_R h16 a0 2 = 0 ∧ ∀ h22 : ah_T, h22 = ah_wR h16 a0 2 (ah_sz h14) → ah_ext h16 h22 → Q none h22) : MX G mi_X2_init (d + 1) 0 [some (rv a0)] [] h Q E := by
  refine mx_aload_n dX2_init_0 rfl rfl ?_
  obtain ⟨k1, H⟩ := H
  refine mx_objInit q191 qobj1 qobj2 dX2_init_1 (Nat.le_of_ble_eq_true rfl) k1 ?_
  refine mx_aload_n dX2_init_4 rfl rfl ?_
  refine mx_bipush dX2_init_5 ib_20 ?_
  obtain ⟨k2, H⟩ := H
  refine mx_newa 1 rfl (by decide) q206 dX2_init_7 cn_20 (by decide) k2.1 k2.2 (by decide) (fun x_ lv_ => ?_)
  refine mx_nmN x_ lv_ (fun h3 eh3 Xh3 lv_ => ?_)
  have H := H h3 eh3 Xh3 lv_
  have k4 : ah_kd h3 (ah_sz h) = 41 := by rw [eh3]; exact if_pos rfl
  obtain ⟨k5, H⟩ := H
  obtain ⟨k6, H⟩ := H
  refine mx_putA 2 0 (ref := "PrairiePool$Parts") cl_2 (Nat.le_of_ble_eq_true rfl) (Or.inl q192) (Or.inl rfl) dX2_init_9 (Or.inr ⟨rfl, rfl, rfl, q192⟩) rfl (Or.inr k6) k5 ?_
  refine mx_nmR (ah_ext.wR (Or.inr (Or.inl k6))) (fun h7 eh7 Xh7 Kh7 Lh7 => ?_)
  have H := H h7 eh7 Xh7
  refine mx_aload_n dX2_init_12 rfl rfl ?_
  refine mx_bipush dX2_init_13 ib_20 ?_
  obtain ⟨k8, H⟩ := H
  refine mx_newa 1 rfl (by decide) q206 dX2_init_15 cn_20 (by decide) k8.1 k8.2 (by decide) (fun x_ lv_ => ?_)
  refine mx_nmN x_ lv_ (fun h9 eh9 Xh9 lv_ => ?_)
  have H := H h9 eh9 Xh9 lv_
  have k10 := Xh9.kd ((ma_kde Kh7 (k4)))
  have k11 := Xh9.kd ((ma_kde Kh7 (k5)))
  have k12 : ah_kd h9 (ah_sz h7) = 41 := by rw [eh9]; exact if_pos rfl
  obtain ⟨k13, H⟩ := H
  refine mx_putA 2 1 (ref := "PrairiePool$Parts") cl_2 (Nat.le_of_ble_eq_true rfl) (Or.inl q195) (Or.inl rfl) dX2_init_17 (Or.inr ⟨rfl, rfl, rfl, q195⟩) rfl (Or.inr k13) k11 ?_
  refine mx_nmR (ah_ext.wR (Or.inr (Or.inl k13))) (fun h14 eh14 Xh14 Kh14 Lh14 => ?_)
  have H := H h14 eh14 Xh14
  refine mx_aload_n dX2_init_20 rfl rfl ?_
  refine mx_bipush dX2_init_21 ib_20 ?_
  obtain ⟨k15, H⟩ := H
  refine mx_newa 1 rfl (by decide) q206 dX2_init_23 cn_20 (by decide) k15.1 k15.2 (by decide) (fun x_ lv_ => ?_)
  refine mx_nmN x_ lv_ (fun h16 eh16 Xh16 lv_ => ?_)
  have H := H h16 eh16 Xh16 lv_
  have k17 := Xh16.kd ((ma_kde Kh14 (k10)))
  have k18 := Xh16.kd ((ma_kde Kh14 (k11)))
  have k19 := Xh16.kd ((ma_kde Kh14 (k12)))
  have k20 : ah_kd h16 (ah_sz h14) = 41 := by rw [eh16]; exact if_pos rfl
  obtain ⟨k21, H⟩ := H
  refine mx_putA 2 2 (ref := "PrairiePool$Parts") cl_2 (Nat.le_of_ble_eq_true rfl) (Or.inl q196) (Or.inl rfl) dX2_init_25 (Or.inr ⟨rfl, rfl, rfl, q196⟩) rfl (Or.inr k21) k18 ?_
  refine mx_nmR (ah_ext.wR (Or.inr (Or.inl k21))) (fun h22 eh22 Xh22 Kh22 Lh22 => ?_)
  have H := H h22 eh22 Xh22
  exact mx_vret rfl dX2_init_28 H
theorem dX2_split_0 : decode mi_X2_split.2.1 0 = .ok (.iconst 0, 1) := by decide +kernel
theorem dX2_split_1 : decode mi_X2_split.2.1 1 = .ok (.istore 6, 2) := by decide +kernel
theorem dX2_split_3 : decode mi_X2_split.2.1 3 = .ok (.iload 6, 2) := by decide +kernel
theorem dX2_split_5 : decode mi_X2_split.2.1 5 = .ok (.bipush 20, 2) := by decide +kernel
theorem dX2_split_7 : decode mi_X2_split.2.1 7 = .ok (.if_icmp .ge 21, 3) := by decide +kernel
theorem dX2_split_10 : decode mi_X2_split.2.1 10 = .ok (.aload_n 0, 1) := by decide +kernel
theorem dX2_split_11 : decode mi_X2_split.2.1 11 = .ok (.getfield 18, 3) := by decide +kernel
theorem dX2_split_14 : decode mi_X2_split.2.1 14 = .ok (.iload 6, 2) := by decide +kernel
theorem dX2_split_16 : decode mi_X2_split.2.1 16 = .ok (.aload_n 1, 1) := by decide +kernel
theorem dX2_split_17 : decode mi_X2_split.2.1 17 = .ok (.iload 6, 2) := by decide +kernel
theorem dX2_split_19 : decode mi_X2_split.2.1 19 = .ok (.iaload, 1) := by decide +kernel
theorem dX2_split_20 : decode mi_X2_split.2.1 20 = .ok (.i2l, 1) := by decide +kernel
theorem dX2_split_21 : decode mi_X2_split.2.1 21 = .ok (.lastore, 1) := by decide +kernel
theorem dX2_split_22 : decode mi_X2_split.2.1 22 = .ok (.iinc 6 1, 3) := by decide +kernel
theorem dX2_split_25 : decode mi_X2_split.2.1 25 = .ok (.goto (-22), 3) := by decide +kernel
theorem dX2_split_28 : decode mi_X2_split.2.1 28 = .ok (.aload_n 0, 1) := by decide +kernel
theorem dX2_split_29 : decode mi_X2_split.2.1 29 = .ok (.lload_n 2, 1) := by decide +kernel
theorem dX2_split_30 : decode mi_X2_split.2.1 30 = .ok (.lload 4, 2) := by decide +kernel
theorem dX2_split_32 : decode mi_X2_split.2.1 32 = .ok (.invokevirtual 21, 3) := by decide +kernel
theorem dX2_split_35 : decode mi_X2_split.2.1 35 = .ok (.return_, 1) := by decide +kernel
theorem v_X2_split {G : ma_G} {d : Nat} {a0 : Nat} {a1 : Nat} {x2 : Int64} {x4 : Int64} {h : ah_T} {Q : Option ma_V → ah_T → Prop} {E : Nat → ah_T → Prop} (La0_h : LY2 h a0) (H : MX G mi_X2_split (d + 1) 3 [some (rv a0), some (rv a1), some (jv x2), none, some (jv x4), none, some (iv (0 : Int32))] [] h Q E) : MX G mi_X2_split (d + 1) 0 [some (rv a0), some (rv a1), some (jv x2), none, some (jv x4), none, none] [] h Q E := by
  refine mx_iconst dX2_split_0 ic_0 ?_
  refine mx_istore (al' := [some (rv a0), some (rv a1), some (jv x2), none, some (jv x4), none, some (iv (0 : Int32))]) dX2_split_1 (Nat.le_of_ble_eq_true rfl) rfl ?_
  exact mx_weak (al' := [some (rv a0), some (rv a1), some (jv x2), none, some (jv x4), none, some (iv (0 : Int32))]) ⟨rfl, ⟨rfl, ⟨rfl, ⟨rfl, ⟨rfl, trivial⟩⟩⟩⟩⟩ H
theorem v_X2_split_3 {G : ma_G} {d : Nat} {a0 : Nat} {a1 : Nat} {x2 : Int64} {x4 : Int64} {x6 : Int32} {h : ah_T} {Q : Option ma_V → ah_T → Prop} {E : Nat → ah_T → Prop} (La0_h : LY2 h a0) (H : ((20 : Int32) ≤ x6 → MX G mi_X2_split_2 d 0 [some (rv a0), some (jv x2), none, some (jv x4), none, none, none, none, none] [] h (Qv fun h2 => ah_ext h h2 → Q none h2) E) ∧ (¬ (20 : Int32) ≤ x6 → aok h 40 a1 x6 ∧ vp_in x6 20 ∧ ∀ h6 : ah_T, h6 = ah_wJ h (a0 + 3) x6.toNatClampNeg (ah_I h a1 x6.toNatClampNeg).toInt64 → ah_ext h h6 → MX G mi_X2_split (d + 1) 3 [some (rv a0), some (rv a1), some (jv x2), none, some (jv x4), none, some (iv (x6 + (1 : Int32)))] [] h6 Q E)) : MX G mi_X2_split (d + 1) 3 [some (rv a0), some (rv a1), some (jv x2), none, some (jv x4), none, some (iv x6)] [] h Q E := by
  refine mx_iload dX2_split_3 rfl ?_
  refine mx_bipush dX2_split_5 ib_20 ?_
  refine mx_icmp_ge (tgt := 28) dX2_split_7 rfl (fun c1 => ?_) (fun c1 => ?_)
  · have H := H.1 c1
    refine mx_aload_n dX2_split_28 rfl rfl ?_
    refine mx_lload_n dX2_split_29 rfl rfl ?_
    refine mx_lload dX2_split_30 rfl ?_
    refine mx_callV 2 (y' := mi_X2_split_2) (vs := [jv x2, jv x4]) (st := []) (al' := [some (rv a0), some (jv x2), none, some (jv x4), none, none, none, none, none]) cl_2 V_X2_split_2 (Or.inl q1126) dX2_split_32 rfl rfl (Nat.le_of_ble_eq_true rfl) (Nat.le_of_ble_eq_true rfl) (ly2_k La0_h) ?_
    refine ma_kv H (fun h2 Xh2 H => ?_) (fun x1 h1 X1 H => mt_out rfl H)
    have H := H Xh2
    have La0_h2 := La0_h.ext Xh2
    exact mx_vret rfl dX2_split_35 H
  · have H := H.2 c1
    refine mx_aload_n dX2_split_10 rfl rfl ?_
    refine mx_get 2 2 (ref := "PrairiePool$Parts") cl_2 (Nat.le_of_ble_eq_true rfl) (Or.inl q196) (Or.inl rfl) dX2_split_11 (fv_2_2 _ _) (ly2_k La0_h) ?_
    refine mx_tr (ly2_R_0_2 La0_h) ?_
    refine mx_iload dX2_split_14 rfl ?_
    refine mx_aload_n dX2_split_16 rfl rfl ?_
    refine mx_iload dX2_split_17 rfl ?_
    obtain ⟨k4, H⟩ := H
    refine my_iald dX2_split_19 rfl k4 ?_
    refine mx_i2l dX2_split_20 ?_
    obtain ⟨k5, H⟩ := H
    refine my_last dX2_split_21 rfl (ly2_A_3 La0_h k5) ?_
    refine mx_nmJ  (fun h6 eh6 Xh6 Kh6 Lh6 => ?_)
    have H := H h6 eh6 Xh6
    have La0_h6 := La0_h.ext Xh6
    refine mx_iinc (al' := [some (rv a0), some (rv a1), some (jv x2), none, some (jv x4), none, some (iv (x6 + (1 : Int32)))]) dX2_split_22 rfl ic_1 rfl ?_
    refine mx_goto (tgt := 3) dX2_split_25 rfl ?_
    exact mx_weak (al' := [some (rv a0), some (rv a1), some (jv x2), none, some (jv x4), none, some (iv (x6 + (1 : Int32)))]) ⟨rfl, ⟨rfl, ⟨rfl, ⟨rfl, ⟨rfl, trivial⟩⟩⟩⟩⟩ H
theorem dX2_split_2_0 : decode mi_X2_split_2.2.1 0 = .ok (.lload_n 1, 1) := by decide +kernel
theorem dX2_split_2_1 : decode mi_X2_split_2.2.1 1 = .ok (.lconst 0, 1) := by decide +kernel
theorem dX2_split_2_2 : decode mi_X2_split_2.2.1 2 = .ok (.lcmp, 1) := by decide +kernel
theorem dX2_split_2_3 : decode mi_X2_split_2.2.1 3 = .ok (.ifCond .le 7, 3) := by decide +kernel
theorem dX2_split_2_6 : decode mi_X2_split_2.2.1 6 = .ok (.lload_n 3, 1) := by decide +kernel
theorem dX2_split_2_7 : decode mi_X2_split_2.2.1 7 = .ok (.goto 4, 3) := by decide +kernel
theorem dX2_split_2_10 : decode mi_X2_split_2.2.1 10 = .ok (.lconst 0, 1) := by decide +kernel
theorem dX2_split_2_11 : decode mi_X2_split_2.2.1 11 = .ok (.lstore 5, 2) := by decide +kernel
theorem dX2_split_2_13 : decode mi_X2_split_2.2.1 13 = .ok (.iconst 0, 1) := by decide +kernel
theorem dX2_split_2_14 : decode mi_X2_split_2.2.1 14 = .ok (.istore 7, 2) := by decide +kernel
theorem dX2_split_2_16 : decode mi_X2_split_2.2.1 16 = .ok (.iload 7, 2) := by decide +kernel
theorem dX2_split_2_18 : decode mi_X2_split_2.2.1 18 = .ok (.bipush 20, 2) := by decide +kernel
theorem dX2_split_2_20 : decode mi_X2_split_2.2.1 20 = .ok (.if_icmp .ge 77, 3) := by decide +kernel
theorem dX2_split_2_23 : decode mi_X2_split_2.2.1 23 = .ok (.aload_n 0, 1) := by decide +kernel
theorem dX2_split_2_24 : decode mi_X2_split_2.2.1 24 = .ok (.getfield 9, 3) := by decide +kernel
theorem dX2_split_2_27 : decode mi_X2_split_2.2.1 27 = .ok (.iload 7, 2) := by decide +kernel
theorem dX2_split_2_29 : decode mi_X2_split_2.2.1 29 = .ok (.lload_n 1, 1) := by decide +kernel
theorem dX2_split_2_30 : decode mi_X2_split_2.2.1 30 = .ok (.lconst 0, 1) := by decide +kernel
theorem dX2_split_2_31 : decode mi_X2_split_2.2.1 31 = .ok (.lcmp, 1) := by decide +kernel
theorem dX2_split_2_32 : decode mi_X2_split_2.2.1 32 = .ok (.ifCond .le 17, 3) := by decide +kernel
theorem dX2_split_2_35 : decode mi_X2_split_2.2.1 35 = .ok (.lload_n 3, 1) := by decide +kernel
theorem dX2_split_2_36 : decode mi_X2_split_2.2.1 36 = .ok (.aload_n 0, 1) := by decide +kernel
theorem dX2_split_2_37 : decode mi_X2_split_2.2.1 37 = .ok (.getfield 18, 3) := by decide +kernel
theorem dX2_split_2_40 : decode mi_X2_split_2.2.1 40 = .ok (.iload 7, 2) := by decide +kernel
theorem dX2_split_2_42 : decode mi_X2_split_2.2.1 42 = .ok (.laload, 1) := by decide +kernel
theorem dX2_split_2_43 : decode mi_X2_split_2.2.1 43 = .ok (.lmul, 1) := by decide +kernel
theorem dX2_split_2_44 : decode mi_X2_split_2.2.1 44 = .ok (.lload_n 1, 1) := by decide +kernel
theorem dX2_split_2_45 : decode mi_X2_split_2.2.1 45 = .ok (.ldiv, 1) := by decide +kernel
theorem dX2_split_2_46 : decode mi_X2_split_2.2.1 46 = .ok (.goto 4, 3) := by decide +kernel
theorem dX2_split_2_49 : decode mi_X2_split_2.2.1 49 = .ok (.lconst 0, 1) := by decide +kernel
theorem dX2_split_2_50 : decode mi_X2_split_2.2.1 50 = .ok (.lastore, 1) := by decide +kernel
theorem dX2_split_2_51 : decode mi_X2_split_2.2.1 51 = .ok (.aload_n 0, 1) := by decide +kernel
theorem dX2_split_2_52 : decode mi_X2_split_2.2.1 52 = .ok (.getfield 15, 3) := by decide +kernel
theorem dX2_split_2_55 : decode mi_X2_split_2.2.1 55 = .ok (.iload 7, 2) := by decide +kernel
theorem dX2_split_2_57 : decode mi_X2_split_2.2.1 57 = .ok (.lload_n 1, 1) := by decide +kernel
theorem dX2_split_2_58 : decode mi_X2_split_2.2.1 58 = .ok (.lconst 0, 1) := by decide +kernel
theorem dX2_split_2_59 : decode mi_X2_split_2.2.1 59 = .ok (.lcmp, 1) := by decide +kernel
theorem dX2_split_2_60 : decode mi_X2_split_2.2.1 60 = .ok (.ifCond .le 17, 3) := by decide +kernel
theorem dX2_split_2_63 : decode mi_X2_split_2.2.1 63 = .ok (.lload_n 3, 1) := by decide +kernel
theorem dX2_split_2_64 : decode mi_X2_split_2.2.1 64 = .ok (.aload_n 0, 1) := by decide +kernel
theorem dX2_split_2_65 : decode mi_X2_split_2.2.1 65 = .ok (.getfield 18, 3) := by decide +kernel
theorem dX2_split_2_68 : decode mi_X2_split_2.2.1 68 = .ok (.iload 7, 2) := by decide +kernel
theorem dX2_split_2_70 : decode mi_X2_split_2.2.1 70 = .ok (.laload, 1) := by decide +kernel
theorem dX2_split_2_71 : decode mi_X2_split_2.2.1 71 = .ok (.lmul, 1) := by decide +kernel
theorem dX2_split_2_72 : decode mi_X2_split_2.2.1 72 = .ok (.lload_n 1, 1) := by decide +kernel
theorem dX2_split_2_73 : decode mi_X2_split_2.2.1 73 = .ok (.lrem, 1) := by decide +kernel
theorem dX2_split_2_74 : decode mi_X2_split_2.2.1 74 = .ok (.goto 4, 3) := by decide +kernel
theorem dX2_split_2_77 : decode mi_X2_split_2.2.1 77 = .ok (.lconst 0, 1) := by decide +kernel
theorem dX2_split_2_78 : decode mi_X2_split_2.2.1 78 = .ok (.lastore, 1) := by decide +kernel
theorem dX2_split_2_79 : decode mi_X2_split_2.2.1 79 = .ok (.lload 5, 2) := by decide +kernel
theorem dX2_split_2_81 : decode mi_X2_split_2.2.1 81 = .ok (.aload_n 0, 1) := by decide +kernel
theorem dX2_split_2_82 : decode mi_X2_split_2.2.1 82 = .ok (.getfield 9, 3) := by decide +kernel
theorem dX2_split_2_85 : decode mi_X2_split_2.2.1 85 = .ok (.iload 7, 2) := by decide +kernel
theorem dX2_split_2_87 : decode mi_X2_split_2.2.1 87 = .ok (.laload, 1) := by decide +kernel
theorem dX2_split_2_88 : decode mi_X2_split_2.2.1 88 = .ok (.lsub, 1) := by decide +kernel
theorem dX2_split_2_89 : decode mi_X2_split_2.2.1 89 = .ok (.lstore 5, 2) := by decide +kernel
theorem dX2_split_2_91 : decode mi_X2_split_2.2.1 91 = .ok (.iinc 7 1, 3) := by decide +kernel
theorem dX2_split_2_94 : decode mi_X2_split_2.2.1 94 = .ok (.goto (-78), 3) := by decide +kernel
theorem dX2_split_2_97 : decode mi_X2_split_2.2.1 97 = .ok (.lload 5, 2) := by decide +kernel
theorem dX2_split_2_99 : decode mi_X2_split_2.2.1 99 = .ok (.lconst 0, 1) := by decide +kernel
theorem dX2_split_2_100 : decode mi_X2_split_2.2.1 100 = .ok (.lcmp, 1) := by decide +kernel
theorem dX2_split_2_101 : decode mi_X2_split_2.2.1 101 = .ok (.ifCond .le 74, 3) := by decide +kernel
theorem dX2_split_2_104 : decode mi_X2_split_2.2.1 104 = .ok (.iconst 0, 1) := by decide +kernel
theorem dX2_split_2_105 : decode mi_X2_split_2.2.1 105 = .ok (.istore 7, 2) := by decide +kernel
theorem dX2_split_2_107 : decode mi_X2_split_2.2.1 107 = .ok (.iconst 1, 1) := by decide +kernel
theorem dX2_split_2_108 : decode mi_X2_split_2.2.1 108 = .ok (.istore 8, 2) := by decide +kernel
theorem dX2_split_2_110 : decode mi_X2_split_2.2.1 110 = .ok (.iload 8, 2) := by decide +kernel
theorem dX2_split_2_112 : decode mi_X2_split_2.2.1 112 = .ok (.bipush 20, 2) := by decide +kernel
theorem dX2_split_2_114 : decode mi_X2_split_2.2.1 114 = .ok (.if_icmp .ge 31, 3) := by decide +kernel
theorem dX2_split_2_117 : decode mi_X2_split_2.2.1 117 = .ok (.aload_n 0, 1) := by decide +kernel
theorem dX2_split_2_118 : decode mi_X2_split_2.2.1 118 = .ok (.getfield 15, 3) := by decide +kernel
theorem dX2_split_2_121 : decode mi_X2_split_2.2.1 121 = .ok (.iload 8, 2) := by decide +kernel
theorem dX2_split_2_123 : decode mi_X2_split_2.2.1 123 = .ok (.laload, 1) := by decide +kernel
theorem dX2_split_2_124 : decode mi_X2_split_2.2.1 124 = .ok (.aload_n 0, 1) := by decide +kernel
theorem dX2_split_2_125 : decode mi_X2_split_2.2.1 125 = .ok (.getfield 15, 3) := by decide +kernel
theorem dX2_split_2_128 : decode mi_X2_split_2.2.1 128 = .ok (.iload 7, 2) := by decide +kernel
theorem dX2_split_2_130 : decode mi_X2_split_2.2.1 130 = .ok (.laload, 1) := by decide +kernel
theorem dX2_split_2_131 : decode mi_X2_split_2.2.1 131 = .ok (.lcmp, 1) := by decide +kernel
theorem dX2_split_2_132 : decode mi_X2_split_2.2.1 132 = .ok (.ifCond .le 7, 3) := by decide +kernel
theorem dX2_split_2_135 : decode mi_X2_split_2.2.1 135 = .ok (.iload 8, 2) := by decide +kernel
theorem dX2_split_2_137 : decode mi_X2_split_2.2.1 137 = .ok (.istore 7, 2) := by decide +kernel
theorem dX2_split_2_139 : decode mi_X2_split_2.2.1 139 = .ok (.iinc 8 1, 3) := by decide +kernel
theorem dX2_split_2_142 : decode mi_X2_split_2.2.1 142 = .ok (.goto (-32), 3) := by decide +kernel
theorem dX2_split_2_145 : decode mi_X2_split_2.2.1 145 = .ok (.aload_n 0, 1) := by decide +kernel
theorem dX2_split_2_146 : decode mi_X2_split_2.2.1 146 = .ok (.getfield 15, 3) := by decide +kernel
theorem dX2_split_2_149 : decode mi_X2_split_2.2.1 149 = .ok (.iload 7, 2) := by decide +kernel
theorem dX2_split_2_151 : decode mi_X2_split_2.2.1 151 = .ok (.ldc2_w 25, 3) := by decide +kernel
theorem dX2_split_2_154 : decode mi_X2_split_2.2.1 154 = .ok (.lastore, 1) := by decide +kernel
theorem dX2_split_2_155 : decode mi_X2_split_2.2.1 155 = .ok (.aload_n 0, 1) := by decide +kernel
theorem dX2_split_2_156 : decode mi_X2_split_2.2.1 156 = .ok (.getfield 9, 3) := by decide +kernel
theorem dX2_split_2_159 : decode mi_X2_split_2.2.1 159 = .ok (.iload 7, 2) := by decide +kernel
theorem dX2_split_2_161 : decode mi_X2_split_2.2.1 161 = .ok (.dup2, 1) := by decide +kernel
theorem dX2_split_2_162 : decode mi_X2_split_2.2.1 162 = .ok (.laload, 1) := by decide +kernel
theorem dX2_split_2_163 : decode mi_X2_split_2.2.1 163 = .ok (.lconst 1, 1) := by decide +kernel
theorem dX2_split_2_164 : decode mi_X2_split_2.2.1 164 = .ok (.ladd, 1) := by decide +kernel
theorem dX2_split_2_165 : decode mi_X2_split_2.2.1 165 = .ok (.lastore, 1) := by decide +kernel
theorem dX2_split_2_166 : decode mi_X2_split_2.2.1 166 = .ok (.lload 5, 2) := by decide +kernel
theorem dX2_split_2_168 : decode mi_X2_split_2.2.1 168 = .ok (.lconst 1, 1) := by decide +kernel
theorem dX2_split_2_169 : decode mi_X2_split_2.2.1 169 = .ok (.lsub, 1) := by decide +kernel
theorem dX2_split_2_170 : decode mi_X2_split_2.2.1 170 = .ok (.lstore 5, 2) := by decide +kernel
theorem dX2_split_2_172 : decode mi_X2_split_2.2.1 172 = .ok (.goto (-75), 3) := by decide +kernel
theorem dX2_split_2_175 : decode mi_X2_split_2.2.1 175 = .ok (.return_, 1) := by decide +kernel
theorem v_X2_split_2 {G : ma_G} {d : Nat} {a0 : Nat} {x1 : Int64} {x3 : Int64} {h : ah_T} {Q : Option ma_V → ah_T → Prop} {E : Nat → ah_T → Prop} (La0_h : LY2 h a0) (H : (x1 ≤ (0 : Int64) → MX G mi_X2_split_2 d 16 [some (rv a0), some (jv x1), none, some (jv x3), none, some (jv (0 : Int64)), none, some (iv (0 : Int32)), none] [] h Q E) ∧ (¬ x1 ≤ (0 : Int64) → MX G mi_X2_split_2 d 16 [some (rv a0), some (jv x1), none, some (jv x3), none, some (jv x3), none, some (iv (0 : Int32)), none] [] h Q E)) : MX G mi_X2_split_2 d 0 [some (rv a0), some (jv x1), none, some (jv x3), none, none, none, none, none] [] h Q E := by
  refine mx_lload_n dX2_split_2_0 rfl rfl ?_
  refine mx_lconst dX2_split_2_1 lc_0 ?_
  refine mx_lif_le (tgt := 10) dX2_split_2_2 dX2_split_2_3 rfl (fun c1 => ?_) (fun c1 => ?_)
  · have H := H.1 c1
    refine mx_lconst dX2_split_2_10 lc_0 ?_
    refine mx_lstore (al' := [some (rv a0), some (jv x1), none, some (jv x3), none, some (jv (0 : Int64)), none, none, none]) dX2_split_2_11 (Nat.le_of_ble_eq_true rfl) rfl ?_
    refine mx_iconst dX2_split_2_13 ic_0 ?_
    refine mx_istore (al' := [some (rv a0), some (jv x1), none, some (jv x3), none, some (jv (0 : Int64)), none, some (iv (0 : Int32)), none]) dX2_split_2_14 (Nat.le_of_ble_eq_true rfl) rfl ?_
    exact mx_weak (al' := [some (rv a0), some (jv x1), none, some (jv x3), none, some (jv (0 : Int64)), none, some (iv (0 : Int32)), none]) ⟨rfl, ⟨rfl, ⟨rfl, ⟨rfl, ⟨rfl, trivial⟩⟩⟩⟩⟩ H
  · have H := H.2 c1
    refine mx_lload_n dX2_split_2_6 rfl rfl ?_
    refine mx_goto (tgt := 11) dX2_split_2_7 rfl ?_
    refine mx_lstore (al' := [some (rv a0), some (jv x1), none, some (jv x3), none, some (jv x3), none, none, none]) dX2_split_2_11 (Nat.le_of_ble_eq_true rfl) rfl ?_
    refine mx_iconst dX2_split_2_13 ic_0 ?_
    refine mx_istore (al' := [some (rv a0), some (jv x1), none, some (jv x3), none, some (jv x3), none, some (iv (0 : Int32)), none]) dX2_split_2_14 (Nat.le_of_ble_eq_true rfl) rfl ?_
    exact mx_weak (al' := [some (rv a0), some (jv x1), none, some (jv x3), none, some (jv x3), none, some (iv (0 : Int32)), none]) ⟨rfl, ⟨rfl, ⟨rfl, ⟨rfl, ⟨rfl, trivial⟩⟩⟩⟩⟩ H
theorem v_X2_split_2_16 {G : ma_G} {d : Nat} {a0 : Nat} {x1 : Int64} {x3 : Int64} {x5 : Int64} {x7 : Int32} {h : ah_T} {Q : Option ma_V → ah_T → Prop} {E : Nat → ah_T → Prop} (La0_h : LY2 h a0) (H : ((20 : Int32) ≤ x7 → MX G mi_X2_split_2 d 97 [some (rv a0), none, none, none, none, some (jv x5), none, none, none] [] h Q E) ∧ (¬ (20 : Int32) ≤ x7 → (x1 ≤ (0 : Int64) → MX G mi_X2_split_2 d 50 [some (rv a0), some (jv x1), none, some (jv x3), none, some (jv x5), none, some (iv x7), none] [jv (0 : Int64), iv x7, rv (a0 + 1)] h Q E) ∧ (¬ x1 ≤ (0 : Int64) → vp_in x7 20 ∧ ¬ x1 = 0 ∧ MX G mi_X2_split_2 d 50 [some (rv a0), some (jv x1), none, some (jv x3), none, some (jv x5), none, some (iv x7), none] [jv ((x3 * (ah_J h (a0 + 3) x7.toNatClampNeg)) / x1), iv x7, rv (a0 + 1)] h Q E))) : MX G mi_X2_split_2 d 16 [some (rv a0), some (jv x1), none, some (jv x3), none, some (jv x5), none, some (iv x7), none] [] h Q E := by
  refine mx_iload dX2_split_2_16 rfl ?_
  refine mx_bipush dX2_split_2_18 ib_20 ?_
  refine mx_icmp_ge (tgt := 97) dX2_split_2_20 rfl (fun c1 => ?_) (fun c1 => ?_)
  · have H := H.1 c1
    exact mx_weak (al' := [some (rv a0), none, none, none, none, some (jv x5), none, none, none]) ⟨rfl, ⟨rfl, trivial⟩⟩ H
  · have H := H.2 c1
    refine mx_aload_n dX2_split_2_23 rfl rfl ?_
    refine mx_get 2 0 (ref := "PrairiePool$Parts") cl_2 (Nat.le_of_ble_eq_true rfl) (Or.inl q192) (Or.inl rfl) dX2_split_2_24 (fv_2_0 _ _) (ly2_k La0_h) ?_
    refine mx_tr (ly2_R_0_0 La0_h) ?_
    refine mx_iload dX2_split_2_27 rfl ?_
    refine mx_lload_n dX2_split_2_29 rfl rfl ?_
    refine mx_lconst dX2_split_2_30 lc_0 ?_
    refine mx_lif_le (tgt := 49) dX2_split_2_31 dX2_split_2_32 rfl (fun c2 => ?_) (fun c2 => ?_)
    · have H := H.1 c2
      refine mx_lconst dX2_split_2_49 lc_0 ?_
      exact mx_weak (al' := [some (rv a0), some (jv x1), none, some (jv x3), none, some (jv x5), none, some (iv x7), none]) ⟨rfl, ⟨rfl, ⟨rfl, ⟨rfl, ⟨rfl, trivial⟩⟩⟩⟩⟩ H
    · have H := H.2 c2
      refine mx_lload_n dX2_split_2_35 rfl rfl ?_
      refine mx_aload_n dX2_split_2_36 rfl rfl ?_
      refine mx_get 2 2 (ref := "PrairiePool$Parts") cl_2 (Nat.le_of_ble_eq_true rfl) (Or.inl q196) (Or.inl rfl) dX2_split_2_37 (fv_2_2 _ _) (ly2_k La0_h) ?_
      refine mx_tr (ly2_R_0_2 La0_h) ?_
      refine mx_iload dX2_split_2_40 rfl ?_
      obtain ⟨k3, H⟩ := H
      refine my_lald dX2_split_2_42 rfl (ly2_A_3 La0_h k3) ?_
      refine mx_lmul dX2_split_2_43 ?_
      refine mx_lload_n dX2_split_2_44 rfl rfl ?_
      obtain ⟨k4, H⟩ := H
      refine mx_ldiv dX2_split_2_45 k4 ?_
      refine mx_goto (tgt := 50) dX2_split_2_46 rfl ?_
      exact mx_weak (al' := [some (rv a0), some (jv x1), none, some (jv x3), none, some (jv x5), none, some (iv x7), none]) ⟨rfl, ⟨rfl, ⟨rfl, ⟨rfl, ⟨rfl, trivial⟩⟩⟩⟩⟩ H
theorem v_X2_split_2_97 {G : ma_G} {d : Nat} {a0 : Nat} {x5 : Int64} {h : ah_T} {Q : Option ma_V → ah_T → Prop} {E : Nat → ah_T → Prop} (La0_h : LY2 h a0) (H : (x5 ≤ (0 : Int64) → Q none h) ∧ (¬ x5 ≤ (0 : Int64) → MX G mi_X2_split_2 d 110 [some (rv a0), none, none, none, none, some (jv x5), none, some (iv (0 : Int32)), some (iv (1 : Int32))] [] h Q E)) : MX G mi_X2_split_2 d 97 [some (rv a0), none, none, none, none, some (jv x5), none, none, none] [] h Q E := by
  refine mx_lload dX2_split_2_97 rfl ?_
  refine mx_lconst dX2_split_2_99 lc_0 ?_
  refine mx_lif_le (tgt := 175) dX2_split_2_100 dX2_split_2_101 rfl (fun c1 => ?_) (fun c1 => ?_)
  · have H := H.1 c1
    exact mx_vret rfl dX2_split_2_175 H
  · have H := H.2 c1
    refine mx_iconst dX2_split_2_104 ic_0 ?_
    refine mx_istore (al' := [some (rv a0), none, none, none, none, some (jv x5), none, some (iv (0 : Int32)), none]) dX2_split_2_105 (Nat.le_of_ble_eq_true rfl) rfl ?_
    refine mx_iconst dX2_split_2_107 ic_1 ?_
    refine mx_istore (al' := [some (rv a0), none, none, none, none, some (jv x5), none, some (iv (0 : Int32)), some (iv (1 : Int32))]) dX2_split_2_108 (Nat.le_of_ble_eq_true rfl) rfl ?_
    exact mx_weak (al' := [some (rv a0), none, none, none, none, some (jv x5), none, some (iv (0 : Int32)), some (iv (1 : Int32))]) ⟨rfl, ⟨rfl, ⟨rfl, ⟨rfl, trivial⟩⟩⟩⟩ H
theorem v_X2_split_2_50 {G : ma_G} {d : Nat} {a0 : Nat} {x1 : Int64} {x3 : Int64} {x5 : Int64} {x7 : Int32} {z0 : Int64} {h : ah_T} {Q : Option ma_V → ah_T → Prop} {E : Nat → ah_T → Prop} (La0_h : LY2 h a0) (H : vp_in x7 20 ∧ ∀ h2 : ah_T, h2 = ah_wJ h (a0 + 1) x7.toNatClampNeg z0 → ah_ext h h2 → (x1 ≤ (0 : Int64) → ∀ h4 : ah_T, h4 = ah_wJ h2 (a0 + 2) x7.toNatClampNeg (0 : Int64) → ah_ext h2 h4 → MX G mi_X2_split_2 d 16 [some (rv a0), some (jv x1), none, some (jv x3), none, some (jv (x5 - z0)), none, some (iv (x7 + (1 : Int32))), none] [] h4 Q E) ∧ (¬ x1 ≤ (0 : Int64) → ¬ x1 = 0 ∧ ∀ h6 : ah_T, h6 = ah_wJ h2 (a0 + 2) x7.toNatClampNeg ((x3 * (ah_J h (a0 + 3) x7.toNatClampNeg)) - (x3 * (ah_J h (a0 + 3) x7.toNatClampNeg)) / x1 * x1) → ah_ext h2 h6 → MX G mi_X2_split_2 d 16 [some (rv a0), some (jv x1), none, some (jv x3), none, some (jv (x5 - z0)), none, some (iv (x7 + (1 : Int32))), none] [] h6 Q E)) : MX G mi_X2_split_2 d 50 [some (rv a0), some (jv x1), none, some (jv x3), none, some (jv x5), none, some (iv x7), none] [jv z0, iv x7, rv (a0 + 1)] h Q E := by
  obtain ⟨k1, H⟩ := H
  refine my_last dX2_split_2_50 rfl (ly2_A_1 La0_h k1) ?_
  refine mx_nmJ  (fun h2 eh2 Xh2 Kh2 Lh2 => ?_)
  have H := H h2 eh2 Xh2
  have La0_h2 := La0_h.ext Xh2
  refine mx_aload_n dX2_split_2_51 rfl rfl ?_
  refine mx_get 2 1 (ref := "PrairiePool$Parts") cl_2 (Nat.le_of_ble_eq_true rfl) (Or.inl q195) (Or.inl rfl) dX2_split_2_52 (fv_2_1 _ _) (ly2_k La0_h2) ?_
  refine mx_tr (ly2_R_0_1 La0_h2) ?_
  refine mx_iload dX2_split_2_55 rfl ?_
  refine mx_lload_n dX2_split_2_57 rfl rfl ?_
  refine mx_lconst dX2_split_2_58 lc_0 ?_
  refine mx_lif_le (tgt := 77) dX2_split_2_59 dX2_split_2_60 rfl (fun c3 => ?_) (fun c3 => ?_)
  · have H := H.1 c3
    refine mx_lconst dX2_split_2_77 lc_0 ?_
    refine my_last dX2_split_2_78 rfl (ly2_A_2 La0_h2 k1) ?_
    refine mx_nmJ  (fun h4 eh4 Xh4 Kh4 Lh4 => ?_)
    have H := H h4 eh4 Xh4
    have Kh4 := Kh4.trans Kh2
    have Lh4 := Lh4.trans Lh2
    have La0_h4 := La0_h2.ext Xh4
    refine mx_lload dX2_split_2_79 rfl ?_
    refine mx_aload_n dX2_split_2_81 rfl rfl ?_
    refine mx_get 2 0 (ref := "PrairiePool$Parts") cl_2 (Nat.le_of_ble_eq_true rfl) (Or.inl q192) (Or.inl rfl) dX2_split_2_82 (fv_2_0 _ _) (ly2_k La0_h4) ?_
    refine mx_tr (ly2_R_0_0 La0_h4) ?_
    refine mx_iload dX2_split_2_85 rfl ?_
    refine my_lald dX2_split_2_87 rfl (ly2_A_1 La0_h4 k1) ?_
    refine mx_tj ((ah_skJA eh4 (by omega)).trans (ah_hitJ eh2)) ?_
    refine mx_lsub dX2_split_2_88 ?_
    refine mx_lstore (al' := [some (rv a0), some (jv x1), none, some (jv x3), none, some (jv (x5 - z0)), none, some (iv x7), none]) dX2_split_2_89 (Nat.le_of_ble_eq_true rfl) rfl ?_
    refine mx_iinc (al' := [some (rv a0), some (jv x1), none, some (jv x3), none, some (jv (x5 - z0)), none, some (iv (x7 + (1 : Int32))), none]) dX2_split_2_91 rfl ic_1 rfl ?_
    refine mx_goto (tgt := 16) dX2_split_2_94 rfl ?_
    exact mx_weak (al' := [some (rv a0), some (jv x1), none, some (jv x3), none, some (jv (x5 - z0)), none, some (iv (x7 + (1 : Int32))), none]) ⟨rfl, ⟨rfl, ⟨rfl, ⟨rfl, ⟨rfl, trivial⟩⟩⟩⟩⟩ H
  · have H := H.2 c3
    refine mx_lload_n dX2_split_2_63 rfl rfl ?_
    refine mx_aload_n dX2_split_2_64 rfl rfl ?_
    refine mx_get 2 2 (ref := "PrairiePool$Parts") cl_2 (Nat.le_of_ble_eq_true rfl) (Or.inl q196) (Or.inl rfl) dX2_split_2_65 (fv_2_2 _ _) (ly2_k La0_h2) ?_
    refine mx_tr (ly2_R_0_2 La0_h2) ?_
    refine mx_iload dX2_split_2_68 rfl ?_
    refine my_lald dX2_split_2_70 rfl (ly2_A_3 La0_h2 k1) ?_
    refine mx_tj (ah_skJA eh2 (by omega)) ?_
    refine mx_lmul dX2_split_2_71 ?_
    refine mx_lload_n dX2_split_2_72 rfl rfl ?_
    obtain ⟨k5, H⟩ := H
    refine mx_lrem dX2_split_2_73 k5 ?_
    refine mx_goto (tgt := 78) dX2_split_2_74 rfl ?_
    refine my_last dX2_split_2_78 rfl (ly2_A_2 La0_h2 k1) ?_
    refine mx_nmJ  (fun h6 eh6 Xh6 Kh6 Lh6 => ?_)
    have H := H h6 eh6 Xh6
    have Kh6 := Kh6.trans Kh2
    have Lh6 := Lh6.trans Lh2
    have La0_h6 := La0_h2.ext Xh6
    refine mx_lload dX2_split_2_79 rfl ?_
    refine mx_aload_n dX2_split_2_81 rfl rfl ?_
    refine mx_get 2 0 (ref := "PrairiePool$Parts") cl_2 (Nat.le_of_ble_eq_true rfl) (Or.inl q192) (Or.inl rfl) dX2_split_2_82 (fv_2_0 _ _) (ly2_k La0_h6) ?_
    refine mx_tr (ly2_R_0_0 La0_h6) ?_
    refine mx_iload dX2_split_2_85 rfl ?_
    refine my_lald dX2_split_2_87 rfl (ly2_A_1 La0_h6 k1) ?_
    refine mx_tj ((ah_skJA eh6 (by omega)).trans (ah_hitJ eh2)) ?_
    refine mx_lsub dX2_split_2_88 ?_
    refine mx_lstore (al' := [some (rv a0), some (jv x1), none, some (jv x3), none, some (jv (x5 - z0)), none, some (iv x7), none]) dX2_split_2_89 (Nat.le_of_ble_eq_true rfl) rfl ?_
    refine mx_iinc (al' := [some (rv a0), some (jv x1), none, some (jv x3), none, some (jv (x5 - z0)), none, some (iv (x7 + (1 : Int32))), none]) dX2_split_2_91 rfl ic_1 rfl ?_
    refine mx_goto (tgt := 16) dX2_split_2_94 rfl ?_
    exact mx_weak (al' := [some (rv a0), some (jv x1), none, some (jv x3), none, some (jv (x5 - z0)), none, some (iv (x7 + (1 : Int32))), none]) ⟨rfl, ⟨rfl, ⟨rfl, ⟨rfl, ⟨rfl, trivial⟩⟩⟩⟩⟩ H
theorem v_X2_split_2_110 {G : ma_G} {d : Nat} {a0 : Nat} {x5 : Int64} {x7 : Int32} {x8 : Int32} {h : ah_T} {Q : Option ma_V → ah_T → Prop} {E : Nat → ah_T → Prop} (La0_h : LY2 h a0) (H : ((20 : Int32) ≤ x8 → vp_in x7 20 ∧ ∀ h3 : ah_T, h3 = ah_wJ h (a0 + 2) x7.toNatClampNeg (-1 : Int64) → ah_ext h h3 → ∀ h4 : ah_T, h4 = ah_wJ h3 (a0 + 1) x7.toNatClampNeg ((ah_J h (a0 + 1) x7.toNatClampNeg) + (1 : Int64)) → ah_ext h3 h4 → MX G mi_X2_split_2 d 97 [some (rv a0), none, none, none, none, some (jv (x5 - (1 : Int64))), none, none, none] [] h4 Q E) ∧ (¬ (20 : Int32) ≤ x8 → vp_in x8 20 ∧ vp_in x7 20 ∧ ((ah_J h (a0 + 2) x8.toNatClampNeg) ≤ (ah_J h (a0 + 2) x7.toNatClampNeg) → MX G mi_X2_split_2 d 110 [some (rv a0), none, none, none, none, some (jv x5), none, some (iv x7), some (iv (x8 + (1 : Int32)))] [] h Q E) ∧ (¬ (ah_J h (a0 + 2) x8.toNatClampNeg) ≤ (ah_J h (a0 + 2) x7.toNatClampNeg) → MX G mi_X2_split_2 d 110 [some (rv a0), none, none, none, none, some (jv x5), none, some (iv x8), some (iv (x8 + (1 : Int32)))] [] h Q E))) : MX G mi_X2_split_2 d 110 [some (rv a0), none, none, none, none, some (jv x5), none, some (iv x7), some (iv x8)] [] h Q E := by
  refine mx_iload dX2_split_2_110 rfl ?_
  refine mx_bipush dX2_split_2_112 ib_20 ?_
  refine mx_icmp_ge (tgt := 145) dX2_split_2_114 rfl (fun c1 => ?_) (fun c1 => ?_)
  · have H := H.1 c1
    refine mx_aload_n dX2_split_2_145 rfl rfl ?_
    refine mx_get 2 1 (ref := "PrairiePool$Parts") cl_2 (Nat.le_of_ble_eq_true rfl) (Or.inl q195) (Or.inl rfl) dX2_split_2_146 (fv_2_1 _ _) (ly2_k La0_h) ?_
    refine mx_tr (ly2_R_0_1 La0_h) ?_
    refine mx_iload dX2_split_2_149 rfl ?_
    refine mx_ldc2 q1130 dX2_split_2_151 ?_
    obtain ⟨k2, H⟩ := H
    refine my_last dX2_split_2_154 rfl (ly2_A_2 La0_h k2) ?_
    refine mx_nmJ  (fun h3 eh3 Xh3 Kh3 Lh3 => ?_)
    have H := H h3 eh3 Xh3
    have La0_h3 := La0_h.ext Xh3
    refine mx_aload_n dX2_split_2_155 rfl rfl ?_
    refine mx_get 2 0 (ref := "PrairiePool$Parts") cl_2 (Nat.le_of_ble_eq_true rfl) (Or.inl q192) (Or.inl rfl) dX2_split_2_156 (fv_2_0 _ _) (ly2_k La0_h3) ?_
    refine mx_tr (ly2_R_0_0 La0_h3) ?_
    refine mx_iload dX2_split_2_159 rfl ?_
    refine mx_dup2_ir dX2_split_2_161 ?_
    refine my_lald dX2_split_2_162 rfl (ly2_A_1 La0_h3 k2) ?_
    refine mx_tj (ah_skJA eh3 (by omega)) ?_
    refine mx_lconst dX2_split_2_163 lc_1 ?_
    refine mx_ladd dX2_split_2_164 ?_
    refine my_last dX2_split_2_165 rfl (ly2_A_1 La0_h3 k2) ?_
    refine mx_nmJ  (fun h4 eh4 Xh4 Kh4 Lh4 => ?_)
    have H := H h4 eh4 Xh4
    have Kh4 := Kh4.trans Kh3
    have Lh4 := Lh4.trans Lh3
    have La0_h4 := La0_h3.ext Xh4
    refine mx_lload dX2_split_2_166 rfl ?_
    refine mx_lconst dX2_split_2_168 lc_1 ?_
    refine mx_lsub dX2_split_2_169 ?_
    refine mx_lstore (al' := [some (rv a0), none, none, none, none, some (jv (x5 - (1 : Int64))), none, some (iv x7), some (iv x8)]) dX2_split_2_170 (Nat.le_of_ble_eq_true rfl) rfl ?_
    refine mx_goto (tgt := 97) dX2_split_2_172 rfl ?_
    exact mx_weak (al' := [some (rv a0), none, none, none, none, some (jv (x5 - (1 : Int64))), none, none, none]) ⟨rfl, ⟨rfl, trivial⟩⟩ H
  · have H := H.2 c1
    refine mx_aload_n dX2_split_2_117 rfl rfl ?_
    refine mx_get 2 1 (ref := "PrairiePool$Parts") cl_2 (Nat.le_of_ble_eq_true rfl) (Or.inl q195) (Or.inl rfl) dX2_split_2_118 (fv_2_1 _ _) (ly2_k La0_h) ?_
    refine mx_tr (ly2_R_0_1 La0_h) ?_
    refine mx_iload dX2_split_2_121 rfl ?_
    obtain ⟨k5, H⟩ := H
    refine my_lald dX2_split_2_123 rfl (ly2_A_2 La0_h k5) ?_
    refine mx_aload_n dX2_split_2_124 rfl rfl ?_
    refine mx_get 2 1 (ref := "PrairiePool$Parts") cl_2 (Nat.le_of_ble_eq_true rfl) (Or.inl q195) (Or.inl rfl) dX2_split_2_125 (fv_2_1 _ _) (ly2_k La0_h) ?_
    refine mx_tr (ly2_R_0_1 La0_h) ?_
    refine mx_iload dX2_split_2_128 rfl ?_
    obtain ⟨k6, H⟩ := H
    refine my_lald dX2_split_2_130 rfl (ly2_A_2 La0_h k6) ?_
    refine mx_lif_le (tgt := 139) dX2_split_2_131 dX2_split_2_132 rfl (fun c7 => ?_) (fun c7 => ?_)
    · have H := H.1 c7
      refine mx_iinc (al' := [some (rv a0), none, none, none, none, some (jv x5), none, some (iv x7), some (iv (x8 + (1 : Int32)))]) dX2_split_2_139 rfl ic_1 rfl ?_
      refine mx_goto (tgt := 110) dX2_split_2_142 rfl ?_
      exact mx_weak (al' := [some (rv a0), none, none, none, none, some (jv x5), none, some (iv x7), some (iv (x8 + (1 : Int32)))]) ⟨rfl, ⟨rfl, ⟨rfl, ⟨rfl, trivial⟩⟩⟩⟩ H
    · have H := H.2 c7
      refine mx_iload dX2_split_2_135 rfl ?_
      refine mx_istore (al' := [some (rv a0), none, none, none, none, some (jv x5), none, some (iv x8), some (iv x8)]) dX2_split_2_137 (Nat.le_of_ble_eq_true rfl) rfl ?_
      refine mx_iinc (al' := [some (rv a0), none, none, none, none, some (jv x5), none, some (iv x8), some (iv (x8 + (1 : Int32)))]) dX2_split_2_139 rfl ic_1 rfl ?_
      refine mx_goto (tgt := 110) dX2_split_2_142 rfl ?_
      exact mx_weak (al' := [some (rv a0), none, none, none, none, some (jv x5), none, some (iv x8), some (iv (x8 + (1 : Int32)))]) ⟨rfl, ⟨rfl, ⟨rfl, ⟨rfl, trivial⟩⟩⟩⟩ H
theorem dX3_init_0 : decode mi_X3_init.2.1 0 = .ok (.aload_n 0, 1) := by decide +kernel
theorem dX3_init_1 : decode mi_X3_init.2.1 1 = .ok (.invokespecial 3, 3) := by decide +kernel
theorem dX3_init_4 : decode mi_X3_init.2.1 4 = .ok (.aload_n 0, 1) := by decide +kernel
theorem dX3_init_5 : decode mi_X3_init.2.1 5 = .ok (.bipush 20, 2) := by decide +kernel
theorem dX3_init_7 : decode mi_X3_init.2.1 7 = .ok (.newarray .int, 2) := by decide +kernel
theorem dX3_init_9 : decode mi_X3_init.2.1 9 = .ok (.putfield 9, 3) := by decide +kernel
theorem dX3_init_12 : decode mi_X3_init.2.1 12 = .ok (.return_, 1) := by decide +kernel
theorem v_X3_init {G : ma_G} {d : Nat} {a0 : Nat} {h : ah_T} {Q : Option ma_V → ah_T → Prop} {E : Nat → ah_T → Prop}  (H : ah_kd h a0 ≠ 0 ∧ (1 ≤ ah_rc h ∧ 20 ≤ ah_rs h) ∧ ∀ h3 : ah_T, h3 = ah_new h 40 20 20 → ah_ext h h3 → ah_liv h → ah_kd h3 a0 = 4 ∧ ah_R h3 a0 0 = 0 ∧ ∀ h7 : ah_T, h7 = ah_wR h3 a0 0 (ah_sz h) → ah_ext h3 h7 → Q none h7) : MX G mi_X3_init (d + 1) 0 [some (rv a0)] [] h Q E := by
  refine mx_aload_n dX3_init_0 rfl rfl ?_
  obtain ⟨k1, H⟩ := H
  refine mx_objInit q212 qobj1 qobj2 dX3_init_1 (Nat.le_of_ble_eq_true rfl) k1 ?_
  refine mx_aload_n dX3_init_4 rfl rfl ?_
  refine mx_bipush dX3_init_5 ib_20 ?_
  obtain ⟨k2, H⟩ := H
  refine mx_newa 0 rfl (by decide) q205 dX3_init_7 cn_20 (by decide) k2.1 k2.2 (by decide) (fun x_ lv_ => ?_)
  refine mx_nmN x_ lv_ (fun h3 eh3 Xh3 lv_ => ?_)
  have H := H h3 eh3 Xh3 lv_
  have k4 : ah_kd h3 (ah_sz h) = 40 := by rw [eh3]; exact if_pos rfl
  obtain ⟨k5, H⟩ := H
  obtain ⟨k6, H⟩ := H
  refine mx_putA 3 0 (ref := "PrairiePool$Heap") cl_3 (Nat.le_of_ble_eq_true rfl) (Or.inl q213) (Or.inl rfl) dX3_init_9 (Or.inr ⟨rfl, rfl, rfl, q213⟩) rfl (Or.inr k6) k5 ?_
  refine mx_nmR (ah_ext.wR (Or.inr (Or.inl k6))) (fun h7 eh7 Xh7 Kh7 Lh7 => ?_)
  have H := H h7 eh7 Xh7
  exact mx_vret rfl dX3_init_12 H
theorem dX3_clear_0 : decode mi_X3_clear.2.1 0 = .ok (.aload_n 0, 1) := by decide +kernel
theorem dX3_clear_1 : decode mi_X3_clear.2.1 1 = .ok (.iconst 0, 1) := by decide +kernel
theorem dX3_clear_2 : decode mi_X3_clear.2.1 2 = .ok (.putfield 15, 3) := by decide +kernel
theorem dX3_clear_5 : decode mi_X3_clear.2.1 5 = .ok (.iconst 0, 1) := by decide +kernel
theorem dX3_clear_6 : decode mi_X3_clear.2.1 6 = .ok (.istore_n 1, 1) := by decide +kernel
theorem dX3_clear_7 : decode mi_X3_clear.2.1 7 = .ok (.iload_n 1, 1) := by decide +kernel
theorem dX3_clear_8 : decode mi_X3_clear.2.1 8 = .ok (.bipush 20, 2) := by decide +kernel
theorem dX3_clear_10 : decode mi_X3_clear.2.1 10 = .ok (.if_icmp .ge 16, 3) := by decide +kernel
theorem dX3_clear_13 : decode mi_X3_clear.2.1 13 = .ok (.aload_n 0, 1) := by decide +kernel
theorem dX3_clear_14 : decode mi_X3_clear.2.1 14 = .ok (.getfield 9, 3) := by decide +kernel
theorem dX3_clear_17 : decode mi_X3_clear.2.1 17 = .ok (.iload_n 1, 1) := by decide +kernel
theorem dX3_clear_18 : decode mi_X3_clear.2.1 18 = .ok (.iconst 0, 1) := by decide +kernel
theorem dX3_clear_19 : decode mi_X3_clear.2.1 19 = .ok (.iastore, 1) := by decide +kernel
theorem dX3_clear_20 : decode mi_X3_clear.2.1 20 = .ok (.iinc 1 1, 3) := by decide +kernel
theorem dX3_clear_23 : decode mi_X3_clear.2.1 23 = .ok (.goto (-16), 3) := by decide +kernel
theorem dX3_clear_26 : decode mi_X3_clear.2.1 26 = .ok (.return_, 1) := by decide +kernel
theorem v_X3_clear {G : ma_G} {d : Nat} {a0 : Nat} {h : ah_T} {Q : Option ma_V → ah_T → Prop} {E : Nat → ah_T → Prop} (La0_h : LY3 h a0) (H : ∀ h1 : ah_T, h1 = ah_wI h a0 1 (0 : Int32) → ah_ext h h1 → MX G mi_X3_clear d 7 [some (rv a0), some (iv (0 : Int32))] [] h1 Q E) : MX G mi_X3_clear d 0 [some (rv a0), none] [] h Q E := by
  refine mx_aload_n dX3_clear_0 rfl rfl ?_
  refine mx_iconst dX3_clear_1 ic_0 ?_
  refine mx_putI 3 1 (ref := "PrairiePool$Heap") cl_3 (Nat.le_of_ble_eq_true rfl) (Or.inl q215) (Or.inl rfl) dX3_clear_2 (Or.inl rfl) rfl (ly3_k La0_h) ?_
  refine mx_nmI  (fun h1 eh1 Xh1 Kh1 Lh1 => ?_)
  have H := H h1 eh1 Xh1
  have La0_h1 := La0_h.ext Xh1
  refine mx_iconst dX3_clear_5 ic_0 ?_
  refine mx_istore_n (al' := [some (rv a0), some (iv (0 : Int32))]) dX3_clear_6 rfl (Nat.le_of_ble_eq_true rfl) rfl ?_
  exact mx_weak (al' := [some (rv a0), some (iv (0 : Int32))]) ⟨rfl, ⟨rfl, trivial⟩⟩ H
theorem v_X3_clear_7 {G : ma_G} {d : Nat} {a0 : Nat} {x1 : Int32} {h : ah_T} {Q : Option ma_V → ah_T → Prop} {E : Nat → ah_T → Prop} (La0_h : LY3 h a0) (H : ((20 : Int32) ≤ x1 → Q none h) ∧ (¬ (20 : Int32) ≤ x1 → vp_in x1 20 ∧ ∀ h3 : ah_T, h3 = ah_wI h (a0 + 1) x1.toNatClampNeg (0 : Int32) → ah_ext h h3 → MX G mi_X3_clear d 7 [some (rv a0), some (iv (x1 + (1 : Int32)))] [] h3 Q E)) : MX G mi_X3_clear d 7 [some (rv a0), some (iv x1)] [] h Q E := by
  refine mx_iload_n dX3_clear_7 rfl rfl ?_
  refine mx_bipush dX3_clear_8 ib_20 ?_
  refine mx_icmp_ge (tgt := 26) dX3_clear_10 rfl (fun c1 => ?_) (fun c1 => ?_)
  · have H := H.1 c1
    exact mx_vret rfl dX3_clear_26 H
  · have H := H.2 c1
    refine mx_aload_n dX3_clear_13 rfl rfl ?_
    refine mx_get 3 0 (ref := "PrairiePool$Heap") cl_3 (Nat.le_of_ble_eq_true rfl) (Or.inl q213) (Or.inl rfl) dX3_clear_14 (fv_3_0 _ _) (ly3_k La0_h) ?_
    refine mx_tr (ly3_R_0_0 La0_h) ?_
    refine mx_iload_n dX3_clear_17 rfl rfl ?_
    refine mx_iconst dX3_clear_18 ic_0 ?_
    obtain ⟨k2, H⟩ := H
    refine my_iast dX3_clear_19 rfl (ly3_A_1 La0_h k2) ?_
    refine mx_nmI  (fun h3 eh3 Xh3 Kh3 Lh3 => ?_)
    have H := H h3 eh3 Xh3
    have La0_h3 := La0_h.ext Xh3
    refine mx_iinc (al' := [some (rv a0), some (iv (x1 + (1 : Int32)))]) dX3_clear_20 rfl ic_1 rfl ?_
    refine mx_goto (tgt := 7) dX3_clear_23 rfl ?_
    exact mx_weak (al' := [some (rv a0), some (iv (x1 + (1 : Int32)))]) ⟨rfl, ⟨rfl, trivial⟩⟩ H
theorem dX3_takes_0 : decode mi_X3_takes.2.1 0 = .ok (.aload_n 2, 1) := by decide +kernel
theorem dX3_takes_1 : decode mi_X3_takes.2.1 1 = .ok (.aload_n 0, 1) := by decide +kernel
theorem dX3_takes_2 : decode mi_X3_takes.2.1 2 = .ok (.getfield 9, 3) := by decide +kernel
theorem dX3_takes_5 : decode mi_X3_takes.2.1 5 = .ok (.aload_n 0, 1) := by decide +kernel
theorem dX3_takes_6 : decode mi_X3_takes.2.1 6 = .ok (.getfield 15, 3) := by decide +kernel
theorem dX3_takes_9 : decode mi_X3_takes.2.1 9 = .ok (.i2l, 1) := by decide +kernel
theorem dX3_takes_10 : decode mi_X3_takes.2.1 10 = .ok (.iload_n 1, 1) := by decide +kernel
theorem dX3_takes_11 : decode mi_X3_takes.2.1 11 = .ok (.i2l, 1) := by decide +kernel
theorem dX3_takes_12 : decode mi_X3_takes.2.1 12 = .ok (.invokevirtual 19, 3) := by decide +kernel
theorem dX3_takes_15 : decode mi_X3_takes.2.1 15 = .ok (.iconst 0, 1) := by decide +kernel
theorem dX3_takes_16 : decode mi_X3_takes.2.1 16 = .ok (.istore 5, 2) := by decide +kernel
theorem dX3_takes_18 : decode mi_X3_takes.2.1 18 = .ok (.iload 5, 2) := by decide +kernel
theorem dX3_takes_20 : decode mi_X3_takes.2.1 20 = .ok (.bipush 20, 2) := by decide +kernel
theorem dX3_takes_22 : decode mi_X3_takes.2.1 22 = .ok (.if_icmp .ge 58, 3) := by decide +kernel
theorem dX3_takes_25 : decode mi_X3_takes.2.1 25 = .ok (.aload_n 2, 1) := by decide +kernel
theorem dX3_takes_26 : decode mi_X3_takes.2.1 26 = .ok (.getfield 25, 3) := by decide +kernel
theorem dX3_takes_29 : decode mi_X3_takes.2.1 29 = .ok (.iload 5, 2) := by decide +kernel
theorem dX3_takes_31 : decode mi_X3_takes.2.1 31 = .ok (.laload, 1) := by decide +kernel
theorem dX3_takes_32 : decode mi_X3_takes.2.1 32 = .ok (.l2i, 1) := by decide +kernel
theorem dX3_takes_33 : decode mi_X3_takes.2.1 33 = .ok (.istore 6, 2) := by decide +kernel
theorem dX3_takes_35 : decode mi_X3_takes.2.1 35 = .ok (.aload_n 0, 1) := by decide +kernel
theorem dX3_takes_36 : decode mi_X3_takes.2.1 36 = .ok (.getfield 9, 3) := by decide +kernel
theorem dX3_takes_39 : decode mi_X3_takes.2.1 39 = .ok (.iload 5, 2) := by decide +kernel
theorem dX3_takes_41 : decode mi_X3_takes.2.1 41 = .ok (.dup2, 1) := by decide +kernel
theorem dX3_takes_42 : decode mi_X3_takes.2.1 42 = .ok (.iaload, 1) := by decide +kernel
theorem dX3_takes_43 : decode mi_X3_takes.2.1 43 = .ok (.iload 6, 2) := by decide +kernel
theorem dX3_takes_45 : decode mi_X3_takes.2.1 45 = .ok (.isub, 1) := by decide +kernel
theorem dX3_takes_46 : decode mi_X3_takes.2.1 46 = .ok (.iastore, 1) := by decide +kernel
theorem dX3_takes_47 : decode mi_X3_takes.2.1 47 = .ok (.aload_n 3, 1) := by decide +kernel
theorem dX3_takes_48 : decode mi_X3_takes.2.1 48 = .ok (.ifnull 11, 3) := by decide +kernel
theorem dX3_takes_51 : decode mi_X3_takes.2.1 51 = .ok (.aload_n 3, 1) := by decide +kernel
theorem dX3_takes_52 : decode mi_X3_takes.2.1 52 = .ok (.iload 5, 2) := by decide +kernel
theorem dX3_takes_54 : decode mi_X3_takes.2.1 54 = .ok (.iload 6, 2) := by decide +kernel
theorem dX3_takes_56 : decode mi_X3_takes.2.1 56 = .ok (.invokevirtual 29, 3) := by decide +kernel
theorem dX3_takes_59 : decode mi_X3_takes.2.1 59 = .ok (.aload 4, 2) := by decide +kernel
theorem dX3_takes_61 : decode mi_X3_takes.2.1 61 = .ok (.ifnull 13, 3) := by decide +kernel
theorem dX3_takes_64 : decode mi_X3_takes.2.1 64 = .ok (.aload 4, 2) := by decide +kernel
theorem dX3_takes_66 : decode mi_X3_takes.2.1 66 = .ok (.iload 5, 2) := by decide +kernel
theorem dX3_takes_68 : decode mi_X3_takes.2.1 68 = .ok (.dup2, 1) := by decide +kernel
theorem dX3_takes_69 : decode mi_X3_takes.2.1 69 = .ok (.iaload, 1) := by decide +kernel
theorem dX3_takes_70 : decode mi_X3_takes.2.1 70 = .ok (.iload 6, 2) := by decide +kernel
theorem dX3_takes_72 : decode mi_X3_takes.2.1 72 = .ok (.iadd, 1) := by decide +kernel
theorem dX3_takes_73 : decode mi_X3_takes.2.1 73 = .ok (.iastore, 1) := by decide +kernel
theorem dX3_takes_74 : decode mi_X3_takes.2.1 74 = .ok (.iinc 5 1, 3) := by decide +kernel
theorem dX3_takes_77 : decode mi_X3_takes.2.1 77 = .ok (.goto (-59), 3) := by decide +kernel
theorem dX3_takes_80 : decode mi_X3_takes.2.1 80 = .ok (.aload_n 0, 1) := by decide +kernel
theorem dX3_takes_81 : decode mi_X3_takes.2.1 81 = .ok (.dup, 1) := by decide +kernel
theorem dX3_takes_82 : decode mi_X3_takes.2.1 82 = .ok (.getfield 15, 3) := by decide +kernel
theorem dX3_takes_85 : decode mi_X3_takes.2.1 85 = .ok (.iload_n 1, 1) := by decide +kernel
theorem dX3_takes_86 : decode mi_X3_takes.2.1 86 = .ok (.isub, 1) := by decide +kernel
theorem dX3_takes_87 : decode mi_X3_takes.2.1 87 = .ok (.putfield 15, 3) := by decide +kernel
theorem dX3_takes_90 : decode mi_X3_takes.2.1 90 = .ok (.return_, 1) := by decide +kernel
theorem v_X3_takes {G : ma_G} {d : Nat} {a0 : Nat} {x1 : Int32} {a2 : Nat} {a3 : Nat} {a4 : Nat} {h : ah_T} {Q : Option ma_V → ah_T → Prop} {E : Nat → ah_T → Prop} (La0_h : LY3 h a0) (La2_h : LY2 h a2) (H : MX G mi_X2_split d 0 [some (rv a2), some (rv (a0 + 1)), some (jv (ah_I h a0 1).toInt64), none, some (jv x1.toInt64), none, none] [] h (Qv fun h1 => ah_ext h h1 → MX G mi_X3_takes (d + 1) 18 [some (rv a0), some (iv x1), some (rv a2), some (rv a3), some (rv a4), some (iv (0 : Int32)), none] [] h1 Q E) E) : MX G mi_X3_takes (d + 1) 0 [some (rv a0), some (iv x1), some (rv a2), some (rv a3), some (rv a4), none, none] [] h Q E := by
  refine mx_aload_n dX3_takes_0 rfl rfl ?_
  refine mx_aload_n dX3_takes_1 rfl rfl ?_
  refine mx_get 3 0 (ref := "PrairiePool$Heap") cl_3 (Nat.le_of_ble_eq_true rfl) (Or.inl q213) (Or.inl rfl) dX3_takes_2 (fv_3_0 _ _) (ly3_k La0_h) ?_
  refine mx_tr (ly3_R_0_0 La0_h) ?_
  refine mx_aload_n dX3_takes_5 rfl rfl ?_
  refine mx_get 3 1 (ref := "PrairiePool$Heap") cl_3 (Nat.le_of_ble_eq_true rfl) (Or.inl q215) (Or.inl rfl) dX3_takes_6 (fv_3_1 _ _) (ly3_k La0_h) ?_
  refine mx_i2l dX3_takes_9 ?_
  refine mx_iload_n dX3_takes_10 rfl rfl ?_
  refine mx_i2l dX3_takes_11 ?_
  refine mx_callV 2 (y' := mi_X2_split) (vs := [rv (a0 + 1), jv (ah_I h a0 1).toInt64, jv x1.toInt64]) (st := []) (al' := [some (rv a2), some (rv (a0 + 1)), some (jv (ah_I h a0 1).toInt64), none, some (jv x1.toInt64), none, none]) cl_2 V_X2_split (Or.inl q1122) dX3_takes_12 rfl rfl (Nat.le_of_ble_eq_true rfl) (Nat.le_of_ble_eq_true rfl) (ly2_k La2_h) ?_
  refine ma_kv H (fun h1 Xh1 H => ?_) (fun x1 h1 X1 H => mt_out rfl H)
  have H := H Xh1
  have La0_h1 := La0_h.ext Xh1
  have La2_h1 := La2_h.ext Xh1
  refine mx_iconst dX3_takes_15 ic_0 ?_
  refine mx_istore (al' := [some (rv a0), some (iv x1), some (rv a2), some (rv a3), some (rv a4), some (iv (0 : Int32)), none]) dX3_takes_16 (Nat.le_of_ble_eq_true rfl) rfl ?_
  exact mx_weak (al' := [some (rv a0), some (iv x1), some (rv a2), some (rv a3), some (rv a4), some (iv (0 : Int32)), none]) ⟨rfl, ⟨rfl, ⟨rfl, ⟨rfl, ⟨rfl, ⟨rfl, trivial⟩⟩⟩⟩⟩⟩ H
theorem v_X3_takes_18 {G : ma_G} {d : Nat} {a0 : Nat} {x1 : Int32} {a2 : Nat} {a3 : Nat} {a4 : Nat} {x5 : Int32} {h : ah_T} {Q : Option ma_V → ah_T → Prop} {E : Nat → ah_T → Prop} (La0_h : LY3 h a0) (La2_h : LY2 h a2) (H : ((20 : Int32) ≤ x5 → ∀ h2 : ah_T, h2 = ah_wI h a0 1 ((ah_I h a0 1) - x1) → ah_ext h h2 → Q none h2) ∧ (¬ (20 : Int32) ≤ x5 → vp_in x5 20 ∧ ∀ h4 : ah_T, h4 = ah_wI h (a0 + 1) x5.toNatClampNeg ((ah_I h (a0 + 1) x5.toNatClampNeg) - (ah_J h (a2 + 1) x5.toNatClampNeg).toInt32) → ah_ext h h4 → (a3 = 0 → (a4 = 0 → MX G mi_X3_takes (d + 1) 18 [some (rv a0), some (iv x1), some (rv a2), some (rv a3), some (rv a4), some (iv (x5 + (1 : Int32))), none] [] h4 Q E) ∧ (¬ a4 = 0 → aok h 40 a4 x5 ∧ ∀ h8 : ah_T, h8 = ah_wI h4 a4 x5.toNatClampNeg ((ah_I h4 a4 x5.toNatClampNeg) + (ah_J h (a2 + 1) x5.toNatClampNeg).toInt32) → ah_ext h4 h8 → MX G mi_X3_takes (d + 1) 18 [some (rv a0), some (iv x1), some (rv a2), some (rv a3), some (rv a4), some (iv (x5 + (1 : Int32))), none] [] h8 Q E)) ∧ (¬ a3 = 0 → ah_kd h a3 = 4 ∧ aok h 40 (ah_R h a3 0) x5 ∧ ∀ h11 : ah_T, h11 = ah_wI h4 (ah_R h a3 0) x5.toNatClampNeg ((ah_I h4 (ah_R h a3 0) x5.toNatClampNeg) + (ah_J h (a2 + 1) x5.toNatClampNeg).toInt32) → ah_ext h4 h11 → ∀ h12 : ah_T, h12 = ah_wI h11 a3 1 ((ah_I h4 a3 1) + (ah_J h (a2 + 1) x5.toNatClampNeg).toInt32) → ah_ext h11 h12 → (a4 = 0 → MX G mi_X3_takes (d + 1) 18 [some (rv a0), some (iv x1), some (rv a2), some (rv a3), some (rv a4), some (iv (x5 + (1 : Int32))), none] [] h12 Q E) ∧ (¬ a4 = 0 → aok h 40 a4 x5 ∧ ∀ h15 : ah_T, h15 = ah_wI h12 a4 x5.toNatClampNeg ((ah_I h11 a4 x5.toNatClampNeg) + (ah_J h (a2 + 1) x5.toNatClampNeg).toInt32) → ah_ext h12 h15 → MX G mi_X3_takes (d + 1) 18 [some (rv a0), some (iv x1), some (rv a2), some (rv a3), some (rv a4), some (iv (x5 + (1 : Int32))), none] [] h15 Q E)))) : MX G mi_X3_takes (d + 1) 18 [some (rv a0), some (iv x1), some (rv a2), some (rv a3), some (rv a4), some (iv x5), none] [] h Q E := by
  refine mx_iload dX3_takes_18 rfl ?_
  refine mx_bipush dX3_takes_20 ib_20 ?_
  refine mx_icmp_ge (tgt := 80) dX3_takes_22 rfl (fun c1 => ?_) (fun c1 => ?_)
  · have H := H.1 c1
    refine mx_aload_n dX3_takes_80 rfl rfl ?_
    refine mx_dup_r dX3_takes_81 ?_
    refine mx_get 3 1 (ref := "PrairiePool$Heap") cl_3 (Nat.le_of_ble_eq_true rfl) (Or.inl q215) (Or.inl rfl) dX3_takes_82 (fv_3_1 _ _) (ly3_k La0_h) ?_
    refine mx_iload_n dX3_takes_85 rfl rfl ?_
    refine mx_isub dX3_takes_86 ?_
    refine mx_putI 3 1 (ref := "PrairiePool$Heap") cl_3 (Nat.le_of_ble_eq_true rfl) (Or.inl q215) (Or.inl rfl) dX3_takes_87 (Or.inl rfl) rfl (ly3_k La0_h) ?_
    refine mx_nmI  (fun h2 eh2 Xh2 Kh2 Lh2 => ?_)
    have H := H h2 eh2 Xh2
    have La0_h2 := La0_h.ext Xh2
    have La2_h2 := La2_h.ext Xh2
    exact mx_vret rfl dX3_takes_90 H
  · have H := H.2 c1
    refine mx_aload_n dX3_takes_25 rfl rfl ?_
    refine mx_get 2 0 (ref := "PrairiePool$Parts") cl_2 (Nat.le_of_ble_eq_true rfl) (Or.inr ⟨_, q193⟩) (Or.inl rfl) dX3_takes_26 (fv_2_0 _ _) (ly2_k La2_h) ?_
    refine mx_tr (ly2_R_0_0 La2_h) ?_
    refine mx_iload dX3_takes_29 rfl ?_
    obtain ⟨k3, H⟩ := H
    refine my_lald dX3_takes_31 rfl (ly2_A_1 La2_h k3) ?_
    refine mx_l2i dX3_takes_32 ?_
    refine mx_istore (al' := [some (rv a0), some (iv x1), some (rv a2), some (rv a3), some (rv a4), some (iv x5), some (iv (ah_J h (a2 + 1) x5.toNatClampNeg).toInt32)]) dX3_takes_33 (Nat.le_of_ble_eq_true rfl) rfl ?_
    refine mx_aload_n dX3_takes_35 rfl rfl ?_
    refine mx_get 3 0 (ref := "PrairiePool$Heap") cl_3 (Nat.le_of_ble_eq_true rfl) (Or.inl q213) (Or.inl rfl) dX3_takes_36 (fv_3_0 _ _) (ly3_k La0_h) ?_
    refine mx_tr (ly3_R_0_0 La0_h) ?_
    refine mx_iload dX3_takes_39 rfl ?_
    refine mx_dup2_ir dX3_takes_41 ?_
    refine my_iald dX3_takes_42 rfl (ly3_A_1 La0_h k3) ?_
    refine mx_iload dX3_takes_43 rfl ?_
    refine mx_isub dX3_takes_45 ?_
    refine my_iast dX3_takes_46 rfl (ly3_A_1 La0_h k3) ?_
    refine mx_nmI  (fun h4 eh4 Xh4 Kh4 Lh4 => ?_)
    have H := H h4 eh4 Xh4
    have La0_h4 := La0_h.ext Xh4
    have La2_h4 := La2_h.ext Xh4
    refine mx_aload_n dX3_takes_47 rfl rfl ?_
    refine mx_ifnull (tgt := 59) dX3_takes_48 rfl (fun c5 => ?_) (fun c5 => ?_)
    · have H := H.1 c5
      refine mx_aload dX3_takes_59 rfl ?_
      refine mx_ifnull (tgt := 74) dX3_takes_61 rfl (fun c6 => ?_) (fun c6 => ?_)
      · have H := H.1 c6
        refine mx_iinc (al' := [some (rv a0), some (iv x1), some (rv a2), some (rv a3), some (rv a4), some (iv (x5 + (1 : Int32))), some (iv (ah_J h (a2 + 1) x5.toNatClampNeg).toInt32)]) dX3_takes_74 rfl ic_1 rfl ?_
        refine mx_goto (tgt := 18) dX3_takes_77 rfl ?_
        exact mx_weak (al' := [some (rv a0), some (iv x1), some (rv a2), some (rv a3), some (rv a4), some (iv (x5 + (1 : Int32))), none]) ⟨rfl, ⟨rfl, ⟨rfl, ⟨rfl, ⟨rfl, ⟨rfl, trivial⟩⟩⟩⟩⟩⟩ H
      · have H := H.2 c6
        refine mx_aload dX3_takes_64 rfl ?_
        refine mx_iload dX3_takes_66 rfl ?_
        refine mx_dup2_ir dX3_takes_68 ?_
        obtain ⟨k7, H⟩ := H
        refine my_iald dX3_takes_69 rfl (ma_aok Kh4 Lh4 (k7)) ?_
        refine mx_iload dX3_takes_70 rfl ?_
        refine mx_iadd dX3_takes_72 ?_
        refine my_iast dX3_takes_73 rfl (ma_aok Kh4 Lh4 (k7)) ?_
        refine mx_nmI  (fun h8 eh8 Xh8 Kh8 Lh8 => ?_)
        have H := H h8 eh8 Xh8
        have Kh8 := Kh8.trans Kh4
        have Lh8 := Lh8.trans Lh4
        have La0_h8 := La0_h4.ext Xh8
        have La2_h8 := La2_h4.ext Xh8
        refine mx_iinc (al' := [some (rv a0), some (iv x1), some (rv a2), some (rv a3), some (rv a4), some (iv (x5 + (1 : Int32))), some (iv (ah_J h (a2 + 1) x5.toNatClampNeg).toInt32)]) dX3_takes_74 rfl ic_1 rfl ?_
        refine mx_goto (tgt := 18) dX3_takes_77 rfl ?_
        exact mx_weak (al' := [some (rv a0), some (iv x1), some (rv a2), some (rv a3), some (rv a4), some (iv (x5 + (1 : Int32))), none]) ⟨rfl, ⟨rfl, ⟨rfl, ⟨rfl, ⟨rfl, ⟨rfl, trivial⟩⟩⟩⟩⟩⟩ H
    · have H := H.2 c5
      refine mx_aload_n dX3_takes_51 rfl rfl ?_
      refine mx_iload dX3_takes_52 rfl ?_
      refine mx_iload dX3_takes_54 rfl ?_
      obtain ⟨k9, H⟩ := H
      refine mx_callV 3 (y' := mi_X3_comes) (vs := [iv x5, iv (ah_J h (a2 + 1) x5.toNatClampNeg).toInt32]) (st := []) (al' := [some (rv a3), some (iv x5), some (iv (ah_J h (a2 + 1) x5.toNatClampNeg).toInt32)]) cl_3 V_X3_comes (Or.inl q1131) dX3_takes_56 rfl rfl (Nat.le_of_ble_eq_true rfl) (Nat.le_of_ble_eq_true rfl) (ma_kde Kh4 (k9)) ?_
      refine mx_aload_n dX3_comes_0 rfl rfl ?_
      refine mx_get 3 0 (ref := "PrairiePool$Heap") cl_3 (Nat.le_of_ble_eq_true rfl) (Or.inl q213) (Or.inl rfl) dX3_comes_1 (fv_3_0 _ _) (ma_kde Kh4 (k9)) ?_
      refine mx_tr (ah_RI eh4) ?_
      refine mx_iload_n dX3_comes_4 rfl rfl ?_
      refine mx_dup2_ir dX3_comes_5 ?_
      obtain ⟨k10, H⟩ := H
      refine my_iald dX3_comes_6 rfl (ma_aok Kh4 Lh4 (k10)) ?_
      refine mx_iload_n dX3_comes_7 rfl rfl ?_
      refine mx_iadd dX3_comes_8 ?_
      refine my_iast dX3_comes_9 rfl (ma_aok Kh4 Lh4 (k10)) ?_
      refine mx_nmI  (fun h11 eh11 Xh11 Kh11 Lh11 => ?_)
      have H := H h11 eh11 Xh11
      have Kh11 := Kh11.trans Kh4
      have Lh11 := Lh11.trans Lh4
      have La0_h11 := La0_h4.ext Xh11
      have La2_h11 := La2_h4.ext Xh11
      refine mx_aload_n dX3_comes_10 rfl rfl ?_
      refine mx_dup_r dX3_comes_11 ?_
      refine mx_get 3 1 (ref := "PrairiePool$Heap") cl_3 (Nat.le_of_ble_eq_true rfl) (Or.inl q215) (Or.inl rfl) dX3_comes_12 (fv_3_1 _ _) (ma_kde Kh11 (k9)) ?_
      refine mx_ti (ah_skIA eh11 (ma_ne k9 k10.1 (by decide))) ?_
      refine mx_iload_n dX3_comes_15 rfl rfl ?_
      refine mx_iadd dX3_comes_16 ?_
      refine mx_putI 3 1 (ref := "PrairiePool$Heap") cl_3 (Nat.le_of_ble_eq_true rfl) (Or.inl q215) (Or.inl rfl) dX3_comes_17 (Or.inl rfl) rfl (ma_kde Kh11 (k9)) ?_
      refine mx_nmI  (fun h12 eh12 Xh12 Kh12 Lh12 => ?_)
      have H := H h12 eh12 Xh12
      have Kh12 := Kh12.trans Kh11
      have Lh12 := Lh12.trans Lh11
      have La0_h12 := La0_h11.ext Xh12
      have La2_h12 := La2_h11.ext Xh12
      refine mx_vretK rfl dX3_comes_20 ?_
      refine mx_aload dX3_takes_59 rfl ?_
      refine mx_ifnull (tgt := 74) dX3_takes_61 rfl (fun c13 => ?_) (fun c13 => ?_)
      · have H := H.1 c13
        refine mx_iinc (al' := [some (rv a0), some (iv x1), some (rv a2), some (rv a3), some (rv a4), some (iv (x5 + (1 : Int32))), some (iv (ah_J h (a2 + 1) x5.toNatClampNeg).toInt32)]) dX3_takes_74 rfl ic_1 rfl ?_
        refine mx_goto (tgt := 18) dX3_takes_77 rfl ?_
        exact mx_weak (al' := [some (rv a0), some (iv x1), some (rv a2), some (rv a3), some (rv a4), some (iv (x5 + (1 : Int32))), none]) ⟨rfl, ⟨rfl, ⟨rfl, ⟨rfl, ⟨rfl, ⟨rfl, trivial⟩⟩⟩⟩⟩⟩ H
      · have H := H.2 c13
        refine mx_aload dX3_takes_64 rfl ?_
        refine mx_iload dX3_takes_66 rfl ?_
        refine mx_dup2_ir dX3_takes_68 ?_
        obtain ⟨k14, H⟩ := H
        refine my_iald dX3_takes_69 rfl (ma_aok Kh12 Lh12 (k14)) ?_
        refine mx_ti (ah_skIA eh12 (ma_ne k14.1 k9 (by decide))) ?_
        refine mx_iload dX3_takes_70 rfl ?_
        refine mx_iadd dX3_takes_72 ?_
        refine my_iast dX3_takes_73 rfl (ma_aok Kh12 Lh12 (k14)) ?_
        refine mx_nmI  (fun h15 eh15 Xh15 Kh15 Lh15 => ?_)
        have H := H h15 eh15 Xh15
        have Kh15 := Kh15.trans Kh12
        have Lh15 := Lh15.trans Lh12
        have La0_h15 := La0_h12.ext Xh15
        have La2_h15 := La2_h12.ext Xh15
        refine mx_iinc (al' := [some (rv a0), some (iv x1), some (rv a2), some (rv a3), some (rv a4), some (iv (x5 + (1 : Int32))), some (iv (ah_J h (a2 + 1) x5.toNatClampNeg).toInt32)]) dX3_takes_74 rfl ic_1 rfl ?_
        refine mx_goto (tgt := 18) dX3_takes_77 rfl ?_
        exact mx_weak (al' := [some (rv a0), some (iv x1), some (rv a2), some (rv a3), some (rv a4), some (iv (x5 + (1 : Int32))), none]) ⟨rfl, ⟨rfl, ⟨rfl, ⟨rfl, ⟨rfl, ⟨rfl, trivial⟩⟩⟩⟩⟩⟩ H
theorem v_X3_comes {G : ma_G} {d : Nat} {a0 : Nat} {x1 : Int32} {x2 : Int32} {h : ah_T} {Q : Option ma_V → ah_T → Prop} {E : Nat → ah_T → Prop} (La0_h : LY3 h a0) (H : vp_in x1 20 ∧ ∀ h2 : ah_T, h2 = ah_wI h (a0 + 1) x1.toNatClampNeg ((ah_I h (a0 + 1) x1.toNatClampNeg) + x2) → ah_ext h h2 → ∀ h3 : ah_T, h3 = ah_wI h2 a0 1 ((ah_I h a0 1) + x2) → ah_ext h2 h3 → Q none h3) : MX G mi_X3_comes d 0 [some (rv a0), some (iv x1), some (iv x2)] [] h Q E := by
  refine mx_aload_n dX3_comes_0 rfl rfl ?_
  refine mx_get 3 0 (ref := "PrairiePool$Heap") cl_3 (Nat.le_of_ble_eq_true rfl) (Or.inl q213) (Or.inl rfl) dX3_comes_1 (fv_3_0 _ _) (ly3_k La0_h) ?_
  refine mx_tr (ly3_R_0_0 La0_h) ?_
  refine mx_iload_n dX3_comes_4 rfl rfl ?_
  refine mx_dup2_ir dX3_comes_5 ?_
  obtain ⟨k1, H⟩ := H
  refine my_iald dX3_comes_6 rfl (ly3_A_1 La0_h k1) ?_
  refine mx_iload_n dX3_comes_7 rfl rfl ?_
  refine mx_iadd dX3_comes_8 ?_
  refine my_iast dX3_comes_9 rfl (ly3_A_1 La0_h k1) ?_
  refine mx_nmI  (fun h2 eh2 Xh2 Kh2 Lh2 => ?_)
  have H := H h2 eh2 Xh2
  have La0_h2 := La0_h.ext Xh2
  refine mx_aload_n dX3_comes_10 rfl rfl ?_
  refine mx_dup_r dX3_comes_11 ?_
  refine mx_get 3 1 (ref := "PrairiePool$Heap") cl_3 (Nat.le_of_ble_eq_true rfl) (Or.inl q215) (Or.inl rfl) dX3_comes_12 (fv_3_1 _ _) (ly3_k La0_h2) ?_
  refine mx_ti (ah_skIA eh2 (by omega)) ?_
  refine mx_iload_n dX3_comes_15 rfl rfl ?_
  refine mx_iadd dX3_comes_16 ?_
  refine mx_putI 3 1 (ref := "PrairiePool$Heap") cl_3 (Nat.le_of_ble_eq_true rfl) (Or.inl q215) (Or.inl rfl) dX3_comes_17 (Or.inl rfl) rfl (ly3_k La0_h2) ?_
  refine mx_nmI  (fun h3 eh3 Xh3 Kh3 Lh3 => ?_)
  have H := H h3 eh3 Xh3
  have Kh3 := Kh3.trans Kh2
  have Lh3 := Lh3.trans Lh2
  have La0_h3 := La0_h2.ext Xh3
  exact mx_vret rfl dX3_comes_20 H
theorem dX4_init_0 : decode mi_X4_init.2.1 0 = .ok (.aload_n 0, 1) := by decide +kernel
theorem dX4_init_1 : decode mi_X4_init.2.1 1 = .ok (.aconst_null, 1) := by decide +kernel
theorem dX4_init_2 : decode mi_X4_init.2.1 2 = .ok (.aconst_null, 1) := by decide +kernel
theorem dX4_init_3 : decode mi_X4_init.2.1 3 = .ok (.iconst 0, 1) := by decide +kernel
theorem dX4_init_4 : decode mi_X4_init.2.1 4 = .ok (.iconst 0, 1) := by decide +kernel
theorem dX4_init_5 : decode mi_X4_init.2.1 5 = .ok (.invokespecial 1, 3) := by decide +kernel
theorem dX4_init_8 : decode mi_X4_init.2.1 8 = .ok (.return_, 1) := by decide +kernel
theorem v_X4_init {G : ma_G} {d : Nat} {a0 : Nat} {h : ah_T} {Q : Option ma_V → ah_T → Prop} {E : Nat → ah_T → Prop}  (H : ah_kd h a0 ≠ 0 ∧ ah_kd h a0 ≠ 0 ∧ ah_kd h a0 ≠ 0 ∧ ah_kd h a0 ≠ 0 ∧ ah_kd h a0 = 5 ∧ ∀ h6 : ah_T, h6 = ah_wR h a0 0 a0 → ah_ext h h6 → ∀ r7 : Nat, ∀ h8 : ah_T, h8 = ah_wR h6 a0 1 r7 → ah_ext h6 h8 → ∀ r9 : Nat, ∀ h10 : ah_T, h10 = ah_wR h8 a0 2 r9 → ah_ext h8 h10 → ∀ h11 : ah_T, h11 = ah_wR h10 a0 1 0 → ah_ext h10 h11 → ∀ h12 : ah_T, h12 = ah_wR h11 a0 3 0 → ah_ext h11 h12 → ∀ h13 : ah_T, h13 = ah_wR h12 a0 0 0 → ah_ext h12 h13 → ∀ h14 : ah_T, h14 = ah_wR h13 a0 2 0 → ah_ext h13 h14 → Q none h14) : MX G mi_X4_init (d + 4) 0 [some (rv a0)] [] h Q E := by
  refine mx_aload_n dX4_init_0 rfl rfl ?_
  refine mx_null dX4_init_1 ?_
  refine mx_null dX4_init_2 ?_
  refine mx_iconst dX4_init_3 ic_0 ?_
  refine mx_iconst dX4_init_4 ic_0 ?_
  obtain ⟨k1, H⟩ := H
  refine mx_callI (y' := mi_J2_init) (vs := [rv 0, rv 0, iv (0 : Int32), iv (0 : Int32)]) (st := []) (al' := [some (rv a0), some (rv 0), some (rv 0), some (iv (0 : Int32)), some (iv (0 : Int32))]) I_J2_init (Or.inl q347) dX4_init_5 rfl rfl (Nat.le_of_ble_eq_true rfl) (Nat.le_of_ble_eq_true rfl) k1 ?_
  refine mx_aload_n dJ2_init_0 rfl rfl ?_
  refine mx_aload_n dJ2_init_1 rfl rfl ?_
  refine mx_aload_n dJ2_init_2 rfl rfl ?_
  refine mx_iload_n dJ2_init_3 rfl rfl ?_
  refine mx_iload dJ2_init_4 rfl ?_
  obtain ⟨k2, H⟩ := H
  refine mx_callI (y' := mi_J1_init) (vs := [rv 0, rv 0, iv (0 : Int32), iv (0 : Int32)]) (st := []) (al' := [some (rv a0), some (rv 0), some (rv 0), some (iv (0 : Int32)), some (iv (0 : Int32))]) I_J1_init (Or.inl q350) dJ2_init_6 rfl rfl (Nat.le_of_ble_eq_true rfl) (Nat.le_of_ble_eq_true rfl) k2 ?_
  refine mx_aload_n dJ1_init_0 rfl rfl ?_
  refine mx_aload_n dJ1_init_1 rfl rfl ?_
  refine mx_aload_n dJ1_init_2 rfl rfl ?_
  refine mx_iload_n dJ1_init_3 rfl rfl ?_
  refine mx_iload dJ1_init_4 rfl ?_
  obtain ⟨k3, H⟩ := H
  refine mx_callI (y' := mi_J0_init_2) (vs := [rv 0, rv 0, iv (0 : Int32), iv (0 : Int32)]) (st := []) (al' := [some (rv a0), some (rv 0), some (rv 0), some (iv (0 : Int32)), some (iv (0 : Int32))]) I_J0_init_2 (Or.inl q353) dJ1_init_6 rfl rfl (Nat.le_of_ble_eq_true rfl) (Nat.le_of_ble_eq_true rfl) k3 ?_
  refine mx_aload_n dJ0_init_2_0 rfl rfl ?_
  obtain ⟨k4, H⟩ := H
  refine mx_objInit q314 qobj1 qobj2 dJ0_init_2_1 (Nat.le_of_ble_eq_true rfl) k4 ?_
  refine mx_aload_n dJ0_init_2_4 rfl rfl ?_
  refine mx_aload_n dJ0_init_2_5 rfl rfl ?_
  obtain ⟨k5, H⟩ := H
  refine mx_putO 4 0 (ref := "java/lang/Throwable") cl_4 (Nat.le_of_ble_eq_true rfl) (Or.inl q362) (Or.inl rfl) dJ0_init_2_6 (Or.inl rfl) rfl (Or.inl rfl) k5 ?_
  refine mx_nmR (ah_ext.wR (Or.inl (by rw [k5]; rfl))) (fun h6 eh6 Xh6 Kh6 Lh6 => ?_)
  have H := H h6 eh6 Xh6
  refine mx_aload_n dJ0_init_2_9 rfl rfl ?_
  refine mx_getsR q316 q123 st_unassigned_stack q315 rfl dJ0_init_2_10 (fun r7 => ?_)
  have H := H r7
  refine mx_putA 4 1 (ref := "java/lang/Throwable") cl_4 (Nat.le_of_ble_eq_true rfl) (Or.inl q363) (Or.inl rfl) dJ0_init_2_13 (Or.inl rfl) rfl (Or.inl rfl) (ma_kde Kh6 (k5)) ?_
  refine mx_nmR (ah_ext.wR (Or.inl (by rw [(ma_kde Kh6 (k5))]; rfl))) (fun h8 eh8 Xh8 Kh8 Lh8 => ?_)
  have H := H h8 eh8 Xh8
  have Kh8 := Kh8.trans Kh6
  have Lh8 := Lh8.trans Lh6
  refine mx_aload_n dJ0_init_2_16 rfl rfl ?_
  refine mx_getsR q318 q123 st_suppressed_sentinel q317 rfl dJ0_init_2_17 (fun r9 => ?_)
  have H := H r9
  refine mx_putO 4 2 (ref := "java/lang/Throwable") cl_4 (Nat.le_of_ble_eq_true rfl) (Or.inl q364) (Or.inl rfl) dJ0_init_2_20 (Or.inl rfl) rfl (Or.inl rfl) (ma_kde Kh8 (k5)) ?_
  refine mx_nmR (ah_ext.wR (Or.inl (by rw [(ma_kde Kh8 (k5))]; rfl))) (fun h10 eh10 Xh10 Kh10 Lh10 => ?_)
  have H := H h10 eh10 Xh10
  have Kh10 := Kh10.trans Kh8
  have Lh10 := Lh10.trans Lh8
  refine mx_iload dJ0_init_2_23 rfl ?_
  refine mx_if_eq (tgt := 36) dJ0_init_2_25 rfl (fun _ => ?_) (fun _ => absurd ‹_› (by decide))
  refine mx_aload_n dJ0_init_2_36 rfl rfl ?_
  refine mx_null dJ0_init_2_37 ?_
  refine mx_putA 4 1 (ref := "java/lang/Throwable") cl_4 (Nat.le_of_ble_eq_true rfl) (Or.inl q363) (Or.inl rfl) dJ0_init_2_38 (Or.inl rfl) rfl (Or.inl rfl) (ma_kde Kh10 (k5)) ?_
  refine mx_nmR (ah_ext.wR (Or.inl (by rw [(ma_kde Kh10 (k5))]; rfl))) (fun h11 eh11 Xh11 Kh11 Lh11 => ?_)
  have H := H h11 eh11 Xh11
  have Kh11 := Kh11.trans Kh10
  have Lh11 := Lh11.trans Lh10
  refine mx_aload_n dJ0_init_2_41 rfl rfl ?_
  refine mx_aload_n dJ0_init_2_42 rfl rfl ?_
  refine mx_putO 4 3 (ref := "java/lang/Throwable") cl_4 (Nat.le_of_ble_eq_true rfl) (Or.inl q361) (Or.inl rfl) dJ0_init_2_43 (Or.inl rfl) rfl (Or.inl rfl) (ma_kde Kh11 (k5)) ?_
  refine mx_nmR (ah_ext.wR (Or.inl (by rw [(ma_kde Kh11 (k5))]; rfl))) (fun h12 eh12 Xh12 Kh12 Lh12 => ?_)
  have H := H h12 eh12 Xh12
  have Kh12 := Kh12.trans Kh11
  have Lh12 := Lh12.trans Lh11
  refine mx_aload_n dJ0_init_2_46 rfl rfl ?_
  refine mx_aload_n dJ0_init_2_47 rfl rfl ?_
  refine mx_putO 4 0 (ref := "java/lang/Throwable") cl_4 (Nat.le_of_ble_eq_true rfl) (Or.inl q362) (Or.inl rfl) dJ0_init_2_48 (Or.inl rfl) rfl (Or.inl rfl) (ma_kde Kh12 (k5)) ?_
  refine mx_nmR (ah_ext.wR (Or.inl (by rw [(ma_kde Kh12 (k5))]; rfl))) (fun h13 eh13 Xh13 Kh13 Lh13 => ?_)
  have H := H h13 eh13 Xh13
  have Kh13 := Kh13.trans Kh12
  have Lh13 := Lh13.trans Lh12
  refine mx_iload_n dJ0_init_2_51 rfl rfl ?_
  refine mx_if_ne (tgt := 60) dJ0_init_2_52 rfl (fun _ => absurd ‹_› (by decide)) (fun _ => ?_)
  refine mx_aload_n dJ0_init_2_55 rfl rfl ?_
  refine mx_null dJ0_init_2_56 ?_
  refine mx_putO 4 2 (ref := "java/lang/Throwable") cl_4 (Nat.le_of_ble_eq_true rfl) (Or.inl q364) (Or.inl rfl) dJ0_init_2_57 (Or.inl rfl) rfl (Or.inl rfl) (ma_kde Kh13 (k5)) ?_
  refine mx_nmR (ah_ext.wR (Or.inl (by rw [(ma_kde Kh13 (k5))]; rfl))) (fun h14 eh14 Xh14 Kh14 Lh14 => ?_)
  have H := H h14 eh14 Xh14
  have Kh14 := Kh14.trans Kh13
  have Lh14 := Lh14.trans Lh13
  refine mx_vretK rfl dJ0_init_2_60 ?_
  refine mx_vretK rfl dJ1_init_9 ?_
  refine mx_vretK rfl dJ2_init_9 ?_
  exact mx_vret rfl dX4_init_8 H
theorem v_X4_of {G : ma_G} {d : Nat} {a0 : Nat} {x1 : Int32} {x2 : Int32} {h : ah_T} {Q : Option ma_V → ah_T → Prop} {E : Nat → ah_T → Prop}  (H : ah_kd h a0 = 5 ∧ ∀ h2 : ah_T, h2 = ah_wI h a0 6 x1 → ah_ext h h2 → ∀ h3 : ah_T, h3 = ah_wI h2 a0 7 x2 → ah_ext h2 h3 → Q (some (rv a0)) h3) : MX G mi_X4_of d 0 [some (rv a0), some (iv x1), some (iv x2)] [] h Q E := by
  refine mx_aload_n dX4_of_0 rfl rfl ?_
  refine mx_iload_n dX4_of_1 rfl rfl ?_
  obtain ⟨k1, H⟩ := H
  refine mx_putI 4 6 (ref := "PrairiePool$Wrong") cl_4 (Nat.le_of_ble_eq_true rfl) (Or.inl q356) (Or.inl rfl) dX4_of_2 (Or.inl rfl) rfl k1 ?_
  refine mx_nmI  (fun h2 eh2 Xh2 Kh2 Lh2 => ?_)
  have H := H h2 eh2 Xh2
  refine mx_aload_n dX4_of_5 rfl rfl ?_
  refine mx_iload_n dX4_of_6 rfl rfl ?_
  refine mx_putI 4 7 (ref := "PrairiePool$Wrong") cl_4 (Nat.le_of_ble_eq_true rfl) (Or.inl q358) (Or.inl rfl) dX4_of_7 (Or.inl rfl) rfl (ma_kde Kh2 (k1)) ?_
  refine mx_nmI  (fun h3 eh3 Xh3 Kh3 Lh3 => ?_)
  have H := H h3 eh3 Xh3
  have Kh3 := Kh3.trans Kh2
  have Lh3 := Lh3.trans Lh2
  refine mx_aload_n dX4_of_10 rfl rfl ?_
  exact mx_aret rfl (by first | exact Or.inl ⟨_, rfl⟩ | exact Or.inr ⟨_, rfl⟩) dX4_of_11 H
theorem dX5_init_0 : decode mi_X5_init.2.1 0 = .ok (.aload_n 0, 1) := by decide +kernel
theorem dX5_init_1 : decode mi_X5_init.2.1 1 = .ok (.invokespecial 3, 3) := by decide +kernel
theorem dX5_init_4 : decode mi_X5_init.2.1 4 = .ok (.aload_n 0, 1) := by decide +kernel
theorem dX5_init_5 : decode mi_X5_init.2.1 5 = .ok (.sipush 500, 3) := by decide +kernel
theorem dX5_init_8 : decode mi_X5_init.2.1 8 = .ok (.newarray .byte, 2) := by decide +kernel
theorem dX5_init_10 : decode mi_X5_init.2.1 10 = .ok (.putfield 9, 3) := by decide +kernel
theorem dX5_init_13 : decode mi_X5_init.2.1 13 = .ok (.aload_n 0, 1) := by decide +kernel
theorem dX5_init_14 : decode mi_X5_init.2.1 14 = .ok (.aload_n 1, 1) := by decide +kernel
theorem dX5_init_15 : decode mi_X5_init.2.1 15 = .ok (.putfield 15, 3) := by decide +kernel
theorem dX5_init_18 : decode mi_X5_init.2.1 18 = .ok (.return_, 1) := by decide +kernel
theorem v_X5_init {G : ma_G} {d : Nat} {a0 : Nat} {a1 : Nat} {h : ah_T} {Q : Option ma_V → ah_T → Prop} {E : Nat → ah_T → Prop}  (H : ah_kd h a0 ≠ 0 ∧ (1 ≤ ah_rc h ∧ 500 ≤ ah_rs h) ∧ ∀ h3 : ah_T, h3 = ah_new h 42 500 500 → ah_ext h h3 → ah_liv h → ah_kd h3 a0 = 6 ∧ ah_R h3 a0 0 = 0 ∧ ∀ h7 : ah_T, h7 = ah_wR h3 a0 0 (ah_sz h) → ah_ext h3 h7 → ah_R h7 a0 8 = 0 ∧ ∀ h9 : ah_T, h9 = ah_wR h7 a0 8 a1 → ah_ext h7 h9 → Q none h9) : MX G mi_X5_init (d + 1) 0 [some (rv a0), some (rv a1)] [] h Q E := by
  refine mx_aload_n dX5_init_0 rfl rfl ?_
  obtain ⟨k1, H⟩ := H
  refine mx_objInit q382 qobj1 qobj2 dX5_init_1 (Nat.le_of_ble_eq_true rfl) k1 ?_
  refine mx_aload_n dX5_init_4 rfl rfl ?_
  refine mx_sipush dX5_init_5 is_500 ?_
  obtain ⟨k2, H⟩ := H
  refine mx_newa 2 rfl (by decide) q412 dX5_init_8 cn_500 (by decide) k2.1 k2.2 (by decide) (fun x_ lv_ => ?_)
  refine mx_nmN x_ lv_ (fun h3 eh3 Xh3 lv_ => ?_)
  have H := H h3 eh3 Xh3 lv_
  have k4 : ah_kd h3 (ah_sz h) = 42 := by rw [eh3]; exact if_pos rfl
  obtain ⟨k5, H⟩ := H
  obtain ⟨k6, H⟩ := H
  refine mx_putA 5 0 (ref := "PrairiePool$Reader") cl_5 (Nat.le_of_ble_eq_true rfl) (Or.inl q383) (Or.inl rfl) dX5_init_10 (Or.inr ⟨rfl, rfl, rfl, q383⟩) rfl (Or.inr k6) k5 ?_
  refine mx_nmR (ah_ext.wR (Or.inr (Or.inl k6))) (fun h7 eh7 Xh7 Kh7 Lh7 => ?_)
  have H := H h7 eh7 Xh7
  refine mx_aload_n dX5_init_13 rfl rfl ?_
  refine mx_aload_n dX5_init_14 rfl rfl ?_
  obtain ⟨k8, H⟩ := H
  refine mx_putO 5 8 (ref := "PrairiePool$Reader") cl_5 (Nat.le_of_ble_eq_true rfl) (Or.inl q392) (Or.inl rfl) dX5_init_15 (Or.inr ⟨rfl, rfl, rfl, q392⟩) rfl (Or.inr k8) (ma_kde Kh7 (k5)) ?_
  refine mx_nmR (ah_ext.wR (Or.inr (Or.inl k8))) (fun h9 eh9 Xh9 Kh9 Lh9 => ?_)
  have H := H h9 eh9 Xh9
  have Kh9 := Kh9.trans Kh7
  have Lh9 := Lh9.trans Lh7
  exact mx_vret rfl dX5_init_18 H
theorem dX5_read_0 : decode mi_X5_read.2.1 0 = .ok (.aload_n 0, 1) := by decide +kernel
theorem dX5_read_1 : decode mi_X5_read.2.1 1 = .ok (.iload_n 1, 1) := by decide +kernel
theorem dX5_read_2 : decode mi_X5_read.2.1 2 = .ok (.putfield 19, 3) := by decide +kernel
theorem dX5_read_5 : decode mi_X5_read.2.1 5 = .ok (.aload_n 0, 1) := by decide +kernel
theorem dX5_read_6 : decode mi_X5_read.2.1 6 = .ok (.iconst 0, 1) := by decide +kernel
theorem dX5_read_7 : decode mi_X5_read.2.1 7 = .ok (.putfield 23, 3) := by decide +kernel
theorem dX5_read_10 : decode mi_X5_read.2.1 10 = .ok (.aload_n 0, 1) := by decide +kernel
theorem dX5_read_11 : decode mi_X5_read.2.1 11 = .ok (.new 94, 3) := by decide +kernel
theorem dX5_read_14 : decode mi_X5_read.2.1 14 = .ok (.dup, 1) := by decide +kernel
theorem dX5_read_15 : decode mi_X5_read.2.1 15 = .ok (.invokespecial 96, 3) := by decide +kernel
theorem dX5_read_18 : decode mi_X5_read.2.1 18 = .ok (.putfield 97, 3) := by decide +kernel
theorem dX5_read_21 : decode mi_X5_read.2.1 21 = .ok (.aload_n 0, 1) := by decide +kernel
theorem dX5_read_22 : decode mi_X5_read.2.1 22 = .ok (.invokevirtual 101, 3) := by decide +kernel
theorem dX5_read_25 : decode mi_X5_read.2.1 25 = .ok (.aload_n 0, 1) := by decide +kernel
theorem dX5_read_26 : decode mi_X5_read.2.1 26 = .ok (.getfield 37, 3) := by decide +kernel
theorem dX5_read_29 : decode mi_X5_read.2.1 29 = .ok (.ifCond .eq 10, 3) := by decide +kernel
theorem dX5_read_32 : decode mi_X5_read.2.1 32 = .ok (.aload_n 0, 1) := by decide +kernel
theorem dX5_read_33 : decode mi_X5_read.2.1 33 = .ok (.invokevirtual 104, 3) := by decide +kernel
theorem dX5_read_36 : decode mi_X5_read.2.1 36 = .ok (.goto (-11), 3) := by decide +kernel
theorem dX5_read_39 : decode mi_X5_read.2.1 39 = .ok (.aload_n 0, 1) := by decide +kernel
theorem dX5_read_40 : decode mi_X5_read.2.1 40 = .ok (.getfield 97, 3) := by decide +kernel
theorem dX5_read_43 : decode mi_X5_read.2.1 43 = .ok (.areturn, 1) := by decide +kernel
theorem v_X5_read {G : ma_G} {d : Nat} {a0 : Nat} {x1 : Int32} {h : ah_T} {Q : Option ma_V → ah_T → Prop} {E : Nat → ah_T → Prop} (La0_h : LY5 h a0) (H : ∀ h1 : ah_T, h1 = ah_wI h a0 2 x1 → ah_ext h h1 → ∀ h2 : ah_T, h2 = ah_wI h1 a0 5 (0 : Int32) → ah_ext h1 h2 → (1 ≤ ah_rc h2 ∧ 4 ≤ ah_rs h2) ∧ ∀ h4 : ah_T, h4 = ah_new h2 16 0 4 → ah_ext h2 h4 → ah_liv h2 → MX G mi_X17_init d 0 [some (rv (ah_sz h2))] [] h4 (Qv fun h6 => ah_ext h4 h6 → ∀ h9 : ah_T, h9 = ah_wR h6 a0 7 (ah_sz h2) → ah_ext h6 h9 → MX G mi_X5_next d 0 [some (rv a0), none] [] h9 (Qv fun h10 => ah_ext h9 h10 → MX G mi_X5_read (d + 1) 25 [some (rv a0), none] [] h10 Q E) E) E) : MX G mi_X5_read (d + 1) 0 [some (rv a0), some (iv x1)] [] h Q E := by
  refine mx_aload_n dX5_read_0 rfl rfl ?_
  refine mx_iload_n dX5_read_1 rfl rfl ?_
  refine mx_putI 5 2 (ref := "PrairiePool$Reader") cl_5 (Nat.le_of_ble_eq_true rfl) (Or.inl q386) (Or.inl rfl) dX5_read_2 (Or.inl rfl) rfl (ly5_k La0_h) ?_
  refine mx_nmI  (fun h1 eh1 Xh1 Kh1 Lh1 => ?_)
  have H := H h1 eh1 Xh1
  have La0_h1 := La0_h.ext Xh1
  refine mx_aload_n dX5_read_5 rfl rfl ?_
  refine mx_iconst dX5_read_6 ic_0 ?_
  refine mx_putI 5 5 (ref := "PrairiePool$Reader") cl_5 (Nat.le_of_ble_eq_true rfl) (Or.inl q389) (Or.inl rfl) dX5_read_7 (Or.inl rfl) rfl (ly5_k La0_h1) ?_
  refine mx_nmI  (fun h2 eh2 Xh2 Kh2 Lh2 => ?_)
  have H := H h2 eh2 Xh2
  have Kh2 := Kh2.trans Kh1
  have Lh2 := Lh2.trans Lh1
  have La0_h2 := La0_h1.ext Xh2
  refine mx_aload_n dX5_read_10 rfl rfl ?_
  obtain ⟨k3, H⟩ := H
  refine mx_new 15 cl_15 dk_15 q1181 q1182 q146 dX5_read_11 k3.1 k3.2 (fun x_ lv_ => ?_)
  refine mx_nmN x_ lv_ (fun h4 eh4 Xh4 lv_ => ?_)
  have H := H h4 eh4 Xh4 lv_
  have La0_h4 := La0_h2.ext Xh4
  have k5 : ah_kd h4 (ah_sz h2) = 16 := by rw [eh4]; exact if_pos rfl
  refine mx_dup_r dX5_read_14 ?_
  refine mx_callI (y' := mi_X17_init) (vs := []) (st := [rv (ah_sz h2), rv a0]) (al' := [some (rv (ah_sz h2))]) I_X17_init (Or.inr ⟨_, q1183⟩) dX5_read_15 rfl rfl (Nat.le_of_ble_eq_true rfl) (Nat.le_of_ble_eq_true rfl) (by rw [k5]; decide) ?_
  refine ma_kv H (fun h6 Xh6 H => ?_) (fun x1 h1 X1 H => mt_out rfl H)
  have H := H Xh6
  have k8 := Xh6.kd (k5)
  have La0_h6 := La0_h4.ext Xh6
  refine mx_putO 5 7 (ref := "PrairiePool$Reader") cl_5 (Nat.le_of_ble_eq_true rfl) (Or.inl q391) (Or.inl rfl) dX5_read_18 (Or.inl rfl) rfl (Or.inl rfl) (ly5_k La0_h6) ?_
  refine mx_nmR (ah_ext.wR (Or.inl (by rw [(ly5_k La0_h6)]; rfl))) (fun h9 eh9 Xh9 Kh9 Lh9 => ?_)
  have H := H h9 eh9 Xh9
  have La0_h9 := La0_h6.ext Xh9
  refine mx_aload_n dX5_read_21 rfl rfl ?_
  refine mx_callV 5 (y' := mi_X5_next) (vs := []) (st := []) (al' := [some (rv a0), none]) cl_5 V_X5_next (Or.inl q1206) dX5_read_22 rfl rfl (Nat.le_of_ble_eq_true rfl) (Nat.le_of_ble_eq_true rfl) (ly5_k La0_h9) ?_
  refine ma_kv H (fun h10 Xh10 H => ?_) (fun x1 h1 X1 H => mt_out rfl H)
  have H := H Xh10
  have k12 := Xh10.kd ((ma_kde Kh9 (k8)))
  have La0_h10 := La0_h9.ext Xh10
  exact mx_weak (al' := [some (rv a0), none]) ⟨rfl, trivial⟩ H
theorem v_X5_read_25 {G : ma_G} {d : Nat} {a0 : Nat} {h : ah_T} {Q : Option ma_V → ah_T → Prop} {E : Nat → ah_T → Prop} (La0_h : LY5 h a0) (H : ((ah_I h a0 3) = 0 → Q (some (rv (ah_R h a0 7))) h) ∧ (¬ (ah_I h a0 3) = 0 → MX G mi_X5_def d 0 [some (rv a0), none, none, none] [] h (Qv fun h2 => ah_ext h h2 → MX G mi_X5_read (d + 1) 25 [some (rv a0), none] [] h2 Q E) E)) : MX G mi_X5_read (d + 1) 25 [some (rv a0), none] [] h Q E := by
  refine mx_aload_n dX5_read_25 rfl rfl ?_
  refine mx_get 5 3 (ref := "PrairiePool$Reader") cl_5 (Nat.le_of_ble_eq_true rfl) (Or.inl q387) (Or.inl rfl) dX5_read_26 (fv_5_3 _ _) (ly5_k La0_h) ?_
  refine mx_if_eq (tgt := 39) dX5_read_29 rfl (fun c1 => ?_) (fun c1 => ?_)
  · have H := H.1 c1
    refine mx_aload_n dX5_read_39 rfl rfl ?_
    refine mx_get 5 7 (ref := "PrairiePool$Reader") cl_5 (Nat.le_of_ble_eq_true rfl) (Or.inl q391) (Or.inl rfl) dX5_read_40 (fv_5_7 _ _) (ly5_k La0_h) ?_
    exact mx_aret rfl (by first | exact Or.inl ⟨_, rfl⟩ | exact Or.inr ⟨_, rfl⟩) dX5_read_43 H
  · have H := H.2 c1
    refine mx_aload_n dX5_read_32 rfl rfl ?_
    refine mx_callV 5 (y' := mi_X5_def) (vs := []) (st := []) (al' := [some (rv a0), none, none, none]) cl_5 V_X5_def (Or.inl q1227) dX5_read_33 rfl rfl (Nat.le_of_ble_eq_true rfl) (Nat.le_of_ble_eq_true rfl) (ly5_k La0_h) ?_
    refine ma_kv H (fun h2 Xh2 H => ?_) (fun x1 h1 X1 H => mt_out rfl H)
    have H := H Xh2
    have La0_h2 := La0_h.ext Xh2
    refine mx_goto (tgt := 25) dX5_read_36 rfl ?_
    exact mx_weak (al' := [some (rv a0), none]) ⟨rfl, trivial⟩ H
theorem dX5_next_0 : decode mi_X5_next.2.1 0 = .ok (.aload_n 0, 1) := by decide +kernel
theorem dX5_next_1 : decode mi_X5_next.2.1 1 = .ok (.aload_n 0, 1) := by decide +kernel
theorem dX5_next_2 : decode mi_X5_next.2.1 2 = .ok (.getfield 23, 3) := by decide +kernel
theorem dX5_next_5 : decode mi_X5_next.2.1 5 = .ok (.invokevirtual 26, 3) := by decide +kernel
theorem dX5_next_8 : decode mi_X5_next.2.1 8 = .ok (.bipush 32, 2) := by decide +kernel
theorem dX5_next_10 : decode mi_X5_next.2.1 10 = .ok (.if_icmp .eq 16, 3) := by decide +kernel
theorem dX5_next_13 : decode mi_X5_next.2.1 13 = .ok (.aload_n 0, 1) := by decide +kernel
theorem dX5_next_14 : decode mi_X5_next.2.1 14 = .ok (.aload_n 0, 1) := by decide +kernel
theorem dX5_next_15 : decode mi_X5_next.2.1 15 = .ok (.getfield 23, 3) := by decide +kernel
theorem dX5_next_18 : decode mi_X5_next.2.1 18 = .ok (.invokevirtual 26, 3) := by decide +kernel
theorem dX5_next_21 : decode mi_X5_next.2.1 21 = .ok (.bipush 10, 2) := by decide +kernel
theorem dX5_next_23 : decode mi_X5_next.2.1 23 = .ok (.if_icmp .ne 16, 3) := by decide +kernel
theorem dX5_next_26 : decode mi_X5_next.2.1 26 = .ok (.aload_n 0, 1) := by decide +kernel
theorem dX5_next_27 : decode mi_X5_next.2.1 27 = .ok (.dup, 1) := by decide +kernel
theorem dX5_next_28 : decode mi_X5_next.2.1 28 = .ok (.getfield 23, 3) := by decide +kernel
theorem dX5_next_31 : decode mi_X5_next.2.1 31 = .ok (.iconst 1, 1) := by decide +kernel
theorem dX5_next_32 : decode mi_X5_next.2.1 32 = .ok (.iadd, 1) := by decide +kernel
theorem dX5_next_33 : decode mi_X5_next.2.1 33 = .ok (.putfield 23, 3) := by decide +kernel
theorem dX5_next_36 : decode mi_X5_next.2.1 36 = .ok (.goto (-36), 3) := by decide +kernel
theorem dX5_next_39 : decode mi_X5_next.2.1 39 = .ok (.aload_n 0, 1) := by decide +kernel
theorem dX5_next_40 : decode mi_X5_next.2.1 40 = .ok (.aload_n 0, 1) := by decide +kernel
theorem dX5_next_41 : decode mi_X5_next.2.1 41 = .ok (.getfield 23, 3) := by decide +kernel
theorem dX5_next_44 : decode mi_X5_next.2.1 44 = .ok (.putfield 30, 3) := by decide +kernel
theorem dX5_next_47 : decode mi_X5_next.2.1 47 = .ok (.aload_n 0, 1) := by decide +kernel
theorem dX5_next_48 : decode mi_X5_next.2.1 48 = .ok (.aload_n 0, 1) := by decide +kernel
theorem dX5_next_49 : decode mi_X5_next.2.1 49 = .ok (.getfield 23, 3) := by decide +kernel
theorem dX5_next_52 : decode mi_X5_next.2.1 52 = .ok (.invokevirtual 26, 3) := by decide +kernel
theorem dX5_next_55 : decode mi_X5_next.2.1 55 = .ok (.istore_n 1, 1) := by decide +kernel
theorem dX5_next_56 : decode mi_X5_next.2.1 56 = .ok (.aload_n 0, 1) := by decide +kernel
theorem dX5_next_57 : decode mi_X5_next.2.1 57 = .ok (.iload_n 1, 1) := by decide +kernel
theorem dX5_next_58 : decode mi_X5_next.2.1 58 = .ok (.i2l, 1) := by decide +kernel
theorem dX5_next_59 : decode mi_X5_next.2.1 59 = .ok (.putfield 33, 3) := by decide +kernel
theorem dX5_next_62 : decode mi_X5_next.2.1 62 = .ok (.iload_n 1, 1) := by decide +kernel
theorem dX5_next_63 : decode mi_X5_next.2.1 63 = .ok (.iconst (-1), 1) := by decide +kernel
theorem dX5_next_64 : decode mi_X5_next.2.1 64 = .ok (.if_icmp .ne 11, 3) := by decide +kernel
theorem dX5_next_67 : decode mi_X5_next.2.1 67 = .ok (.aload_n 0, 1) := by decide +kernel
theorem dX5_next_68 : decode mi_X5_next.2.1 68 = .ok (.iconst 0, 1) := by decide +kernel
theorem dX5_next_69 : decode mi_X5_next.2.1 69 = .ok (.putfield 37, 3) := by decide +kernel
theorem dX5_next_72 : decode mi_X5_next.2.1 72 = .ok (.goto 168, 3) := by decide +kernel
theorem dX5_next_75 : decode mi_X5_next.2.1 75 = .ok (.iload_n 1, 1) := by decide +kernel
theorem dX5_next_76 : decode mi_X5_next.2.1 76 = .ok (.invokestatic 40, 3) := by decide +kernel
theorem dX5_next_79 : decode mi_X5_next.2.1 79 = .ok (.ifCond .eq 38, 3) := by decide +kernel
theorem dX5_next_82 : decode mi_X5_next.2.1 82 = .ok (.aload_n 0, 1) := by decide +kernel
theorem dX5_next_83 : decode mi_X5_next.2.1 83 = .ok (.aload_n 0, 1) := by decide +kernel
theorem dX5_next_84 : decode mi_X5_next.2.1 84 = .ok (.getfield 23, 3) := by decide +kernel
theorem dX5_next_87 : decode mi_X5_next.2.1 87 = .ok (.invokevirtual 26, 3) := by decide +kernel
theorem dX5_next_90 : decode mi_X5_next.2.1 90 = .ok (.invokestatic 40, 3) := by decide +kernel
theorem dX5_next_93 : decode mi_X5_next.2.1 93 = .ok (.ifCond .eq 16, 3) := by decide +kernel
theorem dX5_next_96 : decode mi_X5_next.2.1 96 = .ok (.aload_n 0, 1) := by decide +kernel
theorem dX5_next_97 : decode mi_X5_next.2.1 97 = .ok (.dup, 1) := by decide +kernel
theorem dX5_next_98 : decode mi_X5_next.2.1 98 = .ok (.getfield 23, 3) := by decide +kernel
theorem dX5_next_101 : decode mi_X5_next.2.1 101 = .ok (.iconst 1, 1) := by decide +kernel
theorem dX5_next_102 : decode mi_X5_next.2.1 102 = .ok (.iadd, 1) := by decide +kernel
theorem dX5_next_103 : decode mi_X5_next.2.1 103 = .ok (.putfield 23, 3) := by decide +kernel
theorem dX5_next_106 : decode mi_X5_next.2.1 106 = .ok (.goto (-24), 3) := by decide +kernel
theorem dX5_next_109 : decode mi_X5_next.2.1 109 = .ok (.aload_n 0, 1) := by decide +kernel
theorem dX5_next_110 : decode mi_X5_next.2.1 110 = .ok (.iconst 2, 1) := by decide +kernel
theorem dX5_next_111 : decode mi_X5_next.2.1 111 = .ok (.putfield 37, 3) := by decide +kernel
theorem dX5_next_114 : decode mi_X5_next.2.1 114 = .ok (.goto 126, 3) := by decide +kernel
theorem dX5_next_117 : decode mi_X5_next.2.1 117 = .ok (.iload_n 1, 1) := by decide +kernel
theorem dX5_next_118 : decode mi_X5_next.2.1 118 = .ok (.invokestatic 44, 3) := by decide +kernel
theorem dX5_next_121 : decode mi_X5_next.2.1 121 = .ok (.ifCond .eq 93, 3) := by decide +kernel
theorem dX5_next_124 : decode mi_X5_next.2.1 124 = .ok (.aload_n 0, 1) := by decide +kernel
theorem dX5_next_125 : decode mi_X5_next.2.1 125 = .ok (.lconst 0, 1) := by decide +kernel
theorem dX5_next_126 : decode mi_X5_next.2.1 126 = .ok (.putfield 33, 3) := by decide +kernel
theorem dX5_next_129 : decode mi_X5_next.2.1 129 = .ok (.aload_n 0, 1) := by decide +kernel
theorem dX5_next_130 : decode mi_X5_next.2.1 130 = .ok (.aload_n 0, 1) := by decide +kernel
theorem dX5_next_131 : decode mi_X5_next.2.1 131 = .ok (.getfield 23, 3) := by decide +kernel
theorem dX5_next_134 : decode mi_X5_next.2.1 134 = .ok (.invokevirtual 26, 3) := by decide +kernel
theorem dX5_next_137 : decode mi_X5_next.2.1 137 = .ok (.invokestatic 44, 3) := by decide +kernel
theorem dX5_next_140 : decode mi_X5_next.2.1 140 = .ok (.ifCond .eq 48, 3) := by decide +kernel
theorem dX5_next_143 : decode mi_X5_next.2.1 143 = .ok (.aload_n 0, 1) := by decide +kernel
theorem dX5_next_144 : decode mi_X5_next.2.1 144 = .ok (.ldc2_w 47, 3) := by decide +kernel
theorem dX5_next_147 : decode mi_X5_next.2.1 147 = .ok (.ldc2_w 49, 3) := by decide +kernel
theorem dX5_next_150 : decode mi_X5_next.2.1 150 = .ok (.aload_n 0, 1) := by decide +kernel
theorem dX5_next_151 : decode mi_X5_next.2.1 151 = .ok (.getfield 33, 3) := by decide +kernel
theorem dX5_next_154 : decode mi_X5_next.2.1 154 = .ok (.lmul, 1) := by decide +kernel
theorem dX5_next_155 : decode mi_X5_next.2.1 155 = .ok (.aload_n 0, 1) := by decide +kernel
theorem dX5_next_156 : decode mi_X5_next.2.1 156 = .ok (.aload_n 0, 1) := by decide +kernel
theorem dX5_next_157 : decode mi_X5_next.2.1 157 = .ok (.getfield 23, 3) := by decide +kernel
theorem dX5_next_160 : decode mi_X5_next.2.1 160 = .ok (.invokevirtual 26, 3) := by decide +kernel
theorem dX5_next_163 : decode mi_X5_next.2.1 163 = .ok (.i2l, 1) := by decide +kernel
theorem dX5_next_164 : decode mi_X5_next.2.1 164 = .ok (.ladd, 1) := by decide +kernel
theorem dX5_next_165 : decode mi_X5_next.2.1 165 = .ok (.ldc2_w 51, 3) := by decide +kernel
theorem dX5_next_168 : decode mi_X5_next.2.1 168 = .ok (.lsub, 1) := by decide +kernel
theorem dX5_next_169 : decode mi_X5_next.2.1 169 = .ok (.invokestatic 53, 3) := by decide +kernel
theorem dX5_next_172 : decode mi_X5_next.2.1 172 = .ok (.putfield 33, 3) := by decide +kernel
theorem dX5_next_175 : decode mi_X5_next.2.1 175 = .ok (.aload_n 0, 1) := by decide +kernel
theorem dX5_next_176 : decode mi_X5_next.2.1 176 = .ok (.dup, 1) := by decide +kernel
theorem dX5_next_177 : decode mi_X5_next.2.1 177 = .ok (.getfield 23, 3) := by decide +kernel
theorem dX5_next_180 : decode mi_X5_next.2.1 180 = .ok (.iconst 1, 1) := by decide +kernel
theorem dX5_next_181 : decode mi_X5_next.2.1 181 = .ok (.iadd, 1) := by decide +kernel
theorem dX5_next_182 : decode mi_X5_next.2.1 182 = .ok (.putfield 23, 3) := by decide +kernel
theorem dX5_next_185 : decode mi_X5_next.2.1 185 = .ok (.goto (-56), 3) := by decide +kernel
theorem dX5_next_188 : decode mi_X5_next.2.1 188 = .ok (.aload_n 0, 1) := by decide +kernel
theorem dX5_next_189 : decode mi_X5_next.2.1 189 = .ok (.aload_n 0, 1) := by decide +kernel
theorem dX5_next_190 : decode mi_X5_next.2.1 190 = .ok (.getfield 23, 3) := by decide +kernel
theorem dX5_next_193 : decode mi_X5_next.2.1 193 = .ok (.aload_n 0, 1) := by decide +kernel
theorem dX5_next_194 : decode mi_X5_next.2.1 194 = .ok (.getfield 30, 3) := by decide +kernel
theorem dX5_next_197 : decode mi_X5_next.2.1 197 = .ok (.isub, 1) := by decide +kernel
theorem dX5_next_198 : decode mi_X5_next.2.1 198 = .ok (.bipush 6, 2) := by decide +kernel
theorem dX5_next_200 : decode mi_X5_next.2.1 200 = .ok (.if_icmp .le 7, 3) := by decide +kernel
theorem dX5_next_203 : decode mi_X5_next.2.1 203 = .ok (.iconst 1, 1) := by decide +kernel
theorem dX5_next_204 : decode mi_X5_next.2.1 204 = .ok (.goto 4, 3) := by decide +kernel
theorem dX5_next_207 : decode mi_X5_next.2.1 207 = .ok (.iconst 3, 1) := by decide +kernel
theorem dX5_next_208 : decode mi_X5_next.2.1 208 = .ok (.putfield 37, 3) := by decide +kernel
theorem dX5_next_211 : decode mi_X5_next.2.1 211 = .ok (.goto 29, 3) := by decide +kernel
theorem dX5_next_214 : decode mi_X5_next.2.1 214 = .ok (.aload_n 0, 1) := by decide +kernel
theorem dX5_next_215 : decode mi_X5_next.2.1 215 = .ok (.dup, 1) := by decide +kernel
theorem dX5_next_216 : decode mi_X5_next.2.1 216 = .ok (.getfield 23, 3) := by decide +kernel
theorem dX5_next_219 : decode mi_X5_next.2.1 219 = .ok (.iconst 1, 1) := by decide +kernel
theorem dX5_next_220 : decode mi_X5_next.2.1 220 = .ok (.iadd, 1) := by decide +kernel
theorem dX5_next_221 : decode mi_X5_next.2.1 221 = .ok (.putfield 23, 3) := by decide +kernel
theorem dX5_next_224 : decode mi_X5_next.2.1 224 = .ok (.aload_n 0, 1) := by decide +kernel
theorem dX5_next_225 : decode mi_X5_next.2.1 225 = .ok (.iload_n 1, 1) := by decide +kernel
theorem dX5_next_226 : decode mi_X5_next.2.1 226 = .ok (.invokestatic 59, 3) := by decide +kernel
theorem dX5_next_229 : decode mi_X5_next.2.1 229 = .ok (.ifCond .eq 7, 3) := by decide +kernel
theorem dX5_next_232 : decode mi_X5_next.2.1 232 = .ok (.iconst 4, 1) := by decide +kernel
theorem dX5_next_233 : decode mi_X5_next.2.1 233 = .ok (.goto 4, 3) := by decide +kernel
theorem dX5_next_236 : decode mi_X5_next.2.1 236 = .ok (.iconst 1, 1) := by decide +kernel
theorem dX5_next_237 : decode mi_X5_next.2.1 237 = .ok (.putfield 37, 3) := by decide +kernel
theorem dX5_next_240 : decode mi_X5_next.2.1 240 = .ok (.return_, 1) := by decide +kernel
theorem v_X5_next {G : ma_G} {d : Nat} {a0 : Nat} {h : ah_T} {Q : Option ma_V → ah_T → Prop} {E : Nat → ah_T → Prop} (La0_h : LY5 h a0) (H : ((ah_I h a0 2) ≤ (ah_I h a0 5) → ∀ h2 : ah_T, h2 = ah_wI h a0 4 (ah_I h a0 5) → ah_ext h h2 → ∀ h3 : ah_T, h3 = ah_wJ h2 a0 6 (-1 : Int32).toInt64 → ah_ext h2 h3 → ∀ h4 : ah_T, h4 = ah_wI h3 a0 3 (0 : Int32) → ah_ext h3 h4 → Q none h4) ∧ (¬ (ah_I h a0 2) ≤ (ah_I h a0 5) → vp_in (ah_I h a0 5) 500 ∧ (((ah_I h (a0 + 1) (ah_I h a0 5).toNatClampNeg) &&& (255 : Int32)) = (32 : Int32) → ∀ h7 : ah_T, h7 = ah_wI h a0 5 ((ah_I h a0 5) + (1 : Int32)) → ah_ext h h7 → MX G mi_X5_next (d + 1) 0 [some (rv a0), none] [] h7 Q E) ∧ (¬ ((ah_I h (a0 + 1) (ah_I h a0 5).toNatClampNeg) &&& (255 : Int32)) = (32 : Int32) → (¬ ((ah_I h (a0 + 1) (ah_I h a0 5).toNatClampNeg) &&& (255 : Int32)) = (10 : Int32) → ∀ h9 : ah_T, h9 = ah_wI h a0 4 (ah_I h a0 5) → ah_ext h h9 → ∀ h10 : ah_T, h10 = ah_wJ h9 a0 6 ((ah_I h (a0 + 1) (ah_I h a0 5).toNatClampNeg) &&& (255 : Int32)).toInt64 → ah_ext h9 h10 → (¬ ((ah_I h (a0 + 1) (ah_I h a0 5).toNatClampNeg) &&& (255 : Int32)) = (-1 : Int32) → (((ah_I h (a0 + 1) (ah_I h a0 5).toNatClampNeg) &&& (255 : Int32)) < (97 : Int32) → (((ah_I h (a0 + 1) (ah_I h a0 5).toNatClampNeg) &&& (255 : Int32)) < (48 : Int32) → ∀ h14 : ah_T, h14 = ah_wI h10 a0 5 ((ah_I h a0 5) + (1 : Int32)) → ah_ext h10 h14 → MX G mi_X5_isSign d 0 [some (iv ((ah_I h (a0 + 1) (ah_I h a0 5).toNatClampNeg) &&& (255 : Int32)))] [] h14 (Qi fun r16 h15 => ah_ext h14 h15 → (r16 = 0 → ∀ h18 : ah_T, h18 = ah_wI h15 a0 3 (1 : Int32) → ah_ext h15 h18 → Q none h18) ∧ (¬ r16 = 0 → ∀ h19 : ah_T, h19 = ah_wI h15 a0 3 (4 : Int32) → ah_ext h15 h19 → Q none h19)) E) ∧ (¬ ((ah_I h (a0 + 1) (ah_I h a0 5).toNatClampNeg) &&& (255 : Int32)) < (48 : Int32) → ((57 : Int32) < ((ah_I h (a0 + 1) (ah_I h a0 5).toNatClampNeg) &&& (255 : Int32)) → ∀ h21 : ah_T, h21 = ah_wI h10 a0 5 ((ah_I h a0 5) + (1 : Int32)) → ah_ext h10 h21 → MX G mi_X5_isSign d 0 [some (iv ((ah_I h (a0 + 1) (ah_I h a0 5).toNatClampNeg) &&& (255 : Int32)))] [] h21 (Qi fun r23 h22 => ah_ext h21 h22 → (r23 = 0 → ∀ h25 : ah_T, h25 = ah_wI h22 a0 3 (1 : Int32) → ah_ext h22 h25 → Q none h25) ∧ (¬ r23 = 0 → ∀ h26 : ah_T, h26 = ah_wI h22 a0 3 (4 : Int32) → ah_ext h22 h26 → Q none h26)) E) ∧ (¬ (57 : Int32) < ((ah_I h (a0 + 1) (ah_I h a0 5).toNatClampNeg) &&& (255 : Int32)) → ∀ h27 : ah_T, h27 = ah_wJ h10 a0 6 (0 : Int64) → ah_ext h10 h27 → MX G mi_X5_next (d + 1) 129 [some (rv a0), none] [] h27 Q E))) ∧ (¬ ((ah_I h (a0 + 1) (ah_I h a0 5).toNatClampNeg) &&& (255 : Int32)) < (97 : Int32) → ((122 : Int32) < ((ah_I h (a0 + 1) (ah_I h a0 5).toNatClampNeg) &&& (255 : Int32)) → (((ah_I h (a0 + 1) (ah_I h a0 5).toNatClampNeg) &&& (255 : Int32)) < (48 : Int32) → ∀ h30 : ah_T, h30 = ah_wI h10 a0 5 ((ah_I h a0 5) + (1 : Int32)) → ah_ext h10 h30 → MX G mi_X5_isSign d 0 [some (iv ((ah_I h (a0 + 1) (ah_I h a0 5).toNatClampNeg) &&& (255 : Int32)))] [] h30 (Qi fun r32 h31 => ah_ext h30 h31 → (r32 = 0 → ∀ h34 : ah_T, h34 = ah_wI h31 a0 3 (1 : Int32) → ah_ext h31 h34 → Q none h34) ∧ (¬ r32 = 0 → ∀ h35 : ah_T, h35 = ah_wI h31 a0 3 (4 : Int32) → ah_ext h31 h35 → Q none h35)) E) ∧ (¬ ((ah_I h (a0 + 1) (ah_I h a0 5).toNatClampNeg) &&& (255 : Int32)) < (48 : Int32) → ((57 : Int32) < ((ah_I h (a0 + 1) (ah_I h a0 5).toNatClampNeg) &&& (255 : Int32)) → ∀ h37 : ah_T, h37 = ah_wI h10 a0 5 ((ah_I h a0 5) + (1 : Int32)) → ah_ext h10 h37 → MX G mi_X5_isSign d 0 [some (iv ((ah_I h (a0 + 1) (ah_I h a0 5).toNatClampNeg) &&& (255 : Int32)))] [] h37 (Qi fun r39 h38 => ah_ext h37 h38 → (r39 = 0 → ∀ h41 : ah_T, h41 = ah_wI h38 a0 3 (1 : Int32) → ah_ext h38 h41 → Q none h41) ∧ (¬ r39 = 0 → ∀ h42 : ah_T, h42 = ah_wI h38 a0 3 (4 : Int32) → ah_ext h38 h42 → Q none h42)) E) ∧ (¬ (57 : Int32) < ((ah_I h (a0 + 1) (ah_I h a0 5).toNatClampNeg) &&& (255 : Int32)) → ∀ h43 : ah_T, h43 = ah_wJ h10 a0 6 (0 : Int64) → ah_ext h10 h43 → MX G mi_X5_next (d + 1) 129 [some (rv a0), none] [] h43 Q E))) ∧ (¬ (122 : Int32) < ((ah_I h (a0 + 1) (ah_I h a0 5).toNatClampNeg) &&& (255 : Int32)) → MX G mi_X5_next (d + 1) 82 [some (rv a0), none] [] h10 Q E))) ∧ (((ah_I h (a0 + 1) (ah_I h a0 5).toNatClampNeg) &&& (255 : Int32)) = (-1 : Int32) → ∀ h44 : ah_T, h44 = ah_wI h10 a0 3 (0 : Int32) → ah_ext h10 h44 → Q none h44)) ∧ (((ah_I h (a0 + 1) (ah_I h a0 5).toNatClampNeg) &&& (255 : Int32)) = (10 : Int32) → ∀ h45 : ah_T, h45 = ah_wI h a0 5 ((ah_I h a0 5) + (1 : Int32)) → ah_ext h h45 → MX G mi_X5_next (d + 1) 0 [some (rv a0), none] [] h45 Q E)))) : MX G mi_X5_next (d + 1) 0 [some (rv a0), none] [] h Q E := by
  refine mx_aload_n dX5_next_0 rfl rfl ?_
  refine mx_aload_n dX5_next_1 rfl rfl ?_
  refine mx_get 5 5 (ref := "PrairiePool$Reader") cl_5 (Nat.le_of_ble_eq_true rfl) (Or.inl q389) (Or.inl rfl) dX5_next_2 (fv_5_5 _ _) (ly5_k La0_h) ?_
  refine mx_callV 5 (y' := mi_X5_at) (vs := [iv (ah_I h a0 5)]) (st := []) (al' := [some (rv a0), some (iv (ah_I h a0 5))]) cl_5 V_X5_at (Or.inl q1210) dX5_next_5 rfl rfl (Nat.le_of_ble_eq_true rfl) (Nat.le_of_ble_eq_true rfl) (ly5_k La0_h) ?_
  refine mx_iload_n dX5_at_0 rfl rfl ?_
  refine mx_aload_n dX5_at_1 rfl rfl ?_
  refine mx_get 5 2 (ref := "PrairiePool$Reader") cl_5 (Nat.le_of_ble_eq_true rfl) (Or.inl q386) (Or.inl rfl) dX5_at_2 (fv_5_2 _ _) (ly5_k La0_h) ?_
  refine mx_icmp_ge (tgt := 21) dX5_at_5 rfl (fun c1 => ?_) (fun c1 => ?_)
  · have H := H.1 c1
    refine mx_iconst dX5_at_21 ic_m1 ?_
    refine mx_iretK rfl dX5_at_22 ?_
    refine mx_bipush dX5_next_8 ib_32 ?_
    refine mx_icmp_eq (tgt := 26) dX5_next_10 rfl (fun _ => absurd ‹_› (by decide)) (fun _ => ?_)
    refine mx_aload_n dX5_next_13 rfl rfl ?_
    refine mx_aload_n dX5_next_14 rfl rfl ?_
    refine mx_get 5 5 (ref := "PrairiePool$Reader") cl_5 (Nat.le_of_ble_eq_true rfl) (Or.inl q389) (Or.inl rfl) dX5_next_15 (fv_5_5 _ _) (ly5_k La0_h) ?_
    refine mx_callV 5 (y' := mi_X5_at) (vs := [iv (ah_I h a0 5)]) (st := []) (al' := [some (rv a0), some (iv (ah_I h a0 5))]) cl_5 V_X5_at (Or.inl q1210) dX5_next_18 rfl rfl (Nat.le_of_ble_eq_true rfl) (Nat.le_of_ble_eq_true rfl) (ly5_k La0_h) ?_
    refine mx_iload_n dX5_at_0 rfl rfl ?_
    refine mx_aload_n dX5_at_1 rfl rfl ?_
    refine mx_get 5 2 (ref := "PrairiePool$Reader") cl_5 (Nat.le_of_ble_eq_true rfl) (Or.inl q386) (Or.inl rfl) dX5_at_2 (fv_5_2 _ _) (ly5_k La0_h) ?_
    refine mx_icmp_ge (tgt := 21) dX5_at_5 rfl (fun _ => ?_) (fun q_ => absurd c1 q_)
    refine mx_iconst dX5_at_21 ic_m1 ?_
    refine mx_iretK rfl dX5_at_22 ?_
    refine mx_bipush dX5_next_21 ib_10 ?_
    refine mx_icmp_ne (tgt := 39) dX5_next_23 rfl (fun _ => ?_) (fun _ => absurd ‹_› (by decide))
    refine mx_aload_n dX5_next_39 rfl rfl ?_
    refine mx_aload_n dX5_next_40 rfl rfl ?_
    refine mx_get 5 5 (ref := "PrairiePool$Reader") cl_5 (Nat.le_of_ble_eq_true rfl) (Or.inl q389) (Or.inl rfl) dX5_next_41 (fv_5_5 _ _) (ly5_k La0_h) ?_
    refine mx_putI 5 4 (ref := "PrairiePool$Reader") cl_5 (Nat.le_of_ble_eq_true rfl) (Or.inl q388) (Or.inl rfl) dX5_next_44 (Or.inl rfl) rfl (ly5_k La0_h) ?_
    refine mx_nmI  (fun h2 eh2 Xh2 Kh2 Lh2 => ?_)
    have H := H h2 eh2 Xh2
    have La0_h2 := La0_h.ext Xh2
    refine mx_aload_n dX5_next_47 rfl rfl ?_
    refine mx_aload_n dX5_next_48 rfl rfl ?_
    refine mx_get 5 5 (ref := "PrairiePool$Reader") cl_5 (Nat.le_of_ble_eq_true rfl) (Or.inl q389) (Or.inl rfl) dX5_next_49 (fv_5_5 _ _) (ly5_k La0_h2) ?_
    refine mx_ti (ah_skIK eh2 (by decide)) ?_
    refine mx_callV 5 (y' := mi_X5_at) (vs := [iv (ah_I h a0 5)]) (st := []) (al' := [some (rv a0), some (iv (ah_I h a0 5))]) cl_5 V_X5_at (Or.inl q1210) dX5_next_52 rfl rfl (Nat.le_of_ble_eq_true rfl) (Nat.le_of_ble_eq_true rfl) (ly5_k La0_h2) ?_
    refine mx_iload_n dX5_at_0 rfl rfl ?_
    refine mx_aload_n dX5_at_1 rfl rfl ?_
    refine mx_get 5 2 (ref := "PrairiePool$Reader") cl_5 (Nat.le_of_ble_eq_true rfl) (Or.inl q386) (Or.inl rfl) dX5_at_2 (fv_5_2 _ _) (ly5_k La0_h2) ?_
    refine mx_ti (ah_skIK eh2 (by decide)) ?_
    refine mx_icmp_ge (tgt := 21) dX5_at_5 rfl (fun _ => ?_) (fun q_ => absurd c1 q_)
    refine mx_iconst dX5_at_21 ic_m1 ?_
    refine mx_iretK rfl dX5_at_22 ?_
    refine mx_istore_n (al' := [some (rv a0), some (iv (-1 : Int32))]) dX5_next_55 rfl (Nat.le_of_ble_eq_true rfl) rfl ?_
    refine mx_aload_n dX5_next_56 rfl rfl ?_
    refine mx_iload_n dX5_next_57 rfl rfl ?_
    refine mx_i2l dX5_next_58 ?_
    refine mx_putJ 5 6 (ref := "PrairiePool$Reader") cl_5 (Nat.le_of_ble_eq_true rfl) (Or.inl q390) (Or.inl rfl) dX5_next_59 (Or.inl rfl) rfl (ly5_k La0_h2) ?_
    refine mx_nmJ  (fun h3 eh3 Xh3 Kh3 Lh3 => ?_)
    have H := H h3 eh3 Xh3
    have Kh3 := Kh3.trans Kh2
    have Lh3 := Lh3.trans Lh2
    have La0_h3 := La0_h2.ext Xh3
    refine mx_iload_n dX5_next_62 rfl rfl ?_
    refine mx_iconst dX5_next_63 ic_m1 ?_
    refine mx_icmp_ne (tgt := 75) dX5_next_64 rfl (fun _ => absurd ‹_› (by decide)) (fun _ => ?_)
    refine mx_aload_n dX5_next_67 rfl rfl ?_
    refine mx_iconst dX5_next_68 ic_0 ?_
    refine mx_putI 5 3 (ref := "PrairiePool$Reader") cl_5 (Nat.le_of_ble_eq_true rfl) (Or.inl q387) (Or.inl rfl) dX5_next_69 (Or.inl rfl) rfl (ly5_k La0_h3) ?_
    refine mx_nmI  (fun h4 eh4 Xh4 Kh4 Lh4 => ?_)
    have H := H h4 eh4 Xh4
    have Kh4 := Kh4.trans Kh3
    have Lh4 := Lh4.trans Lh3
    have La0_h4 := La0_h3.ext Xh4
    refine mx_goto (tgt := 240) dX5_next_72 rfl ?_
    exact mx_vret rfl dX5_next_240 H
  · have H := H.2 c1
    refine mx_aload_n dX5_at_8 rfl rfl ?_
    refine mx_get 5 0 (ref := "PrairiePool$Reader") cl_5 (Nat.le_of_ble_eq_true rfl) (Or.inl q383) (Or.inl rfl) dX5_at_9 (fv_5_0 _ _) (ly5_k La0_h) ?_
    refine mx_tr (ly5_R_0_0 La0_h) ?_
    refine mx_iload_n dX5_at_12 rfl rfl ?_
    obtain ⟨k5, H⟩ := H
    refine my_bald dX5_at_13 rfl (ly5_A_1 La0_h k5) ?_
    refine mx_sipush dX5_at_14 is_255 ?_
    refine mx_iand dX5_at_17 ?_
    refine mx_goto (tgt := 22) dX5_at_18 rfl ?_
    refine mx_iretK rfl dX5_at_22 ?_
    refine mx_bipush dX5_next_8 ib_32 ?_
    refine mx_icmp_eq (tgt := 26) dX5_next_10 rfl (fun c6 => ?_) (fun c6 => ?_)
    · have H := H.1 c6
      refine mx_aload_n dX5_next_26 rfl rfl ?_
      refine mx_dup_r dX5_next_27 ?_
      refine mx_get 5 5 (ref := "PrairiePool$Reader") cl_5 (Nat.le_of_ble_eq_true rfl) (Or.inl q389) (Or.inl rfl) dX5_next_28 (fv_5_5 _ _) (ly5_k La0_h) ?_
      refine mx_iconst dX5_next_31 ic_1 ?_
      refine mx_iadd dX5_next_32 ?_
      refine mx_putI 5 5 (ref := "PrairiePool$Reader") cl_5 (Nat.le_of_ble_eq_true rfl) (Or.inl q389) (Or.inl rfl) dX5_next_33 (Or.inl rfl) rfl (ly5_k La0_h) ?_
      refine mx_nmI  (fun h7 eh7 Xh7 Kh7 Lh7 => ?_)
      have H := H h7 eh7 Xh7
      have La0_h7 := La0_h.ext Xh7
      refine mx_goto (tgt := 0) dX5_next_36 rfl ?_
      exact mx_weak (al' := [some (rv a0), none]) ⟨rfl, trivial⟩ H
    · have H := H.2 c6
      refine mx_aload_n dX5_next_13 rfl rfl ?_
      refine mx_aload_n dX5_next_14 rfl rfl ?_
      refine mx_get 5 5 (ref := "PrairiePool$Reader") cl_5 (Nat.le_of_ble_eq_true rfl) (Or.inl q389) (Or.inl rfl) dX5_next_15 (fv_5_5 _ _) (ly5_k La0_h) ?_
      refine mx_callV 5 (y' := mi_X5_at) (vs := [iv (ah_I h a0 5)]) (st := []) (al' := [some (rv a0), some (iv (ah_I h a0 5))]) cl_5 V_X5_at (Or.inl q1210) dX5_next_18 rfl rfl (Nat.le_of_ble_eq_true rfl) (Nat.le_of_ble_eq_true rfl) (ly5_k La0_h) ?_
      refine mx_iload_n dX5_at_0 rfl rfl ?_
      refine mx_aload_n dX5_at_1 rfl rfl ?_
      refine mx_get 5 2 (ref := "PrairiePool$Reader") cl_5 (Nat.le_of_ble_eq_true rfl) (Or.inl q386) (Or.inl rfl) dX5_at_2 (fv_5_2 _ _) (ly5_k La0_h) ?_
      refine mx_icmp_ge (tgt := 21) dX5_at_5 rfl (fun q_ => absurd q_ c1) (fun _ => ?_)
      refine mx_aload_n dX5_at_8 rfl rfl ?_
      refine mx_get 5 0 (ref := "PrairiePool$Reader") cl_5 (Nat.le_of_ble_eq_true rfl) (Or.inl q383) (Or.inl rfl) dX5_at_9 (fv_5_0 _ _) (ly5_k La0_h) ?_
      refine mx_tr (ly5_R_0_0 La0_h) ?_
      refine mx_iload_n dX5_at_12 rfl rfl ?_
      refine my_bald dX5_at_13 rfl (ly5_A_1 La0_h k5) ?_
      refine mx_sipush dX5_at_14 is_255 ?_
      refine mx_iand dX5_at_17 ?_
      refine mx_goto (tgt := 22) dX5_at_18 rfl ?_
      refine mx_iretK rfl dX5_at_22 ?_
      refine mx_bipush dX5_next_21 ib_10 ?_
      refine mx_icmp_ne (tgt := 39) dX5_next_23 rfl (fun c8 => ?_) (fun c8 => ?_)
      · have H := H.1 c8
        refine mx_aload_n dX5_next_39 rfl rfl ?_
        refine mx_aload_n dX5_next_40 rfl rfl ?_
        refine mx_get 5 5 (ref := "PrairiePool$Reader") cl_5 (Nat.le_of_ble_eq_true rfl) (Or.inl q389) (Or.inl rfl) dX5_next_41 (fv_5_5 _ _) (ly5_k La0_h) ?_
        refine mx_putI 5 4 (ref := "PrairiePool$Reader") cl_5 (Nat.le_of_ble_eq_true rfl) (Or.inl q388) (Or.inl rfl) dX5_next_44 (Or.inl rfl) rfl (ly5_k La0_h) ?_
        refine mx_nmI  (fun h9 eh9 Xh9 Kh9 Lh9 => ?_)
        have H := H h9 eh9 Xh9
        have La0_h9 := La0_h.ext Xh9
        refine mx_aload_n dX5_next_47 rfl rfl ?_
        refine mx_aload_n dX5_next_48 rfl rfl ?_
        refine mx_get 5 5 (ref := "PrairiePool$Reader") cl_5 (Nat.le_of_ble_eq_true rfl) (Or.inl q389) (Or.inl rfl) dX5_next_49 (fv_5_5 _ _) (ly5_k La0_h9) ?_
        refine mx_ti (ah_skIK eh9 (by decide)) ?_
        refine mx_callV 5 (y' := mi_X5_at) (vs := [iv (ah_I h a0 5)]) (st := []) (al' := [some (rv a0), some (iv (ah_I h a0 5))]) cl_5 V_X5_at (Or.inl q1210) dX5_next_52 rfl rfl (Nat.le_of_ble_eq_true rfl) (Nat.le_of_ble_eq_true rfl) (ly5_k La0_h9) ?_
        refine mx_iload_n dX5_at_0 rfl rfl ?_
        refine mx_aload_n dX5_at_1 rfl rfl ?_
        refine mx_get 5 2 (ref := "PrairiePool$Reader") cl_5 (Nat.le_of_ble_eq_true rfl) (Or.inl q386) (Or.inl rfl) dX5_at_2 (fv_5_2 _ _) (ly5_k La0_h9) ?_
        refine mx_ti (ah_skIK eh9 (by decide)) ?_
        refine mx_icmp_ge (tgt := 21) dX5_at_5 rfl (fun q_ => absurd q_ c1) (fun _ => ?_)
        refine mx_aload_n dX5_at_8 rfl rfl ?_
        refine mx_get 5 0 (ref := "PrairiePool$Reader") cl_5 (Nat.le_of_ble_eq_true rfl) (Or.inl q383) (Or.inl rfl) dX5_at_9 (fv_5_0 _ _) (ly5_k La0_h9) ?_
        refine mx_tr (ly5_R_0_0 La0_h9) ?_
        refine mx_iload_n dX5_at_12 rfl rfl ?_
        refine my_bald dX5_at_13 rfl (ly5_A_1 La0_h9 k5) ?_
        refine mx_ti (ah_skIA eh9 (by omega)) ?_
        refine mx_sipush dX5_at_14 is_255 ?_
        refine mx_iand dX5_at_17 ?_
        refine mx_goto (tgt := 22) dX5_at_18 rfl ?_
        refine mx_iretK rfl dX5_at_22 ?_
        refine mx_istore_n (al' := [some (rv a0), some (iv ((ah_I h (a0 + 1) (ah_I h a0 5).toNatClampNeg) &&& (255 : Int32)))]) dX5_next_55 rfl (Nat.le_of_ble_eq_true rfl) rfl ?_
        refine mx_aload_n dX5_next_56 rfl rfl ?_
        refine mx_iload_n dX5_next_57 rfl rfl ?_
        refine mx_i2l dX5_next_58 ?_
        refine mx_putJ 5 6 (ref := "PrairiePool$Reader") cl_5 (Nat.le_of_ble_eq_true rfl) (Or.inl q390) (Or.inl rfl) dX5_next_59 (Or.inl rfl) rfl (ly5_k La0_h9) ?_
        refine mx_nmJ  (fun h10 eh10 Xh10 Kh10 Lh10 => ?_)
        have H := H h10 eh10 Xh10
        have Kh10 := Kh10.trans Kh9
        have Lh10 := Lh10.trans Lh9
        have La0_h10 := La0_h9.ext Xh10
        refine mx_iload_n dX5_next_62 rfl rfl ?_
        refine mx_iconst dX5_next_63 ic_m1 ?_
        refine mx_icmp_ne (tgt := 75) dX5_next_64 rfl (fun c11 => ?_) (fun c11 => ?_)
        · have H := H.1 c11
          refine mx_iload_n dX5_next_75 rfl rfl ?_
          refine mx_callS (y' := mi_X5_isSmall) (vs := [iv ((ah_I h (a0 + 1) (ah_I h a0 5).toNatClampNeg) &&& (255 : Int32))]) (st := []) (al' := [some (iv ((ah_I h (a0 + 1) (ah_I h a0 5).toNatClampNeg) &&& (255 : Int32)))]) S_X5_isSmall q1214 dX5_next_76 rfl rfl (Nat.le_of_ble_eq_true rfl) (Nat.le_of_ble_eq_true rfl) ?_
          refine mx_iload_n dX5_isSmall_0 rfl rfl ?_
          refine mx_bipush dX5_isSmall_1 ib_97 ?_
          refine mx_icmp_lt (tgt := 16) dX5_isSmall_3 rfl (fun c12 => ?_) (fun c12 => ?_)
          · have H := H.1 c12
            refine mx_iconst dX5_isSmall_16 ic_0 ?_
            refine mx_zretK rfl dX5_isSmall_17 (Or.inl rfl) ?_
            refine mx_if_eq (tgt := 117) dX5_next_79 rfl (fun _ => ?_) (fun _ => absurd ‹_› (by decide))
            refine mx_iload_n dX5_next_117 rfl rfl ?_
            refine mx_callS (y' := mi_X5_isDigit) (vs := [iv ((ah_I h (a0 + 1) (ah_I h a0 5).toNatClampNeg) &&& (255 : Int32))]) (st := []) (al' := [some (iv ((ah_I h (a0 + 1) (ah_I h a0 5).toNatClampNeg) &&& (255 : Int32)))]) S_X5_isDigit q1217 dX5_next_118 rfl rfl (Nat.le_of_ble_eq_true rfl) (Nat.le_of_ble_eq_true rfl) ?_
            refine mx_iload_n dX5_isDigit_0 rfl rfl ?_
            refine mx_bipush dX5_isDigit_1 ib_48 ?_
            refine mx_icmp_lt (tgt := 16) dX5_isDigit_3 rfl (fun c13 => ?_) (fun c13 => ?_)
            · have H := H.1 c13
              refine mx_iconst dX5_isDigit_16 ic_0 ?_
              refine mx_zretK rfl dX5_isDigit_17 (Or.inl rfl) ?_
              refine mx_if_eq (tgt := 214) dX5_next_121 rfl (fun _ => ?_) (fun _ => absurd ‹_› (by decide))
              refine mx_aload_n dX5_next_214 rfl rfl ?_
              refine mx_dup_r dX5_next_215 ?_
              refine mx_get 5 5 (ref := "PrairiePool$Reader") cl_5 (Nat.le_of_ble_eq_true rfl) (Or.inl q389) (Or.inl rfl) dX5_next_216 (fv_5_5 _ _) (ly5_k La0_h10) ?_
              refine mx_ti ((ah_IJ eh10).trans (ah_skIK eh9 (by decide))) ?_
              refine mx_iconst dX5_next_219 ic_1 ?_
              refine mx_iadd dX5_next_220 ?_
              refine mx_putI 5 5 (ref := "PrairiePool$Reader") cl_5 (Nat.le_of_ble_eq_true rfl) (Or.inl q389) (Or.inl rfl) dX5_next_221 (Or.inl rfl) rfl (ly5_k La0_h10) ?_
              refine mx_nmI  (fun h14 eh14 Xh14 Kh14 Lh14 => ?_)
              have H := H h14 eh14 Xh14
              have Kh14 := Kh14.trans Kh10
              have Lh14 := Lh14.trans Lh10
              have La0_h14 := La0_h10.ext Xh14
              refine mx_aload_n dX5_next_224 rfl rfl ?_
              refine mx_iload_n dX5_next_225 rfl rfl ?_
              refine mx_callS (y' := mi_X5_isSign) (vs := [iv ((ah_I h (a0 + 1) (ah_I h a0 5).toNatClampNeg) &&& (255 : Int32))]) (st := [rv a0]) (al' := [some (iv ((ah_I h (a0 + 1) (ah_I h a0 5).toNatClampNeg) &&& (255 : Int32)))]) S_X5_isSign q1224 dX5_next_226 rfl rfl (Nat.le_of_ble_eq_true rfl) (Nat.le_of_ble_eq_true rfl) ?_
              refine ma_ki H (fun r16 h15 Xh15 H => ?_) (fun x1 h1 X1 H => mt_out rfl H)
              have H := H Xh15
              have La0_h15 := La0_h14.ext Xh15
              refine mx_if_eq (tgt := 236) dX5_next_229 rfl (fun c17 => ?_) (fun c17 => ?_)
              · have H := H.1 c17
                refine mx_iconst dX5_next_236 ic_1 ?_
                refine mx_putI 5 3 (ref := "PrairiePool$Reader") cl_5 (Nat.le_of_ble_eq_true rfl) (Or.inl q387) (Or.inl rfl) dX5_next_237 (Or.inl rfl) rfl (ly5_k La0_h15) ?_
                refine mx_nmI  (fun h18 eh18 Xh18 Kh18 Lh18 => ?_)
                have H := H h18 eh18 Xh18
                have La0_h18 := La0_h15.ext Xh18
                exact mx_vret rfl dX5_next_240 H
              · have H := H.2 c17
                refine mx_iconst dX5_next_232 ic_4 ?_
                refine mx_goto (tgt := 237) dX5_next_233 rfl ?_
                refine mx_putI 5 3 (ref := "PrairiePool$Reader") cl_5 (Nat.le_of_ble_eq_true rfl) (Or.inl q387) (Or.inl rfl) dX5_next_237 (Or.inl rfl) rfl (ly5_k La0_h15) ?_
                refine mx_nmI  (fun h19 eh19 Xh19 Kh19 Lh19 => ?_)
                have H := H h19 eh19 Xh19
                have La0_h19 := La0_h15.ext Xh19
                exact mx_vret rfl dX5_next_240 H
            · have H := H.2 c13
              refine mx_iload_n dX5_isDigit_6 rfl rfl ?_
              refine mx_bipush dX5_isDigit_7 ib_57 ?_
              refine mx_icmp_gt (tgt := 16) dX5_isDigit_9 rfl (fun c20 => ?_) (fun c20 => ?_)
              · have H := H.1 c20
                refine mx_iconst dX5_isDigit_16 ic_0 ?_
                refine mx_zretK rfl dX5_isDigit_17 (Or.inl rfl) ?_
                refine mx_if_eq (tgt := 214) dX5_next_121 rfl (fun _ => ?_) (fun _ => absurd ‹_› (by decide))
                refine mx_aload_n dX5_next_214 rfl rfl ?_
                refine mx_dup_r dX5_next_215 ?_
                refine mx_get 5 5 (ref := "PrairiePool$Reader") cl_5 (Nat.le_of_ble_eq_true rfl) (Or.inl q389) (Or.inl rfl) dX5_next_216 (fv_5_5 _ _) (ly5_k La0_h10) ?_
                refine mx_ti ((ah_IJ eh10).trans (ah_skIK eh9 (by decide))) ?_
                refine mx_iconst dX5_next_219 ic_1 ?_
                refine mx_iadd dX5_next_220 ?_
                refine mx_putI 5 5 (ref := "PrairiePool$Reader") cl_5 (Nat.le_of_ble_eq_true rfl) (Or.inl q389) (Or.inl rfl) dX5_next_221 (Or.inl rfl) rfl (ly5_k La0_h10) ?_
                refine mx_nmI  (fun h21 eh21 Xh21 Kh21 Lh21 => ?_)
                have H := H h21 eh21 Xh21
                have Kh21 := Kh21.trans Kh10
                have Lh21 := Lh21.trans Lh10
                have La0_h21 := La0_h10.ext Xh21
                refine mx_aload_n dX5_next_224 rfl rfl ?_
                refine mx_iload_n dX5_next_225 rfl rfl ?_
                refine mx_callS (y' := mi_X5_isSign) (vs := [iv ((ah_I h (a0 + 1) (ah_I h a0 5).toNatClampNeg) &&& (255 : Int32))]) (st := [rv a0]) (al' := [some (iv ((ah_I h (a0 + 1) (ah_I h a0 5).toNatClampNeg) &&& (255 : Int32)))]) S_X5_isSign q1224 dX5_next_226 rfl rfl (Nat.le_of_ble_eq_true rfl) (Nat.le_of_ble_eq_true rfl) ?_
                refine ma_ki H (fun r23 h22 Xh22 H => ?_) (fun x1 h1 X1 H => mt_out rfl H)
                have H := H Xh22
                have La0_h22 := La0_h21.ext Xh22
                refine mx_if_eq (tgt := 236) dX5_next_229 rfl (fun c24 => ?_) (fun c24 => ?_)
                · have H := H.1 c24
                  refine mx_iconst dX5_next_236 ic_1 ?_
                  refine mx_putI 5 3 (ref := "PrairiePool$Reader") cl_5 (Nat.le_of_ble_eq_true rfl) (Or.inl q387) (Or.inl rfl) dX5_next_237 (Or.inl rfl) rfl (ly5_k La0_h22) ?_
                  refine mx_nmI  (fun h25 eh25 Xh25 Kh25 Lh25 => ?_)
                  have H := H h25 eh25 Xh25
                  have La0_h25 := La0_h22.ext Xh25
                  exact mx_vret rfl dX5_next_240 H
                · have H := H.2 c24
                  refine mx_iconst dX5_next_232 ic_4 ?_
                  refine mx_goto (tgt := 237) dX5_next_233 rfl ?_
                  refine mx_putI 5 3 (ref := "PrairiePool$Reader") cl_5 (Nat.le_of_ble_eq_true rfl) (Or.inl q387) (Or.inl rfl) dX5_next_237 (Or.inl rfl) rfl (ly5_k La0_h22) ?_
                  refine mx_nmI  (fun h26 eh26 Xh26 Kh26 Lh26 => ?_)
                  have H := H h26 eh26 Xh26
                  have La0_h26 := La0_h22.ext Xh26
                  exact mx_vret rfl dX5_next_240 H
              · have H := H.2 c20
                refine mx_iconst dX5_isDigit_12 ic_1 ?_
                refine mx_goto (tgt := 17) dX5_isDigit_13 rfl ?_
                refine mx_zretK rfl dX5_isDigit_17 (Or.inr rfl) ?_
                refine mx_if_eq (tgt := 214) dX5_next_121 rfl (fun _ => absurd ‹_› (by decide)) (fun _ => ?_)
                refine mx_aload_n dX5_next_124 rfl rfl ?_
                refine mx_lconst dX5_next_125 lc_0 ?_
                refine mx_putJ 5 6 (ref := "PrairiePool$Reader") cl_5 (Nat.le_of_ble_eq_true rfl) (Or.inl q390) (Or.inl rfl) dX5_next_126 (Or.inl rfl) rfl (ly5_k La0_h10) ?_
                refine mx_nmJ  (fun h27 eh27 Xh27 Kh27 Lh27 => ?_)
                have H := H h27 eh27 Xh27
                have Kh27 := Kh27.trans Kh10
                have Lh27 := Lh27.trans Lh10
                have La0_h27 := La0_h10.ext Xh27
                exact mx_weak (al' := [some (rv a0), none]) ⟨rfl, trivial⟩ H
          · have H := H.2 c12
            refine mx_iload_n dX5_isSmall_6 rfl rfl ?_
            refine mx_bipush dX5_isSmall_7 ib_122 ?_
            refine mx_icmp_gt (tgt := 16) dX5_isSmall_9 rfl (fun c28 => ?_) (fun c28 => ?_)
            · have H := H.1 c28
              refine mx_iconst dX5_isSmall_16 ic_0 ?_
              refine mx_zretK rfl dX5_isSmall_17 (Or.inl rfl) ?_
              refine mx_if_eq (tgt := 117) dX5_next_79 rfl (fun _ => ?_) (fun _ => absurd ‹_› (by decide))
              refine mx_iload_n dX5_next_117 rfl rfl ?_
              refine mx_callS (y' := mi_X5_isDigit) (vs := [iv ((ah_I h (a0 + 1) (ah_I h a0 5).toNatClampNeg) &&& (255 : Int32))]) (st := []) (al' := [some (iv ((ah_I h (a0 + 1) (ah_I h a0 5).toNatClampNeg) &&& (255 : Int32)))]) S_X5_isDigit q1217 dX5_next_118 rfl rfl (Nat.le_of_ble_eq_true rfl) (Nat.le_of_ble_eq_true rfl) ?_
              refine mx_iload_n dX5_isDigit_0 rfl rfl ?_
              refine mx_bipush dX5_isDigit_1 ib_48 ?_
              refine mx_icmp_lt (tgt := 16) dX5_isDigit_3 rfl (fun c29 => ?_) (fun c29 => ?_)
              · have H := H.1 c29
                refine mx_iconst dX5_isDigit_16 ic_0 ?_
                refine mx_zretK rfl dX5_isDigit_17 (Or.inl rfl) ?_
                refine mx_if_eq (tgt := 214) dX5_next_121 rfl (fun _ => ?_) (fun _ => absurd ‹_› (by decide))
                refine mx_aload_n dX5_next_214 rfl rfl ?_
                refine mx_dup_r dX5_next_215 ?_
                refine mx_get 5 5 (ref := "PrairiePool$Reader") cl_5 (Nat.le_of_ble_eq_true rfl) (Or.inl q389) (Or.inl rfl) dX5_next_216 (fv_5_5 _ _) (ly5_k La0_h10) ?_
                refine mx_ti ((ah_IJ eh10).trans (ah_skIK eh9 (by decide))) ?_
                refine mx_iconst dX5_next_219 ic_1 ?_
                refine mx_iadd dX5_next_220 ?_
                refine mx_putI 5 5 (ref := "PrairiePool$Reader") cl_5 (Nat.le_of_ble_eq_true rfl) (Or.inl q389) (Or.inl rfl) dX5_next_221 (Or.inl rfl) rfl (ly5_k La0_h10) ?_
                refine mx_nmI  (fun h30 eh30 Xh30 Kh30 Lh30 => ?_)
                have H := H h30 eh30 Xh30
                have Kh30 := Kh30.trans Kh10
                have Lh30 := Lh30.trans Lh10
                have La0_h30 := La0_h10.ext Xh30
                refine mx_aload_n dX5_next_224 rfl rfl ?_
                refine mx_iload_n dX5_next_225 rfl rfl ?_
                refine mx_callS (y' := mi_X5_isSign) (vs := [iv ((ah_I h (a0 + 1) (ah_I h a0 5).toNatClampNeg) &&& (255 : Int32))]) (st := [rv a0]) (al' := [some (iv ((ah_I h (a0 + 1) (ah_I h a0 5).toNatClampNeg) &&& (255 : Int32)))]) S_X5_isSign q1224 dX5_next_226 rfl rfl (Nat.le_of_ble_eq_true rfl) (Nat.le_of_ble_eq_true rfl) ?_
                refine ma_ki H (fun r32 h31 Xh31 H => ?_) (fun x1 h1 X1 H => mt_out rfl H)
                have H := H Xh31
                have La0_h31 := La0_h30.ext Xh31
                refine mx_if_eq (tgt := 236) dX5_next_229 rfl (fun c33 => ?_) (fun c33 => ?_)
                · have H := H.1 c33
                  refine mx_iconst dX5_next_236 ic_1 ?_
                  refine mx_putI 5 3 (ref := "PrairiePool$Reader") cl_5 (Nat.le_of_ble_eq_true rfl) (Or.inl q387) (Or.inl rfl) dX5_next_237 (Or.inl rfl) rfl (ly5_k La0_h31) ?_
                  refine mx_nmI  (fun h34 eh34 Xh34 Kh34 Lh34 => ?_)
                  have H := H h34 eh34 Xh34
                  have La0_h34 := La0_h31.ext Xh34
                  exact mx_vret rfl dX5_next_240 H
                · have H := H.2 c33
                  refine mx_iconst dX5_next_232 ic_4 ?_
                  refine mx_goto (tgt := 237) dX5_next_233 rfl ?_
                  refine mx_putI 5 3 (ref := "PrairiePool$Reader") cl_5 (Nat.le_of_ble_eq_true rfl) (Or.inl q387) (Or.inl rfl) dX5_next_237 (Or.inl rfl) rfl (ly5_k La0_h31) ?_
                  refine mx_nmI  (fun h35 eh35 Xh35 Kh35 Lh35 => ?_)
                  have H := H h35 eh35 Xh35
                  have La0_h35 := La0_h31.ext Xh35
                  exact mx_vret rfl dX5_next_240 H
              · have H := H.2 c29
                refine mx_iload_n dX5_isDigit_6 rfl rfl ?_
                refine mx_bipush dX5_isDigit_7 ib_57 ?_
                refine mx_icmp_gt (tgt := 16) dX5_isDigit_9 rfl (fun c36 => ?_) (fun c36 => ?_)
                · have H := H.1 c36
                  refine mx_iconst dX5_isDigit_16 ic_0 ?_
                  refine mx_zretK rfl dX5_isDigit_17 (Or.inl rfl) ?_
                  refine mx_if_eq (tgt := 214) dX5_next_121 rfl (fun _ => ?_) (fun _ => absurd ‹_› (by decide))
                  refine mx_aload_n dX5_next_214 rfl rfl ?_
                  refine mx_dup_r dX5_next_215 ?_
                  refine mx_get 5 5 (ref := "PrairiePool$Reader") cl_5 (Nat.le_of_ble_eq_true rfl) (Or.inl q389) (Or.inl rfl) dX5_next_216 (fv_5_5 _ _) (ly5_k La0_h10) ?_
                  refine mx_ti ((ah_IJ eh10).trans (ah_skIK eh9 (by decide))) ?_
                  refine mx_iconst dX5_next_219 ic_1 ?_
                  refine mx_iadd dX5_next_220 ?_
                  refine mx_putI 5 5 (ref := "PrairiePool$Reader") cl_5 (Nat.le_of_ble_eq_true rfl) (Or.inl q389) (Or.inl rfl) dX5_next_221 (Or.inl rfl) rfl (ly5_k La0_h10) ?_
                  refine mx_nmI  (fun h37 eh37 Xh37 Kh37 Lh37 => ?_)
                  have H := H h37 eh37 Xh37
                  have Kh37 := Kh37.trans Kh10
                  have Lh37 := Lh37.trans Lh10
                  have La0_h37 := La0_h10.ext Xh37
                  refine mx_aload_n dX5_next_224 rfl rfl ?_
                  refine mx_iload_n dX5_next_225 rfl rfl ?_
                  refine mx_callS (y' := mi_X5_isSign) (vs := [iv ((ah_I h (a0 + 1) (ah_I h a0 5).toNatClampNeg) &&& (255 : Int32))]) (st := [rv a0]) (al' := [some (iv ((ah_I h (a0 + 1) (ah_I h a0 5).toNatClampNeg) &&& (255 : Int32)))]) S_X5_isSign q1224 dX5_next_226 rfl rfl (Nat.le_of_ble_eq_true rfl) (Nat.le_of_ble_eq_true rfl) ?_
                  refine ma_ki H (fun r39 h38 Xh38 H => ?_) (fun x1 h1 X1 H => mt_out rfl H)
                  have H := H Xh38
                  have La0_h38 := La0_h37.ext Xh38
                  refine mx_if_eq (tgt := 236) dX5_next_229 rfl (fun c40 => ?_) (fun c40 => ?_)
                  · have H := H.1 c40
                    refine mx_iconst dX5_next_236 ic_1 ?_
                    refine mx_putI 5 3 (ref := "PrairiePool$Reader") cl_5 (Nat.le_of_ble_eq_true rfl) (Or.inl q387) (Or.inl rfl) dX5_next_237 (Or.inl rfl) rfl (ly5_k La0_h38) ?_
                    refine mx_nmI  (fun h41 eh41 Xh41 Kh41 Lh41 => ?_)
                    have H := H h41 eh41 Xh41
                    have La0_h41 := La0_h38.ext Xh41
                    exact mx_vret rfl dX5_next_240 H
                  · have H := H.2 c40
                    refine mx_iconst dX5_next_232 ic_4 ?_
                    refine mx_goto (tgt := 237) dX5_next_233 rfl ?_
                    refine mx_putI 5 3 (ref := "PrairiePool$Reader") cl_5 (Nat.le_of_ble_eq_true rfl) (Or.inl q387) (Or.inl rfl) dX5_next_237 (Or.inl rfl) rfl (ly5_k La0_h38) ?_
                    refine mx_nmI  (fun h42 eh42 Xh42 Kh42 Lh42 => ?_)
                    have H := H h42 eh42 Xh42
                    have La0_h42 := La0_h38.ext Xh42
                    exact mx_vret rfl dX5_next_240 H
                · have H := H.2 c36
                  refine mx_iconst dX5_isDigit_12 ic_1 ?_
                  refine mx_goto (tgt := 17) dX5_isDigit_13 rfl ?_
                  refine mx_zretK rfl dX5_isDigit_17 (Or.inr rfl) ?_
                  refine mx_if_eq (tgt := 214) dX5_next_121 rfl (fun _ => absurd ‹_› (by decide)) (fun _ => ?_)
                  refine mx_aload_n dX5_next_124 rfl rfl ?_
                  refine mx_lconst dX5_next_125 lc_0 ?_
                  refine mx_putJ 5 6 (ref := "PrairiePool$Reader") cl_5 (Nat.le_of_ble_eq_true rfl) (Or.inl q390) (Or.inl rfl) dX5_next_126 (Or.inl rfl) rfl (ly5_k La0_h10) ?_
                  refine mx_nmJ  (fun h43 eh43 Xh43 Kh43 Lh43 => ?_)
                  have H := H h43 eh43 Xh43
                  have Kh43 := Kh43.trans Kh10
                  have Lh43 := Lh43.trans Lh10
                  have La0_h43 := La0_h10.ext Xh43
                  exact mx_weak (al' := [some (rv a0), none]) ⟨rfl, trivial⟩ H
            · have H := H.2 c28
              refine mx_iconst dX5_isSmall_12 ic_1 ?_
              refine mx_goto (tgt := 17) dX5_isSmall_13 rfl ?_
              refine mx_zretK rfl dX5_isSmall_17 (Or.inr rfl) ?_
              refine mx_if_eq (tgt := 117) dX5_next_79 rfl (fun _ => absurd ‹_› (by decide)) (fun _ => ?_)
              exact mx_weak (al' := [some (rv a0), none]) ⟨rfl, trivial⟩ H
        · have H := H.2 c11
          refine mx_aload_n dX5_next_67 rfl rfl ?_
          refine mx_iconst dX5_next_68 ic_0 ?_
          refine mx_putI 5 3 (ref := "PrairiePool$Reader") cl_5 (Nat.le_of_ble_eq_true rfl) (Or.inl q387) (Or.inl rfl) dX5_next_69 (Or.inl rfl) rfl (ly5_k La0_h10) ?_
          refine mx_nmI  (fun h44 eh44 Xh44 Kh44 Lh44 => ?_)
          have H := H h44 eh44 Xh44
          have Kh44 := Kh44.trans Kh10
          have Lh44 := Lh44.trans Lh10
          have La0_h44 := La0_h10.ext Xh44
          refine mx_goto (tgt := 240) dX5_next_72 rfl ?_
          exact mx_vret rfl dX5_next_240 H
      · have H := H.2 c8
        refine mx_aload_n dX5_next_26 rfl rfl ?_
        refine mx_dup_r dX5_next_27 ?_
        refine mx_get 5 5 (ref := "PrairiePool$Reader") cl_5 (Nat.le_of_ble_eq_true rfl) (Or.inl q389) (Or.inl rfl) dX5_next_28 (fv_5_5 _ _) (ly5_k La0_h) ?_
        refine mx_iconst dX5_next_31 ic_1 ?_
        refine mx_iadd dX5_next_32 ?_
        refine mx_putI 5 5 (ref := "PrairiePool$Reader") cl_5 (Nat.le_of_ble_eq_true rfl) (Or.inl q389) (Or.inl rfl) dX5_next_33 (Or.inl rfl) rfl (ly5_k La0_h) ?_
        refine mx_nmI  (fun h45 eh45 Xh45 Kh45 Lh45 => ?_)
        have H := H h45 eh45 Xh45
        have La0_h45 := La0_h.ext Xh45
        refine mx_goto (tgt := 0) dX5_next_36 rfl ?_
        exact mx_weak (al' := [some (rv a0), none]) ⟨rfl, trivial⟩ H
theorem v_X5_next_129 {G : ma_G} {d : Nat} {a0 : Nat} {h : ah_T} {Q : Option ma_V → ah_T → Prop} {E : Nat → ah_T → Prop} (La0_h : LY5 h a0) (H : ((ah_I h a0 2) ≤ (ah_I h a0 5) → (((ah_I h a0 5) - (ah_I h a0 4)) ≤ (6 : Int32) → ∀ h3 : ah_T, h3 = ah_wI h a0 3 (3 : Int32) → ah_ext h h3 → Q none h3) ∧ (¬ ((ah_I h a0 5) - (ah_I h a0 4)) ≤ (6 : Int32) → ∀ h4 : ah_T, h4 = ah_wI h a0 3 (1 : Int32) → ah_ext h h4 → Q none h4)) ∧ (¬ (ah_I h a0 2) ≤ (ah_I h a0 5) → vp_in (ah_I h a0 5) 500 ∧ (((ah_I h (a0 + 1) (ah_I h a0 5).toNatClampNeg) &&& (255 : Int32)) < (48 : Int32) → (((ah_I h a0 5) - (ah_I h a0 4)) ≤ (6 : Int32) → ∀ h8 : ah_T, h8 = ah_wI h a0 3 (3 : Int32) → ah_ext h h8 → Q none h8) ∧ (¬ ((ah_I h a0 5) - (ah_I h a0 4)) ≤ (6 : Int32) → ∀ h9 : ah_T, h9 = ah_wI h a0 3 (1 : Int32) → ah_ext h h9 → Q none h9)) ∧ (¬ ((ah_I h (a0 + 1) (ah_I h a0 5).toNatClampNeg) &&& (255 : Int32)) < (48 : Int32) → ((57 : Int32) < ((ah_I h (a0 + 1) (ah_I h a0 5).toNatClampNeg) &&& (255 : Int32)) → (((ah_I h a0 5) - (ah_I h a0 4)) ≤ (6 : Int32) → ∀ h12 : ah_T, h12 = ah_wI h a0 3 (3 : Int32) → ah_ext h h12 → Q none h12) ∧ (¬ ((ah_I h a0 5) - (ah_I h a0 4)) ≤ (6 : Int32) → ∀ h13 : ah_T, h13 = ah_wI h a0 3 (1 : Int32) → ah_ext h h13 → Q none h13)) ∧ (¬ (57 : Int32) < ((ah_I h (a0 + 1) (ah_I h a0 5).toNatClampNeg) &&& (255 : Int32)) → ∀ h14 : ah_T, h14 = ah_wJ h a0 6 (jMin (10000000 : Int64) ((((10 : Int64) * (ah_J h a0 6)) + ((ah_I h (a0 + 1) (ah_I h a0 5).toNatClampNeg) &&& (255 : Int32)).toInt64) - (48 : Int64))) → ah_ext h h14 → ∀ h15 : ah_T, h15 = ah_wI h14 a0 5 ((ah_I h a0 5) + (1 : Int32)) → ah_ext h14 h15 → MX G mi_X5_next (d + 1) 129 [some (rv a0), none] [] h15 Q E)))) : MX G mi_X5_next (d + 1) 129 [some (rv a0), none] [] h Q E := by
  refine mx_aload_n dX5_next_129 rfl rfl ?_
  refine mx_aload_n dX5_next_130 rfl rfl ?_
  refine mx_get 5 5 (ref := "PrairiePool$Reader") cl_5 (Nat.le_of_ble_eq_true rfl) (Or.inl q389) (Or.inl rfl) dX5_next_131 (fv_5_5 _ _) (ly5_k La0_h) ?_
  refine mx_callV 5 (y' := mi_X5_at) (vs := [iv (ah_I h a0 5)]) (st := []) (al' := [some (rv a0), some (iv (ah_I h a0 5))]) cl_5 V_X5_at (Or.inl q1210) dX5_next_134 rfl rfl (Nat.le_of_ble_eq_true rfl) (Nat.le_of_ble_eq_true rfl) (ly5_k La0_h) ?_
  refine mx_iload_n dX5_at_0 rfl rfl ?_
  refine mx_aload_n dX5_at_1 rfl rfl ?_
  refine mx_get 5 2 (ref := "PrairiePool$Reader") cl_5 (Nat.le_of_ble_eq_true rfl) (Or.inl q386) (Or.inl rfl) dX5_at_2 (fv_5_2 _ _) (ly5_k La0_h) ?_
  refine mx_icmp_ge (tgt := 21) dX5_at_5 rfl (fun c1 => ?_) (fun c1 => ?_)
  · have H := H.1 c1
    refine mx_iconst dX5_at_21 ic_m1 ?_
    refine mx_iretK rfl dX5_at_22 ?_
    refine mx_callS (y' := mi_X5_isDigit) (vs := [iv (-1 : Int32)]) (st := []) (al' := [some (iv (-1 : Int32))]) S_X5_isDigit q1217 dX5_next_137 rfl rfl (Nat.le_of_ble_eq_true rfl) (Nat.le_of_ble_eq_true rfl) ?_
    refine mx_iload_n dX5_isDigit_0 rfl rfl ?_
    refine mx_bipush dX5_isDigit_1 ib_48 ?_
    refine mx_icmp_lt (tgt := 16) dX5_isDigit_3 rfl (fun _ => ?_) (fun _ => absurd ‹_› (by decide))
    refine mx_iconst dX5_isDigit_16 ic_0 ?_
    refine mx_zretK rfl dX5_isDigit_17 (Or.inl rfl) ?_
    refine mx_if_eq (tgt := 188) dX5_next_140 rfl (fun _ => ?_) (fun _ => absurd ‹_› (by decide))
    refine mx_aload_n dX5_next_188 rfl rfl ?_
    refine mx_aload_n dX5_next_189 rfl rfl ?_
    refine mx_get 5 5 (ref := "PrairiePool$Reader") cl_5 (Nat.le_of_ble_eq_true rfl) (Or.inl q389) (Or.inl rfl) dX5_next_190 (fv_5_5 _ _) (ly5_k La0_h) ?_
    refine mx_aload_n dX5_next_193 rfl rfl ?_
    refine mx_get 5 4 (ref := "PrairiePool$Reader") cl_5 (Nat.le_of_ble_eq_true rfl) (Or.inl q388) (Or.inl rfl) dX5_next_194 (fv_5_4 _ _) (ly5_k La0_h) ?_
    refine mx_isub dX5_next_197 ?_
    refine mx_bipush dX5_next_198 ib_6 ?_
    refine mx_icmp_le (tgt := 207) dX5_next_200 rfl (fun c2 => ?_) (fun c2 => ?_)
    · have H := H.1 c2
      refine mx_iconst dX5_next_207 ic_3 ?_
      refine mx_putI 5 3 (ref := "PrairiePool$Reader") cl_5 (Nat.le_of_ble_eq_true rfl) (Or.inl q387) (Or.inl rfl) dX5_next_208 (Or.inl rfl) rfl (ly5_k La0_h) ?_
      refine mx_nmI  (fun h3 eh3 Xh3 Kh3 Lh3 => ?_)
      have H := H h3 eh3 Xh3
      have La0_h3 := La0_h.ext Xh3
      refine mx_goto (tgt := 240) dX5_next_211 rfl ?_
      exact mx_vret rfl dX5_next_240 H
    · have H := H.2 c2
      refine mx_iconst dX5_next_203 ic_1 ?_
      refine mx_goto (tgt := 208) dX5_next_204 rfl ?_
      refine mx_putI 5 3 (ref := "PrairiePool$Reader") cl_5 (Nat.le_of_ble_eq_true rfl) (Or.inl q387) (Or.inl rfl) dX5_next_208 (Or.inl rfl) rfl (ly5_k La0_h) ?_
      refine mx_nmI  (fun h4 eh4 Xh4 Kh4 Lh4 => ?_)
      have H := H h4 eh4 Xh4
      have La0_h4 := La0_h.ext Xh4
      refine mx_goto (tgt := 240) dX5_next_211 rfl ?_
      exact mx_vret rfl dX5_next_240 H
  · have H := H.2 c1
    refine mx_aload_n dX5_at_8 rfl rfl ?_
    refine mx_get 5 0 (ref := "PrairiePool$Reader") cl_5 (Nat.le_of_ble_eq_true rfl) (Or.inl q383) (Or.inl rfl) dX5_at_9 (fv_5_0 _ _) (ly5_k La0_h) ?_
    refine mx_tr (ly5_R_0_0 La0_h) ?_
    refine mx_iload_n dX5_at_12 rfl rfl ?_
    obtain ⟨k5, H⟩ := H
    refine my_bald dX5_at_13 rfl (ly5_A_1 La0_h k5) ?_
    refine mx_sipush dX5_at_14 is_255 ?_
    refine mx_iand dX5_at_17 ?_
    refine mx_goto (tgt := 22) dX5_at_18 rfl ?_
    refine mx_iretK rfl dX5_at_22 ?_
    refine mx_callS (y' := mi_X5_isDigit) (vs := [iv ((ah_I h (a0 + 1) (ah_I h a0 5).toNatClampNeg) &&& (255 : Int32))]) (st := []) (al' := [some (iv ((ah_I h (a0 + 1) (ah_I h a0 5).toNatClampNeg) &&& (255 : Int32)))]) S_X5_isDigit q1217 dX5_next_137 rfl rfl (Nat.le_of_ble_eq_true rfl) (Nat.le_of_ble_eq_true rfl) ?_
    refine mx_iload_n dX5_isDigit_0 rfl rfl ?_
    refine mx_bipush dX5_isDigit_1 ib_48 ?_
    refine mx_icmp_lt (tgt := 16) dX5_isDigit_3 rfl (fun c6 => ?_) (fun c6 => ?_)
    · have H := H.1 c6
      refine mx_iconst dX5_isDigit_16 ic_0 ?_
      refine mx_zretK rfl dX5_isDigit_17 (Or.inl rfl) ?_
      refine mx_if_eq (tgt := 188) dX5_next_140 rfl (fun _ => ?_) (fun _ => absurd ‹_› (by decide))
      refine mx_aload_n dX5_next_188 rfl rfl ?_
      refine mx_aload_n dX5_next_189 rfl rfl ?_
      refine mx_get 5 5 (ref := "PrairiePool$Reader") cl_5 (Nat.le_of_ble_eq_true rfl) (Or.inl q389) (Or.inl rfl) dX5_next_190 (fv_5_5 _ _) (ly5_k La0_h) ?_
      refine mx_aload_n dX5_next_193 rfl rfl ?_
      refine mx_get 5 4 (ref := "PrairiePool$Reader") cl_5 (Nat.le_of_ble_eq_true rfl) (Or.inl q388) (Or.inl rfl) dX5_next_194 (fv_5_4 _ _) (ly5_k La0_h) ?_
      refine mx_isub dX5_next_197 ?_
      refine mx_bipush dX5_next_198 ib_6 ?_
      refine mx_icmp_le (tgt := 207) dX5_next_200 rfl (fun c7 => ?_) (fun c7 => ?_)
      · have H := H.1 c7
        refine mx_iconst dX5_next_207 ic_3 ?_
        refine mx_putI 5 3 (ref := "PrairiePool$Reader") cl_5 (Nat.le_of_ble_eq_true rfl) (Or.inl q387) (Or.inl rfl) dX5_next_208 (Or.inl rfl) rfl (ly5_k La0_h) ?_
        refine mx_nmI  (fun h8 eh8 Xh8 Kh8 Lh8 => ?_)
        have H := H h8 eh8 Xh8
        have La0_h8 := La0_h.ext Xh8
        refine mx_goto (tgt := 240) dX5_next_211 rfl ?_
        exact mx_vret rfl dX5_next_240 H
      · have H := H.2 c7
        refine mx_iconst dX5_next_203 ic_1 ?_
        refine mx_goto (tgt := 208) dX5_next_204 rfl ?_
        refine mx_putI 5 3 (ref := "PrairiePool$Reader") cl_5 (Nat.le_of_ble_eq_true rfl) (Or.inl q387) (Or.inl rfl) dX5_next_208 (Or.inl rfl) rfl (ly5_k La0_h) ?_
        refine mx_nmI  (fun h9 eh9 Xh9 Kh9 Lh9 => ?_)
        have H := H h9 eh9 Xh9
        have La0_h9 := La0_h.ext Xh9
        refine mx_goto (tgt := 240) dX5_next_211 rfl ?_
        exact mx_vret rfl dX5_next_240 H
    · have H := H.2 c6
      refine mx_iload_n dX5_isDigit_6 rfl rfl ?_
      refine mx_bipush dX5_isDigit_7 ib_57 ?_
      refine mx_icmp_gt (tgt := 16) dX5_isDigit_9 rfl (fun c10 => ?_) (fun c10 => ?_)
      · have H := H.1 c10
        refine mx_iconst dX5_isDigit_16 ic_0 ?_
        refine mx_zretK rfl dX5_isDigit_17 (Or.inl rfl) ?_
        refine mx_if_eq (tgt := 188) dX5_next_140 rfl (fun _ => ?_) (fun _ => absurd ‹_› (by decide))
        refine mx_aload_n dX5_next_188 rfl rfl ?_
        refine mx_aload_n dX5_next_189 rfl rfl ?_
        refine mx_get 5 5 (ref := "PrairiePool$Reader") cl_5 (Nat.le_of_ble_eq_true rfl) (Or.inl q389) (Or.inl rfl) dX5_next_190 (fv_5_5 _ _) (ly5_k La0_h) ?_
        refine mx_aload_n dX5_next_193 rfl rfl ?_
        refine mx_get 5 4 (ref := "PrairiePool$Reader") cl_5 (Nat.le_of_ble_eq_true rfl) (Or.inl q388) (Or.inl rfl) dX5_next_194 (fv_5_4 _ _) (ly5_k La0_h) ?_
        refine mx_isub dX5_next_197 ?_
        refine mx_bipush dX5_next_198 ib_6 ?_
        refine mx_icmp_le (tgt := 207) dX5_next_200 rfl (fun c11 => ?_) (fun c11 => ?_)
        · have H := H.1 c11
          refine mx_iconst dX5_next_207 ic_3 ?_
          refine mx_putI 5 3 (ref := "PrairiePool$Reader") cl_5 (Nat.le_of_ble_eq_true rfl) (Or.inl q387) (Or.inl rfl) dX5_next_208 (Or.inl rfl) rfl (ly5_k La0_h) ?_
          refine mx_nmI  (fun h12 eh12 Xh12 Kh12 Lh12 => ?_)
          have H := H h12 eh12 Xh12
          have La0_h12 := La0_h.ext Xh12
          refine mx_goto (tgt := 240) dX5_next_211 rfl ?_
          exact mx_vret rfl dX5_next_240 H
        · have H := H.2 c11
          refine mx_iconst dX5_next_203 ic_1 ?_
          refine mx_goto (tgt := 208) dX5_next_204 rfl ?_
          refine mx_putI 5 3 (ref := "PrairiePool$Reader") cl_5 (Nat.le_of_ble_eq_true rfl) (Or.inl q387) (Or.inl rfl) dX5_next_208 (Or.inl rfl) rfl (ly5_k La0_h) ?_
          refine mx_nmI  (fun h13 eh13 Xh13 Kh13 Lh13 => ?_)
          have H := H h13 eh13 Xh13
          have La0_h13 := La0_h.ext Xh13
          refine mx_goto (tgt := 240) dX5_next_211 rfl ?_
          exact mx_vret rfl dX5_next_240 H
      · have H := H.2 c10
        refine mx_iconst dX5_isDigit_12 ic_1 ?_
        refine mx_goto (tgt := 17) dX5_isDigit_13 rfl ?_
        refine mx_zretK rfl dX5_isDigit_17 (Or.inr rfl) ?_
        refine mx_if_eq (tgt := 188) dX5_next_140 rfl (fun _ => absurd ‹_› (by decide)) (fun _ => ?_)
        refine mx_aload_n dX5_next_143 rfl rfl ?_
        refine mx_ldc2 q1220 dX5_next_144 ?_
        refine mx_ldc2 q1221 dX5_next_147 ?_
        refine mx_aload_n dX5_next_150 rfl rfl ?_
        refine mx_get 5 6 (ref := "PrairiePool$Reader") cl_5 (Nat.le_of_ble_eq_true rfl) (Or.inl q390) (Or.inl rfl) dX5_next_151 (fv_5_6 _ _) (ly5_k La0_h) ?_
        refine mx_lmul dX5_next_154 ?_
        refine mx_aload_n dX5_next_155 rfl rfl ?_
        refine mx_aload_n dX5_next_156 rfl rfl ?_
        refine mx_get 5 5 (ref := "PrairiePool$Reader") cl_5 (Nat.le_of_ble_eq_true rfl) (Or.inl q389) (Or.inl rfl) dX5_next_157 (fv_5_5 _ _) (ly5_k La0_h) ?_
        refine mx_callV 5 (y' := mi_X5_at) (vs := [iv (ah_I h a0 5)]) (st := [jv ((10 : Int64) * (ah_J h a0 6)), jv (10000000 : Int64), rv a0]) (al' := [some (rv a0), some (iv (ah_I h a0 5))]) cl_5 V_X5_at (Or.inl q1210) dX5_next_160 rfl rfl (Nat.le_of_ble_eq_true rfl) (Nat.le_of_ble_eq_true rfl) (ly5_k La0_h) ?_
        refine mx_iload_n dX5_at_0 rfl rfl ?_
        refine mx_aload_n dX5_at_1 rfl rfl ?_
        refine mx_get 5 2 (ref := "PrairiePool$Reader") cl_5 (Nat.le_of_ble_eq_true rfl) (Or.inl q386) (Or.inl rfl) dX5_at_2 (fv_5_2 _ _) (ly5_k La0_h) ?_
        refine mx_icmp_ge (tgt := 21) dX5_at_5 rfl (fun q_ => absurd q_ c1) (fun _ => ?_)
        refine mx_aload_n dX5_at_8 rfl rfl ?_
        refine mx_get 5 0 (ref := "PrairiePool$Reader") cl_5 (Nat.le_of_ble_eq_true rfl) (Or.inl q383) (Or.inl rfl) dX5_at_9 (fv_5_0 _ _) (ly5_k La0_h) ?_
        refine mx_tr (ly5_R_0_0 La0_h) ?_
        refine mx_iload_n dX5_at_12 rfl rfl ?_
        refine my_bald dX5_at_13 rfl (ly5_A_1 La0_h k5) ?_
        refine mx_sipush dX5_at_14 is_255 ?_
        refine mx_iand dX5_at_17 ?_
        refine mx_goto (tgt := 22) dX5_at_18 rfl ?_
        refine mx_iretK rfl dX5_at_22 ?_
        refine mx_i2l dX5_next_163 ?_
        refine mx_ladd dX5_next_164 ?_
        refine mx_ldc2 q1222 dX5_next_165 ?_
        refine mx_lsub dX5_next_168 ?_
        refine mx_callS (y' := mi_J8_min) (vs := [jv (10000000 : Int64), jv ((((10 : Int64) * (ah_J h a0 6)) + ((ah_I h (a0 + 1) (ah_I h a0 5).toNatClampNeg) &&& (255 : Int32)).toInt64) - (48 : Int64))]) (st := [rv a0]) (al' := [some (jv (10000000 : Int64)), none, some (jv ((((10 : Int64) * (ah_J h a0 6)) + ((ah_I h (a0 + 1) (ah_I h a0 5).toNatClampNeg) &&& (255 : Int32)).toInt64) - (48 : Int64))), none]) S_J8_min q1223 dX5_next_169 rfl rfl (Nat.le_of_ble_eq_true rfl) (Nat.le_of_ble_eq_true rfl) ?_
        refine pv_J8_min ?_
        refine mx_putJ 5 6 (ref := "PrairiePool$Reader") cl_5 (Nat.le_of_ble_eq_true rfl) (Or.inl q390) (Or.inl rfl) dX5_next_172 (Or.inl rfl) rfl (ly5_k La0_h) ?_
        refine mx_nmJ  (fun h14 eh14 Xh14 Kh14 Lh14 => ?_)
        have H := H h14 eh14 Xh14
        have La0_h14 := La0_h.ext Xh14
        refine mx_aload_n dX5_next_175 rfl rfl ?_
        refine mx_dup_r dX5_next_176 ?_
        refine mx_get 5 5 (ref := "PrairiePool$Reader") cl_5 (Nat.le_of_ble_eq_true rfl) (Or.inl q389) (Or.inl rfl) dX5_next_177 (fv_5_5 _ _) (ly5_k La0_h14) ?_
        refine mx_ti (ah_IJ eh14) ?_
        refine mx_iconst dX5_next_180 ic_1 ?_
        refine mx_iadd dX5_next_181 ?_
        refine mx_putI 5 5 (ref := "PrairiePool$Reader") cl_5 (Nat.le_of_ble_eq_true rfl) (Or.inl q389) (Or.inl rfl) dX5_next_182 (Or.inl rfl) rfl (ly5_k La0_h14) ?_
        refine mx_nmI  (fun h15 eh15 Xh15 Kh15 Lh15 => ?_)
        have H := H h15 eh15 Xh15
        have Kh15 := Kh15.trans Kh14
        have Lh15 := Lh15.trans Lh14
        have La0_h15 := La0_h14.ext Xh15
        refine mx_goto (tgt := 129) dX5_next_185 rfl ?_
        exact mx_weak (al' := [some (rv a0), none]) ⟨rfl, trivial⟩ H
theorem v_X5_next_82 {G : ma_G} {d : Nat} {a0 : Nat} {h : ah_T} {Q : Option ma_V → ah_T → Prop} {E : Nat → ah_T → Prop} (La0_h : LY5 h a0) (H : ((ah_I h a0 2) ≤ (ah_I h a0 5) → ∀ h2 : ah_T, h2 = ah_wI h a0 3 (2 : Int32) → ah_ext h h2 → Q none h2) ∧ (¬ (ah_I h a0 2) ≤ (ah_I h a0 5) → vp_in (ah_I h a0 5) 500 ∧ (((ah_I h (a0 + 1) (ah_I h a0 5).toNatClampNeg) &&& (255 : Int32)) < (97 : Int32) → ∀ h5 : ah_T, h5 = ah_wI h a0 3 (2 : Int32) → ah_ext h h5 → Q none h5) ∧ (¬ ((ah_I h (a0 + 1) (ah_I h a0 5).toNatClampNeg) &&& (255 : Int32)) < (97 : Int32) → ((122 : Int32) < ((ah_I h (a0 + 1) (ah_I h a0 5).toNatClampNeg) &&& (255 : Int32)) → ∀ h7 : ah_T, h7 = ah_wI h a0 3 (2 : Int32) → ah_ext h h7 → Q none h7) ∧ (¬ (122 : Int32) < ((ah_I h (a0 + 1) (ah_I h a0 5).toNatClampNeg) &&& (255 : Int32)) → ∀ h8 : ah_T, h8 = ah_wI h a0 5 ((ah_I h a0 5) + (1 : Int32)) → ah_ext h h8 → MX G mi_X5_next (d + 1) 82 [some (rv a0), none] [] h8 Q E)))) : MX G mi_X5_next (d + 1) 82 [some (rv a0), none] [] h Q E := by
  refine mx_aload_n dX5_next_82 rfl rfl ?_
  refine mx_aload_n dX5_next_83 rfl rfl ?_
  refine mx_get 5 5 (ref := "PrairiePool$Reader") cl_5 (Nat.le_of_ble_eq_true rfl) (Or.inl q389) (Or.inl rfl) dX5_next_84 (fv_5_5 _ _) (ly5_k La0_h) ?_
  refine mx_callV 5 (y' := mi_X5_at) (vs := [iv (ah_I h a0 5)]) (st := []) (al' := [some (rv a0), some (iv (ah_I h a0 5))]) cl_5 V_X5_at (Or.inl q1210) dX5_next_87 rfl rfl (Nat.le_of_ble_eq_true rfl) (Nat.le_of_ble_eq_true rfl) (ly5_k La0_h) ?_
  refine mx_iload_n dX5_at_0 rfl rfl ?_
  refine mx_aload_n dX5_at_1 rfl rfl ?_
  refine mx_get 5 2 (ref := "PrairiePool$Reader") cl_5 (Nat.le_of_ble_eq_true rfl) (Or.inl q386) (Or.inl rfl) dX5_at_2 (fv_5_2 _ _) (ly5_k La0_h) ?_
  refine mx_icmp_ge (tgt := 21) dX5_at_5 rfl (fun c1 => ?_) (fun c1 => ?_)
  · have H := H.1 c1
    refine mx_iconst dX5_at_21 ic_m1 ?_
    refine mx_iretK rfl dX5_at_22 ?_
    refine mx_callS (y' := mi_X5_isSmall) (vs := [iv (-1 : Int32)]) (st := []) (al' := [some (iv (-1 : Int32))]) S_X5_isSmall q1214 dX5_next_90 rfl rfl (Nat.le_of_ble_eq_true rfl) (Nat.le_of_ble_eq_true rfl) ?_
    refine mx_iload_n dX5_isSmall_0 rfl rfl ?_
    refine mx_bipush dX5_isSmall_1 ib_97 ?_
    refine mx_icmp_lt (tgt := 16) dX5_isSmall_3 rfl (fun _ => ?_) (fun _ => absurd ‹_› (by decide))
    refine mx_iconst dX5_isSmall_16 ic_0 ?_
    refine mx_zretK rfl dX5_isSmall_17 (Or.inl rfl) ?_
    refine mx_if_eq (tgt := 109) dX5_next_93 rfl (fun _ => ?_) (fun _ => absurd ‹_› (by decide))
    refine mx_aload_n dX5_next_109 rfl rfl ?_
    refine mx_iconst dX5_next_110 ic_2 ?_
    refine mx_putI 5 3 (ref := "PrairiePool$Reader") cl_5 (Nat.le_of_ble_eq_true rfl) (Or.inl q387) (Or.inl rfl) dX5_next_111 (Or.inl rfl) rfl (ly5_k La0_h) ?_
    refine mx_nmI  (fun h2 eh2 Xh2 Kh2 Lh2 => ?_)
    have H := H h2 eh2 Xh2
    have La0_h2 := La0_h.ext Xh2
    refine mx_goto (tgt := 240) dX5_next_114 rfl ?_
    exact mx_vret rfl dX5_next_240 H
  · have H := H.2 c1
    refine mx_aload_n dX5_at_8 rfl rfl ?_
    refine mx_get 5 0 (ref := "PrairiePool$Reader") cl_5 (Nat.le_of_ble_eq_true rfl) (Or.inl q383) (Or.inl rfl) dX5_at_9 (fv_5_0 _ _) (ly5_k La0_h) ?_
    refine mx_tr (ly5_R_0_0 La0_h) ?_
    refine mx_iload_n dX5_at_12 rfl rfl ?_
    obtain ⟨k3, H⟩ := H
    refine my_bald dX5_at_13 rfl (ly5_A_1 La0_h k3) ?_
    refine mx_sipush dX5_at_14 is_255 ?_
    refine mx_iand dX5_at_17 ?_
    refine mx_goto (tgt := 22) dX5_at_18 rfl ?_
    refine mx_iretK rfl dX5_at_22 ?_
    refine mx_callS (y' := mi_X5_isSmall) (vs := [iv ((ah_I h (a0 + 1) (ah_I h a0 5).toNatClampNeg) &&& (255 : Int32))]) (st := []) (al' := [some (iv ((ah_I h (a0 + 1) (ah_I h a0 5).toNatClampNeg) &&& (255 : Int32)))]) S_X5_isSmall q1214 dX5_next_90 rfl rfl (Nat.le_of_ble_eq_true rfl) (Nat.le_of_ble_eq_true rfl) ?_
    refine mx_iload_n dX5_isSmall_0 rfl rfl ?_
    refine mx_bipush dX5_isSmall_1 ib_97 ?_
    refine mx_icmp_lt (tgt := 16) dX5_isSmall_3 rfl (fun c4 => ?_) (fun c4 => ?_)
    · have H := H.1 c4
      refine mx_iconst dX5_isSmall_16 ic_0 ?_
      refine mx_zretK rfl dX5_isSmall_17 (Or.inl rfl) ?_
      refine mx_if_eq (tgt := 109) dX5_next_93 rfl (fun _ => ?_) (fun _ => absurd ‹_› (by decide))
      refine mx_aload_n dX5_next_109 rfl rfl ?_
      refine mx_iconst dX5_next_110 ic_2 ?_
      refine mx_putI 5 3 (ref := "PrairiePool$Reader") cl_5 (Nat.le_of_ble_eq_true rfl) (Or.inl q387) (Or.inl rfl) dX5_next_111 (Or.inl rfl) rfl (ly5_k La0_h) ?_
      refine mx_nmI  (fun h5 eh5 Xh5 Kh5 Lh5 => ?_)
      have H := H h5 eh5 Xh5
      have La0_h5 := La0_h.ext Xh5
      refine mx_goto (tgt := 240) dX5_next_114 rfl ?_
      exact mx_vret rfl dX5_next_240 H
    · have H := H.2 c4
      refine mx_iload_n dX5_isSmall_6 rfl rfl ?_
      refine mx_bipush dX5_isSmall_7 ib_122 ?_
      refine mx_icmp_gt (tgt := 16) dX5_isSmall_9 rfl (fun c6 => ?_) (fun c6 => ?_)
      · have H := H.1 c6
        refine mx_iconst dX5_isSmall_16 ic_0 ?_
        refine mx_zretK rfl dX5_isSmall_17 (Or.inl rfl) ?_
        refine mx_if_eq (tgt := 109) dX5_next_93 rfl (fun _ => ?_) (fun _ => absurd ‹_› (by decide))
        refine mx_aload_n dX5_next_109 rfl rfl ?_
        refine mx_iconst dX5_next_110 ic_2 ?_
        refine mx_putI 5 3 (ref := "PrairiePool$Reader") cl_5 (Nat.le_of_ble_eq_true rfl) (Or.inl q387) (Or.inl rfl) dX5_next_111 (Or.inl rfl) rfl (ly5_k La0_h) ?_
        refine mx_nmI  (fun h7 eh7 Xh7 Kh7 Lh7 => ?_)
        have H := H h7 eh7 Xh7
        have La0_h7 := La0_h.ext Xh7
        refine mx_goto (tgt := 240) dX5_next_114 rfl ?_
        exact mx_vret rfl dX5_next_240 H
      · have H := H.2 c6
        refine mx_iconst dX5_isSmall_12 ic_1 ?_
        refine mx_goto (tgt := 17) dX5_isSmall_13 rfl ?_
        refine mx_zretK rfl dX5_isSmall_17 (Or.inr rfl) ?_
        refine mx_if_eq (tgt := 109) dX5_next_93 rfl (fun _ => absurd ‹_› (by decide)) (fun _ => ?_)
        refine mx_aload_n dX5_next_96 rfl rfl ?_
        refine mx_dup_r dX5_next_97 ?_
        refine mx_get 5 5 (ref := "PrairiePool$Reader") cl_5 (Nat.le_of_ble_eq_true rfl) (Or.inl q389) (Or.inl rfl) dX5_next_98 (fv_5_5 _ _) (ly5_k La0_h) ?_
        refine mx_iconst dX5_next_101 ic_1 ?_
        refine mx_iadd dX5_next_102 ?_
        refine mx_putI 5 5 (ref := "PrairiePool$Reader") cl_5 (Nat.le_of_ble_eq_true rfl) (Or.inl q389) (Or.inl rfl) dX5_next_103 (Or.inl rfl) rfl (ly5_k La0_h) ?_
        refine mx_nmI  (fun h8 eh8 Xh8 Kh8 Lh8 => ?_)
        have H := H h8 eh8 Xh8
        have La0_h8 := La0_h.ext Xh8
        refine mx_goto (tgt := 82) dX5_next_106 rfl ?_
        exact mx_weak (al' := [some (rv a0), none]) ⟨rfl, trivial⟩ H
theorem v_X5_at {G : ma_G} {d : Nat} {a0 : Nat} {x1 : Int32} {h : ah_T} {Q : Option ma_V → ah_T → Prop} {E : Nat → ah_T → Prop} (La0_h : LY5 h a0) (H : ((ah_I h a0 2) ≤ x1 → Q (some (iv (-1 : Int32))) h) ∧ (¬ (ah_I h a0 2) ≤ x1 → vp_in x1 500 ∧ Q (some (iv ((ah_I h (a0 + 1) x1.toNatClampNeg) &&& (255 : Int32)))) h)) : MX G mi_X5_at d 0 [some (rv a0), some (iv x1)] [] h Q E := by
  refine mx_iload_n dX5_at_0 rfl rfl ?_
  refine mx_aload_n dX5_at_1 rfl rfl ?_
  refine mx_get 5 2 (ref := "PrairiePool$Reader") cl_5 (Nat.le_of_ble_eq_true rfl) (Or.inl q386) (Or.inl rfl) dX5_at_2 (fv_5_2 _ _) (ly5_k La0_h) ?_
  refine mx_icmp_ge (tgt := 21) dX5_at_5 rfl (fun c1 => ?_) (fun c1 => ?_)
  · have H := H.1 c1
    refine mx_iconst dX5_at_21 ic_m1 ?_
    exact mx_iret rfl dX5_at_22 H
  · have H := H.2 c1
    refine mx_aload_n dX5_at_8 rfl rfl ?_
    refine mx_get 5 0 (ref := "PrairiePool$Reader") cl_5 (Nat.le_of_ble_eq_true rfl) (Or.inl q383) (Or.inl rfl) dX5_at_9 (fv_5_0 _ _) (ly5_k La0_h) ?_
    refine mx_tr (ly5_R_0_0 La0_h) ?_
    refine mx_iload_n dX5_at_12 rfl rfl ?_
    obtain ⟨k2, H⟩ := H
    refine my_bald dX5_at_13 rfl (ly5_A_1 La0_h k2) ?_
    refine mx_sipush dX5_at_14 is_255 ?_
    refine mx_iand dX5_at_17 ?_
    refine mx_goto (tgt := 22) dX5_at_18 rfl ?_
    exact mx_iret rfl dX5_at_22 H
theorem v_X5_isSmall {G : ma_G} {d : Nat} {x0 : Int32} {h : ah_T} {Q : Option ma_V → ah_T → Prop} {E : Nat → ah_T → Prop}  (H : (x0 < (97 : Int32) → Q (some (iv (0 : Int32))) h) ∧ (¬ x0 < (97 : Int32) → ((122 : Int32) < x0 → Q (some (iv (0 : Int32))) h) ∧ (¬ (122 : Int32) < x0 → Q (some (iv (1 : Int32))) h))) : MX G mi_X5_isSmall d 0 [some (iv x0)] [] h Q E := by
  refine mx_iload_n dX5_isSmall_0 rfl rfl ?_
  refine mx_bipush dX5_isSmall_1 ib_97 ?_
  refine mx_icmp_lt (tgt := 16) dX5_isSmall_3 rfl (fun c1 => ?_) (fun c1 => ?_)
  · have H := H.1 c1
    refine mx_iconst dX5_isSmall_16 ic_0 ?_
    exact mx_zret rfl dX5_isSmall_17 (Or.inl rfl) H
  · have H := H.2 c1
    refine mx_iload_n dX5_isSmall_6 rfl rfl ?_
    refine mx_bipush dX5_isSmall_7 ib_122 ?_
    refine mx_icmp_gt (tgt := 16) dX5_isSmall_9 rfl (fun c2 => ?_) (fun c2 => ?_)
    · have H := H.1 c2
      refine mx_iconst dX5_isSmall_16 ic_0 ?_
      exact mx_zret rfl dX5_isSmall_17 (Or.inl rfl) H
    · have H := H.2 c2
      refine mx_iconst dX5_isSmall_12 ic_1 ?_
      refine mx_goto (tgt := 17) dX5_isSmall_13 rfl ?_
      exact mx_zret rfl dX5_isSmall_17 (Or.inr rfl) H
theorem v_X5_isDigit {G : ma_G} {d : Nat} {x0 : Int32} {h : ah_T} {Q : Option ma_V → ah_T → Prop} {E : Nat → ah_T → Prop}  (H : (x0 < (48 : Int32) → Q (some (iv (0 : Int32))) h) ∧ (¬ x0 < (48 : Int32) → ((57 : Int32) < x0 → Q (some (iv (0 : Int32))) h) ∧ (¬ (57 : Int32) < x0 → Q (some (iv (1 : Int32))) h))) : MX G mi_X5_isDigit d 0 [some (iv x0)] [] h Q E := by
  refine mx_iload_n dX5_isDigit_0 rfl rfl ?_
  refine mx_bipush dX5_isDigit_1 ib_48 ?_
  refine mx_icmp_lt (tgt := 16) dX5_isDigit_3 rfl (fun c1 => ?_) (fun c1 => ?_)
  · have H := H.1 c1
    refine mx_iconst dX5_isDigit_16 ic_0 ?_
    exact mx_zret rfl dX5_isDigit_17 (Or.inl rfl) H
  · have H := H.2 c1
    refine mx_iload_n dX5_isDigit_6 rfl rfl ?_
    refine mx_bipush dX5_isDigit_7 ib_57 ?_
    refine mx_icmp_gt (tgt := 16) dX5_isDigit_9 rfl (fun c2 => ?_) (fun c2 => ?_)
    · have H := H.1 c2
      refine mx_iconst dX5_isDigit_16 ic_0 ?_
      exact mx_zret rfl dX5_isDigit_17 (Or.inl rfl) H
    · have H := H.2 c2
      refine mx_iconst dX5_isDigit_12 ic_1 ?_
      refine mx_goto (tgt := 17) dX5_isDigit_13 rfl ?_
      exact mx_zret rfl dX5_isDigit_17 (Or.inr rfl) H
theorem dX5_isSign_0 : decode mi_X5_isSign.2.1 0 = .ok (.iload_n 0, 1) := by decide +kernel
theorem dX5_isSign_1 : decode mi_X5_isSign.2.1 1 = .ok (.bipush 58, 2) := by decide +kernel
theorem dX5_isSign_3 : decode mi_X5_isSign.2.1 3 = .ok (.if_icmp .eq 75, 3) := by decide +kernel
theorem dX5_isSign_6 : decode mi_X5_isSign.2.1 6 = .ok (.iload_n 0, 1) := by decide +kernel
theorem dX5_isSign_7 : decode mi_X5_isSign.2.1 7 = .ok (.bipush 59, 2) := by decide +kernel
theorem dX5_isSign_9 : decode mi_X5_isSign.2.1 9 = .ok (.if_icmp .eq 69, 3) := by decide +kernel
theorem dX5_isSign_12 : decode mi_X5_isSign.2.1 12 = .ok (.iload_n 0, 1) := by decide +kernel
theorem dX5_isSign_13 : decode mi_X5_isSign.2.1 13 = .ok (.bipush 60, 2) := by decide +kernel
theorem dX5_isSign_15 : decode mi_X5_isSign.2.1 15 = .ok (.if_icmp .eq 63, 3) := by decide +kernel
theorem dX5_isSign_18 : decode mi_X5_isSign.2.1 18 = .ok (.iload_n 0, 1) := by decide +kernel
theorem dX5_isSign_19 : decode mi_X5_isSign.2.1 19 = .ok (.bipush 62, 2) := by decide +kernel
theorem dX5_isSign_21 : decode mi_X5_isSign.2.1 21 = .ok (.if_icmp .eq 57, 3) := by decide +kernel
theorem dX5_isSign_24 : decode mi_X5_isSign.2.1 24 = .ok (.iload_n 0, 1) := by decide +kernel
theorem dX5_isSign_25 : decode mi_X5_isSign.2.1 25 = .ok (.bipush 61, 2) := by decide +kernel
theorem dX5_isSign_27 : decode mi_X5_isSign.2.1 27 = .ok (.if_icmp .eq 51, 3) := by decide +kernel
theorem dX5_isSign_30 : decode mi_X5_isSign.2.1 30 = .ok (.iload_n 0, 1) := by decide +kernel
theorem dX5_isSign_31 : decode mi_X5_isSign.2.1 31 = .ok (.bipush 43, 2) := by decide +kernel
theorem dX5_isSign_33 : decode mi_X5_isSign.2.1 33 = .ok (.if_icmp .eq 45, 3) := by decide +kernel
theorem dX5_isSign_36 : decode mi_X5_isSign.2.1 36 = .ok (.iload_n 0, 1) := by decide +kernel
theorem dX5_isSign_37 : decode mi_X5_isSign.2.1 37 = .ok (.bipush 45, 2) := by decide +kernel
theorem dX5_isSign_39 : decode mi_X5_isSign.2.1 39 = .ok (.if_icmp .eq 39, 3) := by decide +kernel
theorem dX5_isSign_42 : decode mi_X5_isSign.2.1 42 = .ok (.iload_n 0, 1) := by decide +kernel
theorem dX5_isSign_43 : decode mi_X5_isSign.2.1 43 = .ok (.bipush 42, 2) := by decide +kernel
theorem dX5_isSign_45 : decode mi_X5_isSign.2.1 45 = .ok (.if_icmp .eq 33, 3) := by decide +kernel
theorem dX5_isSign_48 : decode mi_X5_isSign.2.1 48 = .ok (.iload_n 0, 1) := by decide +kernel
theorem dX5_isSign_49 : decode mi_X5_isSign.2.1 49 = .ok (.bipush 47, 2) := by decide +kernel
theorem dX5_isSign_51 : decode mi_X5_isSign.2.1 51 = .ok (.if_icmp .eq 27, 3) := by decide +kernel
theorem dX5_isSign_54 : decode mi_X5_isSign.2.1 54 = .ok (.iload_n 0, 1) := by decide +kernel
theorem dX5_isSign_55 : decode mi_X5_isSign.2.1 55 = .ok (.bipush 37, 2) := by decide +kernel
theorem dX5_isSign_57 : decode mi_X5_isSign.2.1 57 = .ok (.if_icmp .eq 21, 3) := by decide +kernel
theorem dX5_isSign_60 : decode mi_X5_isSign.2.1 60 = .ok (.iload_n 0, 1) := by decide +kernel
theorem dX5_isSign_61 : decode mi_X5_isSign.2.1 61 = .ok (.bipush 40, 2) := by decide +kernel
theorem dX5_isSign_63 : decode mi_X5_isSign.2.1 63 = .ok (.if_icmp .eq 15, 3) := by decide +kernel
theorem dX5_isSign_66 : decode mi_X5_isSign.2.1 66 = .ok (.iload_n 0, 1) := by decide +kernel
theorem dX5_isSign_67 : decode mi_X5_isSign.2.1 67 = .ok (.bipush 41, 2) := by decide +kernel
theorem dX5_isSign_69 : decode mi_X5_isSign.2.1 69 = .ok (.if_icmp .eq 9, 3) := by decide +kernel
theorem dX5_isSign_72 : decode mi_X5_isSign.2.1 72 = .ok (.iload_n 0, 1) := by decide +kernel
theorem dX5_isSign_73 : decode mi_X5_isSign.2.1 73 = .ok (.bipush 44, 2) := by decide +kernel
theorem dX5_isSign_75 : decode mi_X5_isSign.2.1 75 = .ok (.if_icmp .ne 7, 3) := by decide +kernel
theorem dX5_isSign_78 : decode mi_X5_isSign.2.1 78 = .ok (.iconst 1, 1) := by decide +kernel
theorem dX5_isSign_79 : decode mi_X5_isSign.2.1 79 = .ok (.goto 4, 3) := by decide +kernel
theorem dX5_isSign_82 : decode mi_X5_isSign.2.1 82 = .ok (.iconst 0, 1) := by decide +kernel
theorem dX5_isSign_83 : decode mi_X5_isSign.2.1 83 = .ok (.ireturn, 1) := by decide +kernel
theorem v_X5_isSign {G : ma_G} {d : Nat} {x0 : Int32} {h : ah_T} {Q : Option ma_V → ah_T → Prop} {E : Nat → ah_T → Prop}  (H : (x0 = (58 : Int32) → Q (some (iv (1 : Int32))) h) ∧ (¬ x0 = (58 : Int32) → (x0 = (59 : Int32) → Q (some (iv (1 : Int32))) h) ∧ (¬ x0 = (59 : Int32) → (x0 = (60 : Int32) → Q (some (iv (1 : Int32))) h) ∧ (¬ x0 = (60 : Int32) → (x0 = (62 : Int32) → Q (some (iv (1 : Int32))) h) ∧ (¬ x0 = (62 : Int32) → (x0 = (61 : Int32) → Q (some (iv (1 : Int32))) h) ∧ (¬ x0 = (61 : Int32) → (x0 = (43 : Int32) → Q (some (iv (1 : Int32))) h) ∧ (¬ x0 = (43 : Int32) → (x0 = (45 : Int32) → Q (some (iv (1 : Int32))) h) ∧ (¬ x0 = (45 : Int32) → (x0 = (42 : Int32) → Q (some (iv (1 : Int32))) h) ∧ (¬ x0 = (42 : Int32) → (x0 = (47 : Int32) → Q (some (iv (1 : Int32))) h) ∧ (¬ x0 = (47 : Int32) → (x0 = (37 : Int32) → Q (some (iv (1 : Int32))) h) ∧ (¬ x0 = (37 : Int32) → (x0 = (40 : Int32) → Q (some (iv (1 : Int32))) h) ∧ (¬ x0 = (40 : Int32) → (x0 = (41 : Int32) → Q (some (iv (1 : Int32))) h) ∧ (¬ x0 = (41 : Int32) → (¬ x0 = (44 : Int32) → Q (some (iv (0 : Int32))) h) ∧ (x0 = (44 : Int32) → Q (some (iv (1 : Int32))) h)))))))))))))) : MX G mi_X5_isSign d 0 [some (iv x0)] [] h Q E := by
  refine mx_iload_n dX5_isSign_0 rfl rfl ?_
  refine mx_bipush dX5_isSign_1 ib_58 ?_
  refine mx_icmp_eq (tgt := 78) dX5_isSign_3 rfl (fun c1 => ?_) (fun c1 => ?_)
  · have H := H.1 c1
    refine mx_iconst dX5_isSign_78 ic_1 ?_
    refine mx_goto (tgt := 83) dX5_isSign_79 rfl ?_
    exact mx_zret rfl dX5_isSign_83 (Or.inr rfl) H
  · have H := H.2 c1
    refine mx_iload_n dX5_isSign_6 rfl rfl ?_
    refine mx_bipush dX5_isSign_7 ib_59 ?_
    refine mx_icmp_eq (tgt := 78) dX5_isSign_9 rfl (fun c2 => ?_) (fun c2 => ?_)
    · have H := H.1 c2
      refine mx_iconst dX5_isSign_78 ic_1 ?_
      refine mx_goto (tgt := 83) dX5_isSign_79 rfl ?_
      exact mx_zret rfl dX5_isSign_83 (Or.inr rfl) H
    · have H := H.2 c2
      refine mx_iload_n dX5_isSign_12 rfl rfl ?_
      refine mx_bipush dX5_isSign_13 ib_60 ?_
      refine mx_icmp_eq (tgt := 78) dX5_isSign_15 rfl (fun c3 => ?_) (fun c3 => ?_)
      · have H := H.1 c3
        refine mx_iconst dX5_isSign_78 ic_1 ?_
        refine mx_goto (tgt := 83) dX5_isSign_79 rfl ?_
        exact mx_zret rfl dX5_isSign_83 (Or.inr rfl) H
      · have H := H.2 c3
        refine mx_iload_n dX5_isSign_18 rfl rfl ?_
        refine mx_bipush dX5_isSign_19 ib_62 ?_
        refine mx_icmp_eq (tgt := 78) dX5_isSign_21 rfl (fun c4 => ?_) (fun c4 => ?_)
        · have H := H.1 c4
          refine mx_iconst dX5_isSign_78 ic_1 ?_
          refine mx_goto (tgt := 83) dX5_isSign_79 rfl ?_
          exact mx_zret rfl dX5_isSign_83 (Or.inr rfl) H
        · have H := H.2 c4
          refine mx_iload_n dX5_isSign_24 rfl rfl ?_
          refine mx_bipush dX5_isSign_25 ib_61 ?_
          refine mx_icmp_eq (tgt := 78) dX5_isSign_27 rfl (fun c5 => ?_) (fun c5 => ?_)
          · have H := H.1 c5
            refine mx_iconst dX5_isSign_78 ic_1 ?_
            refine mx_goto (tgt := 83) dX5_isSign_79 rfl ?_
            exact mx_zret rfl dX5_isSign_83 (Or.inr rfl) H
          · have H := H.2 c5
            refine mx_iload_n dX5_isSign_30 rfl rfl ?_
            refine mx_bipush dX5_isSign_31 ib_43 ?_
            refine mx_icmp_eq (tgt := 78) dX5_isSign_33 rfl (fun c6 => ?_) (fun c6 => ?_)
            · have H := H.1 c6
              refine mx_iconst dX5_isSign_78 ic_1 ?_
              refine mx_goto (tgt := 83) dX5_isSign_79 rfl ?_
              exact mx_zret rfl dX5_isSign_83 (Or.inr rfl) H
            · have H := H.2 c6
              refine mx_iload_n dX5_isSign_36 rfl rfl ?_
              refine mx_bipush dX5_isSign_37 ib_45 ?_
              refine mx_icmp_eq (tgt := 78) dX5_isSign_39 rfl (fun c7 => ?_) (fun c7 => ?_)
              · have H := H.1 c7
                refine mx_iconst dX5_isSign_78 ic_1 ?_
                refine mx_goto (tgt := 83) dX5_isSign_79 rfl ?_
                exact mx_zret rfl dX5_isSign_83 (Or.inr rfl) H
              · have H := H.2 c7
                refine mx_iload_n dX5_isSign_42 rfl rfl ?_
                refine mx_bipush dX5_isSign_43 ib_42 ?_
                refine mx_icmp_eq (tgt := 78) dX5_isSign_45 rfl (fun c8 => ?_) (fun c8 => ?_)
                · have H := H.1 c8
                  refine mx_iconst dX5_isSign_78 ic_1 ?_
                  refine mx_goto (tgt := 83) dX5_isSign_79 rfl ?_
                  exact mx_zret rfl dX5_isSign_83 (Or.inr rfl) H
                · have H := H.2 c8
                  refine mx_iload_n dX5_isSign_48 rfl rfl ?_
                  refine mx_bipush dX5_isSign_49 ib_47 ?_
                  refine mx_icmp_eq (tgt := 78) dX5_isSign_51 rfl (fun c9 => ?_) (fun c9 => ?_)
                  · have H := H.1 c9
                    refine mx_iconst dX5_isSign_78 ic_1 ?_
                    refine mx_goto (tgt := 83) dX5_isSign_79 rfl ?_
                    exact mx_zret rfl dX5_isSign_83 (Or.inr rfl) H
                  · have H := H.2 c9
                    refine mx_iload_n dX5_isSign_54 rfl rfl ?_
                    refine mx_bipush dX5_isSign_55 ib_37 ?_
                    refine mx_icmp_eq (tgt := 78) dX5_isSign_57 rfl (fun c10 => ?_) (fun c10 => ?_)
                    · have H := H.1 c10
                      refine mx_iconst dX5_isSign_78 ic_1 ?_
                      refine mx_goto (tgt := 83) dX5_isSign_79 rfl ?_
                      exact mx_zret rfl dX5_isSign_83 (Or.inr rfl) H
                    · have H := H.2 c10
                      refine mx_iload_n dX5_isSign_60 rfl rfl ?_
                      refine mx_bipush dX5_isSign_61 ib_40 ?_
                      refine mx_icmp_eq (tgt := 78) dX5_isSign_63 rfl (fun c11 => ?_) (fun c11 => ?_)
                      · have H := H.1 c11
                        refine mx_iconst dX5_isSign_78 ic_1 ?_
                        refine mx_goto (tgt := 83) dX5_isSign_79 rfl ?_
                        exact mx_zret rfl dX5_isSign_83 (Or.inr rfl) H
                      · have H := H.2 c11
                        refine mx_iload_n dX5_isSign_66 rfl rfl ?_
                        refine mx_bipush dX5_isSign_67 ib_41 ?_
                        refine mx_icmp_eq (tgt := 78) dX5_isSign_69 rfl (fun c12 => ?_) (fun c12 => ?_)
                        · have H := H.1 c12
                          refine mx_iconst dX5_isSign_78 ic_1 ?_
                          refine mx_goto (tgt := 83) dX5_isSign_79 rfl ?_
                          exact mx_zret rfl dX5_isSign_83 (Or.inr rfl) H
                        · have H := H.2 c12
                          refine mx_iload_n dX5_isSign_72 rfl rfl ?_
                          refine mx_bipush dX5_isSign_73 ib_44 ?_
                          refine mx_icmp_ne (tgt := 82) dX5_isSign_75 rfl (fun c13 => ?_) (fun c13 => ?_)
                          · have H := H.1 c13
                            refine mx_iconst dX5_isSign_82 ic_0 ?_
                            exact mx_zret rfl dX5_isSign_83 (Or.inl rfl) H
                          · have H := H.2 c13
                            refine mx_iconst dX5_isSign_78 ic_1 ?_
                            refine mx_goto (tgt := 83) dX5_isSign_79 rfl ?_
                            exact mx_zret rfl dX5_isSign_83 (Or.inr rfl) H
theorem dX5_def_0 : decode mi_X5_def.2.1 0 = .ok (.aload_n 0, 1) := by decide +kernel
theorem dX5_def_1 : decode mi_X5_def.2.1 1 = .ok (.aload_n 0, 1) := by decide +kernel
theorem dX5_def_2 : decode mi_X5_def.2.1 2 = .ok (.invokevirtual 107, 3) := by decide +kernel
theorem dX5_def_5 : decode mi_X5_def.2.1 5 = .ok (.ldc2_w 92, 3) := by decide +kernel
theorem dX5_def_8 : decode mi_X5_def.2.1 8 = .ok (.lcmp, 1) := by decide +kernel
theorem dX5_def_9 : decode mi_X5_def.2.1 9 = .ok (.ifCond .eq 27, 3) := by decide +kernel
theorem dX5_def_12 : decode mi_X5_def.2.1 12 = .ok (.aload_n 0, 1) := by decide +kernel
theorem dX5_def_13 : decode mi_X5_def.2.1 13 = .ok (.ldc 111, 2) := by decide +kernel
theorem dX5_def_15 : decode mi_X5_def.2.1 15 = .ok (.invokevirtual 88, 3) := by decide +kernel
theorem dX5_def_18 : decode mi_X5_def.2.1 18 = .ok (.iconst (-1), 1) := by decide +kernel
theorem dX5_def_19 : decode mi_X5_def.2.1 19 = .ok (.if_icmp .ne 17, 3) := by decide +kernel
theorem dX5_def_22 : decode mi_X5_def.2.1 22 = .ok (.aload_n 0, 1) := by decide +kernel
theorem dX5_def_23 : decode mi_X5_def.2.1 23 = .ok (.ldc 86, 2) := by decide +kernel
theorem dX5_def_25 : decode mi_X5_def.2.1 25 = .ok (.invokevirtual 88, 3) := by decide +kernel
theorem dX5_def_28 : decode mi_X5_def.2.1 28 = .ok (.iconst (-1), 1) := by decide +kernel
theorem dX5_def_29 : decode mi_X5_def.2.1 29 = .ok (.if_icmp .ne 7, 3) := by decide +kernel
theorem dX5_def_32 : decode mi_X5_def.2.1 32 = .ok (.iconst 1, 1) := by decide +kernel
theorem dX5_def_33 : decode mi_X5_def.2.1 33 = .ok (.goto 4, 3) := by decide +kernel
theorem dX5_def_36 : decode mi_X5_def.2.1 36 = .ok (.iconst 0, 1) := by decide +kernel
theorem dX5_def_37 : decode mi_X5_def.2.1 37 = .ok (.invokevirtual 113, 3) := by decide +kernel
theorem dX5_def_40 : decode mi_X5_def.2.1 40 = .ok (.aload_n 0, 1) := by decide +kernel
theorem dX5_def_41 : decode mi_X5_def.2.1 41 = .ok (.getfield 97, 3) := by decide +kernel
theorem dX5_def_44 : decode mi_X5_def.2.1 44 = .ok (.getfield 117, 3) := by decide +kernel
theorem dX5_def_47 : decode mi_X5_def.2.1 47 = .ok (.bipush 10, 2) := by decide +kernel
theorem dX5_def_49 : decode mi_X5_def.2.1 49 = .ok (.if_icmp .ne 9, 3) := by decide +kernel
theorem dX5_def_52 : decode mi_X5_def.2.1 52 = .ok (.aload_n 0, 1) := by decide +kernel
theorem dX5_def_53 : decode mi_X5_def.2.1 53 = .ok (.iconst 3, 1) := by decide +kernel
theorem dX5_def_54 : decode mi_X5_def.2.1 54 = .ok (.invokevirtual 68, 3) := by decide +kernel
theorem dX5_def_57 : decode mi_X5_def.2.1 57 = .ok (.athrow, 1) := by decide +kernel
theorem dX5_def_58 : decode mi_X5_def.2.1 58 = .ok (.aload_n 0, 1) := by decide +kernel
theorem dX5_def_59 : decode mi_X5_def.2.1 59 = .ok (.getfield 97, 3) := by decide +kernel
theorem dX5_def_62 : decode mi_X5_def.2.1 62 = .ok (.aload_n 0, 1) := by decide +kernel
theorem dX5_def_63 : decode mi_X5_def.2.1 63 = .ok (.invokevirtual 107, 3) := by decide +kernel
theorem dX5_def_66 : decode mi_X5_def.2.1 66 = .ok (.invokevirtual 120, 3) := by decide +kernel
theorem dX5_def_69 : decode mi_X5_def.2.1 69 = .ok (.iconst (-1), 1) := by decide +kernel
theorem dX5_def_70 : decode mi_X5_def.2.1 70 = .ok (.if_icmp .eq 9, 3) := by decide +kernel
theorem dX5_def_73 : decode mi_X5_def.2.1 73 = .ok (.aload_n 0, 1) := by decide +kernel
theorem dX5_def_74 : decode mi_X5_def.2.1 74 = .ok (.iconst 4, 1) := by decide +kernel
theorem dX5_def_75 : decode mi_X5_def.2.1 75 = .ok (.invokevirtual 68, 3) := by decide +kernel
theorem dX5_def_78 : decode mi_X5_def.2.1 78 = .ok (.athrow, 1) := by decide +kernel
theorem dX5_def_79 : decode mi_X5_def.2.1 79 = .ok (.aload_n 0, 1) := by decide +kernel
theorem dX5_def_80 : decode mi_X5_def.2.1 80 = .ok (.invokevirtual 107, 3) := by decide +kernel
theorem dX5_def_83 : decode mi_X5_def.2.1 83 = .ok (.lstore_n 1, 1) := by decide +kernel
theorem dX5_def_84 : decode mi_X5_def.2.1 84 = .ok (.aload_n 0, 1) := by decide +kernel
theorem dX5_def_85 : decode mi_X5_def.2.1 85 = .ok (.invokevirtual 101, 3) := by decide +kernel
theorem dX5_def_88 : decode mi_X5_def.2.1 88 = .ok (.aload_n 0, 1) := by decide +kernel
theorem dX5_def_89 : decode mi_X5_def.2.1 89 = .ok (.aload_n 0, 1) := by decide +kernel
theorem dX5_def_90 : decode mi_X5_def.2.1 90 = .ok (.bipush 58, 2) := by decide +kernel
theorem dX5_def_92 : decode mi_X5_def.2.1 92 = .ok (.invokevirtual 124, 3) := by decide +kernel
theorem dX5_def_95 : decode mi_X5_def.2.1 95 = .ok (.invokevirtual 113, 3) := by decide +kernel
theorem dX5_def_98 : decode mi_X5_def.2.1 98 = .ok (.aload_n 0, 1) := by decide +kernel
theorem dX5_def_99 : decode mi_X5_def.2.1 99 = .ok (.invokevirtual 101, 3) := by decide +kernel
theorem dX5_def_102 : decode mi_X5_def.2.1 102 = .ok (.aload_n 0, 1) := by decide +kernel
theorem dX5_def_103 : decode mi_X5_def.2.1 103 = .ok (.iconst 1, 1) := by decide +kernel
theorem dX5_def_104 : decode mi_X5_def.2.1 104 = .ok (.invokevirtual 127, 3) := by decide +kernel
theorem dX5_def_107 : decode mi_X5_def.2.1 107 = .ok (.astore_n 3, 1) := by decide +kernel
theorem dX5_def_108 : decode mi_X5_def.2.1 108 = .ok (.aload_n 0, 1) := by decide +kernel
theorem dX5_def_109 : decode mi_X5_def.2.1 109 = .ok (.aload_n 0, 1) := by decide +kernel
theorem dX5_def_110 : decode mi_X5_def.2.1 110 = .ok (.bipush 59, 2) := by decide +kernel
theorem dX5_def_112 : decode mi_X5_def.2.1 112 = .ok (.invokevirtual 124, 3) := by decide +kernel
theorem dX5_def_115 : decode mi_X5_def.2.1 115 = .ok (.invokevirtual 113, 3) := by decide +kernel
theorem dX5_def_118 : decode mi_X5_def.2.1 118 = .ok (.aload_n 0, 1) := by decide +kernel
theorem dX5_def_119 : decode mi_X5_def.2.1 119 = .ok (.invokevirtual 101, 3) := by decide +kernel
theorem dX5_def_122 : decode mi_X5_def.2.1 122 = .ok (.aload_n 0, 1) := by decide +kernel
theorem dX5_def_123 : decode mi_X5_def.2.1 123 = .ok (.getfield 97, 3) := by decide +kernel
theorem dX5_def_126 : decode mi_X5_def.2.1 126 = .ok (.getfield 131, 3) := by decide +kernel
theorem dX5_def_129 : decode mi_X5_def.2.1 129 = .ok (.aload_n 0, 1) := by decide +kernel
theorem dX5_def_130 : decode mi_X5_def.2.1 130 = .ok (.getfield 97, 3) := by decide +kernel
theorem dX5_def_133 : decode mi_X5_def.2.1 133 = .ok (.getfield 117, 3) := by decide +kernel
theorem dX5_def_136 : decode mi_X5_def.2.1 136 = .ok (.lload_n 1, 1) := by decide +kernel
theorem dX5_def_137 : decode mi_X5_def.2.1 137 = .ok (.lastore, 1) := by decide +kernel
theorem dX5_def_138 : decode mi_X5_def.2.1 138 = .ok (.aload_n 0, 1) := by decide +kernel
theorem dX5_def_139 : decode mi_X5_def.2.1 139 = .ok (.getfield 97, 3) := by decide +kernel
theorem dX5_def_142 : decode mi_X5_def.2.1 142 = .ok (.getfield 135, 3) := by decide +kernel
theorem dX5_def_145 : decode mi_X5_def.2.1 145 = .ok (.aload_n 0, 1) := by decide +kernel
theorem dX5_def_146 : decode mi_X5_def.2.1 146 = .ok (.getfield 97, 3) := by decide +kernel
theorem dX5_def_149 : decode mi_X5_def.2.1 149 = .ok (.getfield 117, 3) := by decide +kernel
theorem dX5_def_152 : decode mi_X5_def.2.1 152 = .ok (.aload_n 3, 1) := by decide +kernel
theorem dX5_def_153 : decode mi_X5_def.2.1 153 = .ok (.aastore, 1) := by decide +kernel
theorem dX5_def_154 : decode mi_X5_def.2.1 154 = .ok (.aload_n 0, 1) := by decide +kernel
theorem dX5_def_155 : decode mi_X5_def.2.1 155 = .ok (.getfield 97, 3) := by decide +kernel
theorem dX5_def_158 : decode mi_X5_def.2.1 158 = .ok (.dup, 1) := by decide +kernel
theorem dX5_def_159 : decode mi_X5_def.2.1 159 = .ok (.getfield 117, 3) := by decide +kernel
theorem dX5_def_162 : decode mi_X5_def.2.1 162 = .ok (.iconst 1, 1) := by decide +kernel
theorem dX5_def_163 : decode mi_X5_def.2.1 163 = .ok (.iadd, 1) := by decide +kernel
theorem dX5_def_164 : decode mi_X5_def.2.1 164 = .ok (.putfield 117, 3) := by decide +kernel
theorem dX5_def_167 : decode mi_X5_def.2.1 167 = .ok (.return_, 1) := by decide +kernel
theorem v_X5_def {G : ma_G} {d : Nat} {a0 : Nat} {h : ah_T} {Q : Option ma_V → ah_T → Prop} {E : Nat → ah_T → Prop} (La0_h : LY5 h a0) (H : MX G mi_X5_name (d + 2) 0 [some (rv a0), none, none, none] [] h (Ql fun r2 h1 => ah_ext h h1 → (r2 = (-1 : Int64) → MX G mi_X5_def (d + 3) 37 [some (rv a0), none, none, none] [iv (0 : Int32), rv a0] h1 Q E) ∧ (¬ r2 = (-1 : Int64) → MX G mi_X5_in (d + 2) 0 [some (rv a0), some (rv (ma_lit G 1)), none, none, none] [] h1 (Qi fun r5 h4 => ah_ext h1 h4 → (¬ r5 = (-1 : Int32) → MX G mi_X5_def (d + 3) 37 [some (rv a0), none, none, none] [iv (0 : Int32), rv a0] h4 Q E) ∧ (r5 = (-1 : Int32) → MX G mi_X5_in (d + 2) 0 [some (rv a0), some (rv (ma_lit G 0)), none, none, none] [] h4 (Qi fun r8 h7 => ah_ext h4 h7 → (¬ r8 = (-1 : Int32) → MX G mi_X5_def (d + 3) 37 [some (rv a0), none, none, none] [iv (0 : Int32), rv a0] h7 Q E) ∧ (r8 = (-1 : Int32) → MX G mi_X5_def (d + 3) 37 [some (rv a0), none, none, none] [iv (1 : Int32), rv a0] h7 Q E)) E)) E)) E) : MX G mi_X5_def (d + 3) 0 [some (rv a0), none, none, none] [] h Q E := by
  refine mx_aload_n dX5_def_0 rfl rfl ?_
  refine mx_aload_n dX5_def_1 rfl rfl ?_
  refine mx_callV 5 (y' := mi_X5_name) (vs := []) (st := [rv a0]) (al' := [some (rv a0), none, none, none]) cl_5 V_X5_name (Or.inl q1231) dX5_def_2 rfl rfl (Nat.le_of_ble_eq_true rfl) (Nat.le_of_ble_eq_true rfl) (ly5_k La0_h) ?_
  refine ma_kl H (fun r2 h1 Xh1 H => ?_) (fun x1 h1 X1 H => mt_out rfl H)
  have H := H Xh1
  have La0_h1 := La0_h.ext Xh1
  refine mx_ldc2 q1235 dX5_def_5 ?_
  refine mx_lif_eq (tgt := 36) dX5_def_8 dX5_def_9 rfl (fun c3 => ?_) (fun c3 => ?_)
  · have H := H.1 c3
    refine mx_iconst dX5_def_36 ic_0 ?_
    exact mx_weak (al' := [some (rv a0), none, none, none]) ⟨rfl, trivial⟩ H
  · have H := H.2 c3
    refine mx_aload_n dX5_def_12 rfl rfl ?_
    refine mx_ldcS (i := 1) rfl (Or.inr ⟨rfl, rfl⟩) dX5_def_13 ?_
    refine mx_callV 5 (y' := mi_X5_in) (vs := [rv (ma_lit G 1)]) (st := [rv a0]) (al' := [some (rv a0), some (rv (ma_lit G 1)), none, none, none]) cl_5 V_X5_in (Or.inl q1237) dX5_def_15 rfl rfl (Nat.le_of_ble_eq_true rfl) (Nat.le_of_ble_eq_true rfl) (ly5_k La0_h1) ?_
    refine ma_ki H (fun r5 h4 Xh4 H => ?_) (fun x1 h1 X1 H => mt_out rfl H)
    have H := H Xh4
    have La0_h4 := La0_h1.ext Xh4
    refine mx_iconst dX5_def_18 ic_m1 ?_
    refine mx_icmp_ne (tgt := 36) dX5_def_19 rfl (fun c6 => ?_) (fun c6 => ?_)
    · have H := H.1 c6
      refine mx_iconst dX5_def_36 ic_0 ?_
      exact mx_weak (al' := [some (rv a0), none, none, none]) ⟨rfl, trivial⟩ H
    · have H := H.2 c6
      refine mx_aload_n dX5_def_22 rfl rfl ?_
      refine mx_ldcS (i := 0) rfl (Or.inl ⟨rfl, rfl⟩) dX5_def_23 ?_
      refine mx_callV 5 (y' := mi_X5_in) (vs := [rv (ma_lit G 0)]) (st := [rv a0]) (al' := [some (rv a0), some (rv (ma_lit G 0)), none, none, none]) cl_5 V_X5_in (Or.inl q1237) dX5_def_25 rfl rfl (Nat.le_of_ble_eq_true rfl) (Nat.le_of_ble_eq_true rfl) (ly5_k La0_h4) ?_
      refine ma_ki H (fun r8 h7 Xh7 H => ?_) (fun x1 h1 X1 H => mt_out rfl H)
      have H := H Xh7
      have La0_h7 := La0_h4.ext Xh7
      refine mx_iconst dX5_def_28 ic_m1 ?_
      refine mx_icmp_ne (tgt := 36) dX5_def_29 rfl (fun c9 => ?_) (fun c9 => ?_)
      · have H := H.1 c9
        refine mx_iconst dX5_def_36 ic_0 ?_
        exact mx_weak (al' := [some (rv a0), none, none, none]) ⟨rfl, trivial⟩ H
      · have H := H.2 c9
        refine mx_iconst dX5_def_32 ic_1 ?_
        refine mx_goto (tgt := 37) dX5_def_33 rfl ?_
        exact mx_weak (al' := [some (rv a0), none, none, none]) ⟨rfl, trivial⟩ H
theorem v_X5_def_37 {G : ma_G} {d : Nat} {a0 : Nat} {z0 : Int32} {h : ah_T} {Q : Option ma_V → ah_T → Prop} {E : Nat → ah_T → Prop} (La0_h : LY5 h a0) (H : (¬ z0 = 0 → ah_kd h (ah_R h a0 7) = 16 ∧ (¬ (ah_I h (ah_R h a0 7) 2) = (10 : Int32) → MX G mi_X5_name (d + 2) 0 [some (rv a0), none, none, none] [] h (Ql fun r5 h4 => ah_ext h h4 → MX G mi_X17_find (d + 2) 0 [some (rv (ah_R h a0 7)), some (jv r5), none, none] [] h4 (Qi fun r8 h7 => ah_ext h4 h7 → (r8 = (-1 : Int32) → MX G mi_X5_name (d + 2) 0 [some (rv a0), none, none, none] [] h7 (Ql fun r12 h11 => ah_ext h7 h11 → MX G mi_X5_next (d + 2) 0 [some (rv a0), none] [] h11 (Qv fun h14 => ah_ext h11 h14 → (¬ (ah_I h14 a0 3) = (4 : Int32) → (¬ (ah_I h14 a0 3) = (1 : Int32) → ah_kd h14 (ah_R h14 a0 8) = 5 ∧ ∀ h20 : ah_T, h20 = ah_wI h14 (ah_R h14 a0 8) 6 (2 : Int32) → ah_ext h14 h20 → ∀ h21 : ah_T, h21 = ah_wI h20 (ah_R h14 a0 8) 7 (ah_I h14 a0 4) → ah_ext h20 h21 → E (ah_R h14 a0 8) h21) ∧ ((ah_I h14 a0 3) = (1 : Int32) → ah_kd h14 (ah_R h14 a0 8) = 5 ∧ ∀ h23 : ah_T, h23 = ah_wI h14 (ah_R h14 a0 8) 6 (1 : Int32) → ah_ext h14 h23 → ∀ h24 : ah_T, h24 = ah_wI h23 (ah_R h14 a0 8) 7 (ah_I h14 a0 4) → ah_ext h23 h24 → E (ah_R h14 a0 8) h24)) ∧ ((ah_I h14 a0 3) = (4 : Int32) → (¬ (ah_J h14 a0 6) = (58 : Int32).toInt64 → (¬ (ah_I h14 a0 3) = (1 : Int32) → ah_kd h14 (ah_R h14 a0 8) = 5 ∧ ∀ h28 : ah_T, h28 = ah_wI h14 (ah_R h14 a0 8) 6 (2 : Int32) → ah_ext h14 h28 → ∀ h29 : ah_T, h29 = ah_wI h28 (ah_R h14 a0 8) 7 (ah_I h14 a0 4) → ah_ext h28 h29 → E (ah_R h14 a0 8) h29) ∧ ((ah_I h14 a0 3) = (1 : Int32) → ah_kd h14 (ah_R h14 a0 8) = 5 ∧ ∀ h31 : ah_T, h31 = ah_wI h14 (ah_R h14 a0 8) 6 (1 : Int32) → ah_ext h14 h31 → ∀ h32 : ah_T, h32 = ah_wI h31 (ah_R h14 a0 8) 7 (ah_I h14 a0 4) → ah_ext h31 h32 → E (ah_R h14 a0 8) h32)) ∧ ((ah_J h14 a0 6) = (58 : Int32).toInt64 → MX G mi_X5_next (d + 2) 0 [some (rv a0), none] [] h14 (Qv fun h33 => ah_ext h14 h33 → MX G mi_X5_whole (d + 2) 0 [some (rv a0), some (iv (1 : Int32)), none, none] [] h33 (Qr fun r37 h36 => ah_ext h33 h36 → (¬ (ah_I h36 a0 3) = (4 : Int32) → (¬ (ah_I h36 a0 3) = (1 : Int32) → ah_kd h36 (ah_R h36 a0 8) = 5 ∧ ∀ h42 : ah_T, h42 = ah_wI h36 (ah_R h36 a0 8) 6 (2 : Int32) → ah_ext h36 h42 → ∀ h43 : ah_T, h43 = ah_wI h42 (ah_R h36 a0 8) 7 (ah_I h36 a0 4) → ah_ext h42 h43 → E (ah_R h36 a0 8) h43) ∧ ((ah_I h36 a0 3) = (1 : Int32) → ah_kd h36 (ah_R h36 a0 8) = 5 ∧ ∀ h45 : ah_T, h45 = ah_wI h36 (ah_R h36 a0 8) 6 (1 : Int32) → ah_ext h36 h45 → ∀ h46 : ah_T, h46 = ah_wI h45 (ah_R h36 a0 8) 7 (ah_I h36 a0 4) → ah_ext h45 h46 → E (ah_R h36 a0 8) h46)) ∧ ((ah_I h36 a0 3) = (4 : Int32) → (¬ (ah_J h36 a0 6) = (59 : Int32).toInt64 → (¬ (ah_I h36 a0 3) = (1 : Int32) → ah_kd h36 (ah_R h36 a0 8) = 5 ∧ ∀ h50 : ah_T, h50 = ah_wI h36 (ah_R h36 a0 8) 6 (2 : Int32) → ah_ext h36 h50 → ∀ h51 : ah_T, h51 = ah_wI h50 (ah_R h36 a0 8) 7 (ah_I h36 a0 4) → ah_ext h50 h51 → E (ah_R h36 a0 8) h51) ∧ ((ah_I h36 a0 3) = (1 : Int32) → ah_kd h36 (ah_R h36 a0 8) = 5 ∧ ∀ h53 : ah_T, h53 = ah_wI h36 (ah_R h36 a0 8) 6 (1 : Int32) → ah_ext h36 h53 → ∀ h54 : ah_T, h54 = ah_wI h53 (ah_R h36 a0 8) 7 (ah_I h36 a0 4) → ah_ext h53 h54 → E (ah_R h36 a0 8) h54)) ∧ ((ah_J h36 a0 6) = (59 : Int32).toInt64 → MX G mi_X5_next (d + 2) 0 [some (rv a0), none] [] h36 (Qv fun h55 => ah_ext h36 h55 → ah_kd h55 (ah_R h55 a0 7) = 16 ∧ aok h55 41 (ah_R h55 (ah_R h55 a0 7) 0) (ah_I h55 (ah_R h55 a0 7) 2) ∧ ∀ h60 : ah_T, h60 = ah_wJ h55 (ah_R h55 (ah_R h55 a0 7) 0) (ah_I h55 (ah_R h55 a0 7) 2).toNatClampNeg r12 → ah_ext h55 h60 → aok h55 50 (ah_R h55 (ah_R h55 a0 7) 1) (ah_I h55 (ah_R h55 a0 7) 2) ∧ ma_ks h55 r37 [16, 17, 18, 19] ∧ ah_R h60 (ah_R h55 (ah_R h55 a0 7) 1) (ah_I h55 (ah_R h55 a0 7) 2).toNatClampNeg = 0 ∧ ∀ h64 : ah_T, h64 = ah_wR h60 (ah_R h55 (ah_R h55 a0 7) 1) (ah_I h55 (ah_R h55 a0 7) 2).toNatClampNeg r37 → ah_ext h60 h64 → ah_kd h55 (ah_R h64 a0 7) = 16 ∧ ∀ h66 : ah_T, h66 = ah_wI h64 (ah_R h64 a0 7) 2 ((ah_I h55 (ah_R h64 a0 7) 2) + (1 : Int32)) → ah_ext h64 h66 → Q none h66) E))) E) E))) E) E) ∧ (¬ r8 = (-1 : Int32) → (¬ (ah_I h7 a0 3) = (1 : Int32) → ah_kd h7 (ah_R h7 a0 8) = 5 ∧ ∀ h69 : ah_T, h69 = ah_wI h7 (ah_R h7 a0 8) 6 (4 : Int32) → ah_ext h7 h69 → ∀ h70 : ah_T, h70 = ah_wI h69 (ah_R h7 a0 8) 7 (ah_I h7 a0 4) → ah_ext h69 h70 → E (ah_R h7 a0 8) h70) ∧ ((ah_I h7 a0 3) = (1 : Int32) → ah_kd h7 (ah_R h7 a0 8) = 5 ∧ ∀ h72 : ah_T, h72 = ah_wI h7 (ah_R h7 a0 8) 6 (1 : Int32) → ah_ext h7 h72 → ∀ h73 : ah_T, h73 = ah_wI h72 (ah_R h7 a0 8) 7 (ah_I h7 a0 4) → ah_ext h72 h73 → E (ah_R h7 a0 8) h73))) E) E) ∧ ((ah_I h (ah_R h a0 7) 2) = (10 : Int32) → (¬ (ah_I h a0 3) = (1 : Int32) → ah_kd h (ah_R h a0 8) = 5 ∧ ∀ h76 : ah_T, h76 = ah_wI h (ah_R h a0 8) 6 (3 : Int32) → ah_ext h h76 → ∀ h77 : ah_T, h77 = ah_wI h76 (ah_R h a0 8) 7 (ah_I h a0 4) → ah_ext h76 h77 → E (ah_R h a0 8) h77) ∧ ((ah_I h a0 3) = (1 : Int32) → ah_kd h (ah_R h a0 8) = 5 ∧ ∀ h79 : ah_T, h79 = ah_wI h (ah_R h a0 8) 6 (1 : Int32) → ah_ext h h79 → ∀ h80 : ah_T, h80 = ah_wI h79 (ah_R h a0 8) 7 (ah_I h a0 4) → ah_ext h79 h80 → E (ah_R h a0 8) h80))) ∧ (z0 = 0 → (¬ (ah_I h a0 3) = (1 : Int32) → ah_kd h (ah_R h a0 8) = 5 ∧ ∀ h83 : ah_T, h83 = ah_wI h (ah_R h a0 8) 6 (2 : Int32) → ah_ext h h83 → ∀ h84 : ah_T, h84 = ah_wI h83 (ah_R h a0 8) 7 (ah_I h a0 4) → ah_ext h83 h84 → E (ah_R h a0 8) h84) ∧ ((ah_I h a0 3) = (1 : Int32) → ah_kd h (ah_R h a0 8) = 5 ∧ ∀ h86 : ah_T, h86 = ah_wI h (ah_R h a0 8) 6 (1 : Int32) → ah_ext h h86 → ∀ h87 : ah_T, h87 = ah_wI h86 (ah_R h a0 8) 7 (ah_I h a0 4) → ah_ext h86 h87 → E (ah_R h a0 8) h87))) : MX G mi_X5_def (d + 3) 37 [some (rv a0), none, none, none] [iv z0, rv a0] h Q E := by
  refine mx_callV 5 (y' := mi_X5_need) (vs := [iv z0]) (st := []) (al' := [some (rv a0), some (iv z0)]) cl_5 V_X5_need (Or.inl q1294) dX5_def_37 rfl rfl (Nat.le_of_ble_eq_true rfl) (Nat.le_of_ble_eq_true rfl) (ly5_k La0_h) ?_
  refine mx_iload_n dX5_need_0 rfl rfl ?_
  refine mx_if_ne (tgt := 10) dX5_need_1 rfl (fun c1 => ?_) (fun c1 => ?_)
  · have H := H.1 c1
    refine mx_vretK rfl dX5_need_10 ?_
    refine mx_aload_n dX5_def_40 rfl rfl ?_
    refine mx_get 5 7 (ref := "PrairiePool$Reader") cl_5 (Nat.le_of_ble_eq_true rfl) (Or.inl q391) (Or.inl rfl) dX5_def_41 (fv_5_7 _ _) (ly5_k La0_h) ?_
    obtain ⟨k2, H⟩ := H
    refine mx_get 15 2 (ref := "PrairiePool$Law") cl_15 (Nat.le_of_ble_eq_true rfl) (Or.inr ⟨_, q1194⟩) (Or.inl rfl) dX5_def_44 (fv_15_2 _ _) k2 ?_
    refine mx_bipush dX5_def_47 ib_10 ?_
    refine mx_icmp_ne (tgt := 58) dX5_def_49 rfl (fun c3 => ?_) (fun c3 => ?_)
    · have H := H.1 c3
      refine mx_aload_n dX5_def_58 rfl rfl ?_
      refine mx_get 5 7 (ref := "PrairiePool$Reader") cl_5 (Nat.le_of_ble_eq_true rfl) (Or.inl q391) (Or.inl rfl) dX5_def_59 (fv_5_7 _ _) (ly5_k La0_h) ?_
      refine mx_aload_n dX5_def_62 rfl rfl ?_
      refine mx_callV 5 (y' := mi_X5_name) (vs := []) (st := [rv (ah_R h a0 7)]) (al' := [some (rv a0), none, none, none]) cl_5 V_X5_name (Or.inl q1231) dX5_def_63 rfl rfl (Nat.le_of_ble_eq_true rfl) (Nat.le_of_ble_eq_true rfl) (ly5_k La0_h) ?_
      refine ma_kl H (fun r5 h4 Xh4 H => ?_) (fun x1 h1 X1 H => mt_out rfl H)
      have H := H Xh4
      have k6 := Xh4.kd (k2)
      have La0_h4 := La0_h.ext Xh4
      refine mx_callV 15 (y' := mi_X17_find) (vs := [jv r5]) (st := []) (al' := [some (rv (ah_R h a0 7)), some (jv r5), none, none]) cl_15 V_X17_find (Or.inl q1306) dX5_def_66 rfl rfl (Nat.le_of_ble_eq_true rfl) (Nat.le_of_ble_eq_true rfl) k6 ?_
      refine ma_ki H (fun r8 h7 Xh7 H => ?_) (fun x1 h1 X1 H => mt_out rfl H)
      have H := H Xh7
      have k9 := Xh7.kd (k6)
      have La0_h7 := La0_h4.ext Xh7
      refine mx_iconst dX5_def_69 ic_m1 ?_
      refine mx_icmp_eq (tgt := 79) dX5_def_70 rfl (fun c10 => ?_) (fun c10 => ?_)
      · have H := H.1 c10
        refine mx_aload_n dX5_def_79 rfl rfl ?_
        refine mx_callV 5 (y' := mi_X5_name) (vs := []) (st := []) (al' := [some (rv a0), none, none, none]) cl_5 V_X5_name (Or.inl q1231) dX5_def_80 rfl rfl (Nat.le_of_ble_eq_true rfl) (Nat.le_of_ble_eq_true rfl) (ly5_k La0_h7) ?_
        refine ma_kl H (fun r12 h11 Xh11 H => ?_) (fun x1 h1 X1 H => mt_out rfl H)
        have H := H Xh11
        have k13 := Xh11.kd (k9)
        have La0_h11 := La0_h7.ext Xh11
        refine mx_lstore_n (al' := [some (rv a0), some (jv r12), none, none]) dX5_def_83 rfl (Nat.le_of_ble_eq_true rfl) rfl ?_
        refine mx_aload_n dX5_def_84 rfl rfl ?_
        refine mx_callV 5 (y' := mi_X5_next) (vs := []) (st := []) (al' := [some (rv a0), none]) cl_5 V_X5_next (Or.inl q1206) dX5_def_85 rfl rfl (Nat.le_of_ble_eq_true rfl) (Nat.le_of_ble_eq_true rfl) (ly5_k La0_h11) ?_
        refine ma_kv H (fun h14 Xh14 H => ?_) (fun x1 h1 X1 H => mt_out rfl H)
        have H := H Xh14
        have k16 := Xh14.kd (k13)
        have La0_h14 := La0_h11.ext Xh14
        refine mx_aload_n dX5_def_88 rfl rfl ?_
        refine mx_aload_n dX5_def_89 rfl rfl ?_
        refine mx_bipush dX5_def_90 ib_58 ?_
        refine mx_callV 5 (y' := mi_X5_is) (vs := [iv (58 : Int32)]) (st := [rv a0]) (al' := [some (rv a0), some (iv (58 : Int32))]) cl_5 V_X5_is (Or.inl q1307) dX5_def_92 rfl rfl (Nat.le_of_ble_eq_true rfl) (Nat.le_of_ble_eq_true rfl) (ly5_k La0_h14) ?_
        refine mx_aload_n dX5_is_0 rfl rfl ?_
        refine mx_get 5 3 (ref := "PrairiePool$Reader") cl_5 (Nat.le_of_ble_eq_true rfl) (Or.inl q387) (Or.inl rfl) dX5_is_1 (fv_5_3 _ _) (ly5_k La0_h14) ?_
        refine mx_iconst dX5_is_4 ic_4 ?_
        refine mx_icmp_ne (tgt := 22) dX5_is_5 rfl (fun c17 => ?_) (fun c17 => ?_)
        · have H := H.1 c17
          refine mx_iconst dX5_is_22 ic_0 ?_
          refine mx_zretK rfl dX5_is_23 (Or.inl rfl) ?_
          refine mx_callV 5 (y' := mi_X5_need) (vs := [iv (0 : Int32)]) (st := []) (al' := [some (rv a0), some (iv (0 : Int32))]) cl_5 V_X5_need (Or.inl q1294) dX5_def_95 rfl rfl (Nat.le_of_ble_eq_true rfl) (Nat.le_of_ble_eq_true rfl) (ly5_k La0_h14) ?_
          refine mx_iload_n dX5_need_0 rfl rfl ?_
          refine mx_if_ne (tgt := 10) dX5_need_1 rfl (fun _ => absurd ‹_› (by decide)) (fun _ => ?_)
          refine mx_aload_n dX5_need_4 rfl rfl ?_
          refine mx_iconst dX5_need_5 ic_2 ?_
          refine mx_callV 5 (y' := mi_X5_fail) (vs := [iv (2 : Int32)]) (st := []) (al' := [some (rv a0), some (iv (2 : Int32))]) cl_5 V_X5_fail (Or.inl q1298) dX5_need_6 rfl rfl (Nat.le_of_ble_eq_true rfl) (Nat.le_of_ble_eq_true rfl) (ly5_k La0_h14) ?_
          refine mx_aload_n dX5_fail_0 rfl rfl ?_
          refine mx_get 5 8 (ref := "PrairiePool$Reader") cl_5 (Nat.le_of_ble_eq_true rfl) (Or.inl q392) (Or.inl rfl) dX5_fail_1 (fv_5_8 _ _) (ly5_k La0_h14) ?_
          refine mx_aload_n dX5_fail_4 rfl rfl ?_
          refine mx_get 5 3 (ref := "PrairiePool$Reader") cl_5 (Nat.le_of_ble_eq_true rfl) (Or.inl q387) (Or.inl rfl) dX5_fail_5 (fv_5_3 _ _) (ly5_k La0_h14) ?_
          refine mx_iconst dX5_fail_8 ic_1 ?_
          refine mx_icmp_ne (tgt := 16) dX5_fail_9 rfl (fun c18 => ?_) (fun c18 => ?_)
          · have H := H.1 c18
            refine mx_iload_n dX5_fail_16 rfl rfl ?_
            refine mx_aload_n dX5_fail_17 rfl rfl ?_
            refine mx_get 5 4 (ref := "PrairiePool$Reader") cl_5 (Nat.le_of_ble_eq_true rfl) (Or.inl q388) (Or.inl rfl) dX5_fail_18 (fv_5_4 _ _) (ly5_k La0_h14) ?_
            obtain ⟨k19, H⟩ := H
            refine mx_callV 4 (y' := mi_X4_of) (vs := [iv (2 : Int32), iv (ah_I h14 a0 4)]) (st := []) (al' := [some (rv (ah_R h14 a0 8)), some (iv (2 : Int32)), some (iv (ah_I h14 a0 4))]) cl_4 V_X4_of (Or.inl q1302) dX5_fail_21 rfl rfl (Nat.le_of_ble_eq_true rfl) (Nat.le_of_ble_eq_true rfl) k19 ?_
            refine mx_aload_n dX4_of_0 rfl rfl ?_
            refine mx_iload_n dX4_of_1 rfl rfl ?_
            refine mx_putI 4 6 (ref := "PrairiePool$Wrong") cl_4 (Nat.le_of_ble_eq_true rfl) (Or.inl q356) (Or.inl rfl) dX4_of_2 (Or.inl rfl) rfl k19 ?_
            refine mx_nmI  (fun h20 eh20 Xh20 Kh20 Lh20 => ?_)
            have H := H h20 eh20 Xh20
            have La0_h20 := La0_h14.ext Xh20
            refine mx_aload_n dX4_of_5 rfl rfl ?_
            refine mx_iload_n dX4_of_6 rfl rfl ?_
            refine mx_putI 4 7 (ref := "PrairiePool$Wrong") cl_4 (Nat.le_of_ble_eq_true rfl) (Or.inl q358) (Or.inl rfl) dX4_of_7 (Or.inl rfl) rfl (ma_kde Kh20 (k19)) ?_
            refine mx_nmI  (fun h21 eh21 Xh21 Kh21 Lh21 => ?_)
            have H := H h21 eh21 Xh21
            have Kh21 := Kh21.trans Kh20
            have Lh21 := Lh21.trans Lh20
            have La0_h21 := La0_h20.ext Xh21
            refine mx_aload_n dX4_of_10 rfl rfl ?_
            refine mx_aretK rfl (by first | exact Or.inl ⟨_, rfl⟩ | exact Or.inr ⟨_, rfl⟩) dX4_of_11 ?_
            refine mx_aretK rfl (by first | exact Or.inl ⟨_, rfl⟩ | exact Or.inr ⟨_, rfl⟩) dX5_fail_24 ?_
            exact mx_athrow dX5_need_9 (by rw [(ma_kde Kh21 (k19))]; decide) (mt_out rfl (fun _ => mt_out rfl H))
          · have H := H.2 c18
            refine mx_iconst dX5_fail_12 ic_1 ?_
            refine mx_goto (tgt := 17) dX5_fail_13 rfl ?_
            refine mx_aload_n dX5_fail_17 rfl rfl ?_
            refine mx_get 5 4 (ref := "PrairiePool$Reader") cl_5 (Nat.le_of_ble_eq_true rfl) (Or.inl q388) (Or.inl rfl) dX5_fail_18 (fv_5_4 _ _) (ly5_k La0_h14) ?_
            obtain ⟨k22, H⟩ := H
            refine mx_callV 4 (y' := mi_X4_of) (vs := [iv (1 : Int32), iv (ah_I h14 a0 4)]) (st := []) (al' := [some (rv (ah_R h14 a0 8)), some (iv (1 : Int32)), some (iv (ah_I h14 a0 4))]) cl_4 V_X4_of (Or.inl q1302) dX5_fail_21 rfl rfl (Nat.le_of_ble_eq_true rfl) (Nat.le_of_ble_eq_true rfl) k22 ?_
            refine mx_aload_n dX4_of_0 rfl rfl ?_
            refine mx_iload_n dX4_of_1 rfl rfl ?_
            refine mx_putI 4 6 (ref := "PrairiePool$Wrong") cl_4 (Nat.le_of_ble_eq_true rfl) (Or.inl q356) (Or.inl rfl) dX4_of_2 (Or.inl rfl) rfl k22 ?_
            refine mx_nmI  (fun h23 eh23 Xh23 Kh23 Lh23 => ?_)
            have H := H h23 eh23 Xh23
            have La0_h23 := La0_h14.ext Xh23
            refine mx_aload_n dX4_of_5 rfl rfl ?_
            refine mx_iload_n dX4_of_6 rfl rfl ?_
            refine mx_putI 4 7 (ref := "PrairiePool$Wrong") cl_4 (Nat.le_of_ble_eq_true rfl) (Or.inl q358) (Or.inl rfl) dX4_of_7 (Or.inl rfl) rfl (ma_kde Kh23 (k22)) ?_
            refine mx_nmI  (fun h24 eh24 Xh24 Kh24 Lh24 => ?_)
            have H := H h24 eh24 Xh24
            have Kh24 := Kh24.trans Kh23
            have Lh24 := Lh24.trans Lh23
            have La0_h24 := La0_h23.ext Xh24
            refine mx_aload_n dX4_of_10 rfl rfl ?_
            refine mx_aretK rfl (by first | exact Or.inl ⟨_, rfl⟩ | exact Or.inr ⟨_, rfl⟩) dX4_of_11 ?_
            refine mx_aretK rfl (by first | exact Or.inl ⟨_, rfl⟩ | exact Or.inr ⟨_, rfl⟩) dX5_fail_24 ?_
            exact mx_athrow dX5_need_9 (by rw [(ma_kde Kh24 (k22))]; decide) (mt_out rfl (fun _ => mt_out rfl H))
        · have H := H.2 c17
          refine mx_aload_n dX5_is_8 rfl rfl ?_
          refine mx_get 5 6 (ref := "PrairiePool$Reader") cl_5 (Nat.le_of_ble_eq_true rfl) (Or.inl q390) (Or.inl rfl) dX5_is_9 (fv_5_6 _ _) (ly5_k La0_h14) ?_
          refine mx_iload_n dX5_is_12 rfl rfl ?_
          refine mx_i2l dX5_is_13 ?_
          refine mx_lif_ne (tgt := 22) dX5_is_14 dX5_is_15 rfl (fun c25 => ?_) (fun c25 => ?_)
          · have H := H.1 c25
            refine mx_iconst dX5_is_22 ic_0 ?_
            refine mx_zretK rfl dX5_is_23 (Or.inl rfl) ?_
            refine mx_callV 5 (y' := mi_X5_need) (vs := [iv (0 : Int32)]) (st := []) (al' := [some (rv a0), some (iv (0 : Int32))]) cl_5 V_X5_need (Or.inl q1294) dX5_def_95 rfl rfl (Nat.le_of_ble_eq_true rfl) (Nat.le_of_ble_eq_true rfl) (ly5_k La0_h14) ?_
            refine mx_iload_n dX5_need_0 rfl rfl ?_
            refine mx_if_ne (tgt := 10) dX5_need_1 rfl (fun _ => absurd ‹_› (by decide)) (fun _ => ?_)
            refine mx_aload_n dX5_need_4 rfl rfl ?_
            refine mx_iconst dX5_need_5 ic_2 ?_
            refine mx_callV 5 (y' := mi_X5_fail) (vs := [iv (2 : Int32)]) (st := []) (al' := [some (rv a0), some (iv (2 : Int32))]) cl_5 V_X5_fail (Or.inl q1298) dX5_need_6 rfl rfl (Nat.le_of_ble_eq_true rfl) (Nat.le_of_ble_eq_true rfl) (ly5_k La0_h14) ?_
            refine mx_aload_n dX5_fail_0 rfl rfl ?_
            refine mx_get 5 8 (ref := "PrairiePool$Reader") cl_5 (Nat.le_of_ble_eq_true rfl) (Or.inl q392) (Or.inl rfl) dX5_fail_1 (fv_5_8 _ _) (ly5_k La0_h14) ?_
            refine mx_aload_n dX5_fail_4 rfl rfl ?_
            refine mx_get 5 3 (ref := "PrairiePool$Reader") cl_5 (Nat.le_of_ble_eq_true rfl) (Or.inl q387) (Or.inl rfl) dX5_fail_5 (fv_5_3 _ _) (ly5_k La0_h14) ?_
            refine mx_iconst dX5_fail_8 ic_1 ?_
            refine mx_icmp_ne (tgt := 16) dX5_fail_9 rfl (fun c26 => ?_) (fun c26 => ?_)
            · have H := H.1 c26
              refine mx_iload_n dX5_fail_16 rfl rfl ?_
              refine mx_aload_n dX5_fail_17 rfl rfl ?_
              refine mx_get 5 4 (ref := "PrairiePool$Reader") cl_5 (Nat.le_of_ble_eq_true rfl) (Or.inl q388) (Or.inl rfl) dX5_fail_18 (fv_5_4 _ _) (ly5_k La0_h14) ?_
              obtain ⟨k27, H⟩ := H
              refine mx_callV 4 (y' := mi_X4_of) (vs := [iv (2 : Int32), iv (ah_I h14 a0 4)]) (st := []) (al' := [some (rv (ah_R h14 a0 8)), some (iv (2 : Int32)), some (iv (ah_I h14 a0 4))]) cl_4 V_X4_of (Or.inl q1302) dX5_fail_21 rfl rfl (Nat.le_of_ble_eq_true rfl) (Nat.le_of_ble_eq_true rfl) k27 ?_
              refine mx_aload_n dX4_of_0 rfl rfl ?_
              refine mx_iload_n dX4_of_1 rfl rfl ?_
              refine mx_putI 4 6 (ref := "PrairiePool$Wrong") cl_4 (Nat.le_of_ble_eq_true rfl) (Or.inl q356) (Or.inl rfl) dX4_of_2 (Or.inl rfl) rfl k27 ?_
              refine mx_nmI  (fun h28 eh28 Xh28 Kh28 Lh28 => ?_)
              have H := H h28 eh28 Xh28
              have La0_h28 := La0_h14.ext Xh28
              refine mx_aload_n dX4_of_5 rfl rfl ?_
              refine mx_iload_n dX4_of_6 rfl rfl ?_
              refine mx_putI 4 7 (ref := "PrairiePool$Wrong") cl_4 (Nat.le_of_ble_eq_true rfl) (Or.inl q358) (Or.inl rfl) dX4_of_7 (Or.inl rfl) rfl (ma_kde Kh28 (k27)) ?_
              refine mx_nmI  (fun h29 eh29 Xh29 Kh29 Lh29 => ?_)
              have H := H h29 eh29 Xh29
              have Kh29 := Kh29.trans Kh28
              have Lh29 := Lh29.trans Lh28
              have La0_h29 := La0_h28.ext Xh29
              refine mx_aload_n dX4_of_10 rfl rfl ?_
              refine mx_aretK rfl (by first | exact Or.inl ⟨_, rfl⟩ | exact Or.inr ⟨_, rfl⟩) dX4_of_11 ?_
              refine mx_aretK rfl (by first | exact Or.inl ⟨_, rfl⟩ | exact Or.inr ⟨_, rfl⟩) dX5_fail_24 ?_
              exact mx_athrow dX5_need_9 (by rw [(ma_kde Kh29 (k27))]; decide) (mt_out rfl (fun _ => mt_out rfl H))
            · have H := H.2 c26
              refine mx_iconst dX5_fail_12 ic_1 ?_
              refine mx_goto (tgt := 17) dX5_fail_13 rfl ?_
              refine mx_aload_n dX5_fail_17 rfl rfl ?_
              refine mx_get 5 4 (ref := "PrairiePool$Reader") cl_5 (Nat.le_of_ble_eq_true rfl) (Or.inl q388) (Or.inl rfl) dX5_fail_18 (fv_5_4 _ _) (ly5_k La0_h14) ?_
              obtain ⟨k30, H⟩ := H
              refine mx_callV 4 (y' := mi_X4_of) (vs := [iv (1 : Int32), iv (ah_I h14 a0 4)]) (st := []) (al' := [some (rv (ah_R h14 a0 8)), some (iv (1 : Int32)), some (iv (ah_I h14 a0 4))]) cl_4 V_X4_of (Or.inl q1302) dX5_fail_21 rfl rfl (Nat.le_of_ble_eq_true rfl) (Nat.le_of_ble_eq_true rfl) k30 ?_
              refine mx_aload_n dX4_of_0 rfl rfl ?_
              refine mx_iload_n dX4_of_1 rfl rfl ?_
              refine mx_putI 4 6 (ref := "PrairiePool$Wrong") cl_4 (Nat.le_of_ble_eq_true rfl) (Or.inl q356) (Or.inl rfl) dX4_of_2 (Or.inl rfl) rfl k30 ?_
              refine mx_nmI  (fun h31 eh31 Xh31 Kh31 Lh31 => ?_)
              have H := H h31 eh31 Xh31
              have La0_h31 := La0_h14.ext Xh31
              refine mx_aload_n dX4_of_5 rfl rfl ?_
              refine mx_iload_n dX4_of_6 rfl rfl ?_
              refine mx_putI 4 7 (ref := "PrairiePool$Wrong") cl_4 (Nat.le_of_ble_eq_true rfl) (Or.inl q358) (Or.inl rfl) dX4_of_7 (Or.inl rfl) rfl (ma_kde Kh31 (k30)) ?_
              refine mx_nmI  (fun h32 eh32 Xh32 Kh32 Lh32 => ?_)
              have H := H h32 eh32 Xh32
              have Kh32 := Kh32.trans Kh31
              have Lh32 := Lh32.trans Lh31
              have La0_h32 := La0_h31.ext Xh32
              refine mx_aload_n dX4_of_10 rfl rfl ?_
              refine mx_aretK rfl (by first | exact Or.inl ⟨_, rfl⟩ | exact Or.inr ⟨_, rfl⟩) dX4_of_11 ?_
              refine mx_aretK rfl (by first | exact Or.inl ⟨_, rfl⟩ | exact Or.inr ⟨_, rfl⟩) dX5_fail_24 ?_
              exact mx_athrow dX5_need_9 (by rw [(ma_kde Kh32 (k30))]; decide) (mt_out rfl (fun _ => mt_out rfl H))
          · have H := H.2 c25
            refine mx_iconst dX5_is_18 ic_1 ?_
            refine mx_goto (tgt := 23) dX5_is_19 rfl ?_
            refine mx_zretK rfl dX5_is_23 (Or.inr rfl) ?_
            refine mx_callV 5 (y' := mi_X5_need) (vs := [iv (1 : Int32)]) (st := []) (al' := [some (rv a0), some (iv (1 : Int32))]) cl_5 V_X5_need (Or.inl q1294) dX5_def_95 rfl rfl (Nat.le_of_ble_eq_true rfl) (Nat.le_of_ble_eq_true rfl) (ly5_k La0_h14) ?_
            refine mx_iload_n dX5_need_0 rfl rfl ?_
            refine mx_if_ne (tgt := 10) dX5_need_1 rfl (fun _ => ?_) (fun _ => absurd ‹_› (by decide))
            refine mx_vretK rfl dX5_need_10 ?_
            refine mx_aload_n dX5_def_98 rfl rfl ?_
            refine mx_callV 5 (y' := mi_X5_next) (vs := []) (st := []) (al' := [some (rv a0), none]) cl_5 V_X5_next (Or.inl q1206) dX5_def_99 rfl rfl (Nat.le_of_ble_eq_true rfl) (Nat.le_of_ble_eq_true rfl) (ly5_k La0_h14) ?_
            refine ma_kv H (fun h33 Xh33 H => ?_) (fun x1 h1 X1 H => mt_out rfl H)
            have H := H Xh33
            have k35 := Xh33.kd (k16)
            have La0_h33 := La0_h14.ext Xh33
            refine mx_aload_n dX5_def_102 rfl rfl ?_
            refine mx_iconst dX5_def_103 ic_1 ?_
            refine mx_callV 5 (y' := mi_X5_whole) (vs := [iv (1 : Int32)]) (st := []) (al' := [some (rv a0), some (iv (1 : Int32)), none, none]) cl_5 V_X5_whole (Or.inl q1311) dX5_def_104 rfl rfl (Nat.le_of_ble_eq_true rfl) (Nat.le_of_ble_eq_true rfl) (ly5_k La0_h33) ?_
            refine ma_kr H (fun r37 h36 Xh36 H => ?_) (fun x1 h1 X1 H => mt_out rfl H)
            have H := H Xh36
            have k38 := Xh36.kd (k35)
            have La0_h36 := La0_h33.ext Xh36
            refine mx_astore_n (al' := [some (rv a0), some (jv r12), none, some (rv r37)]) dX5_def_107 rfl (Nat.le_of_ble_eq_true rfl) rfl ?_
            refine mx_aload_n dX5_def_108 rfl rfl ?_
            refine mx_aload_n dX5_def_109 rfl rfl ?_
            refine mx_bipush dX5_def_110 ib_59 ?_
            refine mx_callV 5 (y' := mi_X5_is) (vs := [iv (59 : Int32)]) (st := [rv a0]) (al' := [some (rv a0), some (iv (59 : Int32))]) cl_5 V_X5_is (Or.inl q1307) dX5_def_112 rfl rfl (Nat.le_of_ble_eq_true rfl) (Nat.le_of_ble_eq_true rfl) (ly5_k La0_h36) ?_
            refine mx_aload_n dX5_is_0 rfl rfl ?_
            refine mx_get 5 3 (ref := "PrairiePool$Reader") cl_5 (Nat.le_of_ble_eq_true rfl) (Or.inl q387) (Or.inl rfl) dX5_is_1 (fv_5_3 _ _) (ly5_k La0_h36) ?_
            refine mx_iconst dX5_is_4 ic_4 ?_
            refine mx_icmp_ne (tgt := 22) dX5_is_5 rfl (fun c39 => ?_) (fun c39 => ?_)
            · have H := H.1 c39
              refine mx_iconst dX5_is_22 ic_0 ?_
              refine mx_zretK rfl dX5_is_23 (Or.inl rfl) ?_
              refine mx_callV 5 (y' := mi_X5_need) (vs := [iv (0 : Int32)]) (st := []) (al' := [some (rv a0), some (iv (0 : Int32))]) cl_5 V_X5_need (Or.inl q1294) dX5_def_115 rfl rfl (Nat.le_of_ble_eq_true rfl) (Nat.le_of_ble_eq_true rfl) (ly5_k La0_h36) ?_
              refine mx_iload_n dX5_need_0 rfl rfl ?_
              refine mx_if_ne (tgt := 10) dX5_need_1 rfl (fun _ => absurd ‹_› (by decide)) (fun _ => ?_)
              refine mx_aload_n dX5_need_4 rfl rfl ?_
              refine mx_iconst dX5_need_5 ic_2 ?_
              refine mx_callV 5 (y' := mi_X5_fail) (vs := [iv (2 : Int32)]) (st := []) (al' := [some (rv a0), some (iv (2 : Int32))]) cl_5 V_X5_fail (Or.inl q1298) dX5_need_6 rfl rfl (Nat.le_of_ble_eq_true rfl) (Nat.le_of_ble_eq_true rfl) (ly5_k La0_h36) ?_
              refine mx_aload_n dX5_fail_0 rfl rfl ?_
              refine mx_get 5 8 (ref := "PrairiePool$Reader") cl_5 (Nat.le_of_ble_eq_true rfl) (Or.inl q392) (Or.inl rfl) dX5_fail_1 (fv_5_8 _ _) (ly5_k La0_h36) ?_
              refine mx_aload_n dX5_fail_4 rfl rfl ?_
              refine mx_get 5 3 (ref := "PrairiePool$Reader") cl_5 (Nat.le_of_ble_eq_true rfl) (Or.inl q387) (Or.inl rfl) dX5_fail_5 (fv_5_3 _ _) (ly5_k La0_h36) ?_
              refine mx_iconst dX5_fail_8 ic_1 ?_
              refine mx_icmp_ne (tgt := 16) dX5_fail_9 rfl (fun c40 => ?_) (fun c40 => ?_)
              · have H := H.1 c40
                refine mx_iload_n dX5_fail_16 rfl rfl ?_
                refine mx_aload_n dX5_fail_17 rfl rfl ?_
                refine mx_get 5 4 (ref := "PrairiePool$Reader") cl_5 (Nat.le_of_ble_eq_true rfl) (Or.inl q388) (Or.inl rfl) dX5_fail_18 (fv_5_4 _ _) (ly5_k La0_h36) ?_
                obtain ⟨k41, H⟩ := H
                refine mx_callV 4 (y' := mi_X4_of) (vs := [iv (2 : Int32), iv (ah_I h36 a0 4)]) (st := []) (al' := [some (rv (ah_R h36 a0 8)), some (iv (2 : Int32)), some (iv (ah_I h36 a0 4))]) cl_4 V_X4_of (Or.inl q1302) dX5_fail_21 rfl rfl (Nat.le_of_ble_eq_true rfl) (Nat.le_of_ble_eq_true rfl) k41 ?_
                refine mx_aload_n dX4_of_0 rfl rfl ?_
                refine mx_iload_n dX4_of_1 rfl rfl ?_
                refine mx_putI 4 6 (ref := "PrairiePool$Wrong") cl_4 (Nat.le_of_ble_eq_true rfl) (Or.inl q356) (Or.inl rfl) dX4_of_2 (Or.inl rfl) rfl k41 ?_
                refine mx_nmI  (fun h42 eh42 Xh42 Kh42 Lh42 => ?_)
                have H := H h42 eh42 Xh42
                have La0_h42 := La0_h36.ext Xh42
                refine mx_aload_n dX4_of_5 rfl rfl ?_
                refine mx_iload_n dX4_of_6 rfl rfl ?_
                refine mx_putI 4 7 (ref := "PrairiePool$Wrong") cl_4 (Nat.le_of_ble_eq_true rfl) (Or.inl q358) (Or.inl rfl) dX4_of_7 (Or.inl rfl) rfl (ma_kde Kh42 (k41)) ?_
                refine mx_nmI  (fun h43 eh43 Xh43 Kh43 Lh43 => ?_)
                have H := H h43 eh43 Xh43
                have Kh43 := Kh43.trans Kh42
                have Lh43 := Lh43.trans Lh42
                have La0_h43 := La0_h42.ext Xh43
                refine mx_aload_n dX4_of_10 rfl rfl ?_
                refine mx_aretK rfl (by first | exact Or.inl ⟨_, rfl⟩ | exact Or.inr ⟨_, rfl⟩) dX4_of_11 ?_
                refine mx_aretK rfl (by first | exact Or.inl ⟨_, rfl⟩ | exact Or.inr ⟨_, rfl⟩) dX5_fail_24 ?_
                exact mx_athrow dX5_need_9 (by rw [(ma_kde Kh43 (k41))]; decide) (mt_out rfl (fun _ => mt_out rfl H))
              · have H := H.2 c40
                refine mx_iconst dX5_fail_12 ic_1 ?_
                refine mx_goto (tgt := 17) dX5_fail_13 rfl ?_
                refine mx_aload_n dX5_fail_17 rfl rfl ?_
                refine mx_get 5 4 (ref := "PrairiePool$Reader") cl_5 (Nat.le_of_ble_eq_true rfl) (Or.inl q388) (Or.inl rfl) dX5_fail_18 (fv_5_4 _ _) (ly5_k La0_h36) ?_
                obtain ⟨k44, H⟩ := H
                refine mx_callV 4 (y' := mi_X4_of) (vs := [iv (1 : Int32), iv (ah_I h36 a0 4)]) (st := []) (al' := [some (rv (ah_R h36 a0 8)), some (iv (1 : Int32)), some (iv (ah_I h36 a0 4))]) cl_4 V_X4_of (Or.inl q1302) dX5_fail_21 rfl rfl (Nat.le_of_ble_eq_true rfl) (Nat.le_of_ble_eq_true rfl) k44 ?_
                refine mx_aload_n dX4_of_0 rfl rfl ?_
                refine mx_iload_n dX4_of_1 rfl rfl ?_
                refine mx_putI 4 6 (ref := "PrairiePool$Wrong") cl_4 (Nat.le_of_ble_eq_true rfl) (Or.inl q356) (Or.inl rfl) dX4_of_2 (Or.inl rfl) rfl k44 ?_
                refine mx_nmI  (fun h45 eh45 Xh45 Kh45 Lh45 => ?_)
                have H := H h45 eh45 Xh45
                have La0_h45 := La0_h36.ext Xh45
                refine mx_aload_n dX4_of_5 rfl rfl ?_
                refine mx_iload_n dX4_of_6 rfl rfl ?_
                refine mx_putI 4 7 (ref := "PrairiePool$Wrong") cl_4 (Nat.le_of_ble_eq_true rfl) (Or.inl q358) (Or.inl rfl) dX4_of_7 (Or.inl rfl) rfl (ma_kde Kh45 (k44)) ?_
                refine mx_nmI  (fun h46 eh46 Xh46 Kh46 Lh46 => ?_)
                have H := H h46 eh46 Xh46
                have Kh46 := Kh46.trans Kh45
                have Lh46 := Lh46.trans Lh45
                have La0_h46 := La0_h45.ext Xh46
                refine mx_aload_n dX4_of_10 rfl rfl ?_
                refine mx_aretK rfl (by first | exact Or.inl ⟨_, rfl⟩ | exact Or.inr ⟨_, rfl⟩) dX4_of_11 ?_
                refine mx_aretK rfl (by first | exact Or.inl ⟨_, rfl⟩ | exact Or.inr ⟨_, rfl⟩) dX5_fail_24 ?_
                exact mx_athrow dX5_need_9 (by rw [(ma_kde Kh46 (k44))]; decide) (mt_out rfl (fun _ => mt_out rfl H))
            · have H := H.2 c39
              refine mx_aload_n dX5_is_8 rfl rfl ?_
              refine mx_get 5 6 (ref := "PrairiePool$Reader") cl_5 (Nat.le_of_ble_eq_true rfl) (Or.inl q390) (Or.inl rfl) dX5_is_9 (fv_5_6 _ _) (ly5_k La0_h36) ?_
              refine mx_iload_n dX5_is_12 rfl rfl ?_
              refine mx_i2l dX5_is_13 ?_
              refine mx_lif_ne (tgt := 22) dX5_is_14 dX5_is_15 rfl (fun c47 => ?_) (fun c47 => ?_)
              · have H := H.1 c47
                refine mx_iconst dX5_is_22 ic_0 ?_
                refine mx_zretK rfl dX5_is_23 (Or.inl rfl) ?_
                refine mx_callV 5 (y' := mi_X5_need) (vs := [iv (0 : Int32)]) (st := []) (al' := [some (rv a0), some (iv (0 : Int32))]) cl_5 V_X5_need (Or.inl q1294) dX5_def_115 rfl rfl (Nat.le_of_ble_eq_true rfl) (Nat.le_of_ble_eq_true rfl) (ly5_k La0_h36) ?_
                refine mx_iload_n dX5_need_0 rfl rfl ?_
                refine mx_if_ne (tgt := 10) dX5_need_1 rfl (fun _ => absurd ‹_› (by decide)) (fun _ => ?_)
                refine mx_aload_n dX5_need_4 rfl rfl ?_
                refine mx_iconst dX5_need_5 ic_2 ?_
                refine mx_callV 5 (y' := mi_X5_fail) (vs := [iv (2 : Int32)]) (st := []) (al' := [some (rv a0), some (iv (2 : Int32))]) cl_5 V_X5_fail (Or.inl q1298) dX5_need_6 rfl rfl (Nat.le_of_ble_eq_true rfl) (Nat.le_of_ble_eq_true rfl) (ly5_k La0_h36) ?_
                refine mx_aload_n dX5_fail_0 rfl rfl ?_
                refine mx_get 5 8 (ref := "PrairiePool$Reader") cl_5 (Nat.le_of_ble_eq_true rfl) (Or.inl q392) (Or.inl rfl) dX5_fail_1 (fv_5_8 _ _) (ly5_k La0_h36) ?_
                refine mx_aload_n dX5_fail_4 rfl rfl ?_
                refine mx_get 5 3 (ref := "PrairiePool$Reader") cl_5 (Nat.le_of_ble_eq_true rfl) (Or.inl q387) (Or.inl rfl) dX5_fail_5 (fv_5_3 _ _) (ly5_k La0_h36) ?_
                refine mx_iconst dX5_fail_8 ic_1 ?_
                refine mx_icmp_ne (tgt := 16) dX5_fail_9 rfl (fun c48 => ?_) (fun c48 => ?_)
                · have H := H.1 c48
                  refine mx_iload_n dX5_fail_16 rfl rfl ?_
                  refine mx_aload_n dX5_fail_17 rfl rfl ?_
                  refine mx_get 5 4 (ref := "PrairiePool$Reader") cl_5 (Nat.le_of_ble_eq_true rfl) (Or.inl q388) (Or.inl rfl) dX5_fail_18 (fv_5_4 _ _) (ly5_k La0_h36) ?_
                  obtain ⟨k49, H⟩ := H
                  refine mx_callV 4 (y' := mi_X4_of) (vs := [iv (2 : Int32), iv (ah_I h36 a0 4)]) (st := []) (al' := [some (rv (ah_R h36 a0 8)), some (iv (2 : Int32)), some (iv (ah_I h36 a0 4))]) cl_4 V_X4_of (Or.inl q1302) dX5_fail_21 rfl rfl (Nat.le_of_ble_eq_true rfl) (Nat.le_of_ble_eq_true rfl) k49 ?_
                  refine mx_aload_n dX4_of_0 rfl rfl ?_
                  refine mx_iload_n dX4_of_1 rfl rfl ?_
                  refine mx_putI 4 6 (ref := "PrairiePool$Wrong") cl_4 (Nat.le_of_ble_eq_true rfl) (Or.inl q356) (Or.inl rfl) dX4_of_2 (Or.inl rfl) rfl k49 ?_
                  refine mx_nmI  (fun h50 eh50 Xh50 Kh50 Lh50 => ?_)
                  have H := H h50 eh50 Xh50
                  have La0_h50 := La0_h36.ext Xh50
                  refine mx_aload_n dX4_of_5 rfl rfl ?_
                  refine mx_iload_n dX4_of_6 rfl rfl ?_
                  refine mx_putI 4 7 (ref := "PrairiePool$Wrong") cl_4 (Nat.le_of_ble_eq_true rfl) (Or.inl q358) (Or.inl rfl) dX4_of_7 (Or.inl rfl) rfl (ma_kde Kh50 (k49)) ?_
                  refine mx_nmI  (fun h51 eh51 Xh51 Kh51 Lh51 => ?_)
                  have H := H h51 eh51 Xh51
                  have Kh51 := Kh51.trans Kh50
                  have Lh51 := Lh51.trans Lh50
                  have La0_h51 := La0_h50.ext Xh51
                  refine mx_aload_n dX4_of_10 rfl rfl ?_
                  refine mx_aretK rfl (by first | exact Or.inl ⟨_, rfl⟩ | exact Or.inr ⟨_, rfl⟩) dX4_of_11 ?_
                  refine mx_aretK rfl (by first | exact Or.inl ⟨_, rfl⟩ | exact Or.inr ⟨_, rfl⟩) dX5_fail_24 ?_
                  exact mx_athrow dX5_need_9 (by rw [(ma_kde Kh51 (k49))]; decide) (mt_out rfl (fun _ => mt_out rfl H))
                · have H := H.2 c48
                  refine mx_iconst dX5_fail_12 ic_1 ?_
                  refine mx_goto (tgt := 17) dX5_fail_13 rfl ?_
                  refine mx_aload_n dX5_fail_17 rfl rfl ?_
                  refine mx_get 5 4 (ref := "PrairiePool$Reader") cl_5 (Nat.le_of_ble_eq_true rfl) (Or.inl q388) (Or.inl rfl) dX5_fail_18 (fv_5_4 _ _) (ly5_k La0_h36) ?_
                  obtain ⟨k52, H⟩ := H
                  refine mx_callV 4 (y' := mi_X4_of) (vs := [iv (1 : Int32), iv (ah_I h36 a0 4)]) (st := []) (al' := [some (rv (ah_R h36 a0 8)), some (iv (1 : Int32)), some (iv (ah_I h36 a0 4))]) cl_4 V_X4_of (Or.inl q1302) dX5_fail_21 rfl rfl (Nat.le_of_ble_eq_true rfl) (Nat.le_of_ble_eq_true rfl) k52 ?_
                  refine mx_aload_n dX4_of_0 rfl rfl ?_
                  refine mx_iload_n dX4_of_1 rfl rfl ?_
                  refine mx_putI 4 6 (ref := "PrairiePool$Wrong") cl_4 (Nat.le_of_ble_eq_true rfl) (Or.inl q356) (Or.inl rfl) dX4_of_2 (Or.inl rfl) rfl k52 ?_
                  refine mx_nmI  (fun h53 eh53 Xh53 Kh53 Lh53 => ?_)
                  have H := H h53 eh53 Xh53
                  have La0_h53 := La0_h36.ext Xh53
                  refine mx_aload_n dX4_of_5 rfl rfl ?_
                  refine mx_iload_n dX4_of_6 rfl rfl ?_
                  refine mx_putI 4 7 (ref := "PrairiePool$Wrong") cl_4 (Nat.le_of_ble_eq_true rfl) (Or.inl q358) (Or.inl rfl) dX4_of_7 (Or.inl rfl) rfl (ma_kde Kh53 (k52)) ?_
                  refine mx_nmI  (fun h54 eh54 Xh54 Kh54 Lh54 => ?_)
                  have H := H h54 eh54 Xh54
                  have Kh54 := Kh54.trans Kh53
                  have Lh54 := Lh54.trans Lh53
                  have La0_h54 := La0_h53.ext Xh54
                  refine mx_aload_n dX4_of_10 rfl rfl ?_
                  refine mx_aretK rfl (by first | exact Or.inl ⟨_, rfl⟩ | exact Or.inr ⟨_, rfl⟩) dX4_of_11 ?_
                  refine mx_aretK rfl (by first | exact Or.inl ⟨_, rfl⟩ | exact Or.inr ⟨_, rfl⟩) dX5_fail_24 ?_
                  exact mx_athrow dX5_need_9 (by rw [(ma_kde Kh54 (k52))]; decide) (mt_out rfl (fun _ => mt_out rfl H))
              · have H := H.2 c47
                refine mx_iconst dX5_is_18 ic_1 ?_
                refine mx_goto (tgt := 23) dX5_is_19 rfl ?_
                refine mx_zretK rfl dX5_is_23 (Or.inr rfl) ?_
                refine mx_callV 5 (y' := mi_X5_need) (vs := [iv (1 : Int32)]) (st := []) (al' := [some (rv a0), some (iv (1 : Int32))]) cl_5 V_X5_need (Or.inl q1294) dX5_def_115 rfl rfl (Nat.le_of_ble_eq_true rfl) (Nat.le_of_ble_eq_true rfl) (ly5_k La0_h36) ?_
                refine mx_iload_n dX5_need_0 rfl rfl ?_
                refine mx_if_ne (tgt := 10) dX5_need_1 rfl (fun _ => ?_) (fun _ => absurd ‹_› (by decide))
                refine mx_vretK rfl dX5_need_10 ?_
                refine mx_aload_n dX5_def_118 rfl rfl ?_
                refine mx_callV 5 (y' := mi_X5_next) (vs := []) (st := []) (al' := [some (rv a0), none]) cl_5 V_X5_next (Or.inl q1206) dX5_def_119 rfl rfl (Nat.le_of_ble_eq_true rfl) (Nat.le_of_ble_eq_true rfl) (ly5_k La0_h36) ?_
                refine ma_kv H (fun h55 Xh55 H => ?_) (fun x1 h1 X1 H => mt_out rfl H)
                have H := H Xh55
                have k57 := Xh55.kd (k38)
                have La0_h55 := La0_h36.ext Xh55
                refine mx_aload_n dX5_def_122 rfl rfl ?_
                refine mx_get 5 7 (ref := "PrairiePool$Reader") cl_5 (Nat.le_of_ble_eq_true rfl) (Or.inl q391) (Or.inl rfl) dX5_def_123 (fv_5_7 _ _) (ly5_k La0_h55) ?_
                obtain ⟨k58, H⟩ := H
                refine mx_get 15 0 (ref := "PrairiePool$Law") cl_15 (Nat.le_of_ble_eq_true rfl) (Or.inr ⟨_, q1190⟩) (Or.inl rfl) dX5_def_126 (fv_15_0 _ _) k58 ?_
                refine mx_aload_n dX5_def_129 rfl rfl ?_
                refine mx_get 5 7 (ref := "PrairiePool$Reader") cl_5 (Nat.le_of_ble_eq_true rfl) (Or.inl q391) (Or.inl rfl) dX5_def_130 (fv_5_7 _ _) (ly5_k La0_h55) ?_
                refine mx_get 15 2 (ref := "PrairiePool$Law") cl_15 (Nat.le_of_ble_eq_true rfl) (Or.inr ⟨_, q1194⟩) (Or.inl rfl) dX5_def_133 (fv_15_2 _ _) k58 ?_
                refine mx_lload_n dX5_def_136 rfl rfl ?_
                obtain ⟨k59, H⟩ := H
                refine my_last dX5_def_137 rfl k59 ?_
                refine mx_nmJ  (fun h60 eh60 Xh60 Kh60 Lh60 => ?_)
                have H := H h60 eh60 Xh60
                have La0_h60 := La0_h55.ext Xh60
                refine mx_aload_n dX5_def_138 rfl rfl ?_
                refine mx_get 5 7 (ref := "PrairiePool$Reader") cl_5 (Nat.le_of_ble_eq_true rfl) (Or.inl q391) (Or.inl rfl) dX5_def_139 (fv_5_7 _ _) (ly5_k La0_h60) ?_
                refine mx_tr (ah_RJ eh60) ?_
                refine mx_get 15 1 (ref := "PrairiePool$Law") cl_15 (Nat.le_of_ble_eq_true rfl) (Or.inr ⟨_, q1192⟩) (Or.inl rfl) dX5_def_142 (fv_15_1 _ _) (ma_kde Kh60 (k58)) ?_
                refine mx_tr (ah_RJ eh60) ?_
                refine mx_aload_n dX5_def_145 rfl rfl ?_
                refine mx_get 5 7 (ref := "PrairiePool$Reader") cl_5 (Nat.le_of_ble_eq_true rfl) (Or.inl q391) (Or.inl rfl) dX5_def_146 (fv_5_7 _ _) (ly5_k La0_h60) ?_
                refine mx_tr (ah_RJ eh60) ?_
                refine mx_get 15 2 (ref := "PrairiePool$Law") cl_15 (Nat.le_of_ble_eq_true rfl) (Or.inr ⟨_, q1194⟩) (Or.inl rfl) dX5_def_149 (fv_15_2 _ _) (ma_kde Kh60 (k58)) ?_
                refine mx_ti (ah_IJ eh60) ?_
                refine mx_aload_n dX5_def_152 rfl rfl ?_
                obtain ⟨k61, H⟩ := H
                obtain ⟨k62, H⟩ := H
                obtain ⟨k63, H⟩ := H
                refine mx_astqP 10 [16, 17, 18, 19] (by decide) rfl ae_tm dX5_def_153 rfl (ma_aok Kh60 Lh60 (k61)) (ma_ksk Kh60 (k62)) k63 ?_
                refine mx_nmR (ah_ext.wR (Or.inr (Or.inl k63))) (fun h64 eh64 Xh64 Kh64 Lh64 => ?_)
                have H := H h64 eh64 Xh64
                have Kh64 := Kh64.trans Kh60
                have Lh64 := Lh64.trans Lh60
                have La0_h64 := La0_h60.ext Xh64
                refine mx_aload_n dX5_def_154 rfl rfl ?_
                refine mx_get 5 7 (ref := "PrairiePool$Reader") cl_5 (Nat.le_of_ble_eq_true rfl) (Or.inl q391) (Or.inl rfl) dX5_def_155 (fv_5_7 _ _) (ly5_k La0_h64) ?_
                refine mx_dup_r dX5_def_158 ?_
                obtain ⟨k65, H⟩ := H
                refine mx_get 15 2 (ref := "PrairiePool$Law") cl_15 (Nat.le_of_ble_eq_true rfl) (Or.inr ⟨_, q1194⟩) (Or.inl rfl) dX5_def_159 (fv_15_2 _ _) (ma_kde Kh64 (k65)) ?_
                refine mx_ti ((ah_IR eh64).trans (ah_IJ eh60)) ?_
                refine mx_iconst dX5_def_162 ic_1 ?_
                refine mx_iadd dX5_def_163 ?_
                refine mx_putI 15 2 (ref := "PrairiePool$Law") cl_15 (Nat.le_of_ble_eq_true rfl) (Or.inr ⟨_, q1194⟩) (Or.inl rfl) dX5_def_164 (Or.inl rfl) rfl (ma_kde Kh64 (k65)) ?_
                refine mx_nmI  (fun h66 eh66 Xh66 Kh66 Lh66 => ?_)
                have H := H h66 eh66 Xh66
                have Kh66 := Kh66.trans Kh64
                have Lh66 := Lh66.trans Lh64
                have La0_h66 := La0_h64.ext Xh66
                exact mx_vret rfl dX5_def_167 H
      · have H := H.2 c10
        refine mx_aload_n dX5_def_73 rfl rfl ?_
        refine mx_iconst dX5_def_74 ic_4 ?_
        refine mx_callV 5 (y' := mi_X5_fail) (vs := [iv (4 : Int32)]) (st := []) (al' := [some (rv a0), some (iv (4 : Int32))]) cl_5 V_X5_fail (Or.inl q1298) dX5_def_75 rfl rfl (Nat.le_of_ble_eq_true rfl) (Nat.le_of_ble_eq_true rfl) (ly5_k La0_h7) ?_
        refine mx_aload_n dX5_fail_0 rfl rfl ?_
        refine mx_get 5 8 (ref := "PrairiePool$Reader") cl_5 (Nat.le_of_ble_eq_true rfl) (Or.inl q392) (Or.inl rfl) dX5_fail_1 (fv_5_8 _ _) (ly5_k La0_h7) ?_
        refine mx_aload_n dX5_fail_4 rfl rfl ?_
        refine mx_get 5 3 (ref := "PrairiePool$Reader") cl_5 (Nat.le_of_ble_eq_true rfl) (Or.inl q387) (Or.inl rfl) dX5_fail_5 (fv_5_3 _ _) (ly5_k La0_h7) ?_
        refine mx_iconst dX5_fail_8 ic_1 ?_
        refine mx_icmp_ne (tgt := 16) dX5_fail_9 rfl (fun c67 => ?_) (fun c67 => ?_)
        · have H := H.1 c67
          refine mx_iload_n dX5_fail_16 rfl rfl ?_
          refine mx_aload_n dX5_fail_17 rfl rfl ?_
          refine mx_get 5 4 (ref := "PrairiePool$Reader") cl_5 (Nat.le_of_ble_eq_true rfl) (Or.inl q388) (Or.inl rfl) dX5_fail_18 (fv_5_4 _ _) (ly5_k La0_h7) ?_
          obtain ⟨k68, H⟩ := H
          refine mx_callV 4 (y' := mi_X4_of) (vs := [iv (4 : Int32), iv (ah_I h7 a0 4)]) (st := []) (al' := [some (rv (ah_R h7 a0 8)), some (iv (4 : Int32)), some (iv (ah_I h7 a0 4))]) cl_4 V_X4_of (Or.inl q1302) dX5_fail_21 rfl rfl (Nat.le_of_ble_eq_true rfl) (Nat.le_of_ble_eq_true rfl) k68 ?_
          refine mx_aload_n dX4_of_0 rfl rfl ?_
          refine mx_iload_n dX4_of_1 rfl rfl ?_
          refine mx_putI 4 6 (ref := "PrairiePool$Wrong") cl_4 (Nat.le_of_ble_eq_true rfl) (Or.inl q356) (Or.inl rfl) dX4_of_2 (Or.inl rfl) rfl k68 ?_
          refine mx_nmI  (fun h69 eh69 Xh69 Kh69 Lh69 => ?_)
          have H := H h69 eh69 Xh69
          have La0_h69 := La0_h7.ext Xh69
          refine mx_aload_n dX4_of_5 rfl rfl ?_
          refine mx_iload_n dX4_of_6 rfl rfl ?_
          refine mx_putI 4 7 (ref := "PrairiePool$Wrong") cl_4 (Nat.le_of_ble_eq_true rfl) (Or.inl q358) (Or.inl rfl) dX4_of_7 (Or.inl rfl) rfl (ma_kde Kh69 (k68)) ?_
          refine mx_nmI  (fun h70 eh70 Xh70 Kh70 Lh70 => ?_)
          have H := H h70 eh70 Xh70
          have Kh70 := Kh70.trans Kh69
          have Lh70 := Lh70.trans Lh69
          have La0_h70 := La0_h69.ext Xh70
          refine mx_aload_n dX4_of_10 rfl rfl ?_
          refine mx_aretK rfl (by first | exact Or.inl ⟨_, rfl⟩ | exact Or.inr ⟨_, rfl⟩) dX4_of_11 ?_
          refine mx_aretK rfl (by first | exact Or.inl ⟨_, rfl⟩ | exact Or.inr ⟨_, rfl⟩) dX5_fail_24 ?_
          exact mx_athrow dX5_def_78 (by rw [(ma_kde Kh70 (k68))]; decide) (mt_out rfl H)
        · have H := H.2 c67
          refine mx_iconst dX5_fail_12 ic_1 ?_
          refine mx_goto (tgt := 17) dX5_fail_13 rfl ?_
          refine mx_aload_n dX5_fail_17 rfl rfl ?_
          refine mx_get 5 4 (ref := "PrairiePool$Reader") cl_5 (Nat.le_of_ble_eq_true rfl) (Or.inl q388) (Or.inl rfl) dX5_fail_18 (fv_5_4 _ _) (ly5_k La0_h7) ?_
          obtain ⟨k71, H⟩ := H
          refine mx_callV 4 (y' := mi_X4_of) (vs := [iv (1 : Int32), iv (ah_I h7 a0 4)]) (st := []) (al' := [some (rv (ah_R h7 a0 8)), some (iv (1 : Int32)), some (iv (ah_I h7 a0 4))]) cl_4 V_X4_of (Or.inl q1302) dX5_fail_21 rfl rfl (Nat.le_of_ble_eq_true rfl) (Nat.le_of_ble_eq_true rfl) k71 ?_
          refine mx_aload_n dX4_of_0 rfl rfl ?_
          refine mx_iload_n dX4_of_1 rfl rfl ?_
          refine mx_putI 4 6 (ref := "PrairiePool$Wrong") cl_4 (Nat.le_of_ble_eq_true rfl) (Or.inl q356) (Or.inl rfl) dX4_of_2 (Or.inl rfl) rfl k71 ?_
          refine mx_nmI  (fun h72 eh72 Xh72 Kh72 Lh72 => ?_)
          have H := H h72 eh72 Xh72
          have La0_h72 := La0_h7.ext Xh72
          refine mx_aload_n dX4_of_5 rfl rfl ?_
          refine mx_iload_n dX4_of_6 rfl rfl ?_
          refine mx_putI 4 7 (ref := "PrairiePool$Wrong") cl_4 (Nat.le_of_ble_eq_true rfl) (Or.inl q358) (Or.inl rfl) dX4_of_7 (Or.inl rfl) rfl (ma_kde Kh72 (k71)) ?_
          refine mx_nmI  (fun h73 eh73 Xh73 Kh73 Lh73 => ?_)
          have H := H h73 eh73 Xh73
          have Kh73 := Kh73.trans Kh72
          have Lh73 := Lh73.trans Lh72
          have La0_h73 := La0_h72.ext Xh73
          refine mx_aload_n dX4_of_10 rfl rfl ?_
          refine mx_aretK rfl (by first | exact Or.inl ⟨_, rfl⟩ | exact Or.inr ⟨_, rfl⟩) dX4_of_11 ?_
          refine mx_aretK rfl (by first | exact Or.inl ⟨_, rfl⟩ | exact Or.inr ⟨_, rfl⟩) dX5_fail_24 ?_
          exact mx_athrow dX5_def_78 (by rw [(ma_kde Kh73 (k71))]; decide) (mt_out rfl H)
    · have H := H.2 c3
      refine mx_aload_n dX5_def_52 rfl rfl ?_
      refine mx_iconst dX5_def_53 ic_3 ?_
      refine mx_callV 5 (y' := mi_X5_fail) (vs := [iv (3 : Int32)]) (st := []) (al' := [some (rv a0), some (iv (3 : Int32))]) cl_5 V_X5_fail (Or.inl q1298) dX5_def_54 rfl rfl (Nat.le_of_ble_eq_true rfl) (Nat.le_of_ble_eq_true rfl) (ly5_k La0_h) ?_
      refine mx_aload_n dX5_fail_0 rfl rfl ?_
      refine mx_get 5 8 (ref := "PrairiePool$Reader") cl_5 (Nat.le_of_ble_eq_true rfl) (Or.inl q392) (Or.inl rfl) dX5_fail_1 (fv_5_8 _ _) (ly5_k La0_h) ?_
      refine mx_aload_n dX5_fail_4 rfl rfl ?_
      refine mx_get 5 3 (ref := "PrairiePool$Reader") cl_5 (Nat.le_of_ble_eq_true rfl) (Or.inl q387) (Or.inl rfl) dX5_fail_5 (fv_5_3 _ _) (ly5_k La0_h) ?_
      refine mx_iconst dX5_fail_8 ic_1 ?_
      refine mx_icmp_ne (tgt := 16) dX5_fail_9 rfl (fun c74 => ?_) (fun c74 => ?_)
      · have H := H.1 c74
        refine mx_iload_n dX5_fail_16 rfl rfl ?_
        refine mx_aload_n dX5_fail_17 rfl rfl ?_
        refine mx_get 5 4 (ref := "PrairiePool$Reader") cl_5 (Nat.le_of_ble_eq_true rfl) (Or.inl q388) (Or.inl rfl) dX5_fail_18 (fv_5_4 _ _) (ly5_k La0_h) ?_
        obtain ⟨k75, H⟩ := H
        refine mx_callV 4 (y' := mi_X4_of) (vs := [iv (3 : Int32), iv (ah_I h a0 4)]) (st := []) (al' := [some (rv (ah_R h a0 8)), some (iv (3 : Int32)), some (iv (ah_I h a0 4))]) cl_4 V_X4_of (Or.inl q1302) dX5_fail_21 rfl rfl (Nat.le_of_ble_eq_true rfl) (Nat.le_of_ble_eq_true rfl) k75 ?_
        refine mx_aload_n dX4_of_0 rfl rfl ?_
        refine mx_iload_n dX4_of_1 rfl rfl ?_
        refine mx_putI 4 6 (ref := "PrairiePool$Wrong") cl_4 (Nat.le_of_ble_eq_true rfl) (Or.inl q356) (Or.inl rfl) dX4_of_2 (Or.inl rfl) rfl k75 ?_
        refine mx_nmI  (fun h76 eh76 Xh76 Kh76 Lh76 => ?_)
        have H := H h76 eh76 Xh76
        have La0_h76 := La0_h.ext Xh76
        refine mx_aload_n dX4_of_5 rfl rfl ?_
        refine mx_iload_n dX4_of_6 rfl rfl ?_
        refine mx_putI 4 7 (ref := "PrairiePool$Wrong") cl_4 (Nat.le_of_ble_eq_true rfl) (Or.inl q358) (Or.inl rfl) dX4_of_7 (Or.inl rfl) rfl (ma_kde Kh76 (k75)) ?_
        refine mx_nmI  (fun h77 eh77 Xh77 Kh77 Lh77 => ?_)
        have H := H h77 eh77 Xh77
        have Kh77 := Kh77.trans Kh76
        have Lh77 := Lh77.trans Lh76
        have La0_h77 := La0_h76.ext Xh77
        refine mx_aload_n dX4_of_10 rfl rfl ?_
        refine mx_aretK rfl (by first | exact Or.inl ⟨_, rfl⟩ | exact Or.inr ⟨_, rfl⟩) dX4_of_11 ?_
        refine mx_aretK rfl (by first | exact Or.inl ⟨_, rfl⟩ | exact Or.inr ⟨_, rfl⟩) dX5_fail_24 ?_
        exact mx_athrow dX5_def_57 (by rw [(ma_kde Kh77 (k75))]; decide) (mt_out rfl H)
      · have H := H.2 c74
        refine mx_iconst dX5_fail_12 ic_1 ?_
        refine mx_goto (tgt := 17) dX5_fail_13 rfl ?_
        refine mx_aload_n dX5_fail_17 rfl rfl ?_
        refine mx_get 5 4 (ref := "PrairiePool$Reader") cl_5 (Nat.le_of_ble_eq_true rfl) (Or.inl q388) (Or.inl rfl) dX5_fail_18 (fv_5_4 _ _) (ly5_k La0_h) ?_
        obtain ⟨k78, H⟩ := H
        refine mx_callV 4 (y' := mi_X4_of) (vs := [iv (1 : Int32), iv (ah_I h a0 4)]) (st := []) (al' := [some (rv (ah_R h a0 8)), some (iv (1 : Int32)), some (iv (ah_I h a0 4))]) cl_4 V_X4_of (Or.inl q1302) dX5_fail_21 rfl rfl (Nat.le_of_ble_eq_true rfl) (Nat.le_of_ble_eq_true rfl) k78 ?_
        refine mx_aload_n dX4_of_0 rfl rfl ?_
        refine mx_iload_n dX4_of_1 rfl rfl ?_
        refine mx_putI 4 6 (ref := "PrairiePool$Wrong") cl_4 (Nat.le_of_ble_eq_true rfl) (Or.inl q356) (Or.inl rfl) dX4_of_2 (Or.inl rfl) rfl k78 ?_
        refine mx_nmI  (fun h79 eh79 Xh79 Kh79 Lh79 => ?_)
        have H := H h79 eh79 Xh79
        have La0_h79 := La0_h.ext Xh79
        refine mx_aload_n dX4_of_5 rfl rfl ?_
        refine mx_iload_n dX4_of_6 rfl rfl ?_
        refine mx_putI 4 7 (ref := "PrairiePool$Wrong") cl_4 (Nat.le_of_ble_eq_true rfl) (Or.inl q358) (Or.inl rfl) dX4_of_7 (Or.inl rfl) rfl (ma_kde Kh79 (k78)) ?_
        refine mx_nmI  (fun h80 eh80 Xh80 Kh80 Lh80 => ?_)
        have H := H h80 eh80 Xh80
        have Kh80 := Kh80.trans Kh79
        have Lh80 := Lh80.trans Lh79
        have La0_h80 := La0_h79.ext Xh80
        refine mx_aload_n dX4_of_10 rfl rfl ?_
        refine mx_aretK rfl (by first | exact Or.inl ⟨_, rfl⟩ | exact Or.inr ⟨_, rfl⟩) dX4_of_11 ?_
        refine mx_aretK rfl (by first | exact Or.inl ⟨_, rfl⟩ | exact Or.inr ⟨_, rfl⟩) dX5_fail_24 ?_
        exact mx_athrow dX5_def_57 (by rw [(ma_kde Kh80 (k78))]; decide) (mt_out rfl H)
  · have H := H.2 c1
    refine mx_aload_n dX5_need_4 rfl rfl ?_
    refine mx_iconst dX5_need_5 ic_2 ?_
    refine mx_callV 5 (y' := mi_X5_fail) (vs := [iv (2 : Int32)]) (st := []) (al' := [some (rv a0), some (iv (2 : Int32))]) cl_5 V_X5_fail (Or.inl q1298) dX5_need_6 rfl rfl (Nat.le_of_ble_eq_true rfl) (Nat.le_of_ble_eq_true rfl) (ly5_k La0_h) ?_
    refine mx_aload_n dX5_fail_0 rfl rfl ?_
    refine mx_get 5 8 (ref := "PrairiePool$Reader") cl_5 (Nat.le_of_ble_eq_true rfl) (Or.inl q392) (Or.inl rfl) dX5_fail_1 (fv_5_8 _ _) (ly5_k La0_h) ?_
    refine mx_aload_n dX5_fail_4 rfl rfl ?_
    refine mx_get 5 3 (ref := "PrairiePool$Reader") cl_5 (Nat.le_of_ble_eq_true rfl) (Or.inl q387) (Or.inl rfl) dX5_fail_5 (fv_5_3 _ _) (ly5_k La0_h) ?_
    refine mx_iconst dX5_fail_8 ic_1 ?_
    refine mx_icmp_ne (tgt := 16) dX5_fail_9 rfl (fun c81 => ?_) (fun c81 => ?_)
    · have H := H.1 c81
      refine mx_iload_n dX5_fail_16 rfl rfl ?_
      refine mx_aload_n dX5_fail_17 rfl rfl ?_
      refine mx_get 5 4 (ref := "PrairiePool$Reader") cl_5 (Nat.le_of_ble_eq_true rfl) (Or.inl q388) (Or.inl rfl) dX5_fail_18 (fv_5_4 _ _) (ly5_k La0_h) ?_
      obtain ⟨k82, H⟩ := H
      refine mx_callV 4 (y' := mi_X4_of) (vs := [iv (2 : Int32), iv (ah_I h a0 4)]) (st := []) (al' := [some (rv (ah_R h a0 8)), some (iv (2 : Int32)), some (iv (ah_I h a0 4))]) cl_4 V_X4_of (Or.inl q1302) dX5_fail_21 rfl rfl (Nat.le_of_ble_eq_true rfl) (Nat.le_of_ble_eq_true rfl) k82 ?_
      refine mx_aload_n dX4_of_0 rfl rfl ?_
      refine mx_iload_n dX4_of_1 rfl rfl ?_
      refine mx_putI 4 6 (ref := "PrairiePool$Wrong") cl_4 (Nat.le_of_ble_eq_true rfl) (Or.inl q356) (Or.inl rfl) dX4_of_2 (Or.inl rfl) rfl k82 ?_
      refine mx_nmI  (fun h83 eh83 Xh83 Kh83 Lh83 => ?_)
      have H := H h83 eh83 Xh83
      have La0_h83 := La0_h.ext Xh83
      refine mx_aload_n dX4_of_5 rfl rfl ?_
      refine mx_iload_n dX4_of_6 rfl rfl ?_
      refine mx_putI 4 7 (ref := "PrairiePool$Wrong") cl_4 (Nat.le_of_ble_eq_true rfl) (Or.inl q358) (Or.inl rfl) dX4_of_7 (Or.inl rfl) rfl (ma_kde Kh83 (k82)) ?_
      refine mx_nmI  (fun h84 eh84 Xh84 Kh84 Lh84 => ?_)
      have H := H h84 eh84 Xh84
      have Kh84 := Kh84.trans Kh83
      have Lh84 := Lh84.trans Lh83
      have La0_h84 := La0_h83.ext Xh84
      refine mx_aload_n dX4_of_10 rfl rfl ?_
      refine mx_aretK rfl (by first | exact Or.inl ⟨_, rfl⟩ | exact Or.inr ⟨_, rfl⟩) dX4_of_11 ?_
      refine mx_aretK rfl (by first | exact Or.inl ⟨_, rfl⟩ | exact Or.inr ⟨_, rfl⟩) dX5_fail_24 ?_
      exact mx_athrow dX5_need_9 (by rw [(ma_kde Kh84 (k82))]; decide) (mt_out rfl (fun _ => mt_out rfl H))
    · have H := H.2 c81
      refine mx_iconst dX5_fail_12 ic_1 ?_
      refine mx_goto (tgt := 17) dX5_fail_13 rfl ?_
      refine mx_aload_n dX5_fail_17 rfl rfl ?_
      refine mx_get 5 4 (ref := "PrairiePool$Reader") cl_5 (Nat.le_of_ble_eq_true rfl) (Or.inl q388) (Or.inl rfl) dX5_fail_18 (fv_5_4 _ _) (ly5_k La0_h) ?_
      obtain ⟨k85, H⟩ := H
      refine mx_callV 4 (y' := mi_X4_of) (vs := [iv (1 : Int32), iv (ah_I h a0 4)]) (st := []) (al' := [some (rv (ah_R h a0 8)), some (iv (1 : Int32)), some (iv (ah_I h a0 4))]) cl_4 V_X4_of (Or.inl q1302) dX5_fail_21 rfl rfl (Nat.le_of_ble_eq_true rfl) (Nat.le_of_ble_eq_true rfl) k85 ?_
      refine mx_aload_n dX4_of_0 rfl rfl ?_
      refine mx_iload_n dX4_of_1 rfl rfl ?_
      refine mx_putI 4 6 (ref := "PrairiePool$Wrong") cl_4 (Nat.le_of_ble_eq_true rfl) (Or.inl q356) (Or.inl rfl) dX4_of_2 (Or.inl rfl) rfl k85 ?_
      refine mx_nmI  (fun h86 eh86 Xh86 Kh86 Lh86 => ?_)
      have H := H h86 eh86 Xh86
      have La0_h86 := La0_h.ext Xh86
      refine mx_aload_n dX4_of_5 rfl rfl ?_
      refine mx_iload_n dX4_of_6 rfl rfl ?_
      refine mx_putI 4 7 (ref := "PrairiePool$Wrong") cl_4 (Nat.le_of_ble_eq_true rfl) (Or.inl q358) (Or.inl rfl) dX4_of_7 (Or.inl rfl) rfl (ma_kde Kh86 (k85)) ?_
      refine mx_nmI  (fun h87 eh87 Xh87 Kh87 Lh87 => ?_)
      have H := H h87 eh87 Xh87
      have Kh87 := Kh87.trans Kh86
      have Lh87 := Lh87.trans Lh86
      have La0_h87 := La0_h86.ext Xh87
      refine mx_aload_n dX4_of_10 rfl rfl ?_
      refine mx_aretK rfl (by first | exact Or.inl ⟨_, rfl⟩ | exact Or.inr ⟨_, rfl⟩) dX4_of_11 ?_
      refine mx_aretK rfl (by first | exact Or.inl ⟨_, rfl⟩ | exact Or.inr ⟨_, rfl⟩) dX5_fail_24 ?_
      exact mx_athrow dX5_need_9 (by rw [(ma_kde Kh87 (k85))]; decide) (mt_out rfl (fun _ => mt_out rfl H))
theorem dX5_name_0 : decode mi_X5_name.2.1 0 = .ok (.aload_n 0, 1) := by decide +kernel
theorem dX5_name_1 : decode mi_X5_name.2.1 1 = .ok (.getfield 37, 3) := by decide +kernel
theorem dX5_name_4 : decode mi_X5_name.2.1 4 = .ok (.iconst 2, 1) := by decide +kernel
theorem dX5_name_5 : decode mi_X5_name.2.1 5 = .ok (.if_icmp .ne 17, 3) := by decide +kernel
theorem dX5_name_8 : decode mi_X5_name.2.1 8 = .ok (.aload_n 0, 1) := by decide +kernel
theorem dX5_name_9 : decode mi_X5_name.2.1 9 = .ok (.getfield 23, 3) := by decide +kernel
theorem dX5_name_12 : decode mi_X5_name.2.1 12 = .ok (.aload_n 0, 1) := by decide +kernel
theorem dX5_name_13 : decode mi_X5_name.2.1 13 = .ok (.getfield 30, 3) := by decide +kernel
theorem dX5_name_16 : decode mi_X5_name.2.1 16 = .ok (.isub, 1) := by decide +kernel
theorem dX5_name_17 : decode mi_X5_name.2.1 17 = .ok (.bipush 8, 2) := by decide +kernel
theorem dX5_name_19 : decode mi_X5_name.2.1 19 = .ok (.if_icmp .le 7, 3) := by decide +kernel
theorem dX5_name_22 : decode mi_X5_name.2.1 22 = .ok (.ldc2_w 92, 3) := by decide +kernel
theorem dX5_name_25 : decode mi_X5_name.2.1 25 = .ok (.lreturn, 1) := by decide +kernel
theorem dX5_name_26 : decode mi_X5_name.2.1 26 = .ok (.lconst 0, 1) := by decide +kernel
theorem dX5_name_27 : decode mi_X5_name.2.1 27 = .ok (.lstore_n 1, 1) := by decide +kernel
theorem dX5_name_28 : decode mi_X5_name.2.1 28 = .ok (.aload_n 0, 1) := by decide +kernel
theorem dX5_name_29 : decode mi_X5_name.2.1 29 = .ok (.getfield 30, 3) := by decide +kernel
theorem dX5_name_32 : decode mi_X5_name.2.1 32 = .ok (.istore_n 3, 1) := by decide +kernel
theorem dX5_name_33 : decode mi_X5_name.2.1 33 = .ok (.iload_n 3, 1) := by decide +kernel
theorem dX5_name_34 : decode mi_X5_name.2.1 34 = .ok (.aload_n 0, 1) := by decide +kernel
theorem dX5_name_35 : decode mi_X5_name.2.1 35 = .ok (.getfield 23, 3) := by decide +kernel
theorem dX5_name_38 : decode mi_X5_name.2.1 38 = .ok (.if_icmp .ge 21, 3) := by decide +kernel
theorem dX5_name_41 : decode mi_X5_name.2.1 41 = .ok (.lload_n 1, 1) := by decide +kernel
theorem dX5_name_42 : decode mi_X5_name.2.1 42 = .ok (.bipush 8, 2) := by decide +kernel
theorem dX5_name_44 : decode mi_X5_name.2.1 44 = .ok (.lshl, 1) := by decide +kernel
theorem dX5_name_45 : decode mi_X5_name.2.1 45 = .ok (.aload_n 0, 1) := by decide +kernel
theorem dX5_name_46 : decode mi_X5_name.2.1 46 = .ok (.iload_n 3, 1) := by decide +kernel
theorem dX5_name_47 : decode mi_X5_name.2.1 47 = .ok (.invokevirtual 26, 3) := by decide +kernel
theorem dX5_name_50 : decode mi_X5_name.2.1 50 = .ok (.i2l, 1) := by decide +kernel
theorem dX5_name_51 : decode mi_X5_name.2.1 51 = .ok (.lor, 1) := by decide +kernel
theorem dX5_name_52 : decode mi_X5_name.2.1 52 = .ok (.lstore_n 1, 1) := by decide +kernel
theorem dX5_name_53 : decode mi_X5_name.2.1 53 = .ok (.iinc 3 1, 3) := by decide +kernel
theorem dX5_name_56 : decode mi_X5_name.2.1 56 = .ok (.goto (-23), 3) := by decide +kernel
theorem dX5_name_59 : decode mi_X5_name.2.1 59 = .ok (.lload_n 1, 1) := by decide +kernel
theorem dX5_name_60 : decode mi_X5_name.2.1 60 = .ok (.lreturn, 1) := by decide +kernel
theorem v_X5_name {G : ma_G} {d : Nat} {a0 : Nat} {h : ah_T} {Q : Option ma_V → ah_T → Prop} {E : Nat → ah_T → Prop} (La0_h : LY5 h a0) (H : (¬ (ah_I h a0 3) = (2 : Int32) → Q (some (jv (-1 : Int64))) h) ∧ ((ah_I h a0 3) = (2 : Int32) → (((ah_I h a0 5) - (ah_I h a0 4)) ≤ (8 : Int32) → MX G mi_X5_name (d + 1) 33 [some (rv a0), some (jv (0 : Int64)), none, some (iv (ah_I h a0 4))] [] h Q E) ∧ (¬ ((ah_I h a0 5) - (ah_I h a0 4)) ≤ (8 : Int32) → Q (some (jv (-1 : Int64))) h))) : MX G mi_X5_name (d + 1) 0 [some (rv a0), none, none, none] [] h Q E := by
  refine mx_aload_n dX5_name_0 rfl rfl ?_
  refine mx_get 5 3 (ref := "PrairiePool$Reader") cl_5 (Nat.le_of_ble_eq_true rfl) (Or.inl q387) (Or.inl rfl) dX5_name_1 (fv_5_3 _ _) (ly5_k La0_h) ?_
  refine mx_iconst dX5_name_4 ic_2 ?_
  refine mx_icmp_ne (tgt := 22) dX5_name_5 rfl (fun c1 => ?_) (fun c1 => ?_)
  · have H := H.1 c1
    refine mx_ldc2 q1235 dX5_name_22 ?_
    exact mx_lret rfl dX5_name_25 H
  · have H := H.2 c1
    refine mx_aload_n dX5_name_8 rfl rfl ?_
    refine mx_get 5 5 (ref := "PrairiePool$Reader") cl_5 (Nat.le_of_ble_eq_true rfl) (Or.inl q389) (Or.inl rfl) dX5_name_9 (fv_5_5 _ _) (ly5_k La0_h) ?_
    refine mx_aload_n dX5_name_12 rfl rfl ?_
    refine mx_get 5 4 (ref := "PrairiePool$Reader") cl_5 (Nat.le_of_ble_eq_true rfl) (Or.inl q388) (Or.inl rfl) dX5_name_13 (fv_5_4 _ _) (ly5_k La0_h) ?_
    refine mx_isub dX5_name_16 ?_
    refine mx_bipush dX5_name_17 ib_8 ?_
    refine mx_icmp_le (tgt := 26) dX5_name_19 rfl (fun c2 => ?_) (fun c2 => ?_)
    · have H := H.1 c2
      refine mx_lconst dX5_name_26 lc_0 ?_
      refine mx_lstore_n (al' := [some (rv a0), some (jv (0 : Int64)), none, none]) dX5_name_27 rfl (Nat.le_of_ble_eq_true rfl) rfl ?_
      refine mx_aload_n dX5_name_28 rfl rfl ?_
      refine mx_get 5 4 (ref := "PrairiePool$Reader") cl_5 (Nat.le_of_ble_eq_true rfl) (Or.inl q388) (Or.inl rfl) dX5_name_29 (fv_5_4 _ _) (ly5_k La0_h) ?_
      refine mx_istore_n (al' := [some (rv a0), some (jv (0 : Int64)), none, some (iv (ah_I h a0 4))]) dX5_name_32 rfl (Nat.le_of_ble_eq_true rfl) rfl ?_
      exact mx_weak (al' := [some (rv a0), some (jv (0 : Int64)), none, some (iv (ah_I h a0 4))]) ⟨rfl, ⟨rfl, ⟨rfl, trivial⟩⟩⟩ H
    · have H := H.2 c2
      refine mx_ldc2 q1235 dX5_name_22 ?_
      exact mx_lret rfl dX5_name_25 H
theorem v_X5_name_33 {G : ma_G} {d : Nat} {a0 : Nat} {x1 : Int64} {x3 : Int32} {h : ah_T} {Q : Option ma_V → ah_T → Prop} {E : Nat → ah_T → Prop} (La0_h : LY5 h a0) (H : ((ah_I h a0 5) ≤ x3 → Q (some (jv x1)) h) ∧ (¬ (ah_I h a0 5) ≤ x3 → ((ah_I h a0 2) ≤ x3 → MX G mi_X5_name (d + 1) 33 [some (rv a0), some (jv ((x1 <<< ((8 : Int32).toInt64 &&& 63)) ||| (-1 : Int32).toInt64)), none, some (iv (x3 + (1 : Int32)))] [] h Q E) ∧ (¬ (ah_I h a0 2) ≤ x3 → vp_in x3 500 ∧ MX G mi_X5_name (d + 1) 33 [some (rv a0), some (jv ((x1 <<< ((8 : Int32).toInt64 &&& 63)) ||| ((ah_I h (a0 + 1) x3.toNatClampNeg) &&& (255 : Int32)).toInt64)), none, some (iv (x3 + (1 : Int32)))] [] h Q E))) : MX G mi_X5_name (d + 1) 33 [some (rv a0), some (jv x1), none, some (iv x3)] [] h Q E := by
  refine mx_iload_n dX5_name_33 rfl rfl ?_
  refine mx_aload_n dX5_name_34 rfl rfl ?_
  refine mx_get 5 5 (ref := "PrairiePool$Reader") cl_5 (Nat.le_of_ble_eq_true rfl) (Or.inl q389) (Or.inl rfl) dX5_name_35 (fv_5_5 _ _) (ly5_k La0_h) ?_
  refine mx_icmp_ge (tgt := 59) dX5_name_38 rfl (fun c1 => ?_) (fun c1 => ?_)
  · have H := H.1 c1
    refine mx_lload_n dX5_name_59 rfl rfl ?_
    exact mx_lret rfl dX5_name_60 H
  · have H := H.2 c1
    refine mx_lload_n dX5_name_41 rfl rfl ?_
    refine mx_bipush dX5_name_42 ib_8 ?_
    refine mx_lshl dX5_name_44 ?_
    refine mx_aload_n dX5_name_45 rfl rfl ?_
    refine mx_iload_n dX5_name_46 rfl rfl ?_
    refine mx_callV 5 (y' := mi_X5_at) (vs := [iv x3]) (st := [jv (x1 <<< ((8 : Int32).toInt64 &&& 63))]) (al' := [some (rv a0), some (iv x3)]) cl_5 V_X5_at (Or.inl q1210) dX5_name_47 rfl rfl (Nat.le_of_ble_eq_true rfl) (Nat.le_of_ble_eq_true rfl) (ly5_k La0_h) ?_
    refine mx_iload_n dX5_at_0 rfl rfl ?_
    refine mx_aload_n dX5_at_1 rfl rfl ?_
    refine mx_get 5 2 (ref := "PrairiePool$Reader") cl_5 (Nat.le_of_ble_eq_true rfl) (Or.inl q386) (Or.inl rfl) dX5_at_2 (fv_5_2 _ _) (ly5_k La0_h) ?_
    refine mx_icmp_ge (tgt := 21) dX5_at_5 rfl (fun c2 => ?_) (fun c2 => ?_)
    · have H := H.1 c2
      refine mx_iconst dX5_at_21 ic_m1 ?_
      refine mx_iretK rfl dX5_at_22 ?_
      refine mx_i2l dX5_name_50 ?_
      refine mx_lor dX5_name_51 ?_
      refine mx_lstore_n (al' := [some (rv a0), some (jv ((x1 <<< ((8 : Int32).toInt64 &&& 63)) ||| (-1 : Int32).toInt64)), none, some (iv x3)]) dX5_name_52 rfl (Nat.le_of_ble_eq_true rfl) rfl ?_
      refine mx_iinc (al' := [some (rv a0), some (jv ((x1 <<< ((8 : Int32).toInt64 &&& 63)) ||| (-1 : Int32).toInt64)), none, some (iv (x3 + (1 : Int32)))]) dX5_name_53 rfl ic_1 rfl ?_
      refine mx_goto (tgt := 33) dX5_name_56 rfl ?_
      exact mx_weak (al' := [some (rv a0), some (jv ((x1 <<< ((8 : Int32).toInt64 &&& 63)) ||| (-1 : Int32).toInt64)), none, some (iv (x3 + (1 : Int32)))]) ⟨rfl, ⟨rfl, ⟨rfl, trivial⟩⟩⟩ H
    · have H := H.2 c2
      refine mx_aload_n dX5_at_8 rfl rfl ?_
      refine mx_get 5 0 (ref := "PrairiePool$Reader") cl_5 (Nat.le_of_ble_eq_true rfl) (Or.inl q383) (Or.inl rfl) dX5_at_9 (fv_5_0 _ _) (ly5_k La0_h) ?_
      refine mx_tr (ly5_R_0_0 La0_h) ?_
      refine mx_iload_n dX5_at_12 rfl rfl ?_
      obtain ⟨k3, H⟩ := H
      refine my_bald dX5_at_13 rfl (ly5_A_1 La0_h k3) ?_
      refine mx_sipush dX5_at_14 is_255 ?_
      refine mx_iand dX5_at_17 ?_
      refine mx_goto (tgt := 22) dX5_at_18 rfl ?_
      refine mx_iretK rfl dX5_at_22 ?_
      refine mx_i2l dX5_name_50 ?_
      refine mx_lor dX5_name_51 ?_
      refine mx_lstore_n (al' := [some (rv a0), some (jv ((x1 <<< ((8 : Int32).toInt64 &&& 63)) ||| ((ah_I h (a0 + 1) x3.toNatClampNeg) &&& (255 : Int32)).toInt64)), none, some (iv x3)]) dX5_name_52 rfl (Nat.le_of_ble_eq_true rfl) rfl ?_
      refine mx_iinc (al' := [some (rv a0), some (jv ((x1 <<< ((8 : Int32).toInt64 &&& 63)) ||| ((ah_I h (a0 + 1) x3.toNatClampNeg) &&& (255 : Int32)).toInt64)), none, some (iv (x3 + (1 : Int32)))]) dX5_name_53 rfl ic_1 rfl ?_
      refine mx_goto (tgt := 33) dX5_name_56 rfl ?_
      exact mx_weak (al' := [some (rv a0), some (jv ((x1 <<< ((8 : Int32).toInt64 &&& 63)) ||| ((ah_I h (a0 + 1) x3.toNatClampNeg) &&& (255 : Int32)).toInt64)), none, some (iv (x3 + (1 : Int32)))]) ⟨rfl, ⟨rfl, ⟨rfl, trivial⟩⟩⟩ H
theorem dX5_in_0 : decode mi_X5_in.2.1 0 = .ok (.aload_n 0, 1) := by decide +kernel
theorem dX5_in_1 : decode mi_X5_in.2.1 1 = .ok (.getfield 37, 3) := by decide +kernel
theorem dX5_in_4 : decode mi_X5_in.2.1 4 = .ok (.iconst 2, 1) := by decide +kernel
theorem dX5_in_5 : decode mi_X5_in.2.1 5 = .ok (.if_icmp .eq 5, 3) := by decide +kernel
theorem dX5_in_8 : decode mi_X5_in.2.1 8 = .ok (.iconst (-1), 1) := by decide +kernel
theorem dX5_in_9 : decode mi_X5_in.2.1 9 = .ok (.ireturn, 1) := by decide +kernel
theorem dX5_in_10 : decode mi_X5_in.2.1 10 = .ok (.iconst 0, 1) := by decide +kernel
theorem dX5_in_11 : decode mi_X5_in.2.1 11 = .ok (.istore_n 2, 1) := by decide +kernel
theorem dX5_in_12 : decode mi_X5_in.2.1 12 = .ok (.iconst 1, 1) := by decide +kernel
theorem dX5_in_13 : decode mi_X5_in.2.1 13 = .ok (.istore_n 3, 1) := by decide +kernel
theorem dX5_in_14 : decode mi_X5_in.2.1 14 = .ok (.iload_n 3, 1) := by decide +kernel
theorem dX5_in_15 : decode mi_X5_in.2.1 15 = .ok (.aload_n 1, 1) := by decide +kernel
theorem dX5_in_16 : decode mi_X5_in.2.1 16 = .ok (.invokevirtual 72, 3) := by decide +kernel
theorem dX5_in_19 : decode mi_X5_in.2.1 19 = .ok (.if_icmp .ge 47, 3) := by decide +kernel
theorem dX5_in_22 : decode mi_X5_in.2.1 22 = .ok (.iload_n 3, 1) := by decide +kernel
theorem dX5_in_23 : decode mi_X5_in.2.1 23 = .ok (.istore 4, 2) := by decide +kernel
theorem dX5_in_25 : decode mi_X5_in.2.1 25 = .ok (.aload_n 1, 1) := by decide +kernel
theorem dX5_in_26 : decode mi_X5_in.2.1 26 = .ok (.iload 4, 2) := by decide +kernel
theorem dX5_in_28 : decode mi_X5_in.2.1 28 = .ok (.invokevirtual 78, 3) := by decide +kernel
theorem dX5_in_31 : decode mi_X5_in.2.1 31 = .ok (.bipush 32, 2) := by decide +kernel
theorem dX5_in_33 : decode mi_X5_in.2.1 33 = .ok (.if_icmp .eq 9, 3) := by decide +kernel
theorem dX5_in_36 : decode mi_X5_in.2.1 36 = .ok (.iinc 4 1, 3) := by decide +kernel
theorem dX5_in_39 : decode mi_X5_in.2.1 39 = .ok (.goto (-14), 3) := by decide +kernel
theorem dX5_in_42 : decode mi_X5_in.2.1 42 = .ok (.aload_n 0, 1) := by decide +kernel
theorem dX5_in_43 : decode mi_X5_in.2.1 43 = .ok (.aload_n 1, 1) := by decide +kernel
theorem dX5_in_44 : decode mi_X5_in.2.1 44 = .ok (.iload_n 3, 1) := by decide +kernel
theorem dX5_in_45 : decode mi_X5_in.2.1 45 = .ok (.iload 4, 2) := by decide +kernel
theorem dX5_in_47 : decode mi_X5_in.2.1 47 = .ok (.invokevirtual 82, 3) := by decide +kernel
theorem dX5_in_50 : decode mi_X5_in.2.1 50 = .ok (.ifCond .eq 5, 3) := by decide +kernel
theorem dX5_in_53 : decode mi_X5_in.2.1 53 = .ok (.iload_n 2, 1) := by decide +kernel
theorem dX5_in_54 : decode mi_X5_in.2.1 54 = .ok (.ireturn, 1) := by decide +kernel
theorem dX5_in_55 : decode mi_X5_in.2.1 55 = .ok (.iinc 2 1, 3) := by decide +kernel
theorem dX5_in_58 : decode mi_X5_in.2.1 58 = .ok (.iload 4, 2) := by decide +kernel
theorem dX5_in_60 : decode mi_X5_in.2.1 60 = .ok (.iconst 1, 1) := by decide +kernel
theorem dX5_in_61 : decode mi_X5_in.2.1 61 = .ok (.iadd, 1) := by decide +kernel
theorem dX5_in_62 : decode mi_X5_in.2.1 62 = .ok (.istore_n 3, 1) := by decide +kernel
theorem dX5_in_63 : decode mi_X5_in.2.1 63 = .ok (.goto (-49), 3) := by decide +kernel
theorem dX5_in_66 : decode mi_X5_in.2.1 66 = .ok (.iconst (-1), 1) := by decide +kernel
theorem dX5_in_67 : decode mi_X5_in.2.1 67 = .ok (.ireturn, 1) := by decide +kernel
theorem v_X5_in {G : ma_G} {d : Nat} {a0 : Nat} {i1 : Nat} {h : ah_T} {Q : Option ma_V → ah_T → Prop} {E : Nat → ah_T → Prop} (hi1 : i1 < 2)(La0_h : LY5 h a0) (H : ((ah_I h a0 3) = (2 : Int32) → MX G mi_X5_in (d + 5) 14 [some (rv a0), some (rv (ma_lit G i1)), some (iv (0 : Int32)), some (iv (1 : Int32)), none] [] h Q E) ∧ (¬ (ah_I h a0 3) = (2 : Int32) → Q (some (iv (-1 : Int32))) h)) : MX G mi_X5_in (d + 5) 0 [some (rv a0), some (rv (ma_lit G i1)), none, none, none] [] h Q E := by
  refine mx_aload_n dX5_in_0 rfl rfl ?_
  refine mx_get 5 3 (ref := "PrairiePool$Reader") cl_5 (Nat.le_of_ble_eq_true rfl) (Or.inl q387) (Or.inl rfl) dX5_in_1 (fv_5_3 _ _) (ly5_k La0_h) ?_
  refine mx_iconst dX5_in_4 ic_2 ?_
  refine mx_icmp_eq (tgt := 10) dX5_in_5 rfl (fun c1 => ?_) (fun c1 => ?_)
  · have H := H.1 c1
    refine mx_iconst dX5_in_10 ic_0 ?_
    refine mx_istore_n (al' := [some (rv a0), some (rv (ma_lit G i1)), some (iv (0 : Int32)), none, none]) dX5_in_11 rfl (Nat.le_of_ble_eq_true rfl) rfl ?_
    refine mx_iconst dX5_in_12 ic_1 ?_
    refine mx_istore_n (al' := [some (rv a0), some (rv (ma_lit G i1)), some (iv (0 : Int32)), some (iv (1 : Int32)), none]) dX5_in_13 rfl (Nat.le_of_ble_eq_true rfl) rfl ?_
    exact mx_weak (al' := [some (rv a0), some (rv (ma_lit G i1)), some (iv (0 : Int32)), some (iv (1 : Int32)), none]) ⟨rfl, ⟨rfl, ⟨rfl, ⟨rfl, trivial⟩⟩⟩⟩ H
  · have H := H.2 c1
    refine mx_iconst dX5_in_8 ic_m1 ?_
    exact mx_iret rfl dX5_in_9 H
theorem v_X5_in_14 {G : ma_G} {d : Nat} {a0 : Nat} {i1 : Nat} {x2 : Int32} {x3 : Int32} {h : ah_T} {Q : Option ma_V → ah_T → Prop} {E : Nat → ah_T → Prop} (hi1 : i1 < 2)(La0_h : LY5 h a0) (H : ((nI (ma_len i1)) ≤ x3 → Q (some (iv (-1 : Int32))) h) ∧ (¬ (nI (ma_len i1)) ≤ x3 → MX G mi_X5_in (d + 5) 25 [some (rv a0), some (rv (ma_lit G i1)), some (iv x2), some (iv x3), some (iv x3)] [] h Q E)) : MX G mi_X5_in (d + 5) 14 [some (rv a0), some (rv (ma_lit G i1)), some (iv x2), some (iv x3), none] [] h Q E := by
  refine mx_iload_n dX5_in_14 rfl rfl ?_
  refine mx_aload_n dX5_in_15 rfl rfl ?_
  refine mx_callVS (i := i1) (y' := mi_J4_length) (vs := []) (st := [iv x3]) (al' := [some (rv (ma_lit G i1))]) hi1 V_J4_length q1241 dX5_in_16 rfl rfl (Nat.le_of_ble_eq_true rfl) (Nat.le_of_ble_eq_true rfl) ?_
  refine mx_aload_n dJ4_length_0 rfl rfl ?_
  refine mx_gSv hi1 q2471 dJ4_length_1 ?_
  refine mx_lenS hi1 dJ4_length_4 ?_
  refine mx_aload_n dJ4_length_5 rfl rfl ?_
  refine mx_callVS (i := i1) (y' := mi_J4_coder) (vs := []) (st := [iv (nI (ma_len i1))]) (al' := [some (rv (ma_lit G i1))]) hi1 V_J4_coder q1245 dJ4_length_6 rfl rfl (Nat.le_of_ble_eq_true rfl) (Nat.le_of_ble_eq_true rfl) ?_
  refine mx_getsI q1250 q132 st_compact q1249 rfl dJ4_coder_0 ?_
  refine mx_if_eq (tgt := 13) dJ4_coder_3 rfl (fun _ => absurd ‹_› (by decide)) (fun _ => ?_)
  refine mx_aload_n dJ4_coder_6 rfl rfl ?_
  refine mx_gSc hi1 q2472 dJ4_coder_7 ?_
  refine mx_goto (tgt := 14) dJ4_coder_10 rfl ?_
  refine mx_nretK rfl rfl dJ4_coder_14 ?_
  refine mx_ishr dJ4_length_9 ?_
  refine mx_ti (sb_shr0 _) ?_
  refine mx_iretK rfl dJ4_length_10 ?_
  refine mx_icmp_ge (tgt := 66) dX5_in_19 rfl (fun c1 => ?_) (fun c1 => ?_)
  · have H := H.1 c1
    refine mx_iconst dX5_in_66 ic_m1 ?_
    exact mx_iret rfl dX5_in_67 H
  · have H := H.2 c1
    refine mx_iload_n dX5_in_22 rfl rfl ?_
    refine mx_istore (al' := [some (rv a0), some (rv (ma_lit G i1)), some (iv x2), some (iv x3), some (iv x3)]) dX5_in_23 (Nat.le_of_ble_eq_true rfl) rfl ?_
    exact mx_weak (al' := [some (rv a0), some (rv (ma_lit G i1)), some (iv x2), some (iv x3), some (iv x3)]) ⟨rfl, ⟨rfl, ⟨rfl, ⟨rfl, ⟨rfl, trivial⟩⟩⟩⟩⟩ H
theorem v_X5_in_25 {G : ma_G} {d : Nat} {a0 : Nat} {i1 : Nat} {x2 : Int32} {x3 : Int32} {x4 : Int32} {h : ah_T} {Q : Option ma_V → ah_T → Prop} {E : Nat → ah_T → Prop} (hi1 : i1 < 2)(La0_h : LY5 h a0) (H : ∀ r1 : Nat, (x4 < 0 → False) ∧ (¬ x4 < 0 → (x4 < (nI (ma_len i1)) → vp_in x4 (ma_len i1) ∧ ((ma_byt i1 x4.toNatClampNeg) = (32 : Int32) → MX G mi_X5_isWord (d + 4) 0 [some (rv a0), some (rv (ma_lit G i1)), some (iv x3), some (iv x4), none] [] h (Qi fun r7 h6 => ah_ext h h6 → (r7 = 0 → MX G mi_X5_in (d + 5) 14 [some (rv a0), some (rv (ma_lit G i1)), some (iv (x2 + (1 : Int32))), some (iv (x4 + (1 : Int32))), none] [] h6 Q E) ∧ (¬ r7 = 0 → Q (some (iv x2)) h6)) E) ∧ (¬ (ma_byt i1 x4.toNatClampNeg) = (32 : Int32) → MX G mi_X5_in (d + 5) 25 [some (rv a0), some (rv (ma_lit G i1)), some (iv x2), some (iv x3), some (iv (x4 + (1 : Int32)))] [] h Q E)) ∧ (¬ x4 < (nI (ma_len i1)) → False))) : MX G mi_X5_in (d + 5) 25 [some (rv a0), some (rv (ma_lit G i1)), some (iv x2), some (iv x3), some (iv x4)] [] h Q E := by
  refine mx_aload_n dX5_in_25 rfl rfl ?_
  refine mx_iload dX5_in_26 rfl ?_
  refine mx_callVS (i := i1) (y' := mi_J4_charAt) (vs := [iv x4]) (st := []) (al' := [some (rv (ma_lit G i1)), some (iv x4)]) hi1 V_J4_charAt q1251 dX5_in_28 rfl rfl (Nat.le_of_ble_eq_true rfl) (Nat.le_of_ble_eq_true rfl) ?_
  refine mx_aload_n dJ4_charAt_0 rfl rfl ?_
  refine mx_callVS (i := i1) (y' := mi_J4_isLatin1) (vs := []) (st := []) (al' := [some (rv (ma_lit G i1))]) hi1 V_J4_isLatin1 q1255 dJ4_charAt_1 rfl rfl (Nat.le_of_ble_eq_true rfl) (Nat.le_of_ble_eq_true rfl) ?_
  refine mx_getsI q1250 q132 st_compact q1249 rfl dJ4_isLatin1_0 ?_
  refine mx_if_eq (tgt := 17) dJ4_isLatin1_3 rfl (fun _ => absurd ‹_› (by decide)) (fun _ => ?_)
  refine mx_aload_n dJ4_isLatin1_6 rfl rfl ?_
  refine mx_gSc hi1 q2472 dJ4_isLatin1_7 ?_
  refine mx_if_ne (tgt := 17) dJ4_isLatin1_10 rfl (fun _ => absurd ‹_› (by decide)) (fun _ => ?_)
  refine mx_iconst dJ4_isLatin1_13 ic_1 ?_
  refine mx_goto (tgt := 18) dJ4_isLatin1_14 rfl ?_
  refine mx_zretK rfl dJ4_isLatin1_18 (Or.inr rfl) ?_
  refine mx_if_eq (tgt := 16) dJ4_charAt_4 rfl (fun _ => absurd ‹_› (by decide)) (fun _ => ?_)
  refine mx_aload_n dJ4_charAt_7 rfl rfl ?_
  refine mx_gSv hi1 q2471 dJ4_charAt_8 ?_
  refine mx_iload_n dJ4_charAt_11 rfl rfl ?_
  refine mx_callS (y' := mi_J9_charAt) (vs := [rv (ma_lby G i1), iv x4]) (st := []) (al' := [some (rv (ma_lby G i1)), some (iv x4)]) S_J9_charAt q1259 dJ4_charAt_12 rfl rfl (Nat.le_of_ble_eq_true rfl) (Nat.le_of_ble_eq_true rfl) ?_
  refine mx_iload_n dJ9_charAt_0 rfl rfl ?_
  refine mx_aload_n dJ9_charAt_1 rfl rfl ?_
  refine mx_lenS hi1 dJ9_charAt_2 ?_
  refine mx_callS (y' := mi_J4_checkIndex) (vs := [iv x4, iv (nI (ma_len i1))]) (st := []) (al' := [some (iv x4), some (iv (nI (ma_len i1)))]) S_J4_checkIndex q1262 dJ9_charAt_3 rfl rfl (Nat.le_of_ble_eq_true rfl) (Nat.le_of_ble_eq_true rfl) ?_
  refine mx_iload_n dJ4_checkIndex_0 rfl rfl ?_
  refine mx_iload_n dJ4_checkIndex_1 rfl rfl ?_
  refine mx_getsR q1266 q148 st_sioobe_formatter q1265 rfl dJ4_checkIndex_2 (fun r1 => ?_)
  have H := H r1
  refine mx_callS (y' := mi_J10_checkIndex) (vs := [iv x4, iv (nI (ma_len i1)), rv r1]) (st := []) (al' := [some (iv x4), some (iv (nI (ma_len i1))), some (rv r1)]) S_J10_checkIndex q1267 dJ4_checkIndex_5 rfl rfl (Nat.le_of_ble_eq_true rfl) (Nat.le_of_ble_eq_true rfl) ?_
  refine mx_iload_n dJ10_checkIndex_0 rfl rfl ?_
  refine mx_if_lt (tgt := 9) dJ10_checkIndex_1 rfl (fun c2 => ?_) (fun c2 => ?_)
  · have H := H.1 c2
    refine mx_aload_n dJ10_checkIndex_9 rfl rfl ?_
    refine mx_iload_n dJ10_checkIndex_10 rfl rfl ?_
    refine mx_iload_n dJ10_checkIndex_11 rfl rfl ?_
    exact False.elim H
  · have H := H.2 c2
    refine mx_iload_n dJ10_checkIndex_4 rfl rfl ?_
    refine mx_iload_n dJ10_checkIndex_5 rfl rfl ?_
    refine mx_icmp_lt (tgt := 16) dJ10_checkIndex_6 rfl (fun c3 => ?_) (fun c3 => ?_)
    · have H := H.1 c3
      refine mx_iload_n dJ10_checkIndex_16 rfl rfl ?_
      refine mx_iretK rfl dJ10_checkIndex_17 ?_
      refine mx_pop_i dJ4_checkIndex_8 ?_
      refine mx_vretK rfl dJ4_checkIndex_9 ?_
      refine mx_aload_n dJ9_charAt_6 rfl rfl ?_
      refine mx_iload_n dJ9_charAt_7 rfl rfl ?_
      obtain ⟨k4, H⟩ := H
      refine mx_baldS hi1 k4 dJ9_charAt_8 ?_
      refine mx_sipush dJ9_charAt_9 is_255 ?_
      refine mx_iand dJ9_charAt_12 ?_
      refine mx_i2c dJ9_charAt_13 ?_
      refine mx_ti (ma_bc hi1) ?_
      refine mx_nretK rfl (ma_bn hi1) dJ9_charAt_14 ?_
      refine mx_nretK rfl (ma_bn hi1) dJ4_charAt_15 ?_
      refine mx_bipush dX5_in_31 ib_32 ?_
      refine mx_icmp_eq (tgt := 42) dX5_in_33 rfl (fun c5 => ?_) (fun c5 => ?_)
      · have H := H.1 c5
        refine mx_aload_n dX5_in_42 rfl rfl ?_
        refine mx_aload_n dX5_in_43 rfl rfl ?_
        refine mx_iload_n dX5_in_44 rfl rfl ?_
        refine mx_iload dX5_in_45 rfl ?_
        refine mx_callV 5 (y' := mi_X5_isWord) (vs := [rv (ma_lit G i1), iv x3, iv x4]) (st := []) (al' := [some (rv a0), some (rv (ma_lit G i1)), some (iv x3), some (iv x4), none]) cl_5 V_X5_isWord (Or.inl q1289) dX5_in_47 rfl rfl (Nat.le_of_ble_eq_true rfl) (Nat.le_of_ble_eq_true rfl) (ly5_k La0_h) ?_
        refine ma_ki H (fun r7 h6 Xh6 H => ?_) (fun x1 h1 X1 H => mt_out rfl H)
        have H := H Xh6
        have La0_h6 := La0_h.ext Xh6
        refine mx_if_eq (tgt := 55) dX5_in_50 rfl (fun c8 => ?_) (fun c8 => ?_)
        · have H := H.1 c8
          refine mx_iinc (al' := [some (rv a0), some (rv (ma_lit G i1)), some (iv (x2 + (1 : Int32))), some (iv x3), some (iv x4)]) dX5_in_55 rfl ic_1 rfl ?_
          refine mx_iload dX5_in_58 rfl ?_
          refine mx_iconst dX5_in_60 ic_1 ?_
          refine mx_iadd dX5_in_61 ?_
          refine mx_istore_n (al' := [some (rv a0), some (rv (ma_lit G i1)), some (iv (x2 + (1 : Int32))), some (iv (x4 + (1 : Int32))), some (iv x4)]) dX5_in_62 rfl (Nat.le_of_ble_eq_true rfl) rfl ?_
          refine mx_goto (tgt := 14) dX5_in_63 rfl ?_
          exact mx_weak (al' := [some (rv a0), some (rv (ma_lit G i1)), some (iv (x2 + (1 : Int32))), some (iv (x4 + (1 : Int32))), none]) ⟨rfl, ⟨rfl, ⟨rfl, ⟨rfl, trivial⟩⟩⟩⟩ H
        · have H := H.2 c8
          refine mx_iload_n dX5_in_53 rfl rfl ?_
          exact mx_iret rfl dX5_in_54 H
      · have H := H.2 c5
        refine mx_iinc (al' := [some (rv a0), some (rv (ma_lit G i1)), some (iv x2), some (iv x3), some (iv (x4 + (1 : Int32)))]) dX5_in_36 rfl ic_1 rfl ?_
        refine mx_goto (tgt := 25) dX5_in_39 rfl ?_
        exact mx_weak (al' := [some (rv a0), some (rv (ma_lit G i1)), some (iv x2), some (iv x3), some (iv (x4 + (1 : Int32)))]) ⟨rfl, ⟨rfl, ⟨rfl, ⟨rfl, ⟨rfl, trivial⟩⟩⟩⟩⟩ H
    · have H := H.2 c3
      refine mx_aload_n dJ10_checkIndex_9 rfl rfl ?_
      refine mx_iload_n dJ10_checkIndex_10 rfl rfl ?_
      refine mx_iload_n dJ10_checkIndex_11 rfl rfl ?_
      exact False.elim H
theorem dX5_isWord_0 : decode mi_X5_isWord.2.1 0 = .ok (.iload_n 3, 1) := by decide +kernel
theorem dX5_isWord_1 : decode mi_X5_isWord.2.1 1 = .ok (.iload_n 2, 1) := by decide +kernel
theorem dX5_isWord_2 : decode mi_X5_isWord.2.1 2 = .ok (.isub, 1) := by decide +kernel
theorem dX5_isWord_3 : decode mi_X5_isWord.2.1 3 = .ok (.aload_n 0, 1) := by decide +kernel
theorem dX5_isWord_4 : decode mi_X5_isWord.2.1 4 = .ok (.getfield 23, 3) := by decide +kernel
theorem dX5_isWord_7 : decode mi_X5_isWord.2.1 7 = .ok (.aload_n 0, 1) := by decide +kernel
theorem dX5_isWord_8 : decode mi_X5_isWord.2.1 8 = .ok (.getfield 30, 3) := by decide +kernel
theorem dX5_isWord_11 : decode mi_X5_isWord.2.1 11 = .ok (.isub, 1) := by decide +kernel
theorem dX5_isWord_12 : decode mi_X5_isWord.2.1 12 = .ok (.if_icmp .eq 5, 3) := by decide +kernel
theorem dX5_isWord_15 : decode mi_X5_isWord.2.1 15 = .ok (.iconst 0, 1) := by decide +kernel
theorem dX5_isWord_16 : decode mi_X5_isWord.2.1 16 = .ok (.ireturn, 1) := by decide +kernel
theorem dX5_isWord_17 : decode mi_X5_isWord.2.1 17 = .ok (.iload_n 2, 1) := by decide +kernel
theorem dX5_isWord_18 : decode mi_X5_isWord.2.1 18 = .ok (.istore 4, 2) := by decide +kernel
theorem dX5_isWord_20 : decode mi_X5_isWord.2.1 20 = .ok (.iload 4, 2) := by decide +kernel
theorem dX5_isWord_22 : decode mi_X5_isWord.2.1 22 = .ok (.iload_n 3, 1) := by decide +kernel
theorem dX5_isWord_23 : decode mi_X5_isWord.2.1 23 = .ok (.if_icmp .ge 33, 3) := by decide +kernel
theorem dX5_isWord_26 : decode mi_X5_isWord.2.1 26 = .ok (.aload_n 1, 1) := by decide +kernel
theorem dX5_isWord_27 : decode mi_X5_isWord.2.1 27 = .ok (.iload 4, 2) := by decide +kernel
theorem dX5_isWord_29 : decode mi_X5_isWord.2.1 29 = .ok (.invokevirtual 78, 3) := by decide +kernel
theorem dX5_isWord_32 : decode mi_X5_isWord.2.1 32 = .ok (.aload_n 0, 1) := by decide +kernel
theorem dX5_isWord_33 : decode mi_X5_isWord.2.1 33 = .ok (.aload_n 0, 1) := by decide +kernel
theorem dX5_isWord_34 : decode mi_X5_isWord.2.1 34 = .ok (.getfield 30, 3) := by decide +kernel
theorem dX5_isWord_37 : decode mi_X5_isWord.2.1 37 = .ok (.iload 4, 2) := by decide +kernel
theorem dX5_isWord_39 : decode mi_X5_isWord.2.1 39 = .ok (.iadd, 1) := by decide +kernel
theorem dX5_isWord_40 : decode mi_X5_isWord.2.1 40 = .ok (.iload_n 2, 1) := by decide +kernel
theorem dX5_isWord_41 : decode mi_X5_isWord.2.1 41 = .ok (.isub, 1) := by decide +kernel
theorem dX5_isWord_42 : decode mi_X5_isWord.2.1 42 = .ok (.invokevirtual 26, 3) := by decide +kernel
theorem dX5_isWord_45 : decode mi_X5_isWord.2.1 45 = .ok (.if_icmp .eq 5, 3) := by decide +kernel
theorem dX5_isWord_48 : decode mi_X5_isWord.2.1 48 = .ok (.iconst 0, 1) := by decide +kernel
theorem dX5_isWord_49 : decode mi_X5_isWord.2.1 49 = .ok (.ireturn, 1) := by decide +kernel
theorem dX5_isWord_50 : decode mi_X5_isWord.2.1 50 = .ok (.iinc 4 1, 3) := by decide +kernel
theorem dX5_isWord_53 : decode mi_X5_isWord.2.1 53 = .ok (.goto (-33), 3) := by decide +kernel
theorem dX5_isWord_56 : decode mi_X5_isWord.2.1 56 = .ok (.iconst 1, 1) := by decide +kernel
theorem dX5_isWord_57 : decode mi_X5_isWord.2.1 57 = .ok (.ireturn, 1) := by decide +kernel
theorem v_X5_isWord {G : ma_G} {d : Nat} {a0 : Nat} {i1 : Nat} {x2 : Int32} {x3 : Int32} {h : ah_T} {Q : Option ma_V → ah_T → Prop} {E : Nat → ah_T → Prop} (hi1 : i1 < 2)(La0_h : LY5 h a0) (H : ((x3 - x2) = ((ah_I h a0 5) - (ah_I h a0 4)) → MX G mi_X5_isWord (d + 5) 20 [some (rv a0), some (rv (ma_lit G i1)), some (iv x2), some (iv x3), some (iv x2)] [] h Q E) ∧ (¬ (x3 - x2) = ((ah_I h a0 5) - (ah_I h a0 4)) → Q (some (iv (0 : Int32))) h)) : MX G mi_X5_isWord (d + 5) 0 [some (rv a0), some (rv (ma_lit G i1)), some (iv x2), some (iv x3), none] [] h Q E := by
  refine mx_iload_n dX5_isWord_0 rfl rfl ?_
  refine mx_iload_n dX5_isWord_1 rfl rfl ?_
  refine mx_isub dX5_isWord_2 ?_
  refine mx_aload_n dX5_isWord_3 rfl rfl ?_
  refine mx_get 5 5 (ref := "PrairiePool$Reader") cl_5 (Nat.le_of_ble_eq_true rfl) (Or.inl q389) (Or.inl rfl) dX5_isWord_4 (fv_5_5 _ _) (ly5_k La0_h) ?_
  refine mx_aload_n dX5_isWord_7 rfl rfl ?_
  refine mx_get 5 4 (ref := "PrairiePool$Reader") cl_5 (Nat.le_of_ble_eq_true rfl) (Or.inl q388) (Or.inl rfl) dX5_isWord_8 (fv_5_4 _ _) (ly5_k La0_h) ?_
  refine mx_isub dX5_isWord_11 ?_
  refine mx_icmp_eq (tgt := 17) dX5_isWord_12 rfl (fun c1 => ?_) (fun c1 => ?_)
  · have H := H.1 c1
    refine mx_iload_n dX5_isWord_17 rfl rfl ?_
    refine mx_istore (al' := [some (rv a0), some (rv (ma_lit G i1)), some (iv x2), some (iv x3), some (iv x2)]) dX5_isWord_18 (Nat.le_of_ble_eq_true rfl) rfl ?_
    exact mx_weak (al' := [some (rv a0), some (rv (ma_lit G i1)), some (iv x2), some (iv x3), some (iv x2)]) ⟨rfl, ⟨rfl, ⟨rfl, ⟨rfl, ⟨rfl, trivial⟩⟩⟩⟩⟩ H
  · have H := H.2 c1
    refine mx_iconst dX5_isWord_15 ic_0 ?_
    exact mx_zret rfl dX5_isWord_16 (Or.inl rfl) H
theorem v_X5_isWord_20 {G : ma_G} {d : Nat} {a0 : Nat} {i1 : Nat} {x2 : Int32} {x3 : Int32} {x4 : Int32} {h : ah_T} {Q : Option ma_V → ah_T → Prop} {E : Nat → ah_T → Prop} (hi1 : i1 < 2)(La0_h : LY5 h a0) (H : (x3 ≤ x4 → Q (some (iv (1 : Int32))) h) ∧ (¬ x3 ≤ x4 → ∀ r2 : Nat, (x4 < 0 → False) ∧ (¬ x4 < 0 → (x4 < (nI (ma_len i1)) → vp_in x4 (ma_len i1) ∧ ((ah_I h a0 2) ≤ (((ah_I h a0 4) + x4) - x2) → ((ma_byt i1 x4.toNatClampNeg) = (-1 : Int32) → MX G mi_X5_isWord (d + 5) 20 [some (rv a0), some (rv (ma_lit G i1)), some (iv x2), some (iv x3), some (iv (x4 + (1 : Int32)))] [] h Q E) ∧ (¬ (ma_byt i1 x4.toNatClampNeg) = (-1 : Int32) → Q (some (iv (0 : Int32))) h)) ∧ (¬ (ah_I h a0 2) ≤ (((ah_I h a0 4) + x4) - x2) → vp_in (((ah_I h a0 4) + x4) - x2) 500 ∧ ((ma_byt i1 x4.toNatClampNeg) = ((ah_I h (a0 + 1) (((ah_I h a0 4) + x4) - x2).toNatClampNeg) &&& (255 : Int32)) → MX G mi_X5_isWord (d + 5) 20 [some (rv a0), some (rv (ma_lit G i1)), some (iv x2), some (iv x3), some (iv (x4 + (1 : Int32)))] [] h Q E) ∧ (¬ (ma_byt i1 x4.toNatClampNeg) = ((ah_I h (a0 + 1) (((ah_I h a0 4) + x4) - x2).toNatClampNeg) &&& (255 : Int32)) → Q (some (iv (0 : Int32))) h))) ∧ (¬ x4 < (nI (ma_len i1)) → False)))) : MX G mi_X5_isWord (d + 5) 20 [some (rv a0), some (rv (ma_lit G i1)), some (iv x2), some (iv x3), some (iv x4)] [] h Q E := by
  refine mx_iload dX5_isWord_20 rfl ?_
  refine mx_iload_n dX5_isWord_22 rfl rfl ?_
  refine mx_icmp_ge (tgt := 56) dX5_isWord_23 rfl (fun c1 => ?_) (fun c1 => ?_)
  · have H := H.1 c1
    refine mx_iconst dX5_isWord_56 ic_1 ?_
    exact mx_zret rfl dX5_isWord_57 (Or.inr rfl) H
  · have H := H.2 c1
    refine mx_aload_n dX5_isWord_26 rfl rfl ?_
    refine mx_iload dX5_isWord_27 rfl ?_
    refine mx_callVS (i := i1) (y' := mi_J4_charAt) (vs := [iv x4]) (st := []) (al' := [some (rv (ma_lit G i1)), some (iv x4)]) hi1 V_J4_charAt q1251 dX5_isWord_29 rfl rfl (Nat.le_of_ble_eq_true rfl) (Nat.le_of_ble_eq_true rfl) ?_
    refine mx_aload_n dJ4_charAt_0 rfl rfl ?_
    refine mx_callVS (i := i1) (y' := mi_J4_isLatin1) (vs := []) (st := []) (al' := [some (rv (ma_lit G i1))]) hi1 V_J4_isLatin1 q1255 dJ4_charAt_1 rfl rfl (Nat.le_of_ble_eq_true rfl) (Nat.le_of_ble_eq_true rfl) ?_
    refine mx_getsI q1250 q132 st_compact q1249 rfl dJ4_isLatin1_0 ?_
    refine mx_if_eq (tgt := 17) dJ4_isLatin1_3 rfl (fun _ => absurd ‹_› (by decide)) (fun _ => ?_)
    refine mx_aload_n dJ4_isLatin1_6 rfl rfl ?_
    refine mx_gSc hi1 q2472 dJ4_isLatin1_7 ?_
    refine mx_if_ne (tgt := 17) dJ4_isLatin1_10 rfl (fun _ => absurd ‹_› (by decide)) (fun _ => ?_)
    refine mx_iconst dJ4_isLatin1_13 ic_1 ?_
    refine mx_goto (tgt := 18) dJ4_isLatin1_14 rfl ?_
    refine mx_zretK rfl dJ4_isLatin1_18 (Or.inr rfl) ?_
    refine mx_if_eq (tgt := 16) dJ4_charAt_4 rfl (fun _ => absurd ‹_› (by decide)) (fun _ => ?_)
    refine mx_aload_n dJ4_charAt_7 rfl rfl ?_
    refine mx_gSv hi1 q2471 dJ4_charAt_8 ?_
    refine mx_iload_n dJ4_charAt_11 rfl rfl ?_
    refine mx_callS (y' := mi_J9_charAt) (vs := [rv (ma_lby G i1), iv x4]) (st := []) (al' := [some (rv (ma_lby G i1)), some (iv x4)]) S_J9_charAt q1259 dJ4_charAt_12 rfl rfl (Nat.le_of_ble_eq_true rfl) (Nat.le_of_ble_eq_true rfl) ?_
    refine mx_iload_n dJ9_charAt_0 rfl rfl ?_
    refine mx_aload_n dJ9_charAt_1 rfl rfl ?_
    refine mx_lenS hi1 dJ9_charAt_2 ?_
    refine mx_callS (y' := mi_J4_checkIndex) (vs := [iv x4, iv (nI (ma_len i1))]) (st := []) (al' := [some (iv x4), some (iv (nI (ma_len i1)))]) S_J4_checkIndex q1262 dJ9_charAt_3 rfl rfl (Nat.le_of_ble_eq_true rfl) (Nat.le_of_ble_eq_true rfl) ?_
    refine mx_iload_n dJ4_checkIndex_0 rfl rfl ?_
    refine mx_iload_n dJ4_checkIndex_1 rfl rfl ?_
    refine mx_getsR q1266 q148 st_sioobe_formatter q1265 rfl dJ4_checkIndex_2 (fun r2 => ?_)
    have H := H r2
    refine mx_callS (y' := mi_J10_checkIndex) (vs := [iv x4, iv (nI (ma_len i1)), rv r2]) (st := []) (al' := [some (iv x4), some (iv (nI (ma_len i1))), some (rv r2)]) S_J10_checkIndex q1267 dJ4_checkIndex_5 rfl rfl (Nat.le_of_ble_eq_true rfl) (Nat.le_of_ble_eq_true rfl) ?_
    refine mx_iload_n dJ10_checkIndex_0 rfl rfl ?_
    refine mx_if_lt (tgt := 9) dJ10_checkIndex_1 rfl (fun c3 => ?_) (fun c3 => ?_)
    · have H := H.1 c3
      refine mx_aload_n dJ10_checkIndex_9 rfl rfl ?_
      refine mx_iload_n dJ10_checkIndex_10 rfl rfl ?_
      refine mx_iload_n dJ10_checkIndex_11 rfl rfl ?_
      exact False.elim H
    · have H := H.2 c3
      refine mx_iload_n dJ10_checkIndex_4 rfl rfl ?_
      refine mx_iload_n dJ10_checkIndex_5 rfl rfl ?_
      refine mx_icmp_lt (tgt := 16) dJ10_checkIndex_6 rfl (fun c4 => ?_) (fun c4 => ?_)
      · have H := H.1 c4
        refine mx_iload_n dJ10_checkIndex_16 rfl rfl ?_
        refine mx_iretK rfl dJ10_checkIndex_17 ?_
        refine mx_pop_i dJ4_checkIndex_8 ?_
        refine mx_vretK rfl dJ4_checkIndex_9 ?_
        refine mx_aload_n dJ9_charAt_6 rfl rfl ?_
        refine mx_iload_n dJ9_charAt_7 rfl rfl ?_
        obtain ⟨k5, H⟩ := H
        refine mx_baldS hi1 k5 dJ9_charAt_8 ?_
        refine mx_sipush dJ9_charAt_9 is_255 ?_
        refine mx_iand dJ9_charAt_12 ?_
        refine mx_i2c dJ9_charAt_13 ?_
        refine mx_ti (ma_bc hi1) ?_
        refine mx_nretK rfl (ma_bn hi1) dJ9_charAt_14 ?_
        refine mx_nretK rfl (ma_bn hi1) dJ4_charAt_15 ?_
        refine mx_aload_n dX5_isWord_32 rfl rfl ?_
        refine mx_aload_n dX5_isWord_33 rfl rfl ?_
        refine mx_get 5 4 (ref := "PrairiePool$Reader") cl_5 (Nat.le_of_ble_eq_true rfl) (Or.inl q388) (Or.inl rfl) dX5_isWord_34 (fv_5_4 _ _) (ly5_k La0_h) ?_
        refine mx_iload dX5_isWord_37 rfl ?_
        refine mx_iadd dX5_isWord_39 ?_
        refine mx_iload_n dX5_isWord_40 rfl rfl ?_
        refine mx_isub dX5_isWord_41 ?_
        refine mx_callV 5 (y' := mi_X5_at) (vs := [iv (((ah_I h a0 4) + x4) - x2)]) (st := [iv (ma_byt i1 x4.toNatClampNeg)]) (al' := [some (rv a0), some (iv (((ah_I h a0 4) + x4) - x2))]) cl_5 V_X5_at (Or.inl q1210) dX5_isWord_42 rfl rfl (Nat.le_of_ble_eq_true rfl) (Nat.le_of_ble_eq_true rfl) (ly5_k La0_h) ?_
        refine mx_iload_n dX5_at_0 rfl rfl ?_
        refine mx_aload_n dX5_at_1 rfl rfl ?_
        refine mx_get 5 2 (ref := "PrairiePool$Reader") cl_5 (Nat.le_of_ble_eq_true rfl) (Or.inl q386) (Or.inl rfl) dX5_at_2 (fv_5_2 _ _) (ly5_k La0_h) ?_
        refine mx_icmp_ge (tgt := 21) dX5_at_5 rfl (fun c6 => ?_) (fun c6 => ?_)
        · have H := H.1 c6
          refine mx_iconst dX5_at_21 ic_m1 ?_
          refine mx_iretK rfl dX5_at_22 ?_
          refine mx_icmp_eq (tgt := 50) dX5_isWord_45 rfl (fun c7 => ?_) (fun c7 => ?_)
          · have H := H.1 c7
            refine mx_iinc (al' := [some (rv a0), some (rv (ma_lit G i1)), some (iv x2), some (iv x3), some (iv (x4 + (1 : Int32)))]) dX5_isWord_50 rfl ic_1 rfl ?_
            refine mx_goto (tgt := 20) dX5_isWord_53 rfl ?_
            exact mx_weak (al' := [some (rv a0), some (rv (ma_lit G i1)), some (iv x2), some (iv x3), some (iv (x4 + (1 : Int32)))]) ⟨rfl, ⟨rfl, ⟨rfl, ⟨rfl, ⟨rfl, trivial⟩⟩⟩⟩⟩ H
          · have H := H.2 c7
            refine mx_iconst dX5_isWord_48 ic_0 ?_
            exact mx_zret rfl dX5_isWord_49 (Or.inl rfl) H
        · have H := H.2 c6
          refine mx_aload_n dX5_at_8 rfl rfl ?_
          refine mx_get 5 0 (ref := "PrairiePool$Reader") cl_5 (Nat.le_of_ble_eq_true rfl) (Or.inl q383) (Or.inl rfl) dX5_at_9 (fv_5_0 _ _) (ly5_k La0_h) ?_
          refine mx_tr (ly5_R_0_0 La0_h) ?_
          refine mx_iload_n dX5_at_12 rfl rfl ?_
          obtain ⟨k8, H⟩ := H
          refine my_bald dX5_at_13 rfl (ly5_A_1 La0_h k8) ?_
          refine mx_sipush dX5_at_14 is_255 ?_
          refine mx_iand dX5_at_17 ?_
          refine mx_goto (tgt := 22) dX5_at_18 rfl ?_
          refine mx_iretK rfl dX5_at_22 ?_
          refine mx_icmp_eq (tgt := 50) dX5_isWord_45 rfl (fun c9 => ?_) (fun c9 => ?_)
          · have H := H.1 c9
            refine mx_iinc (al' := [some (rv a0), some (rv (ma_lit G i1)), some (iv x2), some (iv x3), some (iv (x4 + (1 : Int32)))]) dX5_isWord_50 rfl ic_1 rfl ?_
            refine mx_goto (tgt := 20) dX5_isWord_53 rfl ?_
            exact mx_weak (al' := [some (rv a0), some (rv (ma_lit G i1)), some (iv x2), some (iv x3), some (iv (x4 + (1 : Int32)))]) ⟨rfl, ⟨rfl, ⟨rfl, ⟨rfl, ⟨rfl, trivial⟩⟩⟩⟩⟩ H
          · have H := H.2 c9
            refine mx_iconst dX5_isWord_48 ic_0 ?_
            exact mx_zret rfl dX5_isWord_49 (Or.inl rfl) H
      · have H := H.2 c4
        refine mx_aload_n dJ10_checkIndex_9 rfl rfl ?_
        refine mx_iload_n dJ10_checkIndex_10 rfl rfl ?_
        refine mx_iload_n dJ10_checkIndex_11 rfl rfl ?_
        exact False.elim H
theorem v_X5_need {G : ma_G} {d : Nat} {a0 : Nat} {x1 : Int32} {h : ah_T} {Q : Option ma_V → ah_T → Prop} {E : Nat → ah_T → Prop} (La0_h : LY5 h a0) (H : (¬ x1 = 0 → Q none h) ∧ (x1 = 0 → (¬ (ah_I h a0 3) = (1 : Int32) → ah_kd h (ah_R h a0 8) = 5 ∧ ∀ h4 : ah_T, h4 = ah_wI h (ah_R h a0 8) 6 (2 : Int32) → ah_ext h h4 → ∀ h5 : ah_T, h5 = ah_wI h4 (ah_R h a0 8) 7 (ah_I h a0 4) → ah_ext h4 h5 → E (ah_R h a0 8) h5) ∧ ((ah_I h a0 3) = (1 : Int32) → ah_kd h (ah_R h a0 8) = 5 ∧ ∀ h7 : ah_T, h7 = ah_wI h (ah_R h a0 8) 6 (1 : Int32) → ah_ext h h7 → ∀ h8 : ah_T, h8 = ah_wI h7 (ah_R h a0 8) 7 (ah_I h a0 4) → ah_ext h7 h8 → E (ah_R h a0 8) h8))) : MX G mi_X5_need (d + 2) 0 [some (rv a0), some (iv x1)] [] h Q E := by
  refine mx_iload_n dX5_need_0 rfl rfl ?_
  refine mx_if_ne (tgt := 10) dX5_need_1 rfl (fun c1 => ?_) (fun c1 => ?_)
  · have H := H.1 c1
    exact mx_vret rfl dX5_need_10 H
  · have H := H.2 c1
    refine mx_aload_n dX5_need_4 rfl rfl ?_
    refine mx_iconst dX5_need_5 ic_2 ?_
    refine mx_callV 5 (y' := mi_X5_fail) (vs := [iv (2 : Int32)]) (st := []) (al' := [some (rv a0), some (iv (2 : Int32))]) cl_5 V_X5_fail (Or.inl q1298) dX5_need_6 rfl rfl (Nat.le_of_ble_eq_true rfl) (Nat.le_of_ble_eq_true rfl) (ly5_k La0_h) ?_
    refine mx_aload_n dX5_fail_0 rfl rfl ?_
    refine mx_get 5 8 (ref := "PrairiePool$Reader") cl_5 (Nat.le_of_ble_eq_true rfl) (Or.inl q392) (Or.inl rfl) dX5_fail_1 (fv_5_8 _ _) (ly5_k La0_h) ?_
    refine mx_aload_n dX5_fail_4 rfl rfl ?_
    refine mx_get 5 3 (ref := "PrairiePool$Reader") cl_5 (Nat.le_of_ble_eq_true rfl) (Or.inl q387) (Or.inl rfl) dX5_fail_5 (fv_5_3 _ _) (ly5_k La0_h) ?_
    refine mx_iconst dX5_fail_8 ic_1 ?_
    refine mx_icmp_ne (tgt := 16) dX5_fail_9 rfl (fun c2 => ?_) (fun c2 => ?_)
    · have H := H.1 c2
      refine mx_iload_n dX5_fail_16 rfl rfl ?_
      refine mx_aload_n dX5_fail_17 rfl rfl ?_
      refine mx_get 5 4 (ref := "PrairiePool$Reader") cl_5 (Nat.le_of_ble_eq_true rfl) (Or.inl q388) (Or.inl rfl) dX5_fail_18 (fv_5_4 _ _) (ly5_k La0_h) ?_
      obtain ⟨k3, H⟩ := H
      refine mx_callV 4 (y' := mi_X4_of) (vs := [iv (2 : Int32), iv (ah_I h a0 4)]) (st := []) (al' := [some (rv (ah_R h a0 8)), some (iv (2 : Int32)), some (iv (ah_I h a0 4))]) cl_4 V_X4_of (Or.inl q1302) dX5_fail_21 rfl rfl (Nat.le_of_ble_eq_true rfl) (Nat.le_of_ble_eq_true rfl) k3 ?_
      refine mx_aload_n dX4_of_0 rfl rfl ?_
      refine mx_iload_n dX4_of_1 rfl rfl ?_
      refine mx_putI 4 6 (ref := "PrairiePool$Wrong") cl_4 (Nat.le_of_ble_eq_true rfl) (Or.inl q356) (Or.inl rfl) dX4_of_2 (Or.inl rfl) rfl k3 ?_
      refine mx_nmI  (fun h4 eh4 Xh4 Kh4 Lh4 => ?_)
      have H := H h4 eh4 Xh4
      have La0_h4 := La0_h.ext Xh4
      refine mx_aload_n dX4_of_5 rfl rfl ?_
      refine mx_iload_n dX4_of_6 rfl rfl ?_
      refine mx_putI 4 7 (ref := "PrairiePool$Wrong") cl_4 (Nat.le_of_ble_eq_true rfl) (Or.inl q358) (Or.inl rfl) dX4_of_7 (Or.inl rfl) rfl (ma_kde Kh4 (k3)) ?_
      refine mx_nmI  (fun h5 eh5 Xh5 Kh5 Lh5 => ?_)
      have H := H h5 eh5 Xh5
      have Kh5 := Kh5.trans Kh4
      have Lh5 := Lh5.trans Lh4
      have La0_h5 := La0_h4.ext Xh5
      refine mx_aload_n dX4_of_10 rfl rfl ?_
      refine mx_aretK rfl (by first | exact Or.inl ⟨_, rfl⟩ | exact Or.inr ⟨_, rfl⟩) dX4_of_11 ?_
      refine mx_aretK rfl (by first | exact Or.inl ⟨_, rfl⟩ | exact Or.inr ⟨_, rfl⟩) dX5_fail_24 ?_
      exact mx_athrow dX5_need_9 (by rw [(ma_kde Kh5 (k3))]; decide) (mt_out rfl H)
    · have H := H.2 c2
      refine mx_iconst dX5_fail_12 ic_1 ?_
      refine mx_goto (tgt := 17) dX5_fail_13 rfl ?_
      refine mx_aload_n dX5_fail_17 rfl rfl ?_
      refine mx_get 5 4 (ref := "PrairiePool$Reader") cl_5 (Nat.le_of_ble_eq_true rfl) (Or.inl q388) (Or.inl rfl) dX5_fail_18 (fv_5_4 _ _) (ly5_k La0_h) ?_
      obtain ⟨k6, H⟩ := H
      refine mx_callV 4 (y' := mi_X4_of) (vs := [iv (1 : Int32), iv (ah_I h a0 4)]) (st := []) (al' := [some (rv (ah_R h a0 8)), some (iv (1 : Int32)), some (iv (ah_I h a0 4))]) cl_4 V_X4_of (Or.inl q1302) dX5_fail_21 rfl rfl (Nat.le_of_ble_eq_true rfl) (Nat.le_of_ble_eq_true rfl) k6 ?_
      refine mx_aload_n dX4_of_0 rfl rfl ?_
      refine mx_iload_n dX4_of_1 rfl rfl ?_
      refine mx_putI 4 6 (ref := "PrairiePool$Wrong") cl_4 (Nat.le_of_ble_eq_true rfl) (Or.inl q356) (Or.inl rfl) dX4_of_2 (Or.inl rfl) rfl k6 ?_
      refine mx_nmI  (fun h7 eh7 Xh7 Kh7 Lh7 => ?_)
      have H := H h7 eh7 Xh7
      have La0_h7 := La0_h.ext Xh7
      refine mx_aload_n dX4_of_5 rfl rfl ?_
      refine mx_iload_n dX4_of_6 rfl rfl ?_
      refine mx_putI 4 7 (ref := "PrairiePool$Wrong") cl_4 (Nat.le_of_ble_eq_true rfl) (Or.inl q358) (Or.inl rfl) dX4_of_7 (Or.inl rfl) rfl (ma_kde Kh7 (k6)) ?_
      refine mx_nmI  (fun h8 eh8 Xh8 Kh8 Lh8 => ?_)
      have H := H h8 eh8 Xh8
      have Kh8 := Kh8.trans Kh7
      have Lh8 := Lh8.trans Lh7
      have La0_h8 := La0_h7.ext Xh8
      refine mx_aload_n dX4_of_10 rfl rfl ?_
      refine mx_aretK rfl (by first | exact Or.inl ⟨_, rfl⟩ | exact Or.inr ⟨_, rfl⟩) dX4_of_11 ?_
      refine mx_aretK rfl (by first | exact Or.inl ⟨_, rfl⟩ | exact Or.inr ⟨_, rfl⟩) dX5_fail_24 ?_
      exact mx_athrow dX5_need_9 (by rw [(ma_kde Kh8 (k6))]; decide) (mt_out rfl H)
theorem v_X5_fail {G : ma_G} {d : Nat} {a0 : Nat} {x1 : Int32} {h : ah_T} {Q : Option ma_V → ah_T → Prop} {E : Nat → ah_T → Prop} (La0_h : LY5 h a0) (H : (¬ (ah_I h a0 3) = (1 : Int32) → ah_kd h (ah_R h a0 8) = 5 ∧ ∀ h3 : ah_T, h3 = ah_wI h (ah_R h a0 8) 6 x1 → ah_ext h h3 → ∀ h4 : ah_T, h4 = ah_wI h3 (ah_R h a0 8) 7 (ah_I h a0 4) → ah_ext h3 h4 → Q (some (rv (ah_R h a0 8))) h4) ∧ ((ah_I h a0 3) = (1 : Int32) → ah_kd h (ah_R h a0 8) = 5 ∧ ∀ h6 : ah_T, h6 = ah_wI h (ah_R h a0 8) 6 (1 : Int32) → ah_ext h h6 → ∀ h7 : ah_T, h7 = ah_wI h6 (ah_R h a0 8) 7 (ah_I h a0 4) → ah_ext h6 h7 → Q (some (rv (ah_R h a0 8))) h7)) : MX G mi_X5_fail (d + 1) 0 [some (rv a0), some (iv x1)] [] h Q E := by
  refine mx_aload_n dX5_fail_0 rfl rfl ?_
  refine mx_get 5 8 (ref := "PrairiePool$Reader") cl_5 (Nat.le_of_ble_eq_true rfl) (Or.inl q392) (Or.inl rfl) dX5_fail_1 (fv_5_8 _ _) (ly5_k La0_h) ?_
  refine mx_aload_n dX5_fail_4 rfl rfl ?_
  refine mx_get 5 3 (ref := "PrairiePool$Reader") cl_5 (Nat.le_of_ble_eq_true rfl) (Or.inl q387) (Or.inl rfl) dX5_fail_5 (fv_5_3 _ _) (ly5_k La0_h) ?_
  refine mx_iconst dX5_fail_8 ic_1 ?_
  refine mx_icmp_ne (tgt := 16) dX5_fail_9 rfl (fun c1 => ?_) (fun c1 => ?_)
  · have H := H.1 c1
    refine mx_iload_n dX5_fail_16 rfl rfl ?_
    refine mx_aload_n dX5_fail_17 rfl rfl ?_
    refine mx_get 5 4 (ref := "PrairiePool$Reader") cl_5 (Nat.le_of_ble_eq_true rfl) (Or.inl q388) (Or.inl rfl) dX5_fail_18 (fv_5_4 _ _) (ly5_k La0_h) ?_
    obtain ⟨k2, H⟩ := H
    refine mx_callV 4 (y' := mi_X4_of) (vs := [iv x1, iv (ah_I h a0 4)]) (st := []) (al' := [some (rv (ah_R h a0 8)), some (iv x1), some (iv (ah_I h a0 4))]) cl_4 V_X4_of (Or.inl q1302) dX5_fail_21 rfl rfl (Nat.le_of_ble_eq_true rfl) (Nat.le_of_ble_eq_true rfl) k2 ?_
    refine mx_aload_n dX4_of_0 rfl rfl ?_
    refine mx_iload_n dX4_of_1 rfl rfl ?_
    refine mx_putI 4 6 (ref := "PrairiePool$Wrong") cl_4 (Nat.le_of_ble_eq_true rfl) (Or.inl q356) (Or.inl rfl) dX4_of_2 (Or.inl rfl) rfl k2 ?_
    refine mx_nmI  (fun h3 eh3 Xh3 Kh3 Lh3 => ?_)
    have H := H h3 eh3 Xh3
    have La0_h3 := La0_h.ext Xh3
    refine mx_aload_n dX4_of_5 rfl rfl ?_
    refine mx_iload_n dX4_of_6 rfl rfl ?_
    refine mx_putI 4 7 (ref := "PrairiePool$Wrong") cl_4 (Nat.le_of_ble_eq_true rfl) (Or.inl q358) (Or.inl rfl) dX4_of_7 (Or.inl rfl) rfl (ma_kde Kh3 (k2)) ?_
    refine mx_nmI  (fun h4 eh4 Xh4 Kh4 Lh4 => ?_)
    have H := H h4 eh4 Xh4
    have Kh4 := Kh4.trans Kh3
    have Lh4 := Lh4.trans Lh3
    have La0_h4 := La0_h3.ext Xh4
    refine mx_aload_n dX4_of_10 rfl rfl ?_
    refine mx_aretK rfl (by first | exact Or.inl ⟨_, rfl⟩ | exact Or.inr ⟨_, rfl⟩) dX4_of_11 ?_
    exact mx_aret rfl (by first | exact Or.inl ⟨_, rfl⟩ | exact Or.inr ⟨_, rfl⟩) dX5_fail_24 H
  · have H := H.2 c1
    refine mx_iconst dX5_fail_12 ic_1 ?_
    refine mx_goto (tgt := 17) dX5_fail_13 rfl ?_
    refine mx_aload_n dX5_fail_17 rfl rfl ?_
    refine mx_get 5 4 (ref := "PrairiePool$Reader") cl_5 (Nat.le_of_ble_eq_true rfl) (Or.inl q388) (Or.inl rfl) dX5_fail_18 (fv_5_4 _ _) (ly5_k La0_h) ?_
    obtain ⟨k5, H⟩ := H
    refine mx_callV 4 (y' := mi_X4_of) (vs := [iv (1 : Int32), iv (ah_I h a0 4)]) (st := []) (al' := [some (rv (ah_R h a0 8)), some (iv (1 : Int32)), some (iv (ah_I h a0 4))]) cl_4 V_X4_of (Or.inl q1302) dX5_fail_21 rfl rfl (Nat.le_of_ble_eq_true rfl) (Nat.le_of_ble_eq_true rfl) k5 ?_
    refine mx_aload_n dX4_of_0 rfl rfl ?_
    refine mx_iload_n dX4_of_1 rfl rfl ?_
    refine mx_putI 4 6 (ref := "PrairiePool$Wrong") cl_4 (Nat.le_of_ble_eq_true rfl) (Or.inl q356) (Or.inl rfl) dX4_of_2 (Or.inl rfl) rfl k5 ?_
    refine mx_nmI  (fun h6 eh6 Xh6 Kh6 Lh6 => ?_)
    have H := H h6 eh6 Xh6
    have La0_h6 := La0_h.ext Xh6
    refine mx_aload_n dX4_of_5 rfl rfl ?_
    refine mx_iload_n dX4_of_6 rfl rfl ?_
    refine mx_putI 4 7 (ref := "PrairiePool$Wrong") cl_4 (Nat.le_of_ble_eq_true rfl) (Or.inl q358) (Or.inl rfl) dX4_of_7 (Or.inl rfl) rfl (ma_kde Kh6 (k5)) ?_
    refine mx_nmI  (fun h7 eh7 Xh7 Kh7 Lh7 => ?_)
    have H := H h7 eh7 Xh7
    have Kh7 := Kh7.trans Kh6
    have Lh7 := Lh7.trans Lh6
    have La0_h7 := La0_h6.ext Xh7
    refine mx_aload_n dX4_of_10 rfl rfl ?_
    refine mx_aretK rfl (by first | exact Or.inl ⟨_, rfl⟩ | exact Or.inr ⟨_, rfl⟩) dX4_of_11 ?_
    exact mx_aret rfl (by first | exact Or.inl ⟨_, rfl⟩ | exact Or.inr ⟨_, rfl⟩) dX5_fail_24 H
theorem v_X5_is {G : ma_G} {d : Nat} {a0 : Nat} {x1 : Int32} {h : ah_T} {Q : Option ma_V → ah_T → Prop} {E : Nat → ah_T → Prop} (La0_h : LY5 h a0) (H : (¬ (ah_I h a0 3) = (4 : Int32) → Q (some (iv (0 : Int32))) h) ∧ ((ah_I h a0 3) = (4 : Int32) → (¬ (ah_J h a0 6) = x1.toInt64 → Q (some (iv (0 : Int32))) h) ∧ ((ah_J h a0 6) = x1.toInt64 → Q (some (iv (1 : Int32))) h))) : MX G mi_X5_is d 0 [some (rv a0), some (iv x1)] [] h Q E := by
  refine mx_aload_n dX5_is_0 rfl rfl ?_
  refine mx_get 5 3 (ref := "PrairiePool$Reader") cl_5 (Nat.le_of_ble_eq_true rfl) (Or.inl q387) (Or.inl rfl) dX5_is_1 (fv_5_3 _ _) (ly5_k La0_h) ?_
  refine mx_iconst dX5_is_4 ic_4 ?_
  refine mx_icmp_ne (tgt := 22) dX5_is_5 rfl (fun c1 => ?_) (fun c1 => ?_)
  · have H := H.1 c1
    refine mx_iconst dX5_is_22 ic_0 ?_
    exact mx_zret rfl dX5_is_23 (Or.inl rfl) H
  · have H := H.2 c1
    refine mx_aload_n dX5_is_8 rfl rfl ?_
    refine mx_get 5 6 (ref := "PrairiePool$Reader") cl_5 (Nat.le_of_ble_eq_true rfl) (Or.inl q390) (Or.inl rfl) dX5_is_9 (fv_5_6 _ _) (ly5_k La0_h) ?_
    refine mx_iload_n dX5_is_12 rfl rfl ?_
    refine mx_i2l dX5_is_13 ?_
    refine mx_lif_ne (tgt := 22) dX5_is_14 dX5_is_15 rfl (fun c2 => ?_) (fun c2 => ?_)
    · have H := H.1 c2
      refine mx_iconst dX5_is_22 ic_0 ?_
      exact mx_zret rfl dX5_is_23 (Or.inl rfl) H
    · have H := H.2 c2
      refine mx_iconst dX5_is_18 ic_1 ?_
      refine mx_goto (tgt := 23) dX5_is_19 rfl ?_
      exact mx_zret rfl dX5_is_23 (Or.inr rfl) H
theorem dX5_whole_0 : decode mi_X5_whole.2.1 0 = .ok (.iload_n 1, 1) := by decide +kernel
theorem dX5_whole_1 : decode mi_X5_whole.2.1 1 = .ok (.bipush 8, 2) := by decide +kernel
theorem dX5_whole_3 : decode mi_X5_whole.2.1 3 = .ok (.if_icmp .le 33, 3) := by decide +kernel
theorem dX5_whole_6 : decode mi_X5_whole.2.1 6 = .ok (.aload_n 0, 1) := by decide +kernel
theorem dX5_whole_7 : decode mi_X5_whole.2.1 7 = .ok (.aload_n 0, 1) := by decide +kernel
theorem dX5_whole_8 : decode mi_X5_whole.2.1 8 = .ok (.iconst 0, 1) := by decide +kernel
theorem dX5_whole_9 : decode mi_X5_whole.2.1 9 = .ok (.invokevirtual 139, 3) := by decide +kernel
theorem dX5_whole_12 : decode mi_X5_whole.2.1 12 = .ok (.ifCond .ne 10, 3) := by decide +kernel
theorem dX5_whole_15 : decode mi_X5_whole.2.1 15 = .ok (.aload_n 0, 1) := by decide +kernel
theorem dX5_whole_16 : decode mi_X5_whole.2.1 16 = .ok (.invokevirtual 142, 3) := by decide +kernel
theorem dX5_whole_19 : decode mi_X5_whole.2.1 19 = .ok (.ifCond .eq 7, 3) := by decide +kernel
theorem dX5_whole_22 : decode mi_X5_whole.2.1 22 = .ok (.iconst 1, 1) := by decide +kernel
theorem dX5_whole_23 : decode mi_X5_whole.2.1 23 = .ok (.goto 4, 3) := by decide +kernel
theorem dX5_whole_26 : decode mi_X5_whole.2.1 26 = .ok (.iconst 0, 1) := by decide +kernel
theorem dX5_whole_27 : decode mi_X5_whole.2.1 27 = .ok (.invokevirtual 113, 3) := by decide +kernel
theorem dX5_whole_30 : decode mi_X5_whole.2.1 30 = .ok (.aload_n 0, 1) := by decide +kernel
theorem dX5_whole_31 : decode mi_X5_whole.2.1 31 = .ok (.iconst 5, 1) := by decide +kernel
theorem dX5_whole_32 : decode mi_X5_whole.2.1 32 = .ok (.invokevirtual 68, 3) := by decide +kernel
theorem dX5_whole_35 : decode mi_X5_whole.2.1 35 = .ok (.athrow, 1) := by decide +kernel
theorem dX5_whole_36 : decode mi_X5_whole.2.1 36 = .ok (.aload_n 0, 1) := by decide +kernel
theorem dX5_whole_37 : decode mi_X5_whole.2.1 37 = .ok (.iconst 0, 1) := by decide +kernel
theorem dX5_whole_38 : decode mi_X5_whole.2.1 38 = .ok (.invokevirtual 139, 3) := by decide +kernel
theorem dX5_whole_41 : decode mi_X5_whole.2.1 41 = .ok (.ifCond .ne 9, 3) := by decide +kernel
theorem dX5_whole_44 : decode mi_X5_whole.2.1 44 = .ok (.aload_n 0, 1) := by decide +kernel
theorem dX5_whole_45 : decode mi_X5_whole.2.1 45 = .ok (.iload_n 1, 1) := by decide +kernel
theorem dX5_whole_46 : decode mi_X5_whole.2.1 46 = .ok (.invokevirtual 146, 3) := by decide +kernel
theorem dX5_whole_49 : decode mi_X5_whole.2.1 49 = .ok (.areturn, 1) := by decide +kernel
theorem dX5_whole_50 : decode mi_X5_whole.2.1 50 = .ok (.aload_n 0, 1) := by decide +kernel
theorem dX5_whole_51 : decode mi_X5_whole.2.1 51 = .ok (.invokevirtual 101, 3) := by decide +kernel
theorem dX5_whole_54 : decode mi_X5_whole.2.1 54 = .ok (.new 149, 3) := by decide +kernel
theorem dX5_whole_57 : decode mi_X5_whole.2.1 57 = .ok (.dup, 1) := by decide +kernel
theorem dX5_whole_58 : decode mi_X5_whole.2.1 58 = .ok (.invokespecial 151, 3) := by decide +kernel
theorem dX5_whole_61 : decode mi_X5_whole.2.1 61 = .ok (.astore_n 2, 1) := by decide +kernel
theorem dX5_whole_62 : decode mi_X5_whole.2.1 62 = .ok (.aload_n 2, 1) := by decide +kernel
theorem dX5_whole_63 : decode mi_X5_whole.2.1 63 = .ok (.aload_n 0, 1) := by decide +kernel
theorem dX5_whole_64 : decode mi_X5_whole.2.1 64 = .ok (.iload_n 1, 1) := by decide +kernel
theorem dX5_whole_65 : decode mi_X5_whole.2.1 65 = .ok (.invokevirtual 152, 3) := by decide +kernel
theorem dX5_whole_68 : decode mi_X5_whole.2.1 68 = .ok (.invokevirtual 156, 3) := by decide +kernel
theorem dX5_whole_71 : decode mi_X5_whole.2.1 71 = .ok (.aload_n 0, 1) := by decide +kernel
theorem dX5_whole_72 : decode mi_X5_whole.2.1 72 = .ok (.iconst 3, 1) := by decide +kernel
theorem dX5_whole_73 : decode mi_X5_whole.2.1 73 = .ok (.invokevirtual 139, 3) := by decide +kernel
theorem dX5_whole_76 : decode mi_X5_whole.2.1 76 = .ok (.istore_n 3, 1) := by decide +kernel
theorem dX5_whole_77 : decode mi_X5_whole.2.1 77 = .ok (.aload_n 2, 1) := by decide +kernel
theorem dX5_whole_78 : decode mi_X5_whole.2.1 78 = .ok (.aload_n 0, 1) := by decide +kernel
theorem dX5_whole_79 : decode mi_X5_whole.2.1 79 = .ok (.iconst 4, 1) := by decide +kernel
theorem dX5_whole_80 : decode mi_X5_whole.2.1 80 = .ok (.invokevirtual 139, 3) := by decide +kernel
theorem dX5_whole_83 : decode mi_X5_whole.2.1 83 = .ok (.putfield 160, 3) := by decide +kernel
theorem dX5_whole_86 : decode mi_X5_whole.2.1 86 = .ok (.iload_n 3, 1) := by decide +kernel
theorem dX5_whole_87 : decode mi_X5_whole.2.1 87 = .ok (.ifCond .eq 11, 3) := by decide +kernel
theorem dX5_whole_90 : decode mi_X5_whole.2.1 90 = .ok (.aload_n 0, 1) := by decide +kernel
theorem dX5_whole_91 : decode mi_X5_whole.2.1 91 = .ok (.iconst 3, 1) := by decide +kernel
theorem dX5_whole_92 : decode mi_X5_whole.2.1 92 = .ok (.invokevirtual 139, 3) := by decide +kernel
theorem dX5_whole_95 : decode mi_X5_whole.2.1 95 = .ok (.ifCond .ne 18, 3) := by decide +kernel
theorem dX5_whole_98 : decode mi_X5_whole.2.1 98 = .ok (.aload_n 2, 1) := by decide +kernel
theorem dX5_whole_99 : decode mi_X5_whole.2.1 99 = .ok (.getfield 160, 3) := by decide +kernel
theorem dX5_whole_102 : decode mi_X5_whole.2.1 102 = .ok (.ifCond .eq 27, 3) := by decide +kernel
theorem dX5_whole_105 : decode mi_X5_whole.2.1 105 = .ok (.aload_n 0, 1) := by decide +kernel
theorem dX5_whole_106 : decode mi_X5_whole.2.1 106 = .ok (.iconst 4, 1) := by decide +kernel
theorem dX5_whole_107 : decode mi_X5_whole.2.1 107 = .ok (.invokevirtual 139, 3) := by decide +kernel
theorem dX5_whole_110 : decode mi_X5_whole.2.1 110 = .ok (.ifCond .eq 19, 3) := by decide +kernel
theorem dX5_whole_113 : decode mi_X5_whole.2.1 113 = .ok (.aload_n 0, 1) := by decide +kernel
theorem dX5_whole_114 : decode mi_X5_whole.2.1 114 = .ok (.invokevirtual 101, 3) := by decide +kernel
theorem dX5_whole_117 : decode mi_X5_whole.2.1 117 = .ok (.aload_n 2, 1) := by decide +kernel
theorem dX5_whole_118 : decode mi_X5_whole.2.1 118 = .ok (.aload_n 0, 1) := by decide +kernel
theorem dX5_whole_119 : decode mi_X5_whole.2.1 119 = .ok (.iload_n 1, 1) := by decide +kernel
theorem dX5_whole_120 : decode mi_X5_whole.2.1 120 = .ok (.invokevirtual 152, 3) := by decide +kernel
theorem dX5_whole_123 : decode mi_X5_whole.2.1 123 = .ok (.invokevirtual 156, 3) := by decide +kernel
theorem dX5_whole_126 : decode mi_X5_whole.2.1 126 = .ok (.goto (-40), 3) := by decide +kernel
theorem dX5_whole_129 : decode mi_X5_whole.2.1 129 = .ok (.aload_n 0, 1) := by decide +kernel
theorem dX5_whole_130 : decode mi_X5_whole.2.1 130 = .ok (.aload_n 0, 1) := by decide +kernel
theorem dX5_whole_131 : decode mi_X5_whole.2.1 131 = .ok (.iconst 1, 1) := by decide +kernel
theorem dX5_whole_132 : decode mi_X5_whole.2.1 132 = .ok (.invokevirtual 139, 3) := by decide +kernel
theorem dX5_whole_135 : decode mi_X5_whole.2.1 135 = .ok (.invokevirtual 113, 3) := by decide +kernel
theorem dX5_whole_138 : decode mi_X5_whole.2.1 138 = .ok (.aload_n 0, 1) := by decide +kernel
theorem dX5_whole_139 : decode mi_X5_whole.2.1 139 = .ok (.invokevirtual 101, 3) := by decide +kernel
theorem dX5_whole_142 : decode mi_X5_whole.2.1 142 = .ok (.aload_n 2, 1) := by decide +kernel
theorem dX5_whole_143 : decode mi_X5_whole.2.1 143 = .ok (.aload_n 0, 1) := by decide +kernel
theorem dX5_whole_144 : decode mi_X5_whole.2.1 144 = .ok (.iload_n 1, 1) := by decide +kernel
theorem dX5_whole_145 : decode mi_X5_whole.2.1 145 = .ok (.iconst 1, 1) := by decide +kernel
theorem dX5_whole_146 : decode mi_X5_whole.2.1 146 = .ok (.iadd, 1) := by decide +kernel
theorem dX5_whole_147 : decode mi_X5_whole.2.1 147 = .ok (.invokevirtual 127, 3) := by decide +kernel
theorem dX5_whole_150 : decode mi_X5_whole.2.1 150 = .ok (.putfield 164, 3) := by decide +kernel
theorem dX5_whole_153 : decode mi_X5_whole.2.1 153 = .ok (.aload_n 0, 1) := by decide +kernel
theorem dX5_whole_154 : decode mi_X5_whole.2.1 154 = .ok (.aload_n 0, 1) := by decide +kernel
theorem dX5_whole_155 : decode mi_X5_whole.2.1 155 = .ok (.iconst 2, 1) := by decide +kernel
theorem dX5_whole_156 : decode mi_X5_whole.2.1 156 = .ok (.invokevirtual 139, 3) := by decide +kernel
theorem dX5_whole_159 : decode mi_X5_whole.2.1 159 = .ok (.invokevirtual 113, 3) := by decide +kernel
theorem dX5_whole_162 : decode mi_X5_whole.2.1 162 = .ok (.aload_n 0, 1) := by decide +kernel
theorem dX5_whole_163 : decode mi_X5_whole.2.1 163 = .ok (.invokevirtual 101, 3) := by decide +kernel
theorem dX5_whole_166 : decode mi_X5_whole.2.1 166 = .ok (.aload_n 2, 1) := by decide +kernel
theorem dX5_whole_167 : decode mi_X5_whole.2.1 167 = .ok (.aload_n 0, 1) := by decide +kernel
theorem dX5_whole_168 : decode mi_X5_whole.2.1 168 = .ok (.iload_n 1, 1) := by decide +kernel
theorem dX5_whole_169 : decode mi_X5_whole.2.1 169 = .ok (.iconst 1, 1) := by decide +kernel
theorem dX5_whole_170 : decode mi_X5_whole.2.1 170 = .ok (.iadd, 1) := by decide +kernel
theorem dX5_whole_171 : decode mi_X5_whole.2.1 171 = .ok (.invokevirtual 127, 3) := by decide +kernel
theorem dX5_whole_174 : decode mi_X5_whole.2.1 174 = .ok (.putfield 168, 3) := by decide +kernel
theorem dX5_whole_177 : decode mi_X5_whole.2.1 177 = .ok (.aload_n 2, 1) := by decide +kernel
theorem dX5_whole_178 : decode mi_X5_whole.2.1 178 = .ok (.areturn, 1) := by decide +kernel
theorem v_X5_whole {G : ma_G} {d : Nat} {a0 : Nat} {x1 : Int32} {h : ah_T} {Q : Option ma_V → ah_T → Prop} {E : Nat → ah_T → Prop} (La0_h : LY5 h a0) (H : (x1 ≤ (8 : Int32) → MX G mi_X5_isKey (d + 2) 0 [some (rv a0), some (iv (0 : Int32))] [] h (Qi fun r3 h2 => ah_ext h h2 → (¬ r3 = 0 → MX G mi_X5_next (d + 2) 0 [some (rv a0), none] [] h2 (Qv fun h5 => ah_ext h2 h5 → (1 ≤ ah_rc h5 ∧ 7 ≤ ah_rs h5) ∧ ∀ h8 : ah_T, h8 = ah_new h5 20 0 7 → ah_ext h5 h8 → ah_liv h5 → MX G mi_X22_init (d + 2) 0 [some (rv (ah_sz h5))] [] h8 (Qv fun h10 => ah_ext h8 h10 → MX G mi_X5_one (d + 2) 0 [some (rv a0), some (iv x1), none, none, none] [] h10 (Qr fun r14 h13 => ah_ext h10 h13 → MX G mi_X22_add (d + 2) 0 [some (rv (ah_sz h5)), some (rv r14)] [] h13 (Qv fun h16 => ah_ext h13 h16 → MX G mi_X5_isKey (d + 2) 0 [some (rv a0), some (iv (3 : Int32))] [] h16 (Qi fun r20 h19 => ah_ext h16 h19 → MX G mi_X5_isKey (d + 2) 0 [some (rv a0), some (iv (4 : Int32))] [] h19 (Qi fun r23 h22 => ah_ext h19 h22 → (r23 = 0 ∨ r23 = 1) ∧ ∀ h26 : ah_T, h26 = ah_wI h22 (ah_sz h5) 4 r23 → ah_ext h22 h26 → MX G mi_X5_whole (d + 3) 86 [some (rv a0), some (iv x1), some (rv (ah_sz h5)), some (iv r20)] [] h26 Q E) E) E) E) E) E) E) ∧ (r3 = 0 → MX G mi_X5_sum (d + 2) 0 [some (rv a0), some (iv x1), none, none] [] h2 (Qr fun r28 h27 => ah_ext h2 h27 → Q (some (rv r28)) h27) E)) E) ∧ (¬ x1 ≤ (8 : Int32) → MX G mi_X5_isKey (d + 2) 0 [some (rv a0), some (iv (0 : Int32))] [] h (Qi fun r30 h29 => ah_ext h h29 → (¬ r30 = 0 → (¬ (ah_I h29 a0 3) = (1 : Int32) → ah_kd h29 (ah_R h29 a0 8) = 5 ∧ ∀ h34 : ah_T, h34 = ah_wI h29 (ah_R h29 a0 8) 6 (5 : Int32) → ah_ext h29 h34 → ∀ h35 : ah_T, h35 = ah_wI h34 (ah_R h29 a0 8) 7 (ah_I h29 a0 4) → ah_ext h34 h35 → E (ah_R h29 a0 8) h35) ∧ ((ah_I h29 a0 3) = (1 : Int32) → ah_kd h29 (ah_R h29 a0 8) = 5 ∧ ∀ h37 : ah_T, h37 = ah_wI h29 (ah_R h29 a0 8) 6 (1 : Int32) → ah_ext h29 h37 → ∀ h38 : ah_T, h38 = ah_wI h37 (ah_R h29 a0 8) 7 (ah_I h29 a0 4) → ah_ext h37 h38 → E (ah_R h29 a0 8) h38)) ∧ (r30 = 0 → MX G mi_X5_begins (d + 2) 0 [some (rv a0)] [] h29 (Qi fun r40 h39 => ah_ext h29 h39 → (r40 = 0 → (¬ (ah_I h39 a0 3) = (1 : Int32) → ah_kd h39 (ah_R h39 a0 8) = 5 ∧ ∀ h44 : ah_T, h44 = ah_wI h39 (ah_R h39 a0 8) 6 (2 : Int32) → ah_ext h39 h44 → ∀ h45 : ah_T, h45 = ah_wI h44 (ah_R h39 a0 8) 7 (ah_I h39 a0 4) → ah_ext h44 h45 → E (ah_R h39 a0 8) h45) ∧ ((ah_I h39 a0 3) = (1 : Int32) → ah_kd h39 (ah_R h39 a0 8) = 5 ∧ ∀ h47 : ah_T, h47 = ah_wI h39 (ah_R h39 a0 8) 6 (1 : Int32) → ah_ext h39 h47 → ∀ h48 : ah_T, h48 = ah_wI h47 (ah_R h39 a0 8) 7 (ah_I h39 a0 4) → ah_ext h47 h48 → E (ah_R h39 a0 8) h48)) ∧ (¬ r40 = 0 → (¬ (ah_I h39 a0 3) = (1 : Int32) → ah_kd h39 (ah_R h39 a0 8) = 5 ∧ ∀ h51 : ah_T, h51 = ah_wI h39 (ah_R h39 a0 8) 6 (5 : Int32) → ah_ext h39 h51 → ∀ h52 : ah_T, h52 = ah_wI h51 (ah_R h39 a0 8) 7 (ah_I h39 a0 4) → ah_ext h51 h52 → E (ah_R h39 a0 8) h52) ∧ ((ah_I h39 a0 3) = (1 : Int32) → ah_kd h39 (ah_R h39 a0 8) = 5 ∧ ∀ h54 : ah_T, h54 = ah_wI h39 (ah_R h39 a0 8) 6 (1 : Int32) → ah_ext h39 h54 → ∀ h55 : ah_T, h55 = ah_wI h54 (ah_R h39 a0 8) 7 (ah_I h39 a0 4) → ah_ext h54 h55 → E (ah_R h39 a0 8) h55))) E)) E)) : MX G mi_X5_whole (d + 3) 0 [some (rv a0), some (iv x1), none, none] [] h Q E := by
  refine mx_iload_n dX5_whole_0 rfl rfl ?_
  refine mx_bipush dX5_whole_1 ib_8 ?_
  refine mx_icmp_le (tgt := 36) dX5_whole_3 rfl (fun c1 => ?_) (fun c1 => ?_)
  · have H := H.1 c1
    refine mx_aload_n dX5_whole_36 rfl rfl ?_
    refine mx_iconst dX5_whole_37 ic_0 ?_
    refine mx_callV 5 (y' := mi_X5_isKey) (vs := [iv (0 : Int32)]) (st := []) (al' := [some (rv a0), some (iv (0 : Int32))]) cl_5 V_X5_isKey (Or.inl q1315) dX5_whole_38 rfl rfl (Nat.le_of_ble_eq_true rfl) (Nat.le_of_ble_eq_true rfl) (ly5_k La0_h) ?_
    refine ma_ki H (fun r3 h2 Xh2 H => ?_) (fun x1 h1 X1 H => mt_out rfl H)
    have H := H Xh2
    have La0_h2 := La0_h.ext Xh2
    refine mx_if_ne (tgt := 50) dX5_whole_41 rfl (fun c4 => ?_) (fun c4 => ?_)
    · have H := H.1 c4
      refine mx_aload_n dX5_whole_50 rfl rfl ?_
      refine mx_callV 5 (y' := mi_X5_next) (vs := []) (st := []) (al' := [some (rv a0), none]) cl_5 V_X5_next (Or.inl q1206) dX5_whole_51 rfl rfl (Nat.le_of_ble_eq_true rfl) (Nat.le_of_ble_eq_true rfl) (ly5_k La0_h2) ?_
      refine ma_kv H (fun h5 Xh5 H => ?_) (fun x1 h1 X1 H => mt_out rfl H)
      have H := H Xh5
      have La0_h5 := La0_h2.ext Xh5
      obtain ⟨k7, H⟩ := H
      refine mx_new 19 cl_19 dk_19 q1402 q1040 q154 dX5_whole_54 k7.1 k7.2 (fun x_ lv_ => ?_)
      refine mx_nmN x_ lv_ (fun h8 eh8 Xh8 lv_ => ?_)
      have H := H h8 eh8 Xh8 lv_
      have La0_h8 := La0_h5.ext Xh8
      have k9 : ah_kd h8 (ah_sz h5) = 20 := by rw [eh8]; exact if_pos rfl
      refine mx_dup_r dX5_whole_57 ?_
      refine mx_callI (y' := mi_X22_init) (vs := []) (st := [rv (ah_sz h5)]) (al' := [some (rv (ah_sz h5))]) I_X22_init (Or.inr ⟨_, q1403⟩) dX5_whole_58 rfl rfl (Nat.le_of_ble_eq_true rfl) (Nat.le_of_ble_eq_true rfl) (by rw [k9]; decide) ?_
      refine ma_kv H (fun h10 Xh10 H => ?_) (fun x1 h1 X1 H => mt_out rfl H)
      have H := H Xh10
      have k12 := Xh10.kd (k9)
      have La0_h10 := La0_h8.ext Xh10
      refine mx_astore_n (al' := [some (rv a0), some (iv x1), some (rv (ah_sz h5)), none]) dX5_whole_61 rfl (Nat.le_of_ble_eq_true rfl) rfl ?_
      refine mx_aload_n dX5_whole_62 rfl rfl ?_
      refine mx_aload_n dX5_whole_63 rfl rfl ?_
      refine mx_iload_n dX5_whole_64 rfl rfl ?_
      refine mx_callV 5 (y' := mi_X5_one) (vs := [iv x1]) (st := [rv (ah_sz h5)]) (al' := [some (rv a0), some (iv x1), none, none, none]) cl_5 V_X5_one (Or.inl q1428) dX5_whole_65 rfl rfl (Nat.le_of_ble_eq_true rfl) (Nat.le_of_ble_eq_true rfl) (ly5_k La0_h10) ?_
      refine ma_kr H (fun r14 h13 Xh13 H => ?_) (fun x1 h1 X1 H => mt_out rfl H)
      have H := H Xh13
      have k15 := Xh13.kd (k12)
      have La0_h13 := La0_h10.ext Xh13
      refine mx_callV 19 (y' := mi_X22_add) (vs := [rv r14]) (st := []) (al' := [some (rv (ah_sz h5)), some (rv r14)]) cl_19 V_X22_add (Or.inl q1454) dX5_whole_68 rfl rfl (Nat.le_of_ble_eq_true rfl) (Nat.le_of_ble_eq_true rfl) k15 ?_
      refine ma_kv H (fun h16 Xh16 H => ?_) (fun x1 h1 X1 H => mt_out rfl H)
      have H := H Xh16
      have k18 := Xh16.kd (k15)
      have La0_h16 := La0_h13.ext Xh16
      refine mx_aload_n dX5_whole_71 rfl rfl ?_
      refine mx_iconst dX5_whole_72 ic_3 ?_
      refine mx_callV 5 (y' := mi_X5_isKey) (vs := [iv (3 : Int32)]) (st := []) (al' := [some (rv a0), some (iv (3 : Int32))]) cl_5 V_X5_isKey (Or.inl q1315) dX5_whole_73 rfl rfl (Nat.le_of_ble_eq_true rfl) (Nat.le_of_ble_eq_true rfl) (ly5_k La0_h16) ?_
      refine ma_ki H (fun r20 h19 Xh19 H => ?_) (fun x1 h1 X1 H => mt_out rfl H)
      have H := H Xh19
      have k21 := Xh19.kd (k18)
      have La0_h19 := La0_h16.ext Xh19
      refine mx_istore_n (al' := [some (rv a0), some (iv x1), some (rv (ah_sz h5)), some (iv r20)]) dX5_whole_76 rfl (Nat.le_of_ble_eq_true rfl) rfl ?_
      refine mx_aload_n dX5_whole_77 rfl rfl ?_
      refine mx_aload_n dX5_whole_78 rfl rfl ?_
      refine mx_iconst dX5_whole_79 ic_4 ?_
      refine mx_callV 5 (y' := mi_X5_isKey) (vs := [iv (4 : Int32)]) (st := [rv (ah_sz h5)]) (al' := [some (rv a0), some (iv (4 : Int32))]) cl_5 V_X5_isKey (Or.inl q1315) dX5_whole_80 rfl rfl (Nat.le_of_ble_eq_true rfl) (Nat.le_of_ble_eq_true rfl) (ly5_k La0_h19) ?_
      refine ma_ki H (fun r23 h22 Xh22 H => ?_) (fun x1 h1 X1 H => mt_out rfl H)
      have H := H Xh22
      have k24 := Xh22.kd (k21)
      have La0_h22 := La0_h19.ext Xh22
      obtain ⟨k25, H⟩ := H
      refine mx_putZ 19 4 (ref := "PrairiePool$If") cl_19 (Nat.le_of_ble_eq_true rfl) (Or.inr ⟨_, q1410⟩) (Or.inl rfl) dX5_whole_83 (Or.inl rfl) rfl k25 k24 ?_
      refine mx_nmI  (fun h26 eh26 Xh26 Kh26 Lh26 => ?_)
      have H := H h26 eh26 Xh26
      have La0_h26 := La0_h22.ext Xh26
      exact mx_weak (al' := [some (rv a0), some (iv x1), some (rv (ah_sz h5)), some (iv r20)]) ⟨rfl, ⟨rfl, ⟨rfl, ⟨rfl, trivial⟩⟩⟩⟩ H
    · have H := H.2 c4
      refine mx_aload_n dX5_whole_44 rfl rfl ?_
      refine mx_iload_n dX5_whole_45 rfl rfl ?_
      refine mx_callV 5 (y' := mi_X5_sum) (vs := [iv x1]) (st := []) (al' := [some (rv a0), some (iv x1), none, none]) cl_5 V_X5_sum (Or.inl q1323) dX5_whole_46 rfl rfl (Nat.le_of_ble_eq_true rfl) (Nat.le_of_ble_eq_true rfl) (ly5_k La0_h2) ?_
      refine ma_kr H (fun r28 h27 Xh27 H => ?_) (fun x1 h1 X1 H => mt_out rfl H)
      have H := H Xh27
      have La0_h27 := La0_h2.ext Xh27
      exact mx_aret rfl (by first | exact Or.inl ⟨_, rfl⟩ | exact Or.inr ⟨_, rfl⟩) dX5_whole_49 H
  · have H := H.2 c1
    refine mx_aload_n dX5_whole_6 rfl rfl ?_
    refine mx_aload_n dX5_whole_7 rfl rfl ?_
    refine mx_iconst dX5_whole_8 ic_0 ?_
    refine mx_callV 5 (y' := mi_X5_isKey) (vs := [iv (0 : Int32)]) (st := [rv a0]) (al' := [some (rv a0), some (iv (0 : Int32))]) cl_5 V_X5_isKey (Or.inl q1315) dX5_whole_9 rfl rfl (Nat.le_of_ble_eq_true rfl) (Nat.le_of_ble_eq_true rfl) (ly5_k La0_h) ?_
    refine ma_ki H (fun r30 h29 Xh29 H => ?_) (fun x1 h1 X1 H => mt_out rfl H)
    have H := H Xh29
    have La0_h29 := La0_h.ext Xh29
    refine mx_if_ne (tgt := 22) dX5_whole_12 rfl (fun c31 => ?_) (fun c31 => ?_)
    · have H := H.1 c31
      refine mx_iconst dX5_whole_22 ic_1 ?_
      refine mx_goto (tgt := 27) dX5_whole_23 rfl ?_
      refine mx_callV 5 (y' := mi_X5_need) (vs := [iv (1 : Int32)]) (st := []) (al' := [some (rv a0), some (iv (1 : Int32))]) cl_5 V_X5_need (Or.inl q1294) dX5_whole_27 rfl rfl (Nat.le_of_ble_eq_true rfl) (Nat.le_of_ble_eq_true rfl) (ly5_k La0_h29) ?_
      refine mx_iload_n dX5_need_0 rfl rfl ?_
      refine mx_if_ne (tgt := 10) dX5_need_1 rfl (fun _ => ?_) (fun _ => absurd ‹_› (by decide))
      refine mx_vretK rfl dX5_need_10 ?_
      refine mx_aload_n dX5_whole_30 rfl rfl ?_
      refine mx_iconst dX5_whole_31 ic_5 ?_
      refine mx_callV 5 (y' := mi_X5_fail) (vs := [iv (5 : Int32)]) (st := []) (al' := [some (rv a0), some (iv (5 : Int32))]) cl_5 V_X5_fail (Or.inl q1298) dX5_whole_32 rfl rfl (Nat.le_of_ble_eq_true rfl) (Nat.le_of_ble_eq_true rfl) (ly5_k La0_h29) ?_
      refine mx_aload_n dX5_fail_0 rfl rfl ?_
      refine mx_get 5 8 (ref := "PrairiePool$Reader") cl_5 (Nat.le_of_ble_eq_true rfl) (Or.inl q392) (Or.inl rfl) dX5_fail_1 (fv_5_8 _ _) (ly5_k La0_h29) ?_
      refine mx_aload_n dX5_fail_4 rfl rfl ?_
      refine mx_get 5 3 (ref := "PrairiePool$Reader") cl_5 (Nat.le_of_ble_eq_true rfl) (Or.inl q387) (Or.inl rfl) dX5_fail_5 (fv_5_3 _ _) (ly5_k La0_h29) ?_
      refine mx_iconst dX5_fail_8 ic_1 ?_
      refine mx_icmp_ne (tgt := 16) dX5_fail_9 rfl (fun c32 => ?_) (fun c32 => ?_)
      · have H := H.1 c32
        refine mx_iload_n dX5_fail_16 rfl rfl ?_
        refine mx_aload_n dX5_fail_17 rfl rfl ?_
        refine mx_get 5 4 (ref := "PrairiePool$Reader") cl_5 (Nat.le_of_ble_eq_true rfl) (Or.inl q388) (Or.inl rfl) dX5_fail_18 (fv_5_4 _ _) (ly5_k La0_h29) ?_
        obtain ⟨k33, H⟩ := H
        refine mx_callV 4 (y' := mi_X4_of) (vs := [iv (5 : Int32), iv (ah_I h29 a0 4)]) (st := []) (al' := [some (rv (ah_R h29 a0 8)), some (iv (5 : Int32)), some (iv (ah_I h29 a0 4))]) cl_4 V_X4_of (Or.inl q1302) dX5_fail_21 rfl rfl (Nat.le_of_ble_eq_true rfl) (Nat.le_of_ble_eq_true rfl) k33 ?_
        refine mx_aload_n dX4_of_0 rfl rfl ?_
        refine mx_iload_n dX4_of_1 rfl rfl ?_
        refine mx_putI 4 6 (ref := "PrairiePool$Wrong") cl_4 (Nat.le_of_ble_eq_true rfl) (Or.inl q356) (Or.inl rfl) dX4_of_2 (Or.inl rfl) rfl k33 ?_
        refine mx_nmI  (fun h34 eh34 Xh34 Kh34 Lh34 => ?_)
        have H := H h34 eh34 Xh34
        have La0_h34 := La0_h29.ext Xh34
        refine mx_aload_n dX4_of_5 rfl rfl ?_
        refine mx_iload_n dX4_of_6 rfl rfl ?_
        refine mx_putI 4 7 (ref := "PrairiePool$Wrong") cl_4 (Nat.le_of_ble_eq_true rfl) (Or.inl q358) (Or.inl rfl) dX4_of_7 (Or.inl rfl) rfl (ma_kde Kh34 (k33)) ?_
        refine mx_nmI  (fun h35 eh35 Xh35 Kh35 Lh35 => ?_)
        have H := H h35 eh35 Xh35
        have Kh35 := Kh35.trans Kh34
        have Lh35 := Lh35.trans Lh34
        have La0_h35 := La0_h34.ext Xh35
        refine mx_aload_n dX4_of_10 rfl rfl ?_
        refine mx_aretK rfl (by first | exact Or.inl ⟨_, rfl⟩ | exact Or.inr ⟨_, rfl⟩) dX4_of_11 ?_
        refine mx_aretK rfl (by first | exact Or.inl ⟨_, rfl⟩ | exact Or.inr ⟨_, rfl⟩) dX5_fail_24 ?_
        exact mx_athrow dX5_whole_35 (by rw [(ma_kde Kh35 (k33))]; decide) (mt_out rfl H)
      · have H := H.2 c32
        refine mx_iconst dX5_fail_12 ic_1 ?_
        refine mx_goto (tgt := 17) dX5_fail_13 rfl ?_
        refine mx_aload_n dX5_fail_17 rfl rfl ?_
        refine mx_get 5 4 (ref := "PrairiePool$Reader") cl_5 (Nat.le_of_ble_eq_true rfl) (Or.inl q388) (Or.inl rfl) dX5_fail_18 (fv_5_4 _ _) (ly5_k La0_h29) ?_
        obtain ⟨k36, H⟩ := H
        refine mx_callV 4 (y' := mi_X4_of) (vs := [iv (1 : Int32), iv (ah_I h29 a0 4)]) (st := []) (al' := [some (rv (ah_R h29 a0 8)), some (iv (1 : Int32)), some (iv (ah_I h29 a0 4))]) cl_4 V_X4_of (Or.inl q1302) dX5_fail_21 rfl rfl (Nat.le_of_ble_eq_true rfl) (Nat.le_of_ble_eq_true rfl) k36 ?_
        refine mx_aload_n dX4_of_0 rfl rfl ?_
        refine mx_iload_n dX4_of_1 rfl rfl ?_
        refine mx_putI 4 6 (ref := "PrairiePool$Wrong") cl_4 (Nat.le_of_ble_eq_true rfl) (Or.inl q356) (Or.inl rfl) dX4_of_2 (Or.inl rfl) rfl k36 ?_
        refine mx_nmI  (fun h37 eh37 Xh37 Kh37 Lh37 => ?_)
        have H := H h37 eh37 Xh37
        have La0_h37 := La0_h29.ext Xh37
        refine mx_aload_n dX4_of_5 rfl rfl ?_
        refine mx_iload_n dX4_of_6 rfl rfl ?_
        refine mx_putI 4 7 (ref := "PrairiePool$Wrong") cl_4 (Nat.le_of_ble_eq_true rfl) (Or.inl q358) (Or.inl rfl) dX4_of_7 (Or.inl rfl) rfl (ma_kde Kh37 (k36)) ?_
        refine mx_nmI  (fun h38 eh38 Xh38 Kh38 Lh38 => ?_)
        have H := H h38 eh38 Xh38
        have Kh38 := Kh38.trans Kh37
        have Lh38 := Lh38.trans Lh37
        have La0_h38 := La0_h37.ext Xh38
        refine mx_aload_n dX4_of_10 rfl rfl ?_
        refine mx_aretK rfl (by first | exact Or.inl ⟨_, rfl⟩ | exact Or.inr ⟨_, rfl⟩) dX4_of_11 ?_
        refine mx_aretK rfl (by first | exact Or.inl ⟨_, rfl⟩ | exact Or.inr ⟨_, rfl⟩) dX5_fail_24 ?_
        exact mx_athrow dX5_whole_35 (by rw [(ma_kde Kh38 (k36))]; decide) (mt_out rfl H)
    · have H := H.2 c31
      refine mx_aload_n dX5_whole_15 rfl rfl ?_
      refine mx_callV 5 (y' := mi_X5_begins) (vs := []) (st := [rv a0]) (al' := [some (rv a0)]) cl_5 V_X5_begins (Or.inl q1319) dX5_whole_16 rfl rfl (Nat.le_of_ble_eq_true rfl) (Nat.le_of_ble_eq_true rfl) (ly5_k La0_h29) ?_
      refine ma_ki H (fun r40 h39 Xh39 H => ?_) (fun x1 h1 X1 H => mt_out rfl H)
      have H := H Xh39
      have La0_h39 := La0_h29.ext Xh39
      refine mx_if_eq (tgt := 26) dX5_whole_19 rfl (fun c41 => ?_) (fun c41 => ?_)
      · have H := H.1 c41
        refine mx_iconst dX5_whole_26 ic_0 ?_
        refine mx_callV 5 (y' := mi_X5_need) (vs := [iv (0 : Int32)]) (st := []) (al' := [some (rv a0), some (iv (0 : Int32))]) cl_5 V_X5_need (Or.inl q1294) dX5_whole_27 rfl rfl (Nat.le_of_ble_eq_true rfl) (Nat.le_of_ble_eq_true rfl) (ly5_k La0_h39) ?_
        refine mx_iload_n dX5_need_0 rfl rfl ?_
        refine mx_if_ne (tgt := 10) dX5_need_1 rfl (fun _ => absurd ‹_› (by decide)) (fun _ => ?_)
        refine mx_aload_n dX5_need_4 rfl rfl ?_
        refine mx_iconst dX5_need_5 ic_2 ?_
        refine mx_callV 5 (y' := mi_X5_fail) (vs := [iv (2 : Int32)]) (st := []) (al' := [some (rv a0), some (iv (2 : Int32))]) cl_5 V_X5_fail (Or.inl q1298) dX5_need_6 rfl rfl (Nat.le_of_ble_eq_true rfl) (Nat.le_of_ble_eq_true rfl) (ly5_k La0_h39) ?_
        refine mx_aload_n dX5_fail_0 rfl rfl ?_
        refine mx_get 5 8 (ref := "PrairiePool$Reader") cl_5 (Nat.le_of_ble_eq_true rfl) (Or.inl q392) (Or.inl rfl) dX5_fail_1 (fv_5_8 _ _) (ly5_k La0_h39) ?_
        refine mx_aload_n dX5_fail_4 rfl rfl ?_
        refine mx_get 5 3 (ref := "PrairiePool$Reader") cl_5 (Nat.le_of_ble_eq_true rfl) (Or.inl q387) (Or.inl rfl) dX5_fail_5 (fv_5_3 _ _) (ly5_k La0_h39) ?_
        refine mx_iconst dX5_fail_8 ic_1 ?_
        refine mx_icmp_ne (tgt := 16) dX5_fail_9 rfl (fun c42 => ?_) (fun c42 => ?_)
        · have H := H.1 c42
          refine mx_iload_n dX5_fail_16 rfl rfl ?_
          refine mx_aload_n dX5_fail_17 rfl rfl ?_
          refine mx_get 5 4 (ref := "PrairiePool$Reader") cl_5 (Nat.le_of_ble_eq_true rfl) (Or.inl q388) (Or.inl rfl) dX5_fail_18 (fv_5_4 _ _) (ly5_k La0_h39) ?_
          obtain ⟨k43, H⟩ := H
          refine mx_callV 4 (y' := mi_X4_of) (vs := [iv (2 : Int32), iv (ah_I h39 a0 4)]) (st := []) (al' := [some (rv (ah_R h39 a0 8)), some (iv (2 : Int32)), some (iv (ah_I h39 a0 4))]) cl_4 V_X4_of (Or.inl q1302) dX5_fail_21 rfl rfl (Nat.le_of_ble_eq_true rfl) (Nat.le_of_ble_eq_true rfl) k43 ?_
          refine mx_aload_n dX4_of_0 rfl rfl ?_
          refine mx_iload_n dX4_of_1 rfl rfl ?_
          refine mx_putI 4 6 (ref := "PrairiePool$Wrong") cl_4 (Nat.le_of_ble_eq_true rfl) (Or.inl q356) (Or.inl rfl) dX4_of_2 (Or.inl rfl) rfl k43 ?_
          refine mx_nmI  (fun h44 eh44 Xh44 Kh44 Lh44 => ?_)
          have H := H h44 eh44 Xh44
          have La0_h44 := La0_h39.ext Xh44
          refine mx_aload_n dX4_of_5 rfl rfl ?_
          refine mx_iload_n dX4_of_6 rfl rfl ?_
          refine mx_putI 4 7 (ref := "PrairiePool$Wrong") cl_4 (Nat.le_of_ble_eq_true rfl) (Or.inl q358) (Or.inl rfl) dX4_of_7 (Or.inl rfl) rfl (ma_kde Kh44 (k43)) ?_
          refine mx_nmI  (fun h45 eh45 Xh45 Kh45 Lh45 => ?_)
          have H := H h45 eh45 Xh45
          have Kh45 := Kh45.trans Kh44
          have Lh45 := Lh45.trans Lh44
          have La0_h45 := La0_h44.ext Xh45
          refine mx_aload_n dX4_of_10 rfl rfl ?_
          refine mx_aretK rfl (by first | exact Or.inl ⟨_, rfl⟩ | exact Or.inr ⟨_, rfl⟩) dX4_of_11 ?_
          refine mx_aretK rfl (by first | exact Or.inl ⟨_, rfl⟩ | exact Or.inr ⟨_, rfl⟩) dX5_fail_24 ?_
          exact mx_athrow dX5_need_9 (by rw [(ma_kde Kh45 (k43))]; decide) (mt_out rfl (fun _ => mt_out rfl H))
        · have H := H.2 c42
          refine mx_iconst dX5_fail_12 ic_1 ?_
          refine mx_goto (tgt := 17) dX5_fail_13 rfl ?_
          refine mx_aload_n dX5_fail_17 rfl rfl ?_
          refine mx_get 5 4 (ref := "PrairiePool$Reader") cl_5 (Nat.le_of_ble_eq_true rfl) (Or.inl q388) (Or.inl rfl) dX5_fail_18 (fv_5_4 _ _) (ly5_k La0_h39) ?_
          obtain ⟨k46, H⟩ := H
          refine mx_callV 4 (y' := mi_X4_of) (vs := [iv (1 : Int32), iv (ah_I h39 a0 4)]) (st := []) (al' := [some (rv (ah_R h39 a0 8)), some (iv (1 : Int32)), some (iv (ah_I h39 a0 4))]) cl_4 V_X4_of (Or.inl q1302) dX5_fail_21 rfl rfl (Nat.le_of_ble_eq_true rfl) (Nat.le_of_ble_eq_true rfl) k46 ?_
          refine mx_aload_n dX4_of_0 rfl rfl ?_
          refine mx_iload_n dX4_of_1 rfl rfl ?_
          refine mx_putI 4 6 (ref := "PrairiePool$Wrong") cl_4 (Nat.le_of_ble_eq_true rfl) (Or.inl q356) (Or.inl rfl) dX4_of_2 (Or.inl rfl) rfl k46 ?_
          refine mx_nmI  (fun h47 eh47 Xh47 Kh47 Lh47 => ?_)
          have H := H h47 eh47 Xh47
          have La0_h47 := La0_h39.ext Xh47
          refine mx_aload_n dX4_of_5 rfl rfl ?_
          refine mx_iload_n dX4_of_6 rfl rfl ?_
          refine mx_putI 4 7 (ref := "PrairiePool$Wrong") cl_4 (Nat.le_of_ble_eq_true rfl) (Or.inl q358) (Or.inl rfl) dX4_of_7 (Or.inl rfl) rfl (ma_kde Kh47 (k46)) ?_
          refine mx_nmI  (fun h48 eh48 Xh48 Kh48 Lh48 => ?_)
          have H := H h48 eh48 Xh48
          have Kh48 := Kh48.trans Kh47
          have Lh48 := Lh48.trans Lh47
          have La0_h48 := La0_h47.ext Xh48
          refine mx_aload_n dX4_of_10 rfl rfl ?_
          refine mx_aretK rfl (by first | exact Or.inl ⟨_, rfl⟩ | exact Or.inr ⟨_, rfl⟩) dX4_of_11 ?_
          refine mx_aretK rfl (by first | exact Or.inl ⟨_, rfl⟩ | exact Or.inr ⟨_, rfl⟩) dX5_fail_24 ?_
          exact mx_athrow dX5_need_9 (by rw [(ma_kde Kh48 (k46))]; decide) (mt_out rfl (fun _ => mt_out rfl H))
      · have H := H.2 c41
        refine mx_iconst dX5_whole_22 ic_1 ?_
        refine mx_goto (tgt := 27) dX5_whole_23 rfl ?_
        refine mx_callV 5 (y' := mi_X5_need) (vs := [iv (1 : Int32)]) (st := []) (al' := [some (rv a0), some (iv (1 : Int32))]) cl_5 V_X5_need (Or.inl q1294) dX5_whole_27 rfl rfl (Nat.le_of_ble_eq_true rfl) (Nat.le_of_ble_eq_true rfl) (ly5_k La0_h39) ?_
        refine mx_iload_n dX5_need_0 rfl rfl ?_
        refine mx_if_ne (tgt := 10) dX5_need_1 rfl (fun _ => ?_) (fun _ => absurd ‹_› (by decide))
        refine mx_vretK rfl dX5_need_10 ?_
        refine mx_aload_n dX5_whole_30 rfl rfl ?_
        refine mx_iconst dX5_whole_31 ic_5 ?_
        refine mx_callV 5 (y' := mi_X5_fail) (vs := [iv (5 : Int32)]) (st := []) (al' := [some (rv a0), some (iv (5 : Int32))]) cl_5 V_X5_fail (Or.inl q1298) dX5_whole_32 rfl rfl (Nat.le_of_ble_eq_true rfl) (Nat.le_of_ble_eq_true rfl) (ly5_k La0_h39) ?_
        refine mx_aload_n dX5_fail_0 rfl rfl ?_
        refine mx_get 5 8 (ref := "PrairiePool$Reader") cl_5 (Nat.le_of_ble_eq_true rfl) (Or.inl q392) (Or.inl rfl) dX5_fail_1 (fv_5_8 _ _) (ly5_k La0_h39) ?_
        refine mx_aload_n dX5_fail_4 rfl rfl ?_
        refine mx_get 5 3 (ref := "PrairiePool$Reader") cl_5 (Nat.le_of_ble_eq_true rfl) (Or.inl q387) (Or.inl rfl) dX5_fail_5 (fv_5_3 _ _) (ly5_k La0_h39) ?_
        refine mx_iconst dX5_fail_8 ic_1 ?_
        refine mx_icmp_ne (tgt := 16) dX5_fail_9 rfl (fun c49 => ?_) (fun c49 => ?_)
        · have H := H.1 c49
          refine mx_iload_n dX5_fail_16 rfl rfl ?_
          refine mx_aload_n dX5_fail_17 rfl rfl ?_
          refine mx_get 5 4 (ref := "PrairiePool$Reader") cl_5 (Nat.le_of_ble_eq_true rfl) (Or.inl q388) (Or.inl rfl) dX5_fail_18 (fv_5_4 _ _) (ly5_k La0_h39) ?_
          obtain ⟨k50, H⟩ := H
          refine mx_callV 4 (y' := mi_X4_of) (vs := [iv (5 : Int32), iv (ah_I h39 a0 4)]) (st := []) (al' := [some (rv (ah_R h39 a0 8)), some (iv (5 : Int32)), some (iv (ah_I h39 a0 4))]) cl_4 V_X4_of (Or.inl q1302) dX5_fail_21 rfl rfl (Nat.le_of_ble_eq_true rfl) (Nat.le_of_ble_eq_true rfl) k50 ?_
          refine mx_aload_n dX4_of_0 rfl rfl ?_
          refine mx_iload_n dX4_of_1 rfl rfl ?_
          refine mx_putI 4 6 (ref := "PrairiePool$Wrong") cl_4 (Nat.le_of_ble_eq_true rfl) (Or.inl q356) (Or.inl rfl) dX4_of_2 (Or.inl rfl) rfl k50 ?_
          refine mx_nmI  (fun h51 eh51 Xh51 Kh51 Lh51 => ?_)
          have H := H h51 eh51 Xh51
          have La0_h51 := La0_h39.ext Xh51
          refine mx_aload_n dX4_of_5 rfl rfl ?_
          refine mx_iload_n dX4_of_6 rfl rfl ?_
          refine mx_putI 4 7 (ref := "PrairiePool$Wrong") cl_4 (Nat.le_of_ble_eq_true rfl) (Or.inl q358) (Or.inl rfl) dX4_of_7 (Or.inl rfl) rfl (ma_kde Kh51 (k50)) ?_
          refine mx_nmI  (fun h52 eh52 Xh52 Kh52 Lh52 => ?_)
          have H := H h52 eh52 Xh52
          have Kh52 := Kh52.trans Kh51
          have Lh52 := Lh52.trans Lh51
          have La0_h52 := La0_h51.ext Xh52
          refine mx_aload_n dX4_of_10 rfl rfl ?_
          refine mx_aretK rfl (by first | exact Or.inl ⟨_, rfl⟩ | exact Or.inr ⟨_, rfl⟩) dX4_of_11 ?_
          refine mx_aretK rfl (by first | exact Or.inl ⟨_, rfl⟩ | exact Or.inr ⟨_, rfl⟩) dX5_fail_24 ?_
          exact mx_athrow dX5_whole_35 (by rw [(ma_kde Kh52 (k50))]; decide) (mt_out rfl H)
        · have H := H.2 c49
          refine mx_iconst dX5_fail_12 ic_1 ?_
          refine mx_goto (tgt := 17) dX5_fail_13 rfl ?_
          refine mx_aload_n dX5_fail_17 rfl rfl ?_
          refine mx_get 5 4 (ref := "PrairiePool$Reader") cl_5 (Nat.le_of_ble_eq_true rfl) (Or.inl q388) (Or.inl rfl) dX5_fail_18 (fv_5_4 _ _) (ly5_k La0_h39) ?_
          obtain ⟨k53, H⟩ := H
          refine mx_callV 4 (y' := mi_X4_of) (vs := [iv (1 : Int32), iv (ah_I h39 a0 4)]) (st := []) (al' := [some (rv (ah_R h39 a0 8)), some (iv (1 : Int32)), some (iv (ah_I h39 a0 4))]) cl_4 V_X4_of (Or.inl q1302) dX5_fail_21 rfl rfl (Nat.le_of_ble_eq_true rfl) (Nat.le_of_ble_eq_true rfl) k53 ?_
          refine mx_aload_n dX4_of_0 rfl rfl ?_
          refine mx_iload_n dX4_of_1 rfl rfl ?_
          refine mx_putI 4 6 (ref := "PrairiePool$Wrong") cl_4 (Nat.le_of_ble_eq_true rfl) (Or.inl q356) (Or.inl rfl) dX4_of_2 (Or.inl rfl) rfl k53 ?_
          refine mx_nmI  (fun h54 eh54 Xh54 Kh54 Lh54 => ?_)
          have H := H h54 eh54 Xh54
          have La0_h54 := La0_h39.ext Xh54
          refine mx_aload_n dX4_of_5 rfl rfl ?_
          refine mx_iload_n dX4_of_6 rfl rfl ?_
          refine mx_putI 4 7 (ref := "PrairiePool$Wrong") cl_4 (Nat.le_of_ble_eq_true rfl) (Or.inl q358) (Or.inl rfl) dX4_of_7 (Or.inl rfl) rfl (ma_kde Kh54 (k53)) ?_
          refine mx_nmI  (fun h55 eh55 Xh55 Kh55 Lh55 => ?_)
          have H := H h55 eh55 Xh55
          have Kh55 := Kh55.trans Kh54
          have Lh55 := Lh55.trans Lh54
          have La0_h55 := La0_h54.ext Xh55
          refine mx_aload_n dX4_of_10 rfl rfl ?_
          refine mx_aretK rfl (by first | exact Or.inl ⟨_, rfl⟩ | exact Or.inr ⟨_, rfl⟩) dX4_of_11 ?_
          refine mx_aretK rfl (by first | exact Or.inl ⟨_, rfl⟩ | exact Or.inr ⟨_, rfl⟩) dX5_fail_24 ?_
          exact mx_athrow dX5_whole_35 (by rw [(ma_kde Kh55 (k53))]; decide) (mt_out rfl H)
theorem v_X5_whole_86 {G : ma_G} {d : Nat} {a0 : Nat} {x1 : Int32} {a2 : Nat} {x3 : Int32} {h : ah_T} {Q : Option ma_V → ah_T → Prop} {E : Nat → ah_T → Prop} (La0_h : LY5 h a0) (H : (x3 = 0 → MX G mi_X5_whole (d + 3) 98 [some (rv a0), some (iv x1), some (rv a2), some (iv x3)] [] h Q E) ∧ (¬ x3 = 0 → MX G mi_X5_isKey (d + 2) 0 [some (rv a0), some (iv (3 : Int32))] [] h (Qi fun r3 h2 => ah_ext h h2 → (¬ r3 = 0 → MX G mi_X5_next (d + 2) 0 [some (rv a0), none] [] h2 (Qv fun h5 => ah_ext h2 h5 → MX G mi_X5_one (d + 2) 0 [some (rv a0), some (iv x1), none, none, none] [] h5 (Qr fun r8 h7 => ah_ext h5 h7 → ah_kd h7 a2 = 20 ∧ MX G mi_X22_add (d + 2) 0 [some (rv a2), some (rv r8)] [] h7 (Qv fun h10 => ah_ext h7 h10 → MX G mi_X5_whole (d + 3) 86 [some (rv a0), some (iv x1), some (rv a2), some (iv x3)] [] h10 Q E) E) E) E) ∧ (r3 = 0 → MX G mi_X5_whole (d + 3) 98 [some (rv a0), some (iv x1), some (rv a2), some (iv x3)] [] h2 Q E)) E)) : MX G mi_X5_whole (d + 3) 86 [some (rv a0), some (iv x1), some (rv a2), some (iv x3)] [] h Q E := by
  refine mx_iload_n dX5_whole_86 rfl rfl ?_
  refine mx_if_eq (tgt := 98) dX5_whole_87 rfl (fun c1 => ?_) (fun c1 => ?_)
  · have H := H.1 c1
    exact mx_weak (al' := [some (rv a0), some (iv x1), some (rv a2), some (iv x3)]) ⟨rfl, ⟨rfl, ⟨rfl, ⟨rfl, trivial⟩⟩⟩⟩ H
  · have H := H.2 c1
    refine mx_aload_n dX5_whole_90 rfl rfl ?_
    refine mx_iconst dX5_whole_91 ic_3 ?_
    refine mx_callV 5 (y' := mi_X5_isKey) (vs := [iv (3 : Int32)]) (st := []) (al' := [some (rv a0), some (iv (3 : Int32))]) cl_5 V_X5_isKey (Or.inl q1315) dX5_whole_92 rfl rfl (Nat.le_of_ble_eq_true rfl) (Nat.le_of_ble_eq_true rfl) (ly5_k La0_h) ?_
    refine ma_ki H (fun r3 h2 Xh2 H => ?_) (fun x1 h1 X1 H => mt_out rfl H)
    have H := H Xh2
    have La0_h2 := La0_h.ext Xh2
    refine mx_if_ne (tgt := 113) dX5_whole_95 rfl (fun c4 => ?_) (fun c4 => ?_)
    · have H := H.1 c4
      refine mx_aload_n dX5_whole_113 rfl rfl ?_
      refine mx_callV 5 (y' := mi_X5_next) (vs := []) (st := []) (al' := [some (rv a0), none]) cl_5 V_X5_next (Or.inl q1206) dX5_whole_114 rfl rfl (Nat.le_of_ble_eq_true rfl) (Nat.le_of_ble_eq_true rfl) (ly5_k La0_h2) ?_
      refine ma_kv H (fun h5 Xh5 H => ?_) (fun x1 h1 X1 H => mt_out rfl H)
      have H := H Xh5
      have La0_h5 := La0_h2.ext Xh5
      refine mx_aload_n dX5_whole_117 rfl rfl ?_
      refine mx_aload_n dX5_whole_118 rfl rfl ?_
      refine mx_iload_n dX5_whole_119 rfl rfl ?_
      refine mx_callV 5 (y' := mi_X5_one) (vs := [iv x1]) (st := [rv a2]) (al' := [some (rv a0), some (iv x1), none, none, none]) cl_5 V_X5_one (Or.inl q1428) dX5_whole_120 rfl rfl (Nat.le_of_ble_eq_true rfl) (Nat.le_of_ble_eq_true rfl) (ly5_k La0_h5) ?_
      refine ma_kr H (fun r8 h7 Xh7 H => ?_) (fun x1 h1 X1 H => mt_out rfl H)
      have H := H Xh7
      have La0_h7 := La0_h5.ext Xh7
      obtain ⟨k9, H⟩ := H
      refine mx_callV 19 (y' := mi_X22_add) (vs := [rv r8]) (st := []) (al' := [some (rv a2), some (rv r8)]) cl_19 V_X22_add (Or.inl q1454) dX5_whole_123 rfl rfl (Nat.le_of_ble_eq_true rfl) (Nat.le_of_ble_eq_true rfl) k9 ?_
      refine ma_kv H (fun h10 Xh10 H => ?_) (fun x1 h1 X1 H => mt_out rfl H)
      have H := H Xh10
      have k12 := Xh10.kd (k9)
      have La0_h10 := La0_h7.ext Xh10
      refine mx_goto (tgt := 86) dX5_whole_126 rfl ?_
      exact mx_weak (al' := [some (rv a0), some (iv x1), some (rv a2), some (iv x3)]) ⟨rfl, ⟨rfl, ⟨rfl, ⟨rfl, trivial⟩⟩⟩⟩ H
    · have H := H.2 c4
      exact mx_weak (al' := [some (rv a0), some (iv x1), some (rv a2), some (iv x3)]) ⟨rfl, ⟨rfl, ⟨rfl, ⟨rfl, trivial⟩⟩⟩⟩ H
theorem v_X5_whole_98 {G : ma_G} {d : Nat} {a0 : Nat} {x1 : Int32} {a2 : Nat} {x3 : Int32} {h : ah_T} {Q : Option ma_V → ah_T → Prop} {E : Nat → ah_T → Prop} (La0_h : LY5 h a0) (H : ah_kd h a2 = 20 ∧ ((ah_I h a2 4) = 0 → MX G mi_X5_whole (d + 3) 129 [some (rv a0), some (iv x1), some (rv a2), none] [] h Q E) ∧ (¬ (ah_I h a2 4) = 0 → MX G mi_X5_isKey (d + 2) 0 [some (rv a0), some (iv (4 : Int32))] [] h (Qi fun r4 h3 => ah_ext h h3 → (r4 = 0 → MX G mi_X5_whole (d + 3) 129 [some (rv a0), some (iv x1), some (rv a2), none] [] h3 Q E) ∧ (¬ r4 = 0 → MX G mi_X5_next (d + 2) 0 [some (rv a0), none] [] h3 (Qv fun h7 => ah_ext h3 h7 → MX G mi_X5_one (d + 2) 0 [some (rv a0), some (iv x1), none, none, none] [] h7 (Qr fun r11 h10 => ah_ext h7 h10 → MX G mi_X22_add (d + 2) 0 [some (rv a2), some (rv r11)] [] h10 (Qv fun h13 => ah_ext h10 h13 → MX G mi_X5_whole (d + 3) 86 [some (rv a0), some (iv x1), some (rv a2), some (iv x3)] [] h13 Q E) E) E) E)) E)) : MX G mi_X5_whole (d + 3) 98 [some (rv a0), some (iv x1), some (rv a2), some (iv x3)] [] h Q E := by
  refine mx_aload_n dX5_whole_98 rfl rfl ?_
  obtain ⟨k1, H⟩ := H
  refine mx_get 19 4 (ref := "PrairiePool$If") cl_19 (Nat.le_of_ble_eq_true rfl) (Or.inr ⟨_, q1410⟩) (Or.inl rfl) dX5_whole_99 (fv_19_4 _ _) k1 ?_
  refine mx_if_eq (tgt := 129) dX5_whole_102 rfl (fun c2 => ?_) (fun c2 => ?_)
  · have H := H.1 c2
    exact mx_weak (al' := [some (rv a0), some (iv x1), some (rv a2), none]) ⟨rfl, ⟨rfl, ⟨rfl, trivial⟩⟩⟩ H
  · have H := H.2 c2
    refine mx_aload_n dX5_whole_105 rfl rfl ?_
    refine mx_iconst dX5_whole_106 ic_4 ?_
    refine mx_callV 5 (y' := mi_X5_isKey) (vs := [iv (4 : Int32)]) (st := []) (al' := [some (rv a0), some (iv (4 : Int32))]) cl_5 V_X5_isKey (Or.inl q1315) dX5_whole_107 rfl rfl (Nat.le_of_ble_eq_true rfl) (Nat.le_of_ble_eq_true rfl) (ly5_k La0_h) ?_
    refine ma_ki H (fun r4 h3 Xh3 H => ?_) (fun x1 h1 X1 H => mt_out rfl H)
    have H := H Xh3
    have k5 := Xh3.kd (k1)
    have La0_h3 := La0_h.ext Xh3
    refine mx_if_eq (tgt := 129) dX5_whole_110 rfl (fun c6 => ?_) (fun c6 => ?_)
    · have H := H.1 c6
      exact mx_weak (al' := [some (rv a0), some (iv x1), some (rv a2), none]) ⟨rfl, ⟨rfl, ⟨rfl, trivial⟩⟩⟩ H
    · have H := H.2 c6
      refine mx_aload_n dX5_whole_113 rfl rfl ?_
      refine mx_callV 5 (y' := mi_X5_next) (vs := []) (st := []) (al' := [some (rv a0), none]) cl_5 V_X5_next (Or.inl q1206) dX5_whole_114 rfl rfl (Nat.le_of_ble_eq_true rfl) (Nat.le_of_ble_eq_true rfl) (ly5_k La0_h3) ?_
      refine ma_kv H (fun h7 Xh7 H => ?_) (fun x1 h1 X1 H => mt_out rfl H)
      have H := H Xh7
      have k9 := Xh7.kd (k5)
      have La0_h7 := La0_h3.ext Xh7
      refine mx_aload_n dX5_whole_117 rfl rfl ?_
      refine mx_aload_n dX5_whole_118 rfl rfl ?_
      refine mx_iload_n dX5_whole_119 rfl rfl ?_
      refine mx_callV 5 (y' := mi_X5_one) (vs := [iv x1]) (st := [rv a2]) (al' := [some (rv a0), some (iv x1), none, none, none]) cl_5 V_X5_one (Or.inl q1428) dX5_whole_120 rfl rfl (Nat.le_of_ble_eq_true rfl) (Nat.le_of_ble_eq_true rfl) (ly5_k La0_h7) ?_
      refine ma_kr H (fun r11 h10 Xh10 H => ?_) (fun x1 h1 X1 H => mt_out rfl H)
      have H := H Xh10
      have k12 := Xh10.kd (k9)
      have La0_h10 := La0_h7.ext Xh10
      refine mx_callV 19 (y' := mi_X22_add) (vs := [rv r11]) (st := []) (al' := [some (rv a2), some (rv r11)]) cl_19 V_X22_add (Or.inl q1454) dX5_whole_123 rfl rfl (Nat.le_of_ble_eq_true rfl) (Nat.le_of_ble_eq_true rfl) k12 ?_
      refine ma_kv H (fun h13 Xh13 H => ?_) (fun x1 h1 X1 H => mt_out rfl H)
      have H := H Xh13
      have k15 := Xh13.kd (k12)
      have La0_h13 := La0_h10.ext Xh13
      refine mx_goto (tgt := 86) dX5_whole_126 rfl ?_
      exact mx_weak (al' := [some (rv a0), some (iv x1), some (rv a2), some (iv x3)]) ⟨rfl, ⟨rfl, ⟨rfl, ⟨rfl, trivial⟩⟩⟩⟩ H
theorem v_X5_whole_129 {G : ma_G} {d : Nat} {a0 : Nat} {x1 : Int32} {a2 : Nat} {h : ah_T} {Q : Option ma_V → ah_T → Prop} {E : Nat → ah_T → Prop} (La0_h : LY5 h a0) (H : MX G mi_X5_isKey (d + 2) 0 [some (rv a0), some (iv (1 : Int32))] [] h (Qi fun r2 h1 => ah_ext h h1 → (¬ r2 = 0 → MX G mi_X5_next (d + 2) 0 [some (rv a0), none] [] h1 (Qv fun h4 => ah_ext h1 h4 → MX G mi_X5_whole (d + 2) 0 [some (rv a0), some (iv (x1 + (1 : Int32))), none, none] [] h4 (Qr fun r7 h6 => ah_ext h4 h6 → ah_kd h6 a2 = 20 ∧ ah_R h6 a2 5 = 0 ∧ ∀ h10 : ah_T, h10 = ah_wR h6 a2 5 r7 → ah_ext h6 h10 → MX G mi_X5_isKey (d + 2) 0 [some (rv a0), some (iv (2 : Int32))] [] h10 (Qi fun r12 h11 => ah_ext h10 h11 → (¬ r12 = 0 → MX G mi_X5_next (d + 2) 0 [some (rv a0), none] [] h11 (Qv fun h15 => ah_ext h11 h15 → MX G mi_X5_whole (d + 2) 0 [some (rv a0), some (iv (x1 + (1 : Int32))), none, none] [] h15 (Qr fun r19 h18 => ah_ext h15 h18 → ah_R h18 a2 6 = 0 ∧ ∀ h22 : ah_T, h22 = ah_wR h18 a2 6 r19 → ah_ext h18 h22 → Q (some (rv a2)) h22) E) E) ∧ (r12 = 0 → (¬ (ah_I h11 a0 3) = (1 : Int32) → ah_kd h11 (ah_R h11 a0 8) = 5 ∧ ∀ h25 : ah_T, h25 = ah_wI h11 (ah_R h11 a0 8) 6 (2 : Int32) → ah_ext h11 h25 → ∀ h26 : ah_T, h26 = ah_wI h25 (ah_R h11 a0 8) 7 (ah_I h11 a0 4) → ah_ext h25 h26 → E (ah_R h11 a0 8) h26) ∧ ((ah_I h11 a0 3) = (1 : Int32) → ah_kd h11 (ah_R h11 a0 8) = 5 ∧ ∀ h28 : ah_T, h28 = ah_wI h11 (ah_R h11 a0 8) 6 (1 : Int32) → ah_ext h11 h28 → ∀ h29 : ah_T, h29 = ah_wI h28 (ah_R h11 a0 8) 7 (ah_I h11 a0 4) → ah_ext h28 h29 → E (ah_R h11 a0 8) h29))) E) E) E) ∧ (r2 = 0 → (¬ (ah_I h1 a0 3) = (1 : Int32) → ah_kd h1 (ah_R h1 a0 8) = 5 ∧ ∀ h32 : ah_T, h32 = ah_wI h1 (ah_R h1 a0 8) 6 (2 : Int32) → ah_ext h1 h32 → ∀ h33 : ah_T, h33 = ah_wI h32 (ah_R h1 a0 8) 7 (ah_I h1 a0 4) → ah_ext h32 h33 → E (ah_R h1 a0 8) h33) ∧ ((ah_I h1 a0 3) = (1 : Int32) → ah_kd h1 (ah_R h1 a0 8) = 5 ∧ ∀ h35 : ah_T, h35 = ah_wI h1 (ah_R h1 a0 8) 6 (1 : Int32) → ah_ext h1 h35 → ∀ h36 : ah_T, h36 = ah_wI h35 (ah_R h1 a0 8) 7 (ah_I h1 a0 4) → ah_ext h35 h36 → E (ah_R h1 a0 8) h36))) E) : MX G mi_X5_whole (d + 3) 129 [some (rv a0), some (iv x1), some (rv a2), none] [] h Q E := by
  refine mx_aload_n dX5_whole_129 rfl rfl ?_
  refine mx_aload_n dX5_whole_130 rfl rfl ?_
  refine mx_iconst dX5_whole_131 ic_1 ?_
  refine mx_callV 5 (y' := mi_X5_isKey) (vs := [iv (1 : Int32)]) (st := [rv a0]) (al' := [some (rv a0), some (iv (1 : Int32))]) cl_5 V_X5_isKey (Or.inl q1315) dX5_whole_132 rfl rfl (Nat.le_of_ble_eq_true rfl) (Nat.le_of_ble_eq_true rfl) (ly5_k La0_h) ?_
  refine ma_ki H (fun r2 h1 Xh1 H => ?_) (fun x1 h1 X1 H => mt_out rfl H)
  have H := H Xh1
  have La0_h1 := La0_h.ext Xh1
  refine mx_callV 5 (y' := mi_X5_need) (vs := [iv r2]) (st := []) (al' := [some (rv a0), some (iv r2)]) cl_5 V_X5_need (Or.inl q1294) dX5_whole_135 rfl rfl (Nat.le_of_ble_eq_true rfl) (Nat.le_of_ble_eq_true rfl) (ly5_k La0_h1) ?_
  refine mx_iload_n dX5_need_0 rfl rfl ?_
  refine mx_if_ne (tgt := 10) dX5_need_1 rfl (fun c3 => ?_) (fun c3 => ?_)
  · have H := H.1 c3
    refine mx_vretK rfl dX5_need_10 ?_
    refine mx_aload_n dX5_whole_138 rfl rfl ?_
    refine mx_callV 5 (y' := mi_X5_next) (vs := []) (st := []) (al' := [some (rv a0), none]) cl_5 V_X5_next (Or.inl q1206) dX5_whole_139 rfl rfl (Nat.le_of_ble_eq_true rfl) (Nat.le_of_ble_eq_true rfl) (ly5_k La0_h1) ?_
    refine ma_kv H (fun h4 Xh4 H => ?_) (fun x1 h1 X1 H => mt_out rfl H)
    have H := H Xh4
    have La0_h4 := La0_h1.ext Xh4
    refine mx_aload_n dX5_whole_142 rfl rfl ?_
    refine mx_aload_n dX5_whole_143 rfl rfl ?_
    refine mx_iload_n dX5_whole_144 rfl rfl ?_
    refine mx_iconst dX5_whole_145 ic_1 ?_
    refine mx_iadd dX5_whole_146 ?_
    refine mx_callV 5 (y' := mi_X5_whole) (vs := [iv (x1 + (1 : Int32))]) (st := [rv a2]) (al' := [some (rv a0), some (iv (x1 + (1 : Int32))), none, none]) cl_5 V_X5_whole (Or.inl q1311) dX5_whole_147 rfl rfl (Nat.le_of_ble_eq_true rfl) (Nat.le_of_ble_eq_true rfl) (ly5_k La0_h4) ?_
    refine ma_kr H (fun r7 h6 Xh6 H => ?_) (fun x1 h1 X1 H => mt_out rfl H)
    have H := H Xh6
    have La0_h6 := La0_h4.ext Xh6
    obtain ⟨k8, H⟩ := H
    obtain ⟨k9, H⟩ := H
    refine mx_putO 19 5 (ref := "PrairiePool$If") cl_19 (Nat.le_of_ble_eq_true rfl) (Or.inr ⟨_, q1412⟩) (Or.inl rfl) dX5_whole_150 (Or.inl rfl) rfl (Or.inr k9) k8 ?_
    refine mx_nmR (ah_ext.wR (Or.inr (Or.inl k9))) (fun h10 eh10 Xh10 Kh10 Lh10 => ?_)
    have H := H h10 eh10 Xh10
    have La0_h10 := La0_h6.ext Xh10
    refine mx_aload_n dX5_whole_153 rfl rfl ?_
    refine mx_aload_n dX5_whole_154 rfl rfl ?_
    refine mx_iconst dX5_whole_155 ic_2 ?_
    refine mx_callV 5 (y' := mi_X5_isKey) (vs := [iv (2 : Int32)]) (st := [rv a0]) (al' := [some (rv a0), some (iv (2 : Int32))]) cl_5 V_X5_isKey (Or.inl q1315) dX5_whole_156 rfl rfl (Nat.le_of_ble_eq_true rfl) (Nat.le_of_ble_eq_true rfl) (ly5_k La0_h10) ?_
    refine ma_ki H (fun r12 h11 Xh11 H => ?_) (fun x1 h1 X1 H => mt_out rfl H)
    have H := H Xh11
    have k13 := Xh11.kd ((ma_kde Kh10 (k8)))
    have La0_h11 := La0_h10.ext Xh11
    refine mx_callV 5 (y' := mi_X5_need) (vs := [iv r12]) (st := []) (al' := [some (rv a0), some (iv r12)]) cl_5 V_X5_need (Or.inl q1294) dX5_whole_159 rfl rfl (Nat.le_of_ble_eq_true rfl) (Nat.le_of_ble_eq_true rfl) (ly5_k La0_h11) ?_
    refine mx_iload_n dX5_need_0 rfl rfl ?_
    refine mx_if_ne (tgt := 10) dX5_need_1 rfl (fun c14 => ?_) (fun c14 => ?_)
    · have H := H.1 c14
      refine mx_vretK rfl dX5_need_10 ?_
      refine mx_aload_n dX5_whole_162 rfl rfl ?_
      refine mx_callV 5 (y' := mi_X5_next) (vs := []) (st := []) (al' := [some (rv a0), none]) cl_5 V_X5_next (Or.inl q1206) dX5_whole_163 rfl rfl (Nat.le_of_ble_eq_true rfl) (Nat.le_of_ble_eq_true rfl) (ly5_k La0_h11) ?_
      refine ma_kv H (fun h15 Xh15 H => ?_) (fun x1 h1 X1 H => mt_out rfl H)
      have H := H Xh15
      have k17 := Xh15.kd (k13)
      have La0_h15 := La0_h11.ext Xh15
      refine mx_aload_n dX5_whole_166 rfl rfl ?_
      refine mx_aload_n dX5_whole_167 rfl rfl ?_
      refine mx_iload_n dX5_whole_168 rfl rfl ?_
      refine mx_iconst dX5_whole_169 ic_1 ?_
      refine mx_iadd dX5_whole_170 ?_
      refine mx_callV 5 (y' := mi_X5_whole) (vs := [iv (x1 + (1 : Int32))]) (st := [rv a2]) (al' := [some (rv a0), some (iv (x1 + (1 : Int32))), none, none]) cl_5 V_X5_whole (Or.inl q1311) dX5_whole_171 rfl rfl (Nat.le_of_ble_eq_true rfl) (Nat.le_of_ble_eq_true rfl) (ly5_k La0_h15) ?_
      refine ma_kr H (fun r19 h18 Xh18 H => ?_) (fun x1 h1 X1 H => mt_out rfl H)
      have H := H Xh18
      have k20 := Xh18.kd (k17)
      have La0_h18 := La0_h15.ext Xh18
      obtain ⟨k21, H⟩ := H
      refine mx_putO 19 6 (ref := "PrairiePool$If") cl_19 (Nat.le_of_ble_eq_true rfl) (Or.inr ⟨_, q1414⟩) (Or.inl rfl) dX5_whole_174 (Or.inl rfl) rfl (Or.inr k21) k20 ?_
      refine mx_nmR (ah_ext.wR (Or.inr (Or.inl k21))) (fun h22 eh22 Xh22 Kh22 Lh22 => ?_)
      have H := H h22 eh22 Xh22
      have La0_h22 := La0_h18.ext Xh22
      refine mx_aload_n dX5_whole_177 rfl rfl ?_
      exact mx_aret rfl (by first | exact Or.inl ⟨_, rfl⟩ | exact Or.inr ⟨_, rfl⟩) dX5_whole_178 H
    · have H := H.2 c14
      refine mx_aload_n dX5_need_4 rfl rfl ?_
      refine mx_iconst dX5_need_5 ic_2 ?_
      refine mx_callV 5 (y' := mi_X5_fail) (vs := [iv (2 : Int32)]) (st := []) (al' := [some (rv a0), some (iv (2 : Int32))]) cl_5 V_X5_fail (Or.inl q1298) dX5_need_6 rfl rfl (Nat.le_of_ble_eq_true rfl) (Nat.le_of_ble_eq_true rfl) (ly5_k La0_h11) ?_
      refine mx_aload_n dX5_fail_0 rfl rfl ?_
      refine mx_get 5 8 (ref := "PrairiePool$Reader") cl_5 (Nat.le_of_ble_eq_true rfl) (Or.inl q392) (Or.inl rfl) dX5_fail_1 (fv_5_8 _ _) (ly5_k La0_h11) ?_
      refine mx_aload_n dX5_fail_4 rfl rfl ?_
      refine mx_get 5 3 (ref := "PrairiePool$Reader") cl_5 (Nat.le_of_ble_eq_true rfl) (Or.inl q387) (Or.inl rfl) dX5_fail_5 (fv_5_3 _ _) (ly5_k La0_h11) ?_
      refine mx_iconst dX5_fail_8 ic_1 ?_
      refine mx_icmp_ne (tgt := 16) dX5_fail_9 rfl (fun c23 => ?_) (fun c23 => ?_)
      · have H := H.1 c23
        refine mx_iload_n dX5_fail_16 rfl rfl ?_
        refine mx_aload_n dX5_fail_17 rfl rfl ?_
        refine mx_get 5 4 (ref := "PrairiePool$Reader") cl_5 (Nat.le_of_ble_eq_true rfl) (Or.inl q388) (Or.inl rfl) dX5_fail_18 (fv_5_4 _ _) (ly5_k La0_h11) ?_
        obtain ⟨k24, H⟩ := H
        refine mx_callV 4 (y' := mi_X4_of) (vs := [iv (2 : Int32), iv (ah_I h11 a0 4)]) (st := []) (al' := [some (rv (ah_R h11 a0 8)), some (iv (2 : Int32)), some (iv (ah_I h11 a0 4))]) cl_4 V_X4_of (Or.inl q1302) dX5_fail_21 rfl rfl (Nat.le_of_ble_eq_true rfl) (Nat.le_of_ble_eq_true rfl) k24 ?_
        refine mx_aload_n dX4_of_0 rfl rfl ?_
        refine mx_iload_n dX4_of_1 rfl rfl ?_
        refine mx_putI 4 6 (ref := "PrairiePool$Wrong") cl_4 (Nat.le_of_ble_eq_true rfl) (Or.inl q356) (Or.inl rfl) dX4_of_2 (Or.inl rfl) rfl k24 ?_
        refine mx_nmI  (fun h25 eh25 Xh25 Kh25 Lh25 => ?_)
        have H := H h25 eh25 Xh25
        have La0_h25 := La0_h11.ext Xh25
        refine mx_aload_n dX4_of_5 rfl rfl ?_
        refine mx_iload_n dX4_of_6 rfl rfl ?_
        refine mx_putI 4 7 (ref := "PrairiePool$Wrong") cl_4 (Nat.le_of_ble_eq_true rfl) (Or.inl q358) (Or.inl rfl) dX4_of_7 (Or.inl rfl) rfl (ma_kde Kh25 (k24)) ?_
        refine mx_nmI  (fun h26 eh26 Xh26 Kh26 Lh26 => ?_)
        have H := H h26 eh26 Xh26
        have Kh26 := Kh26.trans Kh25
        have Lh26 := Lh26.trans Lh25
        have La0_h26 := La0_h25.ext Xh26
        refine mx_aload_n dX4_of_10 rfl rfl ?_
        refine mx_aretK rfl (by first | exact Or.inl ⟨_, rfl⟩ | exact Or.inr ⟨_, rfl⟩) dX4_of_11 ?_
        refine mx_aretK rfl (by first | exact Or.inl ⟨_, rfl⟩ | exact Or.inr ⟨_, rfl⟩) dX5_fail_24 ?_
        exact mx_athrow dX5_need_9 (by rw [(ma_kde Kh26 (k24))]; decide) (mt_out rfl (fun _ => mt_out rfl H))
      · have H := H.2 c23
        refine mx_iconst dX5_fail_12 ic_1 ?_
        refine mx_goto (tgt := 17) dX5_fail_13 rfl ?_
        refine mx_aload_n dX5_fail_17 rfl rfl ?_
        refine mx_get 5 4 (ref := "PrairiePool$Reader") cl_5 (Nat.le_of_ble_eq_true rfl) (Or.inl q388) (Or.inl rfl) dX5_fail_18 (fv_5_4 _ _) (ly5_k La0_h11) ?_
        obtain ⟨k27, H⟩ := H
        refine mx_callV 4 (y' := mi_X4_of) (vs := [iv (1 : Int32), iv (ah_I h11 a0 4)]) (st := []) (al' := [some (rv (ah_R h11 a0 8)), some (iv (1 : Int32)), some (iv (ah_I h11 a0 4))]) cl_4 V_X4_of (Or.inl q1302) dX5_fail_21 rfl rfl (Nat.le_of_ble_eq_true rfl) (Nat.le_of_ble_eq_true rfl) k27 ?_
        refine mx_aload_n dX4_of_0 rfl rfl ?_
        refine mx_iload_n dX4_of_1 rfl rfl ?_
        refine mx_putI 4 6 (ref := "PrairiePool$Wrong") cl_4 (Nat.le_of_ble_eq_true rfl) (Or.inl q356) (Or.inl rfl) dX4_of_2 (Or.inl rfl) rfl k27 ?_
        refine mx_nmI  (fun h28 eh28 Xh28 Kh28 Lh28 => ?_)
        have H := H h28 eh28 Xh28
        have La0_h28 := La0_h11.ext Xh28
        refine mx_aload_n dX4_of_5 rfl rfl ?_
        refine mx_iload_n dX4_of_6 rfl rfl ?_
        refine mx_putI 4 7 (ref := "PrairiePool$Wrong") cl_4 (Nat.le_of_ble_eq_true rfl) (Or.inl q358) (Or.inl rfl) dX4_of_7 (Or.inl rfl) rfl (ma_kde Kh28 (k27)) ?_
        refine mx_nmI  (fun h29 eh29 Xh29 Kh29 Lh29 => ?_)
        have H := H h29 eh29 Xh29
        have Kh29 := Kh29.trans Kh28
        have Lh29 := Lh29.trans Lh28
        have La0_h29 := La0_h28.ext Xh29
        refine mx_aload_n dX4_of_10 rfl rfl ?_
        refine mx_aretK rfl (by first | exact Or.inl ⟨_, rfl⟩ | exact Or.inr ⟨_, rfl⟩) dX4_of_11 ?_
        refine mx_aretK rfl (by first | exact Or.inl ⟨_, rfl⟩ | exact Or.inr ⟨_, rfl⟩) dX5_fail_24 ?_
        exact mx_athrow dX5_need_9 (by rw [(ma_kde Kh29 (k27))]; decide) (mt_out rfl (fun _ => mt_out rfl H))
  · have H := H.2 c3
    refine mx_aload_n dX5_need_4 rfl rfl ?_
    refine mx_iconst dX5_need_5 ic_2 ?_
    refine mx_callV 5 (y' := mi_X5_fail) (vs := [iv (2 : Int32)]) (st := []) (al' := [some (rv a0), some (iv (2 : Int32))]) cl_5 V_X5_fail (Or.inl q1298) dX5_need_6 rfl rfl (Nat.le_of_ble_eq_true rfl) (Nat.le_of_ble_eq_true rfl) (ly5_k La0_h1) ?_
    refine mx_aload_n dX5_fail_0 rfl rfl ?_
    refine mx_get 5 8 (ref := "PrairiePool$Reader") cl_5 (Nat.le_of_ble_eq_true rfl) (Or.inl q392) (Or.inl rfl) dX5_fail_1 (fv_5_8 _ _) (ly5_k La0_h1) ?_
    refine mx_aload_n dX5_fail_4 rfl rfl ?_
    refine mx_get 5 3 (ref := "PrairiePool$Reader") cl_5 (Nat.le_of_ble_eq_true rfl) (Or.inl q387) (Or.inl rfl) dX5_fail_5 (fv_5_3 _ _) (ly5_k La0_h1) ?_
    refine mx_iconst dX5_fail_8 ic_1 ?_
    refine mx_icmp_ne (tgt := 16) dX5_fail_9 rfl (fun c30 => ?_) (fun c30 => ?_)
    · have H := H.1 c30
      refine mx_iload_n dX5_fail_16 rfl rfl ?_
      refine mx_aload_n dX5_fail_17 rfl rfl ?_
      refine mx_get 5 4 (ref := "PrairiePool$Reader") cl_5 (Nat.le_of_ble_eq_true rfl) (Or.inl q388) (Or.inl rfl) dX5_fail_18 (fv_5_4 _ _) (ly5_k La0_h1) ?_
      obtain ⟨k31, H⟩ := H
      refine mx_callV 4 (y' := mi_X4_of) (vs := [iv (2 : Int32), iv (ah_I h1 a0 4)]) (st := []) (al' := [some (rv (ah_R h1 a0 8)), some (iv (2 : Int32)), some (iv (ah_I h1 a0 4))]) cl_4 V_X4_of (Or.inl q1302) dX5_fail_21 rfl rfl (Nat.le_of_ble_eq_true rfl) (Nat.le_of_ble_eq_true rfl) k31 ?_
      refine mx_aload_n dX4_of_0 rfl rfl ?_
      refine mx_iload_n dX4_of_1 rfl rfl ?_
      refine mx_putI 4 6 (ref := "PrairiePool$Wrong") cl_4 (Nat.le_of_ble_eq_true rfl) (Or.inl q356) (Or.inl rfl) dX4_of_2 (Or.inl rfl) rfl k31 ?_
      refine mx_nmI  (fun h32 eh32 Xh32 Kh32 Lh32 => ?_)
      have H := H h32 eh32 Xh32
      have La0_h32 := La0_h1.ext Xh32
      refine mx_aload_n dX4_of_5 rfl rfl ?_
      refine mx_iload_n dX4_of_6 rfl rfl ?_
      refine mx_putI 4 7 (ref := "PrairiePool$Wrong") cl_4 (Nat.le_of_ble_eq_true rfl) (Or.inl q358) (Or.inl rfl) dX4_of_7 (Or.inl rfl) rfl (ma_kde Kh32 (k31)) ?_
      refine mx_nmI  (fun h33 eh33 Xh33 Kh33 Lh33 => ?_)
      have H := H h33 eh33 Xh33
      have Kh33 := Kh33.trans Kh32
      have Lh33 := Lh33.trans Lh32
      have La0_h33 := La0_h32.ext Xh33
      refine mx_aload_n dX4_of_10 rfl rfl ?_
      refine mx_aretK rfl (by first | exact Or.inl ⟨_, rfl⟩ | exact Or.inr ⟨_, rfl⟩) dX4_of_11 ?_
      refine mx_aretK rfl (by first | exact Or.inl ⟨_, rfl⟩ | exact Or.inr ⟨_, rfl⟩) dX5_fail_24 ?_
      exact mx_athrow dX5_need_9 (by rw [(ma_kde Kh33 (k31))]; decide) (mt_out rfl (fun _ => mt_out rfl H))
    · have H := H.2 c30
      refine mx_iconst dX5_fail_12 ic_1 ?_
      refine mx_goto (tgt := 17) dX5_fail_13 rfl ?_
      refine mx_aload_n dX5_fail_17 rfl rfl ?_
      refine mx_get 5 4 (ref := "PrairiePool$Reader") cl_5 (Nat.le_of_ble_eq_true rfl) (Or.inl q388) (Or.inl rfl) dX5_fail_18 (fv_5_4 _ _) (ly5_k La0_h1) ?_
      obtain ⟨k34, H⟩ := H
      refine mx_callV 4 (y' := mi_X4_of) (vs := [iv (1 : Int32), iv (ah_I h1 a0 4)]) (st := []) (al' := [some (rv (ah_R h1 a0 8)), some (iv (1 : Int32)), some (iv (ah_I h1 a0 4))]) cl_4 V_X4_of (Or.inl q1302) dX5_fail_21 rfl rfl (Nat.le_of_ble_eq_true rfl) (Nat.le_of_ble_eq_true rfl) k34 ?_
      refine mx_aload_n dX4_of_0 rfl rfl ?_
      refine mx_iload_n dX4_of_1 rfl rfl ?_
      refine mx_putI 4 6 (ref := "PrairiePool$Wrong") cl_4 (Nat.le_of_ble_eq_true rfl) (Or.inl q356) (Or.inl rfl) dX4_of_2 (Or.inl rfl) rfl k34 ?_
      refine mx_nmI  (fun h35 eh35 Xh35 Kh35 Lh35 => ?_)
      have H := H h35 eh35 Xh35
      have La0_h35 := La0_h1.ext Xh35
      refine mx_aload_n dX4_of_5 rfl rfl ?_
      refine mx_iload_n dX4_of_6 rfl rfl ?_
      refine mx_putI 4 7 (ref := "PrairiePool$Wrong") cl_4 (Nat.le_of_ble_eq_true rfl) (Or.inl q358) (Or.inl rfl) dX4_of_7 (Or.inl rfl) rfl (ma_kde Kh35 (k34)) ?_
      refine mx_nmI  (fun h36 eh36 Xh36 Kh36 Lh36 => ?_)
      have H := H h36 eh36 Xh36
      have Kh36 := Kh36.trans Kh35
      have Lh36 := Lh36.trans Lh35
      have La0_h36 := La0_h35.ext Xh36
      refine mx_aload_n dX4_of_10 rfl rfl ?_
      refine mx_aretK rfl (by first | exact Or.inl ⟨_, rfl⟩ | exact Or.inr ⟨_, rfl⟩) dX4_of_11 ?_
      refine mx_aretK rfl (by first | exact Or.inl ⟨_, rfl⟩ | exact Or.inr ⟨_, rfl⟩) dX5_fail_24 ?_
      exact mx_athrow dX5_need_9 (by rw [(ma_kde Kh36 (k34))]; decide) (mt_out rfl (fun _ => mt_out rfl H))
theorem dX5_isKey_0 : decode mi_X5_isKey.2.1 0 = .ok (.aload_n 0, 1) := by decide +kernel
theorem dX5_isKey_1 : decode mi_X5_isKey.2.1 1 = .ok (.ldc 86, 2) := by decide +kernel
theorem dX5_isKey_3 : decode mi_X5_isKey.2.1 3 = .ok (.invokevirtual 88, 3) := by decide +kernel
theorem dX5_isKey_6 : decode mi_X5_isKey.2.1 6 = .ok (.iload_n 1, 1) := by decide +kernel
theorem dX5_isKey_7 : decode mi_X5_isKey.2.1 7 = .ok (.if_icmp .ne 7, 3) := by decide +kernel
theorem dX5_isKey_10 : decode mi_X5_isKey.2.1 10 = .ok (.iconst 1, 1) := by decide +kernel
theorem dX5_isKey_11 : decode mi_X5_isKey.2.1 11 = .ok (.goto 4, 3) := by decide +kernel
theorem dX5_isKey_14 : decode mi_X5_isKey.2.1 14 = .ok (.iconst 0, 1) := by decide +kernel
theorem dX5_isKey_15 : decode mi_X5_isKey.2.1 15 = .ok (.ireturn, 1) := by decide +kernel
theorem v_X5_isKey {G : ma_G} {d : Nat} {a0 : Nat} {x1 : Int32} {h : ah_T} {Q : Option ma_V → ah_T → Prop} {E : Nat → ah_T → Prop} (La0_h : LY5 h a0) (H : MX G mi_X5_in d 0 [some (rv a0), some (rv (ma_lit G 0)), none, none, none] [] h (Qi fun r2 h1 => ah_ext h h1 → (¬ r2 = x1 → Q (some (iv (0 : Int32))) h1) ∧ (r2 = x1 → Q (some (iv (1 : Int32))) h1)) E) : MX G mi_X5_isKey (d + 1) 0 [some (rv a0), some (iv x1)] [] h Q E := by
  refine mx_aload_n dX5_isKey_0 rfl rfl ?_
  refine mx_ldcS (i := 0) rfl (Or.inl ⟨rfl, rfl⟩) dX5_isKey_1 ?_
  refine mx_callV 5 (y' := mi_X5_in) (vs := [rv (ma_lit G 0)]) (st := []) (al' := [some (rv a0), some (rv (ma_lit G 0)), none, none, none]) cl_5 V_X5_in (Or.inl q1237) dX5_isKey_3 rfl rfl (Nat.le_of_ble_eq_true rfl) (Nat.le_of_ble_eq_true rfl) (ly5_k La0_h) ?_
  refine ma_ki H (fun r2 h1 Xh1 H => ?_) (fun x1 h1 X1 H => mt_out rfl H)
  have H := H Xh1
  have La0_h1 := La0_h.ext Xh1
  refine mx_iload_n dX5_isKey_6 rfl rfl ?_
  refine mx_icmp_ne (tgt := 14) dX5_isKey_7 rfl (fun c3 => ?_) (fun c3 => ?_)
  · have H := H.1 c3
    refine mx_iconst dX5_isKey_14 ic_0 ?_
    exact mx_zret rfl dX5_isKey_15 (Or.inl rfl) H
  · have H := H.2 c3
    refine mx_iconst dX5_isKey_10 ic_1 ?_
    refine mx_goto (tgt := 15) dX5_isKey_11 rfl ?_
    exact mx_zret rfl dX5_isKey_15 (Or.inr rfl) H
theorem dX5_begins_0 : decode mi_X5_begins.2.1 0 = .ok (.aload_n 0, 1) := by decide +kernel
theorem dX5_begins_1 : decode mi_X5_begins.2.1 1 = .ok (.getfield 37, 3) := by decide +kernel
theorem dX5_begins_4 : decode mi_X5_begins.2.1 4 = .ok (.iconst 3, 1) := by decide +kernel
theorem dX5_begins_5 : decode mi_X5_begins.2.1 5 = .ok (.if_icmp .eq 48, 3) := by decide +kernel
theorem dX5_begins_8 : decode mi_X5_begins.2.1 8 = .ok (.aload_n 0, 1) := by decide +kernel
theorem dX5_begins_9 : decode mi_X5_begins.2.1 9 = .ok (.bipush 40, 2) := by decide +kernel
theorem dX5_begins_11 : decode mi_X5_begins.2.1 11 = .ok (.invokevirtual 124, 3) := by decide +kernel
theorem dX5_begins_14 : decode mi_X5_begins.2.1 14 = .ok (.ifCond .ne 39, 3) := by decide +kernel
theorem dX5_begins_17 : decode mi_X5_begins.2.1 17 = .ok (.aload_n 0, 1) := by decide +kernel
theorem dX5_begins_18 : decode mi_X5_begins.2.1 18 = .ok (.bipush 6, 2) := by decide +kernel
theorem dX5_begins_20 : decode mi_X5_begins.2.1 20 = .ok (.invokevirtual 139, 3) := by decide +kernel
theorem dX5_begins_23 : decode mi_X5_begins.2.1 23 = .ok (.ifCond .ne 30, 3) := by decide +kernel
theorem dX5_begins_26 : decode mi_X5_begins.2.1 26 = .ok (.aload_n 0, 1) := by decide +kernel
theorem dX5_begins_27 : decode mi_X5_begins.2.1 27 = .ok (.bipush 7, 2) := by decide +kernel
theorem dX5_begins_29 : decode mi_X5_begins.2.1 29 = .ok (.invokevirtual 139, 3) := by decide +kernel
theorem dX5_begins_32 : decode mi_X5_begins.2.1 32 = .ok (.ifCond .ne 21, 3) := by decide +kernel
theorem dX5_begins_35 : decode mi_X5_begins.2.1 35 = .ok (.aload_n 0, 1) := by decide +kernel
theorem dX5_begins_36 : decode mi_X5_begins.2.1 36 = .ok (.getfield 37, 3) := by decide +kernel
theorem dX5_begins_39 : decode mi_X5_begins.2.1 39 = .ok (.iconst 2, 1) := by decide +kernel
theorem dX5_begins_40 : decode mi_X5_begins.2.1 40 = .ok (.if_icmp .ne 17, 3) := by decide +kernel
theorem dX5_begins_43 : decode mi_X5_begins.2.1 43 = .ok (.aload_n 0, 1) := by decide +kernel
theorem dX5_begins_44 : decode mi_X5_begins.2.1 44 = .ok (.ldc 86, 2) := by decide +kernel
theorem dX5_begins_46 : decode mi_X5_begins.2.1 46 = .ok (.invokevirtual 88, 3) := by decide +kernel
theorem dX5_begins_49 : decode mi_X5_begins.2.1 49 = .ok (.iconst (-1), 1) := by decide +kernel
theorem dX5_begins_50 : decode mi_X5_begins.2.1 50 = .ok (.if_icmp .ne 7, 3) := by decide +kernel
theorem dX5_begins_53 : decode mi_X5_begins.2.1 53 = .ok (.iconst 1, 1) := by decide +kernel
theorem dX5_begins_54 : decode mi_X5_begins.2.1 54 = .ok (.goto 4, 3) := by decide +kernel
theorem dX5_begins_57 : decode mi_X5_begins.2.1 57 = .ok (.iconst 0, 1) := by decide +kernel
theorem dX5_begins_58 : decode mi_X5_begins.2.1 58 = .ok (.ireturn, 1) := by decide +kernel
theorem v_X5_begins {G : ma_G} {d : Nat} {a0 : Nat} {h : ah_T} {Q : Option ma_V → ah_T → Prop} {E : Nat → ah_T → Prop} (La0_h : LY5 h a0) (H : ((ah_I h a0 3) = (3 : Int32) → Q (some (iv (1 : Int32))) h) ∧ (¬ (ah_I h a0 3) = (3 : Int32) → (¬ (ah_I h a0 3) = (4 : Int32) → MX G mi_X5_isKey d 0 [some (rv a0), some (iv (6 : Int32))] [] h (Qi fun r4 h3 => ah_ext h h3 → (¬ r4 = 0 → Q (some (iv (1 : Int32))) h3) ∧ (r4 = 0 → MX G mi_X5_isKey d 0 [some (rv a0), some (iv (7 : Int32))] [] h3 (Qi fun r7 h6 => ah_ext h3 h6 → (¬ r7 = 0 → Q (some (iv (1 : Int32))) h6) ∧ (r7 = 0 → (¬ (ah_I h6 a0 3) = (2 : Int32) → Q (some (iv (0 : Int32))) h6) ∧ ((ah_I h6 a0 3) = (2 : Int32) → MX G mi_X5_in d 0 [some (rv a0), some (rv (ma_lit G 0)), none, none, none] [] h6 (Qi fun r11 h10 => ah_ext h6 h10 → (¬ r11 = (-1 : Int32) → Q (some (iv (0 : Int32))) h10) ∧ (r11 = (-1 : Int32) → Q (some (iv (1 : Int32))) h10)) E))) E)) E) ∧ ((ah_I h a0 3) = (4 : Int32) → (¬ (ah_J h a0 6) = (40 : Int32).toInt64 → MX G mi_X5_isKey d 0 [some (rv a0), some (iv (6 : Int32))] [] h (Qi fun r15 h14 => ah_ext h h14 → (¬ r15 = 0 → Q (some (iv (1 : Int32))) h14) ∧ (r15 = 0 → MX G mi_X5_isKey d 0 [some (rv a0), some (iv (7 : Int32))] [] h14 (Qi fun r18 h17 => ah_ext h14 h17 → (¬ r18 = 0 → Q (some (iv (1 : Int32))) h17) ∧ (r18 = 0 → (¬ (ah_I h17 a0 3) = (2 : Int32) → Q (some (iv (0 : Int32))) h17) ∧ ((ah_I h17 a0 3) = (2 : Int32) → MX G mi_X5_in d 0 [some (rv a0), some (rv (ma_lit G 0)), none, none, none] [] h17 (Qi fun r22 h21 => ah_ext h17 h21 → (¬ r22 = (-1 : Int32) → Q (some (iv (0 : Int32))) h21) ∧ (r22 = (-1 : Int32) → Q (some (iv (1 : Int32))) h21)) E))) E)) E) ∧ ((ah_J h a0 6) = (40 : Int32).toInt64 → Q (some (iv (1 : Int32))) h)))) : MX G mi_X5_begins (d + 1) 0 [some (rv a0)] [] h Q E := by
  refine mx_aload_n dX5_begins_0 rfl rfl ?_
  refine mx_get 5 3 (ref := "PrairiePool$Reader") cl_5 (Nat.le_of_ble_eq_true rfl) (Or.inl q387) (Or.inl rfl) dX5_begins_1 (fv_5_3 _ _) (ly5_k La0_h) ?_
  refine mx_iconst dX5_begins_4 ic_3 ?_
  refine mx_icmp_eq (tgt := 53) dX5_begins_5 rfl (fun c1 => ?_) (fun c1 => ?_)
  · have H := H.1 c1
    refine mx_iconst dX5_begins_53 ic_1 ?_
    refine mx_goto (tgt := 58) dX5_begins_54 rfl ?_
    exact mx_zret rfl dX5_begins_58 (Or.inr rfl) H
  · have H := H.2 c1
    refine mx_aload_n dX5_begins_8 rfl rfl ?_
    refine mx_bipush dX5_begins_9 ib_40 ?_
    refine mx_callV 5 (y' := mi_X5_is) (vs := [iv (40 : Int32)]) (st := []) (al' := [some (rv a0), some (iv (40 : Int32))]) cl_5 V_X5_is (Or.inl q1307) dX5_begins_11 rfl rfl (Nat.le_of_ble_eq_true rfl) (Nat.le_of_ble_eq_true rfl) (ly5_k La0_h) ?_
    refine mx_aload_n dX5_is_0 rfl rfl ?_
    refine mx_get 5 3 (ref := "PrairiePool$Reader") cl_5 (Nat.le_of_ble_eq_true rfl) (Or.inl q387) (Or.inl rfl) dX5_is_1 (fv_5_3 _ _) (ly5_k La0_h) ?_
    refine mx_iconst dX5_is_4 ic_4 ?_
    refine mx_icmp_ne (tgt := 22) dX5_is_5 rfl (fun c2 => ?_) (fun c2 => ?_)
    · have H := H.1 c2
      refine mx_iconst dX5_is_22 ic_0 ?_
      refine mx_zretK rfl dX5_is_23 (Or.inl rfl) ?_
      refine mx_if_ne (tgt := 53) dX5_begins_14 rfl (fun _ => absurd ‹_› (by decide)) (fun _ => ?_)
      refine mx_aload_n dX5_begins_17 rfl rfl ?_
      refine mx_bipush dX5_begins_18 ib_6 ?_
      refine mx_callV 5 (y' := mi_X5_isKey) (vs := [iv (6 : Int32)]) (st := []) (al' := [some (rv a0), some (iv (6 : Int32))]) cl_5 V_X5_isKey (Or.inl q1315) dX5_begins_20 rfl rfl (Nat.le_of_ble_eq_true rfl) (Nat.le_of_ble_eq_true rfl) (ly5_k La0_h) ?_
      refine ma_ki H (fun r4 h3 Xh3 H => ?_) (fun x1 h1 X1 H => mt_out rfl H)
      have H := H Xh3
      have La0_h3 := La0_h.ext Xh3
      refine mx_if_ne (tgt := 53) dX5_begins_23 rfl (fun c5 => ?_) (fun c5 => ?_)
      · have H := H.1 c5
        refine mx_iconst dX5_begins_53 ic_1 ?_
        refine mx_goto (tgt := 58) dX5_begins_54 rfl ?_
        exact mx_zret rfl dX5_begins_58 (Or.inr rfl) H
      · have H := H.2 c5
        refine mx_aload_n dX5_begins_26 rfl rfl ?_
        refine mx_bipush dX5_begins_27 ib_7 ?_
        refine mx_callV 5 (y' := mi_X5_isKey) (vs := [iv (7 : Int32)]) (st := []) (al' := [some (rv a0), some (iv (7 : Int32))]) cl_5 V_X5_isKey (Or.inl q1315) dX5_begins_29 rfl rfl (Nat.le_of_ble_eq_true rfl) (Nat.le_of_ble_eq_true rfl) (ly5_k La0_h3) ?_
        refine ma_ki H (fun r7 h6 Xh6 H => ?_) (fun x1 h1 X1 H => mt_out rfl H)
        have H := H Xh6
        have La0_h6 := La0_h3.ext Xh6
        refine mx_if_ne (tgt := 53) dX5_begins_32 rfl (fun c8 => ?_) (fun c8 => ?_)
        · have H := H.1 c8
          refine mx_iconst dX5_begins_53 ic_1 ?_
          refine mx_goto (tgt := 58) dX5_begins_54 rfl ?_
          exact mx_zret rfl dX5_begins_58 (Or.inr rfl) H
        · have H := H.2 c8
          refine mx_aload_n dX5_begins_35 rfl rfl ?_
          refine mx_get 5 3 (ref := "PrairiePool$Reader") cl_5 (Nat.le_of_ble_eq_true rfl) (Or.inl q387) (Or.inl rfl) dX5_begins_36 (fv_5_3 _ _) (ly5_k La0_h6) ?_
          refine mx_iconst dX5_begins_39 ic_2 ?_
          refine mx_icmp_ne (tgt := 57) dX5_begins_40 rfl (fun c9 => ?_) (fun c9 => ?_)
          · have H := H.1 c9
            refine mx_iconst dX5_begins_57 ic_0 ?_
            exact mx_zret rfl dX5_begins_58 (Or.inl rfl) H
          · have H := H.2 c9
            refine mx_aload_n dX5_begins_43 rfl rfl ?_
            refine mx_ldcS (i := 0) rfl (Or.inl ⟨rfl, rfl⟩) dX5_begins_44 ?_
            refine mx_callV 5 (y' := mi_X5_in) (vs := [rv (ma_lit G 0)]) (st := []) (al' := [some (rv a0), some (rv (ma_lit G 0)), none, none, none]) cl_5 V_X5_in (Or.inl q1237) dX5_begins_46 rfl rfl (Nat.le_of_ble_eq_true rfl) (Nat.le_of_ble_eq_true rfl) (ly5_k La0_h6) ?_
            refine ma_ki H (fun r11 h10 Xh10 H => ?_) (fun x1 h1 X1 H => mt_out rfl H)
            have H := H Xh10
            have La0_h10 := La0_h6.ext Xh10
            refine mx_iconst dX5_begins_49 ic_m1 ?_
            refine mx_icmp_ne (tgt := 57) dX5_begins_50 rfl (fun c12 => ?_) (fun c12 => ?_)
            · have H := H.1 c12
              refine mx_iconst dX5_begins_57 ic_0 ?_
              exact mx_zret rfl dX5_begins_58 (Or.inl rfl) H
            · have H := H.2 c12
              refine mx_iconst dX5_begins_53 ic_1 ?_
              refine mx_goto (tgt := 58) dX5_begins_54 rfl ?_
              exact mx_zret rfl dX5_begins_58 (Or.inr rfl) H
    · have H := H.2 c2
      refine mx_aload_n dX5_is_8 rfl rfl ?_
      refine mx_get 5 6 (ref := "PrairiePool$Reader") cl_5 (Nat.le_of_ble_eq_true rfl) (Or.inl q390) (Or.inl rfl) dX5_is_9 (fv_5_6 _ _) (ly5_k La0_h) ?_
      refine mx_iload_n dX5_is_12 rfl rfl ?_
      refine mx_i2l dX5_is_13 ?_
      refine mx_lif_ne (tgt := 22) dX5_is_14 dX5_is_15 rfl (fun c13 => ?_) (fun c13 => ?_)
      · have H := H.1 c13
        refine mx_iconst dX5_is_22 ic_0 ?_
        refine mx_zretK rfl dX5_is_23 (Or.inl rfl) ?_
        refine mx_if_ne (tgt := 53) dX5_begins_14 rfl (fun _ => absurd ‹_› (by decide)) (fun _ => ?_)
        refine mx_aload_n dX5_begins_17 rfl rfl ?_
        refine mx_bipush dX5_begins_18 ib_6 ?_
        refine mx_callV 5 (y' := mi_X5_isKey) (vs := [iv (6 : Int32)]) (st := []) (al' := [some (rv a0), some (iv (6 : Int32))]) cl_5 V_X5_isKey (Or.inl q1315) dX5_begins_20 rfl rfl (Nat.le_of_ble_eq_true rfl) (Nat.le_of_ble_eq_true rfl) (ly5_k La0_h) ?_
        refine ma_ki H (fun r15 h14 Xh14 H => ?_) (fun x1 h1 X1 H => mt_out rfl H)
        have H := H Xh14
        have La0_h14 := La0_h.ext Xh14
        refine mx_if_ne (tgt := 53) dX5_begins_23 rfl (fun c16 => ?_) (fun c16 => ?_)
        · have H := H.1 c16
          refine mx_iconst dX5_begins_53 ic_1 ?_
          refine mx_goto (tgt := 58) dX5_begins_54 rfl ?_
          exact mx_zret rfl dX5_begins_58 (Or.inr rfl) H
        · have H := H.2 c16
          refine mx_aload_n dX5_begins_26 rfl rfl ?_
          refine mx_bipush dX5_begins_27 ib_7 ?_
          refine mx_callV 5 (y' := mi_X5_isKey) (vs := [iv (7 : Int32)]) (st := []) (al' := [some (rv a0), some (iv (7 : Int32))]) cl_5 V_X5_isKey (Or.inl q1315) dX5_begins_29 rfl rfl (Nat.le_of_ble_eq_true rfl) (Nat.le_of_ble_eq_true rfl) (ly5_k La0_h14) ?_
          refine ma_ki H (fun r18 h17 Xh17 H => ?_) (fun x1 h1 X1 H => mt_out rfl H)
          have H := H Xh17
          have La0_h17 := La0_h14.ext Xh17
          refine mx_if_ne (tgt := 53) dX5_begins_32 rfl (fun c19 => ?_) (fun c19 => ?_)
          · have H := H.1 c19
            refine mx_iconst dX5_begins_53 ic_1 ?_
            refine mx_goto (tgt := 58) dX5_begins_54 rfl ?_
            exact mx_zret rfl dX5_begins_58 (Or.inr rfl) H
          · have H := H.2 c19
            refine mx_aload_n dX5_begins_35 rfl rfl ?_
            refine mx_get 5 3 (ref := "PrairiePool$Reader") cl_5 (Nat.le_of_ble_eq_true rfl) (Or.inl q387) (Or.inl rfl) dX5_begins_36 (fv_5_3 _ _) (ly5_k La0_h17) ?_
            refine mx_iconst dX5_begins_39 ic_2 ?_
            refine mx_icmp_ne (tgt := 57) dX5_begins_40 rfl (fun c20 => ?_) (fun c20 => ?_)
            · have H := H.1 c20
              refine mx_iconst dX5_begins_57 ic_0 ?_
              exact mx_zret rfl dX5_begins_58 (Or.inl rfl) H
            · have H := H.2 c20
              refine mx_aload_n dX5_begins_43 rfl rfl ?_
              refine mx_ldcS (i := 0) rfl (Or.inl ⟨rfl, rfl⟩) dX5_begins_44 ?_
              refine mx_callV 5 (y' := mi_X5_in) (vs := [rv (ma_lit G 0)]) (st := []) (al' := [some (rv a0), some (rv (ma_lit G 0)), none, none, none]) cl_5 V_X5_in (Or.inl q1237) dX5_begins_46 rfl rfl (Nat.le_of_ble_eq_true rfl) (Nat.le_of_ble_eq_true rfl) (ly5_k La0_h17) ?_
              refine ma_ki H (fun r22 h21 Xh21 H => ?_) (fun x1 h1 X1 H => mt_out rfl H)
              have H := H Xh21
              have La0_h21 := La0_h17.ext Xh21
              refine mx_iconst dX5_begins_49 ic_m1 ?_
              refine mx_icmp_ne (tgt := 57) dX5_begins_50 rfl (fun c23 => ?_) (fun c23 => ?_)
              · have H := H.1 c23
                refine mx_iconst dX5_begins_57 ic_0 ?_
                exact mx_zret rfl dX5_begins_58 (Or.inl rfl) H
              · have H := H.2 c23
                refine mx_iconst dX5_begins_53 ic_1 ?_
                refine mx_goto (tgt := 58) dX5_begins_54 rfl ?_
                exact mx_zret rfl dX5_begins_58 (Or.inr rfl) H
      · have H := H.2 c13
        refine mx_iconst dX5_is_18 ic_1 ?_
        refine mx_goto (tgt := 23) dX5_is_19 rfl ?_
        refine mx_zretK rfl dX5_is_23 (Or.inr rfl) ?_
        refine mx_if_ne (tgt := 53) dX5_begins_14 rfl (fun _ => ?_) (fun _ => absurd ‹_› (by decide))
        refine mx_iconst dX5_begins_53 ic_1 ?_
        refine mx_goto (tgt := 58) dX5_begins_54 rfl ?_
        exact mx_zret rfl dX5_begins_58 (Or.inr rfl) H
theorem dX5_sum_0 : decode mi_X5_sum.2.1 0 = .ok (.new 176, 3) := by decide +kernel
theorem dX5_sum_3 : decode mi_X5_sum.2.1 3 = .ok (.dup, 1) := by decide +kernel
theorem dX5_sum_4 : decode mi_X5_sum.2.1 4 = .ok (.invokespecial 178, 3) := by decide +kernel
theorem dX5_sum_7 : decode mi_X5_sum.2.1 7 = .ok (.astore_n 2, 1) := by decide +kernel
theorem dX5_sum_8 : decode mi_X5_sum.2.1 8 = .ok (.aload_n 2, 1) := by decide +kernel
theorem dX5_sum_9 : decode mi_X5_sum.2.1 9 = .ok (.bipush 43, 2) := by decide +kernel
theorem dX5_sum_11 : decode mi_X5_sum.2.1 11 = .ok (.aload_n 0, 1) := by decide +kernel
theorem dX5_sum_12 : decode mi_X5_sum.2.1 12 = .ok (.iload_n 1, 1) := by decide +kernel
theorem dX5_sum_13 : decode mi_X5_sum.2.1 13 = .ok (.invokevirtual 179, 3) := by decide +kernel
theorem dX5_sum_16 : decode mi_X5_sum.2.1 16 = .ok (.invokevirtual 182, 3) := by decide +kernel
theorem dX5_sum_19 : decode mi_X5_sum.2.1 19 = .ok (.aload_n 0, 1) := by decide +kernel
theorem dX5_sum_20 : decode mi_X5_sum.2.1 20 = .ok (.bipush 43, 2) := by decide +kernel
theorem dX5_sum_22 : decode mi_X5_sum.2.1 22 = .ok (.invokevirtual 124, 3) := by decide +kernel
theorem dX5_sum_25 : decode mi_X5_sum.2.1 25 = .ok (.ifCond .ne 12, 3) := by decide +kernel
theorem dX5_sum_28 : decode mi_X5_sum.2.1 28 = .ok (.aload_n 0, 1) := by decide +kernel
theorem dX5_sum_29 : decode mi_X5_sum.2.1 29 = .ok (.bipush 45, 2) := by decide +kernel
theorem dX5_sum_31 : decode mi_X5_sum.2.1 31 = .ok (.invokevirtual 124, 3) := by decide +kernel
theorem dX5_sum_34 : decode mi_X5_sum.2.1 34 = .ok (.ifCond .eq 26, 3) := by decide +kernel
theorem dX5_sum_37 : decode mi_X5_sum.2.1 37 = .ok (.aload_n 0, 1) := by decide +kernel
theorem dX5_sum_38 : decode mi_X5_sum.2.1 38 = .ok (.getfield 33, 3) := by decide +kernel
theorem dX5_sum_41 : decode mi_X5_sum.2.1 41 = .ok (.l2i, 1) := by decide +kernel
theorem dX5_sum_42 : decode mi_X5_sum.2.1 42 = .ok (.istore_n 3, 1) := by decide +kernel
theorem dX5_sum_43 : decode mi_X5_sum.2.1 43 = .ok (.aload_n 0, 1) := by decide +kernel
theorem dX5_sum_44 : decode mi_X5_sum.2.1 44 = .ok (.invokevirtual 101, 3) := by decide +kernel
theorem dX5_sum_47 : decode mi_X5_sum.2.1 47 = .ok (.aload_n 2, 1) := by decide +kernel
theorem dX5_sum_48 : decode mi_X5_sum.2.1 48 = .ok (.iload_n 3, 1) := by decide +kernel
theorem dX5_sum_49 : decode mi_X5_sum.2.1 49 = .ok (.aload_n 0, 1) := by decide +kernel
theorem dX5_sum_50 : decode mi_X5_sum.2.1 50 = .ok (.iload_n 1, 1) := by decide +kernel
theorem dX5_sum_51 : decode mi_X5_sum.2.1 51 = .ok (.invokevirtual 179, 3) := by decide +kernel
theorem dX5_sum_54 : decode mi_X5_sum.2.1 54 = .ok (.invokevirtual 182, 3) := by decide +kernel
theorem dX5_sum_57 : decode mi_X5_sum.2.1 57 = .ok (.goto (-38), 3) := by decide +kernel
theorem dX5_sum_60 : decode mi_X5_sum.2.1 60 = .ok (.aload_n 2, 1) := by decide +kernel
theorem dX5_sum_61 : decode mi_X5_sum.2.1 61 = .ok (.areturn, 1) := by decide +kernel
theorem v_X5_sum {G : ma_G} {d : Nat} {a0 : Nat} {x1 : Int32} {h : ah_T} {Q : Option ma_V → ah_T → Prop} {E : Nat → ah_T → Prop} (La0_h : LY5 h a0) (H : (1 ≤ ah_rc h ∧ 4 ≤ ah_rs h) ∧ ∀ h2 : ah_T, h2 = ah_new h 17 0 4 → ah_ext h h2 → ah_liv h → MX G mi_X19_init d 0 [some (rv (ah_sz h))] [] h2 (Qv fun h4 => ah_ext h2 h4 → MX G mi_X5_item d 0 [some (rv a0), some (iv x1), none, none] [] h4 (Qr fun r8 h7 => ah_ext h4 h7 → MX G mi_X19_add d 0 [some (rv (ah_sz h)), some (iv (43 : Int32)), some (rv r8)] [] h7 (Qv fun h10 => ah_ext h7 h10 → MX G mi_X5_sum (d + 1) 19 [some (rv a0), some (iv x1), some (rv (ah_sz h)), none] [] h10 Q E) E) E) E) : MX G mi_X5_sum (d + 1) 0 [some (rv a0), some (iv x1), none, none] [] h Q E := by
  obtain ⟨k1, H⟩ := H
  refine mx_new 16 cl_16 dk_16 q1327 q1328 q151 dX5_sum_0 k1.1 k1.2 (fun x_ lv_ => ?_)
  refine mx_nmN x_ lv_ (fun h2 eh2 Xh2 lv_ => ?_)
  have H := H h2 eh2 Xh2 lv_
  have La0_h2 := La0_h.ext Xh2
  have k3 : ah_kd h2 (ah_sz h) = 17 := by rw [eh2]; exact if_pos rfl
  refine mx_dup_r dX5_sum_3 ?_
  refine mx_callI (y' := mi_X19_init) (vs := []) (st := [rv (ah_sz h)]) (al' := [some (rv (ah_sz h))]) I_X19_init (Or.inr ⟨_, q1329⟩) dX5_sum_4 rfl rfl (Nat.le_of_ble_eq_true rfl) (Nat.le_of_ble_eq_true rfl) (by rw [k3]; decide) ?_
  refine ma_kv H (fun h4 Xh4 H => ?_) (fun x1 h1 X1 H => mt_out rfl H)
  have H := H Xh4
  have k6 := Xh4.kd (k3)
  have La0_h4 := La0_h2.ext Xh4
  refine mx_astore_n (al' := [some (rv a0), some (iv x1), some (rv (ah_sz h)), none]) dX5_sum_7 rfl (Nat.le_of_ble_eq_true rfl) rfl ?_
  refine mx_aload_n dX5_sum_8 rfl rfl ?_
  refine mx_bipush dX5_sum_9 ib_43 ?_
  refine mx_aload_n dX5_sum_11 rfl rfl ?_
  refine mx_iload_n dX5_sum_12 rfl rfl ?_
  refine mx_callV 5 (y' := mi_X5_item) (vs := [iv x1]) (st := [iv (43 : Int32), rv (ah_sz h)]) (al' := [some (rv a0), some (iv x1), none, none]) cl_5 V_X5_item (Or.inl q1349) dX5_sum_13 rfl rfl (Nat.le_of_ble_eq_true rfl) (Nat.le_of_ble_eq_true rfl) (ly5_k La0_h4) ?_
  refine ma_kr H (fun r8 h7 Xh7 H => ?_) (fun x1 h1 X1 H => mt_out rfl H)
  have H := H Xh7
  have k9 := Xh7.kd (k6)
  have La0_h7 := La0_h4.ext Xh7
  refine mx_callV 16 (y' := mi_X19_add) (vs := [iv (43 : Int32), rv r8]) (st := []) (al' := [some (rv (ah_sz h)), some (iv (43 : Int32)), some (rv r8)]) cl_16 V_X19_add (Or.inl q1357) dX5_sum_16 rfl rfl (Nat.le_of_ble_eq_true rfl) (Nat.le_of_ble_eq_true rfl) k9 ?_
  refine ma_kv H (fun h10 Xh10 H => ?_) (fun x1 h1 X1 H => mt_out rfl H)
  have H := H Xh10
  have k12 := Xh10.kd (k9)
  have La0_h10 := La0_h7.ext Xh10
  exact mx_weak (al' := [some (rv a0), some (iv x1), some (rv (ah_sz h)), none]) ⟨rfl, ⟨rfl, ⟨rfl, trivial⟩⟩⟩ H
theorem v_X5_sum_19 {G : ma_G} {d : Nat} {a0 : Nat} {x1 : Int32} {a2 : Nat} {h : ah_T} {Q : Option ma_V → ah_T → Prop} {E : Nat → ah_T → Prop} (La0_h : LY5 h a0) (H : (¬ (ah_I h a0 3) = (4 : Int32) → Q (some (rv a2)) h) ∧ ((ah_I h a0 3) = (4 : Int32) → (¬ (ah_J h a0 6) = (43 : Int32).toInt64 → (¬ (ah_J h a0 6) = (45 : Int32).toInt64 → Q (some (rv a2)) h) ∧ ((ah_J h a0 6) = (45 : Int32).toInt64 → MX G mi_X5_next d 0 [some (rv a0), none] [] h (Qv fun h4 => ah_ext h h4 → MX G mi_X5_item d 0 [some (rv a0), some (iv x1), none, none] [] h4 (Qr fun r7 h6 => ah_ext h4 h6 → ah_kd h6 a2 = 17 ∧ MX G mi_X19_add d 0 [some (rv a2), some (iv (ah_J h a0 6).toInt32), some (rv r7)] [] h6 (Qv fun h9 => ah_ext h6 h9 → MX G mi_X5_sum (d + 1) 19 [some (rv a0), some (iv x1), some (rv a2), none] [] h9 Q E) E) E) E)) ∧ ((ah_J h a0 6) = (43 : Int32).toInt64 → MX G mi_X5_next d 0 [some (rv a0), none] [] h (Qv fun h12 => ah_ext h h12 → MX G mi_X5_item d 0 [some (rv a0), some (iv x1), none, none] [] h12 (Qr fun r15 h14 => ah_ext h12 h14 → ah_kd h14 a2 = 17 ∧ MX G mi_X19_add d 0 [some (rv a2), some (iv (ah_J h a0 6).toInt32), some (rv r15)] [] h14 (Qv fun h17 => ah_ext h14 h17 → MX G mi_X5_sum (d + 1) 19 [some (rv a0), some (iv x1), some (rv a2), none] [] h17 Q E) E) E) E))) : MX G mi_X5_sum (d + 1) 19 [some (rv a0), some (iv x1), some (rv a2), none] [] h Q E := by
  refine mx_aload_n dX5_sum_19 rfl rfl ?_
  refine mx_bipush dX5_sum_20 ib_43 ?_
  refine mx_callV 5 (y' := mi_X5_is) (vs := [iv (43 : Int32)]) (st := []) (al' := [some (rv a0), some (iv (43 : Int32))]) cl_5 V_X5_is (Or.inl q1307) dX5_sum_22 rfl rfl (Nat.le_of_ble_eq_true rfl) (Nat.le_of_ble_eq_true rfl) (ly5_k La0_h) ?_
  refine mx_aload_n dX5_is_0 rfl rfl ?_
  refine mx_get 5 3 (ref := "PrairiePool$Reader") cl_5 (Nat.le_of_ble_eq_true rfl) (Or.inl q387) (Or.inl rfl) dX5_is_1 (fv_5_3 _ _) (ly5_k La0_h) ?_
  refine mx_iconst dX5_is_4 ic_4 ?_
  refine mx_icmp_ne (tgt := 22) dX5_is_5 rfl (fun c1 => ?_) (fun c1 => ?_)
  · have H := H.1 c1
    refine mx_iconst dX5_is_22 ic_0 ?_
    refine mx_zretK rfl dX5_is_23 (Or.inl rfl) ?_
    refine mx_if_ne (tgt := 37) dX5_sum_25 rfl (fun _ => absurd ‹_› (by decide)) (fun _ => ?_)
    refine mx_aload_n dX5_sum_28 rfl rfl ?_
    refine mx_bipush dX5_sum_29 ib_45 ?_
    refine mx_callV 5 (y' := mi_X5_is) (vs := [iv (45 : Int32)]) (st := []) (al' := [some (rv a0), some (iv (45 : Int32))]) cl_5 V_X5_is (Or.inl q1307) dX5_sum_31 rfl rfl (Nat.le_of_ble_eq_true rfl) (Nat.le_of_ble_eq_true rfl) (ly5_k La0_h) ?_
    refine mx_aload_n dX5_is_0 rfl rfl ?_
    refine mx_get 5 3 (ref := "PrairiePool$Reader") cl_5 (Nat.le_of_ble_eq_true rfl) (Or.inl q387) (Or.inl rfl) dX5_is_1 (fv_5_3 _ _) (ly5_k La0_h) ?_
    refine mx_iconst dX5_is_4 ic_4 ?_
    refine mx_icmp_ne (tgt := 22) dX5_is_5 rfl (fun _ => ?_) (fun q_ => absurd q_ c1)
    refine mx_iconst dX5_is_22 ic_0 ?_
    refine mx_zretK rfl dX5_is_23 (Or.inl rfl) ?_
    refine mx_if_eq (tgt := 60) dX5_sum_34 rfl (fun _ => ?_) (fun _ => absurd ‹_› (by decide))
    refine mx_aload_n dX5_sum_60 rfl rfl ?_
    exact mx_aret rfl (by first | exact Or.inl ⟨_, rfl⟩ | exact Or.inr ⟨_, rfl⟩) dX5_sum_61 H
  · have H := H.2 c1
    refine mx_aload_n dX5_is_8 rfl rfl ?_
    refine mx_get 5 6 (ref := "PrairiePool$Reader") cl_5 (Nat.le_of_ble_eq_true rfl) (Or.inl q390) (Or.inl rfl) dX5_is_9 (fv_5_6 _ _) (ly5_k La0_h) ?_
    refine mx_iload_n dX5_is_12 rfl rfl ?_
    refine mx_i2l dX5_is_13 ?_
    refine mx_lif_ne (tgt := 22) dX5_is_14 dX5_is_15 rfl (fun c2 => ?_) (fun c2 => ?_)
    · have H := H.1 c2
      refine mx_iconst dX5_is_22 ic_0 ?_
      refine mx_zretK rfl dX5_is_23 (Or.inl rfl) ?_
      refine mx_if_ne (tgt := 37) dX5_sum_25 rfl (fun _ => absurd ‹_› (by decide)) (fun _ => ?_)
      refine mx_aload_n dX5_sum_28 rfl rfl ?_
      refine mx_bipush dX5_sum_29 ib_45 ?_
      refine mx_callV 5 (y' := mi_X5_is) (vs := [iv (45 : Int32)]) (st := []) (al' := [some (rv a0), some (iv (45 : Int32))]) cl_5 V_X5_is (Or.inl q1307) dX5_sum_31 rfl rfl (Nat.le_of_ble_eq_true rfl) (Nat.le_of_ble_eq_true rfl) (ly5_k La0_h) ?_
      refine mx_aload_n dX5_is_0 rfl rfl ?_
      refine mx_get 5 3 (ref := "PrairiePool$Reader") cl_5 (Nat.le_of_ble_eq_true rfl) (Or.inl q387) (Or.inl rfl) dX5_is_1 (fv_5_3 _ _) (ly5_k La0_h) ?_
      refine mx_iconst dX5_is_4 ic_4 ?_
      refine mx_icmp_ne (tgt := 22) dX5_is_5 rfl (fun q_ => absurd c1 q_) (fun _ => ?_)
      refine mx_aload_n dX5_is_8 rfl rfl ?_
      refine mx_get 5 6 (ref := "PrairiePool$Reader") cl_5 (Nat.le_of_ble_eq_true rfl) (Or.inl q390) (Or.inl rfl) dX5_is_9 (fv_5_6 _ _) (ly5_k La0_h) ?_
      refine mx_iload_n dX5_is_12 rfl rfl ?_
      refine mx_i2l dX5_is_13 ?_
      refine mx_lif_ne (tgt := 22) dX5_is_14 dX5_is_15 rfl (fun c3 => ?_) (fun c3 => ?_)
      · have H := H.1 c3
        refine mx_iconst dX5_is_22 ic_0 ?_
        refine mx_zretK rfl dX5_is_23 (Or.inl rfl) ?_
        refine mx_if_eq (tgt := 60) dX5_sum_34 rfl (fun _ => ?_) (fun _ => absurd ‹_› (by decide))
        refine mx_aload_n dX5_sum_60 rfl rfl ?_
        exact mx_aret rfl (by first | exact Or.inl ⟨_, rfl⟩ | exact Or.inr ⟨_, rfl⟩) dX5_sum_61 H
      · have H := H.2 c3
        refine mx_iconst dX5_is_18 ic_1 ?_
        refine mx_goto (tgt := 23) dX5_is_19 rfl ?_
        refine mx_zretK rfl dX5_is_23 (Or.inr rfl) ?_
        refine mx_if_eq (tgt := 60) dX5_sum_34 rfl (fun _ => absurd ‹_› (by decide)) (fun _ => ?_)
        refine mx_aload_n dX5_sum_37 rfl rfl ?_
        refine mx_get 5 6 (ref := "PrairiePool$Reader") cl_5 (Nat.le_of_ble_eq_true rfl) (Or.inl q390) (Or.inl rfl) dX5_sum_38 (fv_5_6 _ _) (ly5_k La0_h) ?_
        refine mx_l2i dX5_sum_41 ?_
        refine mx_istore_n (al' := [some (rv a0), some (iv x1), some (rv a2), some (iv (ah_J h a0 6).toInt32)]) dX5_sum_42 rfl (Nat.le_of_ble_eq_true rfl) rfl ?_
        refine mx_aload_n dX5_sum_43 rfl rfl ?_
        refine mx_callV 5 (y' := mi_X5_next) (vs := []) (st := []) (al' := [some (rv a0), none]) cl_5 V_X5_next (Or.inl q1206) dX5_sum_44 rfl rfl (Nat.le_of_ble_eq_true rfl) (Nat.le_of_ble_eq_true rfl) (ly5_k La0_h) ?_
        refine ma_kv H (fun h4 Xh4 H => ?_) (fun x1 h1 X1 H => mt_out rfl H)
        have H := H Xh4
        have La0_h4 := La0_h.ext Xh4
        refine mx_aload_n dX5_sum_47 rfl rfl ?_
        refine mx_iload_n dX5_sum_48 rfl rfl ?_
        refine mx_aload_n dX5_sum_49 rfl rfl ?_
        refine mx_iload_n dX5_sum_50 rfl rfl ?_
        refine mx_callV 5 (y' := mi_X5_item) (vs := [iv x1]) (st := [iv (ah_J h a0 6).toInt32, rv a2]) (al' := [some (rv a0), some (iv x1), none, none]) cl_5 V_X5_item (Or.inl q1349) dX5_sum_51 rfl rfl (Nat.le_of_ble_eq_true rfl) (Nat.le_of_ble_eq_true rfl) (ly5_k La0_h4) ?_
        refine ma_kr H (fun r7 h6 Xh6 H => ?_) (fun x1 h1 X1 H => mt_out rfl H)
        have H := H Xh6
        have La0_h6 := La0_h4.ext Xh6
        obtain ⟨k8, H⟩ := H
        refine mx_callV 16 (y' := mi_X19_add) (vs := [iv (ah_J h a0 6).toInt32, rv r7]) (st := []) (al' := [some (rv a2), some (iv (ah_J h a0 6).toInt32), some (rv r7)]) cl_16 V_X19_add (Or.inl q1357) dX5_sum_54 rfl rfl (Nat.le_of_ble_eq_true rfl) (Nat.le_of_ble_eq_true rfl) k8 ?_
        refine ma_kv H (fun h9 Xh9 H => ?_) (fun x1 h1 X1 H => mt_out rfl H)
        have H := H Xh9
        have k11 := Xh9.kd (k8)
        have La0_h9 := La0_h6.ext Xh9
        refine mx_goto (tgt := 19) dX5_sum_57 rfl ?_
        exact mx_weak (al' := [some (rv a0), some (iv x1), some (rv a2), none]) ⟨rfl, ⟨rfl, ⟨rfl, trivial⟩⟩⟩ H
    · have H := H.2 c2
      refine mx_iconst dX5_is_18 ic_1 ?_
      refine mx_goto (tgt := 23) dX5_is_19 rfl ?_
      refine mx_zretK rfl dX5_is_23 (Or.inr rfl) ?_
      refine mx_if_ne (tgt := 37) dX5_sum_25 rfl (fun _ => ?_) (fun _ => absurd ‹_› (by decide))
      refine mx_aload_n dX5_sum_37 rfl rfl ?_
      refine mx_get 5 6 (ref := "PrairiePool$Reader") cl_5 (Nat.le_of_ble_eq_true rfl) (Or.inl q390) (Or.inl rfl) dX5_sum_38 (fv_5_6 _ _) (ly5_k La0_h) ?_
      refine mx_l2i dX5_sum_41 ?_
      refine mx_istore_n (al' := [some (rv a0), some (iv x1), some (rv a2), some (iv (ah_J h a0 6).toInt32)]) dX5_sum_42 rfl (Nat.le_of_ble_eq_true rfl) rfl ?_
      refine mx_aload_n dX5_sum_43 rfl rfl ?_
      refine mx_callV 5 (y' := mi_X5_next) (vs := []) (st := []) (al' := [some (rv a0), none]) cl_5 V_X5_next (Or.inl q1206) dX5_sum_44 rfl rfl (Nat.le_of_ble_eq_true rfl) (Nat.le_of_ble_eq_true rfl) (ly5_k La0_h) ?_
      refine ma_kv H (fun h12 Xh12 H => ?_) (fun x1 h1 X1 H => mt_out rfl H)
      have H := H Xh12
      have La0_h12 := La0_h.ext Xh12
      refine mx_aload_n dX5_sum_47 rfl rfl ?_
      refine mx_iload_n dX5_sum_48 rfl rfl ?_
      refine mx_aload_n dX5_sum_49 rfl rfl ?_
      refine mx_iload_n dX5_sum_50 rfl rfl ?_
      refine mx_callV 5 (y' := mi_X5_item) (vs := [iv x1]) (st := [iv (ah_J h a0 6).toInt32, rv a2]) (al' := [some (rv a0), some (iv x1), none, none]) cl_5 V_X5_item (Or.inl q1349) dX5_sum_51 rfl rfl (Nat.le_of_ble_eq_true rfl) (Nat.le_of_ble_eq_true rfl) (ly5_k La0_h12) ?_
      refine ma_kr H (fun r15 h14 Xh14 H => ?_) (fun x1 h1 X1 H => mt_out rfl H)
      have H := H Xh14
      have La0_h14 := La0_h12.ext Xh14
      obtain ⟨k16, H⟩ := H
      refine mx_callV 16 (y' := mi_X19_add) (vs := [iv (ah_J h a0 6).toInt32, rv r15]) (st := []) (al' := [some (rv a2), some (iv (ah_J h a0 6).toInt32), some (rv r15)]) cl_16 V_X19_add (Or.inl q1357) dX5_sum_54 rfl rfl (Nat.le_of_ble_eq_true rfl) (Nat.le_of_ble_eq_true rfl) k16 ?_
      refine ma_kv H (fun h17 Xh17 H => ?_) (fun x1 h1 X1 H => mt_out rfl H)
      have H := H Xh17
      have k19 := Xh17.kd (k16)
      have La0_h17 := La0_h14.ext Xh17
      refine mx_goto (tgt := 19) dX5_sum_57 rfl ?_
      exact mx_weak (al' := [some (rv a0), some (iv x1), some (rv a2), none]) ⟨rfl, ⟨rfl, ⟨rfl, trivial⟩⟩⟩ H
theorem dX5_item_0 : decode mi_X5_item.2.1 0 = .ok (.new 176, 3) := by decide +kernel
theorem dX5_item_3 : decode mi_X5_item.2.1 3 = .ok (.dup, 1) := by decide +kernel
theorem dX5_item_4 : decode mi_X5_item.2.1 4 = .ok (.invokespecial 178, 3) := by decide +kernel
theorem dX5_item_7 : decode mi_X5_item.2.1 7 = .ok (.astore_n 2, 1) := by decide +kernel
theorem dX5_item_8 : decode mi_X5_item.2.1 8 = .ok (.aload_n 2, 1) := by decide +kernel
theorem dX5_item_9 : decode mi_X5_item.2.1 9 = .ok (.bipush 43, 2) := by decide +kernel
theorem dX5_item_11 : decode mi_X5_item.2.1 11 = .ok (.aload_n 0, 1) := by decide +kernel
theorem dX5_item_12 : decode mi_X5_item.2.1 12 = .ok (.iload_n 1, 1) := by decide +kernel
theorem dX5_item_13 : decode mi_X5_item.2.1 13 = .ok (.invokevirtual 185, 3) := by decide +kernel
theorem dX5_item_16 : decode mi_X5_item.2.1 16 = .ok (.invokevirtual 182, 3) := by decide +kernel
theorem dX5_item_19 : decode mi_X5_item.2.1 19 = .ok (.aload_n 0, 1) := by decide +kernel
theorem dX5_item_20 : decode mi_X5_item.2.1 20 = .ok (.bipush 42, 2) := by decide +kernel
theorem dX5_item_22 : decode mi_X5_item.2.1 22 = .ok (.invokevirtual 124, 3) := by decide +kernel
theorem dX5_item_25 : decode mi_X5_item.2.1 25 = .ok (.ifCond .ne 21, 3) := by decide +kernel
theorem dX5_item_28 : decode mi_X5_item.2.1 28 = .ok (.aload_n 0, 1) := by decide +kernel
theorem dX5_item_29 : decode mi_X5_item.2.1 29 = .ok (.bipush 47, 2) := by decide +kernel
theorem dX5_item_31 : decode mi_X5_item.2.1 31 = .ok (.invokevirtual 124, 3) := by decide +kernel
theorem dX5_item_34 : decode mi_X5_item.2.1 34 = .ok (.ifCond .ne 12, 3) := by decide +kernel
theorem dX5_item_37 : decode mi_X5_item.2.1 37 = .ok (.aload_n 0, 1) := by decide +kernel
theorem dX5_item_38 : decode mi_X5_item.2.1 38 = .ok (.bipush 37, 2) := by decide +kernel
theorem dX5_item_40 : decode mi_X5_item.2.1 40 = .ok (.invokevirtual 124, 3) := by decide +kernel
theorem dX5_item_43 : decode mi_X5_item.2.1 43 = .ok (.ifCond .eq 26, 3) := by decide +kernel
theorem dX5_item_46 : decode mi_X5_item.2.1 46 = .ok (.aload_n 0, 1) := by decide +kernel
theorem dX5_item_47 : decode mi_X5_item.2.1 47 = .ok (.getfield 33, 3) := by decide +kernel
theorem dX5_item_50 : decode mi_X5_item.2.1 50 = .ok (.l2i, 1) := by decide +kernel
theorem dX5_item_51 : decode mi_X5_item.2.1 51 = .ok (.istore_n 3, 1) := by decide +kernel
theorem dX5_item_52 : decode mi_X5_item.2.1 52 = .ok (.aload_n 0, 1) := by decide +kernel
theorem dX5_item_53 : decode mi_X5_item.2.1 53 = .ok (.invokevirtual 101, 3) := by decide +kernel
theorem dX5_item_56 : decode mi_X5_item.2.1 56 = .ok (.aload_n 2, 1) := by decide +kernel
theorem dX5_item_57 : decode mi_X5_item.2.1 57 = .ok (.iload_n 3, 1) := by decide +kernel
theorem dX5_item_58 : decode mi_X5_item.2.1 58 = .ok (.aload_n 0, 1) := by decide +kernel
theorem dX5_item_59 : decode mi_X5_item.2.1 59 = .ok (.iload_n 1, 1) := by decide +kernel
theorem dX5_item_60 : decode mi_X5_item.2.1 60 = .ok (.invokevirtual 185, 3) := by decide +kernel
theorem dX5_item_63 : decode mi_X5_item.2.1 63 = .ok (.invokevirtual 182, 3) := by decide +kernel
theorem dX5_item_66 : decode mi_X5_item.2.1 66 = .ok (.goto (-47), 3) := by decide +kernel
theorem dX5_item_69 : decode mi_X5_item.2.1 69 = .ok (.aload_n 2, 1) := by decide +kernel
theorem dX5_item_70 : decode mi_X5_item.2.1 70 = .ok (.areturn, 1) := by decide +kernel
theorem v_X5_item {G : ma_G} {d : Nat} {a0 : Nat} {x1 : Int32} {h : ah_T} {Q : Option ma_V → ah_T → Prop} {E : Nat → ah_T → Prop} (La0_h : LY5 h a0) (H : (1 ≤ ah_rc h ∧ 4 ≤ ah_rs h) ∧ ∀ h2 : ah_T, h2 = ah_new h 17 0 4 → ah_ext h h2 → ah_liv h → MX G mi_X19_init d 0 [some (rv (ah_sz h))] [] h2 (Qv fun h4 => ah_ext h2 h4 → MX G mi_X5_atom d 0 [some (rv a0), some (iv x1), none, none] [] h4 (Qr fun r8 h7 => ah_ext h4 h7 → MX G mi_X19_add d 0 [some (rv (ah_sz h)), some (iv (43 : Int32)), some (rv r8)] [] h7 (Qv fun h10 => ah_ext h7 h10 → MX G mi_X5_item (d + 1) 19 [some (rv a0), some (iv x1), some (rv (ah_sz h)), none] [] h10 Q E) E) E) E) : MX G mi_X5_item (d + 1) 0 [some (rv a0), some (iv x1), none, none] [] h Q E := by
  obtain ⟨k1, H⟩ := H
  refine mx_new 16 cl_16 dk_16 q1327 q1328 q151 dX5_item_0 k1.1 k1.2 (fun x_ lv_ => ?_)
  refine mx_nmN x_ lv_ (fun h2 eh2 Xh2 lv_ => ?_)
  have H := H h2 eh2 Xh2 lv_
  have La0_h2 := La0_h.ext Xh2
  have k3 : ah_kd h2 (ah_sz h) = 17 := by rw [eh2]; exact if_pos rfl
  refine mx_dup_r dX5_item_3 ?_
  refine mx_callI (y' := mi_X19_init) (vs := []) (st := [rv (ah_sz h)]) (al' := [some (rv (ah_sz h))]) I_X19_init (Or.inr ⟨_, q1329⟩) dX5_item_4 rfl rfl (Nat.le_of_ble_eq_true rfl) (Nat.le_of_ble_eq_true rfl) (by rw [k3]; decide) ?_
  refine ma_kv H (fun h4 Xh4 H => ?_) (fun x1 h1 X1 H => mt_out rfl H)
  have H := H Xh4
  have k6 := Xh4.kd (k3)
  have La0_h4 := La0_h2.ext Xh4
  refine mx_astore_n (al' := [some (rv a0), some (iv x1), some (rv (ah_sz h)), none]) dX5_item_7 rfl (Nat.le_of_ble_eq_true rfl) rfl ?_
  refine mx_aload_n dX5_item_8 rfl rfl ?_
  refine mx_bipush dX5_item_9 ib_43 ?_
  refine mx_aload_n dX5_item_11 rfl rfl ?_
  refine mx_iload_n dX5_item_12 rfl rfl ?_
  refine mx_callV 5 (y' := mi_X5_atom) (vs := [iv x1]) (st := [iv (43 : Int32), rv (ah_sz h)]) (al' := [some (rv a0), some (iv x1), none, none]) cl_5 V_X5_atom (Or.inl q1353) dX5_item_13 rfl rfl (Nat.le_of_ble_eq_true rfl) (Nat.le_of_ble_eq_true rfl) (ly5_k La0_h4) ?_
  refine ma_kr H (fun r8 h7 Xh7 H => ?_) (fun x1 h1 X1 H => mt_out rfl H)
  have H := H Xh7
  have k9 := Xh7.kd (k6)
  have La0_h7 := La0_h4.ext Xh7
  refine mx_callV 16 (y' := mi_X19_add) (vs := [iv (43 : Int32), rv r8]) (st := []) (al' := [some (rv (ah_sz h)), some (iv (43 : Int32)), some (rv r8)]) cl_16 V_X19_add (Or.inl q1357) dX5_item_16 rfl rfl (Nat.le_of_ble_eq_true rfl) (Nat.le_of_ble_eq_true rfl) k9 ?_
  refine ma_kv H (fun h10 Xh10 H => ?_) (fun x1 h1 X1 H => mt_out rfl H)
  have H := H Xh10
  have k12 := Xh10.kd (k9)
  have La0_h10 := La0_h7.ext Xh10
  exact mx_weak (al' := [some (rv a0), some (iv x1), some (rv (ah_sz h)), none]) ⟨rfl, ⟨rfl, ⟨rfl, trivial⟩⟩⟩ H
theorem v_X5_item_19 {G : ma_G} {d : Nat} {a0 : Nat} {x1 : Int32} {a2 : Nat} {h : ah_T} {Q : Option ma_V → ah_T → Prop} {E : Nat → ah_T → Prop} (La0_h : LY5 h a0) (H : (¬ (ah_I h a0 3) = (4 : Int32) → Q (some (rv a2)) h) ∧ ((ah_I h a0 3) = (4 : Int32) → (¬ (ah_J h a0 6) = (42 : Int32).toInt64 → (¬ (ah_J h a0 6) = (47 : Int32).toInt64 → (¬ (ah_J h a0 6) = (37 : Int32).toInt64 → Q (some (rv a2)) h) ∧ ((ah_J h a0 6) = (37 : Int32).toInt64 → MX G mi_X5_next d 0 [some (rv a0), none] [] h (Qv fun h5 => ah_ext h h5 → MX G mi_X5_atom d 0 [some (rv a0), some (iv x1), none, none] [] h5 (Qr fun r8 h7 => ah_ext h5 h7 → ah_kd h7 a2 = 17 ∧ MX G mi_X19_add d 0 [some (rv a2), some (iv (ah_J h a0 6).toInt32), some (rv r8)] [] h7 (Qv fun h10 => ah_ext h7 h10 → MX G mi_X5_item (d + 1) 19 [some (rv a0), some (iv x1), some (rv a2), none] [] h10 Q E) E) E) E)) ∧ ((ah_J h a0 6) = (47 : Int32).toInt64 → MX G mi_X5_next d 0 [some (rv a0), none] [] h (Qv fun h13 => ah_ext h h13 → MX G mi_X5_atom d 0 [some (rv a0), some (iv x1), none, none] [] h13 (Qr fun r16 h15 => ah_ext h13 h15 → ah_kd h15 a2 = 17 ∧ MX G mi_X19_add d 0 [some (rv a2), some (iv (ah_J h a0 6).toInt32), some (rv r16)] [] h15 (Qv fun h18 => ah_ext h15 h18 → MX G mi_X5_item (d + 1) 19 [some (rv a0), some (iv x1), some (rv a2), none] [] h18 Q E) E) E) E)) ∧ ((ah_J h a0 6) = (42 : Int32).toInt64 → MX G mi_X5_next d 0 [some (rv a0), none] [] h (Qv fun h21 => ah_ext h h21 → MX G mi_X5_atom d 0 [some (rv a0), some (iv x1), none, none] [] h21 (Qr fun r24 h23 => ah_ext h21 h23 → ah_kd h23 a2 = 17 ∧ MX G mi_X19_add d 0 [some (rv a2), some (iv (ah_J h a0 6).toInt32), some (rv r24)] [] h23 (Qv fun h26 => ah_ext h23 h26 → MX G mi_X5_item (d + 1) 19 [some (rv a0), some (iv x1), some (rv a2), none] [] h26 Q E) E) E) E))) : MX G mi_X5_item (d + 1) 19 [some (rv a0), some (iv x1), some (rv a2), none] [] h Q E := by
  refine mx_aload_n dX5_item_19 rfl rfl ?_
  refine mx_bipush dX5_item_20 ib_42 ?_
  refine mx_callV 5 (y' := mi_X5_is) (vs := [iv (42 : Int32)]) (st := []) (al' := [some (rv a0), some (iv (42 : Int32))]) cl_5 V_X5_is (Or.inl q1307) dX5_item_22 rfl rfl (Nat.le_of_ble_eq_true rfl) (Nat.le_of_ble_eq_true rfl) (ly5_k La0_h) ?_
  refine mx_aload_n dX5_is_0 rfl rfl ?_
  refine mx_get 5 3 (ref := "PrairiePool$Reader") cl_5 (Nat.le_of_ble_eq_true rfl) (Or.inl q387) (Or.inl rfl) dX5_is_1 (fv_5_3 _ _) (ly5_k La0_h) ?_
  refine mx_iconst dX5_is_4 ic_4 ?_
  refine mx_icmp_ne (tgt := 22) dX5_is_5 rfl (fun c1 => ?_) (fun c1 => ?_)
  · have H := H.1 c1
    refine mx_iconst dX5_is_22 ic_0 ?_
    refine mx_zretK rfl dX5_is_23 (Or.inl rfl) ?_
    refine mx_if_ne (tgt := 46) dX5_item_25 rfl (fun _ => absurd ‹_› (by decide)) (fun _ => ?_)
    refine mx_aload_n dX5_item_28 rfl rfl ?_
    refine mx_bipush dX5_item_29 ib_47 ?_
    refine mx_callV 5 (y' := mi_X5_is) (vs := [iv (47 : Int32)]) (st := []) (al' := [some (rv a0), some (iv (47 : Int32))]) cl_5 V_X5_is (Or.inl q1307) dX5_item_31 rfl rfl (Nat.le_of_ble_eq_true rfl) (Nat.le_of_ble_eq_true rfl) (ly5_k La0_h) ?_
    refine mx_aload_n dX5_is_0 rfl rfl ?_
    refine mx_get 5 3 (ref := "PrairiePool$Reader") cl_5 (Nat.le_of_ble_eq_true rfl) (Or.inl q387) (Or.inl rfl) dX5_is_1 (fv_5_3 _ _) (ly5_k La0_h) ?_
    refine mx_iconst dX5_is_4 ic_4 ?_
    refine mx_icmp_ne (tgt := 22) dX5_is_5 rfl (fun _ => ?_) (fun q_ => absurd q_ c1)
    refine mx_iconst dX5_is_22 ic_0 ?_
    refine mx_zretK rfl dX5_is_23 (Or.inl rfl) ?_
    refine mx_if_ne (tgt := 46) dX5_item_34 rfl (fun _ => absurd ‹_› (by decide)) (fun _ => ?_)
    refine mx_aload_n dX5_item_37 rfl rfl ?_
    refine mx_bipush dX5_item_38 ib_37 ?_
    refine mx_callV 5 (y' := mi_X5_is) (vs := [iv (37 : Int32)]) (st := []) (al' := [some (rv a0), some (iv (37 : Int32))]) cl_5 V_X5_is (Or.inl q1307) dX5_item_40 rfl rfl (Nat.le_of_ble_eq_true rfl) (Nat.le_of_ble_eq_true rfl) (ly5_k La0_h) ?_
    refine mx_aload_n dX5_is_0 rfl rfl ?_
    refine mx_get 5 3 (ref := "PrairiePool$Reader") cl_5 (Nat.le_of_ble_eq_true rfl) (Or.inl q387) (Or.inl rfl) dX5_is_1 (fv_5_3 _ _) (ly5_k La0_h) ?_
    refine mx_iconst dX5_is_4 ic_4 ?_
    refine mx_icmp_ne (tgt := 22) dX5_is_5 rfl (fun _ => ?_) (fun q_ => absurd q_ c1)
    refine mx_iconst dX5_is_22 ic_0 ?_
    refine mx_zretK rfl dX5_is_23 (Or.inl rfl) ?_
    refine mx_if_eq (tgt := 69) dX5_item_43 rfl (fun _ => ?_) (fun _ => absurd ‹_› (by decide))
    refine mx_aload_n dX5_item_69 rfl rfl ?_
    exact mx_aret rfl (by first | exact Or.inl ⟨_, rfl⟩ | exact Or.inr ⟨_, rfl⟩) dX5_item_70 H
  · have H := H.2 c1
    refine mx_aload_n dX5_is_8 rfl rfl ?_
    refine mx_get 5 6 (ref := "PrairiePool$Reader") cl_5 (Nat.le_of_ble_eq_true rfl) (Or.inl q390) (Or.inl rfl) dX5_is_9 (fv_5_6 _ _) (ly5_k La0_h) ?_
    refine mx_iload_n dX5_is_12 rfl rfl ?_
    refine mx_i2l dX5_is_13 ?_
    refine mx_lif_ne (tgt := 22) dX5_is_14 dX5_is_15 rfl (fun c2 => ?_) (fun c2 => ?_)
    · have H := H.1 c2
      refine mx_iconst dX5_is_22 ic_0 ?_
      refine mx_zretK rfl dX5_is_23 (Or.inl rfl) ?_
      refine mx_if_ne (tgt := 46) dX5_item_25 rfl (fun _ => absurd ‹_› (by decide)) (fun _ => ?_)
      refine mx_aload_n dX5_item_28 rfl rfl ?_
      refine mx_bipush dX5_item_29 ib_47 ?_
      refine mx_callV 5 (y' := mi_X5_is) (vs := [iv (47 : Int32)]) (st := []) (al' := [some (rv a0), some (iv (47 : Int32))]) cl_5 V_X5_is (Or.inl q1307) dX5_item_31 rfl rfl (Nat.le_of_ble_eq_true rfl) (Nat.le_of_ble_eq_true rfl) (ly5_k La0_h) ?_
      refine mx_aload_n dX5_is_0 rfl rfl ?_
      refine mx_get 5 3 (ref := "PrairiePool$Reader") cl_5 (Nat.le_of_ble_eq_true rfl) (Or.inl q387) (Or.inl rfl) dX5_is_1 (fv_5_3 _ _) (ly5_k La0_h) ?_
      refine mx_iconst dX5_is_4 ic_4 ?_
      refine mx_icmp_ne (tgt := 22) dX5_is_5 rfl (fun q_ => absurd c1 q_) (fun _ => ?_)
      refine mx_aload_n dX5_is_8 rfl rfl ?_
      refine mx_get 5 6 (ref := "PrairiePool$Reader") cl_5 (Nat.le_of_ble_eq_true rfl) (Or.inl q390) (Or.inl rfl) dX5_is_9 (fv_5_6 _ _) (ly5_k La0_h) ?_
      refine mx_iload_n dX5_is_12 rfl rfl ?_
      refine mx_i2l dX5_is_13 ?_
      refine mx_lif_ne (tgt := 22) dX5_is_14 dX5_is_15 rfl (fun c3 => ?_) (fun c3 => ?_)
      · have H := H.1 c3
        refine mx_iconst dX5_is_22 ic_0 ?_
        refine mx_zretK rfl dX5_is_23 (Or.inl rfl) ?_
        refine mx_if_ne (tgt := 46) dX5_item_34 rfl (fun _ => absurd ‹_› (by decide)) (fun _ => ?_)
        refine mx_aload_n dX5_item_37 rfl rfl ?_
        refine mx_bipush dX5_item_38 ib_37 ?_
        refine mx_callV 5 (y' := mi_X5_is) (vs := [iv (37 : Int32)]) (st := []) (al' := [some (rv a0), some (iv (37 : Int32))]) cl_5 V_X5_is (Or.inl q1307) dX5_item_40 rfl rfl (Nat.le_of_ble_eq_true rfl) (Nat.le_of_ble_eq_true rfl) (ly5_k La0_h) ?_
        refine mx_aload_n dX5_is_0 rfl rfl ?_
        refine mx_get 5 3 (ref := "PrairiePool$Reader") cl_5 (Nat.le_of_ble_eq_true rfl) (Or.inl q387) (Or.inl rfl) dX5_is_1 (fv_5_3 _ _) (ly5_k La0_h) ?_
        refine mx_iconst dX5_is_4 ic_4 ?_
        refine mx_icmp_ne (tgt := 22) dX5_is_5 rfl (fun q_ => absurd c1 q_) (fun _ => ?_)
        refine mx_aload_n dX5_is_8 rfl rfl ?_
        refine mx_get 5 6 (ref := "PrairiePool$Reader") cl_5 (Nat.le_of_ble_eq_true rfl) (Or.inl q390) (Or.inl rfl) dX5_is_9 (fv_5_6 _ _) (ly5_k La0_h) ?_
        refine mx_iload_n dX5_is_12 rfl rfl ?_
        refine mx_i2l dX5_is_13 ?_
        refine mx_lif_ne (tgt := 22) dX5_is_14 dX5_is_15 rfl (fun c4 => ?_) (fun c4 => ?_)
        · have H := H.1 c4
          refine mx_iconst dX5_is_22 ic_0 ?_
          refine mx_zretK rfl dX5_is_23 (Or.inl rfl) ?_
          refine mx_if_eq (tgt := 69) dX5_item_43 rfl (fun _ => ?_) (fun _ => absurd ‹_› (by decide))
          refine mx_aload_n dX5_item_69 rfl rfl ?_
          exact mx_aret rfl (by first | exact Or.inl ⟨_, rfl⟩ | exact Or.inr ⟨_, rfl⟩) dX5_item_70 H
        · have H := H.2 c4
          refine mx_iconst dX5_is_18 ic_1 ?_
          refine mx_goto (tgt := 23) dX5_is_19 rfl ?_
          refine mx_zretK rfl dX5_is_23 (Or.inr rfl) ?_
          refine mx_if_eq (tgt := 69) dX5_item_43 rfl (fun _ => absurd ‹_› (by decide)) (fun _ => ?_)
          refine mx_aload_n dX5_item_46 rfl rfl ?_
          refine mx_get 5 6 (ref := "PrairiePool$Reader") cl_5 (Nat.le_of_ble_eq_true rfl) (Or.inl q390) (Or.inl rfl) dX5_item_47 (fv_5_6 _ _) (ly5_k La0_h) ?_
          refine mx_l2i dX5_item_50 ?_
          refine mx_istore_n (al' := [some (rv a0), some (iv x1), some (rv a2), some (iv (ah_J h a0 6).toInt32)]) dX5_item_51 rfl (Nat.le_of_ble_eq_true rfl) rfl ?_
          refine mx_aload_n dX5_item_52 rfl rfl ?_
          refine mx_callV 5 (y' := mi_X5_next) (vs := []) (st := []) (al' := [some (rv a0), none]) cl_5 V_X5_next (Or.inl q1206) dX5_item_53 rfl rfl (Nat.le_of_ble_eq_true rfl) (Nat.le_of_ble_eq_true rfl) (ly5_k La0_h) ?_
          refine ma_kv H (fun h5 Xh5 H => ?_) (fun x1 h1 X1 H => mt_out rfl H)
          have H := H Xh5
          have La0_h5 := La0_h.ext Xh5
          refine mx_aload_n dX5_item_56 rfl rfl ?_
          refine mx_iload_n dX5_item_57 rfl rfl ?_
          refine mx_aload_n dX5_item_58 rfl rfl ?_
          refine mx_iload_n dX5_item_59 rfl rfl ?_
          refine mx_callV 5 (y' := mi_X5_atom) (vs := [iv x1]) (st := [iv (ah_J h a0 6).toInt32, rv a2]) (al' := [some (rv a0), some (iv x1), none, none]) cl_5 V_X5_atom (Or.inl q1353) dX5_item_60 rfl rfl (Nat.le_of_ble_eq_true rfl) (Nat.le_of_ble_eq_true rfl) (ly5_k La0_h5) ?_
          refine ma_kr H (fun r8 h7 Xh7 H => ?_) (fun x1 h1 X1 H => mt_out rfl H)
          have H := H Xh7
          have La0_h7 := La0_h5.ext Xh7
          obtain ⟨k9, H⟩ := H
          refine mx_callV 16 (y' := mi_X19_add) (vs := [iv (ah_J h a0 6).toInt32, rv r8]) (st := []) (al' := [some (rv a2), some (iv (ah_J h a0 6).toInt32), some (rv r8)]) cl_16 V_X19_add (Or.inl q1357) dX5_item_63 rfl rfl (Nat.le_of_ble_eq_true rfl) (Nat.le_of_ble_eq_true rfl) k9 ?_
          refine ma_kv H (fun h10 Xh10 H => ?_) (fun x1 h1 X1 H => mt_out rfl H)
          have H := H Xh10
          have k12 := Xh10.kd (k9)
          have La0_h10 := La0_h7.ext Xh10
          refine mx_goto (tgt := 19) dX5_item_66 rfl ?_
          exact mx_weak (al' := [some (rv a0), some (iv x1), some (rv a2), none]) ⟨rfl, ⟨rfl, ⟨rfl, trivial⟩⟩⟩ H
      · have H := H.2 c3
        refine mx_iconst dX5_is_18 ic_1 ?_
        refine mx_goto (tgt := 23) dX5_is_19 rfl ?_
        refine mx_zretK rfl dX5_is_23 (Or.inr rfl) ?_
        refine mx_if_ne (tgt := 46) dX5_item_34 rfl (fun _ => ?_) (fun _ => absurd ‹_› (by decide))
        refine mx_aload_n dX5_item_46 rfl rfl ?_
        refine mx_get 5 6 (ref := "PrairiePool$Reader") cl_5 (Nat.le_of_ble_eq_true rfl) (Or.inl q390) (Or.inl rfl) dX5_item_47 (fv_5_6 _ _) (ly5_k La0_h) ?_
        refine mx_l2i dX5_item_50 ?_
        refine mx_istore_n (al' := [some (rv a0), some (iv x1), some (rv a2), some (iv (ah_J h a0 6).toInt32)]) dX5_item_51 rfl (Nat.le_of_ble_eq_true rfl) rfl ?_
        refine mx_aload_n dX5_item_52 rfl rfl ?_
        refine mx_callV 5 (y' := mi_X5_next) (vs := []) (st := []) (al' := [some (rv a0), none]) cl_5 V_X5_next (Or.inl q1206) dX5_item_53 rfl rfl (Nat.le_of_ble_eq_true rfl) (Nat.le_of_ble_eq_true rfl) (ly5_k La0_h) ?_
        refine ma_kv H (fun h13 Xh13 H => ?_) (fun x1 h1 X1 H => mt_out rfl H)
        have H := H Xh13
        have La0_h13 := La0_h.ext Xh13
        refine mx_aload_n dX5_item_56 rfl rfl ?_
        refine mx_iload_n dX5_item_57 rfl rfl ?_
        refine mx_aload_n dX5_item_58 rfl rfl ?_
        refine mx_iload_n dX5_item_59 rfl rfl ?_
        refine mx_callV 5 (y' := mi_X5_atom) (vs := [iv x1]) (st := [iv (ah_J h a0 6).toInt32, rv a2]) (al' := [some (rv a0), some (iv x1), none, none]) cl_5 V_X5_atom (Or.inl q1353) dX5_item_60 rfl rfl (Nat.le_of_ble_eq_true rfl) (Nat.le_of_ble_eq_true rfl) (ly5_k La0_h13) ?_
        refine ma_kr H (fun r16 h15 Xh15 H => ?_) (fun x1 h1 X1 H => mt_out rfl H)
        have H := H Xh15
        have La0_h15 := La0_h13.ext Xh15
        obtain ⟨k17, H⟩ := H
        refine mx_callV 16 (y' := mi_X19_add) (vs := [iv (ah_J h a0 6).toInt32, rv r16]) (st := []) (al' := [some (rv a2), some (iv (ah_J h a0 6).toInt32), some (rv r16)]) cl_16 V_X19_add (Or.inl q1357) dX5_item_63 rfl rfl (Nat.le_of_ble_eq_true rfl) (Nat.le_of_ble_eq_true rfl) k17 ?_
        refine ma_kv H (fun h18 Xh18 H => ?_) (fun x1 h1 X1 H => mt_out rfl H)
        have H := H Xh18
        have k20 := Xh18.kd (k17)
        have La0_h18 := La0_h15.ext Xh18
        refine mx_goto (tgt := 19) dX5_item_66 rfl ?_
        exact mx_weak (al' := [some (rv a0), some (iv x1), some (rv a2), none]) ⟨rfl, ⟨rfl, ⟨rfl, trivial⟩⟩⟩ H
    · have H := H.2 c2
      refine mx_iconst dX5_is_18 ic_1 ?_
      refine mx_goto (tgt := 23) dX5_is_19 rfl ?_
      refine mx_zretK rfl dX5_is_23 (Or.inr rfl) ?_
      refine mx_if_ne (tgt := 46) dX5_item_25 rfl (fun _ => ?_) (fun _ => absurd ‹_› (by decide))
      refine mx_aload_n dX5_item_46 rfl rfl ?_
      refine mx_get 5 6 (ref := "PrairiePool$Reader") cl_5 (Nat.le_of_ble_eq_true rfl) (Or.inl q390) (Or.inl rfl) dX5_item_47 (fv_5_6 _ _) (ly5_k La0_h) ?_
      refine mx_l2i dX5_item_50 ?_
      refine mx_istore_n (al' := [some (rv a0), some (iv x1), some (rv a2), some (iv (ah_J h a0 6).toInt32)]) dX5_item_51 rfl (Nat.le_of_ble_eq_true rfl) rfl ?_
      refine mx_aload_n dX5_item_52 rfl rfl ?_
      refine mx_callV 5 (y' := mi_X5_next) (vs := []) (st := []) (al' := [some (rv a0), none]) cl_5 V_X5_next (Or.inl q1206) dX5_item_53 rfl rfl (Nat.le_of_ble_eq_true rfl) (Nat.le_of_ble_eq_true rfl) (ly5_k La0_h) ?_
      refine ma_kv H (fun h21 Xh21 H => ?_) (fun x1 h1 X1 H => mt_out rfl H)
      have H := H Xh21
      have La0_h21 := La0_h.ext Xh21
      refine mx_aload_n dX5_item_56 rfl rfl ?_
      refine mx_iload_n dX5_item_57 rfl rfl ?_
      refine mx_aload_n dX5_item_58 rfl rfl ?_
      refine mx_iload_n dX5_item_59 rfl rfl ?_
      refine mx_callV 5 (y' := mi_X5_atom) (vs := [iv x1]) (st := [iv (ah_J h a0 6).toInt32, rv a2]) (al' := [some (rv a0), some (iv x1), none, none]) cl_5 V_X5_atom (Or.inl q1353) dX5_item_60 rfl rfl (Nat.le_of_ble_eq_true rfl) (Nat.le_of_ble_eq_true rfl) (ly5_k La0_h21) ?_
      refine ma_kr H (fun r24 h23 Xh23 H => ?_) (fun x1 h1 X1 H => mt_out rfl H)
      have H := H Xh23
      have La0_h23 := La0_h21.ext Xh23
      obtain ⟨k25, H⟩ := H
      refine mx_callV 16 (y' := mi_X19_add) (vs := [iv (ah_J h a0 6).toInt32, rv r24]) (st := []) (al' := [some (rv a2), some (iv (ah_J h a0 6).toInt32), some (rv r24)]) cl_16 V_X19_add (Or.inl q1357) dX5_item_63 rfl rfl (Nat.le_of_ble_eq_true rfl) (Nat.le_of_ble_eq_true rfl) k25 ?_
      refine ma_kv H (fun h26 Xh26 H => ?_) (fun x1 h1 X1 H => mt_out rfl H)
      have H := H Xh26
      have k28 := Xh26.kd (k25)
      have La0_h26 := La0_h23.ext Xh26
      refine mx_goto (tgt := 19) dX5_item_66 rfl ?_
      exact mx_weak (al' := [some (rv a0), some (iv x1), some (rv a2), none]) ⟨rfl, ⟨rfl, ⟨rfl, trivial⟩⟩⟩ H
theorem dX5_atom_0 : decode mi_X5_atom.2.1 0 = .ok (.aload_n 0, 1) := by decide +kernel
theorem dX5_atom_1 : decode mi_X5_atom.2.1 1 = .ok (.bipush 40, 2) := by decide +kernel
theorem dX5_atom_3 : decode mi_X5_atom.2.1 3 = .ok (.invokevirtual 124, 3) := by decide +kernel
theorem dX5_atom_6 : decode mi_X5_atom.2.1 6 = .ok (.ifCond .eq 46, 3) := by decide +kernel
theorem dX5_atom_9 : decode mi_X5_atom.2.1 9 = .ok (.aload_n 0, 1) := by decide +kernel
theorem dX5_atom_10 : decode mi_X5_atom.2.1 10 = .ok (.invokevirtual 101, 3) := by decide +kernel
theorem dX5_atom_13 : decode mi_X5_atom.2.1 13 = .ok (.aload_n 0, 1) := by decide +kernel
theorem dX5_atom_14 : decode mi_X5_atom.2.1 14 = .ok (.iload_n 1, 1) := by decide +kernel
theorem dX5_atom_15 : decode mi_X5_atom.2.1 15 = .ok (.iconst 1, 1) := by decide +kernel
theorem dX5_atom_16 : decode mi_X5_atom.2.1 16 = .ok (.iadd, 1) := by decide +kernel
theorem dX5_atom_17 : decode mi_X5_atom.2.1 17 = .ok (.invokevirtual 127, 3) := by decide +kernel
theorem dX5_atom_20 : decode mi_X5_atom.2.1 20 = .ok (.astore_n 2, 1) := by decide +kernel
theorem dX5_atom_21 : decode mi_X5_atom.2.1 21 = .ok (.aload_n 0, 1) := by decide +kernel
theorem dX5_atom_22 : decode mi_X5_atom.2.1 22 = .ok (.aload_n 0, 1) := by decide +kernel
theorem dX5_atom_23 : decode mi_X5_atom.2.1 23 = .ok (.bipush 41, 2) := by decide +kernel
theorem dX5_atom_25 : decode mi_X5_atom.2.1 25 = .ok (.invokevirtual 124, 3) := by decide +kernel
theorem dX5_atom_28 : decode mi_X5_atom.2.1 28 = .ok (.invokevirtual 113, 3) := by decide +kernel
theorem dX5_atom_31 : decode mi_X5_atom.2.1 31 = .ok (.aload_n 0, 1) := by decide +kernel
theorem dX5_atom_32 : decode mi_X5_atom.2.1 32 = .ok (.invokevirtual 101, 3) := by decide +kernel
theorem dX5_atom_35 : decode mi_X5_atom.2.1 35 = .ok (.new 176, 3) := by decide +kernel
theorem dX5_atom_38 : decode mi_X5_atom.2.1 38 = .ok (.dup, 1) := by decide +kernel
theorem dX5_atom_39 : decode mi_X5_atom.2.1 39 = .ok (.invokespecial 178, 3) := by decide +kernel
theorem dX5_atom_42 : decode mi_X5_atom.2.1 42 = .ok (.astore_n 3, 1) := by decide +kernel
theorem dX5_atom_43 : decode mi_X5_atom.2.1 43 = .ok (.aload_n 3, 1) := by decide +kernel
theorem dX5_atom_44 : decode mi_X5_atom.2.1 44 = .ok (.bipush 43, 2) := by decide +kernel
theorem dX5_atom_46 : decode mi_X5_atom.2.1 46 = .ok (.aload_n 2, 1) := by decide +kernel
theorem dX5_atom_47 : decode mi_X5_atom.2.1 47 = .ok (.invokevirtual 182, 3) := by decide +kernel
theorem dX5_atom_50 : decode mi_X5_atom.2.1 50 = .ok (.aload_n 3, 1) := by decide +kernel
theorem dX5_atom_51 : decode mi_X5_atom.2.1 51 = .ok (.areturn, 1) := by decide +kernel
theorem dX5_atom_52 : decode mi_X5_atom.2.1 52 = .ok (.aload_n 0, 1) := by decide +kernel
theorem dX5_atom_53 : decode mi_X5_atom.2.1 53 = .ok (.bipush 6, 2) := by decide +kernel
theorem dX5_atom_55 : decode mi_X5_atom.2.1 55 = .ok (.invokevirtual 139, 3) := by decide +kernel
theorem dX5_atom_58 : decode mi_X5_atom.2.1 58 = .ok (.ifCond .ne 12, 3) := by decide +kernel
theorem dX5_atom_61 : decode mi_X5_atom.2.1 61 = .ok (.aload_n 0, 1) := by decide +kernel
theorem dX5_atom_62 : decode mi_X5_atom.2.1 62 = .ok (.bipush 7, 2) := by decide +kernel
theorem dX5_atom_64 : decode mi_X5_atom.2.1 64 = .ok (.invokevirtual 139, 3) := by decide +kernel
theorem dX5_atom_67 : decode mi_X5_atom.2.1 67 = .ok (.ifCond .eq 9, 3) := by decide +kernel
theorem dX5_atom_70 : decode mi_X5_atom.2.1 70 = .ok (.aload_n 0, 1) := by decide +kernel
theorem dX5_atom_71 : decode mi_X5_atom.2.1 71 = .ok (.iload_n 1, 1) := by decide +kernel
theorem dX5_atom_72 : decode mi_X5_atom.2.1 72 = .ok (.invokevirtual 196, 3) := by decide +kernel
theorem dX5_atom_75 : decode mi_X5_atom.2.1 75 = .ok (.areturn, 1) := by decide +kernel
theorem dX5_atom_76 : decode mi_X5_atom.2.1 76 = .ok (.aload_n 0, 1) := by decide +kernel
theorem dX5_atom_77 : decode mi_X5_atom.2.1 77 = .ok (.getfield 37, 3) := by decide +kernel
theorem dX5_atom_80 : decode mi_X5_atom.2.1 80 = .ok (.iconst 2, 1) := by decide +kernel
theorem dX5_atom_81 : decode mi_X5_atom.2.1 81 = .ok (.if_icmp .ne 102, 3) := by decide +kernel
theorem dX5_atom_84 : decode mi_X5_atom.2.1 84 = .ok (.aload_n 0, 1) := by decide +kernel
theorem dX5_atom_85 : decode mi_X5_atom.2.1 85 = .ok (.ldc 86, 2) := by decide +kernel
theorem dX5_atom_87 : decode mi_X5_atom.2.1 87 = .ok (.invokevirtual 88, 3) := by decide +kernel
theorem dX5_atom_90 : decode mi_X5_atom.2.1 90 = .ok (.iconst (-1), 1) := by decide +kernel
theorem dX5_atom_91 : decode mi_X5_atom.2.1 91 = .ok (.if_icmp .ne 92, 3) := by decide +kernel
theorem dX5_atom_94 : decode mi_X5_atom.2.1 94 = .ok (.aload_n 0, 1) := by decide +kernel
theorem dX5_atom_95 : decode mi_X5_atom.2.1 95 = .ok (.ldc 111, 2) := by decide +kernel
theorem dX5_atom_97 : decode mi_X5_atom.2.1 97 = .ok (.invokevirtual 88, 3) := by decide +kernel
theorem dX5_atom_100 : decode mi_X5_atom.2.1 100 = .ok (.istore_n 2, 1) := by decide +kernel
theorem dX5_atom_101 : decode mi_X5_atom.2.1 101 = .ok (.iload_n 2, 1) := by decide +kernel
theorem dX5_atom_102 : decode mi_X5_atom.2.1 102 = .ok (.iconst (-1), 1) := by decide +kernel
theorem dX5_atom_103 : decode mi_X5_atom.2.1 103 = .ok (.if_icmp .ne 28, 3) := by decide +kernel
theorem dX5_atom_106 : decode mi_X5_atom.2.1 106 = .ok (.aload_n 0, 1) := by decide +kernel
theorem dX5_atom_107 : decode mi_X5_atom.2.1 107 = .ok (.invokevirtual 107, 3) := by decide +kernel
theorem dX5_atom_110 : decode mi_X5_atom.2.1 110 = .ok (.ldc2_w 92, 3) := by decide +kernel
theorem dX5_atom_113 : decode mi_X5_atom.2.1 113 = .ok (.lcmp, 1) := by decide +kernel
theorem dX5_atom_114 : decode mi_X5_atom.2.1 114 = .ok (.ifCond .eq 17, 3) := by decide +kernel
theorem dX5_atom_117 : decode mi_X5_atom.2.1 117 = .ok (.aload_n 0, 1) := by decide +kernel
theorem dX5_atom_118 : decode mi_X5_atom.2.1 118 = .ok (.getfield 97, 3) := by decide +kernel
theorem dX5_atom_121 : decode mi_X5_atom.2.1 121 = .ok (.aload_n 0, 1) := by decide +kernel
theorem dX5_atom_122 : decode mi_X5_atom.2.1 122 = .ok (.invokevirtual 107, 3) := by decide +kernel
theorem dX5_atom_125 : decode mi_X5_atom.2.1 125 = .ok (.invokevirtual 120, 3) := by decide +kernel
theorem dX5_atom_128 : decode mi_X5_atom.2.1 128 = .ok (.goto 4, 3) := by decide +kernel
theorem dX5_atom_131 : decode mi_X5_atom.2.1 131 = .ok (.iconst (-1), 1) := by decide +kernel
theorem dX5_atom_132 : decode mi_X5_atom.2.1 132 = .ok (.istore_n 3, 1) := by decide +kernel
theorem dX5_atom_133 : decode mi_X5_atom.2.1 133 = .ok (.iload_n 2, 1) := by decide +kernel
theorem dX5_atom_134 : decode mi_X5_atom.2.1 134 = .ok (.iconst (-1), 1) := by decide +kernel
theorem dX5_atom_135 : decode mi_X5_atom.2.1 135 = .ok (.if_icmp .ne 15, 3) := by decide +kernel
theorem dX5_atom_138 : decode mi_X5_atom.2.1 138 = .ok (.iload_n 3, 1) := by decide +kernel
theorem dX5_atom_139 : decode mi_X5_atom.2.1 139 = .ok (.iconst (-1), 1) := by decide +kernel
theorem dX5_atom_140 : decode mi_X5_atom.2.1 140 = .ok (.if_icmp .ne 10, 3) := by decide +kernel
theorem dX5_atom_143 : decode mi_X5_atom.2.1 143 = .ok (.aload_n 0, 1) := by decide +kernel
theorem dX5_atom_144 : decode mi_X5_atom.2.1 144 = .ok (.bipush 6, 2) := by decide +kernel
theorem dX5_atom_146 : decode mi_X5_atom.2.1 146 = .ok (.invokevirtual 68, 3) := by decide +kernel
theorem dX5_atom_149 : decode mi_X5_atom.2.1 149 = .ok (.athrow, 1) := by decide +kernel
theorem dX5_atom_150 : decode mi_X5_atom.2.1 150 = .ok (.aload_n 0, 1) := by decide +kernel
theorem dX5_atom_151 : decode mi_X5_atom.2.1 151 = .ok (.invokevirtual 101, 3) := by decide +kernel
theorem dX5_atom_154 : decode mi_X5_atom.2.1 154 = .ok (.iload_n 2, 1) := by decide +kernel
theorem dX5_atom_155 : decode mi_X5_atom.2.1 155 = .ok (.iconst (-1), 1) := by decide +kernel
theorem dX5_atom_156 : decode mi_X5_atom.2.1 156 = .ok (.if_icmp .eq 16, 3) := by decide +kernel
theorem dX5_atom_159 : decode mi_X5_atom.2.1 159 = .ok (.new 199, 3) := by decide +kernel
theorem dX5_atom_162 : decode mi_X5_atom.2.1 162 = .ok (.dup, 1) := by decide +kernel
theorem dX5_atom_163 : decode mi_X5_atom.2.1 163 = .ok (.iconst 1, 1) := by decide +kernel
theorem dX5_atom_164 : decode mi_X5_atom.2.1 164 = .ok (.iload_n 2, 1) := by decide +kernel
theorem dX5_atom_165 : decode mi_X5_atom.2.1 165 = .ok (.i2l, 1) := by decide +kernel
theorem dX5_atom_166 : decode mi_X5_atom.2.1 166 = .ok (.invokespecial 201, 3) := by decide +kernel
theorem dX5_atom_169 : decode mi_X5_atom.2.1 169 = .ok (.goto 13, 3) := by decide +kernel
theorem dX5_atom_172 : decode mi_X5_atom.2.1 172 = .ok (.new 199, 3) := by decide +kernel
theorem dX5_atom_175 : decode mi_X5_atom.2.1 175 = .ok (.dup, 1) := by decide +kernel
theorem dX5_atom_176 : decode mi_X5_atom.2.1 176 = .ok (.iconst 2, 1) := by decide +kernel
theorem dX5_atom_177 : decode mi_X5_atom.2.1 177 = .ok (.iload_n 3, 1) := by decide +kernel
theorem dX5_atom_178 : decode mi_X5_atom.2.1 178 = .ok (.i2l, 1) := by decide +kernel
theorem dX5_atom_179 : decode mi_X5_atom.2.1 179 = .ok (.invokespecial 201, 3) := by decide +kernel
theorem dX5_atom_182 : decode mi_X5_atom.2.1 182 = .ok (.areturn, 1) := by decide +kernel
theorem dX5_atom_183 : decode mi_X5_atom.2.1 183 = .ok (.aload_n 0, 1) := by decide +kernel
theorem dX5_atom_184 : decode mi_X5_atom.2.1 184 = .ok (.aload_n 0, 1) := by decide +kernel
theorem dX5_atom_185 : decode mi_X5_atom.2.1 185 = .ok (.getfield 37, 3) := by decide +kernel
theorem dX5_atom_188 : decode mi_X5_atom.2.1 188 = .ok (.iconst 3, 1) := by decide +kernel
theorem dX5_atom_189 : decode mi_X5_atom.2.1 189 = .ok (.if_icmp .ne 7, 3) := by decide +kernel
theorem dX5_atom_192 : decode mi_X5_atom.2.1 192 = .ok (.iconst 1, 1) := by decide +kernel
theorem dX5_atom_193 : decode mi_X5_atom.2.1 193 = .ok (.goto 4, 3) := by decide +kernel
theorem dX5_atom_196 : decode mi_X5_atom.2.1 196 = .ok (.iconst 0, 1) := by decide +kernel
theorem dX5_atom_197 : decode mi_X5_atom.2.1 197 = .ok (.invokevirtual 113, 3) := by decide +kernel
theorem dX5_atom_200 : decode mi_X5_atom.2.1 200 = .ok (.new 199, 3) := by decide +kernel
theorem dX5_atom_203 : decode mi_X5_atom.2.1 203 = .ok (.dup, 1) := by decide +kernel
theorem dX5_atom_204 : decode mi_X5_atom.2.1 204 = .ok (.iconst 0, 1) := by decide +kernel
theorem dX5_atom_205 : decode mi_X5_atom.2.1 205 = .ok (.aload_n 0, 1) := by decide +kernel
theorem dX5_atom_206 : decode mi_X5_atom.2.1 206 = .ok (.getfield 33, 3) := by decide +kernel
theorem dX5_atom_209 : decode mi_X5_atom.2.1 209 = .ok (.invokespecial 201, 3) := by decide +kernel
theorem dX5_atom_212 : decode mi_X5_atom.2.1 212 = .ok (.astore_n 2, 1) := by decide +kernel
theorem dX5_atom_213 : decode mi_X5_atom.2.1 213 = .ok (.aload_n 0, 1) := by decide +kernel
theorem dX5_atom_214 : decode mi_X5_atom.2.1 214 = .ok (.invokevirtual 101, 3) := by decide +kernel
theorem dX5_atom_217 : decode mi_X5_atom.2.1 217 = .ok (.aload_n 2, 1) := by decide +kernel
theorem dX5_atom_218 : decode mi_X5_atom.2.1 218 = .ok (.areturn, 1) := by decide +kernel
theorem v_X5_atom {G : ma_G} {d : Nat} {a0 : Nat} {x1 : Int32} {h : ah_T} {Q : Option ma_V → ah_T → Prop} {E : Nat → ah_T → Prop} (La0_h : LY5 h a0) (H : (¬ (ah_I h a0 3) = (4 : Int32) → MX G mi_X5_isKey (d + 2) 0 [some (rv a0), some (iv (6 : Int32))] [] h (Qi fun r3 h2 => ah_ext h h2 → (¬ r3 = 0 → MX G mi_X5_few (d + 2) 0 [some (rv a0), some (iv x1), none, none, none] [] h2 (Qr fun r6 h5 => ah_ext h2 h5 → Q (some (rv r6)) h5) E) ∧ (r3 = 0 → MX G mi_X5_isKey (d + 2) 0 [some (rv a0), some (iv (7 : Int32))] [] h2 (Qi fun r8 h7 => ah_ext h2 h7 → (r8 = 0 → (¬ (ah_I h7 a0 3) = (2 : Int32) → MX G mi_X5_atom (d + 3) 183 [some (rv a0), none, none, none] [] h7 Q E) ∧ ((ah_I h7 a0 3) = (2 : Int32) → MX G mi_X5_in (d + 2) 0 [some (rv a0), some (rv (ma_lit G 0)), none, none, none] [] h7 (Qi fun r12 h11 => ah_ext h7 h11 → (¬ r12 = (-1 : Int32) → MX G mi_X5_atom (d + 3) 183 [some (rv a0), none, none, none] [] h11 Q E) ∧ (r12 = (-1 : Int32) → MX G mi_X5_in (d + 2) 0 [some (rv a0), some (rv (ma_lit G 1)), none, none, none] [] h11 (Qi fun r15 h14 => ah_ext h11 h14 → (¬ r15 = (-1 : Int32) → MX G mi_X5_atom (d + 3) 150 [some (rv a0), none, some (iv r15), some (iv (-1 : Int32))] [] h14 Q E) ∧ (r15 = (-1 : Int32) → MX G mi_X5_name (d + 2) 0 [some (rv a0), none, none, none] [] h14 (Ql fun r18 h17 => ah_ext h14 h17 → (r18 = (-1 : Int64) → (¬ (ah_I h17 a0 3) = (1 : Int32) → ah_kd h17 (ah_R h17 a0 8) = 5 ∧ ∀ h22 : ah_T, h22 = ah_wI h17 (ah_R h17 a0 8) 6 (6 : Int32) → ah_ext h17 h22 → ∀ h23 : ah_T, h23 = ah_wI h22 (ah_R h17 a0 8) 7 (ah_I h17 a0 4) → ah_ext h22 h23 → E (ah_R h17 a0 8) h23) ∧ ((ah_I h17 a0 3) = (1 : Int32) → ah_kd h17 (ah_R h17 a0 8) = 5 ∧ ∀ h25 : ah_T, h25 = ah_wI h17 (ah_R h17 a0 8) 6 (1 : Int32) → ah_ext h17 h25 → ∀ h26 : ah_T, h26 = ah_wI h25 (ah_R h17 a0 8) 7 (ah_I h17 a0 4) → ah_ext h25 h26 → E (ah_R h17 a0 8) h26)) ∧ (¬ r18 = (-1 : Int64) → MX G mi_X5_name (d + 2) 0 [some (rv a0), none, none, none] [] h17 (Ql fun r28 h27 => ah_ext h17 h27 → ah_kd h27 (ah_R h17 a0 7) = 16 ∧ MX G mi_X17_find (d + 2) 0 [some (rv (ah_R h17 a0 7)), some (jv r28), none, none] [] h27 (Qi fun r31 h30 => ah_ext h27 h30 → (¬ r31 = (-1 : Int32) → MX G mi_X5_atom (d + 3) 150 [some (rv a0), none, some (iv r15), some (iv r31)] [] h30 Q E) ∧ (r31 = (-1 : Int32) → (¬ (ah_I h30 a0 3) = (1 : Int32) → ah_kd h30 (ah_R h30 a0 8) = 5 ∧ ∀ h36 : ah_T, h36 = ah_wI h30 (ah_R h30 a0 8) 6 (6 : Int32) → ah_ext h30 h36 → ∀ h37 : ah_T, h37 = ah_wI h36 (ah_R h30 a0 8) 7 (ah_I h30 a0 4) → ah_ext h36 h37 → E (ah_R h30 a0 8) h37) ∧ ((ah_I h30 a0 3) = (1 : Int32) → ah_kd h30 (ah_R h30 a0 8) = 5 ∧ ∀ h39 : ah_T, h39 = ah_wI h30 (ah_R h30 a0 8) 6 (1 : Int32) → ah_ext h30 h39 → ∀ h40 : ah_T, h40 = ah_wI h39 (ah_R h30 a0 8) 7 (ah_I h30 a0 4) → ah_ext h39 h40 → E (ah_R h30 a0 8) h40))) E) E)) E)) E)) E)) ∧ (¬ r8 = 0 → MX G mi_X5_few (d + 2) 0 [some (rv a0), some (iv x1), none, none, none] [] h7 (Qr fun r42 h41 => ah_ext h7 h41 → Q (some (rv r42)) h41) E)) E)) E) ∧ ((ah_I h a0 3) = (4 : Int32) → (¬ (ah_J h a0 6) = (40 : Int32).toInt64 → MX G mi_X5_isKey (d + 2) 0 [some (rv a0), some (iv (6 : Int32))] [] h (Qi fun r45 h44 => ah_ext h h44 → (¬ r45 = 0 → MX G mi_X5_few (d + 2) 0 [some (rv a0), some (iv x1), none, none, none] [] h44 (Qr fun r48 h47 => ah_ext h44 h47 → Q (some (rv r48)) h47) E) ∧ (r45 = 0 → MX G mi_X5_isKey (d + 2) 0 [some (rv a0), some (iv (7 : Int32))] [] h44 (Qi fun r50 h49 => ah_ext h44 h49 → (r50 = 0 → (¬ (ah_I h49 a0 3) = (2 : Int32) → MX G mi_X5_atom (d + 3) 183 [some (rv a0), none, none, none] [] h49 Q E) ∧ ((ah_I h49 a0 3) = (2 : Int32) → MX G mi_X5_in (d + 2) 0 [some (rv a0), some (rv (ma_lit G 0)), none, none, none] [] h49 (Qi fun r54 h53 => ah_ext h49 h53 → (¬ r54 = (-1 : Int32) → MX G mi_X5_atom (d + 3) 183 [some (rv a0), none, none, none] [] h53 Q E) ∧ (r54 = (-1 : Int32) → MX G mi_X5_in (d + 2) 0 [some (rv a0), some (rv (ma_lit G 1)), none, none, none] [] h53 (Qi fun r57 h56 => ah_ext h53 h56 → (¬ r57 = (-1 : Int32) → MX G mi_X5_atom (d + 3) 150 [some (rv a0), none, some (iv r57), some (iv (-1 : Int32))] [] h56 Q E) ∧ (r57 = (-1 : Int32) → MX G mi_X5_name (d + 2) 0 [some (rv a0), none, none, none] [] h56 (Ql fun r60 h59 => ah_ext h56 h59 → (r60 = (-1 : Int64) → (¬ (ah_I h59 a0 3) = (1 : Int32) → ah_kd h59 (ah_R h59 a0 8) = 5 ∧ ∀ h64 : ah_T, h64 = ah_wI h59 (ah_R h59 a0 8) 6 (6 : Int32) → ah_ext h59 h64 → ∀ h65 : ah_T, h65 = ah_wI h64 (ah_R h59 a0 8) 7 (ah_I h59 a0 4) → ah_ext h64 h65 → E (ah_R h59 a0 8) h65) ∧ ((ah_I h59 a0 3) = (1 : Int32) → ah_kd h59 (ah_R h59 a0 8) = 5 ∧ ∀ h67 : ah_T, h67 = ah_wI h59 (ah_R h59 a0 8) 6 (1 : Int32) → ah_ext h59 h67 → ∀ h68 : ah_T, h68 = ah_wI h67 (ah_R h59 a0 8) 7 (ah_I h59 a0 4) → ah_ext h67 h68 → E (ah_R h59 a0 8) h68)) ∧ (¬ r60 = (-1 : Int64) → MX G mi_X5_name (d + 2) 0 [some (rv a0), none, none, none] [] h59 (Ql fun r70 h69 => ah_ext h59 h69 → ah_kd h69 (ah_R h59 a0 7) = 16 ∧ MX G mi_X17_find (d + 2) 0 [some (rv (ah_R h59 a0 7)), some (jv r70), none, none] [] h69 (Qi fun r73 h72 => ah_ext h69 h72 → (¬ r73 = (-1 : Int32) → MX G mi_X5_atom (d + 3) 150 [some (rv a0), none, some (iv r57), some (iv r73)] [] h72 Q E) ∧ (r73 = (-1 : Int32) → (¬ (ah_I h72 a0 3) = (1 : Int32) → ah_kd h72 (ah_R h72 a0 8) = 5 ∧ ∀ h78 : ah_T, h78 = ah_wI h72 (ah_R h72 a0 8) 6 (6 : Int32) → ah_ext h72 h78 → ∀ h79 : ah_T, h79 = ah_wI h78 (ah_R h72 a0 8) 7 (ah_I h72 a0 4) → ah_ext h78 h79 → E (ah_R h72 a0 8) h79) ∧ ((ah_I h72 a0 3) = (1 : Int32) → ah_kd h72 (ah_R h72 a0 8) = 5 ∧ ∀ h81 : ah_T, h81 = ah_wI h72 (ah_R h72 a0 8) 6 (1 : Int32) → ah_ext h72 h81 → ∀ h82 : ah_T, h82 = ah_wI h81 (ah_R h72 a0 8) 7 (ah_I h72 a0 4) → ah_ext h81 h82 → E (ah_R h72 a0 8) h82))) E) E)) E)) E)) E)) ∧ (¬ r50 = 0 → MX G mi_X5_few (d + 2) 0 [some (rv a0), some (iv x1), none, none, none] [] h49 (Qr fun r84 h83 => ah_ext h49 h83 → Q (some (rv r84)) h83) E)) E)) E) ∧ ((ah_J h a0 6) = (40 : Int32).toInt64 → MX G mi_X5_next (d + 2) 0 [some (rv a0), none] [] h (Qv fun h85 => ah_ext h h85 → MX G mi_X5_whole (d + 2) 0 [some (rv a0), some (iv (x1 + (1 : Int32))), none, none] [] h85 (Qr fun r88 h87 => ah_ext h85 h87 → (¬ (ah_I h87 a0 3) = (4 : Int32) → (¬ (ah_I h87 a0 3) = (1 : Int32) → ah_kd h87 (ah_R h87 a0 8) = 5 ∧ ∀ h92 : ah_T, h92 = ah_wI h87 (ah_R h87 a0 8) 6 (2 : Int32) → ah_ext h87 h92 → ∀ h93 : ah_T, h93 = ah_wI h92 (ah_R h87 a0 8) 7 (ah_I h87 a0 4) → ah_ext h92 h93 → E (ah_R h87 a0 8) h93) ∧ ((ah_I h87 a0 3) = (1 : Int32) → ah_kd h87 (ah_R h87 a0 8) = 5 ∧ ∀ h95 : ah_T, h95 = ah_wI h87 (ah_R h87 a0 8) 6 (1 : Int32) → ah_ext h87 h95 → ∀ h96 : ah_T, h96 = ah_wI h95 (ah_R h87 a0 8) 7 (ah_I h87 a0 4) → ah_ext h95 h96 → E (ah_R h87 a0 8) h96)) ∧ ((ah_I h87 a0 3) = (4 : Int32) → (¬ (ah_J h87 a0 6) = (41 : Int32).toInt64 → (¬ (ah_I h87 a0 3) = (1 : Int32) → ah_kd h87 (ah_R h87 a0 8) = 5 ∧ ∀ h100 : ah_T, h100 = ah_wI h87 (ah_R h87 a0 8) 6 (2 : Int32) → ah_ext h87 h100 → ∀ h101 : ah_T, h101 = ah_wI h100 (ah_R h87 a0 8) 7 (ah_I h87 a0 4) → ah_ext h100 h101 → E (ah_R h87 a0 8) h101) ∧ ((ah_I h87 a0 3) = (1 : Int32) → ah_kd h87 (ah_R h87 a0 8) = 5 ∧ ∀ h103 : ah_T, h103 = ah_wI h87 (ah_R h87 a0 8) 6 (1 : Int32) → ah_ext h87 h103 → ∀ h104 : ah_T, h104 = ah_wI h103 (ah_R h87 a0 8) 7 (ah_I h87 a0 4) → ah_ext h103 h104 → E (ah_R h87 a0 8) h104)) ∧ ((ah_J h87 a0 6) = (41 : Int32).toInt64 → MX G mi_X5_next (d + 2) 0 [some (rv a0), none] [] h87 (Qv fun h105 => ah_ext h87 h105 → (1 ≤ ah_rc h105 ∧ 4 ≤ ah_rs h105) ∧ ∀ h108 : ah_T, h108 = ah_new h105 17 0 4 → ah_ext h105 h108 → ah_liv h105 → MX G mi_X19_init (d + 2) 0 [some (rv (ah_sz h105))] [] h108 (Qv fun h110 => ah_ext h108 h110 → MX G mi_X19_add (d + 2) 0 [some (rv (ah_sz h105)), some (iv (43 : Int32)), some (rv r88)] [] h110 (Qv fun h113 => ah_ext h110 h113 → Q (some (rv (ah_sz h105))) h113) E) E) E))) E) E))) : MX G mi_X5_atom (d + 3) 0 [some (rv a0), some (iv x1), none, none] [] h Q E := by
  refine mx_aload_n dX5_atom_0 rfl rfl ?_
  refine mx_bipush dX5_atom_1 ib_40 ?_
  refine mx_callV 5 (y' := mi_X5_is) (vs := [iv (40 : Int32)]) (st := []) (al' := [some (rv a0), some (iv (40 : Int32))]) cl_5 V_X5_is (Or.inl q1307) dX5_atom_3 rfl rfl (Nat.le_of_ble_eq_true rfl) (Nat.le_of_ble_eq_true rfl) (ly5_k La0_h) ?_
  refine mx_aload_n dX5_is_0 rfl rfl ?_
  refine mx_get 5 3 (ref := "PrairiePool$Reader") cl_5 (Nat.le_of_ble_eq_true rfl) (Or.inl q387) (Or.inl rfl) dX5_is_1 (fv_5_3 _ _) (ly5_k La0_h) ?_
  refine mx_iconst dX5_is_4 ic_4 ?_
  refine mx_icmp_ne (tgt := 22) dX5_is_5 rfl (fun c1 => ?_) (fun c1 => ?_)
  · have H := H.1 c1
    refine mx_iconst dX5_is_22 ic_0 ?_
    refine mx_zretK rfl dX5_is_23 (Or.inl rfl) ?_
    refine mx_if_eq (tgt := 52) dX5_atom_6 rfl (fun _ => ?_) (fun _ => absurd ‹_› (by decide))
    refine mx_aload_n dX5_atom_52 rfl rfl ?_
    refine mx_bipush dX5_atom_53 ib_6 ?_
    refine mx_callV 5 (y' := mi_X5_isKey) (vs := [iv (6 : Int32)]) (st := []) (al' := [some (rv a0), some (iv (6 : Int32))]) cl_5 V_X5_isKey (Or.inl q1315) dX5_atom_55 rfl rfl (Nat.le_of_ble_eq_true rfl) (Nat.le_of_ble_eq_true rfl) (ly5_k La0_h) ?_
    refine ma_ki H (fun r3 h2 Xh2 H => ?_) (fun x1 h1 X1 H => mt_out rfl H)
    have H := H Xh2
    have La0_h2 := La0_h.ext Xh2
    refine mx_if_ne (tgt := 70) dX5_atom_58 rfl (fun c4 => ?_) (fun c4 => ?_)
    · have H := H.1 c4
      refine mx_aload_n dX5_atom_70 rfl rfl ?_
      refine mx_iload_n dX5_atom_71 rfl rfl ?_
      refine mx_callV 5 (y' := mi_X5_few) (vs := [iv x1]) (st := []) (al' := [some (rv a0), some (iv x1), none, none, none]) cl_5 V_X5_few (Or.inl q1361) dX5_atom_72 rfl rfl (Nat.le_of_ble_eq_true rfl) (Nat.le_of_ble_eq_true rfl) (ly5_k La0_h2) ?_
      refine ma_kr H (fun r6 h5 Xh5 H => ?_) (fun x1 h1 X1 H => mt_out rfl H)
      have H := H Xh5
      have La0_h5 := La0_h2.ext Xh5
      exact mx_aret rfl (by first | exact Or.inl ⟨_, rfl⟩ | exact Or.inr ⟨_, rfl⟩) dX5_atom_75 H
    · have H := H.2 c4
      refine mx_aload_n dX5_atom_61 rfl rfl ?_
      refine mx_bipush dX5_atom_62 ib_7 ?_
      refine mx_callV 5 (y' := mi_X5_isKey) (vs := [iv (7 : Int32)]) (st := []) (al' := [some (rv a0), some (iv (7 : Int32))]) cl_5 V_X5_isKey (Or.inl q1315) dX5_atom_64 rfl rfl (Nat.le_of_ble_eq_true rfl) (Nat.le_of_ble_eq_true rfl) (ly5_k La0_h2) ?_
      refine ma_ki H (fun r8 h7 Xh7 H => ?_) (fun x1 h1 X1 H => mt_out rfl H)
      have H := H Xh7
      have La0_h7 := La0_h2.ext Xh7
      refine mx_if_eq (tgt := 76) dX5_atom_67 rfl (fun c9 => ?_) (fun c9 => ?_)
      · have H := H.1 c9
        refine mx_aload_n dX5_atom_76 rfl rfl ?_
        refine mx_get 5 3 (ref := "PrairiePool$Reader") cl_5 (Nat.le_of_ble_eq_true rfl) (Or.inl q387) (Or.inl rfl) dX5_atom_77 (fv_5_3 _ _) (ly5_k La0_h7) ?_
        refine mx_iconst dX5_atom_80 ic_2 ?_
        refine mx_icmp_ne (tgt := 183) dX5_atom_81 rfl (fun c10 => ?_) (fun c10 => ?_)
        · have H := H.1 c10
          exact mx_weak (al' := [some (rv a0), none, none, none]) ⟨rfl, trivial⟩ H
        · have H := H.2 c10
          refine mx_aload_n dX5_atom_84 rfl rfl ?_
          refine mx_ldcS (i := 0) rfl (Or.inl ⟨rfl, rfl⟩) dX5_atom_85 ?_
          refine mx_callV 5 (y' := mi_X5_in) (vs := [rv (ma_lit G 0)]) (st := []) (al' := [some (rv a0), some (rv (ma_lit G 0)), none, none, none]) cl_5 V_X5_in (Or.inl q1237) dX5_atom_87 rfl rfl (Nat.le_of_ble_eq_true rfl) (Nat.le_of_ble_eq_true rfl) (ly5_k La0_h7) ?_
          refine ma_ki H (fun r12 h11 Xh11 H => ?_) (fun x1 h1 X1 H => mt_out rfl H)
          have H := H Xh11
          have La0_h11 := La0_h7.ext Xh11
          refine mx_iconst dX5_atom_90 ic_m1 ?_
          refine mx_icmp_ne (tgt := 183) dX5_atom_91 rfl (fun c13 => ?_) (fun c13 => ?_)
          · have H := H.1 c13
            exact mx_weak (al' := [some (rv a0), none, none, none]) ⟨rfl, trivial⟩ H
          · have H := H.2 c13
            refine mx_aload_n dX5_atom_94 rfl rfl ?_
            refine mx_ldcS (i := 1) rfl (Or.inr ⟨rfl, rfl⟩) dX5_atom_95 ?_
            refine mx_callV 5 (y' := mi_X5_in) (vs := [rv (ma_lit G 1)]) (st := []) (al' := [some (rv a0), some (rv (ma_lit G 1)), none, none, none]) cl_5 V_X5_in (Or.inl q1237) dX5_atom_97 rfl rfl (Nat.le_of_ble_eq_true rfl) (Nat.le_of_ble_eq_true rfl) (ly5_k La0_h11) ?_
            refine ma_ki H (fun r15 h14 Xh14 H => ?_) (fun x1 h1 X1 H => mt_out rfl H)
            have H := H Xh14
            have La0_h14 := La0_h11.ext Xh14
            refine mx_istore_n (al' := [some (rv a0), some (iv x1), some (iv r15), none]) dX5_atom_100 rfl (Nat.le_of_ble_eq_true rfl) rfl ?_
            refine mx_iload_n dX5_atom_101 rfl rfl ?_
            refine mx_iconst dX5_atom_102 ic_m1 ?_
            refine mx_icmp_ne (tgt := 131) dX5_atom_103 rfl (fun c16 => ?_) (fun c16 => ?_)
            · have H := H.1 c16
              refine mx_iconst dX5_atom_131 ic_m1 ?_
              refine mx_istore_n (al' := [some (rv a0), some (iv x1), some (iv r15), some (iv (-1 : Int32))]) dX5_atom_132 rfl (Nat.le_of_ble_eq_true rfl) rfl ?_
              refine mx_iload_n dX5_atom_133 rfl rfl ?_
              refine mx_iconst dX5_atom_134 ic_m1 ?_
              refine mx_icmp_ne (tgt := 150) dX5_atom_135 rfl (fun _ => ?_) (fun q_ => absurd q_ c16)
              exact mx_weak (al' := [some (rv a0), none, some (iv r15), some (iv (-1 : Int32))]) ⟨rfl, ⟨rfl, ⟨rfl, trivial⟩⟩⟩ H
            · have H := H.2 c16
              refine mx_aload_n dX5_atom_106 rfl rfl ?_
              refine mx_callV 5 (y' := mi_X5_name) (vs := []) (st := []) (al' := [some (rv a0), none, none, none]) cl_5 V_X5_name (Or.inl q1231) dX5_atom_107 rfl rfl (Nat.le_of_ble_eq_true rfl) (Nat.le_of_ble_eq_true rfl) (ly5_k La0_h14) ?_
              refine ma_kl H (fun r18 h17 Xh17 H => ?_) (fun x1 h1 X1 H => mt_out rfl H)
              have H := H Xh17
              have La0_h17 := La0_h14.ext Xh17
              refine mx_ldc2 q1235 dX5_atom_110 ?_
              refine mx_lif_eq (tgt := 131) dX5_atom_113 dX5_atom_114 rfl (fun c19 => ?_) (fun c19 => ?_)
              · have H := H.1 c19
                refine mx_iconst dX5_atom_131 ic_m1 ?_
                refine mx_istore_n (al' := [some (rv a0), some (iv x1), some (iv r15), some (iv (-1 : Int32))]) dX5_atom_132 rfl (Nat.le_of_ble_eq_true rfl) rfl ?_
                refine mx_iload_n dX5_atom_133 rfl rfl ?_
                refine mx_iconst dX5_atom_134 ic_m1 ?_
                refine mx_icmp_ne (tgt := 150) dX5_atom_135 rfl (fun q_ => absurd c16 q_) (fun _ => ?_)
                refine mx_iload_n dX5_atom_138 rfl rfl ?_
                refine mx_iconst dX5_atom_139 ic_m1 ?_
                refine mx_icmp_ne (tgt := 150) dX5_atom_140 rfl (fun _ => absurd ‹_› (by decide)) (fun _ => ?_)
                refine mx_aload_n dX5_atom_143 rfl rfl ?_
                refine mx_bipush dX5_atom_144 ib_6 ?_
                refine mx_callV 5 (y' := mi_X5_fail) (vs := [iv (6 : Int32)]) (st := []) (al' := [some (rv a0), some (iv (6 : Int32))]) cl_5 V_X5_fail (Or.inl q1298) dX5_atom_146 rfl rfl (Nat.le_of_ble_eq_true rfl) (Nat.le_of_ble_eq_true rfl) (ly5_k La0_h17) ?_
                refine mx_aload_n dX5_fail_0 rfl rfl ?_
                refine mx_get 5 8 (ref := "PrairiePool$Reader") cl_5 (Nat.le_of_ble_eq_true rfl) (Or.inl q392) (Or.inl rfl) dX5_fail_1 (fv_5_8 _ _) (ly5_k La0_h17) ?_
                refine mx_aload_n dX5_fail_4 rfl rfl ?_
                refine mx_get 5 3 (ref := "PrairiePool$Reader") cl_5 (Nat.le_of_ble_eq_true rfl) (Or.inl q387) (Or.inl rfl) dX5_fail_5 (fv_5_3 _ _) (ly5_k La0_h17) ?_
                refine mx_iconst dX5_fail_8 ic_1 ?_
                refine mx_icmp_ne (tgt := 16) dX5_fail_9 rfl (fun c20 => ?_) (fun c20 => ?_)
                · have H := H.1 c20
                  refine mx_iload_n dX5_fail_16 rfl rfl ?_
                  refine mx_aload_n dX5_fail_17 rfl rfl ?_
                  refine mx_get 5 4 (ref := "PrairiePool$Reader") cl_5 (Nat.le_of_ble_eq_true rfl) (Or.inl q388) (Or.inl rfl) dX5_fail_18 (fv_5_4 _ _) (ly5_k La0_h17) ?_
                  obtain ⟨k21, H⟩ := H
                  refine mx_callV 4 (y' := mi_X4_of) (vs := [iv (6 : Int32), iv (ah_I h17 a0 4)]) (st := []) (al' := [some (rv (ah_R h17 a0 8)), some (iv (6 : Int32)), some (iv (ah_I h17 a0 4))]) cl_4 V_X4_of (Or.inl q1302) dX5_fail_21 rfl rfl (Nat.le_of_ble_eq_true rfl) (Nat.le_of_ble_eq_true rfl) k21 ?_
                  refine mx_aload_n dX4_of_0 rfl rfl ?_
                  refine mx_iload_n dX4_of_1 rfl rfl ?_
                  refine mx_putI 4 6 (ref := "PrairiePool$Wrong") cl_4 (Nat.le_of_ble_eq_true rfl) (Or.inl q356) (Or.inl rfl) dX4_of_2 (Or.inl rfl) rfl k21 ?_
                  refine mx_nmI  (fun h22 eh22 Xh22 Kh22 Lh22 => ?_)
                  have H := H h22 eh22 Xh22
                  have La0_h22 := La0_h17.ext Xh22
                  refine mx_aload_n dX4_of_5 rfl rfl ?_
                  refine mx_iload_n dX4_of_6 rfl rfl ?_
                  refine mx_putI 4 7 (ref := "PrairiePool$Wrong") cl_4 (Nat.le_of_ble_eq_true rfl) (Or.inl q358) (Or.inl rfl) dX4_of_7 (Or.inl rfl) rfl (ma_kde Kh22 (k21)) ?_
                  refine mx_nmI  (fun h23 eh23 Xh23 Kh23 Lh23 => ?_)
                  have H := H h23 eh23 Xh23
                  have Kh23 := Kh23.trans Kh22
                  have Lh23 := Lh23.trans Lh22
                  have La0_h23 := La0_h22.ext Xh23
                  refine mx_aload_n dX4_of_10 rfl rfl ?_
                  refine mx_aretK rfl (by first | exact Or.inl ⟨_, rfl⟩ | exact Or.inr ⟨_, rfl⟩) dX4_of_11 ?_
                  refine mx_aretK rfl (by first | exact Or.inl ⟨_, rfl⟩ | exact Or.inr ⟨_, rfl⟩) dX5_fail_24 ?_
                  exact mx_athrow dX5_atom_149 (by rw [(ma_kde Kh23 (k21))]; decide) (mt_out rfl H)
                · have H := H.2 c20
                  refine mx_iconst dX5_fail_12 ic_1 ?_
                  refine mx_goto (tgt := 17) dX5_fail_13 rfl ?_
                  refine mx_aload_n dX5_fail_17 rfl rfl ?_
                  refine mx_get 5 4 (ref := "PrairiePool$Reader") cl_5 (Nat.le_of_ble_eq_true rfl) (Or.inl q388) (Or.inl rfl) dX5_fail_18 (fv_5_4 _ _) (ly5_k La0_h17) ?_
                  obtain ⟨k24, H⟩ := H
                  refine mx_callV 4 (y' := mi_X4_of) (vs := [iv (1 : Int32), iv (ah_I h17 a0 4)]) (st := []) (al' := [some (rv (ah_R h17 a0 8)), some (iv (1 : Int32)), some (iv (ah_I h17 a0 4))]) cl_4 V_X4_of (Or.inl q1302) dX5_fail_21 rfl rfl (Nat.le_of_ble_eq_true rfl) (Nat.le_of_ble_eq_true rfl) k24 ?_
                  refine mx_aload_n dX4_of_0 rfl rfl ?_
                  refine mx_iload_n dX4_of_1 rfl rfl ?_
                  refine mx_putI 4 6 (ref := "PrairiePool$Wrong") cl_4 (Nat.le_of_ble_eq_true rfl) (Or.inl q356) (Or.inl rfl) dX4_of_2 (Or.inl rfl) rfl k24 ?_
                  refine mx_nmI  (fun h25 eh25 Xh25 Kh25 Lh25 => ?_)
                  have H := H h25 eh25 Xh25
                  have La0_h25 := La0_h17.ext Xh25
                  refine mx_aload_n dX4_of_5 rfl rfl ?_
                  refine mx_iload_n dX4_of_6 rfl rfl ?_
                  refine mx_putI 4 7 (ref := "PrairiePool$Wrong") cl_4 (Nat.le_of_ble_eq_true rfl) (Or.inl q358) (Or.inl rfl) dX4_of_7 (Or.inl rfl) rfl (ma_kde Kh25 (k24)) ?_
                  refine mx_nmI  (fun h26 eh26 Xh26 Kh26 Lh26 => ?_)
                  have H := H h26 eh26 Xh26
                  have Kh26 := Kh26.trans Kh25
                  have Lh26 := Lh26.trans Lh25
                  have La0_h26 := La0_h25.ext Xh26
                  refine mx_aload_n dX4_of_10 rfl rfl ?_
                  refine mx_aretK rfl (by first | exact Or.inl ⟨_, rfl⟩ | exact Or.inr ⟨_, rfl⟩) dX4_of_11 ?_
                  refine mx_aretK rfl (by first | exact Or.inl ⟨_, rfl⟩ | exact Or.inr ⟨_, rfl⟩) dX5_fail_24 ?_
                  exact mx_athrow dX5_atom_149 (by rw [(ma_kde Kh26 (k24))]; decide) (mt_out rfl H)
              · have H := H.2 c19
                refine mx_aload_n dX5_atom_117 rfl rfl ?_
                refine mx_get 5 7 (ref := "PrairiePool$Reader") cl_5 (Nat.le_of_ble_eq_true rfl) (Or.inl q391) (Or.inl rfl) dX5_atom_118 (fv_5_7 _ _) (ly5_k La0_h17) ?_
                refine mx_aload_n dX5_atom_121 rfl rfl ?_
                refine mx_callV 5 (y' := mi_X5_name) (vs := []) (st := [rv (ah_R h17 a0 7)]) (al' := [some (rv a0), none, none, none]) cl_5 V_X5_name (Or.inl q1231) dX5_atom_122 rfl rfl (Nat.le_of_ble_eq_true rfl) (Nat.le_of_ble_eq_true rfl) (ly5_k La0_h17) ?_
                refine ma_kl H (fun r28 h27 Xh27 H => ?_) (fun x1 h1 X1 H => mt_out rfl H)
                have H := H Xh27
                have La0_h27 := La0_h17.ext Xh27
                obtain ⟨k29, H⟩ := H
                refine mx_callV 15 (y' := mi_X17_find) (vs := [jv r28]) (st := []) (al' := [some (rv (ah_R h17 a0 7)), some (jv r28), none, none]) cl_15 V_X17_find (Or.inl q1306) dX5_atom_125 rfl rfl (Nat.le_of_ble_eq_true rfl) (Nat.le_of_ble_eq_true rfl) k29 ?_
                refine ma_ki H (fun r31 h30 Xh30 H => ?_) (fun x1 h1 X1 H => mt_out rfl H)
                have H := H Xh30
                have k32 := Xh30.kd (k29)
                have La0_h30 := La0_h27.ext Xh30
                refine mx_goto (tgt := 132) dX5_atom_128 rfl ?_
                refine mx_istore_n (al' := [some (rv a0), some (iv x1), some (iv r15), some (iv r31)]) dX5_atom_132 rfl (Nat.le_of_ble_eq_true rfl) rfl ?_
                refine mx_iload_n dX5_atom_133 rfl rfl ?_
                refine mx_iconst dX5_atom_134 ic_m1 ?_
                refine mx_icmp_ne (tgt := 150) dX5_atom_135 rfl (fun q_ => absurd c16 q_) (fun _ => ?_)
                refine mx_iload_n dX5_atom_138 rfl rfl ?_
                refine mx_iconst dX5_atom_139 ic_m1 ?_
                refine mx_icmp_ne (tgt := 150) dX5_atom_140 rfl (fun c33 => ?_) (fun c33 => ?_)
                · have H := H.1 c33
                  exact mx_weak (al' := [some (rv a0), none, some (iv r15), some (iv r31)]) ⟨rfl, ⟨rfl, ⟨rfl, trivial⟩⟩⟩ H
                · have H := H.2 c33
                  refine mx_aload_n dX5_atom_143 rfl rfl ?_
                  refine mx_bipush dX5_atom_144 ib_6 ?_
                  refine mx_callV 5 (y' := mi_X5_fail) (vs := [iv (6 : Int32)]) (st := []) (al' := [some (rv a0), some (iv (6 : Int32))]) cl_5 V_X5_fail (Or.inl q1298) dX5_atom_146 rfl rfl (Nat.le_of_ble_eq_true rfl) (Nat.le_of_ble_eq_true rfl) (ly5_k La0_h30) ?_
                  refine mx_aload_n dX5_fail_0 rfl rfl ?_
                  refine mx_get 5 8 (ref := "PrairiePool$Reader") cl_5 (Nat.le_of_ble_eq_true rfl) (Or.inl q392) (Or.inl rfl) dX5_fail_1 (fv_5_8 _ _) (ly5_k La0_h30) ?_
                  refine mx_aload_n dX5_fail_4 rfl rfl ?_
                  refine mx_get 5 3 (ref := "PrairiePool$Reader") cl_5 (Nat.le_of_ble_eq_true rfl) (Or.inl q387) (Or.inl rfl) dX5_fail_5 (fv_5_3 _ _) (ly5_k La0_h30) ?_
                  refine mx_iconst dX5_fail_8 ic_1 ?_
                  refine mx_icmp_ne (tgt := 16) dX5_fail_9 rfl (fun c34 => ?_) (fun c34 => ?_)
                  · have H := H.1 c34
                    refine mx_iload_n dX5_fail_16 rfl rfl ?_
                    refine mx_aload_n dX5_fail_17 rfl rfl ?_
                    refine mx_get 5 4 (ref := "PrairiePool$Reader") cl_5 (Nat.le_of_ble_eq_true rfl) (Or.inl q388) (Or.inl rfl) dX5_fail_18 (fv_5_4 _ _) (ly5_k La0_h30) ?_
                    obtain ⟨k35, H⟩ := H
                    refine mx_callV 4 (y' := mi_X4_of) (vs := [iv (6 : Int32), iv (ah_I h30 a0 4)]) (st := []) (al' := [some (rv (ah_R h30 a0 8)), some (iv (6 : Int32)), some (iv (ah_I h30 a0 4))]) cl_4 V_X4_of (Or.inl q1302) dX5_fail_21 rfl rfl (Nat.le_of_ble_eq_true rfl) (Nat.le_of_ble_eq_true rfl) k35 ?_
                    refine mx_aload_n dX4_of_0 rfl rfl ?_
                    refine mx_iload_n dX4_of_1 rfl rfl ?_
                    refine mx_putI 4 6 (ref := "PrairiePool$Wrong") cl_4 (Nat.le_of_ble_eq_true rfl) (Or.inl q356) (Or.inl rfl) dX4_of_2 (Or.inl rfl) rfl k35 ?_
                    refine mx_nmI  (fun h36 eh36 Xh36 Kh36 Lh36 => ?_)
                    have H := H h36 eh36 Xh36
                    have La0_h36 := La0_h30.ext Xh36
                    refine mx_aload_n dX4_of_5 rfl rfl ?_
                    refine mx_iload_n dX4_of_6 rfl rfl ?_
                    refine mx_putI 4 7 (ref := "PrairiePool$Wrong") cl_4 (Nat.le_of_ble_eq_true rfl) (Or.inl q358) (Or.inl rfl) dX4_of_7 (Or.inl rfl) rfl (ma_kde Kh36 (k35)) ?_
                    refine mx_nmI  (fun h37 eh37 Xh37 Kh37 Lh37 => ?_)
                    have H := H h37 eh37 Xh37
                    have Kh37 := Kh37.trans Kh36
                    have Lh37 := Lh37.trans Lh36
                    have La0_h37 := La0_h36.ext Xh37
                    refine mx_aload_n dX4_of_10 rfl rfl ?_
                    refine mx_aretK rfl (by first | exact Or.inl ⟨_, rfl⟩ | exact Or.inr ⟨_, rfl⟩) dX4_of_11 ?_
                    refine mx_aretK rfl (by first | exact Or.inl ⟨_, rfl⟩ | exact Or.inr ⟨_, rfl⟩) dX5_fail_24 ?_
                    exact mx_athrow dX5_atom_149 (by rw [(ma_kde Kh37 (k35))]; decide) (mt_out rfl H)
                  · have H := H.2 c34
                    refine mx_iconst dX5_fail_12 ic_1 ?_
                    refine mx_goto (tgt := 17) dX5_fail_13 rfl ?_
                    refine mx_aload_n dX5_fail_17 rfl rfl ?_
                    refine mx_get 5 4 (ref := "PrairiePool$Reader") cl_5 (Nat.le_of_ble_eq_true rfl) (Or.inl q388) (Or.inl rfl) dX5_fail_18 (fv_5_4 _ _) (ly5_k La0_h30) ?_
                    obtain ⟨k38, H⟩ := H
                    refine mx_callV 4 (y' := mi_X4_of) (vs := [iv (1 : Int32), iv (ah_I h30 a0 4)]) (st := []) (al' := [some (rv (ah_R h30 a0 8)), some (iv (1 : Int32)), some (iv (ah_I h30 a0 4))]) cl_4 V_X4_of (Or.inl q1302) dX5_fail_21 rfl rfl (Nat.le_of_ble_eq_true rfl) (Nat.le_of_ble_eq_true rfl) k38 ?_
                    refine mx_aload_n dX4_of_0 rfl rfl ?_
                    refine mx_iload_n dX4_of_1 rfl rfl ?_
                    refine mx_putI 4 6 (ref := "PrairiePool$Wrong") cl_4 (Nat.le_of_ble_eq_true rfl) (Or.inl q356) (Or.inl rfl) dX4_of_2 (Or.inl rfl) rfl k38 ?_
                    refine mx_nmI  (fun h39 eh39 Xh39 Kh39 Lh39 => ?_)
                    have H := H h39 eh39 Xh39
                    have La0_h39 := La0_h30.ext Xh39
                    refine mx_aload_n dX4_of_5 rfl rfl ?_
                    refine mx_iload_n dX4_of_6 rfl rfl ?_
                    refine mx_putI 4 7 (ref := "PrairiePool$Wrong") cl_4 (Nat.le_of_ble_eq_true rfl) (Or.inl q358) (Or.inl rfl) dX4_of_7 (Or.inl rfl) rfl (ma_kde Kh39 (k38)) ?_
                    refine mx_nmI  (fun h40 eh40 Xh40 Kh40 Lh40 => ?_)
                    have H := H h40 eh40 Xh40
                    have Kh40 := Kh40.trans Kh39
                    have Lh40 := Lh40.trans Lh39
                    have La0_h40 := La0_h39.ext Xh40
                    refine mx_aload_n dX4_of_10 rfl rfl ?_
                    refine mx_aretK rfl (by first | exact Or.inl ⟨_, rfl⟩ | exact Or.inr ⟨_, rfl⟩) dX4_of_11 ?_
                    refine mx_aretK rfl (by first | exact Or.inl ⟨_, rfl⟩ | exact Or.inr ⟨_, rfl⟩) dX5_fail_24 ?_
                    exact mx_athrow dX5_atom_149 (by rw [(ma_kde Kh40 (k38))]; decide) (mt_out rfl H)
      · have H := H.2 c9
        refine mx_aload_n dX5_atom_70 rfl rfl ?_
        refine mx_iload_n dX5_atom_71 rfl rfl ?_
        refine mx_callV 5 (y' := mi_X5_few) (vs := [iv x1]) (st := []) (al' := [some (rv a0), some (iv x1), none, none, none]) cl_5 V_X5_few (Or.inl q1361) dX5_atom_72 rfl rfl (Nat.le_of_ble_eq_true rfl) (Nat.le_of_ble_eq_true rfl) (ly5_k La0_h7) ?_
        refine ma_kr H (fun r42 h41 Xh41 H => ?_) (fun x1 h1 X1 H => mt_out rfl H)
        have H := H Xh41
        have La0_h41 := La0_h7.ext Xh41
        exact mx_aret rfl (by first | exact Or.inl ⟨_, rfl⟩ | exact Or.inr ⟨_, rfl⟩) dX5_atom_75 H
  · have H := H.2 c1
    refine mx_aload_n dX5_is_8 rfl rfl ?_
    refine mx_get 5 6 (ref := "PrairiePool$Reader") cl_5 (Nat.le_of_ble_eq_true rfl) (Or.inl q390) (Or.inl rfl) dX5_is_9 (fv_5_6 _ _) (ly5_k La0_h) ?_
    refine mx_iload_n dX5_is_12 rfl rfl ?_
    refine mx_i2l dX5_is_13 ?_
    refine mx_lif_ne (tgt := 22) dX5_is_14 dX5_is_15 rfl (fun c43 => ?_) (fun c43 => ?_)
    · have H := H.1 c43
      refine mx_iconst dX5_is_22 ic_0 ?_
      refine mx_zretK rfl dX5_is_23 (Or.inl rfl) ?_
      refine mx_if_eq (tgt := 52) dX5_atom_6 rfl (fun _ => ?_) (fun _ => absurd ‹_› (by decide))
      refine mx_aload_n dX5_atom_52 rfl rfl ?_
      refine mx_bipush dX5_atom_53 ib_6 ?_
      refine mx_callV 5 (y' := mi_X5_isKey) (vs := [iv (6 : Int32)]) (st := []) (al' := [some (rv a0), some (iv (6 : Int32))]) cl_5 V_X5_isKey (Or.inl q1315) dX5_atom_55 rfl rfl (Nat.le_of_ble_eq_true rfl) (Nat.le_of_ble_eq_true rfl) (ly5_k La0_h) ?_
      refine ma_ki H (fun r45 h44 Xh44 H => ?_) (fun x1 h1 X1 H => mt_out rfl H)
      have H := H Xh44
      have La0_h44 := La0_h.ext Xh44
      refine mx_if_ne (tgt := 70) dX5_atom_58 rfl (fun c46 => ?_) (fun c46 => ?_)
      · have H := H.1 c46
        refine mx_aload_n dX5_atom_70 rfl rfl ?_
        refine mx_iload_n dX5_atom_71 rfl rfl ?_
        refine mx_callV 5 (y' := mi_X5_few) (vs := [iv x1]) (st := []) (al' := [some (rv a0), some (iv x1), none, none, none]) cl_5 V_X5_few (Or.inl q1361) dX5_atom_72 rfl rfl (Nat.le_of_ble_eq_true rfl) (Nat.le_of_ble_eq_true rfl) (ly5_k La0_h44) ?_
        refine ma_kr H (fun r48 h47 Xh47 H => ?_) (fun x1 h1 X1 H => mt_out rfl H)
        have H := H Xh47
        have La0_h47 := La0_h44.ext Xh47
        exact mx_aret rfl (by first | exact Or.inl ⟨_, rfl⟩ | exact Or.inr ⟨_, rfl⟩) dX5_atom_75 H
      · have H := H.2 c46
        refine mx_aload_n dX5_atom_61 rfl rfl ?_
        refine mx_bipush dX5_atom_62 ib_7 ?_
        refine mx_callV 5 (y' := mi_X5_isKey) (vs := [iv (7 : Int32)]) (st := []) (al' := [some (rv a0), some (iv (7 : Int32))]) cl_5 V_X5_isKey (Or.inl q1315) dX5_atom_64 rfl rfl (Nat.le_of_ble_eq_true rfl) (Nat.le_of_ble_eq_true rfl) (ly5_k La0_h44) ?_
        refine ma_ki H (fun r50 h49 Xh49 H => ?_) (fun x1 h1 X1 H => mt_out rfl H)
        have H := H Xh49
        have La0_h49 := La0_h44.ext Xh49
        refine mx_if_eq (tgt := 76) dX5_atom_67 rfl (fun c51 => ?_) (fun c51 => ?_)
        · have H := H.1 c51
          refine mx_aload_n dX5_atom_76 rfl rfl ?_
          refine mx_get 5 3 (ref := "PrairiePool$Reader") cl_5 (Nat.le_of_ble_eq_true rfl) (Or.inl q387) (Or.inl rfl) dX5_atom_77 (fv_5_3 _ _) (ly5_k La0_h49) ?_
          refine mx_iconst dX5_atom_80 ic_2 ?_
          refine mx_icmp_ne (tgt := 183) dX5_atom_81 rfl (fun c52 => ?_) (fun c52 => ?_)
          · have H := H.1 c52
            exact mx_weak (al' := [some (rv a0), none, none, none]) ⟨rfl, trivial⟩ H
          · have H := H.2 c52
            refine mx_aload_n dX5_atom_84 rfl rfl ?_
            refine mx_ldcS (i := 0) rfl (Or.inl ⟨rfl, rfl⟩) dX5_atom_85 ?_
            refine mx_callV 5 (y' := mi_X5_in) (vs := [rv (ma_lit G 0)]) (st := []) (al' := [some (rv a0), some (rv (ma_lit G 0)), none, none, none]) cl_5 V_X5_in (Or.inl q1237) dX5_atom_87 rfl rfl (Nat.le_of_ble_eq_true rfl) (Nat.le_of_ble_eq_true rfl) (ly5_k La0_h49) ?_
            refine ma_ki H (fun r54 h53 Xh53 H => ?_) (fun x1 h1 X1 H => mt_out rfl H)
            have H := H Xh53
            have La0_h53 := La0_h49.ext Xh53
            refine mx_iconst dX5_atom_90 ic_m1 ?_
            refine mx_icmp_ne (tgt := 183) dX5_atom_91 rfl (fun c55 => ?_) (fun c55 => ?_)
            · have H := H.1 c55
              exact mx_weak (al' := [some (rv a0), none, none, none]) ⟨rfl, trivial⟩ H
            · have H := H.2 c55
              refine mx_aload_n dX5_atom_94 rfl rfl ?_
              refine mx_ldcS (i := 1) rfl (Or.inr ⟨rfl, rfl⟩) dX5_atom_95 ?_
              refine mx_callV 5 (y' := mi_X5_in) (vs := [rv (ma_lit G 1)]) (st := []) (al' := [some (rv a0), some (rv (ma_lit G 1)), none, none, none]) cl_5 V_X5_in (Or.inl q1237) dX5_atom_97 rfl rfl (Nat.le_of_ble_eq_true rfl) (Nat.le_of_ble_eq_true rfl) (ly5_k La0_h53) ?_
              refine ma_ki H (fun r57 h56 Xh56 H => ?_) (fun x1 h1 X1 H => mt_out rfl H)
              have H := H Xh56
              have La0_h56 := La0_h53.ext Xh56
              refine mx_istore_n (al' := [some (rv a0), some (iv x1), some (iv r57), none]) dX5_atom_100 rfl (Nat.le_of_ble_eq_true rfl) rfl ?_
              refine mx_iload_n dX5_atom_101 rfl rfl ?_
              refine mx_iconst dX5_atom_102 ic_m1 ?_
              refine mx_icmp_ne (tgt := 131) dX5_atom_103 rfl (fun c58 => ?_) (fun c58 => ?_)
              · have H := H.1 c58
                refine mx_iconst dX5_atom_131 ic_m1 ?_
                refine mx_istore_n (al' := [some (rv a0), some (iv x1), some (iv r57), some (iv (-1 : Int32))]) dX5_atom_132 rfl (Nat.le_of_ble_eq_true rfl) rfl ?_
                refine mx_iload_n dX5_atom_133 rfl rfl ?_
                refine mx_iconst dX5_atom_134 ic_m1 ?_
                refine mx_icmp_ne (tgt := 150) dX5_atom_135 rfl (fun _ => ?_) (fun q_ => absurd q_ c58)
                exact mx_weak (al' := [some (rv a0), none, some (iv r57), some (iv (-1 : Int32))]) ⟨rfl, ⟨rfl, ⟨rfl, trivial⟩⟩⟩ H
              · have H := H.2 c58
                refine mx_aload_n dX5_atom_106 rfl rfl ?_
                refine mx_callV 5 (y' := mi_X5_name) (vs := []) (st := []) (al' := [some (rv a0), none, none, none]) cl_5 V_X5_name (Or.inl q1231) dX5_atom_107 rfl rfl (Nat.le_of_ble_eq_true rfl) (Nat.le_of_ble_eq_true rfl) (ly5_k La0_h56) ?_
                refine ma_kl H (fun r60 h59 Xh59 H => ?_) (fun x1 h1 X1 H => mt_out rfl H)
                have H := H Xh59
                have La0_h59 := La0_h56.ext Xh59
                refine mx_ldc2 q1235 dX5_atom_110 ?_
                refine mx_lif_eq (tgt := 131) dX5_atom_113 dX5_atom_114 rfl (fun c61 => ?_) (fun c61 => ?_)
                · have H := H.1 c61
                  refine mx_iconst dX5_atom_131 ic_m1 ?_
                  refine mx_istore_n (al' := [some (rv a0), some (iv x1), some (iv r57), some (iv (-1 : Int32))]) dX5_atom_132 rfl (Nat.le_of_ble_eq_true rfl) rfl ?_
                  refine mx_iload_n dX5_atom_133 rfl rfl ?_
                  refine mx_iconst dX5_atom_134 ic_m1 ?_
                  refine mx_icmp_ne (tgt := 150) dX5_atom_135 rfl (fun q_ => absurd c58 q_) (fun _ => ?_)
                  refine mx_iload_n dX5_atom_138 rfl rfl ?_
                  refine mx_iconst dX5_atom_139 ic_m1 ?_
                  refine mx_icmp_ne (tgt := 150) dX5_atom_140 rfl (fun _ => absurd ‹_› (by decide)) (fun _ => ?_)
                  refine mx_aload_n dX5_atom_143 rfl rfl ?_
                  refine mx_bipush dX5_atom_144 ib_6 ?_
                  refine mx_callV 5 (y' := mi_X5_fail) (vs := [iv (6 : Int32)]) (st := []) (al' := [some (rv a0), some (iv (6 : Int32))]) cl_5 V_X5_fail (Or.inl q1298) dX5_atom_146 rfl rfl (Nat.le_of_ble_eq_true rfl) (Nat.le_of_ble_eq_true rfl) (ly5_k La0_h59) ?_
                  refine mx_aload_n dX5_fail_0 rfl rfl ?_
                  refine mx_get 5 8 (ref := "PrairiePool$Reader") cl_5 (Nat.le_of_ble_eq_true rfl) (Or.inl q392) (Or.inl rfl) dX5_fail_1 (fv_5_8 _ _) (ly5_k La0_h59) ?_
                  refine mx_aload_n dX5_fail_4 rfl rfl ?_
                  refine mx_get 5 3 (ref := "PrairiePool$Reader") cl_5 (Nat.le_of_ble_eq_true rfl) (Or.inl q387) (Or.inl rfl) dX5_fail_5 (fv_5_3 _ _) (ly5_k La0_h59) ?_
                  refine mx_iconst dX5_fail_8 ic_1 ?_
                  refine mx_icmp_ne (tgt := 16) dX5_fail_9 rfl (fun c62 => ?_) (fun c62 => ?_)
                  · have H := H.1 c62
                    refine mx_iload_n dX5_fail_16 rfl rfl ?_
                    refine mx_aload_n dX5_fail_17 rfl rfl ?_
                    refine mx_get 5 4 (ref := "PrairiePool$Reader") cl_5 (Nat.le_of_ble_eq_true rfl) (Or.inl q388) (Or.inl rfl) dX5_fail_18 (fv_5_4 _ _) (ly5_k La0_h59) ?_
                    obtain ⟨k63, H⟩ := H
                    refine mx_callV 4 (y' := mi_X4_of) (vs := [iv (6 : Int32), iv (ah_I h59 a0 4)]) (st := []) (al' := [some (rv (ah_R h59 a0 8)), some (iv (6 : Int32)), some (iv (ah_I h59 a0 4))]) cl_4 V_X4_of (Or.inl q1302) dX5_fail_21 rfl rfl (Nat.le_of_ble_eq_true rfl) (Nat.le_of_ble_eq_true rfl) k63 ?_
                    refine mx_aload_n dX4_of_0 rfl rfl ?_
                    refine mx_iload_n dX4_of_1 rfl rfl ?_
                    refine mx_putI 4 6 (ref := "PrairiePool$Wrong") cl_4 (Nat.le_of_ble_eq_true rfl) (Or.inl q356) (Or.inl rfl) dX4_of_2 (Or.inl rfl) rfl k63 ?_
                    refine mx_nmI  (fun h64 eh64 Xh64 Kh64 Lh64 => ?_)
                    have H := H h64 eh64 Xh64
                    have La0_h64 := La0_h59.ext Xh64
                    refine mx_aload_n dX4_of_5 rfl rfl ?_
                    refine mx_iload_n dX4_of_6 rfl rfl ?_
                    refine mx_putI 4 7 (ref := "PrairiePool$Wrong") cl_4 (Nat.le_of_ble_eq_true rfl) (Or.inl q358) (Or.inl rfl) dX4_of_7 (Or.inl rfl) rfl (ma_kde Kh64 (k63)) ?_
                    refine mx_nmI  (fun h65 eh65 Xh65 Kh65 Lh65 => ?_)
                    have H := H h65 eh65 Xh65
                    have Kh65 := Kh65.trans Kh64
                    have Lh65 := Lh65.trans Lh64
                    have La0_h65 := La0_h64.ext Xh65
                    refine mx_aload_n dX4_of_10 rfl rfl ?_
                    refine mx_aretK rfl (by first | exact Or.inl ⟨_, rfl⟩ | exact Or.inr ⟨_, rfl⟩) dX4_of_11 ?_
                    refine mx_aretK rfl (by first | exact Or.inl ⟨_, rfl⟩ | exact Or.inr ⟨_, rfl⟩) dX5_fail_24 ?_
                    exact mx_athrow dX5_atom_149 (by rw [(ma_kde Kh65 (k63))]; decide) (mt_out rfl H)
                  · have H := H.2 c62
                    refine mx_iconst dX5_fail_12 ic_1 ?_
                    refine mx_goto (tgt := 17) dX5_fail_13 rfl ?_
                    refine mx_aload_n dX5_fail_17 rfl rfl ?_
                    refine mx_get 5 4 (ref := "PrairiePool$Reader") cl_5 (Nat.le_of_ble_eq_true rfl) (Or.inl q388) (Or.inl rfl) dX5_fail_18 (fv_5_4 _ _) (ly5_k La0_h59) ?_
                    obtain ⟨k66, H⟩ := H
                    refine mx_callV 4 (y' := mi_X4_of) (vs := [iv (1 : Int32), iv (ah_I h59 a0 4)]) (st := []) (al' := [some (rv (ah_R h59 a0 8)), some (iv (1 : Int32)), some (iv (ah_I h59 a0 4))]) cl_4 V_X4_of (Or.inl q1302) dX5_fail_21 rfl rfl (Nat.le_of_ble_eq_true rfl) (Nat.le_of_ble_eq_true rfl) k66 ?_
                    refine mx_aload_n dX4_of_0 rfl rfl ?_
                    refine mx_iload_n dX4_of_1 rfl rfl ?_
                    refine mx_putI 4 6 (ref := "PrairiePool$Wrong") cl_4 (Nat.le_of_ble_eq_true rfl) (Or.inl q356) (Or.inl rfl) dX4_of_2 (Or.inl rfl) rfl k66 ?_
                    refine mx_nmI  (fun h67 eh67 Xh67 Kh67 Lh67 => ?_)
                    have H := H h67 eh67 Xh67
                    have La0_h67 := La0_h59.ext Xh67
                    refine mx_aload_n dX4_of_5 rfl rfl ?_
                    refine mx_iload_n dX4_of_6 rfl rfl ?_
                    refine mx_putI 4 7 (ref := "PrairiePool$Wrong") cl_4 (Nat.le_of_ble_eq_true rfl) (Or.inl q358) (Or.inl rfl) dX4_of_7 (Or.inl rfl) rfl (ma_kde Kh67 (k66)) ?_
                    refine mx_nmI  (fun h68 eh68 Xh68 Kh68 Lh68 => ?_)
                    have H := H h68 eh68 Xh68
                    have Kh68 := Kh68.trans Kh67
                    have Lh68 := Lh68.trans Lh67
                    have La0_h68 := La0_h67.ext Xh68
                    refine mx_aload_n dX4_of_10 rfl rfl ?_
                    refine mx_aretK rfl (by first | exact Or.inl ⟨_, rfl⟩ | exact Or.inr ⟨_, rfl⟩) dX4_of_11 ?_
                    refine mx_aretK rfl (by first | exact Or.inl ⟨_, rfl⟩ | exact Or.inr ⟨_, rfl⟩) dX5_fail_24 ?_
                    exact mx_athrow dX5_atom_149 (by rw [(ma_kde Kh68 (k66))]; decide) (mt_out rfl H)
                · have H := H.2 c61
                  refine mx_aload_n dX5_atom_117 rfl rfl ?_
                  refine mx_get 5 7 (ref := "PrairiePool$Reader") cl_5 (Nat.le_of_ble_eq_true rfl) (Or.inl q391) (Or.inl rfl) dX5_atom_118 (fv_5_7 _ _) (ly5_k La0_h59) ?_
                  refine mx_aload_n dX5_atom_121 rfl rfl ?_
                  refine mx_callV 5 (y' := mi_X5_name) (vs := []) (st := [rv (ah_R h59 a0 7)]) (al' := [some (rv a0), none, none, none]) cl_5 V_X5_name (Or.inl q1231) dX5_atom_122 rfl rfl (Nat.le_of_ble_eq_true rfl) (Nat.le_of_ble_eq_true rfl) (ly5_k La0_h59) ?_
                  refine ma_kl H (fun r70 h69 Xh69 H => ?_) (fun x1 h1 X1 H => mt_out rfl H)
                  have H := H Xh69
                  have La0_h69 := La0_h59.ext Xh69
                  obtain ⟨k71, H⟩ := H
                  refine mx_callV 15 (y' := mi_X17_find) (vs := [jv r70]) (st := []) (al' := [some (rv (ah_R h59 a0 7)), some (jv r70), none, none]) cl_15 V_X17_find (Or.inl q1306) dX5_atom_125 rfl rfl (Nat.le_of_ble_eq_true rfl) (Nat.le_of_ble_eq_true rfl) k71 ?_
                  refine ma_ki H (fun r73 h72 Xh72 H => ?_) (fun x1 h1 X1 H => mt_out rfl H)
                  have H := H Xh72
                  have k74 := Xh72.kd (k71)
                  have La0_h72 := La0_h69.ext Xh72
                  refine mx_goto (tgt := 132) dX5_atom_128 rfl ?_
                  refine mx_istore_n (al' := [some (rv a0), some (iv x1), some (iv r57), some (iv r73)]) dX5_atom_132 rfl (Nat.le_of_ble_eq_true rfl) rfl ?_
                  refine mx_iload_n dX5_atom_133 rfl rfl ?_
                  refine mx_iconst dX5_atom_134 ic_m1 ?_
                  refine mx_icmp_ne (tgt := 150) dX5_atom_135 rfl (fun q_ => absurd c58 q_) (fun _ => ?_)
                  refine mx_iload_n dX5_atom_138 rfl rfl ?_
                  refine mx_iconst dX5_atom_139 ic_m1 ?_
                  refine mx_icmp_ne (tgt := 150) dX5_atom_140 rfl (fun c75 => ?_) (fun c75 => ?_)
                  · have H := H.1 c75
                    exact mx_weak (al' := [some (rv a0), none, some (iv r57), some (iv r73)]) ⟨rfl, ⟨rfl, ⟨rfl, trivial⟩⟩⟩ H
                  · have H := H.2 c75
                    refine mx_aload_n dX5_atom_143 rfl rfl ?_
                    refine mx_bipush dX5_atom_144 ib_6 ?_
                    refine mx_callV 5 (y' := mi_X5_fail) (vs := [iv (6 : Int32)]) (st := []) (al' := [some (rv a0), some (iv (6 : Int32))]) cl_5 V_X5_fail (Or.inl q1298) dX5_atom_146 rfl rfl (Nat.le_of_ble_eq_true rfl) (Nat.le_of_ble_eq_true rfl) (ly5_k La0_h72) ?_
                    refine mx_aload_n dX5_fail_0 rfl rfl ?_
                    refine mx_get 5 8 (ref := "PrairiePool$Reader") cl_5 (Nat.le_of_ble_eq_true rfl) (Or.inl q392) (Or.inl rfl) dX5_fail_1 (fv_5_8 _ _) (ly5_k La0_h72) ?_
                    refine mx_aload_n dX5_fail_4 rfl rfl ?_
                    refine mx_get 5 3 (ref := "PrairiePool$Reader") cl_5 (Nat.le_of_ble_eq_true rfl) (Or.inl q387) (Or.inl rfl) dX5_fail_5 (fv_5_3 _ _) (ly5_k La0_h72) ?_
                    refine mx_iconst dX5_fail_8 ic_1 ?_
                    refine mx_icmp_ne (tgt := 16) dX5_fail_9 rfl (fun c76 => ?_) (fun c76 => ?_)
                    · have H := H.1 c76
                      refine mx_iload_n dX5_fail_16 rfl rfl ?_
                      refine mx_aload_n dX5_fail_17 rfl rfl ?_
                      refine mx_get 5 4 (ref := "PrairiePool$Reader") cl_5 (Nat.le_of_ble_eq_true rfl) (Or.inl q388) (Or.inl rfl) dX5_fail_18 (fv_5_4 _ _) (ly5_k La0_h72) ?_
                      obtain ⟨k77, H⟩ := H
                      refine mx_callV 4 (y' := mi_X4_of) (vs := [iv (6 : Int32), iv (ah_I h72 a0 4)]) (st := []) (al' := [some (rv (ah_R h72 a0 8)), some (iv (6 : Int32)), some (iv (ah_I h72 a0 4))]) cl_4 V_X4_of (Or.inl q1302) dX5_fail_21 rfl rfl (Nat.le_of_ble_eq_true rfl) (Nat.le_of_ble_eq_true rfl) k77 ?_
                      refine mx_aload_n dX4_of_0 rfl rfl ?_
                      refine mx_iload_n dX4_of_1 rfl rfl ?_
                      refine mx_putI 4 6 (ref := "PrairiePool$Wrong") cl_4 (Nat.le_of_ble_eq_true rfl) (Or.inl q356) (Or.inl rfl) dX4_of_2 (Or.inl rfl) rfl k77 ?_
                      refine mx_nmI  (fun h78 eh78 Xh78 Kh78 Lh78 => ?_)
                      have H := H h78 eh78 Xh78
                      have La0_h78 := La0_h72.ext Xh78
                      refine mx_aload_n dX4_of_5 rfl rfl ?_
                      refine mx_iload_n dX4_of_6 rfl rfl ?_
                      refine mx_putI 4 7 (ref := "PrairiePool$Wrong") cl_4 (Nat.le_of_ble_eq_true rfl) (Or.inl q358) (Or.inl rfl) dX4_of_7 (Or.inl rfl) rfl (ma_kde Kh78 (k77)) ?_
                      refine mx_nmI  (fun h79 eh79 Xh79 Kh79 Lh79 => ?_)
                      have H := H h79 eh79 Xh79
                      have Kh79 := Kh79.trans Kh78
                      have Lh79 := Lh79.trans Lh78
                      have La0_h79 := La0_h78.ext Xh79
                      refine mx_aload_n dX4_of_10 rfl rfl ?_
                      refine mx_aretK rfl (by first | exact Or.inl ⟨_, rfl⟩ | exact Or.inr ⟨_, rfl⟩) dX4_of_11 ?_
                      refine mx_aretK rfl (by first | exact Or.inl ⟨_, rfl⟩ | exact Or.inr ⟨_, rfl⟩) dX5_fail_24 ?_
                      exact mx_athrow dX5_atom_149 (by rw [(ma_kde Kh79 (k77))]; decide) (mt_out rfl H)
                    · have H := H.2 c76
                      refine mx_iconst dX5_fail_12 ic_1 ?_
                      refine mx_goto (tgt := 17) dX5_fail_13 rfl ?_
                      refine mx_aload_n dX5_fail_17 rfl rfl ?_
                      refine mx_get 5 4 (ref := "PrairiePool$Reader") cl_5 (Nat.le_of_ble_eq_true rfl) (Or.inl q388) (Or.inl rfl) dX5_fail_18 (fv_5_4 _ _) (ly5_k La0_h72) ?_
                      obtain ⟨k80, H⟩ := H
                      refine mx_callV 4 (y' := mi_X4_of) (vs := [iv (1 : Int32), iv (ah_I h72 a0 4)]) (st := []) (al' := [some (rv (ah_R h72 a0 8)), some (iv (1 : Int32)), some (iv (ah_I h72 a0 4))]) cl_4 V_X4_of (Or.inl q1302) dX5_fail_21 rfl rfl (Nat.le_of_ble_eq_true rfl) (Nat.le_of_ble_eq_true rfl) k80 ?_
                      refine mx_aload_n dX4_of_0 rfl rfl ?_
                      refine mx_iload_n dX4_of_1 rfl rfl ?_
                      refine mx_putI 4 6 (ref := "PrairiePool$Wrong") cl_4 (Nat.le_of_ble_eq_true rfl) (Or.inl q356) (Or.inl rfl) dX4_of_2 (Or.inl rfl) rfl k80 ?_
                      refine mx_nmI  (fun h81 eh81 Xh81 Kh81 Lh81 => ?_)
                      have H := H h81 eh81 Xh81
                      have La0_h81 := La0_h72.ext Xh81
                      refine mx_aload_n dX4_of_5 rfl rfl ?_
                      refine mx_iload_n dX4_of_6 rfl rfl ?_
                      refine mx_putI 4 7 (ref := "PrairiePool$Wrong") cl_4 (Nat.le_of_ble_eq_true rfl) (Or.inl q358) (Or.inl rfl) dX4_of_7 (Or.inl rfl) rfl (ma_kde Kh81 (k80)) ?_
                      refine mx_nmI  (fun h82 eh82 Xh82 Kh82 Lh82 => ?_)
                      have H := H h82 eh82 Xh82
                      have Kh82 := Kh82.trans Kh81
                      have Lh82 := Lh82.trans Lh81
                      have La0_h82 := La0_h81.ext Xh82
                      refine mx_aload_n dX4_of_10 rfl rfl ?_
                      refine mx_aretK rfl (by first | exact Or.inl ⟨_, rfl⟩ | exact Or.inr ⟨_, rfl⟩) dX4_of_11 ?_
                      refine mx_aretK rfl (by first | exact Or.inl ⟨_, rfl⟩ | exact Or.inr ⟨_, rfl⟩) dX5_fail_24 ?_
                      exact mx_athrow dX5_atom_149 (by rw [(ma_kde Kh82 (k80))]; decide) (mt_out rfl H)
        · have H := H.2 c51
          refine mx_aload_n dX5_atom_70 rfl rfl ?_
          refine mx_iload_n dX5_atom_71 rfl rfl ?_
          refine mx_callV 5 (y' := mi_X5_few) (vs := [iv x1]) (st := []) (al' := [some (rv a0), some (iv x1), none, none, none]) cl_5 V_X5_few (Or.inl q1361) dX5_atom_72 rfl rfl (Nat.le_of_ble_eq_true rfl) (Nat.le_of_ble_eq_true rfl) (ly5_k La0_h49) ?_
          refine ma_kr H (fun r84 h83 Xh83 H => ?_) (fun x1 h1 X1 H => mt_out rfl H)
          have H := H Xh83
          have La0_h83 := La0_h49.ext Xh83
          exact mx_aret rfl (by first | exact Or.inl ⟨_, rfl⟩ | exact Or.inr ⟨_, rfl⟩) dX5_atom_75 H
    · have H := H.2 c43
      refine mx_iconst dX5_is_18 ic_1 ?_
      refine mx_goto (tgt := 23) dX5_is_19 rfl ?_
      refine mx_zretK rfl dX5_is_23 (Or.inr rfl) ?_
      refine mx_if_eq (tgt := 52) dX5_atom_6 rfl (fun _ => absurd ‹_› (by decide)) (fun _ => ?_)
      refine mx_aload_n dX5_atom_9 rfl rfl ?_
      refine mx_callV 5 (y' := mi_X5_next) (vs := []) (st := []) (al' := [some (rv a0), none]) cl_5 V_X5_next (Or.inl q1206) dX5_atom_10 rfl rfl (Nat.le_of_ble_eq_true rfl) (Nat.le_of_ble_eq_true rfl) (ly5_k La0_h) ?_
      refine ma_kv H (fun h85 Xh85 H => ?_) (fun x1 h1 X1 H => mt_out rfl H)
      have H := H Xh85
      have La0_h85 := La0_h.ext Xh85
      refine mx_aload_n dX5_atom_13 rfl rfl ?_
      refine mx_iload_n dX5_atom_14 rfl rfl ?_
      refine mx_iconst dX5_atom_15 ic_1 ?_
      refine mx_iadd dX5_atom_16 ?_
      refine mx_callV 5 (y' := mi_X5_whole) (vs := [iv (x1 + (1 : Int32))]) (st := []) (al' := [some (rv a0), some (iv (x1 + (1 : Int32))), none, none]) cl_5 V_X5_whole (Or.inl q1311) dX5_atom_17 rfl rfl (Nat.le_of_ble_eq_true rfl) (Nat.le_of_ble_eq_true rfl) (ly5_k La0_h85) ?_
      refine ma_kr H (fun r88 h87 Xh87 H => ?_) (fun x1 h1 X1 H => mt_out rfl H)
      have H := H Xh87
      have La0_h87 := La0_h85.ext Xh87
      refine mx_astore_n (al' := [some (rv a0), some (iv x1), some (rv r88), none]) dX5_atom_20 rfl (Nat.le_of_ble_eq_true rfl) rfl ?_
      refine mx_aload_n dX5_atom_21 rfl rfl ?_
      refine mx_aload_n dX5_atom_22 rfl rfl ?_
      refine mx_bipush dX5_atom_23 ib_41 ?_
      refine mx_callV 5 (y' := mi_X5_is) (vs := [iv (41 : Int32)]) (st := [rv a0]) (al' := [some (rv a0), some (iv (41 : Int32))]) cl_5 V_X5_is (Or.inl q1307) dX5_atom_25 rfl rfl (Nat.le_of_ble_eq_true rfl) (Nat.le_of_ble_eq_true rfl) (ly5_k La0_h87) ?_
      refine mx_aload_n dX5_is_0 rfl rfl ?_
      refine mx_get 5 3 (ref := "PrairiePool$Reader") cl_5 (Nat.le_of_ble_eq_true rfl) (Or.inl q387) (Or.inl rfl) dX5_is_1 (fv_5_3 _ _) (ly5_k La0_h87) ?_
      refine mx_iconst dX5_is_4 ic_4 ?_
      refine mx_icmp_ne (tgt := 22) dX5_is_5 rfl (fun c89 => ?_) (fun c89 => ?_)
      · have H := H.1 c89
        refine mx_iconst dX5_is_22 ic_0 ?_
        refine mx_zretK rfl dX5_is_23 (Or.inl rfl) ?_
        refine mx_callV 5 (y' := mi_X5_need) (vs := [iv (0 : Int32)]) (st := []) (al' := [some (rv a0), some (iv (0 : Int32))]) cl_5 V_X5_need (Or.inl q1294) dX5_atom_28 rfl rfl (Nat.le_of_ble_eq_true rfl) (Nat.le_of_ble_eq_true rfl) (ly5_k La0_h87) ?_
        refine mx_iload_n dX5_need_0 rfl rfl ?_
        refine mx_if_ne (tgt := 10) dX5_need_1 rfl (fun _ => absurd ‹_› (by decide)) (fun _ => ?_)
        refine mx_aload_n dX5_need_4 rfl rfl ?_
        refine mx_iconst dX5_need_5 ic_2 ?_
        refine mx_callV 5 (y' := mi_X5_fail) (vs := [iv (2 : Int32)]) (st := []) (al' := [some (rv a0), some (iv (2 : Int32))]) cl_5 V_X5_fail (Or.inl q1298) dX5_need_6 rfl rfl (Nat.le_of_ble_eq_true rfl) (Nat.le_of_ble_eq_true rfl) (ly5_k La0_h87) ?_
        refine mx_aload_n dX5_fail_0 rfl rfl ?_
        refine mx_get 5 8 (ref := "PrairiePool$Reader") cl_5 (Nat.le_of_ble_eq_true rfl) (Or.inl q392) (Or.inl rfl) dX5_fail_1 (fv_5_8 _ _) (ly5_k La0_h87) ?_
        refine mx_aload_n dX5_fail_4 rfl rfl ?_
        refine mx_get 5 3 (ref := "PrairiePool$Reader") cl_5 (Nat.le_of_ble_eq_true rfl) (Or.inl q387) (Or.inl rfl) dX5_fail_5 (fv_5_3 _ _) (ly5_k La0_h87) ?_
        refine mx_iconst dX5_fail_8 ic_1 ?_
        refine mx_icmp_ne (tgt := 16) dX5_fail_9 rfl (fun c90 => ?_) (fun c90 => ?_)
        · have H := H.1 c90
          refine mx_iload_n dX5_fail_16 rfl rfl ?_
          refine mx_aload_n dX5_fail_17 rfl rfl ?_
          refine mx_get 5 4 (ref := "PrairiePool$Reader") cl_5 (Nat.le_of_ble_eq_true rfl) (Or.inl q388) (Or.inl rfl) dX5_fail_18 (fv_5_4 _ _) (ly5_k La0_h87) ?_
          obtain ⟨k91, H⟩ := H
          refine mx_callV 4 (y' := mi_X4_of) (vs := [iv (2 : Int32), iv (ah_I h87 a0 4)]) (st := []) (al' := [some (rv (ah_R h87 a0 8)), some (iv (2 : Int32)), some (iv (ah_I h87 a0 4))]) cl_4 V_X4_of (Or.inl q1302) dX5_fail_21 rfl rfl (Nat.le_of_ble_eq_true rfl) (Nat.le_of_ble_eq_true rfl) k91 ?_
          refine mx_aload_n dX4_of_0 rfl rfl ?_
          refine mx_iload_n dX4_of_1 rfl rfl ?_
          refine mx_putI 4 6 (ref := "PrairiePool$Wrong") cl_4 (Nat.le_of_ble_eq_true rfl) (Or.inl q356) (Or.inl rfl) dX4_of_2 (Or.inl rfl) rfl k91 ?_
          refine mx_nmI  (fun h92 eh92 Xh92 Kh92 Lh92 => ?_)
          have H := H h92 eh92 Xh92
          have La0_h92 := La0_h87.ext Xh92
          refine mx_aload_n dX4_of_5 rfl rfl ?_
          refine mx_iload_n dX4_of_6 rfl rfl ?_
          refine mx_putI 4 7 (ref := "PrairiePool$Wrong") cl_4 (Nat.le_of_ble_eq_true rfl) (Or.inl q358) (Or.inl rfl) dX4_of_7 (Or.inl rfl) rfl (ma_kde Kh92 (k91)) ?_
          refine mx_nmI  (fun h93 eh93 Xh93 Kh93 Lh93 => ?_)
          have H := H h93 eh93 Xh93
          have Kh93 := Kh93.trans Kh92
          have Lh93 := Lh93.trans Lh92
          have La0_h93 := La0_h92.ext Xh93
          refine mx_aload_n dX4_of_10 rfl rfl ?_
          refine mx_aretK rfl (by first | exact Or.inl ⟨_, rfl⟩ | exact Or.inr ⟨_, rfl⟩) dX4_of_11 ?_
          refine mx_aretK rfl (by first | exact Or.inl ⟨_, rfl⟩ | exact Or.inr ⟨_, rfl⟩) dX5_fail_24 ?_
          exact mx_athrow dX5_need_9 (by rw [(ma_kde Kh93 (k91))]; decide) (mt_out rfl (fun _ => mt_out rfl H))
        · have H := H.2 c90
          refine mx_iconst dX5_fail_12 ic_1 ?_
          refine mx_goto (tgt := 17) dX5_fail_13 rfl ?_
          refine mx_aload_n dX5_fail_17 rfl rfl ?_
          refine mx_get 5 4 (ref := "PrairiePool$Reader") cl_5 (Nat.le_of_ble_eq_true rfl) (Or.inl q388) (Or.inl rfl) dX5_fail_18 (fv_5_4 _ _) (ly5_k La0_h87) ?_
          obtain ⟨k94, H⟩ := H
          refine mx_callV 4 (y' := mi_X4_of) (vs := [iv (1 : Int32), iv (ah_I h87 a0 4)]) (st := []) (al' := [some (rv (ah_R h87 a0 8)), some (iv (1 : Int32)), some (iv (ah_I h87 a0 4))]) cl_4 V_X4_of (Or.inl q1302) dX5_fail_21 rfl rfl (Nat.le_of_ble_eq_true rfl) (Nat.le_of_ble_eq_true rfl) k94 ?_
          refine mx_aload_n dX4_of_0 rfl rfl ?_
          refine mx_iload_n dX4_of_1 rfl rfl ?_
          refine mx_putI 4 6 (ref := "PrairiePool$Wrong") cl_4 (Nat.le_of_ble_eq_true rfl) (Or.inl q356) (Or.inl rfl) dX4_of_2 (Or.inl rfl) rfl k94 ?_
          refine mx_nmI  (fun h95 eh95 Xh95 Kh95 Lh95 => ?_)
          have H := H h95 eh95 Xh95
          have La0_h95 := La0_h87.ext Xh95
          refine mx_aload_n dX4_of_5 rfl rfl ?_
          refine mx_iload_n dX4_of_6 rfl rfl ?_
          refine mx_putI 4 7 (ref := "PrairiePool$Wrong") cl_4 (Nat.le_of_ble_eq_true rfl) (Or.inl q358) (Or.inl rfl) dX4_of_7 (Or.inl rfl) rfl (ma_kde Kh95 (k94)) ?_
          refine mx_nmI  (fun h96 eh96 Xh96 Kh96 Lh96 => ?_)
          have H := H h96 eh96 Xh96
          have Kh96 := Kh96.trans Kh95
          have Lh96 := Lh96.trans Lh95
          have La0_h96 := La0_h95.ext Xh96
          refine mx_aload_n dX4_of_10 rfl rfl ?_
          refine mx_aretK rfl (by first | exact Or.inl ⟨_, rfl⟩ | exact Or.inr ⟨_, rfl⟩) dX4_of_11 ?_
          refine mx_aretK rfl (by first | exact Or.inl ⟨_, rfl⟩ | exact Or.inr ⟨_, rfl⟩) dX5_fail_24 ?_
          exact mx_athrow dX5_need_9 (by rw [(ma_kde Kh96 (k94))]; decide) (mt_out rfl (fun _ => mt_out rfl H))
      · have H := H.2 c89
        refine mx_aload_n dX5_is_8 rfl rfl ?_
        refine mx_get 5 6 (ref := "PrairiePool$Reader") cl_5 (Nat.le_of_ble_eq_true rfl) (Or.inl q390) (Or.inl rfl) dX5_is_9 (fv_5_6 _ _) (ly5_k La0_h87) ?_
        refine mx_iload_n dX5_is_12 rfl rfl ?_
        refine mx_i2l dX5_is_13 ?_
        refine mx_lif_ne (tgt := 22) dX5_is_14 dX5_is_15 rfl (fun c97 => ?_) (fun c97 => ?_)
        · have H := H.1 c97
          refine mx_iconst dX5_is_22 ic_0 ?_
          refine mx_zretK rfl dX5_is_23 (Or.inl rfl) ?_
          refine mx_callV 5 (y' := mi_X5_need) (vs := [iv (0 : Int32)]) (st := []) (al' := [some (rv a0), some (iv (0 : Int32))]) cl_5 V_X5_need (Or.inl q1294) dX5_atom_28 rfl rfl (Nat.le_of_ble_eq_true rfl) (Nat.le_of_ble_eq_true rfl) (ly5_k La0_h87) ?_
          refine mx_iload_n dX5_need_0 rfl rfl ?_
          refine mx_if_ne (tgt := 10) dX5_need_1 rfl (fun _ => absurd ‹_› (by decide)) (fun _ => ?_)
          refine mx_aload_n dX5_need_4 rfl rfl ?_
          refine mx_iconst dX5_need_5 ic_2 ?_
          refine mx_callV 5 (y' := mi_X5_fail) (vs := [iv (2 : Int32)]) (st := []) (al' := [some (rv a0), some (iv (2 : Int32))]) cl_5 V_X5_fail (Or.inl q1298) dX5_need_6 rfl rfl (Nat.le_of_ble_eq_true rfl) (Nat.le_of_ble_eq_true rfl) (ly5_k La0_h87) ?_
          refine mx_aload_n dX5_fail_0 rfl rfl ?_
          refine mx_get 5 8 (ref := "PrairiePool$Reader") cl_5 (Nat.le_of_ble_eq_true rfl) (Or.inl q392) (Or.inl rfl) dX5_fail_1 (fv_5_8 _ _) (ly5_k La0_h87) ?_
          refine mx_aload_n dX5_fail_4 rfl rfl ?_
          refine mx_get 5 3 (ref := "PrairiePool$Reader") cl_5 (Nat.le_of_ble_eq_true rfl) (Or.inl q387) (Or.inl rfl) dX5_fail_5 (fv_5_3 _ _) (ly5_k La0_h87) ?_
          refine mx_iconst dX5_fail_8 ic_1 ?_
          refine mx_icmp_ne (tgt := 16) dX5_fail_9 rfl (fun c98 => ?_) (fun c98 => ?_)
          · have H := H.1 c98
            refine mx_iload_n dX5_fail_16 rfl rfl ?_
            refine mx_aload_n dX5_fail_17 rfl rfl ?_
            refine mx_get 5 4 (ref := "PrairiePool$Reader") cl_5 (Nat.le_of_ble_eq_true rfl) (Or.inl q388) (Or.inl rfl) dX5_fail_18 (fv_5_4 _ _) (ly5_k La0_h87) ?_
            obtain ⟨k99, H⟩ := H
            refine mx_callV 4 (y' := mi_X4_of) (vs := [iv (2 : Int32), iv (ah_I h87 a0 4)]) (st := []) (al' := [some (rv (ah_R h87 a0 8)), some (iv (2 : Int32)), some (iv (ah_I h87 a0 4))]) cl_4 V_X4_of (Or.inl q1302) dX5_fail_21 rfl rfl (Nat.le_of_ble_eq_true rfl) (Nat.le_of_ble_eq_true rfl) k99 ?_
            refine mx_aload_n dX4_of_0 rfl rfl ?_
            refine mx_iload_n dX4_of_1 rfl rfl ?_
            refine mx_putI 4 6 (ref := "PrairiePool$Wrong") cl_4 (Nat.le_of_ble_eq_true rfl) (Or.inl q356) (Or.inl rfl) dX4_of_2 (Or.inl rfl) rfl k99 ?_
            refine mx_nmI  (fun h100 eh100 Xh100 Kh100 Lh100 => ?_)
            have H := H h100 eh100 Xh100
            have La0_h100 := La0_h87.ext Xh100
            refine mx_aload_n dX4_of_5 rfl rfl ?_
            refine mx_iload_n dX4_of_6 rfl rfl ?_
            refine mx_putI 4 7 (ref := "PrairiePool$Wrong") cl_4 (Nat.le_of_ble_eq_true rfl) (Or.inl q358) (Or.inl rfl) dX4_of_7 (Or.inl rfl) rfl (ma_kde Kh100 (k99)) ?_
            refine mx_nmI  (fun h101 eh101 Xh101 Kh101 Lh101 => ?_)
            have H := H h101 eh101 Xh101
            have Kh101 := Kh101.trans Kh100
            have Lh101 := Lh101.trans Lh100
            have La0_h101 := La0_h100.ext Xh101
            refine mx_aload_n dX4_of_10 rfl rfl ?_
            refine mx_aretK rfl (by first | exact Or.inl ⟨_, rfl⟩ | exact Or.inr ⟨_, rfl⟩) dX4_of_11 ?_
            refine mx_aretK rfl (by first | exact Or.inl ⟨_, rfl⟩ | exact Or.inr ⟨_, rfl⟩) dX5_fail_24 ?_
            exact mx_athrow dX5_need_9 (by rw [(ma_kde Kh101 (k99))]; decide) (mt_out rfl (fun _ => mt_out rfl H))
          · have H := H.2 c98
            refine mx_iconst dX5_fail_12 ic_1 ?_
            refine mx_goto (tgt := 17) dX5_fail_13 rfl ?_
            refine mx_aload_n dX5_fail_17 rfl rfl ?_
            refine mx_get 5 4 (ref := "PrairiePool$Reader") cl_5 (Nat.le_of_ble_eq_true rfl) (Or.inl q388) (Or.inl rfl) dX5_fail_18 (fv_5_4 _ _) (ly5_k La0_h87) ?_
            obtain ⟨k102, H⟩ := H
            refine mx_callV 4 (y' := mi_X4_of) (vs := [iv (1 : Int32), iv (ah_I h87 a0 4)]) (st := []) (al' := [some (rv (ah_R h87 a0 8)), some (iv (1 : Int32)), some (iv (ah_I h87 a0 4))]) cl_4 V_X4_of (Or.inl q1302) dX5_fail_21 rfl rfl (Nat.le_of_ble_eq_true rfl) (Nat.le_of_ble_eq_true rfl) k102 ?_
            refine mx_aload_n dX4_of_0 rfl rfl ?_
            refine mx_iload_n dX4_of_1 rfl rfl ?_
            refine mx_putI 4 6 (ref := "PrairiePool$Wrong") cl_4 (Nat.le_of_ble_eq_true rfl) (Or.inl q356) (Or.inl rfl) dX4_of_2 (Or.inl rfl) rfl k102 ?_
            refine mx_nmI  (fun h103 eh103 Xh103 Kh103 Lh103 => ?_)
            have H := H h103 eh103 Xh103
            have La0_h103 := La0_h87.ext Xh103
            refine mx_aload_n dX4_of_5 rfl rfl ?_
            refine mx_iload_n dX4_of_6 rfl rfl ?_
            refine mx_putI 4 7 (ref := "PrairiePool$Wrong") cl_4 (Nat.le_of_ble_eq_true rfl) (Or.inl q358) (Or.inl rfl) dX4_of_7 (Or.inl rfl) rfl (ma_kde Kh103 (k102)) ?_
            refine mx_nmI  (fun h104 eh104 Xh104 Kh104 Lh104 => ?_)
            have H := H h104 eh104 Xh104
            have Kh104 := Kh104.trans Kh103
            have Lh104 := Lh104.trans Lh103
            have La0_h104 := La0_h103.ext Xh104
            refine mx_aload_n dX4_of_10 rfl rfl ?_
            refine mx_aretK rfl (by first | exact Or.inl ⟨_, rfl⟩ | exact Or.inr ⟨_, rfl⟩) dX4_of_11 ?_
            refine mx_aretK rfl (by first | exact Or.inl ⟨_, rfl⟩ | exact Or.inr ⟨_, rfl⟩) dX5_fail_24 ?_
            exact mx_athrow dX5_need_9 (by rw [(ma_kde Kh104 (k102))]; decide) (mt_out rfl (fun _ => mt_out rfl H))
        · have H := H.2 c97
          refine mx_iconst dX5_is_18 ic_1 ?_
          refine mx_goto (tgt := 23) dX5_is_19 rfl ?_
          refine mx_zretK rfl dX5_is_23 (Or.inr rfl) ?_
          refine mx_callV 5 (y' := mi_X5_need) (vs := [iv (1 : Int32)]) (st := []) (al' := [some (rv a0), some (iv (1 : Int32))]) cl_5 V_X5_need (Or.inl q1294) dX5_atom_28 rfl rfl (Nat.le_of_ble_eq_true rfl) (Nat.le_of_ble_eq_true rfl) (ly5_k La0_h87) ?_
          refine mx_iload_n dX5_need_0 rfl rfl ?_
          refine mx_if_ne (tgt := 10) dX5_need_1 rfl (fun _ => ?_) (fun _ => absurd ‹_› (by decide))
          refine mx_vretK rfl dX5_need_10 ?_
          refine mx_aload_n dX5_atom_31 rfl rfl ?_
          refine mx_callV 5 (y' := mi_X5_next) (vs := []) (st := []) (al' := [some (rv a0), none]) cl_5 V_X5_next (Or.inl q1206) dX5_atom_32 rfl rfl (Nat.le_of_ble_eq_true rfl) (Nat.le_of_ble_eq_true rfl) (ly5_k La0_h87) ?_
          refine ma_kv H (fun h105 Xh105 H => ?_) (fun x1 h1 X1 H => mt_out rfl H)
          have H := H Xh105
          have La0_h105 := La0_h87.ext Xh105
          obtain ⟨k107, H⟩ := H
          refine mx_new 16 cl_16 dk_16 q1327 q1328 q151 dX5_atom_35 k107.1 k107.2 (fun x_ lv_ => ?_)
          refine mx_nmN x_ lv_ (fun h108 eh108 Xh108 lv_ => ?_)
          have H := H h108 eh108 Xh108 lv_
          have La0_h108 := La0_h105.ext Xh108
          have k109 : ah_kd h108 (ah_sz h105) = 17 := by rw [eh108]; exact if_pos rfl
          refine mx_dup_r dX5_atom_38 ?_
          refine mx_callI (y' := mi_X19_init) (vs := []) (st := [rv (ah_sz h105)]) (al' := [some (rv (ah_sz h105))]) I_X19_init (Or.inr ⟨_, q1329⟩) dX5_atom_39 rfl rfl (Nat.le_of_ble_eq_true rfl) (Nat.le_of_ble_eq_true rfl) (by rw [k109]; decide) ?_
          refine ma_kv H (fun h110 Xh110 H => ?_) (fun x1 h1 X1 H => mt_out rfl H)
          have H := H Xh110
          have k112 := Xh110.kd (k109)
          have La0_h110 := La0_h108.ext Xh110
          refine mx_astore_n (al' := [some (rv a0), some (iv x1), some (rv r88), some (rv (ah_sz h105))]) dX5_atom_42 rfl (Nat.le_of_ble_eq_true rfl) rfl ?_
          refine mx_aload_n dX5_atom_43 rfl rfl ?_
          refine mx_bipush dX5_atom_44 ib_43 ?_
          refine mx_aload_n dX5_atom_46 rfl rfl ?_
          refine mx_callV 16 (y' := mi_X19_add) (vs := [iv (43 : Int32), rv r88]) (st := []) (al' := [some (rv (ah_sz h105)), some (iv (43 : Int32)), some (rv r88)]) cl_16 V_X19_add (Or.inl q1357) dX5_atom_47 rfl rfl (Nat.le_of_ble_eq_true rfl) (Nat.le_of_ble_eq_true rfl) k112 ?_
          refine ma_kv H (fun h113 Xh113 H => ?_) (fun x1 h1 X1 H => mt_out rfl H)
          have H := H Xh113
          have k115 := Xh113.kd (k112)
          have La0_h113 := La0_h110.ext Xh113
          refine mx_aload_n dX5_atom_50 rfl rfl ?_
          exact mx_aret rfl (by first | exact Or.inl ⟨_, rfl⟩ | exact Or.inr ⟨_, rfl⟩) dX5_atom_51 H
theorem v_X5_atom_183 {G : ma_G} {d : Nat} {a0 : Nat} {h : ah_T} {Q : Option ma_V → ah_T → Prop} {E : Nat → ah_T → Prop} (La0_h : LY5 h a0) (H : (¬ (ah_I h a0 3) = (3 : Int32) → (¬ (ah_I h a0 3) = (1 : Int32) → ah_kd h (ah_R h a0 8) = 5 ∧ ∀ h4 : ah_T, h4 = ah_wI h (ah_R h a0 8) 6 (2 : Int32) → ah_ext h h4 → ∀ h5 : ah_T, h5 = ah_wI h4 (ah_R h a0 8) 7 (ah_I h a0 4) → ah_ext h4 h5 → E (ah_R h a0 8) h5) ∧ ((ah_I h a0 3) = (1 : Int32) → ah_kd h (ah_R h a0 8) = 5 ∧ ∀ h7 : ah_T, h7 = ah_wI h (ah_R h a0 8) 6 (1 : Int32) → ah_ext h h7 → ∀ h8 : ah_T, h8 = ah_wI h7 (ah_R h a0 8) 7 (ah_I h a0 4) → ah_ext h7 h8 → E (ah_R h a0 8) h8)) ∧ ((ah_I h a0 3) = (3 : Int32) → (1 ≤ ah_rc h ∧ 4 ≤ ah_rs h) ∧ ∀ h10 : ah_T, h10 = ah_new h 19 0 4 → ah_ext h h10 → ah_liv h → MX G mi_X21_init (d + 2) 0 [some (rv (ah_sz h)), some (iv (0 : Int32)), some (jv (ah_J h10 a0 6)), none] [] h10 (Qv fun h12 => ah_ext h10 h12 → MX G mi_X5_next (d + 2) 0 [some (rv a0), none] [] h12 (Qv fun h15 => ah_ext h12 h15 → Q (some (rv (ah_sz h))) h15) E) E)) : MX G mi_X5_atom (d + 3) 183 [some (rv a0), none, none, none] [] h Q E := by
  refine mx_aload_n dX5_atom_183 rfl rfl ?_
  refine mx_aload_n dX5_atom_184 rfl rfl ?_
  refine mx_get 5 3 (ref := "PrairiePool$Reader") cl_5 (Nat.le_of_ble_eq_true rfl) (Or.inl q387) (Or.inl rfl) dX5_atom_185 (fv_5_3 _ _) (ly5_k La0_h) ?_
  refine mx_iconst dX5_atom_188 ic_3 ?_
  refine mx_icmp_ne (tgt := 196) dX5_atom_189 rfl (fun c1 => ?_) (fun c1 => ?_)
  · have H := H.1 c1
    refine mx_iconst dX5_atom_196 ic_0 ?_
    refine mx_callV 5 (y' := mi_X5_need) (vs := [iv (0 : Int32)]) (st := []) (al' := [some (rv a0), some (iv (0 : Int32))]) cl_5 V_X5_need (Or.inl q1294) dX5_atom_197 rfl rfl (Nat.le_of_ble_eq_true rfl) (Nat.le_of_ble_eq_true rfl) (ly5_k La0_h) ?_
    refine mx_iload_n dX5_need_0 rfl rfl ?_
    refine mx_if_ne (tgt := 10) dX5_need_1 rfl (fun _ => absurd ‹_› (by decide)) (fun _ => ?_)
    refine mx_aload_n dX5_need_4 rfl rfl ?_
    refine mx_iconst dX5_need_5 ic_2 ?_
    refine mx_callV 5 (y' := mi_X5_fail) (vs := [iv (2 : Int32)]) (st := []) (al' := [some (rv a0), some (iv (2 : Int32))]) cl_5 V_X5_fail (Or.inl q1298) dX5_need_6 rfl rfl (Nat.le_of_ble_eq_true rfl) (Nat.le_of_ble_eq_true rfl) (ly5_k La0_h) ?_
    refine mx_aload_n dX5_fail_0 rfl rfl ?_
    refine mx_get 5 8 (ref := "PrairiePool$Reader") cl_5 (Nat.le_of_ble_eq_true rfl) (Or.inl q392) (Or.inl rfl) dX5_fail_1 (fv_5_8 _ _) (ly5_k La0_h) ?_
    refine mx_aload_n dX5_fail_4 rfl rfl ?_
    refine mx_get 5 3 (ref := "PrairiePool$Reader") cl_5 (Nat.le_of_ble_eq_true rfl) (Or.inl q387) (Or.inl rfl) dX5_fail_5 (fv_5_3 _ _) (ly5_k La0_h) ?_
    refine mx_iconst dX5_fail_8 ic_1 ?_
    refine mx_icmp_ne (tgt := 16) dX5_fail_9 rfl (fun c2 => ?_) (fun c2 => ?_)
    · have H := H.1 c2
      refine mx_iload_n dX5_fail_16 rfl rfl ?_
      refine mx_aload_n dX5_fail_17 rfl rfl ?_
      refine mx_get 5 4 (ref := "PrairiePool$Reader") cl_5 (Nat.le_of_ble_eq_true rfl) (Or.inl q388) (Or.inl rfl) dX5_fail_18 (fv_5_4 _ _) (ly5_k La0_h) ?_
      obtain ⟨k3, H⟩ := H
      refine mx_callV 4 (y' := mi_X4_of) (vs := [iv (2 : Int32), iv (ah_I h a0 4)]) (st := []) (al' := [some (rv (ah_R h a0 8)), some (iv (2 : Int32)), some (iv (ah_I h a0 4))]) cl_4 V_X4_of (Or.inl q1302) dX5_fail_21 rfl rfl (Nat.le_of_ble_eq_true rfl) (Nat.le_of_ble_eq_true rfl) k3 ?_
      refine mx_aload_n dX4_of_0 rfl rfl ?_
      refine mx_iload_n dX4_of_1 rfl rfl ?_
      refine mx_putI 4 6 (ref := "PrairiePool$Wrong") cl_4 (Nat.le_of_ble_eq_true rfl) (Or.inl q356) (Or.inl rfl) dX4_of_2 (Or.inl rfl) rfl k3 ?_
      refine mx_nmI  (fun h4 eh4 Xh4 Kh4 Lh4 => ?_)
      have H := H h4 eh4 Xh4
      have La0_h4 := La0_h.ext Xh4
      refine mx_aload_n dX4_of_5 rfl rfl ?_
      refine mx_iload_n dX4_of_6 rfl rfl ?_
      refine mx_putI 4 7 (ref := "PrairiePool$Wrong") cl_4 (Nat.le_of_ble_eq_true rfl) (Or.inl q358) (Or.inl rfl) dX4_of_7 (Or.inl rfl) rfl (ma_kde Kh4 (k3)) ?_
      refine mx_nmI  (fun h5 eh5 Xh5 Kh5 Lh5 => ?_)
      have H := H h5 eh5 Xh5
      have Kh5 := Kh5.trans Kh4
      have Lh5 := Lh5.trans Lh4
      have La0_h5 := La0_h4.ext Xh5
      refine mx_aload_n dX4_of_10 rfl rfl ?_
      refine mx_aretK rfl (by first | exact Or.inl ⟨_, rfl⟩ | exact Or.inr ⟨_, rfl⟩) dX4_of_11 ?_
      refine mx_aretK rfl (by first | exact Or.inl ⟨_, rfl⟩ | exact Or.inr ⟨_, rfl⟩) dX5_fail_24 ?_
      exact mx_athrow dX5_need_9 (by rw [(ma_kde Kh5 (k3))]; decide) (mt_out rfl (fun _ => mt_out rfl H))
    · have H := H.2 c2
      refine mx_iconst dX5_fail_12 ic_1 ?_
      refine mx_goto (tgt := 17) dX5_fail_13 rfl ?_
      refine mx_aload_n dX5_fail_17 rfl rfl ?_
      refine mx_get 5 4 (ref := "PrairiePool$Reader") cl_5 (Nat.le_of_ble_eq_true rfl) (Or.inl q388) (Or.inl rfl) dX5_fail_18 (fv_5_4 _ _) (ly5_k La0_h) ?_
      obtain ⟨k6, H⟩ := H
      refine mx_callV 4 (y' := mi_X4_of) (vs := [iv (1 : Int32), iv (ah_I h a0 4)]) (st := []) (al' := [some (rv (ah_R h a0 8)), some (iv (1 : Int32)), some (iv (ah_I h a0 4))]) cl_4 V_X4_of (Or.inl q1302) dX5_fail_21 rfl rfl (Nat.le_of_ble_eq_true rfl) (Nat.le_of_ble_eq_true rfl) k6 ?_
      refine mx_aload_n dX4_of_0 rfl rfl ?_
      refine mx_iload_n dX4_of_1 rfl rfl ?_
      refine mx_putI 4 6 (ref := "PrairiePool$Wrong") cl_4 (Nat.le_of_ble_eq_true rfl) (Or.inl q356) (Or.inl rfl) dX4_of_2 (Or.inl rfl) rfl k6 ?_
      refine mx_nmI  (fun h7 eh7 Xh7 Kh7 Lh7 => ?_)
      have H := H h7 eh7 Xh7
      have La0_h7 := La0_h.ext Xh7
      refine mx_aload_n dX4_of_5 rfl rfl ?_
      refine mx_iload_n dX4_of_6 rfl rfl ?_
      refine mx_putI 4 7 (ref := "PrairiePool$Wrong") cl_4 (Nat.le_of_ble_eq_true rfl) (Or.inl q358) (Or.inl rfl) dX4_of_7 (Or.inl rfl) rfl (ma_kde Kh7 (k6)) ?_
      refine mx_nmI  (fun h8 eh8 Xh8 Kh8 Lh8 => ?_)
      have H := H h8 eh8 Xh8
      have Kh8 := Kh8.trans Kh7
      have Lh8 := Lh8.trans Lh7
      have La0_h8 := La0_h7.ext Xh8
      refine mx_aload_n dX4_of_10 rfl rfl ?_
      refine mx_aretK rfl (by first | exact Or.inl ⟨_, rfl⟩ | exact Or.inr ⟨_, rfl⟩) dX4_of_11 ?_
      refine mx_aretK rfl (by first | exact Or.inl ⟨_, rfl⟩ | exact Or.inr ⟨_, rfl⟩) dX5_fail_24 ?_
      exact mx_athrow dX5_need_9 (by rw [(ma_kde Kh8 (k6))]; decide) (mt_out rfl (fun _ => mt_out rfl H))
  · have H := H.2 c1
    refine mx_iconst dX5_atom_192 ic_1 ?_
    refine mx_goto (tgt := 197) dX5_atom_193 rfl ?_
    refine mx_callV 5 (y' := mi_X5_need) (vs := [iv (1 : Int32)]) (st := []) (al' := [some (rv a0), some (iv (1 : Int32))]) cl_5 V_X5_need (Or.inl q1294) dX5_atom_197 rfl rfl (Nat.le_of_ble_eq_true rfl) (Nat.le_of_ble_eq_true rfl) (ly5_k La0_h) ?_
    refine mx_iload_n dX5_need_0 rfl rfl ?_
    refine mx_if_ne (tgt := 10) dX5_need_1 rfl (fun _ => ?_) (fun _ => absurd ‹_› (by decide))
    refine mx_vretK rfl dX5_need_10 ?_
    obtain ⟨k9, H⟩ := H
    refine mx_new 18 cl_18 dk_18 q1387 q1388 q153 dX5_atom_200 k9.1 k9.2 (fun x_ lv_ => ?_)
    refine mx_nmN x_ lv_ (fun h10 eh10 Xh10 lv_ => ?_)
    have H := H h10 eh10 Xh10 lv_
    have La0_h10 := La0_h.ext Xh10
    have k11 : ah_kd h10 (ah_sz h) = 19 := by rw [eh10]; exact if_pos rfl
    refine mx_dup_r dX5_atom_203 ?_
    refine mx_iconst dX5_atom_204 ic_0 ?_
    refine mx_aload_n dX5_atom_205 rfl rfl ?_
    refine mx_get 5 6 (ref := "PrairiePool$Reader") cl_5 (Nat.le_of_ble_eq_true rfl) (Or.inl q390) (Or.inl rfl) dX5_atom_206 (fv_5_6 _ _) (ly5_k La0_h10) ?_
    refine mx_callI (y' := mi_X21_init) (vs := [iv (0 : Int32), jv (ah_J h10 a0 6)]) (st := [rv (ah_sz h)]) (al' := [some (rv (ah_sz h)), some (iv (0 : Int32)), some (jv (ah_J h10 a0 6)), none]) I_X21_init (Or.inl q1389) dX5_atom_209 rfl rfl (Nat.le_of_ble_eq_true rfl) (Nat.le_of_ble_eq_true rfl) (by rw [k11]; decide) ?_
    refine ma_kv H (fun h12 Xh12 H => ?_) (fun x1 h1 X1 H => mt_out rfl H)
    have H := H Xh12
    have k14 := Xh12.kd (k11)
    have La0_h12 := La0_h10.ext Xh12
    refine mx_astore_n (al' := [some (rv a0), none, some (rv (ah_sz h)), none]) dX5_atom_212 rfl (Nat.le_of_ble_eq_true rfl) rfl ?_
    refine mx_aload_n dX5_atom_213 rfl rfl ?_
    refine mx_callV 5 (y' := mi_X5_next) (vs := []) (st := []) (al' := [some (rv a0), none]) cl_5 V_X5_next (Or.inl q1206) dX5_atom_214 rfl rfl (Nat.le_of_ble_eq_true rfl) (Nat.le_of_ble_eq_true rfl) (ly5_k La0_h12) ?_
    refine ma_kv H (fun h15 Xh15 H => ?_) (fun x1 h1 X1 H => mt_out rfl H)
    have H := H Xh15
    have k17 := Xh15.kd (k14)
    have La0_h15 := La0_h12.ext Xh15
    refine mx_aload_n dX5_atom_217 rfl rfl ?_
    exact mx_aret rfl (by first | exact Or.inl ⟨_, rfl⟩ | exact Or.inr ⟨_, rfl⟩) dX5_atom_218 H
theorem v_X5_atom_150 {G : ma_G} {d : Nat} {a0 : Nat} {x2 : Int32} {x3 : Int32} {h : ah_T} {Q : Option ma_V → ah_T → Prop} {E : Nat → ah_T → Prop} (La0_h : LY5 h a0) (H : MX G mi_X5_next (d + 2) 0 [some (rv a0), none] [] h (Qv fun h1 => ah_ext h h1 → (x2 = (-1 : Int32) → (1 ≤ ah_rc h1 ∧ 4 ≤ ah_rs h1) ∧ ∀ h5 : ah_T, h5 = ah_new h1 19 0 4 → ah_ext h1 h5 → ah_liv h1 → MX G mi_X21_init (d + 2) 0 [some (rv (ah_sz h1)), some (iv (2 : Int32)), some (jv x3.toInt64), none] [] h5 (Qv fun h7 => ah_ext h5 h7 → Q (some (rv (ah_sz h1))) h7) E) ∧ (¬ x2 = (-1 : Int32) → (1 ≤ ah_rc h1 ∧ 4 ≤ ah_rs h1) ∧ ∀ h11 : ah_T, h11 = ah_new h1 19 0 4 → ah_ext h1 h11 → ah_liv h1 → MX G mi_X21_init (d + 2) 0 [some (rv (ah_sz h1)), some (iv (1 : Int32)), some (jv x2.toInt64), none] [] h11 (Qv fun h13 => ah_ext h11 h13 → Q (some (rv (ah_sz h1))) h13) E)) E) : MX G mi_X5_atom (d + 3) 150 [some (rv a0), none, some (iv x2), some (iv x3)] [] h Q E := by
  refine mx_aload_n dX5_atom_150 rfl rfl ?_
  refine mx_callV 5 (y' := mi_X5_next) (vs := []) (st := []) (al' := [some (rv a0), none]) cl_5 V_X5_next (Or.inl q1206) dX5_atom_151 rfl rfl (Nat.le_of_ble_eq_true rfl) (Nat.le_of_ble_eq_true rfl) (ly5_k La0_h) ?_
  refine ma_kv H (fun h1 Xh1 H => ?_) (fun x1 h1 X1 H => mt_out rfl H)
  have H := H Xh1
  have La0_h1 := La0_h.ext Xh1
  refine mx_iload_n dX5_atom_154 rfl rfl ?_
  refine mx_iconst dX5_atom_155 ic_m1 ?_
  refine mx_icmp_eq (tgt := 172) dX5_atom_156 rfl (fun c3 => ?_) (fun c3 => ?_)
  · have H := H.1 c3
    obtain ⟨k4, H⟩ := H
    refine mx_new 18 cl_18 dk_18 q1387 q1388 q153 dX5_atom_172 k4.1 k4.2 (fun x_ lv_ => ?_)
    refine mx_nmN x_ lv_ (fun h5 eh5 Xh5 lv_ => ?_)
    have H := H h5 eh5 Xh5 lv_
    have La0_h5 := La0_h1.ext Xh5
    have k6 : ah_kd h5 (ah_sz h1) = 19 := by rw [eh5]; exact if_pos rfl
    refine mx_dup_r dX5_atom_175 ?_
    refine mx_iconst dX5_atom_176 ic_2 ?_
    refine mx_iload_n dX5_atom_177 rfl rfl ?_
    refine mx_i2l dX5_atom_178 ?_
    refine mx_callI (y' := mi_X21_init) (vs := [iv (2 : Int32), jv x3.toInt64]) (st := [rv (ah_sz h1)]) (al' := [some (rv (ah_sz h1)), some (iv (2 : Int32)), some (jv x3.toInt64), none]) I_X21_init (Or.inl q1389) dX5_atom_179 rfl rfl (Nat.le_of_ble_eq_true rfl) (Nat.le_of_ble_eq_true rfl) (by rw [k6]; decide) ?_
    refine ma_kv H (fun h7 Xh7 H => ?_) (fun x1 h1 X1 H => mt_out rfl H)
    have H := H Xh7
    have k9 := Xh7.kd (k6)
    have La0_h7 := La0_h5.ext Xh7
    exact mx_aret rfl (by first | exact Or.inl ⟨_, rfl⟩ | exact Or.inr ⟨_, rfl⟩) dX5_atom_182 H
  · have H := H.2 c3
    obtain ⟨k10, H⟩ := H
    refine mx_new 18 cl_18 dk_18 q1387 q1388 q153 dX5_atom_159 k10.1 k10.2 (fun x_ lv_ => ?_)
    refine mx_nmN x_ lv_ (fun h11 eh11 Xh11 lv_ => ?_)
    have H := H h11 eh11 Xh11 lv_
    have La0_h11 := La0_h1.ext Xh11
    have k12 : ah_kd h11 (ah_sz h1) = 19 := by rw [eh11]; exact if_pos rfl
    refine mx_dup_r dX5_atom_162 ?_
    refine mx_iconst dX5_atom_163 ic_1 ?_
    refine mx_iload_n dX5_atom_164 rfl rfl ?_
    refine mx_i2l dX5_atom_165 ?_
    refine mx_callI (y' := mi_X21_init) (vs := [iv (1 : Int32), jv x2.toInt64]) (st := [rv (ah_sz h1)]) (al' := [some (rv (ah_sz h1)), some (iv (1 : Int32)), some (jv x2.toInt64), none]) I_X21_init (Or.inl q1389) dX5_atom_166 rfl rfl (Nat.le_of_ble_eq_true rfl) (Nat.le_of_ble_eq_true rfl) (by rw [k12]; decide) ?_
    refine ma_kv H (fun h13 Xh13 H => ?_) (fun x1 h1 X1 H => mt_out rfl H)
    have H := H Xh13
    have k15 := Xh13.kd (k12)
    have La0_h13 := La0_h11.ext Xh13
    refine mx_goto (tgt := 182) dX5_atom_169 rfl ?_
    exact mx_aret rfl (by first | exact Or.inl ⟨_, rfl⟩ | exact Or.inr ⟨_, rfl⟩) dX5_atom_182 H
theorem dX5_few_0 : decode mi_X5_few.2.1 0 = .ok (.aload_n 0, 1) := by decide +kernel
theorem dX5_few_1 : decode mi_X5_few.2.1 1 = .ok (.bipush 7, 2) := by decide +kernel
theorem dX5_few_3 : decode mi_X5_few.2.1 3 = .ok (.invokevirtual 139, 3) := by decide +kernel
theorem dX5_few_6 : decode mi_X5_few.2.1 6 = .ok (.istore_n 2, 1) := by decide +kernel
theorem dX5_few_7 : decode mi_X5_few.2.1 7 = .ok (.aload_n 0, 1) := by decide +kernel
theorem dX5_few_8 : decode mi_X5_few.2.1 8 = .ok (.invokevirtual 101, 3) := by decide +kernel
theorem dX5_few_11 : decode mi_X5_few.2.1 11 = .ok (.aload_n 0, 1) := by decide +kernel
theorem dX5_few_12 : decode mi_X5_few.2.1 12 = .ok (.aload_n 0, 1) := by decide +kernel
theorem dX5_few_13 : decode mi_X5_few.2.1 13 = .ok (.bipush 40, 2) := by decide +kernel
theorem dX5_few_15 : decode mi_X5_few.2.1 15 = .ok (.invokevirtual 124, 3) := by decide +kernel
theorem dX5_few_18 : decode mi_X5_few.2.1 18 = .ok (.invokevirtual 113, 3) := by decide +kernel
theorem dX5_few_21 : decode mi_X5_few.2.1 21 = .ok (.aload_n 0, 1) := by decide +kernel
theorem dX5_few_22 : decode mi_X5_few.2.1 22 = .ok (.invokevirtual 101, 3) := by decide +kernel
theorem dX5_few_25 : decode mi_X5_few.2.1 25 = .ok (.aload_n 0, 1) := by decide +kernel
theorem dX5_few_26 : decode mi_X5_few.2.1 26 = .ok (.iload_n 1, 1) := by decide +kernel
theorem dX5_few_27 : decode mi_X5_few.2.1 27 = .ok (.iconst 1, 1) := by decide +kernel
theorem dX5_few_28 : decode mi_X5_few.2.1 28 = .ok (.iadd, 1) := by decide +kernel
theorem dX5_few_29 : decode mi_X5_few.2.1 29 = .ok (.invokevirtual 188, 3) := by decide +kernel
theorem dX5_few_32 : decode mi_X5_few.2.1 32 = .ok (.astore_n 3, 1) := by decide +kernel
theorem dX5_few_33 : decode mi_X5_few.2.1 33 = .ok (.aload_n 0, 1) := by decide +kernel
theorem dX5_few_34 : decode mi_X5_few.2.1 34 = .ok (.aload_n 0, 1) := by decide +kernel
theorem dX5_few_35 : decode mi_X5_few.2.1 35 = .ok (.bipush 44, 2) := by decide +kernel
theorem dX5_few_37 : decode mi_X5_few.2.1 37 = .ok (.invokevirtual 124, 3) := by decide +kernel
theorem dX5_few_40 : decode mi_X5_few.2.1 40 = .ok (.invokevirtual 113, 3) := by decide +kernel
theorem dX5_few_43 : decode mi_X5_few.2.1 43 = .ok (.aload_n 0, 1) := by decide +kernel
theorem dX5_few_44 : decode mi_X5_few.2.1 44 = .ok (.invokevirtual 101, 3) := by decide +kernel
theorem dX5_few_47 : decode mi_X5_few.2.1 47 = .ok (.aload_n 0, 1) := by decide +kernel
theorem dX5_few_48 : decode mi_X5_few.2.1 48 = .ok (.iload_n 1, 1) := by decide +kernel
theorem dX5_few_49 : decode mi_X5_few.2.1 49 = .ok (.iconst 1, 1) := by decide +kernel
theorem dX5_few_50 : decode mi_X5_few.2.1 50 = .ok (.iadd, 1) := by decide +kernel
theorem dX5_few_51 : decode mi_X5_few.2.1 51 = .ok (.invokevirtual 188, 3) := by decide +kernel
theorem dX5_few_54 : decode mi_X5_few.2.1 54 = .ok (.astore 4, 2) := by decide +kernel
theorem dX5_few_56 : decode mi_X5_few.2.1 56 = .ok (.aload_n 0, 1) := by decide +kernel
theorem dX5_few_57 : decode mi_X5_few.2.1 57 = .ok (.aload_n 0, 1) := by decide +kernel
theorem dX5_few_58 : decode mi_X5_few.2.1 58 = .ok (.bipush 41, 2) := by decide +kernel
theorem dX5_few_60 : decode mi_X5_few.2.1 60 = .ok (.invokevirtual 124, 3) := by decide +kernel
theorem dX5_few_63 : decode mi_X5_few.2.1 63 = .ok (.invokevirtual 113, 3) := by decide +kernel
theorem dX5_few_66 : decode mi_X5_few.2.1 66 = .ok (.aload_n 0, 1) := by decide +kernel
theorem dX5_few_67 : decode mi_X5_few.2.1 67 = .ok (.invokevirtual 101, 3) := by decide +kernel
theorem dX5_few_70 : decode mi_X5_few.2.1 70 = .ok (.new 191, 3) := by decide +kernel
theorem dX5_few_73 : decode mi_X5_few.2.1 73 = .ok (.dup, 1) := by decide +kernel
theorem dX5_few_74 : decode mi_X5_few.2.1 74 = .ok (.iload_n 2, 1) := by decide +kernel
theorem dX5_few_75 : decode mi_X5_few.2.1 75 = .ok (.aload_n 3, 1) := by decide +kernel
theorem dX5_few_76 : decode mi_X5_few.2.1 76 = .ok (.aload 4, 2) := by decide +kernel
theorem dX5_few_78 : decode mi_X5_few.2.1 78 = .ok (.invokespecial 193, 3) := by decide +kernel
theorem dX5_few_81 : decode mi_X5_few.2.1 81 = .ok (.areturn, 1) := by decide +kernel
theorem v_X5_few {G : ma_G} {d : Nat} {a0 : Nat} {x1 : Int32} {h : ah_T} {Q : Option ma_V → ah_T → Prop} {E : Nat → ah_T → Prop} (La0_h : LY5 h a0) (H : MX G mi_X5_isKey (d + 2) 0 [some (rv a0), some (iv (7 : Int32))] [] h (Qi fun r2 h1 => ah_ext h h1 → MX G mi_X5_next (d + 2) 0 [some (rv a0), none] [] h1 (Qv fun h3 => ah_ext h1 h3 → (¬ (ah_I h3 a0 3) = (4 : Int32) → (¬ (ah_I h3 a0 3) = (1 : Int32) → ah_kd h3 (ah_R h3 a0 8) = 5 ∧ ∀ h8 : ah_T, h8 = ah_wI h3 (ah_R h3 a0 8) 6 (2 : Int32) → ah_ext h3 h8 → ∀ h9 : ah_T, h9 = ah_wI h8 (ah_R h3 a0 8) 7 (ah_I h3 a0 4) → ah_ext h8 h9 → E (ah_R h3 a0 8) h9) ∧ ((ah_I h3 a0 3) = (1 : Int32) → ah_kd h3 (ah_R h3 a0 8) = 5 ∧ ∀ h11 : ah_T, h11 = ah_wI h3 (ah_R h3 a0 8) 6 (1 : Int32) → ah_ext h3 h11 → ∀ h12 : ah_T, h12 = ah_wI h11 (ah_R h3 a0 8) 7 (ah_I h3 a0 4) → ah_ext h11 h12 → E (ah_R h3 a0 8) h12)) ∧ ((ah_I h3 a0 3) = (4 : Int32) → (¬ (ah_J h3 a0 6) = (40 : Int32).toInt64 → (¬ (ah_I h3 a0 3) = (1 : Int32) → ah_kd h3 (ah_R h3 a0 8) = 5 ∧ ∀ h16 : ah_T, h16 = ah_wI h3 (ah_R h3 a0 8) 6 (2 : Int32) → ah_ext h3 h16 → ∀ h17 : ah_T, h17 = ah_wI h16 (ah_R h3 a0 8) 7 (ah_I h3 a0 4) → ah_ext h16 h17 → E (ah_R h3 a0 8) h17) ∧ ((ah_I h3 a0 3) = (1 : Int32) → ah_kd h3 (ah_R h3 a0 8) = 5 ∧ ∀ h19 : ah_T, h19 = ah_wI h3 (ah_R h3 a0 8) 6 (1 : Int32) → ah_ext h3 h19 → ∀ h20 : ah_T, h20 = ah_wI h19 (ah_R h3 a0 8) 7 (ah_I h3 a0 4) → ah_ext h19 h20 → E (ah_R h3 a0 8) h20)) ∧ ((ah_J h3 a0 6) = (40 : Int32).toInt64 → MX G mi_X5_next (d + 2) 0 [some (rv a0), none] [] h3 (Qv fun h21 => ah_ext h3 h21 → MX G mi_X5_inner (d + 2) 0 [some (rv a0), some (iv (x1 + (1 : Int32)))] [] h21 (Qr fun r24 h23 => ah_ext h21 h23 → (¬ (ah_I h23 a0 3) = (4 : Int32) → (¬ (ah_I h23 a0 3) = (1 : Int32) → ah_kd h23 (ah_R h23 a0 8) = 5 ∧ ∀ h28 : ah_T, h28 = ah_wI h23 (ah_R h23 a0 8) 6 (2 : Int32) → ah_ext h23 h28 → ∀ h29 : ah_T, h29 = ah_wI h28 (ah_R h23 a0 8) 7 (ah_I h23 a0 4) → ah_ext h28 h29 → E (ah_R h23 a0 8) h29) ∧ ((ah_I h23 a0 3) = (1 : Int32) → ah_kd h23 (ah_R h23 a0 8) = 5 ∧ ∀ h31 : ah_T, h31 = ah_wI h23 (ah_R h23 a0 8) 6 (1 : Int32) → ah_ext h23 h31 → ∀ h32 : ah_T, h32 = ah_wI h31 (ah_R h23 a0 8) 7 (ah_I h23 a0 4) → ah_ext h31 h32 → E (ah_R h23 a0 8) h32)) ∧ ((ah_I h23 a0 3) = (4 : Int32) → (¬ (ah_J h23 a0 6) = (44 : Int32).toInt64 → (¬ (ah_I h23 a0 3) = (1 : Int32) → ah_kd h23 (ah_R h23 a0 8) = 5 ∧ ∀ h36 : ah_T, h36 = ah_wI h23 (ah_R h23 a0 8) 6 (2 : Int32) → ah_ext h23 h36 → ∀ h37 : ah_T, h37 = ah_wI h36 (ah_R h23 a0 8) 7 (ah_I h23 a0 4) → ah_ext h36 h37 → E (ah_R h23 a0 8) h37) ∧ ((ah_I h23 a0 3) = (1 : Int32) → ah_kd h23 (ah_R h23 a0 8) = 5 ∧ ∀ h39 : ah_T, h39 = ah_wI h23 (ah_R h23 a0 8) 6 (1 : Int32) → ah_ext h23 h39 → ∀ h40 : ah_T, h40 = ah_wI h39 (ah_R h23 a0 8) 7 (ah_I h23 a0 4) → ah_ext h39 h40 → E (ah_R h23 a0 8) h40)) ∧ ((ah_J h23 a0 6) = (44 : Int32).toInt64 → MX G mi_X5_next (d + 2) 0 [some (rv a0), none] [] h23 (Qv fun h41 => ah_ext h23 h41 → MX G mi_X5_inner (d + 2) 0 [some (rv a0), some (iv (x1 + (1 : Int32)))] [] h41 (Qr fun r44 h43 => ah_ext h41 h43 → (¬ (ah_I h43 a0 3) = (4 : Int32) → (¬ (ah_I h43 a0 3) = (1 : Int32) → ah_kd h43 (ah_R h43 a0 8) = 5 ∧ ∀ h48 : ah_T, h48 = ah_wI h43 (ah_R h43 a0 8) 6 (2 : Int32) → ah_ext h43 h48 → ∀ h49 : ah_T, h49 = ah_wI h48 (ah_R h43 a0 8) 7 (ah_I h43 a0 4) → ah_ext h48 h49 → E (ah_R h43 a0 8) h49) ∧ ((ah_I h43 a0 3) = (1 : Int32) → ah_kd h43 (ah_R h43 a0 8) = 5 ∧ ∀ h51 : ah_T, h51 = ah_wI h43 (ah_R h43 a0 8) 6 (1 : Int32) → ah_ext h43 h51 → ∀ h52 : ah_T, h52 = ah_wI h51 (ah_R h43 a0 8) 7 (ah_I h43 a0 4) → ah_ext h51 h52 → E (ah_R h43 a0 8) h52)) ∧ ((ah_I h43 a0 3) = (4 : Int32) → (¬ (ah_J h43 a0 6) = (41 : Int32).toInt64 → (¬ (ah_I h43 a0 3) = (1 : Int32) → ah_kd h43 (ah_R h43 a0 8) = 5 ∧ ∀ h56 : ah_T, h56 = ah_wI h43 (ah_R h43 a0 8) 6 (2 : Int32) → ah_ext h43 h56 → ∀ h57 : ah_T, h57 = ah_wI h56 (ah_R h43 a0 8) 7 (ah_I h43 a0 4) → ah_ext h56 h57 → E (ah_R h43 a0 8) h57) ∧ ((ah_I h43 a0 3) = (1 : Int32) → ah_kd h43 (ah_R h43 a0 8) = 5 ∧ ∀ h59 : ah_T, h59 = ah_wI h43 (ah_R h43 a0 8) 6 (1 : Int32) → ah_ext h43 h59 → ∀ h60 : ah_T, h60 = ah_wI h59 (ah_R h43 a0 8) 7 (ah_I h43 a0 4) → ah_ext h59 h60 → E (ah_R h43 a0 8) h60)) ∧ ((ah_J h43 a0 6) = (41 : Int32).toInt64 → MX G mi_X5_next (d + 2) 0 [some (rv a0), none] [] h43 (Qv fun h61 => ah_ext h43 h61 → (1 ≤ ah_rc h61 ∧ 5 ≤ ah_rs h61) ∧ ∀ h64 : ah_T, h64 = ah_new h61 18 0 5 → ah_ext h61 h64 → ah_liv h61 → MX G mi_X20_init (d + 2) 0 [some (rv (ah_sz h61)), some (iv r2), some (rv r24), some (rv r44)] [] h64 (Qv fun h66 => ah_ext h64 h66 → Q (some (rv (ah_sz h61))) h66) E) E))) E) E))) E) E))) E) E) : MX G mi_X5_few (d + 3) 0 [some (rv a0), some (iv x1), none, none, none] [] h Q E := by
  refine mx_aload_n dX5_few_0 rfl rfl ?_
  refine mx_bipush dX5_few_1 ib_7 ?_
  refine mx_callV 5 (y' := mi_X5_isKey) (vs := [iv (7 : Int32)]) (st := []) (al' := [some (rv a0), some (iv (7 : Int32))]) cl_5 V_X5_isKey (Or.inl q1315) dX5_few_3 rfl rfl (Nat.le_of_ble_eq_true rfl) (Nat.le_of_ble_eq_true rfl) (ly5_k La0_h) ?_
  refine ma_ki H (fun r2 h1 Xh1 H => ?_) (fun x1 h1 X1 H => mt_out rfl H)
  have H := H Xh1
  have La0_h1 := La0_h.ext Xh1
  refine mx_istore_n (al' := [some (rv a0), some (iv x1), some (iv r2), none, none]) dX5_few_6 rfl (Nat.le_of_ble_eq_true rfl) rfl ?_
  refine mx_aload_n dX5_few_7 rfl rfl ?_
  refine mx_callV 5 (y' := mi_X5_next) (vs := []) (st := []) (al' := [some (rv a0), none]) cl_5 V_X5_next (Or.inl q1206) dX5_few_8 rfl rfl (Nat.le_of_ble_eq_true rfl) (Nat.le_of_ble_eq_true rfl) (ly5_k La0_h1) ?_
  refine ma_kv H (fun h3 Xh3 H => ?_) (fun x1 h1 X1 H => mt_out rfl H)
  have H := H Xh3
  have La0_h3 := La0_h1.ext Xh3
  refine mx_aload_n dX5_few_11 rfl rfl ?_
  refine mx_aload_n dX5_few_12 rfl rfl ?_
  refine mx_bipush dX5_few_13 ib_40 ?_
  refine mx_callV 5 (y' := mi_X5_is) (vs := [iv (40 : Int32)]) (st := [rv a0]) (al' := [some (rv a0), some (iv (40 : Int32))]) cl_5 V_X5_is (Or.inl q1307) dX5_few_15 rfl rfl (Nat.le_of_ble_eq_true rfl) (Nat.le_of_ble_eq_true rfl) (ly5_k La0_h3) ?_
  refine mx_aload_n dX5_is_0 rfl rfl ?_
  refine mx_get 5 3 (ref := "PrairiePool$Reader") cl_5 (Nat.le_of_ble_eq_true rfl) (Or.inl q387) (Or.inl rfl) dX5_is_1 (fv_5_3 _ _) (ly5_k La0_h3) ?_
  refine mx_iconst dX5_is_4 ic_4 ?_
  refine mx_icmp_ne (tgt := 22) dX5_is_5 rfl (fun c5 => ?_) (fun c5 => ?_)
  · have H := H.1 c5
    refine mx_iconst dX5_is_22 ic_0 ?_
    refine mx_zretK rfl dX5_is_23 (Or.inl rfl) ?_
    refine mx_callV 5 (y' := mi_X5_need) (vs := [iv (0 : Int32)]) (st := []) (al' := [some (rv a0), some (iv (0 : Int32))]) cl_5 V_X5_need (Or.inl q1294) dX5_few_18 rfl rfl (Nat.le_of_ble_eq_true rfl) (Nat.le_of_ble_eq_true rfl) (ly5_k La0_h3) ?_
    refine mx_iload_n dX5_need_0 rfl rfl ?_
    refine mx_if_ne (tgt := 10) dX5_need_1 rfl (fun _ => absurd ‹_› (by decide)) (fun _ => ?_)
    refine mx_aload_n dX5_need_4 rfl rfl ?_
    refine mx_iconst dX5_need_5 ic_2 ?_
    refine mx_callV 5 (y' := mi_X5_fail) (vs := [iv (2 : Int32)]) (st := []) (al' := [some (rv a0), some (iv (2 : Int32))]) cl_5 V_X5_fail (Or.inl q1298) dX5_need_6 rfl rfl (Nat.le_of_ble_eq_true rfl) (Nat.le_of_ble_eq_true rfl) (ly5_k La0_h3) ?_
    refine mx_aload_n dX5_fail_0 rfl rfl ?_
    refine mx_get 5 8 (ref := "PrairiePool$Reader") cl_5 (Nat.le_of_ble_eq_true rfl) (Or.inl q392) (Or.inl rfl) dX5_fail_1 (fv_5_8 _ _) (ly5_k La0_h3) ?_
    refine mx_aload_n dX5_fail_4 rfl rfl ?_
    refine mx_get 5 3 (ref := "PrairiePool$Reader") cl_5 (Nat.le_of_ble_eq_true rfl) (Or.inl q387) (Or.inl rfl) dX5_fail_5 (fv_5_3 _ _) (ly5_k La0_h3) ?_
    refine mx_iconst dX5_fail_8 ic_1 ?_
    refine mx_icmp_ne (tgt := 16) dX5_fail_9 rfl (fun c6 => ?_) (fun c6 => ?_)
    · have H := H.1 c6
      refine mx_iload_n dX5_fail_16 rfl rfl ?_
      refine mx_aload_n dX5_fail_17 rfl rfl ?_
      refine mx_get 5 4 (ref := "PrairiePool$Reader") cl_5 (Nat.le_of_ble_eq_true rfl) (Or.inl q388) (Or.inl rfl) dX5_fail_18 (fv_5_4 _ _) (ly5_k La0_h3) ?_
      obtain ⟨k7, H⟩ := H
      refine mx_callV 4 (y' := mi_X4_of) (vs := [iv (2 : Int32), iv (ah_I h3 a0 4)]) (st := []) (al' := [some (rv (ah_R h3 a0 8)), some (iv (2 : Int32)), some (iv (ah_I h3 a0 4))]) cl_4 V_X4_of (Or.inl q1302) dX5_fail_21 rfl rfl (Nat.le_of_ble_eq_true rfl) (Nat.le_of_ble_eq_true rfl) k7 ?_
      refine mx_aload_n dX4_of_0 rfl rfl ?_
      refine mx_iload_n dX4_of_1 rfl rfl ?_
      refine mx_putI 4 6 (ref := "PrairiePool$Wrong") cl_4 (Nat.le_of_ble_eq_true rfl) (Or.inl q356) (Or.inl rfl) dX4_of_2 (Or.inl rfl) rfl k7 ?_
      refine mx_nmI  (fun h8 eh8 Xh8 Kh8 Lh8 => ?_)
      have H := H h8 eh8 Xh8
      have La0_h8 := La0_h3.ext Xh8
      refine mx_aload_n dX4_of_5 rfl rfl ?_
      refine mx_iload_n dX4_of_6 rfl rfl ?_
      refine mx_putI 4 7 (ref := "PrairiePool$Wrong") cl_4 (Nat.le_of_ble_eq_true rfl) (Or.inl q358) (Or.inl rfl) dX4_of_7 (Or.inl rfl) rfl (ma_kde Kh8 (k7)) ?_
      refine mx_nmI  (fun h9 eh9 Xh9 Kh9 Lh9 => ?_)
      have H := H h9 eh9 Xh9
      have Kh9 := Kh9.trans Kh8
      have Lh9 := Lh9.trans Lh8
      have La0_h9 := La0_h8.ext Xh9
      refine mx_aload_n dX4_of_10 rfl rfl ?_
      refine mx_aretK rfl (by first | exact Or.inl ⟨_, rfl⟩ | exact Or.inr ⟨_, rfl⟩) dX4_of_11 ?_
      refine mx_aretK rfl (by first | exact Or.inl ⟨_, rfl⟩ | exact Or.inr ⟨_, rfl⟩) dX5_fail_24 ?_
      exact mx_athrow dX5_need_9 (by rw [(ma_kde Kh9 (k7))]; decide) (mt_out rfl (fun _ => mt_out rfl H))
    · have H := H.2 c6
      refine mx_iconst dX5_fail_12 ic_1 ?_
      refine mx_goto (tgt := 17) dX5_fail_13 rfl ?_
      refine mx_aload_n dX5_fail_17 rfl rfl ?_
      refine mx_get 5 4 (ref := "PrairiePool$Reader") cl_5 (Nat.le_of_ble_eq_true rfl) (Or.inl q388) (Or.inl rfl) dX5_fail_18 (fv_5_4 _ _) (ly5_k La0_h3) ?_
      obtain ⟨k10, H⟩ := H
      refine mx_callV 4 (y' := mi_X4_of) (vs := [iv (1 : Int32), iv (ah_I h3 a0 4)]) (st := []) (al' := [some (rv (ah_R h3 a0 8)), some (iv (1 : Int32)), some (iv (ah_I h3 a0 4))]) cl_4 V_X4_of (Or.inl q1302) dX5_fail_21 rfl rfl (Nat.le_of_ble_eq_true rfl) (Nat.le_of_ble_eq_true rfl) k10 ?_
      refine mx_aload_n dX4_of_0 rfl rfl ?_
      refine mx_iload_n dX4_of_1 rfl rfl ?_
      refine mx_putI 4 6 (ref := "PrairiePool$Wrong") cl_4 (Nat.le_of_ble_eq_true rfl) (Or.inl q356) (Or.inl rfl) dX4_of_2 (Or.inl rfl) rfl k10 ?_
      refine mx_nmI  (fun h11 eh11 Xh11 Kh11 Lh11 => ?_)
      have H := H h11 eh11 Xh11
      have La0_h11 := La0_h3.ext Xh11
      refine mx_aload_n dX4_of_5 rfl rfl ?_
      refine mx_iload_n dX4_of_6 rfl rfl ?_
      refine mx_putI 4 7 (ref := "PrairiePool$Wrong") cl_4 (Nat.le_of_ble_eq_true rfl) (Or.inl q358) (Or.inl rfl) dX4_of_7 (Or.inl rfl) rfl (ma_kde Kh11 (k10)) ?_
      refine mx_nmI  (fun h12 eh12 Xh12 Kh12 Lh12 => ?_)
      have H := H h12 eh12 Xh12
      have Kh12 := Kh12.trans Kh11
      have Lh12 := Lh12.trans Lh11
      have La0_h12 := La0_h11.ext Xh12
      refine mx_aload_n dX4_of_10 rfl rfl ?_
      refine mx_aretK rfl (by first | exact Or.inl ⟨_, rfl⟩ | exact Or.inr ⟨_, rfl⟩) dX4_of_11 ?_
      refine mx_aretK rfl (by first | exact Or.inl ⟨_, rfl⟩ | exact Or.inr ⟨_, rfl⟩) dX5_fail_24 ?_
      exact mx_athrow dX5_need_9 (by rw [(ma_kde Kh12 (k10))]; decide) (mt_out rfl (fun _ => mt_out rfl H))
  · have H := H.2 c5
    refine mx_aload_n dX5_is_8 rfl rfl ?_
    refine mx_get 5 6 (ref := "PrairiePool$Reader") cl_5 (Nat.le_of_ble_eq_true rfl) (Or.inl q390) (Or.inl rfl) dX5_is_9 (fv_5_6 _ _) (ly5_k La0_h3) ?_
    refine mx_iload_n dX5_is_12 rfl rfl ?_
    refine mx_i2l dX5_is_13 ?_
    refine mx_lif_ne (tgt := 22) dX5_is_14 dX5_is_15 rfl (fun c13 => ?_) (fun c13 => ?_)
    · have H := H.1 c13
      refine mx_iconst dX5_is_22 ic_0 ?_
      refine mx_zretK rfl dX5_is_23 (Or.inl rfl) ?_
      refine mx_callV 5 (y' := mi_X5_need) (vs := [iv (0 : Int32)]) (st := []) (al' := [some (rv a0), some (iv (0 : Int32))]) cl_5 V_X5_need (Or.inl q1294) dX5_few_18 rfl rfl (Nat.le_of_ble_eq_true rfl) (Nat.le_of_ble_eq_true rfl) (ly5_k La0_h3) ?_
      refine mx_iload_n dX5_need_0 rfl rfl ?_
      refine mx_if_ne (tgt := 10) dX5_need_1 rfl (fun _ => absurd ‹_› (by decide)) (fun _ => ?_)
      refine mx_aload_n dX5_need_4 rfl rfl ?_
      refine mx_iconst dX5_need_5 ic_2 ?_
      refine mx_callV 5 (y' := mi_X5_fail) (vs := [iv (2 : Int32)]) (st := []) (al' := [some (rv a0), some (iv (2 : Int32))]) cl_5 V_X5_fail (Or.inl q1298) dX5_need_6 rfl rfl (Nat.le_of_ble_eq_true rfl) (Nat.le_of_ble_eq_true rfl) (ly5_k La0_h3) ?_
      refine mx_aload_n dX5_fail_0 rfl rfl ?_
      refine mx_get 5 8 (ref := "PrairiePool$Reader") cl_5 (Nat.le_of_ble_eq_true rfl) (Or.inl q392) (Or.inl rfl) dX5_fail_1 (fv_5_8 _ _) (ly5_k La0_h3) ?_
      refine mx_aload_n dX5_fail_4 rfl rfl ?_
      refine mx_get 5 3 (ref := "PrairiePool$Reader") cl_5 (Nat.le_of_ble_eq_true rfl) (Or.inl q387) (Or.inl rfl) dX5_fail_5 (fv_5_3 _ _) (ly5_k La0_h3) ?_
      refine mx_iconst dX5_fail_8 ic_1 ?_
      refine mx_icmp_ne (tgt := 16) dX5_fail_9 rfl (fun c14 => ?_) (fun c14 => ?_)
      · have H := H.1 c14
        refine mx_iload_n dX5_fail_16 rfl rfl ?_
        refine mx_aload_n dX5_fail_17 rfl rfl ?_
        refine mx_get 5 4 (ref := "PrairiePool$Reader") cl_5 (Nat.le_of_ble_eq_true rfl) (Or.inl q388) (Or.inl rfl) dX5_fail_18 (fv_5_4 _ _) (ly5_k La0_h3) ?_
        obtain ⟨k15, H⟩ := H
        refine mx_callV 4 (y' := mi_X4_of) (vs := [iv (2 : Int32), iv (ah_I h3 a0 4)]) (st := []) (al' := [some (rv (ah_R h3 a0 8)), some (iv (2 : Int32)), some (iv (ah_I h3 a0 4))]) cl_4 V_X4_of (Or.inl q1302) dX5_fail_21 rfl rfl (Nat.le_of_ble_eq_true rfl) (Nat.le_of_ble_eq_true rfl) k15 ?_
        refine mx_aload_n dX4_of_0 rfl rfl ?_
        refine mx_iload_n dX4_of_1 rfl rfl ?_
        refine mx_putI 4 6 (ref := "PrairiePool$Wrong") cl_4 (Nat.le_of_ble_eq_true rfl) (Or.inl q356) (Or.inl rfl) dX4_of_2 (Or.inl rfl) rfl k15 ?_
        refine mx_nmI  (fun h16 eh16 Xh16 Kh16 Lh16 => ?_)
        have H := H h16 eh16 Xh16
        have La0_h16 := La0_h3.ext Xh16
        refine mx_aload_n dX4_of_5 rfl rfl ?_
        refine mx_iload_n dX4_of_6 rfl rfl ?_
        refine mx_putI 4 7 (ref := "PrairiePool$Wrong") cl_4 (Nat.le_of_ble_eq_true rfl) (Or.inl q358) (Or.inl rfl) dX4_of_7 (Or.inl rfl) rfl (ma_kde Kh16 (k15)) ?_
        refine mx_nmI  (fun h17 eh17 Xh17 Kh17 Lh17 => ?_)
        have H := H h17 eh17 Xh17
        have Kh17 := Kh17.trans Kh16
        have Lh17 := Lh17.trans Lh16
        have La0_h17 := La0_h16.ext Xh17
        refine mx_aload_n dX4_of_10 rfl rfl ?_
        refine mx_aretK rfl (by first | exact Or.inl ⟨_, rfl⟩ | exact Or.inr ⟨_, rfl⟩) dX4_of_11 ?_
        refine mx_aretK rfl (by first | exact Or.inl ⟨_, rfl⟩ | exact Or.inr ⟨_, rfl⟩) dX5_fail_24 ?_
        exact mx_athrow dX5_need_9 (by rw [(ma_kde Kh17 (k15))]; decide) (mt_out rfl (fun _ => mt_out rfl H))
      · have H := H.2 c14
        refine mx_iconst dX5_fail_12 ic_1 ?_
        refine mx_goto (tgt := 17) dX5_fail_13 rfl ?_
        refine mx_aload_n dX5_fail_17 rfl rfl ?_
        refine mx_get 5 4 (ref := "PrairiePool$Reader") cl_5 (Nat.le_of_ble_eq_true rfl) (Or.inl q388) (Or.inl rfl) dX5_fail_18 (fv_5_4 _ _) (ly5_k La0_h3) ?_
        obtain ⟨k18, H⟩ := H
        refine mx_callV 4 (y' := mi_X4_of) (vs := [iv (1 : Int32), iv (ah_I h3 a0 4)]) (st := []) (al' := [some (rv (ah_R h3 a0 8)), some (iv (1 : Int32)), some (iv (ah_I h3 a0 4))]) cl_4 V_X4_of (Or.inl q1302) dX5_fail_21 rfl rfl (Nat.le_of_ble_eq_true rfl) (Nat.le_of_ble_eq_true rfl) k18 ?_
        refine mx_aload_n dX4_of_0 rfl rfl ?_
        refine mx_iload_n dX4_of_1 rfl rfl ?_
        refine mx_putI 4 6 (ref := "PrairiePool$Wrong") cl_4 (Nat.le_of_ble_eq_true rfl) (Or.inl q356) (Or.inl rfl) dX4_of_2 (Or.inl rfl) rfl k18 ?_
        refine mx_nmI  (fun h19 eh19 Xh19 Kh19 Lh19 => ?_)
        have H := H h19 eh19 Xh19
        have La0_h19 := La0_h3.ext Xh19
        refine mx_aload_n dX4_of_5 rfl rfl ?_
        refine mx_iload_n dX4_of_6 rfl rfl ?_
        refine mx_putI 4 7 (ref := "PrairiePool$Wrong") cl_4 (Nat.le_of_ble_eq_true rfl) (Or.inl q358) (Or.inl rfl) dX4_of_7 (Or.inl rfl) rfl (ma_kde Kh19 (k18)) ?_
        refine mx_nmI  (fun h20 eh20 Xh20 Kh20 Lh20 => ?_)
        have H := H h20 eh20 Xh20
        have Kh20 := Kh20.trans Kh19
        have Lh20 := Lh20.trans Lh19
        have La0_h20 := La0_h19.ext Xh20
        refine mx_aload_n dX4_of_10 rfl rfl ?_
        refine mx_aretK rfl (by first | exact Or.inl ⟨_, rfl⟩ | exact Or.inr ⟨_, rfl⟩) dX4_of_11 ?_
        refine mx_aretK rfl (by first | exact Or.inl ⟨_, rfl⟩ | exact Or.inr ⟨_, rfl⟩) dX5_fail_24 ?_
        exact mx_athrow dX5_need_9 (by rw [(ma_kde Kh20 (k18))]; decide) (mt_out rfl (fun _ => mt_out rfl H))
    · have H := H.2 c13
      refine mx_iconst dX5_is_18 ic_1 ?_
      refine mx_goto (tgt := 23) dX5_is_19 rfl ?_
      refine mx_zretK rfl dX5_is_23 (Or.inr rfl) ?_
      refine mx_callV 5 (y' := mi_X5_need) (vs := [iv (1 : Int32)]) (st := []) (al' := [some (rv a0), some (iv (1 : Int32))]) cl_5 V_X5_need (Or.inl q1294) dX5_few_18 rfl rfl (Nat.le_of_ble_eq_true rfl) (Nat.le_of_ble_eq_true rfl) (ly5_k La0_h3) ?_
      refine mx_iload_n dX5_need_0 rfl rfl ?_
      refine mx_if_ne (tgt := 10) dX5_need_1 rfl (fun _ => ?_) (fun _ => absurd ‹_› (by decide))
      refine mx_vretK rfl dX5_need_10 ?_
      refine mx_aload_n dX5_few_21 rfl rfl ?_
      refine mx_callV 5 (y' := mi_X5_next) (vs := []) (st := []) (al' := [some (rv a0), none]) cl_5 V_X5_next (Or.inl q1206) dX5_few_22 rfl rfl (Nat.le_of_ble_eq_true rfl) (Nat.le_of_ble_eq_true rfl) (ly5_k La0_h3) ?_
      refine ma_kv H (fun h21 Xh21 H => ?_) (fun x1 h1 X1 H => mt_out rfl H)
      have H := H Xh21
      have La0_h21 := La0_h3.ext Xh21
      refine mx_aload_n dX5_few_25 rfl rfl ?_
      refine mx_iload_n dX5_few_26 rfl rfl ?_
      refine mx_iconst dX5_few_27 ic_1 ?_
      refine mx_iadd dX5_few_28 ?_
      refine mx_callV 5 (y' := mi_X5_inner) (vs := [iv (x1 + (1 : Int32))]) (st := []) (al' := [some (rv a0), some (iv (x1 + (1 : Int32)))]) cl_5 V_X5_inner (Or.inl q1365) dX5_few_29 rfl rfl (Nat.le_of_ble_eq_true rfl) (Nat.le_of_ble_eq_true rfl) (ly5_k La0_h21) ?_
      refine ma_kr H (fun r24 h23 Xh23 H => ?_) (fun x1 h1 X1 H => mt_out rfl H)
      have H := H Xh23
      have La0_h23 := La0_h21.ext Xh23
      refine mx_astore_n (al' := [some (rv a0), some (iv x1), some (iv r2), some (rv r24), none]) dX5_few_32 rfl (Nat.le_of_ble_eq_true rfl) rfl ?_
      refine mx_aload_n dX5_few_33 rfl rfl ?_
      refine mx_aload_n dX5_few_34 rfl rfl ?_
      refine mx_bipush dX5_few_35 ib_44 ?_
      refine mx_callV 5 (y' := mi_X5_is) (vs := [iv (44 : Int32)]) (st := [rv a0]) (al' := [some (rv a0), some (iv (44 : Int32))]) cl_5 V_X5_is (Or.inl q1307) dX5_few_37 rfl rfl (Nat.le_of_ble_eq_true rfl) (Nat.le_of_ble_eq_true rfl) (ly5_k La0_h23) ?_
      refine mx_aload_n dX5_is_0 rfl rfl ?_
      refine mx_get 5 3 (ref := "PrairiePool$Reader") cl_5 (Nat.le_of_ble_eq_true rfl) (Or.inl q387) (Or.inl rfl) dX5_is_1 (fv_5_3 _ _) (ly5_k La0_h23) ?_
      refine mx_iconst dX5_is_4 ic_4 ?_
      refine mx_icmp_ne (tgt := 22) dX5_is_5 rfl (fun c25 => ?_) (fun c25 => ?_)
      · have H := H.1 c25
        refine mx_iconst dX5_is_22 ic_0 ?_
        refine mx_zretK rfl dX5_is_23 (Or.inl rfl) ?_
        refine mx_callV 5 (y' := mi_X5_need) (vs := [iv (0 : Int32)]) (st := []) (al' := [some (rv a0), some (iv (0 : Int32))]) cl_5 V_X5_need (Or.inl q1294) dX5_few_40 rfl rfl (Nat.le_of_ble_eq_true rfl) (Nat.le_of_ble_eq_true rfl) (ly5_k La0_h23) ?_
        refine mx_iload_n dX5_need_0 rfl rfl ?_
        refine mx_if_ne (tgt := 10) dX5_need_1 rfl (fun _ => absurd ‹_› (by decide)) (fun _ => ?_)
        refine mx_aload_n dX5_need_4 rfl rfl ?_
        refine mx_iconst dX5_need_5 ic_2 ?_
        refine mx_callV 5 (y' := mi_X5_fail) (vs := [iv (2 : Int32)]) (st := []) (al' := [some (rv a0), some (iv (2 : Int32))]) cl_5 V_X5_fail (Or.inl q1298) dX5_need_6 rfl rfl (Nat.le_of_ble_eq_true rfl) (Nat.le_of_ble_eq_true rfl) (ly5_k La0_h23) ?_
        refine mx_aload_n dX5_fail_0 rfl rfl ?_
        refine mx_get 5 8 (ref := "PrairiePool$Reader") cl_5 (Nat.le_of_ble_eq_true rfl) (Or.inl q392) (Or.inl rfl) dX5_fail_1 (fv_5_8 _ _) (ly5_k La0_h23) ?_
        refine mx_aload_n dX5_fail_4 rfl rfl ?_
        refine mx_get 5 3 (ref := "PrairiePool$Reader") cl_5 (Nat.le_of_ble_eq_true rfl) (Or.inl q387) (Or.inl rfl) dX5_fail_5 (fv_5_3 _ _) (ly5_k La0_h23) ?_
        refine mx_iconst dX5_fail_8 ic_1 ?_
        refine mx_icmp_ne (tgt := 16) dX5_fail_9 rfl (fun c26 => ?_) (fun c26 => ?_)
        · have H := H.1 c26
          refine mx_iload_n dX5_fail_16 rfl rfl ?_
          refine mx_aload_n dX5_fail_17 rfl rfl ?_
          refine mx_get 5 4 (ref := "PrairiePool$Reader") cl_5 (Nat.le_of_ble_eq_true rfl) (Or.inl q388) (Or.inl rfl) dX5_fail_18 (fv_5_4 _ _) (ly5_k La0_h23) ?_
          obtain ⟨k27, H⟩ := H
          refine mx_callV 4 (y' := mi_X4_of) (vs := [iv (2 : Int32), iv (ah_I h23 a0 4)]) (st := []) (al' := [some (rv (ah_R h23 a0 8)), some (iv (2 : Int32)), some (iv (ah_I h23 a0 4))]) cl_4 V_X4_of (Or.inl q1302) dX5_fail_21 rfl rfl (Nat.le_of_ble_eq_true rfl) (Nat.le_of_ble_eq_true rfl) k27 ?_
          refine mx_aload_n dX4_of_0 rfl rfl ?_
          refine mx_iload_n dX4_of_1 rfl rfl ?_
          refine mx_putI 4 6 (ref := "PrairiePool$Wrong") cl_4 (Nat.le_of_ble_eq_true rfl) (Or.inl q356) (Or.inl rfl) dX4_of_2 (Or.inl rfl) rfl k27 ?_
          refine mx_nmI  (fun h28 eh28 Xh28 Kh28 Lh28 => ?_)
          have H := H h28 eh28 Xh28
          have La0_h28 := La0_h23.ext Xh28
          refine mx_aload_n dX4_of_5 rfl rfl ?_
          refine mx_iload_n dX4_of_6 rfl rfl ?_
          refine mx_putI 4 7 (ref := "PrairiePool$Wrong") cl_4 (Nat.le_of_ble_eq_true rfl) (Or.inl q358) (Or.inl rfl) dX4_of_7 (Or.inl rfl) rfl (ma_kde Kh28 (k27)) ?_
          refine mx_nmI  (fun h29 eh29 Xh29 Kh29 Lh29 => ?_)
          have H := H h29 eh29 Xh29
          have Kh29 := Kh29.trans Kh28
          have Lh29 := Lh29.trans Lh28
          have La0_h29 := La0_h28.ext Xh29
          refine mx_aload_n dX4_of_10 rfl rfl ?_
          refine mx_aretK rfl (by first | exact Or.inl ⟨_, rfl⟩ | exact Or.inr ⟨_, rfl⟩) dX4_of_11 ?_
          refine mx_aretK rfl (by first | exact Or.inl ⟨_, rfl⟩ | exact Or.inr ⟨_, rfl⟩) dX5_fail_24 ?_
          exact mx_athrow dX5_need_9 (by rw [(ma_kde Kh29 (k27))]; decide) (mt_out rfl (fun _ => mt_out rfl H))
        · have H := H.2 c26
          refine mx_iconst dX5_fail_12 ic_1 ?_
          refine mx_goto (tgt := 17) dX5_fail_13 rfl ?_
          refine mx_aload_n dX5_fail_17 rfl rfl ?_
          refine mx_get 5 4 (ref := "PrairiePool$Reader") cl_5 (Nat.le_of_ble_eq_true rfl) (Or.inl q388) (Or.inl rfl) dX5_fail_18 (fv_5_4 _ _) (ly5_k La0_h23) ?_
          obtain ⟨k30, H⟩ := H
          refine mx_callV 4 (y' := mi_X4_of) (vs := [iv (1 : Int32), iv (ah_I h23 a0 4)]) (st := []) (al' := [some (rv (ah_R h23 a0 8)), some (iv (1 : Int32)), some (iv (ah_I h23 a0 4))]) cl_4 V_X4_of (Or.inl q1302) dX5_fail_21 rfl rfl (Nat.le_of_ble_eq_true rfl) (Nat.le_of_ble_eq_true rfl) k30 ?_
          refine mx_aload_n dX4_of_0 rfl rfl ?_
          refine mx_iload_n dX4_of_1 rfl rfl ?_
          refine mx_putI 4 6 (ref := "PrairiePool$Wrong") cl_4 (Nat.le_of_ble_eq_true rfl) (Or.inl q356) (Or.inl rfl) dX4_of_2 (Or.inl rfl) rfl k30 ?_
          refine mx_nmI  (fun h31 eh31 Xh31 Kh31 Lh31 => ?_)
          have H := H h31 eh31 Xh31
          have La0_h31 := La0_h23.ext Xh31
          refine mx_aload_n dX4_of_5 rfl rfl ?_
          refine mx_iload_n dX4_of_6 rfl rfl ?_
          refine mx_putI 4 7 (ref := "PrairiePool$Wrong") cl_4 (Nat.le_of_ble_eq_true rfl) (Or.inl q358) (Or.inl rfl) dX4_of_7 (Or.inl rfl) rfl (ma_kde Kh31 (k30)) ?_
          refine mx_nmI  (fun h32 eh32 Xh32 Kh32 Lh32 => ?_)
          have H := H h32 eh32 Xh32
          have Kh32 := Kh32.trans Kh31
          have Lh32 := Lh32.trans Lh31
          have La0_h32 := La0_h31.ext Xh32
          refine mx_aload_n dX4_of_10 rfl rfl ?_
          refine mx_aretK rfl (by first | exact Or.inl ⟨_, rfl⟩ | exact Or.inr ⟨_, rfl⟩) dX4_of_11 ?_
          refine mx_aretK rfl (by first | exact Or.inl ⟨_, rfl⟩ | exact Or.inr ⟨_, rfl⟩) dX5_fail_24 ?_
          exact mx_athrow dX5_need_9 (by rw [(ma_kde Kh32 (k30))]; decide) (mt_out rfl (fun _ => mt_out rfl H))
      · have H := H.2 c25
        refine mx_aload_n dX5_is_8 rfl rfl ?_
        refine mx_get 5 6 (ref := "PrairiePool$Reader") cl_5 (Nat.le_of_ble_eq_true rfl) (Or.inl q390) (Or.inl rfl) dX5_is_9 (fv_5_6 _ _) (ly5_k La0_h23) ?_
        refine mx_iload_n dX5_is_12 rfl rfl ?_
        refine mx_i2l dX5_is_13 ?_
        refine mx_lif_ne (tgt := 22) dX5_is_14 dX5_is_15 rfl (fun c33 => ?_) (fun c33 => ?_)
        · have H := H.1 c33
          refine mx_iconst dX5_is_22 ic_0 ?_
          refine mx_zretK rfl dX5_is_23 (Or.inl rfl) ?_
          refine mx_callV 5 (y' := mi_X5_need) (vs := [iv (0 : Int32)]) (st := []) (al' := [some (rv a0), some (iv (0 : Int32))]) cl_5 V_X5_need (Or.inl q1294) dX5_few_40 rfl rfl (Nat.le_of_ble_eq_true rfl) (Nat.le_of_ble_eq_true rfl) (ly5_k La0_h23) ?_
          refine mx_iload_n dX5_need_0 rfl rfl ?_
          refine mx_if_ne (tgt := 10) dX5_need_1 rfl (fun _ => absurd ‹_› (by decide)) (fun _ => ?_)
          refine mx_aload_n dX5_need_4 rfl rfl ?_
          refine mx_iconst dX5_need_5 ic_2 ?_
          refine mx_callV 5 (y' := mi_X5_fail) (vs := [iv (2 : Int32)]) (st := []) (al' := [some (rv a0), some (iv (2 : Int32))]) cl_5 V_X5_fail (Or.inl q1298) dX5_need_6 rfl rfl (Nat.le_of_ble_eq_true rfl) (Nat.le_of_ble_eq_true rfl) (ly5_k La0_h23) ?_
          refine mx_aload_n dX5_fail_0 rfl rfl ?_
          refine mx_get 5 8 (ref := "PrairiePool$Reader") cl_5 (Nat.le_of_ble_eq_true rfl) (Or.inl q392) (Or.inl rfl) dX5_fail_1 (fv_5_8 _ _) (ly5_k La0_h23) ?_
          refine mx_aload_n dX5_fail_4 rfl rfl ?_
          refine mx_get 5 3 (ref := "PrairiePool$Reader") cl_5 (Nat.le_of_ble_eq_true rfl) (Or.inl q387) (Or.inl rfl) dX5_fail_5 (fv_5_3 _ _) (ly5_k La0_h23) ?_
          refine mx_iconst dX5_fail_8 ic_1 ?_
          refine mx_icmp_ne (tgt := 16) dX5_fail_9 rfl (fun c34 => ?_) (fun c34 => ?_)
          · have H := H.1 c34
            refine mx_iload_n dX5_fail_16 rfl rfl ?_
            refine mx_aload_n dX5_fail_17 rfl rfl ?_
            refine mx_get 5 4 (ref := "PrairiePool$Reader") cl_5 (Nat.le_of_ble_eq_true rfl) (Or.inl q388) (Or.inl rfl) dX5_fail_18 (fv_5_4 _ _) (ly5_k La0_h23) ?_
            obtain ⟨k35, H⟩ := H
            refine mx_callV 4 (y' := mi_X4_of) (vs := [iv (2 : Int32), iv (ah_I h23 a0 4)]) (st := []) (al' := [some (rv (ah_R h23 a0 8)), some (iv (2 : Int32)), some (iv (ah_I h23 a0 4))]) cl_4 V_X4_of (Or.inl q1302) dX5_fail_21 rfl rfl (Nat.le_of_ble_eq_true rfl) (Nat.le_of_ble_eq_true rfl) k35 ?_
            refine mx_aload_n dX4_of_0 rfl rfl ?_
            refine mx_iload_n dX4_of_1 rfl rfl ?_
            refine mx_putI 4 6 (ref := "PrairiePool$Wrong") cl_4 (Nat.le_of_ble_eq_true rfl) (Or.inl q356) (Or.inl rfl) dX4_of_2 (Or.inl rfl) rfl k35 ?_
            refine mx_nmI  (fun h36 eh36 Xh36 Kh36 Lh36 => ?_)
            have H := H h36 eh36 Xh36
            have La0_h36 := La0_h23.ext Xh36
            refine mx_aload_n dX4_of_5 rfl rfl ?_
            refine mx_iload_n dX4_of_6 rfl rfl ?_
            refine mx_putI 4 7 (ref := "PrairiePool$Wrong") cl_4 (Nat.le_of_ble_eq_true rfl) (Or.inl q358) (Or.inl rfl) dX4_of_7 (Or.inl rfl) rfl (ma_kde Kh36 (k35)) ?_
            refine mx_nmI  (fun h37 eh37 Xh37 Kh37 Lh37 => ?_)
            have H := H h37 eh37 Xh37
            have Kh37 := Kh37.trans Kh36
            have Lh37 := Lh37.trans Lh36
            have La0_h37 := La0_h36.ext Xh37
            refine mx_aload_n dX4_of_10 rfl rfl ?_
            refine mx_aretK rfl (by first | exact Or.inl ⟨_, rfl⟩ | exact Or.inr ⟨_, rfl⟩) dX4_of_11 ?_
            refine mx_aretK rfl (by first | exact Or.inl ⟨_, rfl⟩ | exact Or.inr ⟨_, rfl⟩) dX5_fail_24 ?_
            exact mx_athrow dX5_need_9 (by rw [(ma_kde Kh37 (k35))]; decide) (mt_out rfl (fun _ => mt_out rfl H))
          · have H := H.2 c34
            refine mx_iconst dX5_fail_12 ic_1 ?_
            refine mx_goto (tgt := 17) dX5_fail_13 rfl ?_
            refine mx_aload_n dX5_fail_17 rfl rfl ?_
            refine mx_get 5 4 (ref := "PrairiePool$Reader") cl_5 (Nat.le_of_ble_eq_true rfl) (Or.inl q388) (Or.inl rfl) dX5_fail_18 (fv_5_4 _ _) (ly5_k La0_h23) ?_
            obtain ⟨k38, H⟩ := H
            refine mx_callV 4 (y' := mi_X4_of) (vs := [iv (1 : Int32), iv (ah_I h23 a0 4)]) (st := []) (al' := [some (rv (ah_R h23 a0 8)), some (iv (1 : Int32)), some (iv (ah_I h23 a0 4))]) cl_4 V_X4_of (Or.inl q1302) dX5_fail_21 rfl rfl (Nat.le_of_ble_eq_true rfl) (Nat.le_of_ble_eq_true rfl) k38 ?_
            refine mx_aload_n dX4_of_0 rfl rfl ?_
            refine mx_iload_n dX4_of_1 rfl rfl ?_
            refine mx_putI 4 6 (ref := "PrairiePool$Wrong") cl_4 (Nat.le_of_ble_eq_true rfl) (Or.inl q356) (Or.inl rfl) dX4_of_2 (Or.inl rfl) rfl k38 ?_
            refine mx_nmI  (fun h39 eh39 Xh39 Kh39 Lh39 => ?_)
            have H := H h39 eh39 Xh39
            have La0_h39 := La0_h23.ext Xh39
            refine mx_aload_n dX4_of_5 rfl rfl ?_
            refine mx_iload_n dX4_of_6 rfl rfl ?_
            refine mx_putI 4 7 (ref := "PrairiePool$Wrong") cl_4 (Nat.le_of_ble_eq_true rfl) (Or.inl q358) (Or.inl rfl) dX4_of_7 (Or.inl rfl) rfl (ma_kde Kh39 (k38)) ?_
            refine mx_nmI  (fun h40 eh40 Xh40 Kh40 Lh40 => ?_)
            have H := H h40 eh40 Xh40
            have Kh40 := Kh40.trans Kh39
            have Lh40 := Lh40.trans Lh39
            have La0_h40 := La0_h39.ext Xh40
            refine mx_aload_n dX4_of_10 rfl rfl ?_
            refine mx_aretK rfl (by first | exact Or.inl ⟨_, rfl⟩ | exact Or.inr ⟨_, rfl⟩) dX4_of_11 ?_
            refine mx_aretK rfl (by first | exact Or.inl ⟨_, rfl⟩ | exact Or.inr ⟨_, rfl⟩) dX5_fail_24 ?_
            exact mx_athrow dX5_need_9 (by rw [(ma_kde Kh40 (k38))]; decide) (mt_out rfl (fun _ => mt_out rfl H))
        · have H := H.2 c33
          refine mx_iconst dX5_is_18 ic_1 ?_
          refine mx_goto (tgt := 23) dX5_is_19 rfl ?_
          refine mx_zretK rfl dX5_is_23 (Or.inr rfl) ?_
          refine mx_callV 5 (y' := mi_X5_need) (vs := [iv (1 : Int32)]) (st := []) (al' := [some (rv a0), some (iv (1 : Int32))]) cl_5 V_X5_need (Or.inl q1294) dX5_few_40 rfl rfl (Nat.le_of_ble_eq_true rfl) (Nat.le_of_ble_eq_true rfl) (ly5_k La0_h23) ?_
          refine mx_iload_n dX5_need_0 rfl rfl ?_
          refine mx_if_ne (tgt := 10) dX5_need_1 rfl (fun _ => ?_) (fun _ => absurd ‹_› (by decide))
          refine mx_vretK rfl dX5_need_10 ?_
          refine mx_aload_n dX5_few_43 rfl rfl ?_
          refine mx_callV 5 (y' := mi_X5_next) (vs := []) (st := []) (al' := [some (rv a0), none]) cl_5 V_X5_next (Or.inl q1206) dX5_few_44 rfl rfl (Nat.le_of_ble_eq_true rfl) (Nat.le_of_ble_eq_true rfl) (ly5_k La0_h23) ?_
          refine ma_kv H (fun h41 Xh41 H => ?_) (fun x1 h1 X1 H => mt_out rfl H)
          have H := H Xh41
          have La0_h41 := La0_h23.ext Xh41
          refine mx_aload_n dX5_few_47 rfl rfl ?_
          refine mx_iload_n dX5_few_48 rfl rfl ?_
          refine mx_iconst dX5_few_49 ic_1 ?_
          refine mx_iadd dX5_few_50 ?_
          refine mx_callV 5 (y' := mi_X5_inner) (vs := [iv (x1 + (1 : Int32))]) (st := []) (al' := [some (rv a0), some (iv (x1 + (1 : Int32)))]) cl_5 V_X5_inner (Or.inl q1365) dX5_few_51 rfl rfl (Nat.le_of_ble_eq_true rfl) (Nat.le_of_ble_eq_true rfl) (ly5_k La0_h41) ?_
          refine ma_kr H (fun r44 h43 Xh43 H => ?_) (fun x1 h1 X1 H => mt_out rfl H)
          have H := H Xh43
          have La0_h43 := La0_h41.ext Xh43
          refine mx_astore (al' := [some (rv a0), some (iv x1), some (iv r2), some (rv r24), some (rv r44)]) dX5_few_54 (Nat.le_of_ble_eq_true rfl) rfl ?_
          refine mx_aload_n dX5_few_56 rfl rfl ?_
          refine mx_aload_n dX5_few_57 rfl rfl ?_
          refine mx_bipush dX5_few_58 ib_41 ?_
          refine mx_callV 5 (y' := mi_X5_is) (vs := [iv (41 : Int32)]) (st := [rv a0]) (al' := [some (rv a0), some (iv (41 : Int32))]) cl_5 V_X5_is (Or.inl q1307) dX5_few_60 rfl rfl (Nat.le_of_ble_eq_true rfl) (Nat.le_of_ble_eq_true rfl) (ly5_k La0_h43) ?_
          refine mx_aload_n dX5_is_0 rfl rfl ?_
          refine mx_get 5 3 (ref := "PrairiePool$Reader") cl_5 (Nat.le_of_ble_eq_true rfl) (Or.inl q387) (Or.inl rfl) dX5_is_1 (fv_5_3 _ _) (ly5_k La0_h43) ?_
          refine mx_iconst dX5_is_4 ic_4 ?_
          refine mx_icmp_ne (tgt := 22) dX5_is_5 rfl (fun c45 => ?_) (fun c45 => ?_)
          · have H := H.1 c45
            refine mx_iconst dX5_is_22 ic_0 ?_
            refine mx_zretK rfl dX5_is_23 (Or.inl rfl) ?_
            refine mx_callV 5 (y' := mi_X5_need) (vs := [iv (0 : Int32)]) (st := []) (al' := [some (rv a0), some (iv (0 : Int32))]) cl_5 V_X5_need (Or.inl q1294) dX5_few_63 rfl rfl (Nat.le_of_ble_eq_true rfl) (Nat.le_of_ble_eq_true rfl) (ly5_k La0_h43) ?_
            refine mx_iload_n dX5_need_0 rfl rfl ?_
            refine mx_if_ne (tgt := 10) dX5_need_1 rfl (fun _ => absurd ‹_› (by decide)) (fun _ => ?_)
            refine mx_aload_n dX5_need_4 rfl rfl ?_
            refine mx_iconst dX5_need_5 ic_2 ?_
            refine mx_callV 5 (y' := mi_X5_fail) (vs := [iv (2 : Int32)]) (st := []) (al' := [some (rv a0), some (iv (2 : Int32))]) cl_5 V_X5_fail (Or.inl q1298) dX5_need_6 rfl rfl (Nat.le_of_ble_eq_true rfl) (Nat.le_of_ble_eq_true rfl) (ly5_k La0_h43) ?_
            refine mx_aload_n dX5_fail_0 rfl rfl ?_
            refine mx_get 5 8 (ref := "PrairiePool$Reader") cl_5 (Nat.le_of_ble_eq_true rfl) (Or.inl q392) (Or.inl rfl) dX5_fail_1 (fv_5_8 _ _) (ly5_k La0_h43) ?_
            refine mx_aload_n dX5_fail_4 rfl rfl ?_
            refine mx_get 5 3 (ref := "PrairiePool$Reader") cl_5 (Nat.le_of_ble_eq_true rfl) (Or.inl q387) (Or.inl rfl) dX5_fail_5 (fv_5_3 _ _) (ly5_k La0_h43) ?_
            refine mx_iconst dX5_fail_8 ic_1 ?_
            refine mx_icmp_ne (tgt := 16) dX5_fail_9 rfl (fun c46 => ?_) (fun c46 => ?_)
            · have H := H.1 c46
              refine mx_iload_n dX5_fail_16 rfl rfl ?_
              refine mx_aload_n dX5_fail_17 rfl rfl ?_
              refine mx_get 5 4 (ref := "PrairiePool$Reader") cl_5 (Nat.le_of_ble_eq_true rfl) (Or.inl q388) (Or.inl rfl) dX5_fail_18 (fv_5_4 _ _) (ly5_k La0_h43) ?_
              obtain ⟨k47, H⟩ := H
              refine mx_callV 4 (y' := mi_X4_of) (vs := [iv (2 : Int32), iv (ah_I h43 a0 4)]) (st := []) (al' := [some (rv (ah_R h43 a0 8)), some (iv (2 : Int32)), some (iv (ah_I h43 a0 4))]) cl_4 V_X4_of (Or.inl q1302) dX5_fail_21 rfl rfl (Nat.le_of_ble_eq_true rfl) (Nat.le_of_ble_eq_true rfl) k47 ?_
              refine mx_aload_n dX4_of_0 rfl rfl ?_
              refine mx_iload_n dX4_of_1 rfl rfl ?_
              refine mx_putI 4 6 (ref := "PrairiePool$Wrong") cl_4 (Nat.le_of_ble_eq_true rfl) (Or.inl q356) (Or.inl rfl) dX4_of_2 (Or.inl rfl) rfl k47 ?_
              refine mx_nmI  (fun h48 eh48 Xh48 Kh48 Lh48 => ?_)
              have H := H h48 eh48 Xh48
              have La0_h48 := La0_h43.ext Xh48
              refine mx_aload_n dX4_of_5 rfl rfl ?_
              refine mx_iload_n dX4_of_6 rfl rfl ?_
              refine mx_putI 4 7 (ref := "PrairiePool$Wrong") cl_4 (Nat.le_of_ble_eq_true rfl) (Or.inl q358) (Or.inl rfl) dX4_of_7 (Or.inl rfl) rfl (ma_kde Kh48 (k47)) ?_
              refine mx_nmI  (fun h49 eh49 Xh49 Kh49 Lh49 => ?_)
              have H := H h49 eh49 Xh49
              have Kh49 := Kh49.trans Kh48
              have Lh49 := Lh49.trans Lh48
              have La0_h49 := La0_h48.ext Xh49
              refine mx_aload_n dX4_of_10 rfl rfl ?_
              refine mx_aretK rfl (by first | exact Or.inl ⟨_, rfl⟩ | exact Or.inr ⟨_, rfl⟩) dX4_of_11 ?_
              refine mx_aretK rfl (by first | exact Or.inl ⟨_, rfl⟩ | exact Or.inr ⟨_, rfl⟩) dX5_fail_24 ?_
              exact mx_athrow dX5_need_9 (by rw [(ma_kde Kh49 (k47))]; decide) (mt_out rfl (fun _ => mt_out rfl H))
            · have H := H.2 c46
              refine mx_iconst dX5_fail_12 ic_1 ?_
              refine mx_goto (tgt := 17) dX5_fail_13 rfl ?_
              refine mx_aload_n dX5_fail_17 rfl rfl ?_
              refine mx_get 5 4 (ref := "PrairiePool$Reader") cl_5 (Nat.le_of_ble_eq_true rfl) (Or.inl q388) (Or.inl rfl) dX5_fail_18 (fv_5_4 _ _) (ly5_k La0_h43) ?_
              obtain ⟨k50, H⟩ := H
              refine mx_callV 4 (y' := mi_X4_of) (vs := [iv (1 : Int32), iv (ah_I h43 a0 4)]) (st := []) (al' := [some (rv (ah_R h43 a0 8)), some (iv (1 : Int32)), some (iv (ah_I h43 a0 4))]) cl_4 V_X4_of (Or.inl q1302) dX5_fail_21 rfl rfl (Nat.le_of_ble_eq_true rfl) (Nat.le_of_ble_eq_true rfl) k50 ?_
              refine mx_aload_n dX4_of_0 rfl rfl ?_
              refine mx_iload_n dX4_of_1 rfl rfl ?_
              refine mx_putI 4 6 (ref := "PrairiePool$Wrong") cl_4 (Nat.le_of_ble_eq_true rfl) (Or.inl q356) (Or.inl rfl) dX4_of_2 (Or.inl rfl) rfl k50 ?_
              refine mx_nmI  (fun h51 eh51 Xh51 Kh51 Lh51 => ?_)
              have H := H h51 eh51 Xh51
              have La0_h51 := La0_h43.ext Xh51
              refine mx_aload_n dX4_of_5 rfl rfl ?_
              refine mx_iload_n dX4_of_6 rfl rfl ?_
              refine mx_putI 4 7 (ref := "PrairiePool$Wrong") cl_4 (Nat.le_of_ble_eq_true rfl) (Or.inl q358) (Or.inl rfl) dX4_of_7 (Or.inl rfl) rfl (ma_kde Kh51 (k50)) ?_
              refine mx_nmI  (fun h52 eh52 Xh52 Kh52 Lh52 => ?_)
              have H := H h52 eh52 Xh52
              have Kh52 := Kh52.trans Kh51
              have Lh52 := Lh52.trans Lh51
              have La0_h52 := La0_h51.ext Xh52
              refine mx_aload_n dX4_of_10 rfl rfl ?_
              refine mx_aretK rfl (by first | exact Or.inl ⟨_, rfl⟩ | exact Or.inr ⟨_, rfl⟩) dX4_of_11 ?_
              refine mx_aretK rfl (by first | exact Or.inl ⟨_, rfl⟩ | exact Or.inr ⟨_, rfl⟩) dX5_fail_24 ?_
              exact mx_athrow dX5_need_9 (by rw [(ma_kde Kh52 (k50))]; decide) (mt_out rfl (fun _ => mt_out rfl H))
          · have H := H.2 c45
            refine mx_aload_n dX5_is_8 rfl rfl ?_
            refine mx_get 5 6 (ref := "PrairiePool$Reader") cl_5 (Nat.le_of_ble_eq_true rfl) (Or.inl q390) (Or.inl rfl) dX5_is_9 (fv_5_6 _ _) (ly5_k La0_h43) ?_
            refine mx_iload_n dX5_is_12 rfl rfl ?_
            refine mx_i2l dX5_is_13 ?_
            refine mx_lif_ne (tgt := 22) dX5_is_14 dX5_is_15 rfl (fun c53 => ?_) (fun c53 => ?_)
            · have H := H.1 c53
              refine mx_iconst dX5_is_22 ic_0 ?_
              refine mx_zretK rfl dX5_is_23 (Or.inl rfl) ?_
              refine mx_callV 5 (y' := mi_X5_need) (vs := [iv (0 : Int32)]) (st := []) (al' := [some (rv a0), some (iv (0 : Int32))]) cl_5 V_X5_need (Or.inl q1294) dX5_few_63 rfl rfl (Nat.le_of_ble_eq_true rfl) (Nat.le_of_ble_eq_true rfl) (ly5_k La0_h43) ?_
              refine mx_iload_n dX5_need_0 rfl rfl ?_
              refine mx_if_ne (tgt := 10) dX5_need_1 rfl (fun _ => absurd ‹_› (by decide)) (fun _ => ?_)
              refine mx_aload_n dX5_need_4 rfl rfl ?_
              refine mx_iconst dX5_need_5 ic_2 ?_
              refine mx_callV 5 (y' := mi_X5_fail) (vs := [iv (2 : Int32)]) (st := []) (al' := [some (rv a0), some (iv (2 : Int32))]) cl_5 V_X5_fail (Or.inl q1298) dX5_need_6 rfl rfl (Nat.le_of_ble_eq_true rfl) (Nat.le_of_ble_eq_true rfl) (ly5_k La0_h43) ?_
              refine mx_aload_n dX5_fail_0 rfl rfl ?_
              refine mx_get 5 8 (ref := "PrairiePool$Reader") cl_5 (Nat.le_of_ble_eq_true rfl) (Or.inl q392) (Or.inl rfl) dX5_fail_1 (fv_5_8 _ _) (ly5_k La0_h43) ?_
              refine mx_aload_n dX5_fail_4 rfl rfl ?_
              refine mx_get 5 3 (ref := "PrairiePool$Reader") cl_5 (Nat.le_of_ble_eq_true rfl) (Or.inl q387) (Or.inl rfl) dX5_fail_5 (fv_5_3 _ _) (ly5_k La0_h43) ?_
              refine mx_iconst dX5_fail_8 ic_1 ?_
              refine mx_icmp_ne (tgt := 16) dX5_fail_9 rfl (fun c54 => ?_) (fun c54 => ?_)
              · have H := H.1 c54
                refine mx_iload_n dX5_fail_16 rfl rfl ?_
                refine mx_aload_n dX5_fail_17 rfl rfl ?_
                refine mx_get 5 4 (ref := "PrairiePool$Reader") cl_5 (Nat.le_of_ble_eq_true rfl) (Or.inl q388) (Or.inl rfl) dX5_fail_18 (fv_5_4 _ _) (ly5_k La0_h43) ?_
                obtain ⟨k55, H⟩ := H
                refine mx_callV 4 (y' := mi_X4_of) (vs := [iv (2 : Int32), iv (ah_I h43 a0 4)]) (st := []) (al' := [some (rv (ah_R h43 a0 8)), some (iv (2 : Int32)), some (iv (ah_I h43 a0 4))]) cl_4 V_X4_of (Or.inl q1302) dX5_fail_21 rfl rfl (Nat.le_of_ble_eq_true rfl) (Nat.le_of_ble_eq_true rfl) k55 ?_
                refine mx_aload_n dX4_of_0 rfl rfl ?_
                refine mx_iload_n dX4_of_1 rfl rfl ?_
                refine mx_putI 4 6 (ref := "PrairiePool$Wrong") cl_4 (Nat.le_of_ble_eq_true rfl) (Or.inl q356) (Or.inl rfl) dX4_of_2 (Or.inl rfl) rfl k55 ?_
                refine mx_nmI  (fun h56 eh56 Xh56 Kh56 Lh56 => ?_)
                have H := H h56 eh56 Xh56
                have La0_h56 := La0_h43.ext Xh56
                refine mx_aload_n dX4_of_5 rfl rfl ?_
                refine mx_iload_n dX4_of_6 rfl rfl ?_
                refine mx_putI 4 7 (ref := "PrairiePool$Wrong") cl_4 (Nat.le_of_ble_eq_true rfl) (Or.inl q358) (Or.inl rfl) dX4_of_7 (Or.inl rfl) rfl (ma_kde Kh56 (k55)) ?_
                refine mx_nmI  (fun h57 eh57 Xh57 Kh57 Lh57 => ?_)
                have H := H h57 eh57 Xh57
                have Kh57 := Kh57.trans Kh56
                have Lh57 := Lh57.trans Lh56
                have La0_h57 := La0_h56.ext Xh57
                refine mx_aload_n dX4_of_10 rfl rfl ?_
                refine mx_aretK rfl (by first | exact Or.inl ⟨_, rfl⟩ | exact Or.inr ⟨_, rfl⟩) dX4_of_11 ?_
                refine mx_aretK rfl (by first | exact Or.inl ⟨_, rfl⟩ | exact Or.inr ⟨_, rfl⟩) dX5_fail_24 ?_
                exact mx_athrow dX5_need_9 (by rw [(ma_kde Kh57 (k55))]; decide) (mt_out rfl (fun _ => mt_out rfl H))
              · have H := H.2 c54
                refine mx_iconst dX5_fail_12 ic_1 ?_
                refine mx_goto (tgt := 17) dX5_fail_13 rfl ?_
                refine mx_aload_n dX5_fail_17 rfl rfl ?_
                refine mx_get 5 4 (ref := "PrairiePool$Reader") cl_5 (Nat.le_of_ble_eq_true rfl) (Or.inl q388) (Or.inl rfl) dX5_fail_18 (fv_5_4 _ _) (ly5_k La0_h43) ?_
                obtain ⟨k58, H⟩ := H
                refine mx_callV 4 (y' := mi_X4_of) (vs := [iv (1 : Int32), iv (ah_I h43 a0 4)]) (st := []) (al' := [some (rv (ah_R h43 a0 8)), some (iv (1 : Int32)), some (iv (ah_I h43 a0 4))]) cl_4 V_X4_of (Or.inl q1302) dX5_fail_21 rfl rfl (Nat.le_of_ble_eq_true rfl) (Nat.le_of_ble_eq_true rfl) k58 ?_
                refine mx_aload_n dX4_of_0 rfl rfl ?_
                refine mx_iload_n dX4_of_1 rfl rfl ?_
                refine mx_putI 4 6 (ref := "PrairiePool$Wrong") cl_4 (Nat.le_of_ble_eq_true rfl) (Or.inl q356) (Or.inl rfl) dX4_of_2 (Or.inl rfl) rfl k58 ?_
                refine mx_nmI  (fun h59 eh59 Xh59 Kh59 Lh59 => ?_)
                have H := H h59 eh59 Xh59
                have La0_h59 := La0_h43.ext Xh59
                refine mx_aload_n dX4_of_5 rfl rfl ?_
                refine mx_iload_n dX4_of_6 rfl rfl ?_
                refine mx_putI 4 7 (ref := "PrairiePool$Wrong") cl_4 (Nat.le_of_ble_eq_true rfl) (Or.inl q358) (Or.inl rfl) dX4_of_7 (Or.inl rfl) rfl (ma_kde Kh59 (k58)) ?_
                refine mx_nmI  (fun h60 eh60 Xh60 Kh60 Lh60 => ?_)
                have H := H h60 eh60 Xh60
                have Kh60 := Kh60.trans Kh59
                have Lh60 := Lh60.trans Lh59
                have La0_h60 := La0_h59.ext Xh60
                refine mx_aload_n dX4_of_10 rfl rfl ?_
                refine mx_aretK rfl (by first | exact Or.inl ⟨_, rfl⟩ | exact Or.inr ⟨_, rfl⟩) dX4_of_11 ?_
                refine mx_aretK rfl (by first | exact Or.inl ⟨_, rfl⟩ | exact Or.inr ⟨_, rfl⟩) dX5_fail_24 ?_
                exact mx_athrow dX5_need_9 (by rw [(ma_kde Kh60 (k58))]; decide) (mt_out rfl (fun _ => mt_out rfl H))
            · have H := H.2 c53
              refine mx_iconst dX5_is_18 ic_1 ?_
              refine mx_goto (tgt := 23) dX5_is_19 rfl ?_
              refine mx_zretK rfl dX5_is_23 (Or.inr rfl) ?_
              refine mx_callV 5 (y' := mi_X5_need) (vs := [iv (1 : Int32)]) (st := []) (al' := [some (rv a0), some (iv (1 : Int32))]) cl_5 V_X5_need (Or.inl q1294) dX5_few_63 rfl rfl (Nat.le_of_ble_eq_true rfl) (Nat.le_of_ble_eq_true rfl) (ly5_k La0_h43) ?_
              refine mx_iload_n dX5_need_0 rfl rfl ?_
              refine mx_if_ne (tgt := 10) dX5_need_1 rfl (fun _ => ?_) (fun _ => absurd ‹_› (by decide))
              refine mx_vretK rfl dX5_need_10 ?_
              refine mx_aload_n dX5_few_66 rfl rfl ?_
              refine mx_callV 5 (y' := mi_X5_next) (vs := []) (st := []) (al' := [some (rv a0), none]) cl_5 V_X5_next (Or.inl q1206) dX5_few_67 rfl rfl (Nat.le_of_ble_eq_true rfl) (Nat.le_of_ble_eq_true rfl) (ly5_k La0_h43) ?_
              refine ma_kv H (fun h61 Xh61 H => ?_) (fun x1 h1 X1 H => mt_out rfl H)
              have H := H Xh61
              have La0_h61 := La0_h43.ext Xh61
              obtain ⟨k63, H⟩ := H
              refine mx_new 17 cl_17 dk_17 q1369 q1370 q152 dX5_few_70 k63.1 k63.2 (fun x_ lv_ => ?_)
              refine mx_nmN x_ lv_ (fun h64 eh64 Xh64 lv_ => ?_)
              have H := H h64 eh64 Xh64 lv_
              have La0_h64 := La0_h61.ext Xh64
              have k65 : ah_kd h64 (ah_sz h61) = 18 := by rw [eh64]; exact if_pos rfl
              refine mx_dup_r dX5_few_73 ?_
              refine mx_iload_n dX5_few_74 rfl rfl ?_
              refine mx_aload_n dX5_few_75 rfl rfl ?_
              refine mx_aload dX5_few_76 rfl ?_
              refine mx_callI (y' := mi_X20_init) (vs := [iv r2, rv r24, rv r44]) (st := [rv (ah_sz h61)]) (al' := [some (rv (ah_sz h61)), some (iv r2), some (rv r24), some (rv r44)]) I_X20_init (Or.inl q1371) dX5_few_78 rfl rfl (Nat.le_of_ble_eq_true rfl) (Nat.le_of_ble_eq_true rfl) (by rw [k65]; decide) ?_
              refine ma_kv H (fun h66 Xh66 H => ?_) (fun x1 h1 X1 H => mt_out rfl H)
              have H := H Xh66
              have k68 := Xh66.kd (k65)
              have La0_h66 := La0_h64.ext Xh66
              exact mx_aret rfl (by first | exact Or.inl ⟨_, rfl⟩ | exact Or.inr ⟨_, rfl⟩) dX5_few_81 H
theorem dX5_inner_0 : decode mi_X5_inner.2.1 0 = .ok (.iload_n 1, 1) := by decide +kernel
theorem dX5_inner_1 : decode mi_X5_inner.2.1 1 = .ok (.bipush 8, 2) := by decide +kernel
theorem dX5_inner_3 : decode mi_X5_inner.2.1 3 = .ok (.if_icmp .gt 9, 3) := by decide +kernel
theorem dX5_inner_6 : decode mi_X5_inner.2.1 6 = .ok (.aload_n 0, 1) := by decide +kernel
theorem dX5_inner_7 : decode mi_X5_inner.2.1 7 = .ok (.iload_n 1, 1) := by decide +kernel
theorem dX5_inner_8 : decode mi_X5_inner.2.1 8 = .ok (.invokevirtual 146, 3) := by decide +kernel
theorem dX5_inner_11 : decode mi_X5_inner.2.1 11 = .ok (.areturn, 1) := by decide +kernel
theorem dX5_inner_12 : decode mi_X5_inner.2.1 12 = .ok (.aload_n 0, 1) := by decide +kernel
theorem dX5_inner_13 : decode mi_X5_inner.2.1 13 = .ok (.aload_n 0, 1) := by decide +kernel
theorem dX5_inner_14 : decode mi_X5_inner.2.1 14 = .ok (.invokevirtual 142, 3) := by decide +kernel
theorem dX5_inner_17 : decode mi_X5_inner.2.1 17 = .ok (.invokevirtual 113, 3) := by decide +kernel
theorem dX5_inner_20 : decode mi_X5_inner.2.1 20 = .ok (.aload_n 0, 1) := by decide +kernel
theorem dX5_inner_21 : decode mi_X5_inner.2.1 21 = .ok (.iconst 5, 1) := by decide +kernel
theorem dX5_inner_22 : decode mi_X5_inner.2.1 22 = .ok (.invokevirtual 68, 3) := by decide +kernel
theorem dX5_inner_25 : decode mi_X5_inner.2.1 25 = .ok (.athrow, 1) := by decide +kernel
theorem v_X5_inner {G : ma_G} {d : Nat} {a0 : Nat} {x1 : Int32} {h : ah_T} {Q : Option ma_V → ah_T → Prop} {E : Nat → ah_T → Prop} (La0_h : LY5 h a0) (H : ((8 : Int32) < x1 → MX G mi_X5_begins (d + 2) 0 [some (rv a0)] [] h (Qi fun r3 h2 => ah_ext h h2 → (¬ r3 = 0 → (¬ (ah_I h2 a0 3) = (1 : Int32) → ah_kd h2 (ah_R h2 a0 8) = 5 ∧ ∀ h7 : ah_T, h7 = ah_wI h2 (ah_R h2 a0 8) 6 (5 : Int32) → ah_ext h2 h7 → ∀ h8 : ah_T, h8 = ah_wI h7 (ah_R h2 a0 8) 7 (ah_I h2 a0 4) → ah_ext h7 h8 → E (ah_R h2 a0 8) h8) ∧ ((ah_I h2 a0 3) = (1 : Int32) → ah_kd h2 (ah_R h2 a0 8) = 5 ∧ ∀ h10 : ah_T, h10 = ah_wI h2 (ah_R h2 a0 8) 6 (1 : Int32) → ah_ext h2 h10 → ∀ h11 : ah_T, h11 = ah_wI h10 (ah_R h2 a0 8) 7 (ah_I h2 a0 4) → ah_ext h10 h11 → E (ah_R h2 a0 8) h11)) ∧ (r3 = 0 → (¬ (ah_I h2 a0 3) = (1 : Int32) → ah_kd h2 (ah_R h2 a0 8) = 5 ∧ ∀ h14 : ah_T, h14 = ah_wI h2 (ah_R h2 a0 8) 6 (2 : Int32) → ah_ext h2 h14 → ∀ h15 : ah_T, h15 = ah_wI h14 (ah_R h2 a0 8) 7 (ah_I h2 a0 4) → ah_ext h14 h15 → E (ah_R h2 a0 8) h15) ∧ ((ah_I h2 a0 3) = (1 : Int32) → ah_kd h2 (ah_R h2 a0 8) = 5 ∧ ∀ h17 : ah_T, h17 = ah_wI h2 (ah_R h2 a0 8) 6 (1 : Int32) → ah_ext h2 h17 → ∀ h18 : ah_T, h18 = ah_wI h17 (ah_R h2 a0 8) 7 (ah_I h2 a0 4) → ah_ext h17 h18 → E (ah_R h2 a0 8) h18))) E) ∧ (¬ (8 : Int32) < x1 → MX G mi_X5_sum (d + 2) 0 [some (rv a0), some (iv x1), none, none] [] h (Qr fun r20 h19 => ah_ext h h19 → Q (some (rv r20)) h19) E)) : MX G mi_X5_inner (d + 3) 0 [some (rv a0), some (iv x1)] [] h Q E := by
  refine mx_iload_n dX5_inner_0 rfl rfl ?_
  refine mx_bipush dX5_inner_1 ib_8 ?_
  refine mx_icmp_gt (tgt := 12) dX5_inner_3 rfl (fun c1 => ?_) (fun c1 => ?_)
  · have H := H.1 c1
    refine mx_aload_n dX5_inner_12 rfl rfl ?_
    refine mx_aload_n dX5_inner_13 rfl rfl ?_
    refine mx_callV 5 (y' := mi_X5_begins) (vs := []) (st := [rv a0]) (al' := [some (rv a0)]) cl_5 V_X5_begins (Or.inl q1319) dX5_inner_14 rfl rfl (Nat.le_of_ble_eq_true rfl) (Nat.le_of_ble_eq_true rfl) (ly5_k La0_h) ?_
    refine ma_ki H (fun r3 h2 Xh2 H => ?_) (fun x1 h1 X1 H => mt_out rfl H)
    have H := H Xh2
    have La0_h2 := La0_h.ext Xh2
    refine mx_callV 5 (y' := mi_X5_need) (vs := [iv r3]) (st := []) (al' := [some (rv a0), some (iv r3)]) cl_5 V_X5_need (Or.inl q1294) dX5_inner_17 rfl rfl (Nat.le_of_ble_eq_true rfl) (Nat.le_of_ble_eq_true rfl) (ly5_k La0_h2) ?_
    refine mx_iload_n dX5_need_0 rfl rfl ?_
    refine mx_if_ne (tgt := 10) dX5_need_1 rfl (fun c4 => ?_) (fun c4 => ?_)
    · have H := H.1 c4
      refine mx_vretK rfl dX5_need_10 ?_
      refine mx_aload_n dX5_inner_20 rfl rfl ?_
      refine mx_iconst dX5_inner_21 ic_5 ?_
      refine mx_callV 5 (y' := mi_X5_fail) (vs := [iv (5 : Int32)]) (st := []) (al' := [some (rv a0), some (iv (5 : Int32))]) cl_5 V_X5_fail (Or.inl q1298) dX5_inner_22 rfl rfl (Nat.le_of_ble_eq_true rfl) (Nat.le_of_ble_eq_true rfl) (ly5_k La0_h2) ?_
      refine mx_aload_n dX5_fail_0 rfl rfl ?_
      refine mx_get 5 8 (ref := "PrairiePool$Reader") cl_5 (Nat.le_of_ble_eq_true rfl) (Or.inl q392) (Or.inl rfl) dX5_fail_1 (fv_5_8 _ _) (ly5_k La0_h2) ?_
      refine mx_aload_n dX5_fail_4 rfl rfl ?_
      refine mx_get 5 3 (ref := "PrairiePool$Reader") cl_5 (Nat.le_of_ble_eq_true rfl) (Or.inl q387) (Or.inl rfl) dX5_fail_5 (fv_5_3 _ _) (ly5_k La0_h2) ?_
      refine mx_iconst dX5_fail_8 ic_1 ?_
      refine mx_icmp_ne (tgt := 16) dX5_fail_9 rfl (fun c5 => ?_) (fun c5 => ?_)
      · have H := H.1 c5
        refine mx_iload_n dX5_fail_16 rfl rfl ?_
        refine mx_aload_n dX5_fail_17 rfl rfl ?_
        refine mx_get 5 4 (ref := "PrairiePool$Reader") cl_5 (Nat.le_of_ble_eq_true rfl) (Or.inl q388) (Or.inl rfl) dX5_fail_18 (fv_5_4 _ _) (ly5_k La0_h2) ?_
        obtain ⟨k6, H⟩ := H
        refine mx_callV 4 (y' := mi_X4_of) (vs := [iv (5 : Int32), iv (ah_I h2 a0 4)]) (st := []) (al' := [some (rv (ah_R h2 a0 8)), some (iv (5 : Int32)), some (iv (ah_I h2 a0 4))]) cl_4 V_X4_of (Or.inl q1302) dX5_fail_21 rfl rfl (Nat.le_of_ble_eq_true rfl) (Nat.le_of_ble_eq_true rfl) k6 ?_
        refine mx_aload_n dX4_of_0 rfl rfl ?_
        refine mx_iload_n dX4_of_1 rfl rfl ?_
        refine mx_putI 4 6 (ref := "PrairiePool$Wrong") cl_4 (Nat.le_of_ble_eq_true rfl) (Or.inl q356) (Or.inl rfl) dX4_of_2 (Or.inl rfl) rfl k6 ?_
        refine mx_nmI  (fun h7 eh7 Xh7 Kh7 Lh7 => ?_)
        have H := H h7 eh7 Xh7
        have La0_h7 := La0_h2.ext Xh7
        refine mx_aload_n dX4_of_5 rfl rfl ?_
        refine mx_iload_n dX4_of_6 rfl rfl ?_
        refine mx_putI 4 7 (ref := "PrairiePool$Wrong") cl_4 (Nat.le_of_ble_eq_true rfl) (Or.inl q358) (Or.inl rfl) dX4_of_7 (Or.inl rfl) rfl (ma_kde Kh7 (k6)) ?_
        refine mx_nmI  (fun h8 eh8 Xh8 Kh8 Lh8 => ?_)
        have H := H h8 eh8 Xh8
        have Kh8 := Kh8.trans Kh7
        have Lh8 := Lh8.trans Lh7
        have La0_h8 := La0_h7.ext Xh8
        refine mx_aload_n dX4_of_10 rfl rfl ?_
        refine mx_aretK rfl (by first | exact Or.inl ⟨_, rfl⟩ | exact Or.inr ⟨_, rfl⟩) dX4_of_11 ?_
        refine mx_aretK rfl (by first | exact Or.inl ⟨_, rfl⟩ | exact Or.inr ⟨_, rfl⟩) dX5_fail_24 ?_
        exact mx_athrow dX5_inner_25 (by rw [(ma_kde Kh8 (k6))]; decide) (mt_out rfl H)
      · have H := H.2 c5
        refine mx_iconst dX5_fail_12 ic_1 ?_
        refine mx_goto (tgt := 17) dX5_fail_13 rfl ?_
        refine mx_aload_n dX5_fail_17 rfl rfl ?_
        refine mx_get 5 4 (ref := "PrairiePool$Reader") cl_5 (Nat.le_of_ble_eq_true rfl) (Or.inl q388) (Or.inl rfl) dX5_fail_18 (fv_5_4 _ _) (ly5_k La0_h2) ?_
        obtain ⟨k9, H⟩ := H
        refine mx_callV 4 (y' := mi_X4_of) (vs := [iv (1 : Int32), iv (ah_I h2 a0 4)]) (st := []) (al' := [some (rv (ah_R h2 a0 8)), some (iv (1 : Int32)), some (iv (ah_I h2 a0 4))]) cl_4 V_X4_of (Or.inl q1302) dX5_fail_21 rfl rfl (Nat.le_of_ble_eq_true rfl) (Nat.le_of_ble_eq_true rfl) k9 ?_
        refine mx_aload_n dX4_of_0 rfl rfl ?_
        refine mx_iload_n dX4_of_1 rfl rfl ?_
        refine mx_putI 4 6 (ref := "PrairiePool$Wrong") cl_4 (Nat.le_of_ble_eq_true rfl) (Or.inl q356) (Or.inl rfl) dX4_of_2 (Or.inl rfl) rfl k9 ?_
        refine mx_nmI  (fun h10 eh10 Xh10 Kh10 Lh10 => ?_)
        have H := H h10 eh10 Xh10
        have La0_h10 := La0_h2.ext Xh10
        refine mx_aload_n dX4_of_5 rfl rfl ?_
        refine mx_iload_n dX4_of_6 rfl rfl ?_
        refine mx_putI 4 7 (ref := "PrairiePool$Wrong") cl_4 (Nat.le_of_ble_eq_true rfl) (Or.inl q358) (Or.inl rfl) dX4_of_7 (Or.inl rfl) rfl (ma_kde Kh10 (k9)) ?_
        refine mx_nmI  (fun h11 eh11 Xh11 Kh11 Lh11 => ?_)
        have H := H h11 eh11 Xh11
        have Kh11 := Kh11.trans Kh10
        have Lh11 := Lh11.trans Lh10
        have La0_h11 := La0_h10.ext Xh11
        refine mx_aload_n dX4_of_10 rfl rfl ?_
        refine mx_aretK rfl (by first | exact Or.inl ⟨_, rfl⟩ | exact Or.inr ⟨_, rfl⟩) dX4_of_11 ?_
        refine mx_aretK rfl (by first | exact Or.inl ⟨_, rfl⟩ | exact Or.inr ⟨_, rfl⟩) dX5_fail_24 ?_
        exact mx_athrow dX5_inner_25 (by rw [(ma_kde Kh11 (k9))]; decide) (mt_out rfl H)
    · have H := H.2 c4
      refine mx_aload_n dX5_need_4 rfl rfl ?_
      refine mx_iconst dX5_need_5 ic_2 ?_
      refine mx_callV 5 (y' := mi_X5_fail) (vs := [iv (2 : Int32)]) (st := []) (al' := [some (rv a0), some (iv (2 : Int32))]) cl_5 V_X5_fail (Or.inl q1298) dX5_need_6 rfl rfl (Nat.le_of_ble_eq_true rfl) (Nat.le_of_ble_eq_true rfl) (ly5_k La0_h2) ?_
      refine mx_aload_n dX5_fail_0 rfl rfl ?_
      refine mx_get 5 8 (ref := "PrairiePool$Reader") cl_5 (Nat.le_of_ble_eq_true rfl) (Or.inl q392) (Or.inl rfl) dX5_fail_1 (fv_5_8 _ _) (ly5_k La0_h2) ?_
      refine mx_aload_n dX5_fail_4 rfl rfl ?_
      refine mx_get 5 3 (ref := "PrairiePool$Reader") cl_5 (Nat.le_of_ble_eq_true rfl) (Or.inl q387) (Or.inl rfl) dX5_fail_5 (fv_5_3 _ _) (ly5_k La0_h2) ?_
      refine mx_iconst dX5_fail_8 ic_1 ?_
      refine mx_icmp_ne (tgt := 16) dX5_fail_9 rfl (fun c12 => ?_) (fun c12 => ?_)
      · have H := H.1 c12
        refine mx_iload_n dX5_fail_16 rfl rfl ?_
        refine mx_aload_n dX5_fail_17 rfl rfl ?_
        refine mx_get 5 4 (ref := "PrairiePool$Reader") cl_5 (Nat.le_of_ble_eq_true rfl) (Or.inl q388) (Or.inl rfl) dX5_fail_18 (fv_5_4 _ _) (ly5_k La0_h2) ?_
        obtain ⟨k13, H⟩ := H
        refine mx_callV 4 (y' := mi_X4_of) (vs := [iv (2 : Int32), iv (ah_I h2 a0 4)]) (st := []) (al' := [some (rv (ah_R h2 a0 8)), some (iv (2 : Int32)), some (iv (ah_I h2 a0 4))]) cl_4 V_X4_of (Or.inl q1302) dX5_fail_21 rfl rfl (Nat.le_of_ble_eq_true rfl) (Nat.le_of_ble_eq_true rfl) k13 ?_
        refine mx_aload_n dX4_of_0 rfl rfl ?_
        refine mx_iload_n dX4_of_1 rfl rfl ?_
        refine mx_putI 4 6 (ref := "PrairiePool$Wrong") cl_4 (Nat.le_of_ble_eq_true rfl) (Or.inl q356) (Or.inl rfl) dX4_of_2 (Or.inl rfl) rfl k13 ?_
        refine mx_nmI  (fun h14 eh14 Xh14 Kh14 Lh14 => ?_)
        have H := H h14 eh14 Xh14
        have La0_h14 := La0_h2.ext Xh14
        refine mx_aload_n dX4_of_5 rfl rfl ?_
        refine mx_iload_n dX4_of_6 rfl rfl ?_
        refine mx_putI 4 7 (ref := "PrairiePool$Wrong") cl_4 (Nat.le_of_ble_eq_true rfl) (Or.inl q358) (Or.inl rfl) dX4_of_7 (Or.inl rfl) rfl (ma_kde Kh14 (k13)) ?_
        refine mx_nmI  (fun h15 eh15 Xh15 Kh15 Lh15 => ?_)
        have H := H h15 eh15 Xh15
        have Kh15 := Kh15.trans Kh14
        have Lh15 := Lh15.trans Lh14
        have La0_h15 := La0_h14.ext Xh15
        refine mx_aload_n dX4_of_10 rfl rfl ?_
        refine mx_aretK rfl (by first | exact Or.inl ⟨_, rfl⟩ | exact Or.inr ⟨_, rfl⟩) dX4_of_11 ?_
        refine mx_aretK rfl (by first | exact Or.inl ⟨_, rfl⟩ | exact Or.inr ⟨_, rfl⟩) dX5_fail_24 ?_
        exact mx_athrow dX5_need_9 (by rw [(ma_kde Kh15 (k13))]; decide) (mt_out rfl (fun _ => mt_out rfl H))
      · have H := H.2 c12
        refine mx_iconst dX5_fail_12 ic_1 ?_
        refine mx_goto (tgt := 17) dX5_fail_13 rfl ?_
        refine mx_aload_n dX5_fail_17 rfl rfl ?_
        refine mx_get 5 4 (ref := "PrairiePool$Reader") cl_5 (Nat.le_of_ble_eq_true rfl) (Or.inl q388) (Or.inl rfl) dX5_fail_18 (fv_5_4 _ _) (ly5_k La0_h2) ?_
        obtain ⟨k16, H⟩ := H
        refine mx_callV 4 (y' := mi_X4_of) (vs := [iv (1 : Int32), iv (ah_I h2 a0 4)]) (st := []) (al' := [some (rv (ah_R h2 a0 8)), some (iv (1 : Int32)), some (iv (ah_I h2 a0 4))]) cl_4 V_X4_of (Or.inl q1302) dX5_fail_21 rfl rfl (Nat.le_of_ble_eq_true rfl) (Nat.le_of_ble_eq_true rfl) k16 ?_
        refine mx_aload_n dX4_of_0 rfl rfl ?_
        refine mx_iload_n dX4_of_1 rfl rfl ?_
        refine mx_putI 4 6 (ref := "PrairiePool$Wrong") cl_4 (Nat.le_of_ble_eq_true rfl) (Or.inl q356) (Or.inl rfl) dX4_of_2 (Or.inl rfl) rfl k16 ?_
        refine mx_nmI  (fun h17 eh17 Xh17 Kh17 Lh17 => ?_)
        have H := H h17 eh17 Xh17
        have La0_h17 := La0_h2.ext Xh17
        refine mx_aload_n dX4_of_5 rfl rfl ?_
        refine mx_iload_n dX4_of_6 rfl rfl ?_
        refine mx_putI 4 7 (ref := "PrairiePool$Wrong") cl_4 (Nat.le_of_ble_eq_true rfl) (Or.inl q358) (Or.inl rfl) dX4_of_7 (Or.inl rfl) rfl (ma_kde Kh17 (k16)) ?_
        refine mx_nmI  (fun h18 eh18 Xh18 Kh18 Lh18 => ?_)
        have H := H h18 eh18 Xh18
        have Kh18 := Kh18.trans Kh17
        have Lh18 := Lh18.trans Lh17
        have La0_h18 := La0_h17.ext Xh18
        refine mx_aload_n dX4_of_10 rfl rfl ?_
        refine mx_aretK rfl (by first | exact Or.inl ⟨_, rfl⟩ | exact Or.inr ⟨_, rfl⟩) dX4_of_11 ?_
        refine mx_aretK rfl (by first | exact Or.inl ⟨_, rfl⟩ | exact Or.inr ⟨_, rfl⟩) dX5_fail_24 ?_
        exact mx_athrow dX5_need_9 (by rw [(ma_kde Kh18 (k16))]; decide) (mt_out rfl (fun _ => mt_out rfl H))
  · have H := H.2 c1
    refine mx_aload_n dX5_inner_6 rfl rfl ?_
    refine mx_iload_n dX5_inner_7 rfl rfl ?_
    refine mx_callV 5 (y' := mi_X5_sum) (vs := [iv x1]) (st := []) (al' := [some (rv a0), some (iv x1), none, none]) cl_5 V_X5_sum (Or.inl q1323) dX5_inner_8 rfl rfl (Nat.le_of_ble_eq_true rfl) (Nat.le_of_ble_eq_true rfl) (ly5_k La0_h) ?_
    refine ma_kr H (fun r20 h19 Xh19 H => ?_) (fun x1 h1 X1 H => mt_out rfl H)
    have H := H Xh19
    have La0_h19 := La0_h.ext Xh19
    exact mx_aret rfl (by first | exact Or.inl ⟨_, rfl⟩ | exact Or.inr ⟨_, rfl⟩) dX5_inner_11 H
theorem dX5_one_0 : decode mi_X5_one.2.1 0 = .ok (.aload_n 0, 1) := by decide +kernel
theorem dX5_one_1 : decode mi_X5_one.2.1 1 = .ok (.iconst 5, 1) := by decide +kernel
theorem dX5_one_2 : decode mi_X5_one.2.1 2 = .ok (.invokevirtual 139, 3) := by decide +kernel
theorem dX5_one_5 : decode mi_X5_one.2.1 5 = .ok (.istore_n 2, 1) := by decide +kernel
theorem dX5_one_6 : decode mi_X5_one.2.1 6 = .ok (.iload_n 2, 1) := by decide +kernel
theorem dX5_one_7 : decode mi_X5_one.2.1 7 = .ok (.ifCond .eq 7, 3) := by decide +kernel
theorem dX5_one_10 : decode mi_X5_one.2.1 10 = .ok (.aload_n 0, 1) := by decide +kernel
theorem dX5_one_11 : decode mi_X5_one.2.1 11 = .ok (.invokevirtual 101, 3) := by decide +kernel
theorem dX5_one_14 : decode mi_X5_one.2.1 14 = .ok (.aload_n 0, 1) := by decide +kernel
theorem dX5_one_15 : decode mi_X5_one.2.1 15 = .ok (.iload_n 1, 1) := by decide +kernel
theorem dX5_one_16 : decode mi_X5_one.2.1 16 = .ok (.invokevirtual 146, 3) := by decide +kernel
theorem dX5_one_19 : decode mi_X5_one.2.1 19 = .ok (.astore_n 3, 1) := by decide +kernel
theorem dX5_one_20 : decode mi_X5_one.2.1 20 = .ok (.aload_n 0, 1) := by decide +kernel
theorem dX5_one_21 : decode mi_X5_one.2.1 21 = .ok (.aload_n 0, 1) := by decide +kernel
theorem dX5_one_22 : decode mi_X5_one.2.1 22 = .ok (.bipush 60, 2) := by decide +kernel
theorem dX5_one_24 : decode mi_X5_one.2.1 24 = .ok (.invokevirtual 124, 3) := by decide +kernel
theorem dX5_one_27 : decode mi_X5_one.2.1 27 = .ok (.ifCond .ne 21, 3) := by decide +kernel
theorem dX5_one_30 : decode mi_X5_one.2.1 30 = .ok (.aload_n 0, 1) := by decide +kernel
theorem dX5_one_31 : decode mi_X5_one.2.1 31 = .ok (.bipush 62, 2) := by decide +kernel
theorem dX5_one_33 : decode mi_X5_one.2.1 33 = .ok (.invokevirtual 124, 3) := by decide +kernel
theorem dX5_one_36 : decode mi_X5_one.2.1 36 = .ok (.ifCond .ne 12, 3) := by decide +kernel
theorem dX5_one_39 : decode mi_X5_one.2.1 39 = .ok (.aload_n 0, 1) := by decide +kernel
theorem dX5_one_40 : decode mi_X5_one.2.1 40 = .ok (.bipush 61, 2) := by decide +kernel
theorem dX5_one_42 : decode mi_X5_one.2.1 42 = .ok (.invokevirtual 124, 3) := by decide +kernel
theorem dX5_one_45 : decode mi_X5_one.2.1 45 = .ok (.ifCond .eq 7, 3) := by decide +kernel
theorem dX5_one_48 : decode mi_X5_one.2.1 48 = .ok (.iconst 1, 1) := by decide +kernel
theorem dX5_one_49 : decode mi_X5_one.2.1 49 = .ok (.goto 4, 3) := by decide +kernel
theorem dX5_one_52 : decode mi_X5_one.2.1 52 = .ok (.iconst 0, 1) := by decide +kernel
theorem dX5_one_53 : decode mi_X5_one.2.1 53 = .ok (.invokevirtual 113, 3) := by decide +kernel
theorem dX5_one_56 : decode mi_X5_one.2.1 56 = .ok (.aload_n 0, 1) := by decide +kernel
theorem dX5_one_57 : decode mi_X5_one.2.1 57 = .ok (.getfield 33, 3) := by decide +kernel
theorem dX5_one_60 : decode mi_X5_one.2.1 60 = .ok (.l2i, 1) := by decide +kernel
theorem dX5_one_61 : decode mi_X5_one.2.1 61 = .ok (.istore 4, 2) := by decide +kernel
theorem dX5_one_63 : decode mi_X5_one.2.1 63 = .ok (.aload_n 0, 1) := by decide +kernel
theorem dX5_one_64 : decode mi_X5_one.2.1 64 = .ok (.invokevirtual 101, 3) := by decide +kernel
theorem dX5_one_67 : decode mi_X5_one.2.1 67 = .ok (.new 171, 3) := by decide +kernel
theorem dX5_one_70 : decode mi_X5_one.2.1 70 = .ok (.dup, 1) := by decide +kernel
theorem dX5_one_71 : decode mi_X5_one.2.1 71 = .ok (.iload_n 2, 1) := by decide +kernel
theorem dX5_one_72 : decode mi_X5_one.2.1 72 = .ok (.aload_n 3, 1) := by decide +kernel
theorem dX5_one_73 : decode mi_X5_one.2.1 73 = .ok (.iload 4, 2) := by decide +kernel
theorem dX5_one_75 : decode mi_X5_one.2.1 75 = .ok (.aload_n 0, 1) := by decide +kernel
theorem dX5_one_76 : decode mi_X5_one.2.1 76 = .ok (.iload_n 1, 1) := by decide +kernel
theorem dX5_one_77 : decode mi_X5_one.2.1 77 = .ok (.invokevirtual 146, 3) := by decide +kernel
theorem dX5_one_80 : decode mi_X5_one.2.1 80 = .ok (.invokespecial 173, 3) := by decide +kernel
theorem dX5_one_83 : decode mi_X5_one.2.1 83 = .ok (.areturn, 1) := by decide +kernel
theorem v_X5_one {G : ma_G} {d : Nat} {a0 : Nat} {x1 : Int32} {h : ah_T} {Q : Option ma_V → ah_T → Prop} {E : Nat → ah_T → Prop} (La0_h : LY5 h a0) (H : MX G mi_X5_isKey (d + 2) 0 [some (rv a0), some (iv (5 : Int32))] [] h (Qi fun r2 h1 => ah_ext h h1 → (r2 = 0 → MX G mi_X5_one (d + 3) 14 [some (rv a0), some (iv x1), some (iv r2), none, none] [] h1 Q E) ∧ (¬ r2 = 0 → MX G mi_X5_next (d + 2) 0 [some (rv a0), none] [] h1 (Qv fun h4 => ah_ext h1 h4 → MX G mi_X5_one (d + 3) 14 [some (rv a0), some (iv x1), some (iv r2), none, none] [] h4 Q E) E)) E) : MX G mi_X5_one (d + 3) 0 [some (rv a0), some (iv x1), none, none, none] [] h Q E := by
  refine mx_aload_n dX5_one_0 rfl rfl ?_
  refine mx_iconst dX5_one_1 ic_5 ?_
  refine mx_callV 5 (y' := mi_X5_isKey) (vs := [iv (5 : Int32)]) (st := []) (al' := [some (rv a0), some (iv (5 : Int32))]) cl_5 V_X5_isKey (Or.inl q1315) dX5_one_2 rfl rfl (Nat.le_of_ble_eq_true rfl) (Nat.le_of_ble_eq_true rfl) (ly5_k La0_h) ?_
  refine ma_ki H (fun r2 h1 Xh1 H => ?_) (fun x1 h1 X1 H => mt_out rfl H)
  have H := H Xh1
  have La0_h1 := La0_h.ext Xh1
  refine mx_istore_n (al' := [some (rv a0), some (iv x1), some (iv r2), none, none]) dX5_one_5 rfl (Nat.le_of_ble_eq_true rfl) rfl ?_
  refine mx_iload_n dX5_one_6 rfl rfl ?_
  refine mx_if_eq (tgt := 14) dX5_one_7 rfl (fun c3 => ?_) (fun c3 => ?_)
  · have H := H.1 c3
    exact mx_weak (al' := [some (rv a0), some (iv x1), some (iv r2), none, none]) ⟨rfl, ⟨rfl, ⟨rfl, trivial⟩⟩⟩ H
  · have H := H.2 c3
    refine mx_aload_n dX5_one_10 rfl rfl ?_
    refine mx_callV 5 (y' := mi_X5_next) (vs := []) (st := []) (al' := [some (rv a0), none]) cl_5 V_X5_next (Or.inl q1206) dX5_one_11 rfl rfl (Nat.le_of_ble_eq_true rfl) (Nat.le_of_ble_eq_true rfl) (ly5_k La0_h1) ?_
    refine ma_kv H (fun h4 Xh4 H => ?_) (fun x1 h1 X1 H => mt_out rfl H)
    have H := H Xh4
    have La0_h4 := La0_h1.ext Xh4
    exact mx_weak (al' := [some (rv a0), some (iv x1), some (iv r2), none, none]) ⟨rfl, ⟨rfl, ⟨rfl, trivial⟩⟩⟩ H
theorem v_X5_one_14 {G : ma_G} {d : Nat} {a0 : Nat} {x1 : Int32} {x2 : Int32} {h : ah_T} {Q : Option ma_V → ah_T → Prop} {E : Nat → ah_T → Prop} (La0_h : LY5 h a0) (H : MX G mi_X5_sum (d + 2) 0 [some (rv a0), some (iv x1), none, none] [] h (Qr fun r2 h1 => ah_ext h h1 → (¬ (ah_I h1 a0 3) = (4 : Int32) → MX G mi_X5_one (d + 3) 53 [some (rv a0), some (iv x1), some (iv x2), some (rv r2), none] [iv (0 : Int32), rv a0] h1 Q E) ∧ ((ah_I h1 a0 3) = (4 : Int32) → (¬ (ah_J h1 a0 6) = (60 : Int32).toInt64 → (¬ (ah_J h1 a0 6) = (62 : Int32).toInt64 → (¬ (ah_J h1 a0 6) = (61 : Int32).toInt64 → MX G mi_X5_one (d + 3) 53 [some (rv a0), some (iv x1), some (iv x2), some (rv r2), none] [iv (0 : Int32), rv a0] h1 Q E) ∧ ((ah_J h1 a0 6) = (61 : Int32).toInt64 → MX G mi_X5_one (d + 3) 53 [some (rv a0), some (iv x1), some (iv x2), some (rv r2), none] [iv (1 : Int32), rv a0] h1 Q E)) ∧ ((ah_J h1 a0 6) = (62 : Int32).toInt64 → MX G mi_X5_one (d + 3) 53 [some (rv a0), some (iv x1), some (iv x2), some (rv r2), none] [iv (1 : Int32), rv a0] h1 Q E)) ∧ ((ah_J h1 a0 6) = (60 : Int32).toInt64 → MX G mi_X5_one (d + 3) 53 [some (rv a0), some (iv x1), some (iv x2), some (rv r2), none] [iv (1 : Int32), rv a0] h1 Q E))) E) : MX G mi_X5_one (d + 3) 14 [some (rv a0), some (iv x1), some (iv x2), none, none] [] h Q E := by
  refine mx_aload_n dX5_one_14 rfl rfl ?_
  refine mx_iload_n dX5_one_15 rfl rfl ?_
  refine mx_callV 5 (y' := mi_X5_sum) (vs := [iv x1]) (st := []) (al' := [some (rv a0), some (iv x1), none, none]) cl_5 V_X5_sum (Or.inl q1323) dX5_one_16 rfl rfl (Nat.le_of_ble_eq_true rfl) (Nat.le_of_ble_eq_true rfl) (ly5_k La0_h) ?_
  refine ma_kr H (fun r2 h1 Xh1 H => ?_) (fun x1 h1 X1 H => mt_out rfl H)
  have H := H Xh1
  have La0_h1 := La0_h.ext Xh1
  refine mx_astore_n (al' := [some (rv a0), some (iv x1), some (iv x2), some (rv r2), none]) dX5_one_19 rfl (Nat.le_of_ble_eq_true rfl) rfl ?_
  refine mx_aload_n dX5_one_20 rfl rfl ?_
  refine mx_aload_n dX5_one_21 rfl rfl ?_
  refine mx_bipush dX5_one_22 ib_60 ?_
  refine mx_callV 5 (y' := mi_X5_is) (vs := [iv (60 : Int32)]) (st := [rv a0]) (al' := [some (rv a0), some (iv (60 : Int32))]) cl_5 V_X5_is (Or.inl q1307) dX5_one_24 rfl rfl (Nat.le_of_ble_eq_true rfl) (Nat.le_of_ble_eq_true rfl) (ly5_k La0_h1) ?_
  refine mx_aload_n dX5_is_0 rfl rfl ?_
  refine mx_get 5 3 (ref := "PrairiePool$Reader") cl_5 (Nat.le_of_ble_eq_true rfl) (Or.inl q387) (Or.inl rfl) dX5_is_1 (fv_5_3 _ _) (ly5_k La0_h1) ?_
  refine mx_iconst dX5_is_4 ic_4 ?_
  refine mx_icmp_ne (tgt := 22) dX5_is_5 rfl (fun c3 => ?_) (fun c3 => ?_)
  · have H := H.1 c3
    refine mx_iconst dX5_is_22 ic_0 ?_
    refine mx_zretK rfl dX5_is_23 (Or.inl rfl) ?_
    refine mx_if_ne (tgt := 48) dX5_one_27 rfl (fun _ => absurd ‹_› (by decide)) (fun _ => ?_)
    refine mx_aload_n dX5_one_30 rfl rfl ?_
    refine mx_bipush dX5_one_31 ib_62 ?_
    refine mx_callV 5 (y' := mi_X5_is) (vs := [iv (62 : Int32)]) (st := [rv a0]) (al' := [some (rv a0), some (iv (62 : Int32))]) cl_5 V_X5_is (Or.inl q1307) dX5_one_33 rfl rfl (Nat.le_of_ble_eq_true rfl) (Nat.le_of_ble_eq_true rfl) (ly5_k La0_h1) ?_
    refine mx_aload_n dX5_is_0 rfl rfl ?_
    refine mx_get 5 3 (ref := "PrairiePool$Reader") cl_5 (Nat.le_of_ble_eq_true rfl) (Or.inl q387) (Or.inl rfl) dX5_is_1 (fv_5_3 _ _) (ly5_k La0_h1) ?_
    refine mx_iconst dX5_is_4 ic_4 ?_
    refine mx_icmp_ne (tgt := 22) dX5_is_5 rfl (fun _ => ?_) (fun q_ => absurd q_ c3)
    refine mx_iconst dX5_is_22 ic_0 ?_
    refine mx_zretK rfl dX5_is_23 (Or.inl rfl) ?_
    refine mx_if_ne (tgt := 48) dX5_one_36 rfl (fun _ => absurd ‹_› (by decide)) (fun _ => ?_)
    refine mx_aload_n dX5_one_39 rfl rfl ?_
    refine mx_bipush dX5_one_40 ib_61 ?_
    refine mx_callV 5 (y' := mi_X5_is) (vs := [iv (61 : Int32)]) (st := [rv a0]) (al' := [some (rv a0), some (iv (61 : Int32))]) cl_5 V_X5_is (Or.inl q1307) dX5_one_42 rfl rfl (Nat.le_of_ble_eq_true rfl) (Nat.le_of_ble_eq_true rfl) (ly5_k La0_h1) ?_
    refine mx_aload_n dX5_is_0 rfl rfl ?_
    refine mx_get 5 3 (ref := "PrairiePool$Reader") cl_5 (Nat.le_of_ble_eq_true rfl) (Or.inl q387) (Or.inl rfl) dX5_is_1 (fv_5_3 _ _) (ly5_k La0_h1) ?_
    refine mx_iconst dX5_is_4 ic_4 ?_
    refine mx_icmp_ne (tgt := 22) dX5_is_5 rfl (fun _ => ?_) (fun q_ => absurd q_ c3)
    refine mx_iconst dX5_is_22 ic_0 ?_
    refine mx_zretK rfl dX5_is_23 (Or.inl rfl) ?_
    refine mx_if_eq (tgt := 52) dX5_one_45 rfl (fun _ => ?_) (fun _ => absurd ‹_› (by decide))
    refine mx_iconst dX5_one_52 ic_0 ?_
    exact mx_weak (al' := [some (rv a0), some (iv x1), some (iv x2), some (rv r2), none]) ⟨rfl, ⟨rfl, ⟨rfl, ⟨rfl, trivial⟩⟩⟩⟩ H
  · have H := H.2 c3
    refine mx_aload_n dX5_is_8 rfl rfl ?_
    refine mx_get 5 6 (ref := "PrairiePool$Reader") cl_5 (Nat.le_of_ble_eq_true rfl) (Or.inl q390) (Or.inl rfl) dX5_is_9 (fv_5_6 _ _) (ly5_k La0_h1) ?_
    refine mx_iload_n dX5_is_12 rfl rfl ?_
    refine mx_i2l dX5_is_13 ?_
    refine mx_lif_ne (tgt := 22) dX5_is_14 dX5_is_15 rfl (fun c4 => ?_) (fun c4 => ?_)
    · have H := H.1 c4
      refine mx_iconst dX5_is_22 ic_0 ?_
      refine mx_zretK rfl dX5_is_23 (Or.inl rfl) ?_
      refine mx_if_ne (tgt := 48) dX5_one_27 rfl (fun _ => absurd ‹_› (by decide)) (fun _ => ?_)
      refine mx_aload_n dX5_one_30 rfl rfl ?_
      refine mx_bipush dX5_one_31 ib_62 ?_
      refine mx_callV 5 (y' := mi_X5_is) (vs := [iv (62 : Int32)]) (st := [rv a0]) (al' := [some (rv a0), some (iv (62 : Int32))]) cl_5 V_X5_is (Or.inl q1307) dX5_one_33 rfl rfl (Nat.le_of_ble_eq_true rfl) (Nat.le_of_ble_eq_true rfl) (ly5_k La0_h1) ?_
      refine mx_aload_n dX5_is_0 rfl rfl ?_
      refine mx_get 5 3 (ref := "PrairiePool$Reader") cl_5 (Nat.le_of_ble_eq_true rfl) (Or.inl q387) (Or.inl rfl) dX5_is_1 (fv_5_3 _ _) (ly5_k La0_h1) ?_
      refine mx_iconst dX5_is_4 ic_4 ?_
      refine mx_icmp_ne (tgt := 22) dX5_is_5 rfl (fun q_ => absurd c3 q_) (fun _ => ?_)
      refine mx_aload_n dX5_is_8 rfl rfl ?_
      refine mx_get 5 6 (ref := "PrairiePool$Reader") cl_5 (Nat.le_of_ble_eq_true rfl) (Or.inl q390) (Or.inl rfl) dX5_is_9 (fv_5_6 _ _) (ly5_k La0_h1) ?_
      refine mx_iload_n dX5_is_12 rfl rfl ?_
      refine mx_i2l dX5_is_13 ?_
      refine mx_lif_ne (tgt := 22) dX5_is_14 dX5_is_15 rfl (fun c5 => ?_) (fun c5 => ?_)
      · have H := H.1 c5
        refine mx_iconst dX5_is_22 ic_0 ?_
        refine mx_zretK rfl dX5_is_23 (Or.inl rfl) ?_
        refine mx_if_ne (tgt := 48) dX5_one_36 rfl (fun _ => absurd ‹_› (by decide)) (fun _ => ?_)
        refine mx_aload_n dX5_one_39 rfl rfl ?_
        refine mx_bipush dX5_one_40 ib_61 ?_
        refine mx_callV 5 (y' := mi_X5_is) (vs := [iv (61 : Int32)]) (st := [rv a0]) (al' := [some (rv a0), some (iv (61 : Int32))]) cl_5 V_X5_is (Or.inl q1307) dX5_one_42 rfl rfl (Nat.le_of_ble_eq_true rfl) (Nat.le_of_ble_eq_true rfl) (ly5_k La0_h1) ?_
        refine mx_aload_n dX5_is_0 rfl rfl ?_
        refine mx_get 5 3 (ref := "PrairiePool$Reader") cl_5 (Nat.le_of_ble_eq_true rfl) (Or.inl q387) (Or.inl rfl) dX5_is_1 (fv_5_3 _ _) (ly5_k La0_h1) ?_
        refine mx_iconst dX5_is_4 ic_4 ?_
        refine mx_icmp_ne (tgt := 22) dX5_is_5 rfl (fun q_ => absurd c3 q_) (fun _ => ?_)
        refine mx_aload_n dX5_is_8 rfl rfl ?_
        refine mx_get 5 6 (ref := "PrairiePool$Reader") cl_5 (Nat.le_of_ble_eq_true rfl) (Or.inl q390) (Or.inl rfl) dX5_is_9 (fv_5_6 _ _) (ly5_k La0_h1) ?_
        refine mx_iload_n dX5_is_12 rfl rfl ?_
        refine mx_i2l dX5_is_13 ?_
        refine mx_lif_ne (tgt := 22) dX5_is_14 dX5_is_15 rfl (fun c6 => ?_) (fun c6 => ?_)
        · have H := H.1 c6
          refine mx_iconst dX5_is_22 ic_0 ?_
          refine mx_zretK rfl dX5_is_23 (Or.inl rfl) ?_
          refine mx_if_eq (tgt := 52) dX5_one_45 rfl (fun _ => ?_) (fun _ => absurd ‹_› (by decide))
          refine mx_iconst dX5_one_52 ic_0 ?_
          exact mx_weak (al' := [some (rv a0), some (iv x1), some (iv x2), some (rv r2), none]) ⟨rfl, ⟨rfl, ⟨rfl, ⟨rfl, trivial⟩⟩⟩⟩ H
        · have H := H.2 c6
          refine mx_iconst dX5_is_18 ic_1 ?_
          refine mx_goto (tgt := 23) dX5_is_19 rfl ?_
          refine mx_zretK rfl dX5_is_23 (Or.inr rfl) ?_
          refine mx_if_eq (tgt := 52) dX5_one_45 rfl (fun _ => absurd ‹_› (by decide)) (fun _ => ?_)
          refine mx_iconst dX5_one_48 ic_1 ?_
          refine mx_goto (tgt := 53) dX5_one_49 rfl ?_
          exact mx_weak (al' := [some (rv a0), some (iv x1), some (iv x2), some (rv r2), none]) ⟨rfl, ⟨rfl, ⟨rfl, ⟨rfl, trivial⟩⟩⟩⟩ H
      · have H := H.2 c5
        refine mx_iconst dX5_is_18 ic_1 ?_
        refine mx_goto (tgt := 23) dX5_is_19 rfl ?_
        refine mx_zretK rfl dX5_is_23 (Or.inr rfl) ?_
        refine mx_if_ne (tgt := 48) dX5_one_36 rfl (fun _ => ?_) (fun _ => absurd ‹_› (by decide))
        refine mx_iconst dX5_one_48 ic_1 ?_
        refine mx_goto (tgt := 53) dX5_one_49 rfl ?_
        exact mx_weak (al' := [some (rv a0), some (iv x1), some (iv x2), some (rv r2), none]) ⟨rfl, ⟨rfl, ⟨rfl, ⟨rfl, trivial⟩⟩⟩⟩ H
    · have H := H.2 c4
      refine mx_iconst dX5_is_18 ic_1 ?_
      refine mx_goto (tgt := 23) dX5_is_19 rfl ?_
      refine mx_zretK rfl dX5_is_23 (Or.inr rfl) ?_
      refine mx_if_ne (tgt := 48) dX5_one_27 rfl (fun _ => ?_) (fun _ => absurd ‹_› (by decide))
      refine mx_iconst dX5_one_48 ic_1 ?_
      refine mx_goto (tgt := 53) dX5_one_49 rfl ?_
      exact mx_weak (al' := [some (rv a0), some (iv x1), some (iv x2), some (rv r2), none]) ⟨rfl, ⟨rfl, ⟨rfl, ⟨rfl, trivial⟩⟩⟩⟩ H
theorem v_X5_one_53 {G : ma_G} {d : Nat} {a0 : Nat} {x1 : Int32} {x2 : Int32} {a3 : Nat} {z0 : Int32} {h : ah_T} {Q : Option ma_V → ah_T → Prop} {E : Nat → ah_T → Prop} (La0_h : LY5 h a0) (H : (¬ z0 = 0 → MX G mi_X5_next (d + 2) 0 [some (rv a0), none] [] h (Qv fun h2 => ah_ext h h2 → (1 ≤ ah_rc h2 ∧ 5 ≤ ah_rs h2) ∧ ∀ h5 : ah_T, h5 = ah_new h2 21 0 5 → ah_ext h2 h5 → ah_liv h2 → MX G mi_X5_sum (d + 2) 0 [some (rv a0), some (iv x1), none, none] [] h5 (Qr fun r8 h7 => ah_ext h5 h7 → MX G mi_X23_init (d + 2) 0 [some (rv (ah_sz h2)), some (iv x2), some (rv a3), some (iv (ah_J h a0 6).toInt32), some (rv r8)] [] h7 (Qv fun h10 => ah_ext h7 h10 → Q (some (rv (ah_sz h2))) h10) E) E) E) ∧ (z0 = 0 → (¬ (ah_I h a0 3) = (1 : Int32) → ah_kd h (ah_R h a0 8) = 5 ∧ ∀ h15 : ah_T, h15 = ah_wI h (ah_R h a0 8) 6 (2 : Int32) → ah_ext h h15 → ∀ h16 : ah_T, h16 = ah_wI h15 (ah_R h a0 8) 7 (ah_I h a0 4) → ah_ext h15 h16 → E (ah_R h a0 8) h16) ∧ ((ah_I h a0 3) = (1 : Int32) → ah_kd h (ah_R h a0 8) = 5 ∧ ∀ h18 : ah_T, h18 = ah_wI h (ah_R h a0 8) 6 (1 : Int32) → ah_ext h h18 → ∀ h19 : ah_T, h19 = ah_wI h18 (ah_R h a0 8) 7 (ah_I h a0 4) → ah_ext h18 h19 → E (ah_R h a0 8) h19))) : MX G mi_X5_one (d + 3) 53 [some (rv a0), some (iv x1), some (iv x2), some (rv a3), none] [iv z0, rv a0] h Q E := by
  refine mx_callV 5 (y' := mi_X5_need) (vs := [iv z0]) (st := []) (al' := [some (rv a0), some (iv z0)]) cl_5 V_X5_need (Or.inl q1294) dX5_one_53 rfl rfl (Nat.le_of_ble_eq_true rfl) (Nat.le_of_ble_eq_true rfl) (ly5_k La0_h) ?_
  refine mx_iload_n dX5_need_0 rfl rfl ?_
  refine mx_if_ne (tgt := 10) dX5_need_1 rfl (fun c1 => ?_) (fun c1 => ?_)
  · have H := H.1 c1
    refine mx_vretK rfl dX5_need_10 ?_
    refine mx_aload_n dX5_one_56 rfl rfl ?_
    refine mx_get 5 6 (ref := "PrairiePool$Reader") cl_5 (Nat.le_of_ble_eq_true rfl) (Or.inl q390) (Or.inl rfl) dX5_one_57 (fv_5_6 _ _) (ly5_k La0_h) ?_
    refine mx_l2i dX5_one_60 ?_
    refine mx_istore (al' := [some (rv a0), some (iv x1), some (iv x2), some (rv a3), some (iv (ah_J h a0 6).toInt32)]) dX5_one_61 (Nat.le_of_ble_eq_true rfl) rfl ?_
    refine mx_aload_n dX5_one_63 rfl rfl ?_
    refine mx_callV 5 (y' := mi_X5_next) (vs := []) (st := []) (al' := [some (rv a0), none]) cl_5 V_X5_next (Or.inl q1206) dX5_one_64 rfl rfl (Nat.le_of_ble_eq_true rfl) (Nat.le_of_ble_eq_true rfl) (ly5_k La0_h) ?_
    refine ma_kv H (fun h2 Xh2 H => ?_) (fun x1 h1 X1 H => mt_out rfl H)
    have H := H Xh2
    have La0_h2 := La0_h.ext Xh2
    obtain ⟨k4, H⟩ := H
    refine mx_new 20 cl_20 dk_20 q1432 q1433 q155 dX5_one_67 k4.1 k4.2 (fun x_ lv_ => ?_)
    refine mx_nmN x_ lv_ (fun h5 eh5 Xh5 lv_ => ?_)
    have H := H h5 eh5 Xh5 lv_
    have La0_h5 := La0_h2.ext Xh5
    have k6 : ah_kd h5 (ah_sz h2) = 21 := by rw [eh5]; exact if_pos rfl
    refine mx_dup_r dX5_one_70 ?_
    refine mx_iload_n dX5_one_71 rfl rfl ?_
    refine mx_aload_n dX5_one_72 rfl rfl ?_
    refine mx_iload dX5_one_73 rfl ?_
    refine mx_aload_n dX5_one_75 rfl rfl ?_
    refine mx_iload_n dX5_one_76 rfl rfl ?_
    refine mx_callV 5 (y' := mi_X5_sum) (vs := [iv x1]) (st := [iv (ah_J h a0 6).toInt32, rv a3, iv x2, rv (ah_sz h2), rv (ah_sz h2)]) (al' := [some (rv a0), some (iv x1), none, none]) cl_5 V_X5_sum (Or.inl q1323) dX5_one_77 rfl rfl (Nat.le_of_ble_eq_true rfl) (Nat.le_of_ble_eq_true rfl) (ly5_k La0_h5) ?_
    refine ma_kr H (fun r8 h7 Xh7 H => ?_) (fun x1 h1 X1 H => mt_out rfl H)
    have H := H Xh7
    have k9 := Xh7.kd (k6)
    have La0_h7 := La0_h5.ext Xh7
    refine mx_callI (y' := mi_X23_init) (vs := [iv x2, rv a3, iv (ah_J h a0 6).toInt32, rv r8]) (st := [rv (ah_sz h2)]) (al' := [some (rv (ah_sz h2)), some (iv x2), some (rv a3), some (iv (ah_J h a0 6).toInt32), some (rv r8)]) I_X23_init (Or.inl q1434) dX5_one_80 rfl rfl (Nat.le_of_ble_eq_true rfl) (Nat.le_of_ble_eq_true rfl) (by rw [k9]; decide) ?_
    refine ma_kv H (fun h10 Xh10 H => ?_) (fun x1 h1 X1 H => mt_out rfl H)
    have H := H Xh10
    have k12 := Xh10.kd (k9)
    have La0_h10 := La0_h7.ext Xh10
    exact mx_aret rfl (by first | exact Or.inl ⟨_, rfl⟩ | exact Or.inr ⟨_, rfl⟩) dX5_one_83 H
  · have H := H.2 c1
    refine mx_aload_n dX5_need_4 rfl rfl ?_
    refine mx_iconst dX5_need_5 ic_2 ?_
    refine mx_callV 5 (y' := mi_X5_fail) (vs := [iv (2 : Int32)]) (st := []) (al' := [some (rv a0), some (iv (2 : Int32))]) cl_5 V_X5_fail (Or.inl q1298) dX5_need_6 rfl rfl (Nat.le_of_ble_eq_true rfl) (Nat.le_of_ble_eq_true rfl) (ly5_k La0_h) ?_
    refine mx_aload_n dX5_fail_0 rfl rfl ?_
    refine mx_get 5 8 (ref := "PrairiePool$Reader") cl_5 (Nat.le_of_ble_eq_true rfl) (Or.inl q392) (Or.inl rfl) dX5_fail_1 (fv_5_8 _ _) (ly5_k La0_h) ?_
    refine mx_aload_n dX5_fail_4 rfl rfl ?_
    refine mx_get 5 3 (ref := "PrairiePool$Reader") cl_5 (Nat.le_of_ble_eq_true rfl) (Or.inl q387) (Or.inl rfl) dX5_fail_5 (fv_5_3 _ _) (ly5_k La0_h) ?_
    refine mx_iconst dX5_fail_8 ic_1 ?_
    refine mx_icmp_ne (tgt := 16) dX5_fail_9 rfl (fun c13 => ?_) (fun c13 => ?_)
    · have H := H.1 c13
      refine mx_iload_n dX5_fail_16 rfl rfl ?_
      refine mx_aload_n dX5_fail_17 rfl rfl ?_
      refine mx_get 5 4 (ref := "PrairiePool$Reader") cl_5 (Nat.le_of_ble_eq_true rfl) (Or.inl q388) (Or.inl rfl) dX5_fail_18 (fv_5_4 _ _) (ly5_k La0_h) ?_
      obtain ⟨k14, H⟩ := H
      refine mx_callV 4 (y' := mi_X4_of) (vs := [iv (2 : Int32), iv (ah_I h a0 4)]) (st := []) (al' := [some (rv (ah_R h a0 8)), some (iv (2 : Int32)), some (iv (ah_I h a0 4))]) cl_4 V_X4_of (Or.inl q1302) dX5_fail_21 rfl rfl (Nat.le_of_ble_eq_true rfl) (Nat.le_of_ble_eq_true rfl) k14 ?_
      refine mx_aload_n dX4_of_0 rfl rfl ?_
      refine mx_iload_n dX4_of_1 rfl rfl ?_
      refine mx_putI 4 6 (ref := "PrairiePool$Wrong") cl_4 (Nat.le_of_ble_eq_true rfl) (Or.inl q356) (Or.inl rfl) dX4_of_2 (Or.inl rfl) rfl k14 ?_
      refine mx_nmI  (fun h15 eh15 Xh15 Kh15 Lh15 => ?_)
      have H := H h15 eh15 Xh15
      have La0_h15 := La0_h.ext Xh15
      refine mx_aload_n dX4_of_5 rfl rfl ?_
      refine mx_iload_n dX4_of_6 rfl rfl ?_
      refine mx_putI 4 7 (ref := "PrairiePool$Wrong") cl_4 (Nat.le_of_ble_eq_true rfl) (Or.inl q358) (Or.inl rfl) dX4_of_7 (Or.inl rfl) rfl (ma_kde Kh15 (k14)) ?_
      refine mx_nmI  (fun h16 eh16 Xh16 Kh16 Lh16 => ?_)
      have H := H h16 eh16 Xh16
      have Kh16 := Kh16.trans Kh15
      have Lh16 := Lh16.trans Lh15
      have La0_h16 := La0_h15.ext Xh16
      refine mx_aload_n dX4_of_10 rfl rfl ?_
      refine mx_aretK rfl (by first | exact Or.inl ⟨_, rfl⟩ | exact Or.inr ⟨_, rfl⟩) dX4_of_11 ?_
      refine mx_aretK rfl (by first | exact Or.inl ⟨_, rfl⟩ | exact Or.inr ⟨_, rfl⟩) dX5_fail_24 ?_
      exact mx_athrow dX5_need_9 (by rw [(ma_kde Kh16 (k14))]; decide) (mt_out rfl (fun _ => mt_out rfl H))
    · have H := H.2 c13
      refine mx_iconst dX5_fail_12 ic_1 ?_
      refine mx_goto (tgt := 17) dX5_fail_13 rfl ?_
      refine mx_aload_n dX5_fail_17 rfl rfl ?_
      refine mx_get 5 4 (ref := "PrairiePool$Reader") cl_5 (Nat.le_of_ble_eq_true rfl) (Or.inl q388) (Or.inl rfl) dX5_fail_18 (fv_5_4 _ _) (ly5_k La0_h) ?_
      obtain ⟨k17, H⟩ := H
      refine mx_callV 4 (y' := mi_X4_of) (vs := [iv (1 : Int32), iv (ah_I h a0 4)]) (st := []) (al' := [some (rv (ah_R h a0 8)), some (iv (1 : Int32)), some (iv (ah_I h a0 4))]) cl_4 V_X4_of (Or.inl q1302) dX5_fail_21 rfl rfl (Nat.le_of_ble_eq_true rfl) (Nat.le_of_ble_eq_true rfl) k17 ?_
      refine mx_aload_n dX4_of_0 rfl rfl ?_
      refine mx_iload_n dX4_of_1 rfl rfl ?_
      refine mx_putI 4 6 (ref := "PrairiePool$Wrong") cl_4 (Nat.le_of_ble_eq_true rfl) (Or.inl q356) (Or.inl rfl) dX4_of_2 (Or.inl rfl) rfl k17 ?_
      refine mx_nmI  (fun h18 eh18 Xh18 Kh18 Lh18 => ?_)
      have H := H h18 eh18 Xh18
      have La0_h18 := La0_h.ext Xh18
      refine mx_aload_n dX4_of_5 rfl rfl ?_
      refine mx_iload_n dX4_of_6 rfl rfl ?_
      refine mx_putI 4 7 (ref := "PrairiePool$Wrong") cl_4 (Nat.le_of_ble_eq_true rfl) (Or.inl q358) (Or.inl rfl) dX4_of_7 (Or.inl rfl) rfl (ma_kde Kh18 (k17)) ?_
      refine mx_nmI  (fun h19 eh19 Xh19 Kh19 Lh19 => ?_)
      have H := H h19 eh19 Xh19
      have Kh19 := Kh19.trans Kh18
      have Lh19 := Lh19.trans Lh18
      have La0_h19 := La0_h18.ext Xh19
      refine mx_aload_n dX4_of_10 rfl rfl ?_
      refine mx_aretK rfl (by first | exact Or.inl ⟨_, rfl⟩ | exact Or.inr ⟨_, rfl⟩) dX4_of_11 ?_
      refine mx_aretK rfl (by first | exact Or.inl ⟨_, rfl⟩ | exact Or.inr ⟨_, rfl⟩) dX5_fail_24 ?_
      exact mx_athrow dX5_need_9 (by rw [(ma_kde Kh19 (k17))]; decide) (mt_out rfl (fun _ => mt_out rfl H))
theorem dX6_init_0 : decode mi_X6_init.2.1 0 = .ok (.aload_n 0, 1) := by decide +kernel
theorem dX6_init_1 : decode mi_X6_init.2.1 1 = .ok (.invokespecial 3, 3) := by decide +kernel
theorem dX6_init_4 : decode mi_X6_init.2.1 4 = .ok (.aload_n 0, 1) := by decide +kernel
theorem dX6_init_5 : decode mi_X6_init.2.1 5 = .ok (.bipush 11, 2) := by decide +kernel
theorem dX6_init_7 : decode mi_X6_init.2.1 7 = .ok (.newarray .long, 2) := by decide +kernel
theorem dX6_init_9 : decode mi_X6_init.2.1 9 = .ok (.putfield 9, 3) := by decide +kernel
theorem dX6_init_12 : decode mi_X6_init.2.1 12 = .ok (.aload_n 0, 1) := by decide +kernel
theorem dX6_init_13 : decode mi_X6_init.2.1 13 = .ok (.bipush 10, 2) := by decide +kernel
theorem dX6_init_15 : decode mi_X6_init.2.1 15 = .ok (.newarray .long, 2) := by decide +kernel
theorem dX6_init_17 : decode mi_X6_init.2.1 17 = .ok (.putfield 15, 3) := by decide +kernel
theorem dX6_init_20 : decode mi_X6_init.2.1 20 = .ok (.aload_n 0, 1) := by decide +kernel
theorem dX6_init_21 : decode mi_X6_init.2.1 21 = .ok (.bipush 10, 2) := by decide +kernel
theorem dX6_init_23 : decode mi_X6_init.2.1 23 = .ok (.newarray .boolean, 2) := by decide +kernel
theorem dX6_init_25 : decode mi_X6_init.2.1 25 = .ok (.putfield 18, 3) := by decide +kernel
theorem dX6_init_28 : decode mi_X6_init.2.1 28 = .ok (.aload_n 0, 1) := by decide +kernel
theorem dX6_init_29 : decode mi_X6_init.2.1 29 = .ok (.aload_n 1, 1) := by decide +kernel
theorem dX6_init_30 : decode mi_X6_init.2.1 30 = .ok (.putfield 22, 3) := by decide +kernel
theorem dX6_init_33 : decode mi_X6_init.2.1 33 = .ok (.return_, 1) := by decide +kernel
theorem v_X6_init {G : ma_G} {d : Nat} {a0 : Nat} {a1 : Nat} {h : ah_T} {Q : Option ma_V → ah_T → Prop} {E : Nat → ah_T → Prop}  (H : ah_kd h a0 ≠ 0 ∧ (1 ≤ ah_rc h ∧ 11 ≤ ah_rs h) ∧ ∀ h3 : ah_T, h3 = ah_new h 41 11 11 → ah_ext h h3 → ah_liv h → ah_kd h3 a0 = 7 ∧ ah_R h3 a0 0 = 0 ∧ ∀ h7 : ah_T, h7 = ah_wR h3 a0 0 (ah_sz h) → ah_ext h3 h7 → (1 ≤ ah_rc h7 ∧ 10 ≤ ah_rs h7) ∧ ∀ h9 : ah_T, h9 = ah_new h7 41 10 10 → ah_ext h7 h9 → ah_liv h7 → ah_R h9 a0 1 = 0 ∧ ∀ h14 : ah_T, h14 = ah_wR h9 a0 1 (ah_sz h7) → ah_ext h9 h14 → (1 ≤ ah_rc h14 ∧ 10 ≤ ah_rs h14) ∧ ∀ h16 : ah_T, h16 = ah_new h14 44 10 10 → ah_ext h14 h16 → ah_liv h14 → ah_R h16 a0 2 = 0 ∧ ∀ h22 : ah_T, h22 = ah_wR h16 a0 2 (ah_sz h14) → ah_ext h16 h22 → ah_R h22 a0 3 = 0 ∧ ∀ h24 : ah_T, h24 = ah_wR h22 a0 3 a1 → ah_ext h22 h24 → Q none h24) : MX G mi_X6_init (d + 1) 0 [some (rv a0), some (rv a1)] [] h Q E := by
  refine mx_aload_n dX6_init_0 rfl rfl ?_
  obtain ⟨k1, H⟩ := H
  refine mx_objInit q418 qobj1 qobj2 dX6_init_1 (Nat.le_of_ble_eq_true rfl) k1 ?_
  refine mx_aload_n dX6_init_4 rfl rfl ?_
  refine mx_bipush dX6_init_5 ib_11 ?_
  obtain ⟨k2, H⟩ := H
  refine mx_newa 1 rfl (by decide) q206 dX6_init_7 cn_11 (by decide) k2.1 k2.2 (by decide) (fun x_ lv_ => ?_)
  refine mx_nmN x_ lv_ (fun h3 eh3 Xh3 lv_ => ?_)
  have H := H h3 eh3 Xh3 lv_
  have k4 : ah_kd h3 (ah_sz h) = 41 := by rw [eh3]; exact if_pos rfl
  obtain ⟨k5, H⟩ := H
  obtain ⟨k6, H⟩ := H
  refine mx_putA 6 0 (ref := "PrairiePool$Asked") cl_6 (Nat.le_of_ble_eq_true rfl) (Or.inl q419) (Or.inl rfl) dX6_init_9 (Or.inr ⟨rfl, rfl, rfl, q419⟩) rfl (Or.inr k6) k5 ?_
  refine mx_nmR (ah_ext.wR (Or.inr (Or.inl k6))) (fun h7 eh7 Xh7 Kh7 Lh7 => ?_)
  have H := H h7 eh7 Xh7
  refine mx_aload_n dX6_init_12 rfl rfl ?_
  refine mx_bipush dX6_init_13 ib_10 ?_
  obtain ⟨k8, H⟩ := H
  refine mx_newa 1 rfl (by decide) q206 dX6_init_15 cn_10 (by decide) k8.1 k8.2 (by decide) (fun x_ lv_ => ?_)
  refine mx_nmN x_ lv_ (fun h9 eh9 Xh9 lv_ => ?_)
  have H := H h9 eh9 Xh9 lv_
  have k10 := Xh9.kd ((ma_kde Kh7 (k4)))
  have k11 := Xh9.kd ((ma_kde Kh7 (k5)))
  have k12 : ah_kd h9 (ah_sz h7) = 41 := by rw [eh9]; exact if_pos rfl
  obtain ⟨k13, H⟩ := H
  refine mx_putA 6 1 (ref := "PrairiePool$Asked") cl_6 (Nat.le_of_ble_eq_true rfl) (Or.inl q422) (Or.inl rfl) dX6_init_17 (Or.inr ⟨rfl, rfl, rfl, q422⟩) rfl (Or.inr k13) k11 ?_
  refine mx_nmR (ah_ext.wR (Or.inr (Or.inl k13))) (fun h14 eh14 Xh14 Kh14 Lh14 => ?_)
  have H := H h14 eh14 Xh14
  refine mx_aload_n dX6_init_20 rfl rfl ?_
  refine mx_bipush dX6_init_21 ib_10 ?_
  obtain ⟨k15, H⟩ := H
  refine mx_newa 4 rfl (by decide) q441 dX6_init_23 cn_10 (by decide) k15.1 k15.2 (by decide) (fun x_ lv_ => ?_)
  refine mx_nmN x_ lv_ (fun h16 eh16 Xh16 lv_ => ?_)
  have H := H h16 eh16 Xh16 lv_
  have k17 := Xh16.kd ((ma_kde Kh14 (k10)))
  have k18 := Xh16.kd ((ma_kde Kh14 (k11)))
  have k19 := Xh16.kd ((ma_kde Kh14 (k12)))
  have k20 : ah_kd h16 (ah_sz h14) = 44 := by rw [eh16]; exact if_pos rfl
  obtain ⟨k21, H⟩ := H
  refine mx_putA 6 2 (ref := "PrairiePool$Asked") cl_6 (Nat.le_of_ble_eq_true rfl) (Or.inl q426) (Or.inl rfl) dX6_init_25 (Or.inr ⟨rfl, rfl, rfl, q426⟩) rfl (Or.inr k21) k18 ?_
  refine mx_nmR (ah_ext.wR (Or.inr (Or.inl k21))) (fun h22 eh22 Xh22 Kh22 Lh22 => ?_)
  have H := H h22 eh22 Xh22
  refine mx_aload_n dX6_init_28 rfl rfl ?_
  refine mx_aload_n dX6_init_29 rfl rfl ?_
  obtain ⟨k23, H⟩ := H
  refine mx_putO 6 3 (ref := "PrairiePool$Asked") cl_6 (Nat.le_of_ble_eq_true rfl) (Or.inl q429) (Or.inl rfl) dX6_init_30 (Or.inr ⟨rfl, rfl, rfl, q429⟩) rfl (Or.inr k23) (ma_kde Kh22 (k18)) ?_
  refine mx_nmR (ah_ext.wR (Or.inr (Or.inl k23))) (fun h24 eh24 Xh24 Kh24 Lh24 => ?_)
  have H := H h24 eh24 Xh24
  have Kh24 := Kh24.trans Kh22
  have Lh24 := Lh24.trans Lh22
  exact mx_vret rfl dX6_init_33 H
theorem dX7_init_0 : decode mi_X7_init.2.1 0 = .ok (.aload_n 0, 1) := by decide +kernel
theorem dX7_init_1 : decode mi_X7_init.2.1 1 = .ok (.invokespecial 1, 3) := by decide +kernel
theorem dX7_init_4 : decode mi_X7_init.2.1 4 = .ok (.return_, 1) := by decide +kernel
theorem v_X7_init {G : ma_G} {d : Nat} {a0 : Nat} {h : ah_T} {Q : Option ma_V → ah_T → Prop} {E : Nat → ah_T → Prop}  (H : ah_kd h a0 ≠ 0 ∧ Q none h) : MX G mi_X7_init (d + 1) 0 [some (rv a0)] [] h Q E := by
  refine mx_aload_n dX7_init_0 rfl rfl ?_
  obtain ⟨k1, H⟩ := H
  refine mx_objInit q450 qobj1 qobj2 dX7_init_1 (Nat.le_of_ble_eq_true rfl) k1 ?_
  exact mx_vret rfl dX7_init_4 H
theorem dX9_init_0 : decode mi_X9_init.2.1 0 = .ok (.aload_n 0, 1) := by decide +kernel
theorem dX9_init_1 : decode mi_X9_init.2.1 1 = .ok (.invokespecial 3, 3) := by decide +kernel
theorem dX9_init_4 : decode mi_X9_init.2.1 4 = .ok (.aload_n 0, 1) := by decide +kernel
theorem dX9_init_5 : decode mi_X9_init.2.1 5 = .ok (.iconst (-1), 1) := by decide +kernel
theorem dX9_init_6 : decode mi_X9_init.2.1 6 = .ok (.putfield 9, 3) := by decide +kernel
theorem dX9_init_9 : decode mi_X9_init.2.1 9 = .ok (.aload_n 0, 1) := by decide +kernel
theorem dX9_init_10 : decode mi_X9_init.2.1 10 = .ok (.iconst (-1), 1) := by decide +kernel
theorem dX9_init_11 : decode mi_X9_init.2.1 11 = .ok (.putfield 15, 3) := by decide +kernel
theorem dX9_init_14 : decode mi_X9_init.2.1 14 = .ok (.aload_n 0, 1) := by decide +kernel
theorem dX9_init_15 : decode mi_X9_init.2.1 15 = .ok (.iconst (-1), 1) := by decide +kernel
theorem dX9_init_16 : decode mi_X9_init.2.1 16 = .ok (.putfield 18, 3) := by decide +kernel
theorem dX9_init_19 : decode mi_X9_init.2.1 19 = .ok (.aload_n 0, 1) := by decide +kernel
theorem dX9_init_20 : decode mi_X9_init.2.1 20 = .ok (.bipush 10, 2) := by decide +kernel
theorem dX9_init_22 : decode mi_X9_init.2.1 22 = .ok (.newarray .boolean, 2) := by decide +kernel
theorem dX9_init_24 : decode mi_X9_init.2.1 24 = .ok (.putfield 21, 3) := by decide +kernel
theorem dX9_init_27 : decode mi_X9_init.2.1 27 = .ok (.aload_n 0, 1) := by decide +kernel
theorem dX9_init_28 : decode mi_X9_init.2.1 28 = .ok (.iload_n 1, 1) := by decide +kernel
theorem dX9_init_29 : decode mi_X9_init.2.1 29 = .ok (.putfield 25, 3) := by decide +kernel
theorem dX9_init_32 : decode mi_X9_init.2.1 32 = .ok (.aload_n 0, 1) := by decide +kernel
theorem dX9_init_33 : decode mi_X9_init.2.1 33 = .ok (.iload_n 2, 1) := by decide +kernel
theorem dX9_init_34 : decode mi_X9_init.2.1 34 = .ok (.putfield 28, 3) := by decide +kernel
theorem dX9_init_37 : decode mi_X9_init.2.1 37 = .ok (.aload_n 0, 1) := by decide +kernel
theorem dX9_init_38 : decode mi_X9_init.2.1 38 = .ok (.iload_n 3, 1) := by decide +kernel
theorem dX9_init_39 : decode mi_X9_init.2.1 39 = .ok (.putfield 31, 3) := by decide +kernel
theorem dX9_init_42 : decode mi_X9_init.2.1 42 = .ok (.aload_n 0, 1) := by decide +kernel
theorem dX9_init_43 : decode mi_X9_init.2.1 43 = .ok (.iload 4, 2) := by decide +kernel
theorem dX9_init_45 : decode mi_X9_init.2.1 45 = .ok (.putfield 34, 3) := by decide +kernel
theorem dX9_init_48 : decode mi_X9_init.2.1 48 = .ok (.return_, 1) := by decide +kernel
theorem v_X9_init {G : ma_G} {d : Nat} {a0 : Nat} {x1 : Int32} {x2 : Int32} {x3 : Int32} {x4 : Int32} {h : ah_T} {Q : Option ma_V → ah_T → Prop} {E : Nat → ah_T → Prop}  (H : ah_kd h a0 ≠ 0 ∧ ah_kd h a0 = 10 ∧ ∀ h3 : ah_T, h3 = ah_wI h a0 4 (-1 : Int32) → ah_ext h h3 → ∀ h4 : ah_T, h4 = ah_wI h3 a0 5 (-1 : Int32) → ah_ext h3 h4 → ∀ h5 : ah_T, h5 = ah_wI h4 a0 6 (-1 : Int32) → ah_ext h4 h5 → (1 ≤ ah_rc h5 ∧ 10 ≤ ah_rs h5) ∧ ∀ h7 : ah_T, h7 = ah_new h5 44 10 10 → ah_ext h5 h7 → ah_liv h5 → ah_R h7 a0 7 = 0 ∧ ∀ h11 : ah_T, h11 = ah_wR h7 a0 7 (ah_sz h5) → ah_ext h7 h11 → ∀ h12 : ah_T, h12 = ah_wI h11 a0 0 x1 → ah_ext h11 h12 → ∀ h13 : ah_T, h13 = ah_wI h12 a0 1 x2 → ah_ext h12 h13 → ∀ h14 : ah_T, h14 = ah_wI h13 a0 2 x3 → ah_ext h13 h14 → ∀ h15 : ah_T, h15 = ah_wI h14 a0 3 x4 → ah_ext h14 h15 → Q none h15) : MX G mi_X9_init (d + 1) 0 [some (rv a0), some (iv x1), some (iv x2), some (iv x3), some (iv x4)] [] h Q E := by
  refine mx_aload_n dX9_init_0 rfl rfl ?_
  obtain ⟨k1, H⟩ := H
  refine mx_objInit q766 qobj1 qobj2 dX9_init_1 (Nat.le_of_ble_eq_true rfl) k1 ?_
  refine mx_aload_n dX9_init_4 rfl rfl ?_
  refine mx_iconst dX9_init_5 ic_m1 ?_
  obtain ⟨k2, H⟩ := H
  refine mx_putI 9 4 (ref := "PrairiePool$Farm") cl_9 (Nat.le_of_ble_eq_true rfl) (Or.inl q776) (Or.inl rfl) dX9_init_6 (Or.inl rfl) rfl k2 ?_
  refine mx_nmI  (fun h3 eh3 Xh3 Kh3 Lh3 => ?_)
  have H := H h3 eh3 Xh3
  refine mx_aload_n dX9_init_9 rfl rfl ?_
  refine mx_iconst dX9_init_10 ic_m1 ?_
  refine mx_putI 9 5 (ref := "PrairiePool$Farm") cl_9 (Nat.le_of_ble_eq_true rfl) (Or.inl q778) (Or.inl rfl) dX9_init_11 (Or.inl rfl) rfl (ma_kde Kh3 (k2)) ?_
  refine mx_nmI  (fun h4 eh4 Xh4 Kh4 Lh4 => ?_)
  have H := H h4 eh4 Xh4
  have Kh4 := Kh4.trans Kh3
  have Lh4 := Lh4.trans Lh3
  refine mx_aload_n dX9_init_14 rfl rfl ?_
  refine mx_iconst dX9_init_15 ic_m1 ?_
  refine mx_putI 9 6 (ref := "PrairiePool$Farm") cl_9 (Nat.le_of_ble_eq_true rfl) (Or.inl q780) (Or.inl rfl) dX9_init_16 (Or.inl rfl) rfl (ma_kde Kh4 (k2)) ?_
  refine mx_nmI  (fun h5 eh5 Xh5 Kh5 Lh5 => ?_)
  have H := H h5 eh5 Xh5
  have Kh5 := Kh5.trans Kh4
  have Lh5 := Lh5.trans Lh4
  refine mx_aload_n dX9_init_19 rfl rfl ?_
  refine mx_bipush dX9_init_20 ib_10 ?_
  obtain ⟨k6, H⟩ := H
  refine mx_newa 4 rfl (by decide) q441 dX9_init_22 cn_10 (by decide) k6.1 k6.2 (by decide) (fun x_ lv_ => ?_)
  refine mx_nmN x_ lv_ (fun h7 eh7 Xh7 lv_ => ?_)
  have H := H h7 eh7 Xh7 lv_
  have k8 := Xh7.kd ((ma_kde Kh5 (k2)))
  have k9 : ah_kd h7 (ah_sz h5) = 44 := by rw [eh7]; exact if_pos rfl
  obtain ⟨k10, H⟩ := H
  refine mx_putA 9 7 (ref := "PrairiePool$Farm") cl_9 (Nat.le_of_ble_eq_true rfl) (Or.inl q782) (Or.inl rfl) dX9_init_24 (Or.inr ⟨rfl, rfl, rfl, q782⟩) rfl (Or.inr k10) k8 ?_
  refine mx_nmR (ah_ext.wR (Or.inr (Or.inl k10))) (fun h11 eh11 Xh11 Kh11 Lh11 => ?_)
  have H := H h11 eh11 Xh11
  refine mx_aload_n dX9_init_27 rfl rfl ?_
  refine mx_iload_n dX9_init_28 rfl rfl ?_
  refine mx_putI 9 0 (ref := "PrairiePool$Farm") cl_9 (Nat.le_of_ble_eq_true rfl) (Or.inl q767) (Or.inl rfl) dX9_init_29 (Or.inr ⟨rfl, rfl, rfl, q767⟩) rfl (ma_kde Kh11 (k8)) ?_
  refine mx_nmI  (fun h12 eh12 Xh12 Kh12 Lh12 => ?_)
  have H := H h12 eh12 Xh12
  have Kh12 := Kh12.trans Kh11
  have Lh12 := Lh12.trans Lh11
  refine mx_aload_n dX9_init_32 rfl rfl ?_
  refine mx_iload_n dX9_init_33 rfl rfl ?_
  refine mx_putI 9 1 (ref := "PrairiePool$Farm") cl_9 (Nat.le_of_ble_eq_true rfl) (Or.inl q770) (Or.inl rfl) dX9_init_34 (Or.inr ⟨rfl, rfl, rfl, q770⟩) rfl (ma_kde Kh12 (k8)) ?_
  refine mx_nmI  (fun h13 eh13 Xh13 Kh13 Lh13 => ?_)
  have H := H h13 eh13 Xh13
  have Kh13 := Kh13.trans Kh12
  have Lh13 := Lh13.trans Lh12
  refine mx_aload_n dX9_init_37 rfl rfl ?_
  refine mx_iload_n dX9_init_38 rfl rfl ?_
  refine mx_putI 9 2 (ref := "PrairiePool$Farm") cl_9 (Nat.le_of_ble_eq_true rfl) (Or.inl q772) (Or.inl rfl) dX9_init_39 (Or.inr ⟨rfl, rfl, rfl, q772⟩) rfl (ma_kde Kh13 (k8)) ?_
  refine mx_nmI  (fun h14 eh14 Xh14 Kh14 Lh14 => ?_)
  have H := H h14 eh14 Xh14
  have Kh14 := Kh14.trans Kh13
  have Lh14 := Lh14.trans Lh13
  refine mx_aload_n dX9_init_42 rfl rfl ?_
  refine mx_iload dX9_init_43 rfl ?_
  refine mx_putI 9 3 (ref := "PrairiePool$Farm") cl_9 (Nat.le_of_ble_eq_true rfl) (Or.inl q774) (Or.inl rfl) dX9_init_45 (Or.inr ⟨rfl, rfl, rfl, q774⟩) rfl (ma_kde Kh14 (k8)) ?_
  refine mx_nmI  (fun h15 eh15 Xh15 Kh15 Lh15 => ?_)
  have H := H h15 eh15 Xh15
  have Kh15 := Kh15.trans Kh14
  have Lh15 := Lh15.trans Lh14
  exact mx_vret rfl dX9_init_48 H
theorem v_X9_isSigned {G : ma_G} {d : Nat} {a0 : Nat} {x1 : Int32} {h : ah_T} {Q : Option ma_V → ah_T → Prop} {E : Nat → ah_T → Prop}  (H : ah_kd h a0 = 10 ∧ ((ah_I h a0 4) = (-1 : Int32) → Q (some (iv (0 : Int32))) h) ∧ (¬ (ah_I h a0 4) = (-1 : Int32) → (x1 < (ah_I h a0 4) → Q (some (iv (0 : Int32))) h) ∧ (¬ x1 < (ah_I h a0 4) → ((ah_I h a0 5) < x1 → Q (some (iv (0 : Int32))) h) ∧ (¬ (ah_I h a0 5) < x1 → Q (some (iv (1 : Int32))) h)))) : MX G mi_X9_isSigned d 0 [some (rv a0), some (iv x1)] [] h Q E := by
  refine mx_aload_n dX9_isSigned_0 rfl rfl ?_
  obtain ⟨k1, H⟩ := H
  refine mx_get 9 4 (ref := "PrairiePool$Farm") cl_9 (Nat.le_of_ble_eq_true rfl) (Or.inl q776) (Or.inl rfl) dX9_isSigned_1 (fv_9_4 _ _) k1 ?_
  refine mx_iconst dX9_isSigned_4 ic_m1 ?_
  refine mx_icmp_eq (tgt := 28) dX9_isSigned_5 rfl (fun c2 => ?_) (fun c2 => ?_)
  · have H := H.1 c2
    refine mx_iconst dX9_isSigned_28 ic_0 ?_
    exact mx_zret rfl dX9_isSigned_29 (Or.inl rfl) H
  · have H := H.2 c2
    refine mx_aload_n dX9_isSigned_8 rfl rfl ?_
    refine mx_get 9 4 (ref := "PrairiePool$Farm") cl_9 (Nat.le_of_ble_eq_true rfl) (Or.inl q776) (Or.inl rfl) dX9_isSigned_9 (fv_9_4 _ _) k1 ?_
    refine mx_iload_n dX9_isSigned_12 rfl rfl ?_
    refine mx_icmp_gt (tgt := 28) dX9_isSigned_13 rfl (fun c3 => ?_) (fun c3 => ?_)
    · have H := H.1 c3
      refine mx_iconst dX9_isSigned_28 ic_0 ?_
      exact mx_zret rfl dX9_isSigned_29 (Or.inl rfl) H
    · have H := H.2 c3
      refine mx_iload_n dX9_isSigned_16 rfl rfl ?_
      refine mx_aload_n dX9_isSigned_17 rfl rfl ?_
      refine mx_get 9 5 (ref := "PrairiePool$Farm") cl_9 (Nat.le_of_ble_eq_true rfl) (Or.inl q778) (Or.inl rfl) dX9_isSigned_18 (fv_9_5 _ _) k1 ?_
      refine mx_icmp_gt (tgt := 28) dX9_isSigned_21 rfl (fun c4 => ?_) (fun c4 => ?_)
      · have H := H.1 c4
        refine mx_iconst dX9_isSigned_28 ic_0 ?_
        exact mx_zret rfl dX9_isSigned_29 (Or.inl rfl) H
      · have H := H.2 c4
        refine mx_iconst dX9_isSigned_24 ic_1 ?_
        refine mx_goto (tgt := 29) dX9_isSigned_25 rfl ?_
        exact mx_zret rfl dX9_isSigned_29 (Or.inr rfl) H
theorem dX10_init_0 : decode mi_X10_init.2.1 0 = .ok (.aload_n 0, 1) := by decide +kernel
theorem dX10_init_1 : decode mi_X10_init.2.1 1 = .ok (.invokespecial 1, 3) := by decide +kernel
theorem dX10_init_4 : decode mi_X10_init.2.1 4 = .ok (.aload_n 0, 1) := by decide +kernel
theorem dX10_init_5 : decode mi_X10_init.2.1 5 = .ok (.iload_n 1, 1) := by decide +kernel
theorem dX10_init_6 : decode mi_X10_init.2.1 6 = .ok (.putfield 7, 3) := by decide +kernel
theorem dX10_init_9 : decode mi_X10_init.2.1 9 = .ok (.aload_n 0, 1) := by decide +kernel
theorem dX10_init_10 : decode mi_X10_init.2.1 10 = .ok (.iload_n 2, 1) := by decide +kernel
theorem dX10_init_11 : decode mi_X10_init.2.1 11 = .ok (.putfield 13, 3) := by decide +kernel
theorem dX10_init_14 : decode mi_X10_init.2.1 14 = .ok (.return_, 1) := by decide +kernel
theorem v_X10_init {G : ma_G} {d : Nat} {a0 : Nat} {x1 : Int32} {x2 : Int32} {h : ah_T} {Q : Option ma_V → ah_T → Prop} {E : Nat → ah_T → Prop}  (H : ah_kd h a0 ≠ 0 ∧ ah_kd h a0 = 11 ∧ ∀ h3 : ah_T, h3 = ah_wI h a0 0 x1 → ah_ext h h3 → ∀ h4 : ah_T, h4 = ah_wI h3 a0 1 x2 → ah_ext h3 h4 → Q none h4) : MX G mi_X10_init (d + 1) 0 [some (rv a0), some (iv x1), some (iv x2)] [] h Q E := by
  refine mx_aload_n dX10_init_0 rfl rfl ?_
  obtain ⟨k1, H⟩ := H
  refine mx_objInit q814 qobj1 qobj2 dX10_init_1 (Nat.le_of_ble_eq_true rfl) k1 ?_
  refine mx_aload_n dX10_init_4 rfl rfl ?_
  refine mx_iload_n dX10_init_5 rfl rfl ?_
  obtain ⟨k2, H⟩ := H
  refine mx_putI 10 0 (ref := "PrairiePool$Elevator") cl_10 (Nat.le_of_ble_eq_true rfl) (Or.inl q815) (Or.inl rfl) dX10_init_6 (Or.inr ⟨rfl, rfl, rfl, q815⟩) rfl k2 ?_
  refine mx_nmI  (fun h3 eh3 Xh3 Kh3 Lh3 => ?_)
  have H := H h3 eh3 Xh3
  refine mx_aload_n dX10_init_9 rfl rfl ?_
  refine mx_iload_n dX10_init_10 rfl rfl ?_
  refine mx_putI 10 1 (ref := "PrairiePool$Elevator") cl_10 (Nat.le_of_ble_eq_true rfl) (Or.inl q817) (Or.inl rfl) dX10_init_11 (Or.inr ⟨rfl, rfl, rfl, q817⟩) rfl (ma_kde Kh3 (k2)) ?_
  refine mx_nmI  (fun h4 eh4 Xh4 Kh4 Lh4 => ?_)
  have H := H h4 eh4 Xh4
  have Kh4 := Kh4.trans Kh3
  have Lh4 := Lh4.trans Lh3
  exact mx_vret rfl dX10_init_14 H
theorem dX11_init_0 : decode mi_X11_init.2.1 0 = .ok (.aload_n 0, 1) := by decide +kernel
theorem dX11_init_1 : decode mi_X11_init.2.1 1 = .ok (.invokespecial 1, 3) := by decide +kernel
theorem dX11_init_4 : decode mi_X11_init.2.1 4 = .ok (.aload_n 0, 1) := by decide +kernel
theorem dX11_init_5 : decode mi_X11_init.2.1 5 = .ok (.iload_n 1, 1) := by decide +kernel
theorem dX11_init_6 : decode mi_X11_init.2.1 6 = .ok (.putfield 7, 3) := by decide +kernel
theorem dX11_init_9 : decode mi_X11_init.2.1 9 = .ok (.aload_n 0, 1) := by decide +kernel
theorem dX11_init_10 : decode mi_X11_init.2.1 10 = .ok (.iload_n 2, 1) := by decide +kernel
theorem dX11_init_11 : decode mi_X11_init.2.1 11 = .ok (.putfield 13, 3) := by decide +kernel
theorem dX11_init_14 : decode mi_X11_init.2.1 14 = .ok (.aload_n 0, 1) := by decide +kernel
theorem dX11_init_15 : decode mi_X11_init.2.1 15 = .ok (.iload_n 3, 1) := by decide +kernel
theorem dX11_init_16 : decode mi_X11_init.2.1 16 = .ok (.putfield 16, 3) := by decide +kernel
theorem dX11_init_19 : decode mi_X11_init.2.1 19 = .ok (.return_, 1) := by decide +kernel
theorem v_X11_init {G : ma_G} {d : Nat} {a0 : Nat} {x1 : Int32} {x2 : Int32} {x3 : Int32} {h : ah_T} {Q : Option ma_V → ah_T → Prop} {E : Nat → ah_T → Prop}  (H : ah_kd h a0 ≠ 0 ∧ ma_ks h a0 [11, 12, 13, 14] ∧ ∀ h3 : ah_T, h3 = ah_wI h a0 0 x1 → ah_ext h h3 → ∀ h4 : ah_T, h4 = ah_wI h3 a0 1 x2 → ah_ext h3 h4 → ∀ h5 : ah_T, h5 = ah_wI h4 a0 2 x3 → ah_ext h4 h5 → Q none h5) : MX G mi_X11_init (d + 1) 0 [some (rv a0), some (iv x1), some (iv x2), some (iv x3)] [] h Q E := by
  refine mx_aload_n dX11_init_0 rfl rfl ?_
  obtain ⟨k1, H⟩ := H
  refine mx_objInit q852 qobj1 qobj2 dX11_init_1 (Nat.le_of_ble_eq_true rfl) k1 ?_
  refine mx_aload_n dX11_init_4 rfl rfl ?_
  refine mx_iload_n dX11_init_5 rfl rfl ?_
  obtain ⟨k2, H⟩ := H
  refine mx_putIP [11, 12, 13, 14] 0 (ref := "PrairiePool$Event") fa_ev_0 (Or.inl q859) (Or.inl rfl) dX11_init_6 (Or.inr ⟨rfl, rfl, rfl, q859⟩) k2 ?_
  refine mx_nmI  (fun h3 eh3 Xh3 Kh3 Lh3 => ?_)
  have H := H h3 eh3 Xh3
  refine mx_aload_n dX11_init_9 rfl rfl ?_
  refine mx_iload_n dX11_init_10 rfl rfl ?_
  refine mx_putIP [11, 12, 13, 14] 1 (ref := "PrairiePool$Event") fa_ev_1 (Or.inl q864) (Or.inl rfl) dX11_init_11 (Or.inr ⟨rfl, rfl, rfl, q864⟩) (ma_ksk Kh3 (k2)) ?_
  refine mx_nmI  (fun h4 eh4 Xh4 Kh4 Lh4 => ?_)
  have H := H h4 eh4 Xh4
  have Kh4 := Kh4.trans Kh3
  have Lh4 := Lh4.trans Lh3
  refine mx_aload_n dX11_init_14 rfl rfl ?_
  refine mx_iload_n dX11_init_15 rfl rfl ?_
  refine mx_putIP [11, 12, 13, 14] 2 (ref := "PrairiePool$Event") fa_ev_2 (Or.inl q866) (Or.inl rfl) dX11_init_16 (Or.inr ⟨rfl, rfl, rfl, q866⟩) (ma_ksk Kh4 (k2)) ?_
  refine mx_nmI  (fun h5 eh5 Xh5 Kh5 Lh5 => ?_)
  have H := H h5 eh5 Xh5
  have Kh5 := Kh5.trans Kh4
  have Lh5 := Lh5.trans Lh4
  exact mx_vret rfl dX11_init_19 H
theorem v_X11_bushels {G : ma_G} {d : Nat} {a0 : Nat} {h : ah_T} {Q : Option ma_V → ah_T → Prop} {E : Nat → ah_T → Prop}  (H : ma_ks h a0 [11, 12, 13, 14] ∧ Q (some (iv (ah_I h a0 2))) h) : MX G mi_X11_bushels d 0 [some (rv a0)] [] h Q E := by
  refine mx_aload_n dX11_bushels_0 rfl rfl ?_
  obtain ⟨k1, H⟩ := H
  refine mx_getP [11, 12, 13, 14] 2 (ref := "PrairiePool$Event") (v := iv (ah_I _ _ 2)) fa_ev_2 (Or.inl q866) (Or.inl rfl) dX11_bushels_1 rfl k1 ?_
  exact mx_iret rfl dX11_bushels_4 H
theorem dX12_init_0 : decode mi_X12_init.2.1 0 = .ok (.aload_n 0, 1) := by decide +kernel
theorem dX12_init_1 : decode mi_X12_init.2.1 1 = .ok (.iload 5, 2) := by decide +kernel
theorem dX12_init_3 : decode mi_X12_init.2.1 3 = .ok (.iload 6, 2) := by decide +kernel
theorem dX12_init_5 : decode mi_X12_init.2.1 5 = .ok (.iload_n 3, 1) := by decide +kernel
theorem dX12_init_6 : decode mi_X12_init.2.1 6 = .ok (.invokespecial 1, 3) := by decide +kernel
theorem dX12_init_9 : decode mi_X12_init.2.1 9 = .ok (.aload_n 0, 1) := by decide +kernel
theorem dX12_init_10 : decode mi_X12_init.2.1 10 = .ok (.aload_n 1, 1) := by decide +kernel
theorem dX12_init_11 : decode mi_X12_init.2.1 11 = .ok (.putfield 7, 3) := by decide +kernel
theorem dX12_init_14 : decode mi_X12_init.2.1 14 = .ok (.aload_n 0, 1) := by decide +kernel
theorem dX12_init_15 : decode mi_X12_init.2.1 15 = .ok (.iload_n 2, 1) := by decide +kernel
theorem dX12_init_16 : decode mi_X12_init.2.1 16 = .ok (.putfield 13, 3) := by decide +kernel
theorem dX12_init_19 : decode mi_X12_init.2.1 19 = .ok (.aload_n 0, 1) := by decide +kernel
theorem dX12_init_20 : decode mi_X12_init.2.1 20 = .ok (.iload 4, 2) := by decide +kernel
theorem dX12_init_22 : decode mi_X12_init.2.1 22 = .ok (.putfield 17, 3) := by decide +kernel
theorem dX12_init_25 : decode mi_X12_init.2.1 25 = .ok (.return_, 1) := by decide +kernel
theorem v_X12_init {G : ma_G} {d : Nat} {a0 : Nat} {a1 : Nat} {x2 : Int32} {x3 : Int32} {x4 : Int32} {x5 : Int32} {x6 : Int32} {h : ah_T} {Q : Option ma_V → ah_T → Prop} {E : Nat → ah_T → Prop}  (H : ah_kd h a0 ≠ 0 ∧ MX G mi_X11_init d 0 [some (rv a0), some (iv x5), some (iv x6), some (iv x3)] [] h (Qv fun h2 => ah_ext h h2 → ah_kd h2 a0 = 12 ∧ ah_R h2 a0 3 = 0 ∧ ∀ h6 : ah_T, h6 = ah_wR h2 a0 3 a1 → ah_ext h2 h6 → ∀ h7 : ah_T, h7 = ah_wI h6 a0 4 x2 → ah_ext h6 h7 → ∀ h8 : ah_T, h8 = ah_wI h7 a0 5 x4 → ah_ext h7 h8 → Q none h8) E) : MX G mi_X12_init (d + 1) 0 [some (rv a0), some (rv a1), some (iv x2), some (iv x3), some (iv x4), some (iv x5), some (iv x6)] [] h Q E := by
  refine mx_aload_n dX12_init_0 rfl rfl ?_
  refine mx_iload dX12_init_1 rfl ?_
  refine mx_iload dX12_init_3 rfl ?_
  refine mx_iload_n dX12_init_5 rfl rfl ?_
  obtain ⟨k1, H⟩ := H
  refine mx_callI (y' := mi_X11_init) (vs := [iv x5, iv x6, iv x3]) (st := []) (al' := [some (rv a0), some (iv x5), some (iv x6), some (iv x3)]) I_X11_init (Or.inl q849) dX12_init_6 rfl rfl (Nat.le_of_ble_eq_true rfl) (Nat.le_of_ble_eq_true rfl) k1 ?_
  refine ma_kv H (fun h2 Xh2 H => ?_) (fun x1 h1 X1 H => mt_out rfl H)
  have H := H Xh2
  refine mx_aload_n dX12_init_9 rfl rfl ?_
  refine mx_aload_n dX12_init_10 rfl rfl ?_
  obtain ⟨k4, H⟩ := H
  obtain ⟨k5, H⟩ := H
  refine mx_putO 11 3 (ref := "PrairiePool$Load") cl_11 (Nat.le_of_ble_eq_true rfl) (Or.inl q853) (Or.inl rfl) dX12_init_11 (Or.inr ⟨rfl, rfl, rfl, q853⟩) rfl (Or.inr k5) k4 ?_
  refine mx_nmR (ah_ext.wR (Or.inr (Or.inl k5))) (fun h6 eh6 Xh6 Kh6 Lh6 => ?_)
  have H := H h6 eh6 Xh6
  refine mx_aload_n dX12_init_14 rfl rfl ?_
  refine mx_iload_n dX12_init_15 rfl rfl ?_
  refine mx_putI 11 4 (ref := "PrairiePool$Load") cl_11 (Nat.le_of_ble_eq_true rfl) (Or.inl q855) (Or.inl rfl) dX12_init_16 (Or.inr ⟨rfl, rfl, rfl, q855⟩) rfl (ma_kde Kh6 (k4)) ?_
  refine mx_nmI  (fun h7 eh7 Xh7 Kh7 Lh7 => ?_)
  have H := H h7 eh7 Xh7
  have Kh7 := Kh7.trans Kh6
  have Lh7 := Lh7.trans Lh6
  refine mx_aload_n dX12_init_19 rfl rfl ?_
  refine mx_iload dX12_init_20 rfl ?_
  refine mx_putI 11 5 (ref := "PrairiePool$Load") cl_11 (Nat.le_of_ble_eq_true rfl) (Or.inl q856) (Or.inl rfl) dX12_init_22 (Or.inr ⟨rfl, rfl, rfl, q856⟩) rfl (ma_kde Kh7 (k4)) ?_
  refine mx_nmI  (fun h8 eh8 Xh8 Kh8 Lh8 => ?_)
  have H := H h8 eh8 Xh8
  have Kh8 := Kh8.trans Kh7
  have Lh8 := Lh8.trans Lh7
  exact mx_vret rfl dX12_init_25 H
theorem v_X12_year {G : ma_G} {d : Nat} {a0 : Nat} {h : ah_T} {Q : Option ma_V → ah_T → Prop} {E : Nat → ah_T → Prop}  (H : ah_kd h a0 = 12 ∧ Q (some (iv ((ah_I h a0 0) / (52 : Int32)))) h) : MX G mi_X12_year d 0 [some (rv a0)] [] h Q E := by
  refine mx_aload_n dX12_year_0 rfl rfl ?_
  obtain ⟨k1, H⟩ := H
  refine mx_get 11 0 (ref := "PrairiePool$Load") cl_11 (Nat.le_of_ble_eq_true rfl) (Or.inl q860) (Or.inr q861) dX12_year_1 (fv_11_0 _ _) k1 ?_
  refine mx_bipush dX12_year_4 ib_52 ?_
  refine mx_idiv dX12_year_6 (by decide) ?_
  exact mx_iret rfl dX12_year_7 H
theorem v_X12_bushels {G : ma_G} {d : Nat} {a0 : Nat} {h : ah_T} {Q : Option ma_V → ah_T → Prop} {E : Nat → ah_T → Prop}  (H : ah_kd h a0 = 12 ∧ Q (some (iv ((ah_I h a0 2) - (((ah_I h a0 2) * (ah_I h a0 5)) / (1000 : Int32))))) h) : MX G mi_X12_bushels (d + 1) 0 [some (rv a0)] [] h Q E := by
  refine mx_aload_n dX12_bushels_0 rfl rfl ?_
  obtain ⟨k1, H⟩ := H
  refine mx_callX 11 (y' := mi_X11_bushels) (vs := []) (st := []) (al' := [some (rv a0)]) cl_11 ca_X11_bushels q1011 q2461 q881 (by decide) (by unfold ma_np; decide +kernel) q1010 dX12_bushels_1 rfl rfl (Nat.le_of_ble_eq_true rfl) (Nat.le_of_ble_eq_true rfl) k1 ?_
  refine mx_aload_n dX11_bushels_0 rfl rfl ?_
  refine mx_get 11 2 (ref := "PrairiePool$Event") cl_11 (Nat.le_of_ble_eq_true rfl) (Or.inl q866) (Or.inl rfl) dX11_bushels_1 (fv_11_2 _ _) k1 ?_
  refine mx_iretK rfl dX11_bushels_4 ?_
  refine mx_aload_n dX12_bushels_4 rfl rfl ?_
  refine mx_callX 11 (y' := mi_X11_bushels) (vs := []) (st := [iv (ah_I h a0 2)]) (al' := [some (rv a0)]) cl_11 ca_X11_bushels q1011 q2461 q881 (by decide) (by unfold ma_np; decide +kernel) q1010 dX12_bushels_5 rfl rfl (Nat.le_of_ble_eq_true rfl) (Nat.le_of_ble_eq_true rfl) k1 ?_
  refine mx_aload_n dX11_bushels_0 rfl rfl ?_
  refine mx_get 11 2 (ref := "PrairiePool$Event") cl_11 (Nat.le_of_ble_eq_true rfl) (Or.inl q866) (Or.inl rfl) dX11_bushels_1 (fv_11_2 _ _) k1 ?_
  refine mx_iretK rfl dX11_bushels_4 ?_
  refine mx_aload_n dX12_bushels_8 rfl rfl ?_
  refine mx_get 11 5 (ref := "PrairiePool$Load") cl_11 (Nat.le_of_ble_eq_true rfl) (Or.inl q856) (Or.inl rfl) dX12_bushels_9 (fv_11_5 _ _) k1 ?_
  refine mx_imul dX12_bushels_12 ?_
  refine mx_sipush dX12_bushels_13 is_1000 ?_
  refine mx_idiv dX12_bushels_16 (by decide) ?_
  refine mx_isub dX12_bushels_17 ?_
  exact mx_iret rfl dX12_bushels_18 H
theorem dX12_plays_0 : decode mi_X12_plays.2.1 0 = .ok (.aload_n 0, 1) := by decide +kernel
theorem dX12_plays_1 : decode mi_X12_plays.2.1 1 = .ok (.getfield 7, 3) := by decide +kernel
theorem dX12_plays_4 : decode mi_X12_plays.2.1 4 = .ok (.getfield 27, 3) := by decide +kernel
theorem dX12_plays_7 : decode mi_X12_plays.2.1 7 = .ok (.istore_n 2, 1) := by decide +kernel
theorem dX12_plays_8 : decode mi_X12_plays.2.1 8 = .ok (.iconst 0, 1) := by decide +kernel
theorem dX12_plays_9 : decode mi_X12_plays.2.1 9 = .ok (.aload_n 0, 1) := by decide +kernel
theorem dX12_plays_10 : decode mi_X12_plays.2.1 10 = .ok (.invokevirtual 32, 3) := by decide +kernel
theorem dX12_plays_13 : decode mi_X12_plays.2.1 13 = .ok (.aload_n 1, 1) := by decide +kernel
theorem dX12_plays_14 : decode mi_X12_plays.2.1 14 = .ok (.getfield 33, 3) := by decide +kernel
theorem dX12_plays_17 : decode mi_X12_plays.2.1 17 = .ok (.aload_n 0, 1) := by decide +kernel
theorem dX12_plays_18 : decode mi_X12_plays.2.1 18 = .ok (.getfield 13, 3) := by decide +kernel
theorem dX12_plays_21 : decode mi_X12_plays.2.1 21 = .ok (.iaload, 1) := by decide +kernel
theorem dX12_plays_22 : decode mi_X12_plays.2.1 22 = .ok (.aload_n 1, 1) := by decide +kernel
theorem dX12_plays_23 : decode mi_X12_plays.2.1 23 = .ok (.getfield 39, 3) := by decide +kernel
theorem dX12_plays_26 : decode mi_X12_plays.2.1 26 = .ok (.aload_n 0, 1) := by decide +kernel
theorem dX12_plays_27 : decode mi_X12_plays.2.1 27 = .ok (.getfield 13, 3) := by decide +kernel
theorem dX12_plays_30 : decode mi_X12_plays.2.1 30 = .ok (.iaload, 1) := by decide +kernel
theorem dX12_plays_31 : decode mi_X12_plays.2.1 31 = .ok (.isub, 1) := by decide +kernel
theorem dX12_plays_32 : decode mi_X12_plays.2.1 32 = .ok (.invokestatic 42, 3) := by decide +kernel
theorem dX12_plays_35 : decode mi_X12_plays.2.1 35 = .ok (.invokestatic 48, 3) := by decide +kernel
theorem dX12_plays_38 : decode mi_X12_plays.2.1 38 = .ok (.istore_n 3, 1) := by decide +kernel
theorem dX12_plays_39 : decode mi_X12_plays.2.1 39 = .ok (.aload_n 1, 1) := by decide +kernel
theorem dX12_plays_40 : decode mi_X12_plays.2.1 40 = .ok (.getfield 51, 3) := by decide +kernel
theorem dX12_plays_43 : decode mi_X12_plays.2.1 43 = .ok (.iload_n 2, 1) := by decide +kernel
theorem dX12_plays_44 : decode mi_X12_plays.2.1 44 = .ok (.dup2, 1) := by decide +kernel
theorem dX12_plays_45 : decode mi_X12_plays.2.1 45 = .ok (.iaload, 1) := by decide +kernel
theorem dX12_plays_46 : decode mi_X12_plays.2.1 46 = .ok (.aload_n 0, 1) := by decide +kernel
theorem dX12_plays_47 : decode mi_X12_plays.2.1 47 = .ok (.invokespecial 20, 3) := by decide +kernel
theorem dX12_plays_50 : decode mi_X12_plays.2.1 50 = .ok (.aload_n 0, 1) := by decide +kernel
theorem dX12_plays_51 : decode mi_X12_plays.2.1 51 = .ok (.invokevirtual 32, 3) := by decide +kernel
theorem dX12_plays_54 : decode mi_X12_plays.2.1 54 = .ok (.isub, 1) := by decide +kernel
theorem dX12_plays_55 : decode mi_X12_plays.2.1 55 = .ok (.iadd, 1) := by decide +kernel
theorem dX12_plays_56 : decode mi_X12_plays.2.1 56 = .ok (.iastore, 1) := by decide +kernel
theorem dX12_plays_57 : decode mi_X12_plays.2.1 57 = .ok (.aload_n 1, 1) := by decide +kernel
theorem dX12_plays_58 : decode mi_X12_plays.2.1 58 = .ok (.getfield 54, 3) := by decide +kernel
theorem dX12_plays_61 : decode mi_X12_plays.2.1 61 = .ok (.iload_n 2, 1) := by decide +kernel
theorem dX12_plays_62 : decode mi_X12_plays.2.1 62 = .ok (.dup2, 1) := by decide +kernel
theorem dX12_plays_63 : decode mi_X12_plays.2.1 63 = .ok (.iaload, 1) := by decide +kernel
theorem dX12_plays_64 : decode mi_X12_plays.2.1 64 = .ok (.aload_n 0, 1) := by decide +kernel
theorem dX12_plays_65 : decode mi_X12_plays.2.1 65 = .ok (.invokevirtual 32, 3) := by decide +kernel
theorem dX12_plays_68 : decode mi_X12_plays.2.1 68 = .ok (.iload_n 3, 1) := by decide +kernel
theorem dX12_plays_69 : decode mi_X12_plays.2.1 69 = .ok (.isub, 1) := by decide +kernel
theorem dX12_plays_70 : decode mi_X12_plays.2.1 70 = .ok (.iadd, 1) := by decide +kernel
theorem dX12_plays_71 : decode mi_X12_plays.2.1 71 = .ok (.iastore, 1) := by decide +kernel
theorem dX12_plays_72 : decode mi_X12_plays.2.1 72 = .ok (.aload_n 1, 1) := by decide +kernel
theorem dX12_plays_73 : decode mi_X12_plays.2.1 73 = .ok (.getfield 57, 3) := by decide +kernel
theorem dX12_plays_76 : decode mi_X12_plays.2.1 76 = .ok (.aload_n 0, 1) := by decide +kernel
theorem dX12_plays_77 : decode mi_X12_plays.2.1 77 = .ok (.getfield 13, 3) := by decide +kernel
theorem dX12_plays_80 : decode mi_X12_plays.2.1 80 = .ok (.aaload, 1) := by decide +kernel
theorem dX12_plays_81 : decode mi_X12_plays.2.1 81 = .ok (.aload_n 0, 1) := by decide +kernel
theorem dX12_plays_82 : decode mi_X12_plays.2.1 82 = .ok (.getfield 61, 3) := by decide +kernel
theorem dX12_plays_85 : decode mi_X12_plays.2.1 85 = .ok (.aaload, 1) := by decide +kernel
theorem dX12_plays_86 : decode mi_X12_plays.2.1 86 = .ok (.aload_n 0, 1) := by decide +kernel
theorem dX12_plays_87 : decode mi_X12_plays.2.1 87 = .ok (.invokevirtual 64, 3) := by decide +kernel
theorem dX12_plays_90 : decode mi_X12_plays.2.1 90 = .ok (.aaload, 1) := by decide +kernel
theorem dX12_plays_91 : decode mi_X12_plays.2.1 91 = .ok (.iload_n 2, 1) := by decide +kernel
theorem dX12_plays_92 : decode mi_X12_plays.2.1 92 = .ok (.iload_n 3, 1) := by decide +kernel
theorem dX12_plays_93 : decode mi_X12_plays.2.1 93 = .ok (.invokevirtual 67, 3) := by decide +kernel
theorem dX12_plays_96 : decode mi_X12_plays.2.1 96 = .ok (.aload_n 1, 1) := by decide +kernel
theorem dX12_plays_97 : decode mi_X12_plays.2.1 97 = .ok (.getfield 39, 3) := by decide +kernel
theorem dX12_plays_100 : decode mi_X12_plays.2.1 100 = .ok (.aload_n 0, 1) := by decide +kernel
theorem dX12_plays_101 : decode mi_X12_plays.2.1 101 = .ok (.getfield 13, 3) := by decide +kernel
theorem dX12_plays_104 : decode mi_X12_plays.2.1 104 = .ok (.dup2, 1) := by decide +kernel
theorem dX12_plays_105 : decode mi_X12_plays.2.1 105 = .ok (.iaload, 1) := by decide +kernel
theorem dX12_plays_106 : decode mi_X12_plays.2.1 106 = .ok (.iload_n 3, 1) := by decide +kernel
theorem dX12_plays_107 : decode mi_X12_plays.2.1 107 = .ok (.iadd, 1) := by decide +kernel
theorem dX12_plays_108 : decode mi_X12_plays.2.1 108 = .ok (.iastore, 1) := by decide +kernel
theorem dX12_plays_109 : decode mi_X12_plays.2.1 109 = .ok (.aload_n 1, 1) := by decide +kernel
theorem dX12_plays_110 : decode mi_X12_plays.2.1 110 = .ok (.getfield 73, 3) := by decide +kernel
theorem dX12_plays_113 : decode mi_X12_plays.2.1 113 = .ok (.aload_n 0, 1) := by decide +kernel
theorem dX12_plays_114 : decode mi_X12_plays.2.1 114 = .ok (.getfield 61, 3) := by decide +kernel
theorem dX12_plays_117 : decode mi_X12_plays.2.1 117 = .ok (.aaload, 1) := by decide +kernel
theorem dX12_plays_118 : decode mi_X12_plays.2.1 118 = .ok (.aload_n 0, 1) := by decide +kernel
theorem dX12_plays_119 : decode mi_X12_plays.2.1 119 = .ok (.invokevirtual 64, 3) := by decide +kernel
theorem dX12_plays_122 : decode mi_X12_plays.2.1 122 = .ok (.aaload, 1) := by decide +kernel
theorem dX12_plays_123 : decode mi_X12_plays.2.1 123 = .ok (.iload_n 2, 1) := by decide +kernel
theorem dX12_plays_124 : decode mi_X12_plays.2.1 124 = .ok (.iload_n 3, 1) := by decide +kernel
theorem dX12_plays_125 : decode mi_X12_plays.2.1 125 = .ok (.invokevirtual 67, 3) := by decide +kernel
theorem dX12_plays_128 : decode mi_X12_plays.2.1 128 = .ok (.return_, 1) := by decide +kernel
theorem v_X12_plays {G : ma_G} {d : Nat} {a0 : Nat} {a1 : Nat} {h : ah_T} {Q : Option ma_V → ah_T → Prop} {E : Nat → ah_T → Prop} (La1_h : LY1 h a1) (H : ah_kd h a0 = 12 ∧ ah_kd h (ah_R h a0 3) = 10 ∧ vp_in (ah_I h a0 4) 8 ∧ vp_in (ah_I h (ah_R h a0 3) 0) 20 ∧ ∀ h5 : ah_T, h5 = ah_wI h (a1 + 89) (ah_I h (ah_R h a0 3) 0).toNatClampNeg ((ah_I h (a1 + 89) (ah_I h (ah_R h a0 3) 0).toNatClampNeg) + ((ah_I h a0 2) - ((ah_I h a0 2) - (((ah_I h a0 2) * (ah_I h a0 5)) / (1000 : Int32))))) → ah_ext h h5 → ∀ h6 : ah_T, h6 = ah_wI h5 (a1 + 90) (ah_I h (ah_R h a0 3) 0).toNatClampNeg ((ah_I h (a1 + 90) (ah_I h (ah_R h a0 3) 0).toNatClampNeg) + (((ah_I h5 a0 2) - (((ah_I h5 a0 2) * (ah_I h5 a0 5)) / (1000 : Int32))) - (iMax (0 : Int32) (iMin ((ah_I h a0 2) - (((ah_I h a0 2) * (ah_I h a0 5)) / (1000 : Int32))) ((ah_I h (a1 + 87) (ah_I h a0 4).toNatClampNeg) - (ah_I h (a1 + 88) (ah_I h a0 4).toNatClampNeg)))))) → ah_ext h5 h6 → vp_in (ah_I h6 a0 4) 8 ∧ vp_in (ah_I h6 a0 6) 6 ∧ vp_in ((ah_I h6 a0 0) / (52 : Int32)) 10 ∧ ∀ h10 : ah_T, h10 = ah_wI h6 ((a1 + (97 + 22 * (10 * (ah_I h6 a0 6).toNatClampNeg + ((ah_I h6 a0 0) / (52 : Int32)).toNatClampNeg) + 2 * (ah_I h6 a0 4).toNatClampNeg)) + 1) (ah_I h (ah_R h a0 3) 0).toNatClampNeg ((ah_I h6 ((a1 + (97 + 22 * (10 * (ah_I h6 a0 6).toNatClampNeg + ((ah_I h6 a0 0) / (52 : Int32)).toNatClampNeg) + 2 * (ah_I h6 a0 4).toNatClampNeg)) + 1) (ah_I h (ah_R h a0 3) 0).toNatClampNeg) + (iMax (0 : Int32) (iMin ((ah_I h a0 2) - (((ah_I h a0 2) * (ah_I h a0 5)) / (1000 : Int32))) ((ah_I h (a1 + 87) (ah_I h a0 4).toNatClampNeg) - (ah_I h (a1 + 88) (ah_I h a0 4).toNatClampNeg))))) → ah_ext h6 h10 → ∀ h11 : ah_T, h11 = ah_wI h10 (a1 + (97 + 22 * (10 * (ah_I h6 a0 6).toNatClampNeg + ((ah_I h6 a0 0) / (52 : Int32)).toNatClampNeg) + 2 * (ah_I h6 a0 4).toNatClampNeg)) 1 ((ah_I h10 (a1 + (97 + 22 * (10 * (ah_I h6 a0 6).toNatClampNeg + ((ah_I h6 a0 0) / (52 : Int32)).toNatClampNeg) + 2 * (ah_I h6 a0 4).toNatClampNeg)) 1) + (iMax (0 : Int32) (iMin ((ah_I h a0 2) - (((ah_I h a0 2) * (ah_I h a0 5)) / (1000 : Int32))) ((ah_I h (a1 + 87) (ah_I h a0 4).toNatClampNeg) - (ah_I h (a1 + 88) (ah_I h a0 4).toNatClampNeg))))) → ah_ext h10 h11 → vp_in (ah_I h10 a0 4) 8 ∧ ∀ h13 : ah_T, h13 = ah_wI h11 (a1 + 88) (ah_I h10 a0 4).toNatClampNeg ((ah_I h11 (a1 + 88) (ah_I h10 a0 4).toNatClampNeg) + (iMax (0 : Int32) (iMin ((ah_I h a0 2) - (((ah_I h a0 2) * (ah_I h a0 5)) / (1000 : Int32))) ((ah_I h (a1 + 87) (ah_I h a0 4).toNatClampNeg) - (ah_I h (a1 + 88) (ah_I h a0 4).toNatClampNeg))))) → ah_ext h11 h13 → vp_in (ah_I h13 a0 6) 6 ∧ vp_in ((ah_I h13 a0 0) / (52 : Int32)) 10 ∧ ∀ h16 : ah_T, h16 = ah_wI h13 ((a1 + (117 + 22 * (10 * (ah_I h13 a0 6).toNatClampNeg + ((ah_I h13 a0 0) / (52 : Int32)).toNatClampNeg))) + 1) (ah_I h (ah_R h a0 3) 0).toNatClampNeg ((ah_I h13 ((a1 + (117 + 22 * (10 * (ah_I h13 a0 6).toNatClampNeg + ((ah_I h13 a0 0) / (52 : Int32)).toNatClampNeg))) + 1) (ah_I h (ah_R h a0 3) 0).toNatClampNeg) + (iMax (0 : Int32) (iMin ((ah_I h a0 2) - (((ah_I h a0 2) * (ah_I h a0 5)) / (1000 : Int32))) ((ah_I h (a1 + 87) (ah_I h a0 4).toNatClampNeg) - (ah_I h (a1 + 88) (ah_I h a0 4).toNatClampNeg))))) → ah_ext h13 h16 → ∀ h17 : ah_T, h17 = ah_wI h16 (a1 + (117 + 22 * (10 * (ah_I h13 a0 6).toNatClampNeg + ((ah_I h13 a0 0) / (52 : Int32)).toNatClampNeg))) 1 ((ah_I h16 (a1 + (117 + 22 * (10 * (ah_I h13 a0 6).toNatClampNeg + ((ah_I h13 a0 0) / (52 : Int32)).toNatClampNeg))) 1) + (iMax (0 : Int32) (iMin ((ah_I h a0 2) - (((ah_I h a0 2) * (ah_I h a0 5)) / (1000 : Int32))) ((ah_I h (a1 + 87) (ah_I h a0 4).toNatClampNeg) - (ah_I h (a1 + 88) (ah_I h a0 4).toNatClampNeg))))) → ah_ext h16 h17 → Q none h17) : MX G mi_X12_plays (d + 2) 0 [some (rv a0), some (rv a1), none, none] [] h Q E := by
  refine mx_aload_n dX12_plays_0 rfl rfl ?_
  obtain ⟨k1, H⟩ := H
  refine mx_get 11 3 (ref := "PrairiePool$Load") cl_11 (Nat.le_of_ble_eq_true rfl) (Or.inl q853) (Or.inl rfl) dX12_plays_1 (fv_11_3 _ _) k1 ?_
  obtain ⟨k2, H⟩ := H
  refine mx_get 9 0 (ref := "PrairiePool$Farm") cl_9 (Nat.le_of_ble_eq_true rfl) (Or.inl q768) (Or.inl rfl) dX12_plays_4 (fv_9_0 _ _) k2 ?_
  refine mx_istore_n (al' := [some (rv a0), some (rv a1), some (iv (ah_I h (ah_R h a0 3) 0)), none]) dX12_plays_7 rfl (Nat.le_of_ble_eq_true rfl) rfl ?_
  refine mx_iconst dX12_plays_8 ic_0 ?_
  refine mx_aload_n dX12_plays_9 rfl rfl ?_
  refine mx_callV 11 (y' := mi_X12_bushels) (vs := []) (st := [iv (0 : Int32)]) (al' := [some (rv a0)]) cl_11 V_X12_bushels (Or.inl q1138) dX12_plays_10 rfl rfl (Nat.le_of_ble_eq_true rfl) (Nat.le_of_ble_eq_true rfl) k1 ?_
  refine mx_aload_n dX12_bushels_0 rfl rfl ?_
  refine mx_callX 11 (y' := mi_X11_bushels) (vs := []) (st := []) (al' := [some (rv a0)]) cl_11 ca_X11_bushels q1011 q2461 q881 (by decide) (by unfold ma_np; decide +kernel) q1010 dX12_bushels_1 rfl rfl (Nat.le_of_ble_eq_true rfl) (Nat.le_of_ble_eq_true rfl) k1 ?_
  refine mx_aload_n dX11_bushels_0 rfl rfl ?_
  refine mx_get 11 2 (ref := "PrairiePool$Event") cl_11 (Nat.le_of_ble_eq_true rfl) (Or.inl q866) (Or.inl rfl) dX11_bushels_1 (fv_11_2 _ _) k1 ?_
  refine mx_iretK rfl dX11_bushels_4 ?_
  refine mx_aload_n dX12_bushels_4 rfl rfl ?_
  refine mx_callX 11 (y' := mi_X11_bushels) (vs := []) (st := [iv (ah_I h a0 2)]) (al' := [some (rv a0)]) cl_11 ca_X11_bushels q1011 q2461 q881 (by decide) (by unfold ma_np; decide +kernel) q1010 dX12_bushels_5 rfl rfl (Nat.le_of_ble_eq_true rfl) (Nat.le_of_ble_eq_true rfl) k1 ?_
  refine mx_aload_n dX11_bushels_0 rfl rfl ?_
  refine mx_get 11 2 (ref := "PrairiePool$Event") cl_11 (Nat.le_of_ble_eq_true rfl) (Or.inl q866) (Or.inl rfl) dX11_bushels_1 (fv_11_2 _ _) k1 ?_
  refine mx_iretK rfl dX11_bushels_4 ?_
  refine mx_aload_n dX12_bushels_8 rfl rfl ?_
  refine mx_get 11 5 (ref := "PrairiePool$Load") cl_11 (Nat.le_of_ble_eq_true rfl) (Or.inl q856) (Or.inl rfl) dX12_bushels_9 (fv_11_5 _ _) k1 ?_
  refine mx_imul dX12_bushels_12 ?_
  refine mx_sipush dX12_bushels_13 is_1000 ?_
  refine mx_idiv dX12_bushels_16 (by decide) ?_
  refine mx_isub dX12_bushels_17 ?_
  refine mx_iretK rfl dX12_bushels_18 ?_
  refine mx_aload_n dX12_plays_13 rfl rfl ?_
  refine mx_get 1 4 (ref := "PrairiePool$Play") cl_1 (Nat.le_of_ble_eq_true rfl) (Or.inr ⟨_, q238⟩) (Or.inl rfl) dX12_plays_14 (fv_1_4 _ _) (ly1_k La1_h) ?_
  refine mx_tr (ly1_R_0_4 La1_h) ?_
  refine mx_aload_n dX12_plays_17 rfl rfl ?_
  refine mx_get 11 4 (ref := "PrairiePool$Load") cl_11 (Nat.le_of_ble_eq_true rfl) (Or.inl q855) (Or.inl rfl) dX12_plays_18 (fv_11_4 _ _) k1 ?_
  obtain ⟨k3, H⟩ := H
  refine my_iald dX12_plays_21 rfl (ly1_A_87 La1_h k3) ?_
  refine mx_aload_n dX12_plays_22 rfl rfl ?_
  refine mx_get 1 5 (ref := "PrairiePool$Play") cl_1 (Nat.le_of_ble_eq_true rfl) (Or.inr ⟨_, q241⟩) (Or.inl rfl) dX12_plays_23 (fv_1_5 _ _) (ly1_k La1_h) ?_
  refine mx_tr (ly1_R_0_5 La1_h) ?_
  refine mx_aload_n dX12_plays_26 rfl rfl ?_
  refine mx_get 11 4 (ref := "PrairiePool$Load") cl_11 (Nat.le_of_ble_eq_true rfl) (Or.inl q855) (Or.inl rfl) dX12_plays_27 (fv_11_4 _ _) k1 ?_
  refine my_iald dX12_plays_30 rfl (ly1_A_88 La1_h k3) ?_
  refine mx_isub dX12_plays_31 ?_
  refine mx_callS (y' := mi_J8_min_2) (vs := [iv ((ah_I h a0 2) - (((ah_I h a0 2) * (ah_I h a0 5)) / (1000 : Int32))), iv ((ah_I h (a1 + 87) (ah_I h a0 4).toNatClampNeg) - (ah_I h (a1 + 88) (ah_I h a0 4).toNatClampNeg))]) (st := [iv (0 : Int32)]) (al' := [some (iv ((ah_I h a0 2) - (((ah_I h a0 2) * (ah_I h a0 5)) / (1000 : Int32)))), some (iv ((ah_I h (a1 + 87) (ah_I h a0 4).toNatClampNeg) - (ah_I h (a1 + 88) (ah_I h a0 4).toNatClampNeg)))]) S_J8_min_2 q1139 dX12_plays_32 rfl rfl (Nat.le_of_ble_eq_true rfl) (Nat.le_of_ble_eq_true rfl) ?_
  refine pv_J8_min_2 ?_
  refine mx_callS (y' := mi_J8_max_2) (vs := [iv (0 : Int32), iv (iMin ((ah_I h a0 2) - (((ah_I h a0 2) * (ah_I h a0 5)) / (1000 : Int32))) ((ah_I h (a1 + 87) (ah_I h a0 4).toNatClampNeg) - (ah_I h (a1 + 88) (ah_I h a0 4).toNatClampNeg)))]) (st := []) (al' := [some (iv (0 : Int32)), some (iv (iMin ((ah_I h a0 2) - (((ah_I h a0 2) * (ah_I h a0 5)) / (1000 : Int32))) ((ah_I h (a1 + 87) (ah_I h a0 4).toNatClampNeg) - (ah_I h (a1 + 88) (ah_I h a0 4).toNatClampNeg))))]) S_J8_max_2 q1140 dX12_plays_35 rfl rfl (Nat.le_of_ble_eq_true rfl) (Nat.le_of_ble_eq_true rfl) ?_
  refine pv_J8_max_2 ?_
  refine mx_istore_n (al' := [some (rv a0), some (rv a1), some (iv (ah_I h (ah_R h a0 3) 0)), some (iv (iMax (0 : Int32) (iMin ((ah_I h a0 2) - (((ah_I h a0 2) * (ah_I h a0 5)) / (1000 : Int32))) ((ah_I h (a1 + 87) (ah_I h a0 4).toNatClampNeg) - (ah_I h (a1 + 88) (ah_I h a0 4).toNatClampNeg)))))]) dX12_plays_38 rfl (Nat.le_of_ble_eq_true rfl) rfl ?_
  refine mx_aload_n dX12_plays_39 rfl rfl ?_
  refine mx_get 1 6 (ref := "PrairiePool$Play") cl_1 (Nat.le_of_ble_eq_true rfl) (Or.inr ⟨_, q245⟩) (Or.inl rfl) dX12_plays_40 (fv_1_6 _ _) (ly1_k La1_h) ?_
  refine mx_tr (ly1_R_0_6 La1_h) ?_
  refine mx_iload_n dX12_plays_43 rfl rfl ?_
  refine mx_dup2_ir dX12_plays_44 ?_
  obtain ⟨k4, H⟩ := H
  refine my_iald dX12_plays_45 rfl (ly1_A_89 La1_h k4) ?_
  refine mx_aload_n dX12_plays_46 rfl rfl ?_
  refine mx_callX 11 (y' := mi_X11_bushels) (vs := []) (st := [iv (ah_I h (a1 + 89) (ah_I h (ah_R h a0 3) 0).toNatClampNeg), iv (ah_I h (ah_R h a0 3) 0), rv (a1 + 89)]) (al' := [some (rv a0)]) cl_11 ca_X11_bushels q1011 q2461 q881 (by decide) (by unfold ma_np; decide +kernel) q1010 dX12_plays_47 rfl rfl (Nat.le_of_ble_eq_true rfl) (Nat.le_of_ble_eq_true rfl) k1 ?_
  refine mx_aload_n dX11_bushels_0 rfl rfl ?_
  refine mx_get 11 2 (ref := "PrairiePool$Event") cl_11 (Nat.le_of_ble_eq_true rfl) (Or.inl q866) (Or.inl rfl) dX11_bushels_1 (fv_11_2 _ _) k1 ?_
  refine mx_iretK rfl dX11_bushels_4 ?_
  refine mx_aload_n dX12_plays_50 rfl rfl ?_
  refine mx_callV 11 (y' := mi_X12_bushels) (vs := []) (st := [iv (ah_I h a0 2), iv (ah_I h (a1 + 89) (ah_I h (ah_R h a0 3) 0).toNatClampNeg), iv (ah_I h (ah_R h a0 3) 0), rv (a1 + 89)]) (al' := [some (rv a0)]) cl_11 V_X12_bushels (Or.inl q1138) dX12_plays_51 rfl rfl (Nat.le_of_ble_eq_true rfl) (Nat.le_of_ble_eq_true rfl) k1 ?_
  refine mx_aload_n dX12_bushels_0 rfl rfl ?_
  refine mx_callX 11 (y' := mi_X11_bushels) (vs := []) (st := []) (al' := [some (rv a0)]) cl_11 ca_X11_bushels q1011 q2461 q881 (by decide) (by unfold ma_np; decide +kernel) q1010 dX12_bushels_1 rfl rfl (Nat.le_of_ble_eq_true rfl) (Nat.le_of_ble_eq_true rfl) k1 ?_
  refine mx_aload_n dX11_bushels_0 rfl rfl ?_
  refine mx_get 11 2 (ref := "PrairiePool$Event") cl_11 (Nat.le_of_ble_eq_true rfl) (Or.inl q866) (Or.inl rfl) dX11_bushels_1 (fv_11_2 _ _) k1 ?_
  refine mx_iretK rfl dX11_bushels_4 ?_
  refine mx_aload_n dX12_bushels_4 rfl rfl ?_
  refine mx_callX 11 (y' := mi_X11_bushels) (vs := []) (st := [iv (ah_I h a0 2)]) (al' := [some (rv a0)]) cl_11 ca_X11_bushels q1011 q2461 q881 (by decide) (by unfold ma_np; decide +kernel) q1010 dX12_bushels_5 rfl rfl (Nat.le_of_ble_eq_true rfl) (Nat.le_of_ble_eq_true rfl) k1 ?_
  refine mx_aload_n dX11_bushels_0 rfl rfl ?_
  refine mx_get 11 2 (ref := "PrairiePool$Event") cl_11 (Nat.le_of_ble_eq_true rfl) (Or.inl q866) (Or.inl rfl) dX11_bushels_1 (fv_11_2 _ _) k1 ?_
  refine mx_iretK rfl dX11_bushels_4 ?_
  refine mx_aload_n dX12_bushels_8 rfl rfl ?_
  refine mx_get 11 5 (ref := "PrairiePool$Load") cl_11 (Nat.le_of_ble_eq_true rfl) (Or.inl q856) (Or.inl rfl) dX12_bushels_9 (fv_11_5 _ _) k1 ?_
  refine mx_imul dX12_bushels_12 ?_
  refine mx_sipush dX12_bushels_13 is_1000 ?_
  refine mx_idiv dX12_bushels_16 (by decide) ?_
  refine mx_isub dX12_bushels_17 ?_
  refine mx_iretK rfl dX12_bushels_18 ?_
  refine mx_isub dX12_plays_54 ?_
  refine mx_iadd dX12_plays_55 ?_
  refine my_iast dX12_plays_56 rfl (ly1_A_89 La1_h k4) ?_
  refine mx_nmI  (fun h5 eh5 Xh5 Kh5 Lh5 => ?_)
  have H := H h5 eh5 Xh5
  have La1_h5 := La1_h.ext Xh5
  refine mx_aload_n dX12_plays_57 rfl rfl ?_
  refine mx_get 1 7 (ref := "PrairiePool$Play") cl_1 (Nat.le_of_ble_eq_true rfl) (Or.inr ⟨_, q248⟩) (Or.inl rfl) dX12_plays_58 (fv_1_7 _ _) (ly1_k La1_h5) ?_
  refine mx_tr (ly1_R_0_7 La1_h5) ?_
  refine mx_iload_n dX12_plays_61 rfl rfl ?_
  refine mx_dup2_ir dX12_plays_62 ?_
  refine my_iald dX12_plays_63 rfl (ly1_A_90 La1_h5 k4) ?_
  refine mx_ti (ah_skIA eh5 (by omega)) ?_
  refine mx_aload_n dX12_plays_64 rfl rfl ?_
  refine mx_callV 11 (y' := mi_X12_bushels) (vs := []) (st := [iv (ah_I h (a1 + 90) (ah_I h (ah_R h a0 3) 0).toNatClampNeg), iv (ah_I h (ah_R h a0 3) 0), rv (a1 + 90)]) (al' := [some (rv a0)]) cl_11 V_X12_bushels (Or.inl q1138) dX12_plays_65 rfl rfl (Nat.le_of_ble_eq_true rfl) (Nat.le_of_ble_eq_true rfl) (ma_kde Kh5 (k1)) ?_
  refine mx_aload_n dX12_bushels_0 rfl rfl ?_
  refine mx_callX 11 (y' := mi_X11_bushels) (vs := []) (st := []) (al' := [some (rv a0)]) cl_11 ca_X11_bushels q1011 q2461 q881 (by decide) (by unfold ma_np; decide +kernel) q1010 dX12_bushels_1 rfl rfl (Nat.le_of_ble_eq_true rfl) (Nat.le_of_ble_eq_true rfl) (ma_kde Kh5 (k1)) ?_
  refine mx_aload_n dX11_bushels_0 rfl rfl ?_
  refine mx_get 11 2 (ref := "PrairiePool$Event") cl_11 (Nat.le_of_ble_eq_true rfl) (Or.inl q866) (Or.inl rfl) dX11_bushels_1 (fv_11_2 _ _) (ma_kde Kh5 (k1)) ?_
  refine mx_iretK rfl dX11_bushels_4 ?_
  refine mx_aload_n dX12_bushels_4 rfl rfl ?_
  refine mx_callX 11 (y' := mi_X11_bushels) (vs := []) (st := [iv (ah_I h5 a0 2)]) (al' := [some (rv a0)]) cl_11 ca_X11_bushels q1011 q2461 q881 (by decide) (by unfold ma_np; decide +kernel) q1010 dX12_bushels_5 rfl rfl (Nat.le_of_ble_eq_true rfl) (Nat.le_of_ble_eq_true rfl) (ma_kde Kh5 (k1)) ?_
  refine mx_aload_n dX11_bushels_0 rfl rfl ?_
  refine mx_get 11 2 (ref := "PrairiePool$Event") cl_11 (Nat.le_of_ble_eq_true rfl) (Or.inl q866) (Or.inl rfl) dX11_bushels_1 (fv_11_2 _ _) (ma_kde Kh5 (k1)) ?_
  refine mx_iretK rfl dX11_bushels_4 ?_
  refine mx_aload_n dX12_bushels_8 rfl rfl ?_
  refine mx_get 11 5 (ref := "PrairiePool$Load") cl_11 (Nat.le_of_ble_eq_true rfl) (Or.inl q856) (Or.inl rfl) dX12_bushels_9 (fv_11_5 _ _) (ma_kde Kh5 (k1)) ?_
  refine mx_imul dX12_bushels_12 ?_
  refine mx_sipush dX12_bushels_13 is_1000 ?_
  refine mx_idiv dX12_bushels_16 (by decide) ?_
  refine mx_isub dX12_bushels_17 ?_
  refine mx_iretK rfl dX12_bushels_18 ?_
  refine mx_iload_n dX12_plays_68 rfl rfl ?_
  refine mx_isub dX12_plays_69 ?_
  refine mx_iadd dX12_plays_70 ?_
  refine my_iast dX12_plays_71 rfl (ly1_A_90 La1_h5 k4) ?_
  refine mx_nmI  (fun h6 eh6 Xh6 Kh6 Lh6 => ?_)
  have H := H h6 eh6 Xh6
  have Kh6 := Kh6.trans Kh5
  have Lh6 := Lh6.trans Lh5
  have La1_h6 := La1_h5.ext Xh6
  refine mx_aload_n dX12_plays_72 rfl rfl ?_
  refine mx_get 1 0 (ref := "PrairiePool$Play") cl_1 (Nat.le_of_ble_eq_true rfl) (Or.inr ⟨_, q225⟩) (Or.inl rfl) dX12_plays_73 (fv_1_0 _ _) (ly1_k La1_h6) ?_
  refine mx_tr (ly1_R_0_0 La1_h6) ?_
  refine mx_aload_n dX12_plays_76 rfl rfl ?_
  refine mx_get 11 4 (ref := "PrairiePool$Load") cl_11 (Nat.le_of_ble_eq_true rfl) (Or.inl q855) (Or.inl rfl) dX12_plays_77 (fv_11_4 _ _) (ma_kde Kh6 (k1)) ?_
  obtain ⟨k7, H⟩ := H
  refine my_aald 13 dX12_plays_80 (by decide) rfl (ly1_A_1 La1_h6 k7) ?_
  refine mx_tr (ly1_G1_1 La1_h6 (vp_lt k7)) ?_
  refine mx_aload_n dX12_plays_81 rfl rfl ?_
  refine mx_get 11 6 (ref := "PrairiePool$Load") cl_11 (Nat.le_of_ble_eq_true rfl) (Or.inl q857) (Or.inl rfl) dX12_plays_82 (fv_11_6 _ _) (ma_kde Kh6 (k1)) ?_
  obtain ⟨k8, H⟩ := H
  refine my_aald 12 dX12_plays_85 (by decide) rfl ⟨(ly1_K1_1 La1_h6 (vp_lt k7)), by rw [ly1_N1_1 La1_h6 (vp_lt k7)]; exact k8⟩ ?_
  refine mx_tr (ly1_G2_1 La1_h6 (vp_lt k7) (vp_lt k8)) ?_
  refine mx_aload_n dX12_plays_86 rfl rfl ?_
  refine mx_callV 11 (y' := mi_X12_year) (vs := []) (st := [rv (a1 + (3 + 7 * (ah_I h6 a0 4).toNatClampNeg + (ah_I h6 a0 6).toNatClampNeg))]) (al' := [some (rv a0)]) cl_11 V_X12_year (Or.inl q1143) dX12_plays_87 rfl rfl (Nat.le_of_ble_eq_true rfl) (Nat.le_of_ble_eq_true rfl) (ma_kde Kh6 (k1)) ?_
  refine mx_aload_n dX12_year_0 rfl rfl ?_
  refine mx_get 11 0 (ref := "PrairiePool$Load") cl_11 (Nat.le_of_ble_eq_true rfl) (Or.inl q860) (Or.inr q861) dX12_year_1 (fv_11_0 _ _) (ma_kde Kh6 (k1)) ?_
  refine mx_bipush dX12_year_4 ib_52 ?_
  refine mx_idiv dX12_year_6 (by decide) ?_
  refine mx_iretK rfl dX12_year_7 ?_
  obtain ⟨k9, H⟩ := H
  refine my_aald 11 dX12_plays_90 (by decide) rfl ⟨(ly1_K2_1 La1_h6 (vp_lt k7) (vp_lt k8)), by rw [ly1_N2_1 La1_h6 (vp_lt k7) (vp_lt k8)]; exact k9⟩ ?_
  refine mx_tr (ly1_G3_1 La1_h6 (vp_lt k7) (vp_lt k8) (vp_lt k9)) ?_
  refine mx_iload_n dX12_plays_91 rfl rfl ?_
  refine mx_iload_n dX12_plays_92 rfl rfl ?_
  refine mx_callV 3 (y' := mi_X3_comes) (vs := [iv (ah_I h (ah_R h a0 3) 0), iv (iMax (0 : Int32) (iMin ((ah_I h a0 2) - (((ah_I h a0 2) * (ah_I h a0 5)) / (1000 : Int32))) ((ah_I h (a1 + 87) (ah_I h a0 4).toNatClampNeg) - (ah_I h (a1 + 88) (ah_I h a0 4).toNatClampNeg))))]) (st := []) (al' := [some (rv (a1 + (97 + 22 * (10 * (ah_I h6 a0 6).toNatClampNeg + ((ah_I h6 a0 0) / (52 : Int32)).toNatClampNeg) + 2 * (ah_I h6 a0 4).toNatClampNeg))), some (iv (ah_I h (ah_R h a0 3) 0)), some (iv (iMax (0 : Int32) (iMin ((ah_I h a0 2) - (((ah_I h a0 2) * (ah_I h a0 5)) / (1000 : Int32))) ((ah_I h (a1 + 87) (ah_I h a0 4).toNatClampNeg) - (ah_I h (a1 + 88) (ah_I h a0 4).toNatClampNeg)))))]) cl_3 V_X3_comes (Or.inl q1144) dX12_plays_93 rfl rfl (Nat.le_of_ble_eq_true rfl) (Nat.le_of_ble_eq_true rfl) (ly3_k (ly1_H3_1 La1_h6 (vp_lt k7) (vp_lt k8) (vp_lt k9))) ?_
  refine mx_aload_n dX3_comes_0 rfl rfl ?_
  refine mx_get 3 0 (ref := "PrairiePool$Heap") cl_3 (Nat.le_of_ble_eq_true rfl) (Or.inl q213) (Or.inl rfl) dX3_comes_1 (fv_3_0 _ _) (ly3_k (ly1_H3_1 La1_h6 (vp_lt k7) (vp_lt k8) (vp_lt k9))) ?_
  refine mx_tr (ly3_r (ly1_H3_1 La1_h6 (vp_lt k7) (vp_lt k8) (vp_lt k9))) ?_
  refine mx_iload_n dX3_comes_4 rfl rfl ?_
  refine mx_dup2_ir dX3_comes_5 ?_
  refine my_iald dX3_comes_6 rfl ⟨(ly3_K_1 (ly1_H3_1 La1_h6 (vp_lt k7) (vp_lt k8) (vp_lt k9))), by rw [ly3_N_1 (ly1_H3_1 La1_h6 (vp_lt k7) (vp_lt k8) (vp_lt k9))]; exact k4⟩ ?_
  refine mx_iload_n dX3_comes_7 rfl rfl ?_
  refine mx_iadd dX3_comes_8 ?_
  refine my_iast dX3_comes_9 rfl ⟨(ly3_K_1 (ly1_H3_1 La1_h6 (vp_lt k7) (vp_lt k8) (vp_lt k9))), by rw [ly3_N_1 (ly1_H3_1 La1_h6 (vp_lt k7) (vp_lt k8) (vp_lt k9))]; exact k4⟩ ?_
  refine mx_nmI  (fun h10 eh10 Xh10 Kh10 Lh10 => ?_)
  have H := H h10 eh10 Xh10
  have Kh10 := Kh10.trans Kh6
  have Lh10 := Lh10.trans Lh6
  have La1_h10 := La1_h6.ext Xh10
  refine mx_aload_n dX3_comes_10 rfl rfl ?_
  refine mx_dup_r dX3_comes_11 ?_
  refine mx_get 3 1 (ref := "PrairiePool$Heap") cl_3 (Nat.le_of_ble_eq_true rfl) (Or.inl q215) (Or.inl rfl) dX3_comes_12 (fv_3_1 _ _) (ly3_k (ly1_H3_1 La1_h10 (vp_lt k7) (vp_lt k8) (vp_lt k9))) ?_
  refine mx_iload_n dX3_comes_15 rfl rfl ?_
  refine mx_iadd dX3_comes_16 ?_
  refine mx_putI 3 1 (ref := "PrairiePool$Heap") cl_3 (Nat.le_of_ble_eq_true rfl) (Or.inl q215) (Or.inl rfl) dX3_comes_17 (Or.inl rfl) rfl (ly3_k (ly1_H3_1 La1_h10 (vp_lt k7) (vp_lt k8) (vp_lt k9))) ?_
  refine mx_nmI  (fun h11 eh11 Xh11 Kh11 Lh11 => ?_)
  have H := H h11 eh11 Xh11
  have Kh11 := Kh11.trans Kh10
  have Lh11 := Lh11.trans Lh10
  have La1_h11 := La1_h10.ext Xh11
  refine mx_vretK rfl dX3_comes_20 ?_
  refine mx_aload_n dX12_plays_96 rfl rfl ?_
  refine mx_get 1 5 (ref := "PrairiePool$Play") cl_1 (Nat.le_of_ble_eq_true rfl) (Or.inr ⟨_, q241⟩) (Or.inl rfl) dX12_plays_97 (fv_1_5 _ _) (ly1_k La1_h11) ?_
  refine mx_tr (ly1_R_0_5 La1_h11) ?_
  refine mx_aload_n dX12_plays_100 rfl rfl ?_
  refine mx_get 11 4 (ref := "PrairiePool$Load") cl_11 (Nat.le_of_ble_eq_true rfl) (Or.inl q855) (Or.inl rfl) dX12_plays_101 (fv_11_4 _ _) (ma_kde Kh11 (k1)) ?_
  refine mx_ti (ah_skIK eh11 (by decide)) ?_
  refine mx_dup2_ir dX12_plays_104 ?_
  obtain ⟨k12, H⟩ := H
  refine my_iald dX12_plays_105 rfl (ly1_A_88 La1_h11 k12) ?_
  refine mx_iload_n dX12_plays_106 rfl rfl ?_
  refine mx_iadd dX12_plays_107 ?_
  refine my_iast dX12_plays_108 rfl (ly1_A_88 La1_h11 k12) ?_
  refine mx_nmI  (fun h13 eh13 Xh13 Kh13 Lh13 => ?_)
  have H := H h13 eh13 Xh13
  have Kh13 := Kh13.trans Kh11
  have Lh13 := Lh13.trans Lh11
  have La1_h13 := La1_h11.ext Xh13
  refine mx_aload_n dX12_plays_109 rfl rfl ?_
  refine mx_get 1 2 (ref := "PrairiePool$Play") cl_1 (Nat.le_of_ble_eq_true rfl) (Or.inr ⟨_, q232⟩) (Or.inl rfl) dX12_plays_110 (fv_1_2 _ _) (ly1_k La1_h13) ?_
  refine mx_tr (ly1_R_0_2 La1_h13) ?_
  refine mx_aload_n dX12_plays_113 rfl rfl ?_
  refine mx_get 11 6 (ref := "PrairiePool$Load") cl_11 (Nat.le_of_ble_eq_true rfl) (Or.inl q857) (Or.inl rfl) dX12_plays_114 (fv_11_6 _ _) (ma_kde Kh13 (k1)) ?_
  obtain ⟨k14, H⟩ := H
  refine my_aald 12 dX12_plays_117 (by decide) rfl (ly1_A_73 La1_h13 k14) ?_
  refine mx_tr (ly1_G1_73 La1_h13 (vp_lt k14)) ?_
  refine mx_aload_n dX12_plays_118 rfl rfl ?_
  refine mx_callV 11 (y' := mi_X12_year) (vs := []) (st := [rv (a1 + (74 + (ah_I h13 a0 6).toNatClampNeg))]) (al' := [some (rv a0)]) cl_11 V_X12_year (Or.inl q1143) dX12_plays_119 rfl rfl (Nat.le_of_ble_eq_true rfl) (Nat.le_of_ble_eq_true rfl) (ma_kde Kh13 (k1)) ?_
  refine mx_aload_n dX12_year_0 rfl rfl ?_
  refine mx_get 11 0 (ref := "PrairiePool$Load") cl_11 (Nat.le_of_ble_eq_true rfl) (Or.inl q860) (Or.inr q861) dX12_year_1 (fv_11_0 _ _) (ma_kde Kh13 (k1)) ?_
  refine mx_bipush dX12_year_4 ib_52 ?_
  refine mx_idiv dX12_year_6 (by decide) ?_
  refine mx_iretK rfl dX12_year_7 ?_
  obtain ⟨k15, H⟩ := H
  refine my_aald 11 dX12_plays_122 (by decide) rfl ⟨(ly1_K1_73 La1_h13 (vp_lt k14)), by rw [ly1_N1_73 La1_h13 (vp_lt k14)]; exact k15⟩ ?_
  refine mx_tr (ly1_G2_73 La1_h13 (vp_lt k14) (vp_lt k15)) ?_
  refine mx_iload_n dX12_plays_123 rfl rfl ?_
  refine mx_iload_n dX12_plays_124 rfl rfl ?_
  refine mx_callV 3 (y' := mi_X3_comes) (vs := [iv (ah_I h (ah_R h a0 3) 0), iv (iMax (0 : Int32) (iMin ((ah_I h a0 2) - (((ah_I h a0 2) * (ah_I h a0 5)) / (1000 : Int32))) ((ah_I h (a1 + 87) (ah_I h a0 4).toNatClampNeg) - (ah_I h (a1 + 88) (ah_I h a0 4).toNatClampNeg))))]) (st := []) (al' := [some (rv (a1 + (117 + 22 * (10 * (ah_I h13 a0 6).toNatClampNeg + ((ah_I h13 a0 0) / (52 : Int32)).toNatClampNeg)))), some (iv (ah_I h (ah_R h a0 3) 0)), some (iv (iMax (0 : Int32) (iMin ((ah_I h a0 2) - (((ah_I h a0 2) * (ah_I h a0 5)) / (1000 : Int32))) ((ah_I h (a1 + 87) (ah_I h a0 4).toNatClampNeg) - (ah_I h (a1 + 88) (ah_I h a0 4).toNatClampNeg)))))]) cl_3 V_X3_comes (Or.inl q1144) dX12_plays_125 rfl rfl (Nat.le_of_ble_eq_true rfl) (Nat.le_of_ble_eq_true rfl) (ly3_k (ly1_H2_73 La1_h13 (vp_lt k14) (vp_lt k15))) ?_
  refine mx_aload_n dX3_comes_0 rfl rfl ?_
  refine mx_get 3 0 (ref := "PrairiePool$Heap") cl_3 (Nat.le_of_ble_eq_true rfl) (Or.inl q213) (Or.inl rfl) dX3_comes_1 (fv_3_0 _ _) (ly3_k (ly1_H2_73 La1_h13 (vp_lt k14) (vp_lt k15))) ?_
  refine mx_tr (ly3_r (ly1_H2_73 La1_h13 (vp_lt k14) (vp_lt k15))) ?_
  refine mx_iload_n dX3_comes_4 rfl rfl ?_
  refine mx_dup2_ir dX3_comes_5 ?_
  refine my_iald dX3_comes_6 rfl ⟨(ly3_K_1 (ly1_H2_73 La1_h13 (vp_lt k14) (vp_lt k15))), by rw [ly3_N_1 (ly1_H2_73 La1_h13 (vp_lt k14) (vp_lt k15))]; exact k4⟩ ?_
  refine mx_iload_n dX3_comes_7 rfl rfl ?_
  refine mx_iadd dX3_comes_8 ?_
  refine my_iast dX3_comes_9 rfl ⟨(ly3_K_1 (ly1_H2_73 La1_h13 (vp_lt k14) (vp_lt k15))), by rw [ly3_N_1 (ly1_H2_73 La1_h13 (vp_lt k14) (vp_lt k15))]; exact k4⟩ ?_
  refine mx_nmI  (fun h16 eh16 Xh16 Kh16 Lh16 => ?_)
  have H := H h16 eh16 Xh16
  have Kh16 := Kh16.trans Kh13
  have Lh16 := Lh16.trans Lh13
  have La1_h16 := La1_h13.ext Xh16
  refine mx_aload_n dX3_comes_10 rfl rfl ?_
  refine mx_dup_r dX3_comes_11 ?_
  refine mx_get 3 1 (ref := "PrairiePool$Heap") cl_3 (Nat.le_of_ble_eq_true rfl) (Or.inl q215) (Or.inl rfl) dX3_comes_12 (fv_3_1 _ _) (ly3_k (ly1_H2_73 La1_h16 (vp_lt k14) (vp_lt k15))) ?_
  refine mx_iload_n dX3_comes_15 rfl rfl ?_
  refine mx_iadd dX3_comes_16 ?_
  refine mx_putI 3 1 (ref := "PrairiePool$Heap") cl_3 (Nat.le_of_ble_eq_true rfl) (Or.inl q215) (Or.inl rfl) dX3_comes_17 (Or.inl rfl) rfl (ly3_k (ly1_H2_73 La1_h16 (vp_lt k14) (vp_lt k15))) ?_
  refine mx_nmI  (fun h17 eh17 Xh17 Kh17 Lh17 => ?_)
  have H := H h17 eh17 Xh17
  have Kh17 := Kh17.trans Kh16
  have Lh17 := Lh17.trans Lh16
  have La1_h17 := La1_h16.ext Xh17
  refine mx_vretK rfl dX3_comes_20 ?_
  exact mx_vret rfl dX12_plays_128 H
theorem dX13_init_0 : decode mi_X13_init.2.1 0 = .ok (.aload_n 0, 1) := by decide +kernel
theorem dX13_init_1 : decode mi_X13_init.2.1 1 = .ok (.iload 5, 2) := by decide +kernel
theorem dX13_init_3 : decode mi_X13_init.2.1 3 = .ok (.iload 6, 2) := by decide +kernel
theorem dX13_init_5 : decode mi_X13_init.2.1 5 = .ok (.iload 4, 2) := by decide +kernel
theorem dX13_init_7 : decode mi_X13_init.2.1 7 = .ok (.invokespecial 1, 3) := by decide +kernel
theorem dX13_init_10 : decode mi_X13_init.2.1 10 = .ok (.aload_n 0, 1) := by decide +kernel
theorem dX13_init_11 : decode mi_X13_init.2.1 11 = .ok (.iload_n 1, 1) := by decide +kernel
theorem dX13_init_12 : decode mi_X13_init.2.1 12 = .ok (.putfield 7, 3) := by decide +kernel
theorem dX13_init_15 : decode mi_X13_init.2.1 15 = .ok (.aload_n 0, 1) := by decide +kernel
theorem dX13_init_16 : decode mi_X13_init.2.1 16 = .ok (.iload_n 2, 1) := by decide +kernel
theorem dX13_init_17 : decode mi_X13_init.2.1 17 = .ok (.putfield 13, 3) := by decide +kernel
theorem dX13_init_20 : decode mi_X13_init.2.1 20 = .ok (.aload_n 0, 1) := by decide +kernel
theorem dX13_init_21 : decode mi_X13_init.2.1 21 = .ok (.iload_n 3, 1) := by decide +kernel
theorem dX13_init_22 : decode mi_X13_init.2.1 22 = .ok (.putfield 16, 3) := by decide +kernel
theorem dX13_init_25 : decode mi_X13_init.2.1 25 = .ok (.return_, 1) := by decide +kernel
theorem v_X13_init {G : ma_G} {d : Nat} {a0 : Nat} {x1 : Int32} {x2 : Int32} {x3 : Int32} {x4 : Int32} {x5 : Int32} {x6 : Int32} {h : ah_T} {Q : Option ma_V → ah_T → Prop} {E : Nat → ah_T → Prop}  (H : ah_kd h a0 ≠ 0 ∧ MX G mi_X11_init d 0 [some (rv a0), some (iv x5), some (iv x6), some (iv x4)] [] h (Qv fun h2 => ah_ext h h2 → ma_ks h2 a0 [12, 13, 14] ∧ ∀ h5 : ah_T, h5 = ah_wI h2 a0 3 x1 → ah_ext h2 h5 → ∀ h6 : ah_T, h6 = ah_wI h5 a0 4 x2 → ah_ext h5 h6 → ∀ h7 : ah_T, h7 = ah_wI h6 a0 5 x3 → ah_ext h6 h7 → Q none h7) E) : MX G mi_X13_init (d + 1) 0 [some (rv a0), some (iv x1), some (iv x2), some (iv x3), some (iv x4), some (iv x5), some (iv x6)] [] h Q E := by
  refine mx_aload_n dX13_init_0 rfl rfl ?_
  refine mx_iload dX13_init_1 rfl ?_
  refine mx_iload dX13_init_3 rfl ?_
  refine mx_iload dX13_init_5 rfl ?_
  obtain ⟨k1, H⟩ := H
  refine mx_callI (y' := mi_X11_init) (vs := [iv x5, iv x6, iv x4]) (st := []) (al' := [some (rv a0), some (iv x5), some (iv x6), some (iv x4)]) I_X11_init (Or.inl q910) dX13_init_7 rfl rfl (Nat.le_of_ble_eq_true rfl) (Nat.le_of_ble_eq_true rfl) k1 ?_
  refine ma_kv H (fun h2 Xh2 H => ?_) (fun x1 h1 X1 H => mt_out rfl H)
  have H := H Xh2
  refine mx_aload_n dX13_init_10 rfl rfl ?_
  refine mx_iload_n dX13_init_11 rfl rfl ?_
  obtain ⟨k4, H⟩ := H
  refine mx_putIP [12, 13, 14] 3 (ref := "PrairiePool$Taking") fa_tk_3 (Or.inl q912) (Or.inl rfl) dX13_init_12 (Or.inr ⟨rfl, rfl, rfl, q912⟩) k4 ?_
  refine mx_nmI  (fun h5 eh5 Xh5 Kh5 Lh5 => ?_)
  have H := H h5 eh5 Xh5
  refine mx_aload_n dX13_init_15 rfl rfl ?_
  refine mx_iload_n dX13_init_16 rfl rfl ?_
  refine mx_putIP [12, 13, 14] 4 (ref := "PrairiePool$Taking") fa_tk_4 (Or.inl q917) (Or.inl rfl) dX13_init_17 (Or.inr ⟨rfl, rfl, rfl, q917⟩) (ma_ksk Kh5 (k4)) ?_
  refine mx_nmI  (fun h6 eh6 Xh6 Kh6 Lh6 => ?_)
  have H := H h6 eh6 Xh6
  have Kh6 := Kh6.trans Kh5
  have Lh6 := Lh6.trans Lh5
  refine mx_aload_n dX13_init_20 rfl rfl ?_
  refine mx_iload_n dX13_init_21 rfl rfl ?_
  refine mx_putIP [12, 13, 14] 5 (ref := "PrairiePool$Taking") fa_tk_5 (Or.inl q924) (Or.inl rfl) dX13_init_22 (Or.inr ⟨rfl, rfl, rfl, q924⟩) (ma_ksk Kh6 (k4)) ?_
  refine mx_nmI  (fun h7 eh7 Xh7 Kh7 Lh7 => ?_)
  have H := H h7 eh7 Xh7
  have Kh7 := Kh7.trans Kh6
  have Lh7 := Lh7.trans Lh6
  exact mx_vret rfl dX13_init_25 H
theorem dX13_some_0 : decode mi_X13_some.2.1 0 = .ok (.aload_n 0, 1) := by decide +kernel
theorem dX13_some_1 : decode mi_X13_some.2.1 1 = .ok (.invokevirtual 19, 3) := by decide +kernel
theorem dX13_some_4 : decode mi_X13_some.2.1 4 = .ok (.aload_n 2, 1) := by decide +kernel
theorem dX13_some_5 : decode mi_X13_some.2.1 5 = .ok (.getfield 23, 3) := by decide +kernel
theorem dX13_some_8 : decode mi_X13_some.2.1 8 = .ok (.invokestatic 28, 3) := by decide +kernel
theorem dX13_some_11 : decode mi_X13_some.2.1 11 = .ok (.istore_n 3, 1) := by decide +kernel
theorem dX13_some_12 : decode mi_X13_some.2.1 12 = .ok (.aload_n 1, 1) := by decide +kernel
theorem dX13_some_13 : decode mi_X13_some.2.1 13 = .ok (.dup, 1) := by decide +kernel
theorem dX13_some_14 : decode mi_X13_some.2.1 14 = .ok (.getfield 34, 3) := by decide +kernel
theorem dX13_some_17 : decode mi_X13_some.2.1 17 = .ok (.aload_n 0, 1) := by decide +kernel
theorem dX13_some_18 : decode mi_X13_some.2.1 18 = .ok (.invokevirtual 19, 3) := by decide +kernel
theorem dX13_some_21 : decode mi_X13_some.2.1 21 = .ok (.iload_n 3, 1) := by decide +kernel
theorem dX13_some_22 : decode mi_X13_some.2.1 22 = .ok (.isub, 1) := by decide +kernel
theorem dX13_some_23 : decode mi_X13_some.2.1 23 = .ok (.i2l, 1) := by decide +kernel
theorem dX13_some_24 : decode mi_X13_some.2.1 24 = .ok (.ladd, 1) := by decide +kernel
theorem dX13_some_25 : decode mi_X13_some.2.1 25 = .ok (.putfield 34, 3) := by decide +kernel
theorem dX13_some_28 : decode mi_X13_some.2.1 28 = .ok (.iload_n 3, 1) := by decide +kernel
theorem dX13_some_29 : decode mi_X13_some.2.1 29 = .ok (.ireturn, 1) := by decide +kernel
theorem v_X13_some {G : ma_G} {d : Nat} {a0 : Nat} {a1 : Nat} {a2 : Nat} {h : ah_T} {Q : Option ma_V → ah_T → Prop} {E : Nat → ah_T → Prop} (La1_h : LY1 h a1) (H : ma_ks h a0 [12, 13, 14] ∧ MX G mi_X11_bushels d 0 [some (rv a0)] [] h (Qi fun r3 h2 => ah_ext h h2 → ah_kd h2 a2 = 4 ∧ MX G mi_X11_bushels d 0 [some (rv a0)] [] h2 (Qi fun r7 h6 => ah_ext h2 h6 → ∀ h10 : ah_T, h10 = ah_wJ h6 a1 11 ((ah_J h2 a1 11) + (r7 - (iMin r3 (ah_I h2 a2 1))).toInt64) → ah_ext h6 h10 → Q (some (iv (iMin r3 (ah_I h2 a2 1)))) h10) E) E) : MX G mi_X13_some (d + 1) 0 [some (rv a0), some (rv a1), some (rv a2), none] [] h Q E := by
  refine mx_aload_n dX13_some_0 rfl rfl ?_
  obtain ⟨k1, H⟩ := H
  refine mx_callP [12, 13, 14] (fun _ => mi_X11_bushels) (vs := []) (st := []) pu_bushels rfl rfl rfl (Nat.le_of_ble_eq_true rfl) (Or.inl q1093) dX13_some_1 rfl k1 ?_
  refine ma_ki H (fun r3 h2 Xh2 H => ?_) (fun x1 h1 X1 H => mt_out rfl H)
  have H := H Xh2
  have k4 := ma_ksx Xh2 (k1)
  have La1_h2 := La1_h.ext Xh2
  refine mx_aload_n dX13_some_4 rfl rfl ?_
  obtain ⟨k5, H⟩ := H
  refine mx_get 3 1 (ref := "PrairiePool$Heap") cl_3 (Nat.le_of_ble_eq_true rfl) (Or.inr ⟨_, q216⟩) (Or.inl rfl) dX13_some_5 (fv_3_1 _ _) k5 ?_
  refine mx_callS (y' := mi_J8_min_2) (vs := [iv r3, iv (ah_I h2 a2 1)]) (st := []) (al' := [some (iv r3), some (iv (ah_I h2 a2 1))]) S_J8_min_2 q1099 dX13_some_8 rfl rfl (Nat.le_of_ble_eq_true rfl) (Nat.le_of_ble_eq_true rfl) ?_
  refine pv_J8_min_2 ?_
  refine mx_istore_n (al' := [some (rv a0), some (rv a1), some (rv a2), some (iv (iMin r3 (ah_I h2 a2 1)))]) dX13_some_11 rfl (Nat.le_of_ble_eq_true rfl) rfl ?_
  refine mx_aload_n dX13_some_12 rfl rfl ?_
  refine mx_dup_r dX13_some_13 ?_
  refine mx_get 1 11 (ref := "PrairiePool$Play") cl_1 (Nat.le_of_ble_eq_true rfl) (Or.inr ⟨_, q260⟩) (Or.inl rfl) dX13_some_14 (fv_1_11 _ _) (ly1_k La1_h2) ?_
  refine mx_aload_n dX13_some_17 rfl rfl ?_
  refine mx_callP [12, 13, 14] (fun _ => mi_X11_bushels) (vs := []) (st := [jv (ah_J h2 a1 11), rv a1]) pu_bushels rfl rfl rfl (Nat.le_of_ble_eq_true rfl) (Or.inl q1093) dX13_some_18 rfl k4 ?_
  refine ma_ki H (fun r7 h6 Xh6 H => ?_) (fun x1 h1 X1 H => mt_out rfl H)
  have H := H Xh6
  have k8 := ma_ksx Xh6 (k4)
  have k9 := Xh6.kd (k5)
  have La1_h6 := La1_h2.ext Xh6
  refine mx_iload_n dX13_some_21 rfl rfl ?_
  refine mx_isub dX13_some_22 ?_
  refine mx_i2l dX13_some_23 ?_
  refine mx_ladd dX13_some_24 ?_
  refine mx_putJ 1 11 (ref := "PrairiePool$Play") cl_1 (Nat.le_of_ble_eq_true rfl) (Or.inr ⟨_, q260⟩) (Or.inl rfl) dX13_some_25 (Or.inl rfl) rfl (ly1_k La1_h6) ?_
  refine mx_nmJ  (fun h10 eh10 Xh10 Kh10 Lh10 => ?_)
  have H := H h10 eh10 Xh10
  have La1_h10 := La1_h6.ext Xh10
  refine mx_iload_n dX13_some_28 rfl rfl ?_
  exact mx_iret rfl dX13_some_29 H
theorem dX14_init_0 : decode mi_X14_init.2.1 0 = .ok (.aload_n 0, 1) := by decide +kernel
theorem dX14_init_1 : decode mi_X14_init.2.1 1 = .ok (.iload_n 1, 1) := by decide +kernel
theorem dX14_init_2 : decode mi_X14_init.2.1 2 = .ok (.iload_n 2, 1) := by decide +kernel
theorem dX14_init_3 : decode mi_X14_init.2.1 3 = .ok (.iload_n 3, 1) := by decide +kernel
theorem dX14_init_4 : decode mi_X14_init.2.1 4 = .ok (.iload 4, 2) := by decide +kernel
theorem dX14_init_6 : decode mi_X14_init.2.1 6 = .ok (.iload 5, 2) := by decide +kernel
theorem dX14_init_8 : decode mi_X14_init.2.1 8 = .ok (.iload 6, 2) := by decide +kernel
theorem dX14_init_10 : decode mi_X14_init.2.1 10 = .ok (.invokespecial 1, 3) := by decide +kernel
theorem dX14_init_13 : decode mi_X14_init.2.1 13 = .ok (.return_, 1) := by decide +kernel
theorem v_X14_init {G : ma_G} {d : Nat} {a0 : Nat} {x1 : Int32} {x2 : Int32} {x3 : Int32} {x4 : Int32} {x5 : Int32} {x6 : Int32} {h : ah_T} {Q : Option ma_V → ah_T → Prop} {E : Nat → ah_T → Prop}  (H : ah_kd h a0 ≠ 0 ∧ MX G mi_X13_init d 0 [some (rv a0), some (iv x1), some (iv x2), some (iv x3), some (iv x4), some (iv x5), some (iv x6)] [] h (Qv fun h2 => ah_ext h h2 → Q none h2) E) : MX G mi_X14_init (d + 1) 0 [some (rv a0), some (iv x1), some (iv x2), some (iv x3), some (iv x4), some (iv x5), some (iv x6)] [] h Q E := by
  refine mx_aload_n dX14_init_0 rfl rfl ?_
  refine mx_iload_n dX14_init_1 rfl rfl ?_
  refine mx_iload_n dX14_init_2 rfl rfl ?_
  refine mx_iload_n dX14_init_3 rfl rfl ?_
  refine mx_iload dX14_init_4 rfl ?_
  refine mx_iload dX14_init_6 rfl ?_
  refine mx_iload dX14_init_8 rfl ?_
  obtain ⟨k1, H⟩ := H
  refine mx_callI (y' := mi_X13_init) (vs := [iv x1, iv x2, iv x3, iv x4, iv x5, iv x6]) (st := []) (al' := [some (rv a0), some (iv x1), some (iv x2), some (iv x3), some (iv x4), some (iv x5), some (iv x6)]) I_X13_init (Or.inl q907) dX14_init_10 rfl rfl (Nat.le_of_ble_eq_true rfl) (Nat.le_of_ble_eq_true rfl) k1 ?_
  refine ma_kv H (fun h2 Xh2 H => ?_) (fun x1 h1 X1 H => mt_out rfl H)
  have H := H Xh2
  exact mx_vret rfl dX14_init_13 H
theorem dX14_plays_0 : decode mi_X14_plays.2.1 0 = .ok (.aload_n 1, 1) := by decide +kernel
theorem dX14_plays_1 : decode mi_X14_plays.2.1 1 = .ok (.getfield 13, 3) := by decide +kernel
theorem dX14_plays_4 : decode mi_X14_plays.2.1 4 = .ok (.aload_n 0, 1) := by decide +kernel
theorem dX14_plays_5 : decode mi_X14_plays.2.1 5 = .ok (.getfield 17, 3) := by decide +kernel
theorem dX14_plays_8 : decode mi_X14_plays.2.1 8 = .ok (.aaload, 1) := by decide +kernel
theorem dX14_plays_9 : decode mi_X14_plays.2.1 9 = .ok (.aload_n 0, 1) := by decide +kernel
theorem dX14_plays_10 : decode mi_X14_plays.2.1 10 = .ok (.getfield 23, 3) := by decide +kernel
theorem dX14_plays_13 : decode mi_X14_plays.2.1 13 = .ok (.aaload, 1) := by decide +kernel
theorem dX14_plays_14 : decode mi_X14_plays.2.1 14 = .ok (.aload_n 0, 1) := by decide +kernel
theorem dX14_plays_15 : decode mi_X14_plays.2.1 15 = .ok (.getfield 26, 3) := by decide +kernel
theorem dX14_plays_18 : decode mi_X14_plays.2.1 18 = .ok (.aaload, 1) := by decide +kernel
theorem dX14_plays_19 : decode mi_X14_plays.2.1 19 = .ok (.astore_n 2, 1) := by decide +kernel
theorem dX14_plays_20 : decode mi_X14_plays.2.1 20 = .ok (.aload_n 0, 1) := by decide +kernel
theorem dX14_plays_21 : decode mi_X14_plays.2.1 21 = .ok (.aload_n 1, 1) := by decide +kernel
theorem dX14_plays_22 : decode mi_X14_plays.2.1 22 = .ok (.aload_n 2, 1) := by decide +kernel
theorem dX14_plays_23 : decode mi_X14_plays.2.1 23 = .ok (.invokevirtual 29, 3) := by decide +kernel
theorem dX14_plays_26 : decode mi_X14_plays.2.1 26 = .ok (.istore_n 3, 1) := by decide +kernel
theorem dX14_plays_27 : decode mi_X14_plays.2.1 27 = .ok (.aload_n 2, 1) := by decide +kernel
theorem dX14_plays_28 : decode mi_X14_plays.2.1 28 = .ok (.iload_n 3, 1) := by decide +kernel
theorem dX14_plays_29 : decode mi_X14_plays.2.1 29 = .ok (.aload_n 1, 1) := by decide +kernel
theorem dX14_plays_30 : decode mi_X14_plays.2.1 30 = .ok (.getfield 33, 3) := by decide +kernel
theorem dX14_plays_33 : decode mi_X14_plays.2.1 33 = .ok (.aload_n 0, 1) := by decide +kernel
theorem dX14_plays_34 : decode mi_X14_plays.2.1 34 = .ok (.aload_n 1, 1) := by decide +kernel
theorem dX14_plays_35 : decode mi_X14_plays.2.1 35 = .ok (.invokevirtual 37, 3) := by decide +kernel
theorem dX14_plays_38 : decode mi_X14_plays.2.1 38 = .ok (.aload_n 0, 1) := by decide +kernel
theorem dX14_plays_39 : decode mi_X14_plays.2.1 39 = .ok (.aload_n 1, 1) := by decide +kernel
theorem dX14_plays_40 : decode mi_X14_plays.2.1 40 = .ok (.invokevirtual 41, 3) := by decide +kernel
theorem dX14_plays_43 : decode mi_X14_plays.2.1 43 = .ok (.invokevirtual 45, 3) := by decide +kernel
theorem dX14_plays_46 : decode mi_X14_plays.2.1 46 = .ok (.aload_n 1, 1) := by decide +kernel
theorem dX14_plays_47 : decode mi_X14_plays.2.1 47 = .ok (.getfield 51, 3) := by decide +kernel
theorem dX14_plays_50 : decode mi_X14_plays.2.1 50 = .ok (.aload_n 0, 1) := by decide +kernel
theorem dX14_plays_51 : decode mi_X14_plays.2.1 51 = .ok (.getfield 17, 3) := by decide +kernel
theorem dX14_plays_54 : decode mi_X14_plays.2.1 54 = .ok (.dup2, 1) := by decide +kernel
theorem dX14_plays_55 : decode mi_X14_plays.2.1 55 = .ok (.iaload, 1) := by decide +kernel
theorem dX14_plays_56 : decode mi_X14_plays.2.1 56 = .ok (.iload_n 3, 1) := by decide +kernel
theorem dX14_plays_57 : decode mi_X14_plays.2.1 57 = .ok (.isub, 1) := by decide +kernel
theorem dX14_plays_58 : decode mi_X14_plays.2.1 58 = .ok (.iastore, 1) := by decide +kernel
theorem dX14_plays_59 : decode mi_X14_plays.2.1 59 = .ok (.return_, 1) := by decide +kernel
theorem v_X14_plays {G : ma_G} {d : Nat} {a0 : Nat} {a1 : Nat} {h : ah_T} {Q : Option ma_V → ah_T → Prop} {E : Nat → ah_T → Prop} (La1_h : LY1 h a1) (H : ma_ks h a0 [12, 13] ∧ vp_in (ah_I h a0 3) 8 ∧ vp_in (ah_I h a0 4) 6 ∧ vp_in (ah_I h a0 5) 10 ∧ MX G mi_X13_some d 0 [some (rv a0), some (rv a1), some (rv (a1 + (97 + 22 * (10 * (ah_I h a0 4).toNatClampNeg + (ah_I h a0 5).toNatClampNeg) + 2 * (ah_I h a0 3).toNatClampNeg))), none] [] h (Qi fun r6 h5 => ah_ext h h5 → MX G (vm_goal (ah_kd h5 a0)) d 0 (al_ent (vm_goal (ah_kd h5 a0)).2.2.1 [rv a0, rv a1]) [] h5 (Qr fun r9 h8 => ah_ext h5 h8 → MX G (vm_row (ah_kd h8 a0)) d 0 (al_ent (vm_row (ah_kd h8 a0)).2.2.1 [rv a0, rv a1]) [] h8 (Qr fun r12 h11 => ah_ext h8 h11 → MX G mi_X3_takes d 0 [some (rv (a1 + (97 + 22 * (10 * (ah_I h a0 4).toNatClampNeg + (ah_I h a0 5).toNatClampNeg) + 2 * (ah_I h a0 3).toNatClampNeg))), some (iv r6), some (rv (a1 + 93)), some (rv r9), some (rv r12), none, none] [] h11 (Qv fun h14 => ah_ext h11 h14 → vp_in (ah_I h14 a0 3) 8 ∧ ∀ h18 : ah_T, h18 = ah_wI h14 (a1 + 88) (ah_I h14 a0 3).toNatClampNeg ((ah_I h14 (a1 + 88) (ah_I h14 a0 3).toNatClampNeg) - r6) → ah_ext h14 h18 → Q none h18) E) E) E) E) : MX G mi_X14_plays (d + 1) 0 [some (rv a0), some (rv a1), none, none] [] h Q E := by
  refine mx_aload_n dX14_plays_0 rfl rfl ?_
  refine mx_get 1 0 (ref := "PrairiePool$Play") cl_1 (Nat.le_of_ble_eq_true rfl) (Or.inr ⟨_, q224⟩) (Or.inl rfl) dX14_plays_1 (fv_1_0 _ _) (ly1_k La1_h) ?_
  refine mx_tr (ly1_R_0_0 La1_h) ?_
  refine mx_aload_n dX14_plays_4 rfl rfl ?_
  obtain ⟨k1, H⟩ := H
  refine mx_getP [12, 13] 3 (ref := "PrairiePool$Spoil") (v := iv (ah_I _ _ 3)) fa_sp_3 (Or.inl q915) (Or.inr q916) dX14_plays_5 rfl k1 ?_
  obtain ⟨k2, H⟩ := H
  refine my_aald 13 dX14_plays_8 (by decide) rfl (ly1_A_1 La1_h k2) ?_
  refine mx_tr (ly1_G1_1 La1_h (vp_lt k2)) ?_
  refine mx_aload_n dX14_plays_9 rfl rfl ?_
  refine mx_getP [12, 13] 4 (ref := "PrairiePool$Spoil") (v := iv (ah_I _ _ 4)) fa_sp_4 (Or.inl q922) (Or.inr q923) dX14_plays_10 rfl k1 ?_
  obtain ⟨k3, H⟩ := H
  refine my_aald 12 dX14_plays_13 (by decide) rfl ⟨(ly1_K1_1 La1_h (vp_lt k2)), by rw [ly1_N1_1 La1_h (vp_lt k2)]; exact k3⟩ ?_
  refine mx_tr (ly1_G2_1 La1_h (vp_lt k2) (vp_lt k3)) ?_
  refine mx_aload_n dX14_plays_14 rfl rfl ?_
  refine mx_getP [12, 13] 5 (ref := "PrairiePool$Spoil") (v := iv (ah_I _ _ 5)) fa_sp_5 (Or.inl q929) (Or.inr q930) dX14_plays_15 rfl k1 ?_
  obtain ⟨k4, H⟩ := H
  refine my_aald 11 dX14_plays_18 (by decide) rfl ⟨(ly1_K2_1 La1_h (vp_lt k2) (vp_lt k3)), by rw [ly1_N2_1 La1_h (vp_lt k2) (vp_lt k3)]; exact k4⟩ ?_
  refine mx_tr (ly1_G3_1 La1_h (vp_lt k2) (vp_lt k3) (vp_lt k4)) ?_
  refine mx_astore_n (al' := [some (rv a0), some (rv a1), some (rv (a1 + (97 + 22 * (10 * (ah_I h a0 4).toNatClampNeg + (ah_I h a0 5).toNatClampNeg) + 2 * (ah_I h a0 3).toNatClampNeg))), none]) dX14_plays_19 rfl (Nat.le_of_ble_eq_true rfl) rfl ?_
  refine mx_aload_n dX14_plays_20 rfl rfl ?_
  refine mx_aload_n dX14_plays_21 rfl rfl ?_
  refine mx_aload_n dX14_plays_22 rfl rfl ?_
  refine mx_callP [12, 13] (fun _ => mi_X13_some) (vs := [rv a1, rv (a1 + (97 + 22 * (10 * (ah_I h a0 4).toNatClampNeg + (ah_I h a0 5).toNatClampNeg) + 2 * (ah_I h a0 3).toNatClampNeg))]) (st := []) pu_some_3 rfl rfl rfl (Nat.le_of_ble_eq_true rfl) (Or.inl q1086) dX14_plays_23 rfl k1 ?_
  refine ma_ki H (fun r6 h5 Xh5 H => ?_) (fun x1 h1 X1 H => mt_out rfl H)
  have H := H Xh5
  have k7 := ma_ksx Xh5 (k1)
  have La1_h5 := La1_h.ext Xh5
  refine mx_istore_n (al' := [some (rv a0), some (rv a1), some (rv (a1 + (97 + 22 * (10 * (ah_I h a0 4).toNatClampNeg + (ah_I h a0 5).toNatClampNeg) + 2 * (ah_I h a0 3).toNatClampNeg))), some (iv r6)]) dX14_plays_26 rfl (Nat.le_of_ble_eq_true rfl) rfl ?_
  refine mx_aload_n dX14_plays_27 rfl rfl ?_
  refine mx_iload_n dX14_plays_28 rfl rfl ?_
  refine mx_aload_n dX14_plays_29 rfl rfl ?_
  refine mx_get 1 10 (ref := "PrairiePool$Play") cl_1 (Nat.le_of_ble_eq_true rfl) (Or.inr ⟨_, q258⟩) (Or.inl rfl) dX14_plays_30 (fv_1_10 _ _) (ly1_k La1_h5) ?_
  refine mx_tr (ly1_R_0_10 La1_h5) ?_
  refine mx_aload_n dX14_plays_33 rfl rfl ?_
  refine mx_aload_n dX14_plays_34 rfl rfl ?_
  refine mx_callP [12, 13] vm_goal (vs := [rv a1]) (st := [rv (a1 + 93), iv r6, rv (a1 + (97 + 22 * (10 * (ah_I h a0 4).toNatClampNeg + (ah_I h a0 5).toNatClampNeg) + 2 * (ah_I h a0 3).toNatClampNeg))]) pu_goal rfl rfl rfl (Nat.le_of_ble_eq_true rfl) (Or.inl q1102) dX14_plays_35 rfl k7 ?_
  refine ma_kr H (fun r9 h8 Xh8 H => ?_) (fun x1 h1 X1 H => mt_out rfl H)
  have H := H Xh8
  have k10 := ma_ksx Xh8 (k7)
  have La1_h8 := La1_h5.ext Xh8
  refine mx_aload_n dX14_plays_38 rfl rfl ?_
  refine mx_aload_n dX14_plays_39 rfl rfl ?_
  refine mx_callP [12, 13] vm_row (vs := [rv a1]) (st := [rv r9, rv (a1 + 93), iv r6, rv (a1 + (97 + 22 * (10 * (ah_I h a0 4).toNatClampNeg + (ah_I h a0 5).toNatClampNeg) + 2 * (ah_I h a0 3).toNatClampNeg))]) pu_row rfl rfl rfl (Nat.le_of_ble_eq_true rfl) (Or.inl q1110) dX14_plays_40 rfl k10 ?_
  refine ma_kr H (fun r12 h11 Xh11 H => ?_) (fun x1 h1 X1 H => mt_out rfl H)
  have H := H Xh11
  have k13 := ma_ksx Xh11 (k10)
  have La1_h11 := La1_h8.ext Xh11
  refine mx_callV 3 (y' := mi_X3_takes) (vs := [iv r6, rv (a1 + 93), rv r9, rv r12]) (st := []) (al' := [some (rv (a1 + (97 + 22 * (10 * (ah_I h a0 4).toNatClampNeg + (ah_I h a0 5).toNatClampNeg) + 2 * (ah_I h a0 3).toNatClampNeg))), some (iv r6), some (rv (a1 + 93)), some (rv r9), some (rv r12), none, none]) cl_3 V_X3_takes (Or.inl q1118) dX14_plays_43 rfl rfl (Nat.le_of_ble_eq_true rfl) (Nat.le_of_ble_eq_true rfl) (ly3_k (ly1_H3_1 La1_h11 (vp_lt k2) (vp_lt k3) (vp_lt k4))) ?_
  refine ma_kv H (fun h14 Xh14 H => ?_) (fun x1 h1 X1 H => mt_out rfl H)
  have H := H Xh14
  have k16 := ma_ksx Xh14 (k13)
  have La1_h14 := La1_h11.ext Xh14
  refine mx_aload_n dX14_plays_46 rfl rfl ?_
  refine mx_get 1 5 (ref := "PrairiePool$Play") cl_1 (Nat.le_of_ble_eq_true rfl) (Or.inr ⟨_, q242⟩) (Or.inl rfl) dX14_plays_47 (fv_1_5 _ _) (ly1_k La1_h14) ?_
  refine mx_tr (ly1_R_0_5 La1_h14) ?_
  refine mx_aload_n dX14_plays_50 rfl rfl ?_
  refine mx_getP [12, 13] 3 (ref := "PrairiePool$Spoil") (v := iv (ah_I _ _ 3)) fa_sp_3 (Or.inl q915) (Or.inr q916) dX14_plays_51 rfl k16 ?_
  refine mx_dup2_ir dX14_plays_54 ?_
  obtain ⟨k17, H⟩ := H
  refine my_iald dX14_plays_55 rfl (ly1_A_88 La1_h14 k17) ?_
  refine mx_iload_n dX14_plays_56 rfl rfl ?_
  refine mx_isub dX14_plays_57 ?_
  refine my_iast dX14_plays_58 rfl (ly1_A_88 La1_h14 k17) ?_
  refine mx_nmI  (fun h18 eh18 Xh18 Kh18 Lh18 => ?_)
  have H := H h18 eh18 Xh18
  have La1_h18 := La1_h14.ext Xh18
  exact mx_vret rfl dX14_plays_59 H
theorem dX14_goal_0 : decode mi_X14_goal.2.1 0 = .ok (.aconst_null, 1) := by decide +kernel
theorem dX14_goal_1 : decode mi_X14_goal.2.1 1 = .ok (.areturn, 1) := by decide +kernel
theorem v_X14_goal {G : ma_G} {d : Nat} {a0 : Nat} {a1 : Nat} {h : ah_T} {Q : Option ma_V → ah_T → Prop} {E : Nat → ah_T → Prop} (La1_h : LY1 h a1) (H : Q (some (rv 0)) h) : MX G mi_X14_goal d 0 [some (rv a0), some (rv a1)] [] h Q E := by
  refine mx_null dX14_goal_0 ?_
  exact mx_aret rfl (by first | exact Or.inl ⟨_, rfl⟩ | exact Or.inr ⟨_, rfl⟩) dX14_goal_1 H
theorem dX14_row_0 : decode mi_X14_row.2.1 0 = .ok (.aload_n 1, 1) := by decide +kernel
theorem dX14_row_1 : decode mi_X14_row.2.1 1 = .ok (.getfield 7, 3) := by decide +kernel
theorem dX14_row_4 : decode mi_X14_row.2.1 4 = .ok (.areturn, 1) := by decide +kernel
theorem v_X14_row {G : ma_G} {d : Nat} {a0 : Nat} {a1 : Nat} {h : ah_T} {Q : Option ma_V → ah_T → Prop} {E : Nat → ah_T → Prop} (La1_h : LY1 h a1) (H : Q (some (rv (a1 + 92))) h) : MX G mi_X14_row d 0 [some (rv a0), some (rv a1)] [] h Q E := by
  refine mx_aload_n dX14_row_0 rfl rfl ?_
  refine mx_get 1 9 (ref := "PrairiePool$Play") cl_1 (Nat.le_of_ble_eq_true rfl) (Or.inr ⟨_, q254⟩) (Or.inl rfl) dX14_row_1 (fv_1_9 _ _) (ly1_k La1_h) ?_
  refine mx_tr (ly1_R_0_9 La1_h) ?_
  exact mx_aret rfl (by first | exact Or.inl ⟨_, rfl⟩ | exact Or.inr ⟨_, rfl⟩) dX14_row_4 H
theorem dX15_init_0 : decode mi_X15_init.2.1 0 = .ok (.aload_n 0, 1) := by decide +kernel
theorem dX15_init_1 : decode mi_X15_init.2.1 1 = .ok (.iload_n 1, 1) := by decide +kernel
theorem dX15_init_2 : decode mi_X15_init.2.1 2 = .ok (.iload_n 3, 1) := by decide +kernel
theorem dX15_init_3 : decode mi_X15_init.2.1 3 = .ok (.iload 4, 2) := by decide +kernel
theorem dX15_init_5 : decode mi_X15_init.2.1 5 = .ok (.iload 5, 2) := by decide +kernel
theorem dX15_init_7 : decode mi_X15_init.2.1 7 = .ok (.iload 6, 2) := by decide +kernel
theorem dX15_init_9 : decode mi_X15_init.2.1 9 = .ok (.iload 7, 2) := by decide +kernel
theorem dX15_init_11 : decode mi_X15_init.2.1 11 = .ok (.invokespecial 1, 3) := by decide +kernel
theorem dX15_init_14 : decode mi_X15_init.2.1 14 = .ok (.aload_n 0, 1) := by decide +kernel
theorem dX15_init_15 : decode mi_X15_init.2.1 15 = .ok (.iload_n 2, 1) := by decide +kernel
theorem dX15_init_16 : decode mi_X15_init.2.1 16 = .ok (.putfield 7, 3) := by decide +kernel
theorem dX15_init_19 : decode mi_X15_init.2.1 19 = .ok (.return_, 1) := by decide +kernel
theorem v_X15_init {G : ma_G} {d : Nat} {a0 : Nat} {x1 : Int32} {x2 : Int32} {x3 : Int32} {x4 : Int32} {x5 : Int32} {x6 : Int32} {x7 : Int32} {h : ah_T} {Q : Option ma_V → ah_T → Prop} {E : Nat → ah_T → Prop}  (H : ah_kd h a0 ≠ 0 ∧ MX G mi_X14_init d 0 [some (rv a0), some (iv x1), some (iv x3), some (iv x4), some (iv x5), some (iv x6), some (iv x7)] [] h (Qv fun h2 => ah_ext h h2 → ah_kd h2 a0 = 14 ∧ ∀ h5 : ah_T, h5 = ah_wI h2 a0 6 x2 → ah_ext h2 h5 → Q none h5) E) : MX G mi_X15_init (d + 1) 0 [some (rv a0), some (iv x1), some (iv x2), some (iv x3), some (iv x4), some (iv x5), some (iv x6), some (iv x7)] [] h Q E := by
  refine mx_aload_n dX15_init_0 rfl rfl ?_
  refine mx_iload_n dX15_init_1 rfl rfl ?_
  refine mx_iload_n dX15_init_2 rfl rfl ?_
  refine mx_iload dX15_init_3 rfl ?_
  refine mx_iload dX15_init_5 rfl ?_
  refine mx_iload dX15_init_7 rfl ?_
  refine mx_iload dX15_init_9 rfl ?_
  obtain ⟨k1, H⟩ := H
  refine mx_callI (y' := mi_X14_init) (vs := [iv x1, iv x3, iv x4, iv x5, iv x6, iv x7]) (st := []) (al' := [some (rv a0), some (iv x1), some (iv x3), some (iv x4), some (iv x5), some (iv x6), some (iv x7)]) I_X14_init (Or.inl q904) dX15_init_11 rfl rfl (Nat.le_of_ble_eq_true rfl) (Nat.le_of_ble_eq_true rfl) k1 ?_
  refine ma_kv H (fun h2 Xh2 H => ?_) (fun x1 h1 X1 H => mt_out rfl H)
  have H := H Xh2
  refine mx_aload_n dX15_init_14 rfl rfl ?_
  refine mx_iload_n dX15_init_15 rfl rfl ?_
  obtain ⟨k4, H⟩ := H
  refine mx_putI 13 6 (ref := "PrairiePool$Car") cl_13 (Nat.le_of_ble_eq_true rfl) (Or.inl q911) (Or.inl rfl) dX15_init_16 (Or.inr ⟨rfl, rfl, rfl, q911⟩) rfl k4 ?_
  refine mx_nmI  (fun h5 eh5 Xh5 Kh5 Lh5 => ?_)
  have H := H h5 eh5 Xh5
  exact mx_vret rfl dX15_init_19 H
theorem dX15_goal_0 : decode mi_X15_goal.2.1 0 = .ok (.aload_n 1, 1) := by decide +kernel
theorem dX15_goal_1 : decode mi_X15_goal.2.1 1 = .ok (.getfield 13, 3) := by decide +kernel
theorem dX15_goal_4 : decode mi_X15_goal.2.1 4 = .ok (.aload_n 0, 1) := by decide +kernel
theorem dX15_goal_5 : decode mi_X15_goal.2.1 5 = .ok (.getfield 7, 3) := by decide +kernel
theorem dX15_goal_8 : decode mi_X15_goal.2.1 8 = .ok (.aaload, 1) := by decide +kernel
theorem dX15_goal_9 : decode mi_X15_goal.2.1 9 = .ok (.aload_n 0, 1) := by decide +kernel
theorem dX15_goal_10 : decode mi_X15_goal.2.1 10 = .ok (.getfield 19, 3) := by decide +kernel
theorem dX15_goal_13 : decode mi_X15_goal.2.1 13 = .ok (.aaload, 1) := by decide +kernel
theorem dX15_goal_14 : decode mi_X15_goal.2.1 14 = .ok (.aload_n 0, 1) := by decide +kernel
theorem dX15_goal_15 : decode mi_X15_goal.2.1 15 = .ok (.getfield 22, 3) := by decide +kernel
theorem dX15_goal_18 : decode mi_X15_goal.2.1 18 = .ok (.aaload, 1) := by decide +kernel
theorem dX15_goal_19 : decode mi_X15_goal.2.1 19 = .ok (.areturn, 1) := by decide +kernel
theorem v_X15_goal {G : ma_G} {d : Nat} {a0 : Nat} {a1 : Nat} {h : ah_T} {Q : Option ma_V → ah_T → Prop} {E : Nat → ah_T → Prop} (La1_h : LY1 h a1) (H : ah_kd h a0 = 14 ∧ vp_in (ah_I h a0 6) 2 ∧ vp_in (ah_I h a0 4) 6 ∧ vp_in (ah_I h a0 5) 10 ∧ Q (some (rv (a1 + (113 + 22 * (10 * (ah_I h a0 4).toNatClampNeg + (ah_I h a0 5).toNatClampNeg) + 2 * (ah_I h a0 6).toNatClampNeg)))) h) : MX G mi_X15_goal d 0 [some (rv a0), some (rv a1)] [] h Q E := by
  refine mx_aload_n dX15_goal_0 rfl rfl ?_
  refine mx_get 1 1 (ref := "PrairiePool$Play") cl_1 (Nat.le_of_ble_eq_true rfl) (Or.inr ⟨_, q228⟩) (Or.inl rfl) dX15_goal_1 (fv_1_1 _ _) (ly1_k La1_h) ?_
  refine mx_tr (ly1_R_0_1 La1_h) ?_
  refine mx_aload_n dX15_goal_4 rfl rfl ?_
  obtain ⟨k1, H⟩ := H
  refine mx_get 13 6 (ref := "PrairiePool$Car") cl_13 (Nat.le_of_ble_eq_true rfl) (Or.inl q911) (Or.inl rfl) dX15_goal_5 (fv_13_6 _ _) k1 ?_
  obtain ⟨k2, H⟩ := H
  refine my_aald 13 dX15_goal_8 (by decide) rfl (ly1_A_58 La1_h k2) ?_
  refine mx_tr (ly1_G1_58 La1_h (vp_lt k2)) ?_
  refine mx_aload_n dX15_goal_9 rfl rfl ?_
  refine mx_get 13 4 (ref := "PrairiePool$Car") cl_13 (Nat.le_of_ble_eq_true rfl) (Or.inl q918) (Or.inr q919) dX15_goal_10 (fv_13_4 _ _) k1 ?_
  obtain ⟨k3, H⟩ := H
  refine my_aald 12 dX15_goal_13 (by decide) rfl ⟨(ly1_K1_58 La1_h (vp_lt k2)), by rw [ly1_N1_58 La1_h (vp_lt k2)]; exact k3⟩ ?_
  refine mx_tr (ly1_G2_58 La1_h (vp_lt k2) (vp_lt k3)) ?_
  refine mx_aload_n dX15_goal_14 rfl rfl ?_
  refine mx_get 13 5 (ref := "PrairiePool$Car") cl_13 (Nat.le_of_ble_eq_true rfl) (Or.inl q925) (Or.inr q926) dX15_goal_15 (fv_13_5 _ _) k1 ?_
  obtain ⟨k4, H⟩ := H
  refine my_aald 11 dX15_goal_18 (by decide) rfl ⟨(ly1_K2_58 La1_h (vp_lt k2) (vp_lt k3)), by rw [ly1_N2_58 La1_h (vp_lt k2) (vp_lt k3)]; exact k4⟩ ?_
  refine mx_tr (ly1_G3_58 La1_h (vp_lt k2) (vp_lt k3) (vp_lt k4)) ?_
  exact mx_aret rfl (by first | exact Or.inl ⟨_, rfl⟩ | exact Or.inr ⟨_, rfl⟩) dX15_goal_19 H
theorem dX15_row_0 : decode mi_X15_row.2.1 0 = .ok (.aconst_null, 1) := by decide +kernel
theorem dX15_row_1 : decode mi_X15_row.2.1 1 = .ok (.areturn, 1) := by decide +kernel
theorem v_X15_row {G : ma_G} {d : Nat} {a0 : Nat} {a1 : Nat} {h : ah_T} {Q : Option ma_V → ah_T → Prop} {E : Nat → ah_T → Prop} (La1_h : LY1 h a1) (H : Q (some (rv 0)) h) : MX G mi_X15_row d 0 [some (rv a0), some (rv a1)] [] h Q E := by
  refine mx_null dX15_row_0 ?_
  exact mx_aret rfl (by first | exact Or.inl ⟨_, rfl⟩ | exact Or.inr ⟨_, rfl⟩) dX15_row_1 H
theorem dX16_init_0 : decode mi_X16_init.2.1 0 = .ok (.aload_n 0, 1) := by decide +kernel
theorem dX16_init_1 : decode mi_X16_init.2.1 1 = .ok (.iload_n 1, 1) := by decide +kernel
theorem dX16_init_2 : decode mi_X16_init.2.1 2 = .ok (.iload_n 2, 1) := by decide +kernel
theorem dX16_init_3 : decode mi_X16_init.2.1 3 = .ok (.iload_n 3, 1) := by decide +kernel
theorem dX16_init_4 : decode mi_X16_init.2.1 4 = .ok (.iload 4, 2) := by decide +kernel
theorem dX16_init_6 : decode mi_X16_init.2.1 6 = .ok (.iload 6, 2) := by decide +kernel
theorem dX16_init_8 : decode mi_X16_init.2.1 8 = .ok (.iload 7, 2) := by decide +kernel
theorem dX16_init_10 : decode mi_X16_init.2.1 10 = .ok (.invokespecial 1, 3) := by decide +kernel
theorem dX16_init_13 : decode mi_X16_init.2.1 13 = .ok (.aload_n 0, 1) := by decide +kernel
theorem dX16_init_14 : decode mi_X16_init.2.1 14 = .ok (.iload 5, 2) := by decide +kernel
theorem dX16_init_16 : decode mi_X16_init.2.1 16 = .ok (.putfield 7, 3) := by decide +kernel
theorem dX16_init_19 : decode mi_X16_init.2.1 19 = .ok (.return_, 1) := by decide +kernel
theorem v_X16_init {G : ma_G} {d : Nat} {a0 : Nat} {x1 : Int32} {x2 : Int32} {x3 : Int32} {x4 : Int32} {x5 : Int32} {x6 : Int32} {x7 : Int32} {h : ah_T} {Q : Option ma_V → ah_T → Prop} {E : Nat → ah_T → Prop}  (H : ah_kd h a0 ≠ 0 ∧ MX G mi_X13_init d 0 [some (rv a0), some (iv x1), some (iv x2), some (iv x3), some (iv x4), some (iv x6), some (iv x7)] [] h (Qv fun h2 => ah_ext h h2 → ah_kd h2 a0 = 15 ∧ ∀ h5 : ah_T, h5 = ah_wI h2 a0 6 x5 → ah_ext h2 h5 → Q none h5) E) : MX G mi_X16_init (d + 1) 0 [some (rv a0), some (iv x1), some (iv x2), some (iv x3), some (iv x4), some (iv x5), some (iv x6), some (iv x7)] [] h Q E := by
  refine mx_aload_n dX16_init_0 rfl rfl ?_
  refine mx_iload_n dX16_init_1 rfl rfl ?_
  refine mx_iload_n dX16_init_2 rfl rfl ?_
  refine mx_iload_n dX16_init_3 rfl rfl ?_
  refine mx_iload dX16_init_4 rfl ?_
  refine mx_iload dX16_init_6 rfl ?_
  refine mx_iload dX16_init_8 rfl ?_
  obtain ⟨k1, H⟩ := H
  refine mx_callI (y' := mi_X13_init) (vs := [iv x1, iv x2, iv x3, iv x4, iv x6, iv x7]) (st := []) (al' := [some (rv a0), some (iv x1), some (iv x2), some (iv x3), some (iv x4), some (iv x6), some (iv x7)]) I_X13_init (Or.inl q952) dX16_init_10 rfl rfl (Nat.le_of_ble_eq_true rfl) (Nat.le_of_ble_eq_true rfl) k1 ?_
  refine ma_kv H (fun h2 Xh2 H => ?_) (fun x1 h1 X1 H => mt_out rfl H)
  have H := H Xh2
  refine mx_aload_n dX16_init_13 rfl rfl ?_
  refine mx_iload dX16_init_14 rfl ?_
  obtain ⟨k4, H⟩ := H
  refine mx_putI 14 6 (ref := "PrairiePool$Sale") cl_14 (Nat.le_of_ble_eq_true rfl) (Or.inl q953) (Or.inl rfl) dX16_init_16 (Or.inr ⟨rfl, rfl, rfl, q953⟩) rfl k4 ?_
  refine mx_nmI  (fun h5 eh5 Xh5 Kh5 Lh5 => ?_)
  have H := H h5 eh5 Xh5
  exact mx_vret rfl dX16_init_19 H
theorem dX16_plays_0 : decode mi_X16_plays.2.1 0 = .ok (.aload_n 1, 1) := by decide +kernel
theorem dX16_plays_1 : decode mi_X16_plays.2.1 1 = .ok (.getfield 13, 3) := by decide +kernel
theorem dX16_plays_4 : decode mi_X16_plays.2.1 4 = .ok (.aload_n 0, 1) := by decide +kernel
theorem dX16_plays_5 : decode mi_X16_plays.2.1 5 = .ok (.getfield 19, 3) := by decide +kernel
theorem dX16_plays_8 : decode mi_X16_plays.2.1 8 = .ok (.aaload, 1) := by decide +kernel
theorem dX16_plays_9 : decode mi_X16_plays.2.1 9 = .ok (.aload_n 0, 1) := by decide +kernel
theorem dX16_plays_10 : decode mi_X16_plays.2.1 10 = .ok (.getfield 22, 3) := by decide +kernel
theorem dX16_plays_13 : decode mi_X16_plays.2.1 13 = .ok (.aaload, 1) := by decide +kernel
theorem dX16_plays_14 : decode mi_X16_plays.2.1 14 = .ok (.aload_n 0, 1) := by decide +kernel
theorem dX16_plays_15 : decode mi_X16_plays.2.1 15 = .ok (.getfield 25, 3) := by decide +kernel
theorem dX16_plays_18 : decode mi_X16_plays.2.1 18 = .ok (.aaload, 1) := by decide +kernel
theorem dX16_plays_19 : decode mi_X16_plays.2.1 19 = .ok (.astore_n 2, 1) := by decide +kernel
theorem dX16_plays_20 : decode mi_X16_plays.2.1 20 = .ok (.aload_n 0, 1) := by decide +kernel
theorem dX16_plays_21 : decode mi_X16_plays.2.1 21 = .ok (.aload_n 1, 1) := by decide +kernel
theorem dX16_plays_22 : decode mi_X16_plays.2.1 22 = .ok (.aload_n 2, 1) := by decide +kernel
theorem dX16_plays_23 : decode mi_X16_plays.2.1 23 = .ok (.invokevirtual 28, 3) := by decide +kernel
theorem dX16_plays_26 : decode mi_X16_plays.2.1 26 = .ok (.istore_n 3, 1) := by decide +kernel
theorem dX16_plays_27 : decode mi_X16_plays.2.1 27 = .ok (.aload_n 2, 1) := by decide +kernel
theorem dX16_plays_28 : decode mi_X16_plays.2.1 28 = .ok (.iload_n 3, 1) := by decide +kernel
theorem dX16_plays_29 : decode mi_X16_plays.2.1 29 = .ok (.aload_n 1, 1) := by decide +kernel
theorem dX16_plays_30 : decode mi_X16_plays.2.1 30 = .ok (.getfield 32, 3) := by decide +kernel
theorem dX16_plays_33 : decode mi_X16_plays.2.1 33 = .ok (.aconst_null, 1) := by decide +kernel
theorem dX16_plays_34 : decode mi_X16_plays.2.1 34 = .ok (.aload_n 1, 1) := by decide +kernel
theorem dX16_plays_35 : decode mi_X16_plays.2.1 35 = .ok (.getfield 36, 3) := by decide +kernel
theorem dX16_plays_38 : decode mi_X16_plays.2.1 38 = .ok (.invokevirtual 40, 3) := by decide +kernel
theorem dX16_plays_41 : decode mi_X16_plays.2.1 41 = .ok (.aload_n 1, 1) := by decide +kernel
theorem dX16_plays_42 : decode mi_X16_plays.2.1 42 = .ok (.getfield 46, 3) := by decide +kernel
theorem dX16_plays_45 : decode mi_X16_plays.2.1 45 = .ok (.aload_n 0, 1) := by decide +kernel
theorem dX16_plays_46 : decode mi_X16_plays.2.1 46 = .ok (.getfield 22, 3) := by decide +kernel
theorem dX16_plays_49 : decode mi_X16_plays.2.1 49 = .ok (.aaload, 1) := by decide +kernel
theorem dX16_plays_50 : decode mi_X16_plays.2.1 50 = .ok (.aload_n 0, 1) := by decide +kernel
theorem dX16_plays_51 : decode mi_X16_plays.2.1 51 = .ok (.getfield 25, 3) := by decide +kernel
theorem dX16_plays_54 : decode mi_X16_plays.2.1 54 = .ok (.dup2, 1) := by decide +kernel
theorem dX16_plays_55 : decode mi_X16_plays.2.1 55 = .ok (.laload, 1) := by decide +kernel
theorem dX16_plays_56 : decode mi_X16_plays.2.1 56 = .ok (.iload_n 3, 1) := by decide +kernel
theorem dX16_plays_57 : decode mi_X16_plays.2.1 57 = .ok (.i2l, 1) := by decide +kernel
theorem dX16_plays_58 : decode mi_X16_plays.2.1 58 = .ok (.aload_n 0, 1) := by decide +kernel
theorem dX16_plays_59 : decode mi_X16_plays.2.1 59 = .ok (.getfield 7, 3) := by decide +kernel
theorem dX16_plays_62 : decode mi_X16_plays.2.1 62 = .ok (.i2l, 1) := by decide +kernel
theorem dX16_plays_63 : decode mi_X16_plays.2.1 63 = .ok (.lmul, 1) := by decide +kernel
theorem dX16_plays_64 : decode mi_X16_plays.2.1 64 = .ok (.ladd, 1) := by decide +kernel
theorem dX16_plays_65 : decode mi_X16_plays.2.1 65 = .ok (.lastore, 1) := by decide +kernel
theorem dX16_plays_66 : decode mi_X16_plays.2.1 66 = .ok (.return_, 1) := by decide +kernel
theorem v_X16_plays {G : ma_G} {d : Nat} {a0 : Nat} {a1 : Nat} {h : ah_T} {Q : Option ma_V → ah_T → Prop} {E : Nat → ah_T → Prop} (La1_h : LY1 h a1) (H : ah_kd h a0 = 15 ∧ vp_in (ah_I h a0 3) 2 ∧ vp_in (ah_I h a0 4) 6 ∧ vp_in (ah_I h a0 5) 10 ∧ MX G mi_X13_some d 0 [some (rv a0), some (rv a1), some (rv (a1 + (113 + 22 * (10 * (ah_I h a0 4).toNatClampNeg + (ah_I h a0 5).toNatClampNeg) + 2 * (ah_I h a0 3).toNatClampNeg))), none] [] h (Qi fun r6 h5 => ah_ext h h5 → MX G mi_X3_takes d 0 [some (rv (a1 + (113 + 22 * (10 * (ah_I h a0 4).toNatClampNeg + (ah_I h a0 5).toNatClampNeg) + 2 * (ah_I h a0 3).toNatClampNeg))), some (iv r6), some (rv (a1 + 93)), some (rv 0), some (rv (a1 + 91)), none, none] [] h5 (Qv fun h8 => ah_ext h5 h8 → vp_in (ah_I h8 a0 4) 6 ∧ vp_in (ah_I h8 a0 5) 10 ∧ ∀ h13 : ah_T, h13 = ah_wJ h8 (a1 + (81 + (ah_I h8 a0 4).toNatClampNeg)) (ah_I h8 a0 5).toNatClampNeg ((ah_J h8 (a1 + (81 + (ah_I h8 a0 4).toNatClampNeg)) (ah_I h8 a0 5).toNatClampNeg) + (r6.toInt64 * (ah_I h8 a0 6).toInt64)) → ah_ext h8 h13 → Q none h13) E) E) : MX G mi_X16_plays (d + 1) 0 [some (rv a0), some (rv a1), none, none] [] h Q E := by
  refine mx_aload_n dX16_plays_0 rfl rfl ?_
  refine mx_get 1 1 (ref := "PrairiePool$Play") cl_1 (Nat.le_of_ble_eq_true rfl) (Or.inr ⟨_, q229⟩) (Or.inl rfl) dX16_plays_1 (fv_1_1 _ _) (ly1_k La1_h) ?_
  refine mx_tr (ly1_R_0_1 La1_h) ?_
  refine mx_aload_n dX16_plays_4 rfl rfl ?_
  obtain ⟨k1, H⟩ := H
  refine mx_get 14 3 (ref := "PrairiePool$Sale") cl_14 (Nat.le_of_ble_eq_true rfl) (Or.inl q913) (Or.inr q914) dX16_plays_5 (fv_14_3 _ _) k1 ?_
  obtain ⟨k2, H⟩ := H
  refine my_aald 13 dX16_plays_8 (by decide) rfl (ly1_A_58 La1_h k2) ?_
  refine mx_tr (ly1_G1_58 La1_h (vp_lt k2)) ?_
  refine mx_aload_n dX16_plays_9 rfl rfl ?_
  refine mx_get 14 4 (ref := "PrairiePool$Sale") cl_14 (Nat.le_of_ble_eq_true rfl) (Or.inl q920) (Or.inr q921) dX16_plays_10 (fv_14_4 _ _) k1 ?_
  obtain ⟨k3, H⟩ := H
  refine my_aald 12 dX16_plays_13 (by decide) rfl ⟨(ly1_K1_58 La1_h (vp_lt k2)), by rw [ly1_N1_58 La1_h (vp_lt k2)]; exact k3⟩ ?_
  refine mx_tr (ly1_G2_58 La1_h (vp_lt k2) (vp_lt k3)) ?_
  refine mx_aload_n dX16_plays_14 rfl rfl ?_
  refine mx_get 14 5 (ref := "PrairiePool$Sale") cl_14 (Nat.le_of_ble_eq_true rfl) (Or.inl q927) (Or.inr q928) dX16_plays_15 (fv_14_5 _ _) k1 ?_
  obtain ⟨k4, H⟩ := H
  refine my_aald 11 dX16_plays_18 (by decide) rfl ⟨(ly1_K2_58 La1_h (vp_lt k2) (vp_lt k3)), by rw [ly1_N2_58 La1_h (vp_lt k2) (vp_lt k3)]; exact k4⟩ ?_
  refine mx_tr (ly1_G3_58 La1_h (vp_lt k2) (vp_lt k3) (vp_lt k4)) ?_
  refine mx_astore_n (al' := [some (rv a0), some (rv a1), some (rv (a1 + (113 + 22 * (10 * (ah_I h a0 4).toNatClampNeg + (ah_I h a0 5).toNatClampNeg) + 2 * (ah_I h a0 3).toNatClampNeg))), none]) dX16_plays_19 rfl (Nat.le_of_ble_eq_true rfl) rfl ?_
  refine mx_aload_n dX16_plays_20 rfl rfl ?_
  refine mx_aload_n dX16_plays_21 rfl rfl ?_
  refine mx_aload_n dX16_plays_22 rfl rfl ?_
  refine mx_callP [14] (fun _ => mi_X13_some) (vs := [rv a1, rv (a1 + (113 + 22 * (10 * (ah_I h a0 4).toNatClampNeg + (ah_I h a0 5).toNatClampNeg) + 2 * (ah_I h a0 3).toNatClampNeg))]) (st := []) pu_some_2 rfl rfl rfl (Nat.le_of_ble_eq_true rfl) (Or.inl q1148) dX16_plays_23 rfl (ma_ks_of (k1) (by decide)) ?_
  refine ma_ki H (fun r6 h5 Xh5 H => ?_) (fun x1 h1 X1 H => mt_out rfl H)
  have H := H Xh5
  have k7 := Xh5.kd (k1)
  have La1_h5 := La1_h.ext Xh5
  refine mx_istore_n (al' := [some (rv a0), some (rv a1), some (rv (a1 + (113 + 22 * (10 * (ah_I h a0 4).toNatClampNeg + (ah_I h a0 5).toNatClampNeg) + 2 * (ah_I h a0 3).toNatClampNeg))), some (iv r6)]) dX16_plays_26 rfl (Nat.le_of_ble_eq_true rfl) rfl ?_
  refine mx_aload_n dX16_plays_27 rfl rfl ?_
  refine mx_iload_n dX16_plays_28 rfl rfl ?_
  refine mx_aload_n dX16_plays_29 rfl rfl ?_
  refine mx_get 1 10 (ref := "PrairiePool$Play") cl_1 (Nat.le_of_ble_eq_true rfl) (Or.inr ⟨_, q257⟩) (Or.inl rfl) dX16_plays_30 (fv_1_10 _ _) (ly1_k La1_h5) ?_
  refine mx_tr (ly1_R_0_10 La1_h5) ?_
  refine mx_null dX16_plays_33 ?_
  refine mx_aload_n dX16_plays_34 rfl rfl ?_
  refine mx_get 1 8 (ref := "PrairiePool$Play") cl_1 (Nat.le_of_ble_eq_true rfl) (Or.inr ⟨_, q251⟩) (Or.inl rfl) dX16_plays_35 (fv_1_8 _ _) (ly1_k La1_h5) ?_
  refine mx_tr (ly1_R_0_8 La1_h5) ?_
  refine mx_callV 3 (y' := mi_X3_takes) (vs := [iv r6, rv (a1 + 93), rv 0, rv (a1 + 91)]) (st := []) (al' := [some (rv (a1 + (113 + 22 * (10 * (ah_I h a0 4).toNatClampNeg + (ah_I h a0 5).toNatClampNeg) + 2 * (ah_I h a0 3).toNatClampNeg))), some (iv r6), some (rv (a1 + 93)), some (rv 0), some (rv (a1 + 91)), none, none]) cl_3 V_X3_takes (Or.inl q1151) dX16_plays_38 rfl rfl (Nat.le_of_ble_eq_true rfl) (Nat.le_of_ble_eq_true rfl) (ly3_k (ly1_H3_58 La1_h5 (vp_lt k2) (vp_lt k3) (vp_lt k4))) ?_
  refine ma_kv H (fun h8 Xh8 H => ?_) (fun x1 h1 X1 H => mt_out rfl H)
  have H := H Xh8
  have k10 := Xh8.kd (k7)
  have La1_h8 := La1_h5.ext Xh8
  refine mx_aload_n dX16_plays_41 rfl rfl ?_
  refine mx_get 1 3 (ref := "PrairiePool$Play") cl_1 (Nat.le_of_ble_eq_true rfl) (Or.inr ⟨_, q235⟩) (Or.inl rfl) dX16_plays_42 (fv_1_3 _ _) (ly1_k La1_h8) ?_
  refine mx_tr (ly1_R_0_3 La1_h8) ?_
  refine mx_aload_n dX16_plays_45 rfl rfl ?_
  refine mx_get 14 4 (ref := "PrairiePool$Sale") cl_14 (Nat.le_of_ble_eq_true rfl) (Or.inl q920) (Or.inr q921) dX16_plays_46 (fv_14_4 _ _) k10 ?_
  obtain ⟨k11, H⟩ := H
  refine my_aald 15 dX16_plays_49 (by decide) rfl (ly1_A_80 La1_h8 k11) ?_
  refine mx_tr (ly1_G1_80 La1_h8 (vp_lt k11)) ?_
  refine mx_aload_n dX16_plays_50 rfl rfl ?_
  refine mx_get 14 5 (ref := "PrairiePool$Sale") cl_14 (Nat.le_of_ble_eq_true rfl) (Or.inl q927) (Or.inr q928) dX16_plays_51 (fv_14_5 _ _) k10 ?_
  refine mx_dup2_ir dX16_plays_54 ?_
  obtain ⟨k12, H⟩ := H
  refine my_lald dX16_plays_55 rfl ⟨(ly1_K1_80 La1_h8 (vp_lt k11)), by rw [ly1_N1_80 La1_h8 (vp_lt k11)]; exact k12⟩ ?_
  refine mx_iload_n dX16_plays_56 rfl rfl ?_
  refine mx_i2l dX16_plays_57 ?_
  refine mx_aload_n dX16_plays_58 rfl rfl ?_
  refine mx_get 14 6 (ref := "PrairiePool$Sale") cl_14 (Nat.le_of_ble_eq_true rfl) (Or.inl q953) (Or.inl rfl) dX16_plays_59 (fv_14_6 _ _) k10 ?_
  refine mx_i2l dX16_plays_62 ?_
  refine mx_lmul dX16_plays_63 ?_
  refine mx_ladd dX16_plays_64 ?_
  refine my_last dX16_plays_65 rfl ⟨(ly1_K1_80 La1_h8 (vp_lt k11)), by rw [ly1_N1_80 La1_h8 (vp_lt k11)]; exact k12⟩ ?_
  refine mx_nmJ  (fun h13 eh13 Xh13 Kh13 Lh13 => ?_)
  have H := H h13 eh13 Xh13
  have La1_h13 := La1_h8.ext Xh13
  exact mx_vret rfl dX16_plays_66 H
theorem dX17_find_0 : decode mi_X17_find.2.1 0 = .ok (.iconst 0, 1) := by decide +kernel
theorem dX17_find_1 : decode mi_X17_find.2.1 1 = .ok (.istore_n 3, 1) := by decide +kernel
theorem dX17_find_2 : decode mi_X17_find.2.1 2 = .ok (.iload_n 3, 1) := by decide +kernel
theorem dX17_find_3 : decode mi_X17_find.2.1 3 = .ok (.aload_n 0, 1) := by decide +kernel
theorem dX17_find_4 : decode mi_X17_find.2.1 4 = .ok (.getfield 21, 3) := by decide +kernel
theorem dX17_find_7 : decode mi_X17_find.2.1 7 = .ok (.if_icmp .ge 22, 3) := by decide +kernel
theorem dX17_find_10 : decode mi_X17_find.2.1 10 = .ok (.aload_n 0, 1) := by decide +kernel
theorem dX17_find_11 : decode mi_X17_find.2.1 11 = .ok (.getfield 9, 3) := by decide +kernel
theorem dX17_find_14 : decode mi_X17_find.2.1 14 = .ok (.iload_n 3, 1) := by decide +kernel
theorem dX17_find_15 : decode mi_X17_find.2.1 15 = .ok (.laload, 1) := by decide +kernel
theorem dX17_find_16 : decode mi_X17_find.2.1 16 = .ok (.lload_n 1, 1) := by decide +kernel
theorem dX17_find_17 : decode mi_X17_find.2.1 17 = .ok (.lcmp, 1) := by decide +kernel
theorem dX17_find_18 : decode mi_X17_find.2.1 18 = .ok (.ifCond .ne 5, 3) := by decide +kernel
theorem dX17_find_21 : decode mi_X17_find.2.1 21 = .ok (.iload_n 3, 1) := by decide +kernel
theorem dX17_find_22 : decode mi_X17_find.2.1 22 = .ok (.ireturn, 1) := by decide +kernel
theorem dX17_find_23 : decode mi_X17_find.2.1 23 = .ok (.iinc 3 1, 3) := by decide +kernel
theorem dX17_find_26 : decode mi_X17_find.2.1 26 = .ok (.goto (-24), 3) := by decide +kernel
theorem dX17_find_29 : decode mi_X17_find.2.1 29 = .ok (.iconst (-1), 1) := by decide +kernel
theorem dX17_find_30 : decode mi_X17_find.2.1 30 = .ok (.ireturn, 1) := by decide +kernel
theorem v_X17_find {G : ma_G} {d : Nat} {a0 : Nat} {x1 : Int64} {h : ah_T} {Q : Option ma_V → ah_T → Prop} {E : Nat → ah_T → Prop} (La0_h : LY17 h a0) (H : MX G mi_X17_find d 2 [some (rv a0), some (jv x1), none, some (iv (0 : Int32))] [] h Q E) : MX G mi_X17_find d 0 [some (rv a0), some (jv x1), none, none] [] h Q E := by
  refine mx_iconst dX17_find_0 ic_0 ?_
  refine mx_istore_n (al' := [some (rv a0), some (jv x1), none, some (iv (0 : Int32))]) dX17_find_1 rfl (Nat.le_of_ble_eq_true rfl) rfl ?_
  exact mx_weak (al' := [some (rv a0), some (jv x1), none, some (iv (0 : Int32))]) ⟨rfl, ⟨rfl, ⟨rfl, trivial⟩⟩⟩ H
theorem v_X17_find_2 {G : ma_G} {d : Nat} {a0 : Nat} {x1 : Int64} {x3 : Int32} {h : ah_T} {Q : Option ma_V → ah_T → Prop} {E : Nat → ah_T → Prop} (La0_h : LY17 h a0) (H : ((ah_I h a0 2) ≤ x3 → Q (some (iv (-1 : Int32))) h) ∧ (¬ (ah_I h a0 2) ≤ x3 → vp_in x3 10 ∧ (¬ (ah_J h (a0 + 1) x3.toNatClampNeg) = x1 → MX G mi_X17_find d 2 [some (rv a0), some (jv x1), none, some (iv (x3 + (1 : Int32)))] [] h Q E) ∧ ((ah_J h (a0 + 1) x3.toNatClampNeg) = x1 → Q (some (iv x3)) h))) : MX G mi_X17_find d 2 [some (rv a0), some (jv x1), none, some (iv x3)] [] h Q E := by
  refine mx_iload_n dX17_find_2 rfl rfl ?_
  refine mx_aload_n dX17_find_3 rfl rfl ?_
  refine mx_get 15 2 (ref := "PrairiePool$Law") cl_15 (Nat.le_of_ble_eq_true rfl) (Or.inl q1193) (Or.inl rfl) dX17_find_4 (fv_15_2 _ _) (ly17_k La0_h) ?_
  refine mx_icmp_ge (tgt := 29) dX17_find_7 rfl (fun c1 => ?_) (fun c1 => ?_)
  · have H := H.1 c1
    refine mx_iconst dX17_find_29 ic_m1 ?_
    exact mx_iret rfl dX17_find_30 H
  · have H := H.2 c1
    refine mx_aload_n dX17_find_10 rfl rfl ?_
    refine mx_get 15 0 (ref := "PrairiePool$Law") cl_15 (Nat.le_of_ble_eq_true rfl) (Or.inl q1189) (Or.inl rfl) dX17_find_11 (fv_15_0 _ _) (ly17_k La0_h) ?_
    refine mx_tr (ly17_R_0_0 La0_h) ?_
    refine mx_iload_n dX17_find_14 rfl rfl ?_
    obtain ⟨k2, H⟩ := H
    refine my_lald dX17_find_15 rfl (ly17_A_1 La0_h k2) ?_
    refine mx_lload_n dX17_find_16 rfl rfl ?_
    refine mx_lif_ne (tgt := 23) dX17_find_17 dX17_find_18 rfl (fun c3 => ?_) (fun c3 => ?_)
    · have H := H.1 c3
      refine mx_iinc (al' := [some (rv a0), some (jv x1), none, some (iv (x3 + (1 : Int32)))]) dX17_find_23 rfl ic_1 rfl ?_
      refine mx_goto (tgt := 2) dX17_find_26 rfl ?_
      exact mx_weak (al' := [some (rv a0), some (jv x1), none, some (iv (x3 + (1 : Int32)))]) ⟨rfl, ⟨rfl, ⟨rfl, trivial⟩⟩⟩ H
    · have H := H.2 c3
      refine mx_iload_n dX17_find_21 rfl rfl ?_
      exact mx_iret rfl dX17_find_22 H
theorem dX17_works_0 : decode mi_X17_works.2.1 0 = .ok (.iconst 0, 1) := by decide +kernel
theorem dX17_works_1 : decode mi_X17_works.2.1 1 = .ok (.istore_n 3, 1) := by decide +kernel
theorem dX17_works_2 : decode mi_X17_works.2.1 2 = .ok (.iload_n 3, 1) := by decide +kernel
theorem dX17_works_3 : decode mi_X17_works.2.1 3 = .ok (.iload_n 2, 1) := by decide +kernel
theorem dX17_works_4 : decode mi_X17_works.2.1 4 = .ok (.if_icmp .gt 44, 3) := by decide +kernel
theorem dX17_works_7 : decode mi_X17_works.2.1 7 = .ok (.aload_n 1, 1) := by decide +kernel
theorem dX17_works_8 : decode mi_X17_works.2.1 8 = .ok (.getfield 25, 3) := by decide +kernel
theorem dX17_works_11 : decode mi_X17_works.2.1 11 = .ok (.iload_n 3, 1) := by decide +kernel
theorem dX17_works_12 : decode mi_X17_works.2.1 12 = .ok (.iconst 0, 1) := by decide +kernel
theorem dX17_works_13 : decode mi_X17_works.2.1 13 = .ok (.bastore, 1) := by decide +kernel
theorem dX17_works_14 : decode mi_X17_works.2.1 14 = .ok (.aload_n 1, 1) := by decide +kernel
theorem dX17_works_15 : decode mi_X17_works.2.1 15 = .ok (.getfield 31, 3) := by decide +kernel
theorem dX17_works_18 : decode mi_X17_works.2.1 18 = .ok (.iload_n 3, 1) := by decide +kernel
theorem dX17_works_19 : decode mi_X17_works.2.1 19 = .ok (.aload_n 0, 1) := by decide +kernel
theorem dX17_works_20 : decode mi_X17_works.2.1 20 = .ok (.getfield 17, 3) := by decide +kernel
theorem dX17_works_23 : decode mi_X17_works.2.1 23 = .ok (.iload_n 3, 1) := by decide +kernel
theorem dX17_works_24 : decode mi_X17_works.2.1 24 = .ok (.aaload, 1) := by decide +kernel
theorem dX17_works_25 : decode mi_X17_works.2.1 25 = .ok (.aload_n 1, 1) := by decide +kernel
theorem dX17_works_26 : decode mi_X17_works.2.1 26 = .ok (.invokevirtual 33, 3) := by decide +kernel
theorem dX17_works_29 : decode mi_X17_works.2.1 29 = .ok (.lastore, 1) := by decide +kernel
theorem dX17_works_30 : decode mi_X17_works.2.1 30 = .ok (.goto 12, 3) := by decide +kernel
theorem dX17_works_33 : decode mi_X17_works.2.1 33 = .ok (.astore 4, 2) := by decide +kernel
theorem dX17_works_35 : decode mi_X17_works.2.1 35 = .ok (.aload_n 1, 1) := by decide +kernel
theorem dX17_works_36 : decode mi_X17_works.2.1 36 = .ok (.getfield 25, 3) := by decide +kernel
theorem dX17_works_39 : decode mi_X17_works.2.1 39 = .ok (.iload_n 3, 1) := by decide +kernel
theorem dX17_works_40 : decode mi_X17_works.2.1 40 = .ok (.iconst 1, 1) := by decide +kernel
theorem dX17_works_41 : decode mi_X17_works.2.1 41 = .ok (.bastore, 1) := by decide +kernel
theorem dX17_works_42 : decode mi_X17_works.2.1 42 = .ok (.iinc 3 1, 3) := by decide +kernel
theorem dX17_works_45 : decode mi_X17_works.2.1 45 = .ok (.goto (-43), 3) := by decide +kernel
theorem dX17_works_48 : decode mi_X17_works.2.1 48 = .ok (.aload_n 1, 1) := by decide +kernel
theorem dX17_works_49 : decode mi_X17_works.2.1 49 = .ok (.getfield 25, 3) := by decide +kernel
theorem dX17_works_52 : decode mi_X17_works.2.1 52 = .ok (.iload_n 2, 1) := by decide +kernel
theorem dX17_works_53 : decode mi_X17_works.2.1 53 = .ok (.baload, 1) := by decide +kernel
theorem dX17_works_54 : decode mi_X17_works.2.1 54 = .ok (.ifCond .ne 7, 3) := by decide +kernel
theorem dX17_works_57 : decode mi_X17_works.2.1 57 = .ok (.iconst 1, 1) := by decide +kernel
theorem dX17_works_58 : decode mi_X17_works.2.1 58 = .ok (.goto 4, 3) := by decide +kernel
theorem dX17_works_61 : decode mi_X17_works.2.1 61 = .ok (.iconst 0, 1) := by decide +kernel
theorem dX17_works_62 : decode mi_X17_works.2.1 62 = .ok (.ireturn, 1) := by decide +kernel
theorem v_X17_works {G : ma_G} {d : Nat} {a0 : Nat} {a1 : Nat} {x2 : Int32} {h : ah_T} {Q : Option ma_V → ah_T → Prop} {E : Nat → ah_T → Prop} (La0_h : LY17 h a0) (La1_h : LY6 h a1) (H : MX G mi_X17_works (d + 1) 2 [some (rv a0), some (rv a1), some (iv x2), some (iv (0 : Int32)), none] [] h Q E) : MX G mi_X17_works (d + 1) 0 [some (rv a0), some (rv a1), some (iv x2), none, none] [] h Q E := by
  refine mx_iconst dX17_works_0 ic_0 ?_
  refine mx_istore_n (al' := [some (rv a0), some (rv a1), some (iv x2), some (iv (0 : Int32)), none]) dX17_works_1 rfl (Nat.le_of_ble_eq_true rfl) rfl ?_
  exact mx_weak (al' := [some (rv a0), some (rv a1), some (iv x2), some (iv (0 : Int32)), none]) ⟨rfl, ⟨rfl, ⟨rfl, ⟨rfl, trivial⟩⟩⟩⟩ H
theorem v_X17_works_2 {G : ma_G} {d : Nat} {a0 : Nat} {a1 : Nat} {x2 : Int32} {x3 : Int32} {h : ah_T} {Q : Option ma_V → ah_T → Prop} {E : Nat → ah_T → Prop} (La0_h : LY17 h a0) (La1_h : LY6 h a1) (H : (x2 < x3 → vp_in x2 10 ∧ (¬ (ah_I h (a1 + 3) x2.toNatClampNeg) = 0 → Q (some (iv (0 : Int32))) h) ∧ ((ah_I h (a1 + 3) x2.toNatClampNeg) = 0 → Q (some (iv (1 : Int32))) h)) ∧ (¬ x2 < x3 → vp_in x3 10 ∧ ∀ h5 : ah_T, h5 = ah_wI h (a1 + 3) x3.toNatClampNeg (vp_nar .boolean (0 : Int32)) → ah_ext h h5 → ma_ks h (ah_R h (a0 + 2) x3.toNatClampNeg) [16, 17, 18, 19] ∧ MX G (vm_value (ah_kd h5 (ah_R h (a0 + 2) x3.toNatClampNeg))) d 0 (al_ent (vm_value (ah_kd h5 (ah_R h (a0 + 2) x3.toNatClampNeg))).2.2.1 [rv (ah_R h (a0 + 2) x3.toNatClampNeg), rv a1]) [] h5 (Ql fun r8 h7 => ah_ext h5 h7 → ∀ h10 : ah_T, h10 = ah_wJ h7 (a1 + 2) x3.toNatClampNeg r8 → ah_ext h7 h10 → MX G mi_X17_works (d + 1) 2 [some (rv a0), some (rv a1), some (iv x2), some (iv (x3 + (1 : Int32))), none] [] h10 Q E) (fun x h' => ah_ext h5 h' → ah_kd h' x = 5 ∧ MX G mi_X17_works (d + 1) 33 [some (rv a0), some (rv a1), some (iv x2), some (iv x3), none] [rv x] h' Q E))) : MX G mi_X17_works (d + 1) 2 [some (rv a0), some (rv a1), some (iv x2), some (iv x3), none] [] h Q E := by
  refine mx_iload_n dX17_works_2 rfl rfl ?_
  refine mx_iload_n dX17_works_3 rfl rfl ?_
  refine mx_icmp_gt (tgt := 48) dX17_works_4 rfl (fun c1 => ?_) (fun c1 => ?_)
  · have H := H.1 c1
    refine mx_aload_n dX17_works_48 rfl rfl ?_
    refine mx_get 6 2 (ref := "PrairiePool$Asked") cl_6 (Nat.le_of_ble_eq_true rfl) (Or.inr ⟨_, q428⟩) (Or.inl rfl) dX17_works_49 (fv_6_2 _ _) (ly6_k La1_h) ?_
    refine mx_tr (ly6_R_0_2 La1_h) ?_
    refine mx_iload_n dX17_works_52 rfl rfl ?_
    obtain ⟨k2, H⟩ := H
    refine my_zald dX17_works_53 rfl (ly6_A_3 La1_h k2) ?_
    refine mx_if_ne (tgt := 61) dX17_works_54 rfl (fun c3 => ?_) (fun c3 => ?_)
    · have H := H.1 c3
      refine mx_iconst dX17_works_61 ic_0 ?_
      exact mx_zret rfl dX17_works_62 (Or.inl rfl) H
    · have H := H.2 c3
      refine mx_iconst dX17_works_57 ic_1 ?_
      refine mx_goto (tgt := 62) dX17_works_58 rfl ?_
      exact mx_zret rfl dX17_works_62 (Or.inr rfl) H
  · have H := H.2 c1
    refine mx_aload_n dX17_works_7 rfl rfl ?_
    refine mx_get 6 2 (ref := "PrairiePool$Asked") cl_6 (Nat.le_of_ble_eq_true rfl) (Or.inr ⟨_, q428⟩) (Or.inl rfl) dX17_works_8 (fv_6_2 _ _) (ly6_k La1_h) ?_
    refine mx_tr (ly6_R_0_2 La1_h) ?_
    refine mx_iload_n dX17_works_11 rfl rfl ?_
    refine mx_iconst dX17_works_12 ic_0 ?_
    obtain ⟨k4, H⟩ := H
    refine my_zast dX17_works_13 rfl (ly6_A_3 La1_h k4) ?_
    refine mx_nmI  (fun h5 eh5 Xh5 Kh5 Lh5 => ?_)
    have H := H h5 eh5 Xh5
    have La0_h5 := La0_h.ext Xh5
    have La1_h5 := La1_h.ext Xh5
    refine mx_aload_n dX17_works_14 rfl rfl ?_
    refine mx_get 6 1 (ref := "PrairiePool$Asked") cl_6 (Nat.le_of_ble_eq_true rfl) (Or.inr ⟨_, q424⟩) (Or.inl rfl) dX17_works_15 (fv_6_1 _ _) (ly6_k La1_h5) ?_
    refine mx_tr (ly6_R_0_1 La1_h5) ?_
    refine mx_iload_n dX17_works_18 rfl rfl ?_
    refine mx_aload_n dX17_works_19 rfl rfl ?_
    refine mx_get 15 1 (ref := "PrairiePool$Law") cl_15 (Nat.le_of_ble_eq_true rfl) (Or.inl q1191) (Or.inl rfl) dX17_works_20 (fv_15_1 _ _) (ly17_k La0_h5) ?_
    refine mx_tr (ly17_R_0_1 La0_h5) ?_
    refine mx_iload_n dX17_works_23 rfl rfl ?_
    refine my_aald 10 dX17_works_24 (by decide) rfl (ly17_A_2 La0_h5 k4) ?_
    refine mx_tr (ah_RI eh5) ?_
    refine mx_aload_n dX17_works_25 rfl rfl ?_
    obtain ⟨k6, H⟩ := H
    refine mx_callP [16, 17, 18, 19] vm_value (vs := [rv a1]) (st := [iv x3, rv (a1 + 2)]) pu_value rfl rfl rfl (Nat.le_of_ble_eq_true rfl) (Or.inl q1028) dX17_works_26 rfl (ma_ksk Kh5 (k6)) ?_
    refine ma_kl H (fun r8 h7 Xh7 H => ?_) (fun x1 h1 X1 H => mt_catch rfl (Nat.le_of_ble_eq_true rfl) (Nat.le_of_ble_eq_true rfl) (by decide) q1027 (Or.inl ⟨4, _, _, cl_4, (H X1).1⟩) (Or.inl ⟨rfl, _, q376⟩) (mx_weak (al' := [some (rv a0), some (rv a1), some (iv x2), some (iv x3), none]) ⟨rfl, ⟨rfl, ⟨rfl, ⟨rfl, trivial⟩⟩⟩⟩ (H X1).2))
    have H := H Xh7
    have k9 := ma_ksx Xh7 ((ma_ksk Kh5 (k6)))
    have La0_h7 := La0_h5.ext Xh7
    have La1_h7 := La1_h5.ext Xh7
    refine my_last dX17_works_29 rfl (ly6_A_2 La1_h7 k4) ?_
    refine mx_nmJ  (fun h10 eh10 Xh10 Kh10 Lh10 => ?_)
    have H := H h10 eh10 Xh10
    have La0_h10 := La0_h7.ext Xh10
    have La1_h10 := La1_h7.ext Xh10
    refine mx_goto (tgt := 42) dX17_works_30 rfl ?_
    refine mx_iinc (al' := [some (rv a0), some (rv a1), some (iv x2), some (iv (x3 + (1 : Int32))), none]) dX17_works_42 rfl ic_1 rfl ?_
    refine mx_goto (tgt := 2) dX17_works_45 rfl ?_
    exact mx_weak (al' := [some (rv a0), some (rv a1), some (iv x2), some (iv (x3 + (1 : Int32))), none]) ⟨rfl, ⟨rfl, ⟨rfl, ⟨rfl, trivial⟩⟩⟩⟩ H
theorem v_X17_works_33 {G : ma_G} {d : Nat} {a0 : Nat} {a1 : Nat} {x2 : Int32} {x3 : Int32} {b0 : Nat} {h : ah_T} {Q : Option ma_V → ah_T → Prop} {E : Nat → ah_T → Prop} (La0_h : LY17 h a0) (La1_h : LY6 h a1) (H : vp_in x3 10 ∧ ∀ h2 : ah_T, h2 = ah_wI h (a1 + 3) x3.toNatClampNeg (vp_nar .boolean (1 : Int32)) → ah_ext h h2 → MX G mi_X17_works (d + 1) 2 [some (rv a0), some (rv a1), some (iv x2), some (iv (x3 + (1 : Int32))), none] [] h2 Q E) : MX G mi_X17_works (d + 1) 33 [some (rv a0), some (rv a1), some (iv x2), some (iv x3), none] [rv b0] h Q E := by
  refine mx_astore (al' := [some (rv a0), some (rv a1), some (iv x2), some (iv x3), some (rv b0)]) dX17_works_33 (Nat.le_of_ble_eq_true rfl) rfl ?_
  refine mx_aload_n dX17_works_35 rfl rfl ?_
  refine mx_get 6 2 (ref := "PrairiePool$Asked") cl_6 (Nat.le_of_ble_eq_true rfl) (Or.inr ⟨_, q428⟩) (Or.inl rfl) dX17_works_36 (fv_6_2 _ _) (ly6_k La1_h) ?_
  refine mx_tr (ly6_R_0_2 La1_h) ?_
  refine mx_iload_n dX17_works_39 rfl rfl ?_
  refine mx_iconst dX17_works_40 ic_1 ?_
  obtain ⟨k1, H⟩ := H
  refine my_zast dX17_works_41 rfl (ly6_A_3 La1_h k1) ?_
  refine mx_nmI  (fun h2 eh2 Xh2 Kh2 Lh2 => ?_)
  have H := H h2 eh2 Xh2
  have La0_h2 := La0_h.ext Xh2
  have La1_h2 := La1_h.ext Xh2
  refine mx_iinc (al' := [some (rv a0), some (rv a1), some (iv x2), some (iv (x3 + (1 : Int32))), some (rv b0)]) dX17_works_42 rfl ic_1 rfl ?_
  refine mx_goto (tgt := 2) dX17_works_45 rfl ?_
  exact mx_weak (al' := [some (rv a0), some (rv a1), some (iv x2), some (iv (x3 + (1 : Int32))), none]) ⟨rfl, ⟨rfl, ⟨rfl, ⟨rfl, trivial⟩⟩⟩⟩ H
theorem dX17_init_0 : decode mi_X17_init.2.1 0 = .ok (.aload_n 0, 1) := by decide +kernel
theorem dX17_init_1 : decode mi_X17_init.2.1 1 = .ok (.invokespecial 3, 3) := by decide +kernel
theorem dX17_init_4 : decode mi_X17_init.2.1 4 = .ok (.aload_n 0, 1) := by decide +kernel
theorem dX17_init_5 : decode mi_X17_init.2.1 5 = .ok (.bipush 10, 2) := by decide +kernel
theorem dX17_init_7 : decode mi_X17_init.2.1 7 = .ok (.newarray .long, 2) := by decide +kernel
theorem dX17_init_9 : decode mi_X17_init.2.1 9 = .ok (.putfield 9, 3) := by decide +kernel
theorem dX17_init_12 : decode mi_X17_init.2.1 12 = .ok (.aload_n 0, 1) := by decide +kernel
theorem dX17_init_13 : decode mi_X17_init.2.1 13 = .ok (.bipush 10, 2) := by decide +kernel
theorem dX17_init_15 : decode mi_X17_init.2.1 15 = .ok (.anewarray 15, 3) := by decide +kernel
theorem dX17_init_18 : decode mi_X17_init.2.1 18 = .ok (.putfield 17, 3) := by decide +kernel
theorem dX17_init_21 : decode mi_X17_init.2.1 21 = .ok (.return_, 1) := by decide +kernel
theorem v_X17_init {G : ma_G} {d : Nat} {a0 : Nat} {h : ah_T} {Q : Option ma_V → ah_T → Prop} {E : Nat → ah_T → Prop}  (H : ah_kd h a0 ≠ 0 ∧ (1 ≤ ah_rc h ∧ 10 ≤ ah_rs h) ∧ ∀ h3 : ah_T, h3 = ah_new h 41 10 10 → ah_ext h h3 → ah_liv h → ah_kd h3 a0 = 16 ∧ ah_R h3 a0 0 = 0 ∧ ∀ h7 : ah_T, h7 = ah_wR h3 a0 0 (ah_sz h) → ah_ext h3 h7 → (1 ≤ ah_rc h7 ∧ 10 ≤ ah_rs h7) ∧ ∀ h9 : ah_T, h9 = ah_new h7 50 10 10 → ah_ext h7 h9 → ah_liv h7 → ah_R h9 a0 1 = 0 ∧ ∀ h14 : ah_T, h14 = ah_wR h9 a0 1 (ah_sz h7) → ah_ext h9 h14 → Q none h14) : MX G mi_X17_init (d + 1) 0 [some (rv a0)] [] h Q E := by
  refine mx_aload_n dX17_init_0 rfl rfl ?_
  obtain ⟨k1, H⟩ := H
  refine mx_objInit q1186 qobj1 qobj2 dX17_init_1 (Nat.le_of_ble_eq_true rfl) k1 ?_
  refine mx_aload_n dX17_init_4 rfl rfl ?_
  refine mx_bipush dX17_init_5 ib_10 ?_
  obtain ⟨k2, H⟩ := H
  refine mx_newa 1 rfl (by decide) q206 dX17_init_7 cn_10 (by decide) k2.1 k2.2 (by decide) (fun x_ lv_ => ?_)
  refine mx_nmN x_ lv_ (fun h3 eh3 Xh3 lv_ => ?_)
  have H := H h3 eh3 Xh3 lv_
  have k4 : ah_kd h3 (ah_sz h) = 41 := by rw [eh3]; exact if_pos rfl
  obtain ⟨k5, H⟩ := H
  obtain ⟨k6, H⟩ := H
  refine mx_putA 15 0 (ref := "PrairiePool$Law") cl_15 (Nat.le_of_ble_eq_true rfl) (Or.inl q1189) (Or.inl rfl) dX17_init_9 (Or.inr ⟨rfl, rfl, rfl, q1189⟩) rfl (Or.inr k6) k5 ?_
  refine mx_nmR (ah_ext.wR (Or.inr (Or.inl k6))) (fun h7 eh7 Xh7 Kh7 Lh7 => ?_)
  have H := H h7 eh7 Xh7
  refine mx_aload_n dX17_init_12 rfl rfl ?_
  refine mx_bipush dX17_init_13 ib_10 ?_
  obtain ⟨k8, H⟩ := H
  refine mx_anew 10 (by decide) rfl q1187 q1188 dX17_init_15 cn_10 (by decide) k8.1 k8.2 (by decide) (fun x_ lv_ => ?_)
  refine mx_nmN x_ lv_ (fun h9 eh9 Xh9 lv_ => ?_)
  have H := H h9 eh9 Xh9 lv_
  have k10 := Xh9.kd ((ma_kde Kh7 (k4)))
  have k11 := Xh9.kd ((ma_kde Kh7 (k5)))
  have k12 : ah_kd h9 (ah_sz h7) = 50 := by rw [eh9]; exact if_pos rfl
  obtain ⟨k13, H⟩ := H
  refine mx_putA 15 1 (ref := "PrairiePool$Law") cl_15 (Nat.le_of_ble_eq_true rfl) (Or.inl q1191) (Or.inl rfl) dX17_init_18 (Or.inr ⟨rfl, rfl, rfl, q1191⟩) rfl (Or.inr k13) k11 ?_
  refine mx_nmR (ah_ext.wR (Or.inr (Or.inl k13))) (fun h14 eh14 Xh14 Kh14 Lh14 => ?_)
  have H := H h14 eh14 Xh14
  exact mx_vret rfl dX17_init_21 H
theorem dX18_init_0 : decode mi_X18_init.2.1 0 = .ok (.aload_n 0, 1) := by decide +kernel
theorem dX18_init_1 : decode mi_X18_init.2.1 1 = .ok (.invokespecial 1, 3) := by decide +kernel
theorem dX18_init_4 : decode mi_X18_init.2.1 4 = .ok (.return_, 1) := by decide +kernel
theorem v_X18_init {G : ma_G} {d : Nat} {a0 : Nat} {h : ah_T} {Q : Option ma_V → ah_T → Prop} {E : Nat → ah_T → Prop}  (H : ah_kd h a0 ≠ 0 ∧ Q none h) : MX G mi_X18_init (d + 1) 0 [some (rv a0)] [] h Q E := by
  refine mx_aload_n dX18_init_0 rfl rfl ?_
  obtain ⟨k1, H⟩ := H
  refine mx_objInit q1335 qobj1 qobj2 dX18_init_1 (Nat.le_of_ble_eq_true rfl) k1 ?_
  exact mx_vret rfl dX18_init_4 H
theorem dX19_value_0 : decode mi_X19_value.2.1 0 = .ok (.lconst 0, 1) := by decide +kernel
theorem dX19_value_1 : decode mi_X19_value.2.1 1 = .ok (.lstore_n 2, 1) := by decide +kernel
theorem dX19_value_2 : decode mi_X19_value.2.1 2 = .ok (.aload_n 0, 1) := by decide +kernel
theorem dX19_value_3 : decode mi_X19_value.2.1 3 = .ok (.getfield 7, 3) := by decide +kernel
theorem dX19_value_6 : decode mi_X19_value.2.1 6 = .ok (.astore 4, 2) := by decide +kernel
theorem dX19_value_8 : decode mi_X19_value.2.1 8 = .ok (.aload 4, 2) := by decide +kernel
theorem dX19_value_10 : decode mi_X19_value.2.1 10 = .ok (.ifnull 114, 3) := by decide +kernel
theorem dX19_value_13 : decode mi_X19_value.2.1 13 = .ok (.aload 4, 2) := by decide +kernel
theorem dX19_value_15 : decode mi_X19_value.2.1 15 = .ok (.aload_n 1, 1) := by decide +kernel
theorem dX19_value_16 : decode mi_X19_value.2.1 16 = .ok (.invokevirtual 23, 3) := by decide +kernel
theorem dX19_value_19 : decode mi_X19_value.2.1 19 = .ok (.lstore 5, 2) := by decide +kernel
theorem dX19_value_21 : decode mi_X19_value.2.1 21 = .ok (.aload 4, 2) := by decide +kernel
theorem dX19_value_23 : decode mi_X19_value.2.1 23 = .ok (.getfield 19, 3) := by decide +kernel
theorem dX19_value_26 : decode mi_X19_value.2.1 26 = .ok (.tableswitch 54 42 45 #[46, 30, 54, 38], 30) := by decide +kernel
theorem dX19_value_56 : decode mi_X19_value.2.1 56 = .ok (.lload_n 2, 1) := by decide +kernel
theorem dX19_value_57 : decode mi_X19_value.2.1 57 = .ok (.lload 5, 2) := by decide +kernel
theorem dX19_value_59 : decode mi_X19_value.2.1 59 = .ok (.ladd, 1) := by decide +kernel
theorem dX19_value_60 : decode mi_X19_value.2.1 60 = .ok (.lstore_n 2, 1) := by decide +kernel
theorem dX19_value_61 : decode mi_X19_value.2.1 61 = .ok (.goto 53, 3) := by decide +kernel
theorem dX19_value_64 : decode mi_X19_value.2.1 64 = .ok (.lload_n 2, 1) := by decide +kernel
theorem dX19_value_65 : decode mi_X19_value.2.1 65 = .ok (.lload 5, 2) := by decide +kernel
theorem dX19_value_67 : decode mi_X19_value.2.1 67 = .ok (.lsub, 1) := by decide +kernel
theorem dX19_value_68 : decode mi_X19_value.2.1 68 = .ok (.lstore_n 2, 1) := by decide +kernel
theorem dX19_value_69 : decode mi_X19_value.2.1 69 = .ok (.goto 45, 3) := by decide +kernel
theorem dX19_value_72 : decode mi_X19_value.2.1 72 = .ok (.lload_n 2, 1) := by decide +kernel
theorem dX19_value_73 : decode mi_X19_value.2.1 73 = .ok (.lload 5, 2) := by decide +kernel
theorem dX19_value_75 : decode mi_X19_value.2.1 75 = .ok (.lmul, 1) := by decide +kernel
theorem dX19_value_76 : decode mi_X19_value.2.1 76 = .ok (.lstore_n 2, 1) := by decide +kernel
theorem dX19_value_77 : decode mi_X19_value.2.1 77 = .ok (.goto 37, 3) := by decide +kernel
theorem dX19_value_80 : decode mi_X19_value.2.1 80 = .ok (.lload 5, 2) := by decide +kernel
theorem dX19_value_82 : decode mi_X19_value.2.1 82 = .ok (.lconst 0, 1) := by decide +kernel
theorem dX19_value_83 : decode mi_X19_value.2.1 83 = .ok (.lcmp, 1) := by decide +kernel
theorem dX19_value_84 : decode mi_X19_value.2.1 84 = .ok (.ifCond .ne 8, 3) := by decide +kernel
theorem dX19_value_87 : decode mi_X19_value.2.1 87 = .ok (.aload_n 1, 1) := by decide +kernel
theorem dX19_value_88 : decode mi_X19_value.2.1 88 = .ok (.getfield 27, 3) := by decide +kernel
theorem dX19_value_91 : decode mi_X19_value.2.1 91 = .ok (.athrow, 1) := by decide +kernel
theorem dX19_value_92 : decode mi_X19_value.2.1 92 = .ok (.aload 4, 2) := by decide +kernel
theorem dX19_value_94 : decode mi_X19_value.2.1 94 = .ok (.getfield 19, 3) := by decide +kernel
theorem dX19_value_97 : decode mi_X19_value.2.1 97 = .ok (.bipush 47, 2) := by decide +kernel
theorem dX19_value_99 : decode mi_X19_value.2.1 99 = .ok (.if_icmp .ne 10, 3) := by decide +kernel
theorem dX19_value_102 : decode mi_X19_value.2.1 102 = .ok (.lload_n 2, 1) := by decide +kernel
theorem dX19_value_103 : decode mi_X19_value.2.1 103 = .ok (.lload 5, 2) := by decide +kernel
theorem dX19_value_105 : decode mi_X19_value.2.1 105 = .ok (.ldiv, 1) := by decide +kernel
theorem dX19_value_106 : decode mi_X19_value.2.1 106 = .ok (.goto 7, 3) := by decide +kernel
theorem dX19_value_109 : decode mi_X19_value.2.1 109 = .ok (.lload_n 2, 1) := by decide +kernel
theorem dX19_value_110 : decode mi_X19_value.2.1 110 = .ok (.lload 5, 2) := by decide +kernel
theorem dX19_value_112 : decode mi_X19_value.2.1 112 = .ok (.lrem, 1) := by decide +kernel
theorem dX19_value_113 : decode mi_X19_value.2.1 113 = .ok (.lstore_n 2, 1) := by decide +kernel
theorem dX19_value_114 : decode mi_X19_value.2.1 114 = .ok (.aload 4, 2) := by decide +kernel
theorem dX19_value_116 : decode mi_X19_value.2.1 116 = .ok (.getfield 16, 3) := by decide +kernel
theorem dX19_value_119 : decode mi_X19_value.2.1 119 = .ok (.astore 4, 2) := by decide +kernel
theorem dX19_value_121 : decode mi_X19_value.2.1 121 = .ok (.goto (-113), 3) := by decide +kernel
theorem dX19_value_124 : decode mi_X19_value.2.1 124 = .ok (.lload_n 2, 1) := by decide +kernel
theorem dX19_value_125 : decode mi_X19_value.2.1 125 = .ok (.lreturn, 1) := by decide +kernel
theorem v_X19_value {G : ma_G} {d : Nat} {a0 : Nat} {a1 : Nat} {h : ah_T} {Q : Option ma_V → ah_T → Prop} {E : Nat → ah_T → Prop} (La1_h : LY6 h a1) (H : ah_kd h a0 = 17 ∧ MX G mi_X19_value (d + 1) 8 [none, some (rv a1), some (jv (0 : Int64)), none, some (rv (ah_R h a0 2)), none, none] [] h Q E) : MX G mi_X19_value (d + 1) 0 [some (rv a0), some (rv a1), none, none, none, none, none] [] h Q E := by
  refine mx_lconst dX19_value_0 lc_0 ?_
  refine mx_lstore_n (al' := [some (rv a0), some (rv a1), some (jv (0 : Int64)), none, none, none, none]) dX19_value_1 rfl (Nat.le_of_ble_eq_true rfl) rfl ?_
  refine mx_aload_n dX19_value_2 rfl rfl ?_
  obtain ⟨k1, H⟩ := H
  refine mx_get 16 2 (ref := "PrairiePool$Chain") cl_16 (Nat.le_of_ble_eq_true rfl) (Or.inl q1336) (Or.inl rfl) dX19_value_3 (fv_16_2 _ _) k1 ?_
  refine mx_astore (al' := [some (rv a0), some (rv a1), some (jv (0 : Int64)), none, some (rv (ah_R h a0 2)), none, none]) dX19_value_6 (Nat.le_of_ble_eq_true rfl) rfl ?_
  exact mx_weak (al' := [none, some (rv a1), some (jv (0 : Int64)), none, some (rv (ah_R h a0 2)), none, none]) ⟨rfl, ⟨rfl, ⟨rfl, trivial⟩⟩⟩ H
theorem v_X19_value_8 {G : ma_G} {d : Nat} {a1 : Nat} {x2 : Int64} {a4 : Nat} {h : ah_T} {Q : Option ma_V → ah_T → Prop} {E : Nat → ah_T → Prop} (La1_h : LY6 h a1) (H : (a4 = 0 → Q (some (jv x2)) h) ∧ (¬ a4 = 0 → ma_ks h a4 [16, 17, 18, 19] ∧ MX G (vm_value (ah_kd h a4)) d 0 (al_ent (vm_value (ah_kd h a4)).2.2.1 [rv a4, rv a1]) [] h (Ql fun r4 h3 => ah_ext h h3 → ((ah_I h3 a4 1) = (42 : Int32) → MX G mi_X19_value (d + 1) 8 [none, some (rv a1), some (jv (x2 * r4)), none, some (rv (ah_R h3 a4 0)), none, none] [] h3 Q E) ∧ (¬ (ah_I h3 a4 1) = (42 : Int32) → ((ah_I h3 a4 1) = (43 : Int32) → MX G mi_X19_value (d + 1) 8 [none, some (rv a1), some (jv (x2 + r4)), none, some (rv (ah_R h3 a4 0)), none, none] [] h3 Q E) ∧ (¬ (ah_I h3 a4 1) = (43 : Int32) → ((ah_I h3 a4 1) = (44 : Int32) → (¬ r4 = (0 : Int64) → (¬ (ah_I h3 a4 1) = (47 : Int32) → ¬ r4 = 0 ∧ MX G mi_X19_value (d + 1) 8 [none, some (rv a1), some (jv (x2 - x2 / r4 * r4)), none, some (rv (ah_R h3 a4 0)), none, none] [] h3 Q E) ∧ ((ah_I h3 a4 1) = (47 : Int32) → ¬ r4 = 0 ∧ MX G mi_X19_value (d + 1) 8 [none, some (rv a1), some (jv (x2 / r4)), none, some (rv (ah_R h3 a4 0)), none, none] [] h3 Q E)) ∧ (r4 = (0 : Int64) → ah_kd h3 (ah_R h3 a1 3) = 5 ∧ E (ah_R h3 a1 3) h3)) ∧ (¬ (ah_I h3 a4 1) = (44 : Int32) → ((ah_I h3 a4 1) = (45 : Int32) → MX G mi_X19_value (d + 1) 8 [none, some (rv a1), some (jv (x2 - r4)), none, some (rv (ah_R h3 a4 0)), none, none] [] h3 Q E) ∧ (¬ (ah_I h3 a4 1) = (45 : Int32) → (¬ r4 = (0 : Int64) → (¬ (ah_I h3 a4 1) = (47 : Int32) → ¬ r4 = 0 ∧ MX G mi_X19_value (d + 1) 8 [none, some (rv a1), some (jv (x2 - x2 / r4 * r4)), none, some (rv (ah_R h3 a4 0)), none, none] [] h3 Q E) ∧ ((ah_I h3 a4 1) = (47 : Int32) → ¬ r4 = 0 ∧ MX G mi_X19_value (d + 1) 8 [none, some (rv a1), some (jv (x2 / r4)), none, some (rv (ah_R h3 a4 0)), none, none] [] h3 Q E)) ∧ (r4 = (0 : Int64) → ah_kd h3 (ah_R h3 a1 3) = 5 ∧ E (ah_R h3 a1 3) h3)))))) E)) : MX G mi_X19_value (d + 1) 8 [none, some (rv a1), some (jv x2), none, some (rv a4), none, none] [] h Q E := by
  refine mx_aload dX19_value_8 rfl ?_
  refine mx_ifnull (tgt := 124) dX19_value_10 rfl (fun c1 => ?_) (fun c1 => ?_)
  · have H := H.1 c1
    refine mx_lload_n dX19_value_124 rfl rfl ?_
    exact mx_lret rfl dX19_value_125 H
  · have H := H.2 c1
    refine mx_aload dX19_value_13 rfl ?_
    refine mx_aload_n dX19_value_15 rfl rfl ?_
    obtain ⟨k2, H⟩ := H
    refine mx_callP [16, 17, 18, 19] vm_value (vs := [rv a1]) (st := []) pu_value rfl rfl rfl (Nat.le_of_ble_eq_true rfl) (Or.inl q1034) dX19_value_16 rfl k2 ?_
    refine ma_kl H (fun r4 h3 Xh3 H => ?_) (fun x1 h1 X1 H => mt_out rfl H)
    have H := H Xh3
    have k5 := ma_ksx Xh3 (k2)
    have La1_h3 := La1_h.ext Xh3
    refine mx_lstore (al' := [none, some (rv a1), some (jv x2), none, some (rv a4), some (jv r4), none]) dX19_value_19 (Nat.le_of_ble_eq_true rfl) rfl ?_
    refine mx_aload dX19_value_21 rfl ?_
    refine mx_getP [16, 17, 18, 19] 1 (ref := "PrairiePool$Term") (v := iv (ah_I _ _ 1)) fa_tm_1 (Or.inr ⟨_, q1339⟩) (Or.inl rfl) dX19_value_23 rfl k5 ?_
    by_cases c6 : (ah_I h3 a4 1) = (42 : Int32)
    · have H := H.1 c6
      refine mx_tabI 0 (tg := 72) (v := (42 : Int32)) dX19_value_26 rfl rfl rfl (by decide) c6 ?_
      refine mx_lload_n dX19_value_72 rfl rfl ?_
      refine mx_lload dX19_value_73 rfl ?_
      refine mx_lmul dX19_value_75 ?_
      refine mx_lstore_n (al' := [none, some (rv a1), some (jv (x2 * r4)), none, some (rv a4), some (jv r4), none]) dX19_value_76 rfl (Nat.le_of_ble_eq_true rfl) rfl ?_
      refine mx_goto (tgt := 114) dX19_value_77 rfl ?_
      refine mx_aload dX19_value_114 rfl ?_
      refine mx_getP [16, 17, 18, 19] 0 (ref := "PrairiePool$Term") (v := rv (ah_R _ _ 0)) fa_tm_0 (Or.inr ⟨_, q1338⟩) (Or.inl rfl) dX19_value_116 rfl k5 ?_
      refine mx_astore (al' := [none, some (rv a1), some (jv (x2 * r4)), none, some (rv (ah_R h3 a4 0)), some (jv r4), none]) dX19_value_119 (Nat.le_of_ble_eq_true rfl) rfl ?_
      refine mx_goto (tgt := 8) dX19_value_121 rfl ?_
      exact mx_weak (al' := [none, some (rv a1), some (jv (x2 * r4)), none, some (rv (ah_R h3 a4 0)), none, none]) ⟨rfl, ⟨rfl, ⟨rfl, trivial⟩⟩⟩ H
    have H := H.2 c6
    by_cases c7 : (ah_I h3 a4 1) = (43 : Int32)
    · have H := H.1 c7
      refine mx_tabI 1 (tg := 56) (v := (43 : Int32)) dX19_value_26 rfl rfl rfl (by decide) c7 ?_
      refine mx_lload_n dX19_value_56 rfl rfl ?_
      refine mx_lload dX19_value_57 rfl ?_
      refine mx_ladd dX19_value_59 ?_
      refine mx_lstore_n (al' := [none, some (rv a1), some (jv (x2 + r4)), none, some (rv a4), some (jv r4), none]) dX19_value_60 rfl (Nat.le_of_ble_eq_true rfl) rfl ?_
      refine mx_goto (tgt := 114) dX19_value_61 rfl ?_
      refine mx_aload dX19_value_114 rfl ?_
      refine mx_getP [16, 17, 18, 19] 0 (ref := "PrairiePool$Term") (v := rv (ah_R _ _ 0)) fa_tm_0 (Or.inr ⟨_, q1338⟩) (Or.inl rfl) dX19_value_116 rfl k5 ?_
      refine mx_astore (al' := [none, some (rv a1), some (jv (x2 + r4)), none, some (rv (ah_R h3 a4 0)), some (jv r4), none]) dX19_value_119 (Nat.le_of_ble_eq_true rfl) rfl ?_
      refine mx_goto (tgt := 8) dX19_value_121 rfl ?_
      exact mx_weak (al' := [none, some (rv a1), some (jv (x2 + r4)), none, some (rv (ah_R h3 a4 0)), none, none]) ⟨rfl, ⟨rfl, ⟨rfl, trivial⟩⟩⟩ H
    have H := H.2 c7
    by_cases c8 : (ah_I h3 a4 1) = (44 : Int32)
    · have H := H.1 c8
      refine mx_tabI 2 (tg := 80) (v := (44 : Int32)) dX19_value_26 rfl rfl rfl (by decide) c8 ?_
      refine mx_lload dX19_value_80 rfl ?_
      refine mx_lconst dX19_value_82 lc_0 ?_
      refine mx_lif_ne (tgt := 92) dX19_value_83 dX19_value_84 rfl (fun c9 => ?_) (fun c9 => ?_)
      · have H := H.1 c9
        refine mx_aload dX19_value_92 rfl ?_
        refine mx_getP [16, 17, 18, 19] 1 (ref := "PrairiePool$Term") (v := iv (ah_I _ _ 1)) fa_tm_1 (Or.inr ⟨_, q1339⟩) (Or.inl rfl) dX19_value_94 rfl k5 ?_
        refine mx_bipush dX19_value_97 ib_47 ?_
        refine mx_icmp_ne (tgt := 109) dX19_value_99 rfl (fun c10 => ?_) (fun c10 => ?_)
        · have H := H.1 c10
          refine mx_lload_n dX19_value_109 rfl rfl ?_
          refine mx_lload dX19_value_110 rfl ?_
          obtain ⟨k11, H⟩ := H
          refine mx_lrem dX19_value_112 k11 ?_
          refine mx_lstore_n (al' := [none, some (rv a1), some (jv (x2 - x2 / r4 * r4)), none, some (rv a4), some (jv r4), none]) dX19_value_113 rfl (Nat.le_of_ble_eq_true rfl) rfl ?_
          refine mx_aload dX19_value_114 rfl ?_
          refine mx_getP [16, 17, 18, 19] 0 (ref := "PrairiePool$Term") (v := rv (ah_R _ _ 0)) fa_tm_0 (Or.inr ⟨_, q1338⟩) (Or.inl rfl) dX19_value_116 rfl k5 ?_
          refine mx_astore (al' := [none, some (rv a1), some (jv (x2 - x2 / r4 * r4)), none, some (rv (ah_R h3 a4 0)), some (jv r4), none]) dX19_value_119 (Nat.le_of_ble_eq_true rfl) rfl ?_
          refine mx_goto (tgt := 8) dX19_value_121 rfl ?_
          exact mx_weak (al' := [none, some (rv a1), some (jv (x2 - x2 / r4 * r4)), none, some (rv (ah_R h3 a4 0)), none, none]) ⟨rfl, ⟨rfl, ⟨rfl, trivial⟩⟩⟩ H
        · have H := H.2 c10
          refine mx_lload_n dX19_value_102 rfl rfl ?_
          refine mx_lload dX19_value_103 rfl ?_
          obtain ⟨k12, H⟩ := H
          refine mx_ldiv dX19_value_105 k12 ?_
          refine mx_goto (tgt := 113) dX19_value_106 rfl ?_
          refine mx_lstore_n (al' := [none, some (rv a1), some (jv (x2 / r4)), none, some (rv a4), some (jv r4), none]) dX19_value_113 rfl (Nat.le_of_ble_eq_true rfl) rfl ?_
          refine mx_aload dX19_value_114 rfl ?_
          refine mx_getP [16, 17, 18, 19] 0 (ref := "PrairiePool$Term") (v := rv (ah_R _ _ 0)) fa_tm_0 (Or.inr ⟨_, q1338⟩) (Or.inl rfl) dX19_value_116 rfl k5 ?_
          refine mx_astore (al' := [none, some (rv a1), some (jv (x2 / r4)), none, some (rv (ah_R h3 a4 0)), some (jv r4), none]) dX19_value_119 (Nat.le_of_ble_eq_true rfl) rfl ?_
          refine mx_goto (tgt := 8) dX19_value_121 rfl ?_
          exact mx_weak (al' := [none, some (rv a1), some (jv (x2 / r4)), none, some (rv (ah_R h3 a4 0)), none, none]) ⟨rfl, ⟨rfl, ⟨rfl, trivial⟩⟩⟩ H
      · have H := H.2 c9
        refine mx_aload_n dX19_value_87 rfl rfl ?_
        refine mx_get 6 3 (ref := "PrairiePool$Asked") cl_6 (Nat.le_of_ble_eq_true rfl) (Or.inr ⟨_, q431⟩) (Or.inl rfl) dX19_value_88 (fv_6_3 _ _) (ly6_k La1_h3) ?_
        obtain ⟨k13, H⟩ := H
        exact mx_athrow dX19_value_91 (by rw [k13]; decide) (mt_out rfl H)
    have H := H.2 c8
    by_cases c14 : (ah_I h3 a4 1) = (45 : Int32)
    · have H := H.1 c14
      refine mx_tabI 3 (tg := 64) (v := (45 : Int32)) dX19_value_26 rfl rfl rfl (by decide) c14 ?_
      refine mx_lload_n dX19_value_64 rfl rfl ?_
      refine mx_lload dX19_value_65 rfl ?_
      refine mx_lsub dX19_value_67 ?_
      refine mx_lstore_n (al' := [none, some (rv a1), some (jv (x2 - r4)), none, some (rv a4), some (jv r4), none]) dX19_value_68 rfl (Nat.le_of_ble_eq_true rfl) rfl ?_
      refine mx_goto (tgt := 114) dX19_value_69 rfl ?_
      refine mx_aload dX19_value_114 rfl ?_
      refine mx_getP [16, 17, 18, 19] 0 (ref := "PrairiePool$Term") (v := rv (ah_R _ _ 0)) fa_tm_0 (Or.inr ⟨_, q1338⟩) (Or.inl rfl) dX19_value_116 rfl k5 ?_
      refine mx_astore (al' := [none, some (rv a1), some (jv (x2 - r4)), none, some (rv (ah_R h3 a4 0)), some (jv r4), none]) dX19_value_119 (Nat.le_of_ble_eq_true rfl) rfl ?_
      refine mx_goto (tgt := 8) dX19_value_121 rfl ?_
      exact mx_weak (al' := [none, some (rv a1), some (jv (x2 - r4)), none, some (rv (ah_R h3 a4 0)), none, none]) ⟨rfl, ⟨rfl, ⟨rfl, trivial⟩⟩⟩ H
    have H := H.2 c14
    refine mx_tabO (tgt := 80) dX19_value_26 rfl (fun k hk => ?_) ?_
    · rcases (show k = 0 ∨ k = 1 ∨ k = 2 ∨ k = 3 by omega) with rfl | rfl | rfl | rfl
      · exact tab_ne c6 rfl
      · exact tab_ne c7 rfl
      · exact tab_ne c8 rfl
      · exact tab_ne c14 rfl
    refine mx_lload dX19_value_80 rfl ?_
    refine mx_lconst dX19_value_82 lc_0 ?_
    refine mx_lif_ne (tgt := 92) dX19_value_83 dX19_value_84 rfl (fun c15 => ?_) (fun c15 => ?_)
    · have H := H.1 c15
      refine mx_aload dX19_value_92 rfl ?_
      refine mx_getP [16, 17, 18, 19] 1 (ref := "PrairiePool$Term") (v := iv (ah_I _ _ 1)) fa_tm_1 (Or.inr ⟨_, q1339⟩) (Or.inl rfl) dX19_value_94 rfl k5 ?_
      refine mx_bipush dX19_value_97 ib_47 ?_
      refine mx_icmp_ne (tgt := 109) dX19_value_99 rfl (fun c16 => ?_) (fun c16 => ?_)
      · have H := H.1 c16
        refine mx_lload_n dX19_value_109 rfl rfl ?_
        refine mx_lload dX19_value_110 rfl ?_
        obtain ⟨k17, H⟩ := H
        refine mx_lrem dX19_value_112 k17 ?_
        refine mx_lstore_n (al' := [none, some (rv a1), some (jv (x2 - x2 / r4 * r4)), none, some (rv a4), some (jv r4), none]) dX19_value_113 rfl (Nat.le_of_ble_eq_true rfl) rfl ?_
        refine mx_aload dX19_value_114 rfl ?_
        refine mx_getP [16, 17, 18, 19] 0 (ref := "PrairiePool$Term") (v := rv (ah_R _ _ 0)) fa_tm_0 (Or.inr ⟨_, q1338⟩) (Or.inl rfl) dX19_value_116 rfl k5 ?_
        refine mx_astore (al' := [none, some (rv a1), some (jv (x2 - x2 / r4 * r4)), none, some (rv (ah_R h3 a4 0)), some (jv r4), none]) dX19_value_119 (Nat.le_of_ble_eq_true rfl) rfl ?_
        refine mx_goto (tgt := 8) dX19_value_121 rfl ?_
        exact mx_weak (al' := [none, some (rv a1), some (jv (x2 - x2 / r4 * r4)), none, some (rv (ah_R h3 a4 0)), none, none]) ⟨rfl, ⟨rfl, ⟨rfl, trivial⟩⟩⟩ H
      · have H := H.2 c16
        refine mx_lload_n dX19_value_102 rfl rfl ?_
        refine mx_lload dX19_value_103 rfl ?_
        obtain ⟨k18, H⟩ := H
        refine mx_ldiv dX19_value_105 k18 ?_
        refine mx_goto (tgt := 113) dX19_value_106 rfl ?_
        refine mx_lstore_n (al' := [none, some (rv a1), some (jv (x2 / r4)), none, some (rv a4), some (jv r4), none]) dX19_value_113 rfl (Nat.le_of_ble_eq_true rfl) rfl ?_
        refine mx_aload dX19_value_114 rfl ?_
        refine mx_getP [16, 17, 18, 19] 0 (ref := "PrairiePool$Term") (v := rv (ah_R _ _ 0)) fa_tm_0 (Or.inr ⟨_, q1338⟩) (Or.inl rfl) dX19_value_116 rfl k5 ?_
        refine mx_astore (al' := [none, some (rv a1), some (jv (x2 / r4)), none, some (rv (ah_R h3 a4 0)), some (jv r4), none]) dX19_value_119 (Nat.le_of_ble_eq_true rfl) rfl ?_
        refine mx_goto (tgt := 8) dX19_value_121 rfl ?_
        exact mx_weak (al' := [none, some (rv a1), some (jv (x2 / r4)), none, some (rv (ah_R h3 a4 0)), none, none]) ⟨rfl, ⟨rfl, ⟨rfl, trivial⟩⟩⟩ H
    · have H := H.2 c15
      refine mx_aload_n dX19_value_87 rfl rfl ?_
      refine mx_get 6 3 (ref := "PrairiePool$Asked") cl_6 (Nat.le_of_ble_eq_true rfl) (Or.inr ⟨_, q431⟩) (Or.inl rfl) dX19_value_88 (fv_6_3 _ _) (ly6_k La1_h3) ?_
      obtain ⟨k19, H⟩ := H
      exact mx_athrow dX19_value_91 (by rw [k19]; decide) (mt_out rfl H)
theorem dX19_init_0 : decode mi_X19_init.2.1 0 = .ok (.aload_n 0, 1) := by decide +kernel
theorem dX19_init_1 : decode mi_X19_init.2.1 1 = .ok (.invokespecial 1, 3) := by decide +kernel
theorem dX19_init_4 : decode mi_X19_init.2.1 4 = .ok (.return_, 1) := by decide +kernel
theorem v_X19_init {G : ma_G} {d : Nat} {a0 : Nat} {h : ah_T} {Q : Option ma_V → ah_T → Prop} {E : Nat → ah_T → Prop}  (H : ah_kd h a0 ≠ 0 ∧ MX G mi_X18_init d 0 [some (rv a0)] [] h (Qv fun h2 => ah_ext h h2 → Q none h2) E) : MX G mi_X19_init (d + 1) 0 [some (rv a0)] [] h Q E := by
  refine mx_aload_n dX19_init_0 rfl rfl ?_
  obtain ⟨k1, H⟩ := H
  refine mx_callI (y' := mi_X18_init) (vs := []) (st := []) (al' := [some (rv a0)]) I_X18_init (Or.inr ⟨_, q1332⟩) dX19_init_1 rfl rfl (Nat.le_of_ble_eq_true rfl) (Nat.le_of_ble_eq_true rfl) k1 ?_
  refine ma_kv H (fun h2 Xh2 H => ?_) (fun x1 h1 X1 H => mt_out rfl H)
  have H := H Xh2
  exact mx_vret rfl dX19_init_4 H
theorem dX19_add_0 : decode mi_X19_add.2.1 0 = .ok (.aload_n 0, 1) := by decide +kernel
theorem dX19_add_1 : decode mi_X19_add.2.1 1 = .ok (.getfield 7, 3) := by decide +kernel
theorem dX19_add_4 : decode mi_X19_add.2.1 4 = .ok (.ifnonnull 11, 3) := by decide +kernel
theorem dX19_add_7 : decode mi_X19_add.2.1 7 = .ok (.aload_n 0, 1) := by decide +kernel
theorem dX19_add_8 : decode mi_X19_add.2.1 8 = .ok (.aload_n 2, 1) := by decide +kernel
theorem dX19_add_9 : decode mi_X19_add.2.1 9 = .ok (.putfield 7, 3) := by decide +kernel
theorem dX19_add_12 : decode mi_X19_add.2.1 12 = .ok (.goto 11, 3) := by decide +kernel
theorem dX19_add_15 : decode mi_X19_add.2.1 15 = .ok (.aload_n 0, 1) := by decide +kernel
theorem dX19_add_16 : decode mi_X19_add.2.1 16 = .ok (.getfield 13, 3) := by decide +kernel
theorem dX19_add_19 : decode mi_X19_add.2.1 19 = .ok (.aload_n 2, 1) := by decide +kernel
theorem dX19_add_20 : decode mi_X19_add.2.1 20 = .ok (.putfield 16, 3) := by decide +kernel
theorem dX19_add_23 : decode mi_X19_add.2.1 23 = .ok (.aload_n 0, 1) := by decide +kernel
theorem dX19_add_24 : decode mi_X19_add.2.1 24 = .ok (.aload_n 2, 1) := by decide +kernel
theorem dX19_add_25 : decode mi_X19_add.2.1 25 = .ok (.putfield 13, 3) := by decide +kernel
theorem dX19_add_28 : decode mi_X19_add.2.1 28 = .ok (.aload_n 2, 1) := by decide +kernel
theorem dX19_add_29 : decode mi_X19_add.2.1 29 = .ok (.iload_n 1, 1) := by decide +kernel
theorem dX19_add_30 : decode mi_X19_add.2.1 30 = .ok (.putfield 19, 3) := by decide +kernel
theorem dX19_add_33 : decode mi_X19_add.2.1 33 = .ok (.return_, 1) := by decide +kernel
theorem v_X19_add {G : ma_G} {d : Nat} {a0 : Nat} {x1 : Int32} {a2 : Nat} {h : ah_T} {Q : Option ma_V → ah_T → Prop} {E : Nat → ah_T → Prop}  (H : ah_kd h a0 = 17 ∧ (¬ (ah_R h a0 2) = 0 → ma_ks h (ah_R h a0 3) [16, 17, 18, 19] ∧ ah_R h (ah_R h a0 3) 0 = 0 ∧ ∀ h5 : ah_T, h5 = ah_wR h (ah_R h a0 3) 0 a2 → ah_ext h h5 → ∀ h6 : ah_T, h6 = ah_wR h5 a0 3 a2 → ah_ext h5 h6 → ma_ks h a2 [16, 17, 18, 19] ∧ ∀ h8 : ah_T, h8 = ah_wI h6 a2 1 x1 → ah_ext h6 h8 → Q none h8) ∧ ((ah_R h a0 2) = 0 → ah_R h a0 2 = 0 ∧ ∀ h10 : ah_T, h10 = ah_wR h a0 2 a2 → ah_ext h h10 → ∀ h11 : ah_T, h11 = ah_wR h10 a0 3 a2 → ah_ext h10 h11 → ma_ks h a2 [16, 17, 18, 19] ∧ ∀ h13 : ah_T, h13 = ah_wI h11 a2 1 x1 → ah_ext h11 h13 → Q none h13)) : MX G mi_X19_add d 0 [some (rv a0), some (iv x1), some (rv a2)] [] h Q E := by
  refine mx_aload_n dX19_add_0 rfl rfl ?_
  obtain ⟨k1, H⟩ := H
  refine mx_get 16 2 (ref := "PrairiePool$Chain") cl_16 (Nat.le_of_ble_eq_true rfl) (Or.inl q1336) (Or.inl rfl) dX19_add_1 (fv_16_2 _ _) k1 ?_
  refine mx_ifnonnull (tgt := 15) dX19_add_4 rfl (fun c2 => ?_) (fun c2 => ?_)
  · have H := H.1 c2
    refine mx_aload_n dX19_add_15 rfl rfl ?_
    refine mx_get 16 3 (ref := "PrairiePool$Chain") cl_16 (Nat.le_of_ble_eq_true rfl) (Or.inl q1337) (Or.inl rfl) dX19_add_16 (fv_16_3 _ _) k1 ?_
    refine mx_aload_n dX19_add_19 rfl rfl ?_
    obtain ⟨k3, H⟩ := H
    obtain ⟨k4, H⟩ := H
    refine mx_putOP [16, 17, 18, 19] 0 (ref := "PrairiePool$Term") fa_tm_0 (Or.inr ⟨_, q1338⟩) (Or.inl rfl) dX19_add_20 (Or.inl rfl) k4 k3 ?_
    refine mx_nmR (ah_ext.wR (Or.inr (Or.inl k4))) (fun h5 eh5 Xh5 Kh5 Lh5 => ?_)
    have H := H h5 eh5 Xh5
    refine mx_aload_n dX19_add_23 rfl rfl ?_
    refine mx_aload_n dX19_add_24 rfl rfl ?_
    refine mx_putO 16 3 (ref := "PrairiePool$Chain") cl_16 (Nat.le_of_ble_eq_true rfl) (Or.inl q1337) (Or.inl rfl) dX19_add_25 (Or.inl rfl) rfl (Or.inl rfl) (ma_kde Kh5 (k1)) ?_
    refine mx_nmR (ah_ext.wR (Or.inl (by rw [(ma_kde Kh5 (k1))]; rfl))) (fun h6 eh6 Xh6 Kh6 Lh6 => ?_)
    have H := H h6 eh6 Xh6
    have Kh6 := Kh6.trans Kh5
    have Lh6 := Lh6.trans Lh5
    refine mx_aload_n dX19_add_28 rfl rfl ?_
    refine mx_iload_n dX19_add_29 rfl rfl ?_
    obtain ⟨k7, H⟩ := H
    refine mx_putIP [16, 17, 18, 19] 1 (ref := "PrairiePool$Term") fa_tm_1 (Or.inr ⟨_, q1339⟩) (Or.inl rfl) dX19_add_30 (Or.inl rfl) (ma_ksk Kh6 (k7)) ?_
    refine mx_nmI  (fun h8 eh8 Xh8 Kh8 Lh8 => ?_)
    have H := H h8 eh8 Xh8
    have Kh8 := Kh8.trans Kh6
    have Lh8 := Lh8.trans Lh6
    exact mx_vret rfl dX19_add_33 H
  · have H := H.2 c2
    refine mx_aload_n dX19_add_7 rfl rfl ?_
    refine mx_aload_n dX19_add_8 rfl rfl ?_
    obtain ⟨k9, H⟩ := H
    refine mx_putO 16 2 (ref := "PrairiePool$Chain") cl_16 (Nat.le_of_ble_eq_true rfl) (Or.inl q1336) (Or.inl rfl) dX19_add_9 (Or.inl rfl) rfl (Or.inr k9) k1 ?_
    refine mx_nmR (ah_ext.wR (Or.inr (Or.inl k9))) (fun h10 eh10 Xh10 Kh10 Lh10 => ?_)
    have H := H h10 eh10 Xh10
    refine mx_goto (tgt := 23) dX19_add_12 rfl ?_
    refine mx_aload_n dX19_add_23 rfl rfl ?_
    refine mx_aload_n dX19_add_24 rfl rfl ?_
    refine mx_putO 16 3 (ref := "PrairiePool$Chain") cl_16 (Nat.le_of_ble_eq_true rfl) (Or.inl q1337) (Or.inl rfl) dX19_add_25 (Or.inl rfl) rfl (Or.inl rfl) (ma_kde Kh10 (k1)) ?_
    refine mx_nmR (ah_ext.wR (Or.inl (by rw [(ma_kde Kh10 (k1))]; rfl))) (fun h11 eh11 Xh11 Kh11 Lh11 => ?_)
    have H := H h11 eh11 Xh11
    have Kh11 := Kh11.trans Kh10
    have Lh11 := Lh11.trans Lh10
    refine mx_aload_n dX19_add_28 rfl rfl ?_
    refine mx_iload_n dX19_add_29 rfl rfl ?_
    obtain ⟨k12, H⟩ := H
    refine mx_putIP [16, 17, 18, 19] 1 (ref := "PrairiePool$Term") fa_tm_1 (Or.inr ⟨_, q1339⟩) (Or.inl rfl) dX19_add_30 (Or.inl rfl) (ma_ksk Kh11 (k12)) ?_
    refine mx_nmI  (fun h13 eh13 Xh13 Kh13 Lh13 => ?_)
    have H := H h13 eh13 Xh13
    have Kh13 := Kh13.trans Kh11
    have Lh13 := Lh13.trans Lh11
    exact mx_vret rfl dX19_add_33 H
theorem dX20_value_0 : decode mi_X20_value.2.1 0 = .ok (.aload_n 0, 1) := by decide +kernel
theorem dX20_value_1 : decode mi_X20_value.2.1 1 = .ok (.getfield 13, 3) := by decide +kernel
theorem dX20_value_4 : decode mi_X20_value.2.1 4 = .ok (.aload_n 1, 1) := by decide +kernel
theorem dX20_value_5 : decode mi_X20_value.2.1 5 = .ok (.invokevirtual 20, 3) := by decide +kernel
theorem dX20_value_8 : decode mi_X20_value.2.1 8 = .ok (.lstore_n 2, 1) := by decide +kernel
theorem dX20_value_9 : decode mi_X20_value.2.1 9 = .ok (.aload_n 0, 1) := by decide +kernel
theorem dX20_value_10 : decode mi_X20_value.2.1 10 = .ok (.getfield 17, 3) := by decide +kernel
theorem dX20_value_13 : decode mi_X20_value.2.1 13 = .ok (.aload_n 1, 1) := by decide +kernel
theorem dX20_value_14 : decode mi_X20_value.2.1 14 = .ok (.invokevirtual 20, 3) := by decide +kernel
theorem dX20_value_17 : decode mi_X20_value.2.1 17 = .ok (.lstore 4, 2) := by decide +kernel
theorem dX20_value_19 : decode mi_X20_value.2.1 19 = .ok (.aload_n 0, 1) := by decide +kernel
theorem dX20_value_20 : decode mi_X20_value.2.1 20 = .ok (.getfield 7, 3) := by decide +kernel
theorem dX20_value_23 : decode mi_X20_value.2.1 23 = .ok (.ifCond .eq 12, 3) := by decide +kernel
theorem dX20_value_26 : decode mi_X20_value.2.1 26 = .ok (.lload_n 2, 1) := by decide +kernel
theorem dX20_value_27 : decode mi_X20_value.2.1 27 = .ok (.lload 4, 2) := by decide +kernel
theorem dX20_value_29 : decode mi_X20_value.2.1 29 = .ok (.invokestatic 24, 3) := by decide +kernel
theorem dX20_value_32 : decode mi_X20_value.2.1 32 = .ok (.goto 9, 3) := by decide +kernel
theorem dX20_value_35 : decode mi_X20_value.2.1 35 = .ok (.lload_n 2, 1) := by decide +kernel
theorem dX20_value_36 : decode mi_X20_value.2.1 36 = .ok (.lload 4, 2) := by decide +kernel
theorem dX20_value_38 : decode mi_X20_value.2.1 38 = .ok (.invokestatic 30, 3) := by decide +kernel
theorem dX20_value_41 : decode mi_X20_value.2.1 41 = .ok (.lreturn, 1) := by decide +kernel
theorem v_X20_value {G : ma_G} {d : Nat} {a0 : Nat} {a1 : Nat} {h : ah_T} {Q : Option ma_V → ah_T → Prop} {E : Nat → ah_T → Prop} (La1_h : LY6 h a1) (H : ah_kd h a0 = 18 ∧ ma_ks h (ah_R h a0 3) [16, 17, 18, 19] ∧ MX G (vm_value (ah_kd h (ah_R h a0 3))) d 0 (al_ent (vm_value (ah_kd h (ah_R h a0 3))).2.2.1 [rv (ah_R h a0 3), rv a1]) [] h (Ql fun r4 h3 => ah_ext h h3 → ma_ks h3 (ah_R h3 a0 4) [16, 17, 18, 19] ∧ MX G (vm_value (ah_kd h3 (ah_R h3 a0 4))) d 0 (al_ent (vm_value (ah_kd h3 (ah_R h3 a0 4))).2.2.1 [rv (ah_R h3 a0 4), rv a1]) [] h3 (Ql fun r9 h8 => ah_ext h3 h8 → ((ah_I h8 a0 2) = 0 → Q (some (jv (jMin r4 r9))) h8) ∧ (¬ (ah_I h8 a0 2) = 0 → Q (some (jv (jMax r4 r9))) h8)) E) E) : MX G mi_X20_value (d + 1) 0 [some (rv a0), some (rv a1), none, none, none, none] [] h Q E := by
  refine mx_aload_n dX20_value_0 rfl rfl ?_
  obtain ⟨k1, H⟩ := H
  refine mx_get 17 3 (ref := "PrairiePool$Pick") cl_17 (Nat.le_of_ble_eq_true rfl) (Or.inl q1376) (Or.inl rfl) dX20_value_1 (fv_17_3 _ _) k1 ?_
  refine mx_aload_n dX20_value_4 rfl rfl ?_
  obtain ⟨k2, H⟩ := H
  refine mx_callP [16, 17, 18, 19] vm_value (vs := [rv a1]) (st := []) pu_value rfl rfl rfl (Nat.le_of_ble_eq_true rfl) (Or.inl q1052) dX20_value_5 rfl k2 ?_
  refine ma_kl H (fun r4 h3 Xh3 H => ?_) (fun x1 h1 X1 H => mt_out rfl H)
  have H := H Xh3
  have k5 := Xh3.kd (k1)
  have k6 := ma_ksx Xh3 (k2)
  have La1_h3 := La1_h.ext Xh3
  refine mx_lstore_n (al' := [some (rv a0), some (rv a1), some (jv r4), none, none, none]) dX20_value_8 rfl (Nat.le_of_ble_eq_true rfl) rfl ?_
  refine mx_aload_n dX20_value_9 rfl rfl ?_
  refine mx_get 17 4 (ref := "PrairiePool$Pick") cl_17 (Nat.le_of_ble_eq_true rfl) (Or.inl q1377) (Or.inl rfl) dX20_value_10 (fv_17_4 _ _) k5 ?_
  refine mx_aload_n dX20_value_13 rfl rfl ?_
  obtain ⟨k7, H⟩ := H
  refine mx_callP [16, 17, 18, 19] vm_value (vs := [rv a1]) (st := []) pu_value rfl rfl rfl (Nat.le_of_ble_eq_true rfl) (Or.inl q1052) dX20_value_14 rfl k7 ?_
  refine ma_kl H (fun r9 h8 Xh8 H => ?_) (fun x1 h1 X1 H => mt_out rfl H)
  have H := H Xh8
  have k10 := Xh8.kd (k5)
  have k11 := ma_ksx Xh8 (k6)
  have k12 := ma_ksx Xh8 (k7)
  have La1_h8 := La1_h3.ext Xh8
  refine mx_lstore (al' := [some (rv a0), some (rv a1), some (jv r4), none, some (jv r9), none]) dX20_value_17 (Nat.le_of_ble_eq_true rfl) rfl ?_
  refine mx_aload_n dX20_value_19 rfl rfl ?_
  refine mx_get 17 2 (ref := "PrairiePool$Pick") cl_17 (Nat.le_of_ble_eq_true rfl) (Or.inl q1375) (Or.inl rfl) dX20_value_20 (fv_17_2 _ _) k10 ?_
  refine mx_if_eq (tgt := 35) dX20_value_23 rfl (fun c13 => ?_) (fun c13 => ?_)
  · have H := H.1 c13
    refine mx_lload_n dX20_value_35 rfl rfl ?_
    refine mx_lload dX20_value_36 rfl ?_
    refine mx_callS (y' := mi_J8_min) (vs := [jv r4, jv r9]) (st := []) (al' := [some (jv r4), none, some (jv r9), none]) S_J8_min q1056 dX20_value_38 rfl rfl (Nat.le_of_ble_eq_true rfl) (Nat.le_of_ble_eq_true rfl) ?_
    refine pv_J8_min ?_
    exact mx_lret rfl dX20_value_41 H
  · have H := H.2 c13
    refine mx_lload_n dX20_value_26 rfl rfl ?_
    refine mx_lload dX20_value_27 rfl ?_
    refine mx_callS (y' := mi_J8_max) (vs := [jv r4, jv r9]) (st := []) (al' := [some (jv r4), none, some (jv r9), none]) S_J8_max q1053 dX20_value_29 rfl rfl (Nat.le_of_ble_eq_true rfl) (Nat.le_of_ble_eq_true rfl) ?_
    refine pv_J8_max ?_
    refine mx_goto (tgt := 41) dX20_value_32 rfl ?_
    exact mx_lret rfl dX20_value_41 H
theorem dX20_init_0 : decode mi_X20_init.2.1 0 = .ok (.aload_n 0, 1) := by decide +kernel
theorem dX20_init_1 : decode mi_X20_init.2.1 1 = .ok (.invokespecial 1, 3) := by decide +kernel
theorem dX20_init_4 : decode mi_X20_init.2.1 4 = .ok (.aload_n 0, 1) := by decide +kernel
theorem dX20_init_5 : decode mi_X20_init.2.1 5 = .ok (.iload_n 1, 1) := by decide +kernel
theorem dX20_init_6 : decode mi_X20_init.2.1 6 = .ok (.putfield 7, 3) := by decide +kernel
theorem dX20_init_9 : decode mi_X20_init.2.1 9 = .ok (.aload_n 0, 1) := by decide +kernel
theorem dX20_init_10 : decode mi_X20_init.2.1 10 = .ok (.aload_n 2, 1) := by decide +kernel
theorem dX20_init_11 : decode mi_X20_init.2.1 11 = .ok (.putfield 13, 3) := by decide +kernel
theorem dX20_init_14 : decode mi_X20_init.2.1 14 = .ok (.aload_n 0, 1) := by decide +kernel
theorem dX20_init_15 : decode mi_X20_init.2.1 15 = .ok (.aload_n 3, 1) := by decide +kernel
theorem dX20_init_16 : decode mi_X20_init.2.1 16 = .ok (.putfield 17, 3) := by decide +kernel
theorem dX20_init_19 : decode mi_X20_init.2.1 19 = .ok (.return_, 1) := by decide +kernel
theorem v_X20_init {G : ma_G} {d : Nat} {a0 : Nat} {x1 : Int32} {a2 : Nat} {a3 : Nat} {h : ah_T} {Q : Option ma_V → ah_T → Prop} {E : Nat → ah_T → Prop}  (H : ah_kd h a0 ≠ 0 ∧ MX G mi_X18_init d 0 [some (rv a0)] [] h (Qv fun h2 => ah_ext h h2 → ah_kd h2 a0 = 18 ∧ (x1 = 0 ∨ x1 = 1) ∧ ∀ h6 : ah_T, h6 = ah_wI h2 a0 2 x1 → ah_ext h2 h6 → ah_R h6 a0 3 = 0 ∧ ∀ h8 : ah_T, h8 = ah_wR h6 a0 3 a2 → ah_ext h6 h8 → ah_R h8 a0 4 = 0 ∧ ∀ h10 : ah_T, h10 = ah_wR h8 a0 4 a3 → ah_ext h8 h10 → Q none h10) E) : MX G mi_X20_init (d + 1) 0 [some (rv a0), some (iv x1), some (rv a2), some (rv a3)] [] h Q E := by
  refine mx_aload_n dX20_init_0 rfl rfl ?_
  obtain ⟨k1, H⟩ := H
  refine mx_callI (y' := mi_X18_init) (vs := []) (st := []) (al' := [some (rv a0)]) I_X18_init (Or.inr ⟨_, q1374⟩) dX20_init_1 rfl rfl (Nat.le_of_ble_eq_true rfl) (Nat.le_of_ble_eq_true rfl) k1 ?_
  refine ma_kv H (fun h2 Xh2 H => ?_) (fun x1 h1 X1 H => mt_out rfl H)
  have H := H Xh2
  refine mx_aload_n dX20_init_4 rfl rfl ?_
  refine mx_iload_n dX20_init_5 rfl rfl ?_
  obtain ⟨k4, H⟩ := H
  obtain ⟨k5, H⟩ := H
  refine mx_putZ 17 2 (ref := "PrairiePool$Pick") cl_17 (Nat.le_of_ble_eq_true rfl) (Or.inl q1375) (Or.inl rfl) dX20_init_6 (Or.inr ⟨rfl, rfl, rfl, q1375⟩) rfl k5 k4 ?_
  refine mx_nmI  (fun h6 eh6 Xh6 Kh6 Lh6 => ?_)
  have H := H h6 eh6 Xh6
  refine mx_aload_n dX20_init_9 rfl rfl ?_
  refine mx_aload_n dX20_init_10 rfl rfl ?_
  obtain ⟨k7, H⟩ := H
  refine mx_putO 17 3 (ref := "PrairiePool$Pick") cl_17 (Nat.le_of_ble_eq_true rfl) (Or.inl q1376) (Or.inl rfl) dX20_init_11 (Or.inr ⟨rfl, rfl, rfl, q1376⟩) rfl (Or.inr k7) (ma_kde Kh6 (k4)) ?_
  refine mx_nmR (ah_ext.wR (Or.inr (Or.inl k7))) (fun h8 eh8 Xh8 Kh8 Lh8 => ?_)
  have H := H h8 eh8 Xh8
  have Kh8 := Kh8.trans Kh6
  have Lh8 := Lh8.trans Lh6
  refine mx_aload_n dX20_init_14 rfl rfl ?_
  refine mx_aload_n dX20_init_15 rfl rfl ?_
  obtain ⟨k9, H⟩ := H
  refine mx_putO 17 4 (ref := "PrairiePool$Pick") cl_17 (Nat.le_of_ble_eq_true rfl) (Or.inl q1377) (Or.inl rfl) dX20_init_16 (Or.inr ⟨rfl, rfl, rfl, q1377⟩) rfl (Or.inr k9) (ma_kde Kh8 (k4)) ?_
  refine mx_nmR (ah_ext.wR (Or.inr (Or.inl k9))) (fun h10 eh10 Xh10 Kh10 Lh10 => ?_)
  have H := H h10 eh10 Xh10
  have Kh10 := Kh10.trans Kh8
  have Lh10 := Lh10.trans Lh8
  exact mx_vret rfl dX20_init_19 H
theorem dX21_value_0 : decode mi_X21_value.2.1 0 = .ok (.aload_n 0, 1) := by decide +kernel
theorem dX21_value_1 : decode mi_X21_value.2.1 1 = .ok (.getfield 7, 3) := by decide +kernel
theorem dX21_value_4 : decode mi_X21_value.2.1 4 = .ok (.ifCond .ne 8, 3) := by decide +kernel
theorem dX21_value_7 : decode mi_X21_value.2.1 7 = .ok (.aload_n 0, 1) := by decide +kernel
theorem dX21_value_8 : decode mi_X21_value.2.1 8 = .ok (.getfield 13, 3) := by decide +kernel
theorem dX21_value_11 : decode mi_X21_value.2.1 11 = .ok (.lreturn, 1) := by decide +kernel
theorem dX21_value_12 : decode mi_X21_value.2.1 12 = .ok (.aload_n 0, 1) := by decide +kernel
theorem dX21_value_13 : decode mi_X21_value.2.1 13 = .ok (.getfield 7, 3) := by decide +kernel
theorem dX21_value_16 : decode mi_X21_value.2.1 16 = .ok (.iconst 1, 1) := by decide +kernel
theorem dX21_value_17 : decode mi_X21_value.2.1 17 = .ok (.if_icmp .ne 14, 3) := by decide +kernel
theorem dX21_value_20 : decode mi_X21_value.2.1 20 = .ok (.aload_n 1, 1) := by decide +kernel
theorem dX21_value_21 : decode mi_X21_value.2.1 21 = .ok (.getfield 17, 3) := by decide +kernel
theorem dX21_value_24 : decode mi_X21_value.2.1 24 = .ok (.aload_n 0, 1) := by decide +kernel
theorem dX21_value_25 : decode mi_X21_value.2.1 25 = .ok (.getfield 13, 3) := by decide +kernel
theorem dX21_value_28 : decode mi_X21_value.2.1 28 = .ok (.l2i, 1) := by decide +kernel
theorem dX21_value_29 : decode mi_X21_value.2.1 29 = .ok (.laload, 1) := by decide +kernel
theorem dX21_value_30 : decode mi_X21_value.2.1 30 = .ok (.lreturn, 1) := by decide +kernel
theorem dX21_value_31 : decode mi_X21_value.2.1 31 = .ok (.aload_n 1, 1) := by decide +kernel
theorem dX21_value_32 : decode mi_X21_value.2.1 32 = .ok (.getfield 23, 3) := by decide +kernel
theorem dX21_value_35 : decode mi_X21_value.2.1 35 = .ok (.aload_n 0, 1) := by decide +kernel
theorem dX21_value_36 : decode mi_X21_value.2.1 36 = .ok (.getfield 13, 3) := by decide +kernel
theorem dX21_value_39 : decode mi_X21_value.2.1 39 = .ok (.l2i, 1) := by decide +kernel
theorem dX21_value_40 : decode mi_X21_value.2.1 40 = .ok (.baload, 1) := by decide +kernel
theorem dX21_value_41 : decode mi_X21_value.2.1 41 = .ok (.ifCond .eq 8, 3) := by decide +kernel
theorem dX21_value_44 : decode mi_X21_value.2.1 44 = .ok (.aload_n 1, 1) := by decide +kernel
theorem dX21_value_45 : decode mi_X21_value.2.1 45 = .ok (.getfield 27, 3) := by decide +kernel
theorem dX21_value_48 : decode mi_X21_value.2.1 48 = .ok (.athrow, 1) := by decide +kernel
theorem dX21_value_49 : decode mi_X21_value.2.1 49 = .ok (.aload_n 1, 1) := by decide +kernel
theorem dX21_value_50 : decode mi_X21_value.2.1 50 = .ok (.getfield 31, 3) := by decide +kernel
theorem dX21_value_53 : decode mi_X21_value.2.1 53 = .ok (.aload_n 0, 1) := by decide +kernel
theorem dX21_value_54 : decode mi_X21_value.2.1 54 = .ok (.getfield 13, 3) := by decide +kernel
theorem dX21_value_57 : decode mi_X21_value.2.1 57 = .ok (.l2i, 1) := by decide +kernel
theorem dX21_value_58 : decode mi_X21_value.2.1 58 = .ok (.laload, 1) := by decide +kernel
theorem dX21_value_59 : decode mi_X21_value.2.1 59 = .ok (.lreturn, 1) := by decide +kernel
theorem v_X21_value {G : ma_G} {d : Nat} {a0 : Nat} {a1 : Nat} {h : ah_T} {Q : Option ma_V → ah_T → Prop} {E : Nat → ah_T → Prop} (La1_h : LY6 h a1) (H : ah_kd h a0 = 19 ∧ (¬ (ah_I h a0 2) = 0 → (¬ (ah_I h a0 2) = (1 : Int32) → vp_in (ah_J h a0 3).toInt32 10 ∧ ((ah_I h (a1 + 3) (ah_J h a0 3).toInt32.toNatClampNeg) = 0 → Q (some (jv (ah_J h (a1 + 2) (ah_J h a0 3).toInt32.toNatClampNeg))) h) ∧ (¬ (ah_I h (a1 + 3) (ah_J h a0 3).toInt32.toNatClampNeg) = 0 → ah_kd h (ah_R h a1 3) = 5 ∧ E (ah_R h a1 3) h)) ∧ ((ah_I h a0 2) = (1 : Int32) → vp_in (ah_J h a0 3).toInt32 11 ∧ Q (some (jv (ah_J h (a1 + 1) (ah_J h a0 3).toInt32.toNatClampNeg))) h)) ∧ ((ah_I h a0 2) = 0 → Q (some (jv (ah_J h a0 3))) h)) : MX G mi_X21_value d 0 [some (rv a0), some (rv a1)] [] h Q E := by
  refine mx_aload_n dX21_value_0 rfl rfl ?_
  obtain ⟨k1, H⟩ := H
  refine mx_get 18 2 (ref := "PrairiePool$Leaf") cl_18 (Nat.le_of_ble_eq_true rfl) (Or.inl q1393) (Or.inl rfl) dX21_value_1 (fv_18_2 _ _) k1 ?_
  refine mx_if_ne (tgt := 12) dX21_value_4 rfl (fun c2 => ?_) (fun c2 => ?_)
  · have H := H.1 c2
    refine mx_aload_n dX21_value_12 rfl rfl ?_
    refine mx_get 18 2 (ref := "PrairiePool$Leaf") cl_18 (Nat.le_of_ble_eq_true rfl) (Or.inl q1393) (Or.inl rfl) dX21_value_13 (fv_18_2 _ _) k1 ?_
    refine mx_iconst dX21_value_16 ic_1 ?_
    refine mx_icmp_ne (tgt := 31) dX21_value_17 rfl (fun c3 => ?_) (fun c3 => ?_)
    · have H := H.1 c3
      refine mx_aload_n dX21_value_31 rfl rfl ?_
      refine mx_get 6 2 (ref := "PrairiePool$Asked") cl_6 (Nat.le_of_ble_eq_true rfl) (Or.inr ⟨_, q427⟩) (Or.inl rfl) dX21_value_32 (fv_6_2 _ _) (ly6_k La1_h) ?_
      refine mx_tr (ly6_R_0_2 La1_h) ?_
      refine mx_aload_n dX21_value_35 rfl rfl ?_
      refine mx_get 18 3 (ref := "PrairiePool$Leaf") cl_18 (Nat.le_of_ble_eq_true rfl) (Or.inl q1394) (Or.inl rfl) dX21_value_36 (fv_18_3 _ _) k1 ?_
      refine mx_l2i dX21_value_39 ?_
      obtain ⟨k4, H⟩ := H
      refine my_zald dX21_value_40 rfl (ly6_A_3 La1_h k4) ?_
      refine mx_if_eq (tgt := 49) dX21_value_41 rfl (fun c5 => ?_) (fun c5 => ?_)
      · have H := H.1 c5
        refine mx_aload_n dX21_value_49 rfl rfl ?_
        refine mx_get 6 1 (ref := "PrairiePool$Asked") cl_6 (Nat.le_of_ble_eq_true rfl) (Or.inr ⟨_, q423⟩) (Or.inl rfl) dX21_value_50 (fv_6_1 _ _) (ly6_k La1_h) ?_
        refine mx_tr (ly6_R_0_1 La1_h) ?_
        refine mx_aload_n dX21_value_53 rfl rfl ?_
        refine mx_get 18 3 (ref := "PrairiePool$Leaf") cl_18 (Nat.le_of_ble_eq_true rfl) (Or.inl q1394) (Or.inl rfl) dX21_value_54 (fv_18_3 _ _) k1 ?_
        refine mx_l2i dX21_value_57 ?_
        refine my_lald dX21_value_58 rfl (ly6_A_2 La1_h k4) ?_
        exact mx_lret rfl dX21_value_59 H
      · have H := H.2 c5
        refine mx_aload_n dX21_value_44 rfl rfl ?_
        refine mx_get 6 3 (ref := "PrairiePool$Asked") cl_6 (Nat.le_of_ble_eq_true rfl) (Or.inr ⟨_, q430⟩) (Or.inl rfl) dX21_value_45 (fv_6_3 _ _) (ly6_k La1_h) ?_
        obtain ⟨k6, H⟩ := H
        exact mx_athrow dX21_value_48 (by rw [k6]; decide) (mt_out rfl H)
    · have H := H.2 c3
      refine mx_aload_n dX21_value_20 rfl rfl ?_
      refine mx_get 6 0 (ref := "PrairiePool$Asked") cl_6 (Nat.le_of_ble_eq_true rfl) (Or.inr ⟨_, q420⟩) (Or.inl rfl) dX21_value_21 (fv_6_0 _ _) (ly6_k La1_h) ?_
      refine mx_tr (ly6_R_0_0 La1_h) ?_
      refine mx_aload_n dX21_value_24 rfl rfl ?_
      refine mx_get 18 3 (ref := "PrairiePool$Leaf") cl_18 (Nat.le_of_ble_eq_true rfl) (Or.inl q1394) (Or.inl rfl) dX21_value_25 (fv_18_3 _ _) k1 ?_
      refine mx_l2i dX21_value_28 ?_
      obtain ⟨k7, H⟩ := H
      refine my_lald dX21_value_29 rfl (ly6_A_1 La1_h k7) ?_
      exact mx_lret rfl dX21_value_30 H
  · have H := H.2 c2
    refine mx_aload_n dX21_value_7 rfl rfl ?_
    refine mx_get 18 3 (ref := "PrairiePool$Leaf") cl_18 (Nat.le_of_ble_eq_true rfl) (Or.inl q1394) (Or.inl rfl) dX21_value_8 (fv_18_3 _ _) k1 ?_
    exact mx_lret rfl dX21_value_11 H
theorem dX21_init_0 : decode mi_X21_init.2.1 0 = .ok (.aload_n 0, 1) := by decide +kernel
theorem dX21_init_1 : decode mi_X21_init.2.1 1 = .ok (.invokespecial 1, 3) := by decide +kernel
theorem dX21_init_4 : decode mi_X21_init.2.1 4 = .ok (.aload_n 0, 1) := by decide +kernel
theorem dX21_init_5 : decode mi_X21_init.2.1 5 = .ok (.iload_n 1, 1) := by decide +kernel
theorem dX21_init_6 : decode mi_X21_init.2.1 6 = .ok (.putfield 7, 3) := by decide +kernel
theorem dX21_init_9 : decode mi_X21_init.2.1 9 = .ok (.aload_n 0, 1) := by decide +kernel
theorem dX21_init_10 : decode mi_X21_init.2.1 10 = .ok (.lload_n 2, 1) := by decide +kernel
theorem dX21_init_11 : decode mi_X21_init.2.1 11 = .ok (.putfield 13, 3) := by decide +kernel
theorem dX21_init_14 : decode mi_X21_init.2.1 14 = .ok (.return_, 1) := by decide +kernel
theorem v_X21_init {G : ma_G} {d : Nat} {a0 : Nat} {x1 : Int32} {x2 : Int64} {h : ah_T} {Q : Option ma_V → ah_T → Prop} {E : Nat → ah_T → Prop}  (H : ah_kd h a0 ≠ 0 ∧ MX G mi_X18_init d 0 [some (rv a0)] [] h (Qv fun h2 => ah_ext h h2 → ah_kd h2 a0 = 19 ∧ ∀ h5 : ah_T, h5 = ah_wI h2 a0 2 x1 → ah_ext h2 h5 → ∀ h6 : ah_T, h6 = ah_wJ h5 a0 3 x2 → ah_ext h5 h6 → Q none h6) E) : MX G mi_X21_init (d + 1) 0 [some (rv a0), some (iv x1), some (jv x2), none] [] h Q E := by
  refine mx_aload_n dX21_init_0 rfl rfl ?_
  obtain ⟨k1, H⟩ := H
  refine mx_callI (y' := mi_X18_init) (vs := []) (st := []) (al' := [some (rv a0)]) I_X18_init (Or.inr ⟨_, q1392⟩) dX21_init_1 rfl rfl (Nat.le_of_ble_eq_true rfl) (Nat.le_of_ble_eq_true rfl) k1 ?_
  refine ma_kv H (fun h2 Xh2 H => ?_) (fun x1 h1 X1 H => mt_out rfl H)
  have H := H Xh2
  refine mx_aload_n dX21_init_4 rfl rfl ?_
  refine mx_iload_n dX21_init_5 rfl rfl ?_
  obtain ⟨k4, H⟩ := H
  refine mx_putI 18 2 (ref := "PrairiePool$Leaf") cl_18 (Nat.le_of_ble_eq_true rfl) (Or.inl q1393) (Or.inl rfl) dX21_init_6 (Or.inr ⟨rfl, rfl, rfl, q1393⟩) rfl k4 ?_
  refine mx_nmI  (fun h5 eh5 Xh5 Kh5 Lh5 => ?_)
  have H := H h5 eh5 Xh5
  refine mx_aload_n dX21_init_9 rfl rfl ?_
  refine mx_lload_n dX21_init_10 rfl rfl ?_
  refine mx_putJ 18 3 (ref := "PrairiePool$Leaf") cl_18 (Nat.le_of_ble_eq_true rfl) (Or.inl q1394) (Or.inl rfl) dX21_init_11 (Or.inr ⟨rfl, rfl, rfl, q1394⟩) rfl (ma_kde Kh5 (k4)) ?_
  refine mx_nmJ  (fun h6 eh6 Xh6 Kh6 Lh6 => ?_)
  have H := H h6 eh6 Xh6
  have Kh6 := Kh6.trans Kh5
  have Lh6 := Lh6.trans Lh5
  exact mx_vret rfl dX21_init_14 H
theorem dX22_value_0 : decode mi_X22_value.2.1 0 = .ok (.aload_n 0, 1) := by decide +kernel
theorem dX22_value_1 : decode mi_X22_value.2.1 1 = .ok (.aload_n 1, 1) := by decide +kernel
theorem dX22_value_2 : decode mi_X22_value.2.1 2 = .ok (.invokevirtual 36, 3) := by decide +kernel
theorem dX22_value_5 : decode mi_X22_value.2.1 5 = .ok (.aload_n 1, 1) := by decide +kernel
theorem dX22_value_6 : decode mi_X22_value.2.1 6 = .ok (.invokevirtual 40, 3) := by decide +kernel
theorem dX22_value_9 : decode mi_X22_value.2.1 9 = .ok (.lreturn, 1) := by decide +kernel
theorem v_X22_value {G : ma_G} {d : Nat} {a0 : Nat} {a1 : Nat} {h : ah_T} {Q : Option ma_V → ah_T → Prop} {E : Nat → ah_T → Prop} (La1_h : LY6 h a1) (H : ah_kd h a0 = 20 ∧ MX G mi_X22_taken d 0 [some (rv a0), some (rv a1), none] [] h (Qr fun r3 h2 => ah_ext h h2 → ma_ks h2 r3 [16, 17, 18, 19] ∧ MX G (vm_value (ah_kd h2 r3)) d 0 (al_ent (vm_value (ah_kd h2 r3)).2.2.1 [rv r3, rv a1]) [] h2 (Ql fun r7 h6 => ah_ext h2 h6 → Q (some (jv r7)) h6) E) E) : MX G mi_X22_value (d + 1) 0 [some (rv a0), some (rv a1)] [] h Q E := by
  refine mx_aload_n dX22_value_0 rfl rfl ?_
  refine mx_aload_n dX22_value_1 rfl rfl ?_
  obtain ⟨k1, H⟩ := H
  refine mx_callV 19 (y' := mi_X22_taken) (vs := [rv a1]) (st := []) (al' := [some (rv a0), some (rv a1), none]) cl_19 V_X22_taken (Or.inl q1037) dX22_value_2 rfl rfl (Nat.le_of_ble_eq_true rfl) (Nat.le_of_ble_eq_true rfl) k1 ?_
  refine ma_kr H (fun r3 h2 Xh2 H => ?_) (fun x1 h1 X1 H => mt_out rfl H)
  have H := H Xh2
  have k4 := Xh2.kd (k1)
  have La1_h2 := La1_h.ext Xh2
  refine mx_aload_n dX22_value_5 rfl rfl ?_
  obtain ⟨k5, H⟩ := H
  refine mx_callP [16, 17, 18, 19] vm_value (vs := [rv a1]) (st := []) pu_value rfl rfl rfl (Nat.le_of_ble_eq_true rfl) (Or.inl q1059) dX22_value_6 rfl k5 ?_
  refine ma_kl H (fun r7 h6 Xh6 H => ?_) (fun x1 h1 X1 H => mt_out rfl H)
  have H := H Xh6
  have k8 := Xh6.kd (k4)
  have k9 := ma_ksx Xh6 (k5)
  have La1_h6 := La1_h2.ext Xh6
  exact mx_lret rfl dX22_value_9 H
theorem dX22_taken_0 : decode mi_X22_taken.2.1 0 = .ok (.aload_n 0, 1) := by decide +kernel
theorem dX22_taken_1 : decode mi_X22_taken.2.1 1 = .ok (.getfield 7, 3) := by decide +kernel
theorem dX22_taken_4 : decode mi_X22_taken.2.1 4 = .ok (.astore_n 2, 1) := by decide +kernel
theorem dX22_taken_5 : decode mi_X22_taken.2.1 5 = .ok (.aload_n 2, 1) := by decide +kernel
theorem dX22_taken_6 : decode mi_X22_taken.2.1 6 = .ok (.ifnull 42, 3) := by decide +kernel
theorem dX22_taken_9 : decode mi_X22_taken.2.1 9 = .ok (.aload_n 2, 1) := by decide +kernel
theorem dX22_taken_10 : decode mi_X22_taken.2.1 10 = .ok (.aload_n 1, 1) := by decide +kernel
theorem dX22_taken_11 : decode mi_X22_taken.2.1 11 = .ok (.invokevirtual 21, 3) := by decide +kernel
theorem dX22_taken_14 : decode mi_X22_taken.2.1 14 = .ok (.aload_n 0, 1) := by decide +kernel
theorem dX22_taken_15 : decode mi_X22_taken.2.1 15 = .ok (.getfield 25, 3) := by decide +kernel
theorem dX22_taken_18 : decode mi_X22_taken.2.1 18 = .ok (.if_icmp .ne 22, 3) := by decide +kernel
theorem dX22_taken_21 : decode mi_X22_taken.2.1 21 = .ok (.aload_n 0, 1) := by decide +kernel
theorem dX22_taken_22 : decode mi_X22_taken.2.1 22 = .ok (.getfield 25, 3) := by decide +kernel
theorem dX22_taken_25 : decode mi_X22_taken.2.1 25 = .ok (.ifCond .eq 10, 3) := by decide +kernel
theorem dX22_taken_28 : decode mi_X22_taken.2.1 28 = .ok (.aload_n 0, 1) := by decide +kernel
theorem dX22_taken_29 : decode mi_X22_taken.2.1 29 = .ok (.getfield 29, 3) := by decide +kernel
theorem dX22_taken_32 : decode mi_X22_taken.2.1 32 = .ok (.goto 7, 3) := by decide +kernel
theorem dX22_taken_35 : decode mi_X22_taken.2.1 35 = .ok (.aload_n 0, 1) := by decide +kernel
theorem dX22_taken_36 : decode mi_X22_taken.2.1 36 = .ok (.getfield 33, 3) := by decide +kernel
theorem dX22_taken_39 : decode mi_X22_taken.2.1 39 = .ok (.areturn, 1) := by decide +kernel
theorem dX22_taken_40 : decode mi_X22_taken.2.1 40 = .ok (.aload_n 2, 1) := by decide +kernel
theorem dX22_taken_41 : decode mi_X22_taken.2.1 41 = .ok (.getfield 16, 3) := by decide +kernel
theorem dX22_taken_44 : decode mi_X22_taken.2.1 44 = .ok (.astore_n 2, 1) := by decide +kernel
theorem dX22_taken_45 : decode mi_X22_taken.2.1 45 = .ok (.goto (-40), 3) := by decide +kernel
theorem dX22_taken_48 : decode mi_X22_taken.2.1 48 = .ok (.aload_n 0, 1) := by decide +kernel
theorem dX22_taken_49 : decode mi_X22_taken.2.1 49 = .ok (.getfield 25, 3) := by decide +kernel
theorem dX22_taken_52 : decode mi_X22_taken.2.1 52 = .ok (.ifCond .eq 10, 3) := by decide +kernel
theorem dX22_taken_55 : decode mi_X22_taken.2.1 55 = .ok (.aload_n 0, 1) := by decide +kernel
theorem dX22_taken_56 : decode mi_X22_taken.2.1 56 = .ok (.getfield 33, 3) := by decide +kernel
theorem dX22_taken_59 : decode mi_X22_taken.2.1 59 = .ok (.goto 7, 3) := by decide +kernel
theorem dX22_taken_62 : decode mi_X22_taken.2.1 62 = .ok (.aload_n 0, 1) := by decide +kernel
theorem dX22_taken_63 : decode mi_X22_taken.2.1 63 = .ok (.getfield 29, 3) := by decide +kernel
theorem dX22_taken_66 : decode mi_X22_taken.2.1 66 = .ok (.areturn, 1) := by decide +kernel
theorem v_X22_taken {G : ma_G} {d : Nat} {a0 : Nat} {a1 : Nat} {h : ah_T} {Q : Option ma_V → ah_T → Prop} {E : Nat → ah_T → Prop} (La1_h : LY6 h a1) (H : ah_kd h a0 = 20 ∧ MX G mi_X22_taken (d + 1) 5 [some (rv a0), some (rv a1), some (rv (ah_R h a0 2))] [] h Q E) : MX G mi_X22_taken (d + 1) 0 [some (rv a0), some (rv a1), none] [] h Q E := by
  refine mx_aload_n dX22_taken_0 rfl rfl ?_
  obtain ⟨k1, H⟩ := H
  refine mx_get 19 2 (ref := "PrairiePool$If") cl_19 (Nat.le_of_ble_eq_true rfl) (Or.inl q1407) (Or.inl rfl) dX22_taken_1 (fv_19_2 _ _) k1 ?_
  refine mx_astore_n (al' := [some (rv a0), some (rv a1), some (rv (ah_R h a0 2))]) dX22_taken_4 rfl (Nat.le_of_ble_eq_true rfl) rfl ?_
  exact mx_weak (al' := [some (rv a0), some (rv a1), some (rv (ah_R h a0 2))]) ⟨rfl, ⟨rfl, ⟨rfl, trivial⟩⟩⟩ H
theorem v_X22_taken_5 {G : ma_G} {d : Nat} {a0 : Nat} {a1 : Nat} {a2 : Nat} {h : ah_T} {Q : Option ma_V → ah_T → Prop} {E : Nat → ah_T → Prop} (La1_h : LY6 h a1) (H : (a2 = 0 → ah_kd h a0 = 20 ∧ ((ah_I h a0 4) = 0 → Q (some (rv (ah_R h a0 5))) h) ∧ (¬ (ah_I h a0 4) = 0 → Q (some (rv (ah_R h a0 6))) h)) ∧ (¬ a2 = 0 → ah_kd h a2 = 21 ∧ MX G mi_X23_holds d 0 [some (rv a2), some (rv a1), none, none, none, none, none] [] h (Qi fun r6 h5 => ah_ext h h5 → ah_kd h5 a0 = 20 ∧ (¬ r6 = (ah_I h5 a0 4) → MX G mi_X22_taken (d + 1) 5 [some (rv a0), some (rv a1), some (rv (ah_R h5 a2 4))] [] h5 Q E) ∧ (r6 = (ah_I h5 a0 4) → ((ah_I h5 a0 4) = 0 → Q (some (rv (ah_R h5 a0 6))) h5) ∧ (¬ (ah_I h5 a0 4) = 0 → Q (some (rv (ah_R h5 a0 5))) h5))) E)) : MX G mi_X22_taken (d + 1) 5 [some (rv a0), some (rv a1), some (rv a2)] [] h Q E := by
  refine mx_aload_n dX22_taken_5 rfl rfl ?_
  refine mx_ifnull (tgt := 48) dX22_taken_6 rfl (fun c1 => ?_) (fun c1 => ?_)
  · have H := H.1 c1
    refine mx_aload_n dX22_taken_48 rfl rfl ?_
    obtain ⟨k2, H⟩ := H
    refine mx_get 19 4 (ref := "PrairiePool$If") cl_19 (Nat.le_of_ble_eq_true rfl) (Or.inl q1409) (Or.inl rfl) dX22_taken_49 (fv_19_4 _ _) k2 ?_
    refine mx_if_eq (tgt := 62) dX22_taken_52 rfl (fun c3 => ?_) (fun c3 => ?_)
    · have H := H.1 c3
      refine mx_aload_n dX22_taken_62 rfl rfl ?_
      refine mx_get 19 5 (ref := "PrairiePool$If") cl_19 (Nat.le_of_ble_eq_true rfl) (Or.inl q1411) (Or.inl rfl) dX22_taken_63 (fv_19_5 _ _) k2 ?_
      exact mx_aret rfl (by first | exact Or.inl ⟨_, rfl⟩ | exact Or.inr ⟨_, rfl⟩) dX22_taken_66 H
    · have H := H.2 c3
      refine mx_aload_n dX22_taken_55 rfl rfl ?_
      refine mx_get 19 6 (ref := "PrairiePool$If") cl_19 (Nat.le_of_ble_eq_true rfl) (Or.inl q1413) (Or.inl rfl) dX22_taken_56 (fv_19_6 _ _) k2 ?_
      refine mx_goto (tgt := 66) dX22_taken_59 rfl ?_
      exact mx_aret rfl (by first | exact Or.inl ⟨_, rfl⟩ | exact Or.inr ⟨_, rfl⟩) dX22_taken_66 H
  · have H := H.2 c1
    refine mx_aload_n dX22_taken_9 rfl rfl ?_
    refine mx_aload_n dX22_taken_10 rfl rfl ?_
    obtain ⟨k4, H⟩ := H
    refine mx_callV 20 (y' := mi_X23_holds) (vs := [rv a1]) (st := []) (al' := [some (rv a2), some (rv a1), none, none, none, none, none]) cl_20 V_X23_holds (Or.inl q1042) dX22_taken_11 rfl rfl (Nat.le_of_ble_eq_true rfl) (Nat.le_of_ble_eq_true rfl) k4 ?_
    refine ma_ki H (fun r6 h5 Xh5 H => ?_) (fun x1 h1 X1 H => mt_out rfl H)
    have H := H Xh5
    have k7 := Xh5.kd (k4)
    have La1_h5 := La1_h.ext Xh5
    refine mx_aload_n dX22_taken_14 rfl rfl ?_
    obtain ⟨k8, H⟩ := H
    refine mx_get 19 4 (ref := "PrairiePool$If") cl_19 (Nat.le_of_ble_eq_true rfl) (Or.inl q1409) (Or.inl rfl) dX22_taken_15 (fv_19_4 _ _) k8 ?_
    refine mx_icmp_ne (tgt := 40) dX22_taken_18 rfl (fun c9 => ?_) (fun c9 => ?_)
    · have H := H.1 c9
      refine mx_aload_n dX22_taken_40 rfl rfl ?_
      refine mx_get 20 4 (ref := "PrairiePool$Compare") cl_20 (Nat.le_of_ble_eq_true rfl) (Or.inr ⟨_, q1442⟩) (Or.inl rfl) dX22_taken_41 (fv_20_4 _ _) k7 ?_
      refine mx_astore_n (al' := [some (rv a0), some (rv a1), some (rv (ah_R h5 a2 4))]) dX22_taken_44 rfl (Nat.le_of_ble_eq_true rfl) rfl ?_
      refine mx_goto (tgt := 5) dX22_taken_45 rfl ?_
      exact mx_weak (al' := [some (rv a0), some (rv a1), some (rv (ah_R h5 a2 4))]) ⟨rfl, ⟨rfl, ⟨rfl, trivial⟩⟩⟩ H
    · have H := H.2 c9
      refine mx_aload_n dX22_taken_21 rfl rfl ?_
      refine mx_get 19 4 (ref := "PrairiePool$If") cl_19 (Nat.le_of_ble_eq_true rfl) (Or.inl q1409) (Or.inl rfl) dX22_taken_22 (fv_19_4 _ _) k8 ?_
      refine mx_if_eq (tgt := 35) dX22_taken_25 rfl (fun c10 => ?_) (fun c10 => ?_)
      · have H := H.1 c10
        refine mx_aload_n dX22_taken_35 rfl rfl ?_
        refine mx_get 19 6 (ref := "PrairiePool$If") cl_19 (Nat.le_of_ble_eq_true rfl) (Or.inl q1413) (Or.inl rfl) dX22_taken_36 (fv_19_6 _ _) k8 ?_
        exact mx_aret rfl (by first | exact Or.inl ⟨_, rfl⟩ | exact Or.inr ⟨_, rfl⟩) dX22_taken_39 H
      · have H := H.2 c10
        refine mx_aload_n dX22_taken_28 rfl rfl ?_
        refine mx_get 19 5 (ref := "PrairiePool$If") cl_19 (Nat.le_of_ble_eq_true rfl) (Or.inl q1411) (Or.inl rfl) dX22_taken_29 (fv_19_5 _ _) k8 ?_
        refine mx_goto (tgt := 39) dX22_taken_32 rfl ?_
        exact mx_aret rfl (by first | exact Or.inl ⟨_, rfl⟩ | exact Or.inr ⟨_, rfl⟩) dX22_taken_39 H
theorem dX22_init_0 : decode mi_X22_init.2.1 0 = .ok (.aload_n 0, 1) := by decide +kernel
theorem dX22_init_1 : decode mi_X22_init.2.1 1 = .ok (.invokespecial 1, 3) := by decide +kernel
theorem dX22_init_4 : decode mi_X22_init.2.1 4 = .ok (.return_, 1) := by decide +kernel
theorem v_X22_init {G : ma_G} {d : Nat} {a0 : Nat} {h : ah_T} {Q : Option ma_V → ah_T → Prop} {E : Nat → ah_T → Prop}  (H : ah_kd h a0 ≠ 0 ∧ MX G mi_X18_init d 0 [some (rv a0)] [] h (Qv fun h2 => ah_ext h h2 → Q none h2) E) : MX G mi_X22_init (d + 1) 0 [some (rv a0)] [] h Q E := by
  refine mx_aload_n dX22_init_0 rfl rfl ?_
  obtain ⟨k1, H⟩ := H
  refine mx_callI (y' := mi_X18_init) (vs := []) (st := []) (al' := [some (rv a0)]) I_X18_init (Or.inr ⟨_, q1406⟩) dX22_init_1 rfl rfl (Nat.le_of_ble_eq_true rfl) (Nat.le_of_ble_eq_true rfl) k1 ?_
  refine ma_kv H (fun h2 Xh2 H => ?_) (fun x1 h1 X1 H => mt_out rfl H)
  have H := H Xh2
  exact mx_vret rfl dX22_init_4 H
theorem dX22_add_0 : decode mi_X22_add.2.1 0 = .ok (.aload_n 0, 1) := by decide +kernel
theorem dX22_add_1 : decode mi_X22_add.2.1 1 = .ok (.getfield 7, 3) := by decide +kernel
theorem dX22_add_4 : decode mi_X22_add.2.1 4 = .ok (.ifnonnull 11, 3) := by decide +kernel
theorem dX22_add_7 : decode mi_X22_add.2.1 7 = .ok (.aload_n 0, 1) := by decide +kernel
theorem dX22_add_8 : decode mi_X22_add.2.1 8 = .ok (.aload_n 1, 1) := by decide +kernel
theorem dX22_add_9 : decode mi_X22_add.2.1 9 = .ok (.putfield 7, 3) := by decide +kernel
theorem dX22_add_12 : decode mi_X22_add.2.1 12 = .ok (.goto 11, 3) := by decide +kernel
theorem dX22_add_15 : decode mi_X22_add.2.1 15 = .ok (.aload_n 0, 1) := by decide +kernel
theorem dX22_add_16 : decode mi_X22_add.2.1 16 = .ok (.getfield 13, 3) := by decide +kernel
theorem dX22_add_19 : decode mi_X22_add.2.1 19 = .ok (.aload_n 1, 1) := by decide +kernel
theorem dX22_add_20 : decode mi_X22_add.2.1 20 = .ok (.putfield 16, 3) := by decide +kernel
theorem dX22_add_23 : decode mi_X22_add.2.1 23 = .ok (.aload_n 0, 1) := by decide +kernel
theorem dX22_add_24 : decode mi_X22_add.2.1 24 = .ok (.aload_n 1, 1) := by decide +kernel
theorem dX22_add_25 : decode mi_X22_add.2.1 25 = .ok (.putfield 13, 3) := by decide +kernel
theorem dX22_add_28 : decode mi_X22_add.2.1 28 = .ok (.return_, 1) := by decide +kernel
theorem v_X22_add {G : ma_G} {d : Nat} {a0 : Nat} {a1 : Nat} {h : ah_T} {Q : Option ma_V → ah_T → Prop} {E : Nat → ah_T → Prop}  (H : ah_kd h a0 = 20 ∧ (¬ (ah_R h a0 2) = 0 → ah_kd h (ah_R h a0 3) = 21 ∧ ah_R h (ah_R h a0 3) 4 = 0 ∧ ∀ h5 : ah_T, h5 = ah_wR h (ah_R h a0 3) 4 a1 → ah_ext h h5 → ∀ h6 : ah_T, h6 = ah_wR h5 a0 3 a1 → ah_ext h5 h6 → Q none h6) ∧ ((ah_R h a0 2) = 0 → ah_R h a0 2 = 0 ∧ ∀ h8 : ah_T, h8 = ah_wR h a0 2 a1 → ah_ext h h8 → ∀ h9 : ah_T, h9 = ah_wR h8 a0 3 a1 → ah_ext h8 h9 → Q none h9)) : MX G mi_X22_add d 0 [some (rv a0), some (rv a1)] [] h Q E := by
  refine mx_aload_n dX22_add_0 rfl rfl ?_
  obtain ⟨k1, H⟩ := H
  refine mx_get 19 2 (ref := "PrairiePool$If") cl_19 (Nat.le_of_ble_eq_true rfl) (Or.inl q1407) (Or.inl rfl) dX22_add_1 (fv_19_2 _ _) k1 ?_
  refine mx_ifnonnull (tgt := 15) dX22_add_4 rfl (fun c2 => ?_) (fun c2 => ?_)
  · have H := H.1 c2
    refine mx_aload_n dX22_add_15 rfl rfl ?_
    refine mx_get 19 3 (ref := "PrairiePool$If") cl_19 (Nat.le_of_ble_eq_true rfl) (Or.inl q1408) (Or.inl rfl) dX22_add_16 (fv_19_3 _ _) k1 ?_
    refine mx_aload_n dX22_add_19 rfl rfl ?_
    obtain ⟨k3, H⟩ := H
    obtain ⟨k4, H⟩ := H
    refine mx_putO 20 4 (ref := "PrairiePool$Compare") cl_20 (Nat.le_of_ble_eq_true rfl) (Or.inr ⟨_, q1442⟩) (Or.inl rfl) dX22_add_20 (Or.inl rfl) rfl (Or.inr k4) k3 ?_
    refine mx_nmR (ah_ext.wR (Or.inr (Or.inl k4))) (fun h5 eh5 Xh5 Kh5 Lh5 => ?_)
    have H := H h5 eh5 Xh5
    refine mx_aload_n dX22_add_23 rfl rfl ?_
    refine mx_aload_n dX22_add_24 rfl rfl ?_
    refine mx_putO 19 3 (ref := "PrairiePool$If") cl_19 (Nat.le_of_ble_eq_true rfl) (Or.inl q1408) (Or.inl rfl) dX22_add_25 (Or.inl rfl) rfl (Or.inl rfl) (ma_kde Kh5 (k1)) ?_
    refine mx_nmR (ah_ext.wR (Or.inl (by rw [(ma_kde Kh5 (k1))]; rfl))) (fun h6 eh6 Xh6 Kh6 Lh6 => ?_)
    have H := H h6 eh6 Xh6
    have Kh6 := Kh6.trans Kh5
    have Lh6 := Lh6.trans Lh5
    exact mx_vret rfl dX22_add_28 H
  · have H := H.2 c2
    refine mx_aload_n dX22_add_7 rfl rfl ?_
    refine mx_aload_n dX22_add_8 rfl rfl ?_
    obtain ⟨k7, H⟩ := H
    refine mx_putO 19 2 (ref := "PrairiePool$If") cl_19 (Nat.le_of_ble_eq_true rfl) (Or.inl q1407) (Or.inl rfl) dX22_add_9 (Or.inl rfl) rfl (Or.inr k7) k1 ?_
    refine mx_nmR (ah_ext.wR (Or.inr (Or.inl k7))) (fun h8 eh8 Xh8 Kh8 Lh8 => ?_)
    have H := H h8 eh8 Xh8
    refine mx_goto (tgt := 23) dX22_add_12 rfl ?_
    refine mx_aload_n dX22_add_23 rfl rfl ?_
    refine mx_aload_n dX22_add_24 rfl rfl ?_
    refine mx_putO 19 3 (ref := "PrairiePool$If") cl_19 (Nat.le_of_ble_eq_true rfl) (Or.inl q1408) (Or.inl rfl) dX22_add_25 (Or.inl rfl) rfl (Or.inl rfl) (ma_kde Kh8 (k1)) ?_
    refine mx_nmR (ah_ext.wR (Or.inl (by rw [(ma_kde Kh8 (k1))]; rfl))) (fun h9 eh9 Xh9 Kh9 Lh9 => ?_)
    have H := H h9 eh9 Xh9
    have Kh9 := Kh9.trans Kh8
    have Lh9 := Lh9.trans Lh8
    exact mx_vret rfl dX22_add_28 H
theorem dX23_holds_0 : decode mi_X23_holds.2.1 0 = .ok (.aload_n 0, 1) := by decide +kernel
theorem dX23_holds_1 : decode mi_X23_holds.2.1 1 = .ok (.getfield 13, 3) := by decide +kernel
theorem dX23_holds_4 : decode mi_X23_holds.2.1 4 = .ok (.aload_n 1, 1) := by decide +kernel
theorem dX23_holds_5 : decode mi_X23_holds.2.1 5 = .ok (.invokevirtual 24, 3) := by decide +kernel
theorem dX23_holds_8 : decode mi_X23_holds.2.1 8 = .ok (.lstore_n 2, 1) := by decide +kernel
theorem dX23_holds_9 : decode mi_X23_holds.2.1 9 = .ok (.aload_n 0, 1) := by decide +kernel
theorem dX23_holds_10 : decode mi_X23_holds.2.1 10 = .ok (.getfield 21, 3) := by decide +kernel
theorem dX23_holds_13 : decode mi_X23_holds.2.1 13 = .ok (.aload_n 1, 1) := by decide +kernel
theorem dX23_holds_14 : decode mi_X23_holds.2.1 14 = .ok (.invokevirtual 24, 3) := by decide +kernel
theorem dX23_holds_17 : decode mi_X23_holds.2.1 17 = .ok (.lstore 4, 2) := by decide +kernel
theorem dX23_holds_19 : decode mi_X23_holds.2.1 19 = .ok (.goto 7, 3) := by decide +kernel
theorem dX23_holds_22 : decode mi_X23_holds.2.1 22 = .ok (.astore 6, 2) := by decide +kernel
theorem dX23_holds_24 : decode mi_X23_holds.2.1 24 = .ok (.iconst 0, 1) := by decide +kernel
theorem dX23_holds_25 : decode mi_X23_holds.2.1 25 = .ok (.ireturn, 1) := by decide +kernel
theorem dX23_holds_26 : decode mi_X23_holds.2.1 26 = .ok (.aload_n 0, 1) := by decide +kernel
theorem dX23_holds_27 : decode mi_X23_holds.2.1 27 = .ok (.getfield 7, 3) := by decide +kernel
theorem dX23_holds_30 : decode mi_X23_holds.2.1 30 = .ok (.aload_n 0, 1) := by decide +kernel
theorem dX23_holds_31 : decode mi_X23_holds.2.1 31 = .ok (.getfield 17, 3) := by decide +kernel
theorem dX23_holds_34 : decode mi_X23_holds.2.1 34 = .ok (.bipush 60, 2) := by decide +kernel
theorem dX23_holds_36 : decode mi_X23_holds.2.1 36 = .ok (.if_icmp .ne 18, 3) := by decide +kernel
theorem dX23_holds_39 : decode mi_X23_holds.2.1 39 = .ok (.lload_n 2, 1) := by decide +kernel
theorem dX23_holds_40 : decode mi_X23_holds.2.1 40 = .ok (.lload 4, 2) := by decide +kernel
theorem dX23_holds_42 : decode mi_X23_holds.2.1 42 = .ok (.lcmp, 1) := by decide +kernel
theorem dX23_holds_43 : decode mi_X23_holds.2.1 43 = .ok (.ifCond .ge 7, 3) := by decide +kernel
theorem dX23_holds_46 : decode mi_X23_holds.2.1 46 = .ok (.iconst 1, 1) := by decide +kernel
theorem dX23_holds_47 : decode mi_X23_holds.2.1 47 = .ok (.goto 43, 3) := by decide +kernel
theorem dX23_holds_50 : decode mi_X23_holds.2.1 50 = .ok (.iconst 0, 1) := by decide +kernel
theorem dX23_holds_51 : decode mi_X23_holds.2.1 51 = .ok (.goto 39, 3) := by decide +kernel
theorem dX23_holds_54 : decode mi_X23_holds.2.1 54 = .ok (.aload_n 0, 1) := by decide +kernel
theorem dX23_holds_55 : decode mi_X23_holds.2.1 55 = .ok (.getfield 17, 3) := by decide +kernel
theorem dX23_holds_58 : decode mi_X23_holds.2.1 58 = .ok (.bipush 62, 2) := by decide +kernel
theorem dX23_holds_60 : decode mi_X23_holds.2.1 60 = .ok (.if_icmp .ne 18, 3) := by decide +kernel
theorem dX23_holds_63 : decode mi_X23_holds.2.1 63 = .ok (.lload_n 2, 1) := by decide +kernel
theorem dX23_holds_64 : decode mi_X23_holds.2.1 64 = .ok (.lload 4, 2) := by decide +kernel
theorem dX23_holds_66 : decode mi_X23_holds.2.1 66 = .ok (.lcmp, 1) := by decide +kernel
theorem dX23_holds_67 : decode mi_X23_holds.2.1 67 = .ok (.ifCond .le 7, 3) := by decide +kernel
theorem dX23_holds_70 : decode mi_X23_holds.2.1 70 = .ok (.iconst 1, 1) := by decide +kernel
theorem dX23_holds_71 : decode mi_X23_holds.2.1 71 = .ok (.goto 19, 3) := by decide +kernel
theorem dX23_holds_74 : decode mi_X23_holds.2.1 74 = .ok (.iconst 0, 1) := by decide +kernel
theorem dX23_holds_75 : decode mi_X23_holds.2.1 75 = .ok (.goto 15, 3) := by decide +kernel
theorem dX23_holds_78 : decode mi_X23_holds.2.1 78 = .ok (.lload_n 2, 1) := by decide +kernel
theorem dX23_holds_79 : decode mi_X23_holds.2.1 79 = .ok (.lload 4, 2) := by decide +kernel
theorem dX23_holds_81 : decode mi_X23_holds.2.1 81 = .ok (.lcmp, 1) := by decide +kernel
theorem dX23_holds_82 : decode mi_X23_holds.2.1 82 = .ok (.ifCond .ne 7, 3) := by decide +kernel
theorem dX23_holds_85 : decode mi_X23_holds.2.1 85 = .ok (.iconst 1, 1) := by decide +kernel
theorem dX23_holds_86 : decode mi_X23_holds.2.1 86 = .ok (.goto 4, 3) := by decide +kernel
theorem dX23_holds_89 : decode mi_X23_holds.2.1 89 = .ok (.iconst 0, 1) := by decide +kernel
theorem dX23_holds_90 : decode mi_X23_holds.2.1 90 = .ok (.if_icmp .eq 7, 3) := by decide +kernel
theorem dX23_holds_93 : decode mi_X23_holds.2.1 93 = .ok (.iconst 1, 1) := by decide +kernel
theorem dX23_holds_94 : decode mi_X23_holds.2.1 94 = .ok (.goto 4, 3) := by decide +kernel
theorem dX23_holds_97 : decode mi_X23_holds.2.1 97 = .ok (.iconst 0, 1) := by decide +kernel
theorem dX23_holds_98 : decode mi_X23_holds.2.1 98 = .ok (.ireturn, 1) := by decide +kernel
theorem v_X23_holds {G : ma_G} {d : Nat} {a0 : Nat} {a1 : Nat} {h : ah_T} {Q : Option ma_V → ah_T → Prop} {E : Nat → ah_T → Prop} (La1_h : LY6 h a1) (H : ah_kd h a0 = 21 ∧ ma_ks h (ah_R h a0 1) [16, 17, 18, 19] ∧ MX G (vm_value (ah_kd h (ah_R h a0 1))) d 0 (al_ent (vm_value (ah_kd h (ah_R h a0 1))).2.2.1 [rv (ah_R h a0 1), rv a1]) [] h (Ql fun r4 h3 => ah_ext h h3 → ma_ks h3 (ah_R h3 a0 2) [16, 17, 18, 19] ∧ MX G (vm_value (ah_kd h3 (ah_R h3 a0 2))) d 0 (al_ent (vm_value (ah_kd h3 (ah_R h3 a0 2))).2.2.1 [rv (ah_R h3 a0 2), rv a1]) [] h3 (Ql fun r9 h8 => ah_ext h3 h8 → (¬ (ah_I h8 a0 3) = (60 : Int32) → (¬ (ah_I h8 a0 3) = (62 : Int32) → (¬ r4 = r9 → ((ah_I h8 a0 0) = (0 : Int32) → Q (some (iv (0 : Int32))) h8) ∧ (¬ (ah_I h8 a0 0) = (0 : Int32) → Q (some (iv (1 : Int32))) h8)) ∧ (r4 = r9 → ((ah_I h8 a0 0) = (1 : Int32) → Q (some (iv (0 : Int32))) h8) ∧ (¬ (ah_I h8 a0 0) = (1 : Int32) → Q (some (iv (1 : Int32))) h8))) ∧ ((ah_I h8 a0 3) = (62 : Int32) → (r4 ≤ r9 → ((ah_I h8 a0 0) = (0 : Int32) → Q (some (iv (0 : Int32))) h8) ∧ (¬ (ah_I h8 a0 0) = (0 : Int32) → Q (some (iv (1 : Int32))) h8)) ∧ (¬ r4 ≤ r9 → ((ah_I h8 a0 0) = (1 : Int32) → Q (some (iv (0 : Int32))) h8) ∧ (¬ (ah_I h8 a0 0) = (1 : Int32) → Q (some (iv (1 : Int32))) h8)))) ∧ ((ah_I h8 a0 3) = (60 : Int32) → (r9 ≤ r4 → ((ah_I h8 a0 0) = (0 : Int32) → Q (some (iv (0 : Int32))) h8) ∧ (¬ (ah_I h8 a0 0) = (0 : Int32) → Q (some (iv (1 : Int32))) h8)) ∧ (¬ r9 ≤ r4 → ((ah_I h8 a0 0) = (1 : Int32) → Q (some (iv (0 : Int32))) h8) ∧ (¬ (ah_I h8 a0 0) = (1 : Int32) → Q (some (iv (1 : Int32))) h8)))) (fun x h' => ah_ext h3 h' → ah_kd h' x = 5 ∧ MX G mi_X23_holds (d + 1) 22 [none, none, none, none, none, none, none] [rv x] h' Q E)) (fun x h' => ah_ext h h' → ah_kd h' x = 5 ∧ MX G mi_X23_holds (d + 1) 22 [none, none, none, none, none, none, none] [rv x] h' Q E)) : MX G mi_X23_holds (d + 1) 0 [some (rv a0), some (rv a1), none, none, none, none, none] [] h Q E := by
  refine mx_aload_n dX23_holds_0 rfl rfl ?_
  obtain ⟨k1, H⟩ := H
  refine mx_get 20 1 (ref := "PrairiePool$Compare") cl_20 (Nat.le_of_ble_eq_true rfl) (Or.inl q1439) (Or.inl rfl) dX23_holds_1 (fv_20_1 _ _) k1 ?_
  refine mx_aload_n dX23_holds_4 rfl rfl ?_
  obtain ⟨k2, H⟩ := H
  refine mx_callP [16, 17, 18, 19] vm_value (vs := [rv a1]) (st := []) pu_value rfl rfl rfl (Nat.le_of_ble_eq_true rfl) (Or.inl q1047) dX23_holds_5 rfl k2 ?_
  refine ma_kl H (fun r4 h3 Xh3 H => ?_) (fun x1 h1 X1 H => mt_catch rfl (Nat.le_of_ble_eq_true rfl) (Nat.le_of_ble_eq_true rfl) (by decide) q1046 (Or.inl ⟨4, _, _, cl_4, (H X1).1⟩) (Or.inl ⟨rfl, _, q376⟩) (mx_weak (al' := [none, none, none, none, none, none, none]) trivial (H X1).2))
  have H := H Xh3
  have k5 := Xh3.kd (k1)
  have k6 := ma_ksx Xh3 (k2)
  have La1_h3 := La1_h.ext Xh3
  refine mx_lstore_n (al' := [some (rv a0), some (rv a1), some (jv r4), none, none, none, none]) dX23_holds_8 rfl (Nat.le_of_ble_eq_true rfl) rfl ?_
  refine mx_aload_n dX23_holds_9 rfl rfl ?_
  refine mx_get 20 2 (ref := "PrairiePool$Compare") cl_20 (Nat.le_of_ble_eq_true rfl) (Or.inl q1440) (Or.inl rfl) dX23_holds_10 (fv_20_2 _ _) k5 ?_
  refine mx_aload_n dX23_holds_13 rfl rfl ?_
  obtain ⟨k7, H⟩ := H
  refine mx_callP [16, 17, 18, 19] vm_value (vs := [rv a1]) (st := []) pu_value rfl rfl rfl (Nat.le_of_ble_eq_true rfl) (Or.inl q1047) dX23_holds_14 rfl k7 ?_
  refine ma_kl H (fun r9 h8 Xh8 H => ?_) (fun x1 h1 X1 H => mt_catch rfl (Nat.le_of_ble_eq_true rfl) (Nat.le_of_ble_eq_true rfl) (by decide) q1046 (Or.inl ⟨4, _, _, cl_4, (H X1).1⟩) (Or.inl ⟨rfl, _, q376⟩) (mx_weak (al' := [none, none, none, none, none, none, none]) trivial (H X1).2))
  have H := H Xh8
  have k10 := Xh8.kd (k5)
  have k11 := ma_ksx Xh8 (k6)
  have k12 := ma_ksx Xh8 (k7)
  have La1_h8 := La1_h3.ext Xh8
  refine mx_lstore (al' := [some (rv a0), some (rv a1), some (jv r4), none, some (jv r9), none, none]) dX23_holds_17 (Nat.le_of_ble_eq_true rfl) rfl ?_
  refine mx_goto (tgt := 26) dX23_holds_19 rfl ?_
  refine mx_aload_n dX23_holds_26 rfl rfl ?_
  refine mx_get 20 0 (ref := "PrairiePool$Compare") cl_20 (Nat.le_of_ble_eq_true rfl) (Or.inl q1438) (Or.inl rfl) dX23_holds_27 (fv_20_0 _ _) k10 ?_
  refine mx_aload_n dX23_holds_30 rfl rfl ?_
  refine mx_get 20 3 (ref := "PrairiePool$Compare") cl_20 (Nat.le_of_ble_eq_true rfl) (Or.inl q1441) (Or.inl rfl) dX23_holds_31 (fv_20_3 _ _) k10 ?_
  refine mx_bipush dX23_holds_34 ib_60 ?_
  refine mx_icmp_ne (tgt := 54) dX23_holds_36 rfl (fun c13 => ?_) (fun c13 => ?_)
  · have H := H.1 c13
    refine mx_aload_n dX23_holds_54 rfl rfl ?_
    refine mx_get 20 3 (ref := "PrairiePool$Compare") cl_20 (Nat.le_of_ble_eq_true rfl) (Or.inl q1441) (Or.inl rfl) dX23_holds_55 (fv_20_3 _ _) k10 ?_
    refine mx_bipush dX23_holds_58 ib_62 ?_
    refine mx_icmp_ne (tgt := 78) dX23_holds_60 rfl (fun c14 => ?_) (fun c14 => ?_)
    · have H := H.1 c14
      refine mx_lload_n dX23_holds_78 rfl rfl ?_
      refine mx_lload dX23_holds_79 rfl ?_
      refine mx_lif_ne (tgt := 89) dX23_holds_81 dX23_holds_82 rfl (fun c15 => ?_) (fun c15 => ?_)
      · have H := H.1 c15
        refine mx_iconst dX23_holds_89 ic_0 ?_
        refine mx_icmp_eq (tgt := 97) dX23_holds_90 rfl (fun c16 => ?_) (fun c16 => ?_)
        · have H := H.1 c16
          refine mx_iconst dX23_holds_97 ic_0 ?_
          exact mx_zret rfl dX23_holds_98 (Or.inl rfl) H
        · have H := H.2 c16
          refine mx_iconst dX23_holds_93 ic_1 ?_
          refine mx_goto (tgt := 98) dX23_holds_94 rfl ?_
          exact mx_zret rfl dX23_holds_98 (Or.inr rfl) H
      · have H := H.2 c15
        refine mx_iconst dX23_holds_85 ic_1 ?_
        refine mx_goto (tgt := 90) dX23_holds_86 rfl ?_
        refine mx_icmp_eq (tgt := 97) dX23_holds_90 rfl (fun c17 => ?_) (fun c17 => ?_)
        · have H := H.1 c17
          refine mx_iconst dX23_holds_97 ic_0 ?_
          exact mx_zret rfl dX23_holds_98 (Or.inl rfl) H
        · have H := H.2 c17
          refine mx_iconst dX23_holds_93 ic_1 ?_
          refine mx_goto (tgt := 98) dX23_holds_94 rfl ?_
          exact mx_zret rfl dX23_holds_98 (Or.inr rfl) H
    · have H := H.2 c14
      refine mx_lload_n dX23_holds_63 rfl rfl ?_
      refine mx_lload dX23_holds_64 rfl ?_
      refine mx_lif_le (tgt := 74) dX23_holds_66 dX23_holds_67 rfl (fun c18 => ?_) (fun c18 => ?_)
      · have H := H.1 c18
        refine mx_iconst dX23_holds_74 ic_0 ?_
        refine mx_goto (tgt := 90) dX23_holds_75 rfl ?_
        refine mx_icmp_eq (tgt := 97) dX23_holds_90 rfl (fun c19 => ?_) (fun c19 => ?_)
        · have H := H.1 c19
          refine mx_iconst dX23_holds_97 ic_0 ?_
          exact mx_zret rfl dX23_holds_98 (Or.inl rfl) H
        · have H := H.2 c19
          refine mx_iconst dX23_holds_93 ic_1 ?_
          refine mx_goto (tgt := 98) dX23_holds_94 rfl ?_
          exact mx_zret rfl dX23_holds_98 (Or.inr rfl) H
      · have H := H.2 c18
        refine mx_iconst dX23_holds_70 ic_1 ?_
        refine mx_goto (tgt := 90) dX23_holds_71 rfl ?_
        refine mx_icmp_eq (tgt := 97) dX23_holds_90 rfl (fun c20 => ?_) (fun c20 => ?_)
        · have H := H.1 c20
          refine mx_iconst dX23_holds_97 ic_0 ?_
          exact mx_zret rfl dX23_holds_98 (Or.inl rfl) H
        · have H := H.2 c20
          refine mx_iconst dX23_holds_93 ic_1 ?_
          refine mx_goto (tgt := 98) dX23_holds_94 rfl ?_
          exact mx_zret rfl dX23_holds_98 (Or.inr rfl) H
  · have H := H.2 c13
    refine mx_lload_n dX23_holds_39 rfl rfl ?_
    refine mx_lload dX23_holds_40 rfl ?_
    refine mx_lif_ge (tgt := 50) dX23_holds_42 dX23_holds_43 rfl (fun c21 => ?_) (fun c21 => ?_)
    · have H := H.1 c21
      refine mx_iconst dX23_holds_50 ic_0 ?_
      refine mx_goto (tgt := 90) dX23_holds_51 rfl ?_
      refine mx_icmp_eq (tgt := 97) dX23_holds_90 rfl (fun c22 => ?_) (fun c22 => ?_)
      · have H := H.1 c22
        refine mx_iconst dX23_holds_97 ic_0 ?_
        exact mx_zret rfl dX23_holds_98 (Or.inl rfl) H
      · have H := H.2 c22
        refine mx_iconst dX23_holds_93 ic_1 ?_
        refine mx_goto (tgt := 98) dX23_holds_94 rfl ?_
        exact mx_zret rfl dX23_holds_98 (Or.inr rfl) H
    · have H := H.2 c21
      refine mx_iconst dX23_holds_46 ic_1 ?_
      refine mx_goto (tgt := 90) dX23_holds_47 rfl ?_
      refine mx_icmp_eq (tgt := 97) dX23_holds_90 rfl (fun c23 => ?_) (fun c23 => ?_)
      · have H := H.1 c23
        refine mx_iconst dX23_holds_97 ic_0 ?_
        exact mx_zret rfl dX23_holds_98 (Or.inl rfl) H
      · have H := H.2 c23
        refine mx_iconst dX23_holds_93 ic_1 ?_
        refine mx_goto (tgt := 98) dX23_holds_94 rfl ?_
        exact mx_zret rfl dX23_holds_98 (Or.inr rfl) H
theorem v_X23_holds_22 {G : ma_G} {d : Nat} {b0 : Nat} {h : ah_T} {Q : Option ma_V → ah_T → Prop} {E : Nat → ah_T → Prop}  (H : Q (some (iv (0 : Int32))) h) : MX G mi_X23_holds (d + 1) 22 [none, none, none, none, none, none, none] [rv b0] h Q E := by
  refine mx_astore (al' := [none, none, none, none, none, none, some (rv b0)]) dX23_holds_22 (Nat.le_of_ble_eq_true rfl) rfl ?_
  refine mx_iconst dX23_holds_24 ic_0 ?_
  exact mx_zret rfl dX23_holds_25 (Or.inl rfl) H
theorem dX23_init_0 : decode mi_X23_init.2.1 0 = .ok (.aload_n 0, 1) := by decide +kernel
theorem dX23_init_1 : decode mi_X23_init.2.1 1 = .ok (.invokespecial 1, 3) := by decide +kernel
theorem dX23_init_4 : decode mi_X23_init.2.1 4 = .ok (.aload_n 0, 1) := by decide +kernel
theorem dX23_init_5 : decode mi_X23_init.2.1 5 = .ok (.iload_n 1, 1) := by decide +kernel
theorem dX23_init_6 : decode mi_X23_init.2.1 6 = .ok (.putfield 7, 3) := by decide +kernel
theorem dX23_init_9 : decode mi_X23_init.2.1 9 = .ok (.aload_n 0, 1) := by decide +kernel
theorem dX23_init_10 : decode mi_X23_init.2.1 10 = .ok (.aload_n 2, 1) := by decide +kernel
theorem dX23_init_11 : decode mi_X23_init.2.1 11 = .ok (.putfield 13, 3) := by decide +kernel
theorem dX23_init_14 : decode mi_X23_init.2.1 14 = .ok (.aload_n 0, 1) := by decide +kernel
theorem dX23_init_15 : decode mi_X23_init.2.1 15 = .ok (.iload_n 3, 1) := by decide +kernel
theorem dX23_init_16 : decode mi_X23_init.2.1 16 = .ok (.putfield 17, 3) := by decide +kernel
theorem dX23_init_19 : decode mi_X23_init.2.1 19 = .ok (.aload_n 0, 1) := by decide +kernel
theorem dX23_init_20 : decode mi_X23_init.2.1 20 = .ok (.aload 4, 2) := by decide +kernel
theorem dX23_init_22 : decode mi_X23_init.2.1 22 = .ok (.putfield 21, 3) := by decide +kernel
theorem dX23_init_25 : decode mi_X23_init.2.1 25 = .ok (.return_, 1) := by decide +kernel
theorem v_X23_init {G : ma_G} {d : Nat} {a0 : Nat} {x1 : Int32} {a2 : Nat} {x3 : Int32} {a4 : Nat} {h : ah_T} {Q : Option ma_V → ah_T → Prop} {E : Nat → ah_T → Prop}  (H : ah_kd h a0 ≠ 0 ∧ ah_kd h a0 = 21 ∧ (x1 = 0 ∨ x1 = 1) ∧ ∀ h4 : ah_T, h4 = ah_wI h a0 0 x1 → ah_ext h h4 → ah_R h4 a0 1 = 0 ∧ ∀ h6 : ah_T, h6 = ah_wR h4 a0 1 a2 → ah_ext h4 h6 → ∀ h7 : ah_T, h7 = ah_wI h6 a0 3 x3 → ah_ext h6 h7 → ah_R h7 a0 2 = 0 ∧ ∀ h9 : ah_T, h9 = ah_wR h7 a0 2 a4 → ah_ext h7 h9 → Q none h9) : MX G mi_X23_init (d + 1) 0 [some (rv a0), some (iv x1), some (rv a2), some (iv x3), some (rv a4)] [] h Q E := by
  refine mx_aload_n dX23_init_0 rfl rfl ?_
  obtain ⟨k1, H⟩ := H
  refine mx_objInit q1437 qobj1 qobj2 dX23_init_1 (Nat.le_of_ble_eq_true rfl) k1 ?_
  refine mx_aload_n dX23_init_4 rfl rfl ?_
  refine mx_iload_n dX23_init_5 rfl rfl ?_
  obtain ⟨k2, H⟩ := H
  obtain ⟨k3, H⟩ := H
  refine mx_putZ 20 0 (ref := "PrairiePool$Compare") cl_20 (Nat.le_of_ble_eq_true rfl) (Or.inl q1438) (Or.inl rfl) dX23_init_6 (Or.inr ⟨rfl, rfl, rfl, q1438⟩) rfl k3 k2 ?_
  refine mx_nmI  (fun h4 eh4 Xh4 Kh4 Lh4 => ?_)
  have H := H h4 eh4 Xh4
  refine mx_aload_n dX23_init_9 rfl rfl ?_
  refine mx_aload_n dX23_init_10 rfl rfl ?_
  obtain ⟨k5, H⟩ := H
  refine mx_putO 20 1 (ref := "PrairiePool$Compare") cl_20 (Nat.le_of_ble_eq_true rfl) (Or.inl q1439) (Or.inl rfl) dX23_init_11 (Or.inr ⟨rfl, rfl, rfl, q1439⟩) rfl (Or.inr k5) (ma_kde Kh4 (k2)) ?_
  refine mx_nmR (ah_ext.wR (Or.inr (Or.inl k5))) (fun h6 eh6 Xh6 Kh6 Lh6 => ?_)
  have H := H h6 eh6 Xh6
  have Kh6 := Kh6.trans Kh4
  have Lh6 := Lh6.trans Lh4
  refine mx_aload_n dX23_init_14 rfl rfl ?_
  refine mx_iload_n dX23_init_15 rfl rfl ?_
  refine mx_putI 20 3 (ref := "PrairiePool$Compare") cl_20 (Nat.le_of_ble_eq_true rfl) (Or.inl q1441) (Or.inl rfl) dX23_init_16 (Or.inr ⟨rfl, rfl, rfl, q1441⟩) rfl (ma_kde Kh6 (k2)) ?_
  refine mx_nmI  (fun h7 eh7 Xh7 Kh7 Lh7 => ?_)
  have H := H h7 eh7 Xh7
  have Kh7 := Kh7.trans Kh6
  have Lh7 := Lh7.trans Lh6
  refine mx_aload_n dX23_init_19 rfl rfl ?_
  refine mx_aload dX23_init_20 rfl ?_
  obtain ⟨k8, H⟩ := H
  refine mx_putO 20 2 (ref := "PrairiePool$Compare") cl_20 (Nat.le_of_ble_eq_true rfl) (Or.inl q1440) (Or.inl rfl) dX23_init_22 (Or.inr ⟨rfl, rfl, rfl, q1440⟩) rfl (Or.inr k8) (ma_kde Kh7 (k2)) ?_
  refine mx_nmR (ah_ext.wR (Or.inr (Or.inl k8))) (fun h9 eh9 Xh9 Kh9 Lh9 => ?_)
  have H := H h9 eh9 Xh9
  have Kh9 := Kh9.trans Kh7
  have Lh9 := Lh9.trans Lh7
  exact mx_vret rfl dX23_init_25 H
