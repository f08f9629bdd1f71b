/-! LAYER 2: HeldTongueModel.<init>, by gen/mk_init.py -/
set_option maxRecDepth 100000
theorem s_toM {G : GG} {Γ : Cx} {μ : MI} {r : Vv × Wd} {pc : Nat} {ls : List (Option Vv)} {st : List Vv} {sl : Nat} {td : TT} {c : CC} {X : Type} {k : Option X} {post : X → Prop} (h : Sm k post (WP G Γ μ r pc ls st (168, sl, tt td, cv c))) : Sm (@gd X (cv c = c) (Classical.propDecidable _) k) post (WP G Γ μ r pc ls st (168, sl, tB td 168, c)) := by
  intro x0 hx0 hp
  by_cases hR : cv c = c
  · rw [@gd_pos X _ (Classical.propDecidable _) _ hR] at hx0
    have hw := h x0 hx0 hp
    rw [tB_end]
    rw [hR] at hw
    exact hw
  · rw [@gd_neg X _ (Classical.propDecidable _) _ hR] at hx0; cases hx0
theorem fiX4_7 : FP RX4 7 3 0 "<init>" := ⟨_, _, _, cf3, by decide, q1244, Or.inr ⟨rfl, rfl, rfl⟩⟩
theorem fiX4_13 : FP RX4 13 3 1 "<init>" := ⟨_, _, _, cf3, by decide, q1245, Or.inr ⟨rfl, rfl, rfl⟩⟩
theorem fiX4_16 : FP RX4 16 3 2 "<init>" := ⟨_, _, _, cf3, by decide, q1246, Or.inr ⟨rfl, rfl, rfl⟩⟩
theorem fiX4_20 : FP RX4 20 3 4 "<init>" := ⟨_, _, _, cf3, by decide, q1248, Or.inl rfl⟩
theorem fiX4_24 : FP RX4 24 3 5 "<init>" := ⟨_, _, _, cf3, by decide, q1249, Or.inl rfl⟩
theorem fiX4_27 : FP RX4 27 3 6 "<init>" := ⟨_, _, _, cf3, by decide, q1250, Or.inr ⟨rfl, rfl, rfl⟩⟩
theorem fiX4_30 : FP RX4 30 3 7 "<init>" := ⟨_, _, _, cf3, by decide, q1251, Or.inr ⟨rfl, rfl, rfl⟩⟩
theorem fiX4_33 : FP RX4 33 3 8 "<init>" := ⟨_, _, _, cf3, by decide, q1252, Or.inr ⟨rfl, rfl, rfl⟩⟩
theorem fiX4_36 : FP RX4 36 3 9 "<init>" := ⟨_, _, _, cf3, by decide, q1253, Or.inr ⟨rfl, rfl, rfl⟩⟩
theorem fiX4_39 : FP RX4 39 3 10 "<init>" := ⟨_, _, _, cf3, by decide, q1254, Or.inr ⟨rfl, rfl, rfl⟩⟩
theorem fiX4_42 : FP RX4 42 3 11 "<init>" := ⟨_, _, _, cf3, by decide, q1255, Or.inr ⟨rfl, rfl, rfl⟩⟩
theorem fiX4_45 : FP RX4 45 3 12 "<init>" := ⟨_, _, _, cf3, by decide, q1256, Or.inr ⟨rfl, rfl, rfl⟩⟩
theorem fiX4_48 : FP RX4 48 3 13 "<init>" := ⟨_, _, _, cf3, by decide, q1257, Or.inr ⟨rfl, rfl, rfl⟩⟩
theorem fiX4_51 : FP RX4 51 3 14 "<init>" := ⟨_, _, _, cf3, by decide, q1258, Or.inr ⟨rfl, rfl, rfl⟩⟩
theorem fiX4_54 : FP RX4 54 3 15 "<init>" := ⟨_, _, _, cf3, by decide, q1259, Or.inr ⟨rfl, rfl, rfl⟩⟩
theorem fiX4_57 : FP RX4 57 3 16 "<init>" := ⟨_, _, _, cf3, by decide, q1260, Or.inr ⟨rfl, rfl, rfl⟩⟩
theorem fiX4_60 : FP RX4 60 3 17 "<init>" := ⟨_, _, _, cf3, by decide, q1261, Or.inr ⟨rfl, rfl, rfl⟩⟩
theorem fiX4_63 : FP RX4 63 3 27 "<init>" := ⟨_, _, _, cf3, by decide, q1271, Or.inr ⟨rfl, rfl, rfl⟩⟩
theorem fiX4_66 : FP RX4 66 3 28 "<init>" := ⟨_, _, _, cf3, by decide, q1272, Or.inr ⟨rfl, rfl, rfl⟩⟩
theorem fiX4_69 : FP RX4 69 3 30 "<init>" := ⟨_, _, _, cf3, by decide, q1274, Or.inr ⟨rfl, rfl, rfl⟩⟩
theorem fiX4_72 : FP RX4 72 3 31 "<init>" := ⟨_, _, _, cf3, by decide, q1275, Or.inr ⟨rfl, rfl, rfl⟩⟩
theorem fiX4_75 : FP RX4 75 3 35 "<init>" := ⟨_, _, _, cf3, by decide, q1279, Or.inr ⟨rfl, rfl, rfl⟩⟩
theorem fiX4_78 : FP RX4 78 3 36 "<init>" := ⟨_, _, _, cf3, by decide, q1280, Or.inr ⟨rfl, rfl, rfl⟩⟩
theorem fiX4_81 : FP RX4 81 3 37 "<init>" := ⟨_, _, _, cf3, by decide, q1281, Or.inr ⟨rfl, rfl, rfl⟩⟩
theorem fiX4_84 : FP RX4 84 3 39 "<init>" := ⟨_, _, _, cf3, by decide, q1283, Or.inr ⟨rfl, rfl, rfl⟩⟩
theorem fiX4_87 : FP RX4 87 3 40 "<init>" := ⟨_, _, _, cf3, by decide, q1284, Or.inr ⟨rfl, rfl, rfl⟩⟩
theorem fiX4_90 : FP RX4 90 3 41 "<init>" := ⟨_, _, _, cf3, by decide, q1285, Or.inr ⟨rfl, rfl, rfl⟩⟩
theorem fiX4_93 : FP RX4 93 3 42 "<init>" := ⟨_, _, _, cf3, by decide, q1286, Or.inr ⟨rfl, rfl, rfl⟩⟩
theorem fiX4_97 : FP RX4 97 3 43 "<init>" := ⟨_, _, _, cf3, by decide, q1287, Or.inr ⟨rfl, rfl, rfl⟩⟩
theorem fiX4_100 : FP RX4 100 3 44 "<init>" := ⟨_, _, _, cf3, by decide, q1288, Or.inr ⟨rfl, rfl, rfl⟩⟩
theorem fiX4_103 : FP RX4 103 3 46 "<init>" := ⟨_, _, _, cf3, by decide, q1290, Or.inr ⟨rfl, rfl, rfl⟩⟩
theorem fiX4_106 : FP RX4 106 3 47 "<init>" := ⟨_, _, _, cf3, by decide, q1291, Or.inr ⟨rfl, rfl, rfl⟩⟩
theorem fiX4_109 : FP RX4 109 3 48 "<init>" := ⟨_, _, _, cf3, by decide, q1292, Or.inr ⟨rfl, rfl, rfl⟩⟩
theorem fiX4_112 : FP RX4 112 3 49 "<init>" := ⟨_, _, _, cf3, by decide, q1293, Or.inr ⟨rfl, rfl, rfl⟩⟩
theorem fiX4_115 : FP RX4 115 3 50 "<init>" := ⟨_, _, _, cf3, by decide, q1294, Or.inr ⟨rfl, rfl, rfl⟩⟩
theorem fiX4_118 : FP RX4 118 3 51 "<init>" := ⟨_, _, _, cf3, by decide, q1295, Or.inr ⟨rfl, rfl, rfl⟩⟩
theorem fiX4_121 : FP RX4 121 3 52 "<init>" := ⟨_, _, _, cf3, by decide, q1296, Or.inr ⟨rfl, rfl, rfl⟩⟩
theorem fiX4_124 : FP RX4 124 3 53 "<init>" := ⟨_, _, _, cf3, by decide, q1297, Or.inr ⟨rfl, rfl, rfl⟩⟩
theorem fiX4_127 : FP RX4 127 3 54 "<init>" := ⟨_, _, _, cf3, by decide, q1298, Or.inr ⟨rfl, rfl, rfl⟩⟩
theorem fiX4_130 : FP RX4 130 3 57 "<init>" := ⟨_, _, _, cf3, by decide, q1301, Or.inr ⟨rfl, rfl, rfl⟩⟩
theorem fiX4_133 : FP RX4 133 3 58 "<init>" := ⟨_, _, _, cf3, by decide, q1302, Or.inr ⟨rfl, rfl, rfl⟩⟩
theorem fiX4_136 : FP RX4 136 3 59 "<init>" := ⟨_, _, _, cf3, by decide, q1303, Or.inr ⟨rfl, rfl, rfl⟩⟩
theorem fiX4_139 : FP RX4 139 3 60 "<init>" := ⟨_, _, _, cf3, by decide, q1304, Or.inr ⟨rfl, rfl, rfl⟩⟩
theorem fiX4_142 : FP RX4 142 3 61 "<init>" := ⟨_, _, _, cf3, by decide, q1305, Or.inr ⟨rfl, rfl, rfl⟩⟩
theorem fiX4_145 : FP RX4 145 3 62 "<init>" := ⟨_, _, _, cf3, by decide, q1306, Or.inr ⟨rfl, rfl, rfl⟩⟩
theorem fiX4_148 : FP RX4 148 3 63 "<init>" := ⟨_, _, _, cf3, by decide, q1307, Or.inr ⟨rfl, rfl, rfl⟩⟩
theorem fiX4_151 : FP RX4 151 3 64 "<init>" := ⟨_, _, _, cf3, by decide, q1308, Or.inr ⟨rfl, rfl, rfl⟩⟩
theorem fiX4_154 : FP RX4 154 3 65 "<init>" := ⟨_, _, _, cf3, by decide, q1309, Or.inr ⟨rfl, rfl, rfl⟩⟩
theorem fiX4_157 : FP RX4 157 3 66 "<init>" := ⟨_, _, _, cf3, by decide, q1310, Or.inr ⟨rfl, rfl, rfl⟩⟩
theorem fiX4_160 : FP RX4 160 3 68 "<init>" := ⟨_, _, _, cf3, by decide, q1312, Or.inr ⟨rfl, rfl, rfl⟩⟩
theorem fiX4_163 : FP RX4 163 3 70 "<init>" := ⟨_, _, _, cf3, by decide, q1314, Or.inr ⟨rfl, rfl, rfl⟩⟩
theorem fiX4_167 : FP RX4 167 3 75 "<init>" := ⟨_, _, _, cf3, by decide, q1319, Or.inr ⟨rfl, rfl, rfl⟩⟩
theorem fiX4_170 : FP RX4 170 3 76 "<init>" := ⟨_, _, _, cf3, by decide, q1320, Or.inr ⟨rfl, rfl, rfl⟩⟩
theorem fiX4_173 : FP RX4 173 3 77 "<init>" := ⟨_, _, _, cf3, by decide, q1321, Or.inr ⟨rfl, rfl, rfl⟩⟩
theorem fiX4_176 : FP RX4 176 3 78 "<init>" := ⟨_, _, _, cf3, by decide, q1322, Or.inr ⟨rfl, rfl, rfl⟩⟩
theorem fiX4_179 : FP RX4 179 3 79 "<init>" := ⟨_, _, _, cf3, by decide, q1323, Or.inr ⟨rfl, rfl, rfl⟩⟩
theorem fiX4_182 : FP RX4 182 3 80 "<init>" := ⟨_, _, _, cf3, by decide, q1324, Or.inr ⟨rfl, rfl, rfl⟩⟩
theorem fiX4_185 : FP RX4 185 3 81 "<init>" := ⟨_, _, _, cf3, by decide, q1325, Or.inr ⟨rfl, rfl, rfl⟩⟩
abbrev muX4_init : MI := (cX4_init, RX4, 1, none, 2, "<init>")
noncomputable def fX4_init (c : CC) : Option CC :=
  bd (zc c 112 (50 + 0)) fun c_1 =>
  bd (up2 c_1 111 0 112) fun c_2 =>
  bd (zc c_2 113 (50 + 0)) fun c_3 =>
  bd (up2 c_3 111 1 113) fun c_4 =>
  bd (zc c_4 114 (50 + 2)) fun c_5 =>
  bd (up2 c_5 111 2 114) fun c_6 =>
  bd (up2 c_6 111 4 (-1)) fun c_7 =>
  bd (up2 c_7 111 5 (-1)) fun c_8 =>
  bd (zc c_8 115 (50 + 0)) fun c_9 =>
  bd (up2 c_9 111 6 115) fun c_10 =>
  bd (zc c_10 116 (50 + 0)) fun c_11 =>
  bd (up2 c_11 111 7 116) fun c_12 =>
  bd (zc c_12 117 (50 + 0)) fun c_13 =>
  bd (up2 c_13 111 8 117) fun c_14 =>
  bd (zc c_14 118 (50 + 0)) fun c_15 =>
  bd (up2 c_15 111 9 118) fun c_16 =>
  bd (zc c_16 119 (50 + 0)) fun c_17 =>
  bd (up2 c_17 111 10 119) fun c_18 =>
  bd (zc c_18 120 (50 + 0)) fun c_19 =>
  bd (up2 c_19 111 11 120) fun c_20 =>
  bd (zc c_20 121 (50 + 0)) fun c_21 =>
  bd (up2 c_21 111 12 121) fun c_22 =>
  bd (zc c_22 122 (50 + 0)) fun c_23 =>
  bd (up2 c_23 111 13 122) fun c_24 =>
  bd (zc c_24 123 (50 + 0)) fun c_25 =>
  bd (up2 c_25 111 14 123) fun c_26 =>
  bd (zc c_26 124 (50 + 0)) fun c_27 =>
  bd (up2 c_27 111 15 124) fun c_28 =>
  bd (zc c_28 125 (50 + 0)) fun c_29 =>
  bd (up2 c_29 111 16 125) fun c_30 =>
  bd (zc c_30 126 (50 + 0)) fun c_31 =>
  bd (up2 c_31 111 17 126) fun c_32 =>
  bd (zc c_32 127 (50 + 0)) fun c_33 =>
  bd (up2 c_33 111 27 127) fun c_34 =>
  bd (zc c_34 128 (50 + 0)) fun c_35 =>
  bd (up2 c_35 111 28 128) fun c_36 =>
  bd (zc c_36 129 (50 + 0)) fun c_37 =>
  bd (up2 c_37 111 30 129) fun c_38 =>
  bd (zc c_38 130 (50 + 0)) fun c_39 =>
  bd (up2 c_39 111 31 130) fun c_40 =>
  bd (zc c_40 131 (50 + 0)) fun c_41 =>
  bd (up2 c_41 111 35 131) fun c_42 =>
  bd (zc c_42 132 (50 + 0)) fun c_43 =>
  bd (up2 c_43 111 36 132) fun c_44 =>
  bd (zc c_44 133 (50 + 0)) fun c_45 =>
  bd (up2 c_45 111 37 133) fun c_46 =>
  bd (zc c_46 134 (50 + 0)) fun c_47 =>
  bd (up2 c_47 111 39 134) fun c_48 =>
  bd (zc c_48 135 (50 + 0)) fun c_49 =>
  bd (up2 c_49 111 40 135) fun c_50 =>
  bd (zc c_50 136 (50 + 0)) fun c_51 =>
  bd (up2 c_51 111 41 136) fun c_52 =>
  bd (zc c_52 137 (50 + 1)) fun c_53 =>
  bd (up2 c_53 111 42 137) fun c_54 =>
  bd (zc c_54 138 (50 + 1)) fun c_55 =>
  bd (up2 c_55 111 43 138) fun c_56 =>
  bd (zc c_56 139 (50 + 1)) fun c_57 =>
  bd (up2 c_57 111 44 139) fun c_58 =>
  bd (zc c_58 140 (50 + 1)) fun c_59 =>
  bd (up2 c_59 111 46 140) fun c_60 =>
  bd (zc c_60 141 (50 + 1)) fun c_61 =>
  bd (up2 c_61 111 47 141) fun c_62 =>
  bd (zc c_62 142 (50 + 1)) fun c_63 =>
  bd (up2 c_63 111 48 142) fun c_64 =>
  bd (zc c_64 143 (50 + 0)) fun c_65 =>
  bd (up2 c_65 111 49 143) fun c_66 =>
  bd (zc c_66 144 (50 + 0)) fun c_67 =>
  bd (up2 c_67 111 50 144) fun c_68 =>
  bd (zc c_68 145 (50 + 0)) fun c_69 =>
  bd (up2 c_69 111 51 145) fun c_70 =>
  bd (zc c_70 146 (50 + 1)) fun c_71 =>
  bd (up2 c_71 111 52 146) fun c_72 =>
  bd (zc c_72 147 (50 + 0)) fun c_73 =>
  bd (up2 c_73 111 53 147) fun c_74 =>
  bd (zc c_74 148 (50 + 0)) fun c_75 =>
  bd (up2 c_75 111 54 148) fun c_76 =>
  bd (zc c_76 149 (50 + 0)) fun c_77 =>
  bd (up2 c_77 111 57 149) fun c_78 =>
  bd (zc c_78 150 (50 + 0)) fun c_79 =>
  bd (up2 c_79 111 58 150) fun c_80 =>
  bd (zc c_80 151 (50 + 0)) fun c_81 =>
  bd (up2 c_81 111 59 151) fun c_82 =>
  bd (zc c_82 152 (50 + 0)) fun c_83 =>
  bd (up2 c_83 111 60 152) fun c_84 =>
  bd (zc c_84 153 (50 + 0)) fun c_85 =>
  bd (up2 c_85 111 61 153) fun c_86 =>
  bd (zc c_86 154 (50 + 0)) fun c_87 =>
  bd (up2 c_87 111 62 154) fun c_88 =>
  bd (zc c_88 155 (50 + 0)) fun c_89 =>
  bd (up2 c_89 111 63 155) fun c_90 =>
  bd (zc c_90 156 (50 + 0)) fun c_91 =>
  bd (up2 c_91 111 64 156) fun c_92 =>
  bd (zc c_92 157 (50 + 0)) fun c_93 =>
  bd (up2 c_93 111 65 157) fun c_94 =>
  bd (zc c_94 158 (50 + 0)) fun c_95 =>
  bd (up2 c_95 111 66 158) fun c_96 =>
  bd (zc c_96 159 (50 + 0)) fun c_97 =>
  bd (up2 c_97 111 68 159) fun c_98 =>
  bd (zc c_98 160 (50 + 3)) fun c_99 =>
  bd (up2 c_99 111 70 160) fun c_100 =>
  bd (zc c_100 161 (50 + 0)) fun c_101 =>
  bd (up2 c_101 111 75 161) fun c_102 =>
  bd (zc c_102 162 (50 + 0)) fun c_103 =>
  bd (up2 c_103 111 76 162) fun c_104 =>
  bd (zc c_104 163 (50 + 0)) fun c_105 =>
  bd (up2 c_105 111 77 163) fun c_106 =>
  bd (zc c_106 164 (50 + 0)) fun c_107 =>
  bd (up2 c_107 111 78 164) fun c_108 =>
  bd (zc c_108 165 (50 + 0)) fun c_109 =>
  bd (up2 c_109 111 79 165) fun c_110 =>
  bd (zc c_110 166 (50 + 0)) fun c_111 =>
  bd (up2 c_111 111 80 166) fun c_112 =>
  bd (zc c_112 167 (50 + 0)) fun c_113 =>
  bd (up2 c_113 111 81 167) fun c_114 =>
  @gd _ (cv c_114 = c_114) (Classical.propDecidable _) <| bd (up2 c_114 112 1 (-1)) fun c_115 => cl (fX4_copies 1 c_115) fun c_116 => some c_116
theorem sX4_init {G : GG} {Γ : Cx} {r : Vv × Wd} {sl : Nat} {td : TT} (c : CC) : Sm (fX4_init c) (fun x => r = ((3, 0), (168, ((((((((((((((((((((((((((((((((((((((((((((((((((((((((sl + Int.toNat 40) + Int.toNat 40) + Int.toNat 300) + Int.toNat 6) + Int.toNat 144) + Int.toNat 144) + Int.toNat 144) + Int.toNat 144) + Int.toNat 144) + Int.toNat 144) + Int.toNat 144) + Int.toNat 144) + Int.toNat 144) + Int.toNat 2400) + Int.toNat 2400) + Int.toNat 40) + Int.toNat 41) + Int.toNat 80) + Int.toNat 80) + Int.toNat 24) + Int.toNat 24) + Int.toNat 168) + Int.toNat 400) + Int.toNat 400) + Int.toNat 7) + Int.toNat 200) + Int.toNat 4608) + Int.toNat 27648) + Int.toNat 6) + Int.toNat 6) + Int.toNat 7) + Int.toNat 24) + Int.toNat 24) + Int.toNat 32) + Int.toNat 825) + Int.toNat 4608) + Int.toNat 27648) + Int.toNat 7300) + Int.toNat 7300) + Int.toNat 7300) + Int.toNat 7300) + Int.toNat 14600) + Int.toNat 6) + Int.toNat 26) + Int.toNat 26) + Int.toNat 26) + Int.toNat 26) + Int.toNat 24) + Int.toNat 7300) + Int.toNat 4992) + Int.toNat 4992) + Int.toNat 4992) + Int.toNat 6) + Int.toNat 128) + Int.toNat 100) + Int.toNat 100), tt td, cv x))) (WP G Γ muX4_init r 0 [some (2, 111)] [] (112, sl, tB td 112, c)) := by
  unfold fX4_init
  refine s_aload_n (pc := 0) dX4_init_0 rfl ?_
  refine s_objInit (pc := 1) (a := 111) q1239 q161 q162 rfl (by decide) (Nat.le_of_ble_eq_true rfl) dX4_init_1 ?_
  refine s_aload_n (pc := 4) dX4_init_4 rfl ?_
  refine s_bipush (pc := 5) dX4_init_5 ?_
  refine s_newaB (pc := 7) (K := 112) (at0 := .int) (q := 0) (t_112 _) (by decide) (by decide) rfl q205 (by decide) (fun _ _ h => h) dX4_init_7 (fun c_1 => ?_)
  refine s_putB (pc := 9) (K := 113) (a := 111) ⟨by decide, by decide⟩ (t_111 _) fiX4_7 rfl rfl (by decide) dX4_init_9 (fun c_2 => ?_)
  refine s_aload_n (pc := 12) dX4_init_12 rfl ?_
  refine s_bipush (pc := 13) dX4_init_13 ?_
  refine s_newaB (pc := 15) (K := 113) (at0 := .int) (q := 0) (t_113 _) (by decide) (by decide) rfl q205 (by decide) (fun _ _ h => h) dX4_init_15 (fun c_3 => ?_)
  refine s_putB (pc := 17) (K := 114) (a := 111) ⟨by decide, by decide⟩ (t_111 _) fiX4_13 rfl rfl (by decide) dX4_init_17 (fun c_4 => ?_)
  refine s_aload_n (pc := 20) dX4_init_20 rfl ?_
  refine s_sipush (pc := 21) dX4_init_21 ?_
  refine s_newaB (pc := 24) (K := 114) (at0 := .byte) (q := 2) (t_114 _) (by decide) (by decide) rfl q337 (by decide) (fun _ _ h => h) dX4_init_24 (fun c_5 => ?_)
  refine s_putB (pc := 26) (K := 115) (a := 111) ⟨by decide, by decide⟩ (t_111 _) fiX4_16 rfl rfl (by decide) dX4_init_26 (fun c_6 => ?_)
  refine s_aload_n (pc := 29) dX4_init_29 rfl ?_
  refine s_iconst (pc := 30) dX4_init_30 ?_
  refine s_putB (pc := 31) (K := 115) (a := 111) ⟨by decide, by decide⟩ (t_111 _) fiX4_20 rfl rfl (by decide) dX4_init_31 (fun c_7 => ?_)
  refine s_aload_n (pc := 34) dX4_init_34 rfl ?_
  refine s_iconst (pc := 35) dX4_init_35 ?_
  refine s_putB (pc := 36) (K := 115) (a := 111) ⟨by decide, by decide⟩ (t_111 _) fiX4_24 rfl rfl (by decide) dX4_init_36 (fun c_8 => ?_)
  refine s_aload_n (pc := 39) dX4_init_39 rfl ?_
  refine s_bipush (pc := 40) dX4_init_40 ?_
  refine s_newaB (pc := 42) (K := 115) (at0 := .int) (q := 0) (t_115 _) (by decide) (by decide) rfl q205 (by decide) (fun _ _ h => h) dX4_init_42 (fun c_9 => ?_)
  refine s_putB (pc := 44) (K := 116) (a := 111) ⟨by decide, by decide⟩ (t_111 _) fiX4_27 rfl rfl (by decide) dX4_init_44 (fun c_10 => ?_)
  refine s_aload_n (pc := 47) dX4_init_47 rfl ?_
  refine s_sipush (pc := 48) dX4_init_48 ?_
  refine s_newaB (pc := 51) (K := 116) (at0 := .int) (q := 0) (t_116 _) (by decide) (by decide) rfl q205 (by decide) (fun _ _ h => h) dX4_init_51 (fun c_11 => ?_)
  refine s_putB (pc := 53) (K := 117) (a := 111) ⟨by decide, by decide⟩ (t_111 _) fiX4_30 rfl rfl (by decide) dX4_init_53 (fun c_12 => ?_)
  refine s_aload_n (pc := 56) dX4_init_56 rfl ?_
  refine s_sipush (pc := 57) dX4_init_57 ?_
  refine s_newaB (pc := 60) (K := 117) (at0 := .int) (q := 0) (t_117 _) (by decide) (by decide) rfl q205 (by decide) (fun _ _ h => h) dX4_init_60 (fun c_13 => ?_)
  refine s_putB (pc := 62) (K := 118) (a := 111) ⟨by decide, by decide⟩ (t_111 _) fiX4_33 rfl rfl (by decide) dX4_init_62 (fun c_14 => ?_)
  refine s_aload_n (pc := 65) dX4_init_65 rfl ?_
  refine s_sipush (pc := 66) dX4_init_66 ?_
  refine s_newaB (pc := 69) (K := 118) (at0 := .int) (q := 0) (t_118 _) (by decide) (by decide) rfl q205 (by decide) (fun _ _ h => h) dX4_init_69 (fun c_15 => ?_)
  refine s_putB (pc := 71) (K := 119) (a := 111) ⟨by decide, by decide⟩ (t_111 _) fiX4_36 rfl rfl (by decide) dX4_init_71 (fun c_16 => ?_)
  refine s_aload_n (pc := 74) dX4_init_74 rfl ?_
  refine s_sipush (pc := 75) dX4_init_75 ?_
  refine s_newaB (pc := 78) (K := 119) (at0 := .int) (q := 0) (t_119 _) (by decide) (by decide) rfl q205 (by decide) (fun _ _ h => h) dX4_init_78 (fun c_17 => ?_)
  refine s_putB (pc := 80) (K := 120) (a := 111) ⟨by decide, by decide⟩ (t_111 _) fiX4_39 rfl rfl (by decide) dX4_init_80 (fun c_18 => ?_)
  refine s_aload_n (pc := 83) dX4_init_83 rfl ?_
  refine s_sipush (pc := 84) dX4_init_84 ?_
  refine s_newaB (pc := 87) (K := 120) (at0 := .int) (q := 0) (t_120 _) (by decide) (by decide) rfl q205 (by decide) (fun _ _ h => h) dX4_init_87 (fun c_19 => ?_)
  refine s_putB (pc := 89) (K := 121) (a := 111) ⟨by decide, by decide⟩ (t_111 _) fiX4_42 rfl rfl (by decide) dX4_init_89 (fun c_20 => ?_)
  refine s_aload_n (pc := 92) dX4_init_92 rfl ?_
  refine s_sipush (pc := 93) dX4_init_93 ?_
  refine s_newaB (pc := 96) (K := 121) (at0 := .int) (q := 0) (t_121 _) (by decide) (by decide) rfl q205 (by decide) (fun _ _ h => h) dX4_init_96 (fun c_21 => ?_)
  refine s_putB (pc := 98) (K := 122) (a := 111) ⟨by decide, by decide⟩ (t_111 _) fiX4_45 rfl rfl (by decide) dX4_init_98 (fun c_22 => ?_)
  refine s_aload_n (pc := 101) dX4_init_101 rfl ?_
  refine s_sipush (pc := 102) dX4_init_102 ?_
  refine s_newaB (pc := 105) (K := 122) (at0 := .int) (q := 0) (t_122 _) (by decide) (by decide) rfl q205 (by decide) (fun _ _ h => h) dX4_init_105 (fun c_23 => ?_)
  refine s_putB (pc := 107) (K := 123) (a := 111) ⟨by decide, by decide⟩ (t_111 _) fiX4_48 rfl rfl (by decide) dX4_init_107 (fun c_24 => ?_)
  refine s_aload_n (pc := 110) dX4_init_110 rfl ?_
  refine s_sipush (pc := 111) dX4_init_111 ?_
  refine s_newaB (pc := 114) (K := 123) (at0 := .int) (q := 0) (t_123 _) (by decide) (by decide) rfl q205 (by decide) (fun _ _ h => h) dX4_init_114 (fun c_25 => ?_)
  refine s_putB (pc := 116) (K := 124) (a := 111) ⟨by decide, by decide⟩ (t_111 _) fiX4_51 rfl rfl (by decide) dX4_init_116 (fun c_26 => ?_)
  refine s_aload_n (pc := 119) dX4_init_119 rfl ?_
  refine s_sipush (pc := 120) dX4_init_120 ?_
  refine s_newaB (pc := 123) (K := 124) (at0 := .int) (q := 0) (t_124 _) (by decide) (by decide) rfl q205 (by decide) (fun _ _ h => h) dX4_init_123 (fun c_27 => ?_)
  refine s_putB (pc := 125) (K := 125) (a := 111) ⟨by decide, by decide⟩ (t_111 _) fiX4_54 rfl rfl (by decide) dX4_init_125 (fun c_28 => ?_)
  refine s_aload_n (pc := 128) dX4_init_128 rfl ?_
  refine s_sipush (pc := 129) dX4_init_129 ?_
  refine s_newaB (pc := 132) (K := 125) (at0 := .int) (q := 0) (t_125 _) (by decide) (by decide) rfl q205 (by decide) (fun _ _ h => h) dX4_init_132 (fun c_29 => ?_)
  refine s_putB (pc := 134) (K := 126) (a := 111) ⟨by decide, by decide⟩ (t_111 _) fiX4_57 rfl rfl (by decide) dX4_init_134 (fun c_30 => ?_)
  refine s_aload_n (pc := 137) dX4_init_137 rfl ?_
  refine s_sipush (pc := 138) dX4_init_138 ?_
  refine s_newaB (pc := 141) (K := 126) (at0 := .int) (q := 0) (t_126 _) (by decide) (by decide) rfl q205 (by decide) (fun _ _ h => h) dX4_init_141 (fun c_31 => ?_)
  refine s_putB (pc := 143) (K := 127) (a := 111) ⟨by decide, by decide⟩ (t_111 _) fiX4_60 rfl rfl (by decide) dX4_init_143 (fun c_32 => ?_)
  refine s_aload_n (pc := 146) dX4_init_146 rfl ?_
  refine s_bipush (pc := 147) dX4_init_147 ?_
  refine s_newaB (pc := 149) (K := 127) (at0 := .int) (q := 0) (t_127 _) (by decide) (by decide) rfl q205 (by decide) (fun _ _ h => h) dX4_init_149 (fun c_33 => ?_)
  refine s_putB (pc := 151) (K := 128) (a := 111) ⟨by decide, by decide⟩ (t_111 _) fiX4_63 rfl rfl (by decide) dX4_init_151 (fun c_34 => ?_)
  refine s_aload_n (pc := 154) dX4_init_154 rfl ?_
  refine s_bipush (pc := 155) dX4_init_155 ?_
  refine s_newaB (pc := 157) (K := 128) (at0 := .int) (q := 0) (t_128 _) (by decide) (by decide) rfl q205 (by decide) (fun _ _ h => h) dX4_init_157 (fun c_35 => ?_)
  refine s_putB (pc := 159) (K := 129) (a := 111) ⟨by decide, by decide⟩ (t_111 _) fiX4_66 rfl rfl (by decide) dX4_init_159 (fun c_36 => ?_)
  refine s_aload_n (pc := 162) dX4_init_162 rfl ?_
  refine s_bipush (pc := 163) dX4_init_163 ?_
  refine s_newaB (pc := 165) (K := 129) (at0 := .int) (q := 0) (t_129 _) (by decide) (by decide) rfl q205 (by decide) (fun _ _ h => h) dX4_init_165 (fun c_37 => ?_)
  refine s_putB (pc := 167) (K := 130) (a := 111) ⟨by decide, by decide⟩ (t_111 _) fiX4_69 rfl rfl (by decide) dX4_init_167 (fun c_38 => ?_)
  refine s_aload_n (pc := 170) dX4_init_170 rfl ?_
  refine s_bipush (pc := 171) dX4_init_171 ?_
  refine s_newaB (pc := 173) (K := 130) (at0 := .int) (q := 0) (t_130 _) (by decide) (by decide) rfl q205 (by decide) (fun _ _ h => h) dX4_init_173 (fun c_39 => ?_)
  refine s_putB (pc := 175) (K := 131) (a := 111) ⟨by decide, by decide⟩ (t_111 _) fiX4_72 rfl rfl (by decide) dX4_init_175 (fun c_40 => ?_)
  refine s_aload_n (pc := 178) dX4_init_178 rfl ?_
  refine s_bipush (pc := 179) dX4_init_179 ?_
  refine s_newaB (pc := 181) (K := 131) (at0 := .int) (q := 0) (t_131 _) (by decide) (by decide) rfl q205 (by decide) (fun _ _ h => h) dX4_init_181 (fun c_41 => ?_)
  refine s_putB (pc := 183) (K := 132) (a := 111) ⟨by decide, by decide⟩ (t_111 _) fiX4_75 rfl rfl (by decide) dX4_init_183 (fun c_42 => ?_)
  refine s_aload_n (pc := 186) dX4_init_186 rfl ?_
  refine s_bipush (pc := 187) dX4_init_187 ?_
  refine s_newaB (pc := 189) (K := 132) (at0 := .int) (q := 0) (t_132 _) (by decide) (by decide) rfl q205 (by decide) (fun _ _ h => h) dX4_init_189 (fun c_43 => ?_)
  refine s_putB (pc := 191) (K := 133) (a := 111) ⟨by decide, by decide⟩ (t_111 _) fiX4_78 rfl rfl (by decide) dX4_init_191 (fun c_44 => ?_)
  refine s_aload_n (pc := 194) dX4_init_194 rfl ?_
  refine s_sipush (pc := 195) dX4_init_195 ?_
  refine s_newaB (pc := 198) (K := 133) (at0 := .int) (q := 0) (t_133 _) (by decide) (by decide) rfl q205 (by decide) (fun _ _ h => h) dX4_init_198 (fun c_45 => ?_)
  refine s_putB (pc := 200) (K := 134) (a := 111) ⟨by decide, by decide⟩ (t_111 _) fiX4_81 rfl rfl (by decide) dX4_init_200 (fun c_46 => ?_)
  refine s_aload_n (pc := 203) dX4_init_203 rfl ?_
  refine s_sipush (pc := 204) dX4_init_204 ?_
  refine s_newaB (pc := 207) (K := 134) (at0 := .int) (q := 0) (t_134 _) (by decide) (by decide) rfl q205 (by decide) (fun _ _ h => h) dX4_init_207 (fun c_47 => ?_)
  refine s_putB (pc := 209) (K := 135) (a := 111) ⟨by decide, by decide⟩ (t_111 _) fiX4_84 rfl rfl (by decide) dX4_init_209 (fun c_48 => ?_)
  refine s_aload_n (pc := 212) dX4_init_212 rfl ?_
  refine s_sipush (pc := 213) dX4_init_213 ?_
  refine s_newaB (pc := 216) (K := 135) (at0 := .int) (q := 0) (t_135 _) (by decide) (by decide) rfl q205 (by decide) (fun _ _ h => h) dX4_init_216 (fun c_49 => ?_)
  refine s_putB (pc := 218) (K := 136) (a := 111) ⟨by decide, by decide⟩ (t_111 _) fiX4_87 rfl rfl (by decide) dX4_init_218 (fun c_50 => ?_)
  refine s_aload_n (pc := 221) dX4_init_221 rfl ?_
  refine s_bipush (pc := 222) dX4_init_222 ?_
  refine s_newaB (pc := 224) (K := 136) (at0 := .int) (q := 0) (t_136 _) (by decide) (by decide) rfl q205 (by decide) (fun _ _ h => h) dX4_init_224 (fun c_51 => ?_)
  refine s_putB (pc := 226) (K := 137) (a := 111) ⟨by decide, by decide⟩ (t_111 _) fiX4_90 rfl rfl (by decide) dX4_init_226 (fun c_52 => ?_)
  refine s_aload_n (pc := 229) dX4_init_229 rfl ?_
  refine s_sipush (pc := 230) dX4_init_230 ?_
  refine s_newaB (pc := 233) (K := 137) (at0 := .long) (q := 1) (t_137 _) (by decide) (by decide) rfl q338 (by decide) (fun _ _ h => h) dX4_init_233 (fun c_53 => ?_)
  refine s_putB (pc := 235) (K := 138) (a := 111) ⟨by decide, by decide⟩ (t_111 _) fiX4_93 rfl rfl (by decide) dX4_init_235 (fun c_54 => ?_)
  refine s_aload_n (pc := 238) dX4_init_238 rfl ?_
  refine s_sipush (pc := 239) dX4_init_239 ?_
  refine s_newaB (pc := 242) (K := 138) (at0 := .long) (q := 1) (t_138 _) (by decide) (by decide) rfl q338 (by decide) (fun _ _ h => h) dX4_init_242 (fun c_55 => ?_)
  refine s_putB (pc := 244) (K := 139) (a := 111) ⟨by decide, by decide⟩ (t_111 _) fiX4_97 rfl rfl (by decide) dX4_init_244 (fun c_56 => ?_)
  refine s_aload_n (pc := 247) dX4_init_247 rfl ?_
  refine s_sipush (pc := 248) dX4_init_248 ?_
  refine s_newaB (pc := 251) (K := 139) (at0 := .long) (q := 1) (t_139 _) (by decide) (by decide) rfl q338 (by decide) (fun _ _ h => h) dX4_init_251 (fun c_57 => ?_)
  refine s_putB (pc := 253) (K := 140) (a := 111) ⟨by decide, by decide⟩ (t_111 _) fiX4_100 rfl rfl (by decide) dX4_init_253 (fun c_58 => ?_)
  refine s_aload_n (pc := 256) dX4_init_256 rfl ?_
  refine s_bipush (pc := 257) dX4_init_257 ?_
  refine s_newaB (pc := 259) (K := 140) (at0 := .long) (q := 1) (t_140 _) (by decide) (by decide) rfl q338 (by decide) (fun _ _ h => h) dX4_init_259 (fun c_59 => ?_)
  refine s_putB (pc := 261) (K := 141) (a := 111) ⟨by decide, by decide⟩ (t_111 _) fiX4_103 rfl rfl (by decide) dX4_init_261 (fun c_60 => ?_)
  refine s_aload_n (pc := 264) dX4_init_264 rfl ?_
  refine s_bipush (pc := 265) dX4_init_265 ?_
  refine s_newaB (pc := 267) (K := 141) (at0 := .long) (q := 1) (t_141 _) (by decide) (by decide) rfl q338 (by decide) (fun _ _ h => h) dX4_init_267 (fun c_61 => ?_)
  refine s_putB (pc := 269) (K := 142) (a := 111) ⟨by decide, by decide⟩ (t_111 _) fiX4_106 rfl rfl (by decide) dX4_init_269 (fun c_62 => ?_)
  refine s_aload_n (pc := 272) dX4_init_272 rfl ?_
  refine s_bipush (pc := 273) dX4_init_273 ?_
  refine s_newaB (pc := 275) (K := 142) (at0 := .long) (q := 1) (t_142 _) (by decide) (by decide) rfl q338 (by decide) (fun _ _ h => h) dX4_init_275 (fun c_63 => ?_)
  refine s_putB (pc := 277) (K := 143) (a := 111) ⟨by decide, by decide⟩ (t_111 _) fiX4_109 rfl rfl (by decide) dX4_init_277 (fun c_64 => ?_)
  refine s_aload_n (pc := 280) dX4_init_280 rfl ?_
  refine s_bipush (pc := 281) dX4_init_281 ?_
  refine s_newaB (pc := 283) (K := 143) (at0 := .int) (q := 0) (t_143 _) (by decide) (by decide) rfl q205 (by decide) (fun _ _ h => h) dX4_init_283 (fun c_65 => ?_)
  refine s_putB (pc := 285) (K := 144) (a := 111) ⟨by decide, by decide⟩ (t_111 _) fiX4_112 rfl rfl (by decide) dX4_init_285 (fun c_66 => ?_)
  refine s_aload_n (pc := 288) dX4_init_288 rfl ?_
  refine s_bipush (pc := 289) dX4_init_289 ?_
  refine s_newaB (pc := 291) (K := 144) (at0 := .int) (q := 0) (t_144 _) (by decide) (by decide) rfl q205 (by decide) (fun _ _ h => h) dX4_init_291 (fun c_67 => ?_)
  refine s_putB (pc := 293) (K := 145) (a := 111) ⟨by decide, by decide⟩ (t_111 _) fiX4_115 rfl rfl (by decide) dX4_init_293 (fun c_68 => ?_)
  refine s_aload_n (pc := 296) dX4_init_296 rfl ?_
  refine s_bipush (pc := 297) dX4_init_297 ?_
  refine s_newaB (pc := 299) (K := 145) (at0 := .int) (q := 0) (t_145 _) (by decide) (by decide) rfl q205 (by decide) (fun _ _ h => h) dX4_init_299 (fun c_69 => ?_)
  refine s_putB (pc := 301) (K := 146) (a := 111) ⟨by decide, by decide⟩ (t_111 _) fiX4_118 rfl rfl (by decide) dX4_init_301 (fun c_70 => ?_)
  refine s_aload_n (pc := 304) dX4_init_304 rfl ?_
  refine s_sipush (pc := 305) dX4_init_305 ?_
  refine s_newaB (pc := 308) (K := 146) (at0 := .long) (q := 1) (t_146 _) (by decide) (by decide) rfl q338 (by decide) (fun _ _ h => h) dX4_init_308 (fun c_71 => ?_)
  refine s_putB (pc := 310) (K := 147) (a := 111) ⟨by decide, by decide⟩ (t_111 _) fiX4_121 rfl rfl (by decide) dX4_init_310 (fun c_72 => ?_)
  refine s_aload_n (pc := 313) dX4_init_313 rfl ?_
  refine s_sipush (pc := 314) dX4_init_314 ?_
  refine s_newaB (pc := 317) (K := 147) (at0 := .int) (q := 0) (t_147 _) (by decide) (by decide) rfl q205 (by decide) (fun _ _ h => h) dX4_init_317 (fun c_73 => ?_)
  refine s_putB (pc := 319) (K := 148) (a := 111) ⟨by decide, by decide⟩ (t_111 _) fiX4_124 rfl rfl (by decide) dX4_init_319 (fun c_74 => ?_)
  refine s_aload_n (pc := 322) dX4_init_322 rfl ?_
  refine s_sipush (pc := 323) dX4_init_323 ?_
  refine s_newaB (pc := 326) (K := 148) (at0 := .int) (q := 0) (t_148 _) (by decide) (by decide) rfl q205 (by decide) (fun _ _ h => h) dX4_init_326 (fun c_75 => ?_)
  refine s_putB (pc := 328) (K := 149) (a := 111) ⟨by decide, by decide⟩ (t_111 _) fiX4_127 rfl rfl (by decide) dX4_init_328 (fun c_76 => ?_)
  refine s_aload_n (pc := 331) dX4_init_331 rfl ?_
  refine s_sipush (pc := 332) dX4_init_332 ?_
  refine s_newaB (pc := 335) (K := 149) (at0 := .int) (q := 0) (t_149 _) (by decide) (by decide) rfl q205 (by decide) (fun _ _ h => h) dX4_init_335 (fun c_77 => ?_)
  refine s_putB (pc := 337) (K := 150) (a := 111) ⟨by decide, by decide⟩ (t_111 _) fiX4_130 rfl rfl (by decide) dX4_init_337 (fun c_78 => ?_)
  refine s_aload_n (pc := 340) dX4_init_340 rfl ?_
  refine s_sipush (pc := 341) dX4_init_341 ?_
  refine s_newaB (pc := 344) (K := 150) (at0 := .int) (q := 0) (t_150 _) (by decide) (by decide) rfl q205 (by decide) (fun _ _ h => h) dX4_init_344 (fun c_79 => ?_)
  refine s_putB (pc := 346) (K := 151) (a := 111) ⟨by decide, by decide⟩ (t_111 _) fiX4_133 rfl rfl (by decide) dX4_init_346 (fun c_80 => ?_)
  refine s_aload_n (pc := 349) dX4_init_349 rfl ?_
  refine s_sipush (pc := 350) dX4_init_350 ?_
  refine s_newaB (pc := 353) (K := 151) (at0 := .int) (q := 0) (t_151 _) (by decide) (by decide) rfl q205 (by decide) (fun _ _ h => h) dX4_init_353 (fun c_81 => ?_)
  refine s_putB (pc := 355) (K := 152) (a := 111) ⟨by decide, by decide⟩ (t_111 _) fiX4_136 rfl rfl (by decide) dX4_init_355 (fun c_82 => ?_)
  refine s_aload_n (pc := 358) dX4_init_358 rfl ?_
  refine s_sipush (pc := 359) dX4_init_359 ?_
  refine s_newaB (pc := 362) (K := 152) (at0 := .int) (q := 0) (t_152 _) (by decide) (by decide) rfl q205 (by decide) (fun _ _ h => h) dX4_init_362 (fun c_83 => ?_)
  refine s_putB (pc := 364) (K := 153) (a := 111) ⟨by decide, by decide⟩ (t_111 _) fiX4_139 rfl rfl (by decide) dX4_init_364 (fun c_84 => ?_)
  refine s_aload_n (pc := 367) dX4_init_367 rfl ?_
  refine s_sipush (pc := 368) dX4_init_368 ?_
  refine s_newaB (pc := 371) (K := 153) (at0 := .int) (q := 0) (t_153 _) (by decide) (by decide) rfl q205 (by decide) (fun _ _ h => h) dX4_init_371 (fun c_85 => ?_)
  refine s_putB (pc := 373) (K := 154) (a := 111) ⟨by decide, by decide⟩ (t_111 _) fiX4_142 rfl rfl (by decide) dX4_init_373 (fun c_86 => ?_)
  refine s_aload_n (pc := 376) dX4_init_376 rfl ?_
  refine s_bipush (pc := 377) dX4_init_377 ?_
  refine s_newaB (pc := 379) (K := 154) (at0 := .int) (q := 0) (t_154 _) (by decide) (by decide) rfl q205 (by decide) (fun _ _ h => h) dX4_init_379 (fun c_87 => ?_)
  refine s_putB (pc := 381) (K := 155) (a := 111) ⟨by decide, by decide⟩ (t_111 _) fiX4_145 rfl rfl (by decide) dX4_init_381 (fun c_88 => ?_)
  refine s_aload_n (pc := 384) dX4_init_384 rfl ?_
  refine s_bipush (pc := 385) dX4_init_385 ?_
  refine s_newaB (pc := 387) (K := 155) (at0 := .int) (q := 0) (t_155 _) (by decide) (by decide) rfl q205 (by decide) (fun _ _ h => h) dX4_init_387 (fun c_89 => ?_)
  refine s_putB (pc := 389) (K := 156) (a := 111) ⟨by decide, by decide⟩ (t_111 _) fiX4_148 rfl rfl (by decide) dX4_init_389 (fun c_90 => ?_)
  refine s_aload_n (pc := 392) dX4_init_392 rfl ?_
  refine s_bipush (pc := 393) dX4_init_393 ?_
  refine s_newaB (pc := 395) (K := 156) (at0 := .int) (q := 0) (t_156 _) (by decide) (by decide) rfl q205 (by decide) (fun _ _ h => h) dX4_init_395 (fun c_91 => ?_)
  refine s_putB (pc := 397) (K := 157) (a := 111) ⟨by decide, by decide⟩ (t_111 _) fiX4_151 rfl rfl (by decide) dX4_init_397 (fun c_92 => ?_)
  refine s_aload_n (pc := 400) dX4_init_400 rfl ?_
  refine s_bipush (pc := 401) dX4_init_401 ?_
  refine s_newaB (pc := 403) (K := 157) (at0 := .int) (q := 0) (t_157 _) (by decide) (by decide) rfl q205 (by decide) (fun _ _ h => h) dX4_init_403 (fun c_93 => ?_)
  refine s_putB (pc := 405) (K := 158) (a := 111) ⟨by decide, by decide⟩ (t_111 _) fiX4_154 rfl rfl (by decide) dX4_init_405 (fun c_94 => ?_)
  refine s_aload_n (pc := 408) dX4_init_408 rfl ?_
  refine s_bipush (pc := 409) dX4_init_409 ?_
  refine s_newaB (pc := 411) (K := 158) (at0 := .int) (q := 0) (t_158 _) (by decide) (by decide) rfl q205 (by decide) (fun _ _ h => h) dX4_init_411 (fun c_95 => ?_)
  refine s_putB (pc := 413) (K := 159) (a := 111) ⟨by decide, by decide⟩ (t_111 _) fiX4_157 rfl rfl (by decide) dX4_init_413 (fun c_96 => ?_)
  refine s_aload_n (pc := 416) dX4_init_416 rfl ?_
  refine s_bipush (pc := 417) dX4_init_417 ?_
  refine s_newaB (pc := 419) (K := 159) (at0 := .int) (q := 0) (t_159 _) (by decide) (by decide) rfl q205 (by decide) (fun _ _ h => h) dX4_init_419 (fun c_97 => ?_)
  refine s_putB (pc := 421) (K := 160) (a := 111) ⟨by decide, by decide⟩ (t_111 _) fiX4_160 rfl rfl (by decide) dX4_init_421 (fun c_98 => ?_)
  refine s_aload_n (pc := 424) dX4_init_424 rfl ?_
  refine s_sipush (pc := 425) dX4_init_425 ?_
  refine s_newaB (pc := 428) (K := 160) (at0 := .boolean) (q := 3) (t_160 _) (by decide) (by decide) rfl q1092 (by decide) (fun _ _ h => h) dX4_init_428 (fun c_99 => ?_)
  refine s_putB (pc := 430) (K := 161) (a := 111) ⟨by decide, by decide⟩ (t_111 _) fiX4_163 rfl rfl (by decide) dX4_init_430 (fun c_100 => ?_)
  refine s_aload_n (pc := 433) dX4_init_433 rfl ?_
  refine s_sipush (pc := 434) dX4_init_434 ?_
  refine s_newaB (pc := 437) (K := 161) (at0 := .int) (q := 0) (t_161 _) (by decide) (by decide) rfl q205 (by decide) (fun _ _ h => h) dX4_init_437 (fun c_101 => ?_)
  refine s_putB (pc := 439) (K := 162) (a := 111) ⟨by decide, by decide⟩ (t_111 _) fiX4_167 rfl rfl (by decide) dX4_init_439 (fun c_102 => ?_)
  refine s_aload_n (pc := 442) dX4_init_442 rfl ?_
  refine s_sipush (pc := 443) dX4_init_443 ?_
  refine s_newaB (pc := 446) (K := 162) (at0 := .int) (q := 0) (t_162 _) (by decide) (by decide) rfl q205 (by decide) (fun _ _ h => h) dX4_init_446 (fun c_103 => ?_)
  refine s_putB (pc := 448) (K := 163) (a := 111) ⟨by decide, by decide⟩ (t_111 _) fiX4_170 rfl rfl (by decide) dX4_init_448 (fun c_104 => ?_)
  refine s_aload_n (pc := 451) dX4_init_451 rfl ?_
  refine s_sipush (pc := 452) dX4_init_452 ?_
  refine s_newaB (pc := 455) (K := 163) (at0 := .int) (q := 0) (t_163 _) (by decide) (by decide) rfl q205 (by decide) (fun _ _ h => h) dX4_init_455 (fun c_105 => ?_)
  refine s_putB (pc := 457) (K := 164) (a := 111) ⟨by decide, by decide⟩ (t_111 _) fiX4_173 rfl rfl (by decide) dX4_init_457 (fun c_106 => ?_)
  refine s_aload_n (pc := 460) dX4_init_460 rfl ?_
  refine s_bipush (pc := 461) dX4_init_461 ?_
  refine s_newaB (pc := 463) (K := 164) (at0 := .int) (q := 0) (t_164 _) (by decide) (by decide) rfl q205 (by decide) (fun _ _ h => h) dX4_init_463 (fun c_107 => ?_)
  refine s_putB (pc := 465) (K := 165) (a := 111) ⟨by decide, by decide⟩ (t_111 _) fiX4_176 rfl rfl (by decide) dX4_init_465 (fun c_108 => ?_)
  refine s_aload_n (pc := 468) dX4_init_468 rfl ?_
  refine s_sipush (pc := 469) dX4_init_469 ?_
  refine s_newaB (pc := 472) (K := 165) (at0 := .int) (q := 0) (t_165 _) (by decide) (by decide) rfl q205 (by decide) (fun _ _ h => h) dX4_init_472 (fun c_109 => ?_)
  refine s_putB (pc := 474) (K := 166) (a := 111) ⟨by decide, by decide⟩ (t_111 _) fiX4_179 rfl rfl (by decide) dX4_init_474 (fun c_110 => ?_)
  refine s_aload_n (pc := 477) dX4_init_477 rfl ?_
  refine s_bipush (pc := 478) dX4_init_478 ?_
  refine s_newaB (pc := 480) (K := 166) (at0 := .int) (q := 0) (t_166 _) (by decide) (by decide) rfl q205 (by decide) (fun _ _ h => h) dX4_init_480 (fun c_111 => ?_)
  refine s_putB (pc := 482) (K := 167) (a := 111) ⟨by decide, by decide⟩ (t_111 _) fiX4_182 rfl rfl (by decide) dX4_init_482 (fun c_112 => ?_)
  refine s_aload_n (pc := 485) dX4_init_485 rfl ?_
  refine s_bipush (pc := 486) dX4_init_486 ?_
  refine s_newaB (pc := 488) (K := 167) (at0 := .int) (q := 0) (t_167 _) (by decide) (by decide) rfl q205 (by decide) (fun _ _ h => h) dX4_init_488 (fun c_113 => ?_)
  refine s_putB (pc := 490) (K := 168) (a := 111) ⟨by decide, by decide⟩ (t_111 _) fiX4_185 rfl rfl (by decide) dX4_init_490 (fun c_114 => ?_)
  refine s_aload_n (pc := 493) dX4_init_493 rfl ?_
  refine s_toM ?_
  refine s_get (pc := 494) (a := 111) (v := 112) flX4_7 (t_111 _) rfl (g_111_0 _) rfl dX4_init_494 ?_
  refine s_iconst (pc := 497) dX4_init_497 ?_
  refine s_iconst (pc := 498) dX4_init_498 ?_
  refine s_iastML (pc := 499) (a := 112) 1 rfl (Nat.le_of_ble_eq_true rfl) (t_112 _) rfl kO_112 r_112 dX4_init_499 (fun c_115 => ?_)
  refine s_aload_n (pc := 500) dX4_init_500 rfl ?_
  refine s_iconst (pc := 501) dX4_init_501 ?_
  refine s_callV3 (pc := 502) (a := 111) (as := [(0, 1)]) (st := []) (rv := fun b => ((3, 0), (168, ((((((((((((((((((((((((((((((((((((((((((((((((((((((((sl + Int.toNat 40) + Int.toNat 40) + Int.toNat 300) + Int.toNat 6) + Int.toNat 144) + Int.toNat 144) + Int.toNat 144) + Int.toNat 144) + Int.toNat 144) + Int.toNat 144) + Int.toNat 144) + Int.toNat 144) + Int.toNat 144) + Int.toNat 2400) + Int.toNat 2400) + Int.toNat 40) + Int.toNat 41) + Int.toNat 80) + Int.toNat 80) + Int.toNat 24) + Int.toNat 24) + Int.toNat 168) + Int.toNat 400) + Int.toNat 400) + Int.toNat 7) + Int.toNat 200) + Int.toNat 4608) + Int.toNat 27648) + Int.toNat 6) + Int.toNat 6) + Int.toNat 7) + Int.toNat 24) + Int.toNat 24) + Int.toNat 32) + Int.toNat 825) + Int.toNat 4608) + Int.toNat 27648) + Int.toNat 7300) + Int.toNat 7300) + Int.toNat 7300) + Int.toNat 7300) + Int.toNat 14600) + Int.toNat 6) + Int.toNat 26) + Int.toNat 26) + Int.toNat 26) + Int.toNat 26) + Int.toNat 24) + Int.toNat 7300) + Int.toNat 4992) + Int.toNat 4992) + Int.toNat 4992) + Int.toNat 6) + Int.toNat 128) + Int.toNat 100) + Int.toNat 100), tt td, cv b))) (st3 := fun b => []) (w3 := fun b => (168, ((((((((((((((((((((((((((((((((((((((((((((((((((((((((sl + Int.toNat 40) + Int.toNat 40) + Int.toNat 300) + Int.toNat 6) + Int.toNat 144) + Int.toNat 144) + Int.toNat 144) + Int.toNat 144) + Int.toNat 144) + Int.toNat 144) + Int.toNat 144) + Int.toNat 144) + Int.toNat 144) + Int.toNat 2400) + Int.toNat 2400) + Int.toNat 40) + Int.toNat 41) + Int.toNat 80) + Int.toNat 80) + Int.toNat 24) + Int.toNat 24) + Int.toNat 168) + Int.toNat 400) + Int.toNat 400) + Int.toNat 7) + Int.toNat 200) + Int.toNat 4608) + Int.toNat 27648) + Int.toNat 6) + Int.toNat 6) + Int.toNat 7) + Int.toNat 24) + Int.toNat 24) + Int.toNat 32) + Int.toNat 825) + Int.toNat 4608) + Int.toNat 27648) + Int.toNat 7300) + Int.toNat 7300) + Int.toNat 7300) + Int.toNat 7300) + Int.toNat 14600) + Int.toNat 6) + Int.toNat 26) + Int.toNat 26) + Int.toNat 26) + Int.toNat 26) + Int.toNat 24) + Int.toNat 7300) + Int.toNat 4992) + Int.toNat 4992) + Int.toNat 4992) + Int.toNat 6) + Int.toNat 128) + Int.toNat 100) + Int.toNat 100), tt td, cv b)) mvX4_188 (fun b h => kX4_copies 1 c_115 b h) rfl (by decide) (t_111 td) rfl rfl rfl (Nat.le_of_ble_eq_true rfl) (fun _ => Nat.le_of_ble_eq_true rfl) (fun _ => ⟨rfl, rfl⟩) dX4_init_502 (fun c_116 => ?_)
  exact s_vret (pc := 505) dX4_init_505 rfl (fun h => h)
theorem kX4_init {G : GG} {sl : Nat} {td : TT} (c : CC) (x : CC) (h : fX4_init c = some x) : Ct G yX4_init muX4_init [(2, 111)] (112, sl, tB td 112, c) ((3, 0), (168, ((((((((((((((((((((((((((((((((((((((((((((((((((((((((sl + Int.toNat 40) + Int.toNat 40) + Int.toNat 300) + Int.toNat 6) + Int.toNat 144) + Int.toNat 144) + Int.toNat 144) + Int.toNat 144) + Int.toNat 144) + Int.toNat 144) + Int.toNat 144) + Int.toNat 144) + Int.toNat 144) + Int.toNat 2400) + Int.toNat 2400) + Int.toNat 40) + Int.toNat 41) + Int.toNat 80) + Int.toNat 80) + Int.toNat 24) + Int.toNat 24) + Int.toNat 168) + Int.toNat 400) + Int.toNat 400) + Int.toNat 7) + Int.toNat 200) + Int.toNat 4608) + Int.toNat 27648) + Int.toNat 6) + Int.toNat 6) + Int.toNat 7) + Int.toNat 24) + Int.toNat 24) + Int.toNat 32) + Int.toNat 825) + Int.toNat 4608) + Int.toNat 27648) + Int.toNat 7300) + Int.toNat 7300) + Int.toNat 7300) + Int.toNat 7300) + Int.toNat 14600) + Int.toNat 6) + Int.toNat 26) + Int.toNat 26) + Int.toNat 26) + Int.toNat 26) + Int.toNat 24) + Int.toNat 7300) + Int.toNat 4992) + Int.toNat 4992) + Int.toNat 4992) + Int.toNat 6) + Int.toNat 128) + Int.toNat 100) + Int.toNat 100), tt td, cv x)) :=
  Ct.of (n := 0) (ls0 := [some (2, 111)]) (by decide) rfl rfl ⟨show (none : Option FieldType) ≠ some .float by decide, show (none : Option FieldType) ≠ some .double by decide⟩ (Nat.le_of_ble_eq_true rfl) rfl (sX4_init (G := G) (Γ := cx0) c x h rfl).1 (show (3 : Nat) ≠ 9 by decide) (fun Γ => sX4_init c x h rfl)
