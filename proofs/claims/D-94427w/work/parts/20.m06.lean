/-! LAYER 2: methods of HeldTongueModel, by gen/decomp.py -/
set_option maxRecDepth 100000
theorem flX4_486 : FL RX4 486 3 55 := ⟨_, _, _, cf3, by decide, q1299⟩
theorem flX4_130 : FL RX4 130 3 57 := ⟨_, _, _, cf3, by decide, q1301⟩
theorem flX4_142 : FL RX4 142 3 61 := ⟨_, _, _, cf3, by decide, q1305⟩
theorem flX4_136 : FL RX4 136 3 59 := ⟨_, _, _, cf3, by decide, q1303⟩
theorem flX4_145 : FL RX4 145 3 62 := ⟨_, _, _, cf3, by decide, q1306⟩
theorem flX4_133 : FL RX4 133 3 58 := ⟨_, _, _, cf3, by decide, q1302⟩
theorem flX4_139 : FL RX4 139 3 60 := ⟨_, _, _, cf3, by decide, q1304⟩
theorem flX4_489 : FL RX4 489 3 56 := ⟨_, _, _, cf3, by decide, q1300⟩
theorem fpX4_489 (nm : String) : FP RX4 489 3 56 nm := ⟨_, _, _, cf3, by decide, q1300, Or.inl rfl⟩
theorem fpX4_489t : fty 3 56 ≠ .boolean ∧ fty 3 56 ≠ .byte ∧ fty 3 56 ≠ .char ∧ fty 3 56 ≠ .short := by decide
theorem fpX4_486 (nm : String) : FP RX4 486 3 55 nm := ⟨_, _, _, cf3, by decide, q1299, Or.inl rfl⟩
theorem fpX4_486t : fty 3 55 ≠ .boolean ∧ fty 3 55 ≠ .byte ∧ fty 3 55 ≠ .char ∧ fty 3 55 ≠ .short := by decide
abbrev muX4_meaning : MI := (cX4_meaning, RX4, 7, some .int, 1, "meaning")
abbrev gX4_meaning_l55 (G : GG) (Γ : Cx) (r : Vv × Wd) (sz sl : Nat) (td : TT) (v1 : Int) (v2 : Int) (v3 : Int) (v4 : Int) (c : CC) : (Int × Int) → Prop := fun s => WP G Γ muX4_meaning r 55 [some (2, 111), some (0, v1), some (0, v2), some (0, v3), some (0, v4), some (0, s.1), some (0, s.2)] [] (sz, sl, tt td, cv c)
abbrev eX4_meaning_l55 (G : GG) (Γ : Cx) (r : Vv × Wd) (sz sl : Nat) (td : TT) (v1 : Int) (v2 : Int) (v3 : Int) (v4 : Int) (c : CC) : (Int) → Prop := (fun s => WP G Γ muX4_meaning r 104 [some (2, 111), some (0, v1), some (0, v2), some (0, v3), some (0, v4), some (0, s), none] [] (sz, sl, tt td, cv c))
noncomputable def fX4_meaning_l55 (v1 : Int) (v2 : Int) (v3 : Int) (v4 : Int) (v5 : Int) (v6 : Int) (c : CC) : Option ((Int × Int) ⊕ (Int)) :=
  if v6 < v3 then
  (if v5 = 0 then
  (some (.inr v5))
  else
  (gd ((0 : Int) ≤ v4 ∧ v4 < 7300) <|
   gd (inR ((c 151 (Int.toNat v4)) + v6)) <|
   gd ((0 : Int) ≤ (c 151 (Int.toNat v4)) + v6 ∧ (c 151 (Int.toNat v4)) + v6 < 14600) <|
   gd ((0 : Int) ≤ v6 ∧ v6 < 6) <|
   if c 153 (Int.toNat ((c 151 (Int.toNat v4)) + v6)) = c 154 (Int.toNat v6) then
  (gd (inR (v6 + 1)) <| bd (v6 + 1) fun v6_2 =>
   some (.inl (1, v6_2)))
  else
  (gd (inR (v6 + 1)) <| bd (v6 + 1) fun v6_1 =>
   some (.inl (0, v6_1)))))
  else
  (some (.inr v5))
theorem sX4_meaning_l55 {G : GG} {Γ : Cx} {r : Vv × Wd} {sz sl : Nat} {td : TT} (v1 : Int) (v2 : Int) (v3 : Int) (v4 : Int) (v5 : Int) (v6 : Int) (c : CC) : Sm (fX4_meaning_l55 v1 v2 v3 v4 v5 v6 c) (fun x => Sum.elim (gX4_meaning_l55 G Γ r sz sl td v1 v2 v3 v4 c) (eX4_meaning_l55 G Γ r sz sl td v1 v2 v3 v4 c) x) (gX4_meaning_l55 G Γ r sz sl td v1 v2 v3 v4 c (v5, v6)) := by
  show Sm _ _ (WP G Γ muX4_meaning r 55 [some (2, 111), some (0, v1), some (0, v2), some (0, v3), some (0, v4), some (0, v5), some (0, v6)] [] (sz, sl, tt td, cv c))
  unfold fX4_meaning_l55
  refine s_iload (pc := 55) dX4_meaning_55 rfl ?_
  refine s_iload_n (pc := 57) dX4_meaning_57 rfl ?_
  refine s_icmp_ge (pc := 58) (tgt := 104) dX4_meaning_58 rfl ?_ ?_
  · refine s_wk [true, true, true, true, true, true, false] (ls' := [some (2, 111), some (0, v1), some (0, v2), some (0, v3), some (0, v4), some (0, v5), none]) rfl ?_
    exact Sm.some (fun h => h)
  refine s_iload (pc := 61) dX4_meaning_61 rfl ?_
  refine s_if_eq (pc := 63) (tgt := 104) dX4_meaning_63 rfl ?_ ?_
  · refine s_wk [true, true, true, true, true, true, false] (ls' := [some (2, 111), some (0, v1), some (0, v2), some (0, v3), some (0, v4), some (0, v5), none]) rfl ?_
    exact Sm.some (fun h => h)
  refine s_aload_n (pc := 66) dX4_meaning_66 rfl ?_
  refine s_get (pc := 67) (a := 111) (v := 153) flX4_142 (t_111 _) rfl (g_111_61 _) rfl dX4_meaning_67 ?_
  refine s_aload_n (pc := 70) dX4_meaning_70 rfl ?_
  refine s_get (pc := 71) (a := 111) (v := 151) flX4_136 (t_111 _) rfl (g_111_59 _) rfl dX4_meaning_71 ?_
  refine s_iload (pc := 74) dX4_meaning_74 rfl ?_
  refine s_ialdM (pc := 76) (a := 151) (t_151 _) rfl r_151 dX4_meaning_76 ?_
  refine s_iload (pc := 77) dX4_meaning_77 rfl ?_
  refine s_iadd (pc := 79) dX4_meaning_79 ?_
  refine s_ialdM (pc := 80) (a := 153) (t_153 _) rfl r_153 dX4_meaning_80 ?_
  refine s_aload_n (pc := 81) dX4_meaning_81 rfl ?_
  refine s_get (pc := 82) (a := 111) (v := 154) flX4_145 (t_111 _) rfl (g_111_62 _) rfl dX4_meaning_82 ?_
  refine s_iload (pc := 85) dX4_meaning_85 rfl ?_
  refine s_ialdM (pc := 87) (a := 154) (t_154 _) rfl r_154 dX4_meaning_87 ?_
  refine s_icmp_ne (pc := 88) (tgt := 95) dX4_meaning_88 rfl ?_ ?_
  · refine s_iconst (pc := 95) dX4_meaning_95 ?_
    refine s_istoreD (pc := 96) (ls' := [some (2, 111), some (0, v1), some (0, v2), some (0, v3), some (0, v4), some (0, 0), some (0, v6)]) dX4_meaning_96 rfl (Nat.le_of_ble_eq_true rfl) ?_
    refine s_iinc (pc := 98) (lf := fun x => [some (2, 111), some (0, v1), some (0, v2), some (0, v3), some (0, v4), some (0, 0), some (0, x)]) dX4_meaning_98 rfl (fun _ => rfl) (Nat.le_of_ble_eq_true rfl) (fun v6_1 => ?_)
    refine s_goto (pc := 101) (tgt := 55) dX4_meaning_101 rfl ?_
    exact Sm.some (fun h => h)
  refine s_iconst (pc := 91) dX4_meaning_91 ?_
  refine s_goto (pc := 92) (tgt := 96) dX4_meaning_92 rfl ?_
  refine s_istoreD (pc := 96) (ls' := [some (2, 111), some (0, v1), some (0, v2), some (0, v3), some (0, v4), some (0, 1), some (0, v6)]) dX4_meaning_96 rfl (Nat.le_of_ble_eq_true rfl) ?_
  refine s_iinc (pc := 98) (lf := fun x => [some (2, 111), some (0, v1), some (0, v2), some (0, v3), some (0, v4), some (0, 1), some (0, x)]) dX4_meaning_98 rfl (fun _ => rfl) (Nat.le_of_ble_eq_true rfl) (fun v6_2 => ?_)
  refine s_goto (pc := 101) (tgt := 55) dX4_meaning_101 rfl ?_
  exact Sm.some (fun h => h)
noncomputable def fX4_meaning_j104 (v1 : Int) (v2 : Int) (v3 : Int) (v4 : Int) (v5 : Int) (c : CC) : Option ((Int) ⊕ ((Int) ⊕ (Unit))) :=
  if v5 = 0 then
  (gd (inR (v4 + 1)) <| bd (v4 + 1) fun v4_4 =>
   some (.inl v4_4))
  else
  (some (.inr (.inl v4)))
abbrev gX4_meaning_l3 (G : GG) (Γ : Cx) (r : Vv × Wd) (sz sl : Nat) (td : TT) (v1 : Int) (v2 : Int) (v3 : Int) (c : CC) : (Int) → Prop := fun s => WP G Γ muX4_meaning r 3 [some (2, 111), some (0, v1), some (0, v2), some (0, v3), some (0, s), none, none] [] (sz, sl, tt td, cv c)
abbrev eX4_meaning_l3 (G : GG) (Γ : Cx) (r : Vv × Wd) (sz sl : Nat) (td : TT) (v1 : Int) (v2 : Int) (v3 : Int) (c : CC) : ((Int) ⊕ (Unit)) → Prop := (Sum.elim (fun s => WP G Γ muX4_meaning r 109 [none, none, none, none, some (0, s), none, none] [] (sz, sl, tt td, cv c)) (fun s => WP G Γ muX4_meaning r 118 [some (2, 111), some (0, v1), some (0, v2), some (0, v3), none, none, none] [] (sz, sl, tt td, cv c)))
theorem sX4_meaning_j104 {G : GG} {Γ : Cx} {r : Vv × Wd} {sz sl : Nat} {td : TT} (v1 : Int) (v2 : Int) (v3 : Int) (v4 : Int) (v5 : Int) (c : CC) : Sm (fX4_meaning_j104 v1 v2 v3 v4 v5 c) (fun x => Sum.elim (gX4_meaning_l3 G Γ r sz sl td v1 v2 v3 c) (eX4_meaning_l3 G Γ r sz sl td v1 v2 v3 c) x) (WP G Γ muX4_meaning r 104 [some (2, 111), some (0, v1), some (0, v2), some (0, v3), some (0, v4), some (0, v5), none] [] (sz, sl, tt td, cv c)) := by
  unfold fX4_meaning_j104
  refine s_iload (pc := 104) dX4_meaning_104 rfl ?_
  refine s_if_eq (pc := 106) (tgt := 112) dX4_meaning_106 rfl ?_ ?_
  · refine s_iinc (pc := 112) (lf := fun x => [some (2, 111), some (0, v1), some (0, v2), some (0, v3), some (0, x), some (0, v5), none]) dX4_meaning_112 rfl (fun _ => rfl) (Nat.le_of_ble_eq_true rfl) (fun v4_4 => ?_)
    refine s_goto (pc := 115) (tgt := 3) dX4_meaning_115 rfl ?_
    refine s_wk [true, true, true, true, true, false, true] (ls' := [some (2, 111), some (0, v1), some (0, v2), some (0, v3), some (0, v4_4), none, none]) rfl ?_
    exact Sm.some (fun h => h)
  refine s_wk [false, false, false, false, true, false, true] (ls' := [none, none, none, none, some (0, v4), none, none]) rfl ?_
  exact Sm.some (fun h => h)
noncomputable def fX4_meaning_j50 (v1 : Int) (v2 : Int) (v3 : Int) (v4 : Int) (w0 : Int) (c : CC) : Option ((Int) ⊕ ((Int) ⊕ (Unit))) :=
  cl (wh (fun s => fX4_meaning_l55 v1 v2 v3 v4 s.1 s.2 c) (w0, 0)) (fun e_3 =>
  fX4_meaning_j104 v1 v2 v3 v4 e_3 c)
theorem sX4_meaning_j50 {G : GG} {Γ : Cx} {r : Vv × Wd} {sz sl : Nat} {td : TT} (v1 : Int) (v2 : Int) (v3 : Int) (v4 : Int) (w0 : Int) (c : CC) : Sm (fX4_meaning_j50 v1 v2 v3 v4 w0 c) (fun x => Sum.elim (gX4_meaning_l3 G Γ r sz sl td v1 v2 v3 c) (eX4_meaning_l3 G Γ r sz sl td v1 v2 v3 c) x) (WP G Γ muX4_meaning r 50 [some (2, 111), some (0, v1), some (0, v2), some (0, v3), some (0, v4), none, none] [(0, w0)] (sz, sl, tt td, cv c)) := by
  unfold fX4_meaning_j50
  refine s_istoreD (pc := 50) (ls' := [some (2, 111), some (0, v1), some (0, v2), some (0, v3), some (0, v4), some (0, w0), none]) dX4_meaning_50 rfl (Nat.le_of_ble_eq_true rfl) ?_
  refine s_iconst (pc := 52) dX4_meaning_52 ?_
  refine s_istoreD (pc := 53) (ls' := [some (2, 111), some (0, v1), some (0, v2), some (0, v3), some (0, v4), some (0, w0), some (0, 0)]) dX4_meaning_53 rfl (Nat.le_of_ble_eq_true rfl) ?_
  refine s_loop (g := gX4_meaning_l55 G Γ r sz sl td v1 v2 v3 v4 c) (Ex := eX4_meaning_l55 G Γ r sz sl td v1 v2 v3 v4 c) (s0 := (w0, 0)) (fun s => sX4_meaning_l55 v1 v2 v3 v4 s.1 s.2 c) ?_
  intro e_3
  show Sm _ _ (WP G Γ muX4_meaning r 104 [some (2, 111), some (0, v1), some (0, v2), some (0, v3), some (0, v4), some (0, e_3), none] [] (sz, sl, tt td, cv c))
  exact sX4_meaning_j104 v1 v2 v3 v4 e_3 c
noncomputable def fX4_meaning_j49 (v1 : Int) (v2 : Int) (v3 : Int) (v4 : Int) (c : CC) : Option ((Int) ⊕ ((Int) ⊕ (Unit))) :=
  fX4_meaning_j50 v1 v2 v3 v4 0 c
theorem sX4_meaning_j49 {G : GG} {Γ : Cx} {r : Vv × Wd} {sz sl : Nat} {td : TT} (v1 : Int) (v2 : Int) (v3 : Int) (v4 : Int) (c : CC) : Sm (fX4_meaning_j49 v1 v2 v3 v4 c) (fun x => Sum.elim (gX4_meaning_l3 G Γ r sz sl td v1 v2 v3 c) (eX4_meaning_l3 G Γ r sz sl td v1 v2 v3 c) x) (WP G Γ muX4_meaning r 49 [some (2, 111), some (0, v1), some (0, v2), some (0, v3), some (0, v4), none, none] [] (sz, sl, tt td, cv c)) := by
  unfold fX4_meaning_j49
  refine s_iconst (pc := 49) dX4_meaning_49 ?_
  exact sX4_meaning_j50 v1 v2 v3 v4 0 c
noncomputable def fX4_meaning_l3 (v1 : Int) (v2 : Int) (v3 : Int) (v4 : Int) (c : CC) : Option ((Int) ⊕ ((Int) ⊕ (Unit))) :=
  if v4 < c 111 55 then
  (gd ((0 : Int) ≤ v4 ∧ v4 < 7300) <|
   if c 149 (Int.toNat v4) = v1 then
  (gd ((0 : Int) ≤ v4 ∧ v4 < 7300) <|
   if c 150 (Int.toNat v4) = v2 then
  (gd ((0 : Int) ≤ v4 ∧ v4 < 7300) <|
   if c 152 (Int.toNat v4) = v3 then
  (fX4_meaning_j50 v1 v2 v3 v4 1 c)
  else
  (fX4_meaning_j49 v1 v2 v3 v4 c))
  else
  (fX4_meaning_j49 v1 v2 v3 v4 c))
  else
  (fX4_meaning_j49 v1 v2 v3 v4 c))
  else
  (some (.inr (.inr ())))
theorem sX4_meaning_l3 {G : GG} {Γ : Cx} {r : Vv × Wd} {sz sl : Nat} {td : TT} (v1 : Int) (v2 : Int) (v3 : Int) (v4 : Int) (c : CC) : Sm (fX4_meaning_l3 v1 v2 v3 v4 c) (fun x => Sum.elim (gX4_meaning_l3 G Γ r sz sl td v1 v2 v3 c) (eX4_meaning_l3 G Γ r sz sl td v1 v2 v3 c) x) (gX4_meaning_l3 G Γ r sz sl td v1 v2 v3 c v4) := by
  show Sm _ _ (WP G Γ muX4_meaning r 3 [some (2, 111), some (0, v1), some (0, v2), some (0, v3), some (0, v4), none, none] [] (sz, sl, tt td, cv c))
  unfold fX4_meaning_l3
  refine s_iload (pc := 3) dX4_meaning_3 rfl ?_
  refine s_aload_n (pc := 5) dX4_meaning_5 rfl ?_
  refine s_get (pc := 6) (a := 111) (v := c 111 55) flX4_486 (t_111 _) rfl (g_111_55 _) rfl dX4_meaning_6 ?_
  refine s_icmp_ge (pc := 9) (tgt := 118) dX4_meaning_9 rfl ?_ ?_
  · refine s_wk [true, true, true, true, false, true, true] (ls' := [some (2, 111), some (0, v1), some (0, v2), some (0, v3), none, none, none]) rfl ?_
    exact Sm.some (fun h => h)
  refine s_aload_n (pc := 12) dX4_meaning_12 rfl ?_
  refine s_get (pc := 13) (a := 111) (v := 149) flX4_130 (t_111 _) rfl (g_111_57 _) rfl dX4_meaning_13 ?_
  refine s_iload (pc := 16) dX4_meaning_16 rfl ?_
  refine s_ialdM (pc := 18) (a := 149) (t_149 _) rfl r_149 dX4_meaning_18 ?_
  refine s_iload_n (pc := 19) dX4_meaning_19 rfl ?_
  refine s_icmp_ne (pc := 20) (tgt := 49) dX4_meaning_20 rfl ?_ ?_
  · exact sX4_meaning_j49 v1 v2 v3 v4 c
  refine s_aload_n (pc := 23) dX4_meaning_23 rfl ?_
  refine s_get (pc := 24) (a := 111) (v := 150) flX4_133 (t_111 _) rfl (g_111_58 _) rfl dX4_meaning_24 ?_
  refine s_iload (pc := 27) dX4_meaning_27 rfl ?_
  refine s_ialdM (pc := 29) (a := 150) (t_150 _) rfl r_150 dX4_meaning_29 ?_
  refine s_iload_n (pc := 30) dX4_meaning_30 rfl ?_
  refine s_icmp_ne (pc := 31) (tgt := 49) dX4_meaning_31 rfl ?_ ?_
  · exact sX4_meaning_j49 v1 v2 v3 v4 c
  refine s_aload_n (pc := 34) dX4_meaning_34 rfl ?_
  refine s_get (pc := 35) (a := 111) (v := 152) flX4_139 (t_111 _) rfl (g_111_60 _) rfl dX4_meaning_35 ?_
  refine s_iload (pc := 38) dX4_meaning_38 rfl ?_
  refine s_ialdM (pc := 40) (a := 152) (t_152 _) rfl r_152 dX4_meaning_40 ?_
  refine s_iload_n (pc := 41) dX4_meaning_41 rfl ?_
  refine s_icmp_ne (pc := 42) (tgt := 49) dX4_meaning_42 rfl ?_ ?_
  · exact sX4_meaning_j49 v1 v2 v3 v4 c
  refine s_iconst (pc := 45) dX4_meaning_45 ?_
  refine s_goto (pc := 46) (tgt := 50) dX4_meaning_46 rfl ?_
  exact sX4_meaning_j50 v1 v2 v3 v4 1 c
abbrev gX4_meaning_l164 (G : GG) (Γ : Cx) (r : Vv × Wd) (sz sl : Nat) (td : TT) (v3 : Int) : (Int × CC) → Prop := fun s => WP G Γ muX4_meaning r 164 [some (2, 111), none, none, some (0, v3), some (0, s.1), none, none] [] (sz, sl, tt td, cv s.2)
abbrev eX4_meaning_l164 (G : GG) (Γ : Cx) (r : Vv × Wd) (sz sl : Nat) (td : TT) (v3 : Int) : (CC) → Prop := (fun s => WP G Γ muX4_meaning r 202 [some (2, 111), none, none, none, none, none, none] [] (sz, sl, tt td, cv s))
noncomputable def fX4_meaning_l164 (v3 : Int) (v4 : Int) (c : CC) : Option ((Int × CC) ⊕ (CC)) :=
  if v4 < v3 then
  (gd ((0 : Int) ≤ v4 ∧ v4 < 6) <|
   gd ((0 : Int) ≤ c 111 56 ∧ c 111 56 < 14600) <| bd (up2 c 153 (Int.toNat (c 111 56)) (c 154 (Int.toNat v4))) fun c_11 =>
   gd (inR ((c_11 111 56) + 1)) <|
   bd (up2 c_11 111 56 ((c_11 111 56) + 1)) fun c_12 =>
   gd (inR (v4 + 1)) <| bd (v4 + 1) fun v4_13 =>
   some (.inl (v4_13, c_12)))
  else
  (some (.inr c))
theorem sX4_meaning_l164 {G : GG} {Γ : Cx} {r : Vv × Wd} {sz sl : Nat} {td : TT} (v3 : Int) (v4 : Int) (c : CC) : Sm (fX4_meaning_l164 v3 v4 c) (fun x => Sum.elim (gX4_meaning_l164 G Γ r sz sl td v3) (eX4_meaning_l164 G Γ r sz sl td v3) x) (gX4_meaning_l164 G Γ r sz sl td v3 (v4, c)) := by
  show Sm _ _ (WP G Γ muX4_meaning r 164 [some (2, 111), none, none, some (0, v3), some (0, v4), none, none] [] (sz, sl, tt td, cv c))
  unfold fX4_meaning_l164
  refine s_iload (pc := 164) dX4_meaning_164 rfl ?_
  refine s_iload_n (pc := 166) dX4_meaning_166 rfl ?_
  refine s_icmp_ge (pc := 167) (tgt := 202) dX4_meaning_167 rfl ?_ ?_
  · refine s_wk [true, true, true, false, false, true, true] (ls' := [some (2, 111), none, none, none, none, none, none]) rfl ?_
    exact Sm.some (fun h => h)
  refine s_aload_n (pc := 170) dX4_meaning_170 rfl ?_
  refine s_get (pc := 171) (a := 111) (v := 153) flX4_142 (t_111 _) rfl (g_111_61 _) rfl dX4_meaning_171 ?_
  refine s_aload_n (pc := 174) dX4_meaning_174 rfl ?_
  refine s_get (pc := 175) (a := 111) (v := c 111 56) flX4_489 (t_111 _) rfl (g_111_56 _) rfl dX4_meaning_175 ?_
  refine s_aload_n (pc := 178) dX4_meaning_178 rfl ?_
  refine s_get (pc := 179) (a := 111) (v := 154) flX4_145 (t_111 _) rfl (g_111_62 _) rfl dX4_meaning_179 ?_
  refine s_iload (pc := 182) dX4_meaning_182 rfl ?_
  refine s_ialdM (pc := 184) (a := 154) (t_154 _) rfl r_154 dX4_meaning_184 ?_
  refine s_iastM (pc := 185) (a := 153) (t_153 _) rfl kO_153 r_153 dX4_meaning_185 (fun c_11 => ?_)
  refine s_aload_n (pc := 186) dX4_meaning_186 rfl ?_
  refine s_dup (pc := 187) (by decide : ¬ (2 : Nat) = 1) dX4_meaning_187 ?_
  refine s_get (pc := 188) (a := 111) (v := c_11 111 56) flX4_489 (t_111 _) rfl (g_111_56 _) rfl dX4_meaning_188 ?_
  refine s_iconst (pc := 191) dX4_meaning_191 ?_
  refine s_iadd (pc := 192) dX4_meaning_192 ?_
  refine s_putM (pc := 193) (a := 111) (fpX4_489 _) (t_111 _) rfl kO_111 n_111_56 rfl (fpX4_489t) dX4_meaning_193 (fun c_12 => ?_)
  refine s_iinc (pc := 196) (lf := fun x => [some (2, 111), none, none, some (0, v3), some (0, x), none, none]) dX4_meaning_196 rfl (fun _ => rfl) (Nat.le_of_ble_eq_true rfl) (fun v4_13 => ?_)
  refine s_goto (pc := 199) (tgt := 164) dX4_meaning_199 rfl ?_
  exact Sm.some (fun h => h)
noncomputable def fX4_meaning (a1 : Int) (a2 : Int) (a3 : Int) (c : CC) : Option (Int × CC) :=
  cl (wh (fun s => fX4_meaning_l3 a1 a2 a3 s c) 0) (Sum.elim (fun e_5 =>
  some (e_5, c)) (fun e_6 =>
  gd ((0 : Int) ≤ c 111 55 ∧ c 111 55 < 7300) <| bd (up2 c 149 (Int.toNat (c 111 55)) a1) fun c_7 =>
   gd ((0 : Int) ≤ c_7 111 55 ∧ c_7 111 55 < 7300) <| bd (up2 c_7 150 (Int.toNat (c_7 111 55)) a2) fun c_8 =>
   gd ((0 : Int) ≤ c_8 111 55 ∧ c_8 111 55 < 7300) <| bd (up2 c_8 151 (Int.toNat (c_8 111 55)) (c_8 111 56)) fun c_9 =>
   gd ((0 : Int) ≤ c_9 111 55 ∧ c_9 111 55 < 7300) <| bd (up2 c_9 152 (Int.toNat (c_9 111 55)) a3) fun c_10 =>
   cl (wh (fun s => fX4_meaning_l164 a3 s.1 s.2) (0, c_10)) (fun e_14 =>
  gd (inR ((e_14 111 55) + 1)) <|
   bd (up2 e_14 111 55 ((e_14 111 55) + 1)) fun c_15 =>
   gd (inR ((c_15 111 55) - 1)) <|
   some ((c_15 111 55) - 1, c_15))))
theorem sX4_meaning {G : GG} {Γ : Cx} {r : Vv × Wd} {sz sl : Nat} {td : TT} (a1 : Int) (a2 : Int) (a3 : Int) (c : CC) : Sm (fX4_meaning a1 a2 a3 c) (fun x => r = ((0, x.1), (sz, sl, tt td, cv x.2))) (WP G Γ muX4_meaning r 0 [some (2, 111), some (0, a1), some (0, a2), some (0, a3), none, none, none] [] (sz, sl, tt td, cv c)) := by
  unfold fX4_meaning
  refine s_iconst (pc := 0) dX4_meaning_0 ?_
  refine s_istoreD (pc := 1) (ls' := [some (2, 111), some (0, a1), some (0, a2), some (0, a3), some (0, 0), none, none]) dX4_meaning_1 rfl (Nat.le_of_ble_eq_true rfl) ?_
  refine s_loop (g := gX4_meaning_l3 G Γ r sz sl td a1 a2 a3 c) (Ex := eX4_meaning_l3 G Γ r sz sl td a1 a2 a3 c) (s0 := 0) (fun s => sX4_meaning_l3 a1 a2 a3 s c) ?_
  refine s_elim ?_ ?_
  · intro e_5
    show Sm _ _ (WP G Γ muX4_meaning r 109 [none, none, none, none, some (0, e_5), none, none] [] (sz, sl, tt td, cv c))
    refine s_iload (pc := 109) dX4_meaning_109 rfl ?_
    exact s_iret (pc := 111) dX4_meaning_111 rfl (fun h => h)
  intro e_6
  show Sm _ _ (WP G Γ muX4_meaning r 118 [some (2, 111), some (0, a1), some (0, a2), some (0, a3), none, none, none] [] (sz, sl, tt td, cv c))
  refine s_aload_n (pc := 118) dX4_meaning_118 rfl ?_
  refine s_get (pc := 119) (a := 111) (v := 149) flX4_130 (t_111 _) rfl (g_111_57 _) rfl dX4_meaning_119 ?_
  refine s_aload_n (pc := 122) dX4_meaning_122 rfl ?_
  refine s_get (pc := 123) (a := 111) (v := c 111 55) flX4_486 (t_111 _) rfl (g_111_55 _) rfl dX4_meaning_123 ?_
  refine s_iload_n (pc := 126) dX4_meaning_126 rfl ?_
  refine s_iastM (pc := 127) (a := 149) (t_149 _) rfl kO_149 r_149 dX4_meaning_127 (fun c_7 => ?_)
  refine s_aload_n (pc := 128) dX4_meaning_128 rfl ?_
  refine s_get (pc := 129) (a := 111) (v := 150) flX4_133 (t_111 _) rfl (g_111_58 _) rfl dX4_meaning_129 ?_
  refine s_aload_n (pc := 132) dX4_meaning_132 rfl ?_
  refine s_get (pc := 133) (a := 111) (v := c_7 111 55) flX4_486 (t_111 _) rfl (g_111_55 _) rfl dX4_meaning_133 ?_
  refine s_iload_n (pc := 136) dX4_meaning_136 rfl ?_
  refine s_iastM (pc := 137) (a := 150) (t_150 _) rfl kO_150 r_150 dX4_meaning_137 (fun c_8 => ?_)
  refine s_aload_n (pc := 138) dX4_meaning_138 rfl ?_
  refine s_get (pc := 139) (a := 111) (v := 151) flX4_136 (t_111 _) rfl (g_111_59 _) rfl dX4_meaning_139 ?_
  refine s_aload_n (pc := 142) dX4_meaning_142 rfl ?_
  refine s_get (pc := 143) (a := 111) (v := c_8 111 55) flX4_486 (t_111 _) rfl (g_111_55 _) rfl dX4_meaning_143 ?_
  refine s_aload_n (pc := 146) dX4_meaning_146 rfl ?_
  refine s_get (pc := 147) (a := 111) (v := c_8 111 56) flX4_489 (t_111 _) rfl (g_111_56 _) rfl dX4_meaning_147 ?_
  refine s_iastM (pc := 150) (a := 151) (t_151 _) rfl kO_151 r_151 dX4_meaning_150 (fun c_9 => ?_)
  refine s_aload_n (pc := 151) dX4_meaning_151 rfl ?_
  refine s_get (pc := 152) (a := 111) (v := 152) flX4_139 (t_111 _) rfl (g_111_60 _) rfl dX4_meaning_152 ?_
  refine s_aload_n (pc := 155) dX4_meaning_155 rfl ?_
  refine s_get (pc := 156) (a := 111) (v := c_9 111 55) flX4_486 (t_111 _) rfl (g_111_55 _) rfl dX4_meaning_156 ?_
  refine s_iload_n (pc := 159) dX4_meaning_159 rfl ?_
  refine s_iastM (pc := 160) (a := 152) (t_152 _) rfl kO_152 r_152 dX4_meaning_160 (fun c_10 => ?_)
  refine s_iconst (pc := 161) dX4_meaning_161 ?_
  refine s_istoreD (pc := 162) (ls' := [some (2, 111), some (0, a1), some (0, a2), some (0, a3), some (0, 0), none, none]) dX4_meaning_162 rfl (Nat.le_of_ble_eq_true rfl) ?_
  refine s_wk [true, false, false, true, true, true, true] (ls' := [some (2, 111), none, none, some (0, a3), some (0, 0), none, none]) rfl ?_
  refine s_loop (g := gX4_meaning_l164 G Γ r sz sl td a3) (Ex := eX4_meaning_l164 G Γ r sz sl td a3) (s0 := (0, c_10)) (fun s => sX4_meaning_l164 a3 s.1 s.2) ?_
  intro e_14
  show Sm _ _ (WP G Γ muX4_meaning r 202 [some (2, 111), none, none, none, none, none, none] [] (sz, sl, tt td, cv e_14))
  refine s_aload_n (pc := 202) dX4_meaning_202 rfl ?_
  refine s_dup (pc := 203) (by decide : ¬ (2 : Nat) = 1) dX4_meaning_203 ?_
  refine s_get (pc := 204) (a := 111) (v := e_14 111 55) flX4_486 (t_111 _) rfl (g_111_55 _) rfl dX4_meaning_204 ?_
  refine s_iconst (pc := 207) dX4_meaning_207 ?_
  refine s_iadd (pc := 208) dX4_meaning_208 ?_
  refine s_putM (pc := 209) (a := 111) (fpX4_486 _) (t_111 _) rfl kO_111 n_111_55 rfl (fpX4_486t) dX4_meaning_209 (fun c_15 => ?_)
  refine s_aload_n (pc := 212) dX4_meaning_212 rfl ?_
  refine s_get (pc := 213) (a := 111) (v := c_15 111 55) flX4_486 (t_111 _) rfl (g_111_55 _) rfl dX4_meaning_213 ?_
  refine s_iconst (pc := 216) dX4_meaning_216 ?_
  refine s_isub (pc := 217) dX4_meaning_217 ?_
  exact s_iret (pc := 218) dX4_meaning_218 rfl (fun h => h)
theorem kX4_meaning {G : GG} {sz sl : Nat} {td : TT} (a1 : Int) (a2 : Int) (a3 : Int) (c : CC) (x : (Int × CC)) (h : fX4_meaning a1 a2 a3 c = some x) : Ct G yX4_meaning muX4_meaning [(2, 111), (0, a1), (0, a2), (0, a3)] (sz, sl, tt td, cv c) ((0, x.1), (sz, sl, tt td, cv x.2)) :=
  Ct.of (n := 3) (ls0 := [some (2, 111), some (0, a1), some (0, a2), some (0, a3), none, none, none]) (by decide) rfl rfl ⟨by decide, by decide⟩ (Nat.le_of_ble_eq_true rfl) rfl ⟨Nat.le_refl _, Nat.le_refl _⟩ (show (0 : Nat) ≠ 9 by decide) (fun Γ => sX4_meaning a1 a2 a3 c x h rfl)
abbrev muX4_forgets : MI := (cX4_forgets, RX4, 1, none, 1, "forgets")
noncomputable def fX4_forgets  (c : CC) : Option CC :=
  bd (up2 c 111 55 0) fun c_1 =>
   bd (up2 c_1 111 56 0) fun c_2 =>
   some c_2
theorem sX4_forgets {G : GG} {Γ : Cx} {r : Vv × Wd} {sz sl : Nat} {td : TT}  (c : CC) : Sm (fX4_forgets  c) (fun x => r = ((3, 0), (sz, sl, tt td, cv x))) (WP G Γ muX4_forgets r 0 [some (2, 111)] [] (sz, sl, tt td, cv c)) := by
  unfold fX4_forgets
  refine s_aload_n (pc := 0) dX4_forgets_0 rfl ?_
  refine s_iconst (pc := 1) dX4_forgets_1 ?_
  refine s_putM (pc := 2) (a := 111) (fpX4_486 _) (t_111 _) rfl kO_111 n_111_55 rfl (fpX4_486t) dX4_forgets_2 (fun c_1 => ?_)
  refine s_aload_n (pc := 5) dX4_forgets_5 rfl ?_
  refine s_iconst (pc := 6) dX4_forgets_6 ?_
  refine s_putM (pc := 7) (a := 111) (fpX4_489 _) (t_111 _) rfl kO_111 n_111_56 rfl (fpX4_489t) dX4_forgets_7 (fun c_2 => ?_)
  exact s_vret (pc := 10) dX4_forgets_10 rfl (fun h => h)
theorem kX4_forgets {G : GG} {sz sl : Nat} {td : TT}  (c : CC) (x : CC) (h : fX4_forgets  c = some x) : Ct G yX4_forgets muX4_forgets [(2, 111)] (sz, sl, tt td, cv c) ((3, 0), (sz, sl, tt td, cv x)) :=
  Ct.of (n := 0) (ls0 := [some (2, 111)]) (by decide) rfl rfl ⟨by decide, by decide⟩ (Nat.le_of_ble_eq_true rfl) rfl ⟨Nat.le_refl _, Nat.le_refl _⟩ (show (3 : Nat) ≠ 9 by decide) (fun Γ => sX4_forgets  c x h rfl)
theorem flX4_492 : FL RX4 492 3 67 := ⟨_, _, _, cf3, by decide, q1311⟩
theorem mvX4_495 : MV RX4 495 RX4 yX4_meaning muX4_meaning 3 := ⟨lw_V q1799 q1801 qs103 q129 q1802, by decide +kernel, by decide⟩
theorem flX4_151 : FL RX4 151 3 64 := ⟨_, _, _, cf3, by decide, q1308⟩
abbrev muX4_meansBy : MI := (cX4_meansBy, RX4, 8, some .int, 2, "meansBy")
abbrev gX4_meansBy_l192 (G : GG) (Γ : Cx) (r : Vv × Wd) (sz sl : Nat) (td : TT) (v1 : Int) (v3 : Int) (v4 : Int) (v5 : Int) (v7 : Int) : (Int × CC) → Prop := fun s => WP G Γ muX4_meansBy r 192 [some (2, 111), some (0, v1), none, some (0, v3), some (0, v4), some (0, v5), some (0, s.1), some (0, v7)] [] (sz, sl, tt td, cv s.2)
abbrev eX4_meansBy_l192 (G : GG) (Γ : Cx) (r : Vv × Wd) (sz sl : Nat) (td : TT) (v1 : Int) (v3 : Int) (v4 : Int) (v5 : Int) (v7 : Int) : (Int × CC) → Prop := (fun s => WP G Γ muX4_meansBy r 233 [some (2, 111), some (0, v1), none, some (0, v3), some (0, v4), some (0, v5), some (0, s.1), some (0, v7)] [] (sz, sl, tt td, cv s.2))
noncomputable def fX4_meansBy_l192 (v1 : Int) (v3 : Int) (v4 : Int) (v5 : Int) (v7 : Int) (v6 : Int) (c : CC) : Option ((Int × CC) ⊕ (Int × CC)) :=
  if (0 : Int) < v6 then
  (gd (inR (v6 - 1)) <|
   gd ((0 : Int) ≤ v6 - 1 ∧ v6 - 1 < 6) <|
   if v7 < c 154 (Int.toNat (v6 - 1)) then
  (gd (inR (v6 - 1)) <|
   gd ((0 : Int) ≤ v6 - 1 ∧ v6 - 1 < 6) <|
   gd ((0 : Int) ≤ v6 ∧ v6 < 6) <| bd (up2 c 154 (Int.toNat v6) (c 154 (Int.toNat (v6 - 1)))) fun c_15 =>
   gd (inR (v6 + -1)) <| bd (v6 + -1) fun v6_16 =>
   some (.inl (v6_16, c_15)))
  else
  (some (.inr (v6, c))))
  else
  (some (.inr (v6, c)))
theorem sX4_meansBy_l192 {G : GG} {Γ : Cx} {r : Vv × Wd} {sz sl : Nat} {td : TT} (v1 : Int) (v3 : Int) (v4 : Int) (v5 : Int) (v7 : Int) (v6 : Int) (c : CC) : Sm (fX4_meansBy_l192 v1 v3 v4 v5 v7 v6 c) (fun x => Sum.elim (gX4_meansBy_l192 G Γ r sz sl td v1 v3 v4 v5 v7) (eX4_meansBy_l192 G Γ r sz sl td v1 v3 v4 v5 v7) x) (gX4_meansBy_l192 G Γ r sz sl td v1 v3 v4 v5 v7 (v6, c)) := by
  show Sm _ _ (WP G Γ muX4_meansBy r 192 [some (2, 111), some (0, v1), none, some (0, v3), some (0, v4), some (0, v5), some (0, v6), some (0, v7)] [] (sz, sl, tt td, cv c))
  unfold fX4_meansBy_l192
  refine s_iload (pc := 192) dX4_meansBy_192 rfl ?_
  refine s_if_le (pc := 194) (tgt := 233) dX4_meansBy_194 rfl ?_ ?_
  · exact Sm.some (fun h => h)
  refine s_aload_n (pc := 197) dX4_meansBy_197 rfl ?_
  refine s_get (pc := 198) (a := 111) (v := 154) flX4_145 (t_111 _) rfl (g_111_62 _) rfl dX4_meansBy_198 ?_
  refine s_iload (pc := 201) dX4_meansBy_201 rfl ?_
  refine s_iconst (pc := 203) dX4_meansBy_203 ?_
  refine s_isub (pc := 204) dX4_meansBy_204 ?_
  refine s_ialdM (pc := 205) (a := 154) (t_154 _) rfl r_154 dX4_meansBy_205 ?_
  refine s_iload (pc := 206) dX4_meansBy_206 rfl ?_
  refine s_icmp_le (pc := 208) (tgt := 233) dX4_meansBy_208 rfl ?_ ?_
  · exact Sm.some (fun h => h)
  refine s_aload_n (pc := 211) dX4_meansBy_211 rfl ?_
  refine s_get (pc := 212) (a := 111) (v := 154) flX4_145 (t_111 _) rfl (g_111_62 _) rfl dX4_meansBy_212 ?_
  refine s_iload (pc := 215) dX4_meansBy_215 rfl ?_
  refine s_aload_n (pc := 217) dX4_meansBy_217 rfl ?_
  refine s_get (pc := 218) (a := 111) (v := 154) flX4_145 (t_111 _) rfl (g_111_62 _) rfl dX4_meansBy_218 ?_
  refine s_iload (pc := 221) dX4_meansBy_221 rfl ?_
  refine s_iconst (pc := 223) dX4_meansBy_223 ?_
  refine s_isub (pc := 224) dX4_meansBy_224 ?_
  refine s_ialdM (pc := 225) (a := 154) (t_154 _) rfl r_154 dX4_meansBy_225 ?_
  refine s_iastM (pc := 226) (a := 154) (t_154 _) rfl kO_154 r_154 dX4_meansBy_226 (fun c_15 => ?_)
  refine s_iinc (pc := 227) (lf := fun x => [some (2, 111), some (0, v1), none, some (0, v3), some (0, v4), some (0, v5), some (0, x), some (0, v7)]) dX4_meansBy_227 rfl (fun _ => rfl) (Nat.le_of_ble_eq_true rfl) (fun v6_16 => ?_)
  refine s_goto (pc := 230) (tgt := 192) dX4_meansBy_230 rfl ?_
  exact Sm.some (fun h => h)
noncomputable def fX4_meansBy_j233 (v1 : Int) (v3 : Int) (v4 : Int) (v5 : Int) (v6 : Int) (v7 : Int) (c : CC) : Option ((Int × CC) ⊕ (CC)) :=
  gd ((0 : Int) ≤ v6 ∧ v6 < 6) <| bd (up2 c 154 (Int.toNat v6) v7) fun c_18 =>
   gd (inR (v5 + 1)) <| bd (v5 + 1) fun v5_19 =>
   some (.inl (v5_19, c_18))
abbrev gX4_meansBy_l170 (G : GG) (Γ : Cx) (r : Vv × Wd) (sz sl : Nat) (td : TT) (v1 : Int) (v3 : Int) (v4 : Int) : (Int × CC) → Prop := fun s => WP G Γ muX4_meansBy r 170 [some (2, 111), some (0, v1), none, some (0, v3), some (0, v4), some (0, s.1), none, none] [] (sz, sl, tt td, cv s.2)
abbrev eX4_meansBy_l170 (G : GG) (Γ : Cx) (r : Vv × Wd) (sz sl : Nat) (td : TT) (v1 : Int) (v3 : Int) (v4 : Int) : (CC) → Prop := (fun s => WP G Γ muX4_meansBy r 248 [some (2, 111), some (0, v1), none, some (0, v3), none, none, none, none] [] (sz, sl, tt td, cv s))
theorem sX4_meansBy_j233 {G : GG} {Γ : Cx} {r : Vv × Wd} {sz sl : Nat} {td : TT} (v1 : Int) (v3 : Int) (v4 : Int) (v5 : Int) (v6 : Int) (v7 : Int) (c : CC) : Sm (fX4_meansBy_j233 v1 v3 v4 v5 v6 v7 c) (fun x => Sum.elim (gX4_meansBy_l170 G Γ r sz sl td v1 v3 v4) (eX4_meansBy_l170 G Γ r sz sl td v1 v3 v4) x) (WP G Γ muX4_meansBy r 233 [some (2, 111), some (0, v1), none, some (0, v3), some (0, v4), some (0, v5), some (0, v6), some (0, v7)] [] (sz, sl, tt td, cv c)) := by
  unfold fX4_meansBy_j233
  refine s_aload_n (pc := 233) dX4_meansBy_233 rfl ?_
  refine s_get (pc := 234) (a := 111) (v := 154) flX4_145 (t_111 _) rfl (g_111_62 _) rfl dX4_meansBy_234 ?_
  refine s_iload (pc := 237) dX4_meansBy_237 rfl ?_
  refine s_iload (pc := 239) dX4_meansBy_239 rfl ?_
  refine s_iastM (pc := 241) (a := 154) (t_154 _) rfl kO_154 r_154 dX4_meansBy_241 (fun c_18 => ?_)
  refine s_iinc (pc := 242) (lf := fun x => [some (2, 111), some (0, v1), none, some (0, v3), some (0, v4), some (0, x), some (0, v6), some (0, v7)]) dX4_meansBy_242 rfl (fun _ => rfl) (Nat.le_of_ble_eq_true rfl) (fun v5_19 => ?_)
  refine s_goto (pc := 245) (tgt := 170) dX4_meansBy_245 rfl ?_
  refine s_wk [true, true, true, true, true, true, false, false] (ls' := [some (2, 111), some (0, v1), none, some (0, v3), some (0, v4), some (0, v5_19), none, none]) rfl ?_
  exact Sm.some (fun h => h)
noncomputable def fX4_meansBy_l170 (v1 : Int) (v3 : Int) (v4 : Int) (v5 : Int) (c : CC) : Option ((Int × CC) ⊕ (CC)) :=
  if v5 < v3 then
  (gd (inR (v4 + v5)) <|
   gd ((0 : Int) ≤ v4 + v5 ∧ v4 + v5 < 26) <|
   bd (c 156 (Int.toNat (v4 + v5))) fun v7_14 =>
   cl (wh (fun s => fX4_meansBy_l192 v1 v3 v4 v5 v7_14 s.1 s.2) (v5, c)) (fun e_17 =>
  fX4_meansBy_j233 v1 v3 v4 v5 e_17.1 v7_14 e_17.2))
  else
  (some (.inr c))
theorem sX4_meansBy_l170 {G : GG} {Γ : Cx} {r : Vv × Wd} {sz sl : Nat} {td : TT} (v1 : Int) (v3 : Int) (v4 : Int) (v5 : Int) (c : CC) : Sm (fX4_meansBy_l170 v1 v3 v4 v5 c) (fun x => Sum.elim (gX4_meansBy_l170 G Γ r sz sl td v1 v3 v4) (eX4_meansBy_l170 G Γ r sz sl td v1 v3 v4) x) (gX4_meansBy_l170 G Γ r sz sl td v1 v3 v4 (v5, c)) := by
  show Sm _ _ (WP G Γ muX4_meansBy r 170 [some (2, 111), some (0, v1), none, some (0, v3), some (0, v4), some (0, v5), none, none] [] (sz, sl, tt td, cv c))
  unfold fX4_meansBy_l170
  refine s_iload (pc := 170) dX4_meansBy_170 rfl ?_
  refine s_iload_n (pc := 172) dX4_meansBy_172 rfl ?_
  refine s_icmp_ge (pc := 173) (tgt := 248) dX4_meansBy_173 rfl ?_ ?_
  · refine s_wk [true, true, true, true, false, false, true, true] (ls' := [some (2, 111), some (0, v1), none, some (0, v3), none, none, none, none]) rfl ?_
    exact Sm.some (fun h => h)
  refine s_iload (pc := 176) dX4_meansBy_176 rfl ?_
  refine s_istoreD (pc := 178) (ls' := [some (2, 111), some (0, v1), none, some (0, v3), some (0, v4), some (0, v5), some (0, v5), none]) dX4_meansBy_178 rfl (Nat.le_of_ble_eq_true rfl) ?_
  refine s_aload_n (pc := 180) dX4_meansBy_180 rfl ?_
  refine s_get (pc := 181) (a := 111) (v := 156) flX4_151 (t_111 _) rfl (g_111_64 _) rfl dX4_meansBy_181 ?_
  refine s_iload (pc := 184) dX4_meansBy_184 rfl ?_
  refine s_iload (pc := 186) dX4_meansBy_186 rfl ?_
  refine s_iadd (pc := 188) dX4_meansBy_188 ?_
  refine s_ialdM (pc := 189) (a := 156) (t_156 _) rfl r_156 dX4_meansBy_189 ?_
  refine s_istore (pc := 190) (lf := fun x => [some (2, 111), some (0, v1), none, some (0, v3), some (0, v4), some (0, v5), some (0, v5), some (0, x)]) dX4_meansBy_190 (fun _ => rfl) (Nat.le_of_ble_eq_true rfl) (fun v7_14 => ?_)
  refine s_loop (g := gX4_meansBy_l192 G Γ r sz sl td v1 v3 v4 v5 v7_14) (Ex := eX4_meansBy_l192 G Γ r sz sl td v1 v3 v4 v5 v7_14) (s0 := (v5, c)) (fun s => sX4_meansBy_l192 v1 v3 v4 v5 v7_14 s.1 s.2) ?_
  intro e_17
  show Sm _ _ (WP G Γ muX4_meansBy r 233 [some (2, 111), some (0, v1), none, some (0, v3), some (0, v4), some (0, v5), some (0, e_17.1), some (0, v7_14)] [] (sz, sl, tt td, cv e_17.2))
  exact sX4_meansBy_j233 v1 v3 v4 v5 e_17.1 v7_14 e_17.2
abbrev gX4_meansBy_l264 (G : GG) (Γ : Cx) (r : Vv × Wd) (sz sl : Nat) (td : TT) (v1 : Int) (v2 : Int) (v3 : Int) (v4 : Int) : (Int × CC) → Prop := fun s => WP G Γ muX4_meansBy r 264 [some (2, 111), some (0, v1), some (0, v2), some (0, v3), some (0, v4), some (0, s.1), none, none] [] (sz, sl, tt td, cv s.2)
abbrev eX4_meansBy_l264 (G : GG) (Γ : Cx) (r : Vv × Wd) (sz sl : Nat) (td : TT) (v1 : Int) (v2 : Int) (v3 : Int) (v4 : Int) : (CC) → Prop := (fun s => WP G Γ muX4_meansBy r 320 [some (2, 111), some (0, v1), none, some (0, v3), none, none, none, none] [] (sz, sl, tt td, cv s))
noncomputable def fX4_meansBy_l264 (v1 : Int) (v2 : Int) (v3 : Int) (v4 : Int) (v5 : Int) (c : CC) : Option ((Int × CC) ⊕ (CC)) :=
  if v5 < v2 then
  (gd (inR (2 * v5)) <|
   gd (inR (v4 + v5)) <|
   gd ((0 : Int) ≤ v4 + v5 ∧ v4 + v5 < 26) <|
   gd ((0 : Int) ≤ 2 * v5 ∧ 2 * v5 < 6) <| bd (up2 c 154 (Int.toNat (2 * v5)) (c 156 (Int.toNat (v4 + v5)))) fun c_23 =>
   gd (inR (2 * v5)) <|
   gd (inR ((2 * v5) + 1)) <|
   gd (inR ((c_23 111 67) - 1)) <|
   gd (inR (((c_23 111 67) - 1) - v5)) <|
   gd ((0 : Int) ≤ ((c_23 111 67) - 1) - v5 ∧ ((c_23 111 67) - 1) - v5 < 26) <|
   gd ((0 : Int) ≤ (2 * v5) + 1 ∧ (2 * v5) + 1 < 6) <| bd (up2 c_23 154 (Int.toNat ((2 * v5) + 1)) (c_23 156 (Int.toNat (((c_23 111 67) - 1) - v5)))) fun c_24 =>
   gd (inR (v5 + 1)) <| bd (v5 + 1) fun v5_25 =>
   some (.inl (v5_25, c_24)))
  else
  (some (.inr c))
theorem sX4_meansBy_l264 {G : GG} {Γ : Cx} {r : Vv × Wd} {sz sl : Nat} {td : TT} (v1 : Int) (v2 : Int) (v3 : Int) (v4 : Int) (v5 : Int) (c : CC) : Sm (fX4_meansBy_l264 v1 v2 v3 v4 v5 c) (fun x => Sum.elim (gX4_meansBy_l264 G Γ r sz sl td v1 v2 v3 v4) (eX4_meansBy_l264 G Γ r sz sl td v1 v2 v3 v4) x) (gX4_meansBy_l264 G Γ r sz sl td v1 v2 v3 v4 (v5, c)) := by
  show Sm _ _ (WP G Γ muX4_meansBy r 264 [some (2, 111), some (0, v1), some (0, v2), some (0, v3), some (0, v4), some (0, v5), none, none] [] (sz, sl, tt td, cv c))
  unfold fX4_meansBy_l264
  refine s_iload (pc := 264) dX4_meansBy_264 rfl ?_
  refine s_iload_n (pc := 266) dX4_meansBy_266 rfl ?_
  refine s_icmp_ge (pc := 267) (tgt := 320) dX4_meansBy_267 rfl ?_ ?_
  · refine s_wk [true, true, false, true, false, false, true, true] (ls' := [some (2, 111), some (0, v1), none, some (0, v3), none, none, none, none]) rfl ?_
    exact Sm.some (fun h => h)
  refine s_aload_n (pc := 270) dX4_meansBy_270 rfl ?_
  refine s_get (pc := 271) (a := 111) (v := 154) flX4_145 (t_111 _) rfl (g_111_62 _) rfl dX4_meansBy_271 ?_
  refine s_iconst (pc := 274) dX4_meansBy_274 ?_
  refine s_iload (pc := 275) dX4_meansBy_275 rfl ?_
  refine s_imul (pc := 277) dX4_meansBy_277 ?_
  refine s_aload_n (pc := 278) dX4_meansBy_278 rfl ?_
  refine s_get (pc := 279) (a := 111) (v := 156) flX4_151 (t_111 _) rfl (g_111_64 _) rfl dX4_meansBy_279 ?_
  refine s_iload (pc := 282) dX4_meansBy_282 rfl ?_
  refine s_iload (pc := 284) dX4_meansBy_284 rfl ?_
  refine s_iadd (pc := 286) dX4_meansBy_286 ?_
  refine s_ialdM (pc := 287) (a := 156) (t_156 _) rfl r_156 dX4_meansBy_287 ?_
  refine s_iastM (pc := 288) (a := 154) (t_154 _) rfl kO_154 r_154 dX4_meansBy_288 (fun c_23 => ?_)
  refine s_aload_n (pc := 289) dX4_meansBy_289 rfl ?_
  refine s_get (pc := 290) (a := 111) (v := 154) flX4_145 (t_111 _) rfl (g_111_62 _) rfl dX4_meansBy_290 ?_
  refine s_iconst (pc := 293) dX4_meansBy_293 ?_
  refine s_iload (pc := 294) dX4_meansBy_294 rfl ?_
  refine s_imul (pc := 296) dX4_meansBy_296 ?_
  refine s_iconst (pc := 297) dX4_meansBy_297 ?_
  refine s_iadd (pc := 298) dX4_meansBy_298 ?_
  refine s_aload_n (pc := 299) dX4_meansBy_299 rfl ?_
  refine s_get (pc := 300) (a := 111) (v := 156) flX4_151 (t_111 _) rfl (g_111_64 _) rfl dX4_meansBy_300 ?_
  refine s_aload_n (pc := 303) dX4_meansBy_303 rfl ?_
  refine s_get (pc := 304) (a := 111) (v := c_23 111 67) flX4_492 (t_111 _) rfl (g_111_67 _) rfl dX4_meansBy_304 ?_
  refine s_iconst (pc := 307) dX4_meansBy_307 ?_
  refine s_isub (pc := 308) dX4_meansBy_308 ?_
  refine s_iload (pc := 309) dX4_meansBy_309 rfl ?_
  refine s_isub (pc := 311) dX4_meansBy_311 ?_
  refine s_ialdM (pc := 312) (a := 156) (t_156 _) rfl r_156 dX4_meansBy_312 ?_
  refine s_iastM (pc := 313) (a := 154) (t_154 _) rfl kO_154 r_154 dX4_meansBy_313 (fun c_24 => ?_)
  refine s_iinc (pc := 314) (lf := fun x => [some (2, 111), some (0, v1), some (0, v2), some (0, v3), some (0, v4), some (0, x), none, none]) dX4_meansBy_314 rfl (fun _ => rfl) (Nat.le_of_ble_eq_true rfl) (fun v5_25 => ?_)
  refine s_goto (pc := 317) (tgt := 264) dX4_meansBy_317 rfl ?_
  exact Sm.some (fun h => h)
noncomputable def fX4_meansBy (a1 : Int) (a2 : Int) (c : CC) : Option (Int × CC) :=
  gd ((0 : Int) ≤ a1 ∧ a1 < 144) <|
   cl (fX4_takes (c 119 (Int.toNat a1)) a2) fun p_1 =>
   gd (inR ((c 111 67) - p_1)) <|
   bd ((c 111 67) - p_1) fun v4_2 =>
   gd ((0 : Int) ≤ a1 ∧ a1 < 144) <|
   if c 119 (Int.toNat a1) = 0 then
  (gd ((0 : Int) ≤ a1 ∧ a1 < 144) <|
   cl (fX4_meaning 0 (c 124 (Int.toNat a1)) 0 c) fun p_4 =>
   some (p_4.1, p_4.2))
  else if c 119 (Int.toNat a1) = 1 then
  (gd ((0 : Int) ≤ v4_2 ∧ v4_2 < 26) <|
   bd (up2 c 154 0 (c 156 (Int.toNat v4_2))) fun c_6 =>
   gd (inR (v4_2 + 1)) <|
   gd ((0 : Int) ≤ v4_2 + 1 ∧ v4_2 + 1 < 26) <|
   bd (up2 c_6 154 1 (c_6 156 (Int.toNat (v4_2 + 1)))) fun c_7 =>
   gd ((0 : Int) ≤ a1 ∧ a1 < 144) <|
   cl (fX4_meaning 1 (c_7 124 (Int.toNat a1)) 2 c_7) fun p_8 =>
   some (p_8.1, p_8.2))
  else if c 119 (Int.toNat a1) = 2 then
  (gd (inR (v4_2 + 1)) <|
   gd ((0 : Int) ≤ v4_2 + 1 ∧ v4_2 + 1 < 26) <|
   bd (up2 c 154 0 (c 156 (Int.toNat (v4_2 + 1)))) fun c_10 =>
   gd ((0 : Int) ≤ v4_2 ∧ v4_2 < 26) <|
   bd (up2 c_10 154 1 (c_10 156 (Int.toNat v4_2))) fun c_11 =>
   gd ((0 : Int) ≤ a1 ∧ a1 < 144) <|
   cl (fX4_meaning 1 (c_11 124 (Int.toNat a1)) 2 c_11) fun p_12 =>
   some (p_12.1, p_12.2))
  else if c 119 (Int.toNat a1) = 3 then
  (cl (wh (fun s => fX4_meansBy_l170 a1 p_1 v4_2 s.1 s.2) (0, c)) (fun e_20 =>
  gd ((0 : Int) ≤ a1 ∧ a1 < 144) <|
   cl (fX4_meaning 2 (e_20 124 (Int.toNat a1)) p_1 e_20) fun p_21 =>
   some (p_21.1, p_21.2)))
  else if c 119 (Int.toNat a1) = 4 then
  (cl (wh (fun s => fX4_meansBy_l264 a1 a2 p_1 v4_2 s.1 s.2) (0, c)) (fun e_26 =>
  gd ((0 : Int) ≤ a1 ∧ a1 < 144) <|
   cl (fX4_meaning 3 (e_26 124 (Int.toNat a1)) p_1 e_26) fun p_27 =>
   some (p_27.1, p_27.2)))
  else if c 119 (Int.toNat a1) = 5 then
  (gd ((0 : Int) ≤ v4_2 ∧ v4_2 < 26) <|
   some (c 156 (Int.toNat v4_2), c))
  else (cl (wh (fun s => fX4_meansBy_l264 a1 a2 p_1 v4_2 s.1 s.2) (0, c)) (fun e_29 =>
  gd ((0 : Int) ≤ a1 ∧ a1 < 144) <|
   cl (fX4_meaning 3 (e_29 124 (Int.toNat a1)) p_1 e_29) fun p_30 =>
   some (p_30.1, p_30.2)))
theorem sX4_meansBy {G : GG} {Γ : Cx} {r : Vv × Wd} {sz sl : Nat} {td : TT} (a1 : Int) (a2 : Int) (c : CC) : Sm (fX4_meansBy a1 a2 c) (fun x => r = ((0, x.1), (sz, sl, tt td, cv x.2))) (WP G Γ muX4_meansBy r 0 [some (2, 111), some (0, a1), some (0, a2), none, none, none, none, none] [] (sz, sl, tt td, cv c)) := by
  unfold fX4_meansBy
  refine s_aload_n (pc := 0) dX4_meansBy_0 rfl ?_
  refine s_get (pc := 1) (a := 111) (v := 119) flX4_39 (t_111 _) rfl (g_111_10 _) rfl dX4_meansBy_1 ?_
  refine s_iload_n (pc := 4) dX4_meansBy_4 rfl ?_
  refine s_ialdM (pc := 5) (a := 119) (t_119 _) rfl r_119 dX4_meansBy_5 ?_
  refine s_iload_n (pc := 6) dX4_meansBy_6 rfl ?_
  refine s_callS3 (pc := 7) (as := [(0, c 119 (Int.toNat a1)), (0, a2)]) (st := []) (rv := fun b => ((0, b), (sz, sl, tt td, cv c))) (st3 := fun b => [(0, b)]) (w3 := fun b => (sz, sl, tt td, cv c)) msX4_461 (fun b h => kX4_takes (c 119 (Int.toNat a1)) a2 c b h) rfl (by decide) rfl (Nat.le_of_ble_eq_true rfl) (fun _ => Nat.le_of_ble_eq_true rfl) (fun _ => ⟨rfl, rfl⟩) dX4_meansBy_7 (fun p_1 => ?_)
  refine s_istore_nD (pc := 10) (ls' := [some (2, 111), some (0, a1), some (0, a2), some (0, p_1), none, none, none, none]) dX4_meansBy_10 rfl (Nat.le_of_ble_eq_true rfl) ?_
  refine s_aload_n (pc := 11) dX4_meansBy_11 rfl ?_
  refine s_get (pc := 12) (a := 111) (v := c 111 67) flX4_492 (t_111 _) rfl (g_111_67 _) rfl dX4_meansBy_12 ?_
  refine s_iload_n (pc := 15) dX4_meansBy_15 rfl ?_
  refine s_isub (pc := 16) dX4_meansBy_16 ?_
  refine s_istore (pc := 17) (lf := fun x => [some (2, 111), some (0, a1), some (0, a2), some (0, p_1), some (0, x), none, none, none]) dX4_meansBy_17 (fun _ => rfl) (Nat.le_of_ble_eq_true rfl) (fun v4_2 => ?_)
  refine s_aload_n (pc := 19) dX4_meansBy_19 rfl ?_
  refine s_get (pc := 20) (a := 111) (v := 119) flX4_39 (t_111 _) rfl (g_111_10 _) rfl dX4_meansBy_20 ?_
  refine s_iload_n (pc := 23) dX4_meansBy_23 rfl ?_
  refine s_ialdM (pc := 24) (a := 119) (t_119 _) rfl r_119 dX4_meansBy_24 ?_
  refine Sm.ite (fun hq_3 => ?_) (fun hq_3 => ?_)
  · refine s_tblIn (pc := 25) (tgt := 64) dX4_meansBy_25 0 hq_3 (by decide) rfl rfl ?_
    refine s_aload_n (pc := 64) dX4_meansBy_64 rfl ?_
    refine s_iconst (pc := 65) dX4_meansBy_65 ?_
    refine s_aload_n (pc := 66) dX4_meansBy_66 rfl ?_
    refine s_get (pc := 67) (a := 111) (v := 124) flX4_54 (t_111 _) rfl (g_111_15 _) rfl dX4_meansBy_67 ?_
    refine s_iload_n (pc := 70) dX4_meansBy_70 rfl ?_
    refine s_ialdM (pc := 71) (a := 124) (t_124 _) rfl r_124 dX4_meansBy_71 ?_
    refine s_iconst (pc := 72) dX4_meansBy_72 ?_
    refine s_callV3 (pc := 73) (a := 111) (as := [(0, 0), (0, c 124 (Int.toNat a1)), (0, 0)]) (st := []) (rv := fun b => ((0, b.1), (sz, sl, tt td, cv b.2))) (st3 := fun b => [(0, b.1)]) (w3 := fun b => (sz, sl, tt td, cv b.2)) mvX4_495 (fun b h => kX4_meaning 0 (c 124 (Int.toNat a1)) 0 c b h) rfl (by decide) (t_111 td) rfl rfl rfl (Nat.le_of_ble_eq_true rfl) (fun _ => Nat.le_of_ble_eq_true rfl) (fun _ => ⟨rfl, rfl⟩) dX4_meansBy_73 (fun p_4 => ?_)
    exact s_iret (pc := 76) dX4_meansBy_76 rfl (fun h => h)
  refine Sm.ite (fun hq_5 => ?_) (fun hq_5 => ?_)
  · refine s_tblIn (pc := 25) (tgt := 85) dX4_meansBy_25 1 hq_5 (by decide) rfl rfl ?_
    refine s_aload_n (pc := 85) dX4_meansBy_85 rfl ?_
    refine s_get (pc := 86) (a := 111) (v := 154) flX4_145 (t_111 _) rfl (g_111_62 _) rfl dX4_meansBy_86 ?_
    refine s_iconst (pc := 89) dX4_meansBy_89 ?_
    refine s_aload_n (pc := 90) dX4_meansBy_90 rfl ?_
    refine s_get (pc := 91) (a := 111) (v := 156) flX4_151 (t_111 _) rfl (g_111_64 _) rfl dX4_meansBy_91 ?_
    refine s_iload (pc := 94) dX4_meansBy_94 rfl ?_
    refine s_ialdM (pc := 96) (a := 156) (t_156 _) rfl r_156 dX4_meansBy_96 ?_
    refine s_iastML (pc := 97) (a := 154) 0 rfl (Nat.le_of_ble_eq_true rfl) (t_154 _) rfl kO_154 r_154 dX4_meansBy_97 (fun c_6 => ?_)
    refine s_aload_n (pc := 98) dX4_meansBy_98 rfl ?_
    refine s_get (pc := 99) (a := 111) (v := 154) flX4_145 (t_111 _) rfl (g_111_62 _) rfl dX4_meansBy_99 ?_
    refine s_iconst (pc := 102) dX4_meansBy_102 ?_
    refine s_aload_n (pc := 103) dX4_meansBy_103 rfl ?_
    refine s_get (pc := 104) (a := 111) (v := 156) flX4_151 (t_111 _) rfl (g_111_64 _) rfl dX4_meansBy_104 ?_
    refine s_iload (pc := 107) dX4_meansBy_107 rfl ?_
    refine s_iconst (pc := 109) dX4_meansBy_109 ?_
    refine s_iadd (pc := 110) dX4_meansBy_110 ?_
    refine s_ialdM (pc := 111) (a := 156) (t_156 _) rfl r_156 dX4_meansBy_111 ?_
    refine s_iastML (pc := 112) (a := 154) 1 rfl (Nat.le_of_ble_eq_true rfl) (t_154 _) rfl kO_154 r_154 dX4_meansBy_112 (fun c_7 => ?_)
    refine s_aload_n (pc := 113) dX4_meansBy_113 rfl ?_
    refine s_iconst (pc := 114) dX4_meansBy_114 ?_
    refine s_aload_n (pc := 115) dX4_meansBy_115 rfl ?_
    refine s_get (pc := 116) (a := 111) (v := 124) flX4_54 (t_111 _) rfl (g_111_15 _) rfl dX4_meansBy_116 ?_
    refine s_iload_n (pc := 119) dX4_meansBy_119 rfl ?_
    refine s_ialdM (pc := 120) (a := 124) (t_124 _) rfl r_124 dX4_meansBy_120 ?_
    refine s_iconst (pc := 121) dX4_meansBy_121 ?_
    refine s_callV3 (pc := 122) (a := 111) (as := [(0, 1), (0, c_7 124 (Int.toNat a1)), (0, 2)]) (st := []) (rv := fun b => ((0, b.1), (sz, sl, tt td, cv b.2))) (st3 := fun b => [(0, b.1)]) (w3 := fun b => (sz, sl, tt td, cv b.2)) mvX4_495 (fun b h => kX4_meaning 1 (c_7 124 (Int.toNat a1)) 2 c_7 b h) rfl (by decide) (t_111 td) rfl rfl rfl (Nat.le_of_ble_eq_true rfl) (fun _ => Nat.le_of_ble_eq_true rfl) (fun _ => ⟨rfl, rfl⟩) dX4_meansBy_122 (fun p_8 => ?_)
    exact s_iret (pc := 125) dX4_meansBy_125 rfl (fun h => h)
  refine Sm.ite (fun hq_9 => ?_) (fun hq_9 => ?_)
  · refine s_tblIn (pc := 25) (tgt := 126) dX4_meansBy_25 2 hq_9 (by decide) rfl rfl ?_
    refine s_aload_n (pc := 126) dX4_meansBy_126 rfl ?_
    refine s_get (pc := 127) (a := 111) (v := 154) flX4_145 (t_111 _) rfl (g_111_62 _) rfl dX4_meansBy_127 ?_
    refine s_iconst (pc := 130) dX4_meansBy_130 ?_
    refine s_aload_n (pc := 131) dX4_meansBy_131 rfl ?_
    refine s_get (pc := 132) (a := 111) (v := 156) flX4_151 (t_111 _) rfl (g_111_64 _) rfl dX4_meansBy_132 ?_
    refine s_iload (pc := 135) dX4_meansBy_135 rfl ?_
    refine s_iconst (pc := 137) dX4_meansBy_137 ?_
    refine s_iadd (pc := 138) dX4_meansBy_138 ?_
    refine s_ialdM (pc := 139) (a := 156) (t_156 _) rfl r_156 dX4_meansBy_139 ?_
    refine s_iastML (pc := 140) (a := 154) 0 rfl (Nat.le_of_ble_eq_true rfl) (t_154 _) rfl kO_154 r_154 dX4_meansBy_140 (fun c_10 => ?_)
    refine s_aload_n (pc := 141) dX4_meansBy_141 rfl ?_
    refine s_get (pc := 142) (a := 111) (v := 154) flX4_145 (t_111 _) rfl (g_111_62 _) rfl dX4_meansBy_142 ?_
    refine s_iconst (pc := 145) dX4_meansBy_145 ?_
    refine s_aload_n (pc := 146) dX4_meansBy_146 rfl ?_
    refine s_get (pc := 147) (a := 111) (v := 156) flX4_151 (t_111 _) rfl (g_111_64 _) rfl dX4_meansBy_147 ?_
    refine s_iload (pc := 150) dX4_meansBy_150 rfl ?_
    refine s_ialdM (pc := 152) (a := 156) (t_156 _) rfl r_156 dX4_meansBy_152 ?_
    refine s_iastML (pc := 153) (a := 154) 1 rfl (Nat.le_of_ble_eq_true rfl) (t_154 _) rfl kO_154 r_154 dX4_meansBy_153 (fun c_11 => ?_)
    refine s_aload_n (pc := 154) dX4_meansBy_154 rfl ?_
    refine s_iconst (pc := 155) dX4_meansBy_155 ?_
    refine s_aload_n (pc := 156) dX4_meansBy_156 rfl ?_
    refine s_get (pc := 157) (a := 111) (v := 124) flX4_54 (t_111 _) rfl (g_111_15 _) rfl dX4_meansBy_157 ?_
    refine s_iload_n (pc := 160) dX4_meansBy_160 rfl ?_
    refine s_ialdM (pc := 161) (a := 124) (t_124 _) rfl r_124 dX4_meansBy_161 ?_
    refine s_iconst (pc := 162) dX4_meansBy_162 ?_
    refine s_callV3 (pc := 163) (a := 111) (as := [(0, 1), (0, c_11 124 (Int.toNat a1)), (0, 2)]) (st := []) (rv := fun b => ((0, b.1), (sz, sl, tt td, cv b.2))) (st3 := fun b => [(0, b.1)]) (w3 := fun b => (sz, sl, tt td, cv b.2)) mvX4_495 (fun b h => kX4_meaning 1 (c_11 124 (Int.toNat a1)) 2 c_11 b h) rfl (by decide) (t_111 td) rfl rfl rfl (Nat.le_of_ble_eq_true rfl) (fun _ => Nat.le_of_ble_eq_true rfl) (fun _ => ⟨rfl, rfl⟩) dX4_meansBy_163 (fun p_12 => ?_)
    exact s_iret (pc := 166) dX4_meansBy_166 rfl (fun h => h)
  refine Sm.ite (fun hq_13 => ?_) (fun hq_13 => ?_)
  · refine s_tblIn (pc := 25) (tgt := 167) dX4_meansBy_25 3 hq_13 (by decide) rfl rfl ?_
    refine s_iconst (pc := 167) dX4_meansBy_167 ?_
    refine s_istoreD (pc := 168) (ls' := [some (2, 111), some (0, a1), some (0, a2), some (0, p_1), some (0, v4_2), some (0, 0), none, none]) dX4_meansBy_168 rfl (Nat.le_of_ble_eq_true rfl) ?_
    refine s_wk [true, true, false, true, true, true, true, true] (ls' := [some (2, 111), some (0, a1), none, some (0, p_1), some (0, v4_2), some (0, 0), none, none]) rfl ?_
    refine s_loop (g := gX4_meansBy_l170 G Γ r sz sl td a1 p_1 v4_2) (Ex := eX4_meansBy_l170 G Γ r sz sl td a1 p_1 v4_2) (s0 := (0, c)) (fun s => sX4_meansBy_l170 a1 p_1 v4_2 s.1 s.2) ?_
    intro e_20
    show Sm _ _ (WP G Γ muX4_meansBy r 248 [some (2, 111), some (0, a1), none, some (0, p_1), none, none, none, none] [] (sz, sl, tt td, cv e_20))
    refine s_aload_n (pc := 248) dX4_meansBy_248 rfl ?_
    refine s_iconst (pc := 249) dX4_meansBy_249 ?_
    refine s_aload_n (pc := 250) dX4_meansBy_250 rfl ?_
    refine s_get (pc := 251) (a := 111) (v := 124) flX4_54 (t_111 _) rfl (g_111_15 _) rfl dX4_meansBy_251 ?_
    refine s_iload_n (pc := 254) dX4_meansBy_254 rfl ?_
    refine s_ialdM (pc := 255) (a := 124) (t_124 _) rfl r_124 dX4_meansBy_255 ?_
    refine s_iload_n (pc := 256) dX4_meansBy_256 rfl ?_
    refine s_callV3 (pc := 257) (a := 111) (as := [(0, 2), (0, e_20 124 (Int.toNat a1)), (0, p_1)]) (st := []) (rv := fun b => ((0, b.1), (sz, sl, tt td, cv b.2))) (st3 := fun b => [(0, b.1)]) (w3 := fun b => (sz, sl, tt td, cv b.2)) mvX4_495 (fun b h => kX4_meaning 2 (e_20 124 (Int.toNat a1)) p_1 e_20 b h) rfl (by decide) (t_111 td) rfl rfl rfl (Nat.le_of_ble_eq_true rfl) (fun _ => Nat.le_of_ble_eq_true rfl) (fun _ => ⟨rfl, rfl⟩) dX4_meansBy_257 (fun p_21 => ?_)
    exact s_iret (pc := 260) dX4_meansBy_260 rfl (fun h => h)
  refine Sm.ite (fun hq_22 => ?_) (fun hq_22 => ?_)
  · refine s_tblIn (pc := 25) (tgt := 261) dX4_meansBy_25 4 hq_22 (by decide) rfl rfl ?_
    refine s_iconst (pc := 261) dX4_meansBy_261 ?_
    refine s_istoreD (pc := 262) (ls' := [some (2, 111), some (0, a1), some (0, a2), some (0, p_1), some (0, v4_2), some (0, 0), none, none]) dX4_meansBy_262 rfl (Nat.le_of_ble_eq_true rfl) ?_
    refine s_loop (g := gX4_meansBy_l264 G Γ r sz sl td a1 a2 p_1 v4_2) (Ex := eX4_meansBy_l264 G Γ r sz sl td a1 a2 p_1 v4_2) (s0 := (0, c)) (fun s => sX4_meansBy_l264 a1 a2 p_1 v4_2 s.1 s.2) ?_
    intro e_26
    show Sm _ _ (WP G Γ muX4_meansBy r 320 [some (2, 111), some (0, a1), none, some (0, p_1), none, none, none, none] [] (sz, sl, tt td, cv e_26))
    refine s_aload_n (pc := 320) dX4_meansBy_320 rfl ?_
    refine s_iconst (pc := 321) dX4_meansBy_321 ?_
    refine s_aload_n (pc := 322) dX4_meansBy_322 rfl ?_
    refine s_get (pc := 323) (a := 111) (v := 124) flX4_54 (t_111 _) rfl (g_111_15 _) rfl dX4_meansBy_323 ?_
    refine s_iload_n (pc := 326) dX4_meansBy_326 rfl ?_
    refine s_ialdM (pc := 327) (a := 124) (t_124 _) rfl r_124 dX4_meansBy_327 ?_
    refine s_iload_n (pc := 328) dX4_meansBy_328 rfl ?_
    refine s_callV3 (pc := 329) (a := 111) (as := [(0, 3), (0, e_26 124 (Int.toNat a1)), (0, p_1)]) (st := []) (rv := fun b => ((0, b.1), (sz, sl, tt td, cv b.2))) (st3 := fun b => [(0, b.1)]) (w3 := fun b => (sz, sl, tt td, cv b.2)) mvX4_495 (fun b h => kX4_meaning 3 (e_26 124 (Int.toNat a1)) p_1 e_26 b h) rfl (by decide) (t_111 td) rfl rfl rfl (Nat.le_of_ble_eq_true rfl) (fun _ => Nat.le_of_ble_eq_true rfl) (fun _ => ⟨rfl, rfl⟩) dX4_meansBy_329 (fun p_27 => ?_)
    exact s_iret (pc := 332) dX4_meansBy_332 rfl (fun h => h)
  refine Sm.ite (fun hq_28 => ?_) (fun hq_28 => ?_)
  · refine s_tblIn (pc := 25) (tgt := 77) dX4_meansBy_25 5 hq_28 (by decide) rfl rfl ?_
    refine s_aload_n (pc := 77) dX4_meansBy_77 rfl ?_
    refine s_get (pc := 78) (a := 111) (v := 156) flX4_151 (t_111 _) rfl (g_111_64 _) rfl dX4_meansBy_78 ?_
    refine s_iload (pc := 81) dX4_meansBy_81 rfl ?_
    refine s_ialdM (pc := 83) (a := 156) (t_156 _) rfl r_156 dX4_meansBy_83 ?_
    exact s_iret (pc := 84) dX4_meansBy_84 rfl (fun h => h)
  refine s_tblOut (pc := 25) (tgt := 261) dX4_meansBy_25 (by omega) rfl ?_
  refine s_iconst (pc := 261) dX4_meansBy_261 ?_
  refine s_istoreD (pc := 262) (ls' := [some (2, 111), some (0, a1), some (0, a2), some (0, p_1), some (0, v4_2), some (0, 0), none, none]) dX4_meansBy_262 rfl (Nat.le_of_ble_eq_true rfl) ?_
  refine s_loop (g := gX4_meansBy_l264 G Γ r sz sl td a1 a2 p_1 v4_2) (Ex := eX4_meansBy_l264 G Γ r sz sl td a1 a2 p_1 v4_2) (s0 := (0, c)) (fun s => sX4_meansBy_l264 a1 a2 p_1 v4_2 s.1 s.2) ?_
  intro e_29
  show Sm _ _ (WP G Γ muX4_meansBy r 320 [some (2, 111), some (0, a1), none, some (0, p_1), none, none, none, none] [] (sz, sl, tt td, cv e_29))
  refine s_aload_n (pc := 320) dX4_meansBy_320 rfl ?_
  refine s_iconst (pc := 321) dX4_meansBy_321 ?_
  refine s_aload_n (pc := 322) dX4_meansBy_322 rfl ?_
  refine s_get (pc := 323) (a := 111) (v := 124) flX4_54 (t_111 _) rfl (g_111_15 _) rfl dX4_meansBy_323 ?_
  refine s_iload_n (pc := 326) dX4_meansBy_326 rfl ?_
  refine s_ialdM (pc := 327) (a := 124) (t_124 _) rfl r_124 dX4_meansBy_327 ?_
  refine s_iload_n (pc := 328) dX4_meansBy_328 rfl ?_
  refine s_callV3 (pc := 329) (a := 111) (as := [(0, 3), (0, e_29 124 (Int.toNat a1)), (0, p_1)]) (st := []) (rv := fun b => ((0, b.1), (sz, sl, tt td, cv b.2))) (st3 := fun b => [(0, b.1)]) (w3 := fun b => (sz, sl, tt td, cv b.2)) mvX4_495 (fun b h => kX4_meaning 3 (e_29 124 (Int.toNat a1)) p_1 e_29 b h) rfl (by decide) (t_111 td) rfl rfl rfl (Nat.le_of_ble_eq_true rfl) (fun _ => Nat.le_of_ble_eq_true rfl) (fun _ => ⟨rfl, rfl⟩) dX4_meansBy_329 (fun p_30 => ?_)
  exact s_iret (pc := 332) dX4_meansBy_332 rfl (fun h => h)
theorem kX4_meansBy {G : GG} {sz sl : Nat} {td : TT} (a1 : Int) (a2 : Int) (c : CC) (x : (Int × CC)) (h : fX4_meansBy a1 a2 c = some x) : Ct G yX4_meansBy muX4_meansBy [(2, 111), (0, a1), (0, a2)] (sz, sl, tt td, cv c) ((0, x.1), (sz, sl, tt td, cv x.2)) :=
  Ct.of (n := 5) (ls0 := [some (2, 111), some (0, a1), some (0, a2), none, none, none, none, none]) (by decide) rfl rfl ⟨by decide, by decide⟩ (Nat.le_of_ble_eq_true rfl) rfl ⟨Nat.le_refl _, Nat.le_refl _⟩ (show (0 : Nat) ≠ 9 by decide) (fun Γ => sX4_meansBy a1 a2 c x h rfl)
theorem flX4_154 : FL RX4 154 3 65 := ⟨_, _, _, cf3, by decide, q1309⟩
theorem mvX4_498 : MV RX4 498 RX4 yX4_saysOf muX4_saysOf 1 := ⟨lw_V q1807 q1809 qs105 q129 q1810, by decide +kernel, by decide⟩
abbrev muX4_weighs : MI := (cX4_weighs, RX4, 10, some .int, 4, "weighs")
abbrev gX4_weighs_l51 (G : GG) (Γ : Cx) (r : Vv × Wd) (sz sl : Nat) (td : TT) (v1 : Int) (v3 : Int) (c : CC) : (Int × Int × Int) → Prop := fun s => WP G Γ muX4_weighs r 51 [some (2, 111), some (0, v1), none, some (0, v3), some (0, s.1), some (0, s.2.1), some (0, s.2.2), none, none, none] [] (sz, sl, tt td, cv c)
abbrev eX4_weighs_l51 (G : GG) (Γ : Cx) (r : Vv × Wd) (sz sl : Nat) (td : TT) (v1 : Int) (v3 : Int) (c : CC) : (Int × Int) → Prop := (fun s => WP G Γ muX4_weighs r 92 [some (2, 111), some (0, v1), none, some (0, v3), some (0, s.1), some (0, s.2), none, none, none, none] [] (sz, sl, tt td, cv c))
noncomputable def fX4_weighs_l51 (v1 : Int) (v3 : Int) (v4 : Int) (v5 : Int) (v6 : Int) (c : CC) : Option ((Int × Int × Int) ⊕ (Int × Int)) :=
  if v6 < c 111 67 then
  (gd ((0 : Int) ≤ v6 ∧ v6 < 26) <|
   gd (inR (v4 + (c 157 (Int.toNat v6)))) <|
   bd (v4 + (c 157 (Int.toNat v6))) fun v4_4 =>
   gd ((0 : Int) ≤ v6 ∧ v6 < 26) <|
   cl (fX4_lesser v5 (c 157 (Int.toNat v6))) fun p_5 =>
   gd (inR (v6 + 1)) <| bd (v6 + 1) fun v6_6 =>
   some (.inl (v4_4, p_5, v6_6)))
  else
  (some (.inr (v4, v5)))
theorem sX4_weighs_l51 {G : GG} {Γ : Cx} {r : Vv × Wd} {sz sl : Nat} {td : TT} (v1 : Int) (v3 : Int) (v4 : Int) (v5 : Int) (v6 : Int) (c : CC) : Sm (fX4_weighs_l51 v1 v3 v4 v5 v6 c) (fun x => Sum.elim (gX4_weighs_l51 G Γ r sz sl td v1 v3 c) (eX4_weighs_l51 G Γ r sz sl td v1 v3 c) x) (gX4_weighs_l51 G Γ r sz sl td v1 v3 c (v4, v5, v6)) := by
  show Sm _ _ (WP G Γ muX4_weighs r 51 [some (2, 111), some (0, v1), none, some (0, v3), some (0, v4), some (0, v5), some (0, v6), none, none, none] [] (sz, sl, tt td, cv c))
  unfold fX4_weighs_l51
  refine s_iload (pc := 51) dX4_weighs_51 rfl ?_
  refine s_aload_n (pc := 53) dX4_weighs_53 rfl ?_
  refine s_get (pc := 54) (a := 111) (v := c 111 67) flX4_492 (t_111 _) rfl (g_111_67 _) rfl dX4_weighs_54 ?_
  refine s_icmp_ge (pc := 57) (tgt := 92) dX4_weighs_57 rfl ?_ ?_
  · refine s_wk [true, true, true, true, true, true, false, true, true, true] (ls' := [some (2, 111), some (0, v1), none, some (0, v3), some (0, v4), some (0, v5), none, none, none, none]) rfl ?_
    exact Sm.some (fun h => h)
  refine s_iload (pc := 60) dX4_weighs_60 rfl ?_
  refine s_aload_n (pc := 62) dX4_weighs_62 rfl ?_
  refine s_get (pc := 63) (a := 111) (v := 157) flX4_154 (t_111 _) rfl (g_111_65 _) rfl dX4_weighs_63 ?_
  refine s_iload (pc := 66) dX4_weighs_66 rfl ?_
  refine s_ialdM (pc := 68) (a := 157) (t_157 _) rfl r_157 dX4_weighs_68 ?_
  refine s_iadd (pc := 69) dX4_weighs_69 ?_
  refine s_istore (pc := 70) (lf := fun x => [some (2, 111), some (0, v1), none, some (0, v3), some (0, x), some (0, v5), some (0, v6), none, none, none]) dX4_weighs_70 (fun _ => rfl) (Nat.le_of_ble_eq_true rfl) (fun v4_4 => ?_)
  refine s_iload (pc := 72) dX4_weighs_72 rfl ?_
  refine s_aload_n (pc := 74) dX4_weighs_74 rfl ?_
  refine s_get (pc := 75) (a := 111) (v := 157) flX4_154 (t_111 _) rfl (g_111_65 _) rfl dX4_weighs_75 ?_
  refine s_iload (pc := 78) dX4_weighs_78 rfl ?_
  refine s_ialdM (pc := 80) (a := 157) (t_157 _) rfl r_157 dX4_weighs_80 ?_
  refine s_callS3 (pc := 81) (as := [(0, v5), (0, c 157 (Int.toNat v6))]) (st := []) (rv := fun b => ((0, b), (sz, sl, tt td, cv c))) (st3 := fun b => [(0, b)]) (w3 := fun b => (sz, sl, tt td, cv c)) msX4_474 (fun b h => kX4_lesser v5 (c 157 (Int.toNat v6)) c b h) rfl (by decide) rfl (Nat.le_of_ble_eq_true rfl) (fun _ => Nat.le_of_ble_eq_true rfl) (fun _ => ⟨rfl, rfl⟩) dX4_weighs_81 (fun p_5 => ?_)
  refine s_istoreD (pc := 84) (ls' := [some (2, 111), some (0, v1), none, some (0, v3), some (0, v4_4), some (0, p_5), some (0, v6), none, none, none]) dX4_weighs_84 rfl (Nat.le_of_ble_eq_true rfl) ?_
  refine s_iinc (pc := 86) (lf := fun x => [some (2, 111), some (0, v1), none, some (0, v3), some (0, v4_4), some (0, p_5), some (0, x), none, none, none]) dX4_weighs_86 rfl (fun _ => rfl) (Nat.le_of_ble_eq_true rfl) (fun v6_6 => ?_)
  refine s_goto (pc := 89) (tgt := 51) dX4_weighs_89 rfl ?_
  exact Sm.some (fun h => h)
abbrev gX4_weighs_l138 (G : GG) (Γ : Cx) (r : Vv × Wd) (sz sl : Nat) (td : TT) (v4 : Int) : (Int × Int × Int × CC) → Prop := fun s => WP G Γ muX4_weighs r 138 [some (2, 111), none, none, none, some (0, v4), none, some (1, s.1), none, some (0, s.2.1), some (0, s.2.2.1)] [] (sz, sl, tt td, cv s.2.2.2)
abbrev eX4_weighs_l138 (G : GG) (Γ : Cx) (r : Vv × Wd) (sz sl : Nat) (td : TT) (v4 : Int) : (Int × Int × CC) → Prop := (fun s => WP G Γ muX4_weighs r 188 [none, none, none, none, some (0, v4), none, some (1, s.1), none, some (0, s.2.1), none] [] (sz, sl, tt td, cv s.2.2))
noncomputable def fX4_weighs_l138 (v4 : Int) (v6 : Int) (v8 : Int) (v9 : Int) (c : CC) : Option ((Int × Int × Int × CC) ⊕ (Int × Int × CC)) :=
  cl (fX4_senses  c) fun p_12 =>
   if v9 < p_12 then
  (cl (fX4_at24 v9 c) fun p_13 =>
   gd ((0 : Int) ≤ p_13 ∧ p_13 < 144) <|
   if c 116 (Int.toNat p_13) = 1 then
  (cl (fX4_at24 v9 c) fun p_15 =>
   gd ((0 : Int) ≤ p_15 ∧ p_15 < 144) <|
   cl (fX4_saysOf (c 117 (Int.toNat p_15)) c) fun p_16 =>
   gd (inR (v9 + 1)) <| bd (v9 + 1) fun v9_17 =>
   some (.inl (p_16.1, 1, v9_17, p_16.2)))
  else
  (gd (inR (v9 + 1)) <| bd (v9 + 1) fun v9_14 =>
   some (.inl (v6, v8, v9_14, c))))
  else
  (some (.inr (v6, v8, c)))
theorem sX4_weighs_l138 {G : GG} {Γ : Cx} {r : Vv × Wd} {sz sl : Nat} {td : TT} (v4 : Int) (v6 : Int) (v8 : Int) (v9 : Int) (c : CC) : Sm (fX4_weighs_l138 v4 v6 v8 v9 c) (fun x => Sum.elim (gX4_weighs_l138 G Γ r sz sl td v4) (eX4_weighs_l138 G Γ r sz sl td v4) x) (gX4_weighs_l138 G Γ r sz sl td v4 (v6, v8, v9, c)) := by
  show Sm _ _ (WP G Γ muX4_weighs r 138 [some (2, 111), none, none, none, some (0, v4), none, some (1, v6), none, some (0, v8), some (0, v9)] [] (sz, sl, tt td, cv c))
  unfold fX4_weighs_l138
  refine s_iload (pc := 138) dX4_weighs_138 rfl ?_
  refine s_aload_n (pc := 140) dX4_weighs_140 rfl ?_
  refine s_callV3 (pc := 141) (a := 111) (as := []) (st := [(0, v9)]) (rv := fun b => ((0, b), (sz, sl, tt td, cv c))) (st3 := fun b => [(0, b), (0, v9)]) (w3 := fun b => (sz, sl, tt td, cv c)) mvX4_409 (fun b h => kX4_senses  c b h) rfl (by decide) (t_111 td) rfl rfl rfl (Nat.le_of_ble_eq_true rfl) (fun _ => Nat.le_of_ble_eq_true rfl) (fun _ => ⟨rfl, rfl⟩) dX4_weighs_141 (fun p_12 => ?_)
  refine s_icmp_ge (pc := 144) (tgt := 188) dX4_weighs_144 rfl ?_ ?_
  · refine s_wk [false, true, true, true, true, true, true, true, true, false] (ls' := [none, none, none, none, some (0, v4), none, some (1, v6), none, some (0, v8), none]) rfl ?_
    exact Sm.some (fun h => h)
  refine s_aload_n (pc := 147) dX4_weighs_147 rfl ?_
  refine s_get (pc := 148) (a := 111) (v := 116) flX4_30 (t_111 _) rfl (g_111_7 _) rfl dX4_weighs_148 ?_
  refine s_aload_n (pc := 151) dX4_weighs_151 rfl ?_
  refine s_iload (pc := 152) dX4_weighs_152 rfl ?_
  refine s_callV3 (pc := 154) (a := 111) (as := [(0, v9)]) (st := [(2, 116)]) (rv := fun b => ((0, b), (sz, sl, tt td, cv c))) (st3 := fun b => [(0, b), (2, 116)]) (w3 := fun b => (sz, sl, tt td, cv c)) mvX4_412 (fun b h => kX4_at24 v9 c b h) rfl (by decide) (t_111 td) rfl rfl rfl (Nat.le_of_ble_eq_true rfl) (fun _ => Nat.le_of_ble_eq_true rfl) (fun _ => ⟨rfl, rfl⟩) dX4_weighs_154 (fun p_13 => ?_)
  refine s_ialdM (pc := 157) (a := 116) (t_116 _) rfl r_116 dX4_weighs_157 ?_
  refine s_iconst (pc := 158) dX4_weighs_158 ?_
  refine s_icmp_ne (pc := 159) (tgt := 182) dX4_weighs_159 rfl ?_ ?_
  · refine s_iinc (pc := 182) (lf := fun x => [some (2, 111), none, none, none, some (0, v4), none, some (1, v6), none, some (0, v8), some (0, x)]) dX4_weighs_182 rfl (fun _ => rfl) (Nat.le_of_ble_eq_true rfl) (fun v9_14 => ?_)
    refine s_goto (pc := 185) (tgt := 138) dX4_weighs_185 rfl ?_
    exact Sm.some (fun h => h)
  refine s_aload_n (pc := 162) dX4_weighs_162 rfl ?_
  refine s_aload_n (pc := 163) dX4_weighs_163 rfl ?_
  refine s_get (pc := 164) (a := 111) (v := 117) flX4_33 (t_111 _) rfl (g_111_8 _) rfl dX4_weighs_164 ?_
  refine s_aload_n (pc := 167) dX4_weighs_167 rfl ?_
  refine s_iload (pc := 168) dX4_weighs_168 rfl ?_
  refine s_callV3 (pc := 170) (a := 111) (as := [(0, v9)]) (st := [(2, 117), (2, 111)]) (rv := fun b => ((0, b), (sz, sl, tt td, cv c))) (st3 := fun b => [(0, b), (2, 117), (2, 111)]) (w3 := fun b => (sz, sl, tt td, cv c)) mvX4_412 (fun b h => kX4_at24 v9 c b h) rfl (by decide) (t_111 td) rfl rfl rfl (Nat.le_of_ble_eq_true rfl) (fun _ => Nat.le_of_ble_eq_true rfl) (fun _ => ⟨rfl, rfl⟩) dX4_weighs_170 (fun p_15 => ?_)
  refine s_ialdM (pc := 173) (a := 117) (t_117 _) rfl r_117 dX4_weighs_173 ?_
  refine s_callV3 (pc := 174) (a := 111) (as := [(0, c 117 (Int.toNat p_15))]) (st := []) (rv := fun b => ((1, b.1), (sz, sl, tt td, cv b.2))) (st3 := fun b => [(1, b.1)]) (w3 := fun b => (sz, sl, tt td, cv b.2)) mvX4_498 (fun b h => kX4_saysOf (c 117 (Int.toNat p_15)) c b h) rfl (by decide) (t_111 td) rfl rfl rfl (Nat.le_of_ble_eq_true rfl) (fun _ => Nat.le_of_ble_eq_true rfl) (fun _ => ⟨rfl, rfl⟩) dX4_weighs_174 (fun p_16 => ?_)
  refine s_lstoreD (pc := 177) (ls' := [some (2, 111), none, none, none, some (0, v4), none, some (1, p_16.1), none, some (0, v8), some (0, v9)]) dX4_weighs_177 rfl (Nat.le_of_ble_eq_true rfl) ?_
  refine s_iconst (pc := 179) dX4_weighs_179 ?_
  refine s_istoreD (pc := 180) (ls' := [some (2, 111), none, none, none, some (0, v4), none, some (1, p_16.1), none, some (0, 1), some (0, v9)]) dX4_weighs_180 rfl (Nat.le_of_ble_eq_true rfl) ?_
  refine s_iinc (pc := 182) (lf := fun x => [some (2, 111), none, none, none, some (0, v4), none, some (1, p_16.1), none, some (0, 1), some (0, x)]) dX4_weighs_182 rfl (fun _ => rfl) (Nat.le_of_ble_eq_true rfl) (fun v9_17 => ?_)
  refine s_goto (pc := 185) (tgt := 138) dX4_weighs_185 rfl ?_
  exact Sm.some (fun h => h)
noncomputable def fX4_weighs (a1 : Int) (a2 : Int) (c : CC) : Option (Int × CC) :=
  gd ((0 : Int) ≤ a1 ∧ a1 < 144) <|
   if c 119 (Int.toNat a1) = 0 then
  (gd ((0 : Int) ≤ a1 ∧ a1 < 144) <|
   some (c 123 (Int.toNat a1), c))
  else
  (gd ((0 : Int) ≤ a1 ∧ a1 < 144) <|
   cl (fX4_takes (c 119 (Int.toNat a1)) a2) fun p_1 =>
   gd (inR ((c 111 67) - 1)) <|
   gd ((0 : Int) ≤ (c 111 67) - 1 ∧ (c 111 67) - 1 < 26) <|
   bd (c 157 (Int.toNat ((c 111 67) - 1))) fun v5_2 =>
   gd (inR ((c 111 67) - p_1)) <|
   bd ((c 111 67) - p_1) fun v6_3 =>
   cl (wh (fun s => fX4_weighs_l51 a1 p_1 s.1 s.2.1 s.2.2 c) (0, v5_2, v6_3)) (fun e_7 =>
  bd (up2 c 136 0 e_7.1) fun c_8 =>
   bd (up2 c_8 136 1 e_7.2) fun c_9 =>
   bd (up2 c_9 136 2 p_1) fun c_10 =>
   gd ((0 : Int) ≤ a1 ∧ a1 < 144) <|
   bd (up2 c_10 136 3 (c_10 122 (Int.toNat a1))) fun c_11 =>
   cl (wh (fun s => fX4_weighs_l138 e_7.1 s.1 s.2.1 s.2.2.1 s.2.2.2) (e_7.1, 0, 0, c_11)) (fun e_18 =>
  if e_18.2.1 = 0 then
  (some (e_7.1, e_18.2.2))
  else
  (if e_18.1 < 0 then
  (some (0, e_18.2.2))
  else
  (if (9999 : Int) < e_18.1 then
  (some (9999, e_18.2.2))
  else
  (gd (inR e_18.1) <|
   some (e_18.1, e_18.2.2)))))))
theorem sX4_weighs {G : GG} {Γ : Cx} {r : Vv × Wd} {sz sl : Nat} {td : TT} (a1 : Int) (a2 : Int) (c : CC) : Sm (fX4_weighs a1 a2 c) (fun x => r = ((0, x.1), (sz, sl, tt td, cv x.2))) (WP G Γ muX4_weighs r 0 [some (2, 111), some (0, a1), some (0, a2), none, none, none, none, none, none, none] [] (sz, sl, tt td, cv c)) := by
  unfold fX4_weighs
  refine s_aload_n (pc := 0) dX4_weighs_0 rfl ?_
  refine s_get (pc := 1) (a := 111) (v := 119) flX4_39 (t_111 _) rfl (g_111_10 _) rfl dX4_weighs_1 ?_
  refine s_iload_n (pc := 4) dX4_weighs_4 rfl ?_
  refine s_ialdM (pc := 5) (a := 119) (t_119 _) rfl r_119 dX4_weighs_5 ?_
  refine s_if_ne (pc := 6) (tgt := 16) dX4_weighs_6 rfl ?_ ?_
  · refine s_aload_n (pc := 16) dX4_weighs_16 rfl ?_
    refine s_get (pc := 17) (a := 111) (v := 119) flX4_39 (t_111 _) rfl (g_111_10 _) rfl dX4_weighs_17 ?_
    refine s_iload_n (pc := 20) dX4_weighs_20 rfl ?_
    refine s_ialdM (pc := 21) (a := 119) (t_119 _) rfl r_119 dX4_weighs_21 ?_
    refine s_iload_n (pc := 22) dX4_weighs_22 rfl ?_
    refine s_callS3 (pc := 23) (as := [(0, c 119 (Int.toNat a1)), (0, a2)]) (st := []) (rv := fun b => ((0, b), (sz, sl, tt td, cv c))) (st3 := fun b => [(0, b)]) (w3 := fun b => (sz, sl, tt td, cv c)) msX4_461 (fun b h => kX4_takes (c 119 (Int.toNat a1)) a2 c b h) rfl (by decide) rfl (Nat.le_of_ble_eq_true rfl) (fun _ => Nat.le_of_ble_eq_true rfl) (fun _ => ⟨rfl, rfl⟩) dX4_weighs_23 (fun p_1 => ?_)
    refine s_istore_nD (pc := 26) (ls' := [some (2, 111), some (0, a1), some (0, a2), some (0, p_1), none, none, none, none, none, none]) dX4_weighs_26 rfl (Nat.le_of_ble_eq_true rfl) ?_
    refine s_iconst (pc := 27) dX4_weighs_27 ?_
    refine s_istoreD (pc := 28) (ls' := [some (2, 111), some (0, a1), some (0, a2), some (0, p_1), some (0, 0), none, none, none, none, none]) dX4_weighs_28 rfl (Nat.le_of_ble_eq_true rfl) ?_
    refine s_aload_n (pc := 30) dX4_weighs_30 rfl ?_
    refine s_get (pc := 31) (a := 111) (v := 157) flX4_154 (t_111 _) rfl (g_111_65 _) rfl dX4_weighs_31 ?_
    refine s_aload_n (pc := 34) dX4_weighs_34 rfl ?_
    refine s_get (pc := 35) (a := 111) (v := c 111 67) flX4_492 (t_111 _) rfl (g_111_67 _) rfl dX4_weighs_35 ?_
    refine s_iconst (pc := 38) dX4_weighs_38 ?_
    refine s_isub (pc := 39) dX4_weighs_39 ?_
    refine s_ialdM (pc := 40) (a := 157) (t_157 _) rfl r_157 dX4_weighs_40 ?_
    refine s_istore (pc := 41) (lf := fun x => [some (2, 111), some (0, a1), some (0, a2), some (0, p_1), some (0, 0), some (0, x), none, none, none, none]) dX4_weighs_41 (fun _ => rfl) (Nat.le_of_ble_eq_true rfl) (fun v5_2 => ?_)
    refine s_aload_n (pc := 43) dX4_weighs_43 rfl ?_
    refine s_get (pc := 44) (a := 111) (v := c 111 67) flX4_492 (t_111 _) rfl (g_111_67 _) rfl dX4_weighs_44 ?_
    refine s_iload_n (pc := 47) dX4_weighs_47 rfl ?_
    refine s_isub (pc := 48) dX4_weighs_48 ?_
    refine s_istore (pc := 49) (lf := fun x => [some (2, 111), some (0, a1), some (0, a2), some (0, p_1), some (0, 0), some (0, v5_2), some (0, x), none, none, none]) dX4_weighs_49 (fun _ => rfl) (Nat.le_of_ble_eq_true rfl) (fun v6_3 => ?_)
    refine s_wk [true, true, false, true, true, true, true, true, true, true] (ls' := [some (2, 111), some (0, a1), none, some (0, p_1), some (0, 0), some (0, v5_2), some (0, v6_3), none, none, none]) rfl ?_
    refine s_loop (g := gX4_weighs_l51 G Γ r sz sl td a1 p_1 c) (Ex := eX4_weighs_l51 G Γ r sz sl td a1 p_1 c) (s0 := (0, v5_2, v6_3)) (fun s => sX4_weighs_l51 a1 p_1 s.1 s.2.1 s.2.2 c) ?_
    intro e_7
    show Sm _ _ (WP G Γ muX4_weighs r 92 [some (2, 111), some (0, a1), none, some (0, p_1), some (0, e_7.1), some (0, e_7.2), none, none, none, none] [] (sz, sl, tt td, cv c))
    refine s_aload_n (pc := 92) dX4_weighs_92 rfl ?_
    refine s_get (pc := 93) (a := 111) (v := 136) flX4_90 (t_111 _) rfl (g_111_41 _) rfl dX4_weighs_93 ?_
    refine s_iconst (pc := 96) dX4_weighs_96 ?_
    refine s_iload (pc := 97) dX4_weighs_97 rfl ?_
    refine s_iastML (pc := 99) (a := 136) 0 rfl (Nat.le_of_ble_eq_true rfl) (t_136 _) rfl kO_136 r_136 dX4_weighs_99 (fun c_8 => ?_)
    refine s_aload_n (pc := 100) dX4_weighs_100 rfl ?_
    refine s_get (pc := 101) (a := 111) (v := 136) flX4_90 (t_111 _) rfl (g_111_41 _) rfl dX4_weighs_101 ?_
    refine s_iconst (pc := 104) dX4_weighs_104 ?_
    refine s_iload (pc := 105) dX4_weighs_105 rfl ?_
    refine s_iastML (pc := 107) (a := 136) 1 rfl (Nat.le_of_ble_eq_true rfl) (t_136 _) rfl kO_136 r_136 dX4_weighs_107 (fun c_9 => ?_)
    refine s_aload_n (pc := 108) dX4_weighs_108 rfl ?_
    refine s_get (pc := 109) (a := 111) (v := 136) flX4_90 (t_111 _) rfl (g_111_41 _) rfl dX4_weighs_109 ?_
    refine s_iconst (pc := 112) dX4_weighs_112 ?_
    refine s_iload_n (pc := 113) dX4_weighs_113 rfl ?_
    refine s_iastML (pc := 114) (a := 136) 2 rfl (Nat.le_of_ble_eq_true rfl) (t_136 _) rfl kO_136 r_136 dX4_weighs_114 (fun c_10 => ?_)
    refine s_aload_n (pc := 115) dX4_weighs_115 rfl ?_
    refine s_get (pc := 116) (a := 111) (v := 136) flX4_90 (t_111 _) rfl (g_111_41 _) rfl dX4_weighs_116 ?_
    refine s_iconst (pc := 119) dX4_weighs_119 ?_
    refine s_aload_n (pc := 120) dX4_weighs_120 rfl ?_
    refine s_get (pc := 121) (a := 111) (v := 122) flX4_48 (t_111 _) rfl (g_111_13 _) rfl dX4_weighs_121 ?_
    refine s_iload_n (pc := 124) dX4_weighs_124 rfl ?_
    refine s_ialdM (pc := 125) (a := 122) (t_122 _) rfl r_122 dX4_weighs_125 ?_
    refine s_iastML (pc := 126) (a := 136) 3 rfl (Nat.le_of_ble_eq_true rfl) (t_136 _) rfl kO_136 r_136 dX4_weighs_126 (fun c_11 => ?_)
    refine s_iload (pc := 127) dX4_weighs_127 rfl ?_
    refine s_i2l (pc := 129) dX4_weighs_129 ?_
    refine s_lstoreD (pc := 130) (ls' := [some (2, 111), some (0, a1), none, some (0, p_1), some (0, e_7.1), some (0, e_7.2), some (1, e_7.1), none, none, none]) dX4_weighs_130 rfl (Nat.le_of_ble_eq_true rfl) ?_
    refine s_iconst (pc := 132) dX4_weighs_132 ?_
    refine s_istoreD (pc := 133) (ls' := [some (2, 111), some (0, a1), none, some (0, p_1), some (0, e_7.1), some (0, e_7.2), some (1, e_7.1), none, some (0, 0), none]) dX4_weighs_133 rfl (Nat.le_of_ble_eq_true rfl) ?_
    refine s_iconst (pc := 135) dX4_weighs_135 ?_
    refine s_istoreD (pc := 136) (ls' := [some (2, 111), some (0, a1), none, some (0, p_1), some (0, e_7.1), some (0, e_7.2), some (1, e_7.1), none, some (0, 0), some (0, 0)]) dX4_weighs_136 rfl (Nat.le_of_ble_eq_true rfl) ?_
    refine s_wk [true, false, true, false, true, false, true, true, true, true] (ls' := [some (2, 111), none, none, none, some (0, e_7.1), none, some (1, e_7.1), none, some (0, 0), some (0, 0)]) rfl ?_
    refine s_loop (g := gX4_weighs_l138 G Γ r sz sl td e_7.1) (Ex := eX4_weighs_l138 G Γ r sz sl td e_7.1) (s0 := (e_7.1, 0, 0, c_11)) (fun s => sX4_weighs_l138 e_7.1 s.1 s.2.1 s.2.2.1 s.2.2.2) ?_
    intro e_18
    show Sm _ _ (WP G Γ muX4_weighs r 188 [none, none, none, none, some (0, e_7.1), none, some (1, e_18.1), none, some (0, e_18.2.1), none] [] (sz, sl, tt td, cv e_18.2.2))
    refine s_iload (pc := 188) dX4_weighs_188 rfl ?_
    refine s_if_ne (pc := 190) (tgt := 198) dX4_weighs_190 rfl ?_ ?_
    · refine s_lload (pc := 198) dX4_weighs_198 rfl ?_
      refine s_lconst0 (pc := 200) dX4_weighs_200 ?_
      refine s_lcmp_ge (pc := 201) (tgt := 209) dX4_weighs_201 dX4_weighs_202 rfl ?_ ?_
      · refine s_lload (pc := 209) dX4_weighs_209 rfl ?_
        refine s_ldc2 (pc := 211) (z := 9999) q1819 dX4_weighs_211 ?_
        refine s_lcmp_le (pc := 214) (tgt := 224) dX4_weighs_214 dX4_weighs_215 rfl ?_ ?_
        · refine s_lload (pc := 224) dX4_weighs_224 rfl ?_
          refine s_l2i (pc := 226) dX4_weighs_226 ?_
          exact s_iret (pc := 227) dX4_weighs_227 rfl (fun h => h)
        refine s_sipush (pc := 218) dX4_weighs_218 ?_
        refine s_goto (pc := 221) (tgt := 227) dX4_weighs_221 rfl ?_
        exact s_iret (pc := 227) dX4_weighs_227 rfl (fun h => h)
      refine s_iconst (pc := 205) dX4_weighs_205 ?_
      refine s_goto (pc := 206) (tgt := 227) dX4_weighs_206 rfl ?_
      exact s_iret (pc := 227) dX4_weighs_227 rfl (fun h => h)
    refine s_iload (pc := 193) dX4_weighs_193 rfl ?_
    refine s_goto (pc := 195) (tgt := 227) dX4_weighs_195 rfl ?_
    exact s_iret (pc := 227) dX4_weighs_227 rfl (fun h => h)
  refine s_aload_n (pc := 9) dX4_weighs_9 rfl ?_
  refine s_get (pc := 10) (a := 111) (v := 123) flX4_51 (t_111 _) rfl (g_111_14 _) rfl dX4_weighs_10 ?_
  refine s_iload_n (pc := 13) dX4_weighs_13 rfl ?_
  refine s_ialdM (pc := 14) (a := 123) (t_123 _) rfl r_123 dX4_weighs_14 ?_
  exact s_iret (pc := 15) dX4_weighs_15 rfl (fun h => h)
theorem kX4_weighs {G : GG} {sz sl : Nat} {td : TT} (a1 : Int) (a2 : Int) (c : CC) (x : (Int × CC)) (h : fX4_weighs a1 a2 c = some x) : Ct G yX4_weighs muX4_weighs [(2, 111), (0, a1), (0, a2)] (sz, sl, tt td, cv c) ((0, x.1), (sz, sl, tt td, cv x.2)) :=
  Ct.of (n := 7) (ls0 := [some (2, 111), some (0, a1), some (0, a2), none, none, none, none, none, none, none]) (by decide) rfl rfl ⟨by decide, by decide⟩ (Nat.le_of_ble_eq_true rfl) rfl ⟨Nat.le_refl _, Nat.le_refl _⟩ (show (0 : Nat) ≠ 9 by decide) (fun Γ => sX4_weighs a1 a2 c x h rfl)
theorem flX4_148 : FL RX4 148 3 63 := ⟨_, _, _, cf3, by decide, q1307⟩
abbrev muX4_canTake : MI := (cX4_canTake, RX4, 6, some .boolean, 2, "canTake")
abbrev gX4_canTake_l29 (G : GG) (Γ : Cx) (r : Vv × Wd) (sz sl : Nat) (td : TT) (v1 : Int) (v2 : Int) (v3 : Int) (c : CC) : (Int × Int) → Prop := fun s => WP G Γ muX4_canTake r 29 [some (2, 111), some (0, v1), some (0, v2), some (0, v3), some (0, s.1), some (0, s.2)] [] (sz, sl, tt td, cv c)
abbrev eX4_canTake_l29 (G : GG) (Γ : Cx) (r : Vv × Wd) (sz sl : Nat) (td : TT) (v1 : Int) (v2 : Int) (v3 : Int) (c : CC) : (Int) → Prop := (fun s => WP G Γ muX4_canTake r 78 [none, none, none, none, some (0, s), none] [] (sz, sl, tt td, cv c))
noncomputable def fX4_canTake_l29 (v1 : Int) (v2 : Int) (v3 : Int) (v4 : Int) (v5 : Int) (c : CC) : Option ((Int × Int) ⊕ (Int)) :=
  if v5 < v3 then
  (if v4 = 0 then
  (some (.inr v4))
  else
  (gd (inR ((c 111 67) - v3)) <|
   gd (inR (((c 111 67) - v3) + v5)) <|
   gd ((0 : Int) ≤ ((c 111 67) - v3) + v5 ∧ ((c 111 67) - v3) + v5 < 26) <|
   cl (fX4_takenKind v1 v2 v5 c) fun p_2 =>
   if c 155 (Int.toNat (((c 111 67) - v3) + v5)) = p_2 then
  (gd (inR (v5 + 1)) <| bd (v5 + 1) fun v5_4 =>
   some (.inl (1, v5_4)))
  else
  (gd (inR (v5 + 1)) <| bd (v5 + 1) fun v5_3 =>
   some (.inl (0, v5_3)))))
  else
  (some (.inr v4))
theorem sX4_canTake_l29 {G : GG} {Γ : Cx} {r : Vv × Wd} {sz sl : Nat} {td : TT} (v1 : Int) (v2 : Int) (v3 : Int) (v4 : Int) (v5 : Int) (c : CC) : Sm (fX4_canTake_l29 v1 v2 v3 v4 v5 c) (fun x => Sum.elim (gX4_canTake_l29 G Γ r sz sl td v1 v2 v3 c) (eX4_canTake_l29 G Γ r sz sl td v1 v2 v3 c) x) (gX4_canTake_l29 G Γ r sz sl td v1 v2 v3 c (v4, v5)) := by
  show Sm _ _ (WP G Γ muX4_canTake r 29 [some (2, 111), some (0, v1), some (0, v2), some (0, v3), some (0, v4), some (0, v5)] [] (sz, sl, tt td, cv c))
  unfold fX4_canTake_l29
  refine s_iload (pc := 29) dX4_canTake_29 rfl ?_
  refine s_iload_n (pc := 31) dX4_canTake_31 rfl ?_
  refine s_icmp_ge (pc := 32) (tgt := 78) dX4_canTake_32 rfl ?_ ?_
  · refine s_wk [false, false, false, false, true, false] (ls' := [none, none, none, none, some (0, v4), none]) rfl ?_
    exact Sm.some (fun h => h)
  refine s_iload (pc := 35) dX4_canTake_35 rfl ?_
  refine s_if_eq (pc := 37) (tgt := 78) dX4_canTake_37 rfl ?_ ?_
  · refine s_wk [false, false, false, false, true, false] (ls' := [none, none, none, none, some (0, v4), none]) rfl ?_
    exact Sm.some (fun h => h)
  refine s_aload_n (pc := 40) dX4_canTake_40 rfl ?_
  refine s_get (pc := 41) (a := 111) (v := 155) flX4_148 (t_111 _) rfl (g_111_63 _) rfl dX4_canTake_41 ?_
  refine s_aload_n (pc := 44) dX4_canTake_44 rfl ?_
  refine s_get (pc := 45) (a := 111) (v := c 111 67) flX4_492 (t_111 _) rfl (g_111_67 _) rfl dX4_canTake_45 ?_
  refine s_iload_n (pc := 48) dX4_canTake_48 rfl ?_
  refine s_isub (pc := 49) dX4_canTake_49 ?_
  refine s_iload (pc := 50) dX4_canTake_50 rfl ?_
  refine s_iadd (pc := 52) dX4_canTake_52 ?_
  refine s_ialdM (pc := 53) (a := 155) (t_155 _) rfl r_155 dX4_canTake_53 ?_
  refine s_aload_n (pc := 54) dX4_canTake_54 rfl ?_
  refine s_iload_n (pc := 55) dX4_canTake_55 rfl ?_
  refine s_iload_n (pc := 56) dX4_canTake_56 rfl ?_
  refine s_iload (pc := 57) dX4_canTake_57 rfl ?_
  refine s_callV3 (pc := 59) (a := 111) (as := [(0, v1), (0, v2), (0, v5)]) (st := [(0, c 155 (Int.toNat (((c 111 67) - v3) + v5)))]) (rv := fun b => ((0, b), (sz, sl, tt td, cv c))) (st3 := fun b => [(0, b), (0, c 155 (Int.toNat (((c 111 67) - v3) + v5)))]) (w3 := fun b => (sz, sl, tt td, cv c)) mvX4_464 (fun b h => kX4_takenKind v1 v2 v5 c b h) rfl (by decide) (t_111 td) rfl rfl rfl (Nat.le_of_ble_eq_true rfl) (fun _ => Nat.le_of_ble_eq_true rfl) (fun _ => ⟨rfl, rfl⟩) dX4_canTake_59 (fun p_2 => ?_)
  refine s_icmp_ne (pc := 62) (tgt := 69) dX4_canTake_62 rfl ?_ ?_
  · refine s_iconst (pc := 69) dX4_canTake_69 ?_
    refine s_istoreD (pc := 70) (ls' := [some (2, 111), some (0, v1), some (0, v2), some (0, v3), some (0, 0), some (0, v5)]) dX4_canTake_70 rfl (Nat.le_of_ble_eq_true rfl) ?_
    refine s_iinc (pc := 72) (lf := fun x => [some (2, 111), some (0, v1), some (0, v2), some (0, v3), some (0, 0), some (0, x)]) dX4_canTake_72 rfl (fun _ => rfl) (Nat.le_of_ble_eq_true rfl) (fun v5_3 => ?_)
    refine s_goto (pc := 75) (tgt := 29) dX4_canTake_75 rfl ?_
    exact Sm.some (fun h => h)
  refine s_iconst (pc := 65) dX4_canTake_65 ?_
  refine s_goto (pc := 66) (tgt := 70) dX4_canTake_66 rfl ?_
  refine s_istoreD (pc := 70) (ls' := [some (2, 111), some (0, v1), some (0, v2), some (0, v3), some (0, 1), some (0, v5)]) dX4_canTake_70 rfl (Nat.le_of_ble_eq_true rfl) ?_
  refine s_iinc (pc := 72) (lf := fun x => [some (2, 111), some (0, v1), some (0, v2), some (0, v3), some (0, 1), some (0, x)]) dX4_canTake_72 rfl (fun _ => rfl) (Nat.le_of_ble_eq_true rfl) (fun v5_4 => ?_)
  refine s_goto (pc := 75) (tgt := 29) dX4_canTake_75 rfl ?_
  exact Sm.some (fun h => h)
noncomputable def fX4_canTake_j24 (v1 : Int) (v2 : Int) (v3 : Int) (w0 : Int) (c : CC) : Option Int :=
  cl (wh (fun s => fX4_canTake_l29 v1 v2 v3 s.1 s.2 c) (w0, 0)) (fun e_5 =>
  gd ((0 : Int) ≤ e_5 ∧ e_5 < 2) (some e_5))
theorem sX4_canTake_j24 {G : GG} {Γ : Cx} {r : Vv × Wd} {sz sl : Nat} {td : TT} (v1 : Int) (v2 : Int) (v3 : Int) (w0 : Int) (c : CC) : Sm (fX4_canTake_j24 v1 v2 v3 w0 c) (fun x => r = ((0, x), (sz, sl, tt td, cv c))) (WP G Γ muX4_canTake r 24 [some (2, 111), some (0, v1), some (0, v2), some (0, v3), none, none] [(0, w0)] (sz, sl, tt td, cv c)) := by
  unfold fX4_canTake_j24
  refine s_istoreD (pc := 24) (ls' := [some (2, 111), some (0, v1), some (0, v2), some (0, v3), some (0, w0), none]) dX4_canTake_24 rfl (Nat.le_of_ble_eq_true rfl) ?_
  refine s_iconst (pc := 26) dX4_canTake_26 ?_
  refine s_istoreD (pc := 27) (ls' := [some (2, 111), some (0, v1), some (0, v2), some (0, v3), some (0, w0), some (0, 0)]) dX4_canTake_27 rfl (Nat.le_of_ble_eq_true rfl) ?_
  refine s_loop (g := gX4_canTake_l29 G Γ r sz sl td v1 v2 v3 c) (Ex := eX4_canTake_l29 G Γ r sz sl td v1 v2 v3 c) (s0 := (w0, 0)) (fun s => sX4_canTake_l29 v1 v2 v3 s.1 s.2 c) ?_
  intro e_5
  show Sm _ _ (WP G Γ muX4_canTake r 78 [none, none, none, none, some (0, e_5), none] [] (sz, sl, tt td, cv c))
  refine s_iload (pc := 78) dX4_canTake_78 rfl ?_
  exact s_zret (pc := 80) dX4_canTake_80 rfl (fun h => h)
noncomputable def fX4_canTake (a1 : Int) (a2 : Int) (c : CC) : Option Int :=
  gd ((0 : Int) ≤ a1 ∧ a1 < 144) <|
   cl (fX4_takes (c 119 (Int.toNat a1)) a2) fun p_1 =>
   if c 111 67 < p_1 then
  (fX4_canTake_j24 a1 a2 p_1 0 c)
  else
  (fX4_canTake_j24 a1 a2 p_1 1 c)
theorem sX4_canTake {G : GG} {Γ : Cx} {r : Vv × Wd} {sz sl : Nat} {td : TT} (a1 : Int) (a2 : Int) (c : CC) : Sm (fX4_canTake a1 a2 c) (fun x => r = ((0, x), (sz, sl, tt td, cv c))) (WP G Γ muX4_canTake r 0 [some (2, 111), some (0, a1), some (0, a2), none, none, none] [] (sz, sl, tt td, cv c)) := by
  unfold fX4_canTake
  refine s_aload_n (pc := 0) dX4_canTake_0 rfl ?_
  refine s_get (pc := 1) (a := 111) (v := 119) flX4_39 (t_111 _) rfl (g_111_10 _) rfl dX4_canTake_1 ?_
  refine s_iload_n (pc := 4) dX4_canTake_4 rfl ?_
  refine s_ialdM (pc := 5) (a := 119) (t_119 _) rfl r_119 dX4_canTake_5 ?_
  refine s_iload_n (pc := 6) dX4_canTake_6 rfl ?_
  refine s_callS3 (pc := 7) (as := [(0, c 119 (Int.toNat a1)), (0, a2)]) (st := []) (rv := fun b => ((0, b), (sz, sl, tt td, cv c))) (st3 := fun b => [(0, b)]) (w3 := fun b => (sz, sl, tt td, cv c)) msX4_461 (fun b h => kX4_takes (c 119 (Int.toNat a1)) a2 c b h) rfl (by decide) rfl (Nat.le_of_ble_eq_true rfl) (fun _ => Nat.le_of_ble_eq_true rfl) (fun _ => ⟨rfl, rfl⟩) dX4_canTake_7 (fun p_1 => ?_)
  refine s_istore_nD (pc := 10) (ls' := [some (2, 111), some (0, a1), some (0, a2), some (0, p_1), none, none]) dX4_canTake_10 rfl (Nat.le_of_ble_eq_true rfl) ?_
  refine s_aload_n (pc := 11) dX4_canTake_11 rfl ?_
  refine s_get (pc := 12) (a := 111) (v := c 111 67) flX4_492 (t_111 _) rfl (g_111_67 _) rfl dX4_canTake_12 ?_
  refine s_iload_n (pc := 15) dX4_canTake_15 rfl ?_
  refine s_icmp_lt (pc := 16) (tgt := 23) dX4_canTake_16 rfl ?_ ?_
  · refine s_iconst (pc := 23) dX4_canTake_23 ?_
    exact sX4_canTake_j24 a1 a2 p_1 0 c
  refine s_iconst (pc := 19) dX4_canTake_19 ?_
  refine s_goto (pc := 20) (tgt := 24) dX4_canTake_20 rfl ?_
  exact sX4_canTake_j24 a1 a2 p_1 1 c
theorem kX4_canTake {G : GG} {sz sl : Nat} {td : TT} (a1 : Int) (a2 : Int) (c : CC) (x : Int) (h : fX4_canTake a1 a2 c = some x) : Ct G yX4_canTake muX4_canTake [(2, 111), (0, a1), (0, a2)] (sz, sl, tt td, cv c) ((0, x), (sz, sl, tt td, cv c)) :=
  Ct.of (n := 3) (ls0 := [some (2, 111), some (0, a1), some (0, a2), none, none, none]) (by decide) rfl rfl ⟨by decide, by decide⟩ (Nat.le_of_ble_eq_true rfl) rfl ⟨Nat.le_refl _, Nat.le_refl _⟩ (show (0 : Nat) ≠ 9 by decide) (fun Γ => sX4_canTake a1 a2 c x h rfl)
theorem mvX4_504 : MV RX4 504 RX4 yX4_meansBy muX4_meansBy 2 := ⟨lw_V q1795 q1797 qs102 q129 q1798, by decide +kernel, by decide⟩
theorem mvX4_507 : MV RX4 507 RX4 yX4_weighs muX4_weighs 2 := ⟨lw_V q1803 q1805 qs104 q129 q1806, by decide +kernel, by decide⟩
theorem fpX4_492 (nm : String) : FP RX4 492 3 67 nm := ⟨_, _, _, cf3, by decide, q1311, Or.inl rfl⟩
theorem fpX4_492t : fty 3 67 ≠ .boolean ∧ fty 3 67 ≠ .byte ∧ fty 3 67 ≠ .char ∧ fty 3 67 ≠ .short := by decide
theorem flX4_157 : FL RX4 157 3 66 := ⟨_, _, _, cf3, by decide, q1310⟩
abbrev muX4_says : MI := (cX4_says, RX4, 5, none, 5, "says")
noncomputable def fX4_says (a1 : Int) (c : CC) : Option CC :=
  gd ((0 : Int) ≤ a1 ∧ a1 < 24) <|
   cl (fX4_at24 (c 143 (Int.toNat a1)) c) fun p_1 =>
   gd ((0 : Int) ≤ a1 ∧ a1 < 24) <|
   cl (fX4_meansBy p_1 (c 144 (Int.toNat a1)) c) fun p_2 =>
   gd ((0 : Int) ≤ a1 ∧ a1 < 24) <|
   cl (fX4_weighs p_1 (p_2.2 144 (Int.toNat a1)) p_2.2) fun p_3 =>
   gd ((0 : Int) ≤ p_1 ∧ p_1 < 144) <|
   gd ((0 : Int) ≤ a1 ∧ a1 < 24) <|
   cl (fX4_takes (p_3.2 119 (Int.toNat p_1)) (p_3.2 144 (Int.toNat a1))) fun p_4 =>
   gd (inR ((p_3.2 111 67) - p_4)) <|
   bd (up2 p_3.2 111 67 ((p_3.2 111 67) - p_4)) fun c_5 =>
   gd ((0 : Int) ≤ p_1 ∧ p_1 < 144) <|
   gd ((0 : Int) ≤ c_5 111 67 ∧ c_5 111 67 < 26) <| bd (up2 c_5 155 (Int.toNat (c_5 111 67)) (c_5 122 (Int.toNat p_1))) fun c_6 =>
   gd ((0 : Int) ≤ c_6 111 67 ∧ c_6 111 67 < 26) <| bd (up2 c_6 156 (Int.toNat (c_6 111 67)) p_2.1) fun c_7 =>
   gd ((0 : Int) ≤ c_7 111 67 ∧ c_7 111 67 < 26) <| bd (up2 c_7 157 (Int.toNat (c_7 111 67)) p_3.1) fun c_8 =>
   gd ((0 : Int) ≤ c_8 111 67 ∧ c_8 111 67 < 26) <| bd (up2 c_8 158 (Int.toNat (c_8 111 67)) a1) fun c_9 =>
   gd (inR ((c_9 111 67) + 1)) <|
   bd (up2 c_9 111 67 ((c_9 111 67) + 1)) fun c_10 =>
   some c_10
theorem sX4_says {G : GG} {Γ : Cx} {r : Vv × Wd} {sz sl : Nat} {td : TT} (a1 : Int) (c : CC) : Sm (fX4_says a1 c) (fun x => r = ((3, 0), (sz, sl, tt td, cv x))) (WP G Γ muX4_says r 0 [some (2, 111), some (0, a1), none, none, none] [] (sz, sl, tt td, cv c)) := by
  unfold fX4_says
  refine s_aload_n (pc := 0) dX4_says_0 rfl ?_
  refine s_aload_n (pc := 1) dX4_says_1 rfl ?_
  refine s_get (pc := 2) (a := 111) (v := 143) flX4_112 (t_111 _) rfl (g_111_49 _) rfl dX4_says_2 ?_
  refine s_iload_n (pc := 5) dX4_says_5 rfl ?_
  refine s_ialdM (pc := 6) (a := 143) (t_143 _) rfl r_143 dX4_says_6 ?_
  refine s_callV3 (pc := 7) (a := 111) (as := [(0, c 143 (Int.toNat a1))]) (st := []) (rv := fun b => ((0, b), (sz, sl, tt td, cv c))) (st3 := fun b => [(0, b)]) (w3 := fun b => (sz, sl, tt td, cv c)) mvX4_412 (fun b h => kX4_at24 (c 143 (Int.toNat a1)) c b h) rfl (by decide) (t_111 td) rfl rfl rfl (Nat.le_of_ble_eq_true rfl) (fun _ => Nat.le_of_ble_eq_true rfl) (fun _ => ⟨rfl, rfl⟩) dX4_says_7 (fun p_1 => ?_)
  refine s_istore_nD (pc := 10) (ls' := [some (2, 111), some (0, a1), some (0, p_1), none, none]) dX4_says_10 rfl (Nat.le_of_ble_eq_true rfl) ?_
  refine s_aload_n (pc := 11) dX4_says_11 rfl ?_
  refine s_iload_n (pc := 12) dX4_says_12 rfl ?_
  refine s_aload_n (pc := 13) dX4_says_13 rfl ?_
  refine s_get (pc := 14) (a := 111) (v := 144) flX4_115 (t_111 _) rfl (g_111_50 _) rfl dX4_says_14 ?_
  refine s_iload_n (pc := 17) dX4_says_17 rfl ?_
  refine s_ialdM (pc := 18) (a := 144) (t_144 _) rfl r_144 dX4_says_18 ?_
  refine s_callV3 (pc := 19) (a := 111) (as := [(0, p_1), (0, c 144 (Int.toNat a1))]) (st := []) (rv := fun b => ((0, b.1), (sz, sl, tt td, cv b.2))) (st3 := fun b => [(0, b.1)]) (w3 := fun b => (sz, sl, tt td, cv b.2)) mvX4_504 (fun b h => kX4_meansBy p_1 (c 144 (Int.toNat a1)) c b h) rfl (by decide) (t_111 td) rfl rfl rfl (Nat.le_of_ble_eq_true rfl) (fun _ => Nat.le_of_ble_eq_true rfl) (fun _ => ⟨rfl, rfl⟩) dX4_says_19 (fun p_2 => ?_)
  refine s_istore_nD (pc := 22) (ls' := [some (2, 111), some (0, a1), some (0, p_1), some (0, p_2.1), none]) dX4_says_22 rfl (Nat.le_of_ble_eq_true rfl) ?_
  refine s_aload_n (pc := 23) dX4_says_23 rfl ?_
  refine s_iload_n (pc := 24) dX4_says_24 rfl ?_
  refine s_aload_n (pc := 25) dX4_says_25 rfl ?_
  refine s_get (pc := 26) (a := 111) (v := 144) flX4_115 (t_111 _) rfl (g_111_50 _) rfl dX4_says_26 ?_
  refine s_iload_n (pc := 29) dX4_says_29 rfl ?_
  refine s_ialdM (pc := 30) (a := 144) (t_144 _) rfl r_144 dX4_says_30 ?_
  refine s_callV3 (pc := 31) (a := 111) (as := [(0, p_1), (0, p_2.2 144 (Int.toNat a1))]) (st := []) (rv := fun b => ((0, b.1), (sz, sl, tt td, cv b.2))) (st3 := fun b => [(0, b.1)]) (w3 := fun b => (sz, sl, tt td, cv b.2)) mvX4_507 (fun b h => kX4_weighs p_1 (p_2.2 144 (Int.toNat a1)) p_2.2 b h) rfl (by decide) (t_111 td) rfl rfl rfl (Nat.le_of_ble_eq_true rfl) (fun _ => Nat.le_of_ble_eq_true rfl) (fun _ => ⟨rfl, rfl⟩) dX4_says_31 (fun p_3 => ?_)
  refine s_istoreD (pc := 34) (ls' := [some (2, 111), some (0, a1), some (0, p_1), some (0, p_2.1), some (0, p_3.1)]) dX4_says_34 rfl (Nat.le_of_ble_eq_true rfl) ?_
  refine s_aload_n (pc := 36) dX4_says_36 rfl ?_
  refine s_dup (pc := 37) (by decide : ¬ (2 : Nat) = 1) dX4_says_37 ?_
  refine s_get (pc := 38) (a := 111) (v := p_3.2 111 67) flX4_492 (t_111 _) rfl (g_111_67 _) rfl dX4_says_38 ?_
  refine s_aload_n (pc := 41) dX4_says_41 rfl ?_
  refine s_get (pc := 42) (a := 111) (v := 119) flX4_39 (t_111 _) rfl (g_111_10 _) rfl dX4_says_42 ?_
  refine s_iload_n (pc := 45) dX4_says_45 rfl ?_
  refine s_ialdM (pc := 46) (a := 119) (t_119 _) rfl r_119 dX4_says_46 ?_
  refine s_aload_n (pc := 47) dX4_says_47 rfl ?_
  refine s_get (pc := 48) (a := 111) (v := 144) flX4_115 (t_111 _) rfl (g_111_50 _) rfl dX4_says_48 ?_
  refine s_iload_n (pc := 51) dX4_says_51 rfl ?_
  refine s_ialdM (pc := 52) (a := 144) (t_144 _) rfl r_144 dX4_says_52 ?_
  refine s_callS3 (pc := 53) (as := [(0, p_3.2 119 (Int.toNat p_1)), (0, p_3.2 144 (Int.toNat a1))]) (st := [(0, p_3.2 111 67), (2, 111)]) (rv := fun b => ((0, b), (sz, sl, tt td, cv p_3.2))) (st3 := fun b => [(0, b), (0, p_3.2 111 67), (2, 111)]) (w3 := fun b => (sz, sl, tt td, cv p_3.2)) msX4_461 (fun b h => kX4_takes (p_3.2 119 (Int.toNat p_1)) (p_3.2 144 (Int.toNat a1)) p_3.2 b h) rfl (by decide) rfl (Nat.le_of_ble_eq_true rfl) (fun _ => Nat.le_of_ble_eq_true rfl) (fun _ => ⟨rfl, rfl⟩) dX4_says_53 (fun p_4 => ?_)
  refine s_isub (pc := 56) dX4_says_56 ?_
  refine s_putM (pc := 57) (a := 111) (fpX4_492 _) (t_111 _) rfl kO_111 n_111_67 rfl (fpX4_492t) dX4_says_57 (fun c_5 => ?_)
  refine s_aload_n (pc := 60) dX4_says_60 rfl ?_
  refine s_get (pc := 61) (a := 111) (v := 155) flX4_148 (t_111 _) rfl (g_111_63 _) rfl dX4_says_61 ?_
  refine s_aload_n (pc := 64) dX4_says_64 rfl ?_
  refine s_get (pc := 65) (a := 111) (v := c_5 111 67) flX4_492 (t_111 _) rfl (g_111_67 _) rfl dX4_says_65 ?_
  refine s_aload_n (pc := 68) dX4_says_68 rfl ?_
  refine s_get (pc := 69) (a := 111) (v := 122) flX4_48 (t_111 _) rfl (g_111_13 _) rfl dX4_says_69 ?_
  refine s_iload_n (pc := 72) dX4_says_72 rfl ?_
  refine s_ialdM (pc := 73) (a := 122) (t_122 _) rfl r_122 dX4_says_73 ?_
  refine s_iastM (pc := 74) (a := 155) (t_155 _) rfl kO_155 r_155 dX4_says_74 (fun c_6 => ?_)
  refine s_aload_n (pc := 75) dX4_says_75 rfl ?_
  refine s_get (pc := 76) (a := 111) (v := 156) flX4_151 (t_111 _) rfl (g_111_64 _) rfl dX4_says_76 ?_
  refine s_aload_n (pc := 79) dX4_says_79 rfl ?_
  refine s_get (pc := 80) (a := 111) (v := c_6 111 67) flX4_492 (t_111 _) rfl (g_111_67 _) rfl dX4_says_80 ?_
  refine s_iload_n (pc := 83) dX4_says_83 rfl ?_
  refine s_iastM (pc := 84) (a := 156) (t_156 _) rfl kO_156 r_156 dX4_says_84 (fun c_7 => ?_)
  refine s_aload_n (pc := 85) dX4_says_85 rfl ?_
  refine s_get (pc := 86) (a := 111) (v := 157) flX4_154 (t_111 _) rfl (g_111_65 _) rfl dX4_says_86 ?_
  refine s_aload_n (pc := 89) dX4_says_89 rfl ?_
  refine s_get (pc := 90) (a := 111) (v := c_7 111 67) flX4_492 (t_111 _) rfl (g_111_67 _) rfl dX4_says_90 ?_
  refine s_iload (pc := 93) dX4_says_93 rfl ?_
  refine s_iastM (pc := 95) (a := 157) (t_157 _) rfl kO_157 r_157 dX4_says_95 (fun c_8 => ?_)
  refine s_aload_n (pc := 96) dX4_says_96 rfl ?_
  refine s_get (pc := 97) (a := 111) (v := 158) flX4_157 (t_111 _) rfl (g_111_66 _) rfl dX4_says_97 ?_
  refine s_aload_n (pc := 100) dX4_says_100 rfl ?_
  refine s_get (pc := 101) (a := 111) (v := c_8 111 67) flX4_492 (t_111 _) rfl (g_111_67 _) rfl dX4_says_101 ?_
  refine s_iload_n (pc := 104) dX4_says_104 rfl ?_
  refine s_iastM (pc := 105) (a := 158) (t_158 _) rfl kO_158 r_158 dX4_says_105 (fun c_9 => ?_)
  refine s_aload_n (pc := 106) dX4_says_106 rfl ?_
  refine s_dup (pc := 107) (by decide : ¬ (2 : Nat) = 1) dX4_says_107 ?_
  refine s_get (pc := 108) (a := 111) (v := c_9 111 67) flX4_492 (t_111 _) rfl (g_111_67 _) rfl dX4_says_108 ?_
  refine s_iconst (pc := 111) dX4_says_111 ?_
  refine s_iadd (pc := 112) dX4_says_112 ?_
  refine s_putM (pc := 113) (a := 111) (fpX4_492 _) (t_111 _) rfl kO_111 n_111_67 rfl (fpX4_492t) dX4_says_113 (fun c_10 => ?_)
  exact s_vret (pc := 116) dX4_says_116 rfl (fun h => h)
theorem kX4_says {G : GG} {sz sl : Nat} {td : TT} (a1 : Int) (c : CC) (x : CC) (h : fX4_says a1 c = some x) : Ct G yX4_says muX4_says [(2, 111), (0, a1)] (sz, sl, tt td, cv c) ((3, 0), (sz, sl, tt td, cv x)) :=
  Ct.of (n := 3) (ls0 := [some (2, 111), some (0, a1), none, none, none]) (by decide) rfl rfl ⟨by decide, by decide⟩ (Nat.le_of_ble_eq_true rfl) rfl ⟨Nat.le_refl _, Nat.le_refl _⟩ (show (3 : Nat) ≠ 9 by decide) (fun Γ => sX4_says a1 c x h rfl)
