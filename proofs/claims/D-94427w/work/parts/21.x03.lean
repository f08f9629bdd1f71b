/-! LAYER 2: methods of HeldTongue, by gen/decomp2.py -/
set_option maxRecDepth 100000
abbrev muX0_drop : MI := (cX0_drop, RX0, 3, none, 1, "drop")
abbrev gX0_drop_l12 (G : GG) (Γ : Cx) (r : Vv × Wd) (sz sl : Nat) (td : TT) (c : CC)  : (Int × CC) → Prop := fun s => WP G Γ muX0_drop r 12 [some (2, 43), none, some (0, s.1)] [] (sz, sl, tt td, cv s.2)
abbrev eX0_drop_l12 (G : GG) (Γ : Cx) (r : Vv × Wd) (sz sl : Nat) (td : TT) (c : CC)  : (CC) → Prop := (fun s => WP G Γ muX0_drop r 82 [none, none, none] [] (sz, sl, tt td, cv s))
noncomputable def fX0_drop_l12 (v2 : Int) (c : CC) : Option ((Int × CC) ⊕ (CC)) :=
  if v2 < c 43 35 then
  (gd (inR (v2 + 1)) <|
   gd ((0 : Int) ≤ v2 + 1 ∧ v2 + 1 < 25) <|
   gd ((0 : Int) ≤ v2 ∧ v2 < 25) <| bd (up2 c 103 (Int.toNat v2) (c 103 (Int.toNat (v2 + 1)))) fun c_2 =>
   gd (inR (v2 + 1)) <|
   gd ((0 : Int) ≤ v2 + 1 ∧ v2 + 1 < 25) <|
   gd ((0 : Int) ≤ v2 ∧ v2 < 25) <| bd (up2 c_2 104 (Int.toNat v2) (c_2 104 (Int.toNat (v2 + 1)))) fun c_3 =>
   gd (inR (v2 + 1)) <|
   gd ((0 : Int) ≤ v2 + 1 ∧ v2 + 1 < 25) <|
   gd ((0 : Int) ≤ v2 ∧ v2 < 25) <| bd (up2 c_3 105 (Int.toNat v2) (c_3 105 (Int.toNat (v2 + 1)))) fun c_4 =>
   gd (inR (v2 + 1)) <|
   gd ((0 : Int) ≤ v2 + 1 ∧ v2 + 1 < 25) <|
   gd ((0 : Int) ≤ v2 ∧ v2 < 25) <| bd (up2 c_4 106 (Int.toNat v2) (c_4 106 (Int.toNat (v2 + 1)))) fun c_5 =>
   gd (inR (v2 + 1)) <| bd (v2 + 1) fun v2_6 =>
   some (.inl (v2_6, c_5)))
  else
  (some (.inr c))
theorem sX0_drop_l12 {G : GG} {Γ : Cx} {r : Vv × Wd} {sz : Nat} {sl : Nat} {td : TT} (v2 : Int) (c : CC) : Sm (fX0_drop_l12 v2 c) (fun x => Sum.elim (gX0_drop_l12 G Γ r sz sl td c ) (eX0_drop_l12 G Γ r sz sl td c ) x) (gX0_drop_l12 G Γ r sz sl td c  (v2, c)) := by
  show Sm _ _ (WP G Γ muX0_drop r 12 [some (2, 43), none, some (0, v2)] [] (sz, sl, tt td, cv c))
  unfold fX0_drop_l12
  refine s_iload_n (pc := 12) dX0_drop_12 rfl ?_
  refine s_aload_n (pc := 13) dX0_drop_13 rfl ?_
  refine s_get (pc := 14) (a := 43) (v := c 43 35) flX0_277 (t_43 _) rfl (g_43_35 _) rfl dX0_drop_14 ?_
  refine s_icmp_ge (pc := 17) (tgt := 82) dX0_drop_17 rfl ?_ ?_
  · refine s_wk [false, true, false] (ls' := [none, none, none]) rfl ?_
    exact Sm.some (fun h => h)
  refine s_aload_n (pc := 20) dX0_drop_20 rfl ?_
  refine s_get (pc := 21) (a := 43) (v := 103) flX0_98 (t_43 _) rfl (g_43_31 _) rfl dX0_drop_21 ?_
  refine s_iload_n (pc := 24) dX0_drop_24 rfl ?_
  refine s_aload_n (pc := 25) dX0_drop_25 rfl ?_
  refine s_get (pc := 26) (a := 43) (v := 103) flX0_98 (t_43 _) rfl (g_43_31 _) rfl dX0_drop_26 ?_
  refine s_iload_n (pc := 29) dX0_drop_29 rfl ?_
  refine s_iconst (pc := 30) dX0_drop_30 ?_
  refine s_iadd (pc := 31) dX0_drop_31 ?_
  refine s_ialdM (pc := 32) (a := 103) (t_103 _) rfl r_103 dX0_drop_32 ?_
  refine s_iastM (pc := 33) (a := 103) (t_103 _) rfl kO_103 r_103 dX0_drop_33 (fun c_2 => ?_)
  refine s_aload_n (pc := 34) dX0_drop_34 rfl ?_
  refine s_get (pc := 35) (a := 43) (v := 104) flX0_101 (t_43 _) rfl (g_43_32 _) rfl dX0_drop_35 ?_
  refine s_iload_n (pc := 38) dX0_drop_38 rfl ?_
  refine s_aload_n (pc := 39) dX0_drop_39 rfl ?_
  refine s_get (pc := 40) (a := 43) (v := 104) flX0_101 (t_43 _) rfl (g_43_32 _) rfl dX0_drop_40 ?_
  refine s_iload_n (pc := 43) dX0_drop_43 rfl ?_
  refine s_iconst (pc := 44) dX0_drop_44 ?_
  refine s_iadd (pc := 45) dX0_drop_45 ?_
  refine s_ialdM (pc := 46) (a := 104) (t_104 _) rfl r_104 dX0_drop_46 ?_
  refine s_iastM (pc := 47) (a := 104) (t_104 _) rfl kO_104 r_104 dX0_drop_47 (fun c_3 => ?_)
  refine s_aload_n (pc := 48) dX0_drop_48 rfl ?_
  refine s_get (pc := 49) (a := 43) (v := 105) flX0_104 (t_43 _) rfl (g_43_33 _) rfl dX0_drop_49 ?_
  refine s_iload_n (pc := 52) dX0_drop_52 rfl ?_
  refine s_aload_n (pc := 53) dX0_drop_53 rfl ?_
  refine s_get (pc := 54) (a := 43) (v := 105) flX0_104 (t_43 _) rfl (g_43_33 _) rfl dX0_drop_54 ?_
  refine s_iload_n (pc := 57) dX0_drop_57 rfl ?_
  refine s_iconst (pc := 58) dX0_drop_58 ?_
  refine s_iadd (pc := 59) dX0_drop_59 ?_
  refine s_ialdM (pc := 60) (a := 105) (t_105 _) rfl r_105 dX0_drop_60 ?_
  refine s_iastM (pc := 61) (a := 105) (t_105 _) rfl kO_105 r_105 dX0_drop_61 (fun c_4 => ?_)
  refine s_aload_n (pc := 62) dX0_drop_62 rfl ?_
  refine s_get (pc := 63) (a := 43) (v := 106) flX0_107 (t_43 _) rfl (g_43_34 _) rfl dX0_drop_63 ?_
  refine s_iload_n (pc := 66) dX0_drop_66 rfl ?_
  refine s_aload_n (pc := 67) dX0_drop_67 rfl ?_
  refine s_get (pc := 68) (a := 43) (v := 106) flX0_107 (t_43 _) rfl (g_43_34 _) rfl dX0_drop_68 ?_
  refine s_iload_n (pc := 71) dX0_drop_71 rfl ?_
  refine s_iconst (pc := 72) dX0_drop_72 ?_
  refine s_iadd (pc := 73) dX0_drop_73 ?_
  refine s_ialdM (pc := 74) (a := 106) (t_106 _) rfl r_106 dX0_drop_74 ?_
  refine s_iastM (pc := 75) (a := 106) (t_106 _) rfl kO_106 r_106 dX0_drop_75 (fun c_5 => ?_)
  refine s_iinc (pc := 76) (lf := fun x => [some (2, 43), none, some (0, x)]) dX0_drop_76 rfl (fun _ => rfl) (Nat.le_of_ble_eq_true rfl) (fun v2_6 => ?_)
  refine s_goto (pc := 79) (tgt := 12) dX0_drop_79 rfl ?_
  exact Sm.some (fun h => h)
noncomputable def fX0_drop (a1 : Int) (c : CC) : Option CC :=
  gd (inR ((c 43 35) - 1)) <|
   bd (up2 c 43 35 ((c 43 35) - 1)) fun c_1 =>
   cl (wh (fun s => fX0_drop_l12  s.1 s.2) (a1, c_1)) (fun e_7 =>
  some e_7)
theorem sX0_drop {G : GG} {Γ : Cx} {r : Vv × Wd} {sz : Nat} {sl : Nat} {td : TT} (a1 : Int) (c : CC) : Sm (fX0_drop a1 c) (fun x => r = ((3, 0), (sz, sl, tt td, cv x))) (WP G Γ muX0_drop r 0 [some (2, 43), some (0, a1), none] [] (sz, sl, tt td, cv c)) := by
  unfold fX0_drop
  refine s_aload_n (pc := 0) dX0_drop_0 rfl ?_
  refine s_dup (pc := 1) (by decide : ¬ (2 : Nat) = 1) dX0_drop_1 ?_
  refine s_get (pc := 2) (a := 43) (v := c 43 35) flX0_277 (t_43 _) rfl (g_43_35 _) rfl dX0_drop_2 ?_
  refine s_iconst (pc := 5) dX0_drop_5 ?_
  refine s_isub (pc := 6) dX0_drop_6 ?_
  refine s_putM (pc := 7) (a := 43) (fpX0_277 _) (t_43 _) rfl kO_43 n_43_35 rfl (fpX0_277t) dX0_drop_7 (fun c_1 => ?_)
  refine s_iload_n (pc := 10) dX0_drop_10 rfl ?_
  refine s_istore_nD (pc := 11) (ls' := [some (2, 43), some (0, a1), some (0, a1)]) dX0_drop_11 rfl (Nat.le_of_ble_eq_true rfl) ?_
  refine s_wk [true, false, true] (ls' := [some (2, 43), none, some (0, a1)]) rfl ?_
  refine s_loop (g := gX0_drop_l12 G Γ r sz sl td c_1 ) (Ex := eX0_drop_l12 G Γ r sz sl td c_1 ) (s0 := (a1, c_1)) (fun s => sX0_drop_l12  s.1 s.2) ?_
  intro e_7
  show Sm _ _ (WP G Γ muX0_drop r 82 [none, none, none] [] (sz, sl, tt td, cv e_7))
  exact s_vret (pc := 82) dX0_drop_82 rfl (fun h => h)
theorem kX0_drop {G : GG} {sz : Nat} {sl : Nat} {td : TT} (a1 : Int) (c : CC) (x : CC) (h : fX0_drop a1 c = some x) : Ct G yX0_drop muX0_drop [(2, 43), (0, a1)] (sz, sl, tt td, cv c) ((3, 0), (sz, sl, tt td, cv x)) :=
  Ct.of (n := 1) (ls0 := [some (2, 43), some (0, a1), none]) (by decide) rfl rfl ⟨show (none : Option FieldType) ≠ some .float by decide, show (none : Option FieldType) ≠ some .double by decide⟩ (Nat.le_of_ble_eq_true rfl) rfl ⟨Nat.le_refl _, Nat.le_refl _⟩ (show (3 : Nat) ≠ 9 by decide) (fun Γ => sX0_drop a1 c x h rfl)
theorem flX0_110 : FL RX0 110 0 36 := ⟨_, _, _, cf0, by decide, q249⟩
abbrev muX0_amiss : MI := (cX0_amiss, RX0, 3, none, 1, "amiss")
noncomputable def fX0_amiss_j14 (v2 : Int) (c : CC) : Option CC :=
  if c 107 4 < 0 then
  (bd (up2 c 107 4 v2) fun c_1 =>
   some c_1)
  else
  (some c)
theorem sX0_amiss_j14 {G : GG} {Γ : Cx} {r : Vv × Wd} {sz : Nat} {sl : Nat} {td : TT} (v2 : Int) (c : CC) : Sm (fX0_amiss_j14 v2 c) (fun x => r = ((3, 0), (sz, sl, tt td, cv x))) (WP G Γ muX0_amiss r 14 [some (2, 43), none, some (0, v2)] [] (sz, sl, tt td, cv c)) := by
  unfold fX0_amiss_j14
  refine s_aload_n (pc := 14) dX0_amiss_14 rfl ?_
  refine s_get (pc := 15) (a := 43) (v := 107) flX0_110 (t_43 _) rfl (g_43_36 _) rfl dX0_amiss_15 ?_
  refine s_iconst (pc := 18) dX0_amiss_18 ?_
  refine s_ialdML (pc := 19) (a := 107) 4 rfl (Nat.le_of_ble_eq_true rfl) (t_107 _) rfl r_107 dX0_amiss_19 ?_
  refine s_if_ge (pc := 20) (tgt := 30) dX0_amiss_20 rfl ?_ ?_
  · exact s_vret (pc := 30) dX0_amiss_30 rfl (fun h => h)
  refine s_aload_n (pc := 23) dX0_amiss_23 rfl ?_
  refine s_get (pc := 24) (a := 43) (v := 107) flX0_110 (t_43 _) rfl (g_43_36 _) rfl dX0_amiss_24 ?_
  refine s_iconst (pc := 27) dX0_amiss_27 ?_
  refine s_iload_n (pc := 28) dX0_amiss_28 rfl ?_
  refine s_iastML (pc := 29) (a := 107) 4 rfl (Nat.le_of_ble_eq_true rfl) (t_107 _) rfl kO_107 r_107 dX0_amiss_29 (fun c_1 => ?_)
  exact s_vret (pc := 30) dX0_amiss_30 rfl (fun h => h)
noncomputable def fX0_amiss (a1 : Int) (a2 : Int) (c : CC) : Option CC :=
  if (0 : Int) < a1 then
  (gd ((0 : Int) ≤ a1 ∧ a1 < 5) <|
   gd (inR ((c 107 (Int.toNat a1)) + 1)) <|
   gd ((0 : Int) ≤ a1 ∧ a1 < 5) <| bd (up2 c 107 (Int.toNat a1) ((c 107 (Int.toNat a1)) + 1)) fun c_2 =>
   fX0_amiss_j14 a2 c_2)
  else
  (fX0_amiss_j14 a2 c)
theorem sX0_amiss {G : GG} {Γ : Cx} {r : Vv × Wd} {sz : Nat} {sl : Nat} {td : TT} (a1 : Int) (a2 : Int) (c : CC) : Sm (fX0_amiss a1 a2 c) (fun x => r = ((3, 0), (sz, sl, tt td, cv x))) (WP G Γ muX0_amiss r 0 [some (2, 43), some (0, a1), some (0, a2)] [] (sz, sl, tt td, cv c)) := by
  unfold fX0_amiss
  refine s_iload_n (pc := 0) dX0_amiss_0 rfl ?_
  refine s_if_le (pc := 1) (tgt := 14) dX0_amiss_1 rfl ?_ ?_
  · refine s_wk [true, false, true] (ls' := [some (2, 43), none, some (0, a2)]) rfl ?_
    exact sX0_amiss_j14 a2 c
  refine s_aload_n (pc := 4) dX0_amiss_4 rfl ?_
  refine s_get (pc := 5) (a := 43) (v := 107) flX0_110 (t_43 _) rfl (g_43_36 _) rfl dX0_amiss_5 ?_
  refine s_iload_n (pc := 8) dX0_amiss_8 rfl ?_
  refine s_dup2 (pc := 9) (by decide : ¬ (0 : Nat) = 1) (by decide : ¬ (2 : Nat) = 1) dX0_amiss_9 ?_
  refine s_ialdM (pc := 10) (a := 107) (t_107 _) rfl r_107 dX0_amiss_10 ?_
  refine s_iconst (pc := 11) dX0_amiss_11 ?_
  refine s_iadd (pc := 12) dX0_amiss_12 ?_
  refine s_iastM (pc := 13) (a := 107) (t_107 _) rfl kO_107 r_107 dX0_amiss_13 (fun c_2 => ?_)
  refine s_wk [true, false, true] (ls' := [some (2, 43), none, some (0, a2)]) rfl ?_
  exact sX0_amiss_j14 a2 c_2
theorem kX0_amiss {G : GG} {sz : Nat} {sl : Nat} {td : TT} (a1 : Int) (a2 : Int) (c : CC) (x : CC) (h : fX0_amiss a1 a2 c = some x) : Ct G yX0_amiss muX0_amiss [(2, 43), (0, a1), (0, a2)] (sz, sl, tt td, cv c) ((3, 0), (sz, sl, tt td, cv x)) :=
  Ct.of (n := 0) (ls0 := [some (2, 43), some (0, a1), some (0, a2)]) (by decide) rfl rfl ⟨show (none : Option FieldType) ≠ some .float by decide, show (none : Option FieldType) ≠ some .double by decide⟩ (Nat.le_of_ble_eq_true rfl) rfl ⟨Nat.le_refl _, Nat.le_refl _⟩ (show (3 : Nat) ≠ 9 by decide) (fun Γ => sX0_amiss a1 a2 c x h rfl)
theorem mvX0_332 : MV RX0 332 RX0 yX0_canTake muX0_canTake 2 := ⟨lw_V q1101 q1103 qs40 q125 q1104, by decide +kernel, Nat.le_of_ble_eq_true rfl⟩
theorem mvX0_336 : MV RX0 336 RX0 yX0_amiss muX0_amiss 2 := ⟨lw_V q1105 q1107 qs41 q125 q1108, by decide +kernel, Nat.le_of_ble_eq_true rfl⟩
theorem mvX0_340 : MV RX0 340 RX0 yX0_dropped muX0_dropped 2 := ⟨lw_V q1109 q1111 qs42 q125 q1112, by decide +kernel, Nat.le_of_ble_eq_true rfl⟩
theorem mvX0_343 : MV RX0 343 RX0 yX0_drop muX0_drop 1 := ⟨lw_V q1141 q1143 qs43 q125 q1144, by decide +kernel, Nat.le_of_ble_eq_true rfl⟩
abbrev muX0_hears : MI := (cX0_hears, RX0, 6, none, 812, "hears")
abbrev gX0_hears_l13 (G : GG) (Γ : Cx) (r : Vv × Wd) (sz sl : Nat) (td : TT) (c : CC) (v1 : Int) (v2 : Int) (v3 : Int) : (Int × CC) → Prop := fun s => WP G Γ muX0_hears r 13 [some (2, 43), some (0, v1), some (0, v2), some (0, v3), some (0, s.1), none] [] (sz, sl, tt td, cv s.2)
abbrev eX0_hears_l13 (G : GG) (Γ : Cx) (r : Vv × Wd) (sz sl : Nat) (td : TT) (c : CC) (v1 : Int) (v2 : Int) (v3 : Int) : (CC) → Prop := (fun s => WP G Γ muX0_hears r 33 [some (2, 43), some (0, v1), some (0, v2), some (0, v3), none, none] [] (sz, sl, tt td, cv s))
noncomputable def fX0_hears_l13 (v1 : Int) (v2 : Int) (v3 : Int) (v4 : Int) (td : TT) (c : CC) : Option ((Int × CC) ⊕ (CC)) :=
  if v4 < 4 then
  (gd ((0 : Int) ≤ v4 ∧ v4 < 5) <| bd (up2 c 107 (Int.toNat v4) 0) fun c_3 =>
   gd (inR (v4 + 1)) <| bd (v4 + 1) fun v4_4 =>
   some (.inl (v4_4, c_3)))
  else
  (some (.inr c))
theorem sX0_hears_l13 {G : GG} {Γ : Cx} {r : Vv × Wd} {sz : Nat} {sl : Nat} (v1 : Int) (v2 : Int) (v3 : Int) (v4 : Int) (td : TT) (c : CC) : Sm (fX0_hears_l13 v1 v2 v3 v4 td c) (fun x => Sum.elim (gX0_hears_l13 G Γ r sz sl td c v1 v2 v3) (eX0_hears_l13 G Γ r sz sl td c v1 v2 v3) x) (gX0_hears_l13 G Γ r sz sl td c v1 v2 v3 (v4, c)) := by
  show Sm _ _ (WP G Γ muX0_hears r 13 [some (2, 43), some (0, v1), some (0, v2), some (0, v3), some (0, v4), none] [] (sz, sl, tt td, cv c))
  unfold fX0_hears_l13
  refine s_iload (pc := 13) dX0_hears_13 rfl ?_
  refine s_iconst (pc := 15) dX0_hears_15 ?_
  refine s_icmp_ge (pc := 16) (tgt := 33) dX0_hears_16 rfl ?_ ?_
  · refine s_wk [true, true, true, true, false, true] (ls' := [some (2, 43), some (0, v1), some (0, v2), some (0, v3), none, none]) rfl ?_
    exact Sm.some (fun h => h)
  refine s_aload_n (pc := 19) dX0_hears_19 rfl ?_
  refine s_get (pc := 20) (a := 43) (v := 107) flX0_110 (t_43 _) rfl (g_43_36 _) rfl dX0_hears_20 ?_
  refine s_iload (pc := 23) dX0_hears_23 rfl ?_
  refine s_iconst (pc := 25) dX0_hears_25 ?_
  refine s_iastM (pc := 26) (a := 107) (t_107 _) rfl kO_107 r_107 dX0_hears_26 (fun c_3 => ?_)
  refine s_iinc (pc := 27) (lf := fun x => [some (2, 43), some (0, v1), some (0, v2), some (0, v3), some (0, x), none]) dX0_hears_27 rfl (fun _ => rfl) (Nat.le_of_ble_eq_true rfl) (fun v4_4 => ?_)
  refine s_goto (pc := 30) (tgt := 13) dX0_hears_30 rfl ?_
  exact Sm.some (fun h => h)
noncomputable def fX0_hears_j150 (v1 : Int) (v2 : Int) (v3 : Int) (v4 : Int) (v5 : Int) (w0 : Int) (td : TT) (c : CC) : Option ((Int × Int × CC) ⊕ (Int × CC)) :=
  cl (fX0_amiss w0 v5 c) fun p_10 =>
   if v4 = 0 then
  (cl (fX0_dropped v2 v5 td p_10) fun p_12 =>
   cl (fX0_drop p_12.1 p_12.2) fun p_13 =>
   gd (inR (v5 + 1)) <| bd (v5 + 1) fun v5_14 =>
   some (.inl (v4, v5_14, p_13)))
  else
  (gd (inR (v5 + 1)) <| bd (v5 + 1) fun v5_11 =>
   some (.inl (v4, v5_11, p_10)))
abbrev gX0_hears_l51 (G : GG) (Γ : Cx) (r : Vv × Wd) (sz sl : Nat) (td : TT) (c : CC) (v1 : Int) (v2 : Int) (v3 : Int) : (Int × Int × CC) → Prop := fun s => WP G Γ muX0_hears r 51 [some (2, 43), some (0, v1), some (0, v2), some (0, v3), some (0, s.1), some (0, s.2.1)] [] (sz, sl, tt td, cv s.2.2)
abbrev eX0_hears_l51 (G : GG) (Γ : Cx) (r : Vv × Wd) (sz sl : Nat) (td : TT) (c : CC) (v1 : Int) (v2 : Int) (v3 : Int) : (Int × CC) → Prop := (fun s => WP G Γ muX0_hears r 177 [some (2, 43), none, none, some (0, v3), some (0, s.1), none] [] (sz, sl, tt td, cv s.2))
theorem sX0_hears_j150 {G : GG} {Γ : Cx} {r : Vv × Wd} {sz : Nat} {sl : Nat} (v1 : Int) (v2 : Int) (v3 : Int) (v4 : Int) (v5 : Int) (w0 : Int) (td : TT) (c : CC) : Sm (fX0_hears_j150 v1 v2 v3 v4 v5 w0 td c) (fun x => Sum.elim (gX0_hears_l51 G Γ r sz sl td c v1 v2 v3) (eX0_hears_l51 G Γ r sz sl td c v1 v2 v3) x) (WP G Γ muX0_hears r 150 [some (2, 43), some (0, v1), some (0, v2), some (0, v3), some (0, v4), some (0, v5)] [(0, w0), (2, 43)] (sz, sl, tt td, cv c)) := by
  unfold fX0_hears_j150
  refine s_iload (pc := 150) dX0_hears_150 rfl ?_
  refine s_callV3 (pc := 152) (a := 43) (as := [(0, w0), (0, v5)]) (st := []) (rv := fun b => ((3, 0), (sz, sl, tt td, cv b))) (st3 := fun b => []) (w3 := fun b => (sz, sl, tt td, cv b)) mvX0_336 (fun b h => kX0_amiss w0 v5 c b h) rfl (by decide) (t_43 td) rfl rfl rfl (Nat.le_of_ble_eq_true rfl) (fun _ => Nat.le_of_ble_eq_true rfl) (fun _ => ⟨rfl, rfl⟩) dX0_hears_152 (fun p_10 => ?_)
  refine s_iload (pc := 155) dX0_hears_155 rfl ?_
  refine s_if_ne (pc := 157) (tgt := 171) dX0_hears_157 rfl ?_ ?_
  · refine s_iinc (pc := 171) (lf := fun x => [some (2, 43), some (0, v1), some (0, v2), some (0, v3), some (0, v4), some (0, x)]) dX0_hears_171 rfl (fun _ => rfl) (Nat.le_of_ble_eq_true rfl) (fun v5_11 => ?_)
    refine s_goto (pc := 174) (tgt := 51) dX0_hears_174 rfl ?_
    exact Sm.some (fun h => h)
  refine s_aload_n (pc := 160) dX0_hears_160 rfl ?_
  refine s_aload_n (pc := 161) dX0_hears_161 rfl ?_
  refine s_iload_n (pc := 162) dX0_hears_162 rfl ?_
  refine s_iload (pc := 163) dX0_hears_163 rfl ?_
  refine s_callV3 (pc := 165) (a := 43) (as := [(0, v2), (0, v5)]) (st := [(2, 43)]) (rv := fun b => ((0, b.1), (sz, sl, tt td, cv b.2))) (st3 := fun b => [(0, b.1), (2, 43)]) (w3 := fun b => (sz, sl, tt td, cv b.2)) mvX0_340 (fun b h => kX0_dropped v2 v5 td p_10 b h) rfl (by decide) (t_43 td) rfl rfl rfl (Nat.le_of_ble_eq_true rfl) (fun _ => Nat.le_of_ble_eq_true rfl) (fun _ => ⟨rfl, rfl⟩) dX0_hears_165 (fun p_12 => ?_)
  refine s_callV3 (pc := 168) (a := 43) (as := [(0, p_12.1)]) (st := []) (rv := fun b => ((3, 0), (sz, sl, tt td, cv b))) (st3 := fun b => []) (w3 := fun b => (sz, sl, tt td, cv b)) mvX0_343 (fun b h => kX0_drop p_12.1 p_12.2 b h) rfl (by decide) (t_43 td) rfl rfl rfl (Nat.le_of_ble_eq_true rfl) (fun _ => Nat.le_of_ble_eq_true rfl) (fun _ => ⟨rfl, rfl⟩) dX0_hears_168 (fun p_13 => ?_)
  refine s_iinc (pc := 171) (lf := fun x => [some (2, 43), some (0, v1), some (0, v2), some (0, v3), some (0, v4), some (0, x)]) dX0_hears_171 rfl (fun _ => rfl) (Nat.le_of_ble_eq_true rfl) (fun v5_14 => ?_)
  refine s_goto (pc := 174) (tgt := 51) dX0_hears_174 rfl ?_
  exact Sm.some (fun h => h)
noncomputable def fX0_hears_j137 (v1 : Int) (v2 : Int) (v3 : Int) (v5 : Int) (w0 : Int) (td : TT) (c : CC) : Option ((Int × Int × CC) ⊕ (Int × CC)) :=
  if w0 = 0 then
  (fX0_hears_j150 v1 v2 v3 w0 v5 2 td c)
  else
  (fX0_hears_j150 v1 v2 v3 w0 v5 0 td c)
theorem sX0_hears_j137 {G : GG} {Γ : Cx} {r : Vv × Wd} {sz : Nat} {sl : Nat} (v1 : Int) (v2 : Int) (v3 : Int) (v5 : Int) (w0 : Int) (td : TT) (c : CC) : Sm (fX0_hears_j137 v1 v2 v3 v5 w0 td c) (fun x => Sum.elim (gX0_hears_l51 G Γ r sz sl td c v1 v2 v3) (eX0_hears_l51 G Γ r sz sl td c v1 v2 v3) x) (WP G Γ muX0_hears r 137 [some (2, 43), some (0, v1), some (0, v2), some (0, v3), none, some (0, v5)] [(0, w0)] (sz, sl, tt td, cv c)) := by
  unfold fX0_hears_j137
  refine s_istoreD (pc := 137) (ls' := [some (2, 43), some (0, v1), some (0, v2), some (0, v3), some (0, w0), some (0, v5)]) dX0_hears_137 rfl (Nat.le_of_ble_eq_true rfl) ?_
  refine s_aload_n (pc := 139) dX0_hears_139 rfl ?_
  refine s_iload (pc := 140) dX0_hears_140 rfl ?_
  refine s_if_eq (pc := 142) (tgt := 149) dX0_hears_142 rfl ?_ ?_
  · refine s_iconst (pc := 149) dX0_hears_149 ?_
    exact sX0_hears_j150 v1 v2 v3 w0 v5 2 td c
  refine s_iconst (pc := 145) dX0_hears_145 ?_
  refine s_goto (pc := 146) (tgt := 150) dX0_hears_146 rfl ?_
  exact sX0_hears_j150 v1 v2 v3 w0 v5 0 td c
noncomputable def fX0_hears_j116 (v1 : Int) (v2 : Int) (v3 : Int) (v4 : Int) (v5 : Int) (td : TT) (c : CC) : Option ((Int × Int × CC) ⊕ (Int × CC)) :=
  if v1 < c 43 35 then
  (if v2 = 3 then
  (fX0_hears_j137 v1 v2 v3 v5 1 td c)
  else
  (fX0_hears_j137 v1 v2 v3 v5 0 td c))
  else
  (gd (inR (v5 + 1)) <| bd (v5 + 1) fun v5_15 =>
   some (.inl (v4, v5_15, c)))
theorem sX0_hears_j116 {G : GG} {Γ : Cx} {r : Vv × Wd} {sz : Nat} {sl : Nat} (v1 : Int) (v2 : Int) (v3 : Int) (v4 : Int) (v5 : Int) (td : TT) (c : CC) : Sm (fX0_hears_j116 v1 v2 v3 v4 v5 td c) (fun x => Sum.elim (gX0_hears_l51 G Γ r sz sl td c v1 v2 v3) (eX0_hears_l51 G Γ r sz sl td c v1 v2 v3) x) (WP G Γ muX0_hears r 116 [some (2, 43), some (0, v1), some (0, v2), some (0, v3), some (0, v4), some (0, v5)] [] (sz, sl, tt td, cv c)) := by
  unfold fX0_hears_j116
  refine s_aload_n (pc := 116) dX0_hears_116 rfl ?_
  refine s_get (pc := 117) (a := 43) (v := c 43 35) flX0_277 (t_43 _) rfl (g_43_35 _) rfl dX0_hears_117 ?_
  refine s_iload_n (pc := 120) dX0_hears_120 rfl ?_
  refine s_icmp_gt (pc := 121) (tgt := 127) dX0_hears_121 rfl ?_ ?_
  · refine s_iload_n (pc := 127) dX0_hears_127 rfl ?_
    refine s_iconst (pc := 128) dX0_hears_128 ?_
    refine s_icmp_ne (pc := 129) (tgt := 136) dX0_hears_129 rfl ?_ ?_
    · refine s_iconst (pc := 136) dX0_hears_136 ?_
      refine s_wk [true, true, true, true, false, true] (ls' := [some (2, 43), some (0, v1), some (0, v2), some (0, v3), none, some (0, v5)]) rfl ?_
      exact sX0_hears_j137 v1 v2 v3 v5 0 td c
    refine s_iconst (pc := 132) dX0_hears_132 ?_
    refine s_goto (pc := 133) (tgt := 137) dX0_hears_133 rfl ?_
    refine s_wk [true, true, true, true, false, true] (ls' := [some (2, 43), some (0, v1), some (0, v2), some (0, v3), none, some (0, v5)]) rfl ?_
    exact sX0_hears_j137 v1 v2 v3 v5 1 td c
  refine s_goto (pc := 124) (tgt := 171) dX0_hears_124 rfl ?_
  refine s_iinc (pc := 171) (lf := fun x => [some (2, 43), some (0, v1), some (0, v2), some (0, v3), some (0, v4), some (0, x)]) dX0_hears_171 rfl (fun _ => rfl) (Nat.le_of_ble_eq_true rfl) (fun v5_15 => ?_)
  refine s_goto (pc := 174) (tgt := 51) dX0_hears_174 rfl ?_
  exact Sm.some (fun h => h)
noncomputable def fX0_hears_l51 (v1 : Int) (v2 : Int) (v3 : Int) (v4 : Int) (v5 : Int) (td : TT) (c : CC) : Option ((Int × Int × CC) ⊕ (Int × CC)) :=
  if v5 < c 43 5 then
  (if v4 = 0 then
  (gd ((0 : Int) ≤ v5 ∧ v5 < 24) <|
   gd ((0 : Int) ≤ v5 ∧ v5 < 24) <|
   cl (fX0_canTake (cv c 89 (Int.toNat v5)) (c 90 (Int.toNat v5)) td c) fun p_8 =>
   if p_8 = 0 then
  (cl (fX0_amiss 1 v5 c) fun p_9 =>
   fX0_hears_j116 v1 v2 v3 v4 v5 td p_9)
  else
  (gd ((0 : Int) ≤ v5 ∧ v5 < 24) <|
   gd ((0 : Int) ≤ v5 ∧ v5 < 24) <|
   cl (fX0_take (cv c 89 (Int.toNat v5)) (c 90 (Int.toNat v5)) v5 td c) fun p_16 =>
   fX0_hears_j116 v1 v2 v3 v4 v5 td p_16))
  else
  (some (.inr (v4, c))))
  else
  (some (.inr (v4, c)))
theorem sX0_hears_l51 {G : GG} {Γ : Cx} {r : Vv × Wd} {sz : Nat} {sl : Nat} (v1 : Int) (v2 : Int) (v3 : Int) (v4 : Int) (v5 : Int) (td : TT) (c : CC) : Sm (fX0_hears_l51 v1 v2 v3 v4 v5 td c) (fun x => Sum.elim (gX0_hears_l51 G Γ r sz sl td c v1 v2 v3) (eX0_hears_l51 G Γ r sz sl td c v1 v2 v3) x) (gX0_hears_l51 G Γ r sz sl td c v1 v2 v3 (v4, v5, c)) := by
  show Sm _ _ (WP G Γ muX0_hears r 51 [some (2, 43), some (0, v1), some (0, v2), some (0, v3), some (0, v4), some (0, v5)] [] (sz, sl, tt td, cv c))
  unfold fX0_hears_l51
  refine s_iload (pc := 51) dX0_hears_51 rfl ?_
  refine s_aload_n (pc := 53) dX0_hears_53 rfl ?_
  refine s_get (pc := 54) (a := 43) (v := c 43 5) flX0_158 (t_43 _) rfl (g_43_5 _) rfl dX0_hears_54 ?_
  refine s_icmp_ge (pc := 57) (tgt := 177) dX0_hears_57 rfl ?_ ?_
  · refine s_wk [true, false, false, true, true, false] (ls' := [some (2, 43), none, none, some (0, v3), some (0, v4), none]) rfl ?_
    exact Sm.some (fun h => h)
  refine s_iload (pc := 60) dX0_hears_60 rfl ?_
  refine s_if_ne (pc := 62) (tgt := 177) dX0_hears_62 rfl ?_ ?_
  · refine s_wk [true, false, false, true, true, false] (ls' := [some (2, 43), none, none, some (0, v3), some (0, v4), none]) rfl ?_
    exact Sm.some (fun h => h)
  refine s_aload_n (pc := 65) dX0_hears_65 rfl ?_
  refine s_aload_n (pc := 66) dX0_hears_66 rfl ?_
  refine s_get (pc := 67) (a := 43) (v := 89) flX0_71 (t_43 _) rfl (g_43_22 _) rfl dX0_hears_67 ?_
  refine s_iload (pc := 70) dX0_hears_70 rfl ?_
  refine s_aaldM (pc := 72) (a := 89) (q := 5) (by decide) ⟨rfl, rfl⟩ (t_89 _) rfl dX0_hears_72 ?_
  refine s_aload_n (pc := 73) dX0_hears_73 rfl ?_
  refine s_get (pc := 74) (a := 43) (v := 90) flX0_75 (t_43 _) rfl (g_43_23 _) rfl dX0_hears_74 ?_
  refine s_iload (pc := 77) dX0_hears_77 rfl ?_
  refine s_ialdM (pc := 79) (a := 90) (t_90 _) rfl r_90 dX0_hears_79 ?_
  refine s_callV3 (pc := 80) (a := 43) (as := [(2, cv c 89 (Int.toNat v5)), (0, c 90 (Int.toNat v5))]) (st := []) (rv := fun b => ((0, b), (sz, sl, tt td, cv c))) (st3 := fun b => [(0, b)]) (w3 := fun b => (sz, sl, tt td, cv c)) mvX0_332 (fun b h => kX0_canTake (cv c 89 (Int.toNat v5)) (c 90 (Int.toNat v5)) td c b h) rfl (by decide) (t_43 td) rfl rfl rfl (Nat.le_of_ble_eq_true rfl) (fun _ => Nat.le_of_ble_eq_true rfl) (fun _ => ⟨rfl, rfl⟩) dX0_hears_80 (fun p_8 => ?_)
  refine s_if_eq (pc := 83) (tgt := 109) dX0_hears_83 rfl ?_ ?_
  · refine s_aload_n (pc := 109) dX0_hears_109 rfl ?_
    refine s_iconst (pc := 110) dX0_hears_110 ?_
    refine s_iload (pc := 111) dX0_hears_111 rfl ?_
    refine s_callV3 (pc := 113) (a := 43) (as := [(0, 1), (0, v5)]) (st := []) (rv := fun b => ((3, 0), (sz, sl, tt td, cv b))) (st3 := fun b => []) (w3 := fun b => (sz, sl, tt td, cv b)) mvX0_336 (fun b h => kX0_amiss 1 v5 c b h) rfl (by decide) (t_43 td) rfl rfl rfl (Nat.le_of_ble_eq_true rfl) (fun _ => Nat.le_of_ble_eq_true rfl) (fun _ => ⟨rfl, rfl⟩) dX0_hears_113 (fun p_9 => ?_)
    exact sX0_hears_j116 v1 v2 v3 v4 v5 td p_9
  refine s_aload_n (pc := 86) dX0_hears_86 rfl ?_
  refine s_aload_n (pc := 87) dX0_hears_87 rfl ?_
  refine s_get (pc := 88) (a := 43) (v := 89) flX0_71 (t_43 _) rfl (g_43_22 _) rfl dX0_hears_88 ?_
  refine s_iload (pc := 91) dX0_hears_91 rfl ?_
  refine s_aaldM (pc := 93) (a := 89) (q := 5) (by decide) ⟨rfl, rfl⟩ (t_89 _) rfl dX0_hears_93 ?_
  refine s_aload_n (pc := 94) dX0_hears_94 rfl ?_
  refine s_get (pc := 95) (a := 43) (v := 90) flX0_75 (t_43 _) rfl (g_43_23 _) rfl dX0_hears_95 ?_
  refine s_iload (pc := 98) dX0_hears_98 rfl ?_
  refine s_ialdM (pc := 100) (a := 90) (t_90 _) rfl r_90 dX0_hears_100 ?_
  refine s_iload (pc := 101) dX0_hears_101 rfl ?_
  refine s_callV3 (pc := 103) (a := 43) (as := [(2, cv c 89 (Int.toNat v5)), (0, c 90 (Int.toNat v5)), (0, v5)]) (st := []) (rv := fun b => ((3, 0), (sz, sl, tt td, cv b))) (st3 := fun b => []) (w3 := fun b => (sz, sl, tt td, cv b)) mvX0_310 (fun b h => kX0_take (cv c 89 (Int.toNat v5)) (c 90 (Int.toNat v5)) v5 td c b h) rfl (by decide) (t_43 td) rfl rfl rfl (Nat.le_of_ble_eq_true rfl) (fun _ => Nat.le_of_ble_eq_true rfl) (fun _ => ⟨rfl, rfl⟩) dX0_hears_103 (fun p_16 => ?_)
  refine s_goto (pc := 106) (tgt := 116) dX0_hears_106 rfl ?_
  exact sX0_hears_j116 v1 v2 v3 v4 v5 td p_16
noncomputable def fX0_hears_j219 (w0 : Int) (w1 : Int) (td : TT) (c : CC) : Option CC :=
  gd ((0 : Int) ≤ w1 ∧ w1 < 5) <| bd (up2 c 107 (Int.toNat w1) w0) fun c_18 =>
   bd (up2 c_18 107 3 (c_18 43 35)) fun c_19 =>
   some c_19
theorem sX0_hears_j219 {G : GG} {Γ : Cx} {r : Vv × Wd} {sz : Nat} {sl : Nat} (w0 : Int) (w1 : Int) (td : TT) (c : CC) : Sm (fX0_hears_j219 w0 w1 td c) (fun x => r = ((3, 0), (sz, sl, tt td, cv x))) (WP G Γ muX0_hears r 219 [some (2, 43), none, none, none, none, none] [(0, w0), (0, w1), (2, 107)] (sz, sl, tt td, cv c)) := by
  unfold fX0_hears_j219
  refine s_iastM (pc := 219) (a := 107) (t_107 _) rfl kO_107 r_107 dX0_hears_219 (fun c_18 => ?_)
  refine s_aload_n (pc := 220) dX0_hears_220 rfl ?_
  refine s_get (pc := 221) (a := 43) (v := 107) flX0_110 (t_43 _) rfl (g_43_36 _) rfl dX0_hears_221 ?_
  refine s_iconst (pc := 224) dX0_hears_224 ?_
  refine s_aload_n (pc := 225) dX0_hears_225 rfl ?_
  refine s_get (pc := 226) (a := 43) (v := c_18 43 35) flX0_277 (t_43 _) rfl (g_43_35 _) rfl dX0_hears_226 ?_
  refine s_iastML (pc := 229) (a := 107) 3 rfl (Nat.le_of_ble_eq_true rfl) (t_107 _) rfl kO_107 r_107 dX0_hears_229 (fun c_19 => ?_)
  exact s_vret (pc := 230) dX0_hears_230 rfl (fun h => h)
noncomputable def fX0_hears_j218 (w0 : Int) (td : TT) (c : CC) : Option CC :=
  fX0_hears_j219 0 w0 td c
theorem sX0_hears_j218 {G : GG} {Γ : Cx} {r : Vv × Wd} {sz : Nat} {sl : Nat} (w0 : Int) (td : TT) (c : CC) : Sm (fX0_hears_j218 w0 td c) (fun x => r = ((3, 0), (sz, sl, tt td, cv x))) (WP G Γ muX0_hears r 218 [some (2, 43), none, none, none, none, none] [(0, w0), (2, 107)] (sz, sl, tt td, cv c)) := by
  unfold fX0_hears_j218
  refine s_iconst (pc := 218) dX0_hears_218 ?_
  exact sX0_hears_j219 0 w0 td c
noncomputable def fX0_hears_j177 (v3 : Int) (v4 : Int) (td : TT) (c : CC) : Option CC :=
  if v4 = 0 then
  (if c 43 35 = 1 then
  (if c 103 0 = 0 then
  (if c 106 0 = v3 then
  (fX0_hears_j219 1 0 td c)
  else
  (fX0_hears_j218 0 td c))
  else
  (fX0_hears_j218 0 td c))
  else
  (fX0_hears_j218 0 td c))
  else
  (fX0_hears_j218 0 td c)
theorem sX0_hears_j177 {G : GG} {Γ : Cx} {r : Vv × Wd} {sz : Nat} {sl : Nat} (v3 : Int) (v4 : Int) (td : TT) (c : CC) : Sm (fX0_hears_j177 v3 v4 td c) (fun x => r = ((3, 0), (sz, sl, tt td, cv x))) (WP G Γ muX0_hears r 177 [some (2, 43), none, none, some (0, v3), some (0, v4), none] [] (sz, sl, tt td, cv c)) := by
  unfold fX0_hears_j177
  refine s_aload_n (pc := 177) dX0_hears_177 rfl ?_
  refine s_get (pc := 178) (a := 43) (v := 107) flX0_110 (t_43 _) rfl (g_43_36 _) rfl dX0_hears_178 ?_
  refine s_iconst (pc := 181) dX0_hears_181 ?_
  refine s_iload (pc := 182) dX0_hears_182 rfl ?_
  refine s_if_ne (pc := 184) (tgt := 218) dX0_hears_184 rfl ?_ ?_
  · refine s_wk [true, true, true, false, false, true] (ls' := [some (2, 43), none, none, none, none, none]) rfl ?_
    exact sX0_hears_j218 0 td c
  refine s_aload_n (pc := 187) dX0_hears_187 rfl ?_
  refine s_get (pc := 188) (a := 43) (v := c 43 35) flX0_277 (t_43 _) rfl (g_43_35 _) rfl dX0_hears_188 ?_
  refine s_iconst (pc := 191) dX0_hears_191 ?_
  refine s_icmp_ne (pc := 192) (tgt := 218) dX0_hears_192 rfl ?_ ?_
  · refine s_wk [true, true, true, false, false, true] (ls' := [some (2, 43), none, none, none, none, none]) rfl ?_
    exact sX0_hears_j218 0 td c
  refine s_aload_n (pc := 195) dX0_hears_195 rfl ?_
  refine s_get (pc := 196) (a := 43) (v := 103) flX0_98 (t_43 _) rfl (g_43_31 _) rfl dX0_hears_196 ?_
  refine s_iconst (pc := 199) dX0_hears_199 ?_
  refine s_ialdML (pc := 200) (a := 103) 0 rfl (Nat.le_of_ble_eq_true rfl) (t_103 _) rfl r_103 dX0_hears_200 ?_
  refine s_if_ne (pc := 201) (tgt := 218) dX0_hears_201 rfl ?_ ?_
  · refine s_wk [true, true, true, false, false, true] (ls' := [some (2, 43), none, none, none, none, none]) rfl ?_
    exact sX0_hears_j218 0 td c
  refine s_aload_n (pc := 204) dX0_hears_204 rfl ?_
  refine s_get (pc := 205) (a := 43) (v := 106) flX0_107 (t_43 _) rfl (g_43_34 _) rfl dX0_hears_205 ?_
  refine s_iconst (pc := 208) dX0_hears_208 ?_
  refine s_ialdML (pc := 209) (a := 106) 0 rfl (Nat.le_of_ble_eq_true rfl) (t_106 _) rfl r_106 dX0_hears_209 ?_
  refine s_iload_n (pc := 210) dX0_hears_210 rfl ?_
  refine s_icmp_ne (pc := 211) (tgt := 218) dX0_hears_211 rfl ?_ ?_
  · refine s_wk [true, true, true, false, false, true] (ls' := [some (2, 43), none, none, none, none, none]) rfl ?_
    exact sX0_hears_j218 0 td c
  refine s_iconst (pc := 214) dX0_hears_214 ?_
  refine s_goto (pc := 215) (tgt := 219) dX0_hears_215 rfl ?_
  refine s_wk [true, true, true, false, false, true] (ls' := [some (2, 43), none, none, none, none, none]) rfl ?_
  exact sX0_hears_j219 1 0 td c
noncomputable def fX0_hears (a1 : Int) (a2 : Int) (td : TT) (c : CC) : Option CC :=
  bd (up2 c 43 30 0) fun c_1 =>
   cl (fX0_meansAll  td c_1) fun p_2 =>
   cl (wh (fun s => fX0_hears_l13 a1 a2 p_2.1 s.1 td s.2) (0, p_2.2)) (fun e_5 =>
  bd (up2 e_5 107 4 (-1)) fun c_6 =>
   bd (up2 c_6 43 35 0) fun c_7 =>
   cl (wh (fun s => fX0_hears_l51 a1 a2 p_2.1 s.1 s.2.1 td s.2.2) (0, 0, c_7)) (fun e_17 =>
  fX0_hears_j177 p_2.1 e_17.1 td e_17.2))
theorem sX0_hears {G : GG} {Γ : Cx} {r : Vv × Wd} {sz : Nat} {sl : Nat} (a1 : Int) (a2 : Int) (td : TT) (c : CC) : Sm (fX0_hears a1 a2 td c) (fun x => r = ((3, 0), (sz, sl, tt td, cv x))) (WP G Γ muX0_hears r 0 [some (2, 43), some (0, a1), some (0, a2), none, none, none] [] (sz, sl, tt td, cv c)) := by
  unfold fX0_hears
  refine s_aload_n (pc := 0) dX0_hears_0 rfl ?_
  refine s_iconst (pc := 1) dX0_hears_1 ?_
  refine s_putM (pc := 2) (a := 43) (fpX0_261 _) (t_43 _) rfl kO_43 n_43_30 rfl (fpX0_261t) dX0_hears_2 (fun c_1 => ?_)
  refine s_aload_n (pc := 5) dX0_hears_5 rfl ?_
  refine s_callV3 (pc := 6) (a := 43) (as := []) (st := []) (rv := fun b => ((0, b.1), (sz, sl, tt td, cv b.2))) (st3 := fun b => [(0, b.1)]) (w3 := fun b => (sz, sl, tt td, cv b.2)) mvX0_314 (fun b h => kX0_meansAll  td c_1 b h) rfl (by decide) (t_43 td) rfl rfl rfl (Nat.le_of_ble_eq_true rfl) (fun _ => Nat.le_of_ble_eq_true rfl) (fun _ => ⟨rfl, rfl⟩) dX0_hears_6 (fun p_2 => ?_)
  refine s_istore_nD (pc := 9) (ls' := [some (2, 43), some (0, a1), some (0, a2), some (0, p_2.1), none, none]) dX0_hears_9 rfl (Nat.le_of_ble_eq_true rfl) ?_
  refine s_iconst (pc := 10) dX0_hears_10 ?_
  refine s_istoreD (pc := 11) (ls' := [some (2, 43), some (0, a1), some (0, a2), some (0, p_2.1), some (0, 0), none]) dX0_hears_11 rfl (Nat.le_of_ble_eq_true rfl) ?_
  refine s_loop (g := gX0_hears_l13 G Γ r sz sl td p_2.2 a1 a2 p_2.1) (Ex := eX0_hears_l13 G Γ r sz sl td p_2.2 a1 a2 p_2.1) (s0 := (0, p_2.2)) (fun s => sX0_hears_l13 a1 a2 p_2.1 s.1 td s.2) ?_
  intro e_5
  show Sm _ _ (WP G Γ muX0_hears r 33 [some (2, 43), some (0, a1), some (0, a2), some (0, p_2.1), none, none] [] (sz, sl, tt td, cv e_5))
  refine s_aload_n (pc := 33) dX0_hears_33 rfl ?_
  refine s_get (pc := 34) (a := 43) (v := 107) flX0_110 (t_43 _) rfl (g_43_36 _) rfl dX0_hears_34 ?_
  refine s_iconst (pc := 37) dX0_hears_37 ?_
  refine s_iconst (pc := 38) dX0_hears_38 ?_
  refine s_iastML (pc := 39) (a := 107) 4 rfl (Nat.le_of_ble_eq_true rfl) (t_107 _) rfl kO_107 r_107 dX0_hears_39 (fun c_6 => ?_)
  refine s_aload_n (pc := 40) dX0_hears_40 rfl ?_
  refine s_iconst (pc := 41) dX0_hears_41 ?_
  refine s_putM (pc := 42) (a := 43) (fpX0_277 _) (t_43 _) rfl kO_43 n_43_35 rfl (fpX0_277t) dX0_hears_42 (fun c_7 => ?_)
  refine s_iconst (pc := 45) dX0_hears_45 ?_
  refine s_istoreD (pc := 46) (ls' := [some (2, 43), some (0, a1), some (0, a2), some (0, p_2.1), some (0, 0), none]) dX0_hears_46 rfl (Nat.le_of_ble_eq_true rfl) ?_
  refine s_iconst (pc := 48) dX0_hears_48 ?_
  refine s_istoreD (pc := 49) (ls' := [some (2, 43), some (0, a1), some (0, a2), some (0, p_2.1), some (0, 0), some (0, 0)]) dX0_hears_49 rfl (Nat.le_of_ble_eq_true rfl) ?_
  refine s_loop (g := gX0_hears_l51 G Γ r sz sl td c_7 a1 a2 p_2.1) (Ex := eX0_hears_l51 G Γ r sz sl td c_7 a1 a2 p_2.1) (s0 := (0, 0, c_7)) (fun s => sX0_hears_l51 a1 a2 p_2.1 s.1 s.2.1 td s.2.2) ?_
  intro e_17
  show Sm _ _ (WP G Γ muX0_hears r 177 [some (2, 43), none, none, some (0, p_2.1), some (0, e_17.1), none] [] (sz, sl, tt td, cv e_17.2))
  exact sX0_hears_j177 p_2.1 e_17.1 td e_17.2
theorem kX0_hears {G : GG} {sz : Nat} {sl : Nat} (a1 : Int) (a2 : Int) (td : TT) (c : CC) (x : CC) (h : fX0_hears a1 a2 td c = some x) : Ct G yX0_hears muX0_hears [(2, 43), (0, a1), (0, a2)] (sz, sl, tt td, cv c) ((3, 0), (sz, sl, tt td, cv x)) :=
  Ct.of (n := 3) (ls0 := [some (2, 43), some (0, a1), some (0, a2), none, none, none]) (by decide) rfl rfl ⟨show (none : Option FieldType) ≠ some .float by decide, show (none : Option FieldType) ≠ some .double by decide⟩ (Nat.le_of_ble_eq_true rfl) rfl ⟨Nat.le_refl _, Nat.le_refl _⟩ (show (3 : Nat) ≠ 9 by decide) (fun Γ => sX0_hears a1 a2 td c x h rfl)
theorem mvX0_346 : MV RX0 346 RX0 yX0_hears muX0_hears 2 := ⟨lw_V q1097 q1099 qs39 q125 q1100, by decide +kernel, Nat.le_of_ble_eq_true rfl⟩
abbrev muX0_hear : MI := (cX0_hear, RX0, 5, some .int, 813, "hear")
noncomputable def fX0_hear (a1 : Int) (a2 : Int) (a3 : Int) (a4 : Int) (td : TT) (c : CC) : Option (Int × CC) :=
  cl (fX0_in a2 1 24 ) fun p_1 =>
   if p_1 = 0 then
  (some ((-1), c))
  else
  (cl (fX0_in a3 0 3 ) fun p_2 =>
   if p_2 = 0 then
  (some ((-1), c))
  else
  (cl (fX0_in a4 0 4 ) fun p_3 =>
   if p_3 = 0 then
  (some ((-1), c))
  else
  (cl (fX0_find a1 td c) fun p_4 =>
   if p_4.1 = 0 then
  (some ((-1), p_4.2))
  else
  (cl (fX0_hears a2 a3 td p_4.2) fun p_5 =>
   gd ((0 : Int) ≤ a4 ∧ a4 < 5) <|
   some ((p_5 107 (Int.toNat a4)), p_5)))))
theorem sX0_hear {G : GG} {Γ : Cx} {r : Vv × Wd} {sz : Nat} {sl : Nat} (a1 : Int) (a2 : Int) (a3 : Int) (a4 : Int) (td : TT) (c : CC) : Sm (fX0_hear a1 a2 a3 a4 td c) (fun x => r = ((0, x.1), (sz, sl, tt td, cv x.2))) (WP G Γ muX0_hear r 0 [some (2, 43), some (0, a1), some (0, a2), some (0, a3), some (0, a4)] [] (sz, sl, tt td, cv c)) := by
  unfold fX0_hear
  refine s_iload_n (pc := 0) dX0_hear_0 rfl ?_
  refine s_iconst (pc := 1) dX0_hear_1 ?_
  refine s_bipush (pc := 2) dX0_hear_2 ?_
  refine s_callS3 (pc := 4) (as := [(0, a2), (0, 1), (0, 24)]) (st := []) (rv := fun b => ((0, b), (sz, sl, tt td, cv c))) (st3 := fun b => [(0, b)]) (w3 := fun b => (sz, sl, tt td, cv c)) msX0_130 (fun b h => kX0_in a2 1 24 c b h) rfl (by decide) rfl (Nat.le_of_ble_eq_true rfl) (fun _ => Nat.le_of_ble_eq_true rfl) (fun _ => ⟨rfl, rfl⟩) dX0_hear_4 (fun p_1 => ?_)
  refine s_if_eq (pc := 7) (tgt := 37) dX0_hear_7 rfl ?_ ?_
  · refine s_iconst (pc := 37) dX0_hear_37 ?_
    exact s_iret (pc := 38) dX0_hear_38 rfl (fun h => h)
  refine s_iload_n (pc := 10) dX0_hear_10 rfl ?_
  refine s_iconst (pc := 11) dX0_hear_11 ?_
  refine s_iconst (pc := 12) dX0_hear_12 ?_
  refine s_callS3 (pc := 13) (as := [(0, a3), (0, 0), (0, 3)]) (st := []) (rv := fun b => ((0, b), (sz, sl, tt td, cv c))) (st3 := fun b => [(0, b)]) (w3 := fun b => (sz, sl, tt td, cv c)) msX0_130 (fun b h => kX0_in a3 0 3 c b h) rfl (by decide) rfl (Nat.le_of_ble_eq_true rfl) (fun _ => Nat.le_of_ble_eq_true rfl) (fun _ => ⟨rfl, rfl⟩) dX0_hear_13 (fun p_2 => ?_)
  refine s_if_eq (pc := 16) (tgt := 37) dX0_hear_16 rfl ?_ ?_
  · refine s_iconst (pc := 37) dX0_hear_37 ?_
    exact s_iret (pc := 38) dX0_hear_38 rfl (fun h => h)
  refine s_iload (pc := 19) dX0_hear_19 rfl ?_
  refine s_iconst (pc := 21) dX0_hear_21 ?_
  refine s_iconst (pc := 22) dX0_hear_22 ?_
  refine s_callS3 (pc := 23) (as := [(0, a4), (0, 0), (0, 4)]) (st := []) (rv := fun b => ((0, b), (sz, sl, tt td, cv c))) (st3 := fun b => [(0, b)]) (w3 := fun b => (sz, sl, tt td, cv c)) msX0_130 (fun b h => kX0_in a4 0 4 c b h) rfl (by decide) rfl (Nat.le_of_ble_eq_true rfl) (fun _ => Nat.le_of_ble_eq_true rfl) (fun _ => ⟨rfl, rfl⟩) dX0_hear_23 (fun p_3 => ?_)
  refine s_if_eq (pc := 26) (tgt := 37) dX0_hear_26 rfl ?_ ?_
  · refine s_iconst (pc := 37) dX0_hear_37 ?_
    exact s_iret (pc := 38) dX0_hear_38 rfl (fun h => h)
  refine s_aload_n (pc := 29) dX0_hear_29 rfl ?_
  refine s_iload_n (pc := 30) dX0_hear_30 rfl ?_
  refine s_callV3 (pc := 31) (a := 43) (as := [(0, a1)]) (st := []) (rv := fun b => ((0, b.1), (sz, sl, tt td, cv b.2))) (st3 := fun b => [(0, b.1)]) (w3 := fun b => (sz, sl, tt td, cv b.2)) mvX0_239 (fun b h => kX0_find a1 td c b h) rfl (by decide) (t_43 td) rfl rfl rfl (Nat.le_of_ble_eq_true rfl) (fun _ => Nat.le_of_ble_eq_true rfl) (fun _ => ⟨rfl, rfl⟩) dX0_hear_31 (fun p_4 => ?_)
  refine s_if_ne (pc := 34) (tgt := 39) dX0_hear_34 rfl ?_ ?_
  · refine s_aload_n (pc := 39) dX0_hear_39 rfl ?_
    refine s_iload_n (pc := 40) dX0_hear_40 rfl ?_
    refine s_iload_n (pc := 41) dX0_hear_41 rfl ?_
    refine s_callV3 (pc := 42) (a := 43) (as := [(0, a2), (0, a3)]) (st := []) (rv := fun b => ((3, 0), (sz, sl, tt td, cv b))) (st3 := fun b => []) (w3 := fun b => (sz, sl, tt td, cv b)) mvX0_346 (fun b h => kX0_hears a2 a3 td p_4.2 b h) rfl (by decide) (t_43 td) rfl rfl rfl (Nat.le_of_ble_eq_true rfl) (fun _ => Nat.le_of_ble_eq_true rfl) (fun _ => ⟨rfl, rfl⟩) dX0_hear_42 (fun p_5 => ?_)
    refine s_aload_n (pc := 45) dX0_hear_45 rfl ?_
    refine s_get (pc := 46) (a := 43) (v := 107) flX0_110 (t_43 _) rfl (g_43_36 _) rfl dX0_hear_46 ?_
    refine s_iload (pc := 49) dX0_hear_49 rfl ?_
    refine s_ialdM (pc := 51) (a := 107) (t_107 _) rfl r_107 dX0_hear_51 ?_
    exact s_iret (pc := 52) dX0_hear_52 rfl (fun h => h)
  refine s_iconst (pc := 37) dX0_hear_37 ?_
  exact s_iret (pc := 38) dX0_hear_38 rfl (fun h => h)
theorem kX0_hear {G : GG} {sz : Nat} {sl : Nat} (a1 : Int) (a2 : Int) (a3 : Int) (a4 : Int) (td : TT) (c : CC) (x : (Int × CC)) (h : fX0_hear a1 a2 a3 a4 td c = some x) : Ct G yX0_hear muX0_hear [(2, 43), (0, a1), (0, a2), (0, a3), (0, a4)] (sz, sl, tt td, cv c) ((0, x.1), (sz, sl, tt td, cv x.2)) :=
  Ct.of (n := 0) (ls0 := [some (2, 43), some (0, a1), some (0, a2), some (0, a3), some (0, a4)]) (by decide) rfl rfl ⟨show (some .int : Option FieldType) ≠ some .float by decide, show (some .int : Option FieldType) ≠ some .double by decide⟩ (Nat.le_of_ble_eq_true rfl) rfl ⟨Nat.le_refl _, Nat.le_refl _⟩ (show (0 : Nat) ≠ 9 by decide) (fun Γ => sX0_hear a1 a2 a3 a4 td c x h rfl)
abbrev muX0_enough : MI := (cX0_enough, RX0, 4, some .int, 813, "enough")
abbrev gX0_enough_l21 (G : GG) (Γ : Cx) (r : Vv × Wd) (sz sl : Nat) (td : TT) (c : CC) (v2 : Int) : (Int × CC) → Prop := fun s => WP G Γ muX0_enough r 21 [some (2, 43), none, some (0, v2), some (0, s.1)] [] (sz, sl, tt td, cv s.2)
abbrev eX0_enough_l21 (G : GG) (Γ : Cx) (r : Vv × Wd) (sz sl : Nat) (td : TT) (c : CC) (v2 : Int) : ((Int × CC) ⊕ (CC)) → Prop := (Sum.elim (fun s => WP G Γ muX0_enough r 43 [none, none, none, some (0, s.1)] [] (sz, sl, tt td, cv s.2)) (fun s => WP G Γ muX0_enough r 51 [none, none, none, none] [] (sz, sl, tt td, cv s)))
noncomputable def fX0_enough_l21 (v2 : Int) (v3 : Int) (td : TT) (c : CC) : Option ((Int × CC) ⊕ ((Int × CC) ⊕ (CC))) :=
  if (24 : Int) < v3 then
  (some (.inr (.inr c)))
  else
  (cl (fX0_hears v3 v2 td c) fun p_3 =>
   if p_3 107 0 = 1 then
  (some (.inr (.inl (v3, p_3))))
  else
  (gd (inR (v3 + 1)) <| bd (v3 + 1) fun v3_4 =>
   some (.inl (v3_4, p_3))))
theorem sX0_enough_l21 {G : GG} {Γ : Cx} {r : Vv × Wd} {sz : Nat} {sl : Nat} (v2 : Int) (v3 : Int) (td : TT) (c : CC) : Sm (fX0_enough_l21 v2 v3 td c) (fun x => Sum.elim (gX0_enough_l21 G Γ r sz sl td c v2) (eX0_enough_l21 G Γ r sz sl td c v2) x) (gX0_enough_l21 G Γ r sz sl td c v2 (v3, c)) := by
  show Sm _ _ (WP G Γ muX0_enough r 21 [some (2, 43), none, some (0, v2), some (0, v3)] [] (sz, sl, tt td, cv c))
  unfold fX0_enough_l21
  refine s_iload_n (pc := 21) dX0_enough_21 rfl ?_
  refine s_bipush (pc := 22) dX0_enough_22 ?_
  refine s_icmp_gt (pc := 24) (tgt := 51) dX0_enough_24 rfl ?_ ?_
  · refine s_wk [false, true, false, false] (ls' := [none, none, none, none]) rfl ?_
    exact Sm.some (fun h => h)
  refine s_aload_n (pc := 27) dX0_enough_27 rfl ?_
  refine s_iload_n (pc := 28) dX0_enough_28 rfl ?_
  refine s_iload_n (pc := 29) dX0_enough_29 rfl ?_
  refine s_callV3 (pc := 30) (a := 43) (as := [(0, v3), (0, v2)]) (st := []) (rv := fun b => ((3, 0), (sz, sl, tt td, cv b))) (st3 := fun b => []) (w3 := fun b => (sz, sl, tt td, cv b)) mvX0_346 (fun b h => kX0_hears v3 v2 td c b h) rfl (by decide) (t_43 td) rfl rfl rfl (Nat.le_of_ble_eq_true rfl) (fun _ => Nat.le_of_ble_eq_true rfl) (fun _ => ⟨rfl, rfl⟩) dX0_enough_30 (fun p_3 => ?_)
  refine s_aload_n (pc := 33) dX0_enough_33 rfl ?_
  refine s_get (pc := 34) (a := 43) (v := 107) flX0_110 (t_43 _) rfl (g_43_36 _) rfl dX0_enough_34 ?_
  refine s_iconst (pc := 37) dX0_enough_37 ?_
  refine s_ialdML (pc := 38) (a := 107) 0 rfl (Nat.le_of_ble_eq_true rfl) (t_107 _) rfl r_107 dX0_enough_38 ?_
  refine s_iconst (pc := 39) dX0_enough_39 ?_
  refine s_icmp_ne (pc := 40) (tgt := 45) dX0_enough_40 rfl ?_ ?_
  · refine s_iinc (pc := 45) (lf := fun x => [some (2, 43), none, some (0, v2), some (0, x)]) dX0_enough_45 rfl (fun _ => rfl) (Nat.le_of_ble_eq_true rfl) (fun v3_4 => ?_)
    refine s_goto (pc := 48) (tgt := 21) dX0_enough_48 rfl ?_
    exact Sm.some (fun h => h)
  refine s_wk [false, true, false, true] (ls' := [none, none, none, some (0, v3)]) rfl ?_
  exact Sm.some (fun h => h)
noncomputable def fX0_enough (a1 : Int) (a2 : Int) (td : TT) (c : CC) : Option (Int × CC) :=
  cl (fX0_in a2 0 3 ) fun p_1 =>
   if p_1 = 0 then
  (some ((-1), c))
  else
  (cl (fX0_find a1 td c) fun p_2 =>
   if p_2.1 = 0 then
  (some ((-1), p_2.2))
  else
  (cl (wh (fun s => fX0_enough_l21 a2 s.1 td s.2) (1, p_2.2)) (Sum.elim (fun e_5 =>
  some (e_5.1, e_5.2)) (fun e_6 =>
  some ((-1), e_6)))))
theorem sX0_enough {G : GG} {Γ : Cx} {r : Vv × Wd} {sz : Nat} {sl : Nat} (a1 : Int) (a2 : Int) (td : TT) (c : CC) : Sm (fX0_enough a1 a2 td c) (fun x => r = ((0, x.1), (sz, sl, tt td, cv x.2))) (WP G Γ muX0_enough r 0 [some (2, 43), some (0, a1), some (0, a2), none] [] (sz, sl, tt td, cv c)) := by
  unfold fX0_enough
  refine s_iload_n (pc := 0) dX0_enough_0 rfl ?_
  refine s_iconst (pc := 1) dX0_enough_1 ?_
  refine s_iconst (pc := 2) dX0_enough_2 ?_
  refine s_callS3 (pc := 3) (as := [(0, a2), (0, 0), (0, 3)]) (st := []) (rv := fun b => ((0, b), (sz, sl, tt td, cv c))) (st3 := fun b => [(0, b)]) (w3 := fun b => (sz, sl, tt td, cv c)) msX0_130 (fun b h => kX0_in a2 0 3 c b h) rfl (by decide) rfl (Nat.le_of_ble_eq_true rfl) (fun _ => Nat.le_of_ble_eq_true rfl) (fun _ => ⟨rfl, rfl⟩) dX0_enough_3 (fun p_1 => ?_)
  refine s_if_eq (pc := 6) (tgt := 17) dX0_enough_6 rfl ?_ ?_
  · refine s_iconst (pc := 17) dX0_enough_17 ?_
    exact s_iret (pc := 18) dX0_enough_18 rfl (fun h => h)
  refine s_aload_n (pc := 9) dX0_enough_9 rfl ?_
  refine s_iload_n (pc := 10) dX0_enough_10 rfl ?_
  refine s_callV3 (pc := 11) (a := 43) (as := [(0, a1)]) (st := []) (rv := fun b => ((0, b.1), (sz, sl, tt td, cv b.2))) (st3 := fun b => [(0, b.1)]) (w3 := fun b => (sz, sl, tt td, cv b.2)) mvX0_239 (fun b h => kX0_find a1 td c b h) rfl (by decide) (t_43 td) rfl rfl rfl (Nat.le_of_ble_eq_true rfl) (fun _ => Nat.le_of_ble_eq_true rfl) (fun _ => ⟨rfl, rfl⟩) dX0_enough_11 (fun p_2 => ?_)
  refine s_if_ne (pc := 14) (tgt := 19) dX0_enough_14 rfl ?_ ?_
  · refine s_iconst (pc := 19) dX0_enough_19 ?_
    refine s_istore_nD (pc := 20) (ls' := [some (2, 43), some (0, a1), some (0, a2), some (0, 1)]) dX0_enough_20 rfl (Nat.le_of_ble_eq_true rfl) ?_
    refine s_wk [true, false, true, true] (ls' := [some (2, 43), none, some (0, a2), some (0, 1)]) rfl ?_
    refine s_loop (g := gX0_enough_l21 G Γ r sz sl td p_2.2 a2) (Ex := eX0_enough_l21 G Γ r sz sl td p_2.2 a2) (s0 := (1, p_2.2)) (fun s => sX0_enough_l21 a2 s.1 td s.2) ?_
    refine s_elim ?_ ?_
    · intro e_5
      show Sm _ _ (WP G Γ muX0_enough r 43 [none, none, none, some (0, e_5.1)] [] (sz, sl, tt td, cv e_5.2))
      refine s_iload_n (pc := 43) dX0_enough_43 rfl ?_
      exact s_iret (pc := 44) dX0_enough_44 rfl (fun h => h)
    intro e_6
    show Sm _ _ (WP G Γ muX0_enough r 51 [none, none, none, none] [] (sz, sl, tt td, cv e_6))
    refine s_iconst (pc := 51) dX0_enough_51 ?_
    exact s_iret (pc := 52) dX0_enough_52 rfl (fun h => h)
  refine s_iconst (pc := 17) dX0_enough_17 ?_
  exact s_iret (pc := 18) dX0_enough_18 rfl (fun h => h)
theorem kX0_enough {G : GG} {sz : Nat} {sl : Nat} (a1 : Int) (a2 : Int) (td : TT) (c : CC) (x : (Int × CC)) (h : fX0_enough a1 a2 td c = some x) : Ct G yX0_enough muX0_enough [(2, 43), (0, a1), (0, a2)] (sz, sl, tt td, cv c) ((0, x.1), (sz, sl, tt td, cv x.2)) :=
  Ct.of (n := 1) (ls0 := [some (2, 43), some (0, a1), some (0, a2), none]) (by decide) rfl rfl ⟨show (some .int : Option FieldType) ≠ some .float by decide, show (some .int : Option FieldType) ≠ some .double by decide⟩ (Nat.le_of_ble_eq_true rfl) rfl ⟨Nat.le_refl _, Nat.le_refl _⟩ (show (0 : Nat) ≠ 9 by decide) (fun Γ => sX0_enough a1 a2 td c x h rfl)
abbrev muX0_fewestAt : MI := (cX0_fewestAt, RX0, 3, some .int, 1, "fewestAt")
noncomputable def fX0_fewestAt (a0 : Int) (a1 : Int) (a2 : Int)  : Option Int :=
  gd (inR (8 * a0)) <|
   gd (inR ((8 * a0) + a1)) <|
   gd (inR (25 * ((8 * a0) + a1))) <|
   gd (inR ((25 * ((8 * a0) + a1)) + a2)) <|
   some ((25 * ((8 * a0) + a1)) + a2)
theorem sX0_fewestAt {G : GG} {Γ : Cx} {r : Vv × Wd} {sz : Nat} {sl : Nat} {td : TT} (a0 : Int) (a1 : Int) (a2 : Int) (c : CC) : Sm (fX0_fewestAt a0 a1 a2 ) (fun x => r = ((0, x), (sz, sl, tt td, cv c))) (WP G Γ muX0_fewestAt r 0 [some (0, a0), some (0, a1), some (0, a2)] [] (sz, sl, tt td, cv c)) := by
  unfold fX0_fewestAt
  refine s_bipush (pc := 0) dX0_fewestAt_0 ?_
  refine s_bipush (pc := 2) dX0_fewestAt_2 ?_
  refine s_iload_n (pc := 4) dX0_fewestAt_4 rfl ?_
  refine s_imul (pc := 5) dX0_fewestAt_5 ?_
  refine s_iload_n (pc := 6) dX0_fewestAt_6 rfl ?_
  refine s_iadd (pc := 7) dX0_fewestAt_7 ?_
  refine s_imul (pc := 8) dX0_fewestAt_8 ?_
  refine s_iload_n (pc := 9) dX0_fewestAt_9 rfl ?_
  refine s_iadd (pc := 10) dX0_fewestAt_10 ?_
  exact s_iret (pc := 11) dX0_fewestAt_11 rfl (fun h => h)
theorem kX0_fewestAt {G : GG} {sz : Nat} {sl : Nat} {td : TT} (a0 : Int) (a1 : Int) (a2 : Int) (c : CC) (x : Int) (h : fX0_fewestAt a0 a1 a2  = some x) : Ct G yX0_fewestAt muX0_fewestAt [(0, a0), (0, a1), (0, a2)] (sz, sl, tt td, cv c) ((0, x), (sz, sl, tt td, cv c)) :=
  Ct.of (n := 0) (ls0 := [some (0, a0), some (0, a1), some (0, a2)]) (by decide) rfl rfl ⟨show (some .int : Option FieldType) ≠ some .float by decide, show (some .int : Option FieldType) ≠ some .double by decide⟩ (Nat.le_of_ble_eq_true rfl) rfl ⟨Nat.le_refl _, Nat.le_refl _⟩ (show (0 : Nat) ≠ 9 by decide) (fun Γ => sX0_fewestAt a0 a1 a2 c x h rfl)
theorem flX0_113 : FL RX0 113 0 37 := ⟨_, _, _, cf0, by decide, q250⟩
theorem msX0_349 : MS RX0 349 yX0_fewestAt muX0_fewestAt 3 := ⟨lw_S q1161 q1162 q125 q1163, by decide +kernel, by decide⟩
abbrev muX0_fewestOf : MI := (cX0_fewestOf, RX0, 4, some .int, 2, "fewestOf")
noncomputable def fX0_fewestOf (a1 : Int) (a2 : Int) (a3 : Int) (c : CC) : Option Int :=
  if a3 < 1 then
  (some 1000)
  else
  (cl (fX0_fewestAt a1 a2 a3 ) fun p_1 =>
   gd ((0 : Int) ≤ p_1 ∧ p_1 < 4800) <|
   some (c 108 (Int.toNat p_1)))
theorem sX0_fewestOf {G : GG} {Γ : Cx} {r : Vv × Wd} {sz : Nat} {sl : Nat} {td : TT} (a1 : Int) (a2 : Int) (a3 : Int) (c : CC) : Sm (fX0_fewestOf a1 a2 a3 c) (fun x => r = ((0, x), (sz, sl, tt td, cv c))) (WP G Γ muX0_fewestOf r 0 [some (2, 43), some (0, a1), some (0, a2), some (0, a3)] [] (sz, sl, tt td, cv c)) := by
  unfold fX0_fewestOf
  refine s_iload_n (pc := 0) dX0_fewestOf_0 rfl ?_
  refine s_iconst (pc := 1) dX0_fewestOf_1 ?_
  refine s_icmp_ge (pc := 2) (tgt := 11) dX0_fewestOf_2 rfl ?_ ?_
  · refine s_aload_n (pc := 11) dX0_fewestOf_11 rfl ?_
    refine s_get (pc := 12) (a := 43) (v := 108) flX0_113 (t_43 _) rfl (g_43_37 _) rfl dX0_fewestOf_12 ?_
    refine s_iload_n (pc := 15) dX0_fewestOf_15 rfl ?_
    refine s_iload_n (pc := 16) dX0_fewestOf_16 rfl ?_
    refine s_iload_n (pc := 17) dX0_fewestOf_17 rfl ?_
    refine s_callS3 (pc := 18) (as := [(0, a1), (0, a2), (0, a3)]) (st := [(2, 108)]) (rv := fun b => ((0, b), (sz, sl, tt td, cv c))) (st3 := fun b => [(0, b), (2, 108)]) (w3 := fun b => (sz, sl, tt td, cv c)) msX0_349 (fun b h => kX0_fewestAt a1 a2 a3 c b h) rfl (by decide) rfl (Nat.le_of_ble_eq_true rfl) (fun _ => Nat.le_of_ble_eq_true rfl) (fun _ => ⟨rfl, rfl⟩) dX0_fewestOf_18 (fun p_1 => ?_)
    refine s_ialdM (pc := 21) (a := 108) (t_108 _) rfl r_108 dX0_fewestOf_21 ?_
    exact s_iret (pc := 22) dX0_fewestOf_22 rfl (fun h => h)
  refine s_sipush (pc := 5) dX0_fewestOf_5 ?_
  refine s_goto (pc := 8) (tgt := 22) dX0_fewestOf_8 rfl ?_
  exact s_iret (pc := 22) dX0_fewestOf_22 rfl (fun h => h)
theorem kX0_fewestOf {G : GG} {sz : Nat} {sl : Nat} {td : TT} (a1 : Int) (a2 : Int) (a3 : Int) (c : CC) (x : Int) (h : fX0_fewestOf a1 a2 a3 c = some x) : Ct G yX0_fewestOf muX0_fewestOf [(2, 43), (0, a1), (0, a2), (0, a3)] (sz, sl, tt td, cv c) ((0, x), (sz, sl, tt td, cv c)) :=
  Ct.of (n := 0) (ls0 := [some (2, 43), some (0, a1), some (0, a2), some (0, a3)]) (by decide) rfl rfl ⟨show (some .int : Option FieldType) ≠ some .float by decide, show (some .int : Option FieldType) ≠ some .double by decide⟩ (Nat.le_of_ble_eq_true rfl) rfl ⟨Nat.le_refl _, Nat.le_refl _⟩ (show (0 : Nat) ≠ 9 by decide) (fun Γ => sX0_fewestOf a1 a2 a3 c x h rfl)
abbrev muX0_thing : MI := (cX0_thing, RX0, 6, some .int, 3, "thing")
abbrev gX0_thing_l3 (G : GG) (Γ : Cx) (r : Vv × Wd) (sz sl : Nat) (td : TT) (c : CC) (v1 : Int) (v2 : Int) (v3 : Int) (v4 : Int) : (Int) → Prop := fun s => WP G Γ muX0_thing r 3 [some (2, 43), some (0, v1), some (2, v2), some (0, v3), some (0, v4), some (0, s)] [] (sz, sl, tt td, cv c)
abbrev eX0_thing_l3 (G : GG) (Γ : Cx) (r : Vv × Wd) (sz sl : Nat) (td : TT) (c : CC) (v1 : Int) (v2 : Int) (v3 : Int) (v4 : Int) : ((Int) ⊕ (Unit)) → Prop := (Sum.elim (fun s => WP G Γ muX0_thing r 25 [some (2, 43), some (0, v1), none, none, none, some (0, s)] [] (sz, sl, tt td, cv c)) (fun s => WP G Γ muX0_thing r 46 [none, none, none, none, none, none] [] (sz, sl, tt td, cv c)))
noncomputable def fX0_thing_l3 (v1 : Int) (v2 : Int) (v3 : Int) (v4 : Int) (v5 : Int) (td : TT) (c : CC) : Option ((Int) ⊕ ((Int) ⊕ (Unit))) :=
  cl (fV_takes v2 v3 td c) fun p_1 =>
   if v5 < p_1 then
  (cl (fV_part v2 v3 v5 td c) fun p_2 =>
   if p_2 = v4 then
  (some (.inr (.inl v5)))
  else
  (gd (inR (v5 + 1)) <| bd (v5 + 1) fun v5_3 =>
   some (.inl v5_3)))
  else
  (some (.inr (.inr ())))
theorem sX0_thing_l3 {G : GG} {Γ : Cx} {r : Vv × Wd} {sz : Nat} {sl : Nat} (v1 : Int) (v2 : Int) (v3 : Int) (v4 : Int) (v5 : Int) (td : TT) (c : CC) : Sm (fX0_thing_l3 v1 v2 v3 v4 v5 td c) (fun x => Sum.elim (gX0_thing_l3 G Γ r sz sl td c v1 v2 v3 v4) (eX0_thing_l3 G Γ r sz sl td c v1 v2 v3 v4) x) (gX0_thing_l3 G Γ r sz sl td c v1 v2 v3 v4 v5) := by
  show Sm _ _ (WP G Γ muX0_thing r 3 [some (2, 43), some (0, v1), some (2, v2), some (0, v3), some (0, v4), some (0, v5)] [] (sz, sl, tt td, cv c))
  unfold fX0_thing_l3
  refine s_iload (pc := 3) dX0_thing_3 rfl ?_
  refine s_aload_n (pc := 5) dX0_thing_5 rfl ?_
  refine s_iload_n (pc := 6) dX0_thing_6 rfl ?_
  refine s_callU (pc := 7) (z := v2) (as := [(0, v3)]) (st := [(0, v5)]) (rv := fun b => ((0, b), (sz, sl, tt td, cv c))) (st3 := fun b => [(0, b), (0, v5)]) (w3 := fun b => (sz, sl, tt td, cv c)) rfl rfl (fun b h => vdX0_167 v2 v3 td c b h (by decide)) (Nat.le_of_ble_eq_true rfl) (fun _ => Nat.le_of_ble_eq_true rfl) (fun _ => ⟨rfl, rfl⟩) dX0_thing_7 (fun p_1 => ?_)
  refine s_icmp_ge (pc := 10) (tgt := 46) dX0_thing_10 rfl ?_ ?_
  · refine s_wk [false, false, false, false, false, false] (ls' := [none, none, none, none, none, none]) rfl ?_
    exact Sm.some (fun h => h)
  refine s_aload_n (pc := 13) dX0_thing_13 rfl ?_
  refine s_iload_n (pc := 14) dX0_thing_14 rfl ?_
  refine s_iload (pc := 15) dX0_thing_15 rfl ?_
  refine s_callU (pc := 17) (z := v2) (as := [(0, v3), (0, v5)]) (st := []) (rv := fun b => ((0, b), (sz, sl, tt td, cv c))) (st3 := fun b => [(0, b)]) (w3 := fun b => (sz, sl, tt td, cv c)) rfl rfl (fun b h => vdX0_268 v2 v3 v5 td c b h (by decide)) (Nat.le_of_ble_eq_true rfl) (fun _ => Nat.le_of_ble_eq_true rfl) (fun _ => ⟨rfl, rfl⟩) dX0_thing_17 (fun p_2 => ?_)
  refine s_iload (pc := 20) dX0_thing_20 rfl ?_
  refine s_icmp_ne (pc := 22) (tgt := 40) dX0_thing_22 rfl ?_ ?_
  · refine s_iinc (pc := 40) (lf := fun x => [some (2, 43), some (0, v1), some (2, v2), some (0, v3), some (0, v4), some (0, x)]) dX0_thing_40 rfl (fun _ => rfl) (Nat.le_of_ble_eq_true rfl) (fun v5_3 => ?_)
    refine s_goto (pc := 43) (tgt := 3) dX0_thing_43 rfl ?_
    exact Sm.some (fun h => h)
  refine s_wk [true, true, false, false, false, true] (ls' := [some (2, 43), some (0, v1), none, none, none, some (0, v5)]) rfl ?_
  exact Sm.some (fun h => h)
noncomputable def fX0_thing (a1 : Int) (a2 : Int) (a3 : Int) (a4 : Int) (td : TT) (c : CC) : Option Int :=
  cl (wh (fun s => fX0_thing_l3 a1 a2 a3 a4 s td c) 0) (Sum.elim (fun e_4 =>
  gd ((0 : Int) ≤ a1 ∧ a1 < 8001) <|
   gd (inR ((c 101 (Int.toNat a1)) + e_4)) <|
   gd ((0 : Int) ≤ (c 101 (Int.toNat a1)) + e_4 ∧ (c 101 (Int.toNat a1)) + e_4 < 16000) <|
   some (c 102 (Int.toNat ((c 101 (Int.toNat a1)) + e_4)))) (fun e_5 =>
  some (-1)))
theorem sX0_thing {G : GG} {Γ : Cx} {r : Vv × Wd} {sz : Nat} {sl : Nat} (a1 : Int) (a2 : Int) (a3 : Int) (a4 : Int) (td : TT) (c : CC) : Sm (fX0_thing a1 a2 a3 a4 td c) (fun x => r = ((0, x), (sz, sl, tt td, cv c))) (WP G Γ muX0_thing r 0 [some (2, 43), some (0, a1), some (2, a2), some (0, a3), some (0, a4), none] [] (sz, sl, tt td, cv c)) := by
  unfold fX0_thing
  refine s_iconst (pc := 0) dX0_thing_0 ?_
  refine s_istoreD (pc := 1) (ls' := [some (2, 43), some (0, a1), some (2, a2), some (0, a3), some (0, a4), some (0, 0)]) dX0_thing_1 rfl (Nat.le_of_ble_eq_true rfl) ?_
  refine s_loop (g := gX0_thing_l3 G Γ r sz sl td c a1 a2 a3 a4) (Ex := eX0_thing_l3 G Γ r sz sl td c a1 a2 a3 a4) (s0 := 0) (fun s => sX0_thing_l3 a1 a2 a3 a4 s td c) ?_
  refine s_elim ?_ ?_
  · intro e_4
    show Sm _ _ (WP G Γ muX0_thing r 25 [some (2, 43), some (0, a1), none, none, none, some (0, e_4)] [] (sz, sl, tt td, cv c))
    refine s_aload_n (pc := 25) dX0_thing_25 rfl ?_
    refine s_get (pc := 26) (a := 43) (v := 102) flX0_95 (t_43 _) rfl (g_43_29 _) rfl dX0_thing_26 ?_
    refine s_aload_n (pc := 29) dX0_thing_29 rfl ?_
    refine s_get (pc := 30) (a := 43) (v := 101) flX0_92 (t_43 _) rfl (g_43_28 _) rfl dX0_thing_30 ?_
    refine s_iload_n (pc := 33) dX0_thing_33 rfl ?_
    refine s_ialdM (pc := 34) (a := 101) (t_101 _) rfl r_101 dX0_thing_34 ?_
    refine s_iload (pc := 35) dX0_thing_35 rfl ?_
    refine s_iadd (pc := 37) dX0_thing_37 ?_
    refine s_ialdM (pc := 38) (a := 102) (t_102 _) rfl r_102 dX0_thing_38 ?_
    exact s_iret (pc := 39) dX0_thing_39 rfl (fun h => h)
  intro e_5
  show Sm _ _ (WP G Γ muX0_thing r 46 [none, none, none, none, none, none] [] (sz, sl, tt td, cv c))
  refine s_iconst (pc := 46) dX0_thing_46 ?_
  exact s_iret (pc := 47) dX0_thing_47 rfl (fun h => h)
theorem kX0_thing {G : GG} {sz : Nat} {sl : Nat} (a1 : Int) (a2 : Int) (a3 : Int) (a4 : Int) (td : TT) (c : CC) (x : Int) (h : fX0_thing a1 a2 a3 a4 td c = some x) : Ct G yX0_thing muX0_thing [(2, 43), (0, a1), (2, a2), (0, a3), (0, a4)] (sz, sl, tt td, cv c) ((0, x), (sz, sl, tt td, cv c)) :=
  Ct.of (n := 1) (ls0 := [some (2, 43), some (0, a1), some (2, a2), some (0, a3), some (0, a4), none]) (by decide) rfl rfl ⟨show (some .int : Option FieldType) ≠ some .float by decide, show (some .int : Option FieldType) ≠ some .double by decide⟩ (Nat.le_of_ble_eq_true rfl) rfl ⟨Nat.le_refl _, Nat.le_refl _⟩ (show (0 : Nat) ≠ 9 by decide) (fun Γ => sX0_thing a1 a2 a3 a4 td c x h rfl)
abbrev muX0_meantBy : MI := (cX0_meantBy, RX0, 4, some .int, 2, "meantBy")
noncomputable def fX0_meantBy (a1 : Int) (a2 : Int) (td : TT) (c : CC) : Option Int :=
  cl (fV_sort a1  td c) fun p_1 =>
   gd ((0 : Int) ≤ a2 ∧ a2 < 8000) <|
   if p_1 = c 99 (Int.toNat a2) then
  (gd ((0 : Int) ≤ a1 ∧ 6 ≤ (tt td (Int.toNat a1)).1 ∧ (tt td (Int.toNat a1)).1 ≤ 10) <|
   gd ((0 : Int) ≤ a2 ∧ a2 < 8000) <|
   if cv c (Int.toNat a1) 3 = c 100 (Int.toNat a2) then
  (gd (inR (a2 + 1)) <|
   gd ((0 : Int) ≤ a2 + 1 ∧ a2 + 1 < 8001) <|
   gd ((0 : Int) ≤ a2 ∧ a2 < 8001) <|
   gd (inR ((c 101 (Int.toNat (a2 + 1))) - (c 101 (Int.toNat a2)))) <|
   bd ((c 101 (Int.toNat (a2 + 1))) - (c 101 (Int.toNat a2))) fun v3_2 =>
   cl (fV_sort a1  td c) fun p_3 =>
   if p_3 = 2 then
  (some v3_2)
  else
  (cl (fV_sort a1  td c) fun p_4 =>
   if p_4 = 3 then
  (gd ((2 : Int) ≠ 0 ∧ inR (Int.tdiv v3_2 2)) <|
   some (Int.tdiv v3_2 2))
  else
  (some 1)))
  else
  (some 0))
  else
  (some 0)
theorem sX0_meantBy {G : GG} {Γ : Cx} {r : Vv × Wd} {sz : Nat} {sl : Nat} (a1 : Int) (a2 : Int) (td : TT) (c : CC) : Sm (fX0_meantBy a1 a2 td c) (fun x => r = ((0, x), (sz, sl, tt td, cv c))) (WP G Γ muX0_meantBy r 0 [some (2, 43), some (2, a1), some (0, a2), none] [] (sz, sl, tt td, cv c)) := by
  unfold fX0_meantBy
  refine s_aload_n (pc := 0) dX0_meantBy_0 rfl ?_
  refine s_callU (pc := 1) (z := a1) (as := []) (st := []) (rv := fun b => ((0, b), (sz, sl, tt td, cv c))) (st3 := fun b => [(0, b)]) (w3 := fun b => (sz, sl, tt td, cv c)) rfl rfl (fun b h => vdX0_178 a1  td c b h (by decide)) (Nat.le_of_ble_eq_true rfl) (fun _ => Nat.le_of_ble_eq_true rfl) (fun _ => ⟨rfl, rfl⟩) dX0_meantBy_1 (fun p_1 => ?_)
  refine s_aload_n (pc := 4) dX0_meantBy_4 rfl ?_
  refine s_get (pc := 5) (a := 43) (v := 99) flX0_86 (t_43 _) rfl (g_43_26 _) rfl dX0_meantBy_5 ?_
  refine s_iload_n (pc := 8) dX0_meantBy_8 rfl ?_
  refine s_ialdM (pc := 9) (a := 99) (t_99 _) rfl r_99 dX0_meantBy_9 ?_
  refine s_icmp_ne (pc := 10) (tgt := 26) dX0_meantBy_10 rfl ?_ ?_
  · refine s_iconst (pc := 26) dX0_meantBy_26 ?_
    exact s_iret (pc := 27) dX0_meantBy_27 rfl (fun h => h)
  refine s_aload_n (pc := 13) dX0_meantBy_13 rfl ?_
  refine s_getS (pc := 14) fsX0_271 dX0_meantBy_14 ?_
  refine s_aload_n (pc := 17) dX0_meantBy_17 rfl ?_
  refine s_get (pc := 18) (a := 43) (v := 100) flX0_89 (t_43 _) rfl (g_43_27 _) rfl dX0_meantBy_18 ?_
  refine s_iload_n (pc := 21) dX0_meantBy_21 rfl ?_
  refine s_ialdM (pc := 22) (a := 100) (t_100 _) rfl r_100 dX0_meantBy_22 ?_
  refine s_icmp_eq (pc := 23) (tgt := 28) dX0_meantBy_23 rfl ?_ ?_
  · refine s_aload_n (pc := 28) dX0_meantBy_28 rfl ?_
    refine s_get (pc := 29) (a := 43) (v := 101) flX0_92 (t_43 _) rfl (g_43_28 _) rfl dX0_meantBy_29 ?_
    refine s_iload_n (pc := 32) dX0_meantBy_32 rfl ?_
    refine s_iconst (pc := 33) dX0_meantBy_33 ?_
    refine s_iadd (pc := 34) dX0_meantBy_34 ?_
    refine s_ialdM (pc := 35) (a := 101) (t_101 _) rfl r_101 dX0_meantBy_35 ?_
    refine s_aload_n (pc := 36) dX0_meantBy_36 rfl ?_
    refine s_get (pc := 37) (a := 43) (v := 101) flX0_92 (t_43 _) rfl (g_43_28 _) rfl dX0_meantBy_37 ?_
    refine s_iload_n (pc := 40) dX0_meantBy_40 rfl ?_
    refine s_ialdM (pc := 41) (a := 101) (t_101 _) rfl r_101 dX0_meantBy_41 ?_
    refine s_isub (pc := 42) dX0_meantBy_42 ?_
    refine s_istore_n (pc := 43) (lf := fun x => [some (2, 43), some (2, a1), some (0, a2), some (0, x)]) dX0_meantBy_43 (fun _ => rfl) (Nat.le_of_ble_eq_true rfl) (fun v3_2 => ?_)
    refine s_aload_n (pc := 44) dX0_meantBy_44 rfl ?_
    refine s_callU (pc := 45) (z := a1) (as := []) (st := []) (rv := fun b => ((0, b), (sz, sl, tt td, cv c))) (st3 := fun b => [(0, b)]) (w3 := fun b => (sz, sl, tt td, cv c)) rfl rfl (fun b h => vdX0_178 a1  td c b h (by decide)) (Nat.le_of_ble_eq_true rfl) (fun _ => Nat.le_of_ble_eq_true rfl) (fun _ => ⟨rfl, rfl⟩) dX0_meantBy_45 (fun p_3 => ?_)
    refine s_iconst (pc := 48) dX0_meantBy_48 ?_
    refine s_icmp_ne (pc := 49) (tgt := 56) dX0_meantBy_49 rfl ?_ ?_
    · refine s_aload_n (pc := 56) dX0_meantBy_56 rfl ?_
      refine s_callU (pc := 57) (z := a1) (as := []) (st := []) (rv := fun b => ((0, b), (sz, sl, tt td, cv c))) (st3 := fun b => [(0, b)]) (w3 := fun b => (sz, sl, tt td, cv c)) rfl rfl (fun b h => vdX0_178 a1  td c b h (by decide)) (Nat.le_of_ble_eq_true rfl) (fun _ => Nat.le_of_ble_eq_true rfl) (fun _ => ⟨rfl, rfl⟩) dX0_meantBy_57 (fun p_4 => ?_)
      refine s_iconst (pc := 60) dX0_meantBy_60 ?_
      refine s_icmp_ne (pc := 61) (tgt := 70) dX0_meantBy_61 rfl ?_ ?_
      · refine s_iconst (pc := 70) dX0_meantBy_70 ?_
        exact s_iret (pc := 71) dX0_meantBy_71 rfl (fun h => h)
      refine s_iload_n (pc := 64) dX0_meantBy_64 rfl ?_
      refine s_iconst (pc := 65) dX0_meantBy_65 ?_
      refine s_idiv (pc := 66) dX0_meantBy_66 ?_
      refine s_goto (pc := 67) (tgt := 71) dX0_meantBy_67 rfl ?_
      exact s_iret (pc := 71) dX0_meantBy_71 rfl (fun h => h)
    refine s_iload_n (pc := 52) dX0_meantBy_52 rfl ?_
    refine s_goto (pc := 53) (tgt := 71) dX0_meantBy_53 rfl ?_
    exact s_iret (pc := 71) dX0_meantBy_71 rfl (fun h => h)
  refine s_iconst (pc := 26) dX0_meantBy_26 ?_
  exact s_iret (pc := 27) dX0_meantBy_27 rfl (fun h => h)
theorem kX0_meantBy {G : GG} {sz : Nat} {sl : Nat} (a1 : Int) (a2 : Int) (td : TT) (c : CC) (x : Int) (h : fX0_meantBy a1 a2 td c = some x) : Ct G yX0_meantBy muX0_meantBy [(2, 43), (2, a1), (0, a2)] (sz, sl, tt td, cv c) ((0, x), (sz, sl, tt td, cv c)) :=
  Ct.of (n := 1) (ls0 := [some (2, 43), some (2, a1), some (0, a2), none]) (by decide) rfl rfl ⟨show (some .int : Option FieldType) ≠ some .float by decide, show (some .int : Option FieldType) ≠ some .double by decide⟩ (Nat.le_of_ble_eq_true rfl) rfl ⟨Nat.le_refl _, Nat.le_refl _⟩ (show (0 : Nat) ≠ 9 by decide) (fun Γ => sX0_meantBy a1 a2 td c x h rfl)
theorem mvX0_360 : MV RX0 360 RX0 yX0_thing muX0_thing 4 := ⟨lw_V q1182 q1184 qs49 q125 q1185, by decide +kernel, Nat.le_of_ble_eq_true rfl⟩
theorem mvX0_357 : MV RX0 357 RX0 yX0_fewestOf muX0_fewestOf 3 := ⟨lw_V q1168 q1170 qs47 q125 q1171, by decide +kernel, Nat.le_of_ble_eq_true rfl⟩
theorem flX0_116 : FL RX0 116 0 38 := ⟨_, _, _, cf0, by decide, q251⟩
abbrev muJ8_bitCount : MI := (cJ8_bitCount, RJ8, 1, some .int, 1, "bitCount")
noncomputable def fJ8_bitCount (a0 : Int)  : Option Int :=
  gd (inR (a0 - (andI (ushrI a0 1) 1431655765))) <|
   bd (a0 - (andI (ushrI a0 1) 1431655765)) fun v0_1 =>
   gd (inR ((andI v0_1 858993459) + (andI (ushrI v0_1 2) 858993459))) <|
   bd ((andI v0_1 858993459) + (andI (ushrI v0_1 2) 858993459)) fun v0_2 =>
   gd (inR (v0_2 + (ushrI v0_2 4))) <|
   bd (andI (v0_2 + (ushrI v0_2 4)) 252645135) fun v0_3 =>
   gd (inR (v0_3 + (ushrI v0_3 8))) <|
   bd (v0_3 + (ushrI v0_3 8)) fun v0_4 =>
   gd (inR (v0_4 + (ushrI v0_4 16))) <|
   bd (v0_4 + (ushrI v0_4 16)) fun v0_5 =>
   some (andI v0_5 63)
theorem sJ8_bitCount {G : GG} {Γ : Cx} {r : Vv × Wd} {sz : Nat} {sl : Nat} {td : TT} (a0 : Int) (c : CC) : Sm (fJ8_bitCount a0 ) (fun x => r = ((0, x), (sz, sl, tt td, cv c))) (WP G Γ muJ8_bitCount r 0 [some (0, a0)] [] (sz, sl, tt td, cv c)) := by
  unfold fJ8_bitCount
  refine s_iload_n (pc := 0) dJ8_bitCount_0 rfl ?_
  refine s_iload_n (pc := 1) dJ8_bitCount_1 rfl ?_
  refine s_iconst (pc := 2) dJ8_bitCount_2 ?_
  refine s_iushr (pc := 3) dJ8_bitCount_3 ?_
  refine s_ldcw (pc := 4) (z := 1431655765) q1179 dJ8_bitCount_4 ?_
  refine s_iand (pc := 7) dJ8_bitCount_7 ?_
  refine s_isub (pc := 8) dJ8_bitCount_8 ?_
  refine s_istore_n (pc := 9) (lf := fun x => [some (0, x)]) dJ8_bitCount_9 (fun _ => rfl) (Nat.le_of_ble_eq_true rfl) (fun v0_1 => ?_)
  refine s_iload_n (pc := 10) dJ8_bitCount_10 rfl ?_
  refine s_ldcw (pc := 11) (z := 858993459) q1180 dJ8_bitCount_11 ?_
  refine s_iand (pc := 14) dJ8_bitCount_14 ?_
  refine s_iload_n (pc := 15) dJ8_bitCount_15 rfl ?_
  refine s_iconst (pc := 16) dJ8_bitCount_16 ?_
  refine s_iushr (pc := 17) dJ8_bitCount_17 ?_
  refine s_ldcw (pc := 18) (z := 858993459) q1180 dJ8_bitCount_18 ?_
  refine s_iand (pc := 21) dJ8_bitCount_21 ?_
  refine s_iadd (pc := 22) dJ8_bitCount_22 ?_
  refine s_istore_n (pc := 23) (lf := fun x => [some (0, x)]) dJ8_bitCount_23 (fun _ => rfl) (Nat.le_of_ble_eq_true rfl) (fun v0_2 => ?_)
  refine s_iload_n (pc := 24) dJ8_bitCount_24 rfl ?_
  refine s_iload_n (pc := 25) dJ8_bitCount_25 rfl ?_
  refine s_iconst (pc := 26) dJ8_bitCount_26 ?_
  refine s_iushr (pc := 27) dJ8_bitCount_27 ?_
  refine s_iadd (pc := 28) dJ8_bitCount_28 ?_
  refine s_ldcw (pc := 29) (z := 252645135) q1181 dJ8_bitCount_29 ?_
  refine s_iand (pc := 32) dJ8_bitCount_32 ?_
  refine s_istore_n (pc := 33) (lf := fun x => [some (0, x)]) dJ8_bitCount_33 (fun _ => rfl) (Nat.le_of_ble_eq_true rfl) (fun v0_3 => ?_)
  refine s_iload_n (pc := 34) dJ8_bitCount_34 rfl ?_
  refine s_iload_n (pc := 35) dJ8_bitCount_35 rfl ?_
  refine s_bipush (pc := 36) dJ8_bitCount_36 ?_
  refine s_iushr (pc := 38) dJ8_bitCount_38 ?_
  refine s_iadd (pc := 39) dJ8_bitCount_39 ?_
  refine s_istore_n (pc := 40) (lf := fun x => [some (0, x)]) dJ8_bitCount_40 (fun _ => rfl) (Nat.le_of_ble_eq_true rfl) (fun v0_4 => ?_)
  refine s_iload_n (pc := 41) dJ8_bitCount_41 rfl ?_
  refine s_iload_n (pc := 42) dJ8_bitCount_42 rfl ?_
  refine s_bipush (pc := 43) dJ8_bitCount_43 ?_
  refine s_iushr (pc := 45) dJ8_bitCount_45 ?_
  refine s_iadd (pc := 46) dJ8_bitCount_46 ?_
  refine s_istore_n (pc := 47) (lf := fun x => [some (0, x)]) dJ8_bitCount_47 (fun _ => rfl) (Nat.le_of_ble_eq_true rfl) (fun v0_5 => ?_)
  refine s_iload_n (pc := 48) dJ8_bitCount_48 rfl ?_
  refine s_bipush (pc := 49) dJ8_bitCount_49 ?_
  refine s_iand (pc := 51) dJ8_bitCount_51 ?_
  exact s_iret (pc := 52) dJ8_bitCount_52 rfl (fun h => h)
theorem kJ8_bitCount {G : GG} {sz : Nat} {sl : Nat} {td : TT} (a0 : Int) (c : CC) (x : Int) (h : fJ8_bitCount a0  = some x) : Ct G yJ8_bitCount muJ8_bitCount [(0, a0)] (sz, sl, tt td, cv c) ((0, x), (sz, sl, tt td, cv c)) :=
  Ct.of (n := 0) (ls0 := [some (0, a0)]) (by decide) rfl rfl ⟨show (some .int : Option FieldType) ≠ some .float by decide, show (some .int : Option FieldType) ≠ some .double by decide⟩ (Nat.le_of_ble_eq_true rfl) rfl ⟨Nat.le_refl _, Nat.le_refl _⟩ (show (0 : Nat) ≠ 9 by decide) (fun Γ => sJ8_bitCount a0 c x h rfl)
theorem msX0_352 : MS RX0 352 yJ8_bitCount muJ8_bitCount 1 := ⟨lw_S q1176 q1177 q154 q1178, by decide +kernel, by decide⟩
abbrev muX0_directly : MI := (cX0_directly, RX0, 9, some .int, 4, "directly")
abbrev gX0_directly_l165 (G : GG) (Γ : Cx) (r : Vv × Wd) (sz sl : Nat) (td : TT) (c : CC) (v1 : Int) (v2 : Int) (v3 : Int) (v4 : Int) : (Int × Int) → Prop := fun s => WP G Γ muX0_directly r 165 [some (2, 43), some (0, v1), some (2, v2), some (0, v3), some (0, v4), some (0, s.1), some (0, s.2), none, none] [] (sz, sl, tt td, cv c)
abbrev eX0_directly_l165 (G : GG) (Γ : Cx) (r : Vv × Wd) (sz sl : Nat) (td : TT) (c : CC) (v1 : Int) (v2 : Int) (v3 : Int) (v4 : Int) : (Int) → Prop := (fun s => WP G Γ muX0_directly r 211 [none, none, none, none, none, some (0, s), none, none, none] [] (sz, sl, tt td, cv c))
noncomputable def fX0_directly_l165 (v1 : Int) (v2 : Int) (v3 : Int) (v4 : Int) (v5 : Int) (v6 : Int) (td : TT) (c : CC) : Option ((Int × Int) ⊕ (Int)) :=
  cl (fV_takes v2 v3 td c) fun p_2 =>
   if v6 < p_2 then
  (cl (fX0_thing v1 v2 v3 v6 td c) fun p_3 =>
   cl (fV_kind v2 v3 v6 td c) fun p_4 =>
   gd (inR (v4 - v6)) <|
   cl (fX0_fewestOf p_3 p_4 (v4 - v6) c) fun p_5 =>
   gd (inR (v5 + p_5)) <|
   bd (v5 + p_5) fun v5_6 =>
   gd (inR (v6 + 1)) <| bd (v6 + 1) fun v6_7 =>
   some (.inl (v5_6, v6_7)))
  else
  (some (.inr v5))
theorem sX0_directly_l165 {G : GG} {Γ : Cx} {r : Vv × Wd} {sz : Nat} {sl : Nat} (v1 : Int) (v2 : Int) (v3 : Int) (v4 : Int) (v5 : Int) (v6 : Int) (td : TT) (c : CC) : Sm (fX0_directly_l165 v1 v2 v3 v4 v5 v6 td c) (fun x => Sum.elim (gX0_directly_l165 G Γ r sz sl td c v1 v2 v3 v4) (eX0_directly_l165 G Γ r sz sl td c v1 v2 v3 v4) x) (gX0_directly_l165 G Γ r sz sl td c v1 v2 v3 v4 (v5, v6)) := by
  show Sm _ _ (WP G Γ muX0_directly r 165 [some (2, 43), some (0, v1), some (2, v2), some (0, v3), some (0, v4), some (0, v5), some (0, v6), none, none] [] (sz, sl, tt td, cv c))
  unfold fX0_directly_l165
  refine s_iload (pc := 165) dX0_directly_165 rfl ?_
  refine s_aload_n (pc := 167) dX0_directly_167 rfl ?_
  refine s_iload_n (pc := 168) dX0_directly_168 rfl ?_
  refine s_callU (pc := 169) (z := v2) (as := [(0, v3)]) (st := [(0, v6)]) (rv := fun b => ((0, b), (sz, sl, tt td, cv c))) (st3 := fun b => [(0, b), (0, v6)]) (w3 := fun b => (sz, sl, tt td, cv c)) rfl rfl (fun b h => vdX0_167 v2 v3 td c b h (by decide)) (Nat.le_of_ble_eq_true rfl) (fun _ => Nat.le_of_ble_eq_true rfl) (fun _ => ⟨rfl, rfl⟩) dX0_directly_169 (fun p_2 => ?_)
  refine s_icmp_ge (pc := 172) (tgt := 211) dX0_directly_172 rfl ?_ ?_
  · refine s_wk [false, false, false, false, false, true, false, true, true] (ls' := [none, none, none, none, none, some (0, v5), none, none, none]) rfl ?_
    exact Sm.some (fun h => h)
  refine s_iload (pc := 175) dX0_directly_175 rfl ?_
  refine s_aload_n (pc := 177) dX0_directly_177 rfl ?_
  refine s_aload_n (pc := 178) dX0_directly_178 rfl ?_
  refine s_iload_n (pc := 179) dX0_directly_179 rfl ?_
  refine s_aload_n (pc := 180) dX0_directly_180 rfl ?_
  refine s_iload_n (pc := 181) dX0_directly_181 rfl ?_
  refine s_iload (pc := 182) dX0_directly_182 rfl ?_
  refine s_callV3 (pc := 184) (a := 43) (as := [(0, v1), (2, v2), (0, v3), (0, v6)]) (st := [(2, 43), (0, v5)]) (rv := fun b => ((0, b), (sz, sl, tt td, cv c))) (st3 := fun b => [(0, b), (2, 43), (0, v5)]) (w3 := fun b => (sz, sl, tt td, cv c)) mvX0_360 (fun b h => kX0_thing v1 v2 v3 v6 td c b h) rfl (by decide) (t_43 td) rfl rfl rfl (Nat.le_of_ble_eq_true rfl) (fun _ => Nat.le_of_ble_eq_true rfl) (fun _ => ⟨rfl, rfl⟩) dX0_directly_184 (fun p_3 => ?_)
  refine s_aload_n (pc := 187) dX0_directly_187 rfl ?_
  refine s_iload_n (pc := 188) dX0_directly_188 rfl ?_
  refine s_iload (pc := 189) dX0_directly_189 rfl ?_
  refine s_callU (pc := 191) (z := v2) (as := [(0, v3), (0, v6)]) (st := [(0, p_3), (2, 43), (0, v5)]) (rv := fun b => ((0, b), (sz, sl, tt td, cv c))) (st3 := fun b => [(0, b), (0, p_3), (2, 43), (0, v5)]) (w3 := fun b => (sz, sl, tt td, cv c)) rfl rfl (fun b h => vdX0_175 v2 v3 v6 td c b h (by decide)) (Nat.le_of_ble_eq_true rfl) (fun _ => Nat.le_of_ble_eq_true rfl) (fun _ => ⟨rfl, rfl⟩) dX0_directly_191 (fun p_4 => ?_)
  refine s_iload (pc := 194) dX0_directly_194 rfl ?_
  refine s_iload (pc := 196) dX0_directly_196 rfl ?_
  refine s_isub (pc := 198) dX0_directly_198 ?_
  refine s_callV3 (pc := 199) (a := 43) (as := [(0, p_3), (0, p_4), (0, v4 - v6)]) (st := [(0, v5)]) (rv := fun b => ((0, b), (sz, sl, tt td, cv c))) (st3 := fun b => [(0, b), (0, v5)]) (w3 := fun b => (sz, sl, tt td, cv c)) mvX0_357 (fun b h => kX0_fewestOf p_3 p_4 (v4 - v6) c b h) rfl (by decide) (t_43 td) rfl rfl rfl (Nat.le_of_ble_eq_true rfl) (fun _ => Nat.le_of_ble_eq_true rfl) (fun _ => ⟨rfl, rfl⟩) dX0_directly_199 (fun p_5 => ?_)
  refine s_iadd (pc := 202) dX0_directly_202 ?_
  refine s_istore (pc := 203) (lf := fun x => [some (2, 43), some (0, v1), some (2, v2), some (0, v3), some (0, v4), some (0, x), some (0, v6), none, none]) dX0_directly_203 (fun _ => rfl) (Nat.le_of_ble_eq_true rfl) (fun v5_6 => ?_)
  refine s_iinc (pc := 205) (lf := fun x => [some (2, 43), some (0, v1), some (2, v2), some (0, v3), some (0, v4), some (0, v5_6), some (0, x), none, none]) dX0_directly_205 rfl (fun _ => rfl) (Nat.le_of_ble_eq_true rfl) (fun v6_7 => ?_)
  refine s_goto (pc := 208) (tgt := 165) dX0_directly_208 rfl ?_
  exact Sm.some (fun h => h)
abbrev gX0_directly_l51 (G : GG) (Γ : Cx) (r : Vv × Wd) (sz sl : Nat) (td : TT) (c : CC) (v1 : Int) (v2 : Int) (v3 : Int) (v4 : Int) (v5 : Int) (v6 : Int) (v7 : Int) : (Int × CC) → Prop := fun s => WP G Γ muX0_directly r 51 [some (2, 43), some (0, v1), some (2, v2), some (0, v3), some (0, v4), some (0, v5), some (0, v6), some (0, v7), some (0, s.1)] [] (sz, sl, tt td, cv s.2)
abbrev eX0_directly_l51 (G : GG) (Γ : Cx) (r : Vv × Wd) (sz sl : Nat) (td : TT) (c : CC) (v1 : Int) (v2 : Int) (v3 : Int) (v4 : Int) (v5 : Int) (v6 : Int) (v7 : Int) : (CC) → Prop := (fun s => WP G Γ muX0_directly r 136 [some (2, 43), some (0, v1), some (2, v2), some (0, v3), some (0, v4), some (0, v5), some (0, v6), none, none] [] (sz, sl, tt td, cv s))
noncomputable def fX0_directly_l51 (v1 : Int) (v2 : Int) (v3 : Int) (v4 : Int) (v5 : Int) (v6 : Int) (v7 : Int) (v8 : Int) (td : TT) (c : CC) : Option ((Int × CC) ⊕ (CC)) :=
  if v8 < v3 then
  (if andI (shrI v6 v8) 1 = 1 then
  (gd ((0 : Int) ≤ v6 ∧ v6 < 32) <|
   gd ((0 : Int) ≤ andI v6 (xorI (shlI 1 v8) (-1)) ∧ andI v6 (xorI (shlI 1 v8) (-1)) < 32) <|
   gd ((0 : Int) ≤ v1 ∧ v1 < 8001) <|
   gd (inR ((c 101 (Int.toNat v1)) + v8)) <|
   gd ((0 : Int) ≤ (c 101 (Int.toNat v1)) + v8 ∧ (c 101 (Int.toNat v1)) + v8 < 16000) <|
   cl (fV_kind v2 v3 v8 td c) fun p_15 =>
   gd (inR (v4 - v7)) <|
   cl (fX0_fewestOf (c 102 (Int.toNat ((c 101 (Int.toNat v1)) + v8))) p_15 (v4 - v7) c) fun p_16 =>
   gd (inR ((c 109 (Int.toNat (andI v6 (xorI (shlI 1 v8) (-1))))) + p_16)) <|
    gd ((0 : Int) ≤ v6 ∧ v6 < 32) <| bd (up2 c 109 (Int.toNat v6) (min (c 109 (Int.toNat v6)) ((c 109 (Int.toNat (andI v6 (xorI (shlI 1 v8) (-1))))) + p_16))) fun c_18 =>
   gd (inR (v8 + 1)) <| bd (v8 + 1) fun v8_19 =>
   some (.inl (v8_19, c_18)))
  else
  (gd (inR (v8 + 1)) <| bd (v8 + 1) fun v8_14 =>
   some (.inl (v8_14, c))))
  else
  (some (.inr c))
theorem sX0_directly_l51 {G : GG} {Γ : Cx} {r : Vv × Wd} {sz : Nat} {sl : Nat} (v1 : Int) (v2 : Int) (v3 : Int) (v4 : Int) (v5 : Int) (v6 : Int) (v7 : Int) (v8 : Int) (td : TT) (c : CC) : Sm (fX0_directly_l51 v1 v2 v3 v4 v5 v6 v7 v8 td c) (fun x => Sum.elim (gX0_directly_l51 G Γ r sz sl td c v1 v2 v3 v4 v5 v6 v7) (eX0_directly_l51 G Γ r sz sl td c v1 v2 v3 v4 v5 v6 v7) x) (gX0_directly_l51 G Γ r sz sl td c v1 v2 v3 v4 v5 v6 v7 (v8, c)) := by
  show Sm _ _ (WP G Γ muX0_directly r 51 [some (2, 43), some (0, v1), some (2, v2), some (0, v3), some (0, v4), some (0, v5), some (0, v6), some (0, v7), some (0, v8)] [] (sz, sl, tt td, cv c))
  unfold fX0_directly_l51
  refine s_iload (pc := 51) dX0_directly_51 rfl ?_
  refine s_iload_n (pc := 53) dX0_directly_53 rfl ?_
  refine s_icmp_ge (pc := 54) (tgt := 136) dX0_directly_54 rfl ?_ ?_
  · refine s_wk [true, true, true, true, true, true, true, false, false] (ls' := [some (2, 43), some (0, v1), some (2, v2), some (0, v3), some (0, v4), some (0, v5), some (0, v6), none, none]) rfl ?_
    exact Sm.some (fun h => h)
  refine s_iload (pc := 57) dX0_directly_57 rfl ?_
  refine s_iload (pc := 59) dX0_directly_59 rfl ?_
  refine s_ishr (pc := 61) dX0_directly_61 ?_
  refine s_iconst (pc := 62) dX0_directly_62 ?_
  refine s_iand (pc := 63) dX0_directly_63 ?_
  refine s_iconst (pc := 64) dX0_directly_64 ?_
  refine s_icmp_ne (pc := 65) (tgt := 130) dX0_directly_65 rfl ?_ ?_
  · refine s_iinc (pc := 130) (lf := fun x => [some (2, 43), some (0, v1), some (2, v2), some (0, v3), some (0, v4), some (0, v5), some (0, v6), some (0, v7), some (0, x)]) dX0_directly_130 rfl (fun _ => rfl) (Nat.le_of_ble_eq_true rfl) (fun v8_14 => ?_)
    refine s_goto (pc := 133) (tgt := 51) dX0_directly_133 rfl ?_
    exact Sm.some (fun h => h)
  refine s_aload_n (pc := 68) dX0_directly_68 rfl ?_
  refine s_get (pc := 69) (a := 43) (v := 109) flX0_116 (t_43 _) rfl (g_43_38 _) rfl dX0_directly_69 ?_
  refine s_iload (pc := 72) dX0_directly_72 rfl ?_
  refine s_aload_n (pc := 74) dX0_directly_74 rfl ?_
  refine s_get (pc := 75) (a := 43) (v := 109) flX0_116 (t_43 _) rfl (g_43_38 _) rfl dX0_directly_75 ?_
  refine s_iload (pc := 78) dX0_directly_78 rfl ?_
  refine s_ialdM (pc := 80) (a := 109) (t_109 _) rfl r_109 dX0_directly_80 ?_
  refine s_aload_n (pc := 81) dX0_directly_81 rfl ?_
  refine s_get (pc := 82) (a := 43) (v := 109) flX0_116 (t_43 _) rfl (g_43_38 _) rfl dX0_directly_82 ?_
  refine s_iload (pc := 85) dX0_directly_85 rfl ?_
  refine s_iconst (pc := 87) dX0_directly_87 ?_
  refine s_iload (pc := 88) dX0_directly_88 rfl ?_
  refine s_ishl (pc := 90) dX0_directly_90 ?_
  refine s_iconst (pc := 91) dX0_directly_91 ?_
  refine s_ixor (pc := 92) dX0_directly_92 ?_
  refine s_iand (pc := 93) dX0_directly_93 ?_
  refine s_ialdM (pc := 94) (a := 109) (t_109 _) rfl r_109 dX0_directly_94 ?_
  refine s_aload_n (pc := 95) dX0_directly_95 rfl ?_
  refine s_aload_n (pc := 96) dX0_directly_96 rfl ?_
  refine s_get (pc := 97) (a := 43) (v := 102) flX0_95 (t_43 _) rfl (g_43_29 _) rfl dX0_directly_97 ?_
  refine s_aload_n (pc := 100) dX0_directly_100 rfl ?_
  refine s_get (pc := 101) (a := 43) (v := 101) flX0_92 (t_43 _) rfl (g_43_28 _) rfl dX0_directly_101 ?_
  refine s_iload_n (pc := 104) dX0_directly_104 rfl ?_
  refine s_ialdM (pc := 105) (a := 101) (t_101 _) rfl r_101 dX0_directly_105 ?_
  refine s_iload (pc := 106) dX0_directly_106 rfl ?_
  refine s_iadd (pc := 108) dX0_directly_108 ?_
  refine s_ialdM (pc := 109) (a := 102) (t_102 _) rfl r_102 dX0_directly_109 ?_
  refine s_aload_n (pc := 110) dX0_directly_110 rfl ?_
  refine s_iload_n (pc := 111) dX0_directly_111 rfl ?_
  refine s_iload (pc := 112) dX0_directly_112 rfl ?_
  refine s_callU (pc := 114) (z := v2) (as := [(0, v3), (0, v8)]) (st := [(0, c 102 (Int.toNat ((c 101 (Int.toNat v1)) + v8))), (2, 43), (0, c 109 (Int.toNat (andI v6 (xorI (shlI 1 v8) (-1))))), (0, c 109 (Int.toNat v6)), (0, v6), (2, 109)]) (rv := fun b => ((0, b), (sz, sl, tt td, cv c))) (st3 := fun b => [(0, b), (0, c 102 (Int.toNat ((c 101 (Int.toNat v1)) + v8))), (2, 43), (0, c 109 (Int.toNat (andI v6 (xorI (shlI 1 v8) (-1))))), (0, c 109 (Int.toNat v6)), (0, v6), (2, 109)]) (w3 := fun b => (sz, sl, tt td, cv c)) rfl rfl (fun b h => vdX0_175 v2 v3 v8 td c b h (by decide)) (Nat.le_of_ble_eq_true rfl) (fun _ => Nat.le_of_ble_eq_true rfl) (fun _ => ⟨rfl, rfl⟩) dX0_directly_114 (fun p_15 => ?_)
  refine s_iload (pc := 117) dX0_directly_117 rfl ?_
  refine s_iload (pc := 119) dX0_directly_119 rfl ?_
  refine s_isub (pc := 121) dX0_directly_121 ?_
  refine s_callV3 (pc := 122) (a := 43) (as := [(0, c 102 (Int.toNat ((c 101 (Int.toNat v1)) + v8))), (0, p_15), (0, v4 - v7)]) (st := [(0, c 109 (Int.toNat (andI v6 (xorI (shlI 1 v8) (-1))))), (0, c 109 (Int.toNat v6)), (0, v6), (2, 109)]) (rv := fun b => ((0, b), (sz, sl, tt td, cv c))) (st3 := fun b => [(0, b), (0, c 109 (Int.toNat (andI v6 (xorI (shlI 1 v8) (-1))))), (0, c 109 (Int.toNat v6)), (0, v6), (2, 109)]) (w3 := fun b => (sz, sl, tt td, cv c)) mvX0_357 (fun b h => kX0_fewestOf (c 102 (Int.toNat ((c 101 (Int.toNat v1)) + v8))) p_15 (v4 - v7) c b h) rfl (by decide) (t_43 td) rfl rfl rfl (Nat.le_of_ble_eq_true rfl) (fun _ => Nat.le_of_ble_eq_true rfl) (fun _ => ⟨rfl, rfl⟩) dX0_directly_122 (fun p_16 => ?_)
  refine s_iadd (pc := 125) dX0_directly_125 ?_
  refine s_imin (a := c 109 (Int.toNat v6)) (b := (c 109 (Int.toNat (andI v6 (xorI (shlI 1 v8) (-1))))) + p_16) (st := [(0, v6), (2, 109)]) q978 dX0_directly_126 (by decide) (Nat.le_of_ble_eq_true rfl) ?_
  refine s_iastM (pc := 129) (a := 109) (t_109 _) rfl kO_109 r_109 dX0_directly_129 (fun c_18 => ?_)
  refine s_iinc (pc := 130) (lf := fun x => [some (2, 43), some (0, v1), some (2, v2), some (0, v3), some (0, v4), some (0, v5), some (0, v6), some (0, v7), some (0, x)]) dX0_directly_130 rfl (fun _ => rfl) (Nat.le_of_ble_eq_true rfl) (fun v8_19 => ?_)
  refine s_goto (pc := 133) (tgt := 51) dX0_directly_133 rfl ?_
  exact Sm.some (fun h => h)
abbrev gX0_directly_l21 (G : GG) (Γ : Cx) (r : Vv × Wd) (sz sl : Nat) (td : TT) (c : CC) (v1 : Int) (v2 : Int) (v3 : Int) (v4 : Int) (v5 : Int) : (Int × CC) → Prop := fun s => WP G Γ muX0_directly r 21 [some (2, 43), some (0, v1), some (2, v2), some (0, v3), some (0, v4), some (0, v5), some (0, s.1), none, none] [] (sz, sl, tt td, cv s.2)
abbrev eX0_directly_l21 (G : GG) (Γ : Cx) (r : Vv × Wd) (sz sl : Nat) (td : TT) (c : CC) (v1 : Int) (v2 : Int) (v3 : Int) (v4 : Int) (v5 : Int) : (CC) → Prop := (fun s => WP G Γ muX0_directly r 142 [some (2, 43), none, none, some (0, v3), none, some (0, v5), none, none, none] [] (sz, sl, tt td, cv s))
noncomputable def fX0_directly_l21 (v1 : Int) (v2 : Int) (v3 : Int) (v4 : Int) (v5 : Int) (v6 : Int) (td : TT) (c : CC) : Option ((Int × CC) ⊕ (CC)) :=
  if v6 < shlI 1 v3 then
  (cl (fJ8_bitCount v6 ) fun p_11 =>
   gd (inR (p_11 - 1)) <|
   bd (p_11 - 1) fun v7_12 =>
   gd ((0 : Int) ≤ v6 ∧ v6 < 32) <| bd (up2 c 109 (Int.toNat v6) 1000) fun c_13 =>
   cl (wh (fun s => fX0_directly_l51 v1 v2 v3 v4 v5 v6 v7_12 s.1 td s.2) (0, c_13)) (fun e_20 =>
  gd (inR (v6 + 1)) <| bd (v6 + 1) fun v6_21 =>
   some (.inl (v6_21, e_20))))
  else
  (some (.inr c))
theorem sX0_directly_l21 {G : GG} {Γ : Cx} {r : Vv × Wd} {sz : Nat} {sl : Nat} (v1 : Int) (v2 : Int) (v3 : Int) (v4 : Int) (v5 : Int) (v6 : Int) (td : TT) (c : CC) : Sm (fX0_directly_l21 v1 v2 v3 v4 v5 v6 td c) (fun x => Sum.elim (gX0_directly_l21 G Γ r sz sl td c v1 v2 v3 v4 v5) (eX0_directly_l21 G Γ r sz sl td c v1 v2 v3 v4 v5) x) (gX0_directly_l21 G Γ r sz sl td c v1 v2 v3 v4 v5 (v6, c)) := by
  show Sm _ _ (WP G Γ muX0_directly r 21 [some (2, 43), some (0, v1), some (2, v2), some (0, v3), some (0, v4), some (0, v5), some (0, v6), none, none] [] (sz, sl, tt td, cv c))
  unfold fX0_directly_l21
  refine s_iload (pc := 21) dX0_directly_21 rfl ?_
  refine s_iconst (pc := 23) dX0_directly_23 ?_
  refine s_iload_n (pc := 24) dX0_directly_24 rfl ?_
  refine s_ishl (pc := 25) dX0_directly_25 ?_
  refine s_icmp_ge (pc := 26) (tgt := 142) dX0_directly_26 rfl ?_ ?_
  · refine s_wk [true, false, false, true, false, true, false, true, true] (ls' := [some (2, 43), none, none, some (0, v3), none, some (0, v5), none, none, none]) rfl ?_
    exact Sm.some (fun h => h)
  refine s_iload (pc := 29) dX0_directly_29 rfl ?_
  refine s_callS3 (pc := 31) (as := [(0, v6)]) (st := []) (rv := fun b => ((0, b), (sz, sl, tt td, cv c))) (st3 := fun b => [(0, b)]) (w3 := fun b => (sz, sl, tt td, cv c)) msX0_352 (fun b h => kJ8_bitCount v6 c b h) rfl (by decide) rfl (Nat.le_of_ble_eq_true rfl) (fun _ => Nat.le_of_ble_eq_true rfl) (fun _ => ⟨rfl, rfl⟩) dX0_directly_31 (fun p_11 => ?_)
  refine s_iconst (pc := 34) dX0_directly_34 ?_
  refine s_isub (pc := 35) dX0_directly_35 ?_
  refine s_istore (pc := 36) (lf := fun x => [some (2, 43), some (0, v1), some (2, v2), some (0, v3), some (0, v4), some (0, v5), some (0, v6), some (0, x), none]) dX0_directly_36 (fun _ => rfl) (Nat.le_of_ble_eq_true rfl) (fun v7_12 => ?_)
  refine s_aload_n (pc := 38) dX0_directly_38 rfl ?_
  refine s_get (pc := 39) (a := 43) (v := 109) flX0_116 (t_43 _) rfl (g_43_38 _) rfl dX0_directly_39 ?_
  refine s_iload (pc := 42) dX0_directly_42 rfl ?_
  refine s_sipush (pc := 44) dX0_directly_44 ?_
  refine s_iastM (pc := 47) (a := 109) (t_109 _) rfl kO_109 r_109 dX0_directly_47 (fun c_13 => ?_)
  refine s_iconst (pc := 48) dX0_directly_48 ?_
  refine s_istoreD (pc := 49) (ls' := [some (2, 43), some (0, v1), some (2, v2), some (0, v3), some (0, v4), some (0, v5), some (0, v6), some (0, v7_12), some (0, 0)]) dX0_directly_49 rfl (Nat.le_of_ble_eq_true rfl) ?_
  refine s_loop (g := gX0_directly_l51 G Γ r sz sl td c_13 v1 v2 v3 v4 v5 v6 v7_12) (Ex := eX0_directly_l51 G Γ r sz sl td c_13 v1 v2 v3 v4 v5 v6 v7_12) (s0 := (0, c_13)) (fun s => sX0_directly_l51 v1 v2 v3 v4 v5 v6 v7_12 s.1 td s.2) ?_
  intro e_20
  show Sm _ _ (WP G Γ muX0_directly r 136 [some (2, 43), some (0, v1), some (2, v2), some (0, v3), some (0, v4), some (0, v5), some (0, v6), none, none] [] (sz, sl, tt td, cv e_20))
  refine s_iinc (pc := 136) (lf := fun x => [some (2, 43), some (0, v1), some (2, v2), some (0, v3), some (0, v4), some (0, v5), some (0, x), none, none]) dX0_directly_136 rfl (fun _ => rfl) (Nat.le_of_ble_eq_true rfl) (fun v6_21 => ?_)
  refine s_goto (pc := 139) (tgt := 21) dX0_directly_139 rfl ?_
  exact Sm.some (fun h => h)
noncomputable def fX0_directly (a1 : Int) (a2 : Int) (a3 : Int) (a4 : Int) (td : TT) (c : CC) : Option (Int × CC) :=
  cl (fV_sort a2  td c) fun p_1 =>
   if p_1 = 2 then
  (bd (up2 c 109 0 0) fun c_10 =>
   cl (wh (fun s => fX0_directly_l21 a1 a2 a3 a4 1 s.1 td s.2) (1, c_10)) (fun e_22 =>
  gd (inR ((shlI 1 a3) - 1)) <|
   gd ((0 : Int) ≤ (shlI 1 a3) - 1 ∧ (shlI 1 a3) - 1 < 32) <|
   gd (inR (1 + (e_22 109 (Int.toNat ((shlI 1 a3) - 1))))) <|
    some ((min 1000 (1 + (e_22 109 (Int.toNat ((shlI 1 a3) - 1))))), e_22)))
  else
  (cl (wh (fun s => fX0_directly_l165 a1 a2 a3 a4 s.1 s.2 td c) (1, 0)) (fun e_8 =>
   some ((min 1000 e_8), c)))
theorem sX0_directly {G : GG} {Γ : Cx} {r : Vv × Wd} {sz : Nat} {sl : Nat} (a1 : Int) (a2 : Int) (a3 : Int) (a4 : Int) (td : TT) (c : CC) : Sm (fX0_directly a1 a2 a3 a4 td c) (fun x => r = ((0, x.1), (sz, sl, tt td, cv x.2))) (WP G Γ muX0_directly r 0 [some (2, 43), some (0, a1), some (2, a2), some (0, a3), some (0, a4), none, none, none, none] [] (sz, sl, tt td, cv c)) := by
  unfold fX0_directly
  refine s_iconst (pc := 0) dX0_directly_0 ?_
  refine s_istoreD (pc := 1) (ls' := [some (2, 43), some (0, a1), some (2, a2), some (0, a3), some (0, a4), some (0, 1), none, none, none]) dX0_directly_1 rfl (Nat.le_of_ble_eq_true rfl) ?_
  refine s_aload_n (pc := 3) dX0_directly_3 rfl ?_
  refine s_callU (pc := 4) (z := a2) (as := []) (st := []) (rv := fun b => ((0, b), (sz, sl, tt td, cv c))) (st3 := fun b => [(0, b)]) (w3 := fun b => (sz, sl, tt td, cv c)) rfl rfl (fun b h => vdX0_178 a2  td c b h (by decide)) (Nat.le_of_ble_eq_true rfl) (fun _ => Nat.le_of_ble_eq_true rfl) (fun _ => ⟨rfl, rfl⟩) dX0_directly_4 (fun p_1 => ?_)
  refine s_iconst (pc := 7) dX0_directly_7 ?_
  refine s_icmp_ne (pc := 8) (tgt := 162) dX0_directly_8 rfl ?_ ?_
  · refine s_iconst (pc := 162) dX0_directly_162 ?_
    refine s_istoreD (pc := 163) (ls' := [some (2, 43), some (0, a1), some (2, a2), some (0, a3), some (0, a4), some (0, 1), some (0, 0), none, none]) dX0_directly_163 rfl (Nat.le_of_ble_eq_true rfl) ?_
    refine s_loop (g := gX0_directly_l165 G Γ r sz sl td c a1 a2 a3 a4) (Ex := eX0_directly_l165 G Γ r sz sl td c a1 a2 a3 a4) (s0 := (1, 0)) (fun s => sX0_directly_l165 a1 a2 a3 a4 s.1 s.2 td c) ?_
    intro e_8
    show Sm _ _ (WP G Γ muX0_directly r 211 [none, none, none, none, none, some (0, e_8), none, none, none] [] (sz, sl, tt td, cv c))
    refine s_sipush (pc := 211) dX0_directly_211 ?_
    refine s_iload (pc := 214) dX0_directly_214 rfl ?_
    refine s_imin (a := 1000) (b := e_8) (st := []) q978 dX0_directly_216 (by decide) (Nat.le_of_ble_eq_true rfl) ?_
    exact s_iret (pc := 219) dX0_directly_219 rfl (fun h => h)
  refine s_aload_n (pc := 11) dX0_directly_11 rfl ?_
  refine s_get (pc := 12) (a := 43) (v := 109) flX0_116 (t_43 _) rfl (g_43_38 _) rfl dX0_directly_12 ?_
  refine s_iconst (pc := 15) dX0_directly_15 ?_
  refine s_iconst (pc := 16) dX0_directly_16 ?_
  refine s_iastML (pc := 17) (a := 109) 0 rfl (Nat.le_of_ble_eq_true rfl) (t_109 _) rfl kO_109 r_109 dX0_directly_17 (fun c_10 => ?_)
  refine s_iconst (pc := 18) dX0_directly_18 ?_
  refine s_istoreD (pc := 19) (ls' := [some (2, 43), some (0, a1), some (2, a2), some (0, a3), some (0, a4), some (0, 1), some (0, 1), none, none]) dX0_directly_19 rfl (Nat.le_of_ble_eq_true rfl) ?_
  refine s_loop (g := gX0_directly_l21 G Γ r sz sl td c_10 a1 a2 a3 a4 1) (Ex := eX0_directly_l21 G Γ r sz sl td c_10 a1 a2 a3 a4 1) (s0 := (1, c_10)) (fun s => sX0_directly_l21 a1 a2 a3 a4 1 s.1 td s.2) ?_
  intro e_22
  show Sm _ _ (WP G Γ muX0_directly r 142 [some (2, 43), none, none, some (0, a3), none, some (0, 1), none, none, none] [] (sz, sl, tt td, cv e_22))
  refine s_sipush (pc := 142) dX0_directly_142 ?_
  refine s_iload (pc := 145) dX0_directly_145 rfl ?_
  refine s_aload_n (pc := 147) dX0_directly_147 rfl ?_
  refine s_get (pc := 148) (a := 43) (v := 109) flX0_116 (t_43 _) rfl (g_43_38 _) rfl dX0_directly_148 ?_
  refine s_iconst (pc := 151) dX0_directly_151 ?_
  refine s_iload_n (pc := 152) dX0_directly_152 rfl ?_
  refine s_ishl (pc := 153) dX0_directly_153 ?_
  refine s_iconst (pc := 154) dX0_directly_154 ?_
  refine s_isub (pc := 155) dX0_directly_155 ?_
  refine s_ialdM (pc := 156) (a := 109) (t_109 _) rfl r_109 dX0_directly_156 ?_
  refine s_iadd (pc := 157) dX0_directly_157 ?_
  refine s_imin (a := 1000) (b := 1 + (e_22 109 (Int.toNat ((shlI 1 a3) - 1)))) (st := []) q978 dX0_directly_158 (by decide) (Nat.le_of_ble_eq_true rfl) ?_
  exact s_iret (pc := 161) dX0_directly_161 rfl (fun h => h)
theorem kX0_directly {G : GG} {sz : Nat} {sl : Nat} (a1 : Int) (a2 : Int) (a3 : Int) (a4 : Int) (td : TT) (c : CC) (x : (Int × CC)) (h : fX0_directly a1 a2 a3 a4 td c = some x) : Ct G yX0_directly muX0_directly [(2, 43), (0, a1), (2, a2), (0, a3), (0, a4)] (sz, sl, tt td, cv c) ((0, x.1), (sz, sl, tt td, cv x.2)) :=
  Ct.of (n := 4) (ls0 := [some (2, 43), some (0, a1), some (2, a2), some (0, a3), some (0, a4), none, none, none, none]) (by decide) rfl rfl ⟨show (some .int : Option FieldType) ≠ some .float by decide, show (some .int : Option FieldType) ≠ some .double by decide⟩ (Nat.le_of_ble_eq_true rfl) rfl ⟨Nat.le_refl _, Nat.le_refl _⟩ (show (0 : Nat) ≠ 9 by decide) (fun Γ => sX0_directly a1 a2 a3 a4 td c x h rfl)
theorem mvX0_364 : MV RX0 364 RX0 yX0_meantBy muX0_meantBy 2 := ⟨lw_V q1164 q1166 qs46 q125 q1167, by decide +kernel, Nat.le_of_ble_eq_true rfl⟩
theorem mvX0_368 : MV RX0 368 RX0 yX0_directly muX0_directly 4 := ⟨lw_V q1172 q1174 qs48 q125 q1175, by decide +kernel, Nat.le_of_ble_eq_true rfl⟩
abbrev muX0_findFewest : MI := (cX0_findFewest, RX0, 9, none, 5, "findFewest")
abbrev gX0_findFewest_l18 (G : GG) (Γ : Cx) (r : Vv × Wd) (sz sl : Nat) (td : TT) (c : CC) (v1 : Int) (v2 : Int) (v3 : Int) : (Int × CC) → Prop := fun s => WP G Γ muX0_findFewest r 18 [some (2, 43), some (0, v1), some (0, v2), some (0, v3), some (0, s.1), none, none, none, none] [] (sz, sl, tt td, cv s.2)
abbrev eX0_findFewest_l18 (G : GG) (Γ : Cx) (r : Vv × Wd) (sz sl : Nat) (td : TT) (c : CC) (v1 : Int) (v2 : Int) (v3 : Int) : (CC) → Prop := (fun s => WP G Γ muX0_findFewest r 46 [some (2, 43), some (0, v1), some (0, v2), some (0, v3), none, none, none, none, none] [] (sz, sl, tt td, cv s))
noncomputable def fX0_findFewest_l18 (v1 : Int) (v2 : Int) (v3 : Int) (v4 : Int) (td : TT) (c : CC) : Option ((Int × CC) ⊕ (CC)) :=
  if v4 < 8 then
  (cl (fX0_fewestAt v2 v4 v3 ) fun p_1 =>
   gd ((0 : Int) ≤ p_1 ∧ p_1 < 4800) <| bd (up2 c 108 (Int.toNat p_1) 1000) fun c_2 =>
   gd (inR (v4 + 1)) <| bd (v4 + 1) fun v4_3 =>
   some (.inl (v4_3, c_2)))
  else
  (some (.inr c))
theorem sX0_findFewest_l18 {G : GG} {Γ : Cx} {r : Vv × Wd} {sz : Nat} {sl : Nat} (v1 : Int) (v2 : Int) (v3 : Int) (v4 : Int) (td : TT) (c : CC) : Sm (fX0_findFewest_l18 v1 v2 v3 v4 td c) (fun x => Sum.elim (gX0_findFewest_l18 G Γ r sz sl td c v1 v2 v3) (eX0_findFewest_l18 G Γ r sz sl td c v1 v2 v3) x) (gX0_findFewest_l18 G Γ r sz sl td c v1 v2 v3 (v4, c)) := by
  show Sm _ _ (WP G Γ muX0_findFewest r 18 [some (2, 43), some (0, v1), some (0, v2), some (0, v3), some (0, v4), none, none, none, none] [] (sz, sl, tt td, cv c))
  unfold fX0_findFewest_l18
  refine s_iload (pc := 18) dX0_findFewest_18 rfl ?_
  refine s_bipush (pc := 20) dX0_findFewest_20 ?_
  refine s_icmp_ge (pc := 22) (tgt := 46) dX0_findFewest_22 rfl ?_ ?_
  · refine s_wk [true, true, true, true, false, true, true, true, true] (ls' := [some (2, 43), some (0, v1), some (0, v2), some (0, v3), none, none, none, none, none]) rfl ?_
    exact Sm.some (fun h => h)
  refine s_aload_n (pc := 25) dX0_findFewest_25 rfl ?_
  refine s_get (pc := 26) (a := 43) (v := 108) flX0_113 (t_43 _) rfl (g_43_37 _) rfl dX0_findFewest_26 ?_
  refine s_iload_n (pc := 29) dX0_findFewest_29 rfl ?_
  refine s_iload (pc := 30) dX0_findFewest_30 rfl ?_
  refine s_iload_n (pc := 32) dX0_findFewest_32 rfl ?_
  refine s_callS3 (pc := 33) (as := [(0, v2), (0, v4), (0, v3)]) (st := [(2, 108)]) (rv := fun b => ((0, b), (sz, sl, tt td, cv c))) (st3 := fun b => [(0, b), (2, 108)]) (w3 := fun b => (sz, sl, tt td, cv c)) msX0_349 (fun b h => kX0_fewestAt v2 v4 v3 c b h) rfl (by decide) rfl (Nat.le_of_ble_eq_true rfl) (fun _ => Nat.le_of_ble_eq_true rfl) (fun _ => ⟨rfl, rfl⟩) dX0_findFewest_33 (fun p_1 => ?_)
  refine s_sipush (pc := 36) dX0_findFewest_36 ?_
  refine s_iastM (pc := 39) (a := 108) (t_108 _) rfl kO_108 r_108 dX0_findFewest_39 (fun c_2 => ?_)
  refine s_iinc (pc := 40) (lf := fun x => [some (2, 43), some (0, v1), some (0, v2), some (0, v3), some (0, x), none, none, none, none]) dX0_findFewest_40 rfl (fun _ => rfl) (Nat.le_of_ble_eq_true rfl) (fun v4_3 => ?_)
  refine s_goto (pc := 43) (tgt := 18) dX0_findFewest_43 rfl ?_
  exact Sm.some (fun h => h)
abbrev gX0_findFewest_l63 (G : GG) (Γ : Cx) (r : Vv × Wd) (sz sl : Nat) (td : TT) (c : CC) (v1 : Int) (v2 : Int) (v3 : Int) (v4 : Int) (v5 : Int) : (Int × CC) → Prop := fun s => WP G Γ muX0_findFewest r 63 [some (2, 43), some (0, v1), some (0, v2), some (0, v3), some (2, v4), some (0, v5), some (0, s.1), none, none] [] (sz, sl, tt td, cv s.2)
abbrev eX0_findFewest_l63 (G : GG) (Γ : Cx) (r : Vv × Wd) (sz sl : Nat) (td : TT) (c : CC) (v1 : Int) (v2 : Int) (v3 : Int) (v4 : Int) (v5 : Int) : (CC) → Prop := (fun s => WP G Γ muX0_findFewest r 136 [some (2, 43), some (0, v1), some (0, v2), some (0, v3), none, none, none, none, none] [] (sz, sl, tt td, cv s))
noncomputable def fX0_findFewest_l63 (v1 : Int) (v2 : Int) (v3 : Int) (v4 : Int) (v5 : Int) (v6 : Int) (td : TT) (c : CC) : Option ((Int × CC) ⊕ (CC)) :=
  if v6 < v5 then
  (gd ((0 : Int) ≤ v4 ∧ (tt td (Int.toNat v4)).1 = 55 ∧ (0 : Int) ≤ v6 ∧ v6 < ((tt td (Int.toNat v4)).2 : Int)) <|
   bd (cv c (Int.toNat v4) (Int.toNat v6)) fun v7_8 =>
   cl (fX0_meantBy v7_8 v2 td c) fun p_9 =>
   if (0 : Int) < p_9 then
  (gd ((0 : Int) ≤ v7_8 ∧ 6 ≤ (tt td (Int.toNat v7_8)).1 ∧ (tt td (Int.toNat v7_8)).1 ≤ 10) <|
   cl (fX0_fewestAt v2 (cv c (Int.toNat v7_8) 2) v3 ) fun p_11 =>
   gd ((0 : Int) ≤ v7_8 ∧ 6 ≤ (tt td (Int.toNat v7_8)).1 ∧ (tt td (Int.toNat v7_8)).1 ≤ 10) <|
   cl (fX0_fewestOf v2 (cv c (Int.toNat v7_8) 2) v3 c) fun p_12 =>
   cl (fX0_directly v2 v7_8 p_9 v3 td c) fun p_13 =>
    gd ((0 : Int) ≤ p_11 ∧ p_11 < 4800) <| bd (up2 p_13.2 108 (Int.toNat p_11) (min p_12 p_13.1)) fun c_15 =>
   gd (inR (v6 + 1)) <| bd (v6 + 1) fun v6_16 =>
   some (.inl (v6_16, c_15)))
  else
  (gd (inR (v6 + 1)) <| bd (v6 + 1) fun v6_10 =>
   some (.inl (v6_10, c))))
  else
  (some (.inr c))
theorem sX0_findFewest_l63 {G : GG} {Γ : Cx} {r : Vv × Wd} {sz : Nat} {sl : Nat} (v1 : Int) (v2 : Int) (v3 : Int) (v4 : Int) (v5 : Int) (v6 : Int) (td : TT) (c : CC) : Sm (fX0_findFewest_l63 v1 v2 v3 v4 v5 v6 td c) (fun x => Sum.elim (gX0_findFewest_l63 G Γ r sz sl td c v1 v2 v3 v4 v5) (eX0_findFewest_l63 G Γ r sz sl td c v1 v2 v3 v4 v5) x) (gX0_findFewest_l63 G Γ r sz sl td c v1 v2 v3 v4 v5 (v6, c)) := by
  show Sm _ _ (WP G Γ muX0_findFewest r 63 [some (2, 43), some (0, v1), some (0, v2), some (0, v3), some (2, v4), some (0, v5), some (0, v6), none, none] [] (sz, sl, tt td, cv c))
  unfold fX0_findFewest_l63
  refine s_iload (pc := 63) dX0_findFewest_63 rfl ?_
  refine s_iload (pc := 65) dX0_findFewest_65 rfl ?_
  refine s_icmp_ge (pc := 67) (tgt := 136) dX0_findFewest_67 rfl ?_ ?_
  · refine s_wk [true, true, true, true, false, false, false, true, true] (ls' := [some (2, 43), some (0, v1), some (0, v2), some (0, v3), none, none, none, none, none]) rfl ?_
    exact Sm.some (fun h => h)
  refine s_aload (pc := 70) dX0_findFewest_70 rfl ?_
  refine s_iload (pc := 72) dX0_findFewest_72 rfl ?_
  refine s_aald5D (pc := 74) dX0_findFewest_74 ?_
  refine s_astore (pc := 75) (lf := fun x => [some (2, 43), some (0, v1), some (0, v2), some (0, v3), some (2, v4), some (0, v5), some (0, v6), some (2, x), none]) dX0_findFewest_75 (fun _ => rfl) (Nat.le_of_ble_eq_true rfl) (fun v7_8 => ?_)
  refine s_aload_n (pc := 77) dX0_findFewest_77 rfl ?_
  refine s_aload (pc := 78) dX0_findFewest_78 rfl ?_
  refine s_iload_n (pc := 80) dX0_findFewest_80 rfl ?_
  refine s_callV3 (pc := 81) (a := 43) (as := [(2, v7_8), (0, v2)]) (st := []) (rv := fun b => ((0, b), (sz, sl, tt td, cv c))) (st3 := fun b => [(0, b)]) (w3 := fun b => (sz, sl, tt td, cv c)) mvX0_364 (fun b h => kX0_meantBy v7_8 v2 td c b h) rfl (by decide) (t_43 td) rfl rfl rfl (Nat.le_of_ble_eq_true rfl) (fun _ => Nat.le_of_ble_eq_true rfl) (fun _ => ⟨rfl, rfl⟩) dX0_findFewest_81 (fun p_9 => ?_)
  refine s_istoreD (pc := 84) (ls' := [some (2, 43), some (0, v1), some (0, v2), some (0, v3), some (2, v4), some (0, v5), some (0, v6), some (2, v7_8), some (0, p_9)]) dX0_findFewest_84 rfl (Nat.le_of_ble_eq_true rfl) ?_
  refine s_iload (pc := 86) dX0_findFewest_86 rfl ?_
  refine s_if_le (pc := 88) (tgt := 130) dX0_findFewest_88 rfl ?_ ?_
  · refine s_iinc (pc := 130) (lf := fun x => [some (2, 43), some (0, v1), some (0, v2), some (0, v3), some (2, v4), some (0, v5), some (0, x), some (2, v7_8), some (0, p_9)]) dX0_findFewest_130 rfl (fun _ => rfl) (Nat.le_of_ble_eq_true rfl) (fun v6_10 => ?_)
    refine s_goto (pc := 133) (tgt := 63) dX0_findFewest_133 rfl ?_
    refine s_wk [true, true, true, true, true, true, true, false, false] (ls' := [some (2, 43), some (0, v1), some (0, v2), some (0, v3), some (2, v4), some (0, v5), some (0, v6_10), none, none]) rfl ?_
    exact Sm.some (fun h => h)
  refine s_aload_n (pc := 91) dX0_findFewest_91 rfl ?_
  refine s_get (pc := 92) (a := 43) (v := 108) flX0_113 (t_43 _) rfl (g_43_37 _) rfl dX0_findFewest_92 ?_
  refine s_iload_n (pc := 95) dX0_findFewest_95 rfl ?_
  refine s_aload (pc := 96) dX0_findFewest_96 rfl ?_
  refine s_getS (pc := 98) fsX0_196 dX0_findFewest_98 ?_
  refine s_iload_n (pc := 101) dX0_findFewest_101 rfl ?_
  refine s_callS3 (pc := 102) (as := [(0, v2), (0, cv c (Int.toNat v7_8) 2), (0, v3)]) (st := [(2, 108)]) (rv := fun b => ((0, b), (sz, sl, tt td, cv c))) (st3 := fun b => [(0, b), (2, 108)]) (w3 := fun b => (sz, sl, tt td, cv c)) msX0_349 (fun b h => kX0_fewestAt v2 (cv c (Int.toNat v7_8) 2) v3 c b h) rfl (by decide) rfl (Nat.le_of_ble_eq_true rfl) (fun _ => Nat.le_of_ble_eq_true rfl) (fun _ => ⟨rfl, rfl⟩) dX0_findFewest_102 (fun p_11 => ?_)
  refine s_aload_n (pc := 105) dX0_findFewest_105 rfl ?_
  refine s_iload_n (pc := 106) dX0_findFewest_106 rfl ?_
  refine s_aload (pc := 107) dX0_findFewest_107 rfl ?_
  refine s_getS (pc := 109) fsX0_196 dX0_findFewest_109 ?_
  refine s_iload_n (pc := 112) dX0_findFewest_112 rfl ?_
  refine s_callV3 (pc := 113) (a := 43) (as := [(0, v2), (0, cv c (Int.toNat v7_8) 2), (0, v3)]) (st := [(0, p_11), (2, 108)]) (rv := fun b => ((0, b), (sz, sl, tt td, cv c))) (st3 := fun b => [(0, b), (0, p_11), (2, 108)]) (w3 := fun b => (sz, sl, tt td, cv c)) mvX0_357 (fun b h => kX0_fewestOf v2 (cv c (Int.toNat v7_8) 2) v3 c b h) rfl (by decide) (t_43 td) rfl rfl rfl (Nat.le_of_ble_eq_true rfl) (fun _ => Nat.le_of_ble_eq_true rfl) (fun _ => ⟨rfl, rfl⟩) dX0_findFewest_113 (fun p_12 => ?_)
  refine s_aload_n (pc := 116) dX0_findFewest_116 rfl ?_
  refine s_iload_n (pc := 117) dX0_findFewest_117 rfl ?_
  refine s_aload (pc := 118) dX0_findFewest_118 rfl ?_
  refine s_iload (pc := 120) dX0_findFewest_120 rfl ?_
  refine s_iload_n (pc := 122) dX0_findFewest_122 rfl ?_
  refine s_callV3 (pc := 123) (a := 43) (as := [(0, v2), (2, v7_8), (0, p_9), (0, v3)]) (st := [(0, p_12), (0, p_11), (2, 108)]) (rv := fun b => ((0, b.1), (sz, sl, tt td, cv b.2))) (st3 := fun b => [(0, b.1), (0, p_12), (0, p_11), (2, 108)]) (w3 := fun b => (sz, sl, tt td, cv b.2)) mvX0_368 (fun b h => kX0_directly v2 v7_8 p_9 v3 td c b h) rfl (by decide) (t_43 td) rfl rfl rfl (Nat.le_of_ble_eq_true rfl) (fun _ => Nat.le_of_ble_eq_true rfl) (fun _ => ⟨rfl, rfl⟩) dX0_findFewest_123 (fun p_13 => ?_)
  refine s_imin (a := p_12) (b := p_13.1) (st := [(0, p_11), (2, 108)]) q978 dX0_findFewest_126 (by decide) (Nat.le_of_ble_eq_true rfl) ?_
  refine s_iastM (pc := 129) (a := 108) (t_108 _) rfl kO_108 r_108 dX0_findFewest_129 (fun c_15 => ?_)
  refine s_iinc (pc := 130) (lf := fun x => [some (2, 43), some (0, v1), some (0, v2), some (0, v3), some (2, v4), some (0, v5), some (0, x), some (2, v7_8), some (0, p_9)]) dX0_findFewest_130 rfl (fun _ => rfl) (Nat.le_of_ble_eq_true rfl) (fun v6_16 => ?_)
  refine s_goto (pc := 133) (tgt := 63) dX0_findFewest_133 rfl ?_
  refine s_wk [true, true, true, true, true, true, true, false, false] (ls' := [some (2, 43), some (0, v1), some (0, v2), some (0, v3), some (2, v4), some (0, v5), some (0, v6_16), none, none]) rfl ?_
  exact Sm.some (fun h => h)
abbrev gX0_findFewest_l163 (G : GG) (Γ : Cx) (r : Vv × Wd) (sz sl : Nat) (td : TT) (c : CC) (v1 : Int) (v2 : Int) (v3 : Int) (v4 : Int) (v5 : Int) (v6 : Int) : (Int × CC) → Prop := fun s => WP G Γ muX0_findFewest r 163 [some (2, 43), some (0, v1), some (0, v2), some (0, v3), some (0, v4), some (2, v5), some (0, v6), some (0, s.1), none] [] (sz, sl, tt td, cv s.2)
abbrev eX0_findFewest_l163 (G : GG) (Γ : Cx) (r : Vv × Wd) (sz sl : Nat) (td : TT) (c : CC) (v1 : Int) (v2 : Int) (v3 : Int) (v4 : Int) (v5 : Int) (v6 : Int) : (CC) → Prop := (fun s => WP G Γ muX0_findFewest r 236 [some (2, 43), some (0, v1), some (0, v2), some (0, v3), some (0, v4), none, none, none, none] [] (sz, sl, tt td, cv s))
noncomputable def fX0_findFewest_l163 (v1 : Int) (v2 : Int) (v3 : Int) (v4 : Int) (v5 : Int) (v6 : Int) (v7 : Int) (td : TT) (c : CC) : Option ((Int × CC) ⊕ (CC)) :=
  if v7 < v6 then
  (gd ((0 : Int) ≤ v5 ∧ (tt td (Int.toNat v5)).1 = 55 ∧ (0 : Int) ≤ v7 ∧ v7 < ((tt td (Int.toNat v5)).2 : Int)) <|
   bd (cv c (Int.toNat v5) (Int.toNat v7)) fun v8_21 =>
   cl (fV_sort v8_21  td c) fun p_22 =>
   if p_22 = -1 then
  (gd ((0 : Int) ≤ v8_21 ∧ 6 ≤ (tt td (Int.toNat v8_21)).1 ∧ (tt td (Int.toNat v8_21)).1 ≤ 10) <|
   cl (fX0_fewestAt v2 (cv c (Int.toNat v8_21) 2) v3 ) fun p_24 =>
   gd ((0 : Int) ≤ v8_21 ∧ 6 ≤ (tt td (Int.toNat v8_21)).1 ∧ (tt td (Int.toNat v8_21)).1 ≤ 10) <|
   cl (fX0_fewestOf v2 (cv c (Int.toNat v8_21) 2) v3 c) fun p_25 =>
   cl (fV_kind v8_21 1 0 td c) fun p_26 =>
   cl (fX0_fewestOf v2 p_26 v3 c) fun p_27 =>
   gd (inR (p_27 + 1)) <|
    gd ((0 : Int) ≤ p_24 ∧ p_24 < 4800) <| bd (up2 c 108 (Int.toNat p_24) (min p_25 (p_27 + 1))) fun c_29 =>
   gd (inR (v7 + 1)) <| bd (v7 + 1) fun v7_30 =>
   some (.inl (v7_30, c_29)))
  else
  (gd (inR (v7 + 1)) <| bd (v7 + 1) fun v7_23 =>
   some (.inl (v7_23, c))))
  else
  (some (.inr c))
theorem sX0_findFewest_l163 {G : GG} {Γ : Cx} {r : Vv × Wd} {sz : Nat} {sl : Nat} (v1 : Int) (v2 : Int) (v3 : Int) (v4 : Int) (v5 : Int) (v6 : Int) (v7 : Int) (td : TT) (c : CC) : Sm (fX0_findFewest_l163 v1 v2 v3 v4 v5 v6 v7 td c) (fun x => Sum.elim (gX0_findFewest_l163 G Γ r sz sl td c v1 v2 v3 v4 v5 v6) (eX0_findFewest_l163 G Γ r sz sl td c v1 v2 v3 v4 v5 v6) x) (gX0_findFewest_l163 G Γ r sz sl td c v1 v2 v3 v4 v5 v6 (v7, c)) := by
  show Sm _ _ (WP G Γ muX0_findFewest r 163 [some (2, 43), some (0, v1), some (0, v2), some (0, v3), some (0, v4), some (2, v5), some (0, v6), some (0, v7), none] [] (sz, sl, tt td, cv c))
  unfold fX0_findFewest_l163
  refine s_iload (pc := 163) dX0_findFewest_163 rfl ?_
  refine s_iload (pc := 165) dX0_findFewest_165 rfl ?_
  refine s_icmp_ge (pc := 167) (tgt := 236) dX0_findFewest_167 rfl ?_ ?_
  · refine s_wk [true, true, true, true, true, false, false, false, true] (ls' := [some (2, 43), some (0, v1), some (0, v2), some (0, v3), some (0, v4), none, none, none, none]) rfl ?_
    exact Sm.some (fun h => h)
  refine s_aload (pc := 170) dX0_findFewest_170 rfl ?_
  refine s_iload (pc := 172) dX0_findFewest_172 rfl ?_
  refine s_aald5D (pc := 174) dX0_findFewest_174 ?_
  refine s_astore (pc := 175) (lf := fun x => [some (2, 43), some (0, v1), some (0, v2), some (0, v3), some (0, v4), some (2, v5), some (0, v6), some (0, v7), some (2, x)]) dX0_findFewest_175 (fun _ => rfl) (Nat.le_of_ble_eq_true rfl) (fun v8_21 => ?_)
  refine s_aload (pc := 177) dX0_findFewest_177 rfl ?_
  refine s_callU (pc := 179) (z := v8_21) (as := []) (st := []) (rv := fun b => ((0, b), (sz, sl, tt td, cv c))) (st3 := fun b => [(0, b)]) (w3 := fun b => (sz, sl, tt td, cv c)) rfl rfl (fun b h => vdX0_178 v8_21  td c b h (by decide)) (Nat.le_of_ble_eq_true rfl) (fun _ => Nat.le_of_ble_eq_true rfl) (fun _ => ⟨rfl, rfl⟩) dX0_findFewest_179 (fun p_22 => ?_)
  refine s_iconst (pc := 182) dX0_findFewest_182 ?_
  refine s_icmp_ne (pc := 183) (tgt := 230) dX0_findFewest_183 rfl ?_ ?_
  · refine s_iinc (pc := 230) (lf := fun x => [some (2, 43), some (0, v1), some (0, v2), some (0, v3), some (0, v4), some (2, v5), some (0, v6), some (0, x), some (2, v8_21)]) dX0_findFewest_230 rfl (fun _ => rfl) (Nat.le_of_ble_eq_true rfl) (fun v7_23 => ?_)
    refine s_goto (pc := 233) (tgt := 163) dX0_findFewest_233 rfl ?_
    refine s_wk [true, true, true, true, true, true, true, true, false] (ls' := [some (2, 43), some (0, v1), some (0, v2), some (0, v3), some (0, v4), some (2, v5), some (0, v6), some (0, v7_23), none]) rfl ?_
    exact Sm.some (fun h => h)
  refine s_aload_n (pc := 186) dX0_findFewest_186 rfl ?_
  refine s_get (pc := 187) (a := 43) (v := 108) flX0_113 (t_43 _) rfl (g_43_37 _) rfl dX0_findFewest_187 ?_
  refine s_iload_n (pc := 190) dX0_findFewest_190 rfl ?_
  refine s_aload (pc := 191) dX0_findFewest_191 rfl ?_
  refine s_getS (pc := 193) fsX0_196 dX0_findFewest_193 ?_
  refine s_iload_n (pc := 196) dX0_findFewest_196 rfl ?_
  refine s_callS3 (pc := 197) (as := [(0, v2), (0, cv c (Int.toNat v8_21) 2), (0, v3)]) (st := [(2, 108)]) (rv := fun b => ((0, b), (sz, sl, tt td, cv c))) (st3 := fun b => [(0, b), (2, 108)]) (w3 := fun b => (sz, sl, tt td, cv c)) msX0_349 (fun b h => kX0_fewestAt v2 (cv c (Int.toNat v8_21) 2) v3 c b h) rfl (by decide) rfl (Nat.le_of_ble_eq_true rfl) (fun _ => Nat.le_of_ble_eq_true rfl) (fun _ => ⟨rfl, rfl⟩) dX0_findFewest_197 (fun p_24 => ?_)
  refine s_aload_n (pc := 200) dX0_findFewest_200 rfl ?_
  refine s_iload_n (pc := 201) dX0_findFewest_201 rfl ?_
  refine s_aload (pc := 202) dX0_findFewest_202 rfl ?_
  refine s_getS (pc := 204) fsX0_196 dX0_findFewest_204 ?_
  refine s_iload_n (pc := 207) dX0_findFewest_207 rfl ?_
  refine s_callV3 (pc := 208) (a := 43) (as := [(0, v2), (0, cv c (Int.toNat v8_21) 2), (0, v3)]) (st := [(0, p_24), (2, 108)]) (rv := fun b => ((0, b), (sz, sl, tt td, cv c))) (st3 := fun b => [(0, b), (0, p_24), (2, 108)]) (w3 := fun b => (sz, sl, tt td, cv c)) mvX0_357 (fun b h => kX0_fewestOf v2 (cv c (Int.toNat v8_21) 2) v3 c b h) rfl (by decide) (t_43 td) rfl rfl rfl (Nat.le_of_ble_eq_true rfl) (fun _ => Nat.le_of_ble_eq_true rfl) (fun _ => ⟨rfl, rfl⟩) dX0_findFewest_208 (fun p_25 => ?_)
  refine s_aload_n (pc := 211) dX0_findFewest_211 rfl ?_
  refine s_iload_n (pc := 212) dX0_findFewest_212 rfl ?_
  refine s_aload (pc := 213) dX0_findFewest_213 rfl ?_
  refine s_iconst (pc := 215) dX0_findFewest_215 ?_
  refine s_iconst (pc := 216) dX0_findFewest_216 ?_
  refine s_callU (pc := 217) (z := v8_21) (as := [(0, 1), (0, 0)]) (st := [(0, v2), (2, 43), (0, p_25), (0, p_24), (2, 108)]) (rv := fun b => ((0, b), (sz, sl, tt td, cv c))) (st3 := fun b => [(0, b), (0, v2), (2, 43), (0, p_25), (0, p_24), (2, 108)]) (w3 := fun b => (sz, sl, tt td, cv c)) rfl rfl (fun b h => vdX0_175 v8_21 1 0 td c b h (by decide)) (Nat.le_of_ble_eq_true rfl) (fun _ => Nat.le_of_ble_eq_true rfl) (fun _ => ⟨rfl, rfl⟩) dX0_findFewest_217 (fun p_26 => ?_)
  refine s_iload_n (pc := 220) dX0_findFewest_220 rfl ?_
  refine s_callV3 (pc := 221) (a := 43) (as := [(0, v2), (0, p_26), (0, v3)]) (st := [(0, p_25), (0, p_24), (2, 108)]) (rv := fun b => ((0, b), (sz, sl, tt td, cv c))) (st3 := fun b => [(0, b), (0, p_25), (0, p_24), (2, 108)]) (w3 := fun b => (sz, sl, tt td, cv c)) mvX0_357 (fun b h => kX0_fewestOf v2 p_26 v3 c b h) rfl (by decide) (t_43 td) rfl rfl rfl (Nat.le_of_ble_eq_true rfl) (fun _ => Nat.le_of_ble_eq_true rfl) (fun _ => ⟨rfl, rfl⟩) dX0_findFewest_221 (fun p_27 => ?_)
  refine s_iconst (pc := 224) dX0_findFewest_224 ?_
  refine s_iadd (pc := 225) dX0_findFewest_225 ?_
  refine s_imin (a := p_25) (b := p_27 + 1) (st := [(0, p_24), (2, 108)]) q978 dX0_findFewest_226 (by decide) (Nat.le_of_ble_eq_true rfl) ?_
  refine s_iastM (pc := 229) (a := 108) (t_108 _) rfl kO_108 r_108 dX0_findFewest_229 (fun c_29 => ?_)
  refine s_iinc (pc := 230) (lf := fun x => [some (2, 43), some (0, v1), some (0, v2), some (0, v3), some (0, v4), some (2, v5), some (0, v6), some (0, x), some (2, v8_21)]) dX0_findFewest_230 rfl (fun _ => rfl) (Nat.le_of_ble_eq_true rfl) (fun v7_30 => ?_)
  refine s_goto (pc := 233) (tgt := 163) dX0_findFewest_233 rfl ?_
  refine s_wk [true, true, true, true, true, true, true, true, false] (ls' := [some (2, 43), some (0, v1), some (0, v2), some (0, v3), some (0, v4), some (2, v5), some (0, v6), some (0, v7_30), none]) rfl ?_
  exact Sm.some (fun h => h)
abbrev gX0_findFewest_l139 (G : GG) (Γ : Cx) (r : Vv × Wd) (sz sl : Nat) (td : TT) (c : CC) (v1 : Int) (v2 : Int) (v3 : Int) : (Int × CC) → Prop := fun s => WP G Γ muX0_findFewest r 139 [some (2, 43), some (0, v1), some (0, v2), some (0, v3), some (0, s.1), none, none, none, none] [] (sz, sl, tt td, cv s.2)
abbrev eX0_findFewest_l139 (G : GG) (Γ : Cx) (r : Vv × Wd) (sz sl : Nat) (td : TT) (c : CC) (v1 : Int) (v2 : Int) (v3 : Int) : (CC) → Prop := (fun s => WP G Γ muX0_findFewest r 242 [some (2, 43), some (0, v1), some (0, v2), some (0, v3), none, none, none, none, none] [] (sz, sl, tt td, cv s))
noncomputable def fX0_findFewest_l139 (v1 : Int) (v2 : Int) (v3 : Int) (v4 : Int) (td : TT) (c : CC) : Option ((Int × CC) ⊕ (CC)) :=
  if v4 < 8 then
  (cl (fX0_lexicon  td c) fun p_18 =>
   gd ((0 : Int) ≤ p_18 ∧ (tt td (Int.toNat p_18)).1 = 1) <|
   bd (cv c (Int.toNat p_18) 0) fun v5_19 =>
   gd ((0 : Int) ≤ v5_19 ∧ (tt td (Int.toNat v5_19)).1 = 55 ∧ (tt td (Int.toNat v5_19)).2 < 2147483648) <|
   bd (((tt td (Int.toNat v5_19)).2 : Int)) fun v6_20 =>
   cl (wh (fun s => fX0_findFewest_l163 v1 v2 v3 v4 v5_19 v6_20 s.1 td s.2) (0, c)) (fun e_31 =>
  gd (inR (v4 + 1)) <| bd (v4 + 1) fun v4_32 =>
   some (.inl (v4_32, e_31))))
  else
  (some (.inr c))
theorem sX0_findFewest_l139 {G : GG} {Γ : Cx} {r : Vv × Wd} {sz : Nat} {sl : Nat} (v1 : Int) (v2 : Int) (v3 : Int) (v4 : Int) (td : TT) (c : CC) : Sm (fX0_findFewest_l139 v1 v2 v3 v4 td c) (fun x => Sum.elim (gX0_findFewest_l139 G Γ r sz sl td c v1 v2 v3) (eX0_findFewest_l139 G Γ r sz sl td c v1 v2 v3) x) (gX0_findFewest_l139 G Γ r sz sl td c v1 v2 v3 (v4, c)) := by
  show Sm _ _ (WP G Γ muX0_findFewest r 139 [some (2, 43), some (0, v1), some (0, v2), some (0, v3), some (0, v4), none, none, none, none] [] (sz, sl, tt td, cv c))
  unfold fX0_findFewest_l139
  refine s_iload (pc := 139) dX0_findFewest_139 rfl ?_
  refine s_bipush (pc := 141) dX0_findFewest_141 ?_
  refine s_icmp_ge (pc := 143) (tgt := 242) dX0_findFewest_143 rfl ?_ ?_
  · refine s_wk [true, true, true, true, false, true, true, true, true] (ls' := [some (2, 43), some (0, v1), some (0, v2), some (0, v3), none, none, none, none, none]) rfl ?_
    exact Sm.some (fun h => h)
  refine s_aload_n (pc := 146) dX0_findFewest_146 rfl ?_
  refine s_callV3 (pc := 147) (a := 43) (as := []) (st := []) (rv := fun b => ((2, b), (sz, sl, tt td, cv c))) (st3 := fun b => [(2, b)]) (w3 := fun b => (sz, sl, tt td, cv c)) mvX0_186 (fun b h => kX0_lexicon  td c b h) rfl (by decide) (t_43 td) rfl rfl rfl (Nat.le_of_ble_eq_true rfl) (fun _ => Nat.le_of_ble_eq_true rfl) (fun _ => ⟨rfl, rfl⟩) dX0_findFewest_147 (fun p_18 => ?_)
  refine s_getDN (pc := 150) fnX0_189 rfl dX0_findFewest_150 ?_
  refine s_astore (pc := 153) (lf := fun x => [some (2, 43), some (0, v1), some (0, v2), some (0, v3), some (0, v4), some (2, x), none, none, none]) dX0_findFewest_153 (fun _ => rfl) (Nat.le_of_ble_eq_true rfl) (fun v5_19 => ?_)
  refine s_aload (pc := 155) dX0_findFewest_155 rfl ?_
  refine s_alenD (pc := 157) (q := 5) (by decide) dX0_findFewest_157 ?_
  refine s_istore (pc := 158) (lf := fun x => [some (2, 43), some (0, v1), some (0, v2), some (0, v3), some (0, v4), some (2, v5_19), some (0, x), none, none]) dX0_findFewest_158 (fun _ => rfl) (Nat.le_of_ble_eq_true rfl) (fun v6_20 => ?_)
  refine s_iconst (pc := 160) dX0_findFewest_160 ?_
  refine s_istoreD (pc := 161) (ls' := [some (2, 43), some (0, v1), some (0, v2), some (0, v3), some (0, v4), some (2, v5_19), some (0, v6_20), some (0, 0), none]) dX0_findFewest_161 rfl (Nat.le_of_ble_eq_true rfl) ?_
  refine s_loop (g := gX0_findFewest_l163 G Γ r sz sl td c v1 v2 v3 v4 v5_19 v6_20) (Ex := eX0_findFewest_l163 G Γ r sz sl td c v1 v2 v3 v4 v5_19 v6_20) (s0 := (0, c)) (fun s => sX0_findFewest_l163 v1 v2 v3 v4 v5_19 v6_20 s.1 td s.2) ?_
  intro e_31
  show Sm _ _ (WP G Γ muX0_findFewest r 236 [some (2, 43), some (0, v1), some (0, v2), some (0, v3), some (0, v4), none, none, none, none] [] (sz, sl, tt td, cv e_31))
  refine s_iinc (pc := 236) (lf := fun x => [some (2, 43), some (0, v1), some (0, v2), some (0, v3), some (0, x), none, none, none, none]) dX0_findFewest_236 rfl (fun _ => rfl) (Nat.le_of_ble_eq_true rfl) (fun v4_32 => ?_)
  refine s_goto (pc := 239) (tgt := 139) dX0_findFewest_239 rfl ?_
  exact Sm.some (fun h => h)
abbrev gX0_findFewest_l9 (G : GG) (Γ : Cx) (r : Vv × Wd) (sz sl : Nat) (td : TT) (c : CC) (v1 : Int) (v2 : Int) : (Int × CC) → Prop := fun s => WP G Γ muX0_findFewest r 9 [some (2, 43), some (0, v1), some (0, v2), some (0, s.1), none, none, none, none, none] [] (sz, sl, tt td, cv s.2)
abbrev eX0_findFewest_l9 (G : GG) (Γ : Cx) (r : Vv × Wd) (sz sl : Nat) (td : TT) (c : CC) (v1 : Int) (v2 : Int) : (CC) → Prop := (fun s => WP G Γ muX0_findFewest r 248 [some (2, 43), some (0, v1), some (0, v2), none, none, none, none, none, none] [] (sz, sl, tt td, cv s))
noncomputable def fX0_findFewest_l9 (v1 : Int) (v2 : Int) (v3 : Int) (td : TT) (c : CC) : Option ((Int × CC) ⊕ (CC)) :=
  if (24 : Int) < v3 then
  (some (.inr c))
  else
  (cl (wh (fun s => fX0_findFewest_l18 v1 v2 v3 s.1 td s.2) (0, c)) (fun e_4 =>
  cl (fX0_lexicon  td e_4) fun p_5 =>
   gd ((0 : Int) ≤ p_5 ∧ (tt td (Int.toNat p_5)).1 = 1) <|
   bd (cv e_4 (Int.toNat p_5) 0) fun v4_6 =>
   gd ((0 : Int) ≤ v4_6 ∧ (tt td (Int.toNat v4_6)).1 = 55 ∧ (tt td (Int.toNat v4_6)).2 < 2147483648) <|
   bd (((tt td (Int.toNat v4_6)).2 : Int)) fun v5_7 =>
   cl (wh (fun s => fX0_findFewest_l63 v1 v2 v3 v4_6 v5_7 s.1 td s.2) (0, e_4)) (fun e_17 =>
  cl (wh (fun s => fX0_findFewest_l139 v1 v2 v3 s.1 td s.2) (0, e_17)) (fun e_33 =>
  gd (inR (v3 + 1)) <| bd (v3 + 1) fun v3_34 =>
   some (.inl (v3_34, e_33))))))
theorem sX0_findFewest_l9 {G : GG} {Γ : Cx} {r : Vv × Wd} {sz : Nat} {sl : Nat} (v1 : Int) (v2 : Int) (v3 : Int) (td : TT) (c : CC) : Sm (fX0_findFewest_l9 v1 v2 v3 td c) (fun x => Sum.elim (gX0_findFewest_l9 G Γ r sz sl td c v1 v2) (eX0_findFewest_l9 G Γ r sz sl td c v1 v2) x) (gX0_findFewest_l9 G Γ r sz sl td c v1 v2 (v3, c)) := by
  show Sm _ _ (WP G Γ muX0_findFewest r 9 [some (2, 43), some (0, v1), some (0, v2), some (0, v3), none, none, none, none, none] [] (sz, sl, tt td, cv c))
  unfold fX0_findFewest_l9
  refine s_iload_n (pc := 9) dX0_findFewest_9 rfl ?_
  refine s_bipush (pc := 10) dX0_findFewest_10 ?_
  refine s_icmp_gt (pc := 12) (tgt := 248) dX0_findFewest_12 rfl ?_ ?_
  · refine s_wk [true, true, true, false, true, true, true, true, true] (ls' := [some (2, 43), some (0, v1), some (0, v2), none, none, none, none, none, none]) rfl ?_
    exact Sm.some (fun h => h)
  refine s_iconst (pc := 15) dX0_findFewest_15 ?_
  refine s_istoreD (pc := 16) (ls' := [some (2, 43), some (0, v1), some (0, v2), some (0, v3), some (0, 0), none, none, none, none]) dX0_findFewest_16 rfl (Nat.le_of_ble_eq_true rfl) ?_
  refine s_loop (g := gX0_findFewest_l18 G Γ r sz sl td c v1 v2 v3) (Ex := eX0_findFewest_l18 G Γ r sz sl td c v1 v2 v3) (s0 := (0, c)) (fun s => sX0_findFewest_l18 v1 v2 v3 s.1 td s.2) ?_
  intro e_4
  show Sm _ _ (WP G Γ muX0_findFewest r 46 [some (2, 43), some (0, v1), some (0, v2), some (0, v3), none, none, none, none, none] [] (sz, sl, tt td, cv e_4))
  refine s_aload_n (pc := 46) dX0_findFewest_46 rfl ?_
  refine s_callV3 (pc := 47) (a := 43) (as := []) (st := []) (rv := fun b => ((2, b), (sz, sl, tt td, cv e_4))) (st3 := fun b => [(2, b)]) (w3 := fun b => (sz, sl, tt td, cv e_4)) mvX0_186 (fun b h => kX0_lexicon  td e_4 b h) rfl (by decide) (t_43 td) rfl rfl rfl (Nat.le_of_ble_eq_true rfl) (fun _ => Nat.le_of_ble_eq_true rfl) (fun _ => ⟨rfl, rfl⟩) dX0_findFewest_47 (fun p_5 => ?_)
  refine s_getDN (pc := 50) fnX0_189 rfl dX0_findFewest_50 ?_
  refine s_astore (pc := 53) (lf := fun x => [some (2, 43), some (0, v1), some (0, v2), some (0, v3), some (2, x), none, none, none, none]) dX0_findFewest_53 (fun _ => rfl) (Nat.le_of_ble_eq_true rfl) (fun v4_6 => ?_)
  refine s_aload (pc := 55) dX0_findFewest_55 rfl ?_
  refine s_alenD (pc := 57) (q := 5) (by decide) dX0_findFewest_57 ?_
  refine s_istore (pc := 58) (lf := fun x => [some (2, 43), some (0, v1), some (0, v2), some (0, v3), some (2, v4_6), some (0, x), none, none, none]) dX0_findFewest_58 (fun _ => rfl) (Nat.le_of_ble_eq_true rfl) (fun v5_7 => ?_)
  refine s_iconst (pc := 60) dX0_findFewest_60 ?_
  refine s_istoreD (pc := 61) (ls' := [some (2, 43), some (0, v1), some (0, v2), some (0, v3), some (2, v4_6), some (0, v5_7), some (0, 0), none, none]) dX0_findFewest_61 rfl (Nat.le_of_ble_eq_true rfl) ?_
  refine s_loop (g := gX0_findFewest_l63 G Γ r sz sl td e_4 v1 v2 v3 v4_6 v5_7) (Ex := eX0_findFewest_l63 G Γ r sz sl td e_4 v1 v2 v3 v4_6 v5_7) (s0 := (0, e_4)) (fun s => sX0_findFewest_l63 v1 v2 v3 v4_6 v5_7 s.1 td s.2) ?_
  intro e_17
  show Sm _ _ (WP G Γ muX0_findFewest r 136 [some (2, 43), some (0, v1), some (0, v2), some (0, v3), none, none, none, none, none] [] (sz, sl, tt td, cv e_17))
  refine s_iconst (pc := 136) dX0_findFewest_136 ?_
  refine s_istoreD (pc := 137) (ls' := [some (2, 43), some (0, v1), some (0, v2), some (0, v3), some (0, 0), none, none, none, none]) dX0_findFewest_137 rfl (Nat.le_of_ble_eq_true rfl) ?_
  refine s_loop (g := gX0_findFewest_l139 G Γ r sz sl td e_17 v1 v2 v3) (Ex := eX0_findFewest_l139 G Γ r sz sl td e_17 v1 v2 v3) (s0 := (0, e_17)) (fun s => sX0_findFewest_l139 v1 v2 v3 s.1 td s.2) ?_
  intro e_33
  show Sm _ _ (WP G Γ muX0_findFewest r 242 [some (2, 43), some (0, v1), some (0, v2), some (0, v3), none, none, none, none, none] [] (sz, sl, tt td, cv e_33))
  refine s_iinc (pc := 242) (lf := fun x => [some (2, 43), some (0, v1), some (0, v2), some (0, x), none, none, none, none, none]) dX0_findFewest_242 rfl (fun _ => rfl) (Nat.le_of_ble_eq_true rfl) (fun v3_34 => ?_)
  refine s_goto (pc := 245) (tgt := 9) dX0_findFewest_245 rfl ?_
  exact Sm.some (fun h => h)
abbrev gX0_findFewest_l2 (G : GG) (Γ : Cx) (r : Vv × Wd) (sz sl : Nat) (td : TT) (c : CC) (v1 : Int) : (Int × CC) → Prop := fun s => WP G Γ muX0_findFewest r 2 [some (2, 43), some (0, v1), some (0, s.1), none, none, none, none, none, none] [] (sz, sl, tt td, cv s.2)
abbrev eX0_findFewest_l2 (G : GG) (Γ : Cx) (r : Vv × Wd) (sz sl : Nat) (td : TT) (c : CC) (v1 : Int) : (CC) → Prop := (fun s => WP G Γ muX0_findFewest r 254 [none, none, none, none, none, none, none, none, none] [] (sz, sl, tt td, cv s))
noncomputable def fX0_findFewest_l2 (v1 : Int) (v2 : Int) (td : TT) (c : CC) : Option ((Int × CC) ⊕ (CC)) :=
  if v1 < v2 then
  (some (.inr c))
  else
  (cl (wh (fun s => fX0_findFewest_l9 v1 v2 s.1 td s.2) (1, c)) (fun e_35 =>
  gd (inR (v2 + 1)) <| bd (v2 + 1) fun v2_36 =>
   some (.inl (v2_36, e_35))))
theorem sX0_findFewest_l2 {G : GG} {Γ : Cx} {r : Vv × Wd} {sz : Nat} {sl : Nat} (v1 : Int) (v2 : Int) (td : TT) (c : CC) : Sm (fX0_findFewest_l2 v1 v2 td c) (fun x => Sum.elim (gX0_findFewest_l2 G Γ r sz sl td c v1) (eX0_findFewest_l2 G Γ r sz sl td c v1) x) (gX0_findFewest_l2 G Γ r sz sl td c v1 (v2, c)) := by
  show Sm _ _ (WP G Γ muX0_findFewest r 2 [some (2, 43), some (0, v1), some (0, v2), none, none, none, none, none, none] [] (sz, sl, tt td, cv c))
  unfold fX0_findFewest_l2
  refine s_iload_n (pc := 2) dX0_findFewest_2 rfl ?_
  refine s_iload_n (pc := 3) dX0_findFewest_3 rfl ?_
  refine s_icmp_gt (pc := 4) (tgt := 254) dX0_findFewest_4 rfl ?_ ?_
  · refine s_wk [false, false, false, true, true, true, true, true, true] (ls' := [none, none, none, none, none, none, none, none, none]) rfl ?_
    exact Sm.some (fun h => h)
  refine s_iconst (pc := 7) dX0_findFewest_7 ?_
  refine s_istore_nD (pc := 8) (ls' := [some (2, 43), some (0, v1), some (0, v2), some (0, 1), none, none, none, none, none]) dX0_findFewest_8 rfl (Nat.le_of_ble_eq_true rfl) ?_
  refine s_loop (g := gX0_findFewest_l9 G Γ r sz sl td c v1 v2) (Ex := eX0_findFewest_l9 G Γ r sz sl td c v1 v2) (s0 := (1, c)) (fun s => sX0_findFewest_l9 v1 v2 s.1 td s.2) ?_
  intro e_35
  show Sm _ _ (WP G Γ muX0_findFewest r 248 [some (2, 43), some (0, v1), some (0, v2), none, none, none, none, none, none] [] (sz, sl, tt td, cv e_35))
  refine s_iinc (pc := 248) (lf := fun x => [some (2, 43), some (0, v1), some (0, x), none, none, none, none, none, none]) dX0_findFewest_248 rfl (fun _ => rfl) (Nat.le_of_ble_eq_true rfl) (fun v2_36 => ?_)
  refine s_goto (pc := 251) (tgt := 2) dX0_findFewest_251 rfl ?_
  exact Sm.some (fun h => h)
noncomputable def fX0_findFewest (a1 : Int) (td : TT) (c : CC) : Option CC :=
  cl (wh (fun s => fX0_findFewest_l2 a1 s.1 td s.2) (0, c)) (fun e_37 =>
  some e_37)
theorem sX0_findFewest {G : GG} {Γ : Cx} {r : Vv × Wd} {sz : Nat} {sl : Nat} (a1 : Int) (td : TT) (c : CC) : Sm (fX0_findFewest a1 td c) (fun x => r = ((3, 0), (sz, sl, tt td, cv x))) (WP G Γ muX0_findFewest r 0 [some (2, 43), some (0, a1), none, none, none, none, none, none, none] [] (sz, sl, tt td, cv c)) := by
  unfold fX0_findFewest
  refine s_iconst (pc := 0) dX0_findFewest_0 ?_
  refine s_istore_nD (pc := 1) (ls' := [some (2, 43), some (0, a1), some (0, 0), none, none, none, none, none, none]) dX0_findFewest_1 rfl (Nat.le_of_ble_eq_true rfl) ?_
  refine s_loop (g := gX0_findFewest_l2 G Γ r sz sl td c a1) (Ex := eX0_findFewest_l2 G Γ r sz sl td c a1) (s0 := (0, c)) (fun s => sX0_findFewest_l2 a1 s.1 td s.2) ?_
  intro e_37
  show Sm _ _ (WP G Γ muX0_findFewest r 254 [none, none, none, none, none, none, none, none, none] [] (sz, sl, tt td, cv e_37))
  exact s_vret (pc := 254) dX0_findFewest_254 rfl (fun h => h)
theorem kX0_findFewest {G : GG} {sz : Nat} {sl : Nat} (a1 : Int) (td : TT) (c : CC) (x : CC) (h : fX0_findFewest a1 td c = some x) : Ct G yX0_findFewest muX0_findFewest [(2, 43), (0, a1)] (sz, sl, tt td, cv c) ((3, 0), (sz, sl, tt td, cv x)) :=
  Ct.of (n := 7) (ls0 := [some (2, 43), some (0, a1), none, none, none, none, none, none, none]) (by decide) rfl rfl ⟨show (none : Option FieldType) ≠ some .float by decide, show (none : Option FieldType) ≠ some .double by decide⟩ (Nat.le_of_ble_eq_true rfl) rfl ⟨Nat.le_refl _, Nat.le_refl _⟩ (show (3 : Nat) ≠ 9 by decide) (fun Γ => sX0_findFewest a1 td c x h rfl)
theorem fpX0_371 (nm : String) : FP RX0 371 0 39 nm := ⟨_, _, _, cf0, by decide, q252, Or.inl rfl⟩
theorem fpX0_371t : fty 0 39 ≠ .boolean ∧ fty 0 39 ≠ .byte ∧ fty 0 39 ≠ .char ∧ fty 0 39 ≠ .short := by decide
theorem flX0_371 : FL RX0 371 0 39 := ⟨_, _, _, cf0, by decide, q252⟩
theorem mvX0_374 : MV RX0 374 RX0 yX0_findFewest muX0_findFewest 1 := ⟨lw_V q1157 q1159 qs45 q125 q1160, by decide +kernel, Nat.le_of_ble_eq_true rfl⟩
abbrev muX0_looksAt : MI := (cX0_looksAt, RX0, 2, some .boolean, 408, "looksAt")
noncomputable def fX0_looksAt (a1 : Int) (td : TT) (c : CC) : Option (Int × CC) :=
  cl (fX0_find a1 td c) fun p_1 =>
   if p_1.1 = 0 then
  (gd ((0 : Int) ≤ 0 ∧ (0 : Int) < 2) (some (0, p_1.2)))
  else
  (bd (up2 p_1.2 43 30 0) fun c_2 =>
   cl (fX0_meansAll  td c_2) fun p_3 =>
   bd (up2 p_3.2 43 39 p_3.1) fun c_4 =>
   cl (fX0_findFewest (c_4 43 39) td c_4) fun p_5 =>
   gd ((0 : Int) ≤ 1 ∧ (1 : Int) < 2) (some (1, p_5)))
theorem sX0_looksAt {G : GG} {Γ : Cx} {r : Vv × Wd} {sz : Nat} {sl : Nat} (a1 : Int) (td : TT) (c : CC) : Sm (fX0_looksAt a1 td c) (fun x => r = ((0, x.1), (sz, sl, tt td, cv x.2))) (WP G Γ muX0_looksAt r 0 [some (2, 43), some (0, a1)] [] (sz, sl, tt td, cv c)) := by
  unfold fX0_looksAt
  refine s_aload_n (pc := 0) dX0_looksAt_0 rfl ?_
  refine s_iload_n (pc := 1) dX0_looksAt_1 rfl ?_
  refine s_callV3 (pc := 2) (a := 43) (as := [(0, a1)]) (st := []) (rv := fun b => ((0, b.1), (sz, sl, tt td, cv b.2))) (st3 := fun b => [(0, b.1)]) (w3 := fun b => (sz, sl, tt td, cv b.2)) mvX0_239 (fun b h => kX0_find a1 td c b h) rfl (by decide) (t_43 td) rfl rfl rfl (Nat.le_of_ble_eq_true rfl) (fun _ => Nat.le_of_ble_eq_true rfl) (fun _ => ⟨rfl, rfl⟩) dX0_looksAt_2 (fun p_1 => ?_)
  refine s_if_ne (pc := 5) (tgt := 10) dX0_looksAt_5 rfl ?_ ?_
  · refine s_aload_n (pc := 10) dX0_looksAt_10 rfl ?_
    refine s_iconst (pc := 11) dX0_looksAt_11 ?_
    refine s_putM (pc := 12) (a := 43) (fpX0_261 _) (t_43 _) rfl kO_43 n_43_30 rfl (fpX0_261t) dX0_looksAt_12 (fun c_2 => ?_)
    refine s_aload_n (pc := 15) dX0_looksAt_15 rfl ?_
    refine s_aload_n (pc := 16) dX0_looksAt_16 rfl ?_
    refine s_callV3 (pc := 17) (a := 43) (as := []) (st := [(2, 43)]) (rv := fun b => ((0, b.1), (sz, sl, tt td, cv b.2))) (st3 := fun b => [(0, b.1), (2, 43)]) (w3 := fun b => (sz, sl, tt td, cv b.2)) mvX0_314 (fun b h => kX0_meansAll  td c_2 b h) rfl (by decide) (t_43 td) rfl rfl rfl (Nat.le_of_ble_eq_true rfl) (fun _ => Nat.le_of_ble_eq_true rfl) (fun _ => ⟨rfl, rfl⟩) dX0_looksAt_17 (fun p_3 => ?_)
    refine s_putM (pc := 20) (a := 43) (fpX0_371 _) (t_43 _) rfl kO_43 n_43_39 rfl (fpX0_371t) dX0_looksAt_20 (fun c_4 => ?_)
    refine s_aload_n (pc := 23) dX0_looksAt_23 rfl ?_
    refine s_aload_n (pc := 24) dX0_looksAt_24 rfl ?_
    refine s_get (pc := 25) (a := 43) (v := c_4 43 39) flX0_371 (t_43 _) rfl (g_43_39 _) rfl dX0_looksAt_25 ?_
    refine s_callV3 (pc := 28) (a := 43) (as := [(0, c_4 43 39)]) (st := []) (rv := fun b => ((3, 0), (sz, sl, tt td, cv b))) (st3 := fun b => []) (w3 := fun b => (sz, sl, tt td, cv b)) mvX0_374 (fun b h => kX0_findFewest (c_4 43 39) td c_4 b h) rfl (by decide) (t_43 td) rfl rfl rfl (Nat.le_of_ble_eq_true rfl) (fun _ => Nat.le_of_ble_eq_true rfl) (fun _ => ⟨rfl, rfl⟩) dX0_looksAt_28 (fun p_5 => ?_)
    refine s_iconst (pc := 31) dX0_looksAt_31 ?_
    exact s_zret (pc := 32) dX0_looksAt_32 rfl (fun h => h)
  refine s_iconst (pc := 8) dX0_looksAt_8 ?_
  exact s_zret (pc := 9) dX0_looksAt_9 rfl (fun h => h)
theorem kX0_looksAt {G : GG} {sz : Nat} {sl : Nat} (a1 : Int) (td : TT) (c : CC) (x : (Int × CC)) (h : fX0_looksAt a1 td c = some x) : Ct G yX0_looksAt muX0_looksAt [(2, 43), (0, a1)] (sz, sl, tt td, cv c) ((0, x.1), (sz, sl, tt td, cv x.2)) :=
  Ct.of (n := 0) (ls0 := [some (2, 43), some (0, a1)]) (by decide) rfl rfl ⟨show (some .boolean : Option FieldType) ≠ some .float by decide, show (some .boolean : Option FieldType) ≠ some .double by decide⟩ (Nat.le_of_ble_eq_true rfl) rfl ⟨Nat.le_refl _, Nat.le_refl _⟩ (show (0 : Nat) ≠ 9 by decide) (fun Γ => sX0_looksAt a1 td c x h rfl)
theorem mvX0_377 : MV RX0 377 RX0 yX0_looksAt muX0_looksAt 1 := ⟨lw_V q1153 q1155 qs44 q125 q1156, by decide +kernel, Nat.le_of_ble_eq_true rfl⟩
abbrev muX0_wordy : MI := (cX0_wordy, RX0, 4, some .int, 409, "wordy")
noncomputable def fX0_wordy (a1 : Int) (a2 : Int) (td : TT) (c : CC) : Option (Int × CC) :=
  cl (fX0_in a2 1 24 ) fun p_1 =>
   if p_1 = 0 then
  (some ((-1), c))
  else
  (cl (fX0_looksAt a1 td c) fun p_2 =>
   if p_2.1 = 0 then
  (some ((-1), p_2.2))
  else
  (cl (fX0_fewestOf (p_2.2 43 39) 0 a2 p_2.2) fun p_3 =>
   if (99 : Int) < p_3 then
  (some ((-1), p_2.2))
  else
  (some (p_3, p_2.2))))
theorem sX0_wordy {G : GG} {Γ : Cx} {r : Vv × Wd} {sz : Nat} {sl : Nat} (a1 : Int) (a2 : Int) (td : TT) (c : CC) : Sm (fX0_wordy a1 a2 td c) (fun x => r = ((0, x.1), (sz, sl, tt td, cv x.2))) (WP G Γ muX0_wordy r 0 [some (2, 43), some (0, a1), some (0, a2), none] [] (sz, sl, tt td, cv c)) := by
  unfold fX0_wordy
  refine s_iload_n (pc := 0) dX0_wordy_0 rfl ?_
  refine s_iconst (pc := 1) dX0_wordy_1 ?_
  refine s_bipush (pc := 2) dX0_wordy_2 ?_
  refine s_callS3 (pc := 4) (as := [(0, a2), (0, 1), (0, 24)]) (st := []) (rv := fun b => ((0, b), (sz, sl, tt td, cv c))) (st3 := fun b => [(0, b)]) (w3 := fun b => (sz, sl, tt td, cv c)) msX0_130 (fun b h => kX0_in a2 1 24 c b h) rfl (by decide) rfl (Nat.le_of_ble_eq_true rfl) (fun _ => Nat.le_of_ble_eq_true rfl) (fun _ => ⟨rfl, rfl⟩) dX0_wordy_4 (fun p_1 => ?_)
  refine s_if_eq (pc := 7) (tgt := 18) dX0_wordy_7 rfl ?_ ?_
  · refine s_iconst (pc := 18) dX0_wordy_18 ?_
    exact s_iret (pc := 19) dX0_wordy_19 rfl (fun h => h)
  refine s_aload_n (pc := 10) dX0_wordy_10 rfl ?_
  refine s_iload_n (pc := 11) dX0_wordy_11 rfl ?_
  refine s_callV3 (pc := 12) (a := 43) (as := [(0, a1)]) (st := []) (rv := fun b => ((0, b.1), (sz, sl, tt td, cv b.2))) (st3 := fun b => [(0, b.1)]) (w3 := fun b => (sz, sl, tt td, cv b.2)) mvX0_377 (fun b h => kX0_looksAt a1 td c b h) rfl (by decide) (t_43 td) rfl rfl rfl (Nat.le_of_ble_eq_true rfl) (fun _ => Nat.le_of_ble_eq_true rfl) (fun _ => ⟨rfl, rfl⟩) dX0_wordy_12 (fun p_2 => ?_)
  refine s_if_ne (pc := 15) (tgt := 20) dX0_wordy_15 rfl ?_ ?_
  · refine s_aload_n (pc := 20) dX0_wordy_20 rfl ?_
    refine s_aload_n (pc := 21) dX0_wordy_21 rfl ?_
    refine s_get (pc := 22) (a := 43) (v := p_2.2 43 39) flX0_371 (t_43 _) rfl (g_43_39 _) rfl dX0_wordy_22 ?_
    refine s_iconst (pc := 25) dX0_wordy_25 ?_
    refine s_iload_n (pc := 26) dX0_wordy_26 rfl ?_
    refine s_callV3 (pc := 27) (a := 43) (as := [(0, p_2.2 43 39), (0, 0), (0, a2)]) (st := []) (rv := fun b => ((0, b), (sz, sl, tt td, cv p_2.2))) (st3 := fun b => [(0, b)]) (w3 := fun b => (sz, sl, tt td, cv p_2.2)) mvX0_357 (fun b h => kX0_fewestOf (p_2.2 43 39) 0 a2 p_2.2 b h) rfl (by decide) (t_43 td) rfl rfl rfl (Nat.le_of_ble_eq_true rfl) (fun _ => Nat.le_of_ble_eq_true rfl) (fun _ => ⟨rfl, rfl⟩) dX0_wordy_27 (fun p_3 => ?_)
    refine s_istore_nD (pc := 30) (ls' := [some (2, 43), some (0, a1), some (0, a2), some (0, p_3)]) dX0_wordy_30 rfl (Nat.le_of_ble_eq_true rfl) ?_
    refine s_iload_n (pc := 31) dX0_wordy_31 rfl ?_
    refine s_bipush (pc := 32) dX0_wordy_32 ?_
    refine s_icmp_le (pc := 34) (tgt := 41) dX0_wordy_34 rfl ?_ ?_
    · refine s_iload_n (pc := 41) dX0_wordy_41 rfl ?_
      exact s_iret (pc := 42) dX0_wordy_42 rfl (fun h => h)
    refine s_iconst (pc := 37) dX0_wordy_37 ?_
    refine s_goto (pc := 38) (tgt := 42) dX0_wordy_38 rfl ?_
    exact s_iret (pc := 42) dX0_wordy_42 rfl (fun h => h)
  refine s_iconst (pc := 18) dX0_wordy_18 ?_
  exact s_iret (pc := 19) dX0_wordy_19 rfl (fun h => h)
theorem kX0_wordy {G : GG} {sz : Nat} {sl : Nat} (a1 : Int) (a2 : Int) (td : TT) (c : CC) (x : (Int × CC)) (h : fX0_wordy a1 a2 td c = some x) : Ct G yX0_wordy muX0_wordy [(2, 43), (0, a1), (0, a2)] (sz, sl, tt td, cv c) ((0, x.1), (sz, sl, tt td, cv x.2)) :=
  Ct.of (n := 1) (ls0 := [some (2, 43), some (0, a1), some (0, a2), none]) (by decide) rfl rfl ⟨show (some .int : Option FieldType) ≠ some .float by decide, show (some .int : Option FieldType) ≠ some .double by decide⟩ (Nat.le_of_ble_eq_true rfl) rfl ⟨Nat.le_refl _, Nat.le_refl _⟩ (show (0 : Nat) ≠ 9 by decide) (fun Γ => sX0_wordy a1 a2 td c x h rfl)
abbrev muX0_light : MI := (cX0_light, RX0, 3, some .int, 409, "light")
abbrev gX0_light_l12 (G : GG) (Γ : Cx) (r : Vv × Wd) (sz sl : Nat) (td : TT) (c : CC)  : (Int) → Prop := fun s => WP G Γ muX0_light r 12 [some (2, 43), none, some (0, s)] [] (sz, sl, tt td, cv c)
abbrev eX0_light_l12 (G : GG) (Γ : Cx) (r : Vv × Wd) (sz sl : Nat) (td : TT) (c : CC)  : ((Int) ⊕ (Unit)) → Prop := (Sum.elim (fun s => WP G Γ muX0_light r 33 [none, none, some (0, s)] [] (sz, sl, tt td, cv c)) (fun s => WP G Γ muX0_light r 41 [none, none, none] [] (sz, sl, tt td, cv c)))
noncomputable def fX0_light_l12 (v2 : Int) (td : TT) (c : CC) : Option ((Int) ⊕ ((Int) ⊕ (Unit))) :=
  if (24 : Int) < v2 then
  (some (.inr (.inr ())))
  else
  (cl (fX0_fewestOf (c 43 39) 0 v2 c) fun p_2 =>
   if (99 : Int) < p_2 then
  (gd (inR (v2 + 1)) <| bd (v2 + 1) fun v2_3 =>
   some (.inl v2_3))
  else
  (some (.inr (.inl v2))))
theorem sX0_light_l12 {G : GG} {Γ : Cx} {r : Vv × Wd} {sz : Nat} {sl : Nat} (v2 : Int) (td : TT) (c : CC) : Sm (fX0_light_l12 v2 td c) (fun x => Sum.elim (gX0_light_l12 G Γ r sz sl td c ) (eX0_light_l12 G Γ r sz sl td c ) x) (gX0_light_l12 G Γ r sz sl td c  v2) := by
  show Sm _ _ (WP G Γ muX0_light r 12 [some (2, 43), none, some (0, v2)] [] (sz, sl, tt td, cv c))
  unfold fX0_light_l12
  refine s_iload_n (pc := 12) dX0_light_12 rfl ?_
  refine s_bipush (pc := 13) dX0_light_13 ?_
  refine s_icmp_gt (pc := 15) (tgt := 41) dX0_light_15 rfl ?_ ?_
  · refine s_wk [false, true, false] (ls' := [none, none, none]) rfl ?_
    exact Sm.some (fun h => h)
  refine s_aload_n (pc := 18) dX0_light_18 rfl ?_
  refine s_aload_n (pc := 19) dX0_light_19 rfl ?_
  refine s_get (pc := 20) (a := 43) (v := c 43 39) flX0_371 (t_43 _) rfl (g_43_39 _) rfl dX0_light_20 ?_
  refine s_iconst (pc := 23) dX0_light_23 ?_
  refine s_iload_n (pc := 24) dX0_light_24 rfl ?_
  refine s_callV3 (pc := 25) (a := 43) (as := [(0, c 43 39), (0, 0), (0, v2)]) (st := []) (rv := fun b => ((0, b), (sz, sl, tt td, cv c))) (st3 := fun b => [(0, b)]) (w3 := fun b => (sz, sl, tt td, cv c)) mvX0_357 (fun b h => kX0_fewestOf (c 43 39) 0 v2 c b h) rfl (by decide) (t_43 td) rfl rfl rfl (Nat.le_of_ble_eq_true rfl) (fun _ => Nat.le_of_ble_eq_true rfl) (fun _ => ⟨rfl, rfl⟩) dX0_light_25 (fun p_2 => ?_)
  refine s_bipush (pc := 28) dX0_light_28 ?_
  refine s_icmp_gt (pc := 30) (tgt := 35) dX0_light_30 rfl ?_ ?_
  · refine s_iinc (pc := 35) (lf := fun x => [some (2, 43), none, some (0, x)]) dX0_light_35 rfl (fun _ => rfl) (Nat.le_of_ble_eq_true rfl) (fun v2_3 => ?_)
    refine s_goto (pc := 38) (tgt := 12) dX0_light_38 rfl ?_
    exact Sm.some (fun h => h)
  refine s_wk [false, true, true] (ls' := [none, none, some (0, v2)]) rfl ?_
  exact Sm.some (fun h => h)
noncomputable def fX0_light (a1 : Int) (td : TT) (c : CC) : Option (Int × CC) :=
  cl (fX0_looksAt a1 td c) fun p_1 =>
   if p_1.1 = 0 then
  (some ((-1), p_1.2))
  else
  (cl (wh (fun s => fX0_light_l12  s td p_1.2) 1) (Sum.elim (fun e_4 =>
  some (e_4, p_1.2)) (fun e_5 =>
  some ((-1), p_1.2))))
theorem sX0_light {G : GG} {Γ : Cx} {r : Vv × Wd} {sz : Nat} {sl : Nat} (a1 : Int) (td : TT) (c : CC) : Sm (fX0_light a1 td c) (fun x => r = ((0, x.1), (sz, sl, tt td, cv x.2))) (WP G Γ muX0_light r 0 [some (2, 43), some (0, a1), none] [] (sz, sl, tt td, cv c)) := by
  unfold fX0_light
  refine s_aload_n (pc := 0) dX0_light_0 rfl ?_
  refine s_iload_n (pc := 1) dX0_light_1 rfl ?_
  refine s_callV3 (pc := 2) (a := 43) (as := [(0, a1)]) (st := []) (rv := fun b => ((0, b.1), (sz, sl, tt td, cv b.2))) (st3 := fun b => [(0, b.1)]) (w3 := fun b => (sz, sl, tt td, cv b.2)) mvX0_377 (fun b h => kX0_looksAt a1 td c b h) rfl (by decide) (t_43 td) rfl rfl rfl (Nat.le_of_ble_eq_true rfl) (fun _ => Nat.le_of_ble_eq_true rfl) (fun _ => ⟨rfl, rfl⟩) dX0_light_2 (fun p_1 => ?_)
  refine s_if_ne (pc := 5) (tgt := 10) dX0_light_5 rfl ?_ ?_
  · refine s_iconst (pc := 10) dX0_light_10 ?_
    refine s_istore_nD (pc := 11) (ls' := [some (2, 43), some (0, a1), some (0, 1)]) dX0_light_11 rfl (Nat.le_of_ble_eq_true rfl) ?_
    refine s_wk [true, false, true] (ls' := [some (2, 43), none, some (0, 1)]) rfl ?_
    refine s_loop (g := gX0_light_l12 G Γ r sz sl td p_1.2 ) (Ex := eX0_light_l12 G Γ r sz sl td p_1.2 ) (s0 := 1) (fun s => sX0_light_l12  s td p_1.2) ?_
    refine s_elim ?_ ?_
    · intro e_4
      show Sm _ _ (WP G Γ muX0_light r 33 [none, none, some (0, e_4)] [] (sz, sl, tt td, cv p_1.2))
      refine s_iload_n (pc := 33) dX0_light_33 rfl ?_
      exact s_iret (pc := 34) dX0_light_34 rfl (fun h => h)
    intro e_5
    show Sm _ _ (WP G Γ muX0_light r 41 [none, none, none] [] (sz, sl, tt td, cv p_1.2))
    refine s_iconst (pc := 41) dX0_light_41 ?_
    exact s_iret (pc := 42) dX0_light_42 rfl (fun h => h)
  refine s_iconst (pc := 8) dX0_light_8 ?_
  exact s_iret (pc := 9) dX0_light_9 rfl (fun h => h)
theorem kX0_light {G : GG} {sz : Nat} {sl : Nat} (a1 : Int) (td : TT) (c : CC) (x : (Int × CC)) (h : fX0_light a1 td c = some x) : Ct G yX0_light muX0_light [(2, 43), (0, a1)] (sz, sl, tt td, cv c) ((0, x.1), (sz, sl, tt td, cv x.2)) :=
  Ct.of (n := 1) (ls0 := [some (2, 43), some (0, a1), none]) (by decide) rfl rfl ⟨show (some .int : Option FieldType) ≠ some .float by decide, show (some .int : Option FieldType) ≠ some .double by decide⟩ (Nat.le_of_ble_eq_true rfl) rfl ⟨Nat.le_refl _, Nat.le_refl _⟩ (show (0 : Nat) ≠ 9 by decide) (fun Γ => sX0_light a1 td c x h rfl)
theorem flX0_120 : FL RX0 120 0 40 := ⟨_, _, _, cf0, by decide, q253⟩
theorem mvoX0_384 (d : Nat) : MV RX0 384 RX0 yX0_said (muSaid d) 3 := ⟨lw_V q1195 q1197 qs50 q125 q1198, by decide +kernel, Nat.le_of_ble_eq_true rfl⟩
theorem mcX0_396 : MCopy RX0 396 := ⟨q1206, q679, q678, q146⟩
abbrev muX0_laid : MI := (cX0_laid, RX0, 3, some .int, 2, "laid")
noncomputable def fX0_laid (a0 : Int) (a1 : Int) (a2 : Int) (td : TT) (c : CC) : Option (Int × CC) :=
  gd ((0 : Int) ≤ a2 ∧ (tt td (Int.toNat a2)).1 = 50 ∧ (tt td (Int.toNat a2)).2 < 2147483648) <|
   gd ((168 ≤ a2 ∧ (tt td (Int.toNat a2)).1 = 50 ∧ 168 ≤ a0 ∧ (tt td (Int.toNat a0)).1 = 50) ∧ ((0 : Int) ≤ 0 ∧ (0 : Int) ≤ a1 ∧ (0 : Int) ≤ ((tt td (Int.toNat a2)).2 : Int)) ∧ (0 : Int) + ((tt td (Int.toNat a2)).2 : Int) ≤ ((tt td (Int.toNat a2)).2 : Int) ∧ a1 + ((tt td (Int.toNat a2)).2 : Int) ≤ ((tt td (Int.toNat a0)).2 : Int)) <| bd (cpy c (Int.toNat a2) (Int.toNat a0) (Int.toNat 0) (Int.toNat a1) (Int.toNat (((tt td (Int.toNat a2)).2 : Int)))) fun c_2 =>
   gd ((0 : Int) ≤ a2 ∧ (tt td (Int.toNat a2)).1 = 50 ∧ (tt td (Int.toNat a2)).2 < 2147483648) <|
   gd (inR (a1 + (((tt td (Int.toNat a2)).2 : Int)))) <|
   some ((a1 + (((tt td (Int.toNat a2)).2 : Int))), c_2)
theorem sX0_laid {G : GG} {Γ : Cx} {r : Vv × Wd} {sz : Nat} {sl : Nat} (a0 : Int) (a1 : Int) (a2 : Int) (td : TT) (c : CC) : Sm (fX0_laid a0 a1 a2 td c) (fun x => r = ((0, x.1), (sz, sl, tt td, cv x.2))) (WP G Γ muX0_laid r 0 [some (2, a0), some (0, a1), some (2, a2)] [] (sz, sl, tt td, cv c)) := by
  unfold fX0_laid
  refine s_aload_n (pc := 0) dX0_laid_0 rfl ?_
  refine s_iconst (pc := 1) dX0_laid_1 ?_
  refine s_aload_n (pc := 2) dX0_laid_2 rfl ?_
  refine s_iload_n (pc := 3) dX0_laid_3 rfl ?_
  refine s_aload_n (pc := 4) dX0_laid_4 rfl ?_
  refine s_alenD (pc := 5) (q := 0) (by decide) dX0_laid_5 ?_
  refine s_copyD (pc := 6) mcX0_396 (by decide) (Nat.le_of_ble_eq_true rfl) dX0_laid_6 (fun c_2 => ?_)
  refine s_iload_n (pc := 9) dX0_laid_9 rfl ?_
  refine s_aload_n (pc := 10) dX0_laid_10 rfl ?_
  refine s_alenD (pc := 11) (q := 0) (by decide) dX0_laid_11 ?_
  refine s_iadd (pc := 12) dX0_laid_12 ?_
  exact s_iret (pc := 13) dX0_laid_13 rfl (fun h => h)
theorem kX0_laid {G : GG} {sz : Nat} {sl : Nat} (a0 : Int) (a1 : Int) (a2 : Int) (td : TT) (c : CC) (x : (Int × CC)) (h : fX0_laid a0 a1 a2 td c = some x) : Ct G yX0_laid muX0_laid [(2, a0), (0, a1), (2, a2)] (sz, sl, tt td, cv c) ((0, x.1), (sz, sl, tt td, cv x.2)) :=
  Ct.of (n := 0) (ls0 := [some (2, a0), some (0, a1), some (2, a2)]) (by decide) rfl rfl ⟨show (some .int : Option FieldType) ≠ some .float by decide, show (some .int : Option FieldType) ≠ some .double by decide⟩ (Nat.le_of_ble_eq_true rfl) rfl ⟨Nat.le_refl _, Nat.le_refl _⟩ (show (0 : Nat) ≠ 9 by decide) (fun Γ => sX0_laid a0 a1 a2 td c x h rfl)
theorem msX0_388 : MS RX0 388 yX0_laid muX0_laid 3 := ⟨lw_S q1203 q1204 q125 q1205, by decide +kernel, by decide⟩
abbrev muX0_isTwin : MI := (cX0_isTwin, RX0, 5, some .boolean, 1, "isTwin")
abbrev gX0_isTwin_l3 (G : GG) (Γ : Cx) (r : Vv × Wd) (sz sl : Nat) (td : TT) (c : CC) (v1 : Int) (v2 : Int) (v3 : Int) : (Int) → Prop := fun s => WP G Γ muX0_isTwin r 3 [some (2, 43), some (0, v1), some (0, v2), some (0, v3), some (0, s)] [] (sz, sl, tt td, cv c)
abbrev eX0_isTwin_l3 (G : GG) (Γ : Cx) (r : Vv × Wd) (sz sl : Nat) (td : TT) (c : CC) (v1 : Int) (v2 : Int) (v3 : Int) : ((Unit) ⊕ (Unit)) → Prop := (Sum.elim (fun s => WP G Γ muX0_isTwin r 49 [none, none, none, none, none] [] (sz, sl, tt td, cv c)) (fun s => WP G Γ muX0_isTwin r 57 [none, none, none, none, none] [] (sz, sl, tt td, cv c)))
noncomputable def fX0_isTwin_l3 (v1 : Int) (v2 : Int) (v3 : Int) (v4 : Int) (c : CC) : Option ((Int) ⊕ ((Unit) ⊕ (Unit))) :=
  if v4 < v3 then
  (if andI (shrI v2 v4) 1 = 1 then
  (gd ((0 : Int) ≤ v1 ∧ v1 < 8001) <|
   gd (inR ((c 101 (Int.toNat v1)) + v4)) <|
   gd ((0 : Int) ≤ (c 101 (Int.toNat v1)) + v4 ∧ (c 101 (Int.toNat v1)) + v4 < 16000) <|
   gd ((0 : Int) ≤ v1 ∧ v1 < 8001) <|
   gd (inR ((c 101 (Int.toNat v1)) + v3)) <|
   gd ((0 : Int) ≤ (c 101 (Int.toNat v1)) + v3 ∧ (c 101 (Int.toNat v1)) + v3 < 16000) <|
   if c 102 (Int.toNat ((c 101 (Int.toNat v1)) + v4)) = c 102 (Int.toNat ((c 101 (Int.toNat v1)) + v3)) then
  (some (.inr (.inl ())))
  else
  (gd (inR (v4 + 1)) <| bd (v4 + 1) fun v4_2 =>
   some (.inl v4_2)))
  else
  (gd (inR (v4 + 1)) <| bd (v4 + 1) fun v4_1 =>
   some (.inl v4_1)))
  else
  (some (.inr (.inr ())))
theorem sX0_isTwin_l3 {G : GG} {Γ : Cx} {r : Vv × Wd} {sz : Nat} {sl : Nat} {td : TT} (v1 : Int) (v2 : Int) (v3 : Int) (v4 : Int) (c : CC) : Sm (fX0_isTwin_l3 v1 v2 v3 v4 c) (fun x => Sum.elim (gX0_isTwin_l3 G Γ r sz sl td c v1 v2 v3) (eX0_isTwin_l3 G Γ r sz sl td c v1 v2 v3) x) (gX0_isTwin_l3 G Γ r sz sl td c v1 v2 v3 v4) := by
  show Sm _ _ (WP G Γ muX0_isTwin r 3 [some (2, 43), some (0, v1), some (0, v2), some (0, v3), some (0, v4)] [] (sz, sl, tt td, cv c))
  unfold fX0_isTwin_l3
  refine s_iload (pc := 3) dX0_isTwin_3 rfl ?_
  refine s_iload_n (pc := 5) dX0_isTwin_5 rfl ?_
  refine s_icmp_ge (pc := 6) (tgt := 57) dX0_isTwin_6 rfl ?_ ?_
  · refine s_wk [false, false, false, false, false] (ls' := [none, none, none, none, none]) rfl ?_
    exact Sm.some (fun h => h)
  refine s_iload_n (pc := 9) dX0_isTwin_9 rfl ?_
  refine s_iload (pc := 10) dX0_isTwin_10 rfl ?_
  refine s_ishr (pc := 12) dX0_isTwin_12 ?_
  refine s_iconst (pc := 13) dX0_isTwin_13 ?_
  refine s_iand (pc := 14) dX0_isTwin_14 ?_
  refine s_iconst (pc := 15) dX0_isTwin_15 ?_
  refine s_icmp_ne (pc := 16) (tgt := 51) dX0_isTwin_16 rfl ?_ ?_
  · refine s_iinc (pc := 51) (lf := fun x => [some (2, 43), some (0, v1), some (0, v2), some (0, v3), some (0, x)]) dX0_isTwin_51 rfl (fun _ => rfl) (Nat.le_of_ble_eq_true rfl) (fun v4_1 => ?_)
    refine s_goto (pc := 54) (tgt := 3) dX0_isTwin_54 rfl ?_
    exact Sm.some (fun h => h)
  refine s_aload_n (pc := 19) dX0_isTwin_19 rfl ?_
  refine s_get (pc := 20) (a := 43) (v := 102) flX0_95 (t_43 _) rfl (g_43_29 _) rfl dX0_isTwin_20 ?_
  refine s_aload_n (pc := 23) dX0_isTwin_23 rfl ?_
  refine s_get (pc := 24) (a := 43) (v := 101) flX0_92 (t_43 _) rfl (g_43_28 _) rfl dX0_isTwin_24 ?_
  refine s_iload_n (pc := 27) dX0_isTwin_27 rfl ?_
  refine s_ialdM (pc := 28) (a := 101) (t_101 _) rfl r_101 dX0_isTwin_28 ?_
  refine s_iload (pc := 29) dX0_isTwin_29 rfl ?_
  refine s_iadd (pc := 31) dX0_isTwin_31 ?_
  refine s_ialdM (pc := 32) (a := 102) (t_102 _) rfl r_102 dX0_isTwin_32 ?_
  refine s_aload_n (pc := 33) dX0_isTwin_33 rfl ?_
  refine s_get (pc := 34) (a := 43) (v := 102) flX0_95 (t_43 _) rfl (g_43_29 _) rfl dX0_isTwin_34 ?_
  refine s_aload_n (pc := 37) dX0_isTwin_37 rfl ?_
  refine s_get (pc := 38) (a := 43) (v := 101) flX0_92 (t_43 _) rfl (g_43_28 _) rfl dX0_isTwin_38 ?_
  refine s_iload_n (pc := 41) dX0_isTwin_41 rfl ?_
  refine s_ialdM (pc := 42) (a := 101) (t_101 _) rfl r_101 dX0_isTwin_42 ?_
  refine s_iload_n (pc := 43) dX0_isTwin_43 rfl ?_
  refine s_iadd (pc := 44) dX0_isTwin_44 ?_
  refine s_ialdM (pc := 45) (a := 102) (t_102 _) rfl r_102 dX0_isTwin_45 ?_
  refine s_icmp_ne (pc := 46) (tgt := 51) dX0_isTwin_46 rfl ?_ ?_
  · refine s_iinc (pc := 51) (lf := fun x => [some (2, 43), some (0, v1), some (0, v2), some (0, v3), some (0, x)]) dX0_isTwin_51 rfl (fun _ => rfl) (Nat.le_of_ble_eq_true rfl) (fun v4_2 => ?_)
    refine s_goto (pc := 54) (tgt := 3) dX0_isTwin_54 rfl ?_
    exact Sm.some (fun h => h)
  refine s_wk [false, false, false, false, false] (ls' := [none, none, none, none, none]) rfl ?_
  exact Sm.some (fun h => h)
noncomputable def fX0_isTwin (a1 : Int) (a2 : Int) (a3 : Int) (c : CC) : Option Int :=
  cl (wh (fun s => fX0_isTwin_l3 a1 a2 a3 s c) 0) (Sum.elim (fun e_3 =>
  gd ((0 : Int) ≤ 1 ∧ (1 : Int) < 2) (some 1)) (fun e_4 =>
  gd ((0 : Int) ≤ 0 ∧ (0 : Int) < 2) (some 0)))
theorem sX0_isTwin {G : GG} {Γ : Cx} {r : Vv × Wd} {sz : Nat} {sl : Nat} {td : TT} (a1 : Int) (a2 : Int) (a3 : Int) (c : CC) : Sm (fX0_isTwin a1 a2 a3 c) (fun x => r = ((0, x), (sz, sl, tt td, cv c))) (WP G Γ muX0_isTwin r 0 [some (2, 43), some (0, a1), some (0, a2), some (0, a3), none] [] (sz, sl, tt td, cv c)) := by
  unfold fX0_isTwin
  refine s_iconst (pc := 0) dX0_isTwin_0 ?_
  refine s_istoreD (pc := 1) (ls' := [some (2, 43), some (0, a1), some (0, a2), some (0, a3), some (0, 0)]) dX0_isTwin_1 rfl (Nat.le_of_ble_eq_true rfl) ?_
  refine s_loop (g := gX0_isTwin_l3 G Γ r sz sl td c a1 a2 a3) (Ex := eX0_isTwin_l3 G Γ r sz sl td c a1 a2 a3) (s0 := 0) (fun s => sX0_isTwin_l3 a1 a2 a3 s c) ?_
  refine s_elim ?_ ?_
  · intro e_3
    show Sm _ _ (WP G Γ muX0_isTwin r 49 [none, none, none, none, none] [] (sz, sl, tt td, cv c))
    refine s_iconst (pc := 49) dX0_isTwin_49 ?_
    exact s_zret (pc := 50) dX0_isTwin_50 rfl (fun h => h)
  intro e_4
  show Sm _ _ (WP G Γ muX0_isTwin r 57 [none, none, none, none, none] [] (sz, sl, tt td, cv c))
  refine s_iconst (pc := 57) dX0_isTwin_57 ?_
  exact s_zret (pc := 58) dX0_isTwin_58 rfl (fun h => h)
theorem kX0_isTwin {G : GG} {sz : Nat} {sl : Nat} {td : TT} (a1 : Int) (a2 : Int) (a3 : Int) (c : CC) (x : Int) (h : fX0_isTwin a1 a2 a3 c = some x) : Ct G yX0_isTwin muX0_isTwin [(2, 43), (0, a1), (0, a2), (0, a3)] (sz, sl, tt td, cv c) ((0, x), (sz, sl, tt td, cv c)) :=
  Ct.of (n := 1) (ls0 := [some (2, 43), some (0, a1), some (0, a2), some (0, a3), none]) (by decide) rfl rfl ⟨show (some .boolean : Option FieldType) ≠ some .float by decide, show (some .boolean : Option FieldType) ≠ some .double by decide⟩ (Nat.le_of_ble_eq_true rfl) rfl ⟨Nat.le_refl _, Nat.le_refl _⟩ (show (0 : Nat) ≠ 9 by decide) (fun Γ => sX0_isTwin a1 a2 a3 c x h rfl)
theorem mvX0_402 : MV RX0 402 RX0 yX0_isTwin muX0_isTwin 3 := ⟨lw_V q1211 q1213 qs53 q125 q1214, by decide +kernel, Nat.le_of_ble_eq_true rfl⟩
abbrev muX0_isAhead : MI := (cX0_isAhead, RX0, 6, some .boolean, 1, "isAhead")
noncomputable def fX0_isAhead_j54 (v0 : Int) (v1 : Int) (v2 : Int) (v3 : Int) (v4 : Int) (w0 : Int) (td : TT) (c : CC) : Option ((Int) ⊕ ((Int × Int) ⊕ (Unit))) :=
  gd ((0 : Int) ≤ v2 ∧ (tt td (Int.toNat v2)).1 = 50 ∧ (0 : Int) ≤ v4 ∧ v4 < ((tt td (Int.toNat v2)).2 : Int)) <|
   if w0 = cv c (Int.toNat v2) (Int.toNat v4) then
  (gd (inR (v4 + 1)) <| bd (v4 + 1) fun v4_2 =>
   some (.inl v4_2))
  else
  (some (.inr (.inl (v4, w0))))
abbrev gX0_isAhead_l27 (G : GG) (Γ : Cx) (r : Vv × Wd) (sz sl : Nat) (td : TT) (c : CC) (v0 : Int) (v1 : Int) (v2 : Int) (v3 : Int) : (Int) → Prop := fun s => WP G Γ muX0_isAhead r 27 [some (2, v0), some (2, v1), some (2, v2), some (0, v3), some (0, s), none] [] (sz, sl, tt td, cv c)
abbrev eX0_isAhead_l27 (G : GG) (Γ : Cx) (r : Vv × Wd) (sz sl : Nat) (td : TT) (c : CC) (v0 : Int) (v1 : Int) (v2 : Int) (v3 : Int) : ((Int × Int) ⊕ (Unit)) → Prop := (Sum.elim (fun s => WP G Γ muX0_isAhead r 65 [none, none, some (2, v2), none, some (0, s.1), some (0, s.2)] [] (sz, sl, tt td, cv c)) (fun s => WP G Γ muX0_isAhead r 86 [none, none, none, none, none, none] [] (sz, sl, tt td, cv c)))
theorem sX0_isAhead_j54 {G : GG} {Γ : Cx} {r : Vv × Wd} {sz : Nat} {sl : Nat} (v0 : Int) (v1 : Int) (v2 : Int) (v3 : Int) (v4 : Int) (w0 : Int) (td : TT) (c : CC) : Sm (fX0_isAhead_j54 v0 v1 v2 v3 v4 w0 td c) (fun x => Sum.elim (gX0_isAhead_l27 G Γ r sz sl td c v0 v1 v2 v3) (eX0_isAhead_l27 G Γ r sz sl td c v0 v1 v2 v3) x) (WP G Γ muX0_isAhead r 54 [some (2, v0), some (2, v1), some (2, v2), some (0, v3), some (0, v4), none] [(0, w0)] (sz, sl, tt td, cv c)) := by
  unfold fX0_isAhead_j54
  refine s_istoreD (pc := 54) (ls' := [some (2, v0), some (2, v1), some (2, v2), some (0, v3), some (0, v4), some (0, w0)]) dX0_isAhead_54 rfl (Nat.le_of_ble_eq_true rfl) ?_
  refine s_iload (pc := 56) dX0_isAhead_56 rfl ?_
  refine s_aload_n (pc := 58) dX0_isAhead_58 rfl ?_
  refine s_iload (pc := 59) dX0_isAhead_59 rfl ?_
  refine s_ialdD (pc := 61) dX0_isAhead_61 ?_
  refine s_icmp_eq (pc := 62) (tgt := 80) dX0_isAhead_62 rfl ?_ ?_
  · refine s_iinc (pc := 80) (lf := fun x => [some (2, v0), some (2, v1), some (2, v2), some (0, v3), some (0, x), some (0, w0)]) dX0_isAhead_80 rfl (fun _ => rfl) (Nat.le_of_ble_eq_true rfl) (fun v4_2 => ?_)
    refine s_goto (pc := 83) (tgt := 27) dX0_isAhead_83 rfl ?_
    refine s_wk [true, true, true, true, true, false] (ls' := [some (2, v0), some (2, v1), some (2, v2), some (0, v3), some (0, v4_2), none]) rfl ?_
    exact Sm.some (fun h => h)
  refine s_wk [false, false, true, false, true, true] (ls' := [none, none, some (2, v2), none, some (0, v4), some (0, w0)]) rfl ?_
  exact Sm.some (fun h => h)
noncomputable def fX0_isAhead_l27 (v0 : Int) (v1 : Int) (v2 : Int) (v3 : Int) (v4 : Int) (td : TT) (c : CC) : Option ((Int) ⊕ ((Int × Int) ⊕ (Unit))) :=
  if v4 < v3 then
  (gd ((0 : Int) ≤ v0 ∧ (tt td (Int.toNat v0)).1 = 50 ∧ (tt td (Int.toNat v0)).2 < 2147483648) <|
   if v4 < ((tt td (Int.toNat v0)).2 : Int) then
  (gd ((0 : Int) ≤ v0 ∧ (tt td (Int.toNat v0)).1 = 50 ∧ (0 : Int) ≤ v4 ∧ v4 < ((tt td (Int.toNat v0)).2 : Int)) <|
   fX0_isAhead_j54 v0 v1 v2 v3 v4 (cv c (Int.toNat v0) (Int.toNat v4)) td c)
  else
  (gd ((0 : Int) ≤ v0 ∧ (tt td (Int.toNat v0)).1 = 50 ∧ (tt td (Int.toNat v0)).2 < 2147483648) <|
   gd (inR (v4 - (((tt td (Int.toNat v0)).2 : Int)))) <|
   gd ((0 : Int) ≤ v1 ∧ (tt td (Int.toNat v1)).1 = 50 ∧ (0 : Int) ≤ v4 - (((tt td (Int.toNat v0)).2 : Int)) ∧ v4 - (((tt td (Int.toNat v0)).2 : Int)) < ((tt td (Int.toNat v1)).2 : Int)) <|
   fX0_isAhead_j54 v0 v1 v2 v3 v4 (cv c (Int.toNat v1) (Int.toNat (v4 - (((tt td (Int.toNat v0)).2 : Int))))) td c))
  else
  (some (.inr (.inr ())))
theorem sX0_isAhead_l27 {G : GG} {Γ : Cx} {r : Vv × Wd} {sz : Nat} {sl : Nat} (v0 : Int) (v1 : Int) (v2 : Int) (v3 : Int) (v4 : Int) (td : TT) (c : CC) : Sm (fX0_isAhead_l27 v0 v1 v2 v3 v4 td c) (fun x => Sum.elim (gX0_isAhead_l27 G Γ r sz sl td c v0 v1 v2 v3) (eX0_isAhead_l27 G Γ r sz sl td c v0 v1 v2 v3) x) (gX0_isAhead_l27 G Γ r sz sl td c v0 v1 v2 v3 v4) := by
  show Sm _ _ (WP G Γ muX0_isAhead r 27 [some (2, v0), some (2, v1), some (2, v2), some (0, v3), some (0, v4), none] [] (sz, sl, tt td, cv c))
  unfold fX0_isAhead_l27
  refine s_iload (pc := 27) dX0_isAhead_27 rfl ?_
  refine s_iload_n (pc := 29) dX0_isAhead_29 rfl ?_
  refine s_icmp_ge (pc := 30) (tgt := 86) dX0_isAhead_30 rfl ?_ ?_
  · refine s_wk [false, false, false, false, false, true] (ls' := [none, none, none, none, none, none]) rfl ?_
    exact Sm.some (fun h => h)
  refine s_iload (pc := 33) dX0_isAhead_33 rfl ?_
  refine s_aload_n (pc := 35) dX0_isAhead_35 rfl ?_
  refine s_alenD (pc := 36) (q := 0) (by decide) dX0_isAhead_36 ?_
  refine s_icmp_ge (pc := 37) (tgt := 47) dX0_isAhead_37 rfl ?_ ?_
  · refine s_aload_n (pc := 47) dX0_isAhead_47 rfl ?_
    refine s_iload (pc := 48) dX0_isAhead_48 rfl ?_
    refine s_aload_n (pc := 50) dX0_isAhead_50 rfl ?_
    refine s_alenD (pc := 51) (q := 0) (by decide) dX0_isAhead_51 ?_
    refine s_isub (pc := 52) dX0_isAhead_52 ?_
    refine s_ialdD (pc := 53) dX0_isAhead_53 ?_
    exact sX0_isAhead_j54 v0 v1 v2 v3 v4 (cv c (Int.toNat v1) (Int.toNat (v4 - (((tt td (Int.toNat v0)).2 : Int))))) td c
  refine s_aload_n (pc := 40) dX0_isAhead_40 rfl ?_
  refine s_iload (pc := 41) dX0_isAhead_41 rfl ?_
  refine s_ialdD (pc := 43) dX0_isAhead_43 ?_
  refine s_goto (pc := 44) (tgt := 54) dX0_isAhead_44 rfl ?_
  exact sX0_isAhead_j54 v0 v1 v2 v3 v4 (cv c (Int.toNat v0) (Int.toNat v4)) td c
noncomputable def fX0_isAhead (a0 : Int) (a1 : Int) (a2 : Int) (td : TT) (c : CC) : Option Int :=
  gd ((0 : Int) ≤ a0 ∧ (tt td (Int.toNat a0)).1 = 50 ∧ (tt td (Int.toNat a0)).2 < 2147483648) <|
   gd ((0 : Int) ≤ a1 ∧ (tt td (Int.toNat a1)).1 = 50 ∧ (tt td (Int.toNat a1)).2 < 2147483648) <|
   gd (inR ((((tt td (Int.toNat a0)).2 : Int)) + (((tt td (Int.toNat a1)).2 : Int)))) <|
   bd ((((tt td (Int.toNat a0)).2 : Int)) + (((tt td (Int.toNat a1)).2 : Int))) fun v3_1 =>
   gd ((0 : Int) ≤ a2 ∧ (tt td (Int.toNat a2)).1 = 50 ∧ (tt td (Int.toNat a2)).2 < 2147483648) <|
   if v3_1 = ((tt td (Int.toNat a2)).2 : Int) then
  (cl (wh (fun s => fX0_isAhead_l27 a0 a1 a2 v3_1 s td c) 0) (Sum.elim (fun e_3 =>
  gd ((0 : Int) ≤ a2 ∧ (tt td (Int.toNat a2)).1 = 50 ∧ (0 : Int) ≤ e_3.1 ∧ e_3.1 < ((tt td (Int.toNat a2)).2 : Int)) <|
   if e_3.2 < cv c (Int.toNat a2) (Int.toNat e_3.1) then
  (gd ((0 : Int) ≤ 1 ∧ (1 : Int) < 2) (some 1))
  else
  (gd ((0 : Int) ≤ 0 ∧ (0 : Int) < 2) (some 0))) (fun e_4 =>
  gd ((0 : Int) ≤ 0 ∧ (0 : Int) < 2) (some 0))))
  else
  (gd ((0 : Int) ≤ a2 ∧ (tt td (Int.toNat a2)).1 = 50 ∧ (tt td (Int.toNat a2)).2 < 2147483648) <|
   if v3_1 < ((tt td (Int.toNat a2)).2 : Int) then
  (gd ((0 : Int) ≤ 1 ∧ (1 : Int) < 2) (some 1))
  else
  (gd ((0 : Int) ≤ 0 ∧ (0 : Int) < 2) (some 0)))
theorem sX0_isAhead {G : GG} {Γ : Cx} {r : Vv × Wd} {sz : Nat} {sl : Nat} (a0 : Int) (a1 : Int) (a2 : Int) (td : TT) (c : CC) : Sm (fX0_isAhead a0 a1 a2 td c) (fun x => r = ((0, x), (sz, sl, tt td, cv c))) (WP G Γ muX0_isAhead r 0 [some (2, a0), some (2, a1), some (2, a2), none, none, none] [] (sz, sl, tt td, cv c)) := by
  unfold fX0_isAhead
  refine s_aload_n (pc := 0) dX0_isAhead_0 rfl ?_
  refine s_alenD (pc := 1) (q := 0) (by decide) dX0_isAhead_1 ?_
  refine s_aload_n (pc := 2) dX0_isAhead_2 rfl ?_
  refine s_alenD (pc := 3) (q := 0) (by decide) dX0_isAhead_3 ?_
  refine s_iadd (pc := 4) dX0_isAhead_4 ?_
  refine s_istore_n (pc := 5) (lf := fun x => [some (2, a0), some (2, a1), some (2, a2), some (0, x), none, none]) dX0_isAhead_5 (fun _ => rfl) (Nat.le_of_ble_eq_true rfl) (fun v3_1 => ?_)
  refine s_iload_n (pc := 6) dX0_isAhead_6 rfl ?_
  refine s_aload_n (pc := 7) dX0_isAhead_7 rfl ?_
  refine s_alenD (pc := 8) (q := 0) (by decide) dX0_isAhead_8 ?_
  refine s_icmp_eq (pc := 9) (tgt := 24) dX0_isAhead_9 rfl ?_ ?_
  · refine s_iconst (pc := 24) dX0_isAhead_24 ?_
    refine s_istoreD (pc := 25) (ls' := [some (2, a0), some (2, a1), some (2, a2), some (0, v3_1), some (0, 0), none]) dX0_isAhead_25 rfl (Nat.le_of_ble_eq_true rfl) ?_
    refine s_loop (g := gX0_isAhead_l27 G Γ r sz sl td c a0 a1 a2 v3_1) (Ex := eX0_isAhead_l27 G Γ r sz sl td c a0 a1 a2 v3_1) (s0 := 0) (fun s => sX0_isAhead_l27 a0 a1 a2 v3_1 s td c) ?_
    refine s_elim ?_ ?_
    · intro e_3
      show Sm _ _ (WP G Γ muX0_isAhead r 65 [none, none, some (2, a2), none, some (0, e_3.1), some (0, e_3.2)] [] (sz, sl, tt td, cv c))
      refine s_iload (pc := 65) dX0_isAhead_65 rfl ?_
      refine s_aload_n (pc := 67) dX0_isAhead_67 rfl ?_
      refine s_iload (pc := 68) dX0_isAhead_68 rfl ?_
      refine s_ialdD (pc := 70) dX0_isAhead_70 ?_
      refine s_icmp_ge (pc := 71) (tgt := 78) dX0_isAhead_71 rfl ?_ ?_
      · refine s_iconst (pc := 78) dX0_isAhead_78 ?_
        exact s_zret (pc := 79) dX0_isAhead_79 rfl (fun h => h)
      refine s_iconst (pc := 74) dX0_isAhead_74 ?_
      refine s_goto (pc := 75) (tgt := 79) dX0_isAhead_75 rfl ?_
      exact s_zret (pc := 79) dX0_isAhead_79 rfl (fun h => h)
    intro e_4
    show Sm _ _ (WP G Γ muX0_isAhead r 86 [none, none, none, none, none, none] [] (sz, sl, tt td, cv c))
    refine s_iconst (pc := 86) dX0_isAhead_86 ?_
    exact s_zret (pc := 87) dX0_isAhead_87 rfl (fun h => h)
  refine s_iload_n (pc := 12) dX0_isAhead_12 rfl ?_
  refine s_aload_n (pc := 13) dX0_isAhead_13 rfl ?_
  refine s_alenD (pc := 14) (q := 0) (by decide) dX0_isAhead_14 ?_
  refine s_icmp_ge (pc := 15) (tgt := 22) dX0_isAhead_15 rfl ?_ ?_
  · refine s_iconst (pc := 22) dX0_isAhead_22 ?_
    exact s_zret (pc := 23) dX0_isAhead_23 rfl (fun h => h)
  refine s_iconst (pc := 18) dX0_isAhead_18 ?_
  refine s_goto (pc := 19) (tgt := 23) dX0_isAhead_19 rfl ?_
  exact s_zret (pc := 23) dX0_isAhead_23 rfl (fun h => h)
theorem kX0_isAhead {G : GG} {sz : Nat} {sl : Nat} (a0 : Int) (a1 : Int) (a2 : Int) (td : TT) (c : CC) (x : Int) (h : fX0_isAhead a0 a1 a2 td c = some x) : Ct G yX0_isAhead muX0_isAhead [(2, a0), (2, a1), (2, a2)] (sz, sl, tt td, cv c) ((0, x), (sz, sl, tt td, cv c)) :=
  Ct.of (n := 3) (ls0 := [some (2, a0), some (2, a1), some (2, a2), none, none, none]) (by decide) rfl rfl ⟨show (some .boolean : Option FieldType) ≠ some .float by decide, show (some .boolean : Option FieldType) ≠ some .double by decide⟩ (Nat.le_of_ble_eq_true rfl) rfl ⟨Nat.le_refl _, Nat.le_refl _⟩ (show (0 : Nat) ≠ 9 by decide) (fun Γ => sX0_isAhead a0 a1 a2 td c x h rfl)
theorem msX0_405 : MS RX0 405 yX0_isAhead muX0_isAhead 3 := ⟨lw_S q1215 q1216 q125 q1217, by decide +kernel, by decide⟩
abbrev muX0_saidSet [Inhabited OrcS] : MI := (cX0_saidSet, RX0, 13, some (.array .int), 3 * oSN + 31, "saidSet")
noncomputable def fX0_saidSet_j174 [Inhabited OrcS] (v1 : Int) (v2 : Int) (v3 : Int) (v4 : Int) (v5 : Int) (v6 : Int) (v7 : Int) (v8 : Int) (v9 : Int) (v11 : Int) (sz : Nat) (sl : Nat) (td : TT) (c : CC) : Option ((Int × Nat × Nat × TT × CC) ⊕ (Nat × Nat × TT × CC)) :=
  gd ((0 : Int) ≤ v11 ∧ (tt td (Int.toNat v11)).1 = 50 ∧ (tt td (Int.toNat v11)).2 < 2147483648) <|
   gd ((0 : Int) ≤ v9 ∧ (tt td (Int.toNat v9)).1 = 50 ∧ (tt td (Int.toNat v9)).2 < 2147483648) <|
   gd (inR ((((tt td (Int.toNat v11)).2 : Int)) + (((tt td (Int.toNat v9)).2 : Int)))) <|
   gd (kK ≤ sz ∧ (0 : Int) ≤ (((tt td (Int.toNat v11)).2 : Int)) + (((tt td (Int.toNat v9)).2 : Int)) ∧ (((tt td (Int.toNat v11)).2 : Int)) + (((tt td (Int.toNat v9)).2 : Int)) ≤ 100000) <| bd (upT td sz (50 + 0, Int.toNat ((((tt td (Int.toNat v11)).2 : Int)) + (((tt td (Int.toNat v9)).2 : Int))))) fun tq_18 => bd (zc c sz (50 + 0)) fun c_19 =>
   gd (168 ≤ v5 ∧ (tt tq_18 (Int.toNat v5)).1 = 57 ∧ (0 : Int) ≤ v6 ∧ v6 < ((tt tq_18 (Int.toNat v5)).2 : Int) ∧ (0 : Int) ≤ ((sz : Nat) : Int) ∧ (tt tq_18 (Int.toNat (((sz : Nat) : Int)))).1 = 50) <| bd (up2 c_19 (Int.toNat v5) (Int.toNat v6) (((sz : Nat) : Int))) fun c_20 =>
   gd ((0 : Int) ≤ v5 ∧ (tt tq_18 (Int.toNat v5)).1 = 57 ∧ (0 : Int) ≤ v6 ∧ v6 < ((tt tq_18 (Int.toNat v5)).2 : Int)) <|
   gd ((0 : Int) ≤ v5 ∧ (tt tq_18 (Int.toNat v5)).1 = 57 ∧ (0 : Int) ≤ v6 ∧ v6 < ((tt tq_18 (Int.toNat v5)).2 : Int)) <|
   cl (fX0_laid (cv c_20 (Int.toNat v5) (Int.toNat v6)) 0 v11 tq_18 c_20) fun p_21 =>
   cl (fX0_laid (cv c_20 (Int.toNat v5) (Int.toNat v6)) p_21.1 v9 tq_18 p_21.2) fun p_22 =>
   gd (inR (v8 + 1)) <| bd (v8 + 1) fun v8_23 =>
   some (.inl (v8_23, (sz + 1), (sl + Int.toNat ((((tt td (Int.toNat v11)).2 : Int)) + (((tt td (Int.toNat v9)).2 : Int)))), tq_18, p_22.2))
abbrev gX0_saidSet_l38 [Inhabited OrcS] (G : GG) (Γ : Cx) (r : Vv × Wd) (sz sl : Nat) (td : TT) (c : CC) (v1 : Int) (v2 : Int) (v3 : Int) (v4 : Int) (v5 : Int) (v6 : Int) (v7 : Int) : (Int × Nat × Nat × TT × CC) → Prop := fun s => WP G Γ muX0_saidSet r 38 [some (2, 43), some (0, v1), some (2, v2), some (0, v3), some (0, v4), some (2, v5), some (0, v6), some (0, v7), some (0, s.1), none, none, none, none] [] (s.2.1, s.2.2.1, tt s.2.2.2.1, cv s.2.2.2.2)
abbrev eX0_saidSet_l38 [Inhabited OrcS] (G : GG) (Γ : Cx) (r : Vv × Wd) (sz sl : Nat) (td : TT) (c : CC) (v1 : Int) (v2 : Int) (v3 : Int) (v4 : Int) (v5 : Int) (v6 : Int) (v7 : Int) : (Nat × Nat × TT × CC) → Prop := (fun s => WP G Γ muX0_saidSet r 217 [some (2, 43), some (0, v1), some (2, v2), some (0, v3), some (0, v4), some (2, v5), some (0, v6), none, none, none, none, none, none] [] (s.1, s.2.1, tt s.2.2.1, cv s.2.2.2))
theorem sX0_saidSet_j174 [Inhabited OrcS] {G : GG} {Γ : Cx} {r : Vv × Wd}  (v1 : Int) (v2 : Int) (v3 : Int) (v4 : Int) (v5 : Int) (v6 : Int) (v7 : Int) (v8 : Int) (v9 : Int) (v11 : Int) (sz : Nat) (sl : Nat) (td : TT) (c : CC) [hO : Nonempty (PLift (oSOK G))] : Sm (fX0_saidSet_j174 v1 v2 v3 v4 v5 v6 v7 v8 v9 v11 sz sl td c) (fun x => Sum.elim (gX0_saidSet_l38 G Γ r sz sl td c v1 v2 v3 v4 v5 v6 v7) (eX0_saidSet_l38 G Γ r sz sl td c v1 v2 v3 v4 v5 v6 v7) x) (WP G Γ muX0_saidSet r 174 [some (2, 43), some (0, v1), some (2, v2), some (0, v3), some (0, v4), some (2, v5), some (0, v6), some (0, v7), some (0, v8), some (2, v9), none, some (2, v11), none] [] (sz, sl, tt td, cv c)) := by
  unfold fX0_saidSet_j174
  refine s_aload (pc := 174) dX0_saidSet_174 rfl ?_
  refine s_iload (pc := 176) dX0_saidSet_176 rfl ?_
  refine s_aload (pc := 178) dX0_saidSet_178 rfl ?_
  refine s_alenD (pc := 180) (q := 0) (by decide) dX0_saidSet_180 ?_
  refine s_aload (pc := 181) dX0_saidSet_181 rfl ?_
  refine s_alenD (pc := 183) (q := 0) (by decide) dX0_saidSet_183 ?_
  refine s_iadd (pc := 184) dX0_saidSet_184 ?_
  refine s_newaM (pc := 185) (at0 := .int) (q := 0) (by decide) rfl q205 (by decide) (fun _ _ h => h) dX0_saidSet_185 (fun tq_18 c_19 => ?_)
  refine s_aastADM (pc := 187) dX0_saidSet_187 (fun c_20 => ?_)
  refine s_aload (pc := 188) dX0_saidSet_188 rfl ?_
  refine s_iload (pc := 190) dX0_saidSet_190 rfl ?_
  refine s_aald7D (pc := 192) dX0_saidSet_192 ?_
  refine s_aload (pc := 193) dX0_saidSet_193 rfl ?_
  refine s_iload (pc := 195) dX0_saidSet_195 rfl ?_
  refine s_aald7D (pc := 197) dX0_saidSet_197 ?_
  refine s_iconst (pc := 198) dX0_saidSet_198 ?_
  refine s_aload (pc := 199) dX0_saidSet_199 rfl ?_
  refine s_callS3 (pc := 201) (as := [(2, cv c_20 (Int.toNat v5) (Int.toNat v6)), (0, 0), (2, v11)]) (st := [(2, cv c_20 (Int.toNat v5) (Int.toNat v6))]) (rv := fun b => ((0, b.1), (sz + 1, sl + Int.toNat ((((tt td (Int.toNat v11)).2 : Int)) + (((tt td (Int.toNat v9)).2 : Int))), tt tq_18, cv b.2))) (st3 := fun b => [(0, b.1), (2, cv c_20 (Int.toNat v5) (Int.toNat v6))]) (w3 := fun b => (sz + 1, sl + Int.toNat ((((tt td (Int.toNat v11)).2 : Int)) + (((tt td (Int.toNat v9)).2 : Int))), tt tq_18, cv b.2)) msX0_388 (fun b h => kX0_laid (cv c_20 (Int.toNat v5) (Int.toNat v6)) 0 v11 tq_18 c_20 b h) rfl (by first | decide | exact Nat.le_trans (by decide) (Nat.le_add_left 31 _)) rfl (Nat.le_of_ble_eq_true rfl) (fun _ => Nat.le_of_ble_eq_true rfl) (fun _ => ⟨rfl, rfl⟩) dX0_saidSet_201 (fun p_21 => ?_)
  refine s_aload (pc := 204) dX0_saidSet_204 rfl ?_
  refine s_callS3 (pc := 206) (as := [(2, cv c_20 (Int.toNat v5) (Int.toNat v6)), (0, p_21.1), (2, v9)]) (st := []) (rv := fun b => ((0, b.1), (sz + 1, sl + Int.toNat ((((tt td (Int.toNat v11)).2 : Int)) + (((tt td (Int.toNat v9)).2 : Int))), tt tq_18, cv b.2))) (st3 := fun b => [(0, b.1)]) (w3 := fun b => (sz + 1, sl + Int.toNat ((((tt td (Int.toNat v11)).2 : Int)) + (((tt td (Int.toNat v9)).2 : Int))), tt tq_18, cv b.2)) msX0_388 (fun b h => kX0_laid (cv c_20 (Int.toNat v5) (Int.toNat v6)) p_21.1 v9 tq_18 p_21.2 b h) rfl (by first | decide | exact Nat.le_trans (by decide) (Nat.le_add_left 31 _)) rfl (Nat.le_of_ble_eq_true rfl) (fun _ => Nat.le_of_ble_eq_true rfl) (fun _ => ⟨rfl, rfl⟩) dX0_saidSet_206 (fun p_22 => ?_)
  refine s_istoreD (pc := 209) (ls' := [some (2, 43), some (0, v1), some (2, v2), some (0, v3), some (0, v4), some (2, v5), some (0, v6), some (0, v7), some (0, v8), some (2, v9), none, some (2, v11), some (0, p_22.1)]) dX0_saidSet_209 rfl (Nat.le_of_ble_eq_true rfl) ?_
  refine s_iinc (pc := 211) (lf := fun x => [some (2, 43), some (0, v1), some (2, v2), some (0, v3), some (0, v4), some (2, v5), some (0, v6), some (0, v7), some (0, x), some (2, v9), none, some (2, v11), some (0, p_22.1)]) dX0_saidSet_211 rfl (fun _ => rfl) (Nat.le_of_ble_eq_true rfl) (fun v8_23 => ?_)
  refine s_goto (pc := 214) (tgt := 38) dX0_saidSet_214 rfl ?_
  refine s_wk [true, true, true, true, true, true, true, true, true, false, true, false, false] (ls' := [some (2, 43), some (0, v1), some (2, v2), some (0, v3), some (0, v4), some (2, v5), some (0, v6), some (0, v7), some (0, v8_23), none, none, none, none]) rfl ?_
  exact Sm.some (fun h => h)
noncomputable def fX0_saidSet_l38 [Inhabited OrcS] (v1 : Int) (v2 : Int) (v3 : Int) (v4 : Int) (v5 : Int) (v6 : Int) (v7 : Int) (v8 : Int) (sz : Nat) (sl : Nat) (td : TT) (c : CC) : Option ((Int × Nat × Nat × TT × CC) ⊕ (Nat × Nat × TT × CC)) :=
  if v8 < v3 then
  (gd ((0 : Int) ≤ v5 ∧ (tt td (Int.toNat v5)).1 = 57 ∧ (0 : Int) ≤ andI v6 (xorI (shlI 1 v8) (-1)) ∧ andI v6 (xorI (shlI 1 v8) (-1)) < ((tt td (Int.toNat v5)).2 : Int)) <|
   bd (cv c (Int.toNat v5) (Int.toNat (andI v6 (xorI (shlI 1 v8) (-1))))) fun v9_9 =>
   if andI (shrI v6 v8) 1 = 0 then
  (gd (inR (v8 + 1)) <| bd (v8 + 1) fun v8_10 =>
   some (.inl (v8_10, sz, sl, td, c)))
  else
  (if v9_9 < 0 then
  (gd (inR (v8 + 1)) <| bd (v8 + 1) fun v8_11 =>
   some (.inl (v8_11, sz, sl, td, c)))
  else
  (cl (fX0_isTwin v1 v6 v8 c) fun p_12 =>
   if p_12 = 0 then
  (gd ((0 : Int) ≤ v1 ∧ v1 < 8001) <|
   gd (inR ((c 101 (Int.toNat v1)) + v8)) <|
   gd ((0 : Int) ≤ (c 101 (Int.toNat v1)) + v8 ∧ (c 101 (Int.toNat v1)) + v8 < 16000) <|
   bd (c 102 (Int.toNat ((c 101 (Int.toNat v1)) + v8))) fun v10_13 =>
   cl (fV_kind v2 v3 v8 td c) fun p_14 =>
   gd (inR (v4 - v7)) <|
   cl (fX0_fewestOf v10_13 p_14 (v4 - v7) c) fun p_15 =>
   if p_15 < 1000 then
  (cl (fV_kind v2 v3 v8 td c) fun p_16 =>
   gd (inR (v4 - v7)) <|
   cl (oS v10_13 p_16 (v4 - v7) sz sl td c) fun p_17 =>
   gd ((0 : Int) ≤ v5 ∧ (tt p_17.2.2.2.1 (Int.toNat v5)).1 = 57 ∧ (0 : Int) ≤ v6 ∧ v6 < ((tt p_17.2.2.2.1 (Int.toNat v5)).2 : Int)) <|
   if cv p_17.2.2.2.2 (Int.toNat v5) (Int.toNat v6) < 0 then
  (fX0_saidSet_j174 v1 v2 v3 v4 v5 v6 v7 v8 v9_9 p_17.1 p_17.2.1 p_17.2.2.1 p_17.2.2.2.1 p_17.2.2.2.2)
  else
  (gd ((0 : Int) ≤ v5 ∧ (tt p_17.2.2.2.1 (Int.toNat v5)).1 = 57 ∧ (0 : Int) ≤ v6 ∧ v6 < ((tt p_17.2.2.2.1 (Int.toNat v5)).2 : Int)) <|
   cl (fX0_isAhead p_17.1 v9_9 (cv p_17.2.2.2.2 (Int.toNat v5) (Int.toNat v6)) p_17.2.2.2.1 p_17.2.2.2.2) fun p_24 =>
   if p_24 = 0 then
  (gd (inR (v8 + 1)) <| bd (v8 + 1) fun v8_25 =>
   some (.inl (v8_25, p_17.2.1, p_17.2.2.1, p_17.2.2.2.1, p_17.2.2.2.2)))
  else
  (fX0_saidSet_j174 v1 v2 v3 v4 v5 v6 v7 v8 v9_9 p_17.1 p_17.2.1 p_17.2.2.1 p_17.2.2.2.1 p_17.2.2.2.2)))
  else
  (gd (inR (v8 + 1)) <| bd (v8 + 1) fun v8_26 =>
   some (.inl (v8_26, sz, sl, td, c))))
  else
  (gd (inR (v8 + 1)) <| bd (v8 + 1) fun v8_27 =>
   some (.inl (v8_27, sz, sl, td, c))))))
  else
  (some (.inr (sz, sl, td, c)))
theorem sX0_saidSet_l38 [Inhabited OrcS] {G : GG} {Γ : Cx} {r : Vv × Wd}  (v1 : Int) (v2 : Int) (v3 : Int) (v4 : Int) (v5 : Int) (v6 : Int) (v7 : Int) (v8 : Int) (sz : Nat) (sl : Nat) (td : TT) (c : CC) [hO : Nonempty (PLift (oSOK G))] : Sm (fX0_saidSet_l38 v1 v2 v3 v4 v5 v6 v7 v8 sz sl td c) (fun x => Sum.elim (gX0_saidSet_l38 G Γ r sz sl td c v1 v2 v3 v4 v5 v6 v7) (eX0_saidSet_l38 G Γ r sz sl td c v1 v2 v3 v4 v5 v6 v7) x) (gX0_saidSet_l38 G Γ r sz sl td c v1 v2 v3 v4 v5 v6 v7 (v8, sz, sl, td, c)) := by
  show Sm _ _ (WP G Γ muX0_saidSet r 38 [some (2, 43), some (0, v1), some (2, v2), some (0, v3), some (0, v4), some (2, v5), some (0, v6), some (0, v7), some (0, v8), none, none, none, none] [] (sz, sl, tt td, cv c))
  unfold fX0_saidSet_l38
  refine s_iload (pc := 38) dX0_saidSet_38 rfl ?_
  refine s_iload_n (pc := 40) dX0_saidSet_40 rfl ?_
  refine s_icmp_ge (pc := 41) (tgt := 217) dX0_saidSet_41 rfl ?_ ?_
  · refine s_wk [true, true, true, true, true, true, true, false, false, true, true, true, true] (ls' := [some (2, 43), some (0, v1), some (2, v2), some (0, v3), some (0, v4), some (2, v5), some (0, v6), none, none, none, none, none, none]) rfl ?_
    exact Sm.some (fun h => h)
  refine s_aload (pc := 44) dX0_saidSet_44 rfl ?_
  refine s_iload (pc := 46) dX0_saidSet_46 rfl ?_
  refine s_iconst (pc := 48) dX0_saidSet_48 ?_
  refine s_iload (pc := 49) dX0_saidSet_49 rfl ?_
  refine s_ishl (pc := 51) dX0_saidSet_51 ?_
  refine s_iconst (pc := 52) dX0_saidSet_52 ?_
  refine s_ixor (pc := 53) dX0_saidSet_53 ?_
  refine s_iand (pc := 54) dX0_saidSet_54 ?_
  refine s_aald7D (pc := 55) dX0_saidSet_55 ?_
  refine s_astore (pc := 56) (lf := fun x => [some (2, 43), some (0, v1), some (2, v2), some (0, v3), some (0, v4), some (2, v5), some (0, v6), some (0, v7), some (0, v8), some (2, x), none, none, none]) dX0_saidSet_56 (fun _ => rfl) (Nat.le_of_ble_eq_true rfl) (fun v9_9 => ?_)
  refine s_iload (pc := 58) dX0_saidSet_58 rfl ?_
  refine s_iload (pc := 60) dX0_saidSet_60 rfl ?_
  refine s_ishr (pc := 62) dX0_saidSet_62 ?_
  refine s_iconst (pc := 63) dX0_saidSet_63 ?_
  refine s_iand (pc := 64) dX0_saidSet_64 ?_
  refine s_if_eq (pc := 65) (tgt := 211) dX0_saidSet_65 rfl ?_ ?_
  · refine s_iinc (pc := 211) (lf := fun x => [some (2, 43), some (0, v1), some (2, v2), some (0, v3), some (0, v4), some (2, v5), some (0, v6), some (0, v7), some (0, x), some (2, v9_9), none, none, none]) dX0_saidSet_211 rfl (fun _ => rfl) (Nat.le_of_ble_eq_true rfl) (fun v8_10 => ?_)
    refine s_goto (pc := 214) (tgt := 38) dX0_saidSet_214 rfl ?_
    refine s_wk [true, true, true, true, true, true, true, true, true, false, true, true, true] (ls' := [some (2, 43), some (0, v1), some (2, v2), some (0, v3), some (0, v4), some (2, v5), some (0, v6), some (0, v7), some (0, v8_10), none, none, none, none]) rfl ?_
    exact Sm.some (fun h => h)
  refine s_aload (pc := 68) dX0_saidSet_68 rfl ?_
  refine s_ifnull (pc := 70) (tgt := 211) dX0_saidSet_70 rfl ?_ ?_
  · refine s_iinc (pc := 211) (lf := fun x => [some (2, 43), some (0, v1), some (2, v2), some (0, v3), some (0, v4), some (2, v5), some (0, v6), some (0, v7), some (0, x), some (2, v9_9), none, none, none]) dX0_saidSet_211 rfl (fun _ => rfl) (Nat.le_of_ble_eq_true rfl) (fun v8_11 => ?_)
    refine s_goto (pc := 214) (tgt := 38) dX0_saidSet_214 rfl ?_
    refine s_wk [true, true, true, true, true, true, true, true, true, false, true, true, true] (ls' := [some (2, 43), some (0, v1), some (2, v2), some (0, v3), some (0, v4), some (2, v5), some (0, v6), some (0, v7), some (0, v8_11), none, none, none, none]) rfl ?_
    exact Sm.some (fun h => h)
  refine s_aload_n (pc := 73) dX0_saidSet_73 rfl ?_
  refine s_iload_n (pc := 74) dX0_saidSet_74 rfl ?_
  refine s_iload (pc := 75) dX0_saidSet_75 rfl ?_
  refine s_iload (pc := 77) dX0_saidSet_77 rfl ?_
  refine s_callV3 (pc := 79) (a := 43) (as := [(0, v1), (0, v6), (0, v8)]) (st := []) (rv := fun b => ((0, b), (sz, sl, tt td, cv c))) (st3 := fun b => [(0, b)]) (w3 := fun b => (sz, sl, tt td, cv c)) mvX0_402 (fun b h => kX0_isTwin v1 v6 v8 c b h) rfl (by first | decide | exact Nat.le_trans (by decide) (Nat.le_add_left 31 _)) (t_43 td) rfl rfl rfl (Nat.le_of_ble_eq_true rfl) (fun _ => Nat.le_of_ble_eq_true rfl) (fun _ => ⟨rfl, rfl⟩) dX0_saidSet_79 (fun p_12 => ?_)
  refine s_if_eq (pc := 82) (tgt := 88) dX0_saidSet_82 rfl ?_ ?_
  · refine s_aload_n (pc := 88) dX0_saidSet_88 rfl ?_
    refine s_get (pc := 89) (a := 43) (v := 102) flX0_95 (t_43 _) rfl (g_43_29 _) rfl dX0_saidSet_89 ?_
    refine s_aload_n (pc := 92) dX0_saidSet_92 rfl ?_
    refine s_get (pc := 93) (a := 43) (v := 101) flX0_92 (t_43 _) rfl (g_43_28 _) rfl dX0_saidSet_93 ?_
    refine s_iload_n (pc := 96) dX0_saidSet_96 rfl ?_
    refine s_ialdM (pc := 97) (a := 101) (t_101 _) rfl r_101 dX0_saidSet_97 ?_
    refine s_iload (pc := 98) dX0_saidSet_98 rfl ?_
    refine s_iadd (pc := 100) dX0_saidSet_100 ?_
    refine s_ialdM (pc := 101) (a := 102) (t_102 _) rfl r_102 dX0_saidSet_101 ?_
    refine s_istore (pc := 102) (lf := fun x => [some (2, 43), some (0, v1), some (2, v2), some (0, v3), some (0, v4), some (2, v5), some (0, v6), some (0, v7), some (0, v8), some (2, v9_9), some (0, x), none, none]) dX0_saidSet_102 (fun _ => rfl) (Nat.le_of_ble_eq_true rfl) (fun v10_13 => ?_)
    refine s_aload_n (pc := 104) dX0_saidSet_104 rfl ?_
    refine s_iload (pc := 105) dX0_saidSet_105 rfl ?_
    refine s_aload_n (pc := 107) dX0_saidSet_107 rfl ?_
    refine s_iload_n (pc := 108) dX0_saidSet_108 rfl ?_
    refine s_iload (pc := 109) dX0_saidSet_109 rfl ?_
    refine s_callU (pc := 111) (z := v2) (as := [(0, v3), (0, v8)]) (st := [(0, v10_13), (2, 43)]) (rv := fun b => ((0, b), (sz, sl, tt td, cv c))) (st3 := fun b => [(0, b), (0, v10_13), (2, 43)]) (w3 := fun b => (sz, sl, tt td, cv c)) rfl rfl (fun b h => vdX0_175 v2 v3 v8 td c b h (by first | decide | exact Nat.le_trans (by decide) (Nat.le_add_left 31 _))) (Nat.le_of_ble_eq_true rfl) (fun _ => Nat.le_of_ble_eq_true rfl) (fun _ => ⟨rfl, rfl⟩) dX0_saidSet_111 (fun p_14 => ?_)
    refine s_iload (pc := 114) dX0_saidSet_114 rfl ?_
    refine s_iload (pc := 116) dX0_saidSet_116 rfl ?_
    refine s_isub (pc := 118) dX0_saidSet_118 ?_
    refine s_callV3 (pc := 119) (a := 43) (as := [(0, v10_13), (0, p_14), (0, v4 - v7)]) (st := []) (rv := fun b => ((0, b), (sz, sl, tt td, cv c))) (st3 := fun b => [(0, b)]) (w3 := fun b => (sz, sl, tt td, cv c)) mvX0_357 (fun b h => kX0_fewestOf v10_13 p_14 (v4 - v7) c b h) rfl (by first | decide | exact Nat.le_trans (by decide) (Nat.le_add_left 31 _)) (t_43 td) rfl rfl rfl (Nat.le_of_ble_eq_true rfl) (fun _ => Nat.le_of_ble_eq_true rfl) (fun _ => ⟨rfl, rfl⟩) dX0_saidSet_119 (fun p_15 => ?_)
    refine s_sipush (pc := 122) dX0_saidSet_122 ?_
    refine s_icmp_lt (pc := 125) (tgt := 131) dX0_saidSet_125 rfl ?_ ?_
    · refine s_aload_n (pc := 131) dX0_saidSet_131 rfl ?_
      refine s_iload (pc := 132) dX0_saidSet_132 rfl ?_
      refine s_aload_n (pc := 134) dX0_saidSet_134 rfl ?_
      refine s_iload_n (pc := 135) dX0_saidSet_135 rfl ?_
      refine s_iload (pc := 136) dX0_saidSet_136 rfl ?_
      refine s_callU (pc := 138) (z := v2) (as := [(0, v3), (0, v8)]) (st := [(0, v10_13), (2, 43)]) (rv := fun b => ((0, b), (sz, sl, tt td, cv c))) (st3 := fun b => [(0, b), (0, v10_13), (2, 43)]) (w3 := fun b => (sz, sl, tt td, cv c)) rfl rfl (fun b h => vdX0_175 v2 v3 v8 td c b h (by first | decide | exact Nat.le_trans (by decide) (Nat.le_add_left 31 _))) (Nat.le_of_ble_eq_true rfl) (fun _ => Nat.le_of_ble_eq_true rfl) (fun _ => ⟨rfl, rfl⟩) dX0_saidSet_138 (fun p_16 => ?_)
      refine s_iload (pc := 141) dX0_saidSet_141 rfl ?_
      refine s_iload (pc := 143) dX0_saidSet_143 rfl ?_
      refine s_isub (pc := 145) dX0_saidSet_145 ?_
      refine s_callV3 (pc := 146) (a := 43) (as := [(0, v10_13), (0, p_16), (0, v4 - v7)]) (st := []) (rv := fun b => ((2, b.1), (b.2.1, b.2.2.1, tt b.2.2.2.1, cv b.2.2.2.2))) (st3 := fun b => [(2, b.1)]) (w3 := fun b => (b.2.1, b.2.2.1, tt b.2.2.2.1, cv b.2.2.2.2)) (mvoX0_384 (3 * oSN + 30)) (fun b h => hO.elim (fun q => q.down v10_13 p_16 (v4 - v7) sz sl td c b h)) rfl (Nat.le_refl _) (t_43 td) rfl rfl rfl (Nat.le_of_ble_eq_true rfl) (fun _ => Nat.le_of_ble_eq_true rfl) (fun _ => ⟨rfl, rfl⟩) dX0_saidSet_146 (fun p_17 => ?_)
      refine s_astoreD (pc := 149) (ls' := [some (2, 43), some (0, v1), some (2, v2), some (0, v3), some (0, v4), some (2, v5), some (0, v6), some (0, v7), some (0, v8), some (2, v9_9), some (0, v10_13), some (2, p_17.1), none]) dX0_saidSet_149 rfl (Nat.le_of_ble_eq_true rfl) ?_
      refine s_aload (pc := 151) dX0_saidSet_151 rfl ?_
      refine s_iload (pc := 153) dX0_saidSet_153 rfl ?_
      refine s_aald7D (pc := 155) dX0_saidSet_155 ?_
      refine s_ifnull (pc := 156) (tgt := 174) dX0_saidSet_156 rfl ?_ ?_
      · refine s_wk [true, true, true, true, true, true, true, true, true, true, false, true, true] (ls' := [some (2, 43), some (0, v1), some (2, v2), some (0, v3), some (0, v4), some (2, v5), some (0, v6), some (0, v7), some (0, v8), some (2, v9_9), none, some (2, p_17.1), none]) rfl ?_
        exact sX0_saidSet_j174 v1 v2 v3 v4 v5 v6 v7 v8 v9_9 p_17.1 p_17.2.1 p_17.2.2.1 p_17.2.2.2.1 p_17.2.2.2.2
      refine s_aload (pc := 159) dX0_saidSet_159 rfl ?_
      refine s_aload (pc := 161) dX0_saidSet_161 rfl ?_
      refine s_aload (pc := 163) dX0_saidSet_163 rfl ?_
      refine s_iload (pc := 165) dX0_saidSet_165 rfl ?_
      refine s_aald7D (pc := 167) dX0_saidSet_167 ?_
      refine s_callS3 (pc := 168) (as := [(2, p_17.1), (2, v9_9), (2, cv p_17.2.2.2.2 (Int.toNat v5) (Int.toNat v6))]) (st := []) (rv := fun b => ((0, b), (p_17.2.1, p_17.2.2.1, tt p_17.2.2.2.1, cv p_17.2.2.2.2))) (st3 := fun b => [(0, b)]) (w3 := fun b => (p_17.2.1, p_17.2.2.1, tt p_17.2.2.2.1, cv p_17.2.2.2.2)) msX0_405 (fun b h => kX0_isAhead p_17.1 v9_9 (cv p_17.2.2.2.2 (Int.toNat v5) (Int.toNat v6)) p_17.2.2.2.1 p_17.2.2.2.2 b h) rfl (by first | decide | exact Nat.le_trans (by decide) (Nat.le_add_left 31 _)) rfl (Nat.le_of_ble_eq_true rfl) (fun _ => Nat.le_of_ble_eq_true rfl) (fun _ => ⟨rfl, rfl⟩) dX0_saidSet_168 (fun p_24 => ?_)
      refine s_if_eq (pc := 171) (tgt := 211) dX0_saidSet_171 rfl ?_ ?_
      · refine s_iinc (pc := 211) (lf := fun x => [some (2, 43), some (0, v1), some (2, v2), some (0, v3), some (0, v4), some (2, v5), some (0, v6), some (0, v7), some (0, x), some (2, v9_9), some (0, v10_13), some (2, p_17.1), none]) dX0_saidSet_211 rfl (fun _ => rfl) (Nat.le_of_ble_eq_true rfl) (fun v8_25 => ?_)
        refine s_goto (pc := 214) (tgt := 38) dX0_saidSet_214 rfl ?_
        refine s_wk [true, true, true, true, true, true, true, true, true, false, false, false, true] (ls' := [some (2, 43), some (0, v1), some (2, v2), some (0, v3), some (0, v4), some (2, v5), some (0, v6), some (0, v7), some (0, v8_25), none, none, none, none]) rfl ?_
        exact Sm.some (fun h => h)
      refine s_wk [true, true, true, true, true, true, true, true, true, true, false, true, true] (ls' := [some (2, 43), some (0, v1), some (2, v2), some (0, v3), some (0, v4), some (2, v5), some (0, v6), some (0, v7), some (0, v8), some (2, v9_9), none, some (2, p_17.1), none]) rfl ?_
      exact sX0_saidSet_j174 v1 v2 v3 v4 v5 v6 v7 v8 v9_9 p_17.1 p_17.2.1 p_17.2.2.1 p_17.2.2.2.1 p_17.2.2.2.2
    refine s_goto (pc := 128) (tgt := 211) dX0_saidSet_128 rfl ?_
    refine s_iinc (pc := 211) (lf := fun x => [some (2, 43), some (0, v1), some (2, v2), some (0, v3), some (0, v4), some (2, v5), some (0, v6), some (0, v7), some (0, x), some (2, v9_9), some (0, v10_13), none, none]) dX0_saidSet_211 rfl (fun _ => rfl) (Nat.le_of_ble_eq_true rfl) (fun v8_26 => ?_)
    refine s_goto (pc := 214) (tgt := 38) dX0_saidSet_214 rfl ?_
    refine s_wk [true, true, true, true, true, true, true, true, true, false, false, true, true] (ls' := [some (2, 43), some (0, v1), some (2, v2), some (0, v3), some (0, v4), some (2, v5), some (0, v6), some (0, v7), some (0, v8_26), none, none, none, none]) rfl ?_
    exact Sm.some (fun h => h)
  refine s_goto (pc := 85) (tgt := 211) dX0_saidSet_85 rfl ?_
  refine s_iinc (pc := 211) (lf := fun x => [some (2, 43), some (0, v1), some (2, v2), some (0, v3), some (0, v4), some (2, v5), some (0, v6), some (0, v7), some (0, x), some (2, v9_9), none, none, none]) dX0_saidSet_211 rfl (fun _ => rfl) (Nat.le_of_ble_eq_true rfl) (fun v8_27 => ?_)
  refine s_goto (pc := 214) (tgt := 38) dX0_saidSet_214 rfl ?_
  refine s_wk [true, true, true, true, true, true, true, true, true, false, true, true, true] (ls' := [some (2, 43), some (0, v1), some (2, v2), some (0, v3), some (0, v4), some (2, v5), some (0, v6), some (0, v7), some (0, v8_27), none, none, none, none]) rfl ?_
  exact Sm.some (fun h => h)
abbrev gX0_saidSet_l18 [Inhabited OrcS] (G : GG) (Γ : Cx) (r : Vv × Wd) (sz sl : Nat) (td : TT) (c : CC) (v1 : Int) (v2 : Int) (v3 : Int) (v4 : Int) (v5 : Int) : (Int × Nat × Nat × TT × CC) → Prop := fun s => WP G Γ muX0_saidSet r 18 [some (2, 43), some (0, v1), some (2, v2), some (0, v3), some (0, v4), some (2, v5), some (0, s.1), none, none, none, none, none, none] [] (s.2.1, s.2.2.1, tt s.2.2.2.1, cv s.2.2.2.2)
abbrev eX0_saidSet_l18 [Inhabited OrcS] (G : GG) (Γ : Cx) (r : Vv × Wd) (sz sl : Nat) (td : TT) (c : CC) (v1 : Int) (v2 : Int) (v3 : Int) (v4 : Int) (v5 : Int) : (Nat × Nat × TT × CC) → Prop := (fun s => WP G Γ muX0_saidSet r 223 [none, none, none, some (0, v3), none, some (2, v5), none, none, none, none, none, none, none] [] (s.1, s.2.1, tt s.2.2.1, cv s.2.2.2))
noncomputable def fX0_saidSet_l18 [Inhabited OrcS] (v1 : Int) (v2 : Int) (v3 : Int) (v4 : Int) (v5 : Int) (v6 : Int) (sz : Nat) (sl : Nat) (td : TT) (c : CC) : Option ((Int × Nat × Nat × TT × CC) ⊕ (Nat × Nat × TT × CC)) :=
  if v6 < shlI 1 v3 then
  (cl (fJ8_bitCount v6 ) fun p_7 =>
   gd (inR (p_7 - 1)) <|
   bd (p_7 - 1) fun v7_8 =>
   cl (wh (fun s => fX0_saidSet_l38 v1 v2 v3 v4 v5 v6 v7_8 s.1 s.2.1 s.2.2.1 s.2.2.2.1 s.2.2.2.2) (0, sz, sl, td, c)) (fun e_28 =>
  gd (inR (v6 + 1)) <| bd (v6 + 1) fun v6_29 =>
   some (.inl (v6_29, e_28.1, e_28.2.1, e_28.2.2.1, e_28.2.2.2))))
  else
  (some (.inr (sz, sl, td, c)))
theorem sX0_saidSet_l18 [Inhabited OrcS] {G : GG} {Γ : Cx} {r : Vv × Wd}  (v1 : Int) (v2 : Int) (v3 : Int) (v4 : Int) (v5 : Int) (v6 : Int) (sz : Nat) (sl : Nat) (td : TT) (c : CC) [hO : Nonempty (PLift (oSOK G))] : Sm (fX0_saidSet_l18 v1 v2 v3 v4 v5 v6 sz sl td c) (fun x => Sum.elim (gX0_saidSet_l18 G Γ r sz sl td c v1 v2 v3 v4 v5) (eX0_saidSet_l18 G Γ r sz sl td c v1 v2 v3 v4 v5) x) (gX0_saidSet_l18 G Γ r sz sl td c v1 v2 v3 v4 v5 (v6, sz, sl, td, c)) := by
  show Sm _ _ (WP G Γ muX0_saidSet r 18 [some (2, 43), some (0, v1), some (2, v2), some (0, v3), some (0, v4), some (2, v5), some (0, v6), none, none, none, none, none, none] [] (sz, sl, tt td, cv c))
  unfold fX0_saidSet_l18
  refine s_iload (pc := 18) dX0_saidSet_18 rfl ?_
  refine s_iconst (pc := 20) dX0_saidSet_20 ?_
  refine s_iload_n (pc := 21) dX0_saidSet_21 rfl ?_
  refine s_ishl (pc := 22) dX0_saidSet_22 ?_
  refine s_icmp_ge (pc := 23) (tgt := 223) dX0_saidSet_23 rfl ?_ ?_
  · refine s_wk [false, false, false, true, false, true, false, true, true, true, true, true, true] (ls' := [none, none, none, some (0, v3), none, some (2, v5), none, none, none, none, none, none, none]) rfl ?_
    exact Sm.some (fun h => h)
  refine s_iload (pc := 26) dX0_saidSet_26 rfl ?_
  refine s_callS3 (pc := 28) (as := [(0, v6)]) (st := []) (rv := fun b => ((0, b), (sz, sl, tt td, cv c))) (st3 := fun b => [(0, b)]) (w3 := fun b => (sz, sl, tt td, cv c)) msX0_352 (fun b h => kJ8_bitCount v6 c b h) rfl (by first | decide | exact Nat.le_trans (by decide) (Nat.le_add_left 31 _)) rfl (Nat.le_of_ble_eq_true rfl) (fun _ => Nat.le_of_ble_eq_true rfl) (fun _ => ⟨rfl, rfl⟩) dX0_saidSet_28 (fun p_7 => ?_)
  refine s_iconst (pc := 31) dX0_saidSet_31 ?_
  refine s_isub (pc := 32) dX0_saidSet_32 ?_
  refine s_istore (pc := 33) (lf := fun x => [some (2, 43), some (0, v1), some (2, v2), some (0, v3), some (0, v4), some (2, v5), some (0, v6), some (0, x), none, none, none, none, none]) dX0_saidSet_33 (fun _ => rfl) (Nat.le_of_ble_eq_true rfl) (fun v7_8 => ?_)
  refine s_iconst (pc := 35) dX0_saidSet_35 ?_
  refine s_istoreD (pc := 36) (ls' := [some (2, 43), some (0, v1), some (2, v2), some (0, v3), some (0, v4), some (2, v5), some (0, v6), some (0, v7_8), some (0, 0), none, none, none, none]) dX0_saidSet_36 rfl (Nat.le_of_ble_eq_true rfl) ?_
  refine s_loop (g := gX0_saidSet_l38 G Γ r sz sl td c v1 v2 v3 v4 v5 v6 v7_8) (Ex := eX0_saidSet_l38 G Γ r sz sl td c v1 v2 v3 v4 v5 v6 v7_8) (s0 := (0, sz, sl, td, c)) (fun s => sX0_saidSet_l38 v1 v2 v3 v4 v5 v6 v7_8 s.1 s.2.1 s.2.2.1 s.2.2.2.1 s.2.2.2.2) ?_
  intro e_28
  show Sm _ _ (WP G Γ muX0_saidSet r 217 [some (2, 43), some (0, v1), some (2, v2), some (0, v3), some (0, v4), some (2, v5), some (0, v6), none, none, none, none, none, none] [] (e_28.1, e_28.2.1, tt e_28.2.2.1, cv e_28.2.2.2))
  refine s_iinc (pc := 217) (lf := fun x => [some (2, 43), some (0, v1), some (2, v2), some (0, v3), some (0, v4), some (2, v5), some (0, x), none, none, none, none, none, none]) dX0_saidSet_217 rfl (fun _ => rfl) (Nat.le_of_ble_eq_true rfl) (fun v6_29 => ?_)
  refine s_goto (pc := 220) (tgt := 18) dX0_saidSet_220 rfl ?_
  exact Sm.some (fun h => h)
noncomputable def fX0_saidSet [Inhabited OrcS] (a1 : Int) (a2 : Int) (a3 : Int) (a4 : Int) (sz : Nat) (sl : Nat) (td : TT) (c : CC) : Option (Int × Nat × Nat × TT × CC) :=
  gd (kK ≤ sz ∧ (0 : Int) ≤ shlI 1 a3 ∧ shlI 1 a3 ≤ 100000) <| bd (upT td sz (50 + 7, Int.toNat (shlI 1 a3))) fun tq_1 => bd (zc c sz (50 + 7)) fun c_2 =>
   bd (((sz : Nat) : Int)) fun v5_3 =>
   gd (kK ≤ sz + 1 ∧ (0 : Int) ≤ 0 ∧ (0 : Int) ≤ 100000) <| bd (upT tq_1 (sz + 1) (50 + 0, Int.toNat 0)) fun tq_4 => bd (zc c_2 (sz + 1) (50 + 0)) fun c_5 =>
   gd (168 ≤ v5_3 ∧ (tt tq_4 (Int.toNat v5_3)).1 = 57 ∧ (0 : Int) ≤ 0 ∧ (0 : Int) < ((tt tq_4 (Int.toNat v5_3)).2 : Int) ∧ (0 : Int) ≤ ((sz + 1 : Nat) : Int) ∧ (tt tq_4 (Int.toNat (((sz + 1 : Nat) : Int)))).1 = 50) <| bd (up2 c_5 (Int.toNat v5_3) (Int.toNat 0) (((sz + 1 : Nat) : Int))) fun c_6 =>
   cl (wh (fun s => fX0_saidSet_l18 a1 a2 a3 a4 v5_3 s.1 s.2.1 s.2.2.1 s.2.2.2.1 s.2.2.2.2) (1, ((sz + 1) + 1), ((sl + Int.toNat (shlI 1 a3)) + Int.toNat 0), tq_4, c_6)) (fun e_30 =>
  gd (inR ((shlI 1 a3) - 1)) <|
   gd ((0 : Int) ≤ v5_3 ∧ (tt e_30.2.2.1 (Int.toNat v5_3)).1 = 57 ∧ (0 : Int) ≤ (shlI 1 a3) - 1 ∧ (shlI 1 a3) - 1 < ((tt e_30.2.2.1 (Int.toNat v5_3)).2 : Int)) <|
   some ((cv e_30.2.2.2 (Int.toNat v5_3) (Int.toNat ((shlI 1 a3) - 1))), e_30.1, e_30.2.1, e_30.2.2.1, e_30.2.2.2))
theorem sX0_saidSet [Inhabited OrcS] {G : GG} {Γ : Cx} {r : Vv × Wd}  (a1 : Int) (a2 : Int) (a3 : Int) (a4 : Int) (sz : Nat) (sl : Nat) (td : TT) (c : CC) [hO : Nonempty (PLift (oSOK G))] : Sm (fX0_saidSet a1 a2 a3 a4 sz sl td c) (fun x => r = ((2, x.1), (x.2.1, x.2.2.1, tt x.2.2.2.1, cv x.2.2.2.2))) (WP G Γ muX0_saidSet r 0 [some (2, 43), some (0, a1), some (2, a2), some (0, a3), some (0, a4), none, none, none, none, none, none, none, none] [] (sz, sl, tt td, cv c)) := by
  unfold fX0_saidSet
  refine s_iconst (pc := 0) dX0_saidSet_0 ?_
  refine s_iload_n (pc := 1) dX0_saidSet_1 rfl ?_
  refine s_ishl (pc := 2) dX0_saidSet_2 ?_
  refine s_anewAM (pc := 3) (q := 7) (ty := .int) (by decide) rfl q212 (PP.aov q211) dX0_saidSet_3 (fun tq_1 c_2 => ?_)
  refine s_astore (pc := 6) (lf := fun x => [some (2, 43), some (0, a1), some (2, a2), some (0, a3), some (0, a4), some (2, x), none, none, none, none, none, none, none]) dX0_saidSet_6 (fun _ => rfl) (Nat.le_of_ble_eq_true rfl) (fun v5_3 => ?_)
  refine s_aload (pc := 8) dX0_saidSet_8 rfl ?_
  refine s_iconst (pc := 10) dX0_saidSet_10 ?_
  refine s_iconst (pc := 11) dX0_saidSet_11 ?_
  refine s_newaM (pc := 12) (at0 := .int) (q := 0) (by decide) rfl q205 (by decide) (fun _ _ h => h) dX0_saidSet_12 (fun tq_4 c_5 => ?_)
  refine s_aastADM (pc := 14) dX0_saidSet_14 (fun c_6 => ?_)
  refine s_iconst (pc := 15) dX0_saidSet_15 ?_
  refine s_istoreD (pc := 16) (ls' := [some (2, 43), some (0, a1), some (2, a2), some (0, a3), some (0, a4), some (2, v5_3), some (0, 1), none, none, none, none, none, none]) dX0_saidSet_16 rfl (Nat.le_of_ble_eq_true rfl) ?_
  refine s_loop (g := gX0_saidSet_l18 G Γ r ((sz + 1) + 1) ((sl + Int.toNat (shlI 1 a3)) + Int.toNat 0) tq_4 c_6 a1 a2 a3 a4 v5_3) (Ex := eX0_saidSet_l18 G Γ r ((sz + 1) + 1) ((sl + Int.toNat (shlI 1 a3)) + Int.toNat 0) tq_4 c_6 a1 a2 a3 a4 v5_3) (s0 := (1, ((sz + 1) + 1), ((sl + Int.toNat (shlI 1 a3)) + Int.toNat 0), tq_4, c_6)) (fun s => sX0_saidSet_l18 a1 a2 a3 a4 v5_3 s.1 s.2.1 s.2.2.1 s.2.2.2.1 s.2.2.2.2) ?_
  intro e_30
  show Sm _ _ (WP G Γ muX0_saidSet r 223 [none, none, none, some (0, a3), none, some (2, v5_3), none, none, none, none, none, none, none] [] (e_30.1, e_30.2.1, tt e_30.2.2.1, cv e_30.2.2.2))
  refine s_aload (pc := 223) dX0_saidSet_223 rfl ?_
  refine s_iconst (pc := 225) dX0_saidSet_225 ?_
  refine s_iload_n (pc := 226) dX0_saidSet_226 rfl ?_
  refine s_ishl (pc := 227) dX0_saidSet_227 ?_
  refine s_iconst (pc := 228) dX0_saidSet_228 ?_
  refine s_isub (pc := 229) dX0_saidSet_229 ?_
  refine s_aald7D (pc := 230) dX0_saidSet_230 ?_
  exact s_aret (pc := 231) dX0_saidSet_231 rfl ⟨rfl, by decide, by decide⟩ (fun h => h)
theorem kX0_saidSet [Inhabited OrcS] {G : GG}  (a1 : Int) (a2 : Int) (a3 : Int) (a4 : Int) (sz : Nat) (sl : Nat) (td : TT) (c : CC) [hO : Nonempty (PLift (oSOK G))] (x : (Int × Nat × Nat × TT × CC)) (h : fX0_saidSet a1 a2 a3 a4 sz sl td c = some x) : Ct G yX0_saidSet muX0_saidSet [(2, 43), (0, a1), (2, a2), (0, a3), (0, a4)] (sz, sl, tt td, cv c) ((2, x.1), (x.2.1, x.2.2.1, tt x.2.2.2.1, cv x.2.2.2.2)) :=
  Ct.of (n := 8) (ls0 := [some (2, 43), some (0, a1), some (2, a2), some (0, a3), some (0, a4), none, none, none, none, none, none, none, none]) (by decide) rfl rfl ⟨show (some (.array .int) : Option FieldType) ≠ some .float by decide, show (some (.array .int) : Option FieldType) ≠ some .double by decide⟩ (Nat.le_of_ble_eq_true rfl) rfl (sX0_saidSet (G := G) (Γ := cx0) a1 a2 a3 a4 sz sl td c x h rfl).1 (show (2 : Nat) ≠ 9 by decide) (fun Γ => sX0_saidSet a1 a2 a3 a4 sz sl td c x h rfl)
