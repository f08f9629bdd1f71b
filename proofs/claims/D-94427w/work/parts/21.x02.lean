/-! LAYER 2: methods of HeldTongue, by gen/decomp2.py -/
set_option maxRecDepth 100000
theorem flX0_261 : FL RX0 261 0 30 := ⟨_, _, _, cf0, by decide, q243⟩
theorem mvX0_264 : MV RX0 264 RX0 yX0_isLike muX0_isLike 5 := ⟨lw_V q1067 q1069 qs36 q125 q1070, by decide +kernel, Nat.le_of_ble_eq_true rfl⟩
theorem fpX0_261 (nm : String) : FP RX0 261 0 30 nm := ⟨_, _, _, cf0, by decide, q243, Or.inl rfl⟩
theorem fpX0_261t : fty 0 30 ≠ .boolean ∧ fty 0 30 ≠ .byte ∧ fty 0 30 ≠ .char ∧ fty 0 30 ≠ .short := by decide
abbrev muX0_numbered : MI := (cX0_numbered, RX0, 6, some .int, 2, "numbered")
abbrev gX0_numbered_l14 (G : GG) (Γ : Cx) (r : Vv × Wd) (sz sl : Nat) (td : TT) (c : CC) (v1 : Int) (v2 : Int) (v3 : Int) (v4 : Int) : (Int) → Prop := fun s => WP G Γ muX0_numbered r 14 [some (2, 43), some (0, v1), some (0, v2), some (0, v3), some (0, v4), some (0, s)] [] (sz, sl, tt td, cv c)
abbrev eX0_numbered_l14 (G : GG) (Γ : Cx) (r : Vv × Wd) (sz sl : Nat) (td : TT) (c : CC) (v1 : Int) (v2 : Int) (v3 : Int) (v4 : Int) : ((Int) ⊕ (Unit)) → Prop := (Sum.elim (fun s => WP G Γ muX0_numbered r 37 [none, none, none, none, none, some (0, s)] [] (sz, sl, tt td, cv c)) (fun s => WP G Γ muX0_numbered r 46 [some (2, 43), some (0, v1), some (0, v2), some (0, v3), some (0, v4), none] [] (sz, sl, tt td, cv c)))
noncomputable def fX0_numbered_l14 (v1 : Int) (v2 : Int) (v3 : Int) (v4 : Int) (v5 : Int) (c : CC) : Option ((Int) ⊕ ((Int) ⊕ (Unit))) :=
  if v5 < c 43 30 then
  (cl (fX0_isLike v5 v1 v2 v4 v3 c) fun p_2 =>
   if p_2 = 0 then
  (gd (inR (v5 + 1)) <| bd (v5 + 1) fun v5_3 =>
   some (.inl v5_3))
  else
  (some (.inr (.inl v5))))
  else
  (some (.inr (.inr ())))
theorem sX0_numbered_l14 {G : GG} {Γ : Cx} {r : Vv × Wd} {sz : Nat} {sl : Nat} {td : TT} (v1 : Int) (v2 : Int) (v3 : Int) (v4 : Int) (v5 : Int) (c : CC) : Sm (fX0_numbered_l14 v1 v2 v3 v4 v5 c) (fun x => Sum.elim (gX0_numbered_l14 G Γ r sz sl td c v1 v2 v3 v4) (eX0_numbered_l14 G Γ r sz sl td c v1 v2 v3 v4) x) (gX0_numbered_l14 G Γ r sz sl td c v1 v2 v3 v4 v5) := by
  show Sm _ _ (WP G Γ muX0_numbered r 14 [some (2, 43), some (0, v1), some (0, v2), some (0, v3), some (0, v4), some (0, v5)] [] (sz, sl, tt td, cv c))
  unfold fX0_numbered_l14
  refine s_iload (pc := 14) dX0_numbered_14 rfl ?_
  refine s_aload_n (pc := 16) dX0_numbered_16 rfl ?_
  refine s_get (pc := 17) (a := 43) (v := c 43 30) flX0_261 (t_43 _) rfl (g_43_30 _) rfl dX0_numbered_17 ?_
  refine s_icmp_ge (pc := 20) (tgt := 46) dX0_numbered_20 rfl ?_ ?_
  · refine s_wk [true, true, true, true, true, false] (ls' := [some (2, 43), some (0, v1), some (0, v2), some (0, v3), some (0, v4), none]) rfl ?_
    exact Sm.some (fun h => h)
  refine s_aload_n (pc := 23) dX0_numbered_23 rfl ?_
  refine s_iload (pc := 24) dX0_numbered_24 rfl ?_
  refine s_iload_n (pc := 26) dX0_numbered_26 rfl ?_
  refine s_iload_n (pc := 27) dX0_numbered_27 rfl ?_
  refine s_iload (pc := 28) dX0_numbered_28 rfl ?_
  refine s_iload_n (pc := 30) dX0_numbered_30 rfl ?_
  refine s_callV3 (pc := 31) (a := 43) (as := [(0, v5), (0, v1), (0, v2), (0, v4), (0, v3)]) (st := []) (rv := fun b => ((0, b), (sz, sl, tt td, cv c))) (st3 := fun b => [(0, b)]) (w3 := fun b => (sz, sl, tt td, cv c)) mvX0_264 (fun b h => kX0_isLike v5 v1 v2 v4 v3 c b h) rfl (by decide) (t_43 td) rfl rfl rfl (Nat.le_of_ble_eq_true rfl) (fun _ => Nat.le_of_ble_eq_true rfl) (fun _ => ⟨rfl, rfl⟩) dX0_numbered_31 (fun p_2 => ?_)
  refine s_if_eq (pc := 34) (tgt := 40) dX0_numbered_34 rfl ?_ ?_
  · refine s_iinc (pc := 40) (lf := fun x => [some (2, 43), some (0, v1), some (0, v2), some (0, v3), some (0, v4), some (0, x)]) dX0_numbered_40 rfl (fun _ => rfl) (Nat.le_of_ble_eq_true rfl) (fun v5_3 => ?_)
    refine s_goto (pc := 43) (tgt := 14) dX0_numbered_43 rfl ?_
    exact Sm.some (fun h => h)
  refine s_wk [false, false, false, false, false, true] (ls' := [none, none, none, none, none, some (0, v5)]) rfl ?_
  exact Sm.some (fun h => h)
noncomputable def fX0_numbered (a1 : Int) (a2 : Int) (a3 : Int) (c : CC) : Option (Int × CC) :=
  gd ((0 : Int) ≤ c 43 30 ∧ c 43 30 < 8001) <|
   bd (c 101 (Int.toNat (c 43 30))) fun v4_1 =>
   cl (wh (fun s => fX0_numbered_l14 a1 a2 a3 v4_1 s c) 0) (Sum.elim (fun e_4 =>
  some (e_4, c)) (fun e_5 =>
  gd ((0 : Int) ≤ c 43 30 ∧ c 43 30 < 8000) <| bd (up2 c 99 (Int.toNat (c 43 30)) a1) fun c_6 =>
   gd ((0 : Int) ≤ c_6 43 30 ∧ c_6 43 30 < 8000) <| bd (up2 c_6 100 (Int.toNat (c_6 43 30)) a2) fun c_7 =>
   gd (inR ((c_7 43 30) + 1)) <|
   bd (up2 c_7 43 30 ((c_7 43 30) + 1)) fun c_8 =>
   gd (inR (v4_1 + a3)) <|
   gd ((0 : Int) ≤ c_8 43 30 ∧ c_8 43 30 < 8001) <| bd (up2 c_8 101 (Int.toNat (c_8 43 30)) (v4_1 + a3)) fun c_9 =>
   gd (inR ((c_9 43 30) - 1)) <|
   some (((c_9 43 30) - 1), c_9)))
theorem sX0_numbered {G : GG} {Γ : Cx} {r : Vv × Wd} {sz : Nat} {sl : Nat} {td : TT} (a1 : Int) (a2 : Int) (a3 : Int) (c : CC) : Sm (fX0_numbered a1 a2 a3 c) (fun x => r = ((0, x.1), (sz, sl, tt td, cv x.2))) (WP G Γ muX0_numbered r 0 [some (2, 43), some (0, a1), some (0, a2), some (0, a3), none, none] [] (sz, sl, tt td, cv c)) := by
  unfold fX0_numbered
  refine s_aload_n (pc := 0) dX0_numbered_0 rfl ?_
  refine s_get (pc := 1) (a := 43) (v := 101) flX0_92 (t_43 _) rfl (g_43_28 _) rfl dX0_numbered_1 ?_
  refine s_aload_n (pc := 4) dX0_numbered_4 rfl ?_
  refine s_get (pc := 5) (a := 43) (v := c 43 30) flX0_261 (t_43 _) rfl (g_43_30 _) rfl dX0_numbered_5 ?_
  refine s_ialdM (pc := 8) (a := 101) (t_101 _) rfl r_101 dX0_numbered_8 ?_
  refine s_istore (pc := 9) (lf := fun x => [some (2, 43), some (0, a1), some (0, a2), some (0, a3), some (0, x), none]) dX0_numbered_9 (fun _ => rfl) (Nat.le_of_ble_eq_true rfl) (fun v4_1 => ?_)
  refine s_iconst (pc := 11) dX0_numbered_11 ?_
  refine s_istoreD (pc := 12) (ls' := [some (2, 43), some (0, a1), some (0, a2), some (0, a3), some (0, v4_1), some (0, 0)]) dX0_numbered_12 rfl (Nat.le_of_ble_eq_true rfl) ?_
  refine s_loop (g := gX0_numbered_l14 G Γ r sz sl td c a1 a2 a3 v4_1) (Ex := eX0_numbered_l14 G Γ r sz sl td c a1 a2 a3 v4_1) (s0 := 0) (fun s => sX0_numbered_l14 a1 a2 a3 v4_1 s c) ?_
  refine s_elim ?_ ?_
  · intro e_4
    show Sm _ _ (WP G Γ muX0_numbered r 37 [none, none, none, none, none, some (0, e_4)] [] (sz, sl, tt td, cv c))
    refine s_iload (pc := 37) dX0_numbered_37 rfl ?_
    exact s_iret (pc := 39) dX0_numbered_39 rfl (fun h => h)
  intro e_5
  show Sm _ _ (WP G Γ muX0_numbered r 46 [some (2, 43), some (0, a1), some (0, a2), some (0, a3), some (0, v4_1), none] [] (sz, sl, tt td, cv c))
  refine s_aload_n (pc := 46) dX0_numbered_46 rfl ?_
  refine s_get (pc := 47) (a := 43) (v := 99) flX0_86 (t_43 _) rfl (g_43_26 _) rfl dX0_numbered_47 ?_
  refine s_aload_n (pc := 50) dX0_numbered_50 rfl ?_
  refine s_get (pc := 51) (a := 43) (v := c 43 30) flX0_261 (t_43 _) rfl (g_43_30 _) rfl dX0_numbered_51 ?_
  refine s_iload_n (pc := 54) dX0_numbered_54 rfl ?_
  refine s_iastM (pc := 55) (a := 99) (t_99 _) rfl kO_99 r_99 dX0_numbered_55 (fun c_6 => ?_)
  refine s_aload_n (pc := 56) dX0_numbered_56 rfl ?_
  refine s_get (pc := 57) (a := 43) (v := 100) flX0_89 (t_43 _) rfl (g_43_27 _) rfl dX0_numbered_57 ?_
  refine s_aload_n (pc := 60) dX0_numbered_60 rfl ?_
  refine s_get (pc := 61) (a := 43) (v := c_6 43 30) flX0_261 (t_43 _) rfl (g_43_30 _) rfl dX0_numbered_61 ?_
  refine s_iload_n (pc := 64) dX0_numbered_64 rfl ?_
  refine s_iastM (pc := 65) (a := 100) (t_100 _) rfl kO_100 r_100 dX0_numbered_65 (fun c_7 => ?_)
  refine s_aload_n (pc := 66) dX0_numbered_66 rfl ?_
  refine s_dup (pc := 67) (by decide : ¬ (2 : Nat) = 1) dX0_numbered_67 ?_
  refine s_get (pc := 68) (a := 43) (v := c_7 43 30) flX0_261 (t_43 _) rfl (g_43_30 _) rfl dX0_numbered_68 ?_
  refine s_iconst (pc := 71) dX0_numbered_71 ?_
  refine s_iadd (pc := 72) dX0_numbered_72 ?_
  refine s_putM (pc := 73) (a := 43) (fpX0_261 _) (t_43 _) rfl kO_43 n_43_30 rfl (fpX0_261t) dX0_numbered_73 (fun c_8 => ?_)
  refine s_aload_n (pc := 76) dX0_numbered_76 rfl ?_
  refine s_get (pc := 77) (a := 43) (v := 101) flX0_92 (t_43 _) rfl (g_43_28 _) rfl dX0_numbered_77 ?_
  refine s_aload_n (pc := 80) dX0_numbered_80 rfl ?_
  refine s_get (pc := 81) (a := 43) (v := c_8 43 30) flX0_261 (t_43 _) rfl (g_43_30 _) rfl dX0_numbered_81 ?_
  refine s_iload (pc := 84) dX0_numbered_84 rfl ?_
  refine s_iload_n (pc := 86) dX0_numbered_86 rfl ?_
  refine s_iadd (pc := 87) dX0_numbered_87 ?_
  refine s_iastM (pc := 88) (a := 101) (t_101 _) rfl kO_101 r_101 dX0_numbered_88 (fun c_9 => ?_)
  refine s_aload_n (pc := 89) dX0_numbered_89 rfl ?_
  refine s_get (pc := 90) (a := 43) (v := c_9 43 30) flX0_261 (t_43 _) rfl (g_43_30 _) rfl dX0_numbered_90 ?_
  refine s_iconst (pc := 93) dX0_numbered_93 ?_
  refine s_isub (pc := 94) dX0_numbered_94 ?_
  exact s_iret (pc := 95) dX0_numbered_95 rfl (fun h => h)
theorem kX0_numbered {G : GG} {sz : Nat} {sl : Nat} {td : TT} (a1 : Int) (a2 : Int) (a3 : Int) (c : CC) (x : (Int × CC)) (h : fX0_numbered a1 a2 a3 c = some x) : Ct G yX0_numbered muX0_numbered [(2, 43), (0, a1), (0, a2), (0, a3)] (sz, sl, tt td, cv c) ((0, x.1), (sz, sl, tt td, cv x.2)) :=
  Ct.of (n := 2) (ls0 := [some (2, 43), some (0, a1), some (0, a2), some (0, a3), none, none]) (by decide) rfl rfl ⟨show (some .int : Option FieldType) ≠ some .float by decide, show (some .int : Option FieldType) ≠ some .double by decide⟩ (Nat.le_of_ble_eq_true rfl) rfl ⟨Nat.le_refl _, Nat.le_refl _⟩ (show (0 : Nat) ≠ 9 by decide) (fun Γ => sX0_numbered a1 a2 a3 c x h rfl)
abbrev muX7_part : MI := (cX7_part, RX7, 3, some .int, 1, "part")
noncomputable def fX7_part (a0 : Int) (a1 : Int) (a2 : Int) (td : TT) (c : CC) : Option Int :=
  some a2
theorem sX7_part {G : GG} {Γ : Cx} {r : Vv × Wd} {sz : Nat} {sl : Nat} (a0 : Int) (a1 : Int) (a2 : Int) (td : TT) (c : CC) : Sm (fX7_part a0 a1 a2 td c) (fun x => r = ((0, x), (sz, sl, tt td, cv c))) (WP G Γ muX7_part r 0 [some (2, a0), some (0, a1), some (0, a2)] [] (sz, sl, tt td, cv c)) := by
  unfold fX7_part
  refine s_iload_n (pc := 0) dX7_part_0 rfl ?_
  exact s_iret (pc := 1) dX7_part_1 rfl (fun h => h)
theorem kX7_part {G : GG} {sz : Nat} {sl : Nat} (a0 : Int) (a1 : Int) (a2 : Int) (td : TT) (c : CC) (x : Int) (h : fX7_part a0 a1 a2 td c = some x) : Ct G yX7_part muX7_part [(2, a0), (0, a1), (0, a2)] (sz, sl, tt td, cv c) ((0, x), (sz, sl, tt td, cv c)) :=
  Ct.of (n := 0) (ls0 := [some (2, a0), some (0, a1), some (0, a2)]) (by decide) rfl rfl ⟨show (some .int : Option FieldType) ≠ some .float by decide, show (some .int : Option FieldType) ≠ some .double by decide⟩ (Nat.le_of_ble_eq_true rfl) rfl ⟨Nat.le_refl _, Nat.le_refl _⟩ (show (0 : Nat) ≠ 9 by decide) (fun Γ => sX7_part a0 a1 a2 td c x h rfl)
theorem flX9_18 : FL RX9 18 7 6 := ⟨_, _, _, cf7, by decide, q616⟩
theorem mqX9_22 : MSU RX9 22 yX7_part muX7_part 2 := ⟨lw_SU q1061 q1051 q627 q1050 q140 q1062, by decide +kernel, by decide⟩
abbrev muX9_part : MI := (cX9_part, RX9, 3, some .int, 2, "part")
noncomputable def fX9_part (a0 : Int) (a1 : Int) (a2 : Int) (td : TT) (c : CC) : Option Int :=
  gd ((0 : Int) ≤ a0 ∧ (tt td (Int.toNat a0)).1 = 7) <|
   if cv c (Int.toNat a0) 6 = 0 then
  (gd ((0 : Int) ≤ a0 ∧ (tt td (Int.toNat a0)).1 = 7) <| cl (fX7_part a0 a1 a2 td c) fun p_1 =>
   some p_1)
  else
  (gd (inR (1 - a2)) <|
   some (1 - a2))
theorem sX9_part {G : GG} {Γ : Cx} {r : Vv × Wd} {sz : Nat} {sl : Nat} (a0 : Int) (a1 : Int) (a2 : Int) (td : TT) (c : CC) : Sm (fX9_part a0 a1 a2 td c) (fun x => r = ((0, x), (sz, sl, tt td, cv c))) (WP G Γ muX9_part r 0 [some (2, a0), some (0, a1), some (0, a2)] [] (sz, sl, tt td, cv c)) := by
  unfold fX9_part
  refine s_aload_n (pc := 0) dX9_part_0 rfl ?_
  refine s_getD (pc := 1) flX9_18 rfl dX9_part_1 ?_
  refine s_if_eq (pc := 4) (tgt := 13) dX9_part_4 rfl ?_ ?_
  · refine s_aload_n (pc := 13) dX9_part_13 rfl ?_
    refine s_iload_n (pc := 14) dX9_part_14 rfl ?_
    refine s_iload_n (pc := 15) dX9_part_15 rfl ?_
    refine s_callSUD (pc := 16) (ci := 7) (as := [(0, a1), (0, a2)]) (st := []) (rv := fun b => ((0, b), (sz, sl, tt td, cv c))) (st3 := fun b => [(0, b)]) (w3 := fun b => (sz, sl, tt td, cv c)) mqX9_22 (fun b h => kX7_part a0 a1 a2 td c b h) rfl (by decide) rfl rfl (Nat.le_of_ble_eq_true rfl) (fun _ => Nat.le_of_ble_eq_true rfl) (fun _ => ⟨rfl, rfl⟩) dX9_part_16 (fun p_1 => ?_)
    exact s_iret (pc := 19) dX9_part_19 rfl (fun h => h)
  refine s_iconst (pc := 7) dX9_part_7 ?_
  refine s_iload_n (pc := 8) dX9_part_8 rfl ?_
  refine s_isub (pc := 9) dX9_part_9 ?_
  refine s_goto (pc := 10) (tgt := 19) dX9_part_10 rfl ?_
  exact s_iret (pc := 19) dX9_part_19 rfl (fun h => h)
theorem kX9_part {G : GG} {sz : Nat} {sl : Nat} (a0 : Int) (a1 : Int) (a2 : Int) (td : TT) (c : CC) (x : Int) (h : fX9_part a0 a1 a2 td c = some x) : Ct G yX9_part muX9_part [(2, a0), (0, a1), (0, a2)] (sz, sl, tt td, cv c) ((0, x), (sz, sl, tt td, cv c)) :=
  Ct.of (n := 0) (ls0 := [some (2, a0), some (0, a1), some (0, a2)]) (by decide) rfl rfl ⟨show (some .int : Option FieldType) ≠ some .float by decide, show (some .int : Option FieldType) ≠ some .double by decide⟩ (Nat.le_of_ble_eq_true rfl) rfl ⟨Nat.le_refl _, Nat.le_refl _⟩ (show (0 : Nat) ≠ 9 by decide) (fun Γ => sX9_part a0 a1 a2 td c x h rfl)
abbrev muX11_part : MI := (cX11_part, RX11, 3, some .int, 1, "part")
noncomputable def fX11_part (a0 : Int) (a1 : Int) (a2 : Int) (td : TT) (c : CC) : Option Int :=
  gd ((2 : Int) ≠ 0 ∧ inR (Int.tmod a2 2)) <|
   if Int.tmod a2 2 = 0 then
  (gd ((2 : Int) ≠ 0 ∧ inR (Int.tdiv a2 2)) <|
   some (Int.tdiv a2 2))
  else
  (gd (inR (2 * a1)) <|
   gd (inR ((2 * a1) - 1)) <|
   gd ((2 : Int) ≠ 0 ∧ inR (Int.tdiv a2 2)) <|
   gd (inR (((2 * a1) - 1) - (Int.tdiv a2 2))) <|
   some (((2 * a1) - 1) - (Int.tdiv a2 2)))
theorem sX11_part {G : GG} {Γ : Cx} {r : Vv × Wd} {sz : Nat} {sl : Nat} (a0 : Int) (a1 : Int) (a2 : Int) (td : TT) (c : CC) : Sm (fX11_part a0 a1 a2 td c) (fun x => r = ((0, x), (sz, sl, tt td, cv c))) (WP G Γ muX11_part r 0 [some (2, a0), some (0, a1), some (0, a2)] [] (sz, sl, tt td, cv c)) := by
  unfold fX11_part
  refine s_iload_n (pc := 0) dX11_part_0 rfl ?_
  refine s_iconst (pc := 1) dX11_part_1 ?_
  refine s_irem (pc := 2) dX11_part_2 ?_
  refine s_if_ne (pc := 3) (tgt := 12) dX11_part_3 rfl ?_ ?_
  · refine s_iconst (pc := 12) dX11_part_12 ?_
    refine s_iload_n (pc := 13) dX11_part_13 rfl ?_
    refine s_imul (pc := 14) dX11_part_14 ?_
    refine s_iconst (pc := 15) dX11_part_15 ?_
    refine s_isub (pc := 16) dX11_part_16 ?_
    refine s_iload_n (pc := 17) dX11_part_17 rfl ?_
    refine s_iconst (pc := 18) dX11_part_18 ?_
    refine s_idiv (pc := 19) dX11_part_19 ?_
    refine s_isub (pc := 20) dX11_part_20 ?_
    exact s_iret (pc := 21) dX11_part_21 rfl (fun h => h)
  refine s_iload_n (pc := 6) dX11_part_6 rfl ?_
  refine s_iconst (pc := 7) dX11_part_7 ?_
  refine s_idiv (pc := 8) dX11_part_8 ?_
  refine s_goto (pc := 9) (tgt := 21) dX11_part_9 rfl ?_
  exact s_iret (pc := 21) dX11_part_21 rfl (fun h => h)
theorem kX11_part {G : GG} {sz : Nat} {sl : Nat} (a0 : Int) (a1 : Int) (a2 : Int) (td : TT) (c : CC) (x : Int) (h : fX11_part a0 a1 a2 td c = some x) : Ct G yX11_part muX11_part [(2, a0), (0, a1), (0, a2)] (sz, sl, tt td, cv c) ((0, x), (sz, sl, tt td, cv c)) :=
  Ct.of (n := 0) (ls0 := [some (2, a0), some (0, a1), some (0, a2)]) (by decide) rfl rfl ⟨show (some .int : Option FieldType) ≠ some .float by decide, show (some .int : Option FieldType) ≠ some .double by decide⟩ (Nat.le_of_ble_eq_true rfl) rfl ⟨Nat.le_refl _, Nat.le_refl _⟩ (show (0 : Nat) ≠ 9 by decide) (fun Γ => sX11_part a0 a1 a2 td c x h rfl)
noncomputable def fV_part (z : Int) (a1 : Int) (a2 : Int) (td : TT) (c : CC) : Option Int :=
  if 0 ≤ z then if (tt td (Int.toNat z)).1 = 6 then fX7_part z a1 a2 td c else if (tt td (Int.toNat z)).1 = 7 then fX9_part z a1 a2 td c else if (tt td (Int.toNat z)).1 = 8 then fX7_part z a1 a2 td c else if (tt td (Int.toNat z)).1 = 9 then fX11_part z a1 a2 td c else if (tt td (Int.toNat z)).1 = 10 then fX7_part z a1 a2 td c else none else none
theorem muX0_268_6 : MU RX0 268 RX8 (⟨"HeldTongue$Sense", "part", "(II)I"⟩ : MethodName) yX7_part muX7_part 2 := ⟨"HeldTongue$Sense", fun R s args rm hts hP hR => va_cwU 2 hts (lw_U (ow := "HeldTongue$Sense") q1049 q1051 q1057 q1050 q140 q1062) rfl rfl rfl rfl (by decide +kernel) hR⟩
theorem muX0_268_7 : MU RX0 268 RX9 (⟨"HeldTongue$Sense", "part", "(II)I"⟩ : MethodName) yX9_part muX9_part 2 := ⟨"HeldTongue$Sense", fun R s args rm hts hP hR => va_cwO 2 hts (lw_O (ow := "HeldTongue$Sense") q1049 q1051 q1050 q1058 q1059 q142 q1060) rfl rfl rfl q1062 (by decide +kernel) hR⟩
theorem muX0_268_8 : MU RX0 268 RX10 (⟨"HeldTongue$Sense", "part", "(II)I"⟩ : MethodName) yX7_part muX7_part 2 := ⟨"HeldTongue$Sense", fun R s args rm hts hP hR => va_cwU 2 hts (lw_U (ow := "HeldTongue$Sense") q1049 q1051 q1056 q1050 q140 q1062) rfl rfl rfl rfl (by decide +kernel) hR⟩
theorem muX0_268_9 : MU RX0 268 RX11 (⟨"HeldTongue$Sense", "part", "(II)I"⟩ : MethodName) yX11_part muX11_part 2 := ⟨"HeldTongue$Sense", fun R s args rm hts hP hR => va_cwO 2 hts (lw_O (ow := "HeldTongue$Sense") q1049 q1051 q1050 q1053 q1054 q144 q1055) rfl rfl rfl q1062 (by decide +kernel) hR⟩
theorem muX0_268_10 : MU RX0 268 RX12 (⟨"HeldTongue$Sense", "part", "(II)I"⟩ : MethodName) yX7_part muX7_part 2 := ⟨"HeldTongue$Sense", fun R s args rm hts hP hR => va_cwU 2 hts (lw_U (ow := "HeldTongue$Sense") q1049 q1051 q1052 q1050 q140 q1062) rfl rfl rfl rfl (by decide +kernel) hR⟩
theorem vdX0_268 {G : GG} {sz sl : Nat} {dd : Nat} (z : Int) (a1 : Int) (a2 : Int) (td : TT) (c : CC) (b : Int) (h : fV_part z a1 a2 td c = some b) (hd : 2 + 1 ≤ dd) : ∃ (a ci N : Nat) (C : String) (y : MethodName) (μy : MI), ((sz, sl, tt td, cv c) : Wd).2.2.1 a = (ci, N) ∧ (kCl[ci]?.map (fun q => q.1)) = some C ∧ z = (a : Int) ∧ MU RX0 268 C (⟨"HeldTongue$Sense", "part", "(II)I"⟩ : MethodName) y μy 2 ∧ μy.2.2.1 ≤ 45 ∧ μy.2.2.2.2.1 + 1 ≤ dd ∧ Ct G y μy ((2, z) :: [(0, a1), (0, a2)]) (sz, sl, tt td, cv c) ((0, b), (sz, sl, tt td, cv c)) := by
  unfold fV_part at h
  by_cases h0 : 0 ≤ z
  · rw [if_pos h0] at h
    by_cases h6 : (tt td (Int.toNat z)).1 = 6
    · rw [if_pos h6] at h
      exact ⟨z.toNat, 6, _, _, _, _, dyn_t h6, rfl, dyn_z h0, muX0_268_6, by decide, Nat.le_trans (by decide) hd, kX7_part z a1 a2 td c b h⟩
    rw [if_neg h6] at h
    by_cases h7 : (tt td (Int.toNat z)).1 = 7
    · rw [if_pos h7] at h
      exact ⟨z.toNat, 7, _, _, _, _, dyn_t h7, rfl, dyn_z h0, muX0_268_7, by decide, Nat.le_trans (by decide) hd, kX9_part z a1 a2 td c b h⟩
    rw [if_neg h7] at h
    by_cases h8 : (tt td (Int.toNat z)).1 = 8
    · rw [if_pos h8] at h
      exact ⟨z.toNat, 8, _, _, _, _, dyn_t h8, rfl, dyn_z h0, muX0_268_8, by decide, Nat.le_trans (by decide) hd, kX7_part z a1 a2 td c b h⟩
    rw [if_neg h8] at h
    by_cases h9 : (tt td (Int.toNat z)).1 = 9
    · rw [if_pos h9] at h
      exact ⟨z.toNat, 9, _, _, _, _, dyn_t h9, rfl, dyn_z h0, muX0_268_9, by decide, Nat.le_trans (by decide) hd, kX11_part z a1 a2 td c b h⟩
    rw [if_neg h9] at h
    by_cases h10 : (tt td (Int.toNat z)).1 = 10
    · rw [if_pos h10] at h
      exact ⟨z.toNat, 10, _, _, _, _, dyn_t h10, rfl, dyn_z h0, muX0_268_10, by decide, Nat.le_trans (by decide) hd, kX7_part z a1 a2 td c b h⟩
    rw [if_neg h10] at h
    cases h
  · rw [if_neg h0] at h; cases h
theorem fsX0_271 : ∀ ci, 6 ≤ ci → ci ≤ 10 → FL RX0 271 ci 3 ∧ tgF (fty ci 3) = 0 := by
  intro ci h1 h2
  rcases (by omega : ci = 6 ∨ ci = 7 ∨ ci = 8 ∨ ci = 9 ∨ ci = 10) with e | e | e | e | e <;> subst e
  · exact ⟨⟨_, _, _, cf6, by decide, q596⟩, rfl⟩
  · exact ⟨⟨_, _, _, cf7, by decide, q596⟩, rfl⟩
  · exact ⟨⟨_, _, _, cf8, by decide, q596⟩, rfl⟩
  · exact ⟨⟨_, _, _, cf9, by decide, q596⟩, rfl⟩
  · exact ⟨⟨_, _, _, cf10, by decide, q596⟩, rfl⟩
theorem mvX0_274 : MV RX0 274 RX0 yX0_numbered muX0_numbered 3 := ⟨lw_V q1063 q1065 qs35 q125 q1066, by decide +kernel, Nat.le_of_ble_eq_true rfl⟩
abbrev muX0_meaning : MI := (cX0_meaning, RX0, 10, some .int, 3, "meaning")
abbrev gX0_meaning_l62 (G : GG) (Γ : Cx) (r : Vv × Wd) (sz sl : Nat) (td : TT) (c : CC) (v1 : Int) (v2 : Int) (v3 : Int) (v4 : Int) (v5 : Int) (v6 : Int) (v7 : Int) (v8 : Int) : (Int × CC) → Prop := fun s => WP G Γ muX0_meaning r 62 [some (2, 43), some (2, v1), some (0, v2), some (2, v3), some (0, v4), some (0, v5), some (0, v6), some (0, v7), some (0, v8), some (0, s.1)] [] (sz, sl, tt td, cv s.2)
abbrev eX0_meaning_l62 (G : GG) (Γ : Cx) (r : Vv × Wd) (sz sl : Nat) (td : TT) (c : CC) (v1 : Int) (v2 : Int) (v3 : Int) (v4 : Int) (v5 : Int) (v6 : Int) (v7 : Int) (v8 : Int) : (Int × CC) → Prop := (fun s => WP G Γ muX0_meaning r 113 [some (2, 43), some (2, v1), some (0, v2), some (2, v3), some (0, v4), some (0, v5), some (0, v6), some (0, v7), some (0, v8), some (0, s.1)] [] (sz, sl, tt td, cv s.2))
noncomputable def fX0_meaning_l62 (v1 : Int) (v2 : Int) (v3 : Int) (v4 : Int) (v5 : Int) (v6 : Int) (v7 : Int) (v8 : Int) (v9 : Int) (td : TT) (c : CC) : Option ((Int × CC) ⊕ (Int × CC)) :=
  cl (fV_sort v1  td c) fun p_7 =>
   if p_7 = 2 then
  (if v6 < v9 then
  (gd (inR (v9 - 1)) <|
   gd ((0 : Int) ≤ v9 - 1 ∧ v9 - 1 < 16000) <|
   if v8 < c 102 (Int.toNat (v9 - 1)) then
  (gd (inR (v9 - 1)) <|
   gd ((0 : Int) ≤ v9 - 1 ∧ v9 - 1 < 16000) <|
   gd ((0 : Int) ≤ v9 ∧ v9 < 16000) <| bd (up2 c 102 (Int.toNat v9) (c 102 (Int.toNat (v9 - 1)))) fun c_8 =>
   gd (inR (v9 + -1)) <| bd (v9 + -1) fun v9_9 =>
   some (.inl (v9_9, c_8)))
  else
  (some (.inr (v9, c))))
  else
  (some (.inr (v9, c))))
  else
  (some (.inr (v9, c)))
theorem sX0_meaning_l62 {G : GG} {Γ : Cx} {r : Vv × Wd} {sz : Nat} {sl : Nat} (v1 : Int) (v2 : Int) (v3 : Int) (v4 : Int) (v5 : Int) (v6 : Int) (v7 : Int) (v8 : Int) (v9 : Int) (td : TT) (c : CC) : Sm (fX0_meaning_l62 v1 v2 v3 v4 v5 v6 v7 v8 v9 td c) (fun x => Sum.elim (gX0_meaning_l62 G Γ r sz sl td c v1 v2 v3 v4 v5 v6 v7 v8) (eX0_meaning_l62 G Γ r sz sl td c v1 v2 v3 v4 v5 v6 v7 v8) x) (gX0_meaning_l62 G Γ r sz sl td c v1 v2 v3 v4 v5 v6 v7 v8 (v9, c)) := by
  show Sm _ _ (WP G Γ muX0_meaning r 62 [some (2, 43), some (2, v1), some (0, v2), some (2, v3), some (0, v4), some (0, v5), some (0, v6), some (0, v7), some (0, v8), some (0, v9)] [] (sz, sl, tt td, cv c))
  unfold fX0_meaning_l62
  refine s_aload_n (pc := 62) dX0_meaning_62 rfl ?_
  refine s_callU (pc := 63) (z := v1) (as := []) (st := []) (rv := fun b => ((0, b), (sz, sl, tt td, cv c))) (st3 := fun b => [(0, b)]) (w3 := fun b => (sz, sl, tt td, cv c)) rfl rfl (fun b h => vdX0_178 v1  td c b h (by decide)) (Nat.le_of_ble_eq_true rfl) (fun _ => Nat.le_of_ble_eq_true rfl) (fun _ => ⟨rfl, rfl⟩) dX0_meaning_63 (fun p_7 => ?_)
  refine s_iconst (pc := 66) dX0_meaning_66 ?_
  refine s_icmp_ne (pc := 67) (tgt := 113) dX0_meaning_67 rfl ?_ ?_
  · exact Sm.some (fun h => h)
  refine s_iload (pc := 70) dX0_meaning_70 rfl ?_
  refine s_iload (pc := 72) dX0_meaning_72 rfl ?_
  refine s_icmp_le (pc := 74) (tgt := 113) dX0_meaning_74 rfl ?_ ?_
  · exact Sm.some (fun h => h)
  refine s_aload_n (pc := 77) dX0_meaning_77 rfl ?_
  refine s_get (pc := 78) (a := 43) (v := 102) flX0_95 (t_43 _) rfl (g_43_29 _) rfl dX0_meaning_78 ?_
  refine s_iload (pc := 81) dX0_meaning_81 rfl ?_
  refine s_iconst (pc := 83) dX0_meaning_83 ?_
  refine s_isub (pc := 84) dX0_meaning_84 ?_
  refine s_ialdM (pc := 85) (a := 102) (t_102 _) rfl r_102 dX0_meaning_85 ?_
  refine s_iload (pc := 86) dX0_meaning_86 rfl ?_
  refine s_icmp_le (pc := 88) (tgt := 113) dX0_meaning_88 rfl ?_ ?_
  · exact Sm.some (fun h => h)
  refine s_aload_n (pc := 91) dX0_meaning_91 rfl ?_
  refine s_get (pc := 92) (a := 43) (v := 102) flX0_95 (t_43 _) rfl (g_43_29 _) rfl dX0_meaning_92 ?_
  refine s_iload (pc := 95) dX0_meaning_95 rfl ?_
  refine s_aload_n (pc := 97) dX0_meaning_97 rfl ?_
  refine s_get (pc := 98) (a := 43) (v := 102) flX0_95 (t_43 _) rfl (g_43_29 _) rfl dX0_meaning_98 ?_
  refine s_iload (pc := 101) dX0_meaning_101 rfl ?_
  refine s_iconst (pc := 103) dX0_meaning_103 ?_
  refine s_isub (pc := 104) dX0_meaning_104 ?_
  refine s_ialdM (pc := 105) (a := 102) (t_102 _) rfl r_102 dX0_meaning_105 ?_
  refine s_iastM (pc := 106) (a := 102) (t_102 _) rfl kO_102 r_102 dX0_meaning_106 (fun c_8 => ?_)
  refine s_iinc (pc := 107) (lf := fun x => [some (2, 43), some (2, v1), some (0, v2), some (2, v3), some (0, v4), some (0, v5), some (0, v6), some (0, v7), some (0, v8), some (0, x)]) dX0_meaning_107 rfl (fun _ => rfl) (Nat.le_of_ble_eq_true rfl) (fun v9_9 => ?_)
  refine s_goto (pc := 110) (tgt := 62) dX0_meaning_110 rfl ?_
  exact Sm.some (fun h => h)
noncomputable def fX0_meaning_j113 (v1 : Int) (v2 : Int) (v3 : Int) (v4 : Int) (v5 : Int) (v6 : Int) (v7 : Int) (v8 : Int) (v9 : Int) (td : TT) (c : CC) : Option ((Int × CC) ⊕ (CC)) :=
  gd ((0 : Int) ≤ v9 ∧ v9 < 16000) <| bd (up2 c 102 (Int.toNat v9) v8) fun c_11 =>
   gd (inR (v7 + 1)) <| bd (v7 + 1) fun v7_12 =>
   some (.inl (v7_12, c_11))
abbrev gX0_meaning_l34 (G : GG) (Γ : Cx) (r : Vv × Wd) (sz sl : Nat) (td : TT) (c : CC) (v1 : Int) (v2 : Int) (v3 : Int) (v4 : Int) (v5 : Int) (v6 : Int) : (Int × CC) → Prop := fun s => WP G Γ muX0_meaning r 34 [some (2, 43), some (2, v1), some (0, v2), some (2, v3), some (0, v4), some (0, v5), some (0, v6), some (0, s.1), none, none] [] (sz, sl, tt td, cv s.2)
abbrev eX0_meaning_l34 (G : GG) (Γ : Cx) (r : Vv × Wd) (sz sl : Nat) (td : TT) (c : CC) (v1 : Int) (v2 : Int) (v3 : Int) (v4 : Int) (v5 : Int) (v6 : Int) : (CC) → Prop := (fun s => WP G Γ muX0_meaning r 128 [some (2, 43), some (2, v1), none, none, none, some (0, v5), none, none, none, none] [] (sz, sl, tt td, cv s))
theorem sX0_meaning_j113 {G : GG} {Γ : Cx} {r : Vv × Wd} {sz : Nat} {sl : Nat} (v1 : Int) (v2 : Int) (v3 : Int) (v4 : Int) (v5 : Int) (v6 : Int) (v7 : Int) (v8 : Int) (v9 : Int) (td : TT) (c : CC) : Sm (fX0_meaning_j113 v1 v2 v3 v4 v5 v6 v7 v8 v9 td c) (fun x => Sum.elim (gX0_meaning_l34 G Γ r sz sl td c v1 v2 v3 v4 v5 v6) (eX0_meaning_l34 G Γ r sz sl td c v1 v2 v3 v4 v5 v6) x) (WP G Γ muX0_meaning r 113 [some (2, 43), some (2, v1), some (0, v2), some (2, v3), some (0, v4), some (0, v5), some (0, v6), some (0, v7), some (0, v8), some (0, v9)] [] (sz, sl, tt td, cv c)) := by
  unfold fX0_meaning_j113
  refine s_aload_n (pc := 113) dX0_meaning_113 rfl ?_
  refine s_get (pc := 114) (a := 43) (v := 102) flX0_95 (t_43 _) rfl (g_43_29 _) rfl dX0_meaning_114 ?_
  refine s_iload (pc := 117) dX0_meaning_117 rfl ?_
  refine s_iload (pc := 119) dX0_meaning_119 rfl ?_
  refine s_iastM (pc := 121) (a := 102) (t_102 _) rfl kO_102 r_102 dX0_meaning_121 (fun c_11 => ?_)
  refine s_iinc (pc := 122) (lf := fun x => [some (2, 43), some (2, v1), some (0, v2), some (2, v3), some (0, v4), some (0, v5), some (0, v6), some (0, x), some (0, v8), some (0, v9)]) dX0_meaning_122 rfl (fun _ => rfl) (Nat.le_of_ble_eq_true rfl) (fun v7_12 => ?_)
  refine s_goto (pc := 125) (tgt := 34) dX0_meaning_125 rfl ?_
  refine s_wk [true, true, true, true, true, true, true, true, false, false] (ls' := [some (2, 43), some (2, v1), some (0, v2), some (2, v3), some (0, v4), some (0, v5), some (0, v6), some (0, v7_12), none, none]) rfl ?_
  exact Sm.some (fun h => h)
noncomputable def fX0_meaning_l34 (v1 : Int) (v2 : Int) (v3 : Int) (v4 : Int) (v5 : Int) (v6 : Int) (v7 : Int) (td : TT) (c : CC) : Option ((Int × CC) ⊕ (CC)) :=
  if v7 < v5 then
  (cl (fV_part v1 v2 v7 td c) fun p_4 =>
   gd (inR (v4 + p_4)) <|
   gd ((0 : Int) ≤ v3 ∧ (tt td (Int.toNat v3)).1 = 50 ∧ (0 : Int) ≤ v4 + p_4 ∧ v4 + p_4 < ((tt td (Int.toNat v3)).2 : Int)) <|
   bd (cv c (Int.toNat v3) (Int.toNat (v4 + p_4))) fun v8_5 =>
   gd (inR (v6 + v7)) <|
   bd (v6 + v7) fun v9_6 =>
   cl (wh (fun s => fX0_meaning_l62 v1 v2 v3 v4 v5 v6 v7 v8_5 s.1 td s.2) (v9_6, c)) (fun e_10 =>
  fX0_meaning_j113 v1 v2 v3 v4 v5 v6 v7 v8_5 e_10.1 td e_10.2))
  else
  (some (.inr c))
theorem sX0_meaning_l34 {G : GG} {Γ : Cx} {r : Vv × Wd} {sz : Nat} {sl : Nat} (v1 : Int) (v2 : Int) (v3 : Int) (v4 : Int) (v5 : Int) (v6 : Int) (v7 : Int) (td : TT) (c : CC) : Sm (fX0_meaning_l34 v1 v2 v3 v4 v5 v6 v7 td c) (fun x => Sum.elim (gX0_meaning_l34 G Γ r sz sl td c v1 v2 v3 v4 v5 v6) (eX0_meaning_l34 G Γ r sz sl td c v1 v2 v3 v4 v5 v6) x) (gX0_meaning_l34 G Γ r sz sl td c v1 v2 v3 v4 v5 v6 (v7, c)) := by
  show Sm _ _ (WP G Γ muX0_meaning r 34 [some (2, 43), some (2, v1), some (0, v2), some (2, v3), some (0, v4), some (0, v5), some (0, v6), some (0, v7), none, none] [] (sz, sl, tt td, cv c))
  unfold fX0_meaning_l34
  refine s_iload (pc := 34) dX0_meaning_34 rfl ?_
  refine s_iload (pc := 36) dX0_meaning_36 rfl ?_
  refine s_icmp_ge (pc := 38) (tgt := 128) dX0_meaning_38 rfl ?_ ?_
  · refine s_wk [true, true, false, false, false, true, false, false, true, true] (ls' := [some (2, 43), some (2, v1), none, none, none, some (0, v5), none, none, none, none]) rfl ?_
    exact Sm.some (fun h => h)
  refine s_aload_n (pc := 41) dX0_meaning_41 rfl ?_
  refine s_iload (pc := 42) dX0_meaning_42 rfl ?_
  refine s_aload_n (pc := 44) dX0_meaning_44 rfl ?_
  refine s_iload_n (pc := 45) dX0_meaning_45 rfl ?_
  refine s_iload (pc := 46) dX0_meaning_46 rfl ?_
  refine s_callU (pc := 48) (z := v1) (as := [(0, v2), (0, v7)]) (st := [(0, v4), (2, v3)]) (rv := fun b => ((0, b), (sz, sl, tt td, cv c))) (st3 := fun b => [(0, b), (0, v4), (2, v3)]) (w3 := fun b => (sz, sl, tt td, cv c)) rfl rfl (fun b h => vdX0_268 v1 v2 v7 td c b h (by decide)) (Nat.le_of_ble_eq_true rfl) (fun _ => Nat.le_of_ble_eq_true rfl) (fun _ => ⟨rfl, rfl⟩) dX0_meaning_48 (fun p_4 => ?_)
  refine s_iadd (pc := 51) dX0_meaning_51 ?_
  refine s_ialdD (pc := 52) dX0_meaning_52 ?_
  refine s_istore (pc := 53) (lf := fun x => [some (2, 43), some (2, v1), some (0, v2), some (2, v3), some (0, v4), some (0, v5), some (0, v6), some (0, v7), some (0, x), none]) dX0_meaning_53 (fun _ => rfl) (Nat.le_of_ble_eq_true rfl) (fun v8_5 => ?_)
  refine s_iload (pc := 55) dX0_meaning_55 rfl ?_
  refine s_iload (pc := 57) dX0_meaning_57 rfl ?_
  refine s_iadd (pc := 59) dX0_meaning_59 ?_
  refine s_istore (pc := 60) (lf := fun x => [some (2, 43), some (2, v1), some (0, v2), some (2, v3), some (0, v4), some (0, v5), some (0, v6), some (0, v7), some (0, v8_5), some (0, x)]) dX0_meaning_60 (fun _ => rfl) (Nat.le_of_ble_eq_true rfl) (fun v9_6 => ?_)
  refine s_loop (g := gX0_meaning_l62 G Γ r sz sl td c v1 v2 v3 v4 v5 v6 v7 v8_5) (Ex := eX0_meaning_l62 G Γ r sz sl td c v1 v2 v3 v4 v5 v6 v7 v8_5) (s0 := (v9_6, c)) (fun s => sX0_meaning_l62 v1 v2 v3 v4 v5 v6 v7 v8_5 s.1 td s.2) ?_
  intro e_10
  show Sm _ _ (WP G Γ muX0_meaning r 113 [some (2, 43), some (2, v1), some (0, v2), some (2, v3), some (0, v4), some (0, v5), some (0, v6), some (0, v7), some (0, v8_5), some (0, e_10.1)] [] (sz, sl, tt td, cv e_10.2))
  exact sX0_meaning_j113 v1 v2 v3 v4 v5 v6 v7 v8_5 e_10.1 td e_10.2
noncomputable def fX0_meaning (a1 : Int) (a2 : Int) (a3 : Int) (a4 : Int) (td : TT) (c : CC) : Option (Int × CC) :=
  cl (fV_sort a1  td c) fun p_1 =>
   if p_1 = -1 then
  (gd ((0 : Int) ≤ a3 ∧ (tt td (Int.toNat a3)).1 = 50 ∧ (0 : Int) ≤ a4 ∧ a4 < ((tt td (Int.toNat a3)).2 : Int)) <|
   some ((cv c (Int.toNat a3) (Int.toNat a4)), c))
  else
  (cl (fV_takes a1 a2 td c) fun p_2 =>
   gd ((0 : Int) ≤ c 43 30 ∧ c 43 30 < 8001) <|
   bd (c 101 (Int.toNat (c 43 30))) fun v6_3 =>
   cl (wh (fun s => fX0_meaning_l34 a1 a2 a3 a4 p_2 v6_3 s.1 td s.2) (0, c)) (fun e_13 =>
  cl (fV_sort a1  td e_13) fun p_14 =>
   gd ((0 : Int) ≤ a1 ∧ 6 ≤ (tt td (Int.toNat a1)).1 ∧ (tt td (Int.toNat a1)).1 ≤ 10) <|
   cl (fX0_numbered p_14 (cv e_13 (Int.toNat a1) 3) p_2 e_13) fun p_15 =>
   some (p_15.1, p_15.2)))
theorem sX0_meaning {G : GG} {Γ : Cx} {r : Vv × Wd} {sz : Nat} {sl : Nat} (a1 : Int) (a2 : Int) (a3 : Int) (a4 : Int) (td : TT) (c : CC) : Sm (fX0_meaning a1 a2 a3 a4 td c) (fun x => r = ((0, x.1), (sz, sl, tt td, cv x.2))) (WP G Γ muX0_meaning r 0 [some (2, 43), some (2, a1), some (0, a2), some (2, a3), some (0, a4), none, none, none, none, none] [] (sz, sl, tt td, cv c)) := by
  unfold fX0_meaning
  refine s_aload_n (pc := 0) dX0_meaning_0 rfl ?_
  refine s_callU (pc := 1) (z := a1) (as := []) (st := []) (rv := fun b => ((0, b), (sz, sl, tt td, cv c))) (st3 := fun b => [(0, b)]) (w3 := fun b => (sz, sl, tt td, cv c)) rfl rfl (fun b h => vdX0_178 a1  td c b h (by decide)) (Nat.le_of_ble_eq_true rfl) (fun _ => Nat.le_of_ble_eq_true rfl) (fun _ => ⟨rfl, rfl⟩) dX0_meaning_1 (fun p_1 => ?_)
  refine s_iconst (pc := 4) dX0_meaning_4 ?_
  refine s_icmp_ne (pc := 5) (tgt := 13) dX0_meaning_5 rfl ?_ ?_
  · refine s_aload_n (pc := 13) dX0_meaning_13 rfl ?_
    refine s_iload_n (pc := 14) dX0_meaning_14 rfl ?_
    refine s_callU (pc := 15) (z := a1) (as := [(0, a2)]) (st := []) (rv := fun b => ((0, b), (sz, sl, tt td, cv c))) (st3 := fun b => [(0, b)]) (w3 := fun b => (sz, sl, tt td, cv c)) rfl rfl (fun b h => vdX0_167 a1 a2 td c b h (by decide)) (Nat.le_of_ble_eq_true rfl) (fun _ => Nat.le_of_ble_eq_true rfl) (fun _ => ⟨rfl, rfl⟩) dX0_meaning_15 (fun p_2 => ?_)
    refine s_istoreD (pc := 18) (ls' := [some (2, 43), some (2, a1), some (0, a2), some (2, a3), some (0, a4), some (0, p_2), none, none, none, none]) dX0_meaning_18 rfl (Nat.le_of_ble_eq_true rfl) ?_
    refine s_aload_n (pc := 20) dX0_meaning_20 rfl ?_
    refine s_get (pc := 21) (a := 43) (v := 101) flX0_92 (t_43 _) rfl (g_43_28 _) rfl dX0_meaning_21 ?_
    refine s_aload_n (pc := 24) dX0_meaning_24 rfl ?_
    refine s_get (pc := 25) (a := 43) (v := c 43 30) flX0_261 (t_43 _) rfl (g_43_30 _) rfl dX0_meaning_25 ?_
    refine s_ialdM (pc := 28) (a := 101) (t_101 _) rfl r_101 dX0_meaning_28 ?_
    refine s_istore (pc := 29) (lf := fun x => [some (2, 43), some (2, a1), some (0, a2), some (2, a3), some (0, a4), some (0, p_2), some (0, x), none, none, none]) dX0_meaning_29 (fun _ => rfl) (Nat.le_of_ble_eq_true rfl) (fun v6_3 => ?_)
    refine s_iconst (pc := 31) dX0_meaning_31 ?_
    refine s_istoreD (pc := 32) (ls' := [some (2, 43), some (2, a1), some (0, a2), some (2, a3), some (0, a4), some (0, p_2), some (0, v6_3), some (0, 0), none, none]) dX0_meaning_32 rfl (Nat.le_of_ble_eq_true rfl) ?_
    refine s_loop (g := gX0_meaning_l34 G Γ r sz sl td c a1 a2 a3 a4 p_2 v6_3) (Ex := eX0_meaning_l34 G Γ r sz sl td c a1 a2 a3 a4 p_2 v6_3) (s0 := (0, c)) (fun s => sX0_meaning_l34 a1 a2 a3 a4 p_2 v6_3 s.1 td s.2) ?_
    intro e_13
    show Sm _ _ (WP G Γ muX0_meaning r 128 [some (2, 43), some (2, a1), none, none, none, some (0, p_2), none, none, none, none] [] (sz, sl, tt td, cv e_13))
    refine s_aload_n (pc := 128) dX0_meaning_128 rfl ?_
    refine s_aload_n (pc := 129) dX0_meaning_129 rfl ?_
    refine s_callU (pc := 130) (z := a1) (as := []) (st := [(2, 43)]) (rv := fun b => ((0, b), (sz, sl, tt td, cv e_13))) (st3 := fun b => [(0, b), (2, 43)]) (w3 := fun b => (sz, sl, tt td, cv e_13)) rfl rfl (fun b h => vdX0_178 a1  td e_13 b h (by decide)) (Nat.le_of_ble_eq_true rfl) (fun _ => Nat.le_of_ble_eq_true rfl) (fun _ => ⟨rfl, rfl⟩) dX0_meaning_130 (fun p_14 => ?_)
    refine s_aload_n (pc := 133) dX0_meaning_133 rfl ?_
    refine s_getS (pc := 134) fsX0_271 dX0_meaning_134 ?_
    refine s_iload (pc := 137) dX0_meaning_137 rfl ?_
    refine s_callV3 (pc := 139) (a := 43) (as := [(0, p_14), (0, cv e_13 (Int.toNat a1) 3), (0, p_2)]) (st := []) (rv := fun b => ((0, b.1), (sz, sl, tt td, cv b.2))) (st3 := fun b => [(0, b.1)]) (w3 := fun b => (sz, sl, tt td, cv b.2)) mvX0_274 (fun b h => kX0_numbered p_14 (cv e_13 (Int.toNat a1) 3) p_2 e_13 b h) rfl (by decide) (t_43 td) rfl rfl rfl (Nat.le_of_ble_eq_true rfl) (fun _ => Nat.le_of_ble_eq_true rfl) (fun _ => ⟨rfl, rfl⟩) dX0_meaning_139 (fun p_15 => ?_)
    exact s_iret (pc := 142) dX0_meaning_142 rfl (fun h => h)
  refine s_aload_n (pc := 8) dX0_meaning_8 rfl ?_
  refine s_iload (pc := 9) dX0_meaning_9 rfl ?_
  refine s_ialdD (pc := 11) dX0_meaning_11 ?_
  exact s_iret (pc := 12) dX0_meaning_12 rfl (fun h => h)
theorem kX0_meaning {G : GG} {sz : Nat} {sl : Nat} (a1 : Int) (a2 : Int) (a3 : Int) (a4 : Int) (td : TT) (c : CC) (x : (Int × CC)) (h : fX0_meaning a1 a2 a3 a4 td c = some x) : Ct G yX0_meaning muX0_meaning [(2, 43), (2, a1), (0, a2), (2, a3), (0, a4)] (sz, sl, tt td, cv c) ((0, x.1), (sz, sl, tt td, cv x.2)) :=
  Ct.of (n := 5) (ls0 := [some (2, 43), some (2, a1), some (0, a2), some (2, a3), some (0, a4), none, none, none, none, none]) (by decide) rfl rfl ⟨show (some .int : Option FieldType) ≠ some .float by decide, show (some .int : Option FieldType) ≠ some .double by decide⟩ (Nat.le_of_ble_eq_true rfl) rfl ⟨Nat.le_refl _, Nat.le_refl _⟩ (show (0 : Nat) ≠ 9 by decide) (fun Γ => sX0_meaning a1 a2 a3 a4 td c x h rfl)
theorem flX0_277 : FL RX0 277 0 35 := ⟨_, _, _, cf0, by decide, q248⟩
theorem flX0_23 : FL RX0 23 0 2 := ⟨_, _, _, cf0, by decide, q215⟩
theorem fnX0_293 : FLNf RX0 293 2 0 := ⟨_, _, _, _, cf2, by decide, PP.nwF q201⟩
theorem flX0_101 : FL RX0 101 0 32 := ⟨_, _, _, cf0, by decide, q245⟩
theorem fnX0_296 : FLNf RX0 296 1 2 := ⟨_, _, _, _, cf1, by decide, PP.nwF q179⟩
def SumK (ci : Nat) (y : MethodName) (μ : MI) : Prop := (ci = 11 ∧ y = yX13_of ∧ ∃ d : Nat, μ = (cX13_of, RX13, 2, some .long, d, "of")) ∨ (ci = 12 ∧ y = yX14_of ∧ ∃ d : Nat, μ = (cX14_of, RX14, 2, some .long, d, "of")) ∨ (ci = 13 ∧ y = yX15_of ∧ ∃ d : Nat, μ = (cX15_of, RX15, 2, some .long, d, "of")) ∨ (ci = 14 ∧ y = yX16_of ∧ ∃ d : Nat, μ = (cX16_of, RX16, 6, some .long, d, "of"))
theorem mfX0_302 : ∀ ci y μy, SumK ci y μy → ∃ q, kCl[ci]? = some q ∧ MF RX0 302 q.1 (⟨"HeldTongue$Sum", "of", "(LHeldTongue$View;)J"⟩ : MethodName) y μy 1 := by
  intro ci y μy h
  unfold SumK at h
  rcases h with ⟨rfl, rfl, d, rfl⟩ | ⟨rfl, rfl, d, rfl⟩ | ⟨rfl, rfl, d, rfl⟩ | ⟨rfl, rfl, d, rfl⟩
  · exact ⟨_, rfl, lw_F q998 q1024 q1026 q147 q1028, PP.fw (by decide) q1000 q999 q1027 q1025 q1023, by decide +kernel, Nat.le_of_ble_eq_true rfl⟩
  · exact ⟨_, rfl, lw_F q998 q1002 q1004 q148 q1006, PP.fw (by decide) q1000 q999 q1005 q1003 q1001, by decide +kernel, Nat.le_of_ble_eq_true rfl⟩
  · exact ⟨_, rfl, lw_F q998 q1008 q1010 q149 q1012, PP.fw (by decide) q1000 q999 q1011 q1009 q1007, by decide +kernel, Nat.le_of_ble_eq_true rfl⟩
  · exact ⟨_, rfl, lw_F q998 q1016 q1018 q150 q1020, PP.fw (by decide) q1000 q999 q1019 q1017 q1015, by decide +kernel, Nat.le_of_ble_eq_true rfl⟩
theorem flX13_7 : FL RX13 7 11 0 := ⟨_, _, _, cf11, by decide, q698⟩
theorem flX3_7 : FL RX3 7 2 0 := ⟨_, _, _, cf2, by decide, q200⟩
abbrev muX3_word : MI := (cX3_word, RX3, 2, some .int, 1, "word")
noncomputable def fX3_word (a1 : Int) (c : CC) : Option Int :=
  gd ((0 : Int) ≤ a1 ∧ a1 < 7) <|
   some (c 49 (Int.toNat a1))
theorem sX3_word {G : GG} {Γ : Cx} {r : Vv × Wd} {sz : Nat} {sl : Nat} {td : TT} (a1 : Int) (c : CC) : Sm (fX3_word a1 c) (fun x => r = ((0, x), (sz, sl, tt td, cv c))) (WP G Γ muX3_word r 0 [some (2, 48), some (0, a1)] [] (sz, sl, tt td, cv c)) := by
  unfold fX3_word
  refine s_aload_n (pc := 0) dX3_word_0 rfl ?_
  refine s_get (pc := 1) (a := 48) (v := 49) flX3_7 (t_48 _) rfl (g_48_0 _) rfl dX3_word_1 ?_
  refine s_iload_n (pc := 4) dX3_word_4 rfl ?_
  refine s_ialdM (pc := 5) (a := 49) (t_49 _) rfl r_49 dX3_word_5 ?_
  exact s_iret (pc := 6) dX3_word_6 rfl (fun h => h)
theorem kX3_word {G : GG} {sz : Nat} {sl : Nat} {td : TT} (a1 : Int) (c : CC) (x : Int) (h : fX3_word a1 c = some x) : Ct G yX3_word muX3_word [(2, 48), (0, a1)] (sz, sl, tt td, cv c) ((0, x), (sz, sl, tt td, cv c)) :=
  Ct.of (n := 0) (ls0 := [some (2, 48), some (0, a1)]) (by decide) rfl rfl ⟨show (some .int : Option FieldType) ≠ some .float by decide, show (some .int : Option FieldType) ≠ some .double by decide⟩ (Nat.le_of_ble_eq_true rfl) rfl ⟨Nat.le_refl _, Nat.le_refl _⟩ (show (0 : Nat) ≠ 9 by decide) (fun Γ => sX3_word a1 c x h rfl)
theorem muX13_13_w : MU RX13 13 RX3 (⟨"HeldTongue$View", "word", "(I)I"⟩ : MethodName) yX3_word muX3_word 1 := ⟨"HeldTongue$View", fun R s args rm hts hP hR => va_cwA 1 hts (lw_U (ow := "HeldTongue$View") q1029 q1031 q1032 q1033 q128 q1034) rfl rfl rfl (hP _ (PP.nwD q1030)) (by decide +kernel) hR⟩
abbrev muX13_of_48 [Inhabited Orc] : MI := (cX13_of, RX13, 2, some .long, oD + 5, "of")
noncomputable def fX13_of_48 [Inhabited Orc] (a0 : Int) (td : TT) (c : CC) : Option Int :=
  gd ((0 : Int) ≤ a0 ∧ (tt td (Int.toNat a0)).1 = 11) <|
   cl (fX3_word (cv c (Int.toNat a0) 0) c) fun p_1 =>
   some p_1
theorem sX13_of_48 [Inhabited Orc] {G : GG} {Γ : Cx} {r : Vv × Wd} {sz : Nat} {sl : Nat} (a0 : Int) (td : TT) (c : CC) [hO : Nonempty (PLift (oOK SumK 1 oD G (sz, sl, tt td, cv c)))] : Sm (fX13_of_48 a0 td c) (fun x => r = ((1, x), (sz, sl, tt td, cv c))) (WP G Γ muX13_of_48 r 0 [some (2, a0), some (2, 48)] [] (sz, sl, tt td, cv c)) := by
  unfold fX13_of_48
  refine s_aload_n (pc := 0) dX13_of_0 rfl ?_
  refine s_aload_n (pc := 1) dX13_of_1 rfl ?_
  refine s_getD (pc := 2) flX13_7 rfl dX13_of_2 ?_
  refine s_callU (pc := 5) (z := 48) (as := [(0, cv c (Int.toNat a0) 0)]) (st := []) (rv := fun b => ((0, b), (sz, sl, tt td, cv c))) (st3 := fun b => [(0, b)]) (w3 := fun b => (sz, sl, tt td, cv c)) rfl rfl (fun b h => ⟨48, 2, _, RX3, _, _, t_48 td, rfl, rfl, muX13_13_w, by decide, (by first | decide | exact Nat.le_trans (by decide) (Nat.le_add_left 5 _)), kX3_word (cv c (Int.toNat a0) 0) c b h⟩) (Nat.le_of_ble_eq_true rfl) (fun _ => Nat.le_of_ble_eq_true rfl) (fun _ => ⟨rfl, rfl⟩) dX13_of_5 (fun p_1 => ?_)
  refine s_i2l (pc := 8) dX13_of_8 ?_
  exact s_lret (pc := 9) dX13_of_9 rfl (fun h => h)
theorem kX13_of_48 [Inhabited Orc] {G : GG} {sz : Nat} {sl : Nat} (a0 : Int) (td : TT) (c : CC) [hO : Nonempty (PLift (oOK SumK 1 oD G (sz, sl, tt td, cv c)))] (x : Int) (h : fX13_of_48 a0 td c = some x) : Ct G yX13_of muX13_of_48 [(2, a0), (2, 48)] (sz, sl, tt td, cv c) ((1, x), (sz, sl, tt td, cv c)) :=
  Ct.of (n := 0) (ls0 := [some (2, a0), some (2, 48)]) (by decide) rfl rfl ⟨show (some .long : Option FieldType) ≠ some .float by decide, show (some .long : Option FieldType) ≠ some .double by decide⟩ (Nat.le_of_ble_eq_true rfl) rfl ⟨Nat.le_refl _, Nat.le_refl _⟩ (show (1 : Nat) ≠ 9 by decide) (fun Γ => sX13_of_48 a0 td c x h rfl)
theorem flX14_7 : FL RX14 7 12 0 := ⟨_, _, _, cf12, by decide, q708⟩
abbrev muX14_of_48 [Inhabited Orc] : MI := (cX14_of, RX14, 2, some .long, oD + 5, "of")
noncomputable def fX14_of_48 [Inhabited Orc] (a0 : Int) (td : TT) (c : CC) : Option Int :=
  gd ((0 : Int) ≤ a0 ∧ (tt td (Int.toNat a0)).1 = 12) <|
   some (cv c (Int.toNat a0) 0)
theorem sX14_of_48 [Inhabited Orc] {G : GG} {Γ : Cx} {r : Vv × Wd} {sz : Nat} {sl : Nat} (a0 : Int) (td : TT) (c : CC) [hO : Nonempty (PLift (oOK SumK 1 oD G (sz, sl, tt td, cv c)))] : Sm (fX14_of_48 a0 td c) (fun x => r = ((1, x), (sz, sl, tt td, cv c))) (WP G Γ muX14_of_48 r 0 [some (2, a0), some (2, 48)] [] (sz, sl, tt td, cv c)) := by
  unfold fX14_of_48
  refine s_aload_n (pc := 0) dX14_of_0 rfl ?_
  refine s_getD (pc := 1) flX14_7 rfl dX14_of_1 ?_
  refine s_i2l (pc := 4) dX14_of_4 ?_
  exact s_lret (pc := 5) dX14_of_5 rfl (fun h => h)
theorem kX14_of_48 [Inhabited Orc] {G : GG} {sz : Nat} {sl : Nat} (a0 : Int) (td : TT) (c : CC) [hO : Nonempty (PLift (oOK SumK 1 oD G (sz, sl, tt td, cv c)))] (x : Int) (h : fX14_of_48 a0 td c = some x) : Ct G yX14_of muX14_of_48 [(2, a0), (2, 48)] (sz, sl, tt td, cv c) ((1, x), (sz, sl, tt td, cv c)) :=
  Ct.of (n := 0) (ls0 := [some (2, a0), some (2, 48)]) (by decide) rfl rfl ⟨show (some .long : Option FieldType) ≠ some .float by decide, show (some .long : Option FieldType) ≠ some .double by decide⟩ (Nat.le_of_ble_eq_true rfl) rfl ⟨Nat.le_refl _, Nat.le_refl _⟩ (show (1 : Nat) ≠ 9 by decide) (fun Γ => sX14_of_48 a0 td c x h rfl)
theorem flX15_7 : FL RX15 7 13 0 := ⟨_, _, _, cf13, by decide, q722⟩
theorem mfX15_13 : ∀ ci y μy, SumK ci y μy → ∃ q, kCl[ci]? = some q ∧ MF RX15 13 q.1 (⟨"HeldTongue$Sum", "of", "(LHeldTongue$View;)J"⟩ : MethodName) y μy 1 := by
  intro ci y μy h
  unfold SumK at h
  rcases h with ⟨rfl, rfl, d, rfl⟩ | ⟨rfl, rfl, d, rfl⟩ | ⟨rfl, rfl, d, rfl⟩ | ⟨rfl, rfl, d, rfl⟩
  · exact ⟨_, rfl, lw_F q1014 q1024 q1026 q147 q1028, PP.fw (by decide) q1000 q999 q1027 q1025 q1023, by decide +kernel, Nat.le_of_ble_eq_true rfl⟩
  · exact ⟨_, rfl, lw_F q1014 q1002 q1004 q148 q1006, PP.fw (by decide) q1000 q999 q1005 q1003 q1001, by decide +kernel, Nat.le_of_ble_eq_true rfl⟩
  · exact ⟨_, rfl, lw_F q1014 q1008 q1010 q149 q1012, PP.fw (by decide) q1000 q999 q1011 q1009 q1007, by decide +kernel, Nat.le_of_ble_eq_true rfl⟩
  · exact ⟨_, rfl, lw_F q1014 q1016 q1018 q150 q1020, PP.fw (by decide) q1000 q999 q1019 q1017 q1015, by decide +kernel, Nat.le_of_ble_eq_true rfl⟩
abbrev muX15_of_48 [Inhabited Orc] : MI := (cX15_of, RX15, 2, some .long, oD + 5, "of")
noncomputable def fX15_of_48 [Inhabited Orc] (a0 : Int) (td : TT) (c : CC) : Option Int :=
  gd ((0 : Int) ≤ a0 ∧ (tt td (Int.toNat a0)).1 = 13) <|
   cl (oF (cv c (Int.toNat a0) 0)) fun p_1 =>
   gd (inL (-p_1)) <|
   some (-p_1)
theorem sX15_of_48 [Inhabited Orc] {G : GG} {Γ : Cx} {r : Vv × Wd} {sz : Nat} {sl : Nat} (a0 : Int) (td : TT) (c : CC) [hO : Nonempty (PLift (oOK SumK 1 oD G (sz, sl, tt td, cv c)))] : Sm (fX15_of_48 a0 td c) (fun x => r = ((1, x), (sz, sl, tt td, cv c))) (WP G Γ muX15_of_48 r 0 [some (2, a0), some (2, 48)] [] (sz, sl, tt td, cv c)) := by
  unfold fX15_of_48
  refine s_aload_n (pc := 0) dX15_of_0 rfl ?_
  refine s_getD (pc := 1) flX15_7 rfl dX15_of_1 ?_
  refine s_aload_n (pc := 4) dX15_of_4 rfl ?_
  refine s_callFO (pc := 5) (D := oD) (z := cv c (Int.toNat a0) 0) (v := 48) (tg := 1) (st := []) (fun b h => hO.elim (fun q => q.down _ b h)) mfX15_13 (Nat.le_refl _) (Nat.le_of_ble_eq_true rfl) (Nat.le_of_ble_eq_true rfl) dX15_of_5 (fun p_1 => ?_)
  refine s_lneg (pc := 10) dX15_of_10 ?_
  exact s_lret (pc := 11) dX15_of_11 rfl (fun h => h)
theorem kX15_of_48 [Inhabited Orc] {G : GG} {sz : Nat} {sl : Nat} (a0 : Int) (td : TT) (c : CC) [hO : Nonempty (PLift (oOK SumK 1 oD G (sz, sl, tt td, cv c)))] (x : Int) (h : fX15_of_48 a0 td c = some x) : Ct G yX15_of muX15_of_48 [(2, a0), (2, 48)] (sz, sl, tt td, cv c) ((1, x), (sz, sl, tt td, cv c)) :=
  Ct.of (n := 0) (ls0 := [some (2, a0), some (2, 48)]) (by decide) rfl rfl ⟨show (some .long : Option FieldType) ≠ some .float by decide, show (some .long : Option FieldType) ≠ some .double by decide⟩ (Nat.le_of_ble_eq_true rfl) rfl ⟨Nat.le_refl _, Nat.le_refl _⟩ (show (1 : Nat) ≠ 9 by decide) (fun Γ => sX15_of_48 a0 td c x h rfl)
theorem flX16_13 : FL RX16 13 14 1 := ⟨_, _, _, cf14, by decide, q733⟩
theorem mfX16_20 : ∀ ci y μy, SumK ci y μy → ∃ q, kCl[ci]? = some q ∧ MF RX16 20 q.1 (⟨"HeldTongue$Sum", "of", "(LHeldTongue$View;)J"⟩ : MethodName) y μy 1 := by
  intro ci y μy h
  unfold SumK at h
  rcases h with ⟨rfl, rfl, d, rfl⟩ | ⟨rfl, rfl, d, rfl⟩ | ⟨rfl, rfl, d, rfl⟩ | ⟨rfl, rfl, d, rfl⟩
  · exact ⟨_, rfl, lw_F q1022 q1024 q1026 q147 q1028, PP.fw (by decide) q1000 q999 q1027 q1025 q1023, by decide +kernel, Nat.le_of_ble_eq_true rfl⟩
  · exact ⟨_, rfl, lw_F q1022 q1002 q1004 q148 q1006, PP.fw (by decide) q1000 q999 q1005 q1003 q1001, by decide +kernel, Nat.le_of_ble_eq_true rfl⟩
  · exact ⟨_, rfl, lw_F q1022 q1008 q1010 q149 q1012, PP.fw (by decide) q1000 q999 q1011 q1009 q1007, by decide +kernel, Nat.le_of_ble_eq_true rfl⟩
  · exact ⟨_, rfl, lw_F q1022 q1016 q1018 q150 q1020, PP.fw (by decide) q1000 q999 q1019 q1017 q1015, by decide +kernel, Nat.le_of_ble_eq_true rfl⟩
theorem flX16_17 : FL RX16 17 14 2 := ⟨_, _, _, cf14, by decide, q734⟩
theorem flX16_7 : FL RX16 7 14 0 := ⟨_, _, _, cf14, by decide, q732⟩
theorem qlX20_5 : Cond.constantLong RX20 5 (i64 (-1000000)) ∈ lw_all := by
  have h := q1041
  have e : (-1000000 : Int64) = i64 (-1000000) := by decide
  rw [e] at h
  exact h
abbrev muX20_bound : MI := (cX20_bound, RX20, 3, some .long, 1, "bound")
noncomputable def fX20_bound (a0 : Int) (a1 : Int) (td : TT) (c : CC) : Option Int :=
  if (1000000 : Int) < a1 then
  (some 1000000)
  else
  (if a1 < -1000000 then
  (some (-1000000))
  else
  (some a1))
theorem sX20_bound {G : GG} {Γ : Cx} {r : Vv × Wd} {sz : Nat} {sl : Nat} (a0 : Int) (a1 : Int) (td : TT) (c : CC) : Sm (fX20_bound a0 a1 td c) (fun x => r = ((1, x), (sz, sl, tt td, cv c))) (WP G Γ muX20_bound r 0 [some (2, a0), some (1, a1), none] [] (sz, sl, tt td, cv c)) := by
  unfold fX20_bound
  refine s_lload_n (pc := 0) dX20_bound_0 rfl ?_
  refine s_ldc2 (pc := 1) (z := 1000000) q1040 dX20_bound_1 ?_
  refine s_lcmp_le (pc := 4) (tgt := 14) dX20_bound_4 dX20_bound_5 rfl ?_ ?_
  · refine s_lload_n (pc := 14) dX20_bound_14 rfl ?_
    refine s_ldc2 (pc := 15) (z := -1000000) qlX20_5 dX20_bound_15 ?_
    refine s_lcmp_ge (pc := 18) (tgt := 28) dX20_bound_18 dX20_bound_19 rfl ?_ ?_
    · refine s_lload_n (pc := 28) dX20_bound_28 rfl ?_
      exact s_lret (pc := 29) dX20_bound_29 rfl (fun h => h)
    refine s_ldc2 (pc := 22) (z := -1000000) qlX20_5 dX20_bound_22 ?_
    refine s_goto (pc := 25) (tgt := 29) dX20_bound_25 rfl ?_
    exact s_lret (pc := 29) dX20_bound_29 rfl (fun h => h)
  refine s_ldc2 (pc := 8) (z := 1000000) q1040 dX20_bound_8 ?_
  refine s_goto (pc := 11) (tgt := 29) dX20_bound_11 rfl ?_
  exact s_lret (pc := 29) dX20_bound_29 rfl (fun h => h)
theorem kX20_bound {G : GG} {sz : Nat} {sl : Nat} (a0 : Int) (a1 : Int) (td : TT) (c : CC) (x : Int) (h : fX20_bound a0 a1 td c = some x) : Ct2 G yX20_bound muX20_bound [(2, a0), (1, a1)] (sz, sl, tt td, cv c) ((1, x), (sz, sl, tt td, cv c)) :=
  Ct2.of (n := 0) (ls0 := [some (2, a0), some (1, a1), none]) rfl rfl ⟨show (some .long : Option FieldType) ≠ some .float by decide, show (some .long : Option FieldType) ≠ some .double by decide⟩ (Nat.le_of_ble_eq_true rfl) rfl ⟨Nat.le_refl _, Nat.le_refl _⟩ (show (1 : Nat) ≠ 9 by decide) (fun Γ => sX20_bound a0 a1 td c x h rfl)
abbrev muX16_of_48 [Inhabited Orc] : MI := (cX16_of, RX16, 6, some .long, oD + 5, "of")
noncomputable def fX16_of_48_j83 [Inhabited Orc] (v2 : Int) (v4 : Int) (td : TT) (c : CC) : Option Int :=
  if v4 = 0 then
  (some 0)
  else
  (gd (v4 ≠ 0 ∧ inL (Int.tdiv v2 v4)) <|
   some (Int.tdiv v2 v4))
theorem sX16_of_48_j83 [Inhabited Orc] {G : GG} {Γ : Cx} {r : Vv × Wd} {sz : Nat} {sl : Nat} (v2 : Int) (v4 : Int) (td : TT) (c : CC) [hO : Nonempty (PLift (oOK SumK 1 oD G (sz, sl, tt td, cv c)))] : Sm (fX16_of_48_j83 v2 v4 td c) (fun x => r = ((1, x), (sz, sl, tt td, cv c))) (WP G Γ muX16_of_48 r 83 [none, none, some (1, v2), none, some (1, v4), none] [] (sz, sl, tt td, cv c)) := by
  unfold fX16_of_48_j83
  refine s_lload (pc := 83) dX16_of_83 rfl ?_
  refine s_lconst0 (pc := 85) dX16_of_85 ?_
  refine s_lcmp_ne (pc := 86) (tgt := 94) dX16_of_86 dX16_of_87 rfl ?_ ?_
  · refine s_lload_n (pc := 94) dX16_of_94 rfl ?_
    refine s_lload (pc := 95) dX16_of_95 rfl ?_
    refine s_ldiv (pc := 97) dX16_of_97 ?_
    exact s_lret (pc := 98) dX16_of_98 rfl (fun h => h)
  refine s_lconst0 (pc := 90) dX16_of_90 ?_
  refine s_goto (pc := 91) (tgt := 98) dX16_of_91 rfl ?_
  exact s_lret (pc := 98) dX16_of_98 rfl (fun h => h)
noncomputable def fX16_of_48 [Inhabited Orc] (a0 : Int) (td : TT) (c : CC) : Option Int :=
  gd ((0 : Int) ≤ a0 ∧ (tt td (Int.toNat a0)).1 = 14) <|
   cl (oF (cv c (Int.toNat a0) 1)) fun p_1 =>
   gd ((0 : Int) ≤ a0 ∧ (tt td (Int.toNat a0)).1 = 14) <|
   cl (oF (cv c (Int.toNat a0) 2)) fun p_2 =>
   gd ((0 : Int) ≤ a0 ∧ (tt td (Int.toNat a0)).1 = 14) <|
   if cv c (Int.toNat a0) 0 = 42 then
  (gd (inL (p_1 * p_2)) <|
   gd ((0 : Int) ≤ a0 ∧ (tt td (Int.toNat a0)).1 = 14) <| cl (fX20_bound a0 (p_1 * p_2) td c) fun p_4 =>
   some p_4)
  else if cv c (Int.toNat a0) 0 = 43 then
  (gd (inL (p_1 + p_2)) <|
   gd ((0 : Int) ≤ a0 ∧ (tt td (Int.toNat a0)).1 = 14) <| cl (fX20_bound a0 (p_1 + p_2) td c) fun p_6 =>
   some p_6)
  else if cv c (Int.toNat a0) 0 = 44 then
  (fX16_of_48_j83 p_1 p_2 td c)
  else if cv c (Int.toNat a0) 0 = 45 then
  (gd (inL (p_1 - p_2)) <|
   gd ((0 : Int) ≤ a0 ∧ (tt td (Int.toNat a0)).1 = 14) <| cl (fX20_bound a0 (p_1 - p_2) td c) fun p_9 =>
   some p_9)
  else (fX16_of_48_j83 p_1 p_2 td c)
theorem sX16_of_48 [Inhabited Orc] {G : GG} {Γ : Cx} {r : Vv × Wd} {sz : Nat} {sl : Nat} (a0 : Int) (td : TT) (c : CC) [hO : Nonempty (PLift (oOK SumK 1 oD G (sz, sl, tt td, cv c)))] : Sm (fX16_of_48 a0 td c) (fun x => r = ((1, x), (sz, sl, tt td, cv c))) (WP G Γ muX16_of_48 r 0 [some (2, a0), some (2, 48), none, none, none, none] [] (sz, sl, tt td, cv c)) := by
  unfold fX16_of_48
  refine s_aload_n (pc := 0) dX16_of_0 rfl ?_
  refine s_getD (pc := 1) flX16_13 rfl dX16_of_1 ?_
  refine s_aload_n (pc := 4) dX16_of_4 rfl ?_
  refine s_callFO (pc := 5) (D := oD) (z := cv c (Int.toNat a0) 1) (v := 48) (tg := 1) (st := []) (fun b h => hO.elim (fun q => q.down _ b h)) mfX16_20 (Nat.le_refl _) (Nat.le_of_ble_eq_true rfl) (Nat.le_of_ble_eq_true rfl) dX16_of_5 (fun p_1 => ?_)
  refine s_lstore_nD (pc := 10) (ls' := [some (2, a0), some (2, 48), some (1, p_1), none, none, none]) dX16_of_10 rfl (Nat.le_of_ble_eq_true rfl) ?_
  refine s_aload_n (pc := 11) dX16_of_11 rfl ?_
  refine s_getD (pc := 12) flX16_17 rfl dX16_of_12 ?_
  refine s_aload_n (pc := 15) dX16_of_15 rfl ?_
  refine s_callFO (pc := 16) (D := oD) (z := cv c (Int.toNat a0) 2) (v := 48) (tg := 1) (st := []) (fun b h => hO.elim (fun q => q.down _ b h)) mfX16_20 (Nat.le_refl _) (Nat.le_of_ble_eq_true rfl) (Nat.le_of_ble_eq_true rfl) dX16_of_16 (fun p_2 => ?_)
  refine s_lstoreD (pc := 21) (ls' := [some (2, a0), some (2, 48), some (1, p_1), none, some (1, p_2), none]) dX16_of_21 rfl (Nat.le_of_ble_eq_true rfl) ?_
  refine s_aload_n (pc := 23) dX16_of_23 rfl ?_
  refine s_getD (pc := 24) flX16_7 rfl dX16_of_24 ?_
  refine Sm.ite (fun hq_3 => ?_) (fun hq_3 => ?_)
  · refine s_tblIn (pc := 27) (tgt := 74) dX16_of_27 42 hq_3 (by decide) rfl rfl ?_
    refine s_aload_n (pc := 74) dX16_of_74 rfl ?_
    refine s_lload_n (pc := 75) dX16_of_75 rfl ?_
    refine s_lload (pc := 76) dX16_of_76 rfl ?_
    refine s_lmul (pc := 78) dX16_of_78 ?_
    refine s_callDF (pc := 79) (μy := muX20_bound) (z := a0) (v := p_1 * p_2) (st := []) rfl rfl (fun b h => kX20_bound a0 (p_1 * p_2) td c b h) (by first | decide | exact Nat.le_trans (by decide) (Nat.le_add_left 5 _)) (Nat.le_of_ble_eq_true rfl) dX16_of_79 (fun p_4 => ?_)
    exact s_lret (pc := 82) dX16_of_82 rfl (fun h => h)
  refine Sm.ite (fun hq_5 => ?_) (fun hq_5 => ?_)
  · refine s_tblIn (pc := 27) (tgt := 56) dX16_of_27 43 hq_5 (by decide) rfl rfl ?_
    refine s_aload_n (pc := 56) dX16_of_56 rfl ?_
    refine s_lload_n (pc := 57) dX16_of_57 rfl ?_
    refine s_lload (pc := 58) dX16_of_58 rfl ?_
    refine s_ladd (pc := 60) dX16_of_60 ?_
    refine s_callDF (pc := 61) (μy := muX20_bound) (z := a0) (v := p_1 + p_2) (st := []) rfl rfl (fun b h => kX20_bound a0 (p_1 + p_2) td c b h) (by first | decide | exact Nat.le_trans (by decide) (Nat.le_add_left 5 _)) (Nat.le_of_ble_eq_true rfl) dX16_of_61 (fun p_6 => ?_)
    exact s_lret (pc := 64) dX16_of_64 rfl (fun h => h)
  refine Sm.ite (fun hq_7 => ?_) (fun hq_7 => ?_)
  · refine s_tblIn (pc := 27) (tgt := 83) dX16_of_27 44 hq_7 (by decide) rfl rfl ?_
    refine s_wk [false, false, true, true, true, true] (ls' := [none, none, some (1, p_1), none, some (1, p_2), none]) rfl ?_
    exact sX16_of_48_j83 p_1 p_2 td c
  refine Sm.ite (fun hq_8 => ?_) (fun hq_8 => ?_)
  · refine s_tblIn (pc := 27) (tgt := 65) dX16_of_27 45 hq_8 (by decide) rfl rfl ?_
    refine s_aload_n (pc := 65) dX16_of_65 rfl ?_
    refine s_lload_n (pc := 66) dX16_of_66 rfl ?_
    refine s_lload (pc := 67) dX16_of_67 rfl ?_
    refine s_lsub (pc := 69) dX16_of_69 ?_
    refine s_callDF (pc := 70) (μy := muX20_bound) (z := a0) (v := p_1 - p_2) (st := []) rfl rfl (fun b h => kX20_bound a0 (p_1 - p_2) td c b h) (by first | decide | exact Nat.le_trans (by decide) (Nat.le_add_left 5 _)) (Nat.le_of_ble_eq_true rfl) dX16_of_70 (fun p_9 => ?_)
    exact s_lret (pc := 73) dX16_of_73 rfl (fun h => h)
  refine s_tblOut (pc := 27) (tgt := 83) dX16_of_27 (by omega) rfl ?_
  refine s_wk [false, false, true, true, true, true] (ls' := [none, none, some (1, p_1), none, some (1, p_2), none]) rfl ?_
  exact sX16_of_48_j83 p_1 p_2 td c
theorem kX16_of_48 [Inhabited Orc] {G : GG} {sz : Nat} {sl : Nat} (a0 : Int) (td : TT) (c : CC) [hO : Nonempty (PLift (oOK SumK 1 oD G (sz, sl, tt td, cv c)))] (x : Int) (h : fX16_of_48 a0 td c = some x) : Ct G yX16_of muX16_of_48 [(2, a0), (2, 48)] (sz, sl, tt td, cv c) ((1, x), (sz, sl, tt td, cv c)) :=
  Ct.of (n := 4) (ls0 := [some (2, a0), some (2, 48), none, none, none, none]) (by decide) rfl rfl ⟨show (some .long : Option FieldType) ≠ some .float by decide, show (some .long : Option FieldType) ≠ some .double by decide⟩ (Nat.le_of_ble_eq_true rfl) rfl ⟨Nat.le_refl _, Nat.le_refl _⟩ (show (1 : Nat) ≠ 9 by decide) (fun Γ => sX16_of_48 a0 td c x h rfl)
noncomputable def fSum : Nat → TT → CC → Int → Option Int
  | 0, _, _, _ => none
  | n + 1, td, c, z => if 0 ≤ z then if (tt td (Int.toNat z)).1 = 11 then @fX13_of_48 ⟨((fSum n td c, n) : Orc)⟩ z td c else if (tt td (Int.toNat z)).1 = 12 then @fX14_of_48 ⟨((fSum n td c, n) : Orc)⟩ z td c else if (tt td (Int.toNat z)).1 = 13 then @fX15_of_48 ⟨((fSum n td c, n) : Orc)⟩ z td c else if (tt td (Int.toNat z)).1 = 14 then @fX16_of_48 ⟨((fSum n td c, n) : Orc)⟩ z td c else none else none
theorem kSum {G : GG} {sz sl : Nat} (n : Nat) (td : TT) (c : CC) (z b : Int) (h : fSum n td c z = some b) : IfC SumK G (n + 0) (sz, sl, tt td, cv c) 48 1 z b := by
  induction n generalizing z b with
  | zero => unfold fSum at h; cases h
  | succ n ih =>
    unfold fSum at h
    by_cases h0 : 0 ≤ z
    · rw [if_pos h0] at h
      by_cases h11 : (tt td (Int.toNat z)).1 = 11
      · rw [if_pos h11] at h
        refine ⟨z.toNat, 11, _, _, _, dyn_t h11, dyn_z h0, Or.inl ⟨rfl, rfl, _, rfl⟩, ?_, @kX13_of_48 ⟨((fSum n td c, n) : Orc)⟩ G sz sl z td c ⟨⟨fun z b h => ih z b h⟩⟩ b h⟩
        show n + 5 ≤ n + 1 + 0 + 4
        omega
      rw [if_neg h11] at h
      by_cases h12 : (tt td (Int.toNat z)).1 = 12
      · rw [if_pos h12] at h
        refine ⟨z.toNat, 12, _, _, _, dyn_t h12, dyn_z h0, Or.inr (Or.inl ⟨rfl, rfl, _, rfl⟩), ?_, @kX14_of_48 ⟨((fSum n td c, n) : Orc)⟩ G sz sl z td c ⟨⟨fun z b h => ih z b h⟩⟩ b h⟩
        show n + 5 ≤ n + 1 + 0 + 4
        omega
      rw [if_neg h12] at h
      by_cases h13 : (tt td (Int.toNat z)).1 = 13
      · rw [if_pos h13] at h
        refine ⟨z.toNat, 13, _, _, _, dyn_t h13, dyn_z h0, Or.inr (Or.inr (Or.inl ⟨rfl, rfl, _, rfl⟩)), ?_, @kX15_of_48 ⟨((fSum n td c, n) : Orc)⟩ G sz sl z td c ⟨⟨fun z b h => ih z b h⟩⟩ b h⟩
        show n + 5 ≤ n + 1 + 0 + 4
        omega
      rw [if_neg h13] at h
      by_cases h14 : (tt td (Int.toNat z)).1 = 14
      · rw [if_pos h14] at h
        refine ⟨z.toNat, 14, _, _, _, dyn_t h14, dyn_z h0, Or.inr (Or.inr (Or.inr (⟨rfl, rfl, _, rfl⟩))), ?_, @kX16_of_48 ⟨((fSum n td c, n) : Orc)⟩ G sz sl z td c ⟨⟨fun z b h => ih z b h⟩⟩ b h⟩
        show n + 5 ≤ n + 1 + 0 + 4
        omega
      rw [if_neg h14] at h
      cases h
    · rw [if_neg h0] at h; cases h
abbrev muX0_weighed : MI := (cX0_weighed, RX0, 6, some .int, 405, "weighed")
abbrev gX0_weighed_l37 (G : GG) (Γ : Cx) (r : Vv × Wd) (sz sl : Nat) (td : TT) (c : CC)  : (Int × CC) → Prop := fun s => WP G Γ muX0_weighed r 37 [some (2, 43), none, none, none, some (2, 49), some (0, s.1)] [] (sz, sl, tt td, cv s.2)
abbrev eX0_weighed_l37 (G : GG) (Γ : Cx) (r : Vv × Wd) (sz sl : Nat) (td : TT) (c : CC)  : (CC) → Prop := (fun s => WP G Γ muX0_weighed r 84 [some (2, 43), none, none, none, some (2, 49), none] [] (sz, sl, tt td, cv s))
noncomputable def fX0_weighed_l37 (v5 : Int) (td : TT) (c : CC) : Option ((Int × CC) ⊕ (CC)) :=
  if v5 < c 43 35 then
  (gd ((0 : Int) ≤ v5 ∧ v5 < 25) <|
   gd (inR ((c 49 0) + (c 104 (Int.toNat v5)))) <|
   bd (up2 c 49 0 ((c 49 0) + (c 104 (Int.toNat v5)))) fun c_5 =>
   gd ((0 : Int) ≤ v5 ∧ v5 < 25) <|
    bd (up2 c_5 49 1 (min (c_5 49 1) (c_5 104 (Int.toNat v5)))) fun c_7 =>
   gd (inR (v5 + 1)) <| bd (v5 + 1) fun v5_8 =>
   some (.inl (v5_8, c_7)))
  else
  (some (.inr c))
theorem sX0_weighed_l37 {G : GG} {Γ : Cx} {r : Vv × Wd} {sz : Nat} {sl : Nat} (v5 : Int) (td : TT) (c : CC) : Sm (fX0_weighed_l37 v5 td c) (fun x => Sum.elim (gX0_weighed_l37 G Γ r sz sl td c ) (eX0_weighed_l37 G Γ r sz sl td c ) x) (gX0_weighed_l37 G Γ r sz sl td c  (v5, c)) := by
  show Sm _ _ (WP G Γ muX0_weighed r 37 [some (2, 43), none, none, none, some (2, 49), some (0, v5)] [] (sz, sl, tt td, cv c))
  unfold fX0_weighed_l37
  refine s_iload (pc := 37) dX0_weighed_37 rfl ?_
  refine s_aload_n (pc := 39) dX0_weighed_39 rfl ?_
  refine s_get (pc := 40) (a := 43) (v := c 43 35) flX0_277 (t_43 _) rfl (g_43_35 _) rfl dX0_weighed_40 ?_
  refine s_icmp_ge (pc := 43) (tgt := 84) dX0_weighed_43 rfl ?_ ?_
  · refine s_wk [true, true, true, true, true, false] (ls' := [some (2, 43), none, none, none, some (2, 49), none]) rfl ?_
    exact Sm.some (fun h => h)
  refine s_aload (pc := 46) dX0_weighed_46 rfl ?_
  refine s_iconst (pc := 48) dX0_weighed_48 ?_
  refine s_dup2 (pc := 49) (by decide : ¬ (0 : Nat) = 1) (by decide : ¬ (2 : Nat) = 1) dX0_weighed_49 ?_
  refine s_ialdML (pc := 50) (a := 49) 0 rfl (Nat.le_of_ble_eq_true rfl) (t_49 _) rfl r_49 dX0_weighed_50 ?_
  refine s_aload_n (pc := 51) dX0_weighed_51 rfl ?_
  refine s_get (pc := 52) (a := 43) (v := 104) flX0_101 (t_43 _) rfl (g_43_32 _) rfl dX0_weighed_52 ?_
  refine s_iload (pc := 55) dX0_weighed_55 rfl ?_
  refine s_ialdM (pc := 57) (a := 104) (t_104 _) rfl r_104 dX0_weighed_57 ?_
  refine s_iadd (pc := 58) dX0_weighed_58 ?_
  refine s_iastML (pc := 59) (a := 49) 0 rfl (Nat.le_of_ble_eq_true rfl) (t_49 _) rfl kO_49 r_49 dX0_weighed_59 (fun c_5 => ?_)
  refine s_aload (pc := 60) dX0_weighed_60 rfl ?_
  refine s_iconst (pc := 62) dX0_weighed_62 ?_
  refine s_aload (pc := 63) dX0_weighed_63 rfl ?_
  refine s_iconst (pc := 65) dX0_weighed_65 ?_
  refine s_ialdML (pc := 66) (a := 49) 1 rfl (Nat.le_of_ble_eq_true rfl) (t_49 _) rfl r_49 dX0_weighed_66 ?_
  refine s_aload_n (pc := 67) dX0_weighed_67 rfl ?_
  refine s_get (pc := 68) (a := 43) (v := 104) flX0_101 (t_43 _) rfl (g_43_32 _) rfl dX0_weighed_68 ?_
  refine s_iload (pc := 71) dX0_weighed_71 rfl ?_
  refine s_ialdM (pc := 73) (a := 104) (t_104 _) rfl r_104 dX0_weighed_73 ?_
  refine s_imin (a := c_5 49 1) (b := c_5 104 (Int.toNat v5)) (st := [(0, 1), (2, 49)]) q978 dX0_weighed_74 (by decide) (Nat.le_of_ble_eq_true rfl) ?_
  refine s_iastML (pc := 77) (a := 49) 1 rfl (Nat.le_of_ble_eq_true rfl) (t_49 _) rfl kO_49 r_49 dX0_weighed_77 (fun c_7 => ?_)
  refine s_iinc (pc := 78) (lf := fun x => [some (2, 43), none, none, none, some (2, 49), some (0, x)]) dX0_weighed_78 rfl (fun _ => rfl) (Nat.le_of_ble_eq_true rfl) (fun v5_8 => ?_)
  refine s_goto (pc := 81) (tgt := 37) dX0_weighed_81 rfl ?_
  exact Sm.some (fun h => h)
noncomputable def fX0_weighed (a1 : Int) (a2 : Int) (a3 : Int) (td : TT) (c : CC) : Option (Int × CC) :=
  bd (up2 c 49 0 0) fun c_1 =>
   bd (up2 c_1 49 1 9999) fun c_2 =>
   bd (up2 c_2 49 2 a2) fun c_3 =>
   gd ((0 : Int) ≤ a1 ∧ 6 ≤ (tt td (Int.toNat a1)).1 ∧ (tt td (Int.toNat a1)).1 ≤ 10) <|
   bd (up2 c_3 49 3 (cv c_3 (Int.toNat a1) 2)) fun c_4 =>
   cl (wh (fun s => fX0_weighed_l37  s.1 td s.2) (a3, c_4)) (fun e_9 =>
  cl (fX0_lexicon  td e_9) fun p_10 =>
   gd ((0 : Int) ≤ p_10 ∧ (tt td (Int.toNat p_10)).1 = 1) <|
   if cv e_9 (Int.toNat p_10) 2 < 0 then
  (some ((e_9 49 0), e_9))
  else
  (cl (fX0_lexicon  td e_9) fun p_11 =>
   gd ((0 : Int) ≤ p_11 ∧ (tt td (Int.toNat p_11)).1 = 1) <|
   cl (fSum 400 td e_9 (cv e_9 (Int.toNat p_11) 2)) fun p_12 =>
     gd (inR (max 0 (min 9999 p_12))) <|
   some ((max 0 (min 9999 p_12)), e_9)))
theorem sX0_weighed {G : GG} {Γ : Cx} {r : Vv × Wd} {sz : Nat} {sl : Nat} (a1 : Int) (a2 : Int) (a3 : Int) (td : TT) (c : CC) : Sm (fX0_weighed a1 a2 a3 td c) (fun x => r = ((0, x.1), (sz, sl, tt td, cv x.2))) (WP G Γ muX0_weighed r 0 [some (2, 43), some (2, a1), some (0, a2), some (0, a3), none, none] [] (sz, sl, tt td, cv c)) := by
  unfold fX0_weighed
  refine s_aload_n (pc := 0) dX0_weighed_0 rfl ?_
  refine s_get (pc := 1) (a := 43) (v := 48) flX0_23 (t_43 _) rfl (g_43_2 _) rfl dX0_weighed_1 ?_
  refine s_getNL (pc := 4) (a := 48) (v := 49) fnX0_293 (t_48 _) rfl (g_48_0 _) rfl dX0_weighed_4 ?_
  refine s_astoreD (pc := 7) (ls' := [some (2, 43), some (2, a1), some (0, a2), some (0, a3), some (2, 49), none]) dX0_weighed_7 rfl (Nat.le_of_ble_eq_true rfl) ?_
  refine s_aload (pc := 9) dX0_weighed_9 rfl ?_
  refine s_iconst (pc := 11) dX0_weighed_11 ?_
  refine s_iconst (pc := 12) dX0_weighed_12 ?_
  refine s_iastML (pc := 13) (a := 49) 0 rfl (Nat.le_of_ble_eq_true rfl) (t_49 _) rfl kO_49 r_49 dX0_weighed_13 (fun c_1 => ?_)
  refine s_aload (pc := 14) dX0_weighed_14 rfl ?_
  refine s_iconst (pc := 16) dX0_weighed_16 ?_
  refine s_sipush (pc := 17) dX0_weighed_17 ?_
  refine s_iastML (pc := 20) (a := 49) 1 rfl (Nat.le_of_ble_eq_true rfl) (t_49 _) rfl kO_49 r_49 dX0_weighed_20 (fun c_2 => ?_)
  refine s_aload (pc := 21) dX0_weighed_21 rfl ?_
  refine s_iconst (pc := 23) dX0_weighed_23 ?_
  refine s_iload_n (pc := 24) dX0_weighed_24 rfl ?_
  refine s_iastML (pc := 25) (a := 49) 2 rfl (Nat.le_of_ble_eq_true rfl) (t_49 _) rfl kO_49 r_49 dX0_weighed_25 (fun c_3 => ?_)
  refine s_aload (pc := 26) dX0_weighed_26 rfl ?_
  refine s_iconst (pc := 28) dX0_weighed_28 ?_
  refine s_aload_n (pc := 29) dX0_weighed_29 rfl ?_
  refine s_getS (pc := 30) fsX0_196 dX0_weighed_30 ?_
  refine s_iastML (pc := 33) (a := 49) 3 rfl (Nat.le_of_ble_eq_true rfl) (t_49 _) rfl kO_49 r_49 dX0_weighed_33 (fun c_4 => ?_)
  refine s_iload_n (pc := 34) dX0_weighed_34 rfl ?_
  refine s_istoreD (pc := 35) (ls' := [some (2, 43), some (2, a1), some (0, a2), some (0, a3), some (2, 49), some (0, a3)]) dX0_weighed_35 rfl (Nat.le_of_ble_eq_true rfl) ?_
  refine s_wk [true, false, false, false, true, true] (ls' := [some (2, 43), none, none, none, some (2, 49), some (0, a3)]) rfl ?_
  refine s_loop (g := gX0_weighed_l37 G Γ r sz sl td c_4 ) (Ex := eX0_weighed_l37 G Γ r sz sl td c_4 ) (s0 := (a3, c_4)) (fun s => sX0_weighed_l37  s.1 td s.2) ?_
  intro e_9
  show Sm _ _ (WP G Γ muX0_weighed r 84 [some (2, 43), none, none, none, some (2, 49), none] [] (sz, sl, tt td, cv e_9))
  refine s_aload_n (pc := 84) dX0_weighed_84 rfl ?_
  refine s_callV3 (pc := 85) (a := 43) (as := []) (st := []) (rv := fun b => ((2, b), (sz, sl, tt td, cv e_9))) (st3 := fun b => [(2, b)]) (w3 := fun b => (sz, sl, tt td, cv e_9)) mvX0_186 (fun b h => kX0_lexicon  td e_9 b h) rfl (by decide) (t_43 td) rfl rfl rfl (Nat.le_of_ble_eq_true rfl) (fun _ => Nat.le_of_ble_eq_true rfl) (fun _ => ⟨rfl, rfl⟩) dX0_weighed_85 (fun p_10 => ?_)
  refine s_getDN (pc := 88) fnX0_296 rfl dX0_weighed_88 ?_
  refine s_ifnonnull (pc := 91) (tgt := 101) dX0_weighed_91 rfl ?_ ?_
  · refine s_lconst0 (pc := 101) dX0_weighed_101 ?_
    refine s_ldc2 (pc := 102) (z := 9999) q996 dX0_weighed_102 ?_
    refine s_aload_n (pc := 105) dX0_weighed_105 rfl ?_
    refine s_callV3 (pc := 106) (a := 43) (as := []) (st := [(1, 9999), (1, 0)]) (rv := fun b => ((2, b), (sz, sl, tt td, cv e_9))) (st3 := fun b => [(2, b), (1, 9999), (1, 0)]) (w3 := fun b => (sz, sl, tt td, cv e_9)) mvX0_186 (fun b h => kX0_lexicon  td e_9 b h) rfl (by decide) (t_43 td) rfl rfl rfl (Nat.le_of_ble_eq_true rfl) (fun _ => Nat.le_of_ble_eq_true rfl) (fun _ => ⟨rfl, rfl⟩) dX0_weighed_106 (fun p_11 => ?_)
    refine s_getDN (pc := 109) fnX0_296 rfl dX0_weighed_109 ?_
    refine s_aload_n (pc := 112) dX0_weighed_112 rfl ?_
    refine s_get (pc := 113) (a := 43) (v := 48) flX0_23 (t_43 _) rfl (g_43_2 _) rfl dX0_weighed_113 ?_
    refine s_callFO (pc := 116) (D := 400) (z := cv e_9 (Int.toNat p_11) 2) (v := 48) (tg := 1) (st := [(1, 9999), (1, 0)]) (fun b h => kSum 400 td e_9 (cv e_9 (Int.toNat p_11) 2) b h) mfX0_302 (by decide) (Nat.le_of_ble_eq_true rfl) (Nat.le_of_ble_eq_true rfl) dX0_weighed_116 (fun p_12 => ?_)
    refine s_lmin (a := 9999) (b := p_12) (st := [(1, 0)]) q929 dX0_weighed_121 (by decide) (Nat.le_of_ble_eq_true rfl) ?_
    refine s_lmax (a := 0) (b := min 9999 p_12) (st := []) q1042 dX0_weighed_124 (by decide) (Nat.le_of_ble_eq_true rfl) ?_
    refine s_l2i (pc := 127) dX0_weighed_127 ?_
    exact s_iret (pc := 128) dX0_weighed_128 rfl (fun h => h)
  refine s_aload (pc := 94) dX0_weighed_94 rfl ?_
  refine s_iconst (pc := 96) dX0_weighed_96 ?_
  refine s_ialdML (pc := 97) (a := 49) 0 rfl (Nat.le_of_ble_eq_true rfl) (t_49 _) rfl r_49 dX0_weighed_97 ?_
  refine s_goto (pc := 98) (tgt := 128) dX0_weighed_98 rfl ?_
  exact s_iret (pc := 128) dX0_weighed_128 rfl (fun h => h)
theorem kX0_weighed {G : GG} {sz : Nat} {sl : Nat} (a1 : Int) (a2 : Int) (a3 : Int) (td : TT) (c : CC) (x : (Int × CC)) (h : fX0_weighed a1 a2 a3 td c = some x) : Ct G yX0_weighed muX0_weighed [(2, 43), (2, a1), (0, a2), (0, a3)] (sz, sl, tt td, cv c) ((0, x.1), (sz, sl, tt td, cv x.2)) :=
  Ct.of (n := 2) (ls0 := [some (2, 43), some (2, a1), some (0, a2), some (0, a3), none, none]) (by decide) rfl rfl ⟨show (some .int : Option FieldType) ≠ some .float by decide, show (some .int : Option FieldType) ≠ some .double by decide⟩ (Nat.le_of_ble_eq_true rfl) rfl ⟨Nat.le_refl _, Nat.le_refl _⟩ (show (0 : Nat) ≠ 9 by decide) (fun Γ => sX0_weighed a1 a2 a3 td c x h rfl)
theorem mvX0_285 : MV RX0 285 RX0 yX0_weighed muX0_weighed 3 := ⟨lw_V q992 q994 qs33 q125 q995, by decide +kernel, Nat.le_of_ble_eq_true rfl⟩
theorem flX0_107 : FL RX0 107 0 34 := ⟨_, _, _, cf0, by decide, q247⟩
abbrev muX0_meaning_106 : MI := (cX0_meaning, RX0, 10, some .int, 3, "meaning")
abbrev gX0_meaning_106_l62 (G : GG) (Γ : Cx) (r : Vv × Wd) (sz sl : Nat) (td : TT) (c : CC) (v1 : Int) (v2 : Int) (v4 : Int) (v5 : Int) (v6 : Int) (v7 : Int) (v8 : Int) : (Int × CC) → Prop := fun s => WP G Γ muX0_meaning_106 r 62 [some (2, 43), some (2, v1), some (0, v2), some (2, 106), some (0, v4), some (0, v5), some (0, v6), some (0, v7), some (0, v8), some (0, s.1)] [] (sz, sl, tt td, cv s.2)
abbrev eX0_meaning_106_l62 (G : GG) (Γ : Cx) (r : Vv × Wd) (sz sl : Nat) (td : TT) (c : CC) (v1 : Int) (v2 : Int) (v4 : Int) (v5 : Int) (v6 : Int) (v7 : Int) (v8 : Int) : (Int × CC) → Prop := (fun s => WP G Γ muX0_meaning_106 r 113 [some (2, 43), some (2, v1), some (0, v2), some (2, 106), some (0, v4), some (0, v5), some (0, v6), some (0, v7), some (0, v8), some (0, s.1)] [] (sz, sl, tt td, cv s.2))
noncomputable def fX0_meaning_106_l62 (v1 : Int) (v2 : Int) (v4 : Int) (v5 : Int) (v6 : Int) (v7 : Int) (v8 : Int) (v9 : Int) (td : TT) (c : CC) : Option ((Int × CC) ⊕ (Int × CC)) :=
  cl (fV_sort v1  td c) fun p_7 =>
   if p_7 = 2 then
  (if v6 < v9 then
  (gd (inR (v9 - 1)) <|
   gd ((0 : Int) ≤ v9 - 1 ∧ v9 - 1 < 16000) <|
   if v8 < c 102 (Int.toNat (v9 - 1)) then
  (gd (inR (v9 - 1)) <|
   gd ((0 : Int) ≤ v9 - 1 ∧ v9 - 1 < 16000) <|
   gd ((0 : Int) ≤ v9 ∧ v9 < 16000) <| bd (up2 c 102 (Int.toNat v9) (c 102 (Int.toNat (v9 - 1)))) fun c_8 =>
   gd (inR (v9 + -1)) <| bd (v9 + -1) fun v9_9 =>
   some (.inl (v9_9, c_8)))
  else
  (some (.inr (v9, c))))
  else
  (some (.inr (v9, c))))
  else
  (some (.inr (v9, c)))
theorem sX0_meaning_106_l62 {G : GG} {Γ : Cx} {r : Vv × Wd} {sz : Nat} {sl : Nat} (v1 : Int) (v2 : Int) (v4 : Int) (v5 : Int) (v6 : Int) (v7 : Int) (v8 : Int) (v9 : Int) (td : TT) (c : CC) : Sm (fX0_meaning_106_l62 v1 v2 v4 v5 v6 v7 v8 v9 td c) (fun x => Sum.elim (gX0_meaning_106_l62 G Γ r sz sl td c v1 v2 v4 v5 v6 v7 v8) (eX0_meaning_106_l62 G Γ r sz sl td c v1 v2 v4 v5 v6 v7 v8) x) (gX0_meaning_106_l62 G Γ r sz sl td c v1 v2 v4 v5 v6 v7 v8 (v9, c)) := by
  show Sm _ _ (WP G Γ muX0_meaning_106 r 62 [some (2, 43), some (2, v1), some (0, v2), some (2, 106), some (0, v4), some (0, v5), some (0, v6), some (0, v7), some (0, v8), some (0, v9)] [] (sz, sl, tt td, cv c))
  unfold fX0_meaning_106_l62
  refine s_aload_n (pc := 62) dX0_meaning_62 rfl ?_
  refine s_callU (pc := 63) (z := v1) (as := []) (st := []) (rv := fun b => ((0, b), (sz, sl, tt td, cv c))) (st3 := fun b => [(0, b)]) (w3 := fun b => (sz, sl, tt td, cv c)) rfl rfl (fun b h => vdX0_178 v1  td c b h (by decide)) (Nat.le_of_ble_eq_true rfl) (fun _ => Nat.le_of_ble_eq_true rfl) (fun _ => ⟨rfl, rfl⟩) dX0_meaning_63 (fun p_7 => ?_)
  refine s_iconst (pc := 66) dX0_meaning_66 ?_
  refine s_icmp_ne (pc := 67) (tgt := 113) dX0_meaning_67 rfl ?_ ?_
  · exact Sm.some (fun h => h)
  refine s_iload (pc := 70) dX0_meaning_70 rfl ?_
  refine s_iload (pc := 72) dX0_meaning_72 rfl ?_
  refine s_icmp_le (pc := 74) (tgt := 113) dX0_meaning_74 rfl ?_ ?_
  · exact Sm.some (fun h => h)
  refine s_aload_n (pc := 77) dX0_meaning_77 rfl ?_
  refine s_get (pc := 78) (a := 43) (v := 102) flX0_95 (t_43 _) rfl (g_43_29 _) rfl dX0_meaning_78 ?_
  refine s_iload (pc := 81) dX0_meaning_81 rfl ?_
  refine s_iconst (pc := 83) dX0_meaning_83 ?_
  refine s_isub (pc := 84) dX0_meaning_84 ?_
  refine s_ialdM (pc := 85) (a := 102) (t_102 _) rfl r_102 dX0_meaning_85 ?_
  refine s_iload (pc := 86) dX0_meaning_86 rfl ?_
  refine s_icmp_le (pc := 88) (tgt := 113) dX0_meaning_88 rfl ?_ ?_
  · exact Sm.some (fun h => h)
  refine s_aload_n (pc := 91) dX0_meaning_91 rfl ?_
  refine s_get (pc := 92) (a := 43) (v := 102) flX0_95 (t_43 _) rfl (g_43_29 _) rfl dX0_meaning_92 ?_
  refine s_iload (pc := 95) dX0_meaning_95 rfl ?_
  refine s_aload_n (pc := 97) dX0_meaning_97 rfl ?_
  refine s_get (pc := 98) (a := 43) (v := 102) flX0_95 (t_43 _) rfl (g_43_29 _) rfl dX0_meaning_98 ?_
  refine s_iload (pc := 101) dX0_meaning_101 rfl ?_
  refine s_iconst (pc := 103) dX0_meaning_103 ?_
  refine s_isub (pc := 104) dX0_meaning_104 ?_
  refine s_ialdM (pc := 105) (a := 102) (t_102 _) rfl r_102 dX0_meaning_105 ?_
  refine s_iastM (pc := 106) (a := 102) (t_102 _) rfl kO_102 r_102 dX0_meaning_106 (fun c_8 => ?_)
  refine s_iinc (pc := 107) (lf := fun x => [some (2, 43), some (2, v1), some (0, v2), some (2, 106), some (0, v4), some (0, v5), some (0, v6), some (0, v7), some (0, v8), some (0, x)]) dX0_meaning_107 rfl (fun _ => rfl) (Nat.le_of_ble_eq_true rfl) (fun v9_9 => ?_)
  refine s_goto (pc := 110) (tgt := 62) dX0_meaning_110 rfl ?_
  exact Sm.some (fun h => h)
noncomputable def fX0_meaning_106_j113 (v1 : Int) (v2 : Int) (v4 : Int) (v5 : Int) (v6 : Int) (v7 : Int) (v8 : Int) (v9 : Int) (td : TT) (c : CC) : Option ((Int × CC) ⊕ (CC)) :=
  gd ((0 : Int) ≤ v9 ∧ v9 < 16000) <| bd (up2 c 102 (Int.toNat v9) v8) fun c_11 =>
   gd (inR (v7 + 1)) <| bd (v7 + 1) fun v7_12 =>
   some (.inl (v7_12, c_11))
abbrev gX0_meaning_106_l34 (G : GG) (Γ : Cx) (r : Vv × Wd) (sz sl : Nat) (td : TT) (c : CC) (v1 : Int) (v2 : Int) (v4 : Int) (v5 : Int) (v6 : Int) : (Int × CC) → Prop := fun s => WP G Γ muX0_meaning_106 r 34 [some (2, 43), some (2, v1), some (0, v2), some (2, 106), some (0, v4), some (0, v5), some (0, v6), some (0, s.1), none, none] [] (sz, sl, tt td, cv s.2)
abbrev eX0_meaning_106_l34 (G : GG) (Γ : Cx) (r : Vv × Wd) (sz sl : Nat) (td : TT) (c : CC) (v1 : Int) (v2 : Int) (v4 : Int) (v5 : Int) (v6 : Int) : (CC) → Prop := (fun s => WP G Γ muX0_meaning_106 r 128 [some (2, 43), some (2, v1), none, none, none, some (0, v5), none, none, none, none] [] (sz, sl, tt td, cv s))
theorem sX0_meaning_106_j113 {G : GG} {Γ : Cx} {r : Vv × Wd} {sz : Nat} {sl : Nat} (v1 : Int) (v2 : Int) (v4 : Int) (v5 : Int) (v6 : Int) (v7 : Int) (v8 : Int) (v9 : Int) (td : TT) (c : CC) : Sm (fX0_meaning_106_j113 v1 v2 v4 v5 v6 v7 v8 v9 td c) (fun x => Sum.elim (gX0_meaning_106_l34 G Γ r sz sl td c v1 v2 v4 v5 v6) (eX0_meaning_106_l34 G Γ r sz sl td c v1 v2 v4 v5 v6) x) (WP G Γ muX0_meaning_106 r 113 [some (2, 43), some (2, v1), some (0, v2), some (2, 106), some (0, v4), some (0, v5), some (0, v6), some (0, v7), some (0, v8), some (0, v9)] [] (sz, sl, tt td, cv c)) := by
  unfold fX0_meaning_106_j113
  refine s_aload_n (pc := 113) dX0_meaning_113 rfl ?_
  refine s_get (pc := 114) (a := 43) (v := 102) flX0_95 (t_43 _) rfl (g_43_29 _) rfl dX0_meaning_114 ?_
  refine s_iload (pc := 117) dX0_meaning_117 rfl ?_
  refine s_iload (pc := 119) dX0_meaning_119 rfl ?_
  refine s_iastM (pc := 121) (a := 102) (t_102 _) rfl kO_102 r_102 dX0_meaning_121 (fun c_11 => ?_)
  refine s_iinc (pc := 122) (lf := fun x => [some (2, 43), some (2, v1), some (0, v2), some (2, 106), some (0, v4), some (0, v5), some (0, v6), some (0, x), some (0, v8), some (0, v9)]) dX0_meaning_122 rfl (fun _ => rfl) (Nat.le_of_ble_eq_true rfl) (fun v7_12 => ?_)
  refine s_goto (pc := 125) (tgt := 34) dX0_meaning_125 rfl ?_
  refine s_wk [true, true, true, true, true, true, true, true, false, false] (ls' := [some (2, 43), some (2, v1), some (0, v2), some (2, 106), some (0, v4), some (0, v5), some (0, v6), some (0, v7_12), none, none]) rfl ?_
  exact Sm.some (fun h => h)
noncomputable def fX0_meaning_106_l34 (v1 : Int) (v2 : Int) (v4 : Int) (v5 : Int) (v6 : Int) (v7 : Int) (td : TT) (c : CC) : Option ((Int × CC) ⊕ (CC)) :=
  if v7 < v5 then
  (cl (fV_part v1 v2 v7 td c) fun p_4 =>
   gd (inR (v4 + p_4)) <|
   gd ((0 : Int) ≤ v4 + p_4 ∧ v4 + p_4 < 25) <|
   bd (c 106 (Int.toNat (v4 + p_4))) fun v8_5 =>
   gd (inR (v6 + v7)) <|
   bd (v6 + v7) fun v9_6 =>
   cl (wh (fun s => fX0_meaning_106_l62 v1 v2 v4 v5 v6 v7 v8_5 s.1 td s.2) (v9_6, c)) (fun e_10 =>
  fX0_meaning_106_j113 v1 v2 v4 v5 v6 v7 v8_5 e_10.1 td e_10.2))
  else
  (some (.inr c))
theorem sX0_meaning_106_l34 {G : GG} {Γ : Cx} {r : Vv × Wd} {sz : Nat} {sl : Nat} (v1 : Int) (v2 : Int) (v4 : Int) (v5 : Int) (v6 : Int) (v7 : Int) (td : TT) (c : CC) : Sm (fX0_meaning_106_l34 v1 v2 v4 v5 v6 v7 td c) (fun x => Sum.elim (gX0_meaning_106_l34 G Γ r sz sl td c v1 v2 v4 v5 v6) (eX0_meaning_106_l34 G Γ r sz sl td c v1 v2 v4 v5 v6) x) (gX0_meaning_106_l34 G Γ r sz sl td c v1 v2 v4 v5 v6 (v7, c)) := by
  show Sm _ _ (WP G Γ muX0_meaning_106 r 34 [some (2, 43), some (2, v1), some (0, v2), some (2, 106), some (0, v4), some (0, v5), some (0, v6), some (0, v7), none, none] [] (sz, sl, tt td, cv c))
  unfold fX0_meaning_106_l34
  refine s_iload (pc := 34) dX0_meaning_34 rfl ?_
  refine s_iload (pc := 36) dX0_meaning_36 rfl ?_
  refine s_icmp_ge (pc := 38) (tgt := 128) dX0_meaning_38 rfl ?_ ?_
  · refine s_wk [true, true, false, false, false, true, false, false, true, true] (ls' := [some (2, 43), some (2, v1), none, none, none, some (0, v5), none, none, none, none]) rfl ?_
    exact Sm.some (fun h => h)
  refine s_aload_n (pc := 41) dX0_meaning_41 rfl ?_
  refine s_iload (pc := 42) dX0_meaning_42 rfl ?_
  refine s_aload_n (pc := 44) dX0_meaning_44 rfl ?_
  refine s_iload_n (pc := 45) dX0_meaning_45 rfl ?_
  refine s_iload (pc := 46) dX0_meaning_46 rfl ?_
  refine s_callU (pc := 48) (z := v1) (as := [(0, v2), (0, v7)]) (st := [(0, v4), (2, 106)]) (rv := fun b => ((0, b), (sz, sl, tt td, cv c))) (st3 := fun b => [(0, b), (0, v4), (2, 106)]) (w3 := fun b => (sz, sl, tt td, cv c)) rfl rfl (fun b h => vdX0_268 v1 v2 v7 td c b h (by decide)) (Nat.le_of_ble_eq_true rfl) (fun _ => Nat.le_of_ble_eq_true rfl) (fun _ => ⟨rfl, rfl⟩) dX0_meaning_48 (fun p_4 => ?_)
  refine s_iadd (pc := 51) dX0_meaning_51 ?_
  refine s_ialdM (pc := 52) (a := 106) (t_106 _) rfl r_106 dX0_meaning_52 ?_
  refine s_istore (pc := 53) (lf := fun x => [some (2, 43), some (2, v1), some (0, v2), some (2, 106), some (0, v4), some (0, v5), some (0, v6), some (0, v7), some (0, x), none]) dX0_meaning_53 (fun _ => rfl) (Nat.le_of_ble_eq_true rfl) (fun v8_5 => ?_)
  refine s_iload (pc := 55) dX0_meaning_55 rfl ?_
  refine s_iload (pc := 57) dX0_meaning_57 rfl ?_
  refine s_iadd (pc := 59) dX0_meaning_59 ?_
  refine s_istore (pc := 60) (lf := fun x => [some (2, 43), some (2, v1), some (0, v2), some (2, 106), some (0, v4), some (0, v5), some (0, v6), some (0, v7), some (0, v8_5), some (0, x)]) dX0_meaning_60 (fun _ => rfl) (Nat.le_of_ble_eq_true rfl) (fun v9_6 => ?_)
  refine s_loop (g := gX0_meaning_106_l62 G Γ r sz sl td c v1 v2 v4 v5 v6 v7 v8_5) (Ex := eX0_meaning_106_l62 G Γ r sz sl td c v1 v2 v4 v5 v6 v7 v8_5) (s0 := (v9_6, c)) (fun s => sX0_meaning_106_l62 v1 v2 v4 v5 v6 v7 v8_5 s.1 td s.2) ?_
  intro e_10
  show Sm _ _ (WP G Γ muX0_meaning_106 r 113 [some (2, 43), some (2, v1), some (0, v2), some (2, 106), some (0, v4), some (0, v5), some (0, v6), some (0, v7), some (0, v8_5), some (0, e_10.1)] [] (sz, sl, tt td, cv e_10.2))
  exact sX0_meaning_106_j113 v1 v2 v4 v5 v6 v7 v8_5 e_10.1 td e_10.2
noncomputable def fX0_meaning_106 (a1 : Int) (a2 : Int) (a4 : Int) (td : TT) (c : CC) : Option (Int × CC) :=
  cl (fV_sort a1  td c) fun p_1 =>
   if p_1 = -1 then
  (gd ((0 : Int) ≤ a4 ∧ a4 < 25) <|
   some ((c 106 (Int.toNat a4)), c))
  else
  (cl (fV_takes a1 a2 td c) fun p_2 =>
   gd ((0 : Int) ≤ c 43 30 ∧ c 43 30 < 8001) <|
   bd (c 101 (Int.toNat (c 43 30))) fun v6_3 =>
   cl (wh (fun s => fX0_meaning_106_l34 a1 a2 a4 p_2 v6_3 s.1 td s.2) (0, c)) (fun e_13 =>
  cl (fV_sort a1  td e_13) fun p_14 =>
   gd ((0 : Int) ≤ a1 ∧ 6 ≤ (tt td (Int.toNat a1)).1 ∧ (tt td (Int.toNat a1)).1 ≤ 10) <|
   cl (fX0_numbered p_14 (cv e_13 (Int.toNat a1) 3) p_2 e_13) fun p_15 =>
   some (p_15.1, p_15.2)))
theorem sX0_meaning_106 {G : GG} {Γ : Cx} {r : Vv × Wd} {sz : Nat} {sl : Nat} (a1 : Int) (a2 : Int) (a4 : Int) (td : TT) (c : CC) : Sm (fX0_meaning_106 a1 a2 a4 td c) (fun x => r = ((0, x.1), (sz, sl, tt td, cv x.2))) (WP G Γ muX0_meaning_106 r 0 [some (2, 43), some (2, a1), some (0, a2), some (2, 106), some (0, a4), none, none, none, none, none] [] (sz, sl, tt td, cv c)) := by
  unfold fX0_meaning_106
  refine s_aload_n (pc := 0) dX0_meaning_0 rfl ?_
  refine s_callU (pc := 1) (z := a1) (as := []) (st := []) (rv := fun b => ((0, b), (sz, sl, tt td, cv c))) (st3 := fun b => [(0, b)]) (w3 := fun b => (sz, sl, tt td, cv c)) rfl rfl (fun b h => vdX0_178 a1  td c b h (by decide)) (Nat.le_of_ble_eq_true rfl) (fun _ => Nat.le_of_ble_eq_true rfl) (fun _ => ⟨rfl, rfl⟩) dX0_meaning_1 (fun p_1 => ?_)
  refine s_iconst (pc := 4) dX0_meaning_4 ?_
  refine s_icmp_ne (pc := 5) (tgt := 13) dX0_meaning_5 rfl ?_ ?_
  · refine s_aload_n (pc := 13) dX0_meaning_13 rfl ?_
    refine s_iload_n (pc := 14) dX0_meaning_14 rfl ?_
    refine s_callU (pc := 15) (z := a1) (as := [(0, a2)]) (st := []) (rv := fun b => ((0, b), (sz, sl, tt td, cv c))) (st3 := fun b => [(0, b)]) (w3 := fun b => (sz, sl, tt td, cv c)) rfl rfl (fun b h => vdX0_167 a1 a2 td c b h (by decide)) (Nat.le_of_ble_eq_true rfl) (fun _ => Nat.le_of_ble_eq_true rfl) (fun _ => ⟨rfl, rfl⟩) dX0_meaning_15 (fun p_2 => ?_)
    refine s_istoreD (pc := 18) (ls' := [some (2, 43), some (2, a1), some (0, a2), some (2, 106), some (0, a4), some (0, p_2), none, none, none, none]) dX0_meaning_18 rfl (Nat.le_of_ble_eq_true rfl) ?_
    refine s_aload_n (pc := 20) dX0_meaning_20 rfl ?_
    refine s_get (pc := 21) (a := 43) (v := 101) flX0_92 (t_43 _) rfl (g_43_28 _) rfl dX0_meaning_21 ?_
    refine s_aload_n (pc := 24) dX0_meaning_24 rfl ?_
    refine s_get (pc := 25) (a := 43) (v := c 43 30) flX0_261 (t_43 _) rfl (g_43_30 _) rfl dX0_meaning_25 ?_
    refine s_ialdM (pc := 28) (a := 101) (t_101 _) rfl r_101 dX0_meaning_28 ?_
    refine s_istore (pc := 29) (lf := fun x => [some (2, 43), some (2, a1), some (0, a2), some (2, 106), some (0, a4), some (0, p_2), some (0, x), none, none, none]) dX0_meaning_29 (fun _ => rfl) (Nat.le_of_ble_eq_true rfl) (fun v6_3 => ?_)
    refine s_iconst (pc := 31) dX0_meaning_31 ?_
    refine s_istoreD (pc := 32) (ls' := [some (2, 43), some (2, a1), some (0, a2), some (2, 106), some (0, a4), some (0, p_2), some (0, v6_3), some (0, 0), none, none]) dX0_meaning_32 rfl (Nat.le_of_ble_eq_true rfl) ?_
    refine s_loop (g := gX0_meaning_106_l34 G Γ r sz sl td c a1 a2 a4 p_2 v6_3) (Ex := eX0_meaning_106_l34 G Γ r sz sl td c a1 a2 a4 p_2 v6_3) (s0 := (0, c)) (fun s => sX0_meaning_106_l34 a1 a2 a4 p_2 v6_3 s.1 td s.2) ?_
    intro e_13
    show Sm _ _ (WP G Γ muX0_meaning_106 r 128 [some (2, 43), some (2, a1), none, none, none, some (0, p_2), none, none, none, none] [] (sz, sl, tt td, cv e_13))
    refine s_aload_n (pc := 128) dX0_meaning_128 rfl ?_
    refine s_aload_n (pc := 129) dX0_meaning_129 rfl ?_
    refine s_callU (pc := 130) (z := a1) (as := []) (st := [(2, 43)]) (rv := fun b => ((0, b), (sz, sl, tt td, cv e_13))) (st3 := fun b => [(0, b), (2, 43)]) (w3 := fun b => (sz, sl, tt td, cv e_13)) rfl rfl (fun b h => vdX0_178 a1  td e_13 b h (by decide)) (Nat.le_of_ble_eq_true rfl) (fun _ => Nat.le_of_ble_eq_true rfl) (fun _ => ⟨rfl, rfl⟩) dX0_meaning_130 (fun p_14 => ?_)
    refine s_aload_n (pc := 133) dX0_meaning_133 rfl ?_
    refine s_getS (pc := 134) fsX0_271 dX0_meaning_134 ?_
    refine s_iload (pc := 137) dX0_meaning_137 rfl ?_
    refine s_callV3 (pc := 139) (a := 43) (as := [(0, p_14), (0, cv e_13 (Int.toNat a1) 3), (0, p_2)]) (st := []) (rv := fun b => ((0, b.1), (sz, sl, tt td, cv b.2))) (st3 := fun b => [(0, b.1)]) (w3 := fun b => (sz, sl, tt td, cv b.2)) mvX0_274 (fun b h => kX0_numbered p_14 (cv e_13 (Int.toNat a1) 3) p_2 e_13 b h) rfl (by decide) (t_43 td) rfl rfl rfl (Nat.le_of_ble_eq_true rfl) (fun _ => Nat.le_of_ble_eq_true rfl) (fun _ => ⟨rfl, rfl⟩) dX0_meaning_139 (fun p_15 => ?_)
    exact s_iret (pc := 142) dX0_meaning_142 rfl (fun h => h)
  refine s_aload_n (pc := 8) dX0_meaning_8 rfl ?_
  refine s_iload (pc := 9) dX0_meaning_9 rfl ?_
  refine s_ialdM (pc := 11) (a := 106) (t_106 _) rfl r_106 dX0_meaning_11 ?_
  exact s_iret (pc := 12) dX0_meaning_12 rfl (fun h => h)
theorem kX0_meaning_106 {G : GG} {sz : Nat} {sl : Nat} (a1 : Int) (a2 : Int) (a4 : Int) (td : TT) (c : CC) (x : (Int × CC)) (h : fX0_meaning_106 a1 a2 a4 td c = some x) : Ct G yX0_meaning muX0_meaning_106 [(2, 43), (2, a1), (0, a2), (2, 106), (0, a4)] (sz, sl, tt td, cv c) ((0, x.1), (sz, sl, tt td, cv x.2)) :=
  Ct.of (n := 5) (ls0 := [some (2, 43), some (2, a1), some (0, a2), some (2, 106), some (0, a4), none, none, none, none, none]) (by decide) rfl rfl ⟨show (some .int : Option FieldType) ≠ some .float by decide, show (some .int : Option FieldType) ≠ some .double by decide⟩ (Nat.le_of_ble_eq_true rfl) rfl ⟨Nat.le_refl _, Nat.le_refl _⟩ (show (0 : Nat) ≠ 9 by decide) (fun Γ => sX0_meaning_106 a1 a2 a4 td c x h rfl)
theorem mvX0_289_106 : MV RX0 289 RX0 yX0_meaning muX0_meaning_106 4 := ⟨lw_V q1045 q1047 qs34 q125 q1048, by decide +kernel, Nat.le_of_ble_eq_true rfl⟩
theorem flX0_98 : FL RX0 98 0 31 := ⟨_, _, _, cf0, by decide, q244⟩
theorem flX0_104 : FL RX0 104 0 33 := ⟨_, _, _, cf0, by decide, q246⟩
theorem fpX0_277 (nm : String) : FP RX0 277 0 35 nm := ⟨_, _, _, cf0, by decide, q248, Or.inl rfl⟩
theorem fpX0_277t : fty 0 35 ≠ .boolean ∧ fty 0 35 ≠ .byte ∧ fty 0 35 ≠ .char ∧ fty 0 35 ≠ .short := by decide
theorem fnX0_282 : FLNf RX0 282 6 4 := ⟨_, _, _, _, cf6, by decide, PP.nwF q588⟩
abbrev muX0_take : MI := (cX0_take, RX0, 8, none, 406, "take")
noncomputable def fX0_take_j40 (v1 : Int) (v2 : Int) (v3 : Int) (v5 : Int) (w0 : Int) (td : TT) (c : CC) : Option CC :=
  cl (fX0_meaning_106 v1 v2 v5 td c) fun p_4 =>
   gd ((0 : Int) ≤ v1 ∧ 6 ≤ (tt td (Int.toNat v1)).1 ∧ (tt td (Int.toNat v1)).1 ≤ 10) <|
   gd ((0 : Int) ≤ v5 ∧ v5 < 25) <| bd (up2 p_4.2 103 (Int.toNat v5) (cv p_4.2 (Int.toNat v1) 2)) fun c_5 =>
   gd ((0 : Int) ≤ v5 ∧ v5 < 25) <| bd (up2 c_5 104 (Int.toNat v5) w0) fun c_6 =>
   gd ((0 : Int) ≤ v5 ∧ v5 < 25) <| bd (up2 c_6 105 (Int.toNat v5) v3) fun c_7 =>
   gd ((0 : Int) ≤ v5 ∧ v5 < 25) <| bd (up2 c_7 106 (Int.toNat v5) p_4.1) fun c_8 =>
   gd (inR (v5 + 1)) <|
   bd (up2 c_8 43 35 (v5 + 1)) fun c_9 =>
   some c_9
theorem sX0_take_j40 {G : GG} {Γ : Cx} {r : Vv × Wd} {sz : Nat} {sl : Nat} (v1 : Int) (v2 : Int) (v3 : Int) (v5 : Int) (w0 : Int) (td : TT) (c : CC) : Sm (fX0_take_j40 v1 v2 v3 v5 w0 td c) (fun x => r = ((3, 0), (sz, sl, tt td, cv x))) (WP G Γ muX0_take r 40 [some (2, 43), some (2, v1), some (0, v2), some (0, v3), none, some (0, v5), none, none] [(0, w0)] (sz, sl, tt td, cv c)) := by
  unfold fX0_take_j40
  refine s_istoreD (pc := 40) (ls' := [some (2, 43), some (2, v1), some (0, v2), some (0, v3), none, some (0, v5), some (0, w0), none]) dX0_take_40 rfl (Nat.le_of_ble_eq_true rfl) ?_
  refine s_aload_n (pc := 42) dX0_take_42 rfl ?_
  refine s_aload_n (pc := 43) dX0_take_43 rfl ?_
  refine s_iload_n (pc := 44) dX0_take_44 rfl ?_
  refine s_aload_n (pc := 45) dX0_take_45 rfl ?_
  refine s_get (pc := 46) (a := 43) (v := 106) flX0_107 (t_43 _) rfl (g_43_34 _) rfl dX0_take_46 ?_
  refine s_iload (pc := 49) dX0_take_49 rfl ?_
  refine s_callV3 (pc := 51) (a := 43) (as := [(2, v1), (0, v2), (2, 106), (0, v5)]) (st := []) (rv := fun b => ((0, b.1), (sz, sl, tt td, cv b.2))) (st3 := fun b => [(0, b.1)]) (w3 := fun b => (sz, sl, tt td, cv b.2)) mvX0_289_106 (fun b h => kX0_meaning_106 v1 v2 v5 td c b h) rfl (by decide) (t_43 td) rfl rfl rfl (Nat.le_of_ble_eq_true rfl) (fun _ => Nat.le_of_ble_eq_true rfl) (fun _ => ⟨rfl, rfl⟩) dX0_take_51 (fun p_4 => ?_)
  refine s_istoreD (pc := 54) (ls' := [some (2, 43), some (2, v1), some (0, v2), some (0, v3), none, some (0, v5), some (0, w0), some (0, p_4.1)]) dX0_take_54 rfl (Nat.le_of_ble_eq_true rfl) ?_
  refine s_aload_n (pc := 56) dX0_take_56 rfl ?_
  refine s_get (pc := 57) (a := 43) (v := 103) flX0_98 (t_43 _) rfl (g_43_31 _) rfl dX0_take_57 ?_
  refine s_iload (pc := 60) dX0_take_60 rfl ?_
  refine s_aload_n (pc := 62) dX0_take_62 rfl ?_
  refine s_getS (pc := 63) fsX0_196 dX0_take_63 ?_
  refine s_iastM (pc := 66) (a := 103) (t_103 _) rfl kO_103 r_103 dX0_take_66 (fun c_5 => ?_)
  refine s_aload_n (pc := 67) dX0_take_67 rfl ?_
  refine s_get (pc := 68) (a := 43) (v := 104) flX0_101 (t_43 _) rfl (g_43_32 _) rfl dX0_take_68 ?_
  refine s_iload (pc := 71) dX0_take_71 rfl ?_
  refine s_iload (pc := 73) dX0_take_73 rfl ?_
  refine s_iastM (pc := 75) (a := 104) (t_104 _) rfl kO_104 r_104 dX0_take_75 (fun c_6 => ?_)
  refine s_aload_n (pc := 76) dX0_take_76 rfl ?_
  refine s_get (pc := 77) (a := 43) (v := 105) flX0_104 (t_43 _) rfl (g_43_33 _) rfl dX0_take_77 ?_
  refine s_iload (pc := 80) dX0_take_80 rfl ?_
  refine s_iload_n (pc := 82) dX0_take_82 rfl ?_
  refine s_iastM (pc := 83) (a := 105) (t_105 _) rfl kO_105 r_105 dX0_take_83 (fun c_7 => ?_)
  refine s_aload_n (pc := 84) dX0_take_84 rfl ?_
  refine s_get (pc := 85) (a := 43) (v := 106) flX0_107 (t_43 _) rfl (g_43_34 _) rfl dX0_take_85 ?_
  refine s_iload (pc := 88) dX0_take_88 rfl ?_
  refine s_iload (pc := 90) dX0_take_90 rfl ?_
  refine s_iastM (pc := 92) (a := 106) (t_106 _) rfl kO_106 r_106 dX0_take_92 (fun c_8 => ?_)
  refine s_aload_n (pc := 93) dX0_take_93 rfl ?_
  refine s_iload (pc := 94) dX0_take_94 rfl ?_
  refine s_iconst (pc := 96) dX0_take_96 ?_
  refine s_iadd (pc := 97) dX0_take_97 ?_
  refine s_putM (pc := 98) (a := 43) (fpX0_277 _) (t_43 _) rfl kO_43 n_43_35 rfl (fpX0_277t) dX0_take_98 (fun c_9 => ?_)
  exact s_vret (pc := 101) dX0_take_101 rfl (fun h => h)
noncomputable def fX0_take (a1 : Int) (a2 : Int) (a3 : Int) (td : TT) (c : CC) : Option CC :=
  cl (fV_takes a1 a2 td c) fun p_1 =>
   gd (inR ((c 43 35) - p_1)) <|
   bd ((c 43 35) - p_1) fun v5_2 =>
   if p_1 = 0 then
  (gd ((0 : Int) ≤ a1 ∧ (tt td (Int.toNat a1)).1 = 6) <|  gd ((0 : Int) ≤ a1 ∧ (tt td (Int.toNat a1)).1 = 6) <|
   fX0_take_j40 a1 a2 a3 v5_2 (cv c (Int.toNat a1) 4) td c)
  else
  (cl (fX0_weighed a1 p_1 v5_2 td c) fun p_3 =>
   fX0_take_j40 a1 a2 a3 v5_2 p_3.1 td p_3.2)
theorem sX0_take {G : GG} {Γ : Cx} {r : Vv × Wd} {sz : Nat} {sl : Nat} (a1 : Int) (a2 : Int) (a3 : Int) (td : TT) (c : CC) : Sm (fX0_take a1 a2 a3 td c) (fun x => r = ((3, 0), (sz, sl, tt td, cv x))) (WP G Γ muX0_take r 0 [some (2, 43), some (2, a1), some (0, a2), some (0, a3), none, none, none, none] [] (sz, sl, tt td, cv c)) := by
  unfold fX0_take
  refine s_aload_n (pc := 0) dX0_take_0 rfl ?_
  refine s_iload_n (pc := 1) dX0_take_1 rfl ?_
  refine s_callU (pc := 2) (z := a1) (as := [(0, a2)]) (st := []) (rv := fun b => ((0, b), (sz, sl, tt td, cv c))) (st3 := fun b => [(0, b)]) (w3 := fun b => (sz, sl, tt td, cv c)) rfl rfl (fun b h => vdX0_167 a1 a2 td c b h (by decide)) (Nat.le_of_ble_eq_true rfl) (fun _ => Nat.le_of_ble_eq_true rfl) (fun _ => ⟨rfl, rfl⟩) dX0_take_2 (fun p_1 => ?_)
  refine s_istoreD (pc := 5) (ls' := [some (2, 43), some (2, a1), some (0, a2), some (0, a3), some (0, p_1), none, none, none]) dX0_take_5 rfl (Nat.le_of_ble_eq_true rfl) ?_
  refine s_aload_n (pc := 7) dX0_take_7 rfl ?_
  refine s_get (pc := 8) (a := 43) (v := c 43 35) flX0_277 (t_43 _) rfl (g_43_35 _) rfl dX0_take_8 ?_
  refine s_iload (pc := 11) dX0_take_11 rfl ?_
  refine s_isub (pc := 13) dX0_take_13 ?_
  refine s_istore (pc := 14) (lf := fun x => [some (2, 43), some (2, a1), some (0, a2), some (0, a3), some (0, p_1), some (0, x), none, none]) dX0_take_14 (fun _ => rfl) (Nat.le_of_ble_eq_true rfl) (fun v5_2 => ?_)
  refine s_iload (pc := 16) dX0_take_16 rfl ?_
  refine s_if_ne (pc := 18) (tgt := 31) dX0_take_18 rfl ?_ ?_
  · refine s_aload_n (pc := 31) dX0_take_31 rfl ?_
    refine s_aload_n (pc := 32) dX0_take_32 rfl ?_
    refine s_iload (pc := 33) dX0_take_33 rfl ?_
    refine s_iload (pc := 35) dX0_take_35 rfl ?_
    refine s_callV3 (pc := 37) (a := 43) (as := [(2, a1), (0, p_1), (0, v5_2)]) (st := []) (rv := fun b => ((0, b.1), (sz, sl, tt td, cv b.2))) (st3 := fun b => [(0, b.1)]) (w3 := fun b => (sz, sl, tt td, cv b.2)) mvX0_285 (fun b h => kX0_weighed a1 p_1 v5_2 td c b h) rfl (by decide) (t_43 td) rfl rfl rfl (Nat.le_of_ble_eq_true rfl) (fun _ => Nat.le_of_ble_eq_true rfl) (fun _ => ⟨rfl, rfl⟩) dX0_take_37 (fun p_3 => ?_)
    refine s_wk [true, true, true, true, false, true, true, true] (ls' := [some (2, 43), some (2, a1), some (0, a2), some (0, a3), none, some (0, v5_2), none, none]) rfl ?_
    exact sX0_take_j40 a1 a2 a3 v5_2 p_3.1 td p_3.2
  refine s_aload_n (pc := 21) dX0_take_21 rfl ?_
  refine s_castD (pc := 22) (ci := 6) (q := (RX8, TX8, _)) q991 rfl dX0_take_22 ?_
  refine s_getDN (pc := 25) fnX0_282 rfl dX0_take_25 ?_
  refine s_goto (pc := 28) (tgt := 40) dX0_take_28 rfl ?_
  refine s_wk [true, true, true, true, false, true, true, true] (ls' := [some (2, 43), some (2, a1), some (0, a2), some (0, a3), none, some (0, v5_2), none, none]) rfl ?_
  exact sX0_take_j40 a1 a2 a3 v5_2 (cv c (Int.toNat a1) 4) td c
theorem kX0_take {G : GG} {sz : Nat} {sl : Nat} (a1 : Int) (a2 : Int) (a3 : Int) (td : TT) (c : CC) (x : CC) (h : fX0_take a1 a2 a3 td c = some x) : Ct G yX0_take muX0_take [(2, 43), (2, a1), (0, a2), (0, a3)] (sz, sl, tt td, cv c) ((3, 0), (sz, sl, tt td, cv x)) :=
  Ct.of (n := 4) (ls0 := [some (2, 43), some (2, a1), some (0, a2), some (0, a3), none, none, none, none]) (by decide) rfl rfl ⟨show (none : Option FieldType) ≠ some .float by decide, show (none : Option FieldType) ≠ some .double by decide⟩ (Nat.le_of_ble_eq_true rfl) rfl ⟨Nat.le_refl _, Nat.le_refl _⟩ (show (3 : Nat) ≠ 9 by decide) (fun Γ => sX0_take a1 a2 a3 td c x h rfl)
theorem mvX0_310 : MV RX0 310 RX0 yX0_take muX0_take 3 := ⟨lw_V q987 q989 qs32 q125 q990, by decide +kernel, Nat.le_of_ble_eq_true rfl⟩
abbrev muX0_meansAll : MI := (cX0_meansAll, RX0, 2, some .int, 407, "meansAll")
abbrev gX0_meansAll_l7 (G : GG) (Γ : Cx) (r : Vv × Wd) (sz sl : Nat) (td : TT) (c : CC)  : (Int × CC) → Prop := fun s => WP G Γ muX0_meansAll r 7 [some (2, 43), some (0, s.1)] [] (sz, sl, tt td, cv s.2)
abbrev eX0_meansAll_l7 (G : GG) (Γ : Cx) (r : Vv × Wd) (sz sl : Nat) (td : TT) (c : CC)  : (CC) → Prop := (fun s => WP G Γ muX0_meansAll r 38 [some (2, 43), none] [] (sz, sl, tt td, cv s))
noncomputable def fX0_meansAll_l7 (v1 : Int) (td : TT) (c : CC) : Option ((Int × CC) ⊕ (CC)) :=
  if v1 < c 43 5 then
  (gd ((0 : Int) ≤ v1 ∧ v1 < 24) <|
   gd ((0 : Int) ≤ v1 ∧ v1 < 24) <|
   cl (fX0_take (cv c 89 (Int.toNat v1)) (c 90 (Int.toNat v1)) v1 td c) fun p_2 =>
   gd (inR (v1 + 1)) <| bd (v1 + 1) fun v1_3 =>
   some (.inl (v1_3, p_2)))
  else
  (some (.inr c))
theorem sX0_meansAll_l7 {G : GG} {Γ : Cx} {r : Vv × Wd} {sz : Nat} {sl : Nat} (v1 : Int) (td : TT) (c : CC) : Sm (fX0_meansAll_l7 v1 td c) (fun x => Sum.elim (gX0_meansAll_l7 G Γ r sz sl td c ) (eX0_meansAll_l7 G Γ r sz sl td c ) x) (gX0_meansAll_l7 G Γ r sz sl td c  (v1, c)) := by
  show Sm _ _ (WP G Γ muX0_meansAll r 7 [some (2, 43), some (0, v1)] [] (sz, sl, tt td, cv c))
  unfold fX0_meansAll_l7
  refine s_iload_n (pc := 7) dX0_meansAll_7 rfl ?_
  refine s_aload_n (pc := 8) dX0_meansAll_8 rfl ?_
  refine s_get (pc := 9) (a := 43) (v := c 43 5) flX0_158 (t_43 _) rfl (g_43_5 _) rfl dX0_meansAll_9 ?_
  refine s_icmp_ge (pc := 12) (tgt := 38) dX0_meansAll_12 rfl ?_ ?_
  · refine s_wk [true, false] (ls' := [some (2, 43), none]) rfl ?_
    exact Sm.some (fun h => h)
  refine s_aload_n (pc := 15) dX0_meansAll_15 rfl ?_
  refine s_aload_n (pc := 16) dX0_meansAll_16 rfl ?_
  refine s_get (pc := 17) (a := 43) (v := 89) flX0_71 (t_43 _) rfl (g_43_22 _) rfl dX0_meansAll_17 ?_
  refine s_iload_n (pc := 20) dX0_meansAll_20 rfl ?_
  refine s_aaldM (pc := 21) (a := 89) (q := 5) (by decide) ⟨rfl, rfl⟩ (t_89 _) rfl dX0_meansAll_21 ?_
  refine s_aload_n (pc := 22) dX0_meansAll_22 rfl ?_
  refine s_get (pc := 23) (a := 43) (v := 90) flX0_75 (t_43 _) rfl (g_43_23 _) rfl dX0_meansAll_23 ?_
  refine s_iload_n (pc := 26) dX0_meansAll_26 rfl ?_
  refine s_ialdM (pc := 27) (a := 90) (t_90 _) rfl r_90 dX0_meansAll_27 ?_
  refine s_iload_n (pc := 28) dX0_meansAll_28 rfl ?_
  refine s_callV3 (pc := 29) (a := 43) (as := [(2, cv c 89 (Int.toNat v1)), (0, c 90 (Int.toNat v1)), (0, v1)]) (st := []) (rv := fun b => ((3, 0), (sz, sl, tt td, cv b))) (st3 := fun b => []) (w3 := fun b => (sz, sl, tt td, cv b)) mvX0_310 (fun b h => kX0_take (cv c 89 (Int.toNat v1)) (c 90 (Int.toNat v1)) v1 td c b h) rfl (by decide) (t_43 td) rfl rfl rfl (Nat.le_of_ble_eq_true rfl) (fun _ => Nat.le_of_ble_eq_true rfl) (fun _ => ⟨rfl, rfl⟩) dX0_meansAll_29 (fun p_2 => ?_)
  refine s_iinc (pc := 32) (lf := fun x => [some (2, 43), some (0, x)]) dX0_meansAll_32 rfl (fun _ => rfl) (Nat.le_of_ble_eq_true rfl) (fun v1_3 => ?_)
  refine s_goto (pc := 35) (tgt := 7) dX0_meansAll_35 rfl ?_
  exact Sm.some (fun h => h)
noncomputable def fX0_meansAll  (td : TT) (c : CC) : Option (Int × CC) :=
  bd (up2 c 43 35 0) fun c_1 =>
   cl (wh (fun s => fX0_meansAll_l7  s.1 td s.2) (0, c_1)) (fun e_4 =>
  some ((e_4 106 0), e_4))
theorem sX0_meansAll {G : GG} {Γ : Cx} {r : Vv × Wd} {sz : Nat} {sl : Nat}  (td : TT) (c : CC) : Sm (fX0_meansAll  td c) (fun x => r = ((0, x.1), (sz, sl, tt td, cv x.2))) (WP G Γ muX0_meansAll r 0 [some (2, 43), none] [] (sz, sl, tt td, cv c)) := by
  unfold fX0_meansAll
  refine s_aload_n (pc := 0) dX0_meansAll_0 rfl ?_
  refine s_iconst (pc := 1) dX0_meansAll_1 ?_
  refine s_putM (pc := 2) (a := 43) (fpX0_277 _) (t_43 _) rfl kO_43 n_43_35 rfl (fpX0_277t) dX0_meansAll_2 (fun c_1 => ?_)
  refine s_iconst (pc := 5) dX0_meansAll_5 ?_
  refine s_istore_nD (pc := 6) (ls' := [some (2, 43), some (0, 0)]) dX0_meansAll_6 rfl (Nat.le_of_ble_eq_true rfl) ?_
  refine s_loop (g := gX0_meansAll_l7 G Γ r sz sl td c_1 ) (Ex := eX0_meansAll_l7 G Γ r sz sl td c_1 ) (s0 := (0, c_1)) (fun s => sX0_meansAll_l7  s.1 td s.2) ?_
  intro e_4
  show Sm _ _ (WP G Γ muX0_meansAll r 38 [some (2, 43), none] [] (sz, sl, tt td, cv e_4))
  refine s_aload_n (pc := 38) dX0_meansAll_38 rfl ?_
  refine s_get (pc := 39) (a := 43) (v := 106) flX0_107 (t_43 _) rfl (g_43_34 _) rfl dX0_meansAll_39 ?_
  refine s_iconst (pc := 42) dX0_meansAll_42 ?_
  refine s_ialdML (pc := 43) (a := 106) 0 rfl (Nat.le_of_ble_eq_true rfl) (t_106 _) rfl r_106 dX0_meansAll_43 ?_
  exact s_iret (pc := 44) dX0_meansAll_44 rfl (fun h => h)
theorem kX0_meansAll {G : GG} {sz : Nat} {sl : Nat}  (td : TT) (c : CC) (x : (Int × CC)) (h : fX0_meansAll  td c = some x) : Ct G yX0_meansAll muX0_meansAll [(2, 43)] (sz, sl, tt td, cv c) ((0, x.1), (sz, sl, tt td, cv x.2)) :=
  Ct.of (n := 1) (ls0 := [some (2, 43), none]) (by decide) rfl rfl ⟨show (some .int : Option FieldType) ≠ some .float by decide, show (some .int : Option FieldType) ≠ some .double by decide⟩ (Nat.le_of_ble_eq_true rfl) rfl ⟨Nat.le_refl _, Nat.le_refl _⟩ (show (0 : Nat) ≠ 9 by decide) (fun Γ => sX0_meansAll  td c x h rfl)
theorem mvX0_314 : MV RX0 314 RX0 yX0_meansAll muX0_meansAll 0 := ⟨lw_V q1079 q1081 qs38 q125 q1082, by decide +kernel, Nat.le_of_ble_eq_true rfl⟩
abbrev muX0_meansOf : MI := (cX0_meansOf, RX0, 2, some .int, 408, "meansOf")
noncomputable def fX0_meansOf (a1 : Int) (td : TT) (c : CC) : Option (Int × CC) :=
  cl (fX0_find a1 td c) fun p_1 =>
   cl (fX0_meansAll  td p_1.2) fun p_2 =>
   some (p_2.1, p_2.2)
theorem sX0_meansOf {G : GG} {Γ : Cx} {r : Vv × Wd} {sz : Nat} {sl : Nat} (a1 : Int) (td : TT) (c : CC) : Sm (fX0_meansOf a1 td c) (fun x => r = ((0, x.1), (sz, sl, tt td, cv x.2))) (WP G Γ muX0_meansOf r 0 [some (2, 43), some (0, a1)] [] (sz, sl, tt td, cv c)) := by
  unfold fX0_meansOf
  refine s_aload_n (pc := 0) dX0_meansOf_0 rfl ?_
  refine s_iload_n (pc := 1) dX0_meansOf_1 rfl ?_
  refine s_callV3 (pc := 2) (a := 43) (as := [(0, a1)]) (st := []) (rv := fun b => ((0, b.1), (sz, sl, tt td, cv b.2))) (st3 := fun b => [(0, b.1)]) (w3 := fun b => (sz, sl, tt td, cv b.2)) mvX0_239 (fun b h => kX0_find a1 td c b h) rfl (by decide) (t_43 td) rfl rfl rfl (Nat.le_of_ble_eq_true rfl) (fun _ => Nat.le_of_ble_eq_true rfl) (fun _ => ⟨rfl, rfl⟩) dX0_meansOf_2 (fun p_1 => ?_)
  refine s_pop (pc := 5) (by decide : ¬ (0 : Nat) = 1) dX0_meansOf_5 ?_
  refine s_aload_n (pc := 6) dX0_meansOf_6 rfl ?_
  refine s_callV3 (pc := 7) (a := 43) (as := []) (st := []) (rv := fun b => ((0, b.1), (sz, sl, tt td, cv b.2))) (st3 := fun b => [(0, b.1)]) (w3 := fun b => (sz, sl, tt td, cv b.2)) mvX0_314 (fun b h => kX0_meansAll  td p_1.2 b h) rfl (by decide) (t_43 td) rfl rfl rfl (Nat.le_of_ble_eq_true rfl) (fun _ => Nat.le_of_ble_eq_true rfl) (fun _ => ⟨rfl, rfl⟩) dX0_meansOf_7 (fun p_2 => ?_)
  exact s_iret (pc := 10) dX0_meansOf_10 rfl (fun h => h)
theorem kX0_meansOf {G : GG} {sz : Nat} {sl : Nat} (a1 : Int) (td : TT) (c : CC) (x : (Int × CC)) (h : fX0_meansOf a1 td c = some x) : Ct G yX0_meansOf muX0_meansOf [(2, 43), (0, a1)] (sz, sl, tt td, cv c) ((0, x.1), (sz, sl, tt td, cv x.2)) :=
  Ct.of (n := 0) (ls0 := [some (2, 43), some (0, a1)]) (by decide) rfl rfl ⟨show (some .int : Option FieldType) ≠ some .float by decide, show (some .int : Option FieldType) ≠ some .double by decide⟩ (Nat.le_of_ble_eq_true rfl) rfl ⟨Nat.le_refl _, Nat.le_refl _⟩ (show (0 : Nat) ≠ 9 by decide) (fun Γ => sX0_meansOf a1 td c x h rfl)
abbrev muX0_weight : MI := (cX0_weight, RX0, 4, some .int, 407, "weight")
abbrev gX0_weight_l36 (G : GG) (Γ : Cx) (r : Vv × Wd) (sz sl : Nat) (td : TT) (c : CC) (v2 : Int) : (Int × CC) → Prop := fun s => WP G Γ muX0_weight r 36 [some (2, 43), none, some (0, v2), some (0, s.1)] [] (sz, sl, tt td, cv s.2)
abbrev eX0_weight_l36 (G : GG) (Γ : Cx) (r : Vv × Wd) (sz sl : Nat) (td : TT) (c : CC) (v2 : Int) : (CC) → Prop := (fun s => WP G Γ muX0_weight r 64 [some (2, 43), none, none, none] [] (sz, sl, tt td, cv s))
noncomputable def fX0_weight_l36 (v2 : Int) (v3 : Int) (td : TT) (c : CC) : Option ((Int × CC) ⊕ (CC)) :=
  if v2 < v3 then
  (some (.inr c))
  else
  (gd ((0 : Int) ≤ v3 ∧ v3 < 24) <|
   gd ((0 : Int) ≤ v3 ∧ v3 < 24) <|
   cl (fX0_take (cv c 89 (Int.toNat v3)) (c 90 (Int.toNat v3)) v3 td c) fun p_5 =>
   gd (inR (v3 + 1)) <| bd (v3 + 1) fun v3_6 =>
   some (.inl (v3_6, p_5)))
theorem sX0_weight_l36 {G : GG} {Γ : Cx} {r : Vv × Wd} {sz : Nat} {sl : Nat} (v2 : Int) (v3 : Int) (td : TT) (c : CC) : Sm (fX0_weight_l36 v2 v3 td c) (fun x => Sum.elim (gX0_weight_l36 G Γ r sz sl td c v2) (eX0_weight_l36 G Γ r sz sl td c v2) x) (gX0_weight_l36 G Γ r sz sl td c v2 (v3, c)) := by
  show Sm _ _ (WP G Γ muX0_weight r 36 [some (2, 43), none, some (0, v2), some (0, v3)] [] (sz, sl, tt td, cv c))
  unfold fX0_weight_l36
  refine s_iload_n (pc := 36) dX0_weight_36 rfl ?_
  refine s_iload_n (pc := 37) dX0_weight_37 rfl ?_
  refine s_icmp_gt (pc := 38) (tgt := 64) dX0_weight_38 rfl ?_ ?_
  · refine s_wk [true, true, false, false] (ls' := [some (2, 43), none, none, none]) rfl ?_
    exact Sm.some (fun h => h)
  refine s_aload_n (pc := 41) dX0_weight_41 rfl ?_
  refine s_aload_n (pc := 42) dX0_weight_42 rfl ?_
  refine s_get (pc := 43) (a := 43) (v := 89) flX0_71 (t_43 _) rfl (g_43_22 _) rfl dX0_weight_43 ?_
  refine s_iload_n (pc := 46) dX0_weight_46 rfl ?_
  refine s_aaldM (pc := 47) (a := 89) (q := 5) (by decide) ⟨rfl, rfl⟩ (t_89 _) rfl dX0_weight_47 ?_
  refine s_aload_n (pc := 48) dX0_weight_48 rfl ?_
  refine s_get (pc := 49) (a := 43) (v := 90) flX0_75 (t_43 _) rfl (g_43_23 _) rfl dX0_weight_49 ?_
  refine s_iload_n (pc := 52) dX0_weight_52 rfl ?_
  refine s_ialdM (pc := 53) (a := 90) (t_90 _) rfl r_90 dX0_weight_53 ?_
  refine s_iload_n (pc := 54) dX0_weight_54 rfl ?_
  refine s_callV3 (pc := 55) (a := 43) (as := [(2, cv c 89 (Int.toNat v3)), (0, c 90 (Int.toNat v3)), (0, v3)]) (st := []) (rv := fun b => ((3, 0), (sz, sl, tt td, cv b))) (st3 := fun b => []) (w3 := fun b => (sz, sl, tt td, cv b)) mvX0_310 (fun b h => kX0_take (cv c 89 (Int.toNat v3)) (c 90 (Int.toNat v3)) v3 td c b h) rfl (by decide) (t_43 td) rfl rfl rfl (Nat.le_of_ble_eq_true rfl) (fun _ => Nat.le_of_ble_eq_true rfl) (fun _ => ⟨rfl, rfl⟩) dX0_weight_55 (fun p_5 => ?_)
  refine s_iinc (pc := 58) (lf := fun x => [some (2, 43), none, some (0, v2), some (0, x)]) dX0_weight_58 rfl (fun _ => rfl) (Nat.le_of_ble_eq_true rfl) (fun v3_6 => ?_)
  refine s_goto (pc := 61) (tgt := 36) dX0_weight_61 rfl ?_
  exact Sm.some (fun h => h)
noncomputable def fX0_weight (a1 : Int) (a2 : Int) (td : TT) (c : CC) : Option (Int × CC) :=
  gd (inR ((c 43 5) - 1)) <|
   cl (fX0_in a2 0 ((c 43 5) - 1) ) fun p_1 =>
   if p_1 = 0 then
  (some ((-1), c))
  else
  (cl (fX0_find a1 td c) fun p_2 =>
   if p_2.1 = 0 then
  (some ((-1), p_2.2))
  else
  (bd (up2 p_2.2 43 30 0) fun c_3 =>
   bd (up2 c_3 43 35 0) fun c_4 =>
   cl (wh (fun s => fX0_weight_l36 a2 s.1 td s.2) (0, c_4)) (fun e_7 =>
  gd (inR ((e_7 43 35) - 1)) <|
   gd ((0 : Int) ≤ (e_7 43 35) - 1 ∧ (e_7 43 35) - 1 < 25) <|
   some ((e_7 104 (Int.toNat ((e_7 43 35) - 1))), e_7))))
theorem sX0_weight {G : GG} {Γ : Cx} {r : Vv × Wd} {sz : Nat} {sl : Nat} (a1 : Int) (a2 : Int) (td : TT) (c : CC) : Sm (fX0_weight a1 a2 td c) (fun x => r = ((0, x.1), (sz, sl, tt td, cv x.2))) (WP G Γ muX0_weight r 0 [some (2, 43), some (0, a1), some (0, a2), none] [] (sz, sl, tt td, cv c)) := by
  unfold fX0_weight
  refine s_iload_n (pc := 0) dX0_weight_0 rfl ?_
  refine s_iconst (pc := 1) dX0_weight_1 ?_
  refine s_aload_n (pc := 2) dX0_weight_2 rfl ?_
  refine s_get (pc := 3) (a := 43) (v := c 43 5) flX0_158 (t_43 _) rfl (g_43_5 _) rfl dX0_weight_3 ?_
  refine s_iconst (pc := 6) dX0_weight_6 ?_
  refine s_isub (pc := 7) dX0_weight_7 ?_
  refine s_callS3 (pc := 8) (as := [(0, a2), (0, 0), (0, (c 43 5) - 1)]) (st := []) (rv := fun b => ((0, b), (sz, sl, tt td, cv c))) (st3 := fun b => [(0, b)]) (w3 := fun b => (sz, sl, tt td, cv c)) msX0_130 (fun b h => kX0_in a2 0 ((c 43 5) - 1) c b h) rfl (by decide) rfl (Nat.le_of_ble_eq_true rfl) (fun _ => Nat.le_of_ble_eq_true rfl) (fun _ => ⟨rfl, rfl⟩) dX0_weight_8 (fun p_1 => ?_)
  refine s_if_eq (pc := 11) (tgt := 22) dX0_weight_11 rfl ?_ ?_
  · refine s_iconst (pc := 22) dX0_weight_22 ?_
    exact s_iret (pc := 23) dX0_weight_23 rfl (fun h => h)
  refine s_aload_n (pc := 14) dX0_weight_14 rfl ?_
  refine s_iload_n (pc := 15) dX0_weight_15 rfl ?_
  refine s_callV3 (pc := 16) (a := 43) (as := [(0, a1)]) (st := []) (rv := fun b => ((0, b.1), (sz, sl, tt td, cv b.2))) (st3 := fun b => [(0, b.1)]) (w3 := fun b => (sz, sl, tt td, cv b.2)) mvX0_239 (fun b h => kX0_find a1 td c b h) rfl (by decide) (t_43 td) rfl rfl rfl (Nat.le_of_ble_eq_true rfl) (fun _ => Nat.le_of_ble_eq_true rfl) (fun _ => ⟨rfl, rfl⟩) dX0_weight_16 (fun p_2 => ?_)
  refine s_if_ne (pc := 19) (tgt := 24) dX0_weight_19 rfl ?_ ?_
  · refine s_aload_n (pc := 24) dX0_weight_24 rfl ?_
    refine s_iconst (pc := 25) dX0_weight_25 ?_
    refine s_putM (pc := 26) (a := 43) (fpX0_261 _) (t_43 _) rfl kO_43 n_43_30 rfl (fpX0_261t) dX0_weight_26 (fun c_3 => ?_)
    refine s_aload_n (pc := 29) dX0_weight_29 rfl ?_
    refine s_iconst (pc := 30) dX0_weight_30 ?_
    refine s_putM (pc := 31) (a := 43) (fpX0_277 _) (t_43 _) rfl kO_43 n_43_35 rfl (fpX0_277t) dX0_weight_31 (fun c_4 => ?_)
    refine s_iconst (pc := 34) dX0_weight_34 ?_
    refine s_istore_nD (pc := 35) (ls' := [some (2, 43), some (0, a1), some (0, a2), some (0, 0)]) dX0_weight_35 rfl (Nat.le_of_ble_eq_true rfl) ?_
    refine s_wk [true, false, true, true] (ls' := [some (2, 43), none, some (0, a2), some (0, 0)]) rfl ?_
    refine s_loop (g := gX0_weight_l36 G Γ r sz sl td c_4 a2) (Ex := eX0_weight_l36 G Γ r sz sl td c_4 a2) (s0 := (0, c_4)) (fun s => sX0_weight_l36 a2 s.1 td s.2) ?_
    intro e_7
    show Sm _ _ (WP G Γ muX0_weight r 64 [some (2, 43), none, none, none] [] (sz, sl, tt td, cv e_7))
    refine s_aload_n (pc := 64) dX0_weight_64 rfl ?_
    refine s_get (pc := 65) (a := 43) (v := 104) flX0_101 (t_43 _) rfl (g_43_32 _) rfl dX0_weight_65 ?_
    refine s_aload_n (pc := 68) dX0_weight_68 rfl ?_
    refine s_get (pc := 69) (a := 43) (v := e_7 43 35) flX0_277 (t_43 _) rfl (g_43_35 _) rfl dX0_weight_69 ?_
    refine s_iconst (pc := 72) dX0_weight_72 ?_
    refine s_isub (pc := 73) dX0_weight_73 ?_
    refine s_ialdM (pc := 74) (a := 104) (t_104 _) rfl r_104 dX0_weight_74 ?_
    exact s_iret (pc := 75) dX0_weight_75 rfl (fun h => h)
  refine s_iconst (pc := 22) dX0_weight_22 ?_
  exact s_iret (pc := 23) dX0_weight_23 rfl (fun h => h)
theorem kX0_weight {G : GG} {sz : Nat} {sl : Nat} (a1 : Int) (a2 : Int) (td : TT) (c : CC) (x : (Int × CC)) (h : fX0_weight a1 a2 td c = some x) : Ct G yX0_weight muX0_weight [(2, 43), (0, a1), (0, a2)] (sz, sl, tt td, cv c) ((0, x.1), (sz, sl, tt td, cv x.2)) :=
  Ct.of (n := 1) (ls0 := [some (2, 43), some (0, a1), some (0, a2), none]) (by decide) rfl rfl ⟨show (some .int : Option FieldType) ≠ some .float by decide, show (some .int : Option FieldType) ≠ some .double by decide⟩ (Nat.le_of_ble_eq_true rfl) rfl ⟨Nat.le_refl _, Nat.le_refl _⟩ (show (0 : Nat) ≠ 9 by decide) (fun Γ => sX0_weight a1 a2 td c x h rfl)
theorem mvX0_317 : MV RX0 317 RX0 yX0_meansOf muX0_meansOf 1 := ⟨lw_V q1075 q1077 qs37 q125 q1078, by decide +kernel, Nat.le_of_ble_eq_true rfl⟩
abbrev muX0_same : MI := (cX0_same, RX0, 3, some .boolean, 409, "same")
noncomputable def fX0_same (a1 : Int) (a2 : Int) (td : TT) (c : CC) : Option (Int × CC) :=
  cl (fX0_find a1 td c) fun p_1 =>
   if p_1.1 = 0 then
  (gd ((0 : Int) ≤ 0 ∧ (0 : Int) < 2) (some (0, p_1.2)))
  else
  (cl (fX0_find a2 td p_1.2) fun p_2 =>
   if p_2.1 = 0 then
  (gd ((0 : Int) ≤ 0 ∧ (0 : Int) < 2) (some (0, p_2.2)))
  else
  (bd (up2 p_2.2 43 30 0) fun c_3 =>
   cl (fX0_meansOf a1 td c_3) fun p_4 =>
   cl (fX0_meansOf a2 td p_4.2) fun p_5 =>
   if p_4.1 = p_5.1 then
  (gd ((0 : Int) ≤ 1 ∧ (1 : Int) < 2) (some (1, p_5.2)))
  else
  (gd ((0 : Int) ≤ 0 ∧ (0 : Int) < 2) (some (0, p_5.2)))))
theorem sX0_same {G : GG} {Γ : Cx} {r : Vv × Wd} {sz : Nat} {sl : Nat} (a1 : Int) (a2 : Int) (td : TT) (c : CC) : Sm (fX0_same a1 a2 td c) (fun x => r = ((0, x.1), (sz, sl, tt td, cv x.2))) (WP G Γ muX0_same r 0 [some (2, 43), some (0, a1), some (0, a2)] [] (sz, sl, tt td, cv c)) := by
  unfold fX0_same
  refine s_aload_n (pc := 0) dX0_same_0 rfl ?_
  refine s_iload_n (pc := 1) dX0_same_1 rfl ?_
  refine s_callV3 (pc := 2) (a := 43) (as := [(0, a1)]) (st := []) (rv := fun b => ((0, b.1), (sz, sl, tt td, cv b.2))) (st3 := fun b => [(0, b.1)]) (w3 := fun b => (sz, sl, tt td, cv b.2)) mvX0_239 (fun b h => kX0_find a1 td c b h) rfl (by decide) (t_43 td) rfl rfl rfl (Nat.le_of_ble_eq_true rfl) (fun _ => Nat.le_of_ble_eq_true rfl) (fun _ => ⟨rfl, rfl⟩) dX0_same_2 (fun p_1 => ?_)
  refine s_if_eq (pc := 5) (tgt := 16) dX0_same_5 rfl ?_ ?_
  · refine s_iconst (pc := 16) dX0_same_16 ?_
    exact s_zret (pc := 17) dX0_same_17 rfl (fun h => h)
  refine s_aload_n (pc := 8) dX0_same_8 rfl ?_
  refine s_iload_n (pc := 9) dX0_same_9 rfl ?_
  refine s_callV3 (pc := 10) (a := 43) (as := [(0, a2)]) (st := []) (rv := fun b => ((0, b.1), (sz, sl, tt td, cv b.2))) (st3 := fun b => [(0, b.1)]) (w3 := fun b => (sz, sl, tt td, cv b.2)) mvX0_239 (fun b h => kX0_find a2 td p_1.2 b h) rfl (by decide) (t_43 td) rfl rfl rfl (Nat.le_of_ble_eq_true rfl) (fun _ => Nat.le_of_ble_eq_true rfl) (fun _ => ⟨rfl, rfl⟩) dX0_same_10 (fun p_2 => ?_)
  refine s_if_ne (pc := 13) (tgt := 18) dX0_same_13 rfl ?_ ?_
  · refine s_aload_n (pc := 18) dX0_same_18 rfl ?_
    refine s_iconst (pc := 19) dX0_same_19 ?_
    refine s_putM (pc := 20) (a := 43) (fpX0_261 _) (t_43 _) rfl kO_43 n_43_30 rfl (fpX0_261t) dX0_same_20 (fun c_3 => ?_)
    refine s_aload_n (pc := 23) dX0_same_23 rfl ?_
    refine s_iload_n (pc := 24) dX0_same_24 rfl ?_
    refine s_callV3 (pc := 25) (a := 43) (as := [(0, a1)]) (st := []) (rv := fun b => ((0, b.1), (sz, sl, tt td, cv b.2))) (st3 := fun b => [(0, b.1)]) (w3 := fun b => (sz, sl, tt td, cv b.2)) mvX0_317 (fun b h => kX0_meansOf a1 td c_3 b h) rfl (by decide) (t_43 td) rfl rfl rfl (Nat.le_of_ble_eq_true rfl) (fun _ => Nat.le_of_ble_eq_true rfl) (fun _ => ⟨rfl, rfl⟩) dX0_same_25 (fun p_4 => ?_)
    refine s_aload_n (pc := 28) dX0_same_28 rfl ?_
    refine s_iload_n (pc := 29) dX0_same_29 rfl ?_
    refine s_callV3 (pc := 30) (a := 43) (as := [(0, a2)]) (st := [(0, p_4.1)]) (rv := fun b => ((0, b.1), (sz, sl, tt td, cv b.2))) (st3 := fun b => [(0, b.1), (0, p_4.1)]) (w3 := fun b => (sz, sl, tt td, cv b.2)) mvX0_317 (fun b h => kX0_meansOf a2 td p_4.2 b h) rfl (by decide) (t_43 td) rfl rfl rfl (Nat.le_of_ble_eq_true rfl) (fun _ => Nat.le_of_ble_eq_true rfl) (fun _ => ⟨rfl, rfl⟩) dX0_same_30 (fun p_5 => ?_)
    refine s_icmp_ne (pc := 33) (tgt := 40) dX0_same_33 rfl ?_ ?_
    · refine s_iconst (pc := 40) dX0_same_40 ?_
      exact s_zret (pc := 41) dX0_same_41 rfl (fun h => h)
    refine s_iconst (pc := 36) dX0_same_36 ?_
    refine s_goto (pc := 37) (tgt := 41) dX0_same_37 rfl ?_
    exact s_zret (pc := 41) dX0_same_41 rfl (fun h => h)
  refine s_iconst (pc := 16) dX0_same_16 ?_
  exact s_zret (pc := 17) dX0_same_17 rfl (fun h => h)
theorem kX0_same {G : GG} {sz : Nat} {sl : Nat} (a1 : Int) (a2 : Int) (td : TT) (c : CC) (x : (Int × CC)) (h : fX0_same a1 a2 td c = some x) : Ct G yX0_same muX0_same [(2, 43), (0, a1), (0, a2)] (sz, sl, tt td, cv c) ((0, x.1), (sz, sl, tt td, cv x.2)) :=
  Ct.of (n := 0) (ls0 := [some (2, 43), some (0, a1), some (0, a2)]) (by decide) rfl rfl ⟨show (some .boolean : Option FieldType) ≠ some .float by decide, show (some .boolean : Option FieldType) ≠ some .double by decide⟩ (Nat.le_of_ble_eq_true rfl) rfl ⟨Nat.le_refl _, Nat.le_refl _⟩ (show (0 : Nat) ≠ 9 by decide) (fun Γ => sX0_same a1 a2 td c x h rfl)
abbrev muX0_kin : MI := (cX0_kin, RX0, 5, some .int, 409, "kin")
noncomputable def fX0_kin_j68 (v2 : Int) (v4 : Int) (w0 : Int) (w1 : Int) (td : TT) (c : CC) : Option ((Int × Int × CC) ⊕ (Int × CC)) :=
  gd (inR (w1 + w0)) <|
   bd (w1 + w0) fun v3_8 =>
   gd (inR (v4 + 1)) <| bd (v4 + 1) fun v4_9 =>
   some (.inl (v3_8, v4_9, c))
abbrev gX0_kin_l41 (G : GG) (Γ : Cx) (r : Vv × Wd) (sz sl : Nat) (td : TT) (c : CC) (v2 : Int) : (Int × Int × CC) → Prop := fun s => WP G Γ muX0_kin r 41 [some (2, 43), none, some (0, v2), some (0, s.1), some (0, s.2.1)] [] (sz, sl, tt td, cv s.2.2)
abbrev eX0_kin_l41 (G : GG) (Γ : Cx) (r : Vv × Wd) (sz sl : Nat) (td : TT) (c : CC) (v2 : Int) : (Int × CC) → Prop := (fun s => WP G Γ muX0_kin r 76 [none, none, none, some (0, s.1), none] [] (sz, sl, tt td, cv s.2))
theorem sX0_kin_j68 {G : GG} {Γ : Cx} {r : Vv × Wd} {sz : Nat} {sl : Nat} (v2 : Int) (v4 : Int) (w0 : Int) (w1 : Int) (td : TT) (c : CC) : Sm (fX0_kin_j68 v2 v4 w0 w1 td c) (fun x => Sum.elim (gX0_kin_l41 G Γ r sz sl td c v2) (eX0_kin_l41 G Γ r sz sl td c v2) x) (WP G Γ muX0_kin r 68 [some (2, 43), none, some (0, v2), none, some (0, v4)] [(0, w0), (0, w1)] (sz, sl, tt td, cv c)) := by
  unfold fX0_kin_j68
  refine s_iadd (pc := 68) dX0_kin_68 ?_
  refine s_istore_n (pc := 69) (lf := fun x => [some (2, 43), none, some (0, v2), some (0, x), some (0, v4)]) dX0_kin_69 (fun _ => rfl) (Nat.le_of_ble_eq_true rfl) (fun v3_8 => ?_)
  refine s_iinc (pc := 70) (lf := fun x => [some (2, 43), none, some (0, v2), some (0, v3_8), some (0, x)]) dX0_kin_70 rfl (fun _ => rfl) (Nat.le_of_ble_eq_true rfl) (fun v4_9 => ?_)
  refine s_goto (pc := 73) (tgt := 41) dX0_kin_73 rfl ?_
  exact Sm.some (fun h => h)
noncomputable def fX0_kin_l41 (v2 : Int) (v3 : Int) (v4 : Int) (td : TT) (c : CC) : Option ((Int × Int × CC) ⊕ (Int × CC)) :=
  cl (fX0_all  c) fun p_6 =>
   if v4 < p_6 then
  (cl (fX0_meansOf v4 td c) fun p_7 =>
   if p_7.1 = v2 then
  (fX0_kin_j68 v2 v4 1 v3 td p_7.2)
  else
  (fX0_kin_j68 v2 v4 0 v3 td p_7.2))
  else
  (some (.inr (v3, c)))
theorem sX0_kin_l41 {G : GG} {Γ : Cx} {r : Vv × Wd} {sz : Nat} {sl : Nat} (v2 : Int) (v3 : Int) (v4 : Int) (td : TT) (c : CC) : Sm (fX0_kin_l41 v2 v3 v4 td c) (fun x => Sum.elim (gX0_kin_l41 G Γ r sz sl td c v2) (eX0_kin_l41 G Γ r sz sl td c v2) x) (gX0_kin_l41 G Γ r sz sl td c v2 (v3, v4, c)) := by
  show Sm _ _ (WP G Γ muX0_kin r 41 [some (2, 43), none, some (0, v2), some (0, v3), some (0, v4)] [] (sz, sl, tt td, cv c))
  unfold fX0_kin_l41
  refine s_iload (pc := 41) dX0_kin_41 rfl ?_
  refine s_i2l (pc := 43) dX0_kin_43 ?_
  refine s_aload_n (pc := 44) dX0_kin_44 rfl ?_
  refine s_callV3 (pc := 45) (a := 43) (as := []) (st := [(1, v4)]) (rv := fun b => ((1, b), (sz, sl, tt td, cv c))) (st3 := fun b => [(1, b), (1, v4)]) (w3 := fun b => (sz, sl, tt td, cv c)) mvX0_228 (fun b h => kX0_all  c b h) rfl (by decide) (t_43 td) rfl rfl rfl (Nat.le_of_ble_eq_true rfl) (fun _ => Nat.le_of_ble_eq_true rfl) (fun _ => ⟨rfl, rfl⟩) dX0_kin_45 (fun p_6 => ?_)
  refine s_lcmp_ge (pc := 48) (tgt := 76) dX0_kin_48 dX0_kin_49 rfl ?_ ?_
  · refine s_wk [false, true, false, true, false] (ls' := [none, none, none, some (0, v3), none]) rfl ?_
    exact Sm.some (fun h => h)
  refine s_iload_n (pc := 52) dX0_kin_52 rfl ?_
  refine s_aload_n (pc := 53) dX0_kin_53 rfl ?_
  refine s_iload (pc := 54) dX0_kin_54 rfl ?_
  refine s_callV3 (pc := 56) (a := 43) (as := [(0, v4)]) (st := [(0, v3)]) (rv := fun b => ((0, b.1), (sz, sl, tt td, cv b.2))) (st3 := fun b => [(0, b.1), (0, v3)]) (w3 := fun b => (sz, sl, tt td, cv b.2)) mvX0_317 (fun b h => kX0_meansOf v4 td c b h) rfl (by decide) (t_43 td) rfl rfl rfl (Nat.le_of_ble_eq_true rfl) (fun _ => Nat.le_of_ble_eq_true rfl) (fun _ => ⟨rfl, rfl⟩) dX0_kin_56 (fun p_7 => ?_)
  refine s_iload_n (pc := 59) dX0_kin_59 rfl ?_
  refine s_icmp_ne (pc := 60) (tgt := 67) dX0_kin_60 rfl ?_ ?_
  · refine s_iconst (pc := 67) dX0_kin_67 ?_
    refine s_wk [true, true, true, false, true] (ls' := [some (2, 43), none, some (0, v2), none, some (0, v4)]) rfl ?_
    exact sX0_kin_j68 v2 v4 0 v3 td p_7.2
  refine s_iconst (pc := 63) dX0_kin_63 ?_
  refine s_goto (pc := 64) (tgt := 68) dX0_kin_64 rfl ?_
  refine s_wk [true, true, true, false, true] (ls' := [some (2, 43), none, some (0, v2), none, some (0, v4)]) rfl ?_
  exact sX0_kin_j68 v2 v4 1 v3 td p_7.2
noncomputable def fX0_kin (a1 : Int) (td : TT) (c : CC) : Option (Int × CC) :=
  cl (fX0_reckon  td c) fun p_1 =>
   cl (fX0_all  p_1) fun p_2 =>
   if (300 : Int) < p_2 then
  (some ((-1), p_1))
  else
  (cl (fX0_find a1 td p_1) fun p_3 =>
   if p_3.1 = 0 then
  (some ((-1), p_3.2))
  else
  (bd (up2 p_3.2 43 30 0) fun c_4 =>
   cl (fX0_meansOf a1 td c_4) fun p_5 =>
   cl (wh (fun s => fX0_kin_l41 p_5.1 s.1 s.2.1 td s.2.2) (0, 0, p_5.2)) (fun e_10 =>
  some (e_10.1, e_10.2))))
theorem sX0_kin {G : GG} {Γ : Cx} {r : Vv × Wd} {sz : Nat} {sl : Nat} (a1 : Int) (td : TT) (c : CC) : Sm (fX0_kin a1 td c) (fun x => r = ((0, x.1), (sz, sl, tt td, cv x.2))) (WP G Γ muX0_kin r 0 [some (2, 43), some (0, a1), none, none, none] [] (sz, sl, tt td, cv c)) := by
  unfold fX0_kin
  refine s_aload_n (pc := 0) dX0_kin_0 rfl ?_
  refine s_callV3 (pc := 1) (a := 43) (as := []) (st := []) (rv := fun b => ((3, 0), (sz, sl, tt td, cv b))) (st3 := fun b => []) (w3 := fun b => (sz, sl, tt td, cv b)) mvX0_219 (fun b h => kX0_reckon  td c b h) rfl (by decide) (t_43 td) rfl rfl rfl (Nat.le_of_ble_eq_true rfl) (fun _ => Nat.le_of_ble_eq_true rfl) (fun _ => ⟨rfl, rfl⟩) dX0_kin_1 (fun p_1 => ?_)
  refine s_aload_n (pc := 4) dX0_kin_4 rfl ?_
  refine s_callV3 (pc := 5) (a := 43) (as := []) (st := []) (rv := fun b => ((1, b), (sz, sl, tt td, cv p_1))) (st3 := fun b => [(1, b)]) (w3 := fun b => (sz, sl, tt td, cv p_1)) mvX0_228 (fun b h => kX0_all  p_1 b h) rfl (by decide) (t_43 td) rfl rfl rfl (Nat.le_of_ble_eq_true rfl) (fun _ => Nat.le_of_ble_eq_true rfl) (fun _ => ⟨rfl, rfl⟩) dX0_kin_5 (fun p_2 => ?_)
  refine s_ldc2 (pc := 8) (z := 300) q1087 dX0_kin_8 ?_
  refine s_lcmp_gt (pc := 11) (tgt := 23) dX0_kin_11 dX0_kin_12 rfl ?_ ?_
  · refine s_iconst (pc := 23) dX0_kin_23 ?_
    exact s_iret (pc := 24) dX0_kin_24 rfl (fun h => h)
  refine s_aload_n (pc := 15) dX0_kin_15 rfl ?_
  refine s_iload_n (pc := 16) dX0_kin_16 rfl ?_
  refine s_callV3 (pc := 17) (a := 43) (as := [(0, a1)]) (st := []) (rv := fun b => ((0, b.1), (sz, sl, tt td, cv b.2))) (st3 := fun b => [(0, b.1)]) (w3 := fun b => (sz, sl, tt td, cv b.2)) mvX0_239 (fun b h => kX0_find a1 td p_1 b h) rfl (by decide) (t_43 td) rfl rfl rfl (Nat.le_of_ble_eq_true rfl) (fun _ => Nat.le_of_ble_eq_true rfl) (fun _ => ⟨rfl, rfl⟩) dX0_kin_17 (fun p_3 => ?_)
  refine s_if_ne (pc := 20) (tgt := 25) dX0_kin_20 rfl ?_ ?_
  · refine s_aload_n (pc := 25) dX0_kin_25 rfl ?_
    refine s_iconst (pc := 26) dX0_kin_26 ?_
    refine s_putM (pc := 27) (a := 43) (fpX0_261 _) (t_43 _) rfl kO_43 n_43_30 rfl (fpX0_261t) dX0_kin_27 (fun c_4 => ?_)
    refine s_aload_n (pc := 30) dX0_kin_30 rfl ?_
    refine s_iload_n (pc := 31) dX0_kin_31 rfl ?_
    refine s_callV3 (pc := 32) (a := 43) (as := [(0, a1)]) (st := []) (rv := fun b => ((0, b.1), (sz, sl, tt td, cv b.2))) (st3 := fun b => [(0, b.1)]) (w3 := fun b => (sz, sl, tt td, cv b.2)) mvX0_317 (fun b h => kX0_meansOf a1 td c_4 b h) rfl (by decide) (t_43 td) rfl rfl rfl (Nat.le_of_ble_eq_true rfl) (fun _ => Nat.le_of_ble_eq_true rfl) (fun _ => ⟨rfl, rfl⟩) dX0_kin_32 (fun p_5 => ?_)
    refine s_istore_nD (pc := 35) (ls' := [some (2, 43), some (0, a1), some (0, p_5.1), none, none]) dX0_kin_35 rfl (Nat.le_of_ble_eq_true rfl) ?_
    refine s_iconst (pc := 36) dX0_kin_36 ?_
    refine s_istore_nD (pc := 37) (ls' := [some (2, 43), some (0, a1), some (0, p_5.1), some (0, 0), none]) dX0_kin_37 rfl (Nat.le_of_ble_eq_true rfl) ?_
    refine s_iconst (pc := 38) dX0_kin_38 ?_
    refine s_istoreD (pc := 39) (ls' := [some (2, 43), some (0, a1), some (0, p_5.1), some (0, 0), some (0, 0)]) dX0_kin_39 rfl (Nat.le_of_ble_eq_true rfl) ?_
    refine s_wk [true, false, true, true, true] (ls' := [some (2, 43), none, some (0, p_5.1), some (0, 0), some (0, 0)]) rfl ?_
    refine s_loop (g := gX0_kin_l41 G Γ r sz sl td p_5.2 p_5.1) (Ex := eX0_kin_l41 G Γ r sz sl td p_5.2 p_5.1) (s0 := (0, 0, p_5.2)) (fun s => sX0_kin_l41 p_5.1 s.1 s.2.1 td s.2.2) ?_
    intro e_10
    show Sm _ _ (WP G Γ muX0_kin r 76 [none, none, none, some (0, e_10.1), none] [] (sz, sl, tt td, cv e_10.2))
    refine s_iload_n (pc := 76) dX0_kin_76 rfl ?_
    exact s_iret (pc := 77) dX0_kin_77 rfl (fun h => h)
  refine s_iconst (pc := 23) dX0_kin_23 ?_
  exact s_iret (pc := 24) dX0_kin_24 rfl (fun h => h)
theorem kX0_kin {G : GG} {sz : Nat} {sl : Nat} (a1 : Int) (td : TT) (c : CC) (x : (Int × CC)) (h : fX0_kin a1 td c = some x) : Ct G yX0_kin muX0_kin [(2, 43), (0, a1)] (sz, sl, tt td, cv c) ((0, x.1), (sz, sl, tt td, cv x.2)) :=
  Ct.of (n := 3) (ls0 := [some (2, 43), some (0, a1), none, none, none]) (by decide) rfl rfl ⟨show (some .int : Option FieldType) ≠ some .float by decide, show (some .int : Option FieldType) ≠ some .double by decide⟩ (Nat.le_of_ble_eq_true rfl) rfl ⟨Nat.le_refl _, Nat.le_refl _⟩ (show (0 : Nat) ≠ 9 by decide) (fun Γ => sX0_kin a1 td c x h rfl)
abbrev muX0_meant : MI := (cX0_meant, RX0, 5, some .int, 409, "meant")
noncomputable def fX0_meant_j62 (v1 : Int) (v3 : Int) (v4 : Int) (w0 : Int) (w1 : Int) (sz : Nat) (sl : Nat) (td : TT) (c : CC) : Option ((Int × Int × CC) ⊕ (Int × CC)) :=
  gd (inR (w1 + w0)) <|
   bd (w1 + w0) fun v2_9 =>
   gd (168 ≤ v1 ∧ (tt td (Int.toNat v1)).1 = 53 ∧ (0 : Int) ≤ v4 ∧ v4 < ((tt td (Int.toNat v1)).2 : Int) ∧ (0 : Int) ≤ 1 ∧ (1 : Int) < 2) <| bd (up2 c (Int.toNat v1) (Int.toNat v4) 1) fun c_10 =>
   gd (inR (v3 + 1)) <| bd (v3 + 1) fun v3_11 =>
   some (.inl (v2_9, v3_11, c_10))
abbrev gX0_meant_l32 (G : GG) (Γ : Cx) (r : Vv × Wd) (sz sl : Nat) (td : TT) (c : CC) (v1 : Int) : (Int × Int × CC) → Prop := fun s => WP G Γ muX0_meant r 32 [some (2, 43), some (2, v1), some (0, s.1), some (0, s.2.1), none] [] (sz, sl, tt td, cv s.2.2)
abbrev eX0_meant_l32 (G : GG) (Γ : Cx) (r : Vv × Wd) (sz sl : Nat) (td : TT) (c : CC) (v1 : Int) : (Int × CC) → Prop := (fun s => WP G Γ muX0_meant r 75 [none, none, some (0, s.1), none, none] [] (sz, sl, tt td, cv s.2))
theorem sX0_meant_j62 {G : GG} {Γ : Cx} {r : Vv × Wd}  (v1 : Int) (v3 : Int) (v4 : Int) (w0 : Int) (w1 : Int) (sz : Nat) (sl : Nat) (td : TT) (c : CC) : Sm (fX0_meant_j62 v1 v3 v4 w0 w1 sz sl td c) (fun x => Sum.elim (gX0_meant_l32 G Γ r sz sl td c v1) (eX0_meant_l32 G Γ r sz sl td c v1) x) (WP G Γ muX0_meant r 62 [some (2, 43), some (2, v1), none, some (0, v3), some (0, v4)] [(0, w0), (0, w1)] (sz, sl, tt td, cv c)) := by
  unfold fX0_meant_j62
  refine s_iadd (pc := 62) dX0_meant_62 ?_
  refine s_istore_n (pc := 63) (lf := fun x => [some (2, 43), some (2, v1), some (0, x), some (0, v3), some (0, v4)]) dX0_meant_63 (fun _ => rfl) (Nat.le_of_ble_eq_true rfl) (fun v2_9 => ?_)
  refine s_aload_n (pc := 64) dX0_meant_64 rfl ?_
  refine s_iload (pc := 65) dX0_meant_65 rfl ?_
  refine s_iconst (pc := 67) dX0_meant_67 ?_
  refine s_zastDM (pc := 68) dX0_meant_68 (fun c_10 => ?_)
  refine s_iinc (pc := 69) (lf := fun x => [some (2, 43), some (2, v1), some (0, v2_9), some (0, x), some (0, v4)]) dX0_meant_69 rfl (fun _ => rfl) (Nat.le_of_ble_eq_true rfl) (fun v3_11 => ?_)
  refine s_goto (pc := 72) (tgt := 32) dX0_meant_72 rfl ?_
  refine s_wk [true, true, true, true, false] (ls' := [some (2, 43), some (2, v1), some (0, v2_9), some (0, v3_11), none]) rfl ?_
  exact Sm.some (fun h => h)
noncomputable def fX0_meant_l32 (v1 : Int) (v2 : Int) (v3 : Int) (sz : Nat) (sl : Nat) (td : TT) (c : CC) : Option ((Int × Int × CC) ⊕ (Int × CC)) :=
  cl (fX0_all  c) fun p_7 =>
   if v3 < p_7 then
  (cl (fX0_meansOf v3 td c) fun p_8 =>
   gd ((0 : Int) ≤ v1 ∧ (tt td (Int.toNat v1)).1 = 53 ∧ (0 : Int) ≤ p_8.1 ∧ p_8.1 < ((tt td (Int.toNat v1)).2 : Int)) <|
   if cv p_8.2 (Int.toNat v1) (Int.toNat p_8.1) = 0 then
  (fX0_meant_j62 v1 v3 p_8.1 1 v2 sz sl td p_8.2)
  else
  (fX0_meant_j62 v1 v3 p_8.1 0 v2 sz sl td p_8.2))
  else
  (some (.inr (v2, c)))
theorem sX0_meant_l32 {G : GG} {Γ : Cx} {r : Vv × Wd}  (v1 : Int) (v2 : Int) (v3 : Int) (sz : Nat) (sl : Nat) (td : TT) (c : CC) : Sm (fX0_meant_l32 v1 v2 v3 sz sl td c) (fun x => Sum.elim (gX0_meant_l32 G Γ r sz sl td c v1) (eX0_meant_l32 G Γ r sz sl td c v1) x) (gX0_meant_l32 G Γ r sz sl td c v1 (v2, v3, c)) := by
  show Sm _ _ (WP G Γ muX0_meant r 32 [some (2, 43), some (2, v1), some (0, v2), some (0, v3), none] [] (sz, sl, tt td, cv c))
  unfold fX0_meant_l32
  refine s_iload_n (pc := 32) dX0_meant_32 rfl ?_
  refine s_i2l (pc := 33) dX0_meant_33 ?_
  refine s_aload_n (pc := 34) dX0_meant_34 rfl ?_
  refine s_callV3 (pc := 35) (a := 43) (as := []) (st := [(1, v3)]) (rv := fun b => ((1, b), (sz, sl, tt td, cv c))) (st3 := fun b => [(1, b), (1, v3)]) (w3 := fun b => (sz, sl, tt td, cv c)) mvX0_228 (fun b h => kX0_all  c b h) rfl (by decide) (t_43 td) rfl rfl rfl (Nat.le_of_ble_eq_true rfl) (fun _ => Nat.le_of_ble_eq_true rfl) (fun _ => ⟨rfl, rfl⟩) dX0_meant_35 (fun p_7 => ?_)
  refine s_lcmp_ge (pc := 38) (tgt := 75) dX0_meant_38 dX0_meant_39 rfl ?_ ?_
  · refine s_wk [false, false, true, false, true] (ls' := [none, none, some (0, v2), none, none]) rfl ?_
    exact Sm.some (fun h => h)
  refine s_aload_n (pc := 42) dX0_meant_42 rfl ?_
  refine s_iload_n (pc := 43) dX0_meant_43 rfl ?_
  refine s_callV3 (pc := 44) (a := 43) (as := [(0, v3)]) (st := []) (rv := fun b => ((0, b.1), (sz, sl, tt td, cv b.2))) (st3 := fun b => [(0, b.1)]) (w3 := fun b => (sz, sl, tt td, cv b.2)) mvX0_317 (fun b h => kX0_meansOf v3 td c b h) rfl (by decide) (t_43 td) rfl rfl rfl (Nat.le_of_ble_eq_true rfl) (fun _ => Nat.le_of_ble_eq_true rfl) (fun _ => ⟨rfl, rfl⟩) dX0_meant_44 (fun p_8 => ?_)
  refine s_istoreD (pc := 47) (ls' := [some (2, 43), some (2, v1), some (0, v2), some (0, v3), some (0, p_8.1)]) dX0_meant_47 rfl (Nat.le_of_ble_eq_true rfl) ?_
  refine s_iload_n (pc := 49) dX0_meant_49 rfl ?_
  refine s_aload_n (pc := 50) dX0_meant_50 rfl ?_
  refine s_iload (pc := 51) dX0_meant_51 rfl ?_
  refine s_zaldD (pc := 53) dX0_meant_53 ?_
  refine s_if_eq (pc := 54) (tgt := 61) dX0_meant_54 rfl ?_ ?_
  · refine s_iconst (pc := 61) dX0_meant_61 ?_
    refine s_wk [true, true, false, true, true] (ls' := [some (2, 43), some (2, v1), none, some (0, v3), some (0, p_8.1)]) rfl ?_
    exact sX0_meant_j62 v1 v3 p_8.1 1 v2 sz sl td p_8.2
  refine s_iconst (pc := 57) dX0_meant_57 ?_
  refine s_goto (pc := 58) (tgt := 62) dX0_meant_58 rfl ?_
  refine s_wk [true, true, false, true, true] (ls' := [some (2, 43), some (2, v1), none, some (0, v3), some (0, p_8.1)]) rfl ?_
  exact sX0_meant_j62 v1 v3 p_8.1 0 v2 sz sl td p_8.2
noncomputable def fX0_meant  (sz : Nat) (sl : Nat) (td : TT) (c : CC) : Option (Int × Nat × Nat × TT × CC) :=
  cl (fX0_reckon  td c) fun p_1 =>
   cl (fX0_all  p_1) fun p_2 =>
   if (300 : Int) < p_2 then
  (some ((-1), sz, sl, td, p_1))
  else
  (bd (up2 p_1 43 30 0) fun c_3 =>
   gd (kK ≤ sz ∧ (0 : Int) ≤ 8000 ∧ (8000 : Int) ≤ 100000) <| bd (upT td sz (50 + 3, Int.toNat 8000)) fun tq_4 => bd (zc c_3 sz (50 + 3)) fun c_5 =>
   bd (((sz : Nat) : Int)) fun v1_6 =>
   cl (wh (fun s => fX0_meant_l32 v1_6 s.1 s.2.1 (sz + 1) (sl + Int.toNat 8000) tq_4 s.2.2) (0, 0, c_5)) (fun e_12 =>
  some (e_12.1, (sz + 1), (sl + Int.toNat 8000), tq_4, e_12.2)))
theorem sX0_meant {G : GG} {Γ : Cx} {r : Vv × Wd}   (sz : Nat) (sl : Nat) (td : TT) (c : CC) : Sm (fX0_meant  sz sl td c) (fun x => r = ((0, x.1), (x.2.1, x.2.2.1, tt x.2.2.2.1, cv x.2.2.2.2))) (WP G Γ muX0_meant r 0 [some (2, 43), none, none, none, none] [] (sz, sl, tt td, cv c)) := by
  unfold fX0_meant
  refine s_aload_n (pc := 0) dX0_meant_0 rfl ?_
  refine s_callV3 (pc := 1) (a := 43) (as := []) (st := []) (rv := fun b => ((3, 0), (sz, sl, tt td, cv b))) (st3 := fun b => []) (w3 := fun b => (sz, sl, tt td, cv b)) mvX0_219 (fun b h => kX0_reckon  td c b h) rfl (by decide) (t_43 td) rfl rfl rfl (Nat.le_of_ble_eq_true rfl) (fun _ => Nat.le_of_ble_eq_true rfl) (fun _ => ⟨rfl, rfl⟩) dX0_meant_1 (fun p_1 => ?_)
  refine s_aload_n (pc := 4) dX0_meant_4 rfl ?_
  refine s_callV3 (pc := 5) (a := 43) (as := []) (st := []) (rv := fun b => ((1, b), (sz, sl, tt td, cv p_1))) (st3 := fun b => [(1, b)]) (w3 := fun b => (sz, sl, tt td, cv p_1)) mvX0_228 (fun b h => kX0_all  p_1 b h) rfl (by decide) (t_43 td) rfl rfl rfl (Nat.le_of_ble_eq_true rfl) (fun _ => Nat.le_of_ble_eq_true rfl) (fun _ => ⟨rfl, rfl⟩) dX0_meant_5 (fun p_2 => ?_)
  refine s_ldc2 (pc := 8) (z := 300) q1087 dX0_meant_8 ?_
  refine s_lcmp_le (pc := 11) (tgt := 17) dX0_meant_11 dX0_meant_12 rfl ?_ ?_
  · refine s_aload_n (pc := 17) dX0_meant_17 rfl ?_
    refine s_iconst (pc := 18) dX0_meant_18 ?_
    refine s_putM (pc := 19) (a := 43) (fpX0_261 _) (t_43 _) rfl kO_43 n_43_30 rfl (fpX0_261t) dX0_meant_19 (fun c_3 => ?_)
    refine s_sipush (pc := 22) dX0_meant_22 ?_
    refine s_newaM (pc := 25) (at0 := .boolean) (q := 3) (by decide) rfl q1092 (by decide) (fun _ _ h => h) dX0_meant_25 (fun tq_4 c_5 => ?_)
    refine s_astore_n (pc := 27) (lf := fun x => [some (2, 43), some (2, x), none, none, none]) dX0_meant_27 (fun _ => rfl) (Nat.le_of_ble_eq_true rfl) (fun v1_6 => ?_)
    refine s_iconst (pc := 28) dX0_meant_28 ?_
    refine s_istore_nD (pc := 29) (ls' := [some (2, 43), some (2, v1_6), some (0, 0), none, none]) dX0_meant_29 rfl (Nat.le_of_ble_eq_true rfl) ?_
    refine s_iconst (pc := 30) dX0_meant_30 ?_
    refine s_istore_nD (pc := 31) (ls' := [some (2, 43), some (2, v1_6), some (0, 0), some (0, 0), none]) dX0_meant_31 rfl (Nat.le_of_ble_eq_true rfl) ?_
    refine s_loop (g := gX0_meant_l32 G Γ r (sz + 1) (sl + Int.toNat 8000) tq_4 c_5 v1_6) (Ex := eX0_meant_l32 G Γ r (sz + 1) (sl + Int.toNat 8000) tq_4 c_5 v1_6) (s0 := (0, 0, c_5)) (fun s => sX0_meant_l32 v1_6 s.1 s.2.1 (sz + 1) (sl + Int.toNat 8000) tq_4 s.2.2) ?_
    intro e_12
    show Sm _ _ (WP G Γ muX0_meant r 75 [none, none, some (0, e_12.1), none, none] [] (sz + 1, sl + Int.toNat 8000, tt tq_4, cv e_12.2))
    refine s_iload_n (pc := 75) dX0_meant_75 rfl ?_
    exact s_iret (pc := 76) dX0_meant_76 rfl (fun h => h)
  refine s_iconst (pc := 15) dX0_meant_15 ?_
  exact s_iret (pc := 16) dX0_meant_16 rfl (fun h => h)
theorem kX0_meant {G : GG}   (sz : Nat) (sl : Nat) (td : TT) (c : CC) (x : (Int × Nat × Nat × TT × CC)) (h : fX0_meant  sz sl td c = some x) : Ct G yX0_meant muX0_meant [(2, 43)] (sz, sl, tt td, cv c) ((0, x.1), (x.2.1, x.2.2.1, tt x.2.2.2.1, cv x.2.2.2.2)) :=
  Ct.of (n := 4) (ls0 := [some (2, 43), none, none, none, none]) (by decide) rfl rfl ⟨show (some .int : Option FieldType) ≠ some .float by decide, show (some .int : Option FieldType) ≠ some .double by decide⟩ (Nat.le_of_ble_eq_true rfl) rfl (sX0_meant (G := G) (Γ := cx0)  sz sl td c x h rfl).1 (show (0 : Nat) ≠ 9 by decide) (fun Γ => sX0_meant  sz sl td c x h rfl)
abbrev muX0_canTake : MI := (cX0_canTake, RX0, 5, some .boolean, 2, "canTake")
abbrev gX0_canTake_l19 (G : GG) (Γ : Cx) (r : Vv × Wd) (sz sl : Nat) (td : TT) (c : CC) (v1 : Int) (v2 : Int) (v3 : Int) : (Int) → Prop := fun s => WP G Γ muX0_canTake r 19 [some (2, 43), some (2, v1), some (0, v2), some (0, v3), some (0, s)] [] (sz, sl, tt td, cv c)
abbrev eX0_canTake_l19 (G : GG) (Γ : Cx) (r : Vv × Wd) (sz sl : Nat) (td : TT) (c : CC) (v1 : Int) (v2 : Int) (v3 : Int) : ((Unit) ⊕ (Unit)) → Prop := (Sum.elim (fun s => WP G Γ muX0_canTake r 49 [none, none, none, none, none] [] (sz, sl, tt td, cv c)) (fun s => WP G Γ muX0_canTake r 57 [none, none, none, none, none] [] (sz, sl, tt td, cv c)))
noncomputable def fX0_canTake_l19 (v1 : Int) (v2 : Int) (v3 : Int) (v4 : Int) (td : TT) (c : CC) : Option ((Int) ⊕ ((Unit) ⊕ (Unit))) :=
  if v4 < v3 then
  (gd (inR ((c 43 35) - v3)) <|
   gd (inR (((c 43 35) - v3) + v4)) <|
   gd ((0 : Int) ≤ ((c 43 35) - v3) + v4 ∧ ((c 43 35) - v3) + v4 < 25) <|
   cl (fV_kind v1 v2 v4 td c) fun p_2 =>
   if c 103 (Int.toNat (((c 43 35) - v3) + v4)) = p_2 then
  (gd (inR (v4 + 1)) <| bd (v4 + 1) fun v4_3 =>
   some (.inl v4_3))
  else
  (some (.inr (.inl ()))))
  else
  (some (.inr (.inr ())))
theorem sX0_canTake_l19 {G : GG} {Γ : Cx} {r : Vv × Wd} {sz : Nat} {sl : Nat} (v1 : Int) (v2 : Int) (v3 : Int) (v4 : Int) (td : TT) (c : CC) : Sm (fX0_canTake_l19 v1 v2 v3 v4 td c) (fun x => Sum.elim (gX0_canTake_l19 G Γ r sz sl td c v1 v2 v3) (eX0_canTake_l19 G Γ r sz sl td c v1 v2 v3) x) (gX0_canTake_l19 G Γ r sz sl td c v1 v2 v3 v4) := by
  show Sm _ _ (WP G Γ muX0_canTake r 19 [some (2, 43), some (2, v1), some (0, v2), some (0, v3), some (0, v4)] [] (sz, sl, tt td, cv c))
  unfold fX0_canTake_l19
  refine s_iload (pc := 19) dX0_canTake_19 rfl ?_
  refine s_iload_n (pc := 21) dX0_canTake_21 rfl ?_
  refine s_icmp_ge (pc := 22) (tgt := 57) dX0_canTake_22 rfl ?_ ?_
  · refine s_wk [false, false, false, false, false] (ls' := [none, none, none, none, none]) rfl ?_
    exact Sm.some (fun h => h)
  refine s_aload_n (pc := 25) dX0_canTake_25 rfl ?_
  refine s_get (pc := 26) (a := 43) (v := 103) flX0_98 (t_43 _) rfl (g_43_31 _) rfl dX0_canTake_26 ?_
  refine s_aload_n (pc := 29) dX0_canTake_29 rfl ?_
  refine s_get (pc := 30) (a := 43) (v := c 43 35) flX0_277 (t_43 _) rfl (g_43_35 _) rfl dX0_canTake_30 ?_
  refine s_iload_n (pc := 33) dX0_canTake_33 rfl ?_
  refine s_isub (pc := 34) dX0_canTake_34 ?_
  refine s_iload (pc := 35) dX0_canTake_35 rfl ?_
  refine s_iadd (pc := 37) dX0_canTake_37 ?_
  refine s_ialdM (pc := 38) (a := 103) (t_103 _) rfl r_103 dX0_canTake_38 ?_
  refine s_aload_n (pc := 39) dX0_canTake_39 rfl ?_
  refine s_iload_n (pc := 40) dX0_canTake_40 rfl ?_
  refine s_iload (pc := 41) dX0_canTake_41 rfl ?_
  refine s_callU (pc := 43) (z := v1) (as := [(0, v2), (0, v4)]) (st := [(0, c 103 (Int.toNat (((c 43 35) - v3) + v4)))]) (rv := fun b => ((0, b), (sz, sl, tt td, cv c))) (st3 := fun b => [(0, b), (0, c 103 (Int.toNat (((c 43 35) - v3) + v4)))]) (w3 := fun b => (sz, sl, tt td, cv c)) rfl rfl (fun b h => vdX0_175 v1 v2 v4 td c b h (by decide)) (Nat.le_of_ble_eq_true rfl) (fun _ => Nat.le_of_ble_eq_true rfl) (fun _ => ⟨rfl, rfl⟩) dX0_canTake_43 (fun p_2 => ?_)
  refine s_icmp_eq (pc := 46) (tgt := 51) dX0_canTake_46 rfl ?_ ?_
  · refine s_iinc (pc := 51) (lf := fun x => [some (2, 43), some (2, v1), some (0, v2), some (0, v3), some (0, x)]) dX0_canTake_51 rfl (fun _ => rfl) (Nat.le_of_ble_eq_true rfl) (fun v4_3 => ?_)
    refine s_goto (pc := 54) (tgt := 19) dX0_canTake_54 rfl ?_
    exact Sm.some (fun h => h)
  refine s_wk [false, false, false, false, false] (ls' := [none, none, none, none, none]) rfl ?_
  exact Sm.some (fun h => h)
noncomputable def fX0_canTake (a1 : Int) (a2 : Int) (td : TT) (c : CC) : Option Int :=
  cl (fV_takes a1 a2 td c) fun p_1 =>
   if c 43 35 < p_1 then
  (gd ((0 : Int) ≤ 0 ∧ (0 : Int) < 2) (some 0))
  else
  (cl (wh (fun s => fX0_canTake_l19 a1 a2 p_1 s td c) 0) (Sum.elim (fun e_4 =>
  gd ((0 : Int) ≤ 0 ∧ (0 : Int) < 2) (some 0)) (fun e_5 =>
  gd ((0 : Int) ≤ 1 ∧ (1 : Int) < 2) (some 1))))
theorem sX0_canTake {G : GG} {Γ : Cx} {r : Vv × Wd} {sz : Nat} {sl : Nat} (a1 : Int) (a2 : Int) (td : TT) (c : CC) : Sm (fX0_canTake a1 a2 td c) (fun x => r = ((0, x), (sz, sl, tt td, cv c))) (WP G Γ muX0_canTake r 0 [some (2, 43), some (2, a1), some (0, a2), none, none] [] (sz, sl, tt td, cv c)) := by
  unfold fX0_canTake
  refine s_aload_n (pc := 0) dX0_canTake_0 rfl ?_
  refine s_iload_n (pc := 1) dX0_canTake_1 rfl ?_
  refine s_callU (pc := 2) (z := a1) (as := [(0, a2)]) (st := []) (rv := fun b => ((0, b), (sz, sl, tt td, cv c))) (st3 := fun b => [(0, b)]) (w3 := fun b => (sz, sl, tt td, cv c)) rfl rfl (fun b h => vdX0_167 a1 a2 td c b h (by decide)) (Nat.le_of_ble_eq_true rfl) (fun _ => Nat.le_of_ble_eq_true rfl) (fun _ => ⟨rfl, rfl⟩) dX0_canTake_2 (fun p_1 => ?_)
  refine s_istore_nD (pc := 5) (ls' := [some (2, 43), some (2, a1), some (0, a2), some (0, p_1), none]) dX0_canTake_5 rfl (Nat.le_of_ble_eq_true rfl) ?_
  refine s_aload_n (pc := 6) dX0_canTake_6 rfl ?_
  refine s_get (pc := 7) (a := 43) (v := c 43 35) flX0_277 (t_43 _) rfl (g_43_35 _) rfl dX0_canTake_7 ?_
  refine s_iload_n (pc := 10) dX0_canTake_10 rfl ?_
  refine s_icmp_ge (pc := 11) (tgt := 16) dX0_canTake_11 rfl ?_ ?_
  · refine s_iconst (pc := 16) dX0_canTake_16 ?_
    refine s_istoreD (pc := 17) (ls' := [some (2, 43), some (2, a1), some (0, a2), some (0, p_1), some (0, 0)]) dX0_canTake_17 rfl (Nat.le_of_ble_eq_true rfl) ?_
    refine s_loop (g := gX0_canTake_l19 G Γ r sz sl td c a1 a2 p_1) (Ex := eX0_canTake_l19 G Γ r sz sl td c a1 a2 p_1) (s0 := 0) (fun s => sX0_canTake_l19 a1 a2 p_1 s td c) ?_
    refine s_elim ?_ ?_
    · intro e_4
      show Sm _ _ (WP G Γ muX0_canTake r 49 [none, none, none, none, none] [] (sz, sl, tt td, cv c))
      refine s_iconst (pc := 49) dX0_canTake_49 ?_
      exact s_zret (pc := 50) dX0_canTake_50 rfl (fun h => h)
    intro e_5
    show Sm _ _ (WP G Γ muX0_canTake r 57 [none, none, none, none, none] [] (sz, sl, tt td, cv c))
    refine s_iconst (pc := 57) dX0_canTake_57 ?_
    exact s_zret (pc := 58) dX0_canTake_58 rfl (fun h => h)
  refine s_iconst (pc := 14) dX0_canTake_14 ?_
  exact s_zret (pc := 15) dX0_canTake_15 rfl (fun h => h)
theorem kX0_canTake {G : GG} {sz : Nat} {sl : Nat} (a1 : Int) (a2 : Int) (td : TT) (c : CC) (x : Int) (h : fX0_canTake a1 a2 td c = some x) : Ct G yX0_canTake muX0_canTake [(2, 43), (2, a1), (0, a2)] (sz, sl, tt td, cv c) ((0, x), (sz, sl, tt td, cv c)) :=
  Ct.of (n := 2) (ls0 := [some (2, 43), some (2, a1), some (0, a2), none, none]) (by decide) rfl rfl ⟨show (some .boolean : Option FieldType) ≠ some .float by decide, show (some .boolean : Option FieldType) ≠ some .double by decide⟩ (Nat.le_of_ble_eq_true rfl) rfl ⟨Nat.le_refl _, Nat.le_refl _⟩ (show (0 : Nat) ≠ 9 by decide) (fun Γ => sX0_canTake a1 a2 td c x h rfl)
theorem fnX0_322 : FLNf RX0 322 1 1 := ⟨_, _, _, _, cf1, by decide, PP.nwF q177⟩
def AskK (ci : Nat) (y : MethodName) (μ : MI) : Prop := (ci = 15 ∧ y = yX17_is ∧ ∃ d : Nat, μ = (cX17_is, RX17, 2, some .boolean, d, "is")) ∨ (ci = 16 ∧ y = yX18_is ∧ ∃ d : Nat, μ = (cX18_is, RX18, 6, some .boolean, d, "is")) ∨ (ci = 17 ∧ y = yX19_is ∧ ∃ d : Nat, μ = (cX19_is, RX19, 4, some .boolean, d, "is"))
theorem mfX0_326 : ∀ ci y μy, AskK ci y μy → ∃ q, kCl[ci]? = some q ∧ MF RX0 326 q.1 (⟨"HeldTongue$Ask", "is", "(LHeldTongue$View;)Z"⟩ : MethodName) y μy 1 := by
  intro ci y μy h
  unfold AskK at h
  rcases h with ⟨rfl, rfl, d, rfl⟩ | ⟨rfl, rfl, d, rfl⟩ | ⟨rfl, rfl, d, rfl⟩
  · exact ⟨_, rfl, lw_F q1114 q1134 q1136 q151 q1138, PP.fw (by decide) q1116 q1115 q1137 q1135 q1133, by decide +kernel, Nat.le_of_ble_eq_true rfl⟩
  · exact ⟨_, rfl, lw_F q1114 q1126 q1128 q152 q1130, PP.fw (by decide) q1116 q1115 q1129 q1127 q1125, by decide +kernel, Nat.le_of_ble_eq_true rfl⟩
  · exact ⟨_, rfl, lw_F q1114 q1118 q1120 q153 q1122, PP.fw (by decide) q1116 q1115 q1121 q1119 q1117, by decide +kernel, Nat.le_of_ble_eq_true rfl⟩
theorem flX17_7 : FL RX17 7 15 0 := ⟨_, _, _, cf15, by decide, q760⟩
theorem mfX17_13 : ∀ ci y μy, AskK ci y μy → ∃ q, kCl[ci]? = some q ∧ MF RX17 13 q.1 (⟨"HeldTongue$Ask", "is", "(LHeldTongue$View;)Z"⟩ : MethodName) y μy 1 := by
  intro ci y μy h
  unfold AskK at h
  rcases h with ⟨rfl, rfl, d, rfl⟩ | ⟨rfl, rfl, d, rfl⟩ | ⟨rfl, rfl, d, rfl⟩
  · exact ⟨_, rfl, lw_F q1140 q1134 q1136 q151 q1138, PP.fw (by decide) q1116 q1115 q1137 q1135 q1133, by decide +kernel, Nat.le_of_ble_eq_true rfl⟩
  · exact ⟨_, rfl, lw_F q1140 q1126 q1128 q152 q1130, PP.fw (by decide) q1116 q1115 q1129 q1127 q1125, by decide +kernel, Nat.le_of_ble_eq_true rfl⟩
  · exact ⟨_, rfl, lw_F q1140 q1118 q1120 q153 q1122, PP.fw (by decide) q1116 q1115 q1121 q1119 q1117, by decide +kernel, Nat.le_of_ble_eq_true rfl⟩
abbrev muX17_is_48 [Inhabited Orc] : MI := (cX17_is, RX17, 2, some .boolean, oD + 411, "is")
noncomputable def fX17_is_48 [Inhabited Orc] (a0 : Int) (td : TT) (c : CC) : Option Int :=
  gd ((0 : Int) ≤ a0 ∧ (tt td (Int.toNat a0)).1 = 15) <|
   cl (oF (cv c (Int.toNat a0) 0)) fun p_1 =>
   if p_1 = 0 then
  (gd ((0 : Int) ≤ 1 ∧ (1 : Int) < 2) (some 1))
  else
  (gd ((0 : Int) ≤ 0 ∧ (0 : Int) < 2) (some 0))
theorem sX17_is_48 [Inhabited Orc] {G : GG} {Γ : Cx} {r : Vv × Wd} {sz : Nat} {sl : Nat} (a0 : Int) (td : TT) (c : CC) [hO : Nonempty (PLift (oOK AskK 0 (oD + 406) G (sz, sl, tt td, cv c)))] : Sm (fX17_is_48 a0 td c) (fun x => r = ((0, x), (sz, sl, tt td, cv c))) (WP G Γ muX17_is_48 r 0 [some (2, a0), some (2, 48)] [] (sz, sl, tt td, cv c)) := by
  unfold fX17_is_48
  refine s_aload_n (pc := 0) dX17_is_0 rfl ?_
  refine s_getD (pc := 1) flX17_7 rfl dX17_is_1 ?_
  refine s_aload_n (pc := 4) dX17_is_4 rfl ?_
  refine s_callFO (pc := 5) (D := (oD + 406)) (z := cv c (Int.toNat a0) 0) (v := 48) (tg := 0) (st := []) (fun b h => hO.elim (fun q => q.down _ b h)) mfX17_13 (Nat.le_refl _) (Nat.le_of_ble_eq_true rfl) (Nat.le_of_ble_eq_true rfl) dX17_is_5 (fun p_1 => ?_)
  refine s_if_ne (pc := 10) (tgt := 17) dX17_is_10 rfl ?_ ?_
  · refine s_iconst (pc := 17) dX17_is_17 ?_
    exact s_zret (pc := 18) dX17_is_18 rfl (fun h => h)
  refine s_iconst (pc := 13) dX17_is_13 ?_
  refine s_goto (pc := 14) (tgt := 18) dX17_is_14 rfl ?_
  exact s_zret (pc := 18) dX17_is_18 rfl (fun h => h)
theorem kX17_is_48 [Inhabited Orc] {G : GG} {sz : Nat} {sl : Nat} (a0 : Int) (td : TT) (c : CC) [hO : Nonempty (PLift (oOK AskK 0 (oD + 406) G (sz, sl, tt td, cv c)))] (x : Int) (h : fX17_is_48 a0 td c = some x) : Ct G yX17_is muX17_is_48 [(2, a0), (2, 48)] (sz, sl, tt td, cv c) ((0, x), (sz, sl, tt td, cv c)) :=
  Ct.of (n := 0) (ls0 := [some (2, a0), some (2, 48)]) (by decide) rfl rfl ⟨show (some .boolean : Option FieldType) ≠ some .float by decide, show (some .boolean : Option FieldType) ≠ some .double by decide⟩ (Nat.le_of_ble_eq_true rfl) rfl ⟨Nat.le_refl _, Nat.le_refl _⟩ (show (0 : Nat) ≠ 9 by decide) (fun Γ => sX17_is_48 a0 td c x h rfl)
theorem flX18_13 : FL RX18 13 16 1 := ⟨_, _, _, cf16, by decide, q775⟩
theorem mfX18_20 : ∀ ci y μy, SumK ci y μy → ∃ q, kCl[ci]? = some q ∧ MF RX18 20 q.1 (⟨"HeldTongue$Sum", "of", "(LHeldTongue$View;)J"⟩ : MethodName) y μy 1 := by
  intro ci y μy h
  unfold SumK at h
  rcases h with ⟨rfl, rfl, d, rfl⟩ | ⟨rfl, rfl, d, rfl⟩ | ⟨rfl, rfl, d, rfl⟩ | ⟨rfl, rfl, d, rfl⟩
  · exact ⟨_, rfl, lw_F q1132 q1024 q1026 q147 q1028, PP.fw (by decide) q1000 q999 q1027 q1025 q1023, by decide +kernel, Nat.le_of_ble_eq_true rfl⟩
  · exact ⟨_, rfl, lw_F q1132 q1002 q1004 q148 q1006, PP.fw (by decide) q1000 q999 q1005 q1003 q1001, by decide +kernel, Nat.le_of_ble_eq_true rfl⟩
  · exact ⟨_, rfl, lw_F q1132 q1008 q1010 q149 q1012, PP.fw (by decide) q1000 q999 q1011 q1009 q1007, by decide +kernel, Nat.le_of_ble_eq_true rfl⟩
  · exact ⟨_, rfl, lw_F q1132 q1016 q1018 q150 q1020, PP.fw (by decide) q1000 q999 q1019 q1017 q1015, by decide +kernel, Nat.le_of_ble_eq_true rfl⟩
theorem flX18_17 : FL RX18 17 16 2 := ⟨_, _, _, cf16, by decide, q776⟩
theorem flX18_7 : FL RX18 7 16 0 := ⟨_, _, _, cf16, by decide, q774⟩
abbrev muX18_is_48 [Inhabited Orc] : MI := (cX18_is, RX18, 6, some .boolean, oD + 411, "is")
noncomputable def fX18_is_48 [Inhabited Orc] (a0 : Int) (td : TT) (c : CC) : Option Int :=
  gd ((0 : Int) ≤ a0 ∧ (tt td (Int.toNat a0)).1 = 16) <|
   cl (fSum 400 td c (cv c (Int.toNat a0) 1)) fun p_1 =>
   gd ((0 : Int) ≤ a0 ∧ (tt td (Int.toNat a0)).1 = 16) <|
   cl (fSum 400 td c (cv c (Int.toNat a0) 2)) fun p_2 =>
   gd ((0 : Int) ≤ a0 ∧ (tt td (Int.toNat a0)).1 = 16) <|
   if cv c (Int.toNat a0) 0 = 60 then
  (if p_1 < p_2 then
  (gd ((0 : Int) ≤ 1 ∧ (1 : Int) < 2) (some 1))
  else
  (gd ((0 : Int) ≤ 0 ∧ (0 : Int) < 2) (some 0)))
  else if cv c (Int.toNat a0) 0 = 61 then
  (if p_1 = p_2 then
  (gd ((0 : Int) ≤ 1 ∧ (1 : Int) < 2) (some 1))
  else
  (gd ((0 : Int) ≤ 0 ∧ (0 : Int) < 2) (some 0)))
  else if cv c (Int.toNat a0) 0 = 62 then
  (if p_2 < p_1 then
  (gd ((0 : Int) ≤ 1 ∧ (1 : Int) < 2) (some 1))
  else
  (gd ((0 : Int) ≤ 0 ∧ (0 : Int) < 2) (some 0)))
  else if cv c (Int.toNat a0) 0 = 304 then
  (if p_2 < p_1 then
  (gd ((0 : Int) ≤ 0 ∧ (0 : Int) < 2) (some 0))
  else
  (gd ((0 : Int) ≤ 1 ∧ (1 : Int) < 2) (some 1)))
  else if cv c (Int.toNat a0) 0 = 305 then
  (if p_1 < p_2 then
  (gd ((0 : Int) ≤ 0 ∧ (0 : Int) < 2) (some 0))
  else
  (gd ((0 : Int) ≤ 1 ∧ (1 : Int) < 2) (some 1)))
  else (if p_1 = p_2 then
  (gd ((0 : Int) ≤ 0 ∧ (0 : Int) < 2) (some 0))
  else
  (gd ((0 : Int) ≤ 1 ∧ (1 : Int) < 2) (some 1)))
theorem sX18_is_48 [Inhabited Orc] {G : GG} {Γ : Cx} {r : Vv × Wd} {sz : Nat} {sl : Nat} (a0 : Int) (td : TT) (c : CC) [hO : Nonempty (PLift (oOK AskK 0 (oD + 406) G (sz, sl, tt td, cv c)))] : Sm (fX18_is_48 a0 td c) (fun x => r = ((0, x), (sz, sl, tt td, cv c))) (WP G Γ muX18_is_48 r 0 [some (2, a0), some (2, 48), none, none, none, none] [] (sz, sl, tt td, cv c)) := by
  unfold fX18_is_48
  refine s_aload_n (pc := 0) dX18_is_0 rfl ?_
  refine s_getD (pc := 1) flX18_13 rfl dX18_is_1 ?_
  refine s_aload_n (pc := 4) dX18_is_4 rfl ?_
  refine s_callFO (pc := 5) (D := 400) (z := cv c (Int.toNat a0) 1) (v := 48) (tg := 1) (st := []) (fun b h => kSum 400 td c (cv c (Int.toNat a0) 1) b h) mfX18_20 (by first | decide | exact Nat.le_trans (by decide) (Nat.le_add_left 411 _)) (Nat.le_of_ble_eq_true rfl) (Nat.le_of_ble_eq_true rfl) dX18_is_5 (fun p_1 => ?_)
  refine s_lstore_nD (pc := 10) (ls' := [some (2, a0), some (2, 48), some (1, p_1), none, none, none]) dX18_is_10 rfl (Nat.le_of_ble_eq_true rfl) ?_
  refine s_aload_n (pc := 11) dX18_is_11 rfl ?_
  refine s_getD (pc := 12) flX18_17 rfl dX18_is_12 ?_
  refine s_aload_n (pc := 15) dX18_is_15 rfl ?_
  refine s_callFO (pc := 16) (D := 400) (z := cv c (Int.toNat a0) 2) (v := 48) (tg := 1) (st := []) (fun b h => kSum 400 td c (cv c (Int.toNat a0) 2) b h) mfX18_20 (by first | decide | exact Nat.le_trans (by decide) (Nat.le_add_left 411 _)) (Nat.le_of_ble_eq_true rfl) (Nat.le_of_ble_eq_true rfl) dX18_is_16 (fun p_2 => ?_)
  refine s_lstoreD (pc := 21) (ls' := [some (2, a0), some (2, 48), some (1, p_1), none, some (1, p_2), none]) dX18_is_21 rfl (Nat.le_of_ble_eq_true rfl) ?_
  refine s_aload_n (pc := 23) dX18_is_23 rfl ?_
  refine s_getD (pc := 24) flX18_7 rfl dX18_is_24 ?_
  refine Sm.ite (fun hq_3 => ?_) (fun hq_3 => ?_)
  · refine s_lkp (pc := 27) (tgt := 76) (off := 49) dX18_is_27 (by decide) (by rw [hq_3]; decide) rfl ?_
    refine s_lload_n (pc := 76) dX18_is_76 rfl ?_
    refine s_lload (pc := 77) dX18_is_77 rfl ?_
    refine s_lcmp_ge (pc := 79) (tgt := 87) dX18_is_79 dX18_is_80 rfl ?_ ?_
    · refine s_iconst (pc := 87) dX18_is_87 ?_
      exact s_zret (pc := 88) dX18_is_88 rfl (fun h => h)
    refine s_iconst (pc := 83) dX18_is_83 ?_
    refine s_goto (pc := 84) (tgt := 88) dX18_is_84 rfl ?_
    exact s_zret (pc := 88) dX18_is_88 rfl (fun h => h)
  refine Sm.ite (fun hq_4 => ?_) (fun hq_4 => ?_)
  · refine s_lkp (pc := 27) (tgt := 128) (off := 101) dX18_is_27 (by decide) (by rw [hq_4]; decide) rfl ?_
    refine s_lload_n (pc := 128) dX18_is_128 rfl ?_
    refine s_lload (pc := 129) dX18_is_129 rfl ?_
    refine s_lcmp_ne (pc := 131) (tgt := 139) dX18_is_131 dX18_is_132 rfl ?_ ?_
    · refine s_iconst (pc := 139) dX18_is_139 ?_
      exact s_zret (pc := 140) dX18_is_140 rfl (fun h => h)
    refine s_iconst (pc := 135) dX18_is_135 ?_
    refine s_goto (pc := 136) (tgt := 140) dX18_is_136 rfl ?_
    exact s_zret (pc := 140) dX18_is_140 rfl (fun h => h)
  refine Sm.ite (fun hq_5 => ?_) (fun hq_5 => ?_)
  · refine s_lkp (pc := 27) (tgt := 102) (off := 75) dX18_is_27 (by decide) (by rw [hq_5]; decide) rfl ?_
    refine s_lload_n (pc := 102) dX18_is_102 rfl ?_
    refine s_lload (pc := 103) dX18_is_103 rfl ?_
    refine s_lcmp_le (pc := 105) (tgt := 113) dX18_is_105 dX18_is_106 rfl ?_ ?_
    · refine s_iconst (pc := 113) dX18_is_113 ?_
      exact s_zret (pc := 114) dX18_is_114 rfl (fun h => h)
    refine s_iconst (pc := 109) dX18_is_109 ?_
    refine s_goto (pc := 110) (tgt := 114) dX18_is_110 rfl ?_
    exact s_zret (pc := 114) dX18_is_114 rfl (fun h => h)
  refine Sm.ite (fun hq_6 => ?_) (fun hq_6 => ?_)
  · refine s_lkp (pc := 27) (tgt := 89) (off := 62) dX18_is_27 (by decide) (by rw [hq_6]; decide) rfl ?_
    refine s_lload_n (pc := 89) dX18_is_89 rfl ?_
    refine s_lload (pc := 90) dX18_is_90 rfl ?_
    refine s_lcmp_gt (pc := 92) (tgt := 100) dX18_is_92 dX18_is_93 rfl ?_ ?_
    · refine s_iconst (pc := 100) dX18_is_100 ?_
      exact s_zret (pc := 101) dX18_is_101 rfl (fun h => h)
    refine s_iconst (pc := 96) dX18_is_96 ?_
    refine s_goto (pc := 97) (tgt := 101) dX18_is_97 rfl ?_
    exact s_zret (pc := 101) dX18_is_101 rfl (fun h => h)
  refine Sm.ite (fun hq_7 => ?_) (fun hq_7 => ?_)
  · refine s_lkp (pc := 27) (tgt := 115) (off := 88) dX18_is_27 (by decide) (by rw [hq_7]; decide) rfl ?_
    refine s_lload_n (pc := 115) dX18_is_115 rfl ?_
    refine s_lload (pc := 116) dX18_is_116 rfl ?_
    refine s_lcmp_lt (pc := 118) (tgt := 126) dX18_is_118 dX18_is_119 rfl ?_ ?_
    · refine s_iconst (pc := 126) dX18_is_126 ?_
      exact s_zret (pc := 127) dX18_is_127 rfl (fun h => h)
    refine s_iconst (pc := 122) dX18_is_122 ?_
    refine s_goto (pc := 123) (tgt := 127) dX18_is_123 rfl ?_
    exact s_zret (pc := 127) dX18_is_127 rfl (fun h => h)
  refine s_lkp (pc := 27) (tgt := 141) (off := 114) dX18_is_27 (by decide) (by simp [Op.lookupswitch.offset_cons, Op.lookupswitch.offset_nil, Ne.symm hq_3, Ne.symm hq_4, Ne.symm hq_5, Ne.symm hq_6, Ne.symm hq_7]) rfl ?_
  refine s_lload_n (pc := 141) dX18_is_141 rfl ?_
  refine s_lload (pc := 142) dX18_is_142 rfl ?_
  refine s_lcmp_eq (pc := 144) (tgt := 152) dX18_is_144 dX18_is_145 rfl ?_ ?_
  · refine s_iconst (pc := 152) dX18_is_152 ?_
    exact s_zret (pc := 153) dX18_is_153 rfl (fun h => h)
  refine s_iconst (pc := 148) dX18_is_148 ?_
  refine s_goto (pc := 149) (tgt := 153) dX18_is_149 rfl ?_
  exact s_zret (pc := 153) dX18_is_153 rfl (fun h => h)
theorem kX18_is_48 [Inhabited Orc] {G : GG} {sz : Nat} {sl : Nat} (a0 : Int) (td : TT) (c : CC) [hO : Nonempty (PLift (oOK AskK 0 (oD + 406) G (sz, sl, tt td, cv c)))] (x : Int) (h : fX18_is_48 a0 td c = some x) : Ct G yX18_is muX18_is_48 [(2, a0), (2, 48)] (sz, sl, tt td, cv c) ((0, x), (sz, sl, tt td, cv c)) :=
  Ct.of (n := 4) (ls0 := [some (2, a0), some (2, 48), none, none, none, none]) (by decide) rfl rfl ⟨show (some .boolean : Option FieldType) ≠ some .float by decide, show (some .boolean : Option FieldType) ≠ some .double by decide⟩ (Nat.le_of_ble_eq_true rfl) rfl ⟨Nat.le_refl _, Nat.le_refl _⟩ (show (0 : Nat) ≠ 9 by decide) (fun Γ => sX18_is_48 a0 td c x h rfl)
theorem flX19_13 : FL RX19 13 17 1 := ⟨_, _, _, cf17, by decide, q791⟩
theorem mfX19_20 : ∀ ci y μy, AskK ci y μy → ∃ q, kCl[ci]? = some q ∧ MF RX19 20 q.1 (⟨"HeldTongue$Ask", "is", "(LHeldTongue$View;)Z"⟩ : MethodName) y μy 1 := by
  intro ci y μy h
  unfold AskK at h
  rcases h with ⟨rfl, rfl, d, rfl⟩ | ⟨rfl, rfl, d, rfl⟩ | ⟨rfl, rfl, d, rfl⟩
  · exact ⟨_, rfl, lw_F q1124 q1134 q1136 q151 q1138, PP.fw (by decide) q1116 q1115 q1137 q1135 q1133, by decide +kernel, Nat.le_of_ble_eq_true rfl⟩
  · exact ⟨_, rfl, lw_F q1124 q1126 q1128 q152 q1130, PP.fw (by decide) q1116 q1115 q1129 q1127 q1125, by decide +kernel, Nat.le_of_ble_eq_true rfl⟩
  · exact ⟨_, rfl, lw_F q1124 q1118 q1120 q153 q1122, PP.fw (by decide) q1116 q1115 q1121 q1119 q1117, by decide +kernel, Nat.le_of_ble_eq_true rfl⟩
theorem flX19_17 : FL RX19 17 17 2 := ⟨_, _, _, cf17, by decide, q792⟩
theorem flX19_7 : FL RX19 7 17 0 := ⟨_, _, _, cf17, by decide, q790⟩
abbrev muX19_is_48 [Inhabited Orc] : MI := (cX19_is, RX19, 4, some .boolean, oD + 411, "is")
noncomputable def fX19_is_48 [Inhabited Orc] (a0 : Int) (td : TT) (c : CC) : Option Int :=
  gd ((0 : Int) ≤ a0 ∧ (tt td (Int.toNat a0)).1 = 17) <|
   cl (oF (cv c (Int.toNat a0) 1)) fun p_1 =>
   gd ((0 : Int) ≤ a0 ∧ (tt td (Int.toNat a0)).1 = 17) <|
   cl (oF (cv c (Int.toNat a0) 2)) fun p_2 =>
   gd ((0 : Int) ≤ a0 ∧ (tt td (Int.toNat a0)).1 = 17) <|
   if cv c (Int.toNat a0) 0 = 0 then
  (if p_1 = 0 then
  (gd ((0 : Int) ≤ 0 ∧ (0 : Int) < 2) (some 0))
  else
  (if p_2 = 0 then
  (gd ((0 : Int) ≤ 0 ∧ (0 : Int) < 2) (some 0))
  else
  (gd ((0 : Int) ≤ 1 ∧ (1 : Int) < 2) (some 1))))
  else
  (if p_1 = 0 then
  (if p_2 = 0 then
  (gd ((0 : Int) ≤ 0 ∧ (0 : Int) < 2) (some 0))
  else
  (gd ((0 : Int) ≤ 1 ∧ (1 : Int) < 2) (some 1)))
  else
  (gd ((0 : Int) ≤ 1 ∧ (1 : Int) < 2) (some 1)))
theorem sX19_is_48 [Inhabited Orc] {G : GG} {Γ : Cx} {r : Vv × Wd} {sz : Nat} {sl : Nat} (a0 : Int) (td : TT) (c : CC) [hO : Nonempty (PLift (oOK AskK 0 (oD + 406) G (sz, sl, tt td, cv c)))] : Sm (fX19_is_48 a0 td c) (fun x => r = ((0, x), (sz, sl, tt td, cv c))) (WP G Γ muX19_is_48 r 0 [some (2, a0), some (2, 48), none, none] [] (sz, sl, tt td, cv c)) := by
  unfold fX19_is_48
  refine s_aload_n (pc := 0) dX19_is_0 rfl ?_
  refine s_getD (pc := 1) flX19_13 rfl dX19_is_1 ?_
  refine s_aload_n (pc := 4) dX19_is_4 rfl ?_
  refine s_callFO (pc := 5) (D := (oD + 406)) (z := cv c (Int.toNat a0) 1) (v := 48) (tg := 0) (st := []) (fun b h => hO.elim (fun q => q.down _ b h)) mfX19_20 (Nat.le_refl _) (Nat.le_of_ble_eq_true rfl) (Nat.le_of_ble_eq_true rfl) dX19_is_5 (fun p_1 => ?_)
  refine s_istore_nD (pc := 10) (ls' := [some (2, a0), some (2, 48), some (0, p_1), none]) dX19_is_10 rfl (Nat.le_of_ble_eq_true rfl) ?_
  refine s_aload_n (pc := 11) dX19_is_11 rfl ?_
  refine s_getD (pc := 12) flX19_17 rfl dX19_is_12 ?_
  refine s_aload_n (pc := 15) dX19_is_15 rfl ?_
  refine s_callFO (pc := 16) (D := (oD + 406)) (z := cv c (Int.toNat a0) 2) (v := 48) (tg := 0) (st := []) (fun b h => hO.elim (fun q => q.down _ b h)) mfX19_20 (Nat.le_refl _) (Nat.le_of_ble_eq_true rfl) (Nat.le_of_ble_eq_true rfl) dX19_is_16 (fun p_2 => ?_)
  refine s_istore_nD (pc := 21) (ls' := [some (2, a0), some (2, 48), some (0, p_1), some (0, p_2)]) dX19_is_21 rfl (Nat.le_of_ble_eq_true rfl) ?_
  refine s_aload_n (pc := 22) dX19_is_22 rfl ?_
  refine s_getD (pc := 23) flX19_7 rfl dX19_is_23 ?_
  refine s_if_eq (pc := 26) (tgt := 45) dX19_is_26 rfl ?_ ?_
  · refine s_iload_n (pc := 45) dX19_is_45 rfl ?_
    refine s_if_eq (pc := 46) (tgt := 57) dX19_is_46 rfl ?_ ?_
    · refine s_iconst (pc := 57) dX19_is_57 ?_
      exact s_zret (pc := 58) dX19_is_58 rfl (fun h => h)
    refine s_iload_n (pc := 49) dX19_is_49 rfl ?_
    refine s_if_eq (pc := 50) (tgt := 57) dX19_is_50 rfl ?_ ?_
    · refine s_iconst (pc := 57) dX19_is_57 ?_
      exact s_zret (pc := 58) dX19_is_58 rfl (fun h => h)
    refine s_iconst (pc := 53) dX19_is_53 ?_
    refine s_goto (pc := 54) (tgt := 58) dX19_is_54 rfl ?_
    exact s_zret (pc := 58) dX19_is_58 rfl (fun h => h)
  refine s_iload_n (pc := 29) dX19_is_29 rfl ?_
  refine s_if_ne (pc := 30) (tgt := 37) dX19_is_30 rfl ?_ ?_
  · refine s_iconst (pc := 37) dX19_is_37 ?_
    refine s_goto (pc := 38) (tgt := 58) dX19_is_38 rfl ?_
    exact s_zret (pc := 58) dX19_is_58 rfl (fun h => h)
  refine s_iload_n (pc := 33) dX19_is_33 rfl ?_
  refine s_if_eq (pc := 34) (tgt := 41) dX19_is_34 rfl ?_ ?_
  · refine s_iconst (pc := 41) dX19_is_41 ?_
    refine s_goto (pc := 42) (tgt := 58) dX19_is_42 rfl ?_
    exact s_zret (pc := 58) dX19_is_58 rfl (fun h => h)
  refine s_iconst (pc := 37) dX19_is_37 ?_
  refine s_goto (pc := 38) (tgt := 58) dX19_is_38 rfl ?_
  exact s_zret (pc := 58) dX19_is_58 rfl (fun h => h)
theorem kX19_is_48 [Inhabited Orc] {G : GG} {sz : Nat} {sl : Nat} (a0 : Int) (td : TT) (c : CC) [hO : Nonempty (PLift (oOK AskK 0 (oD + 406) G (sz, sl, tt td, cv c)))] (x : Int) (h : fX19_is_48 a0 td c = some x) : Ct G yX19_is muX19_is_48 [(2, a0), (2, 48)] (sz, sl, tt td, cv c) ((0, x), (sz, sl, tt td, cv c)) :=
  Ct.of (n := 2) (ls0 := [some (2, a0), some (2, 48), none, none]) (by decide) rfl rfl ⟨show (some .boolean : Option FieldType) ≠ some .float by decide, show (some .boolean : Option FieldType) ≠ some .double by decide⟩ (Nat.le_of_ble_eq_true rfl) rfl ⟨Nat.le_refl _, Nat.le_refl _⟩ (show (0 : Nat) ≠ 9 by decide) (fun Γ => sX19_is_48 a0 td c x h rfl)
noncomputable def fAsk : Nat → TT → CC → Int → Option Int
  | 0, _, _, _ => none
  | n + 1, td, c, z => if 0 ≤ z then if (tt td (Int.toNat z)).1 = 15 then @fX17_is_48 ⟨((fAsk n td c, n) : Orc)⟩ z td c else if (tt td (Int.toNat z)).1 = 16 then @fX18_is_48 ⟨((fAsk n td c, n) : Orc)⟩ z td c else if (tt td (Int.toNat z)).1 = 17 then @fX19_is_48 ⟨((fAsk n td c, n) : Orc)⟩ z td c else none else none
theorem kAsk {G : GG} {sz sl : Nat} (n : Nat) (td : TT) (c : CC) (z b : Int) (h : fAsk n td c z = some b) : IfC AskK G (n + 406) (sz, sl, tt td, cv c) 48 0 z b := by
  induction n generalizing z b with
  | zero => unfold fAsk at h; cases h
  | succ n ih =>
    unfold fAsk at h
    by_cases h0 : 0 ≤ z
    · rw [if_pos h0] at h
      by_cases h15 : (tt td (Int.toNat z)).1 = 15
      · rw [if_pos h15] at h
        refine ⟨z.toNat, 15, _, _, _, dyn_t h15, dyn_z h0, Or.inl ⟨rfl, rfl, _, rfl⟩, ?_, @kX17_is_48 ⟨((fAsk n td c, n) : Orc)⟩ G sz sl z td c ⟨⟨fun z b h => ih z b h⟩⟩ b h⟩
        show n + 411 ≤ n + 1 + 406 + 4
        omega
      rw [if_neg h15] at h
      by_cases h16 : (tt td (Int.toNat z)).1 = 16
      · rw [if_pos h16] at h
        refine ⟨z.toNat, 16, _, _, _, dyn_t h16, dyn_z h0, Or.inr (Or.inl ⟨rfl, rfl, _, rfl⟩), ?_, @kX18_is_48 ⟨((fAsk n td c, n) : Orc)⟩ G sz sl z td c ⟨⟨fun z b h => ih z b h⟩⟩ b h⟩
        show n + 411 ≤ n + 1 + 406 + 4
        omega
      rw [if_neg h16] at h
      by_cases h17 : (tt td (Int.toNat z)).1 = 17
      · rw [if_pos h17] at h
        refine ⟨z.toNat, 17, _, _, _, dyn_t h17, dyn_z h0, Or.inr (Or.inr (⟨rfl, rfl, _, rfl⟩)), ?_, @kX19_is_48 ⟨((fAsk n td c, n) : Orc)⟩ G sz sl z td c ⟨⟨fun z b h => ih z b h⟩⟩ b h⟩
        show n + 411 ≤ n + 1 + 406 + 4
        omega
      rw [if_neg h17] at h
      cases h
    · rw [if_neg h0] at h; cases h
abbrev muX0_dropped : MI := (cX0_dropped, RX0, 9, some .int, 811, "dropped")
abbrev gX0_dropped_l126 (G : GG) (Γ : Cx) (r : Vv × Wd) (sz sl : Nat) (td : TT) (c : CC) (v1 : Int) (v2 : Int) (v4 : Int) (v5 : Int) (v6 : Int) : (Int) → Prop := fun s => WP G Γ muX0_dropped r 126 [some (2, 43), some (0, v1), some (0, v2), some (2, 49), some (0, v4), some (2, v5), some (0, v6), some (0, s), none] [] (sz, sl, tt td, cv c)
abbrev eX0_dropped_l126 (G : GG) (Γ : Cx) (r : Vv × Wd) (sz sl : Nat) (td : TT) (c : CC) (v1 : Int) (v2 : Int) (v4 : Int) (v5 : Int) (v6 : Int) : ((Unit) ⊕ (Unit)) → Prop := (Sum.elim (fun s => WP G Γ muX0_dropped r 154 [none, none, none, none, some (0, v4), none, none, none, none] [] (sz, sl, tt td, cv c)) (fun s => WP G Γ muX0_dropped r 163 [some (2, 43), some (0, v1), some (0, v2), some (2, 49), some (0, v4), none, none, none, none] [] (sz, sl, tt td, cv c)))
noncomputable def fX0_dropped_l126 (v1 : Int) (v2 : Int) (v4 : Int) (v5 : Int) (v6 : Int) (v7 : Int) (td : TT) (c : CC) : Option ((Int) ⊕ ((Unit) ⊕ (Unit))) :=
  if v7 < v6 then
  (gd ((0 : Int) ≤ v5 ∧ (tt td (Int.toNat v5)).1 = 56 ∧ (0 : Int) ≤ v7 ∧ v7 < ((tt td (Int.toNat v5)).2 : Int)) <|
   bd (cv c (Int.toNat v5) (Int.toNat v7)) fun v8_8 =>
   cl (fAsk 400 td c v8_8) fun p_9 =>
   if p_9 = 0 then
  (gd (inR (v7 + 1)) <| bd (v7 + 1) fun v7_10 =>
   some (.inl v7_10))
  else
  (some (.inr (.inl ()))))
  else
  (some (.inr (.inr ())))
theorem sX0_dropped_l126 {G : GG} {Γ : Cx} {r : Vv × Wd} {sz : Nat} {sl : Nat} (v1 : Int) (v2 : Int) (v4 : Int) (v5 : Int) (v6 : Int) (v7 : Int) (td : TT) (c : CC) : Sm (fX0_dropped_l126 v1 v2 v4 v5 v6 v7 td c) (fun x => Sum.elim (gX0_dropped_l126 G Γ r sz sl td c v1 v2 v4 v5 v6) (eX0_dropped_l126 G Γ r sz sl td c v1 v2 v4 v5 v6) x) (gX0_dropped_l126 G Γ r sz sl td c v1 v2 v4 v5 v6 v7) := by
  show Sm _ _ (WP G Γ muX0_dropped r 126 [some (2, 43), some (0, v1), some (0, v2), some (2, 49), some (0, v4), some (2, v5), some (0, v6), some (0, v7), none] [] (sz, sl, tt td, cv c))
  unfold fX0_dropped_l126
  refine s_iload (pc := 126) dX0_dropped_126 rfl ?_
  refine s_iload (pc := 128) dX0_dropped_128 rfl ?_
  refine s_icmp_ge (pc := 130) (tgt := 163) dX0_dropped_130 rfl ?_ ?_
  · refine s_wk [true, true, true, true, true, false, false, false, true] (ls' := [some (2, 43), some (0, v1), some (0, v2), some (2, 49), some (0, v4), none, none, none, none]) rfl ?_
    exact Sm.some (fun h => h)
  refine s_aload (pc := 133) dX0_dropped_133 rfl ?_
  refine s_iload (pc := 135) dX0_dropped_135 rfl ?_
  refine s_aald6D (pc := 137) dX0_dropped_137 ?_
  refine s_astore (pc := 138) (lf := fun x => [some (2, 43), some (0, v1), some (0, v2), some (2, 49), some (0, v4), some (2, v5), some (0, v6), some (0, v7), some (2, x)]) dX0_dropped_138 (fun _ => rfl) (Nat.le_of_ble_eq_true rfl) (fun v8_8 => ?_)
  refine s_aload (pc := 140) dX0_dropped_140 rfl ?_
  refine s_aload_n (pc := 142) dX0_dropped_142 rfl ?_
  refine s_get (pc := 143) (a := 43) (v := 48) flX0_23 (t_43 _) rfl (g_43_2 _) rfl dX0_dropped_143 ?_
  refine s_callFO (pc := 146) (D := 806) (z := v8_8) (v := 48) (tg := 0) (st := []) (fun b h => kAsk 400 td c v8_8 b h) mfX0_326 (by decide) (Nat.le_of_ble_eq_true rfl) (Nat.le_of_ble_eq_true rfl) dX0_dropped_146 (fun p_9 => ?_)
  refine s_if_eq (pc := 151) (tgt := 157) dX0_dropped_151 rfl ?_ ?_
  · refine s_iinc (pc := 157) (lf := fun x => [some (2, 43), some (0, v1), some (0, v2), some (2, 49), some (0, v4), some (2, v5), some (0, v6), some (0, x), some (2, v8_8)]) dX0_dropped_157 rfl (fun _ => rfl) (Nat.le_of_ble_eq_true rfl) (fun v7_10 => ?_)
    refine s_goto (pc := 160) (tgt := 126) dX0_dropped_160 rfl ?_
    refine s_wk [true, true, true, true, true, true, true, true, false] (ls' := [some (2, 43), some (0, v1), some (0, v2), some (2, 49), some (0, v4), some (2, v5), some (0, v6), some (0, v7_10), none]) rfl ?_
    exact Sm.some (fun h => h)
  refine s_wk [false, false, false, false, true, false, false, false, false] (ls' := [none, none, none, none, some (0, v4), none, none, none, none]) rfl ?_
  exact Sm.some (fun h => h)
abbrev gX0_dropped_l57 (G : GG) (Γ : Cx) (r : Vv × Wd) (sz sl : Nat) (td : TT) (c : CC) (v1 : Int) (v2 : Int) : (Int × CC) → Prop := fun s => WP G Γ muX0_dropped r 57 [some (2, 43), some (0, v1), some (0, v2), some (2, 49), some (0, s.1), none, none, none, none] [] (sz, sl, tt td, cv s.2)
abbrev eX0_dropped_l57 (G : GG) (Γ : Cx) (r : Vv × Wd) (sz sl : Nat) (td : TT) (c : CC) (v1 : Int) (v2 : Int) : ((Int × CC) ⊕ (CC)) → Prop := (Sum.elim (fun s => WP G Γ muX0_dropped r 154 [none, none, none, none, some (0, s.1), none, none, none, none] [] (sz, sl, tt td, cv s.2)) (fun s => WP G Γ muX0_dropped r 169 [none, none, none, none, none, none, none, none, none] [] (sz, sl, tt td, cv s)))
noncomputable def fX0_dropped_l57 (v1 : Int) (v2 : Int) (v4 : Int) (td : TT) (c : CC) : Option ((Int × CC) ⊕ ((Int × CC) ⊕ (CC))) :=
  if v4 < c 43 35 then
  (if v1 = 2 then
  (gd ((0 : Int) ≤ v4 ∧ v4 < 25) <|
   bd (up2 c 49 3 (c 103 (Int.toNat v4))) fun c_1 =>
   gd ((0 : Int) ≤ v4 ∧ v4 < 25) <|
   bd (up2 c_1 49 4 (c_1 104 (Int.toNat v4))) fun c_2 =>
   gd ((0 : Int) ≤ v4 ∧ v4 < 25) <|
   gd (inR (v2 - (c_2 105 (Int.toNat v4)))) <|
   bd (up2 c_2 49 5 (v2 - (c_2 105 (Int.toNat v4)))) fun c_3 =>
   bd (up2 c_3 49 6 v4) fun c_4 =>
   cl (fX0_lexicon  td c_4) fun p_5 =>
   gd ((0 : Int) ≤ p_5 ∧ (tt td (Int.toNat p_5)).1 = 1) <|
   bd (cv c_4 (Int.toNat p_5) 1) fun v5_6 =>
   gd ((0 : Int) ≤ v5_6 ∧ (tt td (Int.toNat v5_6)).1 = 56 ∧ (tt td (Int.toNat v5_6)).2 < 2147483648) <|
   bd (((tt td (Int.toNat v5_6)).2 : Int)) fun v6_7 =>
   cl (wh (fun s => fX0_dropped_l126 v1 v2 v4 v5_6 v6_7 s td c_4) 0) (Sum.elim (fun e_11 =>
  some (.inr (.inl (v4, c_4)))) (fun e_12 =>
  gd (inR (v4 + 1)) <| bd (v4 + 1) fun v4_13 =>
   some (.inl (v4_13, c_4)))))
  else
  (some (.inr (.inr c))))
  else
  (some (.inr (.inr c)))
theorem sX0_dropped_l57 {G : GG} {Γ : Cx} {r : Vv × Wd} {sz : Nat} {sl : Nat} (v1 : Int) (v2 : Int) (v4 : Int) (td : TT) (c : CC) : Sm (fX0_dropped_l57 v1 v2 v4 td c) (fun x => Sum.elim (gX0_dropped_l57 G Γ r sz sl td c v1 v2) (eX0_dropped_l57 G Γ r sz sl td c v1 v2) x) (gX0_dropped_l57 G Γ r sz sl td c v1 v2 (v4, c)) := by
  show Sm _ _ (WP G Γ muX0_dropped r 57 [some (2, 43), some (0, v1), some (0, v2), some (2, 49), some (0, v4), none, none, none, none] [] (sz, sl, tt td, cv c))
  unfold fX0_dropped_l57
  refine s_iload (pc := 57) dX0_dropped_57 rfl ?_
  refine s_aload_n (pc := 59) dX0_dropped_59 rfl ?_
  refine s_get (pc := 60) (a := 43) (v := c 43 35) flX0_277 (t_43 _) rfl (g_43_35 _) rfl dX0_dropped_60 ?_
  refine s_icmp_ge (pc := 63) (tgt := 169) dX0_dropped_63 rfl ?_ ?_
  · refine s_wk [false, false, false, false, false, true, true, true, true] (ls' := [none, none, none, none, none, none, none, none, none]) rfl ?_
    exact Sm.some (fun h => h)
  refine s_iload_n (pc := 66) dX0_dropped_66 rfl ?_
  refine s_iconst (pc := 67) dX0_dropped_67 ?_
  refine s_icmp_ne (pc := 68) (tgt := 169) dX0_dropped_68 rfl ?_ ?_
  · refine s_wk [false, false, false, false, false, true, true, true, true] (ls' := [none, none, none, none, none, none, none, none, none]) rfl ?_
    exact Sm.some (fun h => h)
  refine s_aload_n (pc := 71) dX0_dropped_71 rfl ?_
  refine s_iconst (pc := 72) dX0_dropped_72 ?_
  refine s_aload_n (pc := 73) dX0_dropped_73 rfl ?_
  refine s_get (pc := 74) (a := 43) (v := 103) flX0_98 (t_43 _) rfl (g_43_31 _) rfl dX0_dropped_74 ?_
  refine s_iload (pc := 77) dX0_dropped_77 rfl ?_
  refine s_ialdM (pc := 79) (a := 103) (t_103 _) rfl r_103 dX0_dropped_79 ?_
  refine s_iastML (pc := 80) (a := 49) 3 rfl (Nat.le_of_ble_eq_true rfl) (t_49 _) rfl kO_49 r_49 dX0_dropped_80 (fun c_1 => ?_)
  refine s_aload_n (pc := 81) dX0_dropped_81 rfl ?_
  refine s_iconst (pc := 82) dX0_dropped_82 ?_
  refine s_aload_n (pc := 83) dX0_dropped_83 rfl ?_
  refine s_get (pc := 84) (a := 43) (v := 104) flX0_101 (t_43 _) rfl (g_43_32 _) rfl dX0_dropped_84 ?_
  refine s_iload (pc := 87) dX0_dropped_87 rfl ?_
  refine s_ialdM (pc := 89) (a := 104) (t_104 _) rfl r_104 dX0_dropped_89 ?_
  refine s_iastML (pc := 90) (a := 49) 4 rfl (Nat.le_of_ble_eq_true rfl) (t_49 _) rfl kO_49 r_49 dX0_dropped_90 (fun c_2 => ?_)
  refine s_aload_n (pc := 91) dX0_dropped_91 rfl ?_
  refine s_iconst (pc := 92) dX0_dropped_92 ?_
  refine s_iload_n (pc := 93) dX0_dropped_93 rfl ?_
  refine s_aload_n (pc := 94) dX0_dropped_94 rfl ?_
  refine s_get (pc := 95) (a := 43) (v := 105) flX0_104 (t_43 _) rfl (g_43_33 _) rfl dX0_dropped_95 ?_
  refine s_iload (pc := 98) dX0_dropped_98 rfl ?_
  refine s_ialdM (pc := 100) (a := 105) (t_105 _) rfl r_105 dX0_dropped_100 ?_
  refine s_isub (pc := 101) dX0_dropped_101 ?_
  refine s_iastML (pc := 102) (a := 49) 5 rfl (Nat.le_of_ble_eq_true rfl) (t_49 _) rfl kO_49 r_49 dX0_dropped_102 (fun c_3 => ?_)
  refine s_aload_n (pc := 103) dX0_dropped_103 rfl ?_
  refine s_bipush (pc := 104) dX0_dropped_104 ?_
  refine s_iload (pc := 106) dX0_dropped_106 rfl ?_
  refine s_iastML (pc := 108) (a := 49) 6 rfl (Nat.le_of_ble_eq_true rfl) (t_49 _) rfl kO_49 r_49 dX0_dropped_108 (fun c_4 => ?_)
  refine s_aload_n (pc := 109) dX0_dropped_109 rfl ?_
  refine s_callV3 (pc := 110) (a := 43) (as := []) (st := []) (rv := fun b => ((2, b), (sz, sl, tt td, cv c_4))) (st3 := fun b => [(2, b)]) (w3 := fun b => (sz, sl, tt td, cv c_4)) mvX0_186 (fun b h => kX0_lexicon  td c_4 b h) rfl (by decide) (t_43 td) rfl rfl rfl (Nat.le_of_ble_eq_true rfl) (fun _ => Nat.le_of_ble_eq_true rfl) (fun _ => ⟨rfl, rfl⟩) dX0_dropped_110 (fun p_5 => ?_)
  refine s_getDN (pc := 113) fnX0_322 rfl dX0_dropped_113 ?_
  refine s_astore (pc := 116) (lf := fun x => [some (2, 43), some (0, v1), some (0, v2), some (2, 49), some (0, v4), some (2, x), none, none, none]) dX0_dropped_116 (fun _ => rfl) (Nat.le_of_ble_eq_true rfl) (fun v5_6 => ?_)
  refine s_aload (pc := 118) dX0_dropped_118 rfl ?_
  refine s_alenD (pc := 120) (q := 6) (by decide) dX0_dropped_120 ?_
  refine s_istore (pc := 121) (lf := fun x => [some (2, 43), some (0, v1), some (0, v2), some (2, 49), some (0, v4), some (2, v5_6), some (0, x), none, none]) dX0_dropped_121 (fun _ => rfl) (Nat.le_of_ble_eq_true rfl) (fun v6_7 => ?_)
  refine s_iconst (pc := 123) dX0_dropped_123 ?_
  refine s_istoreD (pc := 124) (ls' := [some (2, 43), some (0, v1), some (0, v2), some (2, 49), some (0, v4), some (2, v5_6), some (0, v6_7), some (0, 0), none]) dX0_dropped_124 rfl (Nat.le_of_ble_eq_true rfl) ?_
  refine s_loop (g := gX0_dropped_l126 G Γ r sz sl td c_4 v1 v2 v4 v5_6 v6_7) (Ex := eX0_dropped_l126 G Γ r sz sl td c_4 v1 v2 v4 v5_6 v6_7) (s0 := 0) (fun s => sX0_dropped_l126 v1 v2 v4 v5_6 v6_7 s td c_4) ?_
  refine s_elim ?_ ?_
  · intro e_11
    show Sm _ _ (WP G Γ muX0_dropped r 154 [none, none, none, none, some (0, v4), none, none, none, none] [] (sz, sl, tt td, cv c_4))
    exact Sm.some (fun h => h)
  intro e_12
  show Sm _ _ (WP G Γ muX0_dropped r 163 [some (2, 43), some (0, v1), some (0, v2), some (2, 49), some (0, v4), none, none, none, none] [] (sz, sl, tt td, cv c_4))
  refine s_iinc (pc := 163) (lf := fun x => [some (2, 43), some (0, v1), some (0, v2), some (2, 49), some (0, x), none, none, none, none]) dX0_dropped_163 rfl (fun _ => rfl) (Nat.le_of_ble_eq_true rfl) (fun v4_13 => ?_)
  refine s_goto (pc := 166) (tgt := 57) dX0_dropped_166 rfl ?_
  exact Sm.some (fun h => h)
abbrev gX0_dropped_l10 (G : GG) (Γ : Cx) (r : Vv × Wd) (sz sl : Nat) (td : TT) (c : CC)  : (Int × Int) → Prop := fun s => WP G Γ muX0_dropped r 10 [some (2, 43), none, none, some (0, s.1), some (0, s.2), none, none, none, none] [] (sz, sl, tt td, cv c)
abbrev eX0_dropped_l10 (G : GG) (Γ : Cx) (r : Vv × Wd) (sz sl : Nat) (td : TT) (c : CC)  : (Int) → Prop := (fun s => WP G Γ muX0_dropped r 44 [none, none, none, some (0, s), none, none, none, none, none] [] (sz, sl, tt td, cv c))
noncomputable def fX0_dropped_l10 (v3 : Int) (v4 : Int) (td : TT) (c : CC) : Option ((Int × Int) ⊕ (Int)) :=
  if v4 < c 43 35 then
  (gd ((0 : Int) ≤ v4 ∧ v4 < 25) <|
   gd ((0 : Int) ≤ v3 ∧ v3 < 25) <|
   if c 104 (Int.toNat v4) < c 104 (Int.toNat v3) then
  (gd (inR (v4 + 1)) <| bd (v4 + 1) fun v4_17 =>
   some (.inl (v4, v4_17)))
  else
  (gd (inR (v4 + 1)) <| bd (v4 + 1) fun v4_16 =>
   some (.inl (v3, v4_16))))
  else
  (some (.inr v3))
theorem sX0_dropped_l10 {G : GG} {Γ : Cx} {r : Vv × Wd} {sz : Nat} {sl : Nat} (v3 : Int) (v4 : Int) (td : TT) (c : CC) : Sm (fX0_dropped_l10 v3 v4 td c) (fun x => Sum.elim (gX0_dropped_l10 G Γ r sz sl td c ) (eX0_dropped_l10 G Γ r sz sl td c ) x) (gX0_dropped_l10 G Γ r sz sl td c  (v3, v4)) := by
  show Sm _ _ (WP G Γ muX0_dropped r 10 [some (2, 43), none, none, some (0, v3), some (0, v4), none, none, none, none] [] (sz, sl, tt td, cv c))
  unfold fX0_dropped_l10
  refine s_iload (pc := 10) dX0_dropped_10 rfl ?_
  refine s_aload_n (pc := 12) dX0_dropped_12 rfl ?_
  refine s_get (pc := 13) (a := 43) (v := c 43 35) flX0_277 (t_43 _) rfl (g_43_35 _) rfl dX0_dropped_13 ?_
  refine s_icmp_ge (pc := 16) (tgt := 44) dX0_dropped_16 rfl ?_ ?_
  · refine s_wk [false, true, true, true, false, true, true, true, true] (ls' := [none, none, none, some (0, v3), none, none, none, none, none]) rfl ?_
    exact Sm.some (fun h => h)
  refine s_aload_n (pc := 19) dX0_dropped_19 rfl ?_
  refine s_get (pc := 20) (a := 43) (v := 104) flX0_101 (t_43 _) rfl (g_43_32 _) rfl dX0_dropped_20 ?_
  refine s_iload (pc := 23) dX0_dropped_23 rfl ?_
  refine s_ialdM (pc := 25) (a := 104) (t_104 _) rfl r_104 dX0_dropped_25 ?_
  refine s_aload_n (pc := 26) dX0_dropped_26 rfl ?_
  refine s_get (pc := 27) (a := 43) (v := 104) flX0_101 (t_43 _) rfl (g_43_32 _) rfl dX0_dropped_27 ?_
  refine s_iload_n (pc := 30) dX0_dropped_30 rfl ?_
  refine s_ialdM (pc := 31) (a := 104) (t_104 _) rfl r_104 dX0_dropped_31 ?_
  refine s_icmp_ge (pc := 32) (tgt := 38) dX0_dropped_32 rfl ?_ ?_
  · refine s_iinc (pc := 38) (lf := fun x => [some (2, 43), none, none, some (0, v3), some (0, x), none, none, none, none]) dX0_dropped_38 rfl (fun _ => rfl) (Nat.le_of_ble_eq_true rfl) (fun v4_16 => ?_)
    refine s_goto (pc := 41) (tgt := 10) dX0_dropped_41 rfl ?_
    exact Sm.some (fun h => h)
  refine s_iload (pc := 35) dX0_dropped_35 rfl ?_
  refine s_istore_nD (pc := 37) (ls' := [some (2, 43), none, none, some (0, v4), some (0, v4), none, none, none, none]) dX0_dropped_37 rfl (Nat.le_of_ble_eq_true rfl) ?_
  refine s_iinc (pc := 38) (lf := fun x => [some (2, 43), none, none, some (0, v4), some (0, x), none, none, none, none]) dX0_dropped_38 rfl (fun _ => rfl) (Nat.le_of_ble_eq_true rfl) (fun v4_17 => ?_)
  refine s_goto (pc := 41) (tgt := 10) dX0_dropped_41 rfl ?_
  exact Sm.some (fun h => h)
noncomputable def fX0_dropped (a1 : Int) (a2 : Int) (td : TT) (c : CC) : Option (Int × CC) :=
  if a1 = 1 then
  (cl (wh (fun s => fX0_dropped_l10  s.1 s.2 td c) (0, 1)) (fun e_18 =>
  some (e_18, c)))
  else
  (cl (wh (fun s => fX0_dropped_l57 a1 a2 s.1 td s.2) (0, c)) (Sum.elim (fun e_14 =>
  some (e_14.1, e_14.2)) (fun e_15 =>
  some (0, e_15))))
theorem sX0_dropped {G : GG} {Γ : Cx} {r : Vv × Wd} {sz : Nat} {sl : Nat} (a1 : Int) (a2 : Int) (td : TT) (c : CC) : Sm (fX0_dropped a1 a2 td c) (fun x => r = ((0, x.1), (sz, sl, tt td, cv x.2))) (WP G Γ muX0_dropped r 0 [some (2, 43), some (0, a1), some (0, a2), none, none, none, none, none, none] [] (sz, sl, tt td, cv c)) := by
  unfold fX0_dropped
  refine s_iload_n (pc := 0) dX0_dropped_0 rfl ?_
  refine s_iconst (pc := 1) dX0_dropped_1 ?_
  refine s_icmp_ne (pc := 2) (tgt := 46) dX0_dropped_2 rfl ?_ ?_
  · refine s_aload_n (pc := 46) dX0_dropped_46 rfl ?_
    refine s_get (pc := 47) (a := 43) (v := 48) flX0_23 (t_43 _) rfl (g_43_2 _) rfl dX0_dropped_47 ?_
    refine s_getNL (pc := 50) (a := 48) (v := 49) fnX0_293 (t_48 _) rfl (g_48_0 _) rfl dX0_dropped_50 ?_
    refine s_astore_nD (pc := 53) (ls' := [some (2, 43), some (0, a1), some (0, a2), some (2, 49), none, none, none, none, none]) dX0_dropped_53 rfl (Nat.le_of_ble_eq_true rfl) ?_
    refine s_iconst (pc := 54) dX0_dropped_54 ?_
    refine s_istoreD (pc := 55) (ls' := [some (2, 43), some (0, a1), some (0, a2), some (2, 49), some (0, 0), none, none, none, none]) dX0_dropped_55 rfl (Nat.le_of_ble_eq_true rfl) ?_
    refine s_loop (g := gX0_dropped_l57 G Γ r sz sl td c a1 a2) (Ex := eX0_dropped_l57 G Γ r sz sl td c a1 a2) (s0 := (0, c)) (fun s => sX0_dropped_l57 a1 a2 s.1 td s.2) ?_
    refine s_elim ?_ ?_
    · intro e_14
      show Sm _ _ (WP G Γ muX0_dropped r 154 [none, none, none, none, some (0, e_14.1), none, none, none, none] [] (sz, sl, tt td, cv e_14.2))
      refine s_iload (pc := 154) dX0_dropped_154 rfl ?_
      exact s_iret (pc := 156) dX0_dropped_156 rfl (fun h => h)
    intro e_15
    show Sm _ _ (WP G Γ muX0_dropped r 169 [none, none, none, none, none, none, none, none, none] [] (sz, sl, tt td, cv e_15))
    refine s_iconst (pc := 169) dX0_dropped_169 ?_
    exact s_iret (pc := 170) dX0_dropped_170 rfl (fun h => h)
  refine s_iconst (pc := 5) dX0_dropped_5 ?_
  refine s_istore_nD (pc := 6) (ls' := [some (2, 43), some (0, a1), some (0, a2), some (0, 0), none, none, none, none, none]) dX0_dropped_6 rfl (Nat.le_of_ble_eq_true rfl) ?_
  refine s_iconst (pc := 7) dX0_dropped_7 ?_
  refine s_istoreD (pc := 8) (ls' := [some (2, 43), some (0, a1), some (0, a2), some (0, 0), some (0, 1), none, none, none, none]) dX0_dropped_8 rfl (Nat.le_of_ble_eq_true rfl) ?_
  refine s_wk [true, false, false, true, true, true, true, true, true] (ls' := [some (2, 43), none, none, some (0, 0), some (0, 1), none, none, none, none]) rfl ?_
  refine s_loop (g := gX0_dropped_l10 G Γ r sz sl td c ) (Ex := eX0_dropped_l10 G Γ r sz sl td c ) (s0 := (0, 1)) (fun s => sX0_dropped_l10  s.1 s.2 td c) ?_
  intro e_18
  show Sm _ _ (WP G Γ muX0_dropped r 44 [none, none, none, some (0, e_18), none, none, none, none, none] [] (sz, sl, tt td, cv c))
  refine s_iload_n (pc := 44) dX0_dropped_44 rfl ?_
  exact s_iret (pc := 45) dX0_dropped_45 rfl (fun h => h)
theorem kX0_dropped {G : GG} {sz : Nat} {sl : Nat} (a1 : Int) (a2 : Int) (td : TT) (c : CC) (x : (Int × CC)) (h : fX0_dropped a1 a2 td c = some x) : Ct G yX0_dropped muX0_dropped [(2, 43), (0, a1), (0, a2)] (sz, sl, tt td, cv c) ((0, x.1), (sz, sl, tt td, cv x.2)) :=
  Ct.of (n := 6) (ls0 := [some (2, 43), some (0, a1), some (0, a2), none, none, none, none, none, none]) (by decide) rfl rfl ⟨show (some .int : Option FieldType) ≠ some .float by decide, show (some .int : Option FieldType) ≠ some .double by decide⟩ (Nat.le_of_ble_eq_true rfl) rfl ⟨Nat.le_refl _, Nat.le_refl _⟩ (show (0 : Nat) ≠ 9 by decide) (fun Γ => sX0_dropped a1 a2 td c x h rfl)
