/-! LAYER 2: HeldTongue.text, by gen/decomp2.py -/
set_option maxRecDepth 100000
abbrev muX5_init_52 : MI := (cX5_init, RX5, 3, none, 2, "<init>")
noncomputable def fX5_init_52 (a0 : Int) (a2 : Int) (td : TT) (c : CC) : Option CC :=
  gd ((0 : Int) ≤ a0) <|
   gd (168 ≤ a0 ∧ (tt td (Int.toNat a0)).1 = 4) <| bd (up2 c (Int.toNat a0) 0 52) fun c_1 =>
   gd (168 ≤ a0 ∧ (tt td (Int.toNat a0)).1 = 4) <| bd (up2 c_1 (Int.toNat a0) 1 a2) fun c_2 =>
   some c_2
theorem sX5_init_52 {G : GG} {Γ : Cx} {r : Vv × Wd} {sz : Nat} {sl : Nat} (a0 : Int) (a2 : Int) (td : TT) (c : CC) : Sm (fX5_init_52 a0 a2 td c) (fun x => r = ((3, 0), (sz, sl, tt td, cv x))) (WP G Γ muX5_init_52 r 0 [some (2, a0), some (2, 52), some (0, a2)] [] (sz, sl, tt td, cv c)) := by
  unfold fX5_init_52
  refine s_aload_n (pc := 0) dX5_init_0 rfl ?_
  refine s_objInitD (pc := 1) q364 q161 q162 (by decide) (Nat.le_of_ble_eq_true rfl) dX5_init_1 ?_
  refine s_aload_n (pc := 4) dX5_init_4 rfl ?_
  refine s_aload_n (pc := 5) dX5_init_5 rfl ?_
  refine s_putDM (pc := 6) fqX5_9 rfl fqX5_9t dX5_init_6 (fun c_1 => ?_)
  refine s_aload_n (pc := 9) dX5_init_9 rfl ?_
  refine s_iload_n (pc := 10) dX5_init_10 rfl ?_
  refine s_putDM (pc := 11) fqX5_15 rfl fqX5_15t dX5_init_11 (fun c_2 => ?_)
  exact s_vret (pc := 14) dX5_init_14 rfl (fun h => h)
theorem kX5_init_52 {G : GG} {sz : Nat} {sl : Nat} (a0 : Int) (a2 : Int) (td : TT) (c : CC) (x : CC) (h : fX5_init_52 a0 a2 td c = some x) : Ct G yX5_init muX5_init_52 [(2, a0), (2, 52), (0, a2)] (sz, sl, tt td, cv c) ((3, 0), (sz, sl, tt td, cv x)) :=
  Ct.of (n := 0) (ls0 := [some (2, a0), some (2, 52), some (0, a2)]) (by decide) rfl rfl ⟨show (none : Option FieldType) ≠ some .float by decide, show (none : Option FieldType) ≠ some .double by decide⟩ (Nat.le_of_ble_eq_true rfl) rfl ⟨Nat.le_refl _, Nat.le_refl _⟩ (show (3 : Nat) ≠ 9 by decide) (fun Γ => sX5_init_52 a0 a2 td c x h rfl)
theorem miX0_139_52 : MIn RX0 139 yX5_init muX5_init_52 2 := ⟨lw_meth q363, rfl, q130, q361, q362, rfl, by decide +kernel, by decide⟩
theorem mvX0_142 : MV RX0 142 RX5 yX5_read muX5_read 0 := ⟨lw_V q396 q397 q398 q130 q399, by decide +kernel, Nat.le_of_ble_eq_true rfl⟩
theorem fnX0_148 : FLNf RX0 148 5 6 := ⟨_, _, _, _, cf5, by decide, PP.nwF q542⟩
theorem fpX0_45 (nm : String) : FP RX0 45 0 14 nm := ⟨_, _, _, cf0, by decide, q227, Or.inl rfl⟩
theorem fpX0_45t : fty 0 14 ≠ .boolean ∧ fty 0 14 ≠ .byte ∧ fty 0 14 ≠ .char ∧ fty 0 14 ≠ .short := by decide
theorem fnX0_151 : FLNf RX0 151 5 7 := ⟨_, _, _, _, cf5, by decide, PP.nwF q544⟩
theorem fpX0_48 (nm : String) : FP RX0 48 0 15 nm := ⟨_, _, _, cf0, by decide, q228, Or.inl rfl⟩
theorem fpX0_48t : fty 0 15 ≠ .boolean ∧ fty 0 15 ≠ .byte ∧ fty 0 15 ≠ .char ∧ fty 0 15 ≠ .short := by decide
abbrev muX0_text : MI := (cX0_text, RX0, 3, some .int, 75, "text")
noncomputable def fX0_text  (sz : Nat) (sl : Nat) (td : TT) (c : CC) : Option (Int × Nat × Nat × TT × CC) :=
  if c 43 3 = 6 then
  (some ((-1), sz, sl, td, c))
  else
  (gd (kK ≤ sz) <| bd (upT td sz (4, 10)) fun tq_1 => bd (zc c sz 4) fun c_2 =>
   gd ((0 : Int) ≤ ((sz : Nat) : Int)) <| cl (fX5_init_52 (((sz : Nat) : Int)) (c_2 43 13) tq_1 c_2) fun p_3 =>
   bd (((sz : Nat) : Int)) fun v1_4 =>
   bd (up2 p_3 43 13 0) fun c_5 =>
   gd ((0 : Int) ≤ v1_4 ∧ (tt tq_1 (Int.toNat v1_4)).1 = 4) <| cl (fX5_read v1_4 (sz + 1) (sl + 10) tq_1 c_5) (Sum.elim (fun e => gd ((0 : Int) ≤ e.1 ∧ (tt e.2.2.2.1 (Int.toNat e.1)).1 = 5) <|
  gd ((0 : Int) ≤ e.1 ∧ (tt e.2.2.2.1 (Int.toNat e.1)).1 = 5) <|
   bd (up2 e.2.2.2.2 43 14 (cv e.2.2.2.2 (Int.toNat e.1) 6)) fun c_7 =>
   gd ((0 : Int) ≤ e.1 ∧ (tt e.2.2.2.1 (Int.toNat e.1)).1 = 5) <|
   bd (up2 c_7 43 15 (cv c_7 (Int.toNat e.1) 7)) fun c_8 =>
   some ((-1), e.2.1, e.2.2.1, e.2.2.2.1, c_8)) fun p_6 =>
   gd ((0 : Int) ≤ c_5 43 3 ∧ c_5 43 3 < 6 ∧ (0 : Int) ≤ p_6.1 ∧ (tt p_6.2.2.2.1 (Int.toNat p_6.1)).1 = 1) <| bd (up2 p_6.2.2.2.2 44 (Int.toNat (c_5 43 3)) p_6.1) fun c_9 =>
   bd (up2 c_9 43 14 0) fun c_10 =>
   bd (up2 c_10 43 15 (-1)) fun c_11 =>
   gd (inR ((c_11 43 3) + 1)) <|
   bd (up2 c_11 43 3 ((c_11 43 3) + 1)) fun c_12 =>
   some ((c_11 43 3), p_6.2.1, p_6.2.2.1, p_6.2.2.2.1, c_12)))
theorem sX0_text {G : GG} {Γ : Cx} {r : Vv × Wd}   (sz : Nat) (sl : Nat) (td : TT) (c : CC) (hTab : TabOK Γ) : Sm (fX0_text  sz sl td c) (fun x => r = ((0, x.1), (x.2.1, x.2.2.1, tt x.2.2.2.1, cv x.2.2.2.2))) (WP G Γ muX0_text r 0 [some (2, 43), none, none] [] (sz, sl, tt td, cv c)) := by
  unfold fX0_text
  refine s_aload_n (pc := 0) dX0_text_0 rfl ?_
  refine s_get (pc := 1) (a := 43) (v := c 43 3) flX0_134 (t_43 _) rfl (g_43_3 _) rfl dX0_text_1 ?_
  refine s_bipush (pc := 4) dX0_text_4 ?_
  refine s_icmp_ne (pc := 6) (tgt := 11) dX0_text_6 rfl ?_ ?_
  · refine s_newM (pc := 11) cf4 q359 q360 q130 dX0_text_11 (fun tq_1 c_2 => ?_)
    refine s_dup (pc := 14) (by decide : ¬ (2 : Nat) = 1) dX0_text_14 ?_
    refine s_aload_n (pc := 15) dX0_text_15 rfl ?_
    refine s_get (pc := 16) (a := 43) (v := 52) flX0_41 (t_43 _) rfl (g_43_12 _) rfl dX0_text_16 ?_
    refine s_aload_n (pc := 19) dX0_text_19 rfl ?_
    refine s_get (pc := 20) (a := 43) (v := c_2 43 13) flX0_123 (t_43 _) rfl (g_43_13 _) rfl dX0_text_20 ?_
    refine s_callI3 (pc := 23) (as := [(2, 52), (0, c_2 43 13)]) (st := [(2, ((sz : Nat) : Int))]) (rv := fun b => ((3, 0), (sz + 1, sl + 10, tt tq_1, cv b))) (st3 := fun b => [(2, ((sz : Nat) : Int))]) (w3 := fun b => (sz + 1, sl + 10, tt tq_1, cv b)) miX0_139_52 (fun b h => kX5_init_52 (((sz : Nat) : Int)) (c_2 43 13) tq_1 c_2 b h) rfl (by decide) rfl (Nat.le_of_ble_eq_true rfl) (fun _ => Nat.le_of_ble_eq_true rfl) (fun _ => ⟨rfl, rfl⟩) dX0_text_23 (fun p_3 => ?_)
    refine s_astore_n (pc := 26) (lf := fun x => [some (2, 43), some (2, x), none]) dX0_text_26 (fun _ => rfl) (Nat.le_of_ble_eq_true rfl) (fun v1_4 => ?_)
    refine s_aload_n (pc := 27) dX0_text_27 rfl ?_
    refine s_iconst (pc := 28) dX0_text_28 ?_
    refine s_putM (pc := 29) (a := 43) (fpX0_123 _) (t_43 _) rfl kO_43 n_43_13 rfl (fpX0_123t) dX0_text_29 (fun c_5 => ?_)
    refine s_aload_n (pc := 32) dX0_text_32 rfl ?_
    refine s_get (pc := 33) (a := 43) (v := 44) flX0_11 (t_43 _) rfl (g_43_0 _) rfl dX0_text_33 ?_
    refine s_aload_n (pc := 36) dX0_text_36 rfl ?_
    refine s_get (pc := 37) (a := 43) (v := c_5 43 3) flX0_134 (t_43 _) rfl (g_43_3 _) rfl dX0_text_37 ?_
    refine s_aload_n (pc := 40) dX0_text_40 rfl ?_
    refine s_callVEC (pc := 41) (ci := 4) (as := []) (st := [(0, c_5 43 3), (2, 44)]) (rv := fun b => ((2, b.1), (b.2.1, b.2.2.1, tt b.2.2.2.1, cv b.2.2.2.2))) (st3 := fun b => [(2, b.1), (0, c_5 43 3), (2, 44)]) (w3 := fun b => (b.2.1, b.2.2.1, tt b.2.2.2.1, cv b.2.2.2.2)) hTab rfl ⟨by decide, by decide⟩ mvX0_142 (fun b h => kX5_read v1_4 (sz + 1) (sl + 10) tq_1 c_5 b h) rfl (by decide) rfl rfl (Nat.le_of_ble_eq_true rfl) (fun _ => Nat.le_of_ble_eq_true rfl) (fun _ => ⟨rfl, rfl⟩) dX0_text_41 (fun e => ?_) (fun p_6 => ?_)
    · refine s_astore_nD (pc := 58) (ls' := [some (2, 43), some (2, v1_4), some (2, e.1)]) dX0_text_58 rfl (Nat.le_of_ble_eq_true rfl) ?_
      refine s_aload_n (pc := 59) dX0_text_59 rfl ?_
      refine s_aload_n (pc := 60) dX0_text_60 rfl ?_
      refine s_getDN (pc := 61) fnX0_148 rfl dX0_text_61 ?_
      refine s_putM (pc := 64) (a := 43) (fpX0_45 _) (t_43 _) rfl kO_43 n_43_14 rfl (fpX0_45t) dX0_text_64 (fun c_7 => ?_)
      refine s_aload_n (pc := 67) dX0_text_67 rfl ?_
      refine s_aload_n (pc := 68) dX0_text_68 rfl ?_
      refine s_getDN (pc := 69) fnX0_151 rfl dX0_text_69 ?_
      refine s_putM (pc := 72) (a := 43) (fpX0_48 _) (t_43 _) rfl kO_43 n_43_15 rfl (fpX0_48t) dX0_text_72 (fun c_8 => ?_)
      refine s_iconst (pc := 75) dX0_text_75 ?_
      exact s_iret (pc := 76) dX0_text_76 rfl (fun h => h)
    refine s_aastLM (pc := 44) (a := 44) (t_44 _) rfl kO_44 r_44 dX0_text_44 (fun c_9 => ?_)
    refine s_aload_n (pc := 45) dX0_text_45 rfl ?_
    refine s_iconst (pc := 46) dX0_text_46 ?_
    refine s_putM (pc := 47) (a := 43) (fpX0_45 _) (t_43 _) rfl kO_43 n_43_14 rfl (fpX0_45t) dX0_text_47 (fun c_10 => ?_)
    refine s_aload_n (pc := 50) dX0_text_50 rfl ?_
    refine s_iconst (pc := 51) dX0_text_51 ?_
    refine s_putM (pc := 52) (a := 43) (fpX0_48 _) (t_43 _) rfl kO_43 n_43_15 rfl (fpX0_48t) dX0_text_52 (fun c_11 => ?_)
    refine s_goto (pc := 55) (tgt := 77) dX0_text_55 rfl ?_
    refine s_aload_n (pc := 77) dX0_text_77 rfl ?_
    refine s_dup (pc := 78) (by decide : ¬ (2 : Nat) = 1) dX0_text_78 ?_
    refine s_get (pc := 79) (a := 43) (v := c_11 43 3) flX0_134 (t_43 _) rfl (g_43_3 _) rfl dX0_text_79 ?_
    refine s_dup_x1 (pc := 82) (by decide : ¬ (0 : Nat) = 1) (by decide : ¬ (2 : Nat) = 1) dX0_text_82 ?_
    refine s_iconst (pc := 83) dX0_text_83 ?_
    refine s_iadd (pc := 84) dX0_text_84 ?_
    refine s_putM (pc := 85) (a := 43) (fpX0_134 _) (t_43 _) rfl kO_43 n_43_3 rfl (fpX0_134t) dX0_text_85 (fun c_12 => ?_)
    exact s_iret (pc := 88) dX0_text_88 rfl (fun h => h)
  refine s_iconst (pc := 9) dX0_text_9 ?_
  exact s_iret (pc := 10) dX0_text_10 rfl (fun h => h)
theorem kX0_text {G : GG}   (sz : Nat) (sl : Nat) (td : TT) (c : CC) (x : (Int × Nat × Nat × TT × CC)) (h : fX0_text  sz sl td c = some x) : CtH G yX0_text muX0_text [(2, 43)] (sz, sl, tt td, cv c) ((0, x.1), (x.2.1, x.2.2.1, tt x.2.2.2.1, cv x.2.2.2.2)) :=
  CtH.of (n := 2) (ls0 := [some (2, 43), none, none]) (by decide) rfl rfl ⟨show (some .int : Option FieldType) ≠ some .float by decide, show (some .int : Option FieldType) ≠ some .double by decide⟩ (Nat.le_of_ble_eq_true rfl) rfl (sX0_text (G := G) (Γ := cxT)  sz sl td c cxT_ok x h rfl).1 (show (0 : Nat) ≠ 9 by decide) (fun Γ hT => sX0_text  sz sl td c hT x h rfl)
