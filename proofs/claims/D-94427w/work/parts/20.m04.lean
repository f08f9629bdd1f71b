/-! LAYER 2: methods of HeldTongueModel, by gen/decomp.py -/
set_option maxRecDepth 100000
abbrev muX4_inverse : MI := (cX4_inverse, RX4, 10, some .long, 1, "inverse")
noncomputable def fX4_inverse_j45 (v2 : Int) (v6 : Int) (v8 : Int) (w0 : Int) (c : CC) : Option ((Int × Int × Int) ⊕ (Int)) :=
  gd (inL (v6 * v6)) <|
   gd (v2 ≠ 0 ∧ inL (Int.tmod (v6 * v6) v2)) <|
   bd (Int.tmod (v6 * v6) v2) fun v6_3 =>
   gd ((2 : Int) ≠ 0 ∧ inL (Int.tdiv v8 2)) <|
   bd (Int.tdiv v8 2) fun v8_4 =>
   some (.inl (w0, v6_3, v8_4))
abbrev gX4_inverse_l15 (G : GG) (Γ : Cx) (r : Vv × Wd) (sz sl : Nat) (td : TT) (v2 : Int) (c : CC) : (Int × Int × Int) → Prop := fun s => WP G Γ muX4_inverse r 15 [none, none, some (1, v2), none, some (1, s.1), none, some (1, s.2.1), none, some (1, s.2.2), none] [] (sz, sl, tt td, cv c)
abbrev eX4_inverse_l15 (G : GG) (Γ : Cx) (r : Vv × Wd) (sz sl : Nat) (td : TT) (v2 : Int) (c : CC) : (Int) → Prop := (fun s => WP G Γ muX4_inverse r 67 [none, none, none, none, some (1, s), none, none, none, none, none] [] (sz, sl, tt td, cv c))
theorem sX4_inverse_j45 {G : GG} {Γ : Cx} {r : Vv × Wd} {sz sl : Nat} {td : TT} (v2 : Int) (v6 : Int) (v8 : Int) (w0 : Int) (c : CC) : Sm (fX4_inverse_j45 v2 v6 v8 w0 c) (fun x => Sum.elim (gX4_inverse_l15 G Γ r sz sl td v2 c) (eX4_inverse_l15 G Γ r sz sl td v2 c) x) (WP G Γ muX4_inverse r 45 [none, none, some (1, v2), none, none, none, some (1, v6), none, some (1, v8), none] [(1, w0)] (sz, sl, tt td, cv c)) := by
  unfold fX4_inverse_j45
  refine s_lstoreD (pc := 45) (ls' := [none, none, some (1, v2), none, some (1, w0), none, some (1, v6), none, some (1, v8), none]) dX4_inverse_45 rfl (Nat.le_of_ble_eq_true rfl) ?_
  refine s_lload (pc := 47) dX4_inverse_47 rfl ?_
  refine s_lload (pc := 49) dX4_inverse_49 rfl ?_
  refine s_lmul (pc := 51) dX4_inverse_51 ?_
  refine s_lload_n (pc := 52) dX4_inverse_52 rfl ?_
  refine s_lrem (pc := 53) dX4_inverse_53 ?_
  refine s_lstore (pc := 54) (lf := fun x => [none, none, some (1, v2), none, some (1, w0), none, some (1, x), none, some (1, v8), none]) dX4_inverse_54 (fun _ => rfl) (Nat.le_of_ble_eq_true rfl) (fun v6_3 => ?_)
  refine s_lload (pc := 56) dX4_inverse_56 rfl ?_
  refine s_ldc2 (pc := 58) (z := 2) q1717 dX4_inverse_58 ?_
  refine s_ldiv (pc := 61) dX4_inverse_61 ?_
  refine s_lstore (pc := 62) (lf := fun x => [none, none, some (1, v2), none, some (1, w0), none, some (1, v6_3), none, some (1, x), none]) dX4_inverse_62 (fun _ => rfl) (Nat.le_of_ble_eq_true rfl) (fun v8_4 => ?_)
  refine s_goto (pc := 64) (tgt := 15) dX4_inverse_64 rfl ?_
  exact Sm.some (fun h => h)
noncomputable def fX4_inverse_l15 (v2 : Int) (v4 : Int) (v6 : Int) (v8 : Int) (c : CC) : Option ((Int × Int × Int) ⊕ (Int)) :=
  if (0 : Int) < v8 then
  (gd ((2 : Int) ≠ 0 ∧ inL (Int.tmod v8 2)) <|
   if Int.tmod v8 2 = 1 then
  (gd (inL (v4 * v6)) <|
   gd (v2 ≠ 0 ∧ inL (Int.tmod (v4 * v6) v2)) <|
   fX4_inverse_j45 v2 v6 v8 (Int.tmod (v4 * v6) v2) c)
  else
  (fX4_inverse_j45 v2 v6 v8 v4 c))
  else
  (some (.inr v4))
theorem sX4_inverse_l15 {G : GG} {Γ : Cx} {r : Vv × Wd} {sz sl : Nat} {td : TT} (v2 : Int) (v4 : Int) (v6 : Int) (v8 : Int) (c : CC) : Sm (fX4_inverse_l15 v2 v4 v6 v8 c) (fun x => Sum.elim (gX4_inverse_l15 G Γ r sz sl td v2 c) (eX4_inverse_l15 G Γ r sz sl td v2 c) x) (gX4_inverse_l15 G Γ r sz sl td v2 c (v4, v6, v8)) := by
  show Sm _ _ (WP G Γ muX4_inverse r 15 [none, none, some (1, v2), none, some (1, v4), none, some (1, v6), none, some (1, v8), none] [] (sz, sl, tt td, cv c))
  unfold fX4_inverse_l15
  refine s_lload (pc := 15) dX4_inverse_15 rfl ?_
  refine s_lconst0 (pc := 17) dX4_inverse_17 ?_
  refine s_lcmp_le (pc := 18) (tgt := 67) dX4_inverse_18 dX4_inverse_19 rfl ?_ ?_
  · refine s_wk [true, true, false, true, true, true, false, true, false, true] (ls' := [none, none, none, none, some (1, v4), none, none, none, none, none]) rfl ?_
    exact Sm.some (fun h => h)
  refine s_lload (pc := 22) dX4_inverse_22 rfl ?_
  refine s_ldc2 (pc := 24) (z := 2) q1717 dX4_inverse_24 ?_
  refine s_lrem (pc := 27) dX4_inverse_27 ?_
  refine s_lconst1 (pc := 28) dX4_inverse_28 ?_
  refine s_lcmp_ne (pc := 29) (tgt := 43) dX4_inverse_29 dX4_inverse_30 rfl ?_ ?_
  · refine s_lload (pc := 43) dX4_inverse_43 rfl ?_
    refine s_wk [true, true, true, true, false, true, true, true, true, true] (ls' := [none, none, some (1, v2), none, none, none, some (1, v6), none, some (1, v8), none]) rfl ?_
    exact sX4_inverse_j45 v2 v6 v8 v4 c
  refine s_lload (pc := 33) dX4_inverse_33 rfl ?_
  refine s_lload (pc := 35) dX4_inverse_35 rfl ?_
  refine s_lmul (pc := 37) dX4_inverse_37 ?_
  refine s_lload_n (pc := 38) dX4_inverse_38 rfl ?_
  refine s_lrem (pc := 39) dX4_inverse_39 ?_
  refine s_goto (pc := 40) (tgt := 45) dX4_inverse_40 rfl ?_
  refine s_wk [true, true, true, true, false, true, true, true, true, true] (ls' := [none, none, some (1, v2), none, none, none, some (1, v6), none, some (1, v8), none]) rfl ?_
  exact sX4_inverse_j45 v2 v6 v8 (Int.tmod (v4 * v6) v2) c
noncomputable def fX4_inverse (a0 : Int) (a2 : Int) (c : CC) : Option Int :=
  gd (a2 ≠ 0 ∧ inL (Int.tmod a0 a2)) <|
   bd (Int.tmod a0 a2) fun v6_1 =>
   gd (inL (a2 - 2)) <|
   bd (a2 - 2) fun v8_2 =>
   cl (wh (fun s => fX4_inverse_l15 a2 s.1 s.2.1 s.2.2 c) (1, v6_1, v8_2)) (fun e_5 =>
  some e_5)
theorem sX4_inverse {G : GG} {Γ : Cx} {r : Vv × Wd} {sz sl : Nat} {td : TT} (a0 : Int) (a2 : Int) (c : CC) : Sm (fX4_inverse a0 a2 c) (fun x => r = ((1, x), (sz, sl, tt td, cv c))) (WP G Γ muX4_inverse r 0 [some (1, a0), none, some (1, a2), none, none, none, none, none, none, none] [] (sz, sl, tt td, cv c)) := by
  unfold fX4_inverse
  refine s_lconst1 (pc := 0) dX4_inverse_0 ?_
  refine s_lstoreD (pc := 1) (ls' := [some (1, a0), none, some (1, a2), none, some (1, 1), none, none, none, none, none]) dX4_inverse_1 rfl (Nat.le_of_ble_eq_true rfl) ?_
  refine s_lload_n (pc := 3) dX4_inverse_3 rfl ?_
  refine s_lload_n (pc := 4) dX4_inverse_4 rfl ?_
  refine s_lrem (pc := 5) dX4_inverse_5 ?_
  refine s_lstore (pc := 6) (lf := fun x => [some (1, a0), none, some (1, a2), none, some (1, 1), none, some (1, x), none, none, none]) dX4_inverse_6 (fun _ => rfl) (Nat.le_of_ble_eq_true rfl) (fun v6_1 => ?_)
  refine s_lload_n (pc := 8) dX4_inverse_8 rfl ?_
  refine s_ldc2 (pc := 9) (z := 2) q1717 dX4_inverse_9 ?_
  refine s_lsub (pc := 12) dX4_inverse_12 ?_
  refine s_lstore (pc := 13) (lf := fun x => [some (1, a0), none, some (1, a2), none, some (1, 1), none, some (1, v6_1), none, some (1, x), none]) dX4_inverse_13 (fun _ => rfl) (Nat.le_of_ble_eq_true rfl) (fun v8_2 => ?_)
  refine s_wk [false, true, true, true, true, true, true, true, true, true] (ls' := [none, none, some (1, a2), none, some (1, 1), none, some (1, v6_1), none, some (1, v8_2), none]) rfl ?_
  refine s_loop (g := gX4_inverse_l15 G Γ r sz sl td a2 c) (Ex := eX4_inverse_l15 G Γ r sz sl td a2 c) (s0 := (1, v6_1, v8_2)) (fun s => sX4_inverse_l15 a2 s.1 s.2.1 s.2.2 c) ?_
  intro e_5
  show Sm _ _ (WP G Γ muX4_inverse r 67 [none, none, none, none, some (1, e_5), none, none, none, none, none] [] (sz, sl, tt td, cv c))
  refine s_lload (pc := 67) dX4_inverse_67 rfl ?_
  exact s_lret (pc := 69) dX4_inverse_69 rfl (fun h => h)
theorem kX4_inverse {G : GG} {sz sl : Nat} {td : TT} (a0 : Int) (a2 : Int) (c : CC) (x : Int) (h : fX4_inverse a0 a2 c = some x) : Ct G yX4_inverse muX4_inverse [(1, a0), (1, a2)] (sz, sl, tt td, cv c) ((1, x), (sz, sl, tt td, cv c)) :=
  Ct.of (n := 6) (ls0 := [some (1, a0), none, some (1, a2), none, none, none, none, none, none, none]) (by decide) rfl rfl ⟨by decide, by decide⟩ (Nat.le_of_ble_eq_true rfl) rfl ⟨Nat.le_refl _, Nat.le_refl _⟩ (show (1 : Nat) ≠ 9 by decide) (fun Γ => sX4_inverse a0 a2 c x h rfl)
theorem flX4_103 : FL RX4 103 3 46 := ⟨_, _, _, cf3, by decide, q1290⟩
abbrev muX4_laysPrimes : MI := (cX4_laysPrimes, RX4, 1, none, 1, "laysPrimes")
noncomputable def fX4_laysPrimes  (c : CC) : Option CC :=
  bd (up2 c 140 0 2147483647) fun c_1 =>
   bd (up2 c_1 140 1 2147483629) fun c_2 =>
   bd (up2 c_2 140 2 2147483587) fun c_3 =>
   bd (up2 c_3 140 3 2147483579) fun c_4 =>
   bd (up2 c_4 140 4 2147483563) fun c_5 =>
   bd (up2 c_5 140 5 2147483549) fun c_6 =>
   some c_6
theorem sX4_laysPrimes {G : GG} {Γ : Cx} {r : Vv × Wd} {sz sl : Nat} {td : TT}  (c : CC) : Sm (fX4_laysPrimes  c) (fun x => r = ((3, 0), (sz, sl, tt td, cv x))) (WP G Γ muX4_laysPrimes r 0 [some (2, 111)] [] (sz, sl, tt td, cv c)) := by
  unfold fX4_laysPrimes
  refine s_aload_n (pc := 0) dX4_laysPrimes_0 rfl ?_
  refine s_get (pc := 1) (a := 111) (v := 140) flX4_103 (t_111 _) rfl (g_111_46 _) rfl dX4_laysPrimes_1 ?_
  refine s_iconst (pc := 4) dX4_laysPrimes_4 ?_
  refine s_ldc2 (pc := 5) (z := 2147483647) q1667 dX4_laysPrimes_5 ?_
  refine s_lastML (pc := 8) (a := 140) 0 rfl (Nat.le_of_ble_eq_true rfl) (t_140 _) rfl kO_140 r_140 dX4_laysPrimes_8 (fun c_1 => ?_)
  refine s_aload_n (pc := 9) dX4_laysPrimes_9 rfl ?_
  refine s_get (pc := 10) (a := 111) (v := 140) flX4_103 (t_111 _) rfl (g_111_46 _) rfl dX4_laysPrimes_10 ?_
  refine s_iconst (pc := 13) dX4_laysPrimes_13 ?_
  refine s_ldc2 (pc := 14) (z := 2147483629) q1668 dX4_laysPrimes_14 ?_
  refine s_lastML (pc := 17) (a := 140) 1 rfl (Nat.le_of_ble_eq_true rfl) (t_140 _) rfl kO_140 r_140 dX4_laysPrimes_17 (fun c_2 => ?_)
  refine s_aload_n (pc := 18) dX4_laysPrimes_18 rfl ?_
  refine s_get (pc := 19) (a := 111) (v := 140) flX4_103 (t_111 _) rfl (g_111_46 _) rfl dX4_laysPrimes_19 ?_
  refine s_iconst (pc := 22) dX4_laysPrimes_22 ?_
  refine s_ldc2 (pc := 23) (z := 2147483587) q1669 dX4_laysPrimes_23 ?_
  refine s_lastML (pc := 26) (a := 140) 2 rfl (Nat.le_of_ble_eq_true rfl) (t_140 _) rfl kO_140 r_140 dX4_laysPrimes_26 (fun c_3 => ?_)
  refine s_aload_n (pc := 27) dX4_laysPrimes_27 rfl ?_
  refine s_get (pc := 28) (a := 111) (v := 140) flX4_103 (t_111 _) rfl (g_111_46 _) rfl dX4_laysPrimes_28 ?_
  refine s_iconst (pc := 31) dX4_laysPrimes_31 ?_
  refine s_ldc2 (pc := 32) (z := 2147483579) q1670 dX4_laysPrimes_32 ?_
  refine s_lastML (pc := 35) (a := 140) 3 rfl (Nat.le_of_ble_eq_true rfl) (t_140 _) rfl kO_140 r_140 dX4_laysPrimes_35 (fun c_4 => ?_)
  refine s_aload_n (pc := 36) dX4_laysPrimes_36 rfl ?_
  refine s_get (pc := 37) (a := 111) (v := 140) flX4_103 (t_111 _) rfl (g_111_46 _) rfl dX4_laysPrimes_37 ?_
  refine s_iconst (pc := 40) dX4_laysPrimes_40 ?_
  refine s_ldc2 (pc := 41) (z := 2147483563) q1671 dX4_laysPrimes_41 ?_
  refine s_lastML (pc := 44) (a := 140) 4 rfl (Nat.le_of_ble_eq_true rfl) (t_140 _) rfl kO_140 r_140 dX4_laysPrimes_44 (fun c_5 => ?_)
  refine s_aload_n (pc := 45) dX4_laysPrimes_45 rfl ?_
  refine s_get (pc := 46) (a := 111) (v := 140) flX4_103 (t_111 _) rfl (g_111_46 _) rfl dX4_laysPrimes_46 ?_
  refine s_iconst (pc := 49) dX4_laysPrimes_49 ?_
  refine s_ldc2 (pc := 50) (z := 2147483549) q1672 dX4_laysPrimes_50 ?_
  refine s_lastML (pc := 53) (a := 140) 5 rfl (Nat.le_of_ble_eq_true rfl) (t_140 _) rfl kO_140 r_140 dX4_laysPrimes_53 (fun c_6 => ?_)
  exact s_vret (pc := 54) dX4_laysPrimes_54 rfl (fun h => h)
theorem kX4_laysPrimes {G : GG} {sz sl : Nat} {td : TT}  (c : CC) (x : CC) (h : fX4_laysPrimes  c = some x) : Ct G yX4_laysPrimes muX4_laysPrimes [(2, 111)] (sz, sl, tt td, cv c) ((3, 0), (sz, sl, tt td, cv x)) :=
  Ct.of (n := 0) (ls0 := [some (2, 111)]) (by decide) rfl rfl ⟨by decide, by decide⟩ (Nat.le_of_ble_eq_true rfl) rfl ⟨Nat.le_refl _, Nat.le_refl _⟩ (show (3 : Nat) ≠ 9 by decide) (fun Γ => sX4_laysPrimes  c x h rfl)
theorem flX4_109 : FL RX4 109 3 48 := ⟨_, _, _, cf3, by decide, q1292⟩
abbrev muX4_timesPlus : MI := (cX4_timesPlus, RX4, 10, none, 1, "timesPlus")
abbrev gX4_timesPlus_l6 (G : GG) (Γ : Cx) (r : Vv × Wd) (sz sl : Nat) (td : TT) (v1 : Int) : (Int × Int × CC) → Prop := fun s => WP G Γ muX4_timesPlus r 6 [some (2, 111), some (1, v1), none, none, none, some (1, s.1), none, some (0, s.2.1), none, none] [] (sz, sl, tt td, cv s.2.2)
abbrev eX4_timesPlus_l6 (G : GG) (Γ : Cx) (r : Vv × Wd) (sz sl : Nat) (td : TT) (v1 : Int) : (CC) → Prop := (fun s => WP G Γ muX4_timesPlus r 54 [none, none, none, none, none, none, none, none, none, none] [] (sz, sl, tt td, cv s))
noncomputable def fX4_timesPlus_l6 (v1 : Int) (v5 : Int) (v7 : Int) (c : CC) : Option ((Int × Int × CC) ⊕ (CC)) :=
  if v7 < 7 then
  (gd ((0 : Int) ≤ v7 ∧ v7 < 7) <|
   gd (inL ((c 142 (Int.toNat v7)) * v1)) <|
   gd (inL (((c 142 (Int.toNat v7)) * v1) + v5)) <|
   bd (((c 142 (Int.toNat v7)) * v1) + v5) fun v8_1 =>
   gd ((1000000000 : Int) ≠ 0 ∧ inL (Int.tmod v8_1 1000000000)) <|
   gd ((0 : Int) ≤ v7 ∧ v7 < 7) <| bd (up2 c 142 (Int.toNat v7) (Int.tmod v8_1 1000000000)) fun c_2 =>
   gd ((1000000000 : Int) ≠ 0 ∧ inL (Int.tdiv v8_1 1000000000)) <|
   bd (Int.tdiv v8_1 1000000000) fun v5_3 =>
   gd (inR (v7 + 1)) <| bd (v7 + 1) fun v7_4 =>
   some (.inl (v5_3, v7_4, c_2)))
  else
  (some (.inr c))
theorem sX4_timesPlus_l6 {G : GG} {Γ : Cx} {r : Vv × Wd} {sz sl : Nat} {td : TT} (v1 : Int) (v5 : Int) (v7 : Int) (c : CC) : Sm (fX4_timesPlus_l6 v1 v5 v7 c) (fun x => Sum.elim (gX4_timesPlus_l6 G Γ r sz sl td v1) (eX4_timesPlus_l6 G Γ r sz sl td v1) x) (gX4_timesPlus_l6 G Γ r sz sl td v1 (v5, v7, c)) := by
  show Sm _ _ (WP G Γ muX4_timesPlus r 6 [some (2, 111), some (1, v1), none, none, none, some (1, v5), none, some (0, v7), none, none] [] (sz, sl, tt td, cv c))
  unfold fX4_timesPlus_l6
  refine s_iload (pc := 6) dX4_timesPlus_6 rfl ?_
  refine s_bipush (pc := 8) dX4_timesPlus_8 ?_
  refine s_icmp_ge (pc := 10) (tgt := 54) dX4_timesPlus_10 rfl ?_ ?_
  · refine s_wk [false, false, true, true, true, false, true, false, true, true] (ls' := [none, none, none, none, none, none, none, none, none, none]) rfl ?_
    exact Sm.some (fun h => h)
  refine s_aload_n (pc := 13) dX4_timesPlus_13 rfl ?_
  refine s_get (pc := 14) (a := 111) (v := 142) flX4_109 (t_111 _) rfl (g_111_48 _) rfl dX4_timesPlus_14 ?_
  refine s_iload (pc := 17) dX4_timesPlus_17 rfl ?_
  refine s_laldM (pc := 19) (a := 142) (t_142 _) rfl r_142 dX4_timesPlus_19 ?_
  refine s_lload_n (pc := 20) dX4_timesPlus_20 rfl ?_
  refine s_lmul (pc := 21) dX4_timesPlus_21 ?_
  refine s_lload (pc := 22) dX4_timesPlus_22 rfl ?_
  refine s_ladd (pc := 24) dX4_timesPlus_24 ?_
  refine s_lstore (pc := 25) (lf := fun x => [some (2, 111), some (1, v1), none, none, none, some (1, v5), none, some (0, v7), some (1, x), none]) dX4_timesPlus_25 (fun _ => rfl) (Nat.le_of_ble_eq_true rfl) (fun v8_1 => ?_)
  refine s_aload_n (pc := 27) dX4_timesPlus_27 rfl ?_
  refine s_get (pc := 28) (a := 111) (v := 142) flX4_109 (t_111 _) rfl (g_111_48 _) rfl dX4_timesPlus_28 ?_
  refine s_iload (pc := 31) dX4_timesPlus_31 rfl ?_
  refine s_lload (pc := 33) dX4_timesPlus_33 rfl ?_
  refine s_ldc2 (pc := 35) (z := 1000000000) q1722 dX4_timesPlus_35 ?_
  refine s_lrem (pc := 38) dX4_timesPlus_38 ?_
  refine s_lastM (pc := 39) (a := 142) (t_142 _) rfl kO_142 r_142 dX4_timesPlus_39 (fun c_2 => ?_)
  refine s_lload (pc := 40) dX4_timesPlus_40 rfl ?_
  refine s_ldc2 (pc := 42) (z := 1000000000) q1722 dX4_timesPlus_42 ?_
  refine s_ldiv (pc := 45) dX4_timesPlus_45 ?_
  refine s_lstore (pc := 46) (lf := fun x => [some (2, 111), some (1, v1), none, none, none, some (1, x), none, some (0, v7), some (1, v8_1), none]) dX4_timesPlus_46 (fun _ => rfl) (Nat.le_of_ble_eq_true rfl) (fun v5_3 => ?_)
  refine s_iinc (pc := 48) (lf := fun x => [some (2, 111), some (1, v1), none, none, none, some (1, v5_3), none, some (0, x), some (1, v8_1), none]) dX4_timesPlus_48 rfl (fun _ => rfl) (Nat.le_of_ble_eq_true rfl) (fun v7_4 => ?_)
  refine s_goto (pc := 51) (tgt := 6) dX4_timesPlus_51 rfl ?_
  refine s_wk [true, true, true, true, true, true, true, true, false, true] (ls' := [some (2, 111), some (1, v1), none, none, none, some (1, v5_3), none, some (0, v7_4), none, none]) rfl ?_
  exact Sm.some (fun h => h)
noncomputable def fX4_timesPlus (a1 : Int) (a3 : Int) (c : CC) : Option CC :=
  cl (wh (fun s => fX4_timesPlus_l6 a1 s.1 s.2.1 s.2.2) (a3, 0, c)) (fun e_5 =>
  some e_5)
theorem sX4_timesPlus {G : GG} {Γ : Cx} {r : Vv × Wd} {sz sl : Nat} {td : TT} (a1 : Int) (a3 : Int) (c : CC) : Sm (fX4_timesPlus a1 a3 c) (fun x => r = ((3, 0), (sz, sl, tt td, cv x))) (WP G Γ muX4_timesPlus r 0 [some (2, 111), some (1, a1), none, some (1, a3), none, none, none, none, none, none] [] (sz, sl, tt td, cv c)) := by
  unfold fX4_timesPlus
  refine s_lload_n (pc := 0) dX4_timesPlus_0 rfl ?_
  refine s_lstoreD (pc := 1) (ls' := [some (2, 111), some (1, a1), none, some (1, a3), none, some (1, a3), none, none, none, none]) dX4_timesPlus_1 rfl (Nat.le_of_ble_eq_true rfl) ?_
  refine s_iconst (pc := 3) dX4_timesPlus_3 ?_
  refine s_istoreD (pc := 4) (ls' := [some (2, 111), some (1, a1), none, some (1, a3), none, some (1, a3), none, some (0, 0), none, none]) dX4_timesPlus_4 rfl (Nat.le_of_ble_eq_true rfl) ?_
  refine s_wk [true, true, true, false, true, true, true, true, true, true] (ls' := [some (2, 111), some (1, a1), none, none, none, some (1, a3), none, some (0, 0), none, none]) rfl ?_
  refine s_loop (g := gX4_timesPlus_l6 G Γ r sz sl td a1) (Ex := eX4_timesPlus_l6 G Γ r sz sl td a1) (s0 := (a3, 0, c)) (fun s => sX4_timesPlus_l6 a1 s.1 s.2.1 s.2.2) ?_
  intro e_5
  show Sm _ _ (WP G Γ muX4_timesPlus r 54 [none, none, none, none, none, none, none, none, none, none] [] (sz, sl, tt td, cv e_5))
  exact s_vret (pc := 54) dX4_timesPlus_54 rfl (fun h => h)
theorem kX4_timesPlus {G : GG} {sz sl : Nat} {td : TT} (a1 : Int) (a3 : Int) (c : CC) (x : CC) (h : fX4_timesPlus a1 a3 c = some x) : Ct G yX4_timesPlus muX4_timesPlus [(2, 111), (1, a1), (1, a3)] (sz, sl, tt td, cv c) ((3, 0), (sz, sl, tt td, cv x)) :=
  Ct.of (n := 5) (ls0 := [some (2, 111), some (1, a1), none, some (1, a3), none, none, none, none, none, none]) (by decide) rfl rfl ⟨by decide, by decide⟩ (Nat.le_of_ble_eq_true rfl) rfl ⟨Nat.le_refl _, Nat.le_refl _⟩ (show (3 : Nat) ≠ 9 by decide) (fun Γ => sX4_timesPlus a1 a3 c x h rfl)
theorem mvX4_437 : MV RX4 437 RX4 yX4_laysPrimes muX4_laysPrimes 0 := ⟨lw_V q1663 q1665 qs80 q129 q1666, by decide +kernel, by decide⟩
theorem mvX4_440 : MV RX4 440 RX4 yX4_laysSpans muX4_laysSpans 1 := ⟨lw_V q1673 q1675 qs81 q129 q1676, by decide +kernel, by decide⟩
theorem mvX4_444 : MV RX4 444 RX4 yX4_readings muX4_readings 0 := ⟨lw_V q1710 q1712 qs90 q129 q1713, by decide +kernel, by decide⟩
theorem flX4_106 : FL RX4 106 3 47 := ⟨_, _, _, cf3, by decide, q1291⟩
theorem msX4_448 : MS RX4 448 yX4_inverse muX4_inverse 2 := ⟨lw_S q1714 q1715 q129 q1716, by decide +kernel, by decide⟩
theorem mvX4_451 : MV RX4 451 RX4 yX4_timesPlus muX4_timesPlus 2 := ⟨lw_V q1718 q1720 qs91 q129 q1721, by decide +kernel, by decide⟩
abbrev muX4_count : MI := (cX4_count, RX4, 8, some .int, 4, "count")
abbrev gX4_count_l42 (G : GG) (Γ : Cx) (r : Vv × Wd) (sz sl : Nat) (td : TT) (v1 : Int) (v2 : Int) (c : CC) : (Int × Int) → Prop := fun s => WP G Γ muX4_count r 42 [some (2, 111), some (0, v1), some (0, v2), some (1, s.1), none, some (0, s.2), none, none] [] (sz, sl, tt td, cv c)
abbrev eX4_count_l42 (G : GG) (Γ : Cx) (r : Vv × Wd) (sz sl : Nat) (td : TT) (v1 : Int) (v2 : Int) (c : CC) : (Int) → Prop := (fun s => WP G Γ muX4_count r 113 [some (2, 111), some (0, v1), some (0, v2), some (1, s), none, none, none, none] [] (sz, sl, tt td, cv c))
noncomputable def fX4_count_l42 (v1 : Int) (v2 : Int) (v3 : Int) (v5 : Int) (c : CC) : Option ((Int × Int) ⊕ (Int)) :=
  if v5 < v2 then
  (gd ((0 : Int) ≤ v5 ∧ v5 < 6) <|
   gd ((0 : Int) ≤ v2 ∧ v2 < 6) <|
   gd (c 140 (Int.toNat v2) ≠ 0 ∧ inL (Int.tmod (c 141 (Int.toNat v5)) (c 140 (Int.toNat v2)))) <|
   gd (inL (v3 - (Int.tmod (c 141 (Int.toNat v5)) (c 140 (Int.toNat v2))))) <|
   gd ((0 : Int) ≤ v2 ∧ v2 < 6) <|
   gd (inL ((v3 - (Int.tmod (c 141 (Int.toNat v5)) (c 140 (Int.toNat v2)))) + (c 140 (Int.toNat v2)))) <|
   gd ((0 : Int) ≤ v2 ∧ v2 < 6) <|
   gd (c 140 (Int.toNat v2) ≠ 0 ∧ inL (Int.tmod ((v3 - (Int.tmod (c 141 (Int.toNat v5)) (c 140 (Int.toNat v2)))) + (c 140 (Int.toNat v2))) (c 140 (Int.toNat v2)))) <|
   bd (Int.tmod ((v3 - (Int.tmod (c 141 (Int.toNat v5)) (c 140 (Int.toNat v2)))) + (c 140 (Int.toNat v2))) (c 140 (Int.toNat v2))) fun v6_5 =>
   gd ((0 : Int) ≤ v5 ∧ v5 < 6) <|
   gd ((0 : Int) ≤ v2 ∧ v2 < 6) <|
   cl (fX4_inverse (c 140 (Int.toNat v5)) (c 140 (Int.toNat v2)) c) fun p_6 =>
   gd (inL (v6_5 * p_6)) <|
   gd ((0 : Int) ≤ v2 ∧ v2 < 6) <|
   gd (c 140 (Int.toNat v2) ≠ 0 ∧ inL (Int.tmod (v6_5 * p_6) (c 140 (Int.toNat v2)))) <|
   bd (Int.tmod (v6_5 * p_6) (c 140 (Int.toNat v2))) fun v3_7 =>
   gd (inR (v5 + 1)) <| bd (v5 + 1) fun v5_8 =>
   some (.inl (v3_7, v5_8)))
  else
  (some (.inr v3))
theorem sX4_count_l42 {G : GG} {Γ : Cx} {r : Vv × Wd} {sz sl : Nat} {td : TT} (v1 : Int) (v2 : Int) (v3 : Int) (v5 : Int) (c : CC) : Sm (fX4_count_l42 v1 v2 v3 v5 c) (fun x => Sum.elim (gX4_count_l42 G Γ r sz sl td v1 v2 c) (eX4_count_l42 G Γ r sz sl td v1 v2 c) x) (gX4_count_l42 G Γ r sz sl td v1 v2 c (v3, v5)) := by
  show Sm _ _ (WP G Γ muX4_count r 42 [some (2, 111), some (0, v1), some (0, v2), some (1, v3), none, some (0, v5), none, none] [] (sz, sl, tt td, cv c))
  unfold fX4_count_l42
  refine s_iload (pc := 42) dX4_count_42 rfl ?_
  refine s_iload_n (pc := 44) dX4_count_44 rfl ?_
  refine s_icmp_ge (pc := 45) (tgt := 113) dX4_count_45 rfl ?_ ?_
  · refine s_wk [true, true, true, true, true, false, true, true] (ls' := [some (2, 111), some (0, v1), some (0, v2), some (1, v3), none, none, none, none]) rfl ?_
    exact Sm.some (fun h => h)
  refine s_lload_n (pc := 48) dX4_count_48 rfl ?_
  refine s_aload_n (pc := 49) dX4_count_49 rfl ?_
  refine s_get (pc := 50) (a := 111) (v := 141) flX4_106 (t_111 _) rfl (g_111_47 _) rfl dX4_count_50 ?_
  refine s_iload (pc := 53) dX4_count_53 rfl ?_
  refine s_laldM (pc := 55) (a := 141) (t_141 _) rfl r_141 dX4_count_55 ?_
  refine s_aload_n (pc := 56) dX4_count_56 rfl ?_
  refine s_get (pc := 57) (a := 111) (v := 140) flX4_103 (t_111 _) rfl (g_111_46 _) rfl dX4_count_57 ?_
  refine s_iload_n (pc := 60) dX4_count_60 rfl ?_
  refine s_laldM (pc := 61) (a := 140) (t_140 _) rfl r_140 dX4_count_61 ?_
  refine s_lrem (pc := 62) dX4_count_62 ?_
  refine s_lsub (pc := 63) dX4_count_63 ?_
  refine s_aload_n (pc := 64) dX4_count_64 rfl ?_
  refine s_get (pc := 65) (a := 111) (v := 140) flX4_103 (t_111 _) rfl (g_111_46 _) rfl dX4_count_65 ?_
  refine s_iload_n (pc := 68) dX4_count_68 rfl ?_
  refine s_laldM (pc := 69) (a := 140) (t_140 _) rfl r_140 dX4_count_69 ?_
  refine s_ladd (pc := 70) dX4_count_70 ?_
  refine s_aload_n (pc := 71) dX4_count_71 rfl ?_
  refine s_get (pc := 72) (a := 111) (v := 140) flX4_103 (t_111 _) rfl (g_111_46 _) rfl dX4_count_72 ?_
  refine s_iload_n (pc := 75) dX4_count_75 rfl ?_
  refine s_laldM (pc := 76) (a := 140) (t_140 _) rfl r_140 dX4_count_76 ?_
  refine s_lrem (pc := 77) dX4_count_77 ?_
  refine s_lstore (pc := 78) (lf := fun x => [some (2, 111), some (0, v1), some (0, v2), some (1, v3), none, some (0, v5), some (1, x), none]) dX4_count_78 (fun _ => rfl) (Nat.le_of_ble_eq_true rfl) (fun v6_5 => ?_)
  refine s_lload (pc := 80) dX4_count_80 rfl ?_
  refine s_aload_n (pc := 82) dX4_count_82 rfl ?_
  refine s_get (pc := 83) (a := 111) (v := 140) flX4_103 (t_111 _) rfl (g_111_46 _) rfl dX4_count_83 ?_
  refine s_iload (pc := 86) dX4_count_86 rfl ?_
  refine s_laldM (pc := 88) (a := 140) (t_140 _) rfl r_140 dX4_count_88 ?_
  refine s_aload_n (pc := 89) dX4_count_89 rfl ?_
  refine s_get (pc := 90) (a := 111) (v := 140) flX4_103 (t_111 _) rfl (g_111_46 _) rfl dX4_count_90 ?_
  refine s_iload_n (pc := 93) dX4_count_93 rfl ?_
  refine s_laldM (pc := 94) (a := 140) (t_140 _) rfl r_140 dX4_count_94 ?_
  refine s_callS3 (pc := 95) (as := [(1, c 140 (Int.toNat v5)), (1, c 140 (Int.toNat v2))]) (st := [(1, v6_5)]) (rv := fun b => ((1, b), (sz, sl, tt td, cv c))) (st3 := fun b => [(1, b), (1, v6_5)]) (w3 := fun b => (sz, sl, tt td, cv c)) msX4_448 (fun b h => kX4_inverse (c 140 (Int.toNat v5)) (c 140 (Int.toNat v2)) c b h) rfl (by decide) rfl (Nat.le_of_ble_eq_true rfl) (fun _ => Nat.le_of_ble_eq_true rfl) (fun _ => ⟨rfl, rfl⟩) dX4_count_95 (fun p_6 => ?_)
  refine s_lmul (pc := 98) dX4_count_98 ?_
  refine s_aload_n (pc := 99) dX4_count_99 rfl ?_
  refine s_get (pc := 100) (a := 111) (v := 140) flX4_103 (t_111 _) rfl (g_111_46 _) rfl dX4_count_100 ?_
  refine s_iload_n (pc := 103) dX4_count_103 rfl ?_
  refine s_laldM (pc := 104) (a := 140) (t_140 _) rfl r_140 dX4_count_104 ?_
  refine s_lrem (pc := 105) dX4_count_105 ?_
  refine s_lstore_n (pc := 106) (lf := fun x => [some (2, 111), some (0, v1), some (0, v2), some (1, x), none, some (0, v5), some (1, v6_5), none]) dX4_count_106 (fun _ => rfl) (Nat.le_of_ble_eq_true rfl) (fun v3_7 => ?_)
  refine s_iinc (pc := 107) (lf := fun x => [some (2, 111), some (0, v1), some (0, v2), some (1, v3_7), none, some (0, x), some (1, v6_5), none]) dX4_count_107 rfl (fun _ => rfl) (Nat.le_of_ble_eq_true rfl) (fun v5_8 => ?_)
  refine s_goto (pc := 110) (tgt := 42) dX4_count_110 rfl ?_
  refine s_wk [true, true, true, true, true, true, false, true] (ls' := [some (2, 111), some (0, v1), some (0, v2), some (1, v3_7), none, some (0, v5_8), none, none]) rfl ?_
  exact Sm.some (fun h => h)
abbrev gX4_count_l18 (G : GG) (Γ : Cx) (r : Vv × Wd) (sz sl : Nat) (td : TT) (v1 : Int) : (Int × CC) → Prop := fun s => WP G Γ muX4_count r 18 [some (2, 111), some (0, v1), some (0, s.1), none, none, none, none, none] [] (sz, sl, tt td, cv s.2)
abbrev eX4_count_l18 (G : GG) (Γ : Cx) (r : Vv × Wd) (sz sl : Nat) (td : TT) (v1 : Int) : (CC) → Prop := (fun s => WP G Γ muX4_count r 126 [some (2, 111), some (0, v1), none, none, none, none, none, none] [] (sz, sl, tt td, cv s))
noncomputable def fX4_count_l18 (v1 : Int) (v2 : Int) (c : CC) : Option ((Int × CC) ⊕ (CC)) :=
  if v2 < 6 then
  (gd ((0 : Int) ≤ v2 ∧ v2 < 6) <|
   cl (fX4_laysSpans (c 140 (Int.toNat v2)) c) fun p_3 =>
   cl (fX4_readings  p_3) fun p_4 =>
   cl (wh (fun s => fX4_count_l42 v1 v2 s.1 s.2 p_3) (p_4, 0)) (fun e_9 =>
  gd ((0 : Int) ≤ v2 ∧ v2 < 6) <| bd (up2 p_3 141 (Int.toNat v2) e_9) fun c_10 =>
   gd (inR (v2 + 1)) <| bd (v2 + 1) fun v2_11 =>
   some (.inl (v2_11, c_10))))
  else
  (some (.inr c))
theorem sX4_count_l18 {G : GG} {Γ : Cx} {r : Vv × Wd} {sz sl : Nat} {td : TT} (v1 : Int) (v2 : Int) (c : CC) : Sm (fX4_count_l18 v1 v2 c) (fun x => Sum.elim (gX4_count_l18 G Γ r sz sl td v1) (eX4_count_l18 G Γ r sz sl td v1) x) (gX4_count_l18 G Γ r sz sl td v1 (v2, c)) := by
  show Sm _ _ (WP G Γ muX4_count r 18 [some (2, 111), some (0, v1), some (0, v2), none, none, none, none, none] [] (sz, sl, tt td, cv c))
  unfold fX4_count_l18
  refine s_iload_n (pc := 18) dX4_count_18 rfl ?_
  refine s_bipush (pc := 19) dX4_count_19 ?_
  refine s_icmp_ge (pc := 21) (tgt := 126) dX4_count_21 rfl ?_ ?_
  · refine s_wk [true, true, false, true, true, true, true, true] (ls' := [some (2, 111), some (0, v1), none, none, none, none, none, none]) rfl ?_
    exact Sm.some (fun h => h)
  refine s_aload_n (pc := 24) dX4_count_24 rfl ?_
  refine s_aload_n (pc := 25) dX4_count_25 rfl ?_
  refine s_get (pc := 26) (a := 111) (v := 140) flX4_103 (t_111 _) rfl (g_111_46 _) rfl dX4_count_26 ?_
  refine s_iload_n (pc := 29) dX4_count_29 rfl ?_
  refine s_laldM (pc := 30) (a := 140) (t_140 _) rfl r_140 dX4_count_30 ?_
  refine s_callV3 (pc := 31) (a := 111) (as := [(1, c 140 (Int.toNat v2))]) (st := []) (rv := fun b => ((3, 0), (sz, sl, tt td, cv b))) (st3 := fun b => []) (w3 := fun b => (sz, sl, tt td, cv b)) mvX4_440 (fun b h => kX4_laysSpans (c 140 (Int.toNat v2)) c b h) rfl (by decide) (t_111 td) rfl rfl rfl (Nat.le_of_ble_eq_true rfl) (fun _ => Nat.le_of_ble_eq_true rfl) (fun _ => ⟨rfl, rfl⟩) dX4_count_31 (fun p_3 => ?_)
  refine s_aload_n (pc := 34) dX4_count_34 rfl ?_
  refine s_callV3 (pc := 35) (a := 111) (as := []) (st := []) (rv := fun b => ((1, b), (sz, sl, tt td, cv p_3))) (st3 := fun b => [(1, b)]) (w3 := fun b => (sz, sl, tt td, cv p_3)) mvX4_444 (fun b h => kX4_readings  p_3 b h) rfl (by decide) (t_111 td) rfl rfl rfl (Nat.le_of_ble_eq_true rfl) (fun _ => Nat.le_of_ble_eq_true rfl) (fun _ => ⟨rfl, rfl⟩) dX4_count_35 (fun p_4 => ?_)
  refine s_lstore_nD (pc := 38) (ls' := [some (2, 111), some (0, v1), some (0, v2), some (1, p_4), none, none, none, none]) dX4_count_38 rfl (Nat.le_of_ble_eq_true rfl) ?_
  refine s_iconst (pc := 39) dX4_count_39 ?_
  refine s_istoreD (pc := 40) (ls' := [some (2, 111), some (0, v1), some (0, v2), some (1, p_4), none, some (0, 0), none, none]) dX4_count_40 rfl (Nat.le_of_ble_eq_true rfl) ?_
  refine s_loop (g := gX4_count_l42 G Γ r sz sl td v1 v2 p_3) (Ex := eX4_count_l42 G Γ r sz sl td v1 v2 p_3) (s0 := (p_4, 0)) (fun s => sX4_count_l42 v1 v2 s.1 s.2 p_3) ?_
  intro e_9
  show Sm _ _ (WP G Γ muX4_count r 113 [some (2, 111), some (0, v1), some (0, v2), some (1, e_9), none, none, none, none] [] (sz, sl, tt td, cv p_3))
  refine s_aload_n (pc := 113) dX4_count_113 rfl ?_
  refine s_get (pc := 114) (a := 111) (v := 141) flX4_106 (t_111 _) rfl (g_111_47 _) rfl dX4_count_114 ?_
  refine s_iload_n (pc := 117) dX4_count_117 rfl ?_
  refine s_lload_n (pc := 118) dX4_count_118 rfl ?_
  refine s_lastM (pc := 119) (a := 141) (t_141 _) rfl kO_141 r_141 dX4_count_119 (fun c_10 => ?_)
  refine s_iinc (pc := 120) (lf := fun x => [some (2, 111), some (0, v1), some (0, x), some (1, e_9), none, none, none, none]) dX4_count_120 rfl (fun _ => rfl) (Nat.le_of_ble_eq_true rfl) (fun v2_11 => ?_)
  refine s_goto (pc := 123) (tgt := 18) dX4_count_123 rfl ?_
  refine s_wk [true, true, true, false, true, true, true, true] (ls' := [some (2, 111), some (0, v1), some (0, v2_11), none, none, none, none, none]) rfl ?_
  exact Sm.some (fun h => h)
abbrev gX4_count_l128 (G : GG) (Γ : Cx) (r : Vv × Wd) (sz sl : Nat) (td : TT) (v1 : Int) : (Int × CC) → Prop := fun s => WP G Γ muX4_count r 128 [some (2, 111), some (0, v1), some (0, s.1), none, none, none, none, none] [] (sz, sl, tt td, cv s.2)
abbrev eX4_count_l128 (G : GG) (Γ : Cx) (r : Vv × Wd) (sz sl : Nat) (td : TT) (v1 : Int) : (CC) → Prop := (fun s => WP G Γ muX4_count r 147 [some (2, 111), some (0, v1), none, none, none, none, none, none] [] (sz, sl, tt td, cv s))
noncomputable def fX4_count_l128 (v1 : Int) (v2 : Int) (c : CC) : Option ((Int × CC) ⊕ (CC)) :=
  if v2 < 7 then
  (gd ((0 : Int) ≤ v2 ∧ v2 < 7) <| bd (up2 c 142 (Int.toNat v2) 0) fun c_13 =>
   gd (inR (v2 + 1)) <| bd (v2 + 1) fun v2_14 =>
   some (.inl (v2_14, c_13)))
  else
  (some (.inr c))
theorem sX4_count_l128 {G : GG} {Γ : Cx} {r : Vv × Wd} {sz sl : Nat} {td : TT} (v1 : Int) (v2 : Int) (c : CC) : Sm (fX4_count_l128 v1 v2 c) (fun x => Sum.elim (gX4_count_l128 G Γ r sz sl td v1) (eX4_count_l128 G Γ r sz sl td v1) x) (gX4_count_l128 G Γ r sz sl td v1 (v2, c)) := by
  show Sm _ _ (WP G Γ muX4_count r 128 [some (2, 111), some (0, v1), some (0, v2), none, none, none, none, none] [] (sz, sl, tt td, cv c))
  unfold fX4_count_l128
  refine s_iload_n (pc := 128) dX4_count_128 rfl ?_
  refine s_bipush (pc := 129) dX4_count_129 ?_
  refine s_icmp_ge (pc := 131) (tgt := 147) dX4_count_131 rfl ?_ ?_
  · refine s_wk [true, true, false, true, true, true, true, true] (ls' := [some (2, 111), some (0, v1), none, none, none, none, none, none]) rfl ?_
    exact Sm.some (fun h => h)
  refine s_aload_n (pc := 134) dX4_count_134 rfl ?_
  refine s_get (pc := 135) (a := 111) (v := 142) flX4_109 (t_111 _) rfl (g_111_48 _) rfl dX4_count_135 ?_
  refine s_iload_n (pc := 138) dX4_count_138 rfl ?_
  refine s_lconst0 (pc := 139) dX4_count_139 ?_
  refine s_lastM (pc := 140) (a := 142) (t_142 _) rfl kO_142 r_142 dX4_count_140 (fun c_13 => ?_)
  refine s_iinc (pc := 141) (lf := fun x => [some (2, 111), some (0, v1), some (0, x), none, none, none, none, none]) dX4_count_141 rfl (fun _ => rfl) (Nat.le_of_ble_eq_true rfl) (fun v2_14 => ?_)
  refine s_goto (pc := 144) (tgt := 128) dX4_count_144 rfl ?_
  exact Sm.some (fun h => h)
noncomputable def fX4_count_j169 (v1 : Int) (v2 : Int) (w0 : Int) (c : CC) : Option ((Int × CC) ⊕ (CC)) :=
  gd ((0 : Int) ≤ v2 ∧ v2 < 6) <|
   cl (fX4_timesPlus w0 (c 141 (Int.toNat v2)) c) fun p_16 =>
   gd (inR (v2 + -1)) <| bd (v2 + -1) fun v2_17 =>
   some (.inl (v2_17, p_16))
abbrev gX4_count_l149 (G : GG) (Γ : Cx) (r : Vv × Wd) (sz sl : Nat) (td : TT) (v1 : Int) : (Int × CC) → Prop := fun s => WP G Γ muX4_count r 149 [some (2, 111), some (0, v1), some (0, s.1), none, none, none, none, none] [] (sz, sl, tt td, cv s.2)
abbrev eX4_count_l149 (G : GG) (Γ : Cx) (r : Vv × Wd) (sz sl : Nat) (td : TT) (v1 : Int) : (CC) → Prop := (fun s => WP G Γ muX4_count r 184 [some (2, 111), some (0, v1), none, none, none, none, none, none] [] (sz, sl, tt td, cv s))
theorem sX4_count_j169 {G : GG} {Γ : Cx} {r : Vv × Wd} {sz sl : Nat} {td : TT} (v1 : Int) (v2 : Int) (w0 : Int) (c : CC) : Sm (fX4_count_j169 v1 v2 w0 c) (fun x => Sum.elim (gX4_count_l149 G Γ r sz sl td v1) (eX4_count_l149 G Γ r sz sl td v1) x) (WP G Γ muX4_count r 169 [some (2, 111), some (0, v1), some (0, v2), none, none, none, none, none] [(1, w0), (2, 111)] (sz, sl, tt td, cv c)) := by
  unfold fX4_count_j169
  refine s_aload_n (pc := 169) dX4_count_169 rfl ?_
  refine s_get (pc := 170) (a := 111) (v := 141) flX4_106 (t_111 _) rfl (g_111_47 _) rfl dX4_count_170 ?_
  refine s_iload_n (pc := 173) dX4_count_173 rfl ?_
  refine s_laldM (pc := 174) (a := 141) (t_141 _) rfl r_141 dX4_count_174 ?_
  refine s_callV3 (pc := 175) (a := 111) (as := [(1, w0), (1, c 141 (Int.toNat v2))]) (st := []) (rv := fun b => ((3, 0), (sz, sl, tt td, cv b))) (st3 := fun b => []) (w3 := fun b => (sz, sl, tt td, cv b)) mvX4_451 (fun b h => kX4_timesPlus w0 (c 141 (Int.toNat v2)) c b h) rfl (by decide) (t_111 td) rfl rfl rfl (Nat.le_of_ble_eq_true rfl) (fun _ => Nat.le_of_ble_eq_true rfl) (fun _ => ⟨rfl, rfl⟩) dX4_count_175 (fun p_16 => ?_)
  refine s_iinc (pc := 178) (lf := fun x => [some (2, 111), some (0, v1), some (0, x), none, none, none, none, none]) dX4_count_178 rfl (fun _ => rfl) (Nat.le_of_ble_eq_true rfl) (fun v2_17 => ?_)
  refine s_goto (pc := 181) (tgt := 149) dX4_count_181 rfl ?_
  exact Sm.some (fun h => h)
noncomputable def fX4_count_l149 (v1 : Int) (v2 : Int) (c : CC) : Option ((Int × CC) ⊕ (CC)) :=
  if v2 < 0 then
  (some (.inr c))
  else
  (if v2 = 5 then
  (fX4_count_j169 v1 v2 0 c)
  else
  (gd ((0 : Int) ≤ v2 ∧ v2 < 6) <|
   fX4_count_j169 v1 v2 (c 140 (Int.toNat v2)) c))
theorem sX4_count_l149 {G : GG} {Γ : Cx} {r : Vv × Wd} {sz sl : Nat} {td : TT} (v1 : Int) (v2 : Int) (c : CC) : Sm (fX4_count_l149 v1 v2 c) (fun x => Sum.elim (gX4_count_l149 G Γ r sz sl td v1) (eX4_count_l149 G Γ r sz sl td v1) x) (gX4_count_l149 G Γ r sz sl td v1 (v2, c)) := by
  show Sm _ _ (WP G Γ muX4_count r 149 [some (2, 111), some (0, v1), some (0, v2), none, none, none, none, none] [] (sz, sl, tt td, cv c))
  unfold fX4_count_l149
  refine s_iload_n (pc := 149) dX4_count_149 rfl ?_
  refine s_if_lt (pc := 150) (tgt := 184) dX4_count_150 rfl ?_ ?_
  · refine s_wk [true, true, false, true, true, true, true, true] (ls' := [some (2, 111), some (0, v1), none, none, none, none, none, none]) rfl ?_
    exact Sm.some (fun h => h)
  refine s_aload_n (pc := 153) dX4_count_153 rfl ?_
  refine s_iload_n (pc := 154) dX4_count_154 rfl ?_
  refine s_iconst (pc := 155) dX4_count_155 ?_
  refine s_icmp_ne (pc := 156) (tgt := 163) dX4_count_156 rfl ?_ ?_
  · refine s_aload_n (pc := 163) dX4_count_163 rfl ?_
    refine s_get (pc := 164) (a := 111) (v := 140) flX4_103 (t_111 _) rfl (g_111_46 _) rfl dX4_count_164 ?_
    refine s_iload_n (pc := 167) dX4_count_167 rfl ?_
    refine s_laldM (pc := 168) (a := 140) (t_140 _) rfl r_140 dX4_count_168 ?_
    exact sX4_count_j169 v1 v2 (c 140 (Int.toNat v2)) c
  refine s_lconst0 (pc := 159) dX4_count_159 ?_
  refine s_goto (pc := 160) (tgt := 169) dX4_count_160 rfl ?_
  exact sX4_count_j169 v1 v2 0 c
noncomputable def fX4_count (a1 : Int) (c : CC) : Option (Int × CC) :=
  cl (fX4_in a1 0 6) fun p_1 =>
   if p_1 = 0 then
  (some (-1, c))
  else
  (cl (fX4_laysPrimes  c) fun p_2 =>
   cl (wh (fun s => fX4_count_l18 a1 s.1 s.2) (0, p_2)) (fun e_12 =>
  cl (wh (fun s => fX4_count_l128 a1 s.1 s.2) (0, e_12)) (fun e_15 =>
  cl (wh (fun s => fX4_count_l149 a1 s.1 s.2) (5, e_15)) (fun e_18 =>
  gd ((0 : Int) ≤ a1 ∧ a1 < 7) <|
   gd (inR (e_18 142 (Int.toNat a1))) <|
   some (e_18 142 (Int.toNat a1), e_18)))))
theorem sX4_count {G : GG} {Γ : Cx} {r : Vv × Wd} {sz sl : Nat} {td : TT} (a1 : Int) (c : CC) : Sm (fX4_count a1 c) (fun x => r = ((0, x.1), (sz, sl, tt td, cv x.2))) (WP G Γ muX4_count r 0 [some (2, 111), some (0, a1), none, none, none, none, none, none] [] (sz, sl, tt td, cv c)) := by
  unfold fX4_count
  refine s_iload_n (pc := 0) dX4_count_0 rfl ?_
  refine s_iconst (pc := 1) dX4_count_1 ?_
  refine s_bipush (pc := 2) dX4_count_2 ?_
  refine s_callS3 (pc := 4) (as := [(0, a1), (0, 0), (0, 6)]) (st := []) (rv := fun b => ((0, b), (sz, sl, tt td, cv c))) (st3 := fun b => [(0, b)]) (w3 := fun b => (sz, sl, tt td, cv c)) msX4_199 (fun b h => kX4_in a1 0 6 c b h) rfl (by decide) rfl (Nat.le_of_ble_eq_true rfl) (fun _ => Nat.le_of_ble_eq_true rfl) (fun _ => ⟨rfl, rfl⟩) dX4_count_4 (fun p_1 => ?_)
  refine s_if_ne (pc := 7) (tgt := 12) dX4_count_7 rfl ?_ ?_
  · refine s_aload_n (pc := 12) dX4_count_12 rfl ?_
    refine s_callV3 (pc := 13) (a := 111) (as := []) (st := []) (rv := fun b => ((3, 0), (sz, sl, tt td, cv b))) (st3 := fun b => []) (w3 := fun b => (sz, sl, tt td, cv b)) mvX4_437 (fun b h => kX4_laysPrimes  c b h) rfl (by decide) (t_111 td) rfl rfl rfl (Nat.le_of_ble_eq_true rfl) (fun _ => Nat.le_of_ble_eq_true rfl) (fun _ => ⟨rfl, rfl⟩) dX4_count_13 (fun p_2 => ?_)
    refine s_iconst (pc := 16) dX4_count_16 ?_
    refine s_istore_nD (pc := 17) (ls' := [some (2, 111), some (0, a1), some (0, 0), none, none, none, none, none]) dX4_count_17 rfl (Nat.le_of_ble_eq_true rfl) ?_
    refine s_loop (g := gX4_count_l18 G Γ r sz sl td a1) (Ex := eX4_count_l18 G Γ r sz sl td a1) (s0 := (0, p_2)) (fun s => sX4_count_l18 a1 s.1 s.2) ?_
    intro e_12
    show Sm _ _ (WP G Γ muX4_count r 126 [some (2, 111), some (0, a1), none, none, none, none, none, none] [] (sz, sl, tt td, cv e_12))
    refine s_iconst (pc := 126) dX4_count_126 ?_
    refine s_istore_nD (pc := 127) (ls' := [some (2, 111), some (0, a1), some (0, 0), none, none, none, none, none]) dX4_count_127 rfl (Nat.le_of_ble_eq_true rfl) ?_
    refine s_loop (g := gX4_count_l128 G Γ r sz sl td a1) (Ex := eX4_count_l128 G Γ r sz sl td a1) (s0 := (0, e_12)) (fun s => sX4_count_l128 a1 s.1 s.2) ?_
    intro e_15
    show Sm _ _ (WP G Γ muX4_count r 147 [some (2, 111), some (0, a1), none, none, none, none, none, none] [] (sz, sl, tt td, cv e_15))
    refine s_iconst (pc := 147) dX4_count_147 ?_
    refine s_istore_nD (pc := 148) (ls' := [some (2, 111), some (0, a1), some (0, 5), none, none, none, none, none]) dX4_count_148 rfl (Nat.le_of_ble_eq_true rfl) ?_
    refine s_loop (g := gX4_count_l149 G Γ r sz sl td a1) (Ex := eX4_count_l149 G Γ r sz sl td a1) (s0 := (5, e_15)) (fun s => sX4_count_l149 a1 s.1 s.2) ?_
    intro e_18
    show Sm _ _ (WP G Γ muX4_count r 184 [some (2, 111), some (0, a1), none, none, none, none, none, none] [] (sz, sl, tt td, cv e_18))
    refine s_aload_n (pc := 184) dX4_count_184 rfl ?_
    refine s_get (pc := 185) (a := 111) (v := 142) flX4_109 (t_111 _) rfl (g_111_48 _) rfl dX4_count_185 ?_
    refine s_iload_n (pc := 188) dX4_count_188 rfl ?_
    refine s_laldM (pc := 189) (a := 142) (t_142 _) rfl r_142 dX4_count_189 ?_
    refine s_l2i (pc := 190) dX4_count_190 ?_
    exact s_iret (pc := 191) dX4_count_191 rfl (fun h => h)
  refine s_iconst (pc := 10) dX4_count_10 ?_
  exact s_iret (pc := 11) dX4_count_11 rfl (fun h => h)
theorem kX4_count {G : GG} {sz sl : Nat} {td : TT} (a1 : Int) (c : CC) (x : (Int × CC)) (h : fX4_count a1 c = some x) : Ct G yX4_count muX4_count [(2, 111), (0, a1)] (sz, sl, tt td, cv c) ((0, x.1), (sz, sl, tt td, cv x.2)) :=
  Ct.of (n := 6) (ls0 := [some (2, 111), some (0, a1), none, none, none, none, none, none]) (by decide) rfl rfl ⟨by decide, by decide⟩ (Nat.le_of_ble_eq_true rfl) rfl ⟨Nat.le_refl _, Nat.le_refl _⟩ (show (0 : Nat) ≠ 9 by decide) (fun Γ => sX4_count a1 c x h rfl)
abbrev muX4_upTo : MI := (cX4_upTo, RX4, 1, some .int, 1, "upTo")
noncomputable def fX4_upTo (a0 : Int) : Option Int :=
  if a0 = 3 then
  (some 5)
  else
  (if a0 = 4 then
  (some 3)
  else
  (some 1))
theorem sX4_upTo {G : GG} {Γ : Cx} {r : Vv × Wd} {sz sl : Nat} {td : TT} (a0 : Int) (c : CC) : Sm (fX4_upTo a0) (fun x => r = ((0, x), (sz, sl, tt td, cv c))) (WP G Γ muX4_upTo r 0 [some (0, a0)] [] (sz, sl, tt td, cv c)) := by
  unfold fX4_upTo
  refine s_iload_n (pc := 0) dX4_upTo_0 rfl ?_
  refine s_iconst (pc := 1) dX4_upTo_1 ?_
  refine s_icmp_ne (pc := 2) (tgt := 9) dX4_upTo_2 rfl ?_ ?_
  · refine s_iload_n (pc := 9) dX4_upTo_9 rfl ?_
    refine s_iconst (pc := 10) dX4_upTo_10 ?_
    refine s_icmp_ne (pc := 11) (tgt := 18) dX4_upTo_11 rfl ?_ ?_
    · refine s_iconst (pc := 18) dX4_upTo_18 ?_
      exact s_iret (pc := 19) dX4_upTo_19 rfl (fun h => h)
    refine s_iconst (pc := 14) dX4_upTo_14 ?_
    refine s_goto (pc := 15) (tgt := 19) dX4_upTo_15 rfl ?_
    exact s_iret (pc := 19) dX4_upTo_19 rfl (fun h => h)
  refine s_iconst (pc := 5) dX4_upTo_5 ?_
  refine s_goto (pc := 6) (tgt := 19) dX4_upTo_6 rfl ?_
  exact s_iret (pc := 19) dX4_upTo_19 rfl (fun h => h)
theorem kX4_upTo {G : GG} {sz sl : Nat} {td : TT} (a0 : Int) (c : CC) (x : Int) (h : fX4_upTo a0 = some x) : Ct G yX4_upTo muX4_upTo [(0, a0)] (sz, sl, tt td, cv c) ((0, x), (sz, sl, tt td, cv c)) :=
  Ct.of (n := 0) (ls0 := [some (0, a0)]) (by decide) rfl rfl ⟨by decide, by decide⟩ (Nat.le_of_ble_eq_true rfl) rfl ⟨Nat.le_refl _, Nat.le_refl _⟩ (show (0 : Nat) ≠ 9 by decide) (fun Γ => sX4_upTo a0 c x h rfl)
abbrev muX4_takes : MI := (cX4_takes, RX4, 2, some .int, 1, "takes")
noncomputable def fX4_takes (a0 : Int) (a1 : Int) : Option Int :=
  if a0 = 0 then
  (some 0)
  else if a0 = 1 then
  (some 2)
  else if a0 = 2 then
  (some 2)
  else if a0 = 3 then
  (some a1)
  else if a0 = 4 then
  (gd (inR (2 * a1)) <|
   some (2 * a1))
  else if a0 = 5 then
  (some 1)
  else (some 2)
theorem sX4_takes {G : GG} {Γ : Cx} {r : Vv × Wd} {sz sl : Nat} {td : TT} (a0 : Int) (a1 : Int) (c : CC) : Sm (fX4_takes a0 a1) (fun x => r = ((0, x), (sz, sl, tt td, cv c))) (WP G Γ muX4_takes r 0 [some (0, a0), some (0, a1)] [] (sz, sl, tt td, cv c)) := by
  unfold fX4_takes
  refine s_iload_n (pc := 0) dX4_takes_0 rfl ?_
  refine Sm.ite (fun hq_1 => ?_) (fun hq_1 => ?_)
  · refine s_tblIn (pc := 1) (tgt := 40) dX4_takes_1 0 hq_1 (by decide) rfl rfl ?_
    refine s_iconst (pc := 40) dX4_takes_40 ?_
    exact s_iret (pc := 41) dX4_takes_41 rfl (fun h => h)
  refine Sm.ite (fun hq_2 => ?_) (fun hq_2 => ?_)
  · refine s_tblIn (pc := 1) (tgt := 50) dX4_takes_1 1 hq_2 (by decide) rfl rfl ?_
    refine s_iconst (pc := 50) dX4_takes_50 ?_
    exact s_iret (pc := 51) dX4_takes_51 rfl (fun h => h)
  refine Sm.ite (fun hq_3 => ?_) (fun hq_3 => ?_)
  · refine s_tblIn (pc := 1) (tgt := 50) dX4_takes_1 2 hq_3 (by decide) rfl rfl ?_
    refine s_iconst (pc := 50) dX4_takes_50 ?_
    exact s_iret (pc := 51) dX4_takes_51 rfl (fun h => h)
  refine Sm.ite (fun hq_4 => ?_) (fun hq_4 => ?_)
  · refine s_tblIn (pc := 1) (tgt := 44) dX4_takes_1 3 hq_4 (by decide) rfl rfl ?_
    refine s_iload_n (pc := 44) dX4_takes_44 rfl ?_
    exact s_iret (pc := 45) dX4_takes_45 rfl (fun h => h)
  refine Sm.ite (fun hq_5 => ?_) (fun hq_5 => ?_)
  · refine s_tblIn (pc := 1) (tgt := 46) dX4_takes_1 4 hq_5 (by decide) rfl rfl ?_
    refine s_iconst (pc := 46) dX4_takes_46 ?_
    refine s_iload_n (pc := 47) dX4_takes_47 rfl ?_
    refine s_imul (pc := 48) dX4_takes_48 ?_
    exact s_iret (pc := 49) dX4_takes_49 rfl (fun h => h)
  refine Sm.ite (fun hq_6 => ?_) (fun hq_6 => ?_)
  · refine s_tblIn (pc := 1) (tgt := 42) dX4_takes_1 5 hq_6 (by decide) rfl rfl ?_
    refine s_iconst (pc := 42) dX4_takes_42 ?_
    exact s_iret (pc := 43) dX4_takes_43 rfl (fun h => h)
  refine s_tblOut (pc := 1) (tgt := 50) dX4_takes_1 (by omega) rfl ?_
  refine s_iconst (pc := 50) dX4_takes_50 ?_
  exact s_iret (pc := 51) dX4_takes_51 rfl (fun h => h)
theorem kX4_takes {G : GG} {sz sl : Nat} {td : TT} (a0 : Int) (a1 : Int) (c : CC) (x : Int) (h : fX4_takes a0 a1 = some x) : Ct G yX4_takes muX4_takes [(0, a0), (0, a1)] (sz, sl, tt td, cv c) ((0, x), (sz, sl, tt td, cv c)) :=
  Ct.of (n := 0) (ls0 := [some (0, a0), some (0, a1)]) (by decide) rfl rfl ⟨by decide, by decide⟩ (Nat.le_of_ble_eq_true rfl) rfl ⟨Nat.le_refl _, Nat.le_refl _⟩ (show (0 : Nat) ≠ 9 by decide) (fun Γ => sX4_takes a0 a1 c x h rfl)
abbrev muX4_takenKind : MI := (cX4_takenKind, RX4, 6, some .int, 1, "takenKind")
noncomputable def fX4_takenKind_j49 (v1 : Int) (w0 : Int) (c : CC) : Option Int :=
  if w0 = 0 then
  (gd ((0 : Int) ≤ v1 ∧ v1 < 144) <|
   some (c 120 (Int.toNat v1)))
  else
  (gd ((0 : Int) ≤ v1 ∧ v1 < 144) <|
   some (c 121 (Int.toNat v1)))
theorem sX4_takenKind_j49 {G : GG} {Γ : Cx} {r : Vv × Wd} {sz sl : Nat} {td : TT} (v1 : Int) (w0 : Int) (c : CC) : Sm (fX4_takenKind_j49 v1 w0 c) (fun x => r = ((0, x), (sz, sl, tt td, cv c))) (WP G Γ muX4_takenKind r 49 [some (2, 111), some (0, v1), none, none, none, none] [(0, w0)] (sz, sl, tt td, cv c)) := by
  unfold fX4_takenKind_j49
  refine s_istoreD (pc := 49) (ls' := [some (2, 111), some (0, v1), none, none, none, some (0, w0)]) dX4_takenKind_49 rfl (Nat.le_of_ble_eq_true rfl) ?_
  refine s_iload (pc := 51) dX4_takenKind_51 rfl ?_
  refine s_if_eq (pc := 53) (tgt := 65) dX4_takenKind_53 rfl ?_ ?_
  · refine s_aload_n (pc := 65) dX4_takenKind_65 rfl ?_
    refine s_get (pc := 66) (a := 111) (v := 120) flX4_42 (t_111 _) rfl (g_111_11 _) rfl dX4_takenKind_66 ?_
    refine s_iload_n (pc := 69) dX4_takenKind_69 rfl ?_
    refine s_ialdM (pc := 70) (a := 120) (t_120 _) rfl r_120 dX4_takenKind_70 ?_
    exact s_iret (pc := 71) dX4_takenKind_71 rfl (fun h => h)
  refine s_aload_n (pc := 56) dX4_takenKind_56 rfl ?_
  refine s_get (pc := 57) (a := 111) (v := 121) flX4_45 (t_111 _) rfl (g_111_12 _) rfl dX4_takenKind_57 ?_
  refine s_iload_n (pc := 60) dX4_takenKind_60 rfl ?_
  refine s_ialdM (pc := 61) (a := 121) (t_121 _) rfl r_121 dX4_takenKind_61 ?_
  refine s_goto (pc := 62) (tgt := 71) dX4_takenKind_62 rfl ?_
  exact s_iret (pc := 71) dX4_takenKind_71 rfl (fun h => h)
noncomputable def fX4_takenKind_j48 (v1 : Int) (c : CC) : Option Int :=
  fX4_takenKind_j49 v1 0 c
theorem sX4_takenKind_j48 {G : GG} {Γ : Cx} {r : Vv × Wd} {sz sl : Nat} {td : TT} (v1 : Int) (c : CC) : Sm (fX4_takenKind_j48 v1 c) (fun x => r = ((0, x), (sz, sl, tt td, cv c))) (WP G Γ muX4_takenKind r 48 [some (2, 111), some (0, v1), none, none, none, none] [] (sz, sl, tt td, cv c)) := by
  unfold fX4_takenKind_j48
  refine s_iconst (pc := 48) dX4_takenKind_48 ?_
  exact sX4_takenKind_j49 v1 0 c
noncomputable def fX4_takenKind_j39 (v1 : Int) (v3 : Int) (c : CC) : Option Int :=
  if v3 = 1 then
  (fX4_takenKind_j49 v1 1 c)
  else
  (fX4_takenKind_j48 v1 c)
theorem sX4_takenKind_j39 {G : GG} {Γ : Cx} {r : Vv × Wd} {sz sl : Nat} {td : TT} (v1 : Int) (v3 : Int) (c : CC) : Sm (fX4_takenKind_j39 v1 v3 c) (fun x => r = ((0, x), (sz, sl, tt td, cv c))) (WP G Γ muX4_takenKind r 39 [some (2, 111), some (0, v1), none, some (0, v3), none, none] [] (sz, sl, tt td, cv c)) := by
  unfold fX4_takenKind_j39
  refine s_iload_n (pc := 39) dX4_takenKind_39 rfl ?_
  refine s_iconst (pc := 40) dX4_takenKind_40 ?_
  refine s_icmp_ne (pc := 41) (tgt := 48) dX4_takenKind_41 rfl ?_ ?_
  · refine s_wk [true, true, true, false, true, true] (ls' := [some (2, 111), some (0, v1), none, none, none, none]) rfl ?_
    exact sX4_takenKind_j48 v1 c
  refine s_iconst (pc := 44) dX4_takenKind_44 ?_
  refine s_goto (pc := 45) (tgt := 49) dX4_takenKind_45 rfl ?_
  refine s_wk [true, true, true, false, true, true] (ls' := [some (2, 111), some (0, v1), none, none, none, none]) rfl ?_
  exact sX4_takenKind_j49 v1 1 c
noncomputable def fX4_takenKind (a1 : Int) (a2 : Int) (a3 : Int) (c : CC) : Option Int :=
  gd ((0 : Int) ≤ a1 ∧ a1 < 144) <|
   bd (c 119 (Int.toNat a1)) fun v4_1 =>
   if v4_1 = 4 then
  (if a3 < a2 then
  (fX4_takenKind_j49 a1 0 c)
  else
  (fX4_takenKind_j49 a1 1 c))
  else
  (if v4_1 = 1 then
  (fX4_takenKind_j39 a1 a3 c)
  else
  (if v4_1 = 2 then
  (fX4_takenKind_j39 a1 a3 c)
  else
  (fX4_takenKind_j48 a1 c)))
theorem sX4_takenKind {G : GG} {Γ : Cx} {r : Vv × Wd} {sz sl : Nat} {td : TT} (a1 : Int) (a2 : Int) (a3 : Int) (c : CC) : Sm (fX4_takenKind a1 a2 a3 c) (fun x => r = ((0, x), (sz, sl, tt td, cv c))) (WP G Γ muX4_takenKind r 0 [some (2, 111), some (0, a1), some (0, a2), some (0, a3), none, none] [] (sz, sl, tt td, cv c)) := by
  unfold fX4_takenKind
  refine s_aload_n (pc := 0) dX4_takenKind_0 rfl ?_
  refine s_get (pc := 1) (a := 111) (v := 119) flX4_39 (t_111 _) rfl (g_111_10 _) rfl dX4_takenKind_1 ?_
  refine s_iload_n (pc := 4) dX4_takenKind_4 rfl ?_
  refine s_ialdM (pc := 5) (a := 119) (t_119 _) rfl r_119 dX4_takenKind_5 ?_
  refine s_istore (pc := 6) (lf := fun x => [some (2, 111), some (0, a1), some (0, a2), some (0, a3), some (0, x), none]) dX4_takenKind_6 (fun _ => rfl) (Nat.le_of_ble_eq_true rfl) (fun v4_1 => ?_)
  refine s_iload (pc := 8) dX4_takenKind_8 rfl ?_
  refine s_iconst (pc := 10) dX4_takenKind_10 ?_
  refine s_icmp_ne (pc := 11) (tgt := 27) dX4_takenKind_11 rfl ?_ ?_
  · refine s_iload (pc := 27) dX4_takenKind_27 rfl ?_
    refine s_iconst (pc := 29) dX4_takenKind_29 ?_
    refine s_icmp_eq (pc := 30) (tgt := 39) dX4_takenKind_30 rfl ?_ ?_
    · refine s_wk [true, true, false, true, false, true] (ls' := [some (2, 111), some (0, a1), none, some (0, a3), none, none]) rfl ?_
      exact sX4_takenKind_j39 a1 a3 c
    refine s_iload (pc := 33) dX4_takenKind_33 rfl ?_
    refine s_iconst (pc := 35) dX4_takenKind_35 ?_
    refine s_icmp_ne (pc := 36) (tgt := 48) dX4_takenKind_36 rfl ?_ ?_
    · refine s_wk [true, true, false, false, false, true] (ls' := [some (2, 111), some (0, a1), none, none, none, none]) rfl ?_
      exact sX4_takenKind_j48 a1 c
    refine s_wk [true, true, false, true, false, true] (ls' := [some (2, 111), some (0, a1), none, some (0, a3), none, none]) rfl ?_
    exact sX4_takenKind_j39 a1 a3 c
  refine s_iload_n (pc := 14) dX4_takenKind_14 rfl ?_
  refine s_iload_n (pc := 15) dX4_takenKind_15 rfl ?_
  refine s_icmp_lt (pc := 16) (tgt := 23) dX4_takenKind_16 rfl ?_ ?_
  · refine s_iconst (pc := 23) dX4_takenKind_23 ?_
    refine s_goto (pc := 24) (tgt := 49) dX4_takenKind_24 rfl ?_
    refine s_wk [true, true, false, false, false, true] (ls' := [some (2, 111), some (0, a1), none, none, none, none]) rfl ?_
    exact sX4_takenKind_j49 a1 0 c
  refine s_iconst (pc := 19) dX4_takenKind_19 ?_
  refine s_goto (pc := 20) (tgt := 49) dX4_takenKind_20 rfl ?_
  refine s_wk [true, true, false, false, false, true] (ls' := [some (2, 111), some (0, a1), none, none, none, none]) rfl ?_
  exact sX4_takenKind_j49 a1 1 c
theorem kX4_takenKind {G : GG} {sz sl : Nat} {td : TT} (a1 : Int) (a2 : Int) (a3 : Int) (c : CC) (x : Int) (h : fX4_takenKind a1 a2 a3 c = some x) : Ct G yX4_takenKind muX4_takenKind [(2, 111), (0, a1), (0, a2), (0, a3)] (sz, sl, tt td, cv c) ((0, x), (sz, sl, tt td, cv c)) :=
  Ct.of (n := 2) (ls0 := [some (2, 111), some (0, a1), some (0, a2), some (0, a3), none, none]) (by decide) rfl rfl ⟨by decide, by decide⟩ (Nat.le_of_ble_eq_true rfl) rfl ⟨Nat.le_refl _, Nat.le_refl _⟩ (show (0 : Nat) ≠ 9 by decide) (fun Γ => sX4_takenKind a1 a2 a3 c x h rfl)
theorem flX4_121 : FL RX4 121 3 52 := ⟨_, _, _, cf3, by decide, q1296⟩
theorem flX4_118 : FL RX4 118 3 51 := ⟨_, _, _, cf3, by decide, q1295⟩
abbrev muX4_laysMade : MI := (cX4_laysMade, RX4, 6, none, 2, "laysMade")
abbrev gX4_laysMade_l17 (G : GG) (Γ : Cx) (r : Vv × Wd) (sz sl : Nat) (td : TT) (v1 : Int) (v2 : Int) (c : CC) : (Int × Int) → Prop := fun s => WP G Γ muX4_laysMade r 17 [some (2, 111), some (0, v1), some (0, v2), some (1, s.1), none, some (0, s.2)] [] (sz, sl, tt td, cv c)
abbrev eX4_laysMade_l17 (G : GG) (Γ : Cx) (r : Vv × Wd) (sz sl : Nat) (td : TT) (v1 : Int) (v2 : Int) (c : CC) : (Int) → Prop := (fun s => WP G Γ muX4_laysMade r 70 [some (2, 111), some (0, v1), some (0, v2), some (1, s), none, none] [] (sz, sl, tt td, cv c))
noncomputable def fX4_laysMade_l17 (v1 : Int) (v2 : Int) (v3 : Int) (v5 : Int) (c : CC) : Option ((Int × Int) ⊕ (Int)) :=
  if v5 < v2 then
  (gd (inR (v1 - 1)) <|
   gd (inR (25 * (v1 - 1))) <|
   gd (inR ((25 * (v1 - 1)) + v5)) <|
   gd ((0 : Int) ≤ (25 * (v1 - 1)) + v5 ∧ (25 * (v1 - 1)) + v5 < 825) <|
   gd (inR (v2 - 1)) <|
   gd (inR (v1 - 1)) <|
   gd ((0 : Int) ≤ v1 - 1 ∧ v1 - 1 < 32) <|
   cl (fX4_oneOf v5 (v2 - 1) (c 145 (Int.toNat (v1 - 1))) c) fun p_1 =>
   cl (fX4_times (c 146 (Int.toNat ((25 * (v1 - 1)) + v5))) p_1 c) fun p_2 =>
   cl (fX4_plus v3 p_2 c) fun p_3 =>
   gd (inR (v5 + 1)) <| bd (v5 + 1) fun v5_4 =>
   some (.inl (p_3, v5_4)))
  else
  (some (.inr v3))
theorem sX4_laysMade_l17 {G : GG} {Γ : Cx} {r : Vv × Wd} {sz sl : Nat} {td : TT} (v1 : Int) (v2 : Int) (v3 : Int) (v5 : Int) (c : CC) : Sm (fX4_laysMade_l17 v1 v2 v3 v5 c) (fun x => Sum.elim (gX4_laysMade_l17 G Γ r sz sl td v1 v2 c) (eX4_laysMade_l17 G Γ r sz sl td v1 v2 c) x) (gX4_laysMade_l17 G Γ r sz sl td v1 v2 c (v3, v5)) := by
  show Sm _ _ (WP G Γ muX4_laysMade r 17 [some (2, 111), some (0, v1), some (0, v2), some (1, v3), none, some (0, v5)] [] (sz, sl, tt td, cv c))
  unfold fX4_laysMade_l17
  refine s_iload (pc := 17) dX4_laysMade_17 rfl ?_
  refine s_iload_n (pc := 19) dX4_laysMade_19 rfl ?_
  refine s_icmp_ge (pc := 20) (tgt := 70) dX4_laysMade_20 rfl ?_ ?_
  · refine s_wk [true, true, true, true, true, false] (ls' := [some (2, 111), some (0, v1), some (0, v2), some (1, v3), none, none]) rfl ?_
    exact Sm.some (fun h => h)
  refine s_aload_n (pc := 23) dX4_laysMade_23 rfl ?_
  refine s_lload_n (pc := 24) dX4_laysMade_24 rfl ?_
  refine s_aload_n (pc := 25) dX4_laysMade_25 rfl ?_
  refine s_aload_n (pc := 26) dX4_laysMade_26 rfl ?_
  refine s_get (pc := 27) (a := 111) (v := 146) flX4_121 (t_111 _) rfl (g_111_52 _) rfl dX4_laysMade_27 ?_
  refine s_bipush (pc := 30) dX4_laysMade_30 ?_
  refine s_iload_n (pc := 32) dX4_laysMade_32 rfl ?_
  refine s_iconst (pc := 33) dX4_laysMade_33 ?_
  refine s_isub (pc := 34) dX4_laysMade_34 ?_
  refine s_imul (pc := 35) dX4_laysMade_35 ?_
  refine s_iload (pc := 36) dX4_laysMade_36 rfl ?_
  refine s_iadd (pc := 38) dX4_laysMade_38 ?_
  refine s_laldM (pc := 39) (a := 146) (t_146 _) rfl r_146 dX4_laysMade_39 ?_
  refine s_aload_n (pc := 40) dX4_laysMade_40 rfl ?_
  refine s_iload (pc := 41) dX4_laysMade_41 rfl ?_
  refine s_iload_n (pc := 43) dX4_laysMade_43 rfl ?_
  refine s_iconst (pc := 44) dX4_laysMade_44 ?_
  refine s_isub (pc := 45) dX4_laysMade_45 ?_
  refine s_aload_n (pc := 46) dX4_laysMade_46 rfl ?_
  refine s_get (pc := 47) (a := 111) (v := 145) flX4_118 (t_111 _) rfl (g_111_51 _) rfl dX4_laysMade_47 ?_
  refine s_iload_n (pc := 50) dX4_laysMade_50 rfl ?_
  refine s_iconst (pc := 51) dX4_laysMade_51 ?_
  refine s_isub (pc := 52) dX4_laysMade_52 ?_
  refine s_ialdM (pc := 53) (a := 145) (t_145 _) rfl r_145 dX4_laysMade_53 ?_
  refine s_callV3 (pc := 54) (a := 111) (as := [(0, v5), (0, v2 - 1), (0, c 145 (Int.toNat (v1 - 1)))]) (st := [(1, c 146 (Int.toNat ((25 * (v1 - 1)) + v5))), (2, 111), (1, v3), (2, 111)]) (rv := fun b => ((1, b), (sz, sl, tt td, cv c))) (st3 := fun b => [(1, b), (1, c 146 (Int.toNat ((25 * (v1 - 1)) + v5))), (2, 111), (1, v3), (2, 111)]) (w3 := fun b => (sz, sl, tt td, cv c)) mvX4_394 (fun b h => kX4_oneOf v5 (v2 - 1) (c 145 (Int.toNat (v1 - 1))) c b h) rfl (by decide) (t_111 td) rfl rfl rfl (Nat.le_of_ble_eq_true rfl) (fun _ => Nat.le_of_ble_eq_true rfl) (fun _ => ⟨rfl, rfl⟩) dX4_laysMade_54 (fun p_1 => ?_)
  refine s_callV3 (pc := 57) (a := 111) (as := [(1, c 146 (Int.toNat ((25 * (v1 - 1)) + v5))), (1, p_1)]) (st := [(1, v3), (2, 111)]) (rv := fun b => ((1, b), (sz, sl, tt td, cv c))) (st3 := fun b => [(1, b), (1, v3), (2, 111)]) (w3 := fun b => (sz, sl, tt td, cv c)) mvX4_406 (fun b h => kX4_times (c 146 (Int.toNat ((25 * (v1 - 1)) + v5))) p_1 c b h) rfl (by decide) (t_111 td) rfl rfl rfl (Nat.le_of_ble_eq_true rfl) (fun _ => Nat.le_of_ble_eq_true rfl) (fun _ => ⟨rfl, rfl⟩) dX4_laysMade_57 (fun p_2 => ?_)
  refine s_callV3 (pc := 60) (a := 111) (as := [(1, v3), (1, p_2)]) (st := []) (rv := fun b => ((1, b), (sz, sl, tt td, cv c))) (st3 := fun b => [(1, b)]) (w3 := fun b => (sz, sl, tt td, cv c)) mvX4_402 (fun b h => kX4_plus v3 p_2 c b h) rfl (by decide) (t_111 td) rfl rfl rfl (Nat.le_of_ble_eq_true rfl) (fun _ => Nat.le_of_ble_eq_true rfl) (fun _ => ⟨rfl, rfl⟩) dX4_laysMade_60 (fun p_3 => ?_)
  refine s_lstore_nD (pc := 63) (ls' := [some (2, 111), some (0, v1), some (0, v2), some (1, p_3), none, some (0, v5)]) dX4_laysMade_63 rfl (Nat.le_of_ble_eq_true rfl) ?_
  refine s_iinc (pc := 64) (lf := fun x => [some (2, 111), some (0, v1), some (0, v2), some (1, p_3), none, some (0, x)]) dX4_laysMade_64 rfl (fun _ => rfl) (Nat.le_of_ble_eq_true rfl) (fun v5_4 => ?_)
  refine s_goto (pc := 67) (tgt := 17) dX4_laysMade_67 rfl ?_
  exact Sm.some (fun h => h)
abbrev gX4_laysMade_l2 (G : GG) (Γ : Cx) (r : Vv × Wd) (sz sl : Nat) (td : TT) (v1 : Int) : (Int × CC) → Prop := fun s => WP G Γ muX4_laysMade r 2 [some (2, 111), some (0, v1), some (0, s.1), none, none, none] [] (sz, sl, tt td, cv s.2)
abbrev eX4_laysMade_l2 (G : GG) (Γ : Cx) (r : Vv × Wd) (sz sl : Nat) (td : TT) (v1 : Int) : (CC) → Prop := (fun s => WP G Γ muX4_laysMade r 88 [none, none, none, none, none, none] [] (sz, sl, tt td, cv s))
noncomputable def fX4_laysMade_l2 (v1 : Int) (v2 : Int) (c : CC) : Option ((Int × CC) ⊕ (CC)) :=
  if c 112 2 < v2 then
  (some (.inr c))
  else
  (cl (wh (fun s => fX4_laysMade_l17 v1 v2 s.1 s.2 c) (0, 0)) (fun e_5 =>
  gd (inR (25 * v1)) <|
   gd (inR ((25 * v1) + v2)) <|
   gd ((0 : Int) ≤ (25 * v1) + v2 ∧ (25 * v1) + v2 < 825) <| bd (up2 c 146 (Int.toNat ((25 * v1) + v2)) e_5) fun c_6 =>
   gd (inR (v2 + 1)) <| bd (v2 + 1) fun v2_7 =>
   some (.inl (v2_7, c_6))))
theorem sX4_laysMade_l2 {G : GG} {Γ : Cx} {r : Vv × Wd} {sz sl : Nat} {td : TT} (v1 : Int) (v2 : Int) (c : CC) : Sm (fX4_laysMade_l2 v1 v2 c) (fun x => Sum.elim (gX4_laysMade_l2 G Γ r sz sl td v1) (eX4_laysMade_l2 G Γ r sz sl td v1) x) (gX4_laysMade_l2 G Γ r sz sl td v1 (v2, c)) := by
  show Sm _ _ (WP G Γ muX4_laysMade r 2 [some (2, 111), some (0, v1), some (0, v2), none, none, none] [] (sz, sl, tt td, cv c))
  unfold fX4_laysMade_l2
  refine s_iload_n (pc := 2) dX4_laysMade_2 rfl ?_
  refine s_aload_n (pc := 3) dX4_laysMade_3 rfl ?_
  refine s_get (pc := 4) (a := 111) (v := 112) flX4_7 (t_111 _) rfl (g_111_0 _) rfl dX4_laysMade_4 ?_
  refine s_iconst (pc := 7) dX4_laysMade_7 ?_
  refine s_ialdML (pc := 8) (a := 112) 2 rfl (Nat.le_of_ble_eq_true rfl) (t_112 _) rfl r_112 dX4_laysMade_8 ?_
  refine s_icmp_gt (pc := 9) (tgt := 88) dX4_laysMade_9 rfl ?_ ?_
  · refine s_wk [false, false, false, true, true, true] (ls' := [none, none, none, none, none, none]) rfl ?_
    exact Sm.some (fun h => h)
  refine s_lconst0 (pc := 12) dX4_laysMade_12 ?_
  refine s_lstore_nD (pc := 13) (ls' := [some (2, 111), some (0, v1), some (0, v2), some (1, 0), none, none]) dX4_laysMade_13 rfl (Nat.le_of_ble_eq_true rfl) ?_
  refine s_iconst (pc := 14) dX4_laysMade_14 ?_
  refine s_istoreD (pc := 15) (ls' := [some (2, 111), some (0, v1), some (0, v2), some (1, 0), none, some (0, 0)]) dX4_laysMade_15 rfl (Nat.le_of_ble_eq_true rfl) ?_
  refine s_loop (g := gX4_laysMade_l17 G Γ r sz sl td v1 v2 c) (Ex := eX4_laysMade_l17 G Γ r sz sl td v1 v2 c) (s0 := (0, 0)) (fun s => sX4_laysMade_l17 v1 v2 s.1 s.2 c) ?_
  intro e_5
  show Sm _ _ (WP G Γ muX4_laysMade r 70 [some (2, 111), some (0, v1), some (0, v2), some (1, e_5), none, none] [] (sz, sl, tt td, cv c))
  refine s_aload_n (pc := 70) dX4_laysMade_70 rfl ?_
  refine s_get (pc := 71) (a := 111) (v := 146) flX4_121 (t_111 _) rfl (g_111_52 _) rfl dX4_laysMade_71 ?_
  refine s_bipush (pc := 74) dX4_laysMade_74 ?_
  refine s_iload_n (pc := 76) dX4_laysMade_76 rfl ?_
  refine s_imul (pc := 77) dX4_laysMade_77 ?_
  refine s_iload_n (pc := 78) dX4_laysMade_78 rfl ?_
  refine s_iadd (pc := 79) dX4_laysMade_79 ?_
  refine s_lload_n (pc := 80) dX4_laysMade_80 rfl ?_
  refine s_lastM (pc := 81) (a := 146) (t_146 _) rfl kO_146 r_146 dX4_laysMade_81 (fun c_6 => ?_)
  refine s_iinc (pc := 82) (lf := fun x => [some (2, 111), some (0, v1), some (0, x), some (1, e_5), none, none]) dX4_laysMade_82 rfl (fun _ => rfl) (Nat.le_of_ble_eq_true rfl) (fun v2_7 => ?_)
  refine s_goto (pc := 85) (tgt := 2) dX4_laysMade_85 rfl ?_
  refine s_wk [true, true, true, false, true, true] (ls' := [some (2, 111), some (0, v1), some (0, v2_7), none, none, none]) rfl ?_
  exact Sm.some (fun h => h)
noncomputable def fX4_laysMade (a1 : Int) (c : CC) : Option CC :=
  cl (wh (fun s => fX4_laysMade_l2 a1 s.1 s.2) (0, c)) (fun e_8 =>
  some e_8)
theorem sX4_laysMade {G : GG} {Γ : Cx} {r : Vv × Wd} {sz sl : Nat} {td : TT} (a1 : Int) (c : CC) : Sm (fX4_laysMade a1 c) (fun x => r = ((3, 0), (sz, sl, tt td, cv x))) (WP G Γ muX4_laysMade r 0 [some (2, 111), some (0, a1), none, none, none, none] [] (sz, sl, tt td, cv c)) := by
  unfold fX4_laysMade
  refine s_iconst (pc := 0) dX4_laysMade_0 ?_
  refine s_istore_nD (pc := 1) (ls' := [some (2, 111), some (0, a1), some (0, 0), none, none, none]) dX4_laysMade_1 rfl (Nat.le_of_ble_eq_true rfl) ?_
  refine s_loop (g := gX4_laysMade_l2 G Γ r sz sl td a1) (Ex := eX4_laysMade_l2 G Γ r sz sl td a1) (s0 := (0, c)) (fun s => sX4_laysMade_l2 a1 s.1 s.2) ?_
  intro e_8
  show Sm _ _ (WP G Γ muX4_laysMade r 88 [none, none, none, none, none, none] [] (sz, sl, tt td, cv e_8))
  exact s_vret (pc := 88) dX4_laysMade_88 rfl (fun h => h)
theorem kX4_laysMade {G : GG} {sz sl : Nat} {td : TT} (a1 : Int) (c : CC) (x : CC) (h : fX4_laysMade a1 c = some x) : Ct G yX4_laysMade muX4_laysMade [(2, 111), (0, a1)] (sz, sl, tt td, cv c) ((3, 0), (sz, sl, tt td, cv x)) :=
  Ct.of (n := 4) (ls0 := [some (2, 111), some (0, a1), none, none, none, none]) (by decide) rfl rfl ⟨by decide, by decide⟩ (Nat.le_of_ble_eq_true rfl) rfl ⟨Nat.le_refl _, Nat.le_refl _⟩ (show (3 : Nat) ≠ 9 by decide) (fun Γ => sX4_laysMade a1 c x h rfl)
theorem msX4_458 : MS RX4 458 yX4_upTo muX4_upTo 1 := ⟨lw_S q1735 q1736 q129 q1737, by decide +kernel, by decide⟩
theorem msX4_461 : MS RX4 461 yX4_takes muX4_takes 2 := ⟨lw_S q1738 q1739 q129 q1740, by decide +kernel, by decide⟩
theorem flX4_112 : FL RX4 112 3 49 := ⟨_, _, _, cf3, by decide, q1293⟩
theorem flX4_115 : FL RX4 115 3 50 := ⟨_, _, _, cf3, by decide, q1294⟩
theorem mvX4_464 : MV RX4 464 RX4 yX4_takenKind muX4_takenKind 3 := ⟨lw_V q1741 q1743 qs94 q129 q1744, by decide +kernel, by decide⟩
theorem mvX4_468 : MV RX4 468 RX4 yX4_laysMade muX4_laysMade 1 := ⟨lw_V q1745 q1747 qs95 q129 q1748, by decide +kernel, by decide⟩
abbrev muX4_finds : MI := (cX4_finds, RX4, 15, some .boolean, 3, "finds")
abbrev gX4_finds_l18 (G : GG) (Γ : Cx) (r : Vv × Wd) (sz sl : Nat) (td : TT) (v1 : Int) : (Int × CC) → Prop := fun s => WP G Γ muX4_finds r 18 [some (2, 111), some (0, v1), some (0, s.1), none, none, none, none, none, none, none, none, none, none, none, none] [] (sz, sl, tt td, cv s.2)
abbrev eX4_finds_l18 (G : GG) (Γ : Cx) (r : Vv × Wd) (sz sl : Nat) (td : TT) (v1 : Int) : (CC) → Prop := (fun s => WP G Γ muX4_finds r 45 [some (2, 111), some (0, v1), none, none, none, none, none, none, none, none, none, none, none, none, none] [] (sz, sl, tt td, cv s))
noncomputable def fX4_finds_l18 (v1 : Int) (v2 : Int) (c : CC) : Option ((Int × CC) ⊕ (CC)) :=
  if v2 < 25 then
  (if v2 = 0 then
  (gd ((0 : Int) ≤ v2 ∧ v2 < 825) <| bd (up2 c 146 (Int.toNat v2) 1) fun c_4 =>
   gd (inR (v2 + 1)) <| bd (v2 + 1) fun v2_5 =>
   some (.inl (v2_5, c_4)))
  else
  (gd ((0 : Int) ≤ v2 ∧ v2 < 825) <| bd (up2 c 146 (Int.toNat v2) 0) fun c_2 =>
   gd (inR (v2 + 1)) <| bd (v2 + 1) fun v2_3 =>
   some (.inl (v2_3, c_2))))
  else
  (some (.inr c))
theorem sX4_finds_l18 {G : GG} {Γ : Cx} {r : Vv × Wd} {sz sl : Nat} {td : TT} (v1 : Int) (v2 : Int) (c : CC) : Sm (fX4_finds_l18 v1 v2 c) (fun x => Sum.elim (gX4_finds_l18 G Γ r sz sl td v1) (eX4_finds_l18 G Γ r sz sl td v1) x) (gX4_finds_l18 G Γ r sz sl td v1 (v2, c)) := by
  show Sm _ _ (WP G Γ muX4_finds r 18 [some (2, 111), some (0, v1), some (0, v2), none, none, none, none, none, none, none, none, none, none, none, none] [] (sz, sl, tt td, cv c))
  unfold fX4_finds_l18
  refine s_iload_n (pc := 18) dX4_finds_18 rfl ?_
  refine s_bipush (pc := 19) dX4_finds_19 ?_
  refine s_icmp_ge (pc := 21) (tgt := 45) dX4_finds_21 rfl ?_ ?_
  · refine s_wk [true, true, false, true, true, true, true, true, true, true, true, true, true, true, true] (ls' := [some (2, 111), some (0, v1), none, none, none, none, none, none, none, none, none, none, none, none, none]) rfl ?_
    exact Sm.some (fun h => h)
  refine s_aload_n (pc := 24) dX4_finds_24 rfl ?_
  refine s_get (pc := 25) (a := 111) (v := 146) flX4_121 (t_111 _) rfl (g_111_52 _) rfl dX4_finds_25 ?_
  refine s_iload_n (pc := 28) dX4_finds_28 rfl ?_
  refine s_iload_n (pc := 29) dX4_finds_29 rfl ?_
  refine s_if_ne (pc := 30) (tgt := 37) dX4_finds_30 rfl ?_ ?_
  · refine s_lconst0 (pc := 37) dX4_finds_37 ?_
    refine s_lastM (pc := 38) (a := 146) (t_146 _) rfl kO_146 r_146 dX4_finds_38 (fun c_2 => ?_)
    refine s_iinc (pc := 39) (lf := fun x => [some (2, 111), some (0, v1), some (0, x), none, none, none, none, none, none, none, none, none, none, none, none]) dX4_finds_39 rfl (fun _ => rfl) (Nat.le_of_ble_eq_true rfl) (fun v2_3 => ?_)
    refine s_goto (pc := 42) (tgt := 18) dX4_finds_42 rfl ?_
    exact Sm.some (fun h => h)
  refine s_lconst1 (pc := 33) dX4_finds_33 ?_
  refine s_goto (pc := 34) (tgt := 38) dX4_finds_34 rfl ?_
  refine s_lastM (pc := 38) (a := 146) (t_146 _) rfl kO_146 r_146 dX4_finds_38 (fun c_4 => ?_)
  refine s_iinc (pc := 39) (lf := fun x => [some (2, 111), some (0, v1), some (0, x), none, none, none, none, none, none, none, none, none, none, none, none]) dX4_finds_39 rfl (fun _ => rfl) (Nat.le_of_ble_eq_true rfl) (fun v2_5 => ?_)
  refine s_goto (pc := 42) (tgt := 18) dX4_finds_42 rfl ?_
  exact Sm.some (fun h => h)
noncomputable def fX4_finds_j256 (v2 : Int) (v3 : Int) (v5 : Int) (v6 : Int) (v7 : Int) (v8 : Int) (v9 : Int) (v10 : Int) (v11 : Int) (v12 : Int) (c : CC) : Option ((Int × Int × Int × Int × CC) ⊕ (Int × Int × Int × CC)) :=
  if v3 < v12 then
  (gd ((0 : Int) ≤ v5 ∧ v5 < 24) <| bd (up2 c 143 (Int.toNat v5) v8) fun c_19 =>
   gd ((0 : Int) ≤ v5 ∧ v5 < 24) <| bd (up2 c_19 144 (Int.toNat v5) v10) fun c_20 =>
   gd (inR (v2 + v11)) <|
   bd (v2 + v11) fun v2_21 =>
   gd (inR (v10 + 1)) <| bd (v10 + 1) fun v10_22 =>
   some (.inl (v2_21, v3, v8, v10_22, c_20)))
  else
  (gd (inL (v3 - v12)) <|
   bd (v3 - v12) fun v3_17 =>
   gd (inR (v10 + 1)) <| bd (v10 + 1) fun v10_18 =>
   some (.inl (v2, v3_17, v7, v10_18, c)))
abbrev gX4_finds_l147 (G : GG) (Γ : Cx) (r : Vv × Wd) (sz sl : Nat) (td : TT) (v5 : Int) (v6 : Int) (v8 : Int) (v9 : Int) : (Int × Int × Int × Int × CC) → Prop := fun s => WP G Γ muX4_finds r 147 [some (2, 111), none, some (0, s.1), some (1, s.2.1), none, some (0, v5), some (0, v6), some (0, s.2.2.1), some (0, v8), some (0, v9), some (0, s.2.2.2.1), none, none, none, none] [] (sz, sl, tt td, cv s.2.2.2.2)
abbrev eX4_finds_l147 (G : GG) (Γ : Cx) (r : Vv × Wd) (sz sl : Nat) (td : TT) (v5 : Int) (v6 : Int) (v8 : Int) (v9 : Int) : (Int × Int × Int × CC) → Prop := (fun s => WP G Γ muX4_finds r 304 [some (2, 111), none, some (0, s.1), some (1, s.2.1), none, some (0, v5), some (0, v6), some (0, s.2.2.1), some (0, v8), none, none, none, none, none, none] [] (sz, sl, tt td, cv s.2.2.2))
theorem sX4_finds_j256 {G : GG} {Γ : Cx} {r : Vv × Wd} {sz sl : Nat} {td : TT} (v2 : Int) (v3 : Int) (v5 : Int) (v6 : Int) (v7 : Int) (v8 : Int) (v9 : Int) (v10 : Int) (v11 : Int) (v12 : Int) (c : CC) : Sm (fX4_finds_j256 v2 v3 v5 v6 v7 v8 v9 v10 v11 v12 c) (fun x => Sum.elim (gX4_finds_l147 G Γ r sz sl td v5 v6 v8 v9) (eX4_finds_l147 G Γ r sz sl td v5 v6 v8 v9) x) (WP G Γ muX4_finds r 256 [some (2, 111), none, some (0, v2), some (1, v3), none, some (0, v5), some (0, v6), some (0, v7), some (0, v8), some (0, v9), some (0, v10), some (0, v11), some (1, v12), none, none] [] (sz, sl, tt td, cv c)) := by
  unfold fX4_finds_j256
  refine s_lload_n (pc := 256) dX4_finds_256 rfl ?_
  refine s_lload (pc := 257) dX4_finds_257 rfl ?_
  refine s_lcmp_ge (pc := 259) (tgt := 293) dX4_finds_259 dX4_finds_260 rfl ?_ ?_
  · refine s_lload_n (pc := 293) dX4_finds_293 rfl ?_
    refine s_lload (pc := 294) dX4_finds_294 rfl ?_
    refine s_lsub (pc := 296) dX4_finds_296 ?_
    refine s_lstore_n (pc := 297) (lf := fun x => [some (2, 111), none, some (0, v2), some (1, x), none, some (0, v5), some (0, v6), some (0, v7), some (0, v8), some (0, v9), some (0, v10), some (0, v11), some (1, v12), none, none]) dX4_finds_297 (fun _ => rfl) (Nat.le_of_ble_eq_true rfl) (fun v3_17 => ?_)
    refine s_iinc (pc := 298) (lf := fun x => [some (2, 111), none, some (0, v2), some (1, v3_17), none, some (0, v5), some (0, v6), some (0, v7), some (0, v8), some (0, v9), some (0, x), some (0, v11), some (1, v12), none, none]) dX4_finds_298 rfl (fun _ => rfl) (Nat.le_of_ble_eq_true rfl) (fun v10_18 => ?_)
    refine s_goto (pc := 301) (tgt := 147) dX4_finds_301 rfl ?_
    refine s_wk [true, true, true, true, true, true, true, true, true, true, true, false, false, true, true] (ls' := [some (2, 111), none, some (0, v2), some (1, v3_17), none, some (0, v5), some (0, v6), some (0, v7), some (0, v8), some (0, v9), some (0, v10_18), none, none, none, none]) rfl ?_
    exact Sm.some (fun h => h)
  refine s_iload (pc := 263) dX4_finds_263 rfl ?_
  refine s_istoreD (pc := 265) (ls' := [some (2, 111), none, some (0, v2), some (1, v3), none, some (0, v5), some (0, v6), some (0, v8), some (0, v8), some (0, v9), some (0, v10), some (0, v11), some (1, v12), none, none]) dX4_finds_265 rfl (Nat.le_of_ble_eq_true rfl) ?_
  refine s_aload_n (pc := 267) dX4_finds_267 rfl ?_
  refine s_get (pc := 268) (a := 111) (v := 143) flX4_112 (t_111 _) rfl (g_111_49 _) rfl dX4_finds_268 ?_
  refine s_iload (pc := 271) dX4_finds_271 rfl ?_
  refine s_iload (pc := 273) dX4_finds_273 rfl ?_
  refine s_iastM (pc := 275) (a := 143) (t_143 _) rfl kO_143 r_143 dX4_finds_275 (fun c_19 => ?_)
  refine s_aload_n (pc := 276) dX4_finds_276 rfl ?_
  refine s_get (pc := 277) (a := 111) (v := 144) flX4_115 (t_111 _) rfl (g_111_50 _) rfl dX4_finds_277 ?_
  refine s_iload (pc := 280) dX4_finds_280 rfl ?_
  refine s_iload (pc := 282) dX4_finds_282 rfl ?_
  refine s_iastM (pc := 284) (a := 144) (t_144 _) rfl kO_144 r_144 dX4_finds_284 (fun c_20 => ?_)
  refine s_iload_n (pc := 285) dX4_finds_285 rfl ?_
  refine s_iload (pc := 286) dX4_finds_286 rfl ?_
  refine s_iadd (pc := 288) dX4_finds_288 ?_
  refine s_istore_n (pc := 289) (lf := fun x => [some (2, 111), none, some (0, x), some (1, v3), none, some (0, v5), some (0, v6), some (0, v8), some (0, v8), some (0, v9), some (0, v10), some (0, v11), some (1, v12), none, none]) dX4_finds_289 (fun _ => rfl) (Nat.le_of_ble_eq_true rfl) (fun v2_21 => ?_)
  refine s_goto (pc := 290) (tgt := 298) dX4_finds_290 rfl ?_
  refine s_iinc (pc := 298) (lf := fun x => [some (2, 111), none, some (0, v2_21), some (1, v3), none, some (0, v5), some (0, v6), some (0, v8), some (0, v8), some (0, v9), some (0, x), some (0, v11), some (1, v12), none, none]) dX4_finds_298 rfl (fun _ => rfl) (Nat.le_of_ble_eq_true rfl) (fun v10_22 => ?_)
  refine s_goto (pc := 301) (tgt := 147) dX4_finds_301 rfl ?_
  refine s_wk [true, true, true, true, true, true, true, true, true, true, true, false, false, true, true] (ls' := [some (2, 111), none, some (0, v2_21), some (1, v3), none, some (0, v5), some (0, v6), some (0, v8), some (0, v8), some (0, v9), some (0, v10_22), none, none, none, none]) rfl ?_
  exact Sm.some (fun h => h)
abbrev gX4_finds_l197 (G : GG) (Γ : Cx) (r : Vv × Wd) (sz sl : Nat) (td : TT) (v2 : Int) (v3 : Int) (v5 : Int) (v6 : Int) (v7 : Int) (v8 : Int) (v9 : Int) (v10 : Int) (v11 : Int) : (Int × CC) → Prop := fun s => WP G Γ muX4_finds r 197 [some (2, 111), none, some (0, v2), some (1, v3), none, some (0, v5), some (0, v6), some (0, v7), some (0, v8), some (0, v9), some (0, v10), some (0, v11), none, none, some (0, s.1)] [] (sz, sl, tt td, cv s.2)
abbrev eX4_finds_l197 (G : GG) (Γ : Cx) (r : Vv × Wd) (sz sl : Nat) (td : TT) (v2 : Int) (v3 : Int) (v5 : Int) (v6 : Int) (v7 : Int) (v8 : Int) (v9 : Int) (v10 : Int) (v11 : Int) : (CC) → Prop := (fun s => WP G Γ muX4_finds r 239 [some (2, 111), none, some (0, v2), some (1, v3), none, some (0, v5), some (0, v6), some (0, v7), some (0, v8), some (0, v9), some (0, v10), some (0, v11), none, none, none] [] (sz, sl, tt td, cv s))
noncomputable def fX4_finds_l197 (v2 : Int) (v3 : Int) (v5 : Int) (v6 : Int) (v7 : Int) (v8 : Int) (v9 : Int) (v10 : Int) (v11 : Int) (v14 : Int) (c : CC) : Option ((Int × CC) ⊕ (CC)) :=
  if v14 < v11 then
  (gd (inR (v2 + v14)) <|
   cl (fX4_takenKind v9 v10 v14 c) fun p_23 =>
   gd ((0 : Int) ≤ v2 + v14 ∧ v2 + v14 < 32) <| bd (up2 c 145 (Int.toNat (v2 + v14)) p_23) fun c_24 =>
   gd (inR (v2 + v14)) <|
   gd (inR ((v2 + v14) + 1)) <|
   cl (fX4_laysMade ((v2 + v14) + 1) c_24) fun p_25 =>
   gd (inR (v14 + 1)) <| bd (v14 + 1) fun v14_26 =>
   some (.inl (v14_26, p_25)))
  else
  (some (.inr c))
theorem sX4_finds_l197 {G : GG} {Γ : Cx} {r : Vv × Wd} {sz sl : Nat} {td : TT} (v2 : Int) (v3 : Int) (v5 : Int) (v6 : Int) (v7 : Int) (v8 : Int) (v9 : Int) (v10 : Int) (v11 : Int) (v14 : Int) (c : CC) : Sm (fX4_finds_l197 v2 v3 v5 v6 v7 v8 v9 v10 v11 v14 c) (fun x => Sum.elim (gX4_finds_l197 G Γ r sz sl td v2 v3 v5 v6 v7 v8 v9 v10 v11) (eX4_finds_l197 G Γ r sz sl td v2 v3 v5 v6 v7 v8 v9 v10 v11) x) (gX4_finds_l197 G Γ r sz sl td v2 v3 v5 v6 v7 v8 v9 v10 v11 (v14, c)) := by
  show Sm _ _ (WP G Γ muX4_finds r 197 [some (2, 111), none, some (0, v2), some (1, v3), none, some (0, v5), some (0, v6), some (0, v7), some (0, v8), some (0, v9), some (0, v10), some (0, v11), none, none, some (0, v14)] [] (sz, sl, tt td, cv c))
  unfold fX4_finds_l197
  refine s_iload (pc := 197) dX4_finds_197 rfl ?_
  refine s_iload (pc := 199) dX4_finds_199 rfl ?_
  refine s_icmp_ge (pc := 201) (tgt := 239) dX4_finds_201 rfl ?_ ?_
  · refine s_wk [true, true, true, true, true, true, true, true, true, true, true, true, true, true, false] (ls' := [some (2, 111), none, some (0, v2), some (1, v3), none, some (0, v5), some (0, v6), some (0, v7), some (0, v8), some (0, v9), some (0, v10), some (0, v11), none, none, none]) rfl ?_
    exact Sm.some (fun h => h)
  refine s_aload_n (pc := 204) dX4_finds_204 rfl ?_
  refine s_get (pc := 205) (a := 111) (v := 145) flX4_118 (t_111 _) rfl (g_111_51 _) rfl dX4_finds_205 ?_
  refine s_iload_n (pc := 208) dX4_finds_208 rfl ?_
  refine s_iload (pc := 209) dX4_finds_209 rfl ?_
  refine s_iadd (pc := 211) dX4_finds_211 ?_
  refine s_aload_n (pc := 212) dX4_finds_212 rfl ?_
  refine s_iload (pc := 213) dX4_finds_213 rfl ?_
  refine s_iload (pc := 215) dX4_finds_215 rfl ?_
  refine s_iload (pc := 217) dX4_finds_217 rfl ?_
  refine s_callV3 (pc := 219) (a := 111) (as := [(0, v9), (0, v10), (0, v14)]) (st := [(0, v2 + v14), (2, 145)]) (rv := fun b => ((0, b), (sz, sl, tt td, cv c))) (st3 := fun b => [(0, b), (0, v2 + v14), (2, 145)]) (w3 := fun b => (sz, sl, tt td, cv c)) mvX4_464 (fun b h => kX4_takenKind v9 v10 v14 c b h) rfl (by decide) (t_111 td) rfl rfl rfl (Nat.le_of_ble_eq_true rfl) (fun _ => Nat.le_of_ble_eq_true rfl) (fun _ => ⟨rfl, rfl⟩) dX4_finds_219 (fun p_23 => ?_)
  refine s_iastM (pc := 222) (a := 145) (t_145 _) rfl kO_145 r_145 dX4_finds_222 (fun c_24 => ?_)
  refine s_aload_n (pc := 223) dX4_finds_223 rfl ?_
  refine s_iload_n (pc := 224) dX4_finds_224 rfl ?_
  refine s_iload (pc := 225) dX4_finds_225 rfl ?_
  refine s_iadd (pc := 227) dX4_finds_227 ?_
  refine s_iconst (pc := 228) dX4_finds_228 ?_
  refine s_iadd (pc := 229) dX4_finds_229 ?_
  refine s_callV3 (pc := 230) (a := 111) (as := [(0, (v2 + v14) + 1)]) (st := []) (rv := fun b => ((3, 0), (sz, sl, tt td, cv b))) (st3 := fun b => []) (w3 := fun b => (sz, sl, tt td, cv b)) mvX4_468 (fun b h => kX4_laysMade ((v2 + v14) + 1) c_24 b h) rfl (by decide) (t_111 td) rfl rfl rfl (Nat.le_of_ble_eq_true rfl) (fun _ => Nat.le_of_ble_eq_true rfl) (fun _ => ⟨rfl, rfl⟩) dX4_finds_230 (fun p_25 => ?_)
  refine s_iinc (pc := 233) (lf := fun x => [some (2, 111), none, some (0, v2), some (1, v3), none, some (0, v5), some (0, v6), some (0, v7), some (0, v8), some (0, v9), some (0, v10), some (0, v11), none, none, some (0, x)]) dX4_finds_233 rfl (fun _ => rfl) (Nat.le_of_ble_eq_true rfl) (fun v14_26 => ?_)
  refine s_goto (pc := 236) (tgt := 197) dX4_finds_236 rfl ?_
  exact Sm.some (fun h => h)
noncomputable def fX4_finds_l147 (v5 : Int) (v6 : Int) (v8 : Int) (v9 : Int) (v2 : Int) (v3 : Int) (v7 : Int) (v10 : Int) (c : CC) : Option ((Int × Int × Int × Int × CC) ⊕ (Int × Int × Int × CC)) :=
  gd ((0 : Int) ≤ v9 ∧ v9 < 144) <|
   cl (fX4_upTo (c 119 (Int.toNat v9))) fun p_15 =>
   if p_15 < v10 then
  (some (.inr (v2, v3, v7, c)))
  else
  (if v7 = -1 then
  (gd ((0 : Int) ≤ v9 ∧ v9 < 144) <|
   cl (fX4_takes (c 119 (Int.toNat v9)) v10) fun p_16 =>
   gd (inR (v2 + p_16)) <|
   if v5 < v2 + p_16 then
  (fX4_finds_j256 v2 v3 v5 v6 v7 v8 v9 v10 p_16 0 c)
  else
  (cl (wh (fun s => fX4_finds_l197 v2 v3 v5 v6 v7 v8 v9 v10 p_16 s.1 s.2) (0, c)) (fun e_27 =>
  gd (inR (v2 + p_16)) <|
   gd (inR (25 * (v2 + p_16))) <|
   gd (inR ((25 * (v2 + p_16)) + v5)) <|
   gd ((0 : Int) ≤ (25 * (v2 + p_16)) + v5 ∧ (25 * (v2 + p_16)) + v5 < 825) <|
   bd (e_27 146 (Int.toNat ((25 * (v2 + p_16)) + v5))) fun v12_28 =>
   fX4_finds_j256 v2 v3 v5 v6 v7 v8 v9 v10 p_16 v12_28 e_27)))
  else
  (some (.inr (v2, v3, v7, c))))
theorem sX4_finds_l147 {G : GG} {Γ : Cx} {r : Vv × Wd} {sz sl : Nat} {td : TT} (v5 : Int) (v6 : Int) (v8 : Int) (v9 : Int) (v2 : Int) (v3 : Int) (v7 : Int) (v10 : Int) (c : CC) : Sm (fX4_finds_l147 v5 v6 v8 v9 v2 v3 v7 v10 c) (fun x => Sum.elim (gX4_finds_l147 G Γ r sz sl td v5 v6 v8 v9) (eX4_finds_l147 G Γ r sz sl td v5 v6 v8 v9) x) (gX4_finds_l147 G Γ r sz sl td v5 v6 v8 v9 (v2, v3, v7, v10, c)) := by
  show Sm _ _ (WP G Γ muX4_finds r 147 [some (2, 111), none, some (0, v2), some (1, v3), none, some (0, v5), some (0, v6), some (0, v7), some (0, v8), some (0, v9), some (0, v10), none, none, none, none] [] (sz, sl, tt td, cv c))
  unfold fX4_finds_l147
  refine s_iload (pc := 147) dX4_finds_147 rfl ?_
  refine s_aload_n (pc := 149) dX4_finds_149 rfl ?_
  refine s_get (pc := 150) (a := 111) (v := 119) flX4_39 (t_111 _) rfl (g_111_10 _) rfl dX4_finds_150 ?_
  refine s_iload (pc := 153) dX4_finds_153 rfl ?_
  refine s_ialdM (pc := 155) (a := 119) (t_119 _) rfl r_119 dX4_finds_155 ?_
  refine s_callS3 (pc := 156) (as := [(0, c 119 (Int.toNat v9))]) (st := [(0, v10)]) (rv := fun b => ((0, b), (sz, sl, tt td, cv c))) (st3 := fun b => [(0, b), (0, v10)]) (w3 := fun b => (sz, sl, tt td, cv c)) msX4_458 (fun b h => kX4_upTo (c 119 (Int.toNat v9)) c b h) rfl (by decide) rfl (Nat.le_of_ble_eq_true rfl) (fun _ => Nat.le_of_ble_eq_true rfl) (fun _ => ⟨rfl, rfl⟩) dX4_finds_156 (fun p_15 => ?_)
  refine s_icmp_gt (pc := 159) (tgt := 304) dX4_finds_159 rfl ?_ ?_
  · refine s_wk [true, true, true, true, true, true, true, true, true, false, false, true, true, true, true] (ls' := [some (2, 111), none, some (0, v2), some (1, v3), none, some (0, v5), some (0, v6), some (0, v7), some (0, v8), none, none, none, none, none, none]) rfl ?_
    exact Sm.some (fun h => h)
  refine s_iload (pc := 162) dX4_finds_162 rfl ?_
  refine s_iconst (pc := 164) dX4_finds_164 ?_
  refine s_icmp_ne (pc := 165) (tgt := 304) dX4_finds_165 rfl ?_ ?_
  · refine s_wk [true, true, true, true, true, true, true, true, true, false, false, true, true, true, true] (ls' := [some (2, 111), none, some (0, v2), some (1, v3), none, some (0, v5), some (0, v6), some (0, v7), some (0, v8), none, none, none, none, none, none]) rfl ?_
    exact Sm.some (fun h => h)
  refine s_aload_n (pc := 168) dX4_finds_168 rfl ?_
  refine s_get (pc := 169) (a := 111) (v := 119) flX4_39 (t_111 _) rfl (g_111_10 _) rfl dX4_finds_169 ?_
  refine s_iload (pc := 172) dX4_finds_172 rfl ?_
  refine s_ialdM (pc := 174) (a := 119) (t_119 _) rfl r_119 dX4_finds_174 ?_
  refine s_iload (pc := 175) dX4_finds_175 rfl ?_
  refine s_callS3 (pc := 177) (as := [(0, c 119 (Int.toNat v9)), (0, v10)]) (st := []) (rv := fun b => ((0, b), (sz, sl, tt td, cv c))) (st3 := fun b => [(0, b)]) (w3 := fun b => (sz, sl, tt td, cv c)) msX4_461 (fun b h => kX4_takes (c 119 (Int.toNat v9)) v10 c b h) rfl (by decide) rfl (Nat.le_of_ble_eq_true rfl) (fun _ => Nat.le_of_ble_eq_true rfl) (fun _ => ⟨rfl, rfl⟩) dX4_finds_177 (fun p_16 => ?_)
  refine s_istoreD (pc := 180) (ls' := [some (2, 111), none, some (0, v2), some (1, v3), none, some (0, v5), some (0, v6), some (0, v7), some (0, v8), some (0, v9), some (0, v10), some (0, p_16), none, none, none]) dX4_finds_180 rfl (Nat.le_of_ble_eq_true rfl) ?_
  refine s_lconst0 (pc := 182) dX4_finds_182 ?_
  refine s_lstoreD (pc := 183) (ls' := [some (2, 111), none, some (0, v2), some (1, v3), none, some (0, v5), some (0, v6), some (0, v7), some (0, v8), some (0, v9), some (0, v10), some (0, p_16), some (1, 0), none, none]) dX4_finds_183 rfl (Nat.le_of_ble_eq_true rfl) ?_
  refine s_iload_n (pc := 185) dX4_finds_185 rfl ?_
  refine s_iload (pc := 186) dX4_finds_186 rfl ?_
  refine s_iadd (pc := 188) dX4_finds_188 ?_
  refine s_iload (pc := 189) dX4_finds_189 rfl ?_
  refine s_icmp_gt (pc := 191) (tgt := 256) dX4_finds_191 rfl ?_ ?_
  · exact sX4_finds_j256 v2 v3 v5 v6 v7 v8 v9 v10 p_16 0 c
  refine s_iconst (pc := 194) dX4_finds_194 ?_
  refine s_istoreD (pc := 195) (ls' := [some (2, 111), none, some (0, v2), some (1, v3), none, some (0, v5), some (0, v6), some (0, v7), some (0, v8), some (0, v9), some (0, v10), some (0, p_16), some (1, 0), none, some (0, 0)]) dX4_finds_195 rfl (Nat.le_of_ble_eq_true rfl) ?_
  refine s_wk [true, true, true, true, true, true, true, true, true, true, true, true, false, true, true] (ls' := [some (2, 111), none, some (0, v2), some (1, v3), none, some (0, v5), some (0, v6), some (0, v7), some (0, v8), some (0, v9), some (0, v10), some (0, p_16), none, none, some (0, 0)]) rfl ?_
  refine s_loop (g := gX4_finds_l197 G Γ r sz sl td v2 v3 v5 v6 v7 v8 v9 v10 p_16) (Ex := eX4_finds_l197 G Γ r sz sl td v2 v3 v5 v6 v7 v8 v9 v10 p_16) (s0 := (0, c)) (fun s => sX4_finds_l197 v2 v3 v5 v6 v7 v8 v9 v10 p_16 s.1 s.2) ?_
  intro e_27
  show Sm _ _ (WP G Γ muX4_finds r 239 [some (2, 111), none, some (0, v2), some (1, v3), none, some (0, v5), some (0, v6), some (0, v7), some (0, v8), some (0, v9), some (0, v10), some (0, p_16), none, none, none] [] (sz, sl, tt td, cv e_27))
  refine s_aload_n (pc := 239) dX4_finds_239 rfl ?_
  refine s_get (pc := 240) (a := 111) (v := 146) flX4_121 (t_111 _) rfl (g_111_52 _) rfl dX4_finds_240 ?_
  refine s_bipush (pc := 243) dX4_finds_243 ?_
  refine s_iload_n (pc := 245) dX4_finds_245 rfl ?_
  refine s_iload (pc := 246) dX4_finds_246 rfl ?_
  refine s_iadd (pc := 248) dX4_finds_248 ?_
  refine s_imul (pc := 249) dX4_finds_249 ?_
  refine s_iload (pc := 250) dX4_finds_250 rfl ?_
  refine s_iadd (pc := 252) dX4_finds_252 ?_
  refine s_laldM (pc := 253) (a := 146) (t_146 _) rfl r_146 dX4_finds_253 ?_
  refine s_lstore (pc := 254) (lf := fun x => [some (2, 111), none, some (0, v2), some (1, v3), none, some (0, v5), some (0, v6), some (0, v7), some (0, v8), some (0, v9), some (0, v10), some (0, p_16), some (1, x), none, none]) dX4_finds_254 (fun _ => rfl) (Nat.le_of_ble_eq_true rfl) (fun v12_28 => ?_)
  exact sX4_finds_j256 v2 v3 v5 v6 v7 v8 v9 v10 p_16 v12_28 e_27
abbrev gX4_finds_l89 (G : GG) (Γ : Cx) (r : Vv × Wd) (sz sl : Nat) (td : TT) (v5 : Int) (v6 : Int) : (Int × Int × Int × Int × CC) → Prop := fun s => WP G Γ muX4_finds r 89 [some (2, 111), none, some (0, s.1), some (1, s.2.1), none, some (0, v5), some (0, v6), some (0, s.2.2.1), some (0, s.2.2.2.1), none, none, none, none, none, none] [] (sz, sl, tt td, cv s.2.2.2.2)
abbrev eX4_finds_l89 (G : GG) (Γ : Cx) (r : Vv × Wd) (sz sl : Nat) (td : TT) (v5 : Int) (v6 : Int) : (Int × Int × CC) → Prop := (fun s => WP G Γ muX4_finds r 310 [some (2, 111), none, some (0, s.1), some (1, s.2.1), none, some (0, v5), none, none, none, none, none, none, none, none, none] [] (sz, sl, tt td, cv s.2.2))
noncomputable def fX4_finds_l89 (v5 : Int) (v6 : Int) (v2 : Int) (v3 : Int) (v7 : Int) (v8 : Int) (c : CC) : Option ((Int × Int × Int × Int × CC) ⊕ (Int × Int × CC)) :=
  cl (fX4_senses  c) fun p_11 =>
   if v8 < p_11 then
  (if v7 = -1 then
  (cl (fX4_at24 v8 c) fun p_12 =>
   gd ((0 : Int) ≤ p_12 ∧ p_12 < 144) <|
   gd (inR (10 + v5)) <|
   gd ((0 : Int) ≤ 10 + v5 ∧ 10 + v5 < 40) <|
   if c 118 (Int.toNat p_12) = c 112 (Int.toNat (10 + v5)) then
  (gd ((0 : Int) ≤ p_12 ∧ p_12 < 144) <|
   if c 122 (Int.toNat p_12) = v6 then
  (cl (wh (fun s => fX4_finds_l147 v5 v6 v8 p_12 s.1 s.2.1 s.2.2.1 s.2.2.2.1 s.2.2.2.2) (v2, v3, v7, 1, c)) (fun e_29 =>
  gd (inR (v8 + 1)) <| bd (v8 + 1) fun v8_30 =>
   some (.inl (e_29.1, e_29.2.1, e_29.2.2.1, v8_30, e_29.2.2.2))))
  else
  (gd (inR (v8 + 1)) <| bd (v8 + 1) fun v8_14 =>
   some (.inl (v2, v3, v7, v8_14, c))))
  else
  (gd (inR (v8 + 1)) <| bd (v8 + 1) fun v8_13 =>
   some (.inl (v2, v3, v7, v8_13, c))))
  else
  (some (.inr (v2, v3, c))))
  else
  (some (.inr (v2, v3, c)))
theorem sX4_finds_l89 {G : GG} {Γ : Cx} {r : Vv × Wd} {sz sl : Nat} {td : TT} (v5 : Int) (v6 : Int) (v2 : Int) (v3 : Int) (v7 : Int) (v8 : Int) (c : CC) : Sm (fX4_finds_l89 v5 v6 v2 v3 v7 v8 c) (fun x => Sum.elim (gX4_finds_l89 G Γ r sz sl td v5 v6) (eX4_finds_l89 G Γ r sz sl td v5 v6) x) (gX4_finds_l89 G Γ r sz sl td v5 v6 (v2, v3, v7, v8, c)) := by
  show Sm _ _ (WP G Γ muX4_finds r 89 [some (2, 111), none, some (0, v2), some (1, v3), none, some (0, v5), some (0, v6), some (0, v7), some (0, v8), none, none, none, none, none, none] [] (sz, sl, tt td, cv c))
  unfold fX4_finds_l89
  refine s_iload (pc := 89) dX4_finds_89 rfl ?_
  refine s_aload_n (pc := 91) dX4_finds_91 rfl ?_
  refine s_callV3 (pc := 92) (a := 111) (as := []) (st := [(0, v8)]) (rv := fun b => ((0, b), (sz, sl, tt td, cv c))) (st3 := fun b => [(0, b), (0, v8)]) (w3 := fun b => (sz, sl, tt td, cv c)) mvX4_409 (fun b h => kX4_senses  c b h) rfl (by decide) (t_111 td) rfl rfl rfl (Nat.le_of_ble_eq_true rfl) (fun _ => Nat.le_of_ble_eq_true rfl) (fun _ => ⟨rfl, rfl⟩) dX4_finds_92 (fun p_11 => ?_)
  refine s_icmp_ge (pc := 95) (tgt := 310) dX4_finds_95 rfl ?_ ?_
  · refine s_wk [true, true, true, true, true, true, false, false, false, true, true, true, true, true, true] (ls' := [some (2, 111), none, some (0, v2), some (1, v3), none, some (0, v5), none, none, none, none, none, none, none, none, none]) rfl ?_
    exact Sm.some (fun h => h)
  refine s_iload (pc := 98) dX4_finds_98 rfl ?_
  refine s_iconst (pc := 100) dX4_finds_100 ?_
  refine s_icmp_ne (pc := 101) (tgt := 310) dX4_finds_101 rfl ?_ ?_
  · refine s_wk [true, true, true, true, true, true, false, false, false, true, true, true, true, true, true] (ls' := [some (2, 111), none, some (0, v2), some (1, v3), none, some (0, v5), none, none, none, none, none, none, none, none, none]) rfl ?_
    exact Sm.some (fun h => h)
  refine s_aload_n (pc := 104) dX4_finds_104 rfl ?_
  refine s_iload (pc := 105) dX4_finds_105 rfl ?_
  refine s_callV3 (pc := 107) (a := 111) (as := [(0, v8)]) (st := []) (rv := fun b => ((0, b), (sz, sl, tt td, cv c))) (st3 := fun b => [(0, b)]) (w3 := fun b => (sz, sl, tt td, cv c)) mvX4_412 (fun b h => kX4_at24 v8 c b h) rfl (by decide) (t_111 td) rfl rfl rfl (Nat.le_of_ble_eq_true rfl) (fun _ => Nat.le_of_ble_eq_true rfl) (fun _ => ⟨rfl, rfl⟩) dX4_finds_107 (fun p_12 => ?_)
  refine s_istoreD (pc := 110) (ls' := [some (2, 111), none, some (0, v2), some (1, v3), none, some (0, v5), some (0, v6), some (0, v7), some (0, v8), some (0, p_12), none, none, none, none, none]) dX4_finds_110 rfl (Nat.le_of_ble_eq_true rfl) ?_
  refine s_aload_n (pc := 112) dX4_finds_112 rfl ?_
  refine s_get (pc := 113) (a := 111) (v := 118) flX4_36 (t_111 _) rfl (g_111_9 _) rfl dX4_finds_113 ?_
  refine s_iload (pc := 116) dX4_finds_116 rfl ?_
  refine s_ialdM (pc := 118) (a := 118) (t_118 _) rfl r_118 dX4_finds_118 ?_
  refine s_aload_n (pc := 119) dX4_finds_119 rfl ?_
  refine s_get (pc := 120) (a := 111) (v := 112) flX4_7 (t_111 _) rfl (g_111_0 _) rfl dX4_finds_120 ?_
  refine s_bipush (pc := 123) dX4_finds_123 ?_
  refine s_iload (pc := 125) dX4_finds_125 rfl ?_
  refine s_iadd (pc := 127) dX4_finds_127 ?_
  refine s_ialdM (pc := 128) (a := 112) (t_112 _) rfl r_112 dX4_finds_128 ?_
  refine s_icmp_ne (pc := 129) (tgt := 304) dX4_finds_129 rfl ?_ ?_
  · refine s_iinc (pc := 304) (lf := fun x => [some (2, 111), none, some (0, v2), some (1, v3), none, some (0, v5), some (0, v6), some (0, v7), some (0, x), some (0, p_12), none, none, none, none, none]) dX4_finds_304 rfl (fun _ => rfl) (Nat.le_of_ble_eq_true rfl) (fun v8_13 => ?_)
    refine s_goto (pc := 307) (tgt := 89) dX4_finds_307 rfl ?_
    refine s_wk [true, true, true, true, true, true, true, true, true, false, true, true, true, true, true] (ls' := [some (2, 111), none, some (0, v2), some (1, v3), none, some (0, v5), some (0, v6), some (0, v7), some (0, v8_13), none, none, none, none, none, none]) rfl ?_
    exact Sm.some (fun h => h)
  refine s_aload_n (pc := 132) dX4_finds_132 rfl ?_
  refine s_get (pc := 133) (a := 111) (v := 122) flX4_48 (t_111 _) rfl (g_111_13 _) rfl dX4_finds_133 ?_
  refine s_iload (pc := 136) dX4_finds_136 rfl ?_
  refine s_ialdM (pc := 138) (a := 122) (t_122 _) rfl r_122 dX4_finds_138 ?_
  refine s_iload (pc := 139) dX4_finds_139 rfl ?_
  refine s_icmp_ne (pc := 141) (tgt := 304) dX4_finds_141 rfl ?_ ?_
  · refine s_iinc (pc := 304) (lf := fun x => [some (2, 111), none, some (0, v2), some (1, v3), none, some (0, v5), some (0, v6), some (0, v7), some (0, x), some (0, p_12), none, none, none, none, none]) dX4_finds_304 rfl (fun _ => rfl) (Nat.le_of_ble_eq_true rfl) (fun v8_14 => ?_)
    refine s_goto (pc := 307) (tgt := 89) dX4_finds_307 rfl ?_
    refine s_wk [true, true, true, true, true, true, true, true, true, false, true, true, true, true, true] (ls' := [some (2, 111), none, some (0, v2), some (1, v3), none, some (0, v5), some (0, v6), some (0, v7), some (0, v8_14), none, none, none, none, none, none]) rfl ?_
    exact Sm.some (fun h => h)
  refine s_iconst (pc := 144) dX4_finds_144 ?_
  refine s_istoreD (pc := 145) (ls' := [some (2, 111), none, some (0, v2), some (1, v3), none, some (0, v5), some (0, v6), some (0, v7), some (0, v8), some (0, p_12), some (0, 1), none, none, none, none]) dX4_finds_145 rfl (Nat.le_of_ble_eq_true rfl) ?_
  refine s_loop (g := gX4_finds_l147 G Γ r sz sl td v5 v6 v8 p_12) (Ex := eX4_finds_l147 G Γ r sz sl td v5 v6 v8 p_12) (s0 := (v2, v3, v7, 1, c)) (fun s => sX4_finds_l147 v5 v6 v8 p_12 s.1 s.2.1 s.2.2.1 s.2.2.2.1 s.2.2.2.2) ?_
  intro e_29
  show Sm _ _ (WP G Γ muX4_finds r 304 [some (2, 111), none, some (0, e_29.1), some (1, e_29.2.1), none, some (0, v5), some (0, v6), some (0, e_29.2.2.1), some (0, v8), none, none, none, none, none, none] [] (sz, sl, tt td, cv e_29.2.2.2))
  refine s_iinc (pc := 304) (lf := fun x => [some (2, 111), none, some (0, e_29.1), some (1, e_29.2.1), none, some (0, v5), some (0, v6), some (0, e_29.2.2.1), some (0, x), none, none, none, none, none, none]) dX4_finds_304 rfl (fun _ => rfl) (Nat.le_of_ble_eq_true rfl) (fun v8_30 => ?_)
  refine s_goto (pc := 307) (tgt := 89) dX4_finds_307 rfl ?_
  exact Sm.some (fun h => h)
abbrev gX4_finds_l67 (G : GG) (Γ : Cx) (r : Vv × Wd) (sz sl : Nat) (td : TT)  : (Int × Int × Int × CC) → Prop := fun s => WP G Γ muX4_finds r 67 [some (2, 111), none, some (0, s.1), some (1, s.2.1), none, some (0, s.2.2.1), none, none, none, none, none, none, none, none, none] [] (sz, sl, tt td, cv s.2.2.2)
abbrev eX4_finds_l67 (G : GG) (Γ : Cx) (r : Vv × Wd) (sz sl : Nat) (td : TT)  : (CC) → Prop := (fun s => WP G Γ muX4_finds r 316 [none, none, none, none, none, none, none, none, none, none, none, none, none, none, none] [] (sz, sl, tt td, cv s))
noncomputable def fX4_finds_l67 (v2 : Int) (v3 : Int) (v5 : Int) (c : CC) : Option ((Int × Int × Int × CC) ⊕ (CC)) :=
  if v5 < 0 then
  (some (.inr c))
  else
  (gd (inR (v2 + -1)) <| bd (v2 + -1) fun v2_9 =>
   gd ((0 : Int) ≤ v2_9 ∧ v2_9 < 32) <|
   bd (c 145 (Int.toNat v2_9)) fun v6_10 =>
   cl (wh (fun s => fX4_finds_l89 v5 v6_10 s.1 s.2.1 s.2.2.1 s.2.2.2.1 s.2.2.2.2) (v2_9, v3, (-1), 0, c)) (fun e_31 =>
  gd (inR (v5 + -1)) <| bd (v5 + -1) fun v5_32 =>
   some (.inl (e_31.1, e_31.2.1, v5_32, e_31.2.2))))
theorem sX4_finds_l67 {G : GG} {Γ : Cx} {r : Vv × Wd} {sz sl : Nat} {td : TT} (v2 : Int) (v3 : Int) (v5 : Int) (c : CC) : Sm (fX4_finds_l67 v2 v3 v5 c) (fun x => Sum.elim (gX4_finds_l67 G Γ r sz sl td ) (eX4_finds_l67 G Γ r sz sl td ) x) (gX4_finds_l67 G Γ r sz sl td  (v2, v3, v5, c)) := by
  show Sm _ _ (WP G Γ muX4_finds r 67 [some (2, 111), none, some (0, v2), some (1, v3), none, some (0, v5), none, none, none, none, none, none, none, none, none] [] (sz, sl, tt td, cv c))
  unfold fX4_finds_l67
  refine s_iload (pc := 67) dX4_finds_67 rfl ?_
  refine s_if_lt (pc := 69) (tgt := 316) dX4_finds_69 rfl ?_ ?_
  · refine s_wk [false, true, false, false, true, false, true, true, true, true, true, true, true, true, true] (ls' := [none, none, none, none, none, none, none, none, none, none, none, none, none, none, none]) rfl ?_
    exact Sm.some (fun h => h)
  refine s_iinc (pc := 72) (lf := fun x => [some (2, 111), none, some (0, x), some (1, v3), none, some (0, v5), none, none, none, none, none, none, none, none, none]) dX4_finds_72 rfl (fun _ => rfl) (Nat.le_of_ble_eq_true rfl) (fun v2_9 => ?_)
  refine s_aload_n (pc := 75) dX4_finds_75 rfl ?_
  refine s_get (pc := 76) (a := 111) (v := 145) flX4_118 (t_111 _) rfl (g_111_51 _) rfl dX4_finds_76 ?_
  refine s_iload_n (pc := 79) dX4_finds_79 rfl ?_
  refine s_ialdM (pc := 80) (a := 145) (t_145 _) rfl r_145 dX4_finds_80 ?_
  refine s_istore (pc := 81) (lf := fun x => [some (2, 111), none, some (0, v2_9), some (1, v3), none, some (0, v5), some (0, x), none, none, none, none, none, none, none, none]) dX4_finds_81 (fun _ => rfl) (Nat.le_of_ble_eq_true rfl) (fun v6_10 => ?_)
  refine s_iconst (pc := 83) dX4_finds_83 ?_
  refine s_istoreD (pc := 84) (ls' := [some (2, 111), none, some (0, v2_9), some (1, v3), none, some (0, v5), some (0, v6_10), some (0, -1), none, none, none, none, none, none, none]) dX4_finds_84 rfl (Nat.le_of_ble_eq_true rfl) ?_
  refine s_iconst (pc := 86) dX4_finds_86 ?_
  refine s_istoreD (pc := 87) (ls' := [some (2, 111), none, some (0, v2_9), some (1, v3), none, some (0, v5), some (0, v6_10), some (0, -1), some (0, 0), none, none, none, none, none, none]) dX4_finds_87 rfl (Nat.le_of_ble_eq_true rfl) ?_
  refine s_loop (g := gX4_finds_l89 G Γ r sz sl td v5 v6_10) (Ex := eX4_finds_l89 G Γ r sz sl td v5 v6_10) (s0 := (v2_9, v3, (-1), 0, c)) (fun s => sX4_finds_l89 v5 v6_10 s.1 s.2.1 s.2.2.1 s.2.2.2.1 s.2.2.2.2) ?_
  intro e_31
  show Sm _ _ (WP G Γ muX4_finds r 310 [some (2, 111), none, some (0, e_31.1), some (1, e_31.2.1), none, some (0, v5), none, none, none, none, none, none, none, none, none] [] (sz, sl, tt td, cv e_31.2.2))
  refine s_iinc (pc := 310) (lf := fun x => [some (2, 111), none, some (0, e_31.1), some (1, e_31.2.1), none, some (0, x), none, none, none, none, none, none, none, none, none]) dX4_finds_310 rfl (fun _ => rfl) (Nat.le_of_ble_eq_true rfl) (fun v5_32 => ?_)
  refine s_goto (pc := 313) (tgt := 67) dX4_finds_313 rfl ?_
  exact Sm.some (fun h => h)
noncomputable def fX4_finds (a1 : Int) (c : CC) : Option (Int × CC) :=
  if a1 < 0 then
  (gd ((0 : Int) ≤ 0 ∧ (0 : Int) < 2) (some (0, c)))
  else
  (cl (fX4_readings  c) fun p_1 =>
   if a1 < p_1 then
  (cl (wh (fun s => fX4_finds_l18 a1 s.1 s.2) (0, c)) (fun e_6 =>
  bd (up2 e_6 145 0 0) fun c_7 =>
   gd (inR ((c_7 112 2) - 1)) <|
   bd ((c_7 112 2) - 1) fun v5_8 =>
   cl (wh (fun s => fX4_finds_l67  s.1 s.2.1 s.2.2.1 s.2.2.2) (1, a1, v5_8, c_7)) (fun e_33 =>
  gd ((0 : Int) ≤ 1 ∧ (1 : Int) < 2) (some (1, e_33)))))
  else
  (gd ((0 : Int) ≤ 0 ∧ (0 : Int) < 2) (some (0, c))))
theorem sX4_finds {G : GG} {Γ : Cx} {r : Vv × Wd} {sz sl : Nat} {td : TT} (a1 : Int) (c : CC) : Sm (fX4_finds a1 c) (fun x => r = ((0, x.1), (sz, sl, tt td, cv x.2))) (WP G Γ muX4_finds r 0 [some (2, 111), some (0, a1), none, none, none, none, none, none, none, none, none, none, none, none, none] [] (sz, sl, tt td, cv c)) := by
  unfold fX4_finds
  refine s_iload_n (pc := 0) dX4_finds_0 rfl ?_
  refine s_if_lt (pc := 1) (tgt := 14) dX4_finds_1 rfl ?_ ?_
  · refine s_iconst (pc := 14) dX4_finds_14 ?_
    exact s_zret (pc := 15) dX4_finds_15 rfl (fun h => h)
  refine s_iload_n (pc := 4) dX4_finds_4 rfl ?_
  refine s_i2l (pc := 5) dX4_finds_5 ?_
  refine s_aload_n (pc := 6) dX4_finds_6 rfl ?_
  refine s_callV3 (pc := 7) (a := 111) (as := []) (st := [(1, a1)]) (rv := fun b => ((1, b), (sz, sl, tt td, cv c))) (st3 := fun b => [(1, b), (1, a1)]) (w3 := fun b => (sz, sl, tt td, cv c)) mvX4_444 (fun b h => kX4_readings  c b h) rfl (by decide) (t_111 td) rfl rfl rfl (Nat.le_of_ble_eq_true rfl) (fun _ => Nat.le_of_ble_eq_true rfl) (fun _ => ⟨rfl, rfl⟩) dX4_finds_7 (fun p_1 => ?_)
  refine s_lcmp_lt (pc := 10) (tgt := 16) dX4_finds_10 dX4_finds_11 rfl ?_ ?_
  · refine s_iconst (pc := 16) dX4_finds_16 ?_
    refine s_istore_nD (pc := 17) (ls' := [some (2, 111), some (0, a1), some (0, 0), none, none, none, none, none, none, none, none, none, none, none, none]) dX4_finds_17 rfl (Nat.le_of_ble_eq_true rfl) ?_
    refine s_loop (g := gX4_finds_l18 G Γ r sz sl td a1) (Ex := eX4_finds_l18 G Γ r sz sl td a1) (s0 := (0, c)) (fun s => sX4_finds_l18 a1 s.1 s.2) ?_
    intro e_6
    show Sm _ _ (WP G Γ muX4_finds r 45 [some (2, 111), some (0, a1), none, none, none, none, none, none, none, none, none, none, none, none, none] [] (sz, sl, tt td, cv e_6))
    refine s_aload_n (pc := 45) dX4_finds_45 rfl ?_
    refine s_get (pc := 46) (a := 111) (v := 145) flX4_118 (t_111 _) rfl (g_111_51 _) rfl dX4_finds_46 ?_
    refine s_iconst (pc := 49) dX4_finds_49 ?_
    refine s_iconst (pc := 50) dX4_finds_50 ?_
    refine s_iastML (pc := 51) (a := 145) 0 rfl (Nat.le_of_ble_eq_true rfl) (t_145 _) rfl kO_145 r_145 dX4_finds_51 (fun c_7 => ?_)
    refine s_iconst (pc := 52) dX4_finds_52 ?_
    refine s_istore_nD (pc := 53) (ls' := [some (2, 111), some (0, a1), some (0, 1), none, none, none, none, none, none, none, none, none, none, none, none]) dX4_finds_53 rfl (Nat.le_of_ble_eq_true rfl) ?_
    refine s_iload_n (pc := 54) dX4_finds_54 rfl ?_
    refine s_i2l (pc := 55) dX4_finds_55 ?_
    refine s_lstore_nD (pc := 56) (ls' := [some (2, 111), some (0, a1), some (0, 1), some (1, a1), none, none, none, none, none, none, none, none, none, none, none]) dX4_finds_56 rfl (Nat.le_of_ble_eq_true rfl) ?_
    refine s_aload_n (pc := 57) dX4_finds_57 rfl ?_
    refine s_get (pc := 58) (a := 111) (v := 112) flX4_7 (t_111 _) rfl (g_111_0 _) rfl dX4_finds_58 ?_
    refine s_iconst (pc := 61) dX4_finds_61 ?_
    refine s_ialdML (pc := 62) (a := 112) 2 rfl (Nat.le_of_ble_eq_true rfl) (t_112 _) rfl r_112 dX4_finds_62 ?_
    refine s_iconst (pc := 63) dX4_finds_63 ?_
    refine s_isub (pc := 64) dX4_finds_64 ?_
    refine s_istore (pc := 65) (lf := fun x => [some (2, 111), some (0, a1), some (0, 1), some (1, a1), none, some (0, x), none, none, none, none, none, none, none, none, none]) dX4_finds_65 (fun _ => rfl) (Nat.le_of_ble_eq_true rfl) (fun v5_8 => ?_)
    refine s_wk [true, false, true, true, true, true, true, true, true, true, true, true, true, true, true] (ls' := [some (2, 111), none, some (0, 1), some (1, a1), none, some (0, v5_8), none, none, none, none, none, none, none, none, none]) rfl ?_
    refine s_loop (g := gX4_finds_l67 G Γ r sz sl td ) (Ex := eX4_finds_l67 G Γ r sz sl td ) (s0 := (1, a1, v5_8, c_7)) (fun s => sX4_finds_l67  s.1 s.2.1 s.2.2.1 s.2.2.2) ?_
    intro e_33
    show Sm _ _ (WP G Γ muX4_finds r 316 [none, none, none, none, none, none, none, none, none, none, none, none, none, none, none] [] (sz, sl, tt td, cv e_33))
    refine s_iconst (pc := 316) dX4_finds_316 ?_
    exact s_zret (pc := 317) dX4_finds_317 rfl (fun h => h)
  refine s_iconst (pc := 14) dX4_finds_14 ?_
  exact s_zret (pc := 15) dX4_finds_15 rfl (fun h => h)
theorem kX4_finds {G : GG} {sz sl : Nat} {td : TT} (a1 : Int) (c : CC) (x : (Int × CC)) (h : fX4_finds a1 c = some x) : Ct G yX4_finds muX4_finds [(2, 111), (0, a1)] (sz, sl, tt td, cv c) ((0, x.1), (sz, sl, tt td, cv x.2)) :=
  Ct.of (n := 13) (ls0 := [some (2, 111), some (0, a1), none, none, none, none, none, none, none, none, none, none, none, none, none]) (by decide) rfl rfl ⟨by decide, by decide⟩ (Nat.le_of_ble_eq_true rfl) rfl ⟨Nat.le_refl _, Nat.le_refl _⟩ (show (0 : Nat) ≠ 9 by decide) (fun Γ => sX4_finds a1 c x h rfl)
