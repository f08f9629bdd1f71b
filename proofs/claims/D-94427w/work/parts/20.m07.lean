/-! LAYER 2: methods of HeldTongueModel, by gen/decomp.py -/
set_option maxRecDepth 100000
theorem fpX4_510 (nm : String) : FP RX4 510 3 69 nm := ⟨_, _, _, cf3, by decide, q1313, Or.inl rfl⟩
theorem fpX4_510t : fty 3 69 ≠ .boolean ∧ fty 3 69 ≠ .byte ∧ fty 3 69 ≠ .char ∧ fty 3 69 ≠ .short := by decide
theorem mvX4_513 : MV RX4 513 RX4 yX4_says muX4_says 1 := ⟨lw_V q1791 q1793 qs101 q129 q1794, by decide +kernel, by decide⟩
theorem flX4_160 : FL RX4 160 3 68 := ⟨_, _, _, cf3, by decide, q1312⟩
theorem flX4_510 : FL RX4 510 3 69 := ⟨_, _, _, cf3, by decide, q1313⟩
abbrev muX4_means : MI := (cX4_means, RX4, 2, some .int, 6, "means")
abbrev gX4_means_l12 (G : GG) (Γ : Cx) (r : Vv × Wd) (sz sl : Nat) (td : TT)  : (Int × CC) → Prop := fun s => WP G Γ muX4_means r 12 [some (2, 111), some (0, s.1)] [] (sz, sl, tt td, cv s.2)
abbrev eX4_means_l12 (G : GG) (Γ : Cx) (r : Vv × Wd) (sz sl : Nat) (td : TT)  : (CC) → Prop := (fun s => WP G Γ muX4_means r 65 [some (2, 111), none] [] (sz, sl, tt td, cv s))
noncomputable def fX4_means_l12 (v1 : Int) (c : CC) : Option ((Int × CC) ⊕ (CC)) :=
  if v1 < c 112 2 then
  (cl (fX4_says v1 c) fun p_3 =>
   gd (inR ((p_3 111 67) - 1)) <|
   gd ((0 : Int) ≤ (p_3 111 67) - 1 ∧ (p_3 111 67) - 1 < 26) <|
   gd ((0 : Int) ≤ v1 ∧ v1 < 24) <| bd (up2 p_3 159 (Int.toNat v1) (p_3 157 (Int.toNat ((p_3 111 67) - 1)))) fun c_4 =>
   cl (fX4_greater (c_4 111 69) (c_4 111 67)) fun p_5 =>
   bd (up2 c_4 111 69 p_5) fun c_6 =>
   gd (inR (v1 + 1)) <| bd (v1 + 1) fun v1_7 =>
   some (.inl (v1_7, c_6)))
  else
  (some (.inr c))
theorem sX4_means_l12 {G : GG} {Γ : Cx} {r : Vv × Wd} {sz sl : Nat} {td : TT} (v1 : Int) (c : CC) : Sm (fX4_means_l12 v1 c) (fun x => Sum.elim (gX4_means_l12 G Γ r sz sl td ) (eX4_means_l12 G Γ r sz sl td ) x) (gX4_means_l12 G Γ r sz sl td  (v1, c)) := by
  show Sm _ _ (WP G Γ muX4_means r 12 [some (2, 111), some (0, v1)] [] (sz, sl, tt td, cv c))
  unfold fX4_means_l12
  refine s_iload_n (pc := 12) dX4_means_12 rfl ?_
  refine s_aload_n (pc := 13) dX4_means_13 rfl ?_
  refine s_get (pc := 14) (a := 111) (v := 112) flX4_7 (t_111 _) rfl (g_111_0 _) rfl dX4_means_14 ?_
  refine s_iconst (pc := 17) dX4_means_17 ?_
  refine s_ialdML (pc := 18) (a := 112) 2 rfl (Nat.le_of_ble_eq_true rfl) (t_112 _) rfl r_112 dX4_means_18 ?_
  refine s_icmp_ge (pc := 19) (tgt := 65) dX4_means_19 rfl ?_ ?_
  · refine s_wk [true, false] (ls' := [some (2, 111), none]) rfl ?_
    exact Sm.some (fun h => h)
  refine s_aload_n (pc := 22) dX4_means_22 rfl ?_
  refine s_iload_n (pc := 23) dX4_means_23 rfl ?_
  refine s_callV3 (pc := 24) (a := 111) (as := [(0, v1)]) (st := []) (rv := fun b => ((3, 0), (sz, sl, tt td, cv b))) (st3 := fun b => []) (w3 := fun b => (sz, sl, tt td, cv b)) mvX4_513 (fun b h => kX4_says v1 c b h) rfl (by decide) (t_111 td) rfl rfl rfl (Nat.le_of_ble_eq_true rfl) (fun _ => Nat.le_of_ble_eq_true rfl) (fun _ => ⟨rfl, rfl⟩) dX4_means_24 (fun p_3 => ?_)
  refine s_aload_n (pc := 27) dX4_means_27 rfl ?_
  refine s_get (pc := 28) (a := 111) (v := 159) flX4_160 (t_111 _) rfl (g_111_68 _) rfl dX4_means_28 ?_
  refine s_iload_n (pc := 31) dX4_means_31 rfl ?_
  refine s_aload_n (pc := 32) dX4_means_32 rfl ?_
  refine s_get (pc := 33) (a := 111) (v := 157) flX4_154 (t_111 _) rfl (g_111_65 _) rfl dX4_means_33 ?_
  refine s_aload_n (pc := 36) dX4_means_36 rfl ?_
  refine s_get (pc := 37) (a := 111) (v := p_3 111 67) flX4_492 (t_111 _) rfl (g_111_67 _) rfl dX4_means_37 ?_
  refine s_iconst (pc := 40) dX4_means_40 ?_
  refine s_isub (pc := 41) dX4_means_41 ?_
  refine s_ialdM (pc := 42) (a := 157) (t_157 _) rfl r_157 dX4_means_42 ?_
  refine s_iastM (pc := 43) (a := 159) (t_159 _) rfl kO_159 r_159 dX4_means_43 (fun c_4 => ?_)
  refine s_aload_n (pc := 44) dX4_means_44 rfl ?_
  refine s_aload_n (pc := 45) dX4_means_45 rfl ?_
  refine s_get (pc := 46) (a := 111) (v := c_4 111 69) flX4_510 (t_111 _) rfl (g_111_69 _) rfl dX4_means_46 ?_
  refine s_aload_n (pc := 49) dX4_means_49 rfl ?_
  refine s_get (pc := 50) (a := 111) (v := c_4 111 67) flX4_492 (t_111 _) rfl (g_111_67 _) rfl dX4_means_50 ?_
  refine s_callS3 (pc := 53) (as := [(0, c_4 111 69), (0, c_4 111 67)]) (st := [(2, 111)]) (rv := fun b => ((0, b), (sz, sl, tt td, cv c_4))) (st3 := fun b => [(0, b), (2, 111)]) (w3 := fun b => (sz, sl, tt td, cv c_4)) msX4_477 (fun b h => kX4_greater (c_4 111 69) (c_4 111 67) c_4 b h) rfl (by decide) rfl (Nat.le_of_ble_eq_true rfl) (fun _ => Nat.le_of_ble_eq_true rfl) (fun _ => ⟨rfl, rfl⟩) dX4_means_53 (fun p_5 => ?_)
  refine s_putM (pc := 56) (a := 111) (fpX4_510 _) (t_111 _) rfl kO_111 n_111_69 rfl (fpX4_510t) dX4_means_56 (fun c_6 => ?_)
  refine s_iinc (pc := 59) (lf := fun x => [some (2, 111), some (0, x)]) dX4_means_59 rfl (fun _ => rfl) (Nat.le_of_ble_eq_true rfl) (fun v1_7 => ?_)
  refine s_goto (pc := 62) (tgt := 12) dX4_means_62 rfl ?_
  exact Sm.some (fun h => h)
noncomputable def fX4_means  (c : CC) : Option (Int × CC) :=
  bd (up2 c 111 67 0) fun c_1 =>
   bd (up2 c_1 111 69 0) fun c_2 =>
   cl (wh (fun s => fX4_means_l12  s.1 s.2) (0, c_2)) (fun e_8 =>
  some (e_8 156 0, e_8))
theorem sX4_means {G : GG} {Γ : Cx} {r : Vv × Wd} {sz sl : Nat} {td : TT}  (c : CC) : Sm (fX4_means  c) (fun x => r = ((0, x.1), (sz, sl, tt td, cv x.2))) (WP G Γ muX4_means r 0 [some (2, 111), none] [] (sz, sl, tt td, cv c)) := by
  unfold fX4_means
  refine s_aload_n (pc := 0) dX4_means_0 rfl ?_
  refine s_iconst (pc := 1) dX4_means_1 ?_
  refine s_putM (pc := 2) (a := 111) (fpX4_492 _) (t_111 _) rfl kO_111 n_111_67 rfl (fpX4_492t) dX4_means_2 (fun c_1 => ?_)
  refine s_aload_n (pc := 5) dX4_means_5 rfl ?_
  refine s_iconst (pc := 6) dX4_means_6 ?_
  refine s_putM (pc := 7) (a := 111) (fpX4_510 _) (t_111 _) rfl kO_111 n_111_69 rfl (fpX4_510t) dX4_means_7 (fun c_2 => ?_)
  refine s_iconst (pc := 10) dX4_means_10 ?_
  refine s_istore_nD (pc := 11) (ls' := [some (2, 111), some (0, 0)]) dX4_means_11 rfl (Nat.le_of_ble_eq_true rfl) ?_
  refine s_loop (g := gX4_means_l12 G Γ r sz sl td ) (Ex := eX4_means_l12 G Γ r sz sl td ) (s0 := (0, c_2)) (fun s => sX4_means_l12  s.1 s.2) ?_
  intro e_8
  show Sm _ _ (WP G Γ muX4_means r 65 [some (2, 111), none] [] (sz, sl, tt td, cv e_8))
  refine s_aload_n (pc := 65) dX4_means_65 rfl ?_
  refine s_get (pc := 66) (a := 111) (v := 156) flX4_151 (t_111 _) rfl (g_111_64 _) rfl dX4_means_66 ?_
  refine s_iconst (pc := 69) dX4_means_69 ?_
  refine s_ialdML (pc := 70) (a := 156) 0 rfl (Nat.le_of_ble_eq_true rfl) (t_156 _) rfl r_156 dX4_means_70 ?_
  exact s_iret (pc := 71) dX4_means_71 rfl (fun h => h)
theorem kX4_means {G : GG} {sz sl : Nat} {td : TT}  (c : CC) (x : (Int × CC)) (h : fX4_means  c = some x) : Ct G yX4_means muX4_means [(2, 111)] (sz, sl, tt td, cv c) ((0, x.1), (sz, sl, tt td, cv x.2)) :=
  Ct.of (n := 1) (ls0 := [some (2, 111), none]) (by decide) rfl rfl ⟨by decide, by decide⟩ (Nat.le_of_ble_eq_true rfl) rfl ⟨Nat.le_refl _, Nat.le_refl _⟩ (show (0 : Nat) ≠ 9 by decide) (fun Γ => sX4_means  c x h rfl)
theorem mvX4_519 : MV RX4 519 RX4 yX4_forgets muX4_forgets 0 := ⟨lw_V q1783 q1785 qs99 q129 q1786, by decide +kernel, by decide⟩
theorem mvX4_522 : MV RX4 522 RX4 yX4_means muX4_means 0 := ⟨lw_V q1787 q1789 qs100 q129 q1790, by decide +kernel, by decide⟩
theorem mvX4_516 : MV RX4 516 RX4 yX4_easeOfAll muX4_easeOfAll 0 := ⟨lw_V q1765 q1767 qs96 q129 q1768, by decide +kernel, by decide⟩
abbrev muX4_most : MI := (cX4_most, RX4, 3, some .int, 7, "most")
noncomputable def fX4_most (a1 : Int) (c : CC) : Option (Int × CC) :=
  if a1 = -1 then
  (cl (fX4_easeOfAll  c) fun p_4 =>
   some (p_4.1, p_4.2))
  else
  (cl (fX4_reads a1 c) fun p_1 =>
   if p_1.1 = 0 then
  (some (-1, p_1.2))
  else
  (cl (fX4_forgets  p_1.2) fun p_2 =>
   cl (fX4_means  p_2) fun p_3 =>
   some (p_3.2 111 69, p_3.2)))
theorem sX4_most {G : GG} {Γ : Cx} {r : Vv × Wd} {sz sl : Nat} {td : TT} (a1 : Int) (c : CC) : Sm (fX4_most a1 c) (fun x => r = ((0, x.1), (sz, sl, tt td, cv x.2))) (WP G Γ muX4_most r 0 [some (2, 111), some (0, a1), none] [] (sz, sl, tt td, cv c)) := by
  unfold fX4_most
  refine s_iload_n (pc := 0) dX4_most_0 rfl ?_
  refine s_iconst (pc := 1) dX4_most_1 ?_
  refine s_icmp_ne (pc := 2) (tgt := 10) dX4_most_2 rfl ?_ ?_
  · refine s_aload_n (pc := 10) dX4_most_10 rfl ?_
    refine s_iload_n (pc := 11) dX4_most_11 rfl ?_
    refine s_callV3 (pc := 12) (a := 111) (as := [(0, a1)]) (st := []) (rv := fun b => ((0, b.1), (sz, sl, tt td, cv b.2))) (st3 := fun b => [(0, b.1)]) (w3 := fun b => (sz, sl, tt td, cv b.2)) mvX4_471 (fun b h => kX4_reads a1 c b h) rfl (by decide) (t_111 td) rfl rfl rfl (Nat.le_of_ble_eq_true rfl) (fun _ => Nat.le_of_ble_eq_true rfl) (fun _ => ⟨rfl, rfl⟩) dX4_most_12 (fun p_1 => ?_)
    refine s_if_ne (pc := 15) (tgt := 20) dX4_most_15 rfl ?_ ?_
    · refine s_aload_n (pc := 20) dX4_most_20 rfl ?_
      refine s_callV3 (pc := 21) (a := 111) (as := []) (st := []) (rv := fun b => ((3, 0), (sz, sl, tt td, cv b))) (st3 := fun b => []) (w3 := fun b => (sz, sl, tt td, cv b)) mvX4_519 (fun b h => kX4_forgets  p_1.2 b h) rfl (by decide) (t_111 td) rfl rfl rfl (Nat.le_of_ble_eq_true rfl) (fun _ => Nat.le_of_ble_eq_true rfl) (fun _ => ⟨rfl, rfl⟩) dX4_most_21 (fun p_2 => ?_)
      refine s_aload_n (pc := 24) dX4_most_24 rfl ?_
      refine s_callV3 (pc := 25) (a := 111) (as := []) (st := []) (rv := fun b => ((0, b.1), (sz, sl, tt td, cv b.2))) (st3 := fun b => [(0, b.1)]) (w3 := fun b => (sz, sl, tt td, cv b.2)) mvX4_522 (fun b h => kX4_means  p_2 b h) rfl (by decide) (t_111 td) rfl rfl rfl (Nat.le_of_ble_eq_true rfl) (fun _ => Nat.le_of_ble_eq_true rfl) (fun _ => ⟨rfl, rfl⟩) dX4_most_25 (fun p_3 => ?_)
      refine s_istore_nD (pc := 28) (ls' := [some (2, 111), some (0, a1), some (0, p_3.1)]) dX4_most_28 rfl (Nat.le_of_ble_eq_true rfl) ?_
      refine s_aload_n (pc := 29) dX4_most_29 rfl ?_
      refine s_get (pc := 30) (a := 111) (v := p_3.2 111 69) flX4_510 (t_111 _) rfl (g_111_69 _) rfl dX4_most_30 ?_
      exact s_iret (pc := 33) dX4_most_33 rfl (fun h => h)
    refine s_iconst (pc := 18) dX4_most_18 ?_
    exact s_iret (pc := 19) dX4_most_19 rfl (fun h => h)
  refine s_aload_n (pc := 5) dX4_most_5 rfl ?_
  refine s_callV3 (pc := 6) (a := 111) (as := []) (st := []) (rv := fun b => ((0, b.1), (sz, sl, tt td, cv b.2))) (st3 := fun b => [(0, b.1)]) (w3 := fun b => (sz, sl, tt td, cv b.2)) mvX4_516 (fun b h => kX4_easeOfAll  c b h) rfl (by decide) (t_111 td) rfl rfl rfl (Nat.le_of_ble_eq_true rfl) (fun _ => Nat.le_of_ble_eq_true rfl) (fun _ => ⟨rfl, rfl⟩) dX4_most_6 (fun p_4 => ?_)
  exact s_iret (pc := 9) dX4_most_9 rfl (fun h => h)
theorem kX4_most {G : GG} {sz sl : Nat} {td : TT} (a1 : Int) (c : CC) (x : (Int × CC)) (h : fX4_most a1 c = some x) : Ct G yX4_most muX4_most [(2, 111), (0, a1)] (sz, sl, tt td, cv c) ((0, x.1), (sz, sl, tt td, cv x.2)) :=
  Ct.of (n := 1) (ls0 := [some (2, 111), some (0, a1), none]) (by decide) rfl rfl ⟨by decide, by decide⟩ (Nat.le_of_ble_eq_true rfl) rfl ⟨Nat.le_refl _, Nat.le_refl _⟩ (show (0 : Nat) ≠ 9 by decide) (fun Γ => sX4_most a1 c x h rfl)
abbrev muX4_weight : MI := (cX4_weight, RX4, 4, some .int, 7, "weight")
noncomputable def fX4_weight (a1 : Int) (a2 : Int) (c : CC) : Option (Int × CC) :=
  gd (inR ((c 112 2) - 1)) <|
   cl (fX4_in a2 0 ((c 112 2) - 1)) fun p_1 =>
   if p_1 = 0 then
  (some (-1, c))
  else
  (cl (fX4_reads a1 c) fun p_2 =>
   if p_2.1 = 0 then
  (some (-1, p_2.2))
  else
  (cl (fX4_forgets  p_2.2) fun p_3 =>
   cl (fX4_means  p_3) fun p_4 =>
   gd ((0 : Int) ≤ a2 ∧ a2 < 24) <|
   some (p_4.2 159 (Int.toNat a2), p_4.2)))
theorem sX4_weight {G : GG} {Γ : Cx} {r : Vv × Wd} {sz sl : Nat} {td : TT} (a1 : Int) (a2 : Int) (c : CC) : Sm (fX4_weight a1 a2 c) (fun x => r = ((0, x.1), (sz, sl, tt td, cv x.2))) (WP G Γ muX4_weight r 0 [some (2, 111), some (0, a1), some (0, a2), none] [] (sz, sl, tt td, cv c)) := by
  unfold fX4_weight
  refine s_iload_n (pc := 0) dX4_weight_0 rfl ?_
  refine s_iconst (pc := 1) dX4_weight_1 ?_
  refine s_aload_n (pc := 2) dX4_weight_2 rfl ?_
  refine s_get (pc := 3) (a := 111) (v := 112) flX4_7 (t_111 _) rfl (g_111_0 _) rfl dX4_weight_3 ?_
  refine s_iconst (pc := 6) dX4_weight_6 ?_
  refine s_ialdML (pc := 7) (a := 112) 2 rfl (Nat.le_of_ble_eq_true rfl) (t_112 _) rfl r_112 dX4_weight_7 ?_
  refine s_iconst (pc := 8) dX4_weight_8 ?_
  refine s_isub (pc := 9) dX4_weight_9 ?_
  refine s_callS3 (pc := 10) (as := [(0, a2), (0, 0), (0, (c 112 2) - 1)]) (st := []) (rv := fun b => ((0, b), (sz, sl, tt td, cv c))) (st3 := fun b => [(0, b)]) (w3 := fun b => (sz, sl, tt td, cv c)) msX4_199 (fun b h => kX4_in a2 0 ((c 112 2) - 1) c b h) rfl (by decide) rfl (Nat.le_of_ble_eq_true rfl) (fun _ => Nat.le_of_ble_eq_true rfl) (fun _ => ⟨rfl, rfl⟩) dX4_weight_10 (fun p_1 => ?_)
  refine s_if_eq (pc := 13) (tgt := 24) dX4_weight_13 rfl ?_ ?_
  · refine s_iconst (pc := 24) dX4_weight_24 ?_
    exact s_iret (pc := 25) dX4_weight_25 rfl (fun h => h)
  refine s_aload_n (pc := 16) dX4_weight_16 rfl ?_
  refine s_iload_n (pc := 17) dX4_weight_17 rfl ?_
  refine s_callV3 (pc := 18) (a := 111) (as := [(0, a1)]) (st := []) (rv := fun b => ((0, b.1), (sz, sl, tt td, cv b.2))) (st3 := fun b => [(0, b.1)]) (w3 := fun b => (sz, sl, tt td, cv b.2)) mvX4_471 (fun b h => kX4_reads a1 c b h) rfl (by decide) (t_111 td) rfl rfl rfl (Nat.le_of_ble_eq_true rfl) (fun _ => Nat.le_of_ble_eq_true rfl) (fun _ => ⟨rfl, rfl⟩) dX4_weight_18 (fun p_2 => ?_)
  refine s_if_ne (pc := 21) (tgt := 26) dX4_weight_21 rfl ?_ ?_
  · refine s_aload_n (pc := 26) dX4_weight_26 rfl ?_
    refine s_callV3 (pc := 27) (a := 111) (as := []) (st := []) (rv := fun b => ((3, 0), (sz, sl, tt td, cv b))) (st3 := fun b => []) (w3 := fun b => (sz, sl, tt td, cv b)) mvX4_519 (fun b h => kX4_forgets  p_2.2 b h) rfl (by decide) (t_111 td) rfl rfl rfl (Nat.le_of_ble_eq_true rfl) (fun _ => Nat.le_of_ble_eq_true rfl) (fun _ => ⟨rfl, rfl⟩) dX4_weight_27 (fun p_3 => ?_)
    refine s_aload_n (pc := 30) dX4_weight_30 rfl ?_
    refine s_callV3 (pc := 31) (a := 111) (as := []) (st := []) (rv := fun b => ((0, b.1), (sz, sl, tt td, cv b.2))) (st3 := fun b => [(0, b.1)]) (w3 := fun b => (sz, sl, tt td, cv b.2)) mvX4_522 (fun b h => kX4_means  p_3 b h) rfl (by decide) (t_111 td) rfl rfl rfl (Nat.le_of_ble_eq_true rfl) (fun _ => Nat.le_of_ble_eq_true rfl) (fun _ => ⟨rfl, rfl⟩) dX4_weight_31 (fun p_4 => ?_)
    refine s_istore_nD (pc := 34) (ls' := [some (2, 111), some (0, a1), some (0, a2), some (0, p_4.1)]) dX4_weight_34 rfl (Nat.le_of_ble_eq_true rfl) ?_
    refine s_aload_n (pc := 35) dX4_weight_35 rfl ?_
    refine s_get (pc := 36) (a := 111) (v := 159) flX4_160 (t_111 _) rfl (g_111_68 _) rfl dX4_weight_36 ?_
    refine s_iload_n (pc := 39) dX4_weight_39 rfl ?_
    refine s_ialdM (pc := 40) (a := 159) (t_159 _) rfl r_159 dX4_weight_40 ?_
    exact s_iret (pc := 41) dX4_weight_41 rfl (fun h => h)
  refine s_iconst (pc := 24) dX4_weight_24 ?_
  exact s_iret (pc := 25) dX4_weight_25 rfl (fun h => h)
theorem kX4_weight {G : GG} {sz sl : Nat} {td : TT} (a1 : Int) (a2 : Int) (c : CC) (x : (Int × CC)) (h : fX4_weight a1 a2 c = some x) : Ct G yX4_weight muX4_weight [(2, 111), (0, a1), (0, a2)] (sz, sl, tt td, cv c) ((0, x.1), (sz, sl, tt td, cv x.2)) :=
  Ct.of (n := 1) (ls0 := [some (2, 111), some (0, a1), some (0, a2), none]) (by decide) rfl rfl ⟨by decide, by decide⟩ (Nat.le_of_ble_eq_true rfl) rfl ⟨Nat.le_refl _, Nat.le_refl _⟩ (show (0 : Nat) ≠ 9 by decide) (fun Γ => sX4_weight a1 a2 c x h rfl)
abbrev muX4_same : MI := (cX4_same, RX4, 4, some .boolean, 7, "same")
noncomputable def fX4_same (a1 : Int) (a2 : Int) (c : CC) : Option (Int × CC) :=
  cl (fX4_reads a1 c) fun p_1 =>
   if p_1.1 = 0 then
  (gd ((0 : Int) ≤ 0 ∧ (0 : Int) < 2) (some (0, p_1.2)))
  else
  (cl (fX4_forgets  p_1.2) fun p_2 =>
   cl (fX4_means  p_2) fun p_3 =>
   cl (fX4_finds a2 p_3.2) fun p_4 =>
   if p_4.1 = 0 then
  (gd ((0 : Int) ≤ 0 ∧ (0 : Int) < 2) (some (0, p_4.2)))
  else
  (cl (fX4_means  p_4.2) fun p_5 =>
   if p_5.1 = p_3.1 then
  (gd ((0 : Int) ≤ 1 ∧ (1 : Int) < 2) (some (1, p_5.2)))
  else
  (gd ((0 : Int) ≤ 0 ∧ (0 : Int) < 2) (some (0, p_5.2)))))
theorem sX4_same {G : GG} {Γ : Cx} {r : Vv × Wd} {sz sl : Nat} {td : TT} (a1 : Int) (a2 : Int) (c : CC) : Sm (fX4_same a1 a2 c) (fun x => r = ((0, x.1), (sz, sl, tt td, cv x.2))) (WP G Γ muX4_same r 0 [some (2, 111), some (0, a1), some (0, a2), none] [] (sz, sl, tt td, cv c)) := by
  unfold fX4_same
  refine s_aload_n (pc := 0) dX4_same_0 rfl ?_
  refine s_iload_n (pc := 1) dX4_same_1 rfl ?_
  refine s_callV3 (pc := 2) (a := 111) (as := [(0, a1)]) (st := []) (rv := fun b => ((0, b.1), (sz, sl, tt td, cv b.2))) (st3 := fun b => [(0, b.1)]) (w3 := fun b => (sz, sl, tt td, cv b.2)) mvX4_471 (fun b h => kX4_reads a1 c b h) rfl (by decide) (t_111 td) rfl rfl rfl (Nat.le_of_ble_eq_true rfl) (fun _ => Nat.le_of_ble_eq_true rfl) (fun _ => ⟨rfl, rfl⟩) dX4_same_2 (fun p_1 => ?_)
  refine s_if_ne (pc := 5) (tgt := 10) dX4_same_5 rfl ?_ ?_
  · refine s_aload_n (pc := 10) dX4_same_10 rfl ?_
    refine s_callV3 (pc := 11) (a := 111) (as := []) (st := []) (rv := fun b => ((3, 0), (sz, sl, tt td, cv b))) (st3 := fun b => []) (w3 := fun b => (sz, sl, tt td, cv b)) mvX4_519 (fun b h => kX4_forgets  p_1.2 b h) rfl (by decide) (t_111 td) rfl rfl rfl (Nat.le_of_ble_eq_true rfl) (fun _ => Nat.le_of_ble_eq_true rfl) (fun _ => ⟨rfl, rfl⟩) dX4_same_11 (fun p_2 => ?_)
    refine s_aload_n (pc := 14) dX4_same_14 rfl ?_
    refine s_callV3 (pc := 15) (a := 111) (as := []) (st := []) (rv := fun b => ((0, b.1), (sz, sl, tt td, cv b.2))) (st3 := fun b => [(0, b.1)]) (w3 := fun b => (sz, sl, tt td, cv b.2)) mvX4_522 (fun b h => kX4_means  p_2 b h) rfl (by decide) (t_111 td) rfl rfl rfl (Nat.le_of_ble_eq_true rfl) (fun _ => Nat.le_of_ble_eq_true rfl) (fun _ => ⟨rfl, rfl⟩) dX4_same_15 (fun p_3 => ?_)
    refine s_istore_nD (pc := 18) (ls' := [some (2, 111), some (0, a1), some (0, a2), some (0, p_3.1)]) dX4_same_18 rfl (Nat.le_of_ble_eq_true rfl) ?_
    refine s_aload_n (pc := 19) dX4_same_19 rfl ?_
    refine s_iload_n (pc := 20) dX4_same_20 rfl ?_
    refine s_callV3 (pc := 21) (a := 111) (as := [(0, a2)]) (st := []) (rv := fun b => ((0, b.1), (sz, sl, tt td, cv b.2))) (st3 := fun b => [(0, b.1)]) (w3 := fun b => (sz, sl, tt td, cv b.2)) mvX4_455 (fun b h => kX4_finds a2 p_3.2 b h) rfl (by decide) (t_111 td) rfl rfl rfl (Nat.le_of_ble_eq_true rfl) (fun _ => Nat.le_of_ble_eq_true rfl) (fun _ => ⟨rfl, rfl⟩) dX4_same_21 (fun p_4 => ?_)
    refine s_if_eq (pc := 24) (tgt := 39) dX4_same_24 rfl ?_ ?_
    · refine s_iconst (pc := 39) dX4_same_39 ?_
      exact s_zret (pc := 40) dX4_same_40 rfl (fun h => h)
    refine s_aload_n (pc := 27) dX4_same_27 rfl ?_
    refine s_callV3 (pc := 28) (a := 111) (as := []) (st := []) (rv := fun b => ((0, b.1), (sz, sl, tt td, cv b.2))) (st3 := fun b => [(0, b.1)]) (w3 := fun b => (sz, sl, tt td, cv b.2)) mvX4_522 (fun b h => kX4_means  p_4.2 b h) rfl (by decide) (t_111 td) rfl rfl rfl (Nat.le_of_ble_eq_true rfl) (fun _ => Nat.le_of_ble_eq_true rfl) (fun _ => ⟨rfl, rfl⟩) dX4_same_28 (fun p_5 => ?_)
    refine s_iload_n (pc := 31) dX4_same_31 rfl ?_
    refine s_icmp_ne (pc := 32) (tgt := 39) dX4_same_32 rfl ?_ ?_
    · refine s_iconst (pc := 39) dX4_same_39 ?_
      exact s_zret (pc := 40) dX4_same_40 rfl (fun h => h)
    refine s_iconst (pc := 35) dX4_same_35 ?_
    refine s_goto (pc := 36) (tgt := 40) dX4_same_36 rfl ?_
    exact s_zret (pc := 40) dX4_same_40 rfl (fun h => h)
  refine s_iconst (pc := 8) dX4_same_8 ?_
  exact s_zret (pc := 9) dX4_same_9 rfl (fun h => h)
theorem kX4_same {G : GG} {sz sl : Nat} {td : TT} (a1 : Int) (a2 : Int) (c : CC) (x : (Int × CC)) (h : fX4_same a1 a2 c = some x) : Ct G yX4_same muX4_same [(2, 111), (0, a1), (0, a2)] (sz, sl, tt td, cv c) ((0, x.1), (sz, sl, tt td, cv x.2)) :=
  Ct.of (n := 1) (ls0 := [some (2, 111), some (0, a1), some (0, a2), none]) (by decide) rfl rfl ⟨by decide, by decide⟩ (Nat.le_of_ble_eq_true rfl) rfl ⟨Nat.le_refl _, Nat.le_refl _⟩ (show (0 : Nat) ≠ 9 by decide) (fun Γ => sX4_same a1 a2 c x h rfl)
abbrev muX4_kin : MI := (cX4_kin, RX4, 7, some .int, 7, "kin")
noncomputable def fX4_kin_j76 (v2 : Int) (v3 : Int) (v5 : Int) (w0 : Int) (w1 : Int) (c : CC) : Option ((Int × Int × CC) ⊕ (Int × CC)) :=
  gd (inR (w1 + w0)) <|
   bd (w1 + w0) fun v4_7 =>
   gd (inR (v5 + 1)) <| bd (v5 + 1) fun v5_8 =>
   some (.inl (v4_7, v5_8, c))
abbrev gX4_kin_l42 (G : GG) (Γ : Cx) (r : Vv × Wd) (sz sl : Nat) (td : TT) (v2 : Int) (v3 : Int) : (Int × Int × CC) → Prop := fun s => WP G Γ muX4_kin r 42 [some (2, 111), none, some (0, v2), some (0, v3), some (0, s.1), some (0, s.2.1), none] [] (sz, sl, tt td, cv s.2.2)
abbrev eX4_kin_l42 (G : GG) (Γ : Cx) (r : Vv × Wd) (sz sl : Nat) (td : TT) (v2 : Int) (v3 : Int) : (Int × CC) → Prop := (fun s => WP G Γ muX4_kin r 85 [none, none, none, none, some (0, s.1), none, none] [] (sz, sl, tt td, cv s.2))
theorem sX4_kin_j76 {G : GG} {Γ : Cx} {r : Vv × Wd} {sz sl : Nat} {td : TT} (v2 : Int) (v3 : Int) (v5 : Int) (w0 : Int) (w1 : Int) (c : CC) : Sm (fX4_kin_j76 v2 v3 v5 w0 w1 c) (fun x => Sum.elim (gX4_kin_l42 G Γ r sz sl td v2 v3) (eX4_kin_l42 G Γ r sz sl td v2 v3) x) (WP G Γ muX4_kin r 76 [some (2, 111), none, some (0, v2), some (0, v3), none, some (0, v5), none] [(0, w0), (0, w1)] (sz, sl, tt td, cv c)) := by
  unfold fX4_kin_j76
  refine s_iadd (pc := 76) dX4_kin_76 ?_
  refine s_istore (pc := 77) (lf := fun x => [some (2, 111), none, some (0, v2), some (0, v3), some (0, x), some (0, v5), none]) dX4_kin_77 (fun _ => rfl) (Nat.le_of_ble_eq_true rfl) (fun v4_7 => ?_)
  refine s_iinc (pc := 79) (lf := fun x => [some (2, 111), none, some (0, v2), some (0, v3), some (0, v4_7), some (0, x), none]) dX4_kin_79 rfl (fun _ => rfl) (Nat.le_of_ble_eq_true rfl) (fun v5_8 => ?_)
  refine s_goto (pc := 82) (tgt := 42) dX4_kin_82 rfl ?_
  exact Sm.some (fun h => h)
noncomputable def fX4_kin_j75 (v2 : Int) (v3 : Int) (v5 : Int) (w0 : Int) (c : CC) : Option ((Int × Int × CC) ⊕ (Int × CC)) :=
  fX4_kin_j76 v2 v3 v5 0 w0 c
theorem sX4_kin_j75 {G : GG} {Γ : Cx} {r : Vv × Wd} {sz sl : Nat} {td : TT} (v2 : Int) (v3 : Int) (v5 : Int) (w0 : Int) (c : CC) : Sm (fX4_kin_j75 v2 v3 v5 w0 c) (fun x => Sum.elim (gX4_kin_l42 G Γ r sz sl td v2 v3) (eX4_kin_l42 G Γ r sz sl td v2 v3) x) (WP G Γ muX4_kin r 75 [some (2, 111), none, some (0, v2), some (0, v3), none, some (0, v5), none] [(0, w0)] (sz, sl, tt td, cv c)) := by
  unfold fX4_kin_j75
  refine s_iconst (pc := 75) dX4_kin_75 ?_
  exact sX4_kin_j76 v2 v3 v5 0 w0 c
noncomputable def fX4_kin_l42 (v2 : Int) (v3 : Int) (v4 : Int) (v5 : Int) (c : CC) : Option ((Int × Int × CC) ⊕ (Int × CC)) :=
  if v5 < v3 then
  (cl (fX4_finds v5 c) fun p_6 =>
   if p_6.1 = 0 then
  (fX4_kin_j75 v2 v3 v5 v4 p_6.2)
  else
  (cl (fX4_means  p_6.2) fun p_9 =>
   if p_9.1 = v2 then
  (fX4_kin_j76 v2 v3 v5 1 v4 p_9.2)
  else
  (fX4_kin_j75 v2 v3 v5 v4 p_9.2)))
  else
  (some (.inr (v4, c)))
theorem sX4_kin_l42 {G : GG} {Γ : Cx} {r : Vv × Wd} {sz sl : Nat} {td : TT} (v2 : Int) (v3 : Int) (v4 : Int) (v5 : Int) (c : CC) : Sm (fX4_kin_l42 v2 v3 v4 v5 c) (fun x => Sum.elim (gX4_kin_l42 G Γ r sz sl td v2 v3) (eX4_kin_l42 G Γ r sz sl td v2 v3) x) (gX4_kin_l42 G Γ r sz sl td v2 v3 (v4, v5, c)) := by
  show Sm _ _ (WP G Γ muX4_kin r 42 [some (2, 111), none, some (0, v2), some (0, v3), some (0, v4), some (0, v5), none] [] (sz, sl, tt td, cv c))
  unfold fX4_kin_l42
  refine s_iload (pc := 42) dX4_kin_42 rfl ?_
  refine s_iload_n (pc := 44) dX4_kin_44 rfl ?_
  refine s_icmp_ge (pc := 45) (tgt := 85) dX4_kin_45 rfl ?_ ?_
  · refine s_wk [false, true, false, false, true, false, true] (ls' := [none, none, none, none, some (0, v4), none, none]) rfl ?_
    exact Sm.some (fun h => h)
  refine s_aload_n (pc := 48) dX4_kin_48 rfl ?_
  refine s_iload (pc := 49) dX4_kin_49 rfl ?_
  refine s_callV3 (pc := 51) (a := 111) (as := [(0, v5)]) (st := []) (rv := fun b => ((0, b.1), (sz, sl, tt td, cv b.2))) (st3 := fun b => [(0, b.1)]) (w3 := fun b => (sz, sl, tt td, cv b.2)) mvX4_455 (fun b h => kX4_finds v5 c b h) rfl (by decide) (t_111 td) rfl rfl rfl (Nat.le_of_ble_eq_true rfl) (fun _ => Nat.le_of_ble_eq_true rfl) (fun _ => ⟨rfl, rfl⟩) dX4_kin_51 (fun p_6 => ?_)
  refine s_istoreD (pc := 54) (ls' := [some (2, 111), none, some (0, v2), some (0, v3), some (0, v4), some (0, v5), some (0, p_6.1)]) dX4_kin_54 rfl (Nat.le_of_ble_eq_true rfl) ?_
  refine s_iload (pc := 56) dX4_kin_56 rfl ?_
  refine s_iload (pc := 58) dX4_kin_58 rfl ?_
  refine s_if_eq (pc := 60) (tgt := 75) dX4_kin_60 rfl ?_ ?_
  · refine s_wk [true, true, true, true, false, true, false] (ls' := [some (2, 111), none, some (0, v2), some (0, v3), none, some (0, v5), none]) rfl ?_
    exact sX4_kin_j75 v2 v3 v5 v4 p_6.2
  refine s_aload_n (pc := 63) dX4_kin_63 rfl ?_
  refine s_callV3 (pc := 64) (a := 111) (as := []) (st := [(0, v4)]) (rv := fun b => ((0, b.1), (sz, sl, tt td, cv b.2))) (st3 := fun b => [(0, b.1), (0, v4)]) (w3 := fun b => (sz, sl, tt td, cv b.2)) mvX4_522 (fun b h => kX4_means  p_6.2 b h) rfl (by decide) (t_111 td) rfl rfl rfl (Nat.le_of_ble_eq_true rfl) (fun _ => Nat.le_of_ble_eq_true rfl) (fun _ => ⟨rfl, rfl⟩) dX4_kin_64 (fun p_9 => ?_)
  refine s_iload_n (pc := 67) dX4_kin_67 rfl ?_
  refine s_icmp_ne (pc := 68) (tgt := 75) dX4_kin_68 rfl ?_ ?_
  · refine s_wk [true, true, true, true, false, true, false] (ls' := [some (2, 111), none, some (0, v2), some (0, v3), none, some (0, v5), none]) rfl ?_
    exact sX4_kin_j75 v2 v3 v5 v4 p_9.2
  refine s_iconst (pc := 71) dX4_kin_71 ?_
  refine s_goto (pc := 72) (tgt := 76) dX4_kin_72 rfl ?_
  refine s_wk [true, true, true, true, false, true, false] (ls' := [some (2, 111), none, some (0, v2), some (0, v3), none, some (0, v5), none]) rfl ?_
  exact sX4_kin_j76 v2 v3 v5 1 v4 p_9.2
noncomputable def fX4_kin (a1 : Int) (c : CC) : Option (Int × CC) :=
  cl (fX4_reads a1 c) fun p_1 =>
   if p_1.1 = 0 then
  (some (-1, p_1.2))
  else
  (cl (fX4_readings  p_1.2) fun p_2 =>
   if (300 : Int) < p_2 then
  (some (-1, p_1.2))
  else
  (cl (fX4_forgets  p_1.2) fun p_3 =>
   cl (fX4_means  p_3) fun p_4 =>
   cl (fX4_readings  p_4.2) fun p_5 =>
   gd (inR p_5) <|
   cl (wh (fun s => fX4_kin_l42 p_4.1 p_5 s.1 s.2.1 s.2.2) (0, 0, p_4.2)) (fun e_10 =>
  some (e_10.1, e_10.2))))
theorem sX4_kin {G : GG} {Γ : Cx} {r : Vv × Wd} {sz sl : Nat} {td : TT} (a1 : Int) (c : CC) : Sm (fX4_kin a1 c) (fun x => r = ((0, x.1), (sz, sl, tt td, cv x.2))) (WP G Γ muX4_kin r 0 [some (2, 111), some (0, a1), none, none, none, none, none] [] (sz, sl, tt td, cv c)) := by
  unfold fX4_kin
  refine s_aload_n (pc := 0) dX4_kin_0 rfl ?_
  refine s_iload_n (pc := 1) dX4_kin_1 rfl ?_
  refine s_callV3 (pc := 2) (a := 111) (as := [(0, a1)]) (st := []) (rv := fun b => ((0, b.1), (sz, sl, tt td, cv b.2))) (st3 := fun b => [(0, b.1)]) (w3 := fun b => (sz, sl, tt td, cv b.2)) mvX4_471 (fun b h => kX4_reads a1 c b h) rfl (by decide) (t_111 td) rfl rfl rfl (Nat.le_of_ble_eq_true rfl) (fun _ => Nat.le_of_ble_eq_true rfl) (fun _ => ⟨rfl, rfl⟩) dX4_kin_2 (fun p_1 => ?_)
  refine s_if_eq (pc := 5) (tgt := 19) dX4_kin_5 rfl ?_ ?_
  · refine s_iconst (pc := 19) dX4_kin_19 ?_
    exact s_iret (pc := 20) dX4_kin_20 rfl (fun h => h)
  refine s_aload_n (pc := 8) dX4_kin_8 rfl ?_
  refine s_callV3 (pc := 9) (a := 111) (as := []) (st := []) (rv := fun b => ((1, b), (sz, sl, tt td, cv p_1.2))) (st3 := fun b => [(1, b)]) (w3 := fun b => (sz, sl, tt td, cv p_1.2)) mvX4_444 (fun b h => kX4_readings  p_1.2 b h) rfl (by decide) (t_111 td) rfl rfl rfl (Nat.le_of_ble_eq_true rfl) (fun _ => Nat.le_of_ble_eq_true rfl) (fun _ => ⟨rfl, rfl⟩) dX4_kin_9 (fun p_2 => ?_)
  refine s_ldc2 (pc := 12) (z := 300) q1832 dX4_kin_12 ?_
  refine s_lcmp_le (pc := 15) (tgt := 21) dX4_kin_15 dX4_kin_16 rfl ?_ ?_
  · refine s_aload_n (pc := 21) dX4_kin_21 rfl ?_
    refine s_callV3 (pc := 22) (a := 111) (as := []) (st := []) (rv := fun b => ((3, 0), (sz, sl, tt td, cv b))) (st3 := fun b => []) (w3 := fun b => (sz, sl, tt td, cv b)) mvX4_519 (fun b h => kX4_forgets  p_1.2 b h) rfl (by decide) (t_111 td) rfl rfl rfl (Nat.le_of_ble_eq_true rfl) (fun _ => Nat.le_of_ble_eq_true rfl) (fun _ => ⟨rfl, rfl⟩) dX4_kin_22 (fun p_3 => ?_)
    refine s_aload_n (pc := 25) dX4_kin_25 rfl ?_
    refine s_callV3 (pc := 26) (a := 111) (as := []) (st := []) (rv := fun b => ((0, b.1), (sz, sl, tt td, cv b.2))) (st3 := fun b => [(0, b.1)]) (w3 := fun b => (sz, sl, tt td, cv b.2)) mvX4_522 (fun b h => kX4_means  p_3 b h) rfl (by decide) (t_111 td) rfl rfl rfl (Nat.le_of_ble_eq_true rfl) (fun _ => Nat.le_of_ble_eq_true rfl) (fun _ => ⟨rfl, rfl⟩) dX4_kin_26 (fun p_4 => ?_)
    refine s_istore_nD (pc := 29) (ls' := [some (2, 111), some (0, a1), some (0, p_4.1), none, none, none, none]) dX4_kin_29 rfl (Nat.le_of_ble_eq_true rfl) ?_
    refine s_aload_n (pc := 30) dX4_kin_30 rfl ?_
    refine s_callV3 (pc := 31) (a := 111) (as := []) (st := []) (rv := fun b => ((1, b), (sz, sl, tt td, cv p_4.2))) (st3 := fun b => [(1, b)]) (w3 := fun b => (sz, sl, tt td, cv p_4.2)) mvX4_444 (fun b h => kX4_readings  p_4.2 b h) rfl (by decide) (t_111 td) rfl rfl rfl (Nat.le_of_ble_eq_true rfl) (fun _ => Nat.le_of_ble_eq_true rfl) (fun _ => ⟨rfl, rfl⟩) dX4_kin_31 (fun p_5 => ?_)
    refine s_l2i (pc := 34) dX4_kin_34 ?_
    refine s_istore_nD (pc := 35) (ls' := [some (2, 111), some (0, a1), some (0, p_4.1), some (0, p_5), none, none, none]) dX4_kin_35 rfl (Nat.le_of_ble_eq_true rfl) ?_
    refine s_iconst (pc := 36) dX4_kin_36 ?_
    refine s_istoreD (pc := 37) (ls' := [some (2, 111), some (0, a1), some (0, p_4.1), some (0, p_5), some (0, 0), none, none]) dX4_kin_37 rfl (Nat.le_of_ble_eq_true rfl) ?_
    refine s_iconst (pc := 39) dX4_kin_39 ?_
    refine s_istoreD (pc := 40) (ls' := [some (2, 111), some (0, a1), some (0, p_4.1), some (0, p_5), some (0, 0), some (0, 0), none]) dX4_kin_40 rfl (Nat.le_of_ble_eq_true rfl) ?_
    refine s_wk [true, false, true, true, true, true, true] (ls' := [some (2, 111), none, some (0, p_4.1), some (0, p_5), some (0, 0), some (0, 0), none]) rfl ?_
    refine s_loop (g := gX4_kin_l42 G Γ r sz sl td p_4.1 p_5) (Ex := eX4_kin_l42 G Γ r sz sl td p_4.1 p_5) (s0 := (0, 0, p_4.2)) (fun s => sX4_kin_l42 p_4.1 p_5 s.1 s.2.1 s.2.2) ?_
    intro e_10
    show Sm _ _ (WP G Γ muX4_kin r 85 [none, none, none, none, some (0, e_10.1), none, none] [] (sz, sl, tt td, cv e_10.2))
    refine s_iload (pc := 85) dX4_kin_85 rfl ?_
    exact s_iret (pc := 87) dX4_kin_87 rfl (fun h => h)
  refine s_iconst (pc := 19) dX4_kin_19 ?_
  exact s_iret (pc := 20) dX4_kin_20 rfl (fun h => h)
theorem kX4_kin {G : GG} {sz sl : Nat} {td : TT} (a1 : Int) (c : CC) (x : (Int × CC)) (h : fX4_kin a1 c = some x) : Ct G yX4_kin muX4_kin [(2, 111), (0, a1)] (sz, sl, tt td, cv c) ((0, x.1), (sz, sl, tt td, cv x.2)) :=
  Ct.of (n := 5) (ls0 := [some (2, 111), some (0, a1), none, none, none, none, none]) (by decide) rfl rfl ⟨by decide, by decide⟩ (Nat.le_of_ble_eq_true rfl) rfl ⟨Nat.le_refl _, Nat.le_refl _⟩ (show (0 : Nat) ≠ 9 by decide) (fun Γ => sX4_kin a1 c x h rfl)
theorem flX4_163 : FL RX4 163 3 70 := ⟨_, _, _, cf3, by decide, q1314⟩
abbrev muX4_meant : MI := (cX4_meant, RX4, 6, some .int, 7, "meant")
abbrev gX4_meant_l24 (G : GG) (Γ : Cx) (r : Vv × Wd) (sz sl : Nat) (td : TT)  : (Int × CC) → Prop := fun s => WP G Γ muX4_meant r 24 [some (2, 111), some (0, s.1), none, none, none, none] [] (sz, sl, tt td, cv s.2)
abbrev eX4_meant_l24 (G : GG) (Γ : Cx) (r : Vv × Wd) (sz sl : Nat) (td : TT)  : (CC) → Prop := (fun s => WP G Γ muX4_meant r 44 [some (2, 111), none, none, none, none, none] [] (sz, sl, tt td, cv s))
noncomputable def fX4_meant_l24 (v1 : Int) (c : CC) : Option ((Int × CC) ⊕ (CC)) :=
  if v1 < 7300 then
  (gd ((0 : Int) ≤ v1 ∧ v1 < 7300 ∧ (0 : Int) ≤ 0 ∧ (0 : Int) < 2) <| bd (up2 c 160 (Int.toNat v1) 0) fun c_4 =>
   gd (inR (v1 + 1)) <| bd (v1 + 1) fun v1_5 =>
   some (.inl (v1_5, c_4)))
  else
  (some (.inr c))
theorem sX4_meant_l24 {G : GG} {Γ : Cx} {r : Vv × Wd} {sz sl : Nat} {td : TT} (v1 : Int) (c : CC) : Sm (fX4_meant_l24 v1 c) (fun x => Sum.elim (gX4_meant_l24 G Γ r sz sl td ) (eX4_meant_l24 G Γ r sz sl td ) x) (gX4_meant_l24 G Γ r sz sl td  (v1, c)) := by
  show Sm _ _ (WP G Γ muX4_meant r 24 [some (2, 111), some (0, v1), none, none, none, none] [] (sz, sl, tt td, cv c))
  unfold fX4_meant_l24
  refine s_iload_n (pc := 24) dX4_meant_24 rfl ?_
  refine s_sipush (pc := 25) dX4_meant_25 ?_
  refine s_icmp_ge (pc := 28) (tgt := 44) dX4_meant_28 rfl ?_ ?_
  · refine s_wk [true, false, true, true, true, true] (ls' := [some (2, 111), none, none, none, none, none]) rfl ?_
    exact Sm.some (fun h => h)
  refine s_aload_n (pc := 31) dX4_meant_31 rfl ?_
  refine s_get (pc := 32) (a := 111) (v := 160) flX4_163 (t_111 _) rfl (g_111_70 _) rfl dX4_meant_32 ?_
  refine s_iload_n (pc := 35) dX4_meant_35 rfl ?_
  refine s_iconst (pc := 36) dX4_meant_36 ?_
  refine s_zastM (pc := 37) (a := 160) (t_160 _) rfl kO_160 r_160 dX4_meant_37 (fun c_4 => ?_)
  refine s_iinc (pc := 38) (lf := fun x => [some (2, 111), some (0, x), none, none, none, none]) dX4_meant_38 rfl (fun _ => rfl) (Nat.le_of_ble_eq_true rfl) (fun v1_5 => ?_)
  refine s_goto (pc := 41) (tgt := 24) dX4_meant_41 rfl ?_
  exact Sm.some (fun h => h)
noncomputable def fX4_meant_j88 (v1 : Int) (v3 : Int) (v5 : Int) (w0 : Int) (w1 : Int) (c : CC) : Option ((Int × Int × CC) ⊕ (Int × CC)) :=
  gd (inR (w1 + w0)) <|
   bd (w1 + w0) fun v2_10 =>
   gd ((0 : Int) ≤ v5 ∧ v5 < 7300 ∧ (0 : Int) ≤ 1 ∧ (1 : Int) < 2) <| bd (up2 c 160 (Int.toNat v5) 1) fun c_11 =>
   gd (inR (v3 + 1)) <| bd (v3 + 1) fun v3_12 =>
   some (.inl (v2_10, v3_12, c_11))
abbrev gX4_meant_l54 (G : GG) (Γ : Cx) (r : Vv × Wd) (sz sl : Nat) (td : TT) (v1 : Int) : (Int × Int × CC) → Prop := fun s => WP G Γ muX4_meant r 54 [some (2, 111), some (0, v1), some (0, s.1), some (0, s.2.1), none, none] [] (sz, sl, tt td, cv s.2.2)
abbrev eX4_meant_l54 (G : GG) (Γ : Cx) (r : Vv × Wd) (sz sl : Nat) (td : TT) (v1 : Int) : (Int × CC) → Prop := (fun s => WP G Γ muX4_meant r 104 [none, none, some (0, s.1), none, none, none] [] (sz, sl, tt td, cv s.2))
theorem sX4_meant_j88 {G : GG} {Γ : Cx} {r : Vv × Wd} {sz sl : Nat} {td : TT} (v1 : Int) (v3 : Int) (v5 : Int) (w0 : Int) (w1 : Int) (c : CC) : Sm (fX4_meant_j88 v1 v3 v5 w0 w1 c) (fun x => Sum.elim (gX4_meant_l54 G Γ r sz sl td v1) (eX4_meant_l54 G Γ r sz sl td v1) x) (WP G Γ muX4_meant r 88 [some (2, 111), some (0, v1), none, some (0, v3), none, some (0, v5)] [(0, w0), (0, w1)] (sz, sl, tt td, cv c)) := by
  unfold fX4_meant_j88
  refine s_iadd (pc := 88) dX4_meant_88 ?_
  refine s_istore_n (pc := 89) (lf := fun x => [some (2, 111), some (0, v1), some (0, x), some (0, v3), none, some (0, v5)]) dX4_meant_89 (fun _ => rfl) (Nat.le_of_ble_eq_true rfl) (fun v2_10 => ?_)
  refine s_aload_n (pc := 90) dX4_meant_90 rfl ?_
  refine s_get (pc := 91) (a := 111) (v := 160) flX4_163 (t_111 _) rfl (g_111_70 _) rfl dX4_meant_91 ?_
  refine s_iload (pc := 94) dX4_meant_94 rfl ?_
  refine s_iconst (pc := 96) dX4_meant_96 ?_
  refine s_zastM (pc := 97) (a := 160) (t_160 _) rfl kO_160 r_160 dX4_meant_97 (fun c_11 => ?_)
  refine s_iinc (pc := 98) (lf := fun x => [some (2, 111), some (0, v1), some (0, v2_10), some (0, x), none, some (0, v5)]) dX4_meant_98 rfl (fun _ => rfl) (Nat.le_of_ble_eq_true rfl) (fun v3_12 => ?_)
  refine s_goto (pc := 101) (tgt := 54) dX4_meant_101 rfl ?_
  refine s_wk [true, true, true, true, true, false] (ls' := [some (2, 111), some (0, v1), some (0, v2_10), some (0, v3_12), none, none]) rfl ?_
  exact Sm.some (fun h => h)
noncomputable def fX4_meant_l54 (v1 : Int) (v2 : Int) (v3 : Int) (c : CC) : Option ((Int × Int × CC) ⊕ (Int × CC)) :=
  if v3 < v1 then
  (cl (fX4_finds v3 c) fun p_8 =>
   cl (fX4_means  p_8.2) fun p_9 =>
   gd ((0 : Int) ≤ p_9.1 ∧ p_9.1 < 7300) <|
   if p_9.2 160 (Int.toNat p_9.1) = 0 then
  (fX4_meant_j88 v1 v3 p_9.1 1 v2 p_9.2)
  else
  (fX4_meant_j88 v1 v3 p_9.1 0 v2 p_9.2))
  else
  (some (.inr (v2, c)))
theorem sX4_meant_l54 {G : GG} {Γ : Cx} {r : Vv × Wd} {sz sl : Nat} {td : TT} (v1 : Int) (v2 : Int) (v3 : Int) (c : CC) : Sm (fX4_meant_l54 v1 v2 v3 c) (fun x => Sum.elim (gX4_meant_l54 G Γ r sz sl td v1) (eX4_meant_l54 G Γ r sz sl td v1) x) (gX4_meant_l54 G Γ r sz sl td v1 (v2, v3, c)) := by
  show Sm _ _ (WP G Γ muX4_meant r 54 [some (2, 111), some (0, v1), some (0, v2), some (0, v3), none, none] [] (sz, sl, tt td, cv c))
  unfold fX4_meant_l54
  refine s_iload_n (pc := 54) dX4_meant_54 rfl ?_
  refine s_iload_n (pc := 55) dX4_meant_55 rfl ?_
  refine s_icmp_ge (pc := 56) (tgt := 104) dX4_meant_56 rfl ?_ ?_
  · refine s_wk [false, false, true, false, true, true] (ls' := [none, none, some (0, v2), none, none, none]) rfl ?_
    exact Sm.some (fun h => h)
  refine s_aload_n (pc := 59) dX4_meant_59 rfl ?_
  refine s_iload_n (pc := 60) dX4_meant_60 rfl ?_
  refine s_callV3 (pc := 61) (a := 111) (as := [(0, v3)]) (st := []) (rv := fun b => ((0, b.1), (sz, sl, tt td, cv b.2))) (st3 := fun b => [(0, b.1)]) (w3 := fun b => (sz, sl, tt td, cv b.2)) mvX4_455 (fun b h => kX4_finds v3 c b h) rfl (by decide) (t_111 td) rfl rfl rfl (Nat.le_of_ble_eq_true rfl) (fun _ => Nat.le_of_ble_eq_true rfl) (fun _ => ⟨rfl, rfl⟩) dX4_meant_61 (fun p_8 => ?_)
  refine s_istoreD (pc := 64) (ls' := [some (2, 111), some (0, v1), some (0, v2), some (0, v3), some (0, p_8.1), none]) dX4_meant_64 rfl (Nat.le_of_ble_eq_true rfl) ?_
  refine s_aload_n (pc := 66) dX4_meant_66 rfl ?_
  refine s_callV3 (pc := 67) (a := 111) (as := []) (st := []) (rv := fun b => ((0, b.1), (sz, sl, tt td, cv b.2))) (st3 := fun b => [(0, b.1)]) (w3 := fun b => (sz, sl, tt td, cv b.2)) mvX4_522 (fun b h => kX4_means  p_8.2 b h) rfl (by decide) (t_111 td) rfl rfl rfl (Nat.le_of_ble_eq_true rfl) (fun _ => Nat.le_of_ble_eq_true rfl) (fun _ => ⟨rfl, rfl⟩) dX4_meant_67 (fun p_9 => ?_)
  refine s_istoreD (pc := 70) (ls' := [some (2, 111), some (0, v1), some (0, v2), some (0, v3), some (0, p_8.1), some (0, p_9.1)]) dX4_meant_70 rfl (Nat.le_of_ble_eq_true rfl) ?_
  refine s_iload_n (pc := 72) dX4_meant_72 rfl ?_
  refine s_aload_n (pc := 73) dX4_meant_73 rfl ?_
  refine s_get (pc := 74) (a := 111) (v := 160) flX4_163 (t_111 _) rfl (g_111_70 _) rfl dX4_meant_74 ?_
  refine s_iload (pc := 77) dX4_meant_77 rfl ?_
  refine s_zaldM (pc := 79) (a := 160) (t_160 _) rfl r_160 dX4_meant_79 ?_
  refine s_if_eq (pc := 80) (tgt := 87) dX4_meant_80 rfl ?_ ?_
  · refine s_iconst (pc := 87) dX4_meant_87 ?_
    refine s_wk [true, true, false, true, false, true] (ls' := [some (2, 111), some (0, v1), none, some (0, v3), none, some (0, p_9.1)]) rfl ?_
    exact sX4_meant_j88 v1 v3 p_9.1 1 v2 p_9.2
  refine s_iconst (pc := 83) dX4_meant_83 ?_
  refine s_goto (pc := 84) (tgt := 88) dX4_meant_84 rfl ?_
  refine s_wk [true, true, false, true, false, true] (ls' := [some (2, 111), some (0, v1), none, some (0, v3), none, some (0, p_9.1)]) rfl ?_
  exact sX4_meant_j88 v1 v3 p_9.1 0 v2 p_9.2
noncomputable def fX4_meant  (c : CC) : Option (Int × CC) :=
  cl (fX4_laysSpans 0 c) fun p_1 =>
   cl (fX4_readings  p_1) fun p_2 =>
   if (300 : Int) < p_2 then
  (some (-1, p_1))
  else
  (cl (fX4_forgets  p_1) fun p_3 =>
   cl (wh (fun s => fX4_meant_l24  s.1 s.2) (0, p_3)) (fun e_6 =>
  cl (fX4_readings  e_6) fun p_7 =>
   gd (inR p_7) <|
   cl (wh (fun s => fX4_meant_l54 p_7 s.1 s.2.1 s.2.2) (0, 0, e_6)) (fun e_13 =>
  some (e_13.1, e_13.2))))
theorem sX4_meant {G : GG} {Γ : Cx} {r : Vv × Wd} {sz sl : Nat} {td : TT}  (c : CC) : Sm (fX4_meant  c) (fun x => r = ((0, x.1), (sz, sl, tt td, cv x.2))) (WP G Γ muX4_meant r 0 [some (2, 111), none, none, none, none, none] [] (sz, sl, tt td, cv c)) := by
  unfold fX4_meant
  refine s_aload_n (pc := 0) dX4_meant_0 rfl ?_
  refine s_lconst0 (pc := 1) dX4_meant_1 ?_
  refine s_callV3 (pc := 2) (a := 111) (as := [(1, 0)]) (st := []) (rv := fun b => ((3, 0), (sz, sl, tt td, cv b))) (st3 := fun b => []) (w3 := fun b => (sz, sl, tt td, cv b)) mvX4_440 (fun b h => kX4_laysSpans 0 c b h) rfl (by decide) (t_111 td) rfl rfl rfl (Nat.le_of_ble_eq_true rfl) (fun _ => Nat.le_of_ble_eq_true rfl) (fun _ => ⟨rfl, rfl⟩) dX4_meant_2 (fun p_1 => ?_)
  refine s_aload_n (pc := 5) dX4_meant_5 rfl ?_
  refine s_callV3 (pc := 6) (a := 111) (as := []) (st := []) (rv := fun b => ((1, b), (sz, sl, tt td, cv p_1))) (st3 := fun b => [(1, b)]) (w3 := fun b => (sz, sl, tt td, cv p_1)) mvX4_444 (fun b h => kX4_readings  p_1 b h) rfl (by decide) (t_111 td) rfl rfl rfl (Nat.le_of_ble_eq_true rfl) (fun _ => Nat.le_of_ble_eq_true rfl) (fun _ => ⟨rfl, rfl⟩) dX4_meant_6 (fun p_2 => ?_)
  refine s_ldc2 (pc := 9) (z := 300) q1832 dX4_meant_9 ?_
  refine s_lcmp_le (pc := 12) (tgt := 18) dX4_meant_12 dX4_meant_13 rfl ?_ ?_
  · refine s_aload_n (pc := 18) dX4_meant_18 rfl ?_
    refine s_callV3 (pc := 19) (a := 111) (as := []) (st := []) (rv := fun b => ((3, 0), (sz, sl, tt td, cv b))) (st3 := fun b => []) (w3 := fun b => (sz, sl, tt td, cv b)) mvX4_519 (fun b h => kX4_forgets  p_1 b h) rfl (by decide) (t_111 td) rfl rfl rfl (Nat.le_of_ble_eq_true rfl) (fun _ => Nat.le_of_ble_eq_true rfl) (fun _ => ⟨rfl, rfl⟩) dX4_meant_19 (fun p_3 => ?_)
    refine s_iconst (pc := 22) dX4_meant_22 ?_
    refine s_istore_nD (pc := 23) (ls' := [some (2, 111), some (0, 0), none, none, none, none]) dX4_meant_23 rfl (Nat.le_of_ble_eq_true rfl) ?_
    refine s_loop (g := gX4_meant_l24 G Γ r sz sl td ) (Ex := eX4_meant_l24 G Γ r sz sl td ) (s0 := (0, p_3)) (fun s => sX4_meant_l24  s.1 s.2) ?_
    intro e_6
    show Sm _ _ (WP G Γ muX4_meant r 44 [some (2, 111), none, none, none, none, none] [] (sz, sl, tt td, cv e_6))
    refine s_aload_n (pc := 44) dX4_meant_44 rfl ?_
    refine s_callV3 (pc := 45) (a := 111) (as := []) (st := []) (rv := fun b => ((1, b), (sz, sl, tt td, cv e_6))) (st3 := fun b => [(1, b)]) (w3 := fun b => (sz, sl, tt td, cv e_6)) mvX4_444 (fun b h => kX4_readings  e_6 b h) rfl (by decide) (t_111 td) rfl rfl rfl (Nat.le_of_ble_eq_true rfl) (fun _ => Nat.le_of_ble_eq_true rfl) (fun _ => ⟨rfl, rfl⟩) dX4_meant_45 (fun p_7 => ?_)
    refine s_l2i (pc := 48) dX4_meant_48 ?_
    refine s_istore_nD (pc := 49) (ls' := [some (2, 111), some (0, p_7), none, none, none, none]) dX4_meant_49 rfl (Nat.le_of_ble_eq_true rfl) ?_
    refine s_iconst (pc := 50) dX4_meant_50 ?_
    refine s_istore_nD (pc := 51) (ls' := [some (2, 111), some (0, p_7), some (0, 0), none, none, none]) dX4_meant_51 rfl (Nat.le_of_ble_eq_true rfl) ?_
    refine s_iconst (pc := 52) dX4_meant_52 ?_
    refine s_istore_nD (pc := 53) (ls' := [some (2, 111), some (0, p_7), some (0, 0), some (0, 0), none, none]) dX4_meant_53 rfl (Nat.le_of_ble_eq_true rfl) ?_
    refine s_loop (g := gX4_meant_l54 G Γ r sz sl td p_7) (Ex := eX4_meant_l54 G Γ r sz sl td p_7) (s0 := (0, 0, e_6)) (fun s => sX4_meant_l54 p_7 s.1 s.2.1 s.2.2) ?_
    intro e_13
    show Sm _ _ (WP G Γ muX4_meant r 104 [none, none, some (0, e_13.1), none, none, none] [] (sz, sl, tt td, cv e_13.2))
    refine s_iload_n (pc := 104) dX4_meant_104 rfl ?_
    exact s_iret (pc := 105) dX4_meant_105 rfl (fun h => h)
  refine s_iconst (pc := 16) dX4_meant_16 ?_
  exact s_iret (pc := 17) dX4_meant_17 rfl (fun h => h)
theorem kX4_meant {G : GG} {sz sl : Nat} {td : TT}  (c : CC) (x : (Int × CC)) (h : fX4_meant  c = some x) : Ct G yX4_meant muX4_meant [(2, 111)] (sz, sl, tt td, cv c) ((0, x.1), (sz, sl, tt td, cv x.2)) :=
  Ct.of (n := 5) (ls0 := [some (2, 111), none, none, none, none, none]) (by decide) rfl rfl ⟨by decide, by decide⟩ (Nat.le_of_ble_eq_true rfl) rfl ⟨Nat.le_refl _, Nat.le_refl _⟩ (show (0 : Nat) ≠ 9 by decide) (fun Γ => sX4_meant  c x h rfl)
abbrev muX4_isDropped : MI := (cX4_isDropped, RX4, 5, some .boolean, 4, "isDropped")
noncomputable def fX4_isDropped_j103 (v4 : Int) (c : CC) : Option ((Int × Int × CC) ⊕ (Int × CC)) :=
  gd (inR (v4 + 1)) <| bd (v4 + 1) fun v4_8 =>
   some (.inl (0, v4_8, c))
abbrev gX4_isDropped_l51 (G : GG) (Γ : Cx) (r : Vv × Wd) (sz sl : Nat) (td : TT)  : (Int × Int × CC) → Prop := fun s => WP G Γ muX4_isDropped r 51 [some (2, 111), none, none, some (0, s.1), some (0, s.2.1)] [] (sz, sl, tt td, cv s.2.2)
abbrev eX4_isDropped_l51 (G : GG) (Γ : Cx) (r : Vv × Wd) (sz sl : Nat) (td : TT)  : (Int × CC) → Prop := (fun s => WP G Γ muX4_isDropped r 111 [none, none, none, some (0, s.1), none] [] (sz, sl, tt td, cv s.2))
theorem sX4_isDropped_j103 {G : GG} {Γ : Cx} {r : Vv × Wd} {sz sl : Nat} {td : TT} (v4 : Int) (c : CC) : Sm (fX4_isDropped_j103 v4 c) (fun x => Sum.elim (gX4_isDropped_l51 G Γ r sz sl td ) (eX4_isDropped_l51 G Γ r sz sl td ) x) (WP G Γ muX4_isDropped r 103 [some (2, 111), none, none, none, some (0, v4)] [] (sz, sl, tt td, cv c)) := by
  unfold fX4_isDropped_j103
  refine s_iconst (pc := 103) dX4_isDropped_103 ?_
  refine s_istore_nD (pc := 104) (ls' := [some (2, 111), none, none, some (0, 0), some (0, v4)]) dX4_isDropped_104 rfl (Nat.le_of_ble_eq_true rfl) ?_
  refine s_iinc (pc := 105) (lf := fun x => [some (2, 111), none, none, some (0, 0), some (0, x)]) dX4_isDropped_105 rfl (fun _ => rfl) (Nat.le_of_ble_eq_true rfl) (fun v4_8 => ?_)
  refine s_goto (pc := 108) (tgt := 51) dX4_isDropped_108 rfl ?_
  exact Sm.some (fun h => h)
noncomputable def fX4_isDropped_l51 (v3 : Int) (v4 : Int) (c : CC) : Option ((Int × Int × CC) ⊕ (Int × CC)) :=
  cl (fX4_senses  c) fun p_5 =>
   if v4 < p_5 then
  (if v3 = 0 then
  (cl (fX4_at24 v4 c) fun p_7 =>
   gd ((0 : Int) ≤ p_7 ∧ p_7 < 144) <|
   if c 116 (Int.toNat p_7) = 2 then
  (cl (fX4_at24 v4 c) fun p_9 =>
   gd ((0 : Int) ≤ p_9 ∧ p_9 < 144) <|
   cl (fX4_saysOf (c 117 (Int.toNat p_9)) c) fun p_10 =>
   if (0 : Int) < p_10.1 then
  (gd (inR (v4 + 1)) <| bd (v4 + 1) fun v4_11 =>
   some (.inl (1, v4_11, p_10.2)))
  else
  (fX4_isDropped_j103 v4 p_10.2))
  else
  (fX4_isDropped_j103 v4 c))
  else
  (gd (inR (v4 + 1)) <| bd (v4 + 1) fun v4_6 =>
   some (.inl (1, v4_6, c))))
  else
  (some (.inr (v3, c)))
theorem sX4_isDropped_l51 {G : GG} {Γ : Cx} {r : Vv × Wd} {sz sl : Nat} {td : TT} (v3 : Int) (v4 : Int) (c : CC) : Sm (fX4_isDropped_l51 v3 v4 c) (fun x => Sum.elim (gX4_isDropped_l51 G Γ r sz sl td ) (eX4_isDropped_l51 G Γ r sz sl td ) x) (gX4_isDropped_l51 G Γ r sz sl td  (v3, v4, c)) := by
  show Sm _ _ (WP G Γ muX4_isDropped r 51 [some (2, 111), none, none, some (0, v3), some (0, v4)] [] (sz, sl, tt td, cv c))
  unfold fX4_isDropped_l51
  refine s_iload (pc := 51) dX4_isDropped_51 rfl ?_
  refine s_aload_n (pc := 53) dX4_isDropped_53 rfl ?_
  refine s_callV3 (pc := 54) (a := 111) (as := []) (st := [(0, v4)]) (rv := fun b => ((0, b), (sz, sl, tt td, cv c))) (st3 := fun b => [(0, b), (0, v4)]) (w3 := fun b => (sz, sl, tt td, cv c)) mvX4_409 (fun b h => kX4_senses  c b h) rfl (by decide) (t_111 td) rfl rfl rfl (Nat.le_of_ble_eq_true rfl) (fun _ => Nat.le_of_ble_eq_true rfl) (fun _ => ⟨rfl, rfl⟩) dX4_isDropped_54 (fun p_5 => ?_)
  refine s_icmp_ge (pc := 57) (tgt := 111) dX4_isDropped_57 rfl ?_ ?_
  · refine s_wk [false, true, true, true, false] (ls' := [none, none, none, some (0, v3), none]) rfl ?_
    exact Sm.some (fun h => h)
  refine s_iload_n (pc := 60) dX4_isDropped_60 rfl ?_
  refine s_if_ne (pc := 61) (tgt := 99) dX4_isDropped_61 rfl ?_ ?_
  · refine s_iconst (pc := 99) dX4_isDropped_99 ?_
    refine s_goto (pc := 100) (tgt := 104) dX4_isDropped_100 rfl ?_
    refine s_istore_nD (pc := 104) (ls' := [some (2, 111), none, none, some (0, 1), some (0, v4)]) dX4_isDropped_104 rfl (Nat.le_of_ble_eq_true rfl) ?_
    refine s_iinc (pc := 105) (lf := fun x => [some (2, 111), none, none, some (0, 1), some (0, x)]) dX4_isDropped_105 rfl (fun _ => rfl) (Nat.le_of_ble_eq_true rfl) (fun v4_6 => ?_)
    refine s_goto (pc := 108) (tgt := 51) dX4_isDropped_108 rfl ?_
    exact Sm.some (fun h => h)
  refine s_aload_n (pc := 64) dX4_isDropped_64 rfl ?_
  refine s_get (pc := 65) (a := 111) (v := 116) flX4_30 (t_111 _) rfl (g_111_7 _) rfl dX4_isDropped_65 ?_
  refine s_aload_n (pc := 68) dX4_isDropped_68 rfl ?_
  refine s_iload (pc := 69) dX4_isDropped_69 rfl ?_
  refine s_callV3 (pc := 71) (a := 111) (as := [(0, v4)]) (st := [(2, 116)]) (rv := fun b => ((0, b), (sz, sl, tt td, cv c))) (st3 := fun b => [(0, b), (2, 116)]) (w3 := fun b => (sz, sl, tt td, cv c)) mvX4_412 (fun b h => kX4_at24 v4 c b h) rfl (by decide) (t_111 td) rfl rfl rfl (Nat.le_of_ble_eq_true rfl) (fun _ => Nat.le_of_ble_eq_true rfl) (fun _ => ⟨rfl, rfl⟩) dX4_isDropped_71 (fun p_7 => ?_)
  refine s_ialdM (pc := 74) (a := 116) (t_116 _) rfl r_116 dX4_isDropped_74 ?_
  refine s_iconst (pc := 75) dX4_isDropped_75 ?_
  refine s_icmp_ne (pc := 76) (tgt := 103) dX4_isDropped_76 rfl ?_ ?_
  · refine s_wk [true, true, true, false, true] (ls' := [some (2, 111), none, none, none, some (0, v4)]) rfl ?_
    exact sX4_isDropped_j103 v4 c
  refine s_aload_n (pc := 79) dX4_isDropped_79 rfl ?_
  refine s_aload_n (pc := 80) dX4_isDropped_80 rfl ?_
  refine s_get (pc := 81) (a := 111) (v := 117) flX4_33 (t_111 _) rfl (g_111_8 _) rfl dX4_isDropped_81 ?_
  refine s_aload_n (pc := 84) dX4_isDropped_84 rfl ?_
  refine s_iload (pc := 85) dX4_isDropped_85 rfl ?_
  refine s_callV3 (pc := 87) (a := 111) (as := [(0, v4)]) (st := [(2, 117), (2, 111)]) (rv := fun b => ((0, b), (sz, sl, tt td, cv c))) (st3 := fun b => [(0, b), (2, 117), (2, 111)]) (w3 := fun b => (sz, sl, tt td, cv c)) mvX4_412 (fun b h => kX4_at24 v4 c b h) rfl (by decide) (t_111 td) rfl rfl rfl (Nat.le_of_ble_eq_true rfl) (fun _ => Nat.le_of_ble_eq_true rfl) (fun _ => ⟨rfl, rfl⟩) dX4_isDropped_87 (fun p_9 => ?_)
  refine s_ialdM (pc := 90) (a := 117) (t_117 _) rfl r_117 dX4_isDropped_90 ?_
  refine s_callV3 (pc := 91) (a := 111) (as := [(0, c 117 (Int.toNat p_9))]) (st := []) (rv := fun b => ((1, b.1), (sz, sl, tt td, cv b.2))) (st3 := fun b => [(1, b.1)]) (w3 := fun b => (sz, sl, tt td, cv b.2)) mvX4_498 (fun b h => kX4_saysOf (c 117 (Int.toNat p_9)) c b h) rfl (by decide) (t_111 td) rfl rfl rfl (Nat.le_of_ble_eq_true rfl) (fun _ => Nat.le_of_ble_eq_true rfl) (fun _ => ⟨rfl, rfl⟩) dX4_isDropped_91 (fun p_10 => ?_)
  refine s_lconst0 (pc := 94) dX4_isDropped_94 ?_
  refine s_lcmp_le (pc := 95) (tgt := 103) dX4_isDropped_95 dX4_isDropped_96 rfl ?_ ?_
  · refine s_wk [true, true, true, false, true] (ls' := [some (2, 111), none, none, none, some (0, v4)]) rfl ?_
    exact sX4_isDropped_j103 v4 p_10.2
  refine s_iconst (pc := 99) dX4_isDropped_99 ?_
  refine s_goto (pc := 100) (tgt := 104) dX4_isDropped_100 rfl ?_
  refine s_istore_nD (pc := 104) (ls' := [some (2, 111), none, none, some (0, 1), some (0, v4)]) dX4_isDropped_104 rfl (Nat.le_of_ble_eq_true rfl) ?_
  refine s_iinc (pc := 105) (lf := fun x => [some (2, 111), none, none, some (0, 1), some (0, x)]) dX4_isDropped_105 rfl (fun _ => rfl) (Nat.le_of_ble_eq_true rfl) (fun v4_11 => ?_)
  refine s_goto (pc := 108) (tgt := 51) dX4_isDropped_108 rfl ?_
  exact Sm.some (fun h => h)
noncomputable def fX4_isDropped (a1 : Int) (a2 : Int) (c : CC) : Option (Int × CC) :=
  gd ((0 : Int) ≤ a1 ∧ a1 < 26) <|
   bd (up2 c 136 3 (c 155 (Int.toNat a1))) fun c_1 =>
   gd ((0 : Int) ≤ a1 ∧ a1 < 26) <|
   bd (up2 c_1 136 4 (c_1 157 (Int.toNat a1))) fun c_2 =>
   gd ((0 : Int) ≤ a1 ∧ a1 < 26) <|
   gd (inR (a2 - (c_2 158 (Int.toNat a1)))) <|
   bd (up2 c_2 136 5 (a2 - (c_2 158 (Int.toNat a1)))) fun c_3 =>
   bd (up2 c_3 136 6 a1) fun c_4 =>
   cl (wh (fun s => fX4_isDropped_l51  s.1 s.2.1 s.2.2) (0, 0, c_4)) (fun e_12 =>
  gd ((0 : Int) ≤ e_12.1 ∧ e_12.1 < 2) (some (e_12.1, e_12.2)))
theorem sX4_isDropped {G : GG} {Γ : Cx} {r : Vv × Wd} {sz sl : Nat} {td : TT} (a1 : Int) (a2 : Int) (c : CC) : Sm (fX4_isDropped a1 a2 c) (fun x => r = ((0, x.1), (sz, sl, tt td, cv x.2))) (WP G Γ muX4_isDropped r 0 [some (2, 111), some (0, a1), some (0, a2), none, none] [] (sz, sl, tt td, cv c)) := by
  unfold fX4_isDropped
  refine s_aload_n (pc := 0) dX4_isDropped_0 rfl ?_
  refine s_get (pc := 1) (a := 111) (v := 136) flX4_90 (t_111 _) rfl (g_111_41 _) rfl dX4_isDropped_1 ?_
  refine s_iconst (pc := 4) dX4_isDropped_4 ?_
  refine s_aload_n (pc := 5) dX4_isDropped_5 rfl ?_
  refine s_get (pc := 6) (a := 111) (v := 155) flX4_148 (t_111 _) rfl (g_111_63 _) rfl dX4_isDropped_6 ?_
  refine s_iload_n (pc := 9) dX4_isDropped_9 rfl ?_
  refine s_ialdM (pc := 10) (a := 155) (t_155 _) rfl r_155 dX4_isDropped_10 ?_
  refine s_iastML (pc := 11) (a := 136) 3 rfl (Nat.le_of_ble_eq_true rfl) (t_136 _) rfl kO_136 r_136 dX4_isDropped_11 (fun c_1 => ?_)
  refine s_aload_n (pc := 12) dX4_isDropped_12 rfl ?_
  refine s_get (pc := 13) (a := 111) (v := 136) flX4_90 (t_111 _) rfl (g_111_41 _) rfl dX4_isDropped_13 ?_
  refine s_iconst (pc := 16) dX4_isDropped_16 ?_
  refine s_aload_n (pc := 17) dX4_isDropped_17 rfl ?_
  refine s_get (pc := 18) (a := 111) (v := 157) flX4_154 (t_111 _) rfl (g_111_65 _) rfl dX4_isDropped_18 ?_
  refine s_iload_n (pc := 21) dX4_isDropped_21 rfl ?_
  refine s_ialdM (pc := 22) (a := 157) (t_157 _) rfl r_157 dX4_isDropped_22 ?_
  refine s_iastML (pc := 23) (a := 136) 4 rfl (Nat.le_of_ble_eq_true rfl) (t_136 _) rfl kO_136 r_136 dX4_isDropped_23 (fun c_2 => ?_)
  refine s_aload_n (pc := 24) dX4_isDropped_24 rfl ?_
  refine s_get (pc := 25) (a := 111) (v := 136) flX4_90 (t_111 _) rfl (g_111_41 _) rfl dX4_isDropped_25 ?_
  refine s_iconst (pc := 28) dX4_isDropped_28 ?_
  refine s_iload_n (pc := 29) dX4_isDropped_29 rfl ?_
  refine s_aload_n (pc := 30) dX4_isDropped_30 rfl ?_
  refine s_get (pc := 31) (a := 111) (v := 158) flX4_157 (t_111 _) rfl (g_111_66 _) rfl dX4_isDropped_31 ?_
  refine s_iload_n (pc := 34) dX4_isDropped_34 rfl ?_
  refine s_ialdM (pc := 35) (a := 158) (t_158 _) rfl r_158 dX4_isDropped_35 ?_
  refine s_isub (pc := 36) dX4_isDropped_36 ?_
  refine s_iastML (pc := 37) (a := 136) 5 rfl (Nat.le_of_ble_eq_true rfl) (t_136 _) rfl kO_136 r_136 dX4_isDropped_37 (fun c_3 => ?_)
  refine s_aload_n (pc := 38) dX4_isDropped_38 rfl ?_
  refine s_get (pc := 39) (a := 111) (v := 136) flX4_90 (t_111 _) rfl (g_111_41 _) rfl dX4_isDropped_39 ?_
  refine s_bipush (pc := 42) dX4_isDropped_42 ?_
  refine s_iload_n (pc := 44) dX4_isDropped_44 rfl ?_
  refine s_iastML (pc := 45) (a := 136) 6 rfl (Nat.le_of_ble_eq_true rfl) (t_136 _) rfl kO_136 r_136 dX4_isDropped_45 (fun c_4 => ?_)
  refine s_iconst (pc := 46) dX4_isDropped_46 ?_
  refine s_istore_nD (pc := 47) (ls' := [some (2, 111), some (0, a1), some (0, a2), some (0, 0), none]) dX4_isDropped_47 rfl (Nat.le_of_ble_eq_true rfl) ?_
  refine s_iconst (pc := 48) dX4_isDropped_48 ?_
  refine s_istoreD (pc := 49) (ls' := [some (2, 111), some (0, a1), some (0, a2), some (0, 0), some (0, 0)]) dX4_isDropped_49 rfl (Nat.le_of_ble_eq_true rfl) ?_
  refine s_wk [true, false, false, true, true] (ls' := [some (2, 111), none, none, some (0, 0), some (0, 0)]) rfl ?_
  refine s_loop (g := gX4_isDropped_l51 G Γ r sz sl td ) (Ex := eX4_isDropped_l51 G Γ r sz sl td ) (s0 := (0, 0, c_4)) (fun s => sX4_isDropped_l51  s.1 s.2.1 s.2.2) ?_
  intro e_12
  show Sm _ _ (WP G Γ muX4_isDropped r 111 [none, none, none, some (0, e_12.1), none] [] (sz, sl, tt td, cv e_12.2))
  refine s_iload_n (pc := 111) dX4_isDropped_111 rfl ?_
  exact s_zret (pc := 112) dX4_isDropped_112 rfl (fun h => h)
theorem kX4_isDropped {G : GG} {sz sl : Nat} {td : TT} (a1 : Int) (a2 : Int) (c : CC) (x : (Int × CC)) (h : fX4_isDropped a1 a2 c = some x) : Ct G yX4_isDropped muX4_isDropped [(2, 111), (0, a1), (0, a2)] (sz, sl, tt td, cv c) ((0, x.1), (sz, sl, tt td, cv x.2)) :=
  Ct.of (n := 2) (ls0 := [some (2, 111), some (0, a1), some (0, a2), none, none]) (by decide) rfl rfl ⟨by decide, by decide⟩ (Nat.le_of_ble_eq_true rfl) rfl ⟨Nat.le_refl _, Nat.le_refl _⟩ (show (0 : Nat) ≠ 9 by decide) (fun Γ => sX4_isDropped a1 a2 c x h rfl)
theorem mvX4_527 : MV RX4 527 RX4 yX4_isDropped muX4_isDropped 2 := ⟨lw_V q1853 q1855 qs109 q129 q1856, by decide +kernel, by decide⟩
abbrev muX4_dropFor : MI := (cX4_dropFor, RX4, 5, some .int, 5, "dropFor")
abbrev gX4_dropFor_l61 (G : GG) (Γ : Cx) (r : Vv × Wd) (sz sl : Nat) (td : TT) (v2 : Int) : (Int × Int × CC) → Prop := fun s => WP G Γ muX4_dropFor r 61 [some (2, 111), none, some (0, v2), some (0, s.1), some (0, s.2.1)] [] (sz, sl, tt td, cv s.2.2)
abbrev eX4_dropFor_l61 (G : GG) (Γ : Cx) (r : Vv × Wd) (sz sl : Nat) (td : TT) (v2 : Int) : (Int × CC) → Prop := (fun s => WP G Γ muX4_dropFor r 89 [none, none, none, some (0, s.1), none] [] (sz, sl, tt td, cv s.2))
noncomputable def fX4_dropFor_l61 (v2 : Int) (v3 : Int) (v4 : Int) (c : CC) : Option ((Int × Int × CC) ⊕ (Int × CC)) :=
  if v4 < 0 then
  (some (.inr (v3, c)))
  else
  (cl (fX4_isDropped v4 v2 c) fun p_2 =>
   if p_2.1 = 0 then
  (gd (inR (v4 + -1)) <| bd (v4 + -1) fun v4_3 =>
   some (.inl (v3, v4_3, p_2.2)))
  else
  (gd (inR (v4 + -1)) <| bd (v4 + -1) fun v4_4 =>
   some (.inl (v4, v4_4, p_2.2))))
theorem sX4_dropFor_l61 {G : GG} {Γ : Cx} {r : Vv × Wd} {sz sl : Nat} {td : TT} (v2 : Int) (v3 : Int) (v4 : Int) (c : CC) : Sm (fX4_dropFor_l61 v2 v3 v4 c) (fun x => Sum.elim (gX4_dropFor_l61 G Γ r sz sl td v2) (eX4_dropFor_l61 G Γ r sz sl td v2) x) (gX4_dropFor_l61 G Γ r sz sl td v2 (v3, v4, c)) := by
  show Sm _ _ (WP G Γ muX4_dropFor r 61 [some (2, 111), none, some (0, v2), some (0, v3), some (0, v4)] [] (sz, sl, tt td, cv c))
  unfold fX4_dropFor_l61
  refine s_iload (pc := 61) dX4_dropFor_61 rfl ?_
  refine s_if_lt (pc := 63) (tgt := 89) dX4_dropFor_63 rfl ?_ ?_
  · refine s_wk [false, true, false, true, false] (ls' := [none, none, none, some (0, v3), none]) rfl ?_
    exact Sm.some (fun h => h)
  refine s_aload_n (pc := 66) dX4_dropFor_66 rfl ?_
  refine s_iload (pc := 67) dX4_dropFor_67 rfl ?_
  refine s_iload_n (pc := 69) dX4_dropFor_69 rfl ?_
  refine s_callV3 (pc := 70) (a := 111) (as := [(0, v4), (0, v2)]) (st := []) (rv := fun b => ((0, b.1), (sz, sl, tt td, cv b.2))) (st3 := fun b => [(0, b.1)]) (w3 := fun b => (sz, sl, tt td, cv b.2)) mvX4_527 (fun b h => kX4_isDropped v4 v2 c b h) rfl (by decide) (t_111 td) rfl rfl rfl (Nat.le_of_ble_eq_true rfl) (fun _ => Nat.le_of_ble_eq_true rfl) (fun _ => ⟨rfl, rfl⟩) dX4_dropFor_70 (fun p_2 => ?_)
  refine s_if_eq (pc := 73) (tgt := 81) dX4_dropFor_73 rfl ?_ ?_
  · refine s_iload_n (pc := 81) dX4_dropFor_81 rfl ?_
    refine s_istore_nD (pc := 82) (ls' := [some (2, 111), none, some (0, v2), some (0, v3), some (0, v4)]) dX4_dropFor_82 rfl (Nat.le_of_ble_eq_true rfl) ?_
    refine s_iinc (pc := 83) (lf := fun x => [some (2, 111), none, some (0, v2), some (0, v3), some (0, x)]) dX4_dropFor_83 rfl (fun _ => rfl) (Nat.le_of_ble_eq_true rfl) (fun v4_3 => ?_)
    refine s_goto (pc := 86) (tgt := 61) dX4_dropFor_86 rfl ?_
    exact Sm.some (fun h => h)
  refine s_iload (pc := 76) dX4_dropFor_76 rfl ?_
  refine s_goto (pc := 78) (tgt := 82) dX4_dropFor_78 rfl ?_
  refine s_istore_nD (pc := 82) (ls' := [some (2, 111), none, some (0, v2), some (0, v4), some (0, v4)]) dX4_dropFor_82 rfl (Nat.le_of_ble_eq_true rfl) ?_
  refine s_iinc (pc := 83) (lf := fun x => [some (2, 111), none, some (0, v2), some (0, v4), some (0, x)]) dX4_dropFor_83 rfl (fun _ => rfl) (Nat.le_of_ble_eq_true rfl) (fun v4_4 => ?_)
  refine s_goto (pc := 86) (tgt := 61) dX4_dropFor_86 rfl ?_
  exact Sm.some (fun h => h)
noncomputable def fX4_dropFor_j48 (v1 : Int) (v2 : Int) (v3 : Int) (c : CC) : Option (Int × CC) :=
  if v1 = 2 then
  (gd (inR ((c 111 67) - 1)) <|
   bd ((c 111 67) - 1) fun v4_1 =>
   cl (wh (fun s => fX4_dropFor_l61 v2 s.1 s.2.1 s.2.2) (v3, v4_1, c)) (fun e_5 =>
  some (e_5.1, e_5.2)))
  else
  (some (v3, c))
theorem sX4_dropFor_j48 {G : GG} {Γ : Cx} {r : Vv × Wd} {sz sl : Nat} {td : TT} (v1 : Int) (v2 : Int) (v3 : Int) (c : CC) : Sm (fX4_dropFor_j48 v1 v2 v3 c) (fun x => r = ((0, x.1), (sz, sl, tt td, cv x.2))) (WP G Γ muX4_dropFor r 48 [some (2, 111), some (0, v1), some (0, v2), some (0, v3), none] [] (sz, sl, tt td, cv c)) := by
  unfold fX4_dropFor_j48
  refine s_iload_n (pc := 48) dX4_dropFor_48 rfl ?_
  refine s_iconst (pc := 49) dX4_dropFor_49 ?_
  refine s_icmp_ne (pc := 50) (tgt := 89) dX4_dropFor_50 rfl ?_ ?_
  · refine s_iload_n (pc := 89) dX4_dropFor_89 rfl ?_
    exact s_iret (pc := 90) dX4_dropFor_90 rfl (fun h => h)
  refine s_aload_n (pc := 53) dX4_dropFor_53 rfl ?_
  refine s_get (pc := 54) (a := 111) (v := c 111 67) flX4_492 (t_111 _) rfl (g_111_67 _) rfl dX4_dropFor_54 ?_
  refine s_iconst (pc := 57) dX4_dropFor_57 ?_
  refine s_isub (pc := 58) dX4_dropFor_58 ?_
  refine s_istore (pc := 59) (lf := fun x => [some (2, 111), some (0, v1), some (0, v2), some (0, v3), some (0, x)]) dX4_dropFor_59 (fun _ => rfl) (Nat.le_of_ble_eq_true rfl) (fun v4_1 => ?_)
  refine s_wk [true, false, true, true, true] (ls' := [some (2, 111), none, some (0, v2), some (0, v3), some (0, v4_1)]) rfl ?_
  refine s_loop (g := gX4_dropFor_l61 G Γ r sz sl td v2) (Ex := eX4_dropFor_l61 G Γ r sz sl td v2) (s0 := (v3, v4_1, c)) (fun s => sX4_dropFor_l61 v2 s.1 s.2.1 s.2.2) ?_
  intro e_5
  show Sm _ _ (WP G Γ muX4_dropFor r 89 [none, none, none, some (0, e_5.1), none] [] (sz, sl, tt td, cv e_5.2))
  refine s_iload_n (pc := 89) dX4_dropFor_89 rfl ?_
  exact s_iret (pc := 90) dX4_dropFor_90 rfl (fun h => h)
abbrev gX4_dropFor_l10 (G : GG) (Γ : Cx) (r : Vv × Wd) (sz sl : Nat) (td : TT) (v1 : Int) (v2 : Int) (c : CC) : (Int × Int) → Prop := fun s => WP G Γ muX4_dropFor r 10 [some (2, 111), some (0, v1), some (0, v2), some (0, s.1), some (0, s.2)] [] (sz, sl, tt td, cv c)
abbrev eX4_dropFor_l10 (G : GG) (Γ : Cx) (r : Vv × Wd) (sz sl : Nat) (td : TT) (v1 : Int) (v2 : Int) (c : CC) : (Int) → Prop := (fun s => WP G Γ muX4_dropFor r 48 [some (2, 111), some (0, v1), some (0, v2), some (0, s), none] [] (sz, sl, tt td, cv c))
noncomputable def fX4_dropFor_l10 (v1 : Int) (v2 : Int) (v3 : Int) (v4 : Int) (c : CC) : Option ((Int × Int) ⊕ (Int)) :=
  if v4 < c 111 67 then
  (gd ((0 : Int) ≤ v4 ∧ v4 < 26) <|
   gd ((0 : Int) ≤ v3 ∧ v3 < 26) <|
   if c 157 (Int.toNat v4) < c 157 (Int.toNat v3) then
  (gd (inR (v4 + 1)) <| bd (v4 + 1) fun v4_7 =>
   some (.inl (v4, v4_7)))
  else
  (gd (inR (v4 + 1)) <| bd (v4 + 1) fun v4_6 =>
   some (.inl (v3, v4_6))))
  else
  (some (.inr v3))
theorem sX4_dropFor_l10 {G : GG} {Γ : Cx} {r : Vv × Wd} {sz sl : Nat} {td : TT} (v1 : Int) (v2 : Int) (v3 : Int) (v4 : Int) (c : CC) : Sm (fX4_dropFor_l10 v1 v2 v3 v4 c) (fun x => Sum.elim (gX4_dropFor_l10 G Γ r sz sl td v1 v2 c) (eX4_dropFor_l10 G Γ r sz sl td v1 v2 c) x) (gX4_dropFor_l10 G Γ r sz sl td v1 v2 c (v3, v4)) := by
  show Sm _ _ (WP G Γ muX4_dropFor r 10 [some (2, 111), some (0, v1), some (0, v2), some (0, v3), some (0, v4)] [] (sz, sl, tt td, cv c))
  unfold fX4_dropFor_l10
  refine s_iload (pc := 10) dX4_dropFor_10 rfl ?_
  refine s_aload_n (pc := 12) dX4_dropFor_12 rfl ?_
  refine s_get (pc := 13) (a := 111) (v := c 111 67) flX4_492 (t_111 _) rfl (g_111_67 _) rfl dX4_dropFor_13 ?_
  refine s_icmp_ge (pc := 16) (tgt := 48) dX4_dropFor_16 rfl ?_ ?_
  · refine s_wk [true, true, true, true, false] (ls' := [some (2, 111), some (0, v1), some (0, v2), some (0, v3), none]) rfl ?_
    exact Sm.some (fun h => h)
  refine s_aload_n (pc := 19) dX4_dropFor_19 rfl ?_
  refine s_get (pc := 20) (a := 111) (v := 157) flX4_154 (t_111 _) rfl (g_111_65 _) rfl dX4_dropFor_20 ?_
  refine s_iload (pc := 23) dX4_dropFor_23 rfl ?_
  refine s_ialdM (pc := 25) (a := 157) (t_157 _) rfl r_157 dX4_dropFor_25 ?_
  refine s_aload_n (pc := 26) dX4_dropFor_26 rfl ?_
  refine s_get (pc := 27) (a := 111) (v := 157) flX4_154 (t_111 _) rfl (g_111_65 _) rfl dX4_dropFor_27 ?_
  refine s_iload_n (pc := 30) dX4_dropFor_30 rfl ?_
  refine s_ialdM (pc := 31) (a := 157) (t_157 _) rfl r_157 dX4_dropFor_31 ?_
  refine s_icmp_ge (pc := 32) (tgt := 40) dX4_dropFor_32 rfl ?_ ?_
  · refine s_iload_n (pc := 40) dX4_dropFor_40 rfl ?_
    refine s_istore_nD (pc := 41) (ls' := [some (2, 111), some (0, v1), some (0, v2), some (0, v3), some (0, v4)]) dX4_dropFor_41 rfl (Nat.le_of_ble_eq_true rfl) ?_
    refine s_iinc (pc := 42) (lf := fun x => [some (2, 111), some (0, v1), some (0, v2), some (0, v3), some (0, x)]) dX4_dropFor_42 rfl (fun _ => rfl) (Nat.le_of_ble_eq_true rfl) (fun v4_6 => ?_)
    refine s_goto (pc := 45) (tgt := 10) dX4_dropFor_45 rfl ?_
    exact Sm.some (fun h => h)
  refine s_iload (pc := 35) dX4_dropFor_35 rfl ?_
  refine s_goto (pc := 37) (tgt := 41) dX4_dropFor_37 rfl ?_
  refine s_istore_nD (pc := 41) (ls' := [some (2, 111), some (0, v1), some (0, v2), some (0, v4), some (0, v4)]) dX4_dropFor_41 rfl (Nat.le_of_ble_eq_true rfl) ?_
  refine s_iinc (pc := 42) (lf := fun x => [some (2, 111), some (0, v1), some (0, v2), some (0, v4), some (0, x)]) dX4_dropFor_42 rfl (fun _ => rfl) (Nat.le_of_ble_eq_true rfl) (fun v4_7 => ?_)
  refine s_goto (pc := 45) (tgt := 10) dX4_dropFor_45 rfl ?_
  exact Sm.some (fun h => h)
noncomputable def fX4_dropFor (a1 : Int) (a2 : Int) (c : CC) : Option (Int × CC) :=
  if a1 = 1 then
  (cl (wh (fun s => fX4_dropFor_l10 a1 a2 s.1 s.2 c) (0, 1)) (fun e_8 =>
  fX4_dropFor_j48 a1 a2 e_8 c))
  else
  (fX4_dropFor_j48 a1 a2 0 c)
theorem sX4_dropFor {G : GG} {Γ : Cx} {r : Vv × Wd} {sz sl : Nat} {td : TT} (a1 : Int) (a2 : Int) (c : CC) : Sm (fX4_dropFor a1 a2 c) (fun x => r = ((0, x.1), (sz, sl, tt td, cv x.2))) (WP G Γ muX4_dropFor r 0 [some (2, 111), some (0, a1), some (0, a2), none, none] [] (sz, sl, tt td, cv c)) := by
  unfold fX4_dropFor
  refine s_iconst (pc := 0) dX4_dropFor_0 ?_
  refine s_istore_nD (pc := 1) (ls' := [some (2, 111), some (0, a1), some (0, a2), some (0, 0), none]) dX4_dropFor_1 rfl (Nat.le_of_ble_eq_true rfl) ?_
  refine s_iload_n (pc := 2) dX4_dropFor_2 rfl ?_
  refine s_iconst (pc := 3) dX4_dropFor_3 ?_
  refine s_icmp_ne (pc := 4) (tgt := 48) dX4_dropFor_4 rfl ?_ ?_
  · exact sX4_dropFor_j48 a1 a2 0 c
  refine s_iconst (pc := 7) dX4_dropFor_7 ?_
  refine s_istoreD (pc := 8) (ls' := [some (2, 111), some (0, a1), some (0, a2), some (0, 0), some (0, 1)]) dX4_dropFor_8 rfl (Nat.le_of_ble_eq_true rfl) ?_
  refine s_loop (g := gX4_dropFor_l10 G Γ r sz sl td a1 a2 c) (Ex := eX4_dropFor_l10 G Γ r sz sl td a1 a2 c) (s0 := (0, 1)) (fun s => sX4_dropFor_l10 a1 a2 s.1 s.2 c) ?_
  intro e_8
  show Sm _ _ (WP G Γ muX4_dropFor r 48 [some (2, 111), some (0, a1), some (0, a2), some (0, e_8), none] [] (sz, sl, tt td, cv c))
  exact sX4_dropFor_j48 a1 a2 e_8 c
theorem kX4_dropFor {G : GG} {sz sl : Nat} {td : TT} (a1 : Int) (a2 : Int) (c : CC) (x : (Int × CC)) (h : fX4_dropFor a1 a2 c = some x) : Ct G yX4_dropFor muX4_dropFor [(2, 111), (0, a1), (0, a2)] (sz, sl, tt td, cv c) ((0, x.1), (sz, sl, tt td, cv x.2)) :=
  Ct.of (n := 2) (ls0 := [some (2, 111), some (0, a1), some (0, a2), none, none]) (by decide) rfl rfl ⟨by decide, by decide⟩ (Nat.le_of_ble_eq_true rfl) rfl ⟨Nat.le_refl _, Nat.le_refl _⟩ (show (0 : Nat) ≠ 9 by decide) (fun Γ => sX4_dropFor a1 a2 c x h rfl)
theorem flX4_531 : FL RX4 531 3 72 := ⟨_, _, _, cf3, by decide, q1316⟩
theorem fpX4_531 (nm : String) : FP RX4 531 3 72 nm := ⟨_, _, _, cf3, by decide, q1316, Or.inl rfl⟩
theorem fpX4_531t : fty 3 72 ≠ .boolean ∧ fty 3 72 ≠ .byte ∧ fty 3 72 ≠ .char ∧ fty 3 72 ≠ .short := by decide
abbrev muX4_drops : MI := (cX4_drops, RX4, 3, none, 1, "drops")
abbrev gX4_drops_l12 (G : GG) (Γ : Cx) (r : Vv × Wd) (sz sl : Nat) (td : TT)  : (Int × CC) → Prop := fun s => WP G Γ muX4_drops r 12 [some (2, 111), none, some (0, s.1)] [] (sz, sl, tt td, cv s.2)
abbrev eX4_drops_l12 (G : GG) (Γ : Cx) (r : Vv × Wd) (sz sl : Nat) (td : TT)  : (CC) → Prop := (fun s => WP G Γ muX4_drops r 82 [some (2, 111), none, none] [] (sz, sl, tt td, cv s))
noncomputable def fX4_drops_l12 (v2 : Int) (c : CC) : Option ((Int × CC) ⊕ (CC)) :=
  if v2 < c 111 67 then
  (gd (inR (v2 + 1)) <|
   gd ((0 : Int) ≤ v2 + 1 ∧ v2 + 1 < 26) <|
   gd ((0 : Int) ≤ v2 ∧ v2 < 26) <| bd (up2 c 155 (Int.toNat v2) (c 155 (Int.toNat (v2 + 1)))) fun c_2 =>
   gd (inR (v2 + 1)) <|
   gd ((0 : Int) ≤ v2 + 1 ∧ v2 + 1 < 26) <|
   gd ((0 : Int) ≤ v2 ∧ v2 < 26) <| bd (up2 c_2 156 (Int.toNat v2) (c_2 156 (Int.toNat (v2 + 1)))) fun c_3 =>
   gd (inR (v2 + 1)) <|
   gd ((0 : Int) ≤ v2 + 1 ∧ v2 + 1 < 26) <|
   gd ((0 : Int) ≤ v2 ∧ v2 < 26) <| bd (up2 c_3 157 (Int.toNat v2) (c_3 157 (Int.toNat (v2 + 1)))) fun c_4 =>
   gd (inR (v2 + 1)) <|
   gd ((0 : Int) ≤ v2 + 1 ∧ v2 + 1 < 26) <|
   gd ((0 : Int) ≤ v2 ∧ v2 < 26) <| bd (up2 c_4 158 (Int.toNat v2) (c_4 158 (Int.toNat (v2 + 1)))) fun c_5 =>
   gd (inR (v2 + 1)) <| bd (v2 + 1) fun v2_6 =>
   some (.inl (v2_6, c_5)))
  else
  (some (.inr c))
theorem sX4_drops_l12 {G : GG} {Γ : Cx} {r : Vv × Wd} {sz sl : Nat} {td : TT} (v2 : Int) (c : CC) : Sm (fX4_drops_l12 v2 c) (fun x => Sum.elim (gX4_drops_l12 G Γ r sz sl td ) (eX4_drops_l12 G Γ r sz sl td ) x) (gX4_drops_l12 G Γ r sz sl td  (v2, c)) := by
  show Sm _ _ (WP G Γ muX4_drops r 12 [some (2, 111), none, some (0, v2)] [] (sz, sl, tt td, cv c))
  unfold fX4_drops_l12
  refine s_iload_n (pc := 12) dX4_drops_12 rfl ?_
  refine s_aload_n (pc := 13) dX4_drops_13 rfl ?_
  refine s_get (pc := 14) (a := 111) (v := c 111 67) flX4_492 (t_111 _) rfl (g_111_67 _) rfl dX4_drops_14 ?_
  refine s_icmp_ge (pc := 17) (tgt := 82) dX4_drops_17 rfl ?_ ?_
  · refine s_wk [true, true, false] (ls' := [some (2, 111), none, none]) rfl ?_
    exact Sm.some (fun h => h)
  refine s_aload_n (pc := 20) dX4_drops_20 rfl ?_
  refine s_get (pc := 21) (a := 111) (v := 155) flX4_148 (t_111 _) rfl (g_111_63 _) rfl dX4_drops_21 ?_
  refine s_iload_n (pc := 24) dX4_drops_24 rfl ?_
  refine s_aload_n (pc := 25) dX4_drops_25 rfl ?_
  refine s_get (pc := 26) (a := 111) (v := 155) flX4_148 (t_111 _) rfl (g_111_63 _) rfl dX4_drops_26 ?_
  refine s_iload_n (pc := 29) dX4_drops_29 rfl ?_
  refine s_iconst (pc := 30) dX4_drops_30 ?_
  refine s_iadd (pc := 31) dX4_drops_31 ?_
  refine s_ialdM (pc := 32) (a := 155) (t_155 _) rfl r_155 dX4_drops_32 ?_
  refine s_iastM (pc := 33) (a := 155) (t_155 _) rfl kO_155 r_155 dX4_drops_33 (fun c_2 => ?_)
  refine s_aload_n (pc := 34) dX4_drops_34 rfl ?_
  refine s_get (pc := 35) (a := 111) (v := 156) flX4_151 (t_111 _) rfl (g_111_64 _) rfl dX4_drops_35 ?_
  refine s_iload_n (pc := 38) dX4_drops_38 rfl ?_
  refine s_aload_n (pc := 39) dX4_drops_39 rfl ?_
  refine s_get (pc := 40) (a := 111) (v := 156) flX4_151 (t_111 _) rfl (g_111_64 _) rfl dX4_drops_40 ?_
  refine s_iload_n (pc := 43) dX4_drops_43 rfl ?_
  refine s_iconst (pc := 44) dX4_drops_44 ?_
  refine s_iadd (pc := 45) dX4_drops_45 ?_
  refine s_ialdM (pc := 46) (a := 156) (t_156 _) rfl r_156 dX4_drops_46 ?_
  refine s_iastM (pc := 47) (a := 156) (t_156 _) rfl kO_156 r_156 dX4_drops_47 (fun c_3 => ?_)
  refine s_aload_n (pc := 48) dX4_drops_48 rfl ?_
  refine s_get (pc := 49) (a := 111) (v := 157) flX4_154 (t_111 _) rfl (g_111_65 _) rfl dX4_drops_49 ?_
  refine s_iload_n (pc := 52) dX4_drops_52 rfl ?_
  refine s_aload_n (pc := 53) dX4_drops_53 rfl ?_
  refine s_get (pc := 54) (a := 111) (v := 157) flX4_154 (t_111 _) rfl (g_111_65 _) rfl dX4_drops_54 ?_
  refine s_iload_n (pc := 57) dX4_drops_57 rfl ?_
  refine s_iconst (pc := 58) dX4_drops_58 ?_
  refine s_iadd (pc := 59) dX4_drops_59 ?_
  refine s_ialdM (pc := 60) (a := 157) (t_157 _) rfl r_157 dX4_drops_60 ?_
  refine s_iastM (pc := 61) (a := 157) (t_157 _) rfl kO_157 r_157 dX4_drops_61 (fun c_4 => ?_)
  refine s_aload_n (pc := 62) dX4_drops_62 rfl ?_
  refine s_get (pc := 63) (a := 111) (v := 158) flX4_157 (t_111 _) rfl (g_111_66 _) rfl dX4_drops_63 ?_
  refine s_iload_n (pc := 66) dX4_drops_66 rfl ?_
  refine s_aload_n (pc := 67) dX4_drops_67 rfl ?_
  refine s_get (pc := 68) (a := 111) (v := 158) flX4_157 (t_111 _) rfl (g_111_66 _) rfl dX4_drops_68 ?_
  refine s_iload_n (pc := 71) dX4_drops_71 rfl ?_
  refine s_iconst (pc := 72) dX4_drops_72 ?_
  refine s_iadd (pc := 73) dX4_drops_73 ?_
  refine s_ialdM (pc := 74) (a := 158) (t_158 _) rfl r_158 dX4_drops_74 ?_
  refine s_iastM (pc := 75) (a := 158) (t_158 _) rfl kO_158 r_158 dX4_drops_75 (fun c_5 => ?_)
  refine s_iinc (pc := 76) (lf := fun x => [some (2, 111), none, some (0, x)]) dX4_drops_76 rfl (fun _ => rfl) (Nat.le_of_ble_eq_true rfl) (fun v2_6 => ?_)
  refine s_goto (pc := 79) (tgt := 12) dX4_drops_79 rfl ?_
  exact Sm.some (fun h => h)
noncomputable def fX4_drops (a1 : Int) (c : CC) : Option CC :=
  gd (inR ((c 111 67) - 1)) <|
   bd (up2 c 111 67 ((c 111 67) - 1)) fun c_1 =>
   cl (wh (fun s => fX4_drops_l12  s.1 s.2) (a1, c_1)) (fun e_7 =>
  gd (inR ((e_7 111 72) + 1)) <|
   bd (up2 e_7 111 72 ((e_7 111 72) + 1)) fun c_8 =>
   some c_8)
theorem sX4_drops {G : GG} {Γ : Cx} {r : Vv × Wd} {sz sl : Nat} {td : TT} (a1 : Int) (c : CC) : Sm (fX4_drops a1 c) (fun x => r = ((3, 0), (sz, sl, tt td, cv x))) (WP G Γ muX4_drops r 0 [some (2, 111), some (0, a1), none] [] (sz, sl, tt td, cv c)) := by
  unfold fX4_drops
  refine s_aload_n (pc := 0) dX4_drops_0 rfl ?_
  refine s_dup (pc := 1) (by decide : ¬ (2 : Nat) = 1) dX4_drops_1 ?_
  refine s_get (pc := 2) (a := 111) (v := c 111 67) flX4_492 (t_111 _) rfl (g_111_67 _) rfl dX4_drops_2 ?_
  refine s_iconst (pc := 5) dX4_drops_5 ?_
  refine s_isub (pc := 6) dX4_drops_6 ?_
  refine s_putM (pc := 7) (a := 111) (fpX4_492 _) (t_111 _) rfl kO_111 n_111_67 rfl (fpX4_492t) dX4_drops_7 (fun c_1 => ?_)
  refine s_iload_n (pc := 10) dX4_drops_10 rfl ?_
  refine s_istore_nD (pc := 11) (ls' := [some (2, 111), some (0, a1), some (0, a1)]) dX4_drops_11 rfl (Nat.le_of_ble_eq_true rfl) ?_
  refine s_wk [true, false, true] (ls' := [some (2, 111), none, some (0, a1)]) rfl ?_
  refine s_loop (g := gX4_drops_l12 G Γ r sz sl td ) (Ex := eX4_drops_l12 G Γ r sz sl td ) (s0 := (a1, c_1)) (fun s => sX4_drops_l12  s.1 s.2) ?_
  intro e_7
  show Sm _ _ (WP G Γ muX4_drops r 82 [some (2, 111), none, none] [] (sz, sl, tt td, cv e_7))
  refine s_aload_n (pc := 82) dX4_drops_82 rfl ?_
  refine s_dup (pc := 83) (by decide : ¬ (2 : Nat) = 1) dX4_drops_83 ?_
  refine s_get (pc := 84) (a := 111) (v := e_7 111 72) flX4_531 (t_111 _) rfl (g_111_72 _) rfl dX4_drops_84 ?_
  refine s_iconst (pc := 87) dX4_drops_87 ?_
  refine s_iadd (pc := 88) dX4_drops_88 ?_
  refine s_putM (pc := 89) (a := 111) (fpX4_531 _) (t_111 _) rfl kO_111 n_111_72 rfl (fpX4_531t) dX4_drops_89 (fun c_8 => ?_)
  exact s_vret (pc := 92) dX4_drops_92 rfl (fun h => h)
theorem kX4_drops {G : GG} {sz sl : Nat} {td : TT} (a1 : Int) (c : CC) (x : CC) (h : fX4_drops a1 c = some x) : Ct G yX4_drops muX4_drops [(2, 111), (0, a1)] (sz, sl, tt td, cv c) ((3, 0), (sz, sl, tt td, cv x)) :=
  Ct.of (n := 1) (ls0 := [some (2, 111), some (0, a1), none]) (by decide) rfl rfl ⟨by decide, by decide⟩ (Nat.le_of_ble_eq_true rfl) rfl ⟨Nat.le_refl _, Nat.le_refl _⟩ (show (3 : Nat) ≠ 9 by decide) (fun Γ => sX4_drops a1 c x h rfl)
theorem fpX4_534 (nm : String) : FP RX4 534 3 71 nm := ⟨_, _, _, cf3, by decide, q1315, Or.inl rfl⟩
theorem fpX4_534t : fty 3 71 ≠ .boolean ∧ fty 3 71 ≠ .byte ∧ fty 3 71 ≠ .char ∧ fty 3 71 ≠ .short := by decide
theorem fpX4_537 (nm : String) : FP RX4 537 3 73 nm := ⟨_, _, _, cf3, by decide, q1317, Or.inl rfl⟩
theorem fpX4_537t : fty 3 73 ≠ .boolean ∧ fty 3 73 ≠ .byte ∧ fty 3 73 ≠ .char ∧ fty 3 73 ≠ .short := by decide
theorem fpX4_540 (nm : String) : FP RX4 540 3 74 nm := ⟨_, _, _, cf3, by decide, q1318, Or.inl rfl⟩
theorem flX4_540 : FL RX4 540 3 74 := ⟨_, _, _, cf3, by decide, q1318⟩
theorem mvX4_544 : MV RX4 544 RX4 yX4_canTake muX4_canTake 2 := ⟨lw_V q1845 q1847 qs107 q129 q1848, by decide +kernel, by decide⟩
theorem flX4_534 : FL RX4 534 3 71 := ⟨_, _, _, cf3, by decide, q1315⟩
theorem flX4_537 : FL RX4 537 3 73 := ⟨_, _, _, cf3, by decide, q1317⟩
theorem mvX4_547 : MV RX4 547 RX4 yX4_dropFor muX4_dropFor 2 := ⟨lw_V q1849 q1851 qs108 q129 q1852, by decide +kernel, by decide⟩
theorem mvX4_550 : MV RX4 550 RX4 yX4_drops muX4_drops 1 := ⟨lw_V q1857 q1859 qs110 q129 q1860, by decide +kernel, by decide⟩
abbrev muX4_hears : MI := (cX4_hears, RX4, 5, some .boolean, 6, "hears")
noncomputable def fX4_hears_j144 (v1 : Int) (v2 : Int) (v3 : Int) (v4 : Int) (w0 : Int) (c : CC) : Option ((CC) ⊕ (CC)) :=
  bd (up2 c 111 73 w0) fun c_10 =>
   if v2 = 3 then
  (gd ((0 : Int) ≤ 1 ∧ (1 : Int) < 2) <| bd (up2 c_10 111 74 1) fun c_13 =>
   some (.inl c_13))
  else
  (cl (fX4_dropFor v2 v4 c_10) fun p_11 =>
   cl (fX4_drops p_11.1 p_11.2) fun p_12 =>
   some (.inl p_12))
abbrev gX4_hears_l111 (G : GG) (Γ : Cx) (r : Vv × Wd) (sz sl : Nat) (td : TT) (v1 : Int) (v2 : Int) (v3 : Int) (v4 : Int) : (CC) → Prop := fun s => WP G Γ muX4_hears r 111 [some (2, 111), some (0, v1), some (0, v2), some (0, v3), some (0, v4)] [] (sz, sl, tt td, cv s)
abbrev eX4_hears_l111 (G : GG) (Γ : Cx) (r : Vv × Wd) (sz sl : Nat) (td : TT) (v1 : Int) (v2 : Int) (v3 : Int) (v4 : Int) : (CC) → Prop := (fun s => WP G Γ muX4_hears r 174 [some (2, 111), some (0, v1), some (0, v2), some (0, v3), some (0, v4)] [] (sz, sl, tt td, cv s))
theorem sX4_hears_j144 {G : GG} {Γ : Cx} {r : Vv × Wd} {sz sl : Nat} {td : TT} (v1 : Int) (v2 : Int) (v3 : Int) (v4 : Int) (w0 : Int) (c : CC) : Sm (fX4_hears_j144 v1 v2 v3 v4 w0 c) (fun x => Sum.elim (gX4_hears_l111 G Γ r sz sl td v1 v2 v3 v4) (eX4_hears_l111 G Γ r sz sl td v1 v2 v3 v4) x) (WP G Γ muX4_hears r 144 [some (2, 111), some (0, v1), some (0, v2), some (0, v3), some (0, v4)] [(0, w0), (2, 111)] (sz, sl, tt td, cv c)) := by
  unfold fX4_hears_j144
  refine s_putM (pc := 144) (a := 111) (fpX4_537 _) (t_111 _) rfl kO_111 n_111_73 rfl (fpX4_537t) dX4_hears_144 (fun c_10 => ?_)
  refine s_iload_n (pc := 147) dX4_hears_147 rfl ?_
  refine s_iconst (pc := 148) dX4_hears_148 ?_
  refine s_icmp_ne (pc := 149) (tgt := 160) dX4_hears_149 rfl ?_ ?_
  · refine s_aload_n (pc := 160) dX4_hears_160 rfl ?_
    refine s_aload_n (pc := 161) dX4_hears_161 rfl ?_
    refine s_iload_n (pc := 162) dX4_hears_162 rfl ?_
    refine s_iload (pc := 163) dX4_hears_163 rfl ?_
    refine s_callV3 (pc := 165) (a := 111) (as := [(0, v2), (0, v4)]) (st := [(2, 111)]) (rv := fun b => ((0, b.1), (sz, sl, tt td, cv b.2))) (st3 := fun b => [(0, b.1), (2, 111)]) (w3 := fun b => (sz, sl, tt td, cv b.2)) mvX4_547 (fun b h => kX4_dropFor v2 v4 c_10 b h) rfl (by decide) (t_111 td) rfl rfl rfl (Nat.le_of_ble_eq_true rfl) (fun _ => Nat.le_of_ble_eq_true rfl) (fun _ => ⟨rfl, rfl⟩) dX4_hears_165 (fun p_11 => ?_)
    refine s_callV3 (pc := 168) (a := 111) (as := [(0, p_11.1)]) (st := []) (rv := fun b => ((3, 0), (sz, sl, tt td, cv b))) (st3 := fun b => []) (w3 := fun b => (sz, sl, tt td, cv b)) mvX4_550 (fun b h => kX4_drops p_11.1 p_11.2 b h) rfl (by decide) (t_111 td) rfl rfl rfl (Nat.le_of_ble_eq_true rfl) (fun _ => Nat.le_of_ble_eq_true rfl) (fun _ => ⟨rfl, rfl⟩) dX4_hears_168 (fun p_12 => ?_)
    refine s_goto (pc := 171) (tgt := 111) dX4_hears_171 rfl ?_
    exact Sm.some (fun h => h)
  refine s_aload_n (pc := 152) dX4_hears_152 rfl ?_
  refine s_iconst (pc := 153) dX4_hears_153 ?_
  refine s_putZM (pc := 154) (a := 111) (fpX4_540 _) (t_111 _) rfl kO_111 n_111_74 rfl dX4_hears_154 (fun c_13 => ?_)
  refine s_goto (pc := 157) (tgt := 111) dX4_hears_157 rfl ?_
  exact Sm.some (fun h => h)
noncomputable def fX4_hears_l111 (v1 : Int) (v2 : Int) (v3 : Int) (v4 : Int) (c : CC) : Option ((CC) ⊕ (CC)) :=
  if v1 < c 111 67 then
  (if c 111 74 = 0 then
  (if c 111 73 = -1 then
  (fX4_hears_j144 v1 v2 v3 v4 v4 c)
  else
  (fX4_hears_j144 v1 v2 v3 v4 (c 111 73) c))
  else
  (some (.inr c)))
  else
  (some (.inr c))
theorem sX4_hears_l111 {G : GG} {Γ : Cx} {r : Vv × Wd} {sz sl : Nat} {td : TT} (v1 : Int) (v2 : Int) (v3 : Int) (v4 : Int) (c : CC) : Sm (fX4_hears_l111 v1 v2 v3 v4 c) (fun x => Sum.elim (gX4_hears_l111 G Γ r sz sl td v1 v2 v3 v4) (eX4_hears_l111 G Γ r sz sl td v1 v2 v3 v4) x) (gX4_hears_l111 G Γ r sz sl td v1 v2 v3 v4 c) := by
  show Sm _ _ (WP G Γ muX4_hears r 111 [some (2, 111), some (0, v1), some (0, v2), some (0, v3), some (0, v4)] [] (sz, sl, tt td, cv c))
  unfold fX4_hears_l111
  refine s_aload_n (pc := 111) dX4_hears_111 rfl ?_
  refine s_get (pc := 112) (a := 111) (v := c 111 67) flX4_492 (t_111 _) rfl (g_111_67 _) rfl dX4_hears_112 ?_
  refine s_iload_n (pc := 115) dX4_hears_115 rfl ?_
  refine s_icmp_le (pc := 116) (tgt := 174) dX4_hears_116 rfl ?_ ?_
  · exact Sm.some (fun h => h)
  refine s_aload_n (pc := 119) dX4_hears_119 rfl ?_
  refine s_get (pc := 120) (a := 111) (v := c 111 74) flX4_540 (t_111 _) rfl (g_111_74 _) rfl dX4_hears_120 ?_
  refine s_if_ne (pc := 123) (tgt := 174) dX4_hears_123 rfl ?_ ?_
  · exact Sm.some (fun h => h)
  refine s_aload_n (pc := 126) dX4_hears_126 rfl ?_
  refine s_aload_n (pc := 127) dX4_hears_127 rfl ?_
  refine s_get (pc := 128) (a := 111) (v := c 111 73) flX4_537 (t_111 _) rfl (g_111_73 _) rfl dX4_hears_128 ?_
  refine s_iconst (pc := 131) dX4_hears_131 ?_
  refine s_icmp_ne (pc := 132) (tgt := 140) dX4_hears_132 rfl ?_ ?_
  · refine s_aload_n (pc := 140) dX4_hears_140 rfl ?_
    refine s_get (pc := 141) (a := 111) (v := c 111 73) flX4_537 (t_111 _) rfl (g_111_73 _) rfl dX4_hears_141 ?_
    exact sX4_hears_j144 v1 v2 v3 v4 (c 111 73) c
  refine s_iload (pc := 135) dX4_hears_135 rfl ?_
  refine s_goto (pc := 137) (tgt := 144) dX4_hears_137 rfl ?_
  exact sX4_hears_j144 v1 v2 v3 v4 v4 c
abbrev gX4_hears_l28 (G : GG) (Γ : Cx) (r : Vv × Wd) (sz sl : Nat) (td : TT) (v1 : Int) (v2 : Int) (v3 : Int) : (Int × CC) → Prop := fun s => WP G Γ muX4_hears r 28 [some (2, 111), some (0, v1), some (0, v2), some (0, v3), some (0, s.1)] [] (sz, sl, tt td, cv s.2)
abbrev eX4_hears_l28 (G : GG) (Γ : Cx) (r : Vv × Wd) (sz sl : Nat) (td : TT) (v1 : Int) (v2 : Int) (v3 : Int) : (CC) → Prop := (fun s => WP G Γ muX4_hears r 180 [some (2, 111), none, none, some (0, v3), none] [] (sz, sl, tt td, cv s))
noncomputable def fX4_hears_l28 (v1 : Int) (v2 : Int) (v3 : Int) (v4 : Int) (c : CC) : Option ((Int × CC) ⊕ (CC)) :=
  if v4 < c 112 2 then
  (if c 111 74 = 0 then
  (gd ((0 : Int) ≤ v4 ∧ v4 < 24) <|
   cl (fX4_at24 (c 143 (Int.toNat v4)) c) fun p_6 =>
   gd ((0 : Int) ≤ v4 ∧ v4 < 24) <|
   cl (fX4_canTake p_6 (c 144 (Int.toNat v4)) c) fun p_7 =>
   if p_7 = 0 then
  (gd (inR ((c 111 71) + 1)) <|
   bd (up2 c 111 71 ((c 111 71) + 1)) fun c_8 =>
   if c_8 111 73 = -1 then
  (bd (up2 c_8 111 73 v4) fun c_16 =>
   cl (wh (fun s => fX4_hears_l111 v1 v2 v3 v4  s) c_16) (fun e_17 =>
  gd (inR (v4 + 1)) <| bd (v4 + 1) fun v4_18 =>
   some (.inl (v4_18, e_17))))
  else
  (bd (up2 c_8 111 73 (c_8 111 73)) fun c_9 =>
   cl (wh (fun s => fX4_hears_l111 v1 v2 v3 v4  s) c_9) (fun e_14 =>
  gd (inR (v4 + 1)) <| bd (v4 + 1) fun v4_15 =>
   some (.inl (v4_15, e_14)))))
  else
  (cl (fX4_says v4 c) fun p_19 =>
   cl (wh (fun s => fX4_hears_l111 v1 v2 v3 v4  s) p_19) (fun e_20 =>
  gd (inR (v4 + 1)) <| bd (v4 + 1) fun v4_21 =>
   some (.inl (v4_21, e_20)))))
  else
  (some (.inr c)))
  else
  (some (.inr c))
theorem sX4_hears_l28 {G : GG} {Γ : Cx} {r : Vv × Wd} {sz sl : Nat} {td : TT} (v1 : Int) (v2 : Int) (v3 : Int) (v4 : Int) (c : CC) : Sm (fX4_hears_l28 v1 v2 v3 v4 c) (fun x => Sum.elim (gX4_hears_l28 G Γ r sz sl td v1 v2 v3) (eX4_hears_l28 G Γ r sz sl td v1 v2 v3) x) (gX4_hears_l28 G Γ r sz sl td v1 v2 v3 (v4, c)) := by
  show Sm _ _ (WP G Γ muX4_hears r 28 [some (2, 111), some (0, v1), some (0, v2), some (0, v3), some (0, v4)] [] (sz, sl, tt td, cv c))
  unfold fX4_hears_l28
  refine s_iload (pc := 28) dX4_hears_28 rfl ?_
  refine s_aload_n (pc := 30) dX4_hears_30 rfl ?_
  refine s_get (pc := 31) (a := 111) (v := 112) flX4_7 (t_111 _) rfl (g_111_0 _) rfl dX4_hears_31 ?_
  refine s_iconst (pc := 34) dX4_hears_34 ?_
  refine s_ialdML (pc := 35) (a := 112) 2 rfl (Nat.le_of_ble_eq_true rfl) (t_112 _) rfl r_112 dX4_hears_35 ?_
  refine s_icmp_ge (pc := 36) (tgt := 180) dX4_hears_36 rfl ?_ ?_
  · refine s_wk [true, false, false, true, false] (ls' := [some (2, 111), none, none, some (0, v3), none]) rfl ?_
    exact Sm.some (fun h => h)
  refine s_aload_n (pc := 39) dX4_hears_39 rfl ?_
  refine s_get (pc := 40) (a := 111) (v := c 111 74) flX4_540 (t_111 _) rfl (g_111_74 _) rfl dX4_hears_40 ?_
  refine s_if_ne (pc := 43) (tgt := 180) dX4_hears_43 rfl ?_ ?_
  · refine s_wk [true, false, false, true, false] (ls' := [some (2, 111), none, none, some (0, v3), none]) rfl ?_
    exact Sm.some (fun h => h)
  refine s_aload_n (pc := 46) dX4_hears_46 rfl ?_
  refine s_aload_n (pc := 47) dX4_hears_47 rfl ?_
  refine s_aload_n (pc := 48) dX4_hears_48 rfl ?_
  refine s_get (pc := 49) (a := 111) (v := 143) flX4_112 (t_111 _) rfl (g_111_49 _) rfl dX4_hears_49 ?_
  refine s_iload (pc := 52) dX4_hears_52 rfl ?_
  refine s_ialdM (pc := 54) (a := 143) (t_143 _) rfl r_143 dX4_hears_54 ?_
  refine s_callV3 (pc := 55) (a := 111) (as := [(0, c 143 (Int.toNat v4))]) (st := [(2, 111)]) (rv := fun b => ((0, b), (sz, sl, tt td, cv c))) (st3 := fun b => [(0, b), (2, 111)]) (w3 := fun b => (sz, sl, tt td, cv c)) mvX4_412 (fun b h => kX4_at24 (c 143 (Int.toNat v4)) c b h) rfl (by decide) (t_111 td) rfl rfl rfl (Nat.le_of_ble_eq_true rfl) (fun _ => Nat.le_of_ble_eq_true rfl) (fun _ => ⟨rfl, rfl⟩) dX4_hears_55 (fun p_6 => ?_)
  refine s_aload_n (pc := 58) dX4_hears_58 rfl ?_
  refine s_get (pc := 59) (a := 111) (v := 144) flX4_115 (t_111 _) rfl (g_111_50 _) rfl dX4_hears_59 ?_
  refine s_iload (pc := 62) dX4_hears_62 rfl ?_
  refine s_ialdM (pc := 64) (a := 144) (t_144 _) rfl r_144 dX4_hears_64 ?_
  refine s_callV3 (pc := 65) (a := 111) (as := [(0, p_6), (0, c 144 (Int.toNat v4))]) (st := []) (rv := fun b => ((0, b), (sz, sl, tt td, cv c))) (st3 := fun b => [(0, b)]) (w3 := fun b => (sz, sl, tt td, cv c)) mvX4_544 (fun b h => kX4_canTake p_6 (c 144 (Int.toNat v4)) c b h) rfl (by decide) (t_111 td) rfl rfl rfl (Nat.le_of_ble_eq_true rfl) (fun _ => Nat.le_of_ble_eq_true rfl) (fun _ => ⟨rfl, rfl⟩) dX4_hears_65 (fun p_7 => ?_)
  refine s_if_eq (pc := 68) (tgt := 80) dX4_hears_68 rfl ?_ ?_
  · refine s_aload_n (pc := 80) dX4_hears_80 rfl ?_
    refine s_dup (pc := 81) (by decide : ¬ (2 : Nat) = 1) dX4_hears_81 ?_
    refine s_get (pc := 82) (a := 111) (v := c 111 71) flX4_534 (t_111 _) rfl (g_111_71 _) rfl dX4_hears_82 ?_
    refine s_iconst (pc := 85) dX4_hears_85 ?_
    refine s_iadd (pc := 86) dX4_hears_86 ?_
    refine s_putM (pc := 87) (a := 111) (fpX4_534 _) (t_111 _) rfl kO_111 n_111_71 rfl (fpX4_534t) dX4_hears_87 (fun c_8 => ?_)
    refine s_aload_n (pc := 90) dX4_hears_90 rfl ?_
    refine s_aload_n (pc := 91) dX4_hears_91 rfl ?_
    refine s_get (pc := 92) (a := 111) (v := c_8 111 73) flX4_537 (t_111 _) rfl (g_111_73 _) rfl dX4_hears_92 ?_
    refine s_iconst (pc := 95) dX4_hears_95 ?_
    refine s_icmp_ne (pc := 96) (tgt := 104) dX4_hears_96 rfl ?_ ?_
    · refine s_aload_n (pc := 104) dX4_hears_104 rfl ?_
      refine s_get (pc := 105) (a := 111) (v := c_8 111 73) flX4_537 (t_111 _) rfl (g_111_73 _) rfl dX4_hears_105 ?_
      refine s_putM (pc := 108) (a := 111) (fpX4_537 _) (t_111 _) rfl kO_111 n_111_73 rfl (fpX4_537t) dX4_hears_108 (fun c_9 => ?_)
      refine s_loop (g := gX4_hears_l111 G Γ r sz sl td v1 v2 v3 v4) (Ex := eX4_hears_l111 G Γ r sz sl td v1 v2 v3 v4) (s0 := c_9) (fun s => sX4_hears_l111 v1 v2 v3 v4  s) ?_
      intro e_14
      show Sm _ _ (WP G Γ muX4_hears r 174 [some (2, 111), some (0, v1), some (0, v2), some (0, v3), some (0, v4)] [] (sz, sl, tt td, cv e_14))
      refine s_iinc (pc := 174) (lf := fun x => [some (2, 111), some (0, v1), some (0, v2), some (0, v3), some (0, x)]) dX4_hears_174 rfl (fun _ => rfl) (Nat.le_of_ble_eq_true rfl) (fun v4_15 => ?_)
      refine s_goto (pc := 177) (tgt := 28) dX4_hears_177 rfl ?_
      exact Sm.some (fun h => h)
    refine s_iload (pc := 99) dX4_hears_99 rfl ?_
    refine s_goto (pc := 101) (tgt := 108) dX4_hears_101 rfl ?_
    refine s_putM (pc := 108) (a := 111) (fpX4_537 _) (t_111 _) rfl kO_111 n_111_73 rfl (fpX4_537t) dX4_hears_108 (fun c_16 => ?_)
    refine s_loop (g := gX4_hears_l111 G Γ r sz sl td v1 v2 v3 v4) (Ex := eX4_hears_l111 G Γ r sz sl td v1 v2 v3 v4) (s0 := c_16) (fun s => sX4_hears_l111 v1 v2 v3 v4  s) ?_
    intro e_17
    show Sm _ _ (WP G Γ muX4_hears r 174 [some (2, 111), some (0, v1), some (0, v2), some (0, v3), some (0, v4)] [] (sz, sl, tt td, cv e_17))
    refine s_iinc (pc := 174) (lf := fun x => [some (2, 111), some (0, v1), some (0, v2), some (0, v3), some (0, x)]) dX4_hears_174 rfl (fun _ => rfl) (Nat.le_of_ble_eq_true rfl) (fun v4_18 => ?_)
    refine s_goto (pc := 177) (tgt := 28) dX4_hears_177 rfl ?_
    exact Sm.some (fun h => h)
  refine s_aload_n (pc := 71) dX4_hears_71 rfl ?_
  refine s_iload (pc := 72) dX4_hears_72 rfl ?_
  refine s_callV3 (pc := 74) (a := 111) (as := [(0, v4)]) (st := []) (rv := fun b => ((3, 0), (sz, sl, tt td, cv b))) (st3 := fun b => []) (w3 := fun b => (sz, sl, tt td, cv b)) mvX4_513 (fun b h => kX4_says v4 c b h) rfl (by decide) (t_111 td) rfl rfl rfl (Nat.le_of_ble_eq_true rfl) (fun _ => Nat.le_of_ble_eq_true rfl) (fun _ => ⟨rfl, rfl⟩) dX4_hears_74 (fun p_19 => ?_)
  refine s_goto (pc := 77) (tgt := 111) dX4_hears_77 rfl ?_
  refine s_loop (g := gX4_hears_l111 G Γ r sz sl td v1 v2 v3 v4) (Ex := eX4_hears_l111 G Γ r sz sl td v1 v2 v3 v4) (s0 := p_19) (fun s => sX4_hears_l111 v1 v2 v3 v4  s) ?_
  intro e_20
  show Sm _ _ (WP G Γ muX4_hears r 174 [some (2, 111), some (0, v1), some (0, v2), some (0, v3), some (0, v4)] [] (sz, sl, tt td, cv e_20))
  refine s_iinc (pc := 174) (lf := fun x => [some (2, 111), some (0, v1), some (0, v2), some (0, v3), some (0, x)]) dX4_hears_174 rfl (fun _ => rfl) (Nat.le_of_ble_eq_true rfl) (fun v4_21 => ?_)
  refine s_goto (pc := 177) (tgt := 28) dX4_hears_177 rfl ?_
  exact Sm.some (fun h => h)
noncomputable def fX4_hears_j180 (v3 : Int) (c : CC) : Option (Int × CC) :=
  if c 111 74 = 0 then
  (if c 111 67 = 1 then
  (if c 155 0 = 0 then
  (if c 156 0 = v3 then
  (gd ((0 : Int) ≤ 1 ∧ (1 : Int) < 2) (some (1, c)))
  else
  (gd ((0 : Int) ≤ 0 ∧ (0 : Int) < 2) (some (0, c))))
  else
  (gd ((0 : Int) ≤ 0 ∧ (0 : Int) < 2) (some (0, c))))
  else
  (gd ((0 : Int) ≤ 0 ∧ (0 : Int) < 2) (some (0, c))))
  else
  (gd ((0 : Int) ≤ 0 ∧ (0 : Int) < 2) (some (0, c)))
theorem sX4_hears_j180 {G : GG} {Γ : Cx} {r : Vv × Wd} {sz sl : Nat} {td : TT} (v3 : Int) (c : CC) : Sm (fX4_hears_j180 v3 c) (fun x => r = ((0, x.1), (sz, sl, tt td, cv x.2))) (WP G Γ muX4_hears r 180 [some (2, 111), none, none, some (0, v3), none] [] (sz, sl, tt td, cv c)) := by
  unfold fX4_hears_j180
  refine s_aload_n (pc := 180) dX4_hears_180 rfl ?_
  refine s_get (pc := 181) (a := 111) (v := c 111 74) flX4_540 (t_111 _) rfl (g_111_74 _) rfl dX4_hears_181 ?_
  refine s_if_ne (pc := 184) (tgt := 218) dX4_hears_184 rfl ?_ ?_
  · refine s_iconst (pc := 218) dX4_hears_218 ?_
    exact s_zret (pc := 219) dX4_hears_219 rfl (fun h => h)
  refine s_aload_n (pc := 187) dX4_hears_187 rfl ?_
  refine s_get (pc := 188) (a := 111) (v := c 111 67) flX4_492 (t_111 _) rfl (g_111_67 _) rfl dX4_hears_188 ?_
  refine s_iconst (pc := 191) dX4_hears_191 ?_
  refine s_icmp_ne (pc := 192) (tgt := 218) dX4_hears_192 rfl ?_ ?_
  · refine s_iconst (pc := 218) dX4_hears_218 ?_
    exact s_zret (pc := 219) dX4_hears_219 rfl (fun h => h)
  refine s_aload_n (pc := 195) dX4_hears_195 rfl ?_
  refine s_get (pc := 196) (a := 111) (v := 155) flX4_148 (t_111 _) rfl (g_111_63 _) rfl dX4_hears_196 ?_
  refine s_iconst (pc := 199) dX4_hears_199 ?_
  refine s_ialdML (pc := 200) (a := 155) 0 rfl (Nat.le_of_ble_eq_true rfl) (t_155 _) rfl r_155 dX4_hears_200 ?_
  refine s_if_ne (pc := 201) (tgt := 218) dX4_hears_201 rfl ?_ ?_
  · refine s_iconst (pc := 218) dX4_hears_218 ?_
    exact s_zret (pc := 219) dX4_hears_219 rfl (fun h => h)
  refine s_aload_n (pc := 204) dX4_hears_204 rfl ?_
  refine s_get (pc := 205) (a := 111) (v := 156) flX4_151 (t_111 _) rfl (g_111_64 _) rfl dX4_hears_205 ?_
  refine s_iconst (pc := 208) dX4_hears_208 ?_
  refine s_ialdML (pc := 209) (a := 156) 0 rfl (Nat.le_of_ble_eq_true rfl) (t_156 _) rfl r_156 dX4_hears_209 ?_
  refine s_iload_n (pc := 210) dX4_hears_210 rfl ?_
  refine s_icmp_ne (pc := 211) (tgt := 218) dX4_hears_211 rfl ?_ ?_
  · refine s_iconst (pc := 218) dX4_hears_218 ?_
    exact s_zret (pc := 219) dX4_hears_219 rfl (fun h => h)
  refine s_iconst (pc := 214) dX4_hears_214 ?_
  refine s_goto (pc := 215) (tgt := 219) dX4_hears_215 rfl ?_
  exact s_zret (pc := 219) dX4_hears_219 rfl (fun h => h)
noncomputable def fX4_hears (a1 : Int) (a2 : Int) (a3 : Int) (c : CC) : Option (Int × CC) :=
  bd (up2 c 111 67 0) fun c_1 =>
   bd (up2 c_1 111 71 0) fun c_2 =>
   bd (up2 c_2 111 72 0) fun c_3 =>
   bd (up2 c_3 111 73 (-1)) fun c_4 =>
   gd ((0 : Int) ≤ 0 ∧ (0 : Int) < 2) <| bd (up2 c_4 111 74 0) fun c_5 =>
   cl (wh (fun s => fX4_hears_l28 a1 a2 a3 s.1 s.2) (0, c_5)) (fun e_22 =>
  fX4_hears_j180 a3 e_22)
theorem sX4_hears {G : GG} {Γ : Cx} {r : Vv × Wd} {sz sl : Nat} {td : TT} (a1 : Int) (a2 : Int) (a3 : Int) (c : CC) : Sm (fX4_hears a1 a2 a3 c) (fun x => r = ((0, x.1), (sz, sl, tt td, cv x.2))) (WP G Γ muX4_hears r 0 [some (2, 111), some (0, a1), some (0, a2), some (0, a3), none] [] (sz, sl, tt td, cv c)) := by
  unfold fX4_hears
  refine s_aload_n (pc := 0) dX4_hears_0 rfl ?_
  refine s_iconst (pc := 1) dX4_hears_1 ?_
  refine s_putM (pc := 2) (a := 111) (fpX4_492 _) (t_111 _) rfl kO_111 n_111_67 rfl (fpX4_492t) dX4_hears_2 (fun c_1 => ?_)
  refine s_aload_n (pc := 5) dX4_hears_5 rfl ?_
  refine s_iconst (pc := 6) dX4_hears_6 ?_
  refine s_putM (pc := 7) (a := 111) (fpX4_534 _) (t_111 _) rfl kO_111 n_111_71 rfl (fpX4_534t) dX4_hears_7 (fun c_2 => ?_)
  refine s_aload_n (pc := 10) dX4_hears_10 rfl ?_
  refine s_iconst (pc := 11) dX4_hears_11 ?_
  refine s_putM (pc := 12) (a := 111) (fpX4_531 _) (t_111 _) rfl kO_111 n_111_72 rfl (fpX4_531t) dX4_hears_12 (fun c_3 => ?_)
  refine s_aload_n (pc := 15) dX4_hears_15 rfl ?_
  refine s_iconst (pc := 16) dX4_hears_16 ?_
  refine s_putM (pc := 17) (a := 111) (fpX4_537 _) (t_111 _) rfl kO_111 n_111_73 rfl (fpX4_537t) dX4_hears_17 (fun c_4 => ?_)
  refine s_aload_n (pc := 20) dX4_hears_20 rfl ?_
  refine s_iconst (pc := 21) dX4_hears_21 ?_
  refine s_putZM (pc := 22) (a := 111) (fpX4_540 _) (t_111 _) rfl kO_111 n_111_74 rfl dX4_hears_22 (fun c_5 => ?_)
  refine s_iconst (pc := 25) dX4_hears_25 ?_
  refine s_istoreD (pc := 26) (ls' := [some (2, 111), some (0, a1), some (0, a2), some (0, a3), some (0, 0)]) dX4_hears_26 rfl (Nat.le_of_ble_eq_true rfl) ?_
  refine s_loop (g := gX4_hears_l28 G Γ r sz sl td a1 a2 a3) (Ex := eX4_hears_l28 G Γ r sz sl td a1 a2 a3) (s0 := (0, c_5)) (fun s => sX4_hears_l28 a1 a2 a3 s.1 s.2) ?_
  intro e_22
  show Sm _ _ (WP G Γ muX4_hears r 180 [some (2, 111), none, none, some (0, a3), none] [] (sz, sl, tt td, cv e_22))
  exact sX4_hears_j180 a3 e_22
theorem kX4_hears {G : GG} {sz sl : Nat} {td : TT} (a1 : Int) (a2 : Int) (a3 : Int) (c : CC) (x : (Int × CC)) (h : fX4_hears a1 a2 a3 c = some x) : Ct G yX4_hears muX4_hears [(2, 111), (0, a1), (0, a2), (0, a3)] (sz, sl, tt td, cv c) ((0, x.1), (sz, sl, tt td, cv x.2)) :=
  Ct.of (n := 1) (ls0 := [some (2, 111), some (0, a1), some (0, a2), some (0, a3), none]) (by decide) rfl rfl ⟨by decide, by decide⟩ (Nat.le_of_ble_eq_true rfl) rfl ⟨Nat.le_refl _, Nat.le_refl _⟩ (show (0 : Nat) ≠ 9 by decide) (fun Γ => sX4_hears a1 a2 a3 c x h rfl)
