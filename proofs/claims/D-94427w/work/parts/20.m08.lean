/-! LAYER 2: methods of HeldTongueModel, by gen/decomp.py -/
set_option maxRecDepth 100000
theorem mvX4_553 : MV RX4 553 RX4 yX4_hears muX4_hears 3 := ⟨lw_V q1841 q1843 qs106 q129 q1844, by decide +kernel, by decide⟩
abbrev muX4_hear : MI := (cX4_hear, RX4, 6, some .int, 7, "hear")
noncomputable def fX4_hear (a1 : Int) (a2 : Int) (a3 : Int) (a4 : Int) (c : CC) : Option (Int × CC) :=
  cl (fX4_in a2 1 24) fun p_1 =>
   if p_1 = 0 then
  (some (-1, c))
  else
  (cl (fX4_in a3 0 3) fun p_2 =>
   if p_2 = 0 then
  (some (-1, c))
  else
  (cl (fX4_in a4 0 4) fun p_3 =>
   if p_3 = 0 then
  (some (-1, c))
  else
  (cl (fX4_reads a1 c) fun p_4 =>
   if p_4.1 = 0 then
  (some (-1, p_4.2))
  else
  (cl (fX4_forgets  p_4.2) fun p_5 =>
   cl (fX4_means  p_5) fun p_6 =>
   cl (fX4_hears a2 a3 p_6.1 p_6.2) fun p_7 =>
   if a4 = 0 then
  (if p_7.1 = 0 then
  (some (0, p_7.2))
  else
  (some (1, p_7.2)))
  else if a4 = 1 then
  (some (p_7.2 111 71, p_7.2))
  else if a4 = 2 then
  (some (p_7.2 111 72, p_7.2))
  else if a4 = 3 then
  (some (p_7.2 111 67, p_7.2))
  else (some (p_7.2 111 73, p_7.2))))))
theorem sX4_hear {G : GG} {Γ : Cx} {r : Vv × Wd} {sz sl : Nat} {td : TT} (a1 : Int) (a2 : Int) (a3 : Int) (a4 : Int) (c : CC) : Sm (fX4_hear a1 a2 a3 a4 c) (fun x => r = ((0, x.1), (sz, sl, tt td, cv x.2))) (WP G Γ muX4_hear r 0 [some (2, 111), some (0, a1), some (0, a2), some (0, a3), some (0, a4), none] [] (sz, sl, tt td, cv c)) := by
  unfold fX4_hear
  refine s_iload_n (pc := 0) dX4_hear_0 rfl ?_
  refine s_iconst (pc := 1) dX4_hear_1 ?_
  refine s_bipush (pc := 2) dX4_hear_2 ?_
  refine s_callS3 (pc := 4) (as := [(0, a2), (0, 1), (0, 24)]) (st := []) (rv := fun b => ((0, b), (sz, sl, tt td, cv c))) (st3 := fun b => [(0, b)]) (w3 := fun b => (sz, sl, tt td, cv c)) msX4_199 (fun b h => kX4_in a2 1 24 c b h) rfl (by decide) rfl (Nat.le_of_ble_eq_true rfl) (fun _ => Nat.le_of_ble_eq_true rfl) (fun _ => ⟨rfl, rfl⟩) dX4_hear_4 (fun p_1 => ?_)
  refine s_if_eq (pc := 7) (tgt := 37) dX4_hear_7 rfl ?_ ?_
  · refine s_iconst (pc := 37) dX4_hear_37 ?_
    exact s_iret (pc := 38) dX4_hear_38 rfl (fun h => h)
  refine s_iload_n (pc := 10) dX4_hear_10 rfl ?_
  refine s_iconst (pc := 11) dX4_hear_11 ?_
  refine s_iconst (pc := 12) dX4_hear_12 ?_
  refine s_callS3 (pc := 13) (as := [(0, a3), (0, 0), (0, 3)]) (st := []) (rv := fun b => ((0, b), (sz, sl, tt td, cv c))) (st3 := fun b => [(0, b)]) (w3 := fun b => (sz, sl, tt td, cv c)) msX4_199 (fun b h => kX4_in a3 0 3 c b h) rfl (by decide) rfl (Nat.le_of_ble_eq_true rfl) (fun _ => Nat.le_of_ble_eq_true rfl) (fun _ => ⟨rfl, rfl⟩) dX4_hear_13 (fun p_2 => ?_)
  refine s_if_eq (pc := 16) (tgt := 37) dX4_hear_16 rfl ?_ ?_
  · refine s_iconst (pc := 37) dX4_hear_37 ?_
    exact s_iret (pc := 38) dX4_hear_38 rfl (fun h => h)
  refine s_iload (pc := 19) dX4_hear_19 rfl ?_
  refine s_iconst (pc := 21) dX4_hear_21 ?_
  refine s_iconst (pc := 22) dX4_hear_22 ?_
  refine s_callS3 (pc := 23) (as := [(0, a4), (0, 0), (0, 4)]) (st := []) (rv := fun b => ((0, b), (sz, sl, tt td, cv c))) (st3 := fun b => [(0, b)]) (w3 := fun b => (sz, sl, tt td, cv c)) msX4_199 (fun b h => kX4_in a4 0 4 c b h) rfl (by decide) rfl (Nat.le_of_ble_eq_true rfl) (fun _ => Nat.le_of_ble_eq_true rfl) (fun _ => ⟨rfl, rfl⟩) dX4_hear_23 (fun p_3 => ?_)
  refine s_if_eq (pc := 26) (tgt := 37) dX4_hear_26 rfl ?_ ?_
  · refine s_iconst (pc := 37) dX4_hear_37 ?_
    exact s_iret (pc := 38) dX4_hear_38 rfl (fun h => h)
  refine s_aload_n (pc := 29) dX4_hear_29 rfl ?_
  refine s_iload_n (pc := 30) dX4_hear_30 rfl ?_
  refine s_callV3 (pc := 31) (a := 111) (as := [(0, a1)]) (st := []) (rv := fun b => ((0, b.1), (sz, sl, tt td, cv b.2))) (st3 := fun b => [(0, b.1)]) (w3 := fun b => (sz, sl, tt td, cv b.2)) mvX4_471 (fun b h => kX4_reads a1 c b h) rfl (by decide) (t_111 td) rfl rfl rfl (Nat.le_of_ble_eq_true rfl) (fun _ => Nat.le_of_ble_eq_true rfl) (fun _ => ⟨rfl, rfl⟩) dX4_hear_31 (fun p_4 => ?_)
  refine s_if_ne (pc := 34) (tgt := 39) dX4_hear_34 rfl ?_ ?_
  · refine s_aload_n (pc := 39) dX4_hear_39 rfl ?_
    refine s_callV3 (pc := 40) (a := 111) (as := []) (st := []) (rv := fun b => ((3, 0), (sz, sl, tt td, cv b))) (st3 := fun b => []) (w3 := fun b => (sz, sl, tt td, cv b)) mvX4_519 (fun b h => kX4_forgets  p_4.2 b h) rfl (by decide) (t_111 td) rfl rfl rfl (Nat.le_of_ble_eq_true rfl) (fun _ => Nat.le_of_ble_eq_true rfl) (fun _ => ⟨rfl, rfl⟩) dX4_hear_40 (fun p_5 => ?_)
    refine s_aload_n (pc := 43) dX4_hear_43 rfl ?_
    refine s_iload_n (pc := 44) dX4_hear_44 rfl ?_
    refine s_iload_n (pc := 45) dX4_hear_45 rfl ?_
    refine s_aload_n (pc := 46) dX4_hear_46 rfl ?_
    refine s_callV3 (pc := 47) (a := 111) (as := []) (st := [(0, a3), (0, a2), (2, 111)]) (rv := fun b => ((0, b.1), (sz, sl, tt td, cv b.2))) (st3 := fun b => [(0, b.1), (0, a3), (0, a2), (2, 111)]) (w3 := fun b => (sz, sl, tt td, cv b.2)) mvX4_522 (fun b h => kX4_means  p_5 b h) rfl (by decide) (t_111 td) rfl rfl rfl (Nat.le_of_ble_eq_true rfl) (fun _ => Nat.le_of_ble_eq_true rfl) (fun _ => ⟨rfl, rfl⟩) dX4_hear_47 (fun p_6 => ?_)
    refine s_callV3 (pc := 50) (a := 111) (as := [(0, a2), (0, a3), (0, p_6.1)]) (st := []) (rv := fun b => ((0, b.1), (sz, sl, tt td, cv b.2))) (st3 := fun b => [(0, b.1)]) (w3 := fun b => (sz, sl, tt td, cv b.2)) mvX4_553 (fun b h => kX4_hears a2 a3 p_6.1 p_6.2 b h) rfl (by decide) (t_111 td) rfl rfl rfl (Nat.le_of_ble_eq_true rfl) (fun _ => Nat.le_of_ble_eq_true rfl) (fun _ => ⟨rfl, rfl⟩) dX4_hear_50 (fun p_7 => ?_)
    refine s_istoreD (pc := 53) (ls' := [some (2, 111), some (0, a1), some (0, a2), some (0, a3), some (0, a4), some (0, p_7.1)]) dX4_hear_53 rfl (Nat.le_of_ble_eq_true rfl) ?_
    refine s_iload (pc := 55) dX4_hear_55 rfl ?_
    refine Sm.ite (fun hq_8 => ?_) (fun hq_8 => ?_)
    · refine s_tblIn (pc := 57) (tgt := 88) dX4_hear_57 0 hq_8 (by decide) rfl rfl ?_
      refine s_iload (pc := 88) dX4_hear_88 rfl ?_
      refine s_if_eq (pc := 90) (tgt := 97) dX4_hear_90 rfl ?_ ?_
      · refine s_iconst (pc := 97) dX4_hear_97 ?_
        exact s_iret (pc := 98) dX4_hear_98 rfl (fun h => h)
      refine s_iconst (pc := 93) dX4_hear_93 ?_
      refine s_goto (pc := 94) (tgt := 98) dX4_hear_94 rfl ?_
      exact s_iret (pc := 98) dX4_hear_98 rfl (fun h => h)
    refine Sm.ite (fun hq_9 => ?_) (fun hq_9 => ?_)
    · refine s_tblIn (pc := 57) (tgt := 99) dX4_hear_57 1 hq_9 (by decide) rfl rfl ?_
      refine s_aload_n (pc := 99) dX4_hear_99 rfl ?_
      refine s_get (pc := 100) (a := 111) (v := p_7.2 111 71) flX4_534 (t_111 _) rfl (g_111_71 _) rfl dX4_hear_100 ?_
      exact s_iret (pc := 103) dX4_hear_103 rfl (fun h => h)
    refine Sm.ite (fun hq_10 => ?_) (fun hq_10 => ?_)
    · refine s_tblIn (pc := 57) (tgt := 104) dX4_hear_57 2 hq_10 (by decide) rfl rfl ?_
      refine s_aload_n (pc := 104) dX4_hear_104 rfl ?_
      refine s_get (pc := 105) (a := 111) (v := p_7.2 111 72) flX4_531 (t_111 _) rfl (g_111_72 _) rfl dX4_hear_105 ?_
      exact s_iret (pc := 108) dX4_hear_108 rfl (fun h => h)
    refine Sm.ite (fun hq_11 => ?_) (fun hq_11 => ?_)
    · refine s_tblIn (pc := 57) (tgt := 109) dX4_hear_57 3 hq_11 (by decide) rfl rfl ?_
      refine s_aload_n (pc := 109) dX4_hear_109 rfl ?_
      refine s_get (pc := 110) (a := 111) (v := p_7.2 111 67) flX4_492 (t_111 _) rfl (g_111_67 _) rfl dX4_hear_110 ?_
      exact s_iret (pc := 113) dX4_hear_113 rfl (fun h => h)
    refine s_tblOut (pc := 57) (tgt := 114) dX4_hear_57 (by omega) rfl ?_
    refine s_aload_n (pc := 114) dX4_hear_114 rfl ?_
    refine s_get (pc := 115) (a := 111) (v := p_7.2 111 73) flX4_537 (t_111 _) rfl (g_111_73 _) rfl dX4_hear_115 ?_
    exact s_iret (pc := 118) dX4_hear_118 rfl (fun h => h)
  refine s_iconst (pc := 37) dX4_hear_37 ?_
  exact s_iret (pc := 38) dX4_hear_38 rfl (fun h => h)
theorem kX4_hear {G : GG} {sz sl : Nat} {td : TT} (a1 : Int) (a2 : Int) (a3 : Int) (a4 : Int) (c : CC) (x : (Int × CC)) (h : fX4_hear a1 a2 a3 a4 c = some x) : Ct G yX4_hear muX4_hear [(2, 111), (0, a1), (0, a2), (0, a3), (0, a4)] (sz, sl, tt td, cv c) ((0, x.1), (sz, sl, tt td, cv x.2)) :=
  Ct.of (n := 1) (ls0 := [some (2, 111), some (0, a1), some (0, a2), some (0, a3), some (0, a4), none]) (by decide) rfl rfl ⟨by decide, by decide⟩ (Nat.le_of_ble_eq_true rfl) rfl ⟨Nat.le_refl _, Nat.le_refl _⟩ (show (0 : Nat) ≠ 9 by decide) (fun Γ => sX4_hear a1 a2 a3 a4 c x h rfl)
abbrev muX4_enough : MI := (cX4_enough, RX4, 5, some .int, 7, "enough")
abbrev gX4_enough_l31 (G : GG) (Γ : Cx) (r : Vv × Wd) (sz sl : Nat) (td : TT) (v2 : Int) (v3 : Int) : (Int × CC) → Prop := fun s => WP G Γ muX4_enough r 31 [some (2, 111), none, some (0, v2), some (0, v3), some (0, s.1)] [] (sz, sl, tt td, cv s.2)
abbrev eX4_enough_l31 (G : GG) (Γ : Cx) (r : Vv × Wd) (sz sl : Nat) (td : TT) (v2 : Int) (v3 : Int) : ((Int × CC) ⊕ (CC)) → Prop := (Sum.elim (fun s => WP G Γ muX4_enough r 49 [none, none, none, none, some (0, s.1)] [] (sz, sl, tt td, cv s.2)) (fun s => WP G Γ muX4_enough r 58 [none, none, none, none, none] [] (sz, sl, tt td, cv s)))
noncomputable def fX4_enough_l31 (v2 : Int) (v3 : Int) (v4 : Int) (c : CC) : Option ((Int × CC) ⊕ ((Int × CC) ⊕ (CC))) :=
  if (24 : Int) < v4 then
  (some (.inr (.inr c)))
  else
  (cl (fX4_hears v4 v2 v3 c) fun p_5 =>
   if p_5.1 = 0 then
  (gd (inR (v4 + 1)) <| bd (v4 + 1) fun v4_6 =>
   some (.inl (v4_6, p_5.2)))
  else
  (some (.inr (.inl (v4, p_5.2)))))
theorem sX4_enough_l31 {G : GG} {Γ : Cx} {r : Vv × Wd} {sz sl : Nat} {td : TT} (v2 : Int) (v3 : Int) (v4 : Int) (c : CC) : Sm (fX4_enough_l31 v2 v3 v4 c) (fun x => Sum.elim (gX4_enough_l31 G Γ r sz sl td v2 v3) (eX4_enough_l31 G Γ r sz sl td v2 v3) x) (gX4_enough_l31 G Γ r sz sl td v2 v3 (v4, c)) := by
  show Sm _ _ (WP G Γ muX4_enough r 31 [some (2, 111), none, some (0, v2), some (0, v3), some (0, v4)] [] (sz, sl, tt td, cv c))
  unfold fX4_enough_l31
  refine s_iload (pc := 31) dX4_enough_31 rfl ?_
  refine s_bipush (pc := 33) dX4_enough_33 ?_
  refine s_icmp_gt (pc := 35) (tgt := 58) dX4_enough_35 rfl ?_ ?_
  · refine s_wk [false, true, false, false, false] (ls' := [none, none, none, none, none]) rfl ?_
    exact Sm.some (fun h => h)
  refine s_aload_n (pc := 38) dX4_enough_38 rfl ?_
  refine s_iload (pc := 39) dX4_enough_39 rfl ?_
  refine s_iload_n (pc := 41) dX4_enough_41 rfl ?_
  refine s_iload_n (pc := 42) dX4_enough_42 rfl ?_
  refine s_callV3 (pc := 43) (a := 111) (as := [(0, v4), (0, v2), (0, v3)]) (st := []) (rv := fun b => ((0, b.1), (sz, sl, tt td, cv b.2))) (st3 := fun b => [(0, b.1)]) (w3 := fun b => (sz, sl, tt td, cv b.2)) mvX4_553 (fun b h => kX4_hears v4 v2 v3 c b h) rfl (by decide) (t_111 td) rfl rfl rfl (Nat.le_of_ble_eq_true rfl) (fun _ => Nat.le_of_ble_eq_true rfl) (fun _ => ⟨rfl, rfl⟩) dX4_enough_43 (fun p_5 => ?_)
  refine s_if_eq (pc := 46) (tgt := 52) dX4_enough_46 rfl ?_ ?_
  · refine s_iinc (pc := 52) (lf := fun x => [some (2, 111), none, some (0, v2), some (0, v3), some (0, x)]) dX4_enough_52 rfl (fun _ => rfl) (Nat.le_of_ble_eq_true rfl) (fun v4_6 => ?_)
    refine s_goto (pc := 55) (tgt := 31) dX4_enough_55 rfl ?_
    exact Sm.some (fun h => h)
  refine s_wk [false, true, false, false, true] (ls' := [none, none, none, none, some (0, v4)]) rfl ?_
  exact Sm.some (fun h => h)
noncomputable def fX4_enough (a1 : Int) (a2 : Int) (c : CC) : Option (Int × CC) :=
  cl (fX4_in a2 0 3) fun p_1 =>
   if p_1 = 0 then
  (some (-1, c))
  else
  (cl (fX4_reads a1 c) fun p_2 =>
   if p_2.1 = 0 then
  (some (-1, p_2.2))
  else
  (cl (fX4_forgets  p_2.2) fun p_3 =>
   cl (fX4_means  p_3) fun p_4 =>
   cl (wh (fun s => fX4_enough_l31 a2 p_4.1 s.1 s.2) (1, p_4.2)) (Sum.elim (fun e_7 =>
  some (e_7.1, e_7.2)) (fun e_8 =>
  some (-1, e_8)))))
theorem sX4_enough {G : GG} {Γ : Cx} {r : Vv × Wd} {sz sl : Nat} {td : TT} (a1 : Int) (a2 : Int) (c : CC) : Sm (fX4_enough a1 a2 c) (fun x => r = ((0, x.1), (sz, sl, tt td, cv x.2))) (WP G Γ muX4_enough r 0 [some (2, 111), some (0, a1), some (0, a2), none, none] [] (sz, sl, tt td, cv c)) := by
  unfold fX4_enough
  refine s_iload_n (pc := 0) dX4_enough_0 rfl ?_
  refine s_iconst (pc := 1) dX4_enough_1 ?_
  refine s_iconst (pc := 2) dX4_enough_2 ?_
  refine s_callS3 (pc := 3) (as := [(0, a2), (0, 0), (0, 3)]) (st := []) (rv := fun b => ((0, b), (sz, sl, tt td, cv c))) (st3 := fun b => [(0, b)]) (w3 := fun b => (sz, sl, tt td, cv c)) msX4_199 (fun b h => kX4_in a2 0 3 c b h) rfl (by decide) rfl (Nat.le_of_ble_eq_true rfl) (fun _ => Nat.le_of_ble_eq_true rfl) (fun _ => ⟨rfl, rfl⟩) dX4_enough_3 (fun p_1 => ?_)
  refine s_if_eq (pc := 6) (tgt := 17) dX4_enough_6 rfl ?_ ?_
  · refine s_iconst (pc := 17) dX4_enough_17 ?_
    exact s_iret (pc := 18) dX4_enough_18 rfl (fun h => h)
  refine s_aload_n (pc := 9) dX4_enough_9 rfl ?_
  refine s_iload_n (pc := 10) dX4_enough_10 rfl ?_
  refine s_callV3 (pc := 11) (a := 111) (as := [(0, a1)]) (st := []) (rv := fun b => ((0, b.1), (sz, sl, tt td, cv b.2))) (st3 := fun b => [(0, b.1)]) (w3 := fun b => (sz, sl, tt td, cv b.2)) mvX4_471 (fun b h => kX4_reads a1 c b h) rfl (by decide) (t_111 td) rfl rfl rfl (Nat.le_of_ble_eq_true rfl) (fun _ => Nat.le_of_ble_eq_true rfl) (fun _ => ⟨rfl, rfl⟩) dX4_enough_11 (fun p_2 => ?_)
  refine s_if_ne (pc := 14) (tgt := 19) dX4_enough_14 rfl ?_ ?_
  · refine s_aload_n (pc := 19) dX4_enough_19 rfl ?_
    refine s_callV3 (pc := 20) (a := 111) (as := []) (st := []) (rv := fun b => ((3, 0), (sz, sl, tt td, cv b))) (st3 := fun b => []) (w3 := fun b => (sz, sl, tt td, cv b)) mvX4_519 (fun b h => kX4_forgets  p_2.2 b h) rfl (by decide) (t_111 td) rfl rfl rfl (Nat.le_of_ble_eq_true rfl) (fun _ => Nat.le_of_ble_eq_true rfl) (fun _ => ⟨rfl, rfl⟩) dX4_enough_20 (fun p_3 => ?_)
    refine s_aload_n (pc := 23) dX4_enough_23 rfl ?_
    refine s_callV3 (pc := 24) (a := 111) (as := []) (st := []) (rv := fun b => ((0, b.1), (sz, sl, tt td, cv b.2))) (st3 := fun b => [(0, b.1)]) (w3 := fun b => (sz, sl, tt td, cv b.2)) mvX4_522 (fun b h => kX4_means  p_3 b h) rfl (by decide) (t_111 td) rfl rfl rfl (Nat.le_of_ble_eq_true rfl) (fun _ => Nat.le_of_ble_eq_true rfl) (fun _ => ⟨rfl, rfl⟩) dX4_enough_24 (fun p_4 => ?_)
    refine s_istore_nD (pc := 27) (ls' := [some (2, 111), some (0, a1), some (0, a2), some (0, p_4.1), none]) dX4_enough_27 rfl (Nat.le_of_ble_eq_true rfl) ?_
    refine s_iconst (pc := 28) dX4_enough_28 ?_
    refine s_istoreD (pc := 29) (ls' := [some (2, 111), some (0, a1), some (0, a2), some (0, p_4.1), some (0, 1)]) dX4_enough_29 rfl (Nat.le_of_ble_eq_true rfl) ?_
    refine s_wk [true, false, true, true, true] (ls' := [some (2, 111), none, some (0, a2), some (0, p_4.1), some (0, 1)]) rfl ?_
    refine s_loop (g := gX4_enough_l31 G Γ r sz sl td a2 p_4.1) (Ex := eX4_enough_l31 G Γ r sz sl td a2 p_4.1) (s0 := (1, p_4.2)) (fun s => sX4_enough_l31 a2 p_4.1 s.1 s.2) ?_
    refine s_elim ?_ ?_
    · intro e_7
      show Sm _ _ (WP G Γ muX4_enough r 49 [none, none, none, none, some (0, e_7.1)] [] (sz, sl, tt td, cv e_7.2))
      refine s_iload (pc := 49) dX4_enough_49 rfl ?_
      exact s_iret (pc := 51) dX4_enough_51 rfl (fun h => h)
    intro e_8
    show Sm _ _ (WP G Γ muX4_enough r 58 [none, none, none, none, none] [] (sz, sl, tt td, cv e_8))
    refine s_iconst (pc := 58) dX4_enough_58 ?_
    exact s_iret (pc := 59) dX4_enough_59 rfl (fun h => h)
  refine s_iconst (pc := 17) dX4_enough_17 ?_
  exact s_iret (pc := 18) dX4_enough_18 rfl (fun h => h)
theorem kX4_enough {G : GG} {sz sl : Nat} {td : TT} (a1 : Int) (a2 : Int) (c : CC) (x : (Int × CC)) (h : fX4_enough a1 a2 c = some x) : Ct G yX4_enough muX4_enough [(2, 111), (0, a1), (0, a2)] (sz, sl, tt td, cv c) ((0, x.1), (sz, sl, tt td, cv x.2)) :=
  Ct.of (n := 2) (ls0 := [some (2, 111), some (0, a1), some (0, a2), none, none]) (by decide) rfl rfl ⟨by decide, by decide⟩ (Nat.le_of_ble_eq_true rfl) rfl ⟨Nat.le_refl _, Nat.le_refl _⟩ (show (0 : Nat) ≠ 9 by decide) (fun Γ => sX4_enough a1 a2 c x h rfl)
abbrev muX4_at26 : MI := (cX4_at26, RX4, 3, some .int, 1, "at26")
noncomputable def fX4_at26 (a0 : Int) (a1 : Int) (a2 : Int) : Option Int :=
  gd (inR (8 * a0)) <|
   gd (inR ((8 * a0) + a1)) <|
   gd (inR (((8 * a0) + a1) * 26)) <|
   gd (inR ((((8 * a0) + a1) * 26) + a2)) <|
   some ((((8 * a0) + a1) * 26) + a2)
theorem sX4_at26 {G : GG} {Γ : Cx} {r : Vv × Wd} {sz sl : Nat} {td : TT} (a0 : Int) (a1 : Int) (a2 : Int) (c : CC) : Sm (fX4_at26 a0 a1 a2) (fun x => r = ((0, x), (sz, sl, tt td, cv c))) (WP G Γ muX4_at26 r 0 [some (0, a0), some (0, a1), some (0, a2)] [] (sz, sl, tt td, cv c)) := by
  unfold fX4_at26
  refine s_bipush (pc := 0) dX4_at26_0 ?_
  refine s_iload_n (pc := 2) dX4_at26_2 rfl ?_
  refine s_imul (pc := 3) dX4_at26_3 ?_
  refine s_iload_n (pc := 4) dX4_at26_4 rfl ?_
  refine s_iadd (pc := 5) dX4_at26_5 ?_
  refine s_bipush (pc := 6) dX4_at26_6 ?_
  refine s_imul (pc := 8) dX4_at26_8 ?_
  refine s_iload_n (pc := 9) dX4_at26_9 rfl ?_
  refine s_iadd (pc := 10) dX4_at26_10 ?_
  exact s_iret (pc := 11) dX4_at26_11 rfl (fun h => h)
theorem kX4_at26 {G : GG} {sz sl : Nat} {td : TT} (a0 : Int) (a1 : Int) (a2 : Int) (c : CC) (x : Int) (h : fX4_at26 a0 a1 a2 = some x) : Ct G yX4_at26 muX4_at26 [(0, a0), (0, a1), (0, a2)] (sz, sl, tt td, cv c) ((0, x), (sz, sl, tt td, cv c)) :=
  Ct.of (n := 0) (ls0 := [some (0, a0), some (0, a1), some (0, a2)]) (by decide) rfl rfl ⟨by decide, by decide⟩ (Nat.le_of_ble_eq_true rfl) rfl ⟨Nat.le_refl _, Nat.le_refl _⟩ (show (0 : Nat) ≠ 9 by decide) (fun Γ => sX4_at26 a0 a1 a2 c x h rfl)
theorem flX4_167 : FL RX4 167 3 75 := ⟨_, _, _, cf3, by decide, q1319⟩
theorem msX4_556 : MS RX4 556 yX4_at26 muX4_at26 3 := ⟨lw_S q1877 q1878 q129 q1879, by decide +kernel, by decide⟩
abbrev muX4_costOf : MI := (cX4_costOf, RX4, 4, some .int, 2, "costOf")
noncomputable def fX4_costOf (a1 : Int) (a2 : Int) (a3 : Int) (c : CC) : Option Int :=
  if a3 < 1 then
  (some 10000)
  else
  (cl (fX4_at26 a1 a2 a3) fun p_1 =>
   gd ((0 : Int) ≤ p_1 ∧ p_1 < 4992) <|
   some (c 161 (Int.toNat p_1)))
theorem sX4_costOf {G : GG} {Γ : Cx} {r : Vv × Wd} {sz sl : Nat} {td : TT} (a1 : Int) (a2 : Int) (a3 : Int) (c : CC) : Sm (fX4_costOf a1 a2 a3 c) (fun x => r = ((0, x), (sz, sl, tt td, cv c))) (WP G Γ muX4_costOf r 0 [some (2, 111), some (0, a1), some (0, a2), some (0, a3)] [] (sz, sl, tt td, cv c)) := by
  unfold fX4_costOf
  refine s_iload_n (pc := 0) dX4_costOf_0 rfl ?_
  refine s_iconst (pc := 1) dX4_costOf_1 ?_
  refine s_icmp_ge (pc := 2) (tgt := 11) dX4_costOf_2 rfl ?_ ?_
  · refine s_aload_n (pc := 11) dX4_costOf_11 rfl ?_
    refine s_get (pc := 12) (a := 111) (v := 161) flX4_167 (t_111 _) rfl (g_111_75 _) rfl dX4_costOf_12 ?_
    refine s_iload_n (pc := 15) dX4_costOf_15 rfl ?_
    refine s_iload_n (pc := 16) dX4_costOf_16 rfl ?_
    refine s_iload_n (pc := 17) dX4_costOf_17 rfl ?_
    refine s_callS3 (pc := 18) (as := [(0, a1), (0, a2), (0, a3)]) (st := [(2, 161)]) (rv := fun b => ((0, b), (sz, sl, tt td, cv c))) (st3 := fun b => [(0, b), (2, 161)]) (w3 := fun b => (sz, sl, tt td, cv c)) msX4_556 (fun b h => kX4_at26 a1 a2 a3 c b h) rfl (by decide) rfl (Nat.le_of_ble_eq_true rfl) (fun _ => Nat.le_of_ble_eq_true rfl) (fun _ => ⟨rfl, rfl⟩) dX4_costOf_18 (fun p_1 => ?_)
    refine s_ialdM (pc := 21) (a := 161) (t_161 _) rfl r_161 dX4_costOf_21 ?_
    exact s_iret (pc := 22) dX4_costOf_22 rfl (fun h => h)
  refine s_sipush (pc := 5) dX4_costOf_5 ?_
  refine s_goto (pc := 8) (tgt := 22) dX4_costOf_8 rfl ?_
  exact s_iret (pc := 22) dX4_costOf_22 rfl (fun h => h)
theorem kX4_costOf {G : GG} {sz sl : Nat} {td : TT} (a1 : Int) (a2 : Int) (a3 : Int) (c : CC) (x : Int) (h : fX4_costOf a1 a2 a3 c = some x) : Ct G yX4_costOf muX4_costOf [(2, 111), (0, a1), (0, a2), (0, a3)] (sz, sl, tt td, cv c) ((0, x), (sz, sl, tt td, cv c)) :=
  Ct.of (n := 0) (ls0 := [some (2, 111), some (0, a1), some (0, a2), some (0, a3)]) (by decide) rfl rfl ⟨by decide, by decide⟩ (Nat.le_of_ble_eq_true rfl) rfl ⟨Nat.le_refl _, Nat.le_refl _⟩ (show (0 : Nat) ≠ 9 by decide) (fun Γ => sX4_costOf a1 a2 a3 c x h rfl)
abbrev muX4_saidPart : MI := (cX4_saidPart, RX4, 7, some .int, 1, "saidPart")
noncomputable def fX4_saidPart (a1 : Int) (a2 : Int) (a3 : Int) (a4 : Int) (c : CC) : Option Int :=
  gd ((0 : Int) ≤ a1 ∧ a1 < 7300) <|
   bd (c 151 (Int.toNat a1)) fun v5_1 =>
   gd ((0 : Int) ≤ a1 ∧ a1 < 7300) <|
   bd (c 152 (Int.toNat a1)) fun v6_2 =>
   gd ((0 : Int) ≤ a2 ∧ a2 < 144) <|
   if c 119 (Int.toNat a2) = 2 then
  (gd (inR (v5_1 + 1)) <|
   gd (inR ((v5_1 + 1) - a4)) <|
   gd ((0 : Int) ≤ (v5_1 + 1) - a4 ∧ (v5_1 + 1) - a4 < 14600) <|
   some (c 153 (Int.toNat ((v5_1 + 1) - a4))))
  else if c 119 (Int.toNat a2) = 3 then
  (gd (inR (3 * a4)) <|
   gd (inR (v5_1 + (andI (shrI a3 (3 * a4)) 7))) <|
   gd ((0 : Int) ≤ v5_1 + (andI (shrI a3 (3 * a4)) 7) ∧ v5_1 + (andI (shrI a3 (3 * a4)) 7) < 14600) <|
   some (c 153 (Int.toNat (v5_1 + (andI (shrI a3 (3 * a4)) 7)))))
  else if c 119 (Int.toNat a2) = 4 then
  (gd ((2 : Int) ≠ 0 ∧ inR (Int.tdiv v6_2 2)) <|
   if a4 < Int.tdiv v6_2 2 then
  (gd (inR (2 * a4)) <|
   gd (inR (v5_1 + (2 * a4))) <|
   gd ((0 : Int) ≤ v5_1 + (2 * a4) ∧ v5_1 + (2 * a4) < 14600) <|
   some (c 153 (Int.toNat (v5_1 + (2 * a4)))))
  else
  (gd (inR (v6_2 - 1)) <|
   gd (inR ((v6_2 - 1) - a4)) <|
   gd (inR (2 * ((v6_2 - 1) - a4))) <|
   gd (inR (v5_1 + (2 * ((v6_2 - 1) - a4)))) <|
   gd (inR ((v5_1 + (2 * ((v6_2 - 1) - a4))) + 1)) <|
   gd ((0 : Int) ≤ (v5_1 + (2 * ((v6_2 - 1) - a4))) + 1 ∧ (v5_1 + (2 * ((v6_2 - 1) - a4))) + 1 < 14600) <|
   some (c 153 (Int.toNat ((v5_1 + (2 * ((v6_2 - 1) - a4))) + 1)))))
  else (gd (inR (v5_1 + a4)) <|
   gd ((0 : Int) ≤ v5_1 + a4 ∧ v5_1 + a4 < 14600) <|
   some (c 153 (Int.toNat (v5_1 + a4))))
theorem sX4_saidPart {G : GG} {Γ : Cx} {r : Vv × Wd} {sz sl : Nat} {td : TT} (a1 : Int) (a2 : Int) (a3 : Int) (a4 : Int) (c : CC) : Sm (fX4_saidPart a1 a2 a3 a4 c) (fun x => r = ((0, x), (sz, sl, tt td, cv c))) (WP G Γ muX4_saidPart r 0 [some (2, 111), some (0, a1), some (0, a2), some (0, a3), some (0, a4), none, none] [] (sz, sl, tt td, cv c)) := by
  unfold fX4_saidPart
  refine s_aload_n (pc := 0) dX4_saidPart_0 rfl ?_
  refine s_get (pc := 1) (a := 111) (v := 151) flX4_136 (t_111 _) rfl (g_111_59 _) rfl dX4_saidPart_1 ?_
  refine s_iload_n (pc := 4) dX4_saidPart_4 rfl ?_
  refine s_ialdM (pc := 5) (a := 151) (t_151 _) rfl r_151 dX4_saidPart_5 ?_
  refine s_istore (pc := 6) (lf := fun x => [some (2, 111), some (0, a1), some (0, a2), some (0, a3), some (0, a4), some (0, x), none]) dX4_saidPart_6 (fun _ => rfl) (Nat.le_of_ble_eq_true rfl) (fun v5_1 => ?_)
  refine s_aload_n (pc := 8) dX4_saidPart_8 rfl ?_
  refine s_get (pc := 9) (a := 111) (v := 152) flX4_139 (t_111 _) rfl (g_111_60 _) rfl dX4_saidPart_9 ?_
  refine s_iload_n (pc := 12) dX4_saidPart_12 rfl ?_
  refine s_ialdM (pc := 13) (a := 152) (t_152 _) rfl r_152 dX4_saidPart_13 ?_
  refine s_istore (pc := 14) (lf := fun x => [some (2, 111), some (0, a1), some (0, a2), some (0, a3), some (0, a4), some (0, v5_1), some (0, x)]) dX4_saidPart_14 (fun _ => rfl) (Nat.le_of_ble_eq_true rfl) (fun v6_2 => ?_)
  refine s_aload_n (pc := 16) dX4_saidPart_16 rfl ?_
  refine s_get (pc := 17) (a := 111) (v := 119) flX4_39 (t_111 _) rfl (g_111_10 _) rfl dX4_saidPart_17 ?_
  refine s_iload_n (pc := 20) dX4_saidPart_20 rfl ?_
  refine s_ialdM (pc := 21) (a := 119) (t_119 _) rfl r_119 dX4_saidPart_21 ?_
  refine Sm.ite (fun hq_3 => ?_) (fun hq_3 => ?_)
  · refine s_tblIn (pc := 22) (tgt := 48) dX4_saidPart_22 2 hq_3 (by decide) rfl rfl ?_
    refine s_aload_n (pc := 48) dX4_saidPart_48 rfl ?_
    refine s_get (pc := 49) (a := 111) (v := 153) flX4_142 (t_111 _) rfl (g_111_61 _) rfl dX4_saidPart_49 ?_
    refine s_iload (pc := 52) dX4_saidPart_52 rfl ?_
    refine s_iconst (pc := 54) dX4_saidPart_54 ?_
    refine s_iadd (pc := 55) dX4_saidPart_55 ?_
    refine s_iload (pc := 56) dX4_saidPart_56 rfl ?_
    refine s_isub (pc := 58) dX4_saidPart_58 ?_
    refine s_ialdM (pc := 59) (a := 153) (t_153 _) rfl r_153 dX4_saidPart_59 ?_
    exact s_iret (pc := 60) dX4_saidPart_60 rfl (fun h => h)
  refine Sm.ite (fun hq_4 => ?_) (fun hq_4 => ?_)
  · refine s_tblIn (pc := 22) (tgt := 61) dX4_saidPart_22 3 hq_4 (by decide) rfl rfl ?_
    refine s_aload_n (pc := 61) dX4_saidPart_61 rfl ?_
    refine s_get (pc := 62) (a := 111) (v := 153) flX4_142 (t_111 _) rfl (g_111_61 _) rfl dX4_saidPart_62 ?_
    refine s_iload (pc := 65) dX4_saidPart_65 rfl ?_
    refine s_iload_n (pc := 67) dX4_saidPart_67 rfl ?_
    refine s_iconst (pc := 68) dX4_saidPart_68 ?_
    refine s_iload (pc := 69) dX4_saidPart_69 rfl ?_
    refine s_imul (pc := 71) dX4_saidPart_71 ?_
    refine s_ishr (pc := 72) dX4_saidPart_72 ?_
    refine s_bipush (pc := 73) dX4_saidPart_73 ?_
    refine s_iand (pc := 75) dX4_saidPart_75 ?_
    refine s_iadd (pc := 76) dX4_saidPart_76 ?_
    refine s_ialdM (pc := 77) (a := 153) (t_153 _) rfl r_153 dX4_saidPart_77 ?_
    exact s_iret (pc := 78) dX4_saidPart_78 rfl (fun h => h)
  refine Sm.ite (fun hq_5 => ?_) (fun hq_5 => ?_)
  · refine s_tblIn (pc := 22) (tgt := 79) dX4_saidPart_22 4 hq_5 (by decide) rfl rfl ?_
    refine s_iload (pc := 79) dX4_saidPart_79 rfl ?_
    refine s_iload (pc := 81) dX4_saidPart_81 rfl ?_
    refine s_iconst (pc := 83) dX4_saidPart_83 ?_
    refine s_idiv (pc := 84) dX4_saidPart_84 ?_
    refine s_icmp_ge (pc := 85) (tgt := 103) dX4_saidPart_85 rfl ?_ ?_
    · refine s_aload_n (pc := 103) dX4_saidPart_103 rfl ?_
      refine s_get (pc := 104) (a := 111) (v := 153) flX4_142 (t_111 _) rfl (g_111_61 _) rfl dX4_saidPart_104 ?_
      refine s_iload (pc := 107) dX4_saidPart_107 rfl ?_
      refine s_iconst (pc := 109) dX4_saidPart_109 ?_
      refine s_iload (pc := 110) dX4_saidPart_110 rfl ?_
      refine s_iconst (pc := 112) dX4_saidPart_112 ?_
      refine s_isub (pc := 113) dX4_saidPart_113 ?_
      refine s_iload (pc := 114) dX4_saidPart_114 rfl ?_
      refine s_isub (pc := 116) dX4_saidPart_116 ?_
      refine s_imul (pc := 117) dX4_saidPart_117 ?_
      refine s_iadd (pc := 118) dX4_saidPart_118 ?_
      refine s_iconst (pc := 119) dX4_saidPart_119 ?_
      refine s_iadd (pc := 120) dX4_saidPart_120 ?_
      refine s_ialdM (pc := 121) (a := 153) (t_153 _) rfl r_153 dX4_saidPart_121 ?_
      exact s_iret (pc := 122) dX4_saidPart_122 rfl (fun h => h)
    refine s_aload_n (pc := 88) dX4_saidPart_88 rfl ?_
    refine s_get (pc := 89) (a := 111) (v := 153) flX4_142 (t_111 _) rfl (g_111_61 _) rfl dX4_saidPart_89 ?_
    refine s_iload (pc := 92) dX4_saidPart_92 rfl ?_
    refine s_iconst (pc := 94) dX4_saidPart_94 ?_
    refine s_iload (pc := 95) dX4_saidPart_95 rfl ?_
    refine s_imul (pc := 97) dX4_saidPart_97 ?_
    refine s_iadd (pc := 98) dX4_saidPart_98 ?_
    refine s_ialdM (pc := 99) (a := 153) (t_153 _) rfl r_153 dX4_saidPart_99 ?_
    refine s_goto (pc := 100) (tgt := 122) dX4_saidPart_100 rfl ?_
    exact s_iret (pc := 122) dX4_saidPart_122 rfl (fun h => h)
  refine s_tblOut (pc := 22) (tgt := 123) dX4_saidPart_22 (by omega) rfl ?_
  refine s_aload_n (pc := 123) dX4_saidPart_123 rfl ?_
  refine s_get (pc := 124) (a := 111) (v := 153) flX4_142 (t_111 _) rfl (g_111_61 _) rfl dX4_saidPart_124 ?_
  refine s_iload (pc := 127) dX4_saidPart_127 rfl ?_
  refine s_iload (pc := 129) dX4_saidPart_129 rfl ?_
  refine s_iadd (pc := 131) dX4_saidPart_131 ?_
  refine s_ialdM (pc := 132) (a := 153) (t_153 _) rfl r_153 dX4_saidPart_132 ?_
  exact s_iret (pc := 133) dX4_saidPart_133 rfl (fun h => h)
theorem kX4_saidPart {G : GG} {sz sl : Nat} {td : TT} (a1 : Int) (a2 : Int) (a3 : Int) (a4 : Int) (c : CC) (x : Int) (h : fX4_saidPart a1 a2 a3 a4 c = some x) : Ct G yX4_saidPart muX4_saidPart [(2, 111), (0, a1), (0, a2), (0, a3), (0, a4)] (sz, sl, tt td, cv c) ((0, x), (sz, sl, tt td, cv c)) :=
  Ct.of (n := 2) (ls0 := [some (2, 111), some (0, a1), some (0, a2), some (0, a3), some (0, a4), none, none]) (by decide) rfl rfl ⟨by decide, by decide⟩ (Nat.le_of_ble_eq_true rfl) rfl ⟨Nat.le_refl _, Nat.le_refl _⟩ (show (0 : Nat) ≠ 9 by decide) (fun Γ => sX4_saidPart a1 a2 a3 a4 c x h rfl)
abbrev muX4_fits : MI := (cX4_fits, RX4, 5, some .boolean, 1, "fits")
noncomputable def fX4_fits_j48 (v1 : Int) (v2 : Int) (w0 : Int) (c : CC) : Option Int :=
  gd ((0 : Int) ≤ v1 ∧ v1 < 7300) <|
   if w0 = c 149 (Int.toNat v1) then
  (gd ((0 : Int) ≤ v2 ∧ v2 < 144) <|
   gd ((0 : Int) ≤ v1 ∧ v1 < 7300) <|
   if c 124 (Int.toNat v2) = c 150 (Int.toNat v1) then
  (gd ((0 : Int) ≤ 1 ∧ (1 : Int) < 2) (some 1))
  else
  (gd ((0 : Int) ≤ 0 ∧ (0 : Int) < 2) (some 0)))
  else
  (gd ((0 : Int) ≤ 0 ∧ (0 : Int) < 2) (some 0))
theorem sX4_fits_j48 {G : GG} {Γ : Cx} {r : Vv × Wd} {sz sl : Nat} {td : TT} (v1 : Int) (v2 : Int) (w0 : Int) (c : CC) : Sm (fX4_fits_j48 v1 v2 w0 c) (fun x => r = ((0, x), (sz, sl, tt td, cv c))) (WP G Γ muX4_fits r 48 [some (2, 111), some (0, v1), some (0, v2), none, none] [(0, w0)] (sz, sl, tt td, cv c)) := by
  unfold fX4_fits_j48
  refine s_istoreD (pc := 48) (ls' := [some (2, 111), some (0, v1), some (0, v2), none, some (0, w0)]) dX4_fits_48 rfl (Nat.le_of_ble_eq_true rfl) ?_
  refine s_iload (pc := 50) dX4_fits_50 rfl ?_
  refine s_aload_n (pc := 52) dX4_fits_52 rfl ?_
  refine s_get (pc := 53) (a := 111) (v := 149) flX4_130 (t_111 _) rfl (g_111_57 _) rfl dX4_fits_53 ?_
  refine s_iload_n (pc := 56) dX4_fits_56 rfl ?_
  refine s_ialdM (pc := 57) (a := 149) (t_149 _) rfl r_149 dX4_fits_57 ?_
  refine s_icmp_ne (pc := 58) (tgt := 80) dX4_fits_58 rfl ?_ ?_
  · refine s_iconst (pc := 80) dX4_fits_80 ?_
    exact s_zret (pc := 81) dX4_fits_81 rfl (fun h => h)
  refine s_aload_n (pc := 61) dX4_fits_61 rfl ?_
  refine s_get (pc := 62) (a := 111) (v := 124) flX4_54 (t_111 _) rfl (g_111_15 _) rfl dX4_fits_62 ?_
  refine s_iload_n (pc := 65) dX4_fits_65 rfl ?_
  refine s_ialdM (pc := 66) (a := 124) (t_124 _) rfl r_124 dX4_fits_66 ?_
  refine s_aload_n (pc := 67) dX4_fits_67 rfl ?_
  refine s_get (pc := 68) (a := 111) (v := 150) flX4_133 (t_111 _) rfl (g_111_58 _) rfl dX4_fits_68 ?_
  refine s_iload_n (pc := 71) dX4_fits_71 rfl ?_
  refine s_ialdM (pc := 72) (a := 150) (t_150 _) rfl r_150 dX4_fits_72 ?_
  refine s_icmp_ne (pc := 73) (tgt := 80) dX4_fits_73 rfl ?_ ?_
  · refine s_iconst (pc := 80) dX4_fits_80 ?_
    exact s_zret (pc := 81) dX4_fits_81 rfl (fun h => h)
  refine s_iconst (pc := 76) dX4_fits_76 ?_
  refine s_goto (pc := 77) (tgt := 81) dX4_fits_77 rfl ?_
  exact s_zret (pc := 81) dX4_fits_81 rfl (fun h => h)
noncomputable def fX4_fits (a1 : Int) (a2 : Int) (c : CC) : Option Int :=
  gd ((0 : Int) ≤ a2 ∧ a2 < 144) <|
   bd (c 119 (Int.toNat a2)) fun v3_1 =>
   if v3_1 = 0 then
  (fX4_fits_j48 a1 a2 0 c)
  else
  (if v3_1 = 1 then
  (fX4_fits_j48 a1 a2 1 c)
  else
  (if v3_1 = 2 then
  (fX4_fits_j48 a1 a2 1 c)
  else
  (if v3_1 = 3 then
  (fX4_fits_j48 a1 a2 2 c)
  else
  (if v3_1 = 4 then
  (fX4_fits_j48 a1 a2 3 c)
  else
  (fX4_fits_j48 a1 a2 (-1) c)))))
theorem sX4_fits {G : GG} {Γ : Cx} {r : Vv × Wd} {sz sl : Nat} {td : TT} (a1 : Int) (a2 : Int) (c : CC) : Sm (fX4_fits a1 a2 c) (fun x => r = ((0, x), (sz, sl, tt td, cv c))) (WP G Γ muX4_fits r 0 [some (2, 111), some (0, a1), some (0, a2), none, none] [] (sz, sl, tt td, cv c)) := by
  unfold fX4_fits
  refine s_aload_n (pc := 0) dX4_fits_0 rfl ?_
  refine s_get (pc := 1) (a := 111) (v := 119) flX4_39 (t_111 _) rfl (g_111_10 _) rfl dX4_fits_1 ?_
  refine s_iload_n (pc := 4) dX4_fits_4 rfl ?_
  refine s_ialdM (pc := 5) (a := 119) (t_119 _) rfl r_119 dX4_fits_5 ?_
  refine s_istore_n (pc := 6) (lf := fun x => [some (2, 111), some (0, a1), some (0, a2), some (0, x), none]) dX4_fits_6 (fun _ => rfl) (Nat.le_of_ble_eq_true rfl) (fun v3_1 => ?_)
  refine s_iload_n (pc := 7) dX4_fits_7 rfl ?_
  refine s_if_ne (pc := 8) (tgt := 15) dX4_fits_8 rfl ?_ ?_
  · refine s_iload_n (pc := 15) dX4_fits_15 rfl ?_
    refine s_iconst (pc := 16) dX4_fits_16 ?_
    refine s_icmp_eq (pc := 17) (tgt := 25) dX4_fits_17 rfl ?_ ?_
    · refine s_iconst (pc := 25) dX4_fits_25 ?_
      refine s_goto (pc := 26) (tgt := 48) dX4_fits_26 rfl ?_
      refine s_wk [true, true, true, false, true] (ls' := [some (2, 111), some (0, a1), some (0, a2), none, none]) rfl ?_
      exact sX4_fits_j48 a1 a2 1 c
    refine s_iload_n (pc := 20) dX4_fits_20 rfl ?_
    refine s_iconst (pc := 21) dX4_fits_21 ?_
    refine s_icmp_ne (pc := 22) (tgt := 29) dX4_fits_22 rfl ?_ ?_
    · refine s_iload_n (pc := 29) dX4_fits_29 rfl ?_
      refine s_iconst (pc := 30) dX4_fits_30 ?_
      refine s_icmp_ne (pc := 31) (tgt := 38) dX4_fits_31 rfl ?_ ?_
      · refine s_iload_n (pc := 38) dX4_fits_38 rfl ?_
        refine s_iconst (pc := 39) dX4_fits_39 ?_
        refine s_icmp_ne (pc := 40) (tgt := 47) dX4_fits_40 rfl ?_ ?_
        · refine s_iconst (pc := 47) dX4_fits_47 ?_
          refine s_wk [true, true, true, false, true] (ls' := [some (2, 111), some (0, a1), some (0, a2), none, none]) rfl ?_
          exact sX4_fits_j48 a1 a2 (-1) c
        refine s_iconst (pc := 43) dX4_fits_43 ?_
        refine s_goto (pc := 44) (tgt := 48) dX4_fits_44 rfl ?_
        refine s_wk [true, true, true, false, true] (ls' := [some (2, 111), some (0, a1), some (0, a2), none, none]) rfl ?_
        exact sX4_fits_j48 a1 a2 3 c
      refine s_iconst (pc := 34) dX4_fits_34 ?_
      refine s_goto (pc := 35) (tgt := 48) dX4_fits_35 rfl ?_
      refine s_wk [true, true, true, false, true] (ls' := [some (2, 111), some (0, a1), some (0, a2), none, none]) rfl ?_
      exact sX4_fits_j48 a1 a2 2 c
    refine s_iconst (pc := 25) dX4_fits_25 ?_
    refine s_goto (pc := 26) (tgt := 48) dX4_fits_26 rfl ?_
    refine s_wk [true, true, true, false, true] (ls' := [some (2, 111), some (0, a1), some (0, a2), none, none]) rfl ?_
    exact sX4_fits_j48 a1 a2 1 c
  refine s_iconst (pc := 11) dX4_fits_11 ?_
  refine s_goto (pc := 12) (tgt := 48) dX4_fits_12 rfl ?_
  refine s_wk [true, true, true, false, true] (ls' := [some (2, 111), some (0, a1), some (0, a2), none, none]) rfl ?_
  exact sX4_fits_j48 a1 a2 0 c
theorem kX4_fits {G : GG} {sz sl : Nat} {td : TT} (a1 : Int) (a2 : Int) (c : CC) (x : Int) (h : fX4_fits a1 a2 c = some x) : Ct G yX4_fits muX4_fits [(2, 111), (0, a1), (0, a2)] (sz, sl, tt td, cv c) ((0, x), (sz, sl, tt td, cv c)) :=
  Ct.of (n := 2) (ls0 := [some (2, 111), some (0, a1), some (0, a2), none, none]) (by decide) rfl rfl ⟨by decide, by decide⟩ (Nat.le_of_ble_eq_true rfl) rfl ⟨Nat.le_refl _, Nat.le_refl _⟩ (show (0 : Nat) ≠ 9 by decide) (fun Γ => sX4_fits a1 a2 c x h rfl)
theorem mvX4_559 : MV RX4 559 RX4 yX4_saidPart muX4_saidPart 4 := ⟨lw_V q1895 q1897 qs116 q129 q1898, by decide +kernel, by decide⟩
theorem mvX4_563 : MV RX4 563 RX4 yX4_costOf muX4_costOf 3 := ⟨lw_V q1899 q1901 qs117 q129 q1902, by decide +kernel, by decide⟩
abbrev muX4_costBy : MI := (cX4_costBy, RX4, 9, some .int, 3, "costBy")
abbrev gX4_costBy_l35 (G : GG) (Γ : Cx) (r : Vv × Wd) (sz sl : Nat) (td : TT) (v1 : Int) (v2 : Int) (v3 : Int) (v4 : Int) (v5 : Int) (v7 : Int) (c : CC) : (Int × Int) → Prop := fun s => WP G Γ muX4_costBy r 35 [some (2, 111), some (0, v1), some (0, v2), some (0, v3), some (0, v4), some (0, v5), some (0, s.1), some (0, v7), some (0, s.2)] [] (sz, sl, tt td, cv c)
abbrev eX4_costBy_l35 (G : GG) (Γ : Cx) (r : Vv × Wd) (sz sl : Nat) (td : TT) (v1 : Int) (v2 : Int) (v3 : Int) (v4 : Int) (v5 : Int) (v7 : Int) (c : CC) : (Int) → Prop := (fun s => WP G Γ muX4_costBy r 80 [none, none, none, none, none, none, some (0, s), none, none] [] (sz, sl, tt td, cv c))
noncomputable def fX4_costBy_l35 (v1 : Int) (v2 : Int) (v3 : Int) (v4 : Int) (v5 : Int) (v7 : Int) (v6 : Int) (v8 : Int) (c : CC) : Option ((Int × Int) ⊕ (Int)) :=
  if v8 < v5 then
  (cl (fX4_saidPart v1 v2 v3 v8 c) fun p_2 =>
   cl (fX4_takenKind v2 v7 v8 c) fun p_3 =>
   gd (inR (v4 - v8)) <|
   cl (fX4_costOf p_2 p_3 (v4 - v8) c) fun p_4 =>
   gd (inR (v6 + p_4)) <|
   bd (v6 + p_4) fun v6_5 =>
   gd (inR (v8 + 1)) <| bd (v8 + 1) fun v8_6 =>
   some (.inl (v6_5, v8_6)))
  else
  (some (.inr v6))
theorem sX4_costBy_l35 {G : GG} {Γ : Cx} {r : Vv × Wd} {sz sl : Nat} {td : TT} (v1 : Int) (v2 : Int) (v3 : Int) (v4 : Int) (v5 : Int) (v7 : Int) (v6 : Int) (v8 : Int) (c : CC) : Sm (fX4_costBy_l35 v1 v2 v3 v4 v5 v7 v6 v8 c) (fun x => Sum.elim (gX4_costBy_l35 G Γ r sz sl td v1 v2 v3 v4 v5 v7 c) (eX4_costBy_l35 G Γ r sz sl td v1 v2 v3 v4 v5 v7 c) x) (gX4_costBy_l35 G Γ r sz sl td v1 v2 v3 v4 v5 v7 c (v6, v8)) := by
  show Sm _ _ (WP G Γ muX4_costBy r 35 [some (2, 111), some (0, v1), some (0, v2), some (0, v3), some (0, v4), some (0, v5), some (0, v6), some (0, v7), some (0, v8)] [] (sz, sl, tt td, cv c))
  unfold fX4_costBy_l35
  refine s_iload (pc := 35) dX4_costBy_35 rfl ?_
  refine s_iload (pc := 37) dX4_costBy_37 rfl ?_
  refine s_icmp_ge (pc := 39) (tgt := 80) dX4_costBy_39 rfl ?_ ?_
  · refine s_wk [false, false, false, false, false, false, true, false, false] (ls' := [none, none, none, none, none, none, some (0, v6), none, none]) rfl ?_
    exact Sm.some (fun h => h)
  refine s_iload (pc := 42) dX4_costBy_42 rfl ?_
  refine s_aload_n (pc := 44) dX4_costBy_44 rfl ?_
  refine s_aload_n (pc := 45) dX4_costBy_45 rfl ?_
  refine s_iload_n (pc := 46) dX4_costBy_46 rfl ?_
  refine s_iload_n (pc := 47) dX4_costBy_47 rfl ?_
  refine s_iload_n (pc := 48) dX4_costBy_48 rfl ?_
  refine s_iload (pc := 49) dX4_costBy_49 rfl ?_
  refine s_callV3 (pc := 51) (a := 111) (as := [(0, v1), (0, v2), (0, v3), (0, v8)]) (st := [(2, 111), (0, v6)]) (rv := fun b => ((0, b), (sz, sl, tt td, cv c))) (st3 := fun b => [(0, b), (2, 111), (0, v6)]) (w3 := fun b => (sz, sl, tt td, cv c)) mvX4_559 (fun b h => kX4_saidPart v1 v2 v3 v8 c b h) rfl (by decide) (t_111 td) rfl rfl rfl (Nat.le_of_ble_eq_true rfl) (fun _ => Nat.le_of_ble_eq_true rfl) (fun _ => ⟨rfl, rfl⟩) dX4_costBy_51 (fun p_2 => ?_)
  refine s_aload_n (pc := 54) dX4_costBy_54 rfl ?_
  refine s_iload_n (pc := 55) dX4_costBy_55 rfl ?_
  refine s_iload (pc := 56) dX4_costBy_56 rfl ?_
  refine s_iload (pc := 58) dX4_costBy_58 rfl ?_
  refine s_callV3 (pc := 60) (a := 111) (as := [(0, v2), (0, v7), (0, v8)]) (st := [(0, p_2), (2, 111), (0, v6)]) (rv := fun b => ((0, b), (sz, sl, tt td, cv c))) (st3 := fun b => [(0, b), (0, p_2), (2, 111), (0, v6)]) (w3 := fun b => (sz, sl, tt td, cv c)) mvX4_464 (fun b h => kX4_takenKind v2 v7 v8 c b h) rfl (by decide) (t_111 td) rfl rfl rfl (Nat.le_of_ble_eq_true rfl) (fun _ => Nat.le_of_ble_eq_true rfl) (fun _ => ⟨rfl, rfl⟩) dX4_costBy_60 (fun p_3 => ?_)
  refine s_iload (pc := 63) dX4_costBy_63 rfl ?_
  refine s_iload (pc := 65) dX4_costBy_65 rfl ?_
  refine s_isub (pc := 67) dX4_costBy_67 ?_
  refine s_callV3 (pc := 68) (a := 111) (as := [(0, p_2), (0, p_3), (0, v4 - v8)]) (st := [(0, v6)]) (rv := fun b => ((0, b), (sz, sl, tt td, cv c))) (st3 := fun b => [(0, b), (0, v6)]) (w3 := fun b => (sz, sl, tt td, cv c)) mvX4_563 (fun b h => kX4_costOf p_2 p_3 (v4 - v8) c b h) rfl (by decide) (t_111 td) rfl rfl rfl (Nat.le_of_ble_eq_true rfl) (fun _ => Nat.le_of_ble_eq_true rfl) (fun _ => ⟨rfl, rfl⟩) dX4_costBy_68 (fun p_4 => ?_)
  refine s_iadd (pc := 71) dX4_costBy_71 ?_
  refine s_istore (pc := 72) (lf := fun x => [some (2, 111), some (0, v1), some (0, v2), some (0, v3), some (0, v4), some (0, v5), some (0, x), some (0, v7), some (0, v8)]) dX4_costBy_72 (fun _ => rfl) (Nat.le_of_ble_eq_true rfl) (fun v6_5 => ?_)
  refine s_iinc (pc := 74) (lf := fun x => [some (2, 111), some (0, v1), some (0, v2), some (0, v3), some (0, v4), some (0, v5), some (0, v6_5), some (0, v7), some (0, x)]) dX4_costBy_74 rfl (fun _ => rfl) (Nat.le_of_ble_eq_true rfl) (fun v8_6 => ?_)
  refine s_goto (pc := 77) (tgt := 35) dX4_costBy_77 rfl ?_
  exact Sm.some (fun h => h)
noncomputable def fX4_costBy_j30 (v1 : Int) (v2 : Int) (v3 : Int) (v4 : Int) (v5 : Int) (v6 : Int) (w0 : Int) (c : CC) : Option Int :=
  cl (wh (fun s => fX4_costBy_l35 v1 v2 v3 v4 v5 w0 s.1 s.2 c) (v6, 0)) (fun e_7 =>
  if (99 : Int) < e_7 then
  (some 10000)
  else
  (some e_7))
theorem sX4_costBy_j30 {G : GG} {Γ : Cx} {r : Vv × Wd} {sz sl : Nat} {td : TT} (v1 : Int) (v2 : Int) (v3 : Int) (v4 : Int) (v5 : Int) (v6 : Int) (w0 : Int) (c : CC) : Sm (fX4_costBy_j30 v1 v2 v3 v4 v5 v6 w0 c) (fun x => r = ((0, x), (sz, sl, tt td, cv c))) (WP G Γ muX4_costBy r 30 [some (2, 111), some (0, v1), some (0, v2), some (0, v3), some (0, v4), some (0, v5), some (0, v6), none, none] [(0, w0)] (sz, sl, tt td, cv c)) := by
  unfold fX4_costBy_j30
  refine s_istoreD (pc := 30) (ls' := [some (2, 111), some (0, v1), some (0, v2), some (0, v3), some (0, v4), some (0, v5), some (0, v6), some (0, w0), none]) dX4_costBy_30 rfl (Nat.le_of_ble_eq_true rfl) ?_
  refine s_iconst (pc := 32) dX4_costBy_32 ?_
  refine s_istoreD (pc := 33) (ls' := [some (2, 111), some (0, v1), some (0, v2), some (0, v3), some (0, v4), some (0, v5), some (0, v6), some (0, w0), some (0, 0)]) dX4_costBy_33 rfl (Nat.le_of_ble_eq_true rfl) ?_
  refine s_loop (g := gX4_costBy_l35 G Γ r sz sl td v1 v2 v3 v4 v5 w0 c) (Ex := eX4_costBy_l35 G Γ r sz sl td v1 v2 v3 v4 v5 w0 c) (s0 := (v6, 0)) (fun s => sX4_costBy_l35 v1 v2 v3 v4 v5 w0 s.1 s.2 c) ?_
  intro e_7
  show Sm _ _ (WP G Γ muX4_costBy r 80 [none, none, none, none, none, none, some (0, e_7), none, none] [] (sz, sl, tt td, cv c))
  refine s_iload (pc := 80) dX4_costBy_80 rfl ?_
  refine s_bipush (pc := 82) dX4_costBy_82 ?_
  refine s_icmp_le (pc := 84) (tgt := 93) dX4_costBy_84 rfl ?_ ?_
  · refine s_iload (pc := 93) dX4_costBy_93 rfl ?_
    exact s_iret (pc := 95) dX4_costBy_95 rfl (fun h => h)
  refine s_sipush (pc := 87) dX4_costBy_87 ?_
  refine s_goto (pc := 90) (tgt := 95) dX4_costBy_90 rfl ?_
  exact s_iret (pc := 95) dX4_costBy_95 rfl (fun h => h)
noncomputable def fX4_costBy (a1 : Int) (a2 : Int) (a3 : Int) (a4 : Int) (c : CC) : Option Int :=
  gd ((0 : Int) ≤ a1 ∧ a1 < 7300) <|
   bd (c 152 (Int.toNat a1)) fun v5_1 =>
   gd ((0 : Int) ≤ a2 ∧ a2 < 144) <|
   if c 119 (Int.toNat a2) = 4 then
  (gd ((2 : Int) ≠ 0 ∧ inR (Int.tdiv v5_1 2)) <|
   fX4_costBy_j30 a1 a2 a3 a4 v5_1 1 (Int.tdiv v5_1 2) c)
  else
  (fX4_costBy_j30 a1 a2 a3 a4 v5_1 1 v5_1 c)
theorem sX4_costBy {G : GG} {Γ : Cx} {r : Vv × Wd} {sz sl : Nat} {td : TT} (a1 : Int) (a2 : Int) (a3 : Int) (a4 : Int) (c : CC) : Sm (fX4_costBy a1 a2 a3 a4 c) (fun x => r = ((0, x), (sz, sl, tt td, cv c))) (WP G Γ muX4_costBy r 0 [some (2, 111), some (0, a1), some (0, a2), some (0, a3), some (0, a4), none, none, none, none] [] (sz, sl, tt td, cv c)) := by
  unfold fX4_costBy
  refine s_aload_n (pc := 0) dX4_costBy_0 rfl ?_
  refine s_get (pc := 1) (a := 111) (v := 152) flX4_139 (t_111 _) rfl (g_111_60 _) rfl dX4_costBy_1 ?_
  refine s_iload_n (pc := 4) dX4_costBy_4 rfl ?_
  refine s_ialdM (pc := 5) (a := 152) (t_152 _) rfl r_152 dX4_costBy_5 ?_
  refine s_istore (pc := 6) (lf := fun x => [some (2, 111), some (0, a1), some (0, a2), some (0, a3), some (0, a4), some (0, x), none, none, none]) dX4_costBy_6 (fun _ => rfl) (Nat.le_of_ble_eq_true rfl) (fun v5_1 => ?_)
  refine s_iconst (pc := 8) dX4_costBy_8 ?_
  refine s_istoreD (pc := 9) (ls' := [some (2, 111), some (0, a1), some (0, a2), some (0, a3), some (0, a4), some (0, v5_1), some (0, 1), none, none]) dX4_costBy_9 rfl (Nat.le_of_ble_eq_true rfl) ?_
  refine s_aload_n (pc := 11) dX4_costBy_11 rfl ?_
  refine s_get (pc := 12) (a := 111) (v := 119) flX4_39 (t_111 _) rfl (g_111_10 _) rfl dX4_costBy_12 ?_
  refine s_iload_n (pc := 15) dX4_costBy_15 rfl ?_
  refine s_ialdM (pc := 16) (a := 119) (t_119 _) rfl r_119 dX4_costBy_16 ?_
  refine s_iconst (pc := 17) dX4_costBy_17 ?_
  refine s_icmp_ne (pc := 18) (tgt := 28) dX4_costBy_18 rfl ?_ ?_
  · refine s_iload (pc := 28) dX4_costBy_28 rfl ?_
    exact sX4_costBy_j30 a1 a2 a3 a4 v5_1 1 v5_1 c
  refine s_iload (pc := 21) dX4_costBy_21 rfl ?_
  refine s_iconst (pc := 23) dX4_costBy_23 ?_
  refine s_idiv (pc := 24) dX4_costBy_24 ?_
  refine s_goto (pc := 25) (tgt := 30) dX4_costBy_25 rfl ?_
  exact sX4_costBy_j30 a1 a2 a3 a4 v5_1 1 (Int.tdiv v5_1 2) c
theorem kX4_costBy {G : GG} {sz sl : Nat} {td : TT} (a1 : Int) (a2 : Int) (a3 : Int) (a4 : Int) (c : CC) (x : Int) (h : fX4_costBy a1 a2 a3 a4 c = some x) : Ct G yX4_costBy muX4_costBy [(2, 111), (0, a1), (0, a2), (0, a3), (0, a4)] (sz, sl, tt td, cv c) ((0, x), (sz, sl, tt td, cv c)) :=
  Ct.of (n := 4) (ls0 := [some (2, 111), some (0, a1), some (0, a2), some (0, a3), some (0, a4), none, none, none, none]) (by decide) rfl rfl ⟨by decide, by decide⟩ (Nat.le_of_ble_eq_true rfl) rfl ⟨Nat.le_refl _, Nat.le_refl _⟩ (show (0 : Nat) ≠ 9 by decide) (fun Γ => sX4_costBy a1 a2 a3 a4 c x h rfl)
theorem flX4_176 : FL RX4 176 3 78 := ⟨_, _, _, cf3, by decide, q1322⟩
abbrev muX4_nextOrder : MI := (cX4_nextOrder, RX4, 8, some .int, 1, "nextOrder")
abbrev gX4_nextOrder_l2 (G : GG) (Γ : Cx) (r : Vv × Wd) (sz sl : Nat) (td : TT) (v1 : Int) (v2 : Int) : (Int × CC) → Prop := fun s => WP G Γ muX4_nextOrder r 2 [some (2, 111), some (0, v1), some (0, v2), some (0, s.1), none, none, none, none] [] (sz, sl, tt td, cv s.2)
abbrev eX4_nextOrder_l2 (G : GG) (Γ : Cx) (r : Vv × Wd) (sz sl : Nat) (td : TT) (v1 : Int) (v2 : Int) : (CC) → Prop := (fun s => WP G Γ muX4_nextOrder r 27 [some (2, 111), none, some (0, v2), none, none, none, none, none] [] (sz, sl, tt td, cv s))
noncomputable def fX4_nextOrder_l2 (v1 : Int) (v2 : Int) (v3 : Int) (c : CC) : Option ((Int × CC) ⊕ (CC)) :=
  if v3 < v2 then
  (gd (inR (3 * v3)) <|
   gd ((0 : Int) ≤ v3 ∧ v3 < 6) <| bd (up2 c 164 (Int.toNat v3) (andI (shrI v1 (3 * v3)) 7)) fun c_1 =>
   gd (inR (v3 + 1)) <| bd (v3 + 1) fun v3_2 =>
   some (.inl (v3_2, c_1)))
  else
  (some (.inr c))
theorem sX4_nextOrder_l2 {G : GG} {Γ : Cx} {r : Vv × Wd} {sz sl : Nat} {td : TT} (v1 : Int) (v2 : Int) (v3 : Int) (c : CC) : Sm (fX4_nextOrder_l2 v1 v2 v3 c) (fun x => Sum.elim (gX4_nextOrder_l2 G Γ r sz sl td v1 v2) (eX4_nextOrder_l2 G Γ r sz sl td v1 v2) x) (gX4_nextOrder_l2 G Γ r sz sl td v1 v2 (v3, c)) := by
  show Sm _ _ (WP G Γ muX4_nextOrder r 2 [some (2, 111), some (0, v1), some (0, v2), some (0, v3), none, none, none, none] [] (sz, sl, tt td, cv c))
  unfold fX4_nextOrder_l2
  refine s_iload_n (pc := 2) dX4_nextOrder_2 rfl ?_
  refine s_iload_n (pc := 3) dX4_nextOrder_3 rfl ?_
  refine s_icmp_ge (pc := 4) (tgt := 27) dX4_nextOrder_4 rfl ?_ ?_
  · refine s_wk [true, false, true, false, true, true, true, true] (ls' := [some (2, 111), none, some (0, v2), none, none, none, none, none]) rfl ?_
    exact Sm.some (fun h => h)
  refine s_aload_n (pc := 7) dX4_nextOrder_7 rfl ?_
  refine s_get (pc := 8) (a := 111) (v := 164) flX4_176 (t_111 _) rfl (g_111_78 _) rfl dX4_nextOrder_8 ?_
  refine s_iload_n (pc := 11) dX4_nextOrder_11 rfl ?_
  refine s_iload_n (pc := 12) dX4_nextOrder_12 rfl ?_
  refine s_iconst (pc := 13) dX4_nextOrder_13 ?_
  refine s_iload_n (pc := 14) dX4_nextOrder_14 rfl ?_
  refine s_imul (pc := 15) dX4_nextOrder_15 ?_
  refine s_ishr (pc := 16) dX4_nextOrder_16 ?_
  refine s_bipush (pc := 17) dX4_nextOrder_17 ?_
  refine s_iand (pc := 19) dX4_nextOrder_19 ?_
  refine s_iastM (pc := 20) (a := 164) (t_164 _) rfl kO_164 r_164 dX4_nextOrder_20 (fun c_1 => ?_)
  refine s_iinc (pc := 21) (lf := fun x => [some (2, 111), some (0, v1), some (0, v2), some (0, x), none, none, none, none]) dX4_nextOrder_21 rfl (fun _ => rfl) (Nat.le_of_ble_eq_true rfl) (fun v3_2 => ?_)
  refine s_goto (pc := 24) (tgt := 2) dX4_nextOrder_24 rfl ?_
  exact Sm.some (fun h => h)
abbrev gX4_nextOrder_l31 (G : GG) (Γ : Cx) (r : Vv × Wd) (sz sl : Nat) (td : TT) (v2 : Int) (c : CC) : (Int) → Prop := fun s => WP G Γ muX4_nextOrder r 31 [some (2, 111), none, some (0, v2), some (0, s), none, none, none, none] [] (sz, sl, tt td, cv c)
abbrev eX4_nextOrder_l31 (G : GG) (Γ : Cx) (r : Vv × Wd) (sz sl : Nat) (td : TT) (v2 : Int) (c : CC) : (Int) → Prop := (fun s => WP G Γ muX4_nextOrder r 58 [some (2, 111), none, some (0, v2), some (0, s), none, none, none, none] [] (sz, sl, tt td, cv c))
noncomputable def fX4_nextOrder_l31 (v2 : Int) (v3 : Int) (c : CC) : Option ((Int) ⊕ (Int)) :=
  if v3 < 0 then
  (some (.inr v3))
  else
  (gd ((0 : Int) ≤ v3 ∧ v3 < 6) <|
   gd (inR (v3 + 1)) <|
   gd ((0 : Int) ≤ v3 + 1 ∧ v3 + 1 < 6) <|
   if c 164 (Int.toNat (v3 + 1)) < c 164 (Int.toNat v3) then
  (gd (inR (v3 + -1)) <| bd (v3 + -1) fun v3_5 =>
   some (.inl v3_5))
  else
  (some (.inr v3)))
theorem sX4_nextOrder_l31 {G : GG} {Γ : Cx} {r : Vv × Wd} {sz sl : Nat} {td : TT} (v2 : Int) (v3 : Int) (c : CC) : Sm (fX4_nextOrder_l31 v2 v3 c) (fun x => Sum.elim (gX4_nextOrder_l31 G Γ r sz sl td v2 c) (eX4_nextOrder_l31 G Γ r sz sl td v2 c) x) (gX4_nextOrder_l31 G Γ r sz sl td v2 c v3) := by
  show Sm _ _ (WP G Γ muX4_nextOrder r 31 [some (2, 111), none, some (0, v2), some (0, v3), none, none, none, none] [] (sz, sl, tt td, cv c))
  unfold fX4_nextOrder_l31
  refine s_iload_n (pc := 31) dX4_nextOrder_31 rfl ?_
  refine s_if_lt (pc := 32) (tgt := 58) dX4_nextOrder_32 rfl ?_ ?_
  · exact Sm.some (fun h => h)
  refine s_aload_n (pc := 35) dX4_nextOrder_35 rfl ?_
  refine s_get (pc := 36) (a := 111) (v := 164) flX4_176 (t_111 _) rfl (g_111_78 _) rfl dX4_nextOrder_36 ?_
  refine s_iload_n (pc := 39) dX4_nextOrder_39 rfl ?_
  refine s_ialdM (pc := 40) (a := 164) (t_164 _) rfl r_164 dX4_nextOrder_40 ?_
  refine s_aload_n (pc := 41) dX4_nextOrder_41 rfl ?_
  refine s_get (pc := 42) (a := 111) (v := 164) flX4_176 (t_111 _) rfl (g_111_78 _) rfl dX4_nextOrder_42 ?_
  refine s_iload_n (pc := 45) dX4_nextOrder_45 rfl ?_
  refine s_iconst (pc := 46) dX4_nextOrder_46 ?_
  refine s_iadd (pc := 47) dX4_nextOrder_47 ?_
  refine s_ialdM (pc := 48) (a := 164) (t_164 _) rfl r_164 dX4_nextOrder_48 ?_
  refine s_icmp_le (pc := 49) (tgt := 58) dX4_nextOrder_49 rfl ?_ ?_
  · exact Sm.some (fun h => h)
  refine s_iinc (pc := 52) (lf := fun x => [some (2, 111), none, some (0, v2), some (0, x), none, none, none, none]) dX4_nextOrder_52 rfl (fun _ => rfl) (Nat.le_of_ble_eq_true rfl) (fun v3_5 => ?_)
  refine s_goto (pc := 55) (tgt := 31) dX4_nextOrder_55 rfl ?_
  exact Sm.some (fun h => h)
abbrev gX4_nextOrder_l69 (G : GG) (Γ : Cx) (r : Vv × Wd) (sz sl : Nat) (td : TT) (v2 : Int) (v3 : Int) (c : CC) : (Int) → Prop := fun s => WP G Γ muX4_nextOrder r 69 [some (2, 111), none, some (0, v2), some (0, v3), some (0, s), none, none, none] [] (sz, sl, tt td, cv c)
abbrev eX4_nextOrder_l69 (G : GG) (Γ : Cx) (r : Vv × Wd) (sz sl : Nat) (td : TT) (v2 : Int) (v3 : Int) (c : CC) : (Int) → Prop := (fun s => WP G Γ muX4_nextOrder r 91 [some (2, 111), none, some (0, v2), some (0, v3), some (0, s), none, none, none] [] (sz, sl, tt td, cv c))
noncomputable def fX4_nextOrder_l69 (v2 : Int) (v3 : Int) (v4 : Int) (c : CC) : Option ((Int) ⊕ (Int)) :=
  gd ((0 : Int) ≤ v4 ∧ v4 < 6) <|
   gd ((0 : Int) ≤ v3 ∧ v3 < 6) <|
   if c 164 (Int.toNat v4) < c 164 (Int.toNat v3) then
  (gd (inR (v4 + -1)) <| bd (v4 + -1) fun v4_8 =>
   some (.inl v4_8))
  else
  (some (.inr v4))
theorem sX4_nextOrder_l69 {G : GG} {Γ : Cx} {r : Vv × Wd} {sz sl : Nat} {td : TT} (v2 : Int) (v3 : Int) (v4 : Int) (c : CC) : Sm (fX4_nextOrder_l69 v2 v3 v4 c) (fun x => Sum.elim (gX4_nextOrder_l69 G Γ r sz sl td v2 v3 c) (eX4_nextOrder_l69 G Γ r sz sl td v2 v3 c) x) (gX4_nextOrder_l69 G Γ r sz sl td v2 v3 c v4) := by
  show Sm _ _ (WP G Γ muX4_nextOrder r 69 [some (2, 111), none, some (0, v2), some (0, v3), some (0, v4), none, none, none] [] (sz, sl, tt td, cv c))
  unfold fX4_nextOrder_l69
  refine s_aload_n (pc := 69) dX4_nextOrder_69 rfl ?_
  refine s_get (pc := 70) (a := 111) (v := 164) flX4_176 (t_111 _) rfl (g_111_78 _) rfl dX4_nextOrder_70 ?_
  refine s_iload (pc := 73) dX4_nextOrder_73 rfl ?_
  refine s_ialdM (pc := 75) (a := 164) (t_164 _) rfl r_164 dX4_nextOrder_75 ?_
  refine s_aload_n (pc := 76) dX4_nextOrder_76 rfl ?_
  refine s_get (pc := 77) (a := 111) (v := 164) flX4_176 (t_111 _) rfl (g_111_78 _) rfl dX4_nextOrder_77 ?_
  refine s_iload_n (pc := 80) dX4_nextOrder_80 rfl ?_
  refine s_ialdM (pc := 81) (a := 164) (t_164 _) rfl r_164 dX4_nextOrder_81 ?_
  refine s_icmp_ge (pc := 82) (tgt := 91) dX4_nextOrder_82 rfl ?_ ?_
  · exact Sm.some (fun h => h)
  refine s_iinc (pc := 85) (lf := fun x => [some (2, 111), none, some (0, v2), some (0, v3), some (0, x), none, none, none]) dX4_nextOrder_85 rfl (fun _ => rfl) (Nat.le_of_ble_eq_true rfl) (fun v4_8 => ?_)
  refine s_goto (pc := 88) (tgt := 69) dX4_nextOrder_88 rfl ?_
  exact Sm.some (fun h => h)
abbrev gX4_nextOrder_l126 (G : GG) (Γ : Cx) (r : Vv × Wd) (sz sl : Nat) (td : TT) (v2 : Int) (v3 : Int) : (Int × CC) → Prop := fun s => WP G Γ muX4_nextOrder r 126 [some (2, 111), none, some (0, v2), some (0, v3), none, none, some (0, s.1), none] [] (sz, sl, tt td, cv s.2)
abbrev eX4_nextOrder_l126 (G : GG) (Γ : Cx) (r : Vv × Wd) (sz sl : Nat) (td : TT) (v2 : Int) (v3 : Int) : (CC) → Prop := (fun s => WP G Γ muX4_nextOrder r 183 [some (2, 111), none, some (0, v2), none, none, none, none, none] [] (sz, sl, tt td, cv s))
noncomputable def fX4_nextOrder_l126 (v2 : Int) (v3 : Int) (v6 : Int) (c : CC) : Option ((Int × CC) ⊕ (CC)) :=
  gd (inR (v6 - v3)) <|
   gd (inR (v2 - (v6 - v3))) <|
   if v6 < v2 - (v6 - v3) then
  (gd ((0 : Int) ≤ v6 ∧ v6 < 6) <|
   bd (c 164 (Int.toNat v6)) fun v5_14 =>
   gd (inR (v6 - v3)) <|
   gd (inR (v2 - (v6 - v3))) <|
   gd ((0 : Int) ≤ v2 - (v6 - v3) ∧ v2 - (v6 - v3) < 6) <|
   gd ((0 : Int) ≤ v6 ∧ v6 < 6) <| bd (up2 c 164 (Int.toNat v6) (c 164 (Int.toNat (v2 - (v6 - v3))))) fun c_15 =>
   gd (inR (v6 - v3)) <|
   gd (inR (v2 - (v6 - v3))) <|
   gd ((0 : Int) ≤ v2 - (v6 - v3) ∧ v2 - (v6 - v3) < 6) <| bd (up2 c_15 164 (Int.toNat (v2 - (v6 - v3))) v5_14) fun c_16 =>
   gd (inR (v6 + 1)) <| bd (v6 + 1) fun v6_17 =>
   some (.inl (v6_17, c_16)))
  else
  (some (.inr c))
theorem sX4_nextOrder_l126 {G : GG} {Γ : Cx} {r : Vv × Wd} {sz sl : Nat} {td : TT} (v2 : Int) (v3 : Int) (v6 : Int) (c : CC) : Sm (fX4_nextOrder_l126 v2 v3 v6 c) (fun x => Sum.elim (gX4_nextOrder_l126 G Γ r sz sl td v2 v3) (eX4_nextOrder_l126 G Γ r sz sl td v2 v3) x) (gX4_nextOrder_l126 G Γ r sz sl td v2 v3 (v6, c)) := by
  show Sm _ _ (WP G Γ muX4_nextOrder r 126 [some (2, 111), none, some (0, v2), some (0, v3), none, none, some (0, v6), none] [] (sz, sl, tt td, cv c))
  unfold fX4_nextOrder_l126
  refine s_iload (pc := 126) dX4_nextOrder_126 rfl ?_
  refine s_iload_n (pc := 128) dX4_nextOrder_128 rfl ?_
  refine s_iload (pc := 129) dX4_nextOrder_129 rfl ?_
  refine s_iload_n (pc := 131) dX4_nextOrder_131 rfl ?_
  refine s_isub (pc := 132) dX4_nextOrder_132 ?_
  refine s_isub (pc := 133) dX4_nextOrder_133 ?_
  refine s_icmp_ge (pc := 134) (tgt := 183) dX4_nextOrder_134 rfl ?_ ?_
  · refine s_wk [true, true, true, false, true, true, false, true] (ls' := [some (2, 111), none, some (0, v2), none, none, none, none, none]) rfl ?_
    exact Sm.some (fun h => h)
  refine s_aload_n (pc := 137) dX4_nextOrder_137 rfl ?_
  refine s_get (pc := 138) (a := 111) (v := 164) flX4_176 (t_111 _) rfl (g_111_78 _) rfl dX4_nextOrder_138 ?_
  refine s_iload (pc := 141) dX4_nextOrder_141 rfl ?_
  refine s_ialdM (pc := 143) (a := 164) (t_164 _) rfl r_164 dX4_nextOrder_143 ?_
  refine s_istore (pc := 144) (lf := fun x => [some (2, 111), none, some (0, v2), some (0, v3), none, some (0, x), some (0, v6), none]) dX4_nextOrder_144 (fun _ => rfl) (Nat.le_of_ble_eq_true rfl) (fun v5_14 => ?_)
  refine s_aload_n (pc := 146) dX4_nextOrder_146 rfl ?_
  refine s_get (pc := 147) (a := 111) (v := 164) flX4_176 (t_111 _) rfl (g_111_78 _) rfl dX4_nextOrder_147 ?_
  refine s_iload (pc := 150) dX4_nextOrder_150 rfl ?_
  refine s_aload_n (pc := 152) dX4_nextOrder_152 rfl ?_
  refine s_get (pc := 153) (a := 111) (v := 164) flX4_176 (t_111 _) rfl (g_111_78 _) rfl dX4_nextOrder_153 ?_
  refine s_iload_n (pc := 156) dX4_nextOrder_156 rfl ?_
  refine s_iload (pc := 157) dX4_nextOrder_157 rfl ?_
  refine s_iload_n (pc := 159) dX4_nextOrder_159 rfl ?_
  refine s_isub (pc := 160) dX4_nextOrder_160 ?_
  refine s_isub (pc := 161) dX4_nextOrder_161 ?_
  refine s_ialdM (pc := 162) (a := 164) (t_164 _) rfl r_164 dX4_nextOrder_162 ?_
  refine s_iastM (pc := 163) (a := 164) (t_164 _) rfl kO_164 r_164 dX4_nextOrder_163 (fun c_15 => ?_)
  refine s_aload_n (pc := 164) dX4_nextOrder_164 rfl ?_
  refine s_get (pc := 165) (a := 111) (v := 164) flX4_176 (t_111 _) rfl (g_111_78 _) rfl dX4_nextOrder_165 ?_
  refine s_iload_n (pc := 168) dX4_nextOrder_168 rfl ?_
  refine s_iload (pc := 169) dX4_nextOrder_169 rfl ?_
  refine s_iload_n (pc := 171) dX4_nextOrder_171 rfl ?_
  refine s_isub (pc := 172) dX4_nextOrder_172 ?_
  refine s_isub (pc := 173) dX4_nextOrder_173 ?_
  refine s_iload (pc := 174) dX4_nextOrder_174 rfl ?_
  refine s_iastM (pc := 176) (a := 164) (t_164 _) rfl kO_164 r_164 dX4_nextOrder_176 (fun c_16 => ?_)
  refine s_iinc (pc := 177) (lf := fun x => [some (2, 111), none, some (0, v2), some (0, v3), none, some (0, v5_14), some (0, x), none]) dX4_nextOrder_177 rfl (fun _ => rfl) (Nat.le_of_ble_eq_true rfl) (fun v6_17 => ?_)
  refine s_goto (pc := 180) (tgt := 126) dX4_nextOrder_180 rfl ?_
  refine s_wk [true, true, true, true, true, false, true, true] (ls' := [some (2, 111), none, some (0, v2), some (0, v3), none, none, some (0, v6_17), none]) rfl ?_
  exact Sm.some (fun h => h)
abbrev gX4_nextOrder_l189 (G : GG) (Γ : Cx) (r : Vv × Wd) (sz sl : Nat) (td : TT) (v2 : Int) (c : CC) : (Int × Int) → Prop := fun s => WP G Γ muX4_nextOrder r 189 [some (2, 111), none, some (0, v2), none, none, none, some (0, s.1), some (0, s.2)] [] (sz, sl, tt td, cv c)
abbrev eX4_nextOrder_l189 (G : GG) (Γ : Cx) (r : Vv × Wd) (sz sl : Nat) (td : TT) (v2 : Int) (c : CC) : (Int) → Prop := (fun s => WP G Γ muX4_nextOrder r 218 [none, none, none, none, none, none, some (0, s), none] [] (sz, sl, tt td, cv c))
noncomputable def fX4_nextOrder_l189 (v2 : Int) (v6 : Int) (v7 : Int) (c : CC) : Option ((Int × Int) ⊕ (Int)) :=
  if v7 < v2 then
  (gd ((0 : Int) ≤ v7 ∧ v7 < 6) <|
   gd (inR (3 * v7)) <|
   bd (orI v6 (shlI (c 164 (Int.toNat v7)) (3 * v7))) fun v6_19 =>
   gd (inR (v7 + 1)) <| bd (v7 + 1) fun v7_20 =>
   some (.inl (v6_19, v7_20)))
  else
  (some (.inr v6))
theorem sX4_nextOrder_l189 {G : GG} {Γ : Cx} {r : Vv × Wd} {sz sl : Nat} {td : TT} (v2 : Int) (v6 : Int) (v7 : Int) (c : CC) : Sm (fX4_nextOrder_l189 v2 v6 v7 c) (fun x => Sum.elim (gX4_nextOrder_l189 G Γ r sz sl td v2 c) (eX4_nextOrder_l189 G Γ r sz sl td v2 c) x) (gX4_nextOrder_l189 G Γ r sz sl td v2 c (v6, v7)) := by
  show Sm _ _ (WP G Γ muX4_nextOrder r 189 [some (2, 111), none, some (0, v2), none, none, none, some (0, v6), some (0, v7)] [] (sz, sl, tt td, cv c))
  unfold fX4_nextOrder_l189
  refine s_iload (pc := 189) dX4_nextOrder_189 rfl ?_
  refine s_iload_n (pc := 191) dX4_nextOrder_191 rfl ?_
  refine s_icmp_ge (pc := 192) (tgt := 218) dX4_nextOrder_192 rfl ?_ ?_
  · refine s_wk [false, true, false, true, true, true, true, false] (ls' := [none, none, none, none, none, none, some (0, v6), none]) rfl ?_
    exact Sm.some (fun h => h)
  refine s_iload (pc := 195) dX4_nextOrder_195 rfl ?_
  refine s_aload_n (pc := 197) dX4_nextOrder_197 rfl ?_
  refine s_get (pc := 198) (a := 111) (v := 164) flX4_176 (t_111 _) rfl (g_111_78 _) rfl dX4_nextOrder_198 ?_
  refine s_iload (pc := 201) dX4_nextOrder_201 rfl ?_
  refine s_ialdM (pc := 203) (a := 164) (t_164 _) rfl r_164 dX4_nextOrder_203 ?_
  refine s_iconst (pc := 204) dX4_nextOrder_204 ?_
  refine s_iload (pc := 205) dX4_nextOrder_205 rfl ?_
  refine s_imul (pc := 207) dX4_nextOrder_207 ?_
  refine s_ishl (pc := 208) dX4_nextOrder_208 ?_
  refine s_ior (pc := 209) dX4_nextOrder_209 ?_
  refine s_istore (pc := 210) (lf := fun x => [some (2, 111), none, some (0, v2), none, none, none, some (0, x), some (0, v7)]) dX4_nextOrder_210 (fun _ => rfl) (Nat.le_of_ble_eq_true rfl) (fun v6_19 => ?_)
  refine s_iinc (pc := 212) (lf := fun x => [some (2, 111), none, some (0, v2), none, none, none, some (0, v6_19), some (0, x)]) dX4_nextOrder_212 rfl (fun _ => rfl) (Nat.le_of_ble_eq_true rfl) (fun v7_20 => ?_)
  refine s_goto (pc := 215) (tgt := 189) dX4_nextOrder_215 rfl ?_
  exact Sm.some (fun h => h)
noncomputable def fX4_nextOrder_j58 (v2 : Int) (v3 : Int) (c : CC) : Option (Int × CC) :=
  if v3 < 0 then
  (some (-1, c))
  else
  (gd (inR (v2 - 1)) <|
   bd (v2 - 1) fun v4_7 =>
   cl (wh (fun s => fX4_nextOrder_l69 v2 v3 s c) v4_7) (fun e_9 =>
  gd ((0 : Int) ≤ v3 ∧ v3 < 6) <|
   bd (c 164 (Int.toNat v3)) fun v5_10 =>
   gd ((0 : Int) ≤ e_9 ∧ e_9 < 6) <|
   gd ((0 : Int) ≤ v3 ∧ v3 < 6) <| bd (up2 c 164 (Int.toNat v3) (c 164 (Int.toNat e_9))) fun c_11 =>
   gd ((0 : Int) ≤ e_9 ∧ e_9 < 6) <| bd (up2 c_11 164 (Int.toNat e_9) v5_10) fun c_12 =>
   gd (inR (v3 + 1)) <|
   bd (v3 + 1) fun v6_13 =>
   cl (wh (fun s => fX4_nextOrder_l126 v2 v3 s.1 s.2) (v6_13, c_12)) (fun e_18 =>
  cl (wh (fun s => fX4_nextOrder_l189 v2 s.1 s.2 e_18) (0, 0)) (fun e_21 =>
  some (e_21, e_18)))))
theorem sX4_nextOrder_j58 {G : GG} {Γ : Cx} {r : Vv × Wd} {sz sl : Nat} {td : TT} (v2 : Int) (v3 : Int) (c : CC) : Sm (fX4_nextOrder_j58 v2 v3 c) (fun x => r = ((0, x.1), (sz, sl, tt td, cv x.2))) (WP G Γ muX4_nextOrder r 58 [some (2, 111), none, some (0, v2), some (0, v3), none, none, none, none] [] (sz, sl, tt td, cv c)) := by
  unfold fX4_nextOrder_j58
  refine s_iload_n (pc := 58) dX4_nextOrder_58 rfl ?_
  refine s_if_ge (pc := 59) (tgt := 64) dX4_nextOrder_59 rfl ?_ ?_
  · refine s_iload_n (pc := 64) dX4_nextOrder_64 rfl ?_
    refine s_iconst (pc := 65) dX4_nextOrder_65 ?_
    refine s_isub (pc := 66) dX4_nextOrder_66 ?_
    refine s_istore (pc := 67) (lf := fun x => [some (2, 111), none, some (0, v2), some (0, v3), some (0, x), none, none, none]) dX4_nextOrder_67 (fun _ => rfl) (Nat.le_of_ble_eq_true rfl) (fun v4_7 => ?_)
    refine s_loop (g := gX4_nextOrder_l69 G Γ r sz sl td v2 v3 c) (Ex := eX4_nextOrder_l69 G Γ r sz sl td v2 v3 c) (s0 := v4_7) (fun s => sX4_nextOrder_l69 v2 v3 s c) ?_
    intro e_9
    show Sm _ _ (WP G Γ muX4_nextOrder r 91 [some (2, 111), none, some (0, v2), some (0, v3), some (0, e_9), none, none, none] [] (sz, sl, tt td, cv c))
    refine s_aload_n (pc := 91) dX4_nextOrder_91 rfl ?_
    refine s_get (pc := 92) (a := 111) (v := 164) flX4_176 (t_111 _) rfl (g_111_78 _) rfl dX4_nextOrder_92 ?_
    refine s_iload_n (pc := 95) dX4_nextOrder_95 rfl ?_
    refine s_ialdM (pc := 96) (a := 164) (t_164 _) rfl r_164 dX4_nextOrder_96 ?_
    refine s_istore (pc := 97) (lf := fun x => [some (2, 111), none, some (0, v2), some (0, v3), some (0, e_9), some (0, x), none, none]) dX4_nextOrder_97 (fun _ => rfl) (Nat.le_of_ble_eq_true rfl) (fun v5_10 => ?_)
    refine s_aload_n (pc := 99) dX4_nextOrder_99 rfl ?_
    refine s_get (pc := 100) (a := 111) (v := 164) flX4_176 (t_111 _) rfl (g_111_78 _) rfl dX4_nextOrder_100 ?_
    refine s_iload_n (pc := 103) dX4_nextOrder_103 rfl ?_
    refine s_aload_n (pc := 104) dX4_nextOrder_104 rfl ?_
    refine s_get (pc := 105) (a := 111) (v := 164) flX4_176 (t_111 _) rfl (g_111_78 _) rfl dX4_nextOrder_105 ?_
    refine s_iload (pc := 108) dX4_nextOrder_108 rfl ?_
    refine s_ialdM (pc := 110) (a := 164) (t_164 _) rfl r_164 dX4_nextOrder_110 ?_
    refine s_iastM (pc := 111) (a := 164) (t_164 _) rfl kO_164 r_164 dX4_nextOrder_111 (fun c_11 => ?_)
    refine s_aload_n (pc := 112) dX4_nextOrder_112 rfl ?_
    refine s_get (pc := 113) (a := 111) (v := 164) flX4_176 (t_111 _) rfl (g_111_78 _) rfl dX4_nextOrder_113 ?_
    refine s_iload (pc := 116) dX4_nextOrder_116 rfl ?_
    refine s_iload (pc := 118) dX4_nextOrder_118 rfl ?_
    refine s_iastM (pc := 120) (a := 164) (t_164 _) rfl kO_164 r_164 dX4_nextOrder_120 (fun c_12 => ?_)
    refine s_iload_n (pc := 121) dX4_nextOrder_121 rfl ?_
    refine s_iconst (pc := 122) dX4_nextOrder_122 ?_
    refine s_iadd (pc := 123) dX4_nextOrder_123 ?_
    refine s_istore (pc := 124) (lf := fun x => [some (2, 111), none, some (0, v2), some (0, v3), some (0, e_9), some (0, v5_10), some (0, x), none]) dX4_nextOrder_124 (fun _ => rfl) (Nat.le_of_ble_eq_true rfl) (fun v6_13 => ?_)
    refine s_wk [true, true, true, true, false, false, true, true] (ls' := [some (2, 111), none, some (0, v2), some (0, v3), none, none, some (0, v6_13), none]) rfl ?_
    refine s_loop (g := gX4_nextOrder_l126 G Γ r sz sl td v2 v3) (Ex := eX4_nextOrder_l126 G Γ r sz sl td v2 v3) (s0 := (v6_13, c_12)) (fun s => sX4_nextOrder_l126 v2 v3 s.1 s.2) ?_
    intro e_18
    show Sm _ _ (WP G Γ muX4_nextOrder r 183 [some (2, 111), none, some (0, v2), none, none, none, none, none] [] (sz, sl, tt td, cv e_18))
    refine s_iconst (pc := 183) dX4_nextOrder_183 ?_
    refine s_istoreD (pc := 184) (ls' := [some (2, 111), none, some (0, v2), none, none, none, some (0, 0), none]) dX4_nextOrder_184 rfl (Nat.le_of_ble_eq_true rfl) ?_
    refine s_iconst (pc := 186) dX4_nextOrder_186 ?_
    refine s_istoreD (pc := 187) (ls' := [some (2, 111), none, some (0, v2), none, none, none, some (0, 0), some (0, 0)]) dX4_nextOrder_187 rfl (Nat.le_of_ble_eq_true rfl) ?_
    refine s_loop (g := gX4_nextOrder_l189 G Γ r sz sl td v2 e_18) (Ex := eX4_nextOrder_l189 G Γ r sz sl td v2 e_18) (s0 := (0, 0)) (fun s => sX4_nextOrder_l189 v2 s.1 s.2 e_18) ?_
    intro e_21
    show Sm _ _ (WP G Γ muX4_nextOrder r 218 [none, none, none, none, none, none, some (0, e_21), none] [] (sz, sl, tt td, cv e_18))
    refine s_iload (pc := 218) dX4_nextOrder_218 rfl ?_
    exact s_iret (pc := 220) dX4_nextOrder_220 rfl (fun h => h)
  refine s_iconst (pc := 62) dX4_nextOrder_62 ?_
  exact s_iret (pc := 63) dX4_nextOrder_63 rfl (fun h => h)
noncomputable def fX4_nextOrder (a1 : Int) (a2 : Int) (c : CC) : Option (Int × CC) :=
  cl (wh (fun s => fX4_nextOrder_l2 a1 a2 s.1 s.2) (0, c)) (fun e_3 =>
  gd (inR (a2 - 2)) <|
   bd (a2 - 2) fun v3_4 =>
   cl (wh (fun s => fX4_nextOrder_l31 a2 s e_3) v3_4) (fun e_6 =>
  fX4_nextOrder_j58 a2 e_6 e_3))
theorem sX4_nextOrder {G : GG} {Γ : Cx} {r : Vv × Wd} {sz sl : Nat} {td : TT} (a1 : Int) (a2 : Int) (c : CC) : Sm (fX4_nextOrder a1 a2 c) (fun x => r = ((0, x.1), (sz, sl, tt td, cv x.2))) (WP G Γ muX4_nextOrder r 0 [some (2, 111), some (0, a1), some (0, a2), none, none, none, none, none] [] (sz, sl, tt td, cv c)) := by
  unfold fX4_nextOrder
  refine s_iconst (pc := 0) dX4_nextOrder_0 ?_
  refine s_istore_nD (pc := 1) (ls' := [some (2, 111), some (0, a1), some (0, a2), some (0, 0), none, none, none, none]) dX4_nextOrder_1 rfl (Nat.le_of_ble_eq_true rfl) ?_
  refine s_loop (g := gX4_nextOrder_l2 G Γ r sz sl td a1 a2) (Ex := eX4_nextOrder_l2 G Γ r sz sl td a1 a2) (s0 := (0, c)) (fun s => sX4_nextOrder_l2 a1 a2 s.1 s.2) ?_
  intro e_3
  show Sm _ _ (WP G Γ muX4_nextOrder r 27 [some (2, 111), none, some (0, a2), none, none, none, none, none] [] (sz, sl, tt td, cv e_3))
  refine s_iload_n (pc := 27) dX4_nextOrder_27 rfl ?_
  refine s_iconst (pc := 28) dX4_nextOrder_28 ?_
  refine s_isub (pc := 29) dX4_nextOrder_29 ?_
  refine s_istore_n (pc := 30) (lf := fun x => [some (2, 111), none, some (0, a2), some (0, x), none, none, none, none]) dX4_nextOrder_30 (fun _ => rfl) (Nat.le_of_ble_eq_true rfl) (fun v3_4 => ?_)
  refine s_loop (g := gX4_nextOrder_l31 G Γ r sz sl td a2 e_3) (Ex := eX4_nextOrder_l31 G Γ r sz sl td a2 e_3) (s0 := v3_4) (fun s => sX4_nextOrder_l31 a2 s e_3) ?_
  intro e_6
  show Sm _ _ (WP G Γ muX4_nextOrder r 58 [some (2, 111), none, some (0, a2), some (0, e_6), none, none, none, none] [] (sz, sl, tt td, cv e_3))
  exact sX4_nextOrder_j58 a2 e_6 e_3
theorem kX4_nextOrder {G : GG} {sz sl : Nat} {td : TT} (a1 : Int) (a2 : Int) (c : CC) (x : (Int × CC)) (h : fX4_nextOrder a1 a2 c = some x) : Ct G yX4_nextOrder muX4_nextOrder [(2, 111), (0, a1), (0, a2)] (sz, sl, tt td, cv c) ((0, x.1), (sz, sl, tt td, cv x.2)) :=
  Ct.of (n := 5) (ls0 := [some (2, 111), some (0, a1), some (0, a2), none, none, none, none, none]) (by decide) rfl rfl ⟨by decide, by decide⟩ (Nat.le_of_ble_eq_true rfl) rfl ⟨Nat.le_refl _, Nat.le_refl _⟩ (show (0 : Nat) ≠ 9 by decide) (fun Γ => sX4_nextOrder a1 a2 c x h rfl)
abbrev muX4_firstOrder : MI := (cX4_firstOrder, RX4, 3, some .int, 1, "firstOrder")
abbrev gX4_firstOrder_l4 (G : GG) (Γ : Cx) (r : Vv × Wd) (sz sl : Nat) (td : TT) (v0 : Int) (c : CC) : (Int × Int) → Prop := fun s => WP G Γ muX4_firstOrder r 4 [some (0, v0), some (0, s.1), some (0, s.2)] [] (sz, sl, tt td, cv c)
abbrev eX4_firstOrder_l4 (G : GG) (Γ : Cx) (r : Vv × Wd) (sz sl : Nat) (td : TT) (v0 : Int) (c : CC) : (Int) → Prop := (fun s => WP G Γ muX4_firstOrder r 23 [none, some (0, s), none] [] (sz, sl, tt td, cv c))
noncomputable def fX4_firstOrder_l4 (v0 : Int) (v1 : Int) (v2 : Int) (c : CC) : Option ((Int × Int) ⊕ (Int)) :=
  if v2 < v0 then
  (gd (inR (3 * v2)) <|
   bd (orI v1 (shlI v2 (3 * v2))) fun v1_1 =>
   gd (inR (v2 + 1)) <| bd (v2 + 1) fun v2_2 =>
   some (.inl (v1_1, v2_2)))
  else
  (some (.inr v1))
theorem sX4_firstOrder_l4 {G : GG} {Γ : Cx} {r : Vv × Wd} {sz sl : Nat} {td : TT} (v0 : Int) (v1 : Int) (v2 : Int) (c : CC) : Sm (fX4_firstOrder_l4 v0 v1 v2 c) (fun x => Sum.elim (gX4_firstOrder_l4 G Γ r sz sl td v0 c) (eX4_firstOrder_l4 G Γ r sz sl td v0 c) x) (gX4_firstOrder_l4 G Γ r sz sl td v0 c (v1, v2)) := by
  show Sm _ _ (WP G Γ muX4_firstOrder r 4 [some (0, v0), some (0, v1), some (0, v2)] [] (sz, sl, tt td, cv c))
  unfold fX4_firstOrder_l4
  refine s_iload_n (pc := 4) dX4_firstOrder_4 rfl ?_
  refine s_iload_n (pc := 5) dX4_firstOrder_5 rfl ?_
  refine s_icmp_ge (pc := 6) (tgt := 23) dX4_firstOrder_6 rfl ?_ ?_
  · refine s_wk [false, true, false] (ls' := [none, some (0, v1), none]) rfl ?_
    exact Sm.some (fun h => h)
  refine s_iload_n (pc := 9) dX4_firstOrder_9 rfl ?_
  refine s_iload_n (pc := 10) dX4_firstOrder_10 rfl ?_
  refine s_iconst (pc := 11) dX4_firstOrder_11 ?_
  refine s_iload_n (pc := 12) dX4_firstOrder_12 rfl ?_
  refine s_imul (pc := 13) dX4_firstOrder_13 ?_
  refine s_ishl (pc := 14) dX4_firstOrder_14 ?_
  refine s_ior (pc := 15) dX4_firstOrder_15 ?_
  refine s_istore_n (pc := 16) (lf := fun x => [some (0, v0), some (0, x), some (0, v2)]) dX4_firstOrder_16 (fun _ => rfl) (Nat.le_of_ble_eq_true rfl) (fun v1_1 => ?_)
  refine s_iinc (pc := 17) (lf := fun x => [some (0, v0), some (0, v1_1), some (0, x)]) dX4_firstOrder_17 rfl (fun _ => rfl) (Nat.le_of_ble_eq_true rfl) (fun v2_2 => ?_)
  refine s_goto (pc := 20) (tgt := 4) dX4_firstOrder_20 rfl ?_
  exact Sm.some (fun h => h)
noncomputable def fX4_firstOrder (a0 : Int) (c : CC) : Option Int :=
  cl (wh (fun s => fX4_firstOrder_l4 a0 s.1 s.2 c) (0, 0)) (fun e_3 =>
  some e_3)
theorem sX4_firstOrder {G : GG} {Γ : Cx} {r : Vv × Wd} {sz sl : Nat} {td : TT} (a0 : Int) (c : CC) : Sm (fX4_firstOrder a0 c) (fun x => r = ((0, x), (sz, sl, tt td, cv c))) (WP G Γ muX4_firstOrder r 0 [some (0, a0), none, none] [] (sz, sl, tt td, cv c)) := by
  unfold fX4_firstOrder
  refine s_iconst (pc := 0) dX4_firstOrder_0 ?_
  refine s_istore_nD (pc := 1) (ls' := [some (0, a0), some (0, 0), none]) dX4_firstOrder_1 rfl (Nat.le_of_ble_eq_true rfl) ?_
  refine s_iconst (pc := 2) dX4_firstOrder_2 ?_
  refine s_istore_nD (pc := 3) (ls' := [some (0, a0), some (0, 0), some (0, 0)]) dX4_firstOrder_3 rfl (Nat.le_of_ble_eq_true rfl) ?_
  refine s_loop (g := gX4_firstOrder_l4 G Γ r sz sl td a0 c) (Ex := eX4_firstOrder_l4 G Γ r sz sl td a0 c) (s0 := (0, 0)) (fun s => sX4_firstOrder_l4 a0 s.1 s.2 c) ?_
  intro e_3
  show Sm _ _ (WP G Γ muX4_firstOrder r 23 [none, some (0, e_3), none] [] (sz, sl, tt td, cv c))
  refine s_iload_n (pc := 23) dX4_firstOrder_23 rfl ?_
  exact s_iret (pc := 24) dX4_firstOrder_24 rfl (fun h => h)
theorem kX4_firstOrder {G : GG} {sz sl : Nat} {td : TT} (a0 : Int) (c : CC) (x : Int) (h : fX4_firstOrder a0 c = some x) : Ct G yX4_firstOrder muX4_firstOrder [(0, a0)] (sz, sl, tt td, cv c) ((0, x), (sz, sl, tt td, cv c)) :=
  Ct.of (n := 2) (ls0 := [some (0, a0), none, none]) (by decide) rfl rfl ⟨by decide, by decide⟩ (Nat.le_of_ble_eq_true rfl) rfl ⟨Nat.le_refl _, Nat.le_refl _⟩ (show (0 : Nat) ≠ 9 by decide) (fun Γ => sX4_firstOrder a0 c x h rfl)
theorem flX4_179 : FL RX4 179 3 79 := ⟨_, _, _, cf3, by decide, q1323⟩
abbrev muX4_pushes : MI := (cX4_pushes, RX4, 9, some .int, 2, "pushes")
abbrev gX4_pushes_l32 (G : GG) (Γ : Cx) (r : Vv × Wd) (sz sl : Nat) (td : TT) (v1 : Int) (v2 : Int) (v3 : Int) (v4 : Int) (v5 : Int) (v6 : Int) (v7 : Int) : (Int × CC) → Prop := fun s => WP G Γ muX4_pushes r 32 [some (2, 111), some (0, v1), some (0, v2), some (0, v3), some (0, v4), some (0, v5), some (0, v6), some (0, v7), some (0, s.1)] [] (sz, sl, tt td, cv s.2)
abbrev eX4_pushes_l32 (G : GG) (Γ : Cx) (r : Vv × Wd) (sz sl : Nat) (td : TT) (v1 : Int) (v2 : Int) (v3 : Int) (v4 : Int) (v5 : Int) (v6 : Int) (v7 : Int) : (CC) → Prop := (fun s => WP G Γ muX4_pushes r 81 [none, some (0, v1), none, none, none, none, some (0, v6), none, none] [] (sz, sl, tt td, cv s))
noncomputable def fX4_pushes_l32 (v1 : Int) (v2 : Int) (v3 : Int) (v4 : Int) (v5 : Int) (v6 : Int) (v7 : Int) (v8 : Int) (c : CC) : Option ((Int × CC) ⊕ (CC)) :=
  if v8 < v6 then
  (gd (inR (v1 + v8)) <|
   cl (fX4_saidPart v2 v3 v4 v8 c) fun p_2 =>
   cl (fX4_takenKind v3 v7 v8 c) fun p_3 =>
   gd (inR (v5 - v8)) <|
   cl (fX4_at26 p_2 p_3 (v5 - v8)) fun p_4 =>
   gd ((0 : Int) ≤ v1 + v8 ∧ v1 + v8 < 128) <| bd (up2 c 165 (Int.toNat (v1 + v8)) p_4) fun c_5 =>
   gd (inR (v8 + 1)) <| bd (v8 + 1) fun v8_6 =>
   some (.inl (v8_6, c_5)))
  else
  (some (.inr c))
theorem sX4_pushes_l32 {G : GG} {Γ : Cx} {r : Vv × Wd} {sz sl : Nat} {td : TT} (v1 : Int) (v2 : Int) (v3 : Int) (v4 : Int) (v5 : Int) (v6 : Int) (v7 : Int) (v8 : Int) (c : CC) : Sm (fX4_pushes_l32 v1 v2 v3 v4 v5 v6 v7 v8 c) (fun x => Sum.elim (gX4_pushes_l32 G Γ r sz sl td v1 v2 v3 v4 v5 v6 v7) (eX4_pushes_l32 G Γ r sz sl td v1 v2 v3 v4 v5 v6 v7) x) (gX4_pushes_l32 G Γ r sz sl td v1 v2 v3 v4 v5 v6 v7 (v8, c)) := by
  show Sm _ _ (WP G Γ muX4_pushes r 32 [some (2, 111), some (0, v1), some (0, v2), some (0, v3), some (0, v4), some (0, v5), some (0, v6), some (0, v7), some (0, v8)] [] (sz, sl, tt td, cv c))
  unfold fX4_pushes_l32
  refine s_iload (pc := 32) dX4_pushes_32 rfl ?_
  refine s_iload (pc := 34) dX4_pushes_34 rfl ?_
  refine s_icmp_ge (pc := 36) (tgt := 81) dX4_pushes_36 rfl ?_ ?_
  · refine s_wk [false, true, false, false, false, false, true, false, false] (ls' := [none, some (0, v1), none, none, none, none, some (0, v6), none, none]) rfl ?_
    exact Sm.some (fun h => h)
  refine s_aload_n (pc := 39) dX4_pushes_39 rfl ?_
  refine s_get (pc := 40) (a := 111) (v := 165) flX4_179 (t_111 _) rfl (g_111_79 _) rfl dX4_pushes_40 ?_
  refine s_iload_n (pc := 43) dX4_pushes_43 rfl ?_
  refine s_iload (pc := 44) dX4_pushes_44 rfl ?_
  refine s_iadd (pc := 46) dX4_pushes_46 ?_
  refine s_aload_n (pc := 47) dX4_pushes_47 rfl ?_
  refine s_iload_n (pc := 48) dX4_pushes_48 rfl ?_
  refine s_iload_n (pc := 49) dX4_pushes_49 rfl ?_
  refine s_iload (pc := 50) dX4_pushes_50 rfl ?_
  refine s_iload (pc := 52) dX4_pushes_52 rfl ?_
  refine s_callV3 (pc := 54) (a := 111) (as := [(0, v2), (0, v3), (0, v4), (0, v8)]) (st := [(0, v1 + v8), (2, 165)]) (rv := fun b => ((0, b), (sz, sl, tt td, cv c))) (st3 := fun b => [(0, b), (0, v1 + v8), (2, 165)]) (w3 := fun b => (sz, sl, tt td, cv c)) mvX4_559 (fun b h => kX4_saidPart v2 v3 v4 v8 c b h) rfl (by decide) (t_111 td) rfl rfl rfl (Nat.le_of_ble_eq_true rfl) (fun _ => Nat.le_of_ble_eq_true rfl) (fun _ => ⟨rfl, rfl⟩) dX4_pushes_54 (fun p_2 => ?_)
  refine s_aload_n (pc := 57) dX4_pushes_57 rfl ?_
  refine s_iload_n (pc := 58) dX4_pushes_58 rfl ?_
  refine s_iload (pc := 59) dX4_pushes_59 rfl ?_
  refine s_iload (pc := 61) dX4_pushes_61 rfl ?_
  refine s_callV3 (pc := 63) (a := 111) (as := [(0, v3), (0, v7), (0, v8)]) (st := [(0, p_2), (0, v1 + v8), (2, 165)]) (rv := fun b => ((0, b), (sz, sl, tt td, cv c))) (st3 := fun b => [(0, b), (0, p_2), (0, v1 + v8), (2, 165)]) (w3 := fun b => (sz, sl, tt td, cv c)) mvX4_464 (fun b h => kX4_takenKind v3 v7 v8 c b h) rfl (by decide) (t_111 td) rfl rfl rfl (Nat.le_of_ble_eq_true rfl) (fun _ => Nat.le_of_ble_eq_true rfl) (fun _ => ⟨rfl, rfl⟩) dX4_pushes_63 (fun p_3 => ?_)
  refine s_iload (pc := 66) dX4_pushes_66 rfl ?_
  refine s_iload (pc := 68) dX4_pushes_68 rfl ?_
  refine s_isub (pc := 70) dX4_pushes_70 ?_
  refine s_callS3 (pc := 71) (as := [(0, p_2), (0, p_3), (0, v5 - v8)]) (st := [(0, v1 + v8), (2, 165)]) (rv := fun b => ((0, b), (sz, sl, tt td, cv c))) (st3 := fun b => [(0, b), (0, v1 + v8), (2, 165)]) (w3 := fun b => (sz, sl, tt td, cv c)) msX4_556 (fun b h => kX4_at26 p_2 p_3 (v5 - v8) c b h) rfl (by decide) rfl (Nat.le_of_ble_eq_true rfl) (fun _ => Nat.le_of_ble_eq_true rfl) (fun _ => ⟨rfl, rfl⟩) dX4_pushes_71 (fun p_4 => ?_)
  refine s_iastM (pc := 74) (a := 165) (t_165 _) rfl kO_165 r_165 dX4_pushes_74 (fun c_5 => ?_)
  refine s_iinc (pc := 75) (lf := fun x => [some (2, 111), some (0, v1), some (0, v2), some (0, v3), some (0, v4), some (0, v5), some (0, v6), some (0, v7), some (0, x)]) dX4_pushes_75 rfl (fun _ => rfl) (Nat.le_of_ble_eq_true rfl) (fun v8_6 => ?_)
  refine s_goto (pc := 78) (tgt := 32) dX4_pushes_78 rfl ?_
  exact Sm.some (fun h => h)
noncomputable def fX4_pushes_j27 (v1 : Int) (v2 : Int) (v3 : Int) (v4 : Int) (v5 : Int) (v6 : Int) (w0 : Int) (c : CC) : Option (Int × CC) :=
  cl (wh (fun s => fX4_pushes_l32 v1 v2 v3 v4 v5 v6 w0 s.1 s.2) (0, c)) (fun e_7 =>
  gd (inR (v1 + v6)) <|
   some (v1 + v6, e_7))
theorem sX4_pushes_j27 {G : GG} {Γ : Cx} {r : Vv × Wd} {sz sl : Nat} {td : TT} (v1 : Int) (v2 : Int) (v3 : Int) (v4 : Int) (v5 : Int) (v6 : Int) (w0 : Int) (c : CC) : Sm (fX4_pushes_j27 v1 v2 v3 v4 v5 v6 w0 c) (fun x => r = ((0, x.1), (sz, sl, tt td, cv x.2))) (WP G Γ muX4_pushes r 27 [some (2, 111), some (0, v1), some (0, v2), some (0, v3), some (0, v4), some (0, v5), some (0, v6), none, none] [(0, w0)] (sz, sl, tt td, cv c)) := by
  unfold fX4_pushes_j27
  refine s_istoreD (pc := 27) (ls' := [some (2, 111), some (0, v1), some (0, v2), some (0, v3), some (0, v4), some (0, v5), some (0, v6), some (0, w0), none]) dX4_pushes_27 rfl (Nat.le_of_ble_eq_true rfl) ?_
  refine s_iconst (pc := 29) dX4_pushes_29 ?_
  refine s_istoreD (pc := 30) (ls' := [some (2, 111), some (0, v1), some (0, v2), some (0, v3), some (0, v4), some (0, v5), some (0, v6), some (0, w0), some (0, 0)]) dX4_pushes_30 rfl (Nat.le_of_ble_eq_true rfl) ?_
  refine s_loop (g := gX4_pushes_l32 G Γ r sz sl td v1 v2 v3 v4 v5 v6 w0) (Ex := eX4_pushes_l32 G Γ r sz sl td v1 v2 v3 v4 v5 v6 w0) (s0 := (0, c)) (fun s => sX4_pushes_l32 v1 v2 v3 v4 v5 v6 w0 s.1 s.2) ?_
  intro e_7
  show Sm _ _ (WP G Γ muX4_pushes r 81 [none, some (0, v1), none, none, none, none, some (0, v6), none, none] [] (sz, sl, tt td, cv e_7))
  refine s_iload_n (pc := 81) dX4_pushes_81 rfl ?_
  refine s_iload (pc := 82) dX4_pushes_82 rfl ?_
  refine s_iadd (pc := 84) dX4_pushes_84 ?_
  exact s_iret (pc := 85) dX4_pushes_85 rfl (fun h => h)
noncomputable def fX4_pushes (a1 : Int) (a2 : Int) (a3 : Int) (a4 : Int) (a5 : Int) (c : CC) : Option (Int × CC) :=
  gd ((0 : Int) ≤ a2 ∧ a2 < 7300) <|
   bd (c 152 (Int.toNat a2)) fun v6_1 =>
   gd ((0 : Int) ≤ a3 ∧ a3 < 144) <|
   if c 119 (Int.toNat a3) = 4 then
  (gd ((2 : Int) ≠ 0 ∧ inR (Int.tdiv v6_1 2)) <|
   fX4_pushes_j27 a1 a2 a3 a4 a5 v6_1 (Int.tdiv v6_1 2) c)
  else
  (fX4_pushes_j27 a1 a2 a3 a4 a5 v6_1 v6_1 c)
theorem sX4_pushes {G : GG} {Γ : Cx} {r : Vv × Wd} {sz sl : Nat} {td : TT} (a1 : Int) (a2 : Int) (a3 : Int) (a4 : Int) (a5 : Int) (c : CC) : Sm (fX4_pushes a1 a2 a3 a4 a5 c) (fun x => r = ((0, x.1), (sz, sl, tt td, cv x.2))) (WP G Γ muX4_pushes r 0 [some (2, 111), some (0, a1), some (0, a2), some (0, a3), some (0, a4), some (0, a5), none, none, none] [] (sz, sl, tt td, cv c)) := by
  unfold fX4_pushes
  refine s_aload_n (pc := 0) dX4_pushes_0 rfl ?_
  refine s_get (pc := 1) (a := 111) (v := 152) flX4_139 (t_111 _) rfl (g_111_60 _) rfl dX4_pushes_1 ?_
  refine s_iload_n (pc := 4) dX4_pushes_4 rfl ?_
  refine s_ialdM (pc := 5) (a := 152) (t_152 _) rfl r_152 dX4_pushes_5 ?_
  refine s_istore (pc := 6) (lf := fun x => [some (2, 111), some (0, a1), some (0, a2), some (0, a3), some (0, a4), some (0, a5), some (0, x), none, none]) dX4_pushes_6 (fun _ => rfl) (Nat.le_of_ble_eq_true rfl) (fun v6_1 => ?_)
  refine s_aload_n (pc := 8) dX4_pushes_8 rfl ?_
  refine s_get (pc := 9) (a := 111) (v := 119) flX4_39 (t_111 _) rfl (g_111_10 _) rfl dX4_pushes_9 ?_
  refine s_iload_n (pc := 12) dX4_pushes_12 rfl ?_
  refine s_ialdM (pc := 13) (a := 119) (t_119 _) rfl r_119 dX4_pushes_13 ?_
  refine s_iconst (pc := 14) dX4_pushes_14 ?_
  refine s_icmp_ne (pc := 15) (tgt := 25) dX4_pushes_15 rfl ?_ ?_
  · refine s_iload (pc := 25) dX4_pushes_25 rfl ?_
    exact sX4_pushes_j27 a1 a2 a3 a4 a5 v6_1 v6_1 c
  refine s_iload (pc := 18) dX4_pushes_18 rfl ?_
  refine s_iconst (pc := 20) dX4_pushes_20 ?_
  refine s_idiv (pc := 21) dX4_pushes_21 ?_
  refine s_goto (pc := 22) (tgt := 27) dX4_pushes_22 rfl ?_
  exact sX4_pushes_j27 a1 a2 a3 a4 a5 v6_1 (Int.tdiv v6_1 2) c
theorem kX4_pushes {G : GG} {sz sl : Nat} {td : TT} (a1 : Int) (a2 : Int) (a3 : Int) (a4 : Int) (a5 : Int) (c : CC) (x : (Int × CC)) (h : fX4_pushes a1 a2 a3 a4 a5 c = some x) : Ct G yX4_pushes muX4_pushes [(2, 111), (0, a1), (0, a2), (0, a3), (0, a4), (0, a5)] (sz, sl, tt td, cv c) ((0, x.1), (sz, sl, tt td, cv x.2)) :=
  Ct.of (n := 3) (ls0 := [some (2, 111), some (0, a1), some (0, a2), some (0, a3), some (0, a4), some (0, a5), none, none, none]) (by decide) rfl rfl ⟨by decide, by decide⟩ (Nat.le_of_ble_eq_true rfl) rfl ⟨Nat.le_refl _, Nat.le_refl _⟩ (show (0 : Nat) ≠ 9 by decide) (fun Γ => sX4_pushes a1 a2 a3 a4 a5 c x h rfl)
theorem fpX4_566 (nm : String) : FP RX4 566 3 82 nm := ⟨_, _, _, cf3, by decide, q1326, Or.inl rfl⟩
theorem fpX4_566t : fty 3 82 ≠ .boolean ∧ fty 3 82 ≠ .byte ∧ fty 3 82 ≠ .char ∧ fty 3 82 ≠ .short := by decide
theorem flX4_170 : FL RX4 170 3 76 := ⟨_, _, _, cf3, by decide, q1320⟩
theorem flX4_182 : FL RX4 182 3 80 := ⟨_, _, _, cf3, by decide, q1324⟩
theorem flX4_566 : FL RX4 566 3 82 := ⟨_, _, _, cf3, by decide, q1326⟩
theorem flX4_173 : FL RX4 173 3 77 := ⟨_, _, _, cf3, by decide, q1321⟩
theorem mvX4_569 : MV RX4 569 RX4 yX4_pushes muX4_pushes 5 := ⟨lw_V q1907 q1909 qs119 q129 q1910, by decide +kernel, by decide⟩
abbrev muX4_writes : MI := (cX4_writes, RX4, 7, none, 3, "writes")
abbrev gX4_writes_l7 (G : GG) (Γ : Cx) (r : Vv × Wd) (sz sl : Nat) (td : TT)  : (Int × CC) → Prop := fun s => WP G Γ muX4_writes r 7 [some (2, 111), none, some (0, s.1), none, none, none, none] [] (sz, sl, tt td, cv s.2)
abbrev eX4_writes_l7 (G : GG) (Γ : Cx) (r : Vv × Wd) (sz sl : Nat) (td : TT)  : (CC) → Prop := (fun s => WP G Γ muX4_writes r 131 [none, none, none, none, none, none, none] [] (sz, sl, tt td, cv s))
noncomputable def fX4_writes_l7 (v2 : Int) (c : CC) : Option ((Int × CC) ⊕ (CC)) :=
  if (0 : Int) < v2 then
  (gd (inR (v2 + -1)) <| bd (v2 + -1) fun v2_2 =>
   gd ((0 : Int) ≤ v2_2 ∧ v2_2 < 128) <|
   bd (c 165 (Int.toNat v2_2)) fun v3_3 =>
   gd ((26 : Int) ≠ 0 ∧ inR (Int.tdiv v3_3 26)) <|
   gd ((8 : Int) ≠ 0 ∧ inR (Int.tdiv (Int.tdiv v3_3 26) 8)) <|
   bd (Int.tdiv (Int.tdiv v3_3 26) 8) fun v4_4 =>
   gd ((26 : Int) ≠ 0 ∧ inR (Int.tmod v3_3 26)) <|
   bd (Int.tmod v3_3 26) fun v5_5 =>
   gd ((0 : Int) ≤ v3_3 ∧ v3_3 < 4992) <|
   cl (fX4_at24 (c 162 (Int.toNat v3_3)) c) fun p_6 =>
   gd ((0 : Int) ≤ v3_3 ∧ v3_3 < 4992) <|
   gd ((0 : Int) ≤ c 111 82 ∧ c 111 82 < 100) <| bd (up2 c 166 (Int.toNat (c 111 82)) (c 162 (Int.toNat v3_3))) fun c_7 =>
   gd (inR ((c_7 111 82) + 1)) <|
   bd (up2 c_7 111 82 ((c_7 111 82) + 1)) fun c_8 =>
   gd ((0 : Int) ≤ p_6 ∧ p_6 < 144) <|
   if c_8 119 (Int.toNat p_6) = 5 then
  (gd ((0 : Int) ≤ p_6 ∧ p_6 < 144) <|
   cl (fX4_at26 v4_4 (c_8 120 (Int.toNat p_6)) v5_5) fun p_10 =>
   gd ((0 : Int) ≤ v2_2 ∧ v2_2 < 128) <| bd (up2 c_8 165 (Int.toNat v2_2) p_10) fun c_11 =>
   gd (inR (v2_2 + 1)) <| bd (v2_2 + 1) fun v2_12 =>
   some (.inl (v2_12, c_11)))
  else
  (gd ((0 : Int) ≤ v3_3 ∧ v3_3 < 4992) <|
   cl (fX4_pushes v2_2 v4_4 p_6 (c_8 163 (Int.toNat v3_3)) v5_5 c_8) fun p_9 =>
   some (.inl (p_9.1, p_9.2))))
  else
  (some (.inr c))
theorem sX4_writes_l7 {G : GG} {Γ : Cx} {r : Vv × Wd} {sz sl : Nat} {td : TT} (v2 : Int) (c : CC) : Sm (fX4_writes_l7 v2 c) (fun x => Sum.elim (gX4_writes_l7 G Γ r sz sl td ) (eX4_writes_l7 G Γ r sz sl td ) x) (gX4_writes_l7 G Γ r sz sl td  (v2, c)) := by
  show Sm _ _ (WP G Γ muX4_writes r 7 [some (2, 111), none, some (0, v2), none, none, none, none] [] (sz, sl, tt td, cv c))
  unfold fX4_writes_l7
  refine s_iload_n (pc := 7) dX4_writes_7 rfl ?_
  refine s_if_le (pc := 8) (tgt := 131) dX4_writes_8 rfl ?_ ?_
  · refine s_wk [false, true, false, true, true, true, true] (ls' := [none, none, none, none, none, none, none]) rfl ?_
    exact Sm.some (fun h => h)
  refine s_iinc (pc := 11) (lf := fun x => [some (2, 111), none, some (0, x), none, none, none, none]) dX4_writes_11 rfl (fun _ => rfl) (Nat.le_of_ble_eq_true rfl) (fun v2_2 => ?_)
  refine s_aload_n (pc := 14) dX4_writes_14 rfl ?_
  refine s_get (pc := 15) (a := 111) (v := 165) flX4_179 (t_111 _) rfl (g_111_79 _) rfl dX4_writes_15 ?_
  refine s_iload_n (pc := 18) dX4_writes_18 rfl ?_
  refine s_ialdM (pc := 19) (a := 165) (t_165 _) rfl r_165 dX4_writes_19 ?_
  refine s_istore_n (pc := 20) (lf := fun x => [some (2, 111), none, some (0, v2_2), some (0, x), none, none, none]) dX4_writes_20 (fun _ => rfl) (Nat.le_of_ble_eq_true rfl) (fun v3_3 => ?_)
  refine s_iload_n (pc := 21) dX4_writes_21 rfl ?_
  refine s_bipush (pc := 22) dX4_writes_22 ?_
  refine s_idiv (pc := 24) dX4_writes_24 ?_
  refine s_bipush (pc := 25) dX4_writes_25 ?_
  refine s_idiv (pc := 27) dX4_writes_27 ?_
  refine s_istore (pc := 28) (lf := fun x => [some (2, 111), none, some (0, v2_2), some (0, v3_3), some (0, x), none, none]) dX4_writes_28 (fun _ => rfl) (Nat.le_of_ble_eq_true rfl) (fun v4_4 => ?_)
  refine s_iload_n (pc := 30) dX4_writes_30 rfl ?_
  refine s_bipush (pc := 31) dX4_writes_31 ?_
  refine s_irem (pc := 33) dX4_writes_33 ?_
  refine s_istore (pc := 34) (lf := fun x => [some (2, 111), none, some (0, v2_2), some (0, v3_3), some (0, v4_4), some (0, x), none]) dX4_writes_34 (fun _ => rfl) (Nat.le_of_ble_eq_true rfl) (fun v5_5 => ?_)
  refine s_aload_n (pc := 36) dX4_writes_36 rfl ?_
  refine s_aload_n (pc := 37) dX4_writes_37 rfl ?_
  refine s_get (pc := 38) (a := 111) (v := 162) flX4_170 (t_111 _) rfl (g_111_76 _) rfl dX4_writes_38 ?_
  refine s_iload_n (pc := 41) dX4_writes_41 rfl ?_
  refine s_ialdM (pc := 42) (a := 162) (t_162 _) rfl r_162 dX4_writes_42 ?_
  refine s_callV3 (pc := 43) (a := 111) (as := [(0, c 162 (Int.toNat v3_3))]) (st := []) (rv := fun b => ((0, b), (sz, sl, tt td, cv c))) (st3 := fun b => [(0, b)]) (w3 := fun b => (sz, sl, tt td, cv c)) mvX4_412 (fun b h => kX4_at24 (c 162 (Int.toNat v3_3)) c b h) rfl (by decide) (t_111 td) rfl rfl rfl (Nat.le_of_ble_eq_true rfl) (fun _ => Nat.le_of_ble_eq_true rfl) (fun _ => ⟨rfl, rfl⟩) dX4_writes_43 (fun p_6 => ?_)
  refine s_istoreD (pc := 46) (ls' := [some (2, 111), none, some (0, v2_2), some (0, v3_3), some (0, v4_4), some (0, v5_5), some (0, p_6)]) dX4_writes_46 rfl (Nat.le_of_ble_eq_true rfl) ?_
  refine s_aload_n (pc := 48) dX4_writes_48 rfl ?_
  refine s_get (pc := 49) (a := 111) (v := 166) flX4_182 (t_111 _) rfl (g_111_80 _) rfl dX4_writes_49 ?_
  refine s_aload_n (pc := 52) dX4_writes_52 rfl ?_
  refine s_get (pc := 53) (a := 111) (v := c 111 82) flX4_566 (t_111 _) rfl (g_111_82 _) rfl dX4_writes_53 ?_
  refine s_aload_n (pc := 56) dX4_writes_56 rfl ?_
  refine s_get (pc := 57) (a := 111) (v := 162) flX4_170 (t_111 _) rfl (g_111_76 _) rfl dX4_writes_57 ?_
  refine s_iload_n (pc := 60) dX4_writes_60 rfl ?_
  refine s_ialdM (pc := 61) (a := 162) (t_162 _) rfl r_162 dX4_writes_61 ?_
  refine s_iastM (pc := 62) (a := 166) (t_166 _) rfl kO_166 r_166 dX4_writes_62 (fun c_7 => ?_)
  refine s_aload_n (pc := 63) dX4_writes_63 rfl ?_
  refine s_dup (pc := 64) (by decide : ¬ (2 : Nat) = 1) dX4_writes_64 ?_
  refine s_get (pc := 65) (a := 111) (v := c_7 111 82) flX4_566 (t_111 _) rfl (g_111_82 _) rfl dX4_writes_65 ?_
  refine s_iconst (pc := 68) dX4_writes_68 ?_
  refine s_iadd (pc := 69) dX4_writes_69 ?_
  refine s_putM (pc := 70) (a := 111) (fpX4_566 _) (t_111 _) rfl kO_111 n_111_82 rfl (fpX4_566t) dX4_writes_70 (fun c_8 => ?_)
  refine s_aload_n (pc := 73) dX4_writes_73 rfl ?_
  refine s_get (pc := 74) (a := 111) (v := 119) flX4_39 (t_111 _) rfl (g_111_10 _) rfl dX4_writes_74 ?_
  refine s_iload (pc := 77) dX4_writes_77 rfl ?_
  refine s_ialdM (pc := 79) (a := 119) (t_119 _) rfl r_119 dX4_writes_79 ?_
  refine s_iconst (pc := 80) dX4_writes_80 ?_
  refine s_icmp_ne (pc := 81) (tgt := 110) dX4_writes_81 rfl ?_ ?_
  · refine s_aload_n (pc := 110) dX4_writes_110 rfl ?_
    refine s_iload_n (pc := 111) dX4_writes_111 rfl ?_
    refine s_iload (pc := 112) dX4_writes_112 rfl ?_
    refine s_iload (pc := 114) dX4_writes_114 rfl ?_
    refine s_aload_n (pc := 116) dX4_writes_116 rfl ?_
    refine s_get (pc := 117) (a := 111) (v := 163) flX4_173 (t_111 _) rfl (g_111_77 _) rfl dX4_writes_117 ?_
    refine s_iload_n (pc := 120) dX4_writes_120 rfl ?_
    refine s_ialdM (pc := 121) (a := 163) (t_163 _) rfl r_163 dX4_writes_121 ?_
    refine s_iload (pc := 122) dX4_writes_122 rfl ?_
    refine s_callV3 (pc := 124) (a := 111) (as := [(0, v2_2), (0, v4_4), (0, p_6), (0, c_8 163 (Int.toNat v3_3)), (0, v5_5)]) (st := []) (rv := fun b => ((0, b.1), (sz, sl, tt td, cv b.2))) (st3 := fun b => [(0, b.1)]) (w3 := fun b => (sz, sl, tt td, cv b.2)) mvX4_569 (fun b h => kX4_pushes v2_2 v4_4 p_6 (c_8 163 (Int.toNat v3_3)) v5_5 c_8 b h) rfl (by decide) (t_111 td) rfl rfl rfl (Nat.le_of_ble_eq_true rfl) (fun _ => Nat.le_of_ble_eq_true rfl) (fun _ => ⟨rfl, rfl⟩) dX4_writes_124 (fun p_9 => ?_)
    refine s_istore_nD (pc := 127) (ls' := [some (2, 111), none, some (0, p_9.1), some (0, v3_3), some (0, v4_4), some (0, v5_5), some (0, p_6)]) dX4_writes_127 rfl (Nat.le_of_ble_eq_true rfl) ?_
    refine s_goto (pc := 128) (tgt := 7) dX4_writes_128 rfl ?_
    refine s_wk [true, true, true, false, false, false, false] (ls' := [some (2, 111), none, some (0, p_9.1), none, none, none, none]) rfl ?_
    exact Sm.some (fun h => h)
  refine s_aload_n (pc := 84) dX4_writes_84 rfl ?_
  refine s_get (pc := 85) (a := 111) (v := 165) flX4_179 (t_111 _) rfl (g_111_79 _) rfl dX4_writes_85 ?_
  refine s_iload_n (pc := 88) dX4_writes_88 rfl ?_
  refine s_iload (pc := 89) dX4_writes_89 rfl ?_
  refine s_aload_n (pc := 91) dX4_writes_91 rfl ?_
  refine s_get (pc := 92) (a := 111) (v := 120) flX4_42 (t_111 _) rfl (g_111_11 _) rfl dX4_writes_92 ?_
  refine s_iload (pc := 95) dX4_writes_95 rfl ?_
  refine s_ialdM (pc := 97) (a := 120) (t_120 _) rfl r_120 dX4_writes_97 ?_
  refine s_iload (pc := 98) dX4_writes_98 rfl ?_
  refine s_callS3 (pc := 100) (as := [(0, v4_4), (0, c_8 120 (Int.toNat p_6)), (0, v5_5)]) (st := [(0, v2_2), (2, 165)]) (rv := fun b => ((0, b), (sz, sl, tt td, cv c_8))) (st3 := fun b => [(0, b), (0, v2_2), (2, 165)]) (w3 := fun b => (sz, sl, tt td, cv c_8)) msX4_556 (fun b h => kX4_at26 v4_4 (c_8 120 (Int.toNat p_6)) v5_5 c_8 b h) rfl (by decide) rfl (Nat.le_of_ble_eq_true rfl) (fun _ => Nat.le_of_ble_eq_true rfl) (fun _ => ⟨rfl, rfl⟩) dX4_writes_100 (fun p_10 => ?_)
  refine s_iastM (pc := 103) (a := 165) (t_165 _) rfl kO_165 r_165 dX4_writes_103 (fun c_11 => ?_)
  refine s_iinc (pc := 104) (lf := fun x => [some (2, 111), none, some (0, x), some (0, v3_3), some (0, v4_4), some (0, v5_5), some (0, p_6)]) dX4_writes_104 rfl (fun _ => rfl) (Nat.le_of_ble_eq_true rfl) (fun v2_12 => ?_)
  refine s_goto (pc := 107) (tgt := 128) dX4_writes_107 rfl ?_
  refine s_goto (pc := 128) (tgt := 7) dX4_writes_128 rfl ?_
  refine s_wk [true, true, true, false, false, false, false] (ls' := [some (2, 111), none, some (0, v2_12), none, none, none, none]) rfl ?_
  exact Sm.some (fun h => h)
noncomputable def fX4_writes (a1 : Int) (c : CC) : Option CC :=
  bd (up2 c 111 82 0) fun c_1 =>
   cl (wh (fun s => fX4_writes_l7  s.1 s.2) (a1, c_1)) (fun e_13 =>
  some e_13)
theorem sX4_writes {G : GG} {Γ : Cx} {r : Vv × Wd} {sz sl : Nat} {td : TT} (a1 : Int) (c : CC) : Sm (fX4_writes a1 c) (fun x => r = ((3, 0), (sz, sl, tt td, cv x))) (WP G Γ muX4_writes r 0 [some (2, 111), some (0, a1), none, none, none, none, none] [] (sz, sl, tt td, cv c)) := by
  unfold fX4_writes
  refine s_iload_n (pc := 0) dX4_writes_0 rfl ?_
  refine s_istore_nD (pc := 1) (ls' := [some (2, 111), some (0, a1), some (0, a1), none, none, none, none]) dX4_writes_1 rfl (Nat.le_of_ble_eq_true rfl) ?_
  refine s_aload_n (pc := 2) dX4_writes_2 rfl ?_
  refine s_iconst (pc := 3) dX4_writes_3 ?_
  refine s_putM (pc := 4) (a := 111) (fpX4_566 _) (t_111 _) rfl kO_111 n_111_82 rfl (fpX4_566t) dX4_writes_4 (fun c_1 => ?_)
  refine s_wk [true, false, true, true, true, true, true] (ls' := [some (2, 111), none, some (0, a1), none, none, none, none]) rfl ?_
  refine s_loop (g := gX4_writes_l7 G Γ r sz sl td ) (Ex := eX4_writes_l7 G Γ r sz sl td ) (s0 := (a1, c_1)) (fun s => sX4_writes_l7  s.1 s.2) ?_
  intro e_13
  show Sm _ _ (WP G Γ muX4_writes r 131 [none, none, none, none, none, none, none] [] (sz, sl, tt td, cv e_13))
  exact s_vret (pc := 131) dX4_writes_131 rfl (fun h => h)
theorem kX4_writes {G : GG} {sz sl : Nat} {td : TT} (a1 : Int) (c : CC) (x : CC) (h : fX4_writes a1 c = some x) : Ct G yX4_writes muX4_writes [(2, 111), (0, a1)] (sz, sl, tt td, cv c) ((3, 0), (sz, sl, tt td, cv x)) :=
  Ct.of (n := 5) (ls0 := [some (2, 111), some (0, a1), none, none, none, none, none]) (by decide) rfl rfl ⟨by decide, by decide⟩ (Nat.le_of_ble_eq_true rfl) rfl ⟨Nat.le_refl _, Nat.le_refl _⟩ (show (3 : Nat) ≠ 9 by decide) (fun Γ => sX4_writes a1 c x h rfl)
