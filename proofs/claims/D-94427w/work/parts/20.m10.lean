/-! LAYER 2: methods of HeldTongueModel, by gen/decomp.py -/
set_option maxRecDepth 100000
theorem mvX4_188 : MV RX4 188 RX4 yX4_copies muX4_copies 1 := ⟨lw_V q1240 q1242 qs55 q129 q1243, by decide +kernel, by decide⟩
abbrev muX4_image : MI := (cX4_image, RX4, 1, some .int, 2, "image")
noncomputable def fX4_image  (c : CC) : Option (Int × CC) :=
  cl (fX4_copies 1 c) fun p_1 =>
   some (p_1 112 2, p_1)
theorem sX4_image {G : GG} {Γ : Cx} {r : Vv × Wd} {sz sl : Nat} {td : TT}  (c : CC) : Sm (fX4_image  c) (fun x => r = ((0, x.1), (sz, sl, tt td, cv x.2))) (WP G Γ muX4_image r 0 [some (2, 111)] [] (sz, sl, tt td, cv c)) := by
  unfold fX4_image
  refine s_aload_n (pc := 0) dX4_image_0 rfl ?_
  refine s_iconst (pc := 1) dX4_image_1 ?_
  refine s_callV3 (pc := 2) (a := 111) (as := [(0, 1)]) (st := []) (rv := fun b => ((3, 0), (sz, sl, tt td, cv b))) (st3 := fun b => []) (w3 := fun b => (sz, sl, tt td, cv b)) mvX4_188 (fun b h => kX4_copies 1 c b h) rfl (by decide) (t_111 td) rfl rfl rfl (Nat.le_of_ble_eq_true rfl) (fun _ => Nat.le_of_ble_eq_true rfl) (fun _ => ⟨rfl, rfl⟩) dX4_image_2 (fun p_1 => ?_)
  refine s_aload_n (pc := 5) dX4_image_5 rfl ?_
  refine s_get (pc := 6) (a := 111) (v := 112) flX4_7 (t_111 _) rfl (g_111_0 _) rfl dX4_image_6 ?_
  refine s_iconst (pc := 9) dX4_image_9 ?_
  refine s_ialdML (pc := 10) (a := 112) 2 rfl (Nat.le_of_ble_eq_true rfl) (t_112 _) rfl r_112 dX4_image_10 ?_
  exact s_iret (pc := 11) dX4_image_11 rfl (fun h => h)
theorem kX4_image {G : GG} {sz sl : Nat} {td : TT}  (c : CC) (x : (Int × CC)) (h : fX4_image  c = some x) : Ct G yX4_image muX4_image [(2, 111)] (sz, sl, tt td, cv c) ((0, x.1), (sz, sl, tt td, cv x.2)) :=
  Ct.of (n := 0) (ls0 := [some (2, 111)]) (by decide) rfl rfl ⟨by decide, by decide⟩ (Nat.le_of_ble_eq_true rfl) rfl ⟨Nat.le_refl _, Nat.le_refl _⟩ (show (0 : Nat) ≠ 9 by decide) (fun Γ => sX4_image  c x h rfl)
abbrev muX4_back : MI := (cX4_back, RX4, 1, some .int, 2, "back")
noncomputable def fX4_back  (c : CC) : Option (Int × CC) :=
  cl (fX4_copies 0 c) fun p_1 =>
   some (p_1 112 2, p_1)
theorem sX4_back {G : GG} {Γ : Cx} {r : Vv × Wd} {sz sl : Nat} {td : TT}  (c : CC) : Sm (fX4_back  c) (fun x => r = ((0, x.1), (sz, sl, tt td, cv x.2))) (WP G Γ muX4_back r 0 [some (2, 111)] [] (sz, sl, tt td, cv c)) := by
  unfold fX4_back
  refine s_aload_n (pc := 0) dX4_back_0 rfl ?_
  refine s_iconst (pc := 1) dX4_back_1 ?_
  refine s_callV3 (pc := 2) (a := 111) (as := [(0, 0)]) (st := []) (rv := fun b => ((3, 0), (sz, sl, tt td, cv b))) (st3 := fun b => []) (w3 := fun b => (sz, sl, tt td, cv b)) mvX4_188 (fun b h => kX4_copies 0 c b h) rfl (by decide) (t_111 td) rfl rfl rfl (Nat.le_of_ble_eq_true rfl) (fun _ => Nat.le_of_ble_eq_true rfl) (fun _ => ⟨rfl, rfl⟩) dX4_back_2 (fun p_1 => ?_)
  refine s_aload_n (pc := 5) dX4_back_5 rfl ?_
  refine s_get (pc := 6) (a := 111) (v := 112) flX4_7 (t_111 _) rfl (g_111_0 _) rfl dX4_back_6 ?_
  refine s_iconst (pc := 9) dX4_back_9 ?_
  refine s_ialdML (pc := 10) (a := 112) 2 rfl (Nat.le_of_ble_eq_true rfl) (t_112 _) rfl r_112 dX4_back_10 ?_
  exact s_iret (pc := 11) dX4_back_11 rfl (fun h => h)
theorem kX4_back {G : GG} {sz sl : Nat} {td : TT}  (c : CC) (x : (Int × CC)) (h : fX4_back  c = some x) : Ct G yX4_back muX4_back [(2, 111)] (sz, sl, tt td, cv c) ((0, x.1), (sz, sl, tt td, cv x.2)) :=
  Ct.of (n := 0) (ls0 := [some (2, 111)]) (by decide) rfl rfl ⟨by decide, by decide⟩ (Nat.le_of_ble_eq_true rfl) rfl ⟨Nat.le_refl _, Nat.le_refl _⟩ (show (0 : Nat) ≠ 9 by decide) (fun Γ => sX4_back  c x h rfl)
abbrev muX4_about : MI := (cX4_about, RX4, 2, some .int, 2, "about")
noncomputable def fX4_about (a1 : Int) (c : CC) : Option Int :=
  if a1 = 0 then
  (some (c 112 0))
  else if a1 = 1 then
  (some (c 112 1))
  else if a1 = 2 then
  (some (c 112 2))
  else if a1 = 3 then
  (some (c 111 3))
  else if a1 = 4 then
  (cl (fX4_senses  c) fun p_6 =>
   some p_6)
  else (if a1 < 10 then
  (some (-2))
  else
  (gd (inR (a1 - 10)) <|
   cl (fX4_senses  c) fun p_7 =>
   if a1 - 10 < p_7 then
  (gd (inR (a1 - 10)) <|
   cl (fX4_at24 (a1 - 10) c) fun p_8 =>
   gd ((0 : Int) ≤ p_8 ∧ p_8 < 144) <|
   some (c 118 (Int.toNat p_8)))
  else
  (some (-2))))
theorem sX4_about {G : GG} {Γ : Cx} {r : Vv × Wd} {sz sl : Nat} {td : TT} (a1 : Int) (c : CC) : Sm (fX4_about a1 c) (fun x => r = ((0, x), (sz, sl, tt td, cv c))) (WP G Γ muX4_about r 0 [some (2, 111), some (0, a1)] [] (sz, sl, tt td, cv c)) := by
  unfold fX4_about
  refine s_iload_n (pc := 0) dX4_about_0 rfl ?_
  refine Sm.ite (fun hq_1 => ?_) (fun hq_1 => ?_)
  · refine s_tblIn (pc := 1) (tgt := 36) dX4_about_1 0 hq_1 (by decide) rfl rfl ?_
    refine s_aload_n (pc := 36) dX4_about_36 rfl ?_
    refine s_get (pc := 37) (a := 111) (v := 112) flX4_7 (t_111 _) rfl (g_111_0 _) rfl dX4_about_37 ?_
    refine s_iconst (pc := 40) dX4_about_40 ?_
    refine s_ialdML (pc := 41) (a := 112) 0 rfl (Nat.le_of_ble_eq_true rfl) (t_112 _) rfl r_112 dX4_about_41 ?_
    exact s_iret (pc := 42) dX4_about_42 rfl (fun h => h)
  refine Sm.ite (fun hq_2 => ?_) (fun hq_2 => ?_)
  · refine s_tblIn (pc := 1) (tgt := 43) dX4_about_1 1 hq_2 (by decide) rfl rfl ?_
    refine s_aload_n (pc := 43) dX4_about_43 rfl ?_
    refine s_get (pc := 44) (a := 111) (v := 112) flX4_7 (t_111 _) rfl (g_111_0 _) rfl dX4_about_44 ?_
    refine s_iconst (pc := 47) dX4_about_47 ?_
    refine s_ialdML (pc := 48) (a := 112) 1 rfl (Nat.le_of_ble_eq_true rfl) (t_112 _) rfl r_112 dX4_about_48 ?_
    exact s_iret (pc := 49) dX4_about_49 rfl (fun h => h)
  refine Sm.ite (fun hq_3 => ?_) (fun hq_3 => ?_)
  · refine s_tblIn (pc := 1) (tgt := 50) dX4_about_1 2 hq_3 (by decide) rfl rfl ?_
    refine s_aload_n (pc := 50) dX4_about_50 rfl ?_
    refine s_get (pc := 51) (a := 111) (v := 112) flX4_7 (t_111 _) rfl (g_111_0 _) rfl dX4_about_51 ?_
    refine s_iconst (pc := 54) dX4_about_54 ?_
    refine s_ialdML (pc := 55) (a := 112) 2 rfl (Nat.le_of_ble_eq_true rfl) (t_112 _) rfl r_112 dX4_about_55 ?_
    exact s_iret (pc := 56) dX4_about_56 rfl (fun h => h)
  refine Sm.ite (fun hq_4 => ?_) (fun hq_4 => ?_)
  · refine s_tblIn (pc := 1) (tgt := 57) dX4_about_1 3 hq_4 (by decide) rfl rfl ?_
    refine s_aload_n (pc := 57) dX4_about_57 rfl ?_
    refine s_get (pc := 58) (a := 111) (v := c 111 3) flX4_192 (t_111 _) rfl (g_111_3 _) rfl dX4_about_58 ?_
    exact s_iret (pc := 61) dX4_about_61 rfl (fun h => h)
  refine Sm.ite (fun hq_5 => ?_) (fun hq_5 => ?_)
  · refine s_tblIn (pc := 1) (tgt := 62) dX4_about_1 4 hq_5 (by decide) rfl rfl ?_
    refine s_aload_n (pc := 62) dX4_about_62 rfl ?_
    refine s_callV3 (pc := 63) (a := 111) (as := []) (st := []) (rv := fun b => ((0, b), (sz, sl, tt td, cv c))) (st3 := fun b => [(0, b)]) (w3 := fun b => (sz, sl, tt td, cv c)) mvX4_409 (fun b h => kX4_senses  c b h) rfl (by decide) (t_111 td) rfl rfl rfl (Nat.le_of_ble_eq_true rfl) (fun _ => Nat.le_of_ble_eq_true rfl) (fun _ => ⟨rfl, rfl⟩) dX4_about_63 (fun p_6 => ?_)
    exact s_iret (pc := 66) dX4_about_66 rfl (fun h => h)
  refine s_tblOut (pc := 1) (tgt := 67) dX4_about_1 (by omega) rfl ?_
  refine s_iload_n (pc := 67) dX4_about_67 rfl ?_
  refine s_bipush (pc := 68) dX4_about_68 ?_
  refine s_icmp_lt (pc := 70) (tgt := 100) dX4_about_70 rfl ?_ ?_
  · refine s_bipush (pc := 100) dX4_about_100 ?_
    exact s_iret (pc := 102) dX4_about_102 rfl (fun h => h)
  refine s_iload_n (pc := 73) dX4_about_73 rfl ?_
  refine s_bipush (pc := 74) dX4_about_74 ?_
  refine s_isub (pc := 76) dX4_about_76 ?_
  refine s_aload_n (pc := 77) dX4_about_77 rfl ?_
  refine s_callV3 (pc := 78) (a := 111) (as := []) (st := [(0, a1 - 10)]) (rv := fun b => ((0, b), (sz, sl, tt td, cv c))) (st3 := fun b => [(0, b), (0, a1 - 10)]) (w3 := fun b => (sz, sl, tt td, cv c)) mvX4_409 (fun b h => kX4_senses  c b h) rfl (by decide) (t_111 td) rfl rfl rfl (Nat.le_of_ble_eq_true rfl) (fun _ => Nat.le_of_ble_eq_true rfl) (fun _ => ⟨rfl, rfl⟩) dX4_about_78 (fun p_7 => ?_)
  refine s_icmp_ge (pc := 81) (tgt := 100) dX4_about_81 rfl ?_ ?_
  · refine s_bipush (pc := 100) dX4_about_100 ?_
    exact s_iret (pc := 102) dX4_about_102 rfl (fun h => h)
  refine s_aload_n (pc := 84) dX4_about_84 rfl ?_
  refine s_get (pc := 85) (a := 111) (v := 118) flX4_36 (t_111 _) rfl (g_111_9 _) rfl dX4_about_85 ?_
  refine s_aload_n (pc := 88) dX4_about_88 rfl ?_
  refine s_iload_n (pc := 89) dX4_about_89 rfl ?_
  refine s_bipush (pc := 90) dX4_about_90 ?_
  refine s_isub (pc := 92) dX4_about_92 ?_
  refine s_callV3 (pc := 93) (a := 111) (as := [(0, a1 - 10)]) (st := [(2, 118)]) (rv := fun b => ((0, b), (sz, sl, tt td, cv c))) (st3 := fun b => [(0, b), (2, 118)]) (w3 := fun b => (sz, sl, tt td, cv c)) mvX4_412 (fun b h => kX4_at24 (a1 - 10) c b h) rfl (by decide) (t_111 td) rfl rfl rfl (Nat.le_of_ble_eq_true rfl) (fun _ => Nat.le_of_ble_eq_true rfl) (fun _ => ⟨rfl, rfl⟩) dX4_about_93 (fun p_8 => ?_)
  refine s_ialdM (pc := 96) (a := 118) (t_118 _) rfl r_118 dX4_about_96 ?_
  refine s_goto (pc := 97) (tgt := 102) dX4_about_97 rfl ?_
  exact s_iret (pc := 102) dX4_about_102 rfl (fun h => h)
theorem kX4_about {G : GG} {sz sl : Nat} {td : TT} (a1 : Int) (c : CC) (x : Int) (h : fX4_about a1 c = some x) : Ct G yX4_about muX4_about [(2, 111), (0, a1)] (sz, sl, tt td, cv c) ((0, x), (sz, sl, tt td, cv c)) :=
  Ct.of (n := 0) (ls0 := [some (2, 111), some (0, a1)]) (by decide) rfl rfl ⟨by decide, by decide⟩ (Nat.le_of_ble_eq_true rfl) rfl ⟨Nat.le_refl _, Nat.le_refl _⟩ (show (0 : Nat) ≠ 9 by decide) (fun Γ => sX4_about a1 c x h rfl)
