/-! LAYER 2: methods of HeldTongueModel, by gen/decomp.py -/
set_option maxRecDepth 100000
abbrev muX4_at24 : MI := (cX4_at24, RX4, 2, some .int, 1, "at24")
noncomputable def fX4_at24 (a1 : Int) (c : CC) : Option Int :=
  gd (inR (24 * (c 112 1))) <|
   gd (inR ((24 * (c 112 1)) + a1)) <|
   some ((24 * (c 112 1)) + a1)
theorem sX4_at24 {G : GG} {Γ : Cx} {r : Vv × Wd} {sz sl : Nat} {td : TT} (a1 : Int) (c : CC) : Sm (fX4_at24 a1 c) (fun x => r = ((0, x), (sz, sl, tt td, cv c))) (WP G Γ muX4_at24 r 0 [some (2, 111), some (0, a1)] [] (sz, sl, tt td, cv c)) := by
  unfold fX4_at24
  refine s_bipush (pc := 0) dX4_at24_0 ?_
  refine s_aload_n (pc := 2) dX4_at24_2 rfl ?_
  refine s_get (pc := 3) (a := 111) (v := 112) flX4_7 (t_111 _) rfl (g_111_0 _) rfl dX4_at24_3 ?_
  refine s_iconst (pc := 6) dX4_at24_6 ?_
  refine s_ialdML (pc := 7) (a := 112) 1 rfl (Nat.le_of_ble_eq_true rfl) (t_112 _) rfl r_112 dX4_at24_7 ?_
  refine s_imul (pc := 8) dX4_at24_8 ?_
  refine s_iload_n (pc := 9) dX4_at24_9 rfl ?_
  refine s_iadd (pc := 10) dX4_at24_10 ?_
  exact s_iret (pc := 11) dX4_at24_11 rfl (fun h => h)
theorem kX4_at24 {G : GG} {sz sl : Nat} {td : TT} (a1 : Int) (c : CC) (x : Int) (h : fX4_at24 a1 c = some x) : Ct G yX4_at24 muX4_at24 [(2, 111), (0, a1)] (sz, sl, tt td, cv c) ((0, x), (sz, sl, tt td, cv c)) :=
  Ct.of (n := 0) (ls0 := [some (2, 111), some (0, a1)]) (by decide) rfl rfl ⟨by decide, by decide⟩ (Nat.le_of_ble_eq_true rfl) rfl ⟨Nat.le_refl _, Nat.le_refl _⟩ (show (0 : Nat) ≠ 9 by decide) (fun Γ => sX4_at24 a1 c x h rfl)
abbrev muX4_say : MI := (cX4_say, RX4, 2, some .int, 2, "say")
noncomputable def fX4_say (a1 : Int) (c : CC) : Option (Int × CC) :=
  cl (fX4_in a1 0 19) fun p_1 =>
   if p_1 = 0 then
  (some (-1, c))
  else
  (if c 112 2 = 24 then
  (some (-1, c))
  else
  (gd (inR (10 + (c 112 2))) <|
   gd ((0 : Int) ≤ 10 + (c 112 2) ∧ 10 + (c 112 2) < 40) <| bd (up2 c 112 (Int.toNat (10 + (c 112 2))) a1) fun c_2 =>
   gd (inR ((c_2 112 2) + 1)) <|
   bd (up2 c_2 112 2 ((c_2 112 2) + 1)) fun c_3 =>
   some (c_3 112 2, c_3)))
theorem sX4_say {G : GG} {Γ : Cx} {r : Vv × Wd} {sz sl : Nat} {td : TT} (a1 : Int) (c : CC) : Sm (fX4_say a1 c) (fun x => r = ((0, x.1), (sz, sl, tt td, cv x.2))) (WP G Γ muX4_say r 0 [some (2, 111), some (0, a1)] [] (sz, sl, tt td, cv c)) := by
  unfold fX4_say
  refine s_iload_n (pc := 0) dX4_say_0 rfl ?_
  refine s_iconst (pc := 1) dX4_say_1 ?_
  refine s_bipush (pc := 2) dX4_say_2 ?_
  refine s_callS3 (pc := 4) (as := [(0, a1), (0, 0), (0, 19)]) (st := []) (rv := fun b => ((0, b), (sz, sl, tt td, cv c))) (st3 := fun b => [(0, b)]) (w3 := fun b => (sz, sl, tt td, cv c)) msX4_199 (fun b h => kX4_in a1 0 19 c b h) rfl (by decide) rfl (Nat.le_of_ble_eq_true rfl) (fun _ => Nat.le_of_ble_eq_true rfl) (fun _ => ⟨rfl, rfl⟩) dX4_say_4 (fun p_1 => ?_)
  refine s_if_eq (pc := 7) (tgt := 21) dX4_say_7 rfl ?_ ?_
  · refine s_iconst (pc := 21) dX4_say_21 ?_
    exact s_iret (pc := 22) dX4_say_22 rfl (fun h => h)
  refine s_aload_n (pc := 10) dX4_say_10 rfl ?_
  refine s_get (pc := 11) (a := 111) (v := 112) flX4_7 (t_111 _) rfl (g_111_0 _) rfl dX4_say_11 ?_
  refine s_iconst (pc := 14) dX4_say_14 ?_
  refine s_ialdML (pc := 15) (a := 112) 2 rfl (Nat.le_of_ble_eq_true rfl) (t_112 _) rfl r_112 dX4_say_15 ?_
  refine s_bipush (pc := 16) dX4_say_16 ?_
  refine s_icmp_ne (pc := 18) (tgt := 23) dX4_say_18 rfl ?_ ?_
  · refine s_aload_n (pc := 23) dX4_say_23 rfl ?_
    refine s_get (pc := 24) (a := 111) (v := 112) flX4_7 (t_111 _) rfl (g_111_0 _) rfl dX4_say_24 ?_
    refine s_bipush (pc := 27) dX4_say_27 ?_
    refine s_aload_n (pc := 29) dX4_say_29 rfl ?_
    refine s_get (pc := 30) (a := 111) (v := 112) flX4_7 (t_111 _) rfl (g_111_0 _) rfl dX4_say_30 ?_
    refine s_iconst (pc := 33) dX4_say_33 ?_
    refine s_ialdML (pc := 34) (a := 112) 2 rfl (Nat.le_of_ble_eq_true rfl) (t_112 _) rfl r_112 dX4_say_34 ?_
    refine s_iadd (pc := 35) dX4_say_35 ?_
    refine s_iload_n (pc := 36) dX4_say_36 rfl ?_
    refine s_iastM (pc := 37) (a := 112) (t_112 _) rfl kO_112 r_112 dX4_say_37 (fun c_2 => ?_)
    refine s_aload_n (pc := 38) dX4_say_38 rfl ?_
    refine s_get (pc := 39) (a := 111) (v := 112) flX4_7 (t_111 _) rfl (g_111_0 _) rfl dX4_say_39 ?_
    refine s_iconst (pc := 42) dX4_say_42 ?_
    refine s_dup2 (pc := 43) (by decide : ¬ (0 : Nat) = 1) (by decide : ¬ (2 : Nat) = 1) dX4_say_43 ?_
    refine s_ialdML (pc := 44) (a := 112) 2 rfl (Nat.le_of_ble_eq_true rfl) (t_112 _) rfl r_112 dX4_say_44 ?_
    refine s_iconst (pc := 45) dX4_say_45 ?_
    refine s_iadd (pc := 46) dX4_say_46 ?_
    refine s_iastML (pc := 47) (a := 112) 2 rfl (Nat.le_of_ble_eq_true rfl) (t_112 _) rfl kO_112 r_112 dX4_say_47 (fun c_3 => ?_)
    refine s_aload_n (pc := 48) dX4_say_48 rfl ?_
    refine s_get (pc := 49) (a := 111) (v := 112) flX4_7 (t_111 _) rfl (g_111_0 _) rfl dX4_say_49 ?_
    refine s_iconst (pc := 52) dX4_say_52 ?_
    refine s_ialdML (pc := 53) (a := 112) 2 rfl (Nat.le_of_ble_eq_true rfl) (t_112 _) rfl r_112 dX4_say_53 ?_
    exact s_iret (pc := 54) dX4_say_54 rfl (fun h => h)
  refine s_iconst (pc := 21) dX4_say_21 ?_
  exact s_iret (pc := 22) dX4_say_22 rfl (fun h => h)
theorem kX4_say {G : GG} {sz sl : Nat} {td : TT} (a1 : Int) (c : CC) (x : (Int × CC)) (h : fX4_say a1 c = some x) : Ct G yX4_say muX4_say [(2, 111), (0, a1)] (sz, sl, tt td, cv c) ((0, x.1), (sz, sl, tt td, cv x.2)) :=
  Ct.of (n := 0) (ls0 := [some (2, 111), some (0, a1)]) (by decide) rfl rfl ⟨by decide, by decide⟩ (Nat.le_of_ble_eq_true rfl) rfl ⟨Nat.le_refl _, Nat.le_refl _⟩ (show (0 : Nat) ≠ 9 by decide) (fun Γ => sX4_say a1 c x h rfl)
abbrev muX4_unsay : MI := (cX4_unsay, RX4, 2, some .int, 2, "unsay")
noncomputable def fX4_unsay (a1 : Int) (c : CC) : Option (Int × CC) :=
  cl (fX4_in a1 0 (c 112 2)) fun p_1 =>
   if p_1 = 0 then
  (some (-1, c))
  else
  (gd (inR ((c 112 2) - a1)) <|
   bd (up2 c 112 2 ((c 112 2) - a1)) fun c_2 =>
   some (c_2 112 2, c_2))
theorem sX4_unsay {G : GG} {Γ : Cx} {r : Vv × Wd} {sz sl : Nat} {td : TT} (a1 : Int) (c : CC) : Sm (fX4_unsay a1 c) (fun x => r = ((0, x.1), (sz, sl, tt td, cv x.2))) (WP G Γ muX4_unsay r 0 [some (2, 111), some (0, a1)] [] (sz, sl, tt td, cv c)) := by
  unfold fX4_unsay
  refine s_iload_n (pc := 0) dX4_unsay_0 rfl ?_
  refine s_iconst (pc := 1) dX4_unsay_1 ?_
  refine s_aload_n (pc := 2) dX4_unsay_2 rfl ?_
  refine s_get (pc := 3) (a := 111) (v := 112) flX4_7 (t_111 _) rfl (g_111_0 _) rfl dX4_unsay_3 ?_
  refine s_iconst (pc := 6) dX4_unsay_6 ?_
  refine s_ialdML (pc := 7) (a := 112) 2 rfl (Nat.le_of_ble_eq_true rfl) (t_112 _) rfl r_112 dX4_unsay_7 ?_
  refine s_callS3 (pc := 8) (as := [(0, a1), (0, 0), (0, c 112 2)]) (st := []) (rv := fun b => ((0, b), (sz, sl, tt td, cv c))) (st3 := fun b => [(0, b)]) (w3 := fun b => (sz, sl, tt td, cv c)) msX4_199 (fun b h => kX4_in a1 0 (c 112 2) c b h) rfl (by decide) rfl (Nat.le_of_ble_eq_true rfl) (fun _ => Nat.le_of_ble_eq_true rfl) (fun _ => ⟨rfl, rfl⟩) dX4_unsay_8 (fun p_1 => ?_)
  refine s_if_ne (pc := 11) (tgt := 16) dX4_unsay_11 rfl ?_ ?_
  · refine s_aload_n (pc := 16) dX4_unsay_16 rfl ?_
    refine s_get (pc := 17) (a := 111) (v := 112) flX4_7 (t_111 _) rfl (g_111_0 _) rfl dX4_unsay_17 ?_
    refine s_iconst (pc := 20) dX4_unsay_20 ?_
    refine s_dup2 (pc := 21) (by decide : ¬ (0 : Nat) = 1) (by decide : ¬ (2 : Nat) = 1) dX4_unsay_21 ?_
    refine s_ialdML (pc := 22) (a := 112) 2 rfl (Nat.le_of_ble_eq_true rfl) (t_112 _) rfl r_112 dX4_unsay_22 ?_
    refine s_iload_n (pc := 23) dX4_unsay_23 rfl ?_
    refine s_isub (pc := 24) dX4_unsay_24 ?_
    refine s_iastML (pc := 25) (a := 112) 2 rfl (Nat.le_of_ble_eq_true rfl) (t_112 _) rfl kO_112 r_112 dX4_unsay_25 (fun c_2 => ?_)
    refine s_aload_n (pc := 26) dX4_unsay_26 rfl ?_
    refine s_get (pc := 27) (a := 111) (v := 112) flX4_7 (t_111 _) rfl (g_111_0 _) rfl dX4_unsay_27 ?_
    refine s_iconst (pc := 30) dX4_unsay_30 ?_
    refine s_ialdML (pc := 31) (a := 112) 2 rfl (Nat.le_of_ble_eq_true rfl) (t_112 _) rfl r_112 dX4_unsay_31 ?_
    exact s_iret (pc := 32) dX4_unsay_32 rfl (fun h => h)
  refine s_iconst (pc := 14) dX4_unsay_14 ?_
  exact s_iret (pc := 15) dX4_unsay_15 rfl (fun h => h)
theorem kX4_unsay {G : GG} {sz sl : Nat} {td : TT} (a1 : Int) (c : CC) (x : (Int × CC)) (h : fX4_unsay a1 c = some x) : Ct G yX4_unsay muX4_unsay [(2, 111), (0, a1)] (sz, sl, tt td, cv c) ((0, x.1), (sz, sl, tt td, cv x.2)) :=
  Ct.of (n := 0) (ls0 := [some (2, 111), some (0, a1)]) (by decide) rfl rfl ⟨by decide, by decide⟩ (Nat.le_of_ble_eq_true rfl) rfl ⟨Nat.le_refl _, Nat.le_refl _⟩ (show (0 : Nat) ≠ 9 by decide) (fun Γ => sX4_unsay a1 c x h rfl)
abbrev muX4_word : MI := (cX4_word, RX4, 2, some .int, 2, "word")
noncomputable def fX4_word (a1 : Int) (c : CC) : Option Int :=
  gd (inR ((c 112 2) - 1)) <|
   cl (fX4_in a1 0 ((c 112 2) - 1)) fun p_1 =>
   if p_1 = 0 then
  (some (-1))
  else
  (gd (inR (10 + a1)) <|
   gd ((0 : Int) ≤ 10 + a1 ∧ 10 + a1 < 40) <|
   some (c 112 (Int.toNat (10 + a1))))
theorem sX4_word {G : GG} {Γ : Cx} {r : Vv × Wd} {sz sl : Nat} {td : TT} (a1 : Int) (c : CC) : Sm (fX4_word a1 c) (fun x => r = ((0, x), (sz, sl, tt td, cv c))) (WP G Γ muX4_word r 0 [some (2, 111), some (0, a1)] [] (sz, sl, tt td, cv c)) := by
  unfold fX4_word
  refine s_iload_n (pc := 0) dX4_word_0 rfl ?_
  refine s_iconst (pc := 1) dX4_word_1 ?_
  refine s_aload_n (pc := 2) dX4_word_2 rfl ?_
  refine s_get (pc := 3) (a := 111) (v := 112) flX4_7 (t_111 _) rfl (g_111_0 _) rfl dX4_word_3 ?_
  refine s_iconst (pc := 6) dX4_word_6 ?_
  refine s_ialdML (pc := 7) (a := 112) 2 rfl (Nat.le_of_ble_eq_true rfl) (t_112 _) rfl r_112 dX4_word_7 ?_
  refine s_iconst (pc := 8) dX4_word_8 ?_
  refine s_isub (pc := 9) dX4_word_9 ?_
  refine s_callS3 (pc := 10) (as := [(0, a1), (0, 0), (0, (c 112 2) - 1)]) (st := []) (rv := fun b => ((0, b), (sz, sl, tt td, cv c))) (st3 := fun b => [(0, b)]) (w3 := fun b => (sz, sl, tt td, cv c)) msX4_199 (fun b h => kX4_in a1 0 ((c 112 2) - 1) c b h) rfl (by decide) rfl (Nat.le_of_ble_eq_true rfl) (fun _ => Nat.le_of_ble_eq_true rfl) (fun _ => ⟨rfl, rfl⟩) dX4_word_10 (fun p_1 => ?_)
  refine s_if_eq (pc := 13) (tgt := 28) dX4_word_13 rfl ?_ ?_
  · refine s_iconst (pc := 28) dX4_word_28 ?_
    exact s_iret (pc := 29) dX4_word_29 rfl (fun h => h)
  refine s_aload_n (pc := 16) dX4_word_16 rfl ?_
  refine s_get (pc := 17) (a := 111) (v := 112) flX4_7 (t_111 _) rfl (g_111_0 _) rfl dX4_word_17 ?_
  refine s_bipush (pc := 20) dX4_word_20 ?_
  refine s_iload_n (pc := 22) dX4_word_22 rfl ?_
  refine s_iadd (pc := 23) dX4_word_23 ?_
  refine s_ialdM (pc := 24) (a := 112) (t_112 _) rfl r_112 dX4_word_24 ?_
  refine s_goto (pc := 25) (tgt := 29) dX4_word_25 rfl ?_
  exact s_iret (pc := 29) dX4_word_29 rfl (fun h => h)
theorem kX4_word {G : GG} {sz sl : Nat} {td : TT} (a1 : Int) (c : CC) (x : Int) (h : fX4_word a1 c = some x) : Ct G yX4_word muX4_word [(2, 111), (0, a1)] (sz, sl, tt td, cv c) ((0, x), (sz, sl, tt td, cv c)) :=
  Ct.of (n := 0) (ls0 := [some (2, 111), some (0, a1)]) (by decide) rfl rfl ⟨by decide, by decide⟩ (Nat.le_of_ble_eq_true rfl) rfl ⟨Nat.le_refl _, Nat.le_refl _⟩ (show (0 : Nat) ≠ 9 by decide) (fun Γ => sX4_word a1 c x h rfl)
theorem flX4_388 : FL RX4 388 3 45 := ⟨_, _, _, cf3, by decide, q1289⟩
abbrev muX4_plus : MI := (cX4_plus, RX4, 7, some .long, 1, "plus")
noncomputable def fX4_plus (a1 : Int) (a3 : Int) (c : CC) : Option Int :=
  gd (inL (a1 + a3)) <|
   bd (a1 + a3) fun v5_1 =>
   if c 111 45 = 0 then
  (if (3000000000 : Int) < v5_1 then
  (some 3000000000)
  else
  (some v5_1))
  else
  (gd (c 111 45 ≠ 0 ∧ inL (Int.tmod v5_1 (c 111 45))) <|
   some (Int.tmod v5_1 (c 111 45)))
theorem sX4_plus {G : GG} {Γ : Cx} {r : Vv × Wd} {sz sl : Nat} {td : TT} (a1 : Int) (a3 : Int) (c : CC) : Sm (fX4_plus a1 a3 c) (fun x => r = ((1, x), (sz, sl, tt td, cv c))) (WP G Γ muX4_plus r 0 [some (2, 111), some (1, a1), none, some (1, a3), none, none, none] [] (sz, sl, tt td, cv c)) := by
  unfold fX4_plus
  refine s_lload_n (pc := 0) dX4_plus_0 rfl ?_
  refine s_lload_n (pc := 1) dX4_plus_1 rfl ?_
  refine s_ladd (pc := 2) dX4_plus_2 ?_
  refine s_lstore (pc := 3) (lf := fun x => [some (2, 111), some (1, a1), none, some (1, a3), none, some (1, x), none]) dX4_plus_3 (fun _ => rfl) (Nat.le_of_ble_eq_true rfl) (fun v5_1 => ?_)
  refine s_aload_n (pc := 5) dX4_plus_5 rfl ?_
  refine s_get (pc := 6) (a := 111) (v := c 111 45) flX4_388 (t_111 _) rfl (g_111_45 _) rfl dX4_plus_6 ?_
  refine s_lconst0 (pc := 9) dX4_plus_9 ?_
  refine s_lcmp_ne (pc := 10) (tgt := 34) dX4_plus_10 dX4_plus_11 rfl ?_ ?_
  · refine s_lload (pc := 34) dX4_plus_34 rfl ?_
    refine s_aload_n (pc := 36) dX4_plus_36 rfl ?_
    refine s_get (pc := 37) (a := 111) (v := c 111 45) flX4_388 (t_111 _) rfl (g_111_45 _) rfl dX4_plus_37 ?_
    refine s_lrem (pc := 40) dX4_plus_40 ?_
    exact s_lret (pc := 41) dX4_plus_41 rfl (fun h => h)
  refine s_lload (pc := 14) dX4_plus_14 rfl ?_
  refine s_ldc2 (pc := 16) (z := 3000000000) q1701 dX4_plus_16 ?_
  refine s_lcmp_le (pc := 19) (tgt := 29) dX4_plus_19 dX4_plus_20 rfl ?_ ?_
  · refine s_lload (pc := 29) dX4_plus_29 rfl ?_
    refine s_goto (pc := 31) (tgt := 41) dX4_plus_31 rfl ?_
    exact s_lret (pc := 41) dX4_plus_41 rfl (fun h => h)
  refine s_ldc2 (pc := 23) (z := 3000000000) q1701 dX4_plus_23 ?_
  refine s_goto (pc := 26) (tgt := 41) dX4_plus_26 rfl ?_
  exact s_lret (pc := 41) dX4_plus_41 rfl (fun h => h)
theorem kX4_plus {G : GG} {sz sl : Nat} {td : TT} (a1 : Int) (a3 : Int) (c : CC) (x : Int) (h : fX4_plus a1 a3 c = some x) : Ct G yX4_plus muX4_plus [(2, 111), (1, a1), (1, a3)] (sz, sl, tt td, cv c) ((1, x), (sz, sl, tt td, cv c)) :=
  Ct.of (n := 2) (ls0 := [some (2, 111), some (1, a1), none, some (1, a3), none, none, none]) (by decide) rfl rfl ⟨by decide, by decide⟩ (Nat.le_of_ble_eq_true rfl) rfl ⟨Nat.le_refl _, Nat.le_refl _⟩ (show (1 : Nat) ≠ 9 by decide) (fun Γ => sX4_plus a1 a3 c x h rfl)
abbrev muX4_times : MI := (cX4_times, RX4, 7, some .long, 1, "times")
noncomputable def fX4_times (a1 : Int) (a3 : Int) (c : CC) : Option Int :=
  gd (inL (a1 * a3)) <|
   bd (a1 * a3) fun v5_1 =>
   if c 111 45 = 0 then
  (if (3000000000 : Int) < v5_1 then
  (some 3000000000)
  else
  (some v5_1))
  else
  (gd (c 111 45 ≠ 0 ∧ inL (Int.tmod v5_1 (c 111 45))) <|
   some (Int.tmod v5_1 (c 111 45)))
theorem sX4_times {G : GG} {Γ : Cx} {r : Vv × Wd} {sz sl : Nat} {td : TT} (a1 : Int) (a3 : Int) (c : CC) : Sm (fX4_times a1 a3 c) (fun x => r = ((1, x), (sz, sl, tt td, cv c))) (WP G Γ muX4_times r 0 [some (2, 111), some (1, a1), none, some (1, a3), none, none, none] [] (sz, sl, tt td, cv c)) := by
  unfold fX4_times
  refine s_lload_n (pc := 0) dX4_times_0 rfl ?_
  refine s_lload_n (pc := 1) dX4_times_1 rfl ?_
  refine s_lmul (pc := 2) dX4_times_2 ?_
  refine s_lstore (pc := 3) (lf := fun x => [some (2, 111), some (1, a1), none, some (1, a3), none, some (1, x), none]) dX4_times_3 (fun _ => rfl) (Nat.le_of_ble_eq_true rfl) (fun v5_1 => ?_)
  refine s_aload_n (pc := 5) dX4_times_5 rfl ?_
  refine s_get (pc := 6) (a := 111) (v := c 111 45) flX4_388 (t_111 _) rfl (g_111_45 _) rfl dX4_times_6 ?_
  refine s_lconst0 (pc := 9) dX4_times_9 ?_
  refine s_lcmp_ne (pc := 10) (tgt := 34) dX4_times_10 dX4_times_11 rfl ?_ ?_
  · refine s_lload (pc := 34) dX4_times_34 rfl ?_
    refine s_aload_n (pc := 36) dX4_times_36 rfl ?_
    refine s_get (pc := 37) (a := 111) (v := c 111 45) flX4_388 (t_111 _) rfl (g_111_45 _) rfl dX4_times_37 ?_
    refine s_lrem (pc := 40) dX4_times_40 ?_
    exact s_lret (pc := 41) dX4_times_41 rfl (fun h => h)
  refine s_lload (pc := 14) dX4_times_14 rfl ?_
  refine s_ldc2 (pc := 16) (z := 3000000000) q1701 dX4_times_16 ?_
  refine s_lcmp_le (pc := 19) (tgt := 29) dX4_times_19 dX4_times_20 rfl ?_ ?_
  · refine s_lload (pc := 29) dX4_times_29 rfl ?_
    refine s_goto (pc := 31) (tgt := 41) dX4_times_31 rfl ?_
    exact s_lret (pc := 41) dX4_times_41 rfl (fun h => h)
  refine s_ldc2 (pc := 23) (z := 3000000000) q1701 dX4_times_23 ?_
  refine s_goto (pc := 26) (tgt := 41) dX4_times_26 rfl ?_
  exact s_lret (pc := 41) dX4_times_41 rfl (fun h => h)
theorem kX4_times {G : GG} {sz sl : Nat} {td : TT} (a1 : Int) (a3 : Int) (c : CC) (x : Int) (h : fX4_times a1 a3 c = some x) : Ct G yX4_times muX4_times [(2, 111), (1, a1), (1, a3)] (sz, sl, tt td, cv c) ((1, x), (sz, sl, tt td, cv c)) :=
  Ct.of (n := 2) (ls0 := [some (2, 111), some (1, a1), none, some (1, a3), none, none, none]) (by decide) rfl rfl ⟨by decide, by decide⟩ (Nat.le_of_ble_eq_true rfl) rfl ⟨Nat.le_refl _, Nat.le_refl _⟩ (show (1 : Nat) ≠ 9 by decide) (fun Γ => sX4_times a1 a3 c x h rfl)
theorem flX4_97 : FL RX4 97 3 43 := ⟨_, _, _, cf3, by decide, q1287⟩
abbrev muX4_oneOf : MI := (cX4_oneOf, RX4, 4, some .long, 1, "oneOf")
noncomputable def fX4_oneOf (a1 : Int) (a2 : Int) (a3 : Int) (c : CC) : Option Int :=
  gd (inR (24 * a1)) <|
   gd (inR ((24 * a1) + a2)) <|
   gd (inR (((24 * a1) + a2) * 8)) <|
   gd (inR ((((24 * a1) + a2) * 8) + a3)) <|
   gd ((0 : Int) ≤ (((24 * a1) + a2) * 8) + a3 ∧ (((24 * a1) + a2) * 8) + a3 < 4608) <|
   some (c 138 (Int.toNat ((((24 * a1) + a2) * 8) + a3)))
theorem sX4_oneOf {G : GG} {Γ : Cx} {r : Vv × Wd} {sz sl : Nat} {td : TT} (a1 : Int) (a2 : Int) (a3 : Int) (c : CC) : Sm (fX4_oneOf a1 a2 a3 c) (fun x => r = ((1, x), (sz, sl, tt td, cv c))) (WP G Γ muX4_oneOf r 0 [some (2, 111), some (0, a1), some (0, a2), some (0, a3)] [] (sz, sl, tt td, cv c)) := by
  unfold fX4_oneOf
  refine s_aload_n (pc := 0) dX4_oneOf_0 rfl ?_
  refine s_get (pc := 1) (a := 111) (v := 138) flX4_97 (t_111 _) rfl (g_111_43 _) rfl dX4_oneOf_1 ?_
  refine s_bipush (pc := 4) dX4_oneOf_4 ?_
  refine s_iload_n (pc := 6) dX4_oneOf_6 rfl ?_
  refine s_imul (pc := 7) dX4_oneOf_7 ?_
  refine s_iload_n (pc := 8) dX4_oneOf_8 rfl ?_
  refine s_iadd (pc := 9) dX4_oneOf_9 ?_
  refine s_bipush (pc := 10) dX4_oneOf_10 ?_
  refine s_imul (pc := 12) dX4_oneOf_12 ?_
  refine s_iload_n (pc := 13) dX4_oneOf_13 rfl ?_
  refine s_iadd (pc := 14) dX4_oneOf_14 ?_
  refine s_laldM (pc := 15) (a := 138) (t_138 _) rfl r_138 dX4_oneOf_15 ?_
  exact s_lret (pc := 16) dX4_oneOf_16 rfl (fun h => h)
theorem kX4_oneOf {G : GG} {sz sl : Nat} {td : TT} (a1 : Int) (a2 : Int) (a3 : Int) (c : CC) (x : Int) (h : fX4_oneOf a1 a2 a3 c = some x) : Ct G yX4_oneOf muX4_oneOf [(2, 111), (0, a1), (0, a2), (0, a3)] (sz, sl, tt td, cv c) ((1, x), (sz, sl, tt td, cv c)) :=
  Ct.of (n := 0) (ls0 := [some (2, 111), some (0, a1), some (0, a2), some (0, a3)]) (by decide) rfl rfl ⟨by decide, by decide⟩ (Nat.le_of_ble_eq_true rfl) rfl ⟨Nat.le_refl _, Nat.le_refl _⟩ (show (1 : Nat) ≠ 9 by decide) (fun Γ => sX4_oneOf a1 a2 a3 c x h rfl)
theorem flX4_100 : FL RX4 100 3 44 := ⟨_, _, _, cf3, by decide, q1288⟩
abbrev muX4_manyOf : MI := (cX4_manyOf, RX4, 5, some .long, 1, "manyOf")
noncomputable def fX4_manyOf (a1 : Int) (a2 : Int) (a3 : Int) (a4 : Int) (c : CC) : Option Int :=
  gd (inR (24 * a1)) <|
   gd (inR ((24 * a1) + a2)) <|
   gd (inR (((24 * a1) + a2) * 8)) <|
   gd (inR ((((24 * a1) + a2) * 8) + a3)) <|
   gd (inR (((((24 * a1) + a2) * 8) + a3) * 6)) <|
   gd (inR ((((((24 * a1) + a2) * 8) + a3) * 6) + a4)) <|
   gd ((0 : Int) ≤ (((((24 * a1) + a2) * 8) + a3) * 6) + a4 ∧ (((((24 * a1) + a2) * 8) + a3) * 6) + a4 < 27648) <|
   some (c 139 (Int.toNat ((((((24 * a1) + a2) * 8) + a3) * 6) + a4)))
theorem sX4_manyOf {G : GG} {Γ : Cx} {r : Vv × Wd} {sz sl : Nat} {td : TT} (a1 : Int) (a2 : Int) (a3 : Int) (a4 : Int) (c : CC) : Sm (fX4_manyOf a1 a2 a3 a4 c) (fun x => r = ((1, x), (sz, sl, tt td, cv c))) (WP G Γ muX4_manyOf r 0 [some (2, 111), some (0, a1), some (0, a2), some (0, a3), some (0, a4)] [] (sz, sl, tt td, cv c)) := by
  unfold fX4_manyOf
  refine s_aload_n (pc := 0) dX4_manyOf_0 rfl ?_
  refine s_get (pc := 1) (a := 111) (v := 139) flX4_100 (t_111 _) rfl (g_111_44 _) rfl dX4_manyOf_1 ?_
  refine s_bipush (pc := 4) dX4_manyOf_4 ?_
  refine s_iload_n (pc := 6) dX4_manyOf_6 rfl ?_
  refine s_imul (pc := 7) dX4_manyOf_7 ?_
  refine s_iload_n (pc := 8) dX4_manyOf_8 rfl ?_
  refine s_iadd (pc := 9) dX4_manyOf_9 ?_
  refine s_bipush (pc := 10) dX4_manyOf_10 ?_
  refine s_imul (pc := 12) dX4_manyOf_12 ?_
  refine s_iload_n (pc := 13) dX4_manyOf_13 rfl ?_
  refine s_iadd (pc := 14) dX4_manyOf_14 ?_
  refine s_bipush (pc := 15) dX4_manyOf_15 ?_
  refine s_imul (pc := 17) dX4_manyOf_17 ?_
  refine s_iload (pc := 18) dX4_manyOf_18 rfl ?_
  refine s_iadd (pc := 20) dX4_manyOf_20 ?_
  refine s_laldM (pc := 21) (a := 139) (t_139 _) rfl r_139 dX4_manyOf_21 ?_
  exact s_lret (pc := 22) dX4_manyOf_22 rfl (fun h => h)
theorem kX4_manyOf {G : GG} {sz sl : Nat} {td : TT} (a1 : Int) (a2 : Int) (a3 : Int) (a4 : Int) (c : CC) (x : Int) (h : fX4_manyOf a1 a2 a3 a4 c = some x) : Ct G yX4_manyOf muX4_manyOf [(2, 111), (0, a1), (0, a2), (0, a3), (0, a4)] (sz, sl, tt td, cv c) ((1, x), (sz, sl, tt td, cv c)) :=
  Ct.of (n := 0) (ls0 := [some (2, 111), some (0, a1), some (0, a2), some (0, a3), some (0, a4)]) (by decide) rfl rfl ⟨by decide, by decide⟩ (Nat.le_of_ble_eq_true rfl) rfl ⟨Nat.le_refl _, Nat.le_refl _⟩ (show (1 : Nat) ≠ 9 by decide) (fun Γ => sX4_manyOf a1 a2 a3 a4 c x h rfl)
theorem mvX4_394 : MV RX4 394 RX4 yX4_oneOf muX4_oneOf 3 := ⟨lw_V q1689 q1691 qs85 q129 q1692, by decide +kernel, by decide⟩
theorem mvX4_406 : MV RX4 406 RX4 yX4_times muX4_times 2 := ⟨lw_V q1702 q1704 qs88 q129 q1705, by decide +kernel, by decide⟩
theorem mvX4_402 : MV RX4 402 RX4 yX4_plus muX4_plus 2 := ⟨lw_V q1697 q1699 qs87 q129 q1700, by decide +kernel, by decide⟩
theorem mvX4_398 : MV RX4 398 RX4 yX4_manyOf muX4_manyOf 4 := ⟨lw_V q1693 q1695 qs86 q129 q1696, by decide +kernel, by decide⟩
abbrev muX4_waysBy : MI := (cX4_waysBy, RX4, 10, some .long, 2, "waysBy")
abbrev gX4_waysBy_l215 (G : GG) (Γ : Cx) (r : Vv × Wd) (sz sl : Nat) (td : TT) (v1 : Int) (v2 : Int) (v4 : Int) (v5 : Int) (c : CC) : (Int × Int) → Prop := fun s => WP G Γ muX4_waysBy r 215 [some (2, 111), some (0, v1), some (0, v2), none, some (0, v4), some (0, v5), some (1, s.1), none, some (0, s.2), none] [] (sz, sl, tt td, cv c)
abbrev eX4_waysBy_l215 (G : GG) (Γ : Cx) (r : Vv × Wd) (sz sl : Nat) (td : TT) (v1 : Int) (v2 : Int) (v4 : Int) (v5 : Int) (c : CC) : (Int) → Prop := (fun s => WP G Γ muX4_waysBy r 263 [none, none, none, none, none, none, some (1, s), none, none, none] [] (sz, sl, tt td, cv c))
noncomputable def fX4_waysBy_l215 (v1 : Int) (v2 : Int) (v4 : Int) (v5 : Int) (v6 : Int) (v8 : Int) (c : CC) : Option ((Int × Int) ⊕ (Int)) :=
  gd (inR (v2 - 1)) <|
   if v8 < v2 - 1 then
  (cl (fX4_oneOf v1 v8 v4 c) fun p_5 =>
   gd (inR (v8 + 1)) <|
   gd (inR (v2 - 1)) <|
   cl (fX4_oneOf (v8 + 1) (v2 - 1) v5 c) fun p_6 =>
   cl (fX4_times p_5 p_6 c) fun p_7 =>
   cl (fX4_plus v6 p_7 c) fun p_8 =>
   gd (inR (v8 + 1)) <| bd (v8 + 1) fun v8_9 =>
   some (.inl (p_8, v8_9)))
  else
  (some (.inr v6))
theorem sX4_waysBy_l215 {G : GG} {Γ : Cx} {r : Vv × Wd} {sz sl : Nat} {td : TT} (v1 : Int) (v2 : Int) (v4 : Int) (v5 : Int) (v6 : Int) (v8 : Int) (c : CC) : Sm (fX4_waysBy_l215 v1 v2 v4 v5 v6 v8 c) (fun x => Sum.elim (gX4_waysBy_l215 G Γ r sz sl td v1 v2 v4 v5 c) (eX4_waysBy_l215 G Γ r sz sl td v1 v2 v4 v5 c) x) (gX4_waysBy_l215 G Γ r sz sl td v1 v2 v4 v5 c (v6, v8)) := by
  show Sm _ _ (WP G Γ muX4_waysBy r 215 [some (2, 111), some (0, v1), some (0, v2), none, some (0, v4), some (0, v5), some (1, v6), none, some (0, v8), none] [] (sz, sl, tt td, cv c))
  unfold fX4_waysBy_l215
  refine s_iload (pc := 215) dX4_waysBy_215 rfl ?_
  refine s_iload_n (pc := 217) dX4_waysBy_217 rfl ?_
  refine s_iconst (pc := 218) dX4_waysBy_218 ?_
  refine s_isub (pc := 219) dX4_waysBy_219 ?_
  refine s_icmp_ge (pc := 220) (tgt := 263) dX4_waysBy_220 rfl ?_ ?_
  · refine s_wk [false, false, false, true, false, false, true, true, false, true] (ls' := [none, none, none, none, none, none, some (1, v6), none, none, none]) rfl ?_
    exact Sm.some (fun h => h)
  refine s_aload_n (pc := 223) dX4_waysBy_223 rfl ?_
  refine s_lload (pc := 224) dX4_waysBy_224 rfl ?_
  refine s_aload_n (pc := 226) dX4_waysBy_226 rfl ?_
  refine s_aload_n (pc := 227) dX4_waysBy_227 rfl ?_
  refine s_iload_n (pc := 228) dX4_waysBy_228 rfl ?_
  refine s_iload (pc := 229) dX4_waysBy_229 rfl ?_
  refine s_iload (pc := 231) dX4_waysBy_231 rfl ?_
  refine s_callV3 (pc := 233) (a := 111) (as := [(0, v1), (0, v8), (0, v4)]) (st := [(2, 111), (1, v6), (2, 111)]) (rv := fun b => ((1, b), (sz, sl, tt td, cv c))) (st3 := fun b => [(1, b), (2, 111), (1, v6), (2, 111)]) (w3 := fun b => (sz, sl, tt td, cv c)) mvX4_394 (fun b h => kX4_oneOf v1 v8 v4 c b h) rfl (by decide) (t_111 td) rfl rfl rfl (Nat.le_of_ble_eq_true rfl) (fun _ => Nat.le_of_ble_eq_true rfl) (fun _ => ⟨rfl, rfl⟩) dX4_waysBy_233 (fun p_5 => ?_)
  refine s_aload_n (pc := 236) dX4_waysBy_236 rfl ?_
  refine s_iload (pc := 237) dX4_waysBy_237 rfl ?_
  refine s_iconst (pc := 239) dX4_waysBy_239 ?_
  refine s_iadd (pc := 240) dX4_waysBy_240 ?_
  refine s_iload_n (pc := 241) dX4_waysBy_241 rfl ?_
  refine s_iconst (pc := 242) dX4_waysBy_242 ?_
  refine s_isub (pc := 243) dX4_waysBy_243 ?_
  refine s_iload (pc := 244) dX4_waysBy_244 rfl ?_
  refine s_callV3 (pc := 246) (a := 111) (as := [(0, v8 + 1), (0, v2 - 1), (0, v5)]) (st := [(1, p_5), (2, 111), (1, v6), (2, 111)]) (rv := fun b => ((1, b), (sz, sl, tt td, cv c))) (st3 := fun b => [(1, b), (1, p_5), (2, 111), (1, v6), (2, 111)]) (w3 := fun b => (sz, sl, tt td, cv c)) mvX4_394 (fun b h => kX4_oneOf (v8 + 1) (v2 - 1) v5 c b h) rfl (by decide) (t_111 td) rfl rfl rfl (Nat.le_of_ble_eq_true rfl) (fun _ => Nat.le_of_ble_eq_true rfl) (fun _ => ⟨rfl, rfl⟩) dX4_waysBy_246 (fun p_6 => ?_)
  refine s_callV3 (pc := 249) (a := 111) (as := [(1, p_5), (1, p_6)]) (st := [(1, v6), (2, 111)]) (rv := fun b => ((1, b), (sz, sl, tt td, cv c))) (st3 := fun b => [(1, b), (1, v6), (2, 111)]) (w3 := fun b => (sz, sl, tt td, cv c)) mvX4_406 (fun b h => kX4_times p_5 p_6 c b h) rfl (by decide) (t_111 td) rfl rfl rfl (Nat.le_of_ble_eq_true rfl) (fun _ => Nat.le_of_ble_eq_true rfl) (fun _ => ⟨rfl, rfl⟩) dX4_waysBy_249 (fun p_7 => ?_)
  refine s_callV3 (pc := 252) (a := 111) (as := [(1, v6), (1, p_7)]) (st := []) (rv := fun b => ((1, b), (sz, sl, tt td, cv c))) (st3 := fun b => [(1, b)]) (w3 := fun b => (sz, sl, tt td, cv c)) mvX4_402 (fun b h => kX4_plus v6 p_7 c b h) rfl (by decide) (t_111 td) rfl rfl rfl (Nat.le_of_ble_eq_true rfl) (fun _ => Nat.le_of_ble_eq_true rfl) (fun _ => ⟨rfl, rfl⟩) dX4_waysBy_252 (fun p_8 => ?_)
  refine s_lstoreD (pc := 255) (ls' := [some (2, 111), some (0, v1), some (0, v2), none, some (0, v4), some (0, v5), some (1, p_8), none, some (0, v8), none]) dX4_waysBy_255 rfl (Nat.le_of_ble_eq_true rfl) ?_
  refine s_iinc (pc := 257) (lf := fun x => [some (2, 111), some (0, v1), some (0, v2), none, some (0, v4), some (0, v5), some (1, p_8), none, some (0, x), none]) dX4_waysBy_257 rfl (fun _ => rfl) (Nat.le_of_ble_eq_true rfl) (fun v8_9 => ?_)
  refine s_goto (pc := 260) (tgt := 215) dX4_waysBy_260 rfl ?_
  exact Sm.some (fun h => h)
abbrev gX4_waysBy_l98 (G : GG) (Γ : Cx) (r : Vv × Wd) (sz sl : Nat) (td : TT) (v1 : Int) (v2 : Int) (v4 : Int) (c : CC) : (Int × Int) → Prop := fun s => WP G Γ muX4_waysBy r 98 [some (2, 111), some (0, v1), some (0, v2), none, some (0, v4), none, some (1, s.1), none, some (0, s.2), none] [] (sz, sl, tt td, cv c)
abbrev eX4_waysBy_l98 (G : GG) (Γ : Cx) (r : Vv × Wd) (sz sl : Nat) (td : TT) (v1 : Int) (v2 : Int) (v4 : Int) (c : CC) : (Int) → Prop := (fun s => WP G Γ muX4_waysBy r 136 [none, none, none, none, none, none, some (1, s), none, none, none] [] (sz, sl, tt td, cv c))
noncomputable def fX4_waysBy_l98 (v1 : Int) (v2 : Int) (v4 : Int) (v6 : Int) (v8 : Int) (c : CC) : Option ((Int × Int) ⊕ (Int)) :=
  if v8 < 6 then
  (if v1 < v2 then
  (gd (inR (v2 - 1)) <|
   cl (fX4_manyOf v1 (v2 - 1) v4 v8 c) fun p_14 =>
   cl (fX4_plus v6 p_14 c) fun p_15 =>
   gd (inR (v8 + 1)) <| bd (v8 + 1) fun v8_16 =>
   some (.inl (p_15, v8_16)))
  else
  (some (.inr v6)))
  else
  (some (.inr v6))
theorem sX4_waysBy_l98 {G : GG} {Γ : Cx} {r : Vv × Wd} {sz sl : Nat} {td : TT} (v1 : Int) (v2 : Int) (v4 : Int) (v6 : Int) (v8 : Int) (c : CC) : Sm (fX4_waysBy_l98 v1 v2 v4 v6 v8 c) (fun x => Sum.elim (gX4_waysBy_l98 G Γ r sz sl td v1 v2 v4 c) (eX4_waysBy_l98 G Γ r sz sl td v1 v2 v4 c) x) (gX4_waysBy_l98 G Γ r sz sl td v1 v2 v4 c (v6, v8)) := by
  show Sm _ _ (WP G Γ muX4_waysBy r 98 [some (2, 111), some (0, v1), some (0, v2), none, some (0, v4), none, some (1, v6), none, some (0, v8), none] [] (sz, sl, tt td, cv c))
  unfold fX4_waysBy_l98
  refine s_iload (pc := 98) dX4_waysBy_98 rfl ?_
  refine s_bipush (pc := 100) dX4_waysBy_100 ?_
  refine s_icmp_ge (pc := 102) (tgt := 136) dX4_waysBy_102 rfl ?_ ?_
  · refine s_wk [false, false, false, true, false, true, true, true, false, true] (ls' := [none, none, none, none, none, none, some (1, v6), none, none, none]) rfl ?_
    exact Sm.some (fun h => h)
  refine s_iload_n (pc := 105) dX4_waysBy_105 rfl ?_
  refine s_iload_n (pc := 106) dX4_waysBy_106 rfl ?_
  refine s_icmp_ge (pc := 107) (tgt := 136) dX4_waysBy_107 rfl ?_ ?_
  · refine s_wk [false, false, false, true, false, true, true, true, false, true] (ls' := [none, none, none, none, none, none, some (1, v6), none, none, none]) rfl ?_
    exact Sm.some (fun h => h)
  refine s_aload_n (pc := 110) dX4_waysBy_110 rfl ?_
  refine s_lload (pc := 111) dX4_waysBy_111 rfl ?_
  refine s_aload_n (pc := 113) dX4_waysBy_113 rfl ?_
  refine s_iload_n (pc := 114) dX4_waysBy_114 rfl ?_
  refine s_iload_n (pc := 115) dX4_waysBy_115 rfl ?_
  refine s_iconst (pc := 116) dX4_waysBy_116 ?_
  refine s_isub (pc := 117) dX4_waysBy_117 ?_
  refine s_iload (pc := 118) dX4_waysBy_118 rfl ?_
  refine s_iload (pc := 120) dX4_waysBy_120 rfl ?_
  refine s_callV3 (pc := 122) (a := 111) (as := [(0, v1), (0, v2 - 1), (0, v4), (0, v8)]) (st := [(1, v6), (2, 111)]) (rv := fun b => ((1, b), (sz, sl, tt td, cv c))) (st3 := fun b => [(1, b), (1, v6), (2, 111)]) (w3 := fun b => (sz, sl, tt td, cv c)) mvX4_398 (fun b h => kX4_manyOf v1 (v2 - 1) v4 v8 c b h) rfl (by decide) (t_111 td) rfl rfl rfl (Nat.le_of_ble_eq_true rfl) (fun _ => Nat.le_of_ble_eq_true rfl) (fun _ => ⟨rfl, rfl⟩) dX4_waysBy_122 (fun p_14 => ?_)
  refine s_callV3 (pc := 125) (a := 111) (as := [(1, v6), (1, p_14)]) (st := []) (rv := fun b => ((1, b), (sz, sl, tt td, cv c))) (st3 := fun b => [(1, b)]) (w3 := fun b => (sz, sl, tt td, cv c)) mvX4_402 (fun b h => kX4_plus v6 p_14 c b h) rfl (by decide) (t_111 td) rfl rfl rfl (Nat.le_of_ble_eq_true rfl) (fun _ => Nat.le_of_ble_eq_true rfl) (fun _ => ⟨rfl, rfl⟩) dX4_waysBy_125 (fun p_15 => ?_)
  refine s_lstoreD (pc := 128) (ls' := [some (2, 111), some (0, v1), some (0, v2), none, some (0, v4), none, some (1, p_15), none, some (0, v8), none]) dX4_waysBy_128 rfl (Nat.le_of_ble_eq_true rfl) ?_
  refine s_iinc (pc := 130) (lf := fun x => [some (2, 111), some (0, v1), some (0, v2), none, some (0, v4), none, some (1, p_15), none, some (0, x), none]) dX4_waysBy_130 rfl (fun _ => rfl) (Nat.le_of_ble_eq_true rfl) (fun v8_16 => ?_)
  refine s_goto (pc := 133) (tgt := 98) dX4_waysBy_133 rfl ?_
  exact Sm.some (fun h => h)
abbrev gX4_waysBy_l151 (G : GG) (Γ : Cx) (r : Vv × Wd) (sz sl : Nat) (td : TT) (v1 : Int) (v2 : Int) (v4 : Int) (v5 : Int) (v8 : Int) (c : CC) : (Int × Int) → Prop := fun s => WP G Γ muX4_waysBy r 151 [some (2, 111), some (0, v1), some (0, v2), none, some (0, v4), some (0, v5), some (1, s.1), none, some (0, v8), some (0, s.2)] [] (sz, sl, tt td, cv c)
abbrev eX4_waysBy_l151 (G : GG) (Γ : Cx) (r : Vv × Wd) (sz sl : Nat) (td : TT) (v1 : Int) (v2 : Int) (v4 : Int) (v5 : Int) (v8 : Int) (c : CC) : (Int) → Prop := (fun s => WP G Γ muX4_waysBy r 203 [some (2, 111), some (0, v1), some (0, v2), none, some (0, v4), some (0, v5), some (1, s), none, some (0, v8), none] [] (sz, sl, tt td, cv c))
noncomputable def fX4_waysBy_l151 (v1 : Int) (v2 : Int) (v4 : Int) (v5 : Int) (v8 : Int) (v6 : Int) (v9 : Int) (c : CC) : Option ((Int × Int) ⊕ (Int)) :=
  gd (inR (v2 - 1)) <|
   if v9 < v2 - 1 then
  (cl (fX4_manyOf v1 v9 v4 v8 c) fun p_19 =>
   gd (inR (v9 + 1)) <|
   gd (inR (v2 - 1)) <|
   cl (fX4_manyOf (v9 + 1) (v2 - 1) v5 v8 c) fun p_20 =>
   cl (fX4_times p_19 p_20 c) fun p_21 =>
   cl (fX4_plus v6 p_21 c) fun p_22 =>
   gd (inR (v9 + 1)) <| bd (v9 + 1) fun v9_23 =>
   some (.inl (p_22, v9_23)))
  else
  (some (.inr v6))
theorem sX4_waysBy_l151 {G : GG} {Γ : Cx} {r : Vv × Wd} {sz sl : Nat} {td : TT} (v1 : Int) (v2 : Int) (v4 : Int) (v5 : Int) (v8 : Int) (v6 : Int) (v9 : Int) (c : CC) : Sm (fX4_waysBy_l151 v1 v2 v4 v5 v8 v6 v9 c) (fun x => Sum.elim (gX4_waysBy_l151 G Γ r sz sl td v1 v2 v4 v5 v8 c) (eX4_waysBy_l151 G Γ r sz sl td v1 v2 v4 v5 v8 c) x) (gX4_waysBy_l151 G Γ r sz sl td v1 v2 v4 v5 v8 c (v6, v9)) := by
  show Sm _ _ (WP G Γ muX4_waysBy r 151 [some (2, 111), some (0, v1), some (0, v2), none, some (0, v4), some (0, v5), some (1, v6), none, some (0, v8), some (0, v9)] [] (sz, sl, tt td, cv c))
  unfold fX4_waysBy_l151
  refine s_iload (pc := 151) dX4_waysBy_151 rfl ?_
  refine s_iload_n (pc := 153) dX4_waysBy_153 rfl ?_
  refine s_iconst (pc := 154) dX4_waysBy_154 ?_
  refine s_isub (pc := 155) dX4_waysBy_155 ?_
  refine s_icmp_ge (pc := 156) (tgt := 203) dX4_waysBy_156 rfl ?_ ?_
  · refine s_wk [true, true, true, true, true, true, true, true, true, false] (ls' := [some (2, 111), some (0, v1), some (0, v2), none, some (0, v4), some (0, v5), some (1, v6), none, some (0, v8), none]) rfl ?_
    exact Sm.some (fun h => h)
  refine s_aload_n (pc := 159) dX4_waysBy_159 rfl ?_
  refine s_lload (pc := 160) dX4_waysBy_160 rfl ?_
  refine s_aload_n (pc := 162) dX4_waysBy_162 rfl ?_
  refine s_aload_n (pc := 163) dX4_waysBy_163 rfl ?_
  refine s_iload_n (pc := 164) dX4_waysBy_164 rfl ?_
  refine s_iload (pc := 165) dX4_waysBy_165 rfl ?_
  refine s_iload (pc := 167) dX4_waysBy_167 rfl ?_
  refine s_iload (pc := 169) dX4_waysBy_169 rfl ?_
  refine s_callV3 (pc := 171) (a := 111) (as := [(0, v1), (0, v9), (0, v4), (0, v8)]) (st := [(2, 111), (1, v6), (2, 111)]) (rv := fun b => ((1, b), (sz, sl, tt td, cv c))) (st3 := fun b => [(1, b), (2, 111), (1, v6), (2, 111)]) (w3 := fun b => (sz, sl, tt td, cv c)) mvX4_398 (fun b h => kX4_manyOf v1 v9 v4 v8 c b h) rfl (by decide) (t_111 td) rfl rfl rfl (Nat.le_of_ble_eq_true rfl) (fun _ => Nat.le_of_ble_eq_true rfl) (fun _ => ⟨rfl, rfl⟩) dX4_waysBy_171 (fun p_19 => ?_)
  refine s_aload_n (pc := 174) dX4_waysBy_174 rfl ?_
  refine s_iload (pc := 175) dX4_waysBy_175 rfl ?_
  refine s_iconst (pc := 177) dX4_waysBy_177 ?_
  refine s_iadd (pc := 178) dX4_waysBy_178 ?_
  refine s_iload_n (pc := 179) dX4_waysBy_179 rfl ?_
  refine s_iconst (pc := 180) dX4_waysBy_180 ?_
  refine s_isub (pc := 181) dX4_waysBy_181 ?_
  refine s_iload (pc := 182) dX4_waysBy_182 rfl ?_
  refine s_iload (pc := 184) dX4_waysBy_184 rfl ?_
  refine s_callV3 (pc := 186) (a := 111) (as := [(0, v9 + 1), (0, v2 - 1), (0, v5), (0, v8)]) (st := [(1, p_19), (2, 111), (1, v6), (2, 111)]) (rv := fun b => ((1, b), (sz, sl, tt td, cv c))) (st3 := fun b => [(1, b), (1, p_19), (2, 111), (1, v6), (2, 111)]) (w3 := fun b => (sz, sl, tt td, cv c)) mvX4_398 (fun b h => kX4_manyOf (v9 + 1) (v2 - 1) v5 v8 c b h) rfl (by decide) (t_111 td) rfl rfl rfl (Nat.le_of_ble_eq_true rfl) (fun _ => Nat.le_of_ble_eq_true rfl) (fun _ => ⟨rfl, rfl⟩) dX4_waysBy_186 (fun p_20 => ?_)
  refine s_callV3 (pc := 189) (a := 111) (as := [(1, p_19), (1, p_20)]) (st := [(1, v6), (2, 111)]) (rv := fun b => ((1, b), (sz, sl, tt td, cv c))) (st3 := fun b => [(1, b), (1, v6), (2, 111)]) (w3 := fun b => (sz, sl, tt td, cv c)) mvX4_406 (fun b h => kX4_times p_19 p_20 c b h) rfl (by decide) (t_111 td) rfl rfl rfl (Nat.le_of_ble_eq_true rfl) (fun _ => Nat.le_of_ble_eq_true rfl) (fun _ => ⟨rfl, rfl⟩) dX4_waysBy_189 (fun p_21 => ?_)
  refine s_callV3 (pc := 192) (a := 111) (as := [(1, v6), (1, p_21)]) (st := []) (rv := fun b => ((1, b), (sz, sl, tt td, cv c))) (st3 := fun b => [(1, b)]) (w3 := fun b => (sz, sl, tt td, cv c)) mvX4_402 (fun b h => kX4_plus v6 p_21 c b h) rfl (by decide) (t_111 td) rfl rfl rfl (Nat.le_of_ble_eq_true rfl) (fun _ => Nat.le_of_ble_eq_true rfl) (fun _ => ⟨rfl, rfl⟩) dX4_waysBy_192 (fun p_22 => ?_)
  refine s_lstoreD (pc := 195) (ls' := [some (2, 111), some (0, v1), some (0, v2), none, some (0, v4), some (0, v5), some (1, p_22), none, some (0, v8), some (0, v9)]) dX4_waysBy_195 rfl (Nat.le_of_ble_eq_true rfl) ?_
  refine s_iinc (pc := 197) (lf := fun x => [some (2, 111), some (0, v1), some (0, v2), none, some (0, v4), some (0, v5), some (1, p_22), none, some (0, v8), some (0, x)]) dX4_waysBy_197 rfl (fun _ => rfl) (Nat.le_of_ble_eq_true rfl) (fun v9_23 => ?_)
  refine s_goto (pc := 200) (tgt := 151) dX4_waysBy_200 rfl ?_
  exact Sm.some (fun h => h)
abbrev gX4_waysBy_l142 (G : GG) (Γ : Cx) (r : Vv × Wd) (sz sl : Nat) (td : TT) (v1 : Int) (v2 : Int) (v4 : Int) (v5 : Int) (c : CC) : (Int × Int) → Prop := fun s => WP G Γ muX4_waysBy r 142 [some (2, 111), some (0, v1), some (0, v2), none, some (0, v4), some (0, v5), some (1, s.1), none, some (0, s.2), none] [] (sz, sl, tt td, cv c)
abbrev eX4_waysBy_l142 (G : GG) (Γ : Cx) (r : Vv × Wd) (sz sl : Nat) (td : TT) (v1 : Int) (v2 : Int) (v4 : Int) (v5 : Int) (c : CC) : (Int) → Prop := (fun s => WP G Γ muX4_waysBy r 209 [none, none, none, none, none, none, some (1, s), none, none, none] [] (sz, sl, tt td, cv c))
noncomputable def fX4_waysBy_l142 (v1 : Int) (v2 : Int) (v4 : Int) (v5 : Int) (v6 : Int) (v8 : Int) (c : CC) : Option ((Int × Int) ⊕ (Int)) :=
  if v8 < 4 then
  (cl (wh (fun s => fX4_waysBy_l151 v1 v2 v4 v5 v8 s.1 s.2 c) (v6, v1)) (fun e_24 =>
  gd (inR (v8 + 1)) <| bd (v8 + 1) fun v8_25 =>
   some (.inl (e_24, v8_25))))
  else
  (some (.inr v6))
theorem sX4_waysBy_l142 {G : GG} {Γ : Cx} {r : Vv × Wd} {sz sl : Nat} {td : TT} (v1 : Int) (v2 : Int) (v4 : Int) (v5 : Int) (v6 : Int) (v8 : Int) (c : CC) : Sm (fX4_waysBy_l142 v1 v2 v4 v5 v6 v8 c) (fun x => Sum.elim (gX4_waysBy_l142 G Γ r sz sl td v1 v2 v4 v5 c) (eX4_waysBy_l142 G Γ r sz sl td v1 v2 v4 v5 c) x) (gX4_waysBy_l142 G Γ r sz sl td v1 v2 v4 v5 c (v6, v8)) := by
  show Sm _ _ (WP G Γ muX4_waysBy r 142 [some (2, 111), some (0, v1), some (0, v2), none, some (0, v4), some (0, v5), some (1, v6), none, some (0, v8), none] [] (sz, sl, tt td, cv c))
  unfold fX4_waysBy_l142
  refine s_iload (pc := 142) dX4_waysBy_142 rfl ?_
  refine s_iconst (pc := 144) dX4_waysBy_144 ?_
  refine s_icmp_ge (pc := 145) (tgt := 209) dX4_waysBy_145 rfl ?_ ?_
  · refine s_wk [false, false, false, true, false, false, true, true, false, true] (ls' := [none, none, none, none, none, none, some (1, v6), none, none, none]) rfl ?_
    exact Sm.some (fun h => h)
  refine s_iload_n (pc := 148) dX4_waysBy_148 rfl ?_
  refine s_istoreD (pc := 149) (ls' := [some (2, 111), some (0, v1), some (0, v2), none, some (0, v4), some (0, v5), some (1, v6), none, some (0, v8), some (0, v1)]) dX4_waysBy_149 rfl (Nat.le_of_ble_eq_true rfl) ?_
  refine s_loop (g := gX4_waysBy_l151 G Γ r sz sl td v1 v2 v4 v5 v8 c) (Ex := eX4_waysBy_l151 G Γ r sz sl td v1 v2 v4 v5 v8 c) (s0 := (v6, v1)) (fun s => sX4_waysBy_l151 v1 v2 v4 v5 v8 s.1 s.2 c) ?_
  intro e_24
  show Sm _ _ (WP G Γ muX4_waysBy r 203 [some (2, 111), some (0, v1), some (0, v2), none, some (0, v4), some (0, v5), some (1, e_24), none, some (0, v8), none] [] (sz, sl, tt td, cv c))
  refine s_iinc (pc := 203) (lf := fun x => [some (2, 111), some (0, v1), some (0, v2), none, some (0, v4), some (0, v5), some (1, e_24), none, some (0, x), none]) dX4_waysBy_203 rfl (fun _ => rfl) (Nat.le_of_ble_eq_true rfl) (fun v8_25 => ?_)
  refine s_goto (pc := 206) (tgt := 142) dX4_waysBy_206 rfl ?_
  exact Sm.some (fun h => h)
noncomputable def fX4_waysBy (a1 : Int) (a2 : Int) (a3 : Int) (c : CC) : Option Int :=
  gd ((0 : Int) ≤ a3 ∧ a3 < 144) <|
   bd (c 120 (Int.toNat a3)) fun v4_1 =>
   gd ((0 : Int) ≤ a3 ∧ a3 < 144) <|
   bd (c 121 (Int.toNat a3)) fun v5_2 =>
   gd ((0 : Int) ≤ a3 ∧ a3 < 144) <|
   if c 119 (Int.toNat a3) = 0 then
  (if a1 = a2 then
  (some 1)
  else
  (some 0))
  else if c 119 (Int.toNat a3) = 1 then
  (cl (wh (fun s => fX4_waysBy_l215 a1 a2 v4_1 v5_2 s.1 s.2 c) (0, a1)) (fun e_10 =>
  some e_10))
  else if c 119 (Int.toNat a3) = 2 then
  (cl (wh (fun s => fX4_waysBy_l215 a1 a2 v4_1 v5_2 s.1 s.2 c) (0, a1)) (fun e_12 =>
  some e_12))
  else if c 119 (Int.toNat a3) = 3 then
  (cl (wh (fun s => fX4_waysBy_l98 a1 a2 v4_1 s.1 s.2 c) (0, 1)) (fun e_17 =>
  some e_17))
  else if c 119 (Int.toNat a3) = 4 then
  (cl (wh (fun s => fX4_waysBy_l142 a1 a2 v4_1 v5_2 s.1 s.2 c) (0, 1)) (fun e_26 =>
  some e_26))
  else if c 119 (Int.toNat a3) = 5 then
  (if a1 < a2 then
  (gd (inR (a2 - 1)) <|
   cl (fX4_oneOf a1 (a2 - 1) v4_1 c) fun p_28 =>
   some p_28)
  else
  (some 0))
  else (cl (wh (fun s => fX4_waysBy_l215 a1 a2 v4_1 v5_2 s.1 s.2 c) (0, a1)) (fun e_29 =>
  some e_29))
theorem sX4_waysBy {G : GG} {Γ : Cx} {r : Vv × Wd} {sz sl : Nat} {td : TT} (a1 : Int) (a2 : Int) (a3 : Int) (c : CC) : Sm (fX4_waysBy a1 a2 a3 c) (fun x => r = ((1, x), (sz, sl, tt td, cv c))) (WP G Γ muX4_waysBy r 0 [some (2, 111), some (0, a1), some (0, a2), some (0, a3), none, none, none, none, none, none] [] (sz, sl, tt td, cv c)) := by
  unfold fX4_waysBy
  refine s_aload_n (pc := 0) dX4_waysBy_0 rfl ?_
  refine s_get (pc := 1) (a := 111) (v := 120) flX4_42 (t_111 _) rfl (g_111_11 _) rfl dX4_waysBy_1 ?_
  refine s_iload_n (pc := 4) dX4_waysBy_4 rfl ?_
  refine s_ialdM (pc := 5) (a := 120) (t_120 _) rfl r_120 dX4_waysBy_5 ?_
  refine s_istore (pc := 6) (lf := fun x => [some (2, 111), some (0, a1), some (0, a2), some (0, a3), some (0, x), none, none, none, none, none]) dX4_waysBy_6 (fun _ => rfl) (Nat.le_of_ble_eq_true rfl) (fun v4_1 => ?_)
  refine s_aload_n (pc := 8) dX4_waysBy_8 rfl ?_
  refine s_get (pc := 9) (a := 111) (v := 121) flX4_45 (t_111 _) rfl (g_111_12 _) rfl dX4_waysBy_9 ?_
  refine s_iload_n (pc := 12) dX4_waysBy_12 rfl ?_
  refine s_ialdM (pc := 13) (a := 121) (t_121 _) rfl r_121 dX4_waysBy_13 ?_
  refine s_istore (pc := 14) (lf := fun x => [some (2, 111), some (0, a1), some (0, a2), some (0, a3), some (0, v4_1), some (0, x), none, none, none, none]) dX4_waysBy_14 (fun _ => rfl) (Nat.le_of_ble_eq_true rfl) (fun v5_2 => ?_)
  refine s_lconst0 (pc := 16) dX4_waysBy_16 ?_
  refine s_lstoreD (pc := 17) (ls' := [some (2, 111), some (0, a1), some (0, a2), some (0, a3), some (0, v4_1), some (0, v5_2), some (1, 0), none, none, none]) dX4_waysBy_17 rfl (Nat.le_of_ble_eq_true rfl) ?_
  refine s_aload_n (pc := 19) dX4_waysBy_19 rfl ?_
  refine s_get (pc := 20) (a := 111) (v := 119) flX4_39 (t_111 _) rfl (g_111_10 _) rfl dX4_waysBy_20 ?_
  refine s_iload_n (pc := 23) dX4_waysBy_23 rfl ?_
  refine s_ialdM (pc := 24) (a := 119) (t_119 _) rfl r_119 dX4_waysBy_24 ?_
  refine Sm.ite (fun hq_3 => ?_) (fun hq_3 => ?_)
  · refine s_tblIn (pc := 25) (tgt := 64) dX4_waysBy_25 0 hq_3 (by decide) rfl rfl ?_
    refine s_iload_n (pc := 64) dX4_waysBy_64 rfl ?_
    refine s_iload_n (pc := 65) dX4_waysBy_65 rfl ?_
    refine s_icmp_ne (pc := 66) (tgt := 73) dX4_waysBy_66 rfl ?_ ?_
    · refine s_lconst0 (pc := 73) dX4_waysBy_73 ?_
      exact s_lret (pc := 74) dX4_waysBy_74 rfl (fun h => h)
    refine s_lconst1 (pc := 69) dX4_waysBy_69 ?_
    refine s_goto (pc := 70) (tgt := 74) dX4_waysBy_70 rfl ?_
    exact s_lret (pc := 74) dX4_waysBy_74 rfl (fun h => h)
  refine Sm.ite (fun hq_4 => ?_) (fun hq_4 => ?_)
  · refine s_tblIn (pc := 25) (tgt := 212) dX4_waysBy_25 1 hq_4 (by decide) rfl rfl ?_
    refine s_iload_n (pc := 212) dX4_waysBy_212 rfl ?_
    refine s_istoreD (pc := 213) (ls' := [some (2, 111), some (0, a1), some (0, a2), some (0, a3), some (0, v4_1), some (0, v5_2), some (1, 0), none, some (0, a1), none]) dX4_waysBy_213 rfl (Nat.le_of_ble_eq_true rfl) ?_
    refine s_wk [true, true, true, false, true, true, true, true, true, true] (ls' := [some (2, 111), some (0, a1), some (0, a2), none, some (0, v4_1), some (0, v5_2), some (1, 0), none, some (0, a1), none]) rfl ?_
    refine s_loop (g := gX4_waysBy_l215 G Γ r sz sl td a1 a2 v4_1 v5_2 c) (Ex := eX4_waysBy_l215 G Γ r sz sl td a1 a2 v4_1 v5_2 c) (s0 := (0, a1)) (fun s => sX4_waysBy_l215 a1 a2 v4_1 v5_2 s.1 s.2 c) ?_
    intro e_10
    show Sm _ _ (WP G Γ muX4_waysBy r 263 [none, none, none, none, none, none, some (1, e_10), none, none, none] [] (sz, sl, tt td, cv c))
    refine s_lload (pc := 263) dX4_waysBy_263 rfl ?_
    exact s_lret (pc := 265) dX4_waysBy_265 rfl (fun h => h)
  refine Sm.ite (fun hq_11 => ?_) (fun hq_11 => ?_)
  · refine s_tblIn (pc := 25) (tgt := 212) dX4_waysBy_25 2 hq_11 (by decide) rfl rfl ?_
    refine s_iload_n (pc := 212) dX4_waysBy_212 rfl ?_
    refine s_istoreD (pc := 213) (ls' := [some (2, 111), some (0, a1), some (0, a2), some (0, a3), some (0, v4_1), some (0, v5_2), some (1, 0), none, some (0, a1), none]) dX4_waysBy_213 rfl (Nat.le_of_ble_eq_true rfl) ?_
    refine s_wk [true, true, true, false, true, true, true, true, true, true] (ls' := [some (2, 111), some (0, a1), some (0, a2), none, some (0, v4_1), some (0, v5_2), some (1, 0), none, some (0, a1), none]) rfl ?_
    refine s_loop (g := gX4_waysBy_l215 G Γ r sz sl td a1 a2 v4_1 v5_2 c) (Ex := eX4_waysBy_l215 G Γ r sz sl td a1 a2 v4_1 v5_2 c) (s0 := (0, a1)) (fun s => sX4_waysBy_l215 a1 a2 v4_1 v5_2 s.1 s.2 c) ?_
    intro e_12
    show Sm _ _ (WP G Γ muX4_waysBy r 263 [none, none, none, none, none, none, some (1, e_12), none, none, none] [] (sz, sl, tt td, cv c))
    refine s_lload (pc := 263) dX4_waysBy_263 rfl ?_
    exact s_lret (pc := 265) dX4_waysBy_265 rfl (fun h => h)
  refine Sm.ite (fun hq_13 => ?_) (fun hq_13 => ?_)
  · refine s_tblIn (pc := 25) (tgt := 95) dX4_waysBy_25 3 hq_13 (by decide) rfl rfl ?_
    refine s_iconst (pc := 95) dX4_waysBy_95 ?_
    refine s_istoreD (pc := 96) (ls' := [some (2, 111), some (0, a1), some (0, a2), some (0, a3), some (0, v4_1), some (0, v5_2), some (1, 0), none, some (0, 1), none]) dX4_waysBy_96 rfl (Nat.le_of_ble_eq_true rfl) ?_
    refine s_wk [true, true, true, false, true, false, true, true, true, true] (ls' := [some (2, 111), some (0, a1), some (0, a2), none, some (0, v4_1), none, some (1, 0), none, some (0, 1), none]) rfl ?_
    refine s_loop (g := gX4_waysBy_l98 G Γ r sz sl td a1 a2 v4_1 c) (Ex := eX4_waysBy_l98 G Γ r sz sl td a1 a2 v4_1 c) (s0 := (0, 1)) (fun s => sX4_waysBy_l98 a1 a2 v4_1 s.1 s.2 c) ?_
    intro e_17
    show Sm _ _ (WP G Γ muX4_waysBy r 136 [none, none, none, none, none, none, some (1, e_17), none, none, none] [] (sz, sl, tt td, cv c))
    refine s_lload (pc := 136) dX4_waysBy_136 rfl ?_
    exact s_lret (pc := 138) dX4_waysBy_138 rfl (fun h => h)
  refine Sm.ite (fun hq_18 => ?_) (fun hq_18 => ?_)
  · refine s_tblIn (pc := 25) (tgt := 139) dX4_waysBy_25 4 hq_18 (by decide) rfl rfl ?_
    refine s_iconst (pc := 139) dX4_waysBy_139 ?_
    refine s_istoreD (pc := 140) (ls' := [some (2, 111), some (0, a1), some (0, a2), some (0, a3), some (0, v4_1), some (0, v5_2), some (1, 0), none, some (0, 1), none]) dX4_waysBy_140 rfl (Nat.le_of_ble_eq_true rfl) ?_
    refine s_wk [true, true, true, false, true, true, true, true, true, true] (ls' := [some (2, 111), some (0, a1), some (0, a2), none, some (0, v4_1), some (0, v5_2), some (1, 0), none, some (0, 1), none]) rfl ?_
    refine s_loop (g := gX4_waysBy_l142 G Γ r sz sl td a1 a2 v4_1 v5_2 c) (Ex := eX4_waysBy_l142 G Γ r sz sl td a1 a2 v4_1 v5_2 c) (s0 := (0, 1)) (fun s => sX4_waysBy_l142 a1 a2 v4_1 v5_2 s.1 s.2 c) ?_
    intro e_26
    show Sm _ _ (WP G Γ muX4_waysBy r 209 [none, none, none, none, none, none, some (1, e_26), none, none, none] [] (sz, sl, tt td, cv c))
    refine s_lload (pc := 209) dX4_waysBy_209 rfl ?_
    exact s_lret (pc := 211) dX4_waysBy_211 rfl (fun h => h)
  refine Sm.ite (fun hq_27 => ?_) (fun hq_27 => ?_)
  · refine s_tblIn (pc := 25) (tgt := 75) dX4_waysBy_25 5 hq_27 (by decide) rfl rfl ?_
    refine s_iload_n (pc := 75) dX4_waysBy_75 rfl ?_
    refine s_iload_n (pc := 76) dX4_waysBy_76 rfl ?_
    refine s_icmp_ge (pc := 77) (tgt := 93) dX4_waysBy_77 rfl ?_ ?_
    · refine s_lconst0 (pc := 93) dX4_waysBy_93 ?_
      exact s_lret (pc := 94) dX4_waysBy_94 rfl (fun h => h)
    refine s_aload_n (pc := 80) dX4_waysBy_80 rfl ?_
    refine s_iload_n (pc := 81) dX4_waysBy_81 rfl ?_
    refine s_iload_n (pc := 82) dX4_waysBy_82 rfl ?_
    refine s_iconst (pc := 83) dX4_waysBy_83 ?_
    refine s_isub (pc := 84) dX4_waysBy_84 ?_
    refine s_iload (pc := 85) dX4_waysBy_85 rfl ?_
    refine s_callV3 (pc := 87) (a := 111) (as := [(0, a1), (0, a2 - 1), (0, v4_1)]) (st := []) (rv := fun b => ((1, b), (sz, sl, tt td, cv c))) (st3 := fun b => [(1, b)]) (w3 := fun b => (sz, sl, tt td, cv c)) mvX4_394 (fun b h => kX4_oneOf a1 (a2 - 1) v4_1 c b h) rfl (by decide) (t_111 td) rfl rfl rfl (Nat.le_of_ble_eq_true rfl) (fun _ => Nat.le_of_ble_eq_true rfl) (fun _ => ⟨rfl, rfl⟩) dX4_waysBy_87 (fun p_28 => ?_)
    refine s_goto (pc := 90) (tgt := 94) dX4_waysBy_90 rfl ?_
    exact s_lret (pc := 94) dX4_waysBy_94 rfl (fun h => h)
  refine s_tblOut (pc := 25) (tgt := 212) dX4_waysBy_25 (by omega) rfl ?_
  refine s_iload_n (pc := 212) dX4_waysBy_212 rfl ?_
  refine s_istoreD (pc := 213) (ls' := [some (2, 111), some (0, a1), some (0, a2), some (0, a3), some (0, v4_1), some (0, v5_2), some (1, 0), none, some (0, a1), none]) dX4_waysBy_213 rfl (Nat.le_of_ble_eq_true rfl) ?_
  refine s_wk [true, true, true, false, true, true, true, true, true, true] (ls' := [some (2, 111), some (0, a1), some (0, a2), none, some (0, v4_1), some (0, v5_2), some (1, 0), none, some (0, a1), none]) rfl ?_
  refine s_loop (g := gX4_waysBy_l215 G Γ r sz sl td a1 a2 v4_1 v5_2 c) (Ex := eX4_waysBy_l215 G Γ r sz sl td a1 a2 v4_1 v5_2 c) (s0 := (0, a1)) (fun s => sX4_waysBy_l215 a1 a2 v4_1 v5_2 s.1 s.2 c) ?_
  intro e_29
  show Sm _ _ (WP G Γ muX4_waysBy r 263 [none, none, none, none, none, none, some (1, e_29), none, none, none] [] (sz, sl, tt td, cv c))
  refine s_lload (pc := 263) dX4_waysBy_263 rfl ?_
  exact s_lret (pc := 265) dX4_waysBy_265 rfl (fun h => h)
theorem kX4_waysBy {G : GG} {sz sl : Nat} {td : TT} (a1 : Int) (a2 : Int) (a3 : Int) (c : CC) (x : Int) (h : fX4_waysBy a1 a2 a3 c = some x) : Ct G yX4_waysBy muX4_waysBy [(2, 111), (0, a1), (0, a2), (0, a3)] (sz, sl, tt td, cv c) ((1, x), (sz, sl, tt td, cv c)) :=
  Ct.of (n := 6) (ls0 := [some (2, 111), some (0, a1), some (0, a2), some (0, a3), none, none, none, none, none, none]) (by decide) rfl rfl ⟨by decide, by decide⟩ (Nat.le_of_ble_eq_true rfl) rfl ⟨Nat.le_refl _, Nat.le_refl _⟩ (show (1 : Nat) ≠ 9 by decide) (fun Γ => sX4_waysBy a1 a2 a3 c x h rfl)
abbrev muX4_laysMany : MI := (cX4_laysMany, RX4, 9, none, 2, "laysMany")
abbrev gX4_laysMany_l56 (G : GG) (Γ : Cx) (r : Vv × Wd) (sz sl : Nat) (td : TT) (v1 : Int) (v2 : Int) (v3 : Int) (v4 : Int) (v5 : Int) (c : CC) : (Int × Int) → Prop := fun s => WP G Γ muX4_laysMany r 56 [some (2, 111), some (0, v1), some (0, v2), some (0, v3), some (0, v4), some (0, v5), some (1, s.1), none, some (0, s.2)] [] (sz, sl, tt td, cv c)
abbrev eX4_laysMany_l56 (G : GG) (Γ : Cx) (r : Vv × Wd) (sz sl : Nat) (td : TT) (v1 : Int) (v2 : Int) (v3 : Int) (v4 : Int) (v5 : Int) (c : CC) : (Int) → Prop := (fun s => WP G Γ muX4_laysMany r 102 [some (2, 111), some (0, v1), some (0, v2), some (0, v3), some (0, v4), some (0, v5), some (1, s), none, none] [] (sz, sl, tt td, cv c))
noncomputable def fX4_laysMany_l56 (v1 : Int) (v2 : Int) (v3 : Int) (v4 : Int) (v5 : Int) (v6 : Int) (v8 : Int) (c : CC) : Option ((Int × Int) ⊕ (Int)) :=
  if v8 < v2 then
  (gd (inR (v5 - 1)) <|
   cl (fX4_manyOf v1 v8 v3 (v5 - 1) c) fun p_4 =>
   gd (inR (v8 + 1)) <|
   cl (fX4_oneOf (v8 + 1) v2 v3 c) fun p_5 =>
   cl (fX4_times p_4 p_5 c) fun p_6 =>
   cl (fX4_plus v6 p_6 c) fun p_7 =>
   gd (inR (v8 + 1)) <| bd (v8 + 1) fun v8_8 =>
   some (.inl (p_7, v8_8)))
  else
  (some (.inr v6))
theorem sX4_laysMany_l56 {G : GG} {Γ : Cx} {r : Vv × Wd} {sz sl : Nat} {td : TT} (v1 : Int) (v2 : Int) (v3 : Int) (v4 : Int) (v5 : Int) (v6 : Int) (v8 : Int) (c : CC) : Sm (fX4_laysMany_l56 v1 v2 v3 v4 v5 v6 v8 c) (fun x => Sum.elim (gX4_laysMany_l56 G Γ r sz sl td v1 v2 v3 v4 v5 c) (eX4_laysMany_l56 G Γ r sz sl td v1 v2 v3 v4 v5 c) x) (gX4_laysMany_l56 G Γ r sz sl td v1 v2 v3 v4 v5 c (v6, v8)) := by
  show Sm _ _ (WP G Γ muX4_laysMany r 56 [some (2, 111), some (0, v1), some (0, v2), some (0, v3), some (0, v4), some (0, v5), some (1, v6), none, some (0, v8)] [] (sz, sl, tt td, cv c))
  unfold fX4_laysMany_l56
  refine s_iload (pc := 56) dX4_laysMany_56 rfl ?_
  refine s_iload_n (pc := 58) dX4_laysMany_58 rfl ?_
  refine s_icmp_ge (pc := 59) (tgt := 102) dX4_laysMany_59 rfl ?_ ?_
  · refine s_wk [true, true, true, true, true, true, true, true, false] (ls' := [some (2, 111), some (0, v1), some (0, v2), some (0, v3), some (0, v4), some (0, v5), some (1, v6), none, none]) rfl ?_
    exact Sm.some (fun h => h)
  refine s_aload_n (pc := 62) dX4_laysMany_62 rfl ?_
  refine s_lload (pc := 63) dX4_laysMany_63 rfl ?_
  refine s_aload_n (pc := 65) dX4_laysMany_65 rfl ?_
  refine s_aload_n (pc := 66) dX4_laysMany_66 rfl ?_
  refine s_iload_n (pc := 67) dX4_laysMany_67 rfl ?_
  refine s_iload (pc := 68) dX4_laysMany_68 rfl ?_
  refine s_iload_n (pc := 70) dX4_laysMany_70 rfl ?_
  refine s_iload (pc := 71) dX4_laysMany_71 rfl ?_
  refine s_iconst (pc := 73) dX4_laysMany_73 ?_
  refine s_isub (pc := 74) dX4_laysMany_74 ?_
  refine s_callV3 (pc := 75) (a := 111) (as := [(0, v1), (0, v8), (0, v3), (0, v5 - 1)]) (st := [(2, 111), (1, v6), (2, 111)]) (rv := fun b => ((1, b), (sz, sl, tt td, cv c))) (st3 := fun b => [(1, b), (2, 111), (1, v6), (2, 111)]) (w3 := fun b => (sz, sl, tt td, cv c)) mvX4_398 (fun b h => kX4_manyOf v1 v8 v3 (v5 - 1) c b h) rfl (by decide) (t_111 td) rfl rfl rfl (Nat.le_of_ble_eq_true rfl) (fun _ => Nat.le_of_ble_eq_true rfl) (fun _ => ⟨rfl, rfl⟩) dX4_laysMany_75 (fun p_4 => ?_)
  refine s_aload_n (pc := 78) dX4_laysMany_78 rfl ?_
  refine s_iload (pc := 79) dX4_laysMany_79 rfl ?_
  refine s_iconst (pc := 81) dX4_laysMany_81 ?_
  refine s_iadd (pc := 82) dX4_laysMany_82 ?_
  refine s_iload_n (pc := 83) dX4_laysMany_83 rfl ?_
  refine s_iload_n (pc := 84) dX4_laysMany_84 rfl ?_
  refine s_callV3 (pc := 85) (a := 111) (as := [(0, v8 + 1), (0, v2), (0, v3)]) (st := [(1, p_4), (2, 111), (1, v6), (2, 111)]) (rv := fun b => ((1, b), (sz, sl, tt td, cv c))) (st3 := fun b => [(1, b), (1, p_4), (2, 111), (1, v6), (2, 111)]) (w3 := fun b => (sz, sl, tt td, cv c)) mvX4_394 (fun b h => kX4_oneOf (v8 + 1) v2 v3 c b h) rfl (by decide) (t_111 td) rfl rfl rfl (Nat.le_of_ble_eq_true rfl) (fun _ => Nat.le_of_ble_eq_true rfl) (fun _ => ⟨rfl, rfl⟩) dX4_laysMany_85 (fun p_5 => ?_)
  refine s_callV3 (pc := 88) (a := 111) (as := [(1, p_4), (1, p_5)]) (st := [(1, v6), (2, 111)]) (rv := fun b => ((1, b), (sz, sl, tt td, cv c))) (st3 := fun b => [(1, b), (1, v6), (2, 111)]) (w3 := fun b => (sz, sl, tt td, cv c)) mvX4_406 (fun b h => kX4_times p_4 p_5 c b h) rfl (by decide) (t_111 td) rfl rfl rfl (Nat.le_of_ble_eq_true rfl) (fun _ => Nat.le_of_ble_eq_true rfl) (fun _ => ⟨rfl, rfl⟩) dX4_laysMany_88 (fun p_6 => ?_)
  refine s_callV3 (pc := 91) (a := 111) (as := [(1, v6), (1, p_6)]) (st := []) (rv := fun b => ((1, b), (sz, sl, tt td, cv c))) (st3 := fun b => [(1, b)]) (w3 := fun b => (sz, sl, tt td, cv c)) mvX4_402 (fun b h => kX4_plus v6 p_6 c b h) rfl (by decide) (t_111 td) rfl rfl rfl (Nat.le_of_ble_eq_true rfl) (fun _ => Nat.le_of_ble_eq_true rfl) (fun _ => ⟨rfl, rfl⟩) dX4_laysMany_91 (fun p_7 => ?_)
  refine s_lstoreD (pc := 94) (ls' := [some (2, 111), some (0, v1), some (0, v2), some (0, v3), some (0, v4), some (0, v5), some (1, p_7), none, some (0, v8)]) dX4_laysMany_94 rfl (Nat.le_of_ble_eq_true rfl) ?_
  refine s_iinc (pc := 96) (lf := fun x => [some (2, 111), some (0, v1), some (0, v2), some (0, v3), some (0, v4), some (0, v5), some (1, p_7), none, some (0, x)]) dX4_laysMany_96 rfl (fun _ => rfl) (Nat.le_of_ble_eq_true rfl) (fun v8_8 => ?_)
  refine s_goto (pc := 99) (tgt := 56) dX4_laysMany_99 rfl ?_
  exact Sm.some (fun h => h)
abbrev gX4_laysMany_l43 (G : GG) (Γ : Cx) (r : Vv × Wd) (sz sl : Nat) (td : TT) (v1 : Int) (v2 : Int) (v3 : Int) (v4 : Int) : (Int × CC) → Prop := fun s => WP G Γ muX4_laysMany r 43 [some (2, 111), some (0, v1), some (0, v2), some (0, v3), some (0, v4), some (0, s.1), none, none, none] [] (sz, sl, tt td, cv s.2)
abbrev eX4_laysMany_l43 (G : GG) (Γ : Cx) (r : Vv × Wd) (sz sl : Nat) (td : TT) (v1 : Int) (v2 : Int) (v3 : Int) (v4 : Int) : (CC) → Prop := (fun s => WP G Γ muX4_laysMany r 120 [some (2, 111), some (0, v1), some (0, v2), some (0, v3), none, none, none, none, none] [] (sz, sl, tt td, cv s))
noncomputable def fX4_laysMany_l43 (v1 : Int) (v2 : Int) (v3 : Int) (v4 : Int) (v5 : Int) (c : CC) : Option ((Int × CC) ⊕ (CC)) :=
  if v5 < 6 then
  (cl (wh (fun s => fX4_laysMany_l56 v1 v2 v3 v4 v5 s.1 s.2 c) (0, v1)) (fun e_9 =>
  gd (inR (v4 + v5)) <|
   gd ((0 : Int) ≤ v4 + v5 ∧ v4 + v5 < 27648) <| bd (up2 c 139 (Int.toNat (v4 + v5)) e_9) fun c_10 =>
   gd (inR (v5 + 1)) <| bd (v5 + 1) fun v5_11 =>
   some (.inl (v5_11, c_10))))
  else
  (some (.inr c))
theorem sX4_laysMany_l43 {G : GG} {Γ : Cx} {r : Vv × Wd} {sz sl : Nat} {td : TT} (v1 : Int) (v2 : Int) (v3 : Int) (v4 : Int) (v5 : Int) (c : CC) : Sm (fX4_laysMany_l43 v1 v2 v3 v4 v5 c) (fun x => Sum.elim (gX4_laysMany_l43 G Γ r sz sl td v1 v2 v3 v4) (eX4_laysMany_l43 G Γ r sz sl td v1 v2 v3 v4) x) (gX4_laysMany_l43 G Γ r sz sl td v1 v2 v3 v4 (v5, c)) := by
  show Sm _ _ (WP G Γ muX4_laysMany r 43 [some (2, 111), some (0, v1), some (0, v2), some (0, v3), some (0, v4), some (0, v5), none, none, none] [] (sz, sl, tt td, cv c))
  unfold fX4_laysMany_l43
  refine s_iload (pc := 43) dX4_laysMany_43 rfl ?_
  refine s_bipush (pc := 45) dX4_laysMany_45 ?_
  refine s_icmp_ge (pc := 47) (tgt := 120) dX4_laysMany_47 rfl ?_ ?_
  · refine s_wk [true, true, true, true, false, false, true, true, true] (ls' := [some (2, 111), some (0, v1), some (0, v2), some (0, v3), none, none, none, none, none]) rfl ?_
    exact Sm.some (fun h => h)
  refine s_lconst0 (pc := 50) dX4_laysMany_50 ?_
  refine s_lstoreD (pc := 51) (ls' := [some (2, 111), some (0, v1), some (0, v2), some (0, v3), some (0, v4), some (0, v5), some (1, 0), none, none]) dX4_laysMany_51 rfl (Nat.le_of_ble_eq_true rfl) ?_
  refine s_iload_n (pc := 53) dX4_laysMany_53 rfl ?_
  refine s_istoreD (pc := 54) (ls' := [some (2, 111), some (0, v1), some (0, v2), some (0, v3), some (0, v4), some (0, v5), some (1, 0), none, some (0, v1)]) dX4_laysMany_54 rfl (Nat.le_of_ble_eq_true rfl) ?_
  refine s_loop (g := gX4_laysMany_l56 G Γ r sz sl td v1 v2 v3 v4 v5 c) (Ex := eX4_laysMany_l56 G Γ r sz sl td v1 v2 v3 v4 v5 c) (s0 := (0, v1)) (fun s => sX4_laysMany_l56 v1 v2 v3 v4 v5 s.1 s.2 c) ?_
  intro e_9
  show Sm _ _ (WP G Γ muX4_laysMany r 102 [some (2, 111), some (0, v1), some (0, v2), some (0, v3), some (0, v4), some (0, v5), some (1, e_9), none, none] [] (sz, sl, tt td, cv c))
  refine s_aload_n (pc := 102) dX4_laysMany_102 rfl ?_
  refine s_get (pc := 103) (a := 111) (v := 139) flX4_100 (t_111 _) rfl (g_111_44 _) rfl dX4_laysMany_103 ?_
  refine s_iload (pc := 106) dX4_laysMany_106 rfl ?_
  refine s_iload (pc := 108) dX4_laysMany_108 rfl ?_
  refine s_iadd (pc := 110) dX4_laysMany_110 ?_
  refine s_lload (pc := 111) dX4_laysMany_111 rfl ?_
  refine s_lastM (pc := 113) (a := 139) (t_139 _) rfl kO_139 r_139 dX4_laysMany_113 (fun c_10 => ?_)
  refine s_iinc (pc := 114) (lf := fun x => [some (2, 111), some (0, v1), some (0, v2), some (0, v3), some (0, v4), some (0, x), some (1, e_9), none, none]) dX4_laysMany_114 rfl (fun _ => rfl) (Nat.le_of_ble_eq_true rfl) (fun v5_11 => ?_)
  refine s_goto (pc := 117) (tgt := 43) dX4_laysMany_117 rfl ?_
  refine s_wk [true, true, true, true, true, true, false, true, true] (ls' := [some (2, 111), some (0, v1), some (0, v2), some (0, v3), some (0, v4), some (0, v5_11), none, none, none]) rfl ?_
  exact Sm.some (fun h => h)
abbrev gX4_laysMany_l2 (G : GG) (Γ : Cx) (r : Vv × Wd) (sz sl : Nat) (td : TT) (v1 : Int) (v2 : Int) : (Int × CC) → Prop := fun s => WP G Γ muX4_laysMany r 2 [some (2, 111), some (0, v1), some (0, v2), some (0, s.1), none, none, none, none, none] [] (sz, sl, tt td, cv s.2)
abbrev eX4_laysMany_l2 (G : GG) (Γ : Cx) (r : Vv × Wd) (sz sl : Nat) (td : TT) (v1 : Int) (v2 : Int) : (CC) → Prop := (fun s => WP G Γ muX4_laysMany r 126 [none, none, none, none, none, none, none, none, none] [] (sz, sl, tt td, cv s))
noncomputable def fX4_laysMany_l2 (v1 : Int) (v2 : Int) (v3 : Int) (c : CC) : Option ((Int × CC) ⊕ (CC)) :=
  if v3 < 8 then
  (gd (inR (24 * v1)) <|
   gd (inR ((24 * v1) + v2)) <|
   gd (inR (((24 * v1) + v2) * 8)) <|
   gd (inR ((((24 * v1) + v2) * 8) + v3)) <|
   gd (inR (((((24 * v1) + v2) * 8) + v3) * 6)) <|
   bd (((((24 * v1) + v2) * 8) + v3) * 6) fun v4_1 =>
   gd (inR (v4_1 + 1)) <|
   cl (fX4_oneOf v1 v2 v3 c) fun p_2 =>
   gd ((0 : Int) ≤ v4_1 + 1 ∧ v4_1 + 1 < 27648) <| bd (up2 c 139 (Int.toNat (v4_1 + 1)) p_2) fun c_3 =>
   cl (wh (fun s => fX4_laysMany_l43 v1 v2 v3 v4_1 s.1 s.2) (2, c_3)) (fun e_12 =>
  gd (inR (v3 + 1)) <| bd (v3 + 1) fun v3_13 =>
   some (.inl (v3_13, e_12))))
  else
  (some (.inr c))
theorem sX4_laysMany_l2 {G : GG} {Γ : Cx} {r : Vv × Wd} {sz sl : Nat} {td : TT} (v1 : Int) (v2 : Int) (v3 : Int) (c : CC) : Sm (fX4_laysMany_l2 v1 v2 v3 c) (fun x => Sum.elim (gX4_laysMany_l2 G Γ r sz sl td v1 v2) (eX4_laysMany_l2 G Γ r sz sl td v1 v2) x) (gX4_laysMany_l2 G Γ r sz sl td v1 v2 (v3, c)) := by
  show Sm _ _ (WP G Γ muX4_laysMany r 2 [some (2, 111), some (0, v1), some (0, v2), some (0, v3), none, none, none, none, none] [] (sz, sl, tt td, cv c))
  unfold fX4_laysMany_l2
  refine s_iload_n (pc := 2) dX4_laysMany_2 rfl ?_
  refine s_bipush (pc := 3) dX4_laysMany_3 ?_
  refine s_icmp_ge (pc := 5) (tgt := 126) dX4_laysMany_5 rfl ?_ ?_
  · refine s_wk [false, false, false, false, true, true, true, true, true] (ls' := [none, none, none, none, none, none, none, none, none]) rfl ?_
    exact Sm.some (fun h => h)
  refine s_bipush (pc := 8) dX4_laysMany_8 ?_
  refine s_iload_n (pc := 10) dX4_laysMany_10 rfl ?_
  refine s_imul (pc := 11) dX4_laysMany_11 ?_
  refine s_iload_n (pc := 12) dX4_laysMany_12 rfl ?_
  refine s_iadd (pc := 13) dX4_laysMany_13 ?_
  refine s_bipush (pc := 14) dX4_laysMany_14 ?_
  refine s_imul (pc := 16) dX4_laysMany_16 ?_
  refine s_iload_n (pc := 17) dX4_laysMany_17 rfl ?_
  refine s_iadd (pc := 18) dX4_laysMany_18 ?_
  refine s_bipush (pc := 19) dX4_laysMany_19 ?_
  refine s_imul (pc := 21) dX4_laysMany_21 ?_
  refine s_istore (pc := 22) (lf := fun x => [some (2, 111), some (0, v1), some (0, v2), some (0, v3), some (0, x), none, none, none, none]) dX4_laysMany_22 (fun _ => rfl) (Nat.le_of_ble_eq_true rfl) (fun v4_1 => ?_)
  refine s_aload_n (pc := 24) dX4_laysMany_24 rfl ?_
  refine s_get (pc := 25) (a := 111) (v := 139) flX4_100 (t_111 _) rfl (g_111_44 _) rfl dX4_laysMany_25 ?_
  refine s_iload (pc := 28) dX4_laysMany_28 rfl ?_
  refine s_iconst (pc := 30) dX4_laysMany_30 ?_
  refine s_iadd (pc := 31) dX4_laysMany_31 ?_
  refine s_aload_n (pc := 32) dX4_laysMany_32 rfl ?_
  refine s_iload_n (pc := 33) dX4_laysMany_33 rfl ?_
  refine s_iload_n (pc := 34) dX4_laysMany_34 rfl ?_
  refine s_iload_n (pc := 35) dX4_laysMany_35 rfl ?_
  refine s_callV3 (pc := 36) (a := 111) (as := [(0, v1), (0, v2), (0, v3)]) (st := [(0, v4_1 + 1), (2, 139)]) (rv := fun b => ((1, b), (sz, sl, tt td, cv c))) (st3 := fun b => [(1, b), (0, v4_1 + 1), (2, 139)]) (w3 := fun b => (sz, sl, tt td, cv c)) mvX4_394 (fun b h => kX4_oneOf v1 v2 v3 c b h) rfl (by decide) (t_111 td) rfl rfl rfl (Nat.le_of_ble_eq_true rfl) (fun _ => Nat.le_of_ble_eq_true rfl) (fun _ => ⟨rfl, rfl⟩) dX4_laysMany_36 (fun p_2 => ?_)
  refine s_lastM (pc := 39) (a := 139) (t_139 _) rfl kO_139 r_139 dX4_laysMany_39 (fun c_3 => ?_)
  refine s_iconst (pc := 40) dX4_laysMany_40 ?_
  refine s_istoreD (pc := 41) (ls' := [some (2, 111), some (0, v1), some (0, v2), some (0, v3), some (0, v4_1), some (0, 2), none, none, none]) dX4_laysMany_41 rfl (Nat.le_of_ble_eq_true rfl) ?_
  refine s_loop (g := gX4_laysMany_l43 G Γ r sz sl td v1 v2 v3 v4_1) (Ex := eX4_laysMany_l43 G Γ r sz sl td v1 v2 v3 v4_1) (s0 := (2, c_3)) (fun s => sX4_laysMany_l43 v1 v2 v3 v4_1 s.1 s.2) ?_
  intro e_12
  show Sm _ _ (WP G Γ muX4_laysMany r 120 [some (2, 111), some (0, v1), some (0, v2), some (0, v3), none, none, none, none, none] [] (sz, sl, tt td, cv e_12))
  refine s_iinc (pc := 120) (lf := fun x => [some (2, 111), some (0, v1), some (0, v2), some (0, x), none, none, none, none, none]) dX4_laysMany_120 rfl (fun _ => rfl) (Nat.le_of_ble_eq_true rfl) (fun v3_13 => ?_)
  refine s_goto (pc := 123) (tgt := 2) dX4_laysMany_123 rfl ?_
  exact Sm.some (fun h => h)
noncomputable def fX4_laysMany (a1 : Int) (a2 : Int) (c : CC) : Option CC :=
  cl (wh (fun s => fX4_laysMany_l2 a1 a2 s.1 s.2) (0, c)) (fun e_14 =>
  some e_14)
theorem sX4_laysMany {G : GG} {Γ : Cx} {r : Vv × Wd} {sz sl : Nat} {td : TT} (a1 : Int) (a2 : Int) (c : CC) : Sm (fX4_laysMany a1 a2 c) (fun x => r = ((3, 0), (sz, sl, tt td, cv x))) (WP G Γ muX4_laysMany r 0 [some (2, 111), some (0, a1), some (0, a2), none, none, none, none, none, none] [] (sz, sl, tt td, cv c)) := by
  unfold fX4_laysMany
  refine s_iconst (pc := 0) dX4_laysMany_0 ?_
  refine s_istore_nD (pc := 1) (ls' := [some (2, 111), some (0, a1), some (0, a2), some (0, 0), none, none, none, none, none]) dX4_laysMany_1 rfl (Nat.le_of_ble_eq_true rfl) ?_
  refine s_loop (g := gX4_laysMany_l2 G Γ r sz sl td a1 a2) (Ex := eX4_laysMany_l2 G Γ r sz sl td a1 a2) (s0 := (0, c)) (fun s => sX4_laysMany_l2 a1 a2 s.1 s.2) ?_
  intro e_14
  show Sm _ _ (WP G Γ muX4_laysMany r 126 [none, none, none, none, none, none, none, none, none] [] (sz, sl, tt td, cv e_14))
  exact s_vret (pc := 126) dX4_laysMany_126 rfl (fun h => h)
theorem kX4_laysMany {G : GG} {sz sl : Nat} {td : TT} (a1 : Int) (a2 : Int) (c : CC) (x : CC) (h : fX4_laysMany a1 a2 c = some x) : Ct G yX4_laysMany muX4_laysMany [(2, 111), (0, a1), (0, a2)] (sz, sl, tt td, cv c) ((3, 0), (sz, sl, tt td, cv x)) :=
  Ct.of (n := 6) (ls0 := [some (2, 111), some (0, a1), some (0, a2), none, none, none, none, none, none]) (by decide) rfl rfl ⟨by decide, by decide⟩ (Nat.le_of_ble_eq_true rfl) rfl ⟨Nat.le_refl _, Nat.le_refl _⟩ (show (3 : Nat) ≠ 9 by decide) (fun Γ => sX4_laysMany a1 a2 c x h rfl)
theorem fpX4_388 (nm : String) : FP RX4 388 3 45 nm := ⟨_, _, _, cf3, by decide, q1289, Or.inl rfl⟩
theorem fpX4_388t : fty 3 45 ≠ .boolean ∧ fty 3 45 ≠ .byte ∧ fty 3 45 ≠ .char ∧ fty 3 45 ≠ .short := by decide
theorem mvX4_409 : MV RX4 409 RX4 yX4_senses muX4_senses 0 := ⟨lw_V q1677 q1679 qs82 q129 q1680, by decide +kernel, by decide⟩
theorem mvX4_412 : MV RX4 412 RX4 yX4_at24 muX4_at24 1 := ⟨lw_V q1681 q1683 qs83 q129 q1684, by decide +kernel, by decide⟩
theorem mvX4_415 : MV RX4 415 RX4 yX4_waysBy muX4_waysBy 3 := ⟨lw_V q1685 q1687 qs84 q129 q1688, by decide +kernel, by decide⟩
theorem mvX4_418 : MV RX4 418 RX4 yX4_laysMany muX4_laysMany 2 := ⟨lw_V q1706 q1708 qs89 q129 q1709, by decide +kernel, by decide⟩
abbrev muX4_laysSpans : MI := (cX4_laysSpans, RX4, 10, none, 3, "laysSpans")
abbrev gX4_laysSpans_l43 (G : GG) (Γ : Cx) (r : Vv × Wd) (sz sl : Nat) (td : TT) (v3 : Int) (v4 : Int) (v5 : Int) (v6 : Int) : (Int × CC) → Prop := fun s => WP G Γ muX4_laysSpans r 43 [some (2, 111), none, none, some (0, v3), some (0, v4), some (0, v5), some (0, v6), some (0, s.1), none, none] [] (sz, sl, tt td, cv s.2)
abbrev eX4_laysSpans_l43 (G : GG) (Γ : Cx) (r : Vv × Wd) (sz sl : Nat) (td : TT) (v3 : Int) (v4 : Int) (v5 : Int) (v6 : Int) : (CC) → Prop := (fun s => WP G Γ muX4_laysSpans r 76 [some (2, 111), none, none, some (0, v3), some (0, v4), some (0, v5), some (0, v6), none, none, none] [] (sz, sl, tt td, cv s))
noncomputable def fX4_laysSpans_l43 (v3 : Int) (v4 : Int) (v5 : Int) (v6 : Int) (v7 : Int) (c : CC) : Option ((Int × CC) ⊕ (CC)) :=
  if v7 < 8 then
  (gd (inR (24 * v5)) <|
   gd (inR ((24 * v5) + v6)) <|
   gd (inR (((24 * v5) + v6) * 8)) <|
   gd (inR ((((24 * v5) + v6) * 8) + v7)) <|
   gd ((0 : Int) ≤ (((24 * v5) + v6) * 8) + v7 ∧ (((24 * v5) + v6) * 8) + v7 < 4608) <| bd (up2 c 138 (Int.toNat ((((24 * v5) + v6) * 8) + v7)) 0) fun c_4 =>
   gd (inR (v7 + 1)) <| bd (v7 + 1) fun v7_5 =>
   some (.inl (v7_5, c_4)))
  else
  (some (.inr c))
theorem sX4_laysSpans_l43 {G : GG} {Γ : Cx} {r : Vv × Wd} {sz sl : Nat} {td : TT} (v3 : Int) (v4 : Int) (v5 : Int) (v6 : Int) (v7 : Int) (c : CC) : Sm (fX4_laysSpans_l43 v3 v4 v5 v6 v7 c) (fun x => Sum.elim (gX4_laysSpans_l43 G Γ r sz sl td v3 v4 v5 v6) (eX4_laysSpans_l43 G Γ r sz sl td v3 v4 v5 v6) x) (gX4_laysSpans_l43 G Γ r sz sl td v3 v4 v5 v6 (v7, c)) := by
  show Sm _ _ (WP G Γ muX4_laysSpans r 43 [some (2, 111), none, none, some (0, v3), some (0, v4), some (0, v5), some (0, v6), some (0, v7), none, none] [] (sz, sl, tt td, cv c))
  unfold fX4_laysSpans_l43
  refine s_iload (pc := 43) dX4_laysSpans_43 rfl ?_
  refine s_bipush (pc := 45) dX4_laysSpans_45 ?_
  refine s_icmp_ge (pc := 47) (tgt := 76) dX4_laysSpans_47 rfl ?_ ?_
  · refine s_wk [true, true, true, true, true, true, true, false, true, true] (ls' := [some (2, 111), none, none, some (0, v3), some (0, v4), some (0, v5), some (0, v6), none, none, none]) rfl ?_
    exact Sm.some (fun h => h)
  refine s_aload_n (pc := 50) dX4_laysSpans_50 rfl ?_
  refine s_get (pc := 51) (a := 111) (v := 138) flX4_97 (t_111 _) rfl (g_111_43 _) rfl dX4_laysSpans_51 ?_
  refine s_bipush (pc := 54) dX4_laysSpans_54 ?_
  refine s_iload (pc := 56) dX4_laysSpans_56 rfl ?_
  refine s_imul (pc := 58) dX4_laysSpans_58 ?_
  refine s_iload (pc := 59) dX4_laysSpans_59 rfl ?_
  refine s_iadd (pc := 61) dX4_laysSpans_61 ?_
  refine s_bipush (pc := 62) dX4_laysSpans_62 ?_
  refine s_imul (pc := 64) dX4_laysSpans_64 ?_
  refine s_iload (pc := 65) dX4_laysSpans_65 rfl ?_
  refine s_iadd (pc := 67) dX4_laysSpans_67 ?_
  refine s_lconst0 (pc := 68) dX4_laysSpans_68 ?_
  refine s_lastM (pc := 69) (a := 138) (t_138 _) rfl kO_138 r_138 dX4_laysSpans_69 (fun c_4 => ?_)
  refine s_iinc (pc := 70) (lf := fun x => [some (2, 111), none, none, some (0, v3), some (0, v4), some (0, v5), some (0, v6), some (0, x), none, none]) dX4_laysSpans_70 rfl (fun _ => rfl) (Nat.le_of_ble_eq_true rfl) (fun v7_5 => ?_)
  refine s_goto (pc := 73) (tgt := 43) dX4_laysSpans_73 rfl ?_
  exact Sm.some (fun h => h)
abbrev gX4_laysSpans_l79 (G : GG) (Γ : Cx) (r : Vv × Wd) (sz sl : Nat) (td : TT) (v3 : Int) (v4 : Int) (v5 : Int) (v6 : Int) : (Int × CC) → Prop := fun s => WP G Γ muX4_laysSpans r 79 [some (2, 111), none, none, some (0, v3), some (0, v4), some (0, v5), some (0, v6), some (0, s.1), none, none] [] (sz, sl, tt td, cv s.2)
abbrev eX4_laysSpans_l79 (G : GG) (Γ : Cx) (r : Vv × Wd) (sz sl : Nat) (td : TT) (v3 : Int) (v4 : Int) (v5 : Int) (v6 : Int) : (CC) → Prop := (fun s => WP G Γ muX4_laysSpans r 171 [some (2, 111), none, none, some (0, v3), some (0, v4), some (0, v5), some (0, v6), none, none, none] [] (sz, sl, tt td, cv s))
noncomputable def fX4_laysSpans_l79 (v3 : Int) (v4 : Int) (v5 : Int) (v6 : Int) (v7 : Int) (c : CC) : Option ((Int × CC) ⊕ (CC)) :=
  cl (fX4_senses  c) fun p_7 =>
   if v7 < p_7 then
  (cl (fX4_at24 v7 c) fun p_8 =>
   gd ((0 : Int) ≤ p_8 ∧ p_8 < 144) <|
   gd (inR (10 + v6)) <|
   gd ((0 : Int) ≤ 10 + v6 ∧ 10 + v6 < 40) <|
   if c 118 (Int.toNat p_8) = c 112 (Int.toNat (10 + v6)) then
  (gd (inR (24 * v5)) <|
   gd (inR ((24 * v5) + v6)) <|
   gd (inR (((24 * v5) + v6) * 8)) <|
   gd ((0 : Int) ≤ p_8 ∧ p_8 < 144) <|
   gd (inR ((((24 * v5) + v6) * 8) + (c 122 (Int.toNat p_8)))) <|
   bd ((((24 * v5) + v6) * 8) + (c 122 (Int.toNat p_8))) fun v9_10 =>
   gd ((0 : Int) ≤ v9_10 ∧ v9_10 < 4608) <|
   cl (fX4_waysBy v5 v6 p_8 c) fun p_11 =>
   cl (fX4_plus (c 138 (Int.toNat v9_10)) p_11 c) fun p_12 =>
   gd ((0 : Int) ≤ v9_10 ∧ v9_10 < 4608) <| bd (up2 c 138 (Int.toNat v9_10) p_12) fun c_13 =>
   gd (inR (v7 + 1)) <| bd (v7 + 1) fun v7_14 =>
   some (.inl (v7_14, c_13)))
  else
  (gd (inR (v7 + 1)) <| bd (v7 + 1) fun v7_9 =>
   some (.inl (v7_9, c))))
  else
  (some (.inr c))
theorem sX4_laysSpans_l79 {G : GG} {Γ : Cx} {r : Vv × Wd} {sz sl : Nat} {td : TT} (v3 : Int) (v4 : Int) (v5 : Int) (v6 : Int) (v7 : Int) (c : CC) : Sm (fX4_laysSpans_l79 v3 v4 v5 v6 v7 c) (fun x => Sum.elim (gX4_laysSpans_l79 G Γ r sz sl td v3 v4 v5 v6) (eX4_laysSpans_l79 G Γ r sz sl td v3 v4 v5 v6) x) (gX4_laysSpans_l79 G Γ r sz sl td v3 v4 v5 v6 (v7, c)) := by
  show Sm _ _ (WP G Γ muX4_laysSpans r 79 [some (2, 111), none, none, some (0, v3), some (0, v4), some (0, v5), some (0, v6), some (0, v7), none, none] [] (sz, sl, tt td, cv c))
  unfold fX4_laysSpans_l79
  refine s_iload (pc := 79) dX4_laysSpans_79 rfl ?_
  refine s_aload_n (pc := 81) dX4_laysSpans_81 rfl ?_
  refine s_callV3 (pc := 82) (a := 111) (as := []) (st := [(0, v7)]) (rv := fun b => ((0, b), (sz, sl, tt td, cv c))) (st3 := fun b => [(0, b), (0, v7)]) (w3 := fun b => (sz, sl, tt td, cv c)) mvX4_409 (fun b h => kX4_senses  c b h) rfl (by decide) (t_111 td) rfl rfl rfl (Nat.le_of_ble_eq_true rfl) (fun _ => Nat.le_of_ble_eq_true rfl) (fun _ => ⟨rfl, rfl⟩) dX4_laysSpans_82 (fun p_7 => ?_)
  refine s_icmp_ge (pc := 85) (tgt := 171) dX4_laysSpans_85 rfl ?_ ?_
  · refine s_wk [true, true, true, true, true, true, true, false, true, true] (ls' := [some (2, 111), none, none, some (0, v3), some (0, v4), some (0, v5), some (0, v6), none, none, none]) rfl ?_
    exact Sm.some (fun h => h)
  refine s_aload_n (pc := 88) dX4_laysSpans_88 rfl ?_
  refine s_iload (pc := 89) dX4_laysSpans_89 rfl ?_
  refine s_callV3 (pc := 91) (a := 111) (as := [(0, v7)]) (st := []) (rv := fun b => ((0, b), (sz, sl, tt td, cv c))) (st3 := fun b => [(0, b)]) (w3 := fun b => (sz, sl, tt td, cv c)) mvX4_412 (fun b h => kX4_at24 v7 c b h) rfl (by decide) (t_111 td) rfl rfl rfl (Nat.le_of_ble_eq_true rfl) (fun _ => Nat.le_of_ble_eq_true rfl) (fun _ => ⟨rfl, rfl⟩) dX4_laysSpans_91 (fun p_8 => ?_)
  refine s_istoreD (pc := 94) (ls' := [some (2, 111), none, none, some (0, v3), some (0, v4), some (0, v5), some (0, v6), some (0, v7), some (0, p_8), none]) dX4_laysSpans_94 rfl (Nat.le_of_ble_eq_true rfl) ?_
  refine s_aload_n (pc := 96) dX4_laysSpans_96 rfl ?_
  refine s_get (pc := 97) (a := 111) (v := 118) flX4_36 (t_111 _) rfl (g_111_9 _) rfl dX4_laysSpans_97 ?_
  refine s_iload (pc := 100) dX4_laysSpans_100 rfl ?_
  refine s_ialdM (pc := 102) (a := 118) (t_118 _) rfl r_118 dX4_laysSpans_102 ?_
  refine s_aload_n (pc := 103) dX4_laysSpans_103 rfl ?_
  refine s_get (pc := 104) (a := 111) (v := 112) flX4_7 (t_111 _) rfl (g_111_0 _) rfl dX4_laysSpans_104 ?_
  refine s_bipush (pc := 107) dX4_laysSpans_107 ?_
  refine s_iload (pc := 109) dX4_laysSpans_109 rfl ?_
  refine s_iadd (pc := 111) dX4_laysSpans_111 ?_
  refine s_ialdM (pc := 112) (a := 112) (t_112 _) rfl r_112 dX4_laysSpans_112 ?_
  refine s_icmp_ne (pc := 113) (tgt := 165) dX4_laysSpans_113 rfl ?_ ?_
  · refine s_iinc (pc := 165) (lf := fun x => [some (2, 111), none, none, some (0, v3), some (0, v4), some (0, v5), some (0, v6), some (0, x), some (0, p_8), none]) dX4_laysSpans_165 rfl (fun _ => rfl) (Nat.le_of_ble_eq_true rfl) (fun v7_9 => ?_)
    refine s_goto (pc := 168) (tgt := 79) dX4_laysSpans_168 rfl ?_
    refine s_wk [true, true, true, true, true, true, true, true, false, true] (ls' := [some (2, 111), none, none, some (0, v3), some (0, v4), some (0, v5), some (0, v6), some (0, v7_9), none, none]) rfl ?_
    exact Sm.some (fun h => h)
  refine s_bipush (pc := 116) dX4_laysSpans_116 ?_
  refine s_iload (pc := 118) dX4_laysSpans_118 rfl ?_
  refine s_imul (pc := 120) dX4_laysSpans_120 ?_
  refine s_iload (pc := 121) dX4_laysSpans_121 rfl ?_
  refine s_iadd (pc := 123) dX4_laysSpans_123 ?_
  refine s_bipush (pc := 124) dX4_laysSpans_124 ?_
  refine s_imul (pc := 126) dX4_laysSpans_126 ?_
  refine s_aload_n (pc := 127) dX4_laysSpans_127 rfl ?_
  refine s_get (pc := 128) (a := 111) (v := 122) flX4_48 (t_111 _) rfl (g_111_13 _) rfl dX4_laysSpans_128 ?_
  refine s_iload (pc := 131) dX4_laysSpans_131 rfl ?_
  refine s_ialdM (pc := 133) (a := 122) (t_122 _) rfl r_122 dX4_laysSpans_133 ?_
  refine s_iadd (pc := 134) dX4_laysSpans_134 ?_
  refine s_istore (pc := 135) (lf := fun x => [some (2, 111), none, none, some (0, v3), some (0, v4), some (0, v5), some (0, v6), some (0, v7), some (0, p_8), some (0, x)]) dX4_laysSpans_135 (fun _ => rfl) (Nat.le_of_ble_eq_true rfl) (fun v9_10 => ?_)
  refine s_aload_n (pc := 137) dX4_laysSpans_137 rfl ?_
  refine s_get (pc := 138) (a := 111) (v := 138) flX4_97 (t_111 _) rfl (g_111_43 _) rfl dX4_laysSpans_138 ?_
  refine s_iload (pc := 141) dX4_laysSpans_141 rfl ?_
  refine s_aload_n (pc := 143) dX4_laysSpans_143 rfl ?_
  refine s_aload_n (pc := 144) dX4_laysSpans_144 rfl ?_
  refine s_get (pc := 145) (a := 111) (v := 138) flX4_97 (t_111 _) rfl (g_111_43 _) rfl dX4_laysSpans_145 ?_
  refine s_iload (pc := 148) dX4_laysSpans_148 rfl ?_
  refine s_laldM (pc := 150) (a := 138) (t_138 _) rfl r_138 dX4_laysSpans_150 ?_
  refine s_aload_n (pc := 151) dX4_laysSpans_151 rfl ?_
  refine s_iload (pc := 152) dX4_laysSpans_152 rfl ?_
  refine s_iload (pc := 154) dX4_laysSpans_154 rfl ?_
  refine s_iload (pc := 156) dX4_laysSpans_156 rfl ?_
  refine s_callV3 (pc := 158) (a := 111) (as := [(0, v5), (0, v6), (0, p_8)]) (st := [(1, c 138 (Int.toNat v9_10)), (2, 111), (0, v9_10), (2, 138)]) (rv := fun b => ((1, b), (sz, sl, tt td, cv c))) (st3 := fun b => [(1, b), (1, c 138 (Int.toNat v9_10)), (2, 111), (0, v9_10), (2, 138)]) (w3 := fun b => (sz, sl, tt td, cv c)) mvX4_415 (fun b h => kX4_waysBy v5 v6 p_8 c b h) rfl (by decide) (t_111 td) rfl rfl rfl (Nat.le_of_ble_eq_true rfl) (fun _ => Nat.le_of_ble_eq_true rfl) (fun _ => ⟨rfl, rfl⟩) dX4_laysSpans_158 (fun p_11 => ?_)
  refine s_callV3 (pc := 161) (a := 111) (as := [(1, c 138 (Int.toNat v9_10)), (1, p_11)]) (st := [(0, v9_10), (2, 138)]) (rv := fun b => ((1, b), (sz, sl, tt td, cv c))) (st3 := fun b => [(1, b), (0, v9_10), (2, 138)]) (w3 := fun b => (sz, sl, tt td, cv c)) mvX4_402 (fun b h => kX4_plus (c 138 (Int.toNat v9_10)) p_11 c b h) rfl (by decide) (t_111 td) rfl rfl rfl (Nat.le_of_ble_eq_true rfl) (fun _ => Nat.le_of_ble_eq_true rfl) (fun _ => ⟨rfl, rfl⟩) dX4_laysSpans_161 (fun p_12 => ?_)
  refine s_lastM (pc := 164) (a := 138) (t_138 _) rfl kO_138 r_138 dX4_laysSpans_164 (fun c_13 => ?_)
  refine s_iinc (pc := 165) (lf := fun x => [some (2, 111), none, none, some (0, v3), some (0, v4), some (0, v5), some (0, v6), some (0, x), some (0, p_8), some (0, v9_10)]) dX4_laysSpans_165 rfl (fun _ => rfl) (Nat.le_of_ble_eq_true rfl) (fun v7_14 => ?_)
  refine s_goto (pc := 168) (tgt := 79) dX4_laysSpans_168 rfl ?_
  refine s_wk [true, true, true, true, true, true, true, true, false, false] (ls' := [some (2, 111), none, none, some (0, v3), some (0, v4), some (0, v5), some (0, v6), some (0, v7_14), none, none]) rfl ?_
  exact Sm.some (fun h => h)
abbrev gX4_laysSpans_l24 (G : GG) (Γ : Cx) (r : Vv × Wd) (sz sl : Nat) (td : TT) (v3 : Int) (v4 : Int) : (Int × CC) → Prop := fun s => WP G Γ muX4_laysSpans r 24 [some (2, 111), none, none, some (0, v3), some (0, v4), some (0, s.1), none, none, none, none] [] (sz, sl, tt td, cv s.2)
abbrev eX4_laysSpans_l24 (G : GG) (Γ : Cx) (r : Vv × Wd) (sz sl : Nat) (td : TT) (v3 : Int) (v4 : Int) : (CC) → Prop := (fun s => WP G Γ muX4_laysSpans r 185 [some (2, 111), none, none, some (0, v3), some (0, v4), none, none, none, none, none] [] (sz, sl, tt td, cv s))
noncomputable def fX4_laysSpans_l24 (v3 : Int) (v4 : Int) (v5 : Int) (c : CC) : Option ((Int × CC) ⊕ (CC)) :=
  gd (inR (v5 + v4)) <|
   if v5 + v4 < v3 then
  (gd (inR (v5 + v4)) <|
   bd (v5 + v4) fun v6_3 =>
   cl (wh (fun s => fX4_laysSpans_l43 v3 v4 v5 v6_3 s.1 s.2) (0, c)) (fun e_6 =>
  cl (wh (fun s => fX4_laysSpans_l79 v3 v4 v5 v6_3 s.1 s.2) (0, e_6)) (fun e_15 =>
  cl (fX4_laysMany v5 v6_3 e_15) fun p_16 =>
   gd (inR (v5 + 1)) <| bd (v5 + 1) fun v5_17 =>
   some (.inl (v5_17, p_16)))))
  else
  (some (.inr c))
theorem sX4_laysSpans_l24 {G : GG} {Γ : Cx} {r : Vv × Wd} {sz sl : Nat} {td : TT} (v3 : Int) (v4 : Int) (v5 : Int) (c : CC) : Sm (fX4_laysSpans_l24 v3 v4 v5 c) (fun x => Sum.elim (gX4_laysSpans_l24 G Γ r sz sl td v3 v4) (eX4_laysSpans_l24 G Γ r sz sl td v3 v4) x) (gX4_laysSpans_l24 G Γ r sz sl td v3 v4 (v5, c)) := by
  show Sm _ _ (WP G Γ muX4_laysSpans r 24 [some (2, 111), none, none, some (0, v3), some (0, v4), some (0, v5), none, none, none, none] [] (sz, sl, tt td, cv c))
  unfold fX4_laysSpans_l24
  refine s_iload (pc := 24) dX4_laysSpans_24 rfl ?_
  refine s_iload (pc := 26) dX4_laysSpans_26 rfl ?_
  refine s_iadd (pc := 28) dX4_laysSpans_28 ?_
  refine s_iload_n (pc := 29) dX4_laysSpans_29 rfl ?_
  refine s_icmp_ge (pc := 30) (tgt := 185) dX4_laysSpans_30 rfl ?_ ?_
  · refine s_wk [true, true, true, true, true, false, true, true, true, true] (ls' := [some (2, 111), none, none, some (0, v3), some (0, v4), none, none, none, none, none]) rfl ?_
    exact Sm.some (fun h => h)
  refine s_iload (pc := 33) dX4_laysSpans_33 rfl ?_
  refine s_iload (pc := 35) dX4_laysSpans_35 rfl ?_
  refine s_iadd (pc := 37) dX4_laysSpans_37 ?_
  refine s_istore (pc := 38) (lf := fun x => [some (2, 111), none, none, some (0, v3), some (0, v4), some (0, v5), some (0, x), none, none, none]) dX4_laysSpans_38 (fun _ => rfl) (Nat.le_of_ble_eq_true rfl) (fun v6_3 => ?_)
  refine s_iconst (pc := 40) dX4_laysSpans_40 ?_
  refine s_istoreD (pc := 41) (ls' := [some (2, 111), none, none, some (0, v3), some (0, v4), some (0, v5), some (0, v6_3), some (0, 0), none, none]) dX4_laysSpans_41 rfl (Nat.le_of_ble_eq_true rfl) ?_
  refine s_loop (g := gX4_laysSpans_l43 G Γ r sz sl td v3 v4 v5 v6_3) (Ex := eX4_laysSpans_l43 G Γ r sz sl td v3 v4 v5 v6_3) (s0 := (0, c)) (fun s => sX4_laysSpans_l43 v3 v4 v5 v6_3 s.1 s.2) ?_
  intro e_6
  show Sm _ _ (WP G Γ muX4_laysSpans r 76 [some (2, 111), none, none, some (0, v3), some (0, v4), some (0, v5), some (0, v6_3), none, none, none] [] (sz, sl, tt td, cv e_6))
  refine s_iconst (pc := 76) dX4_laysSpans_76 ?_
  refine s_istoreD (pc := 77) (ls' := [some (2, 111), none, none, some (0, v3), some (0, v4), some (0, v5), some (0, v6_3), some (0, 0), none, none]) dX4_laysSpans_77 rfl (Nat.le_of_ble_eq_true rfl) ?_
  refine s_loop (g := gX4_laysSpans_l79 G Γ r sz sl td v3 v4 v5 v6_3) (Ex := eX4_laysSpans_l79 G Γ r sz sl td v3 v4 v5 v6_3) (s0 := (0, e_6)) (fun s => sX4_laysSpans_l79 v3 v4 v5 v6_3 s.1 s.2) ?_
  intro e_15
  show Sm _ _ (WP G Γ muX4_laysSpans r 171 [some (2, 111), none, none, some (0, v3), some (0, v4), some (0, v5), some (0, v6_3), none, none, none] [] (sz, sl, tt td, cv e_15))
  refine s_aload_n (pc := 171) dX4_laysSpans_171 rfl ?_
  refine s_iload (pc := 172) dX4_laysSpans_172 rfl ?_
  refine s_iload (pc := 174) dX4_laysSpans_174 rfl ?_
  refine s_callV3 (pc := 176) (a := 111) (as := [(0, v5), (0, v6_3)]) (st := []) (rv := fun b => ((3, 0), (sz, sl, tt td, cv b))) (st3 := fun b => []) (w3 := fun b => (sz, sl, tt td, cv b)) mvX4_418 (fun b h => kX4_laysMany v5 v6_3 e_15 b h) rfl (by decide) (t_111 td) rfl rfl rfl (Nat.le_of_ble_eq_true rfl) (fun _ => Nat.le_of_ble_eq_true rfl) (fun _ => ⟨rfl, rfl⟩) dX4_laysSpans_176 (fun p_16 => ?_)
  refine s_iinc (pc := 179) (lf := fun x => [some (2, 111), none, none, some (0, v3), some (0, v4), some (0, x), some (0, v6_3), none, none, none]) dX4_laysSpans_179 rfl (fun _ => rfl) (Nat.le_of_ble_eq_true rfl) (fun v5_17 => ?_)
  refine s_goto (pc := 182) (tgt := 24) dX4_laysSpans_182 rfl ?_
  refine s_wk [true, true, true, true, true, true, false, true, true, true] (ls' := [some (2, 111), none, none, some (0, v3), some (0, v4), some (0, v5_17), none, none, none, none]) rfl ?_
  exact Sm.some (fun h => h)
abbrev gX4_laysSpans_l15 (G : GG) (Γ : Cx) (r : Vv × Wd) (sz sl : Nat) (td : TT) (v3 : Int) : (Int × CC) → Prop := fun s => WP G Γ muX4_laysSpans r 15 [some (2, 111), none, none, some (0, v3), some (0, s.1), none, none, none, none, none] [] (sz, sl, tt td, cv s.2)
abbrev eX4_laysSpans_l15 (G : GG) (Γ : Cx) (r : Vv × Wd) (sz sl : Nat) (td : TT) (v3 : Int) : (CC) → Prop := (fun s => WP G Γ muX4_laysSpans r 191 [none, none, none, none, none, none, none, none, none, none] [] (sz, sl, tt td, cv s))
noncomputable def fX4_laysSpans_l15 (v3 : Int) (v4 : Int) (c : CC) : Option ((Int × CC) ⊕ (CC)) :=
  if v4 < v3 then
  (cl (wh (fun s => fX4_laysSpans_l24 v3 v4 s.1 s.2) (0, c)) (fun e_18 =>
  gd (inR (v4 + 1)) <| bd (v4 + 1) fun v4_19 =>
   some (.inl (v4_19, e_18))))
  else
  (some (.inr c))
theorem sX4_laysSpans_l15 {G : GG} {Γ : Cx} {r : Vv × Wd} {sz sl : Nat} {td : TT} (v3 : Int) (v4 : Int) (c : CC) : Sm (fX4_laysSpans_l15 v3 v4 c) (fun x => Sum.elim (gX4_laysSpans_l15 G Γ r sz sl td v3) (eX4_laysSpans_l15 G Γ r sz sl td v3) x) (gX4_laysSpans_l15 G Γ r sz sl td v3 (v4, c)) := by
  show Sm _ _ (WP G Γ muX4_laysSpans r 15 [some (2, 111), none, none, some (0, v3), some (0, v4), none, none, none, none, none] [] (sz, sl, tt td, cv c))
  unfold fX4_laysSpans_l15
  refine s_iload (pc := 15) dX4_laysSpans_15 rfl ?_
  refine s_iload_n (pc := 17) dX4_laysSpans_17 rfl ?_
  refine s_icmp_ge (pc := 18) (tgt := 191) dX4_laysSpans_18 rfl ?_ ?_
  · refine s_wk [false, true, true, false, false, true, true, true, true, true] (ls' := [none, none, none, none, none, none, none, none, none, none]) rfl ?_
    exact Sm.some (fun h => h)
  refine s_iconst (pc := 21) dX4_laysSpans_21 ?_
  refine s_istoreD (pc := 22) (ls' := [some (2, 111), none, none, some (0, v3), some (0, v4), some (0, 0), none, none, none, none]) dX4_laysSpans_22 rfl (Nat.le_of_ble_eq_true rfl) ?_
  refine s_loop (g := gX4_laysSpans_l24 G Γ r sz sl td v3 v4) (Ex := eX4_laysSpans_l24 G Γ r sz sl td v3 v4) (s0 := (0, c)) (fun s => sX4_laysSpans_l24 v3 v4 s.1 s.2) ?_
  intro e_18
  show Sm _ _ (WP G Γ muX4_laysSpans r 185 [some (2, 111), none, none, some (0, v3), some (0, v4), none, none, none, none, none] [] (sz, sl, tt td, cv e_18))
  refine s_iinc (pc := 185) (lf := fun x => [some (2, 111), none, none, some (0, v3), some (0, x), none, none, none, none, none]) dX4_laysSpans_185 rfl (fun _ => rfl) (Nat.le_of_ble_eq_true rfl) (fun v4_19 => ?_)
  refine s_goto (pc := 188) (tgt := 15) dX4_laysSpans_188 rfl ?_
  exact Sm.some (fun h => h)
noncomputable def fX4_laysSpans (a1 : Int) (c : CC) : Option CC :=
  bd (up2 c 111 45 a1) fun c_1 =>
   bd (c_1 112 2) fun v3_2 =>
   cl (wh (fun s => fX4_laysSpans_l15 v3_2 s.1 s.2) (0, c_1)) (fun e_20 =>
  some e_20)
theorem sX4_laysSpans {G : GG} {Γ : Cx} {r : Vv × Wd} {sz sl : Nat} {td : TT} (a1 : Int) (c : CC) : Sm (fX4_laysSpans a1 c) (fun x => r = ((3, 0), (sz, sl, tt td, cv x))) (WP G Γ muX4_laysSpans r 0 [some (2, 111), some (1, a1), none, none, none, none, none, none, none, none] [] (sz, sl, tt td, cv c)) := by
  unfold fX4_laysSpans
  refine s_aload_n (pc := 0) dX4_laysSpans_0 rfl ?_
  refine s_lload_n (pc := 1) dX4_laysSpans_1 rfl ?_
  refine s_putM (pc := 2) (a := 111) (fpX4_388 _) (t_111 _) rfl kO_111 n_111_45 rfl (fpX4_388t) dX4_laysSpans_2 (fun c_1 => ?_)
  refine s_aload_n (pc := 5) dX4_laysSpans_5 rfl ?_
  refine s_get (pc := 6) (a := 111) (v := 112) flX4_7 (t_111 _) rfl (g_111_0 _) rfl dX4_laysSpans_6 ?_
  refine s_iconst (pc := 9) dX4_laysSpans_9 ?_
  refine s_ialdML (pc := 10) (a := 112) 2 rfl (Nat.le_of_ble_eq_true rfl) (t_112 _) rfl r_112 dX4_laysSpans_10 ?_
  refine s_istore_n (pc := 11) (lf := fun x => [some (2, 111), some (1, a1), none, some (0, x), none, none, none, none, none, none]) dX4_laysSpans_11 (fun _ => rfl) (Nat.le_of_ble_eq_true rfl) (fun v3_2 => ?_)
  refine s_iconst (pc := 12) dX4_laysSpans_12 ?_
  refine s_istoreD (pc := 13) (ls' := [some (2, 111), some (1, a1), none, some (0, v3_2), some (0, 0), none, none, none, none, none]) dX4_laysSpans_13 rfl (Nat.le_of_ble_eq_true rfl) ?_
  refine s_wk [true, false, true, true, true, true, true, true, true, true] (ls' := [some (2, 111), none, none, some (0, v3_2), some (0, 0), none, none, none, none, none]) rfl ?_
  refine s_loop (g := gX4_laysSpans_l15 G Γ r sz sl td v3_2) (Ex := eX4_laysSpans_l15 G Γ r sz sl td v3_2) (s0 := (0, c_1)) (fun s => sX4_laysSpans_l15 v3_2 s.1 s.2) ?_
  intro e_20
  show Sm _ _ (WP G Γ muX4_laysSpans r 191 [none, none, none, none, none, none, none, none, none, none] [] (sz, sl, tt td, cv e_20))
  exact s_vret (pc := 191) dX4_laysSpans_191 rfl (fun h => h)
theorem kX4_laysSpans {G : GG} {sz sl : Nat} {td : TT} (a1 : Int) (c : CC) (x : CC) (h : fX4_laysSpans a1 c = some x) : Ct G yX4_laysSpans muX4_laysSpans [(2, 111), (1, a1)] (sz, sl, tt td, cv c) ((3, 0), (sz, sl, tt td, cv x)) :=
  Ct.of (n := 7) (ls0 := [some (2, 111), some (1, a1), none, none, none, none, none, none, none, none]) (by decide) rfl rfl ⟨by decide, by decide⟩ (Nat.le_of_ble_eq_true rfl) rfl ⟨Nat.le_refl _, Nat.le_refl _⟩ (show (3 : Nat) ≠ 9 by decide) (fun Γ => sX4_laysSpans a1 c x h rfl)
abbrev muX4_readings : MI := (cX4_readings, RX4, 1, some .long, 2, "readings")
noncomputable def fX4_readings  (c : CC) : Option Int :=
  if c 112 2 = 0 then
  (some 0)
  else
  (gd (inR ((c 112 2) - 1)) <|
   cl (fX4_oneOf 0 ((c 112 2) - 1) 0 c) fun p_1 =>
   some p_1)
theorem sX4_readings {G : GG} {Γ : Cx} {r : Vv × Wd} {sz sl : Nat} {td : TT}  (c : CC) : Sm (fX4_readings  c) (fun x => r = ((1, x), (sz, sl, tt td, cv c))) (WP G Γ muX4_readings r 0 [some (2, 111)] [] (sz, sl, tt td, cv c)) := by
  unfold fX4_readings
  refine s_aload_n (pc := 0) dX4_readings_0 rfl ?_
  refine s_get (pc := 1) (a := 111) (v := 112) flX4_7 (t_111 _) rfl (g_111_0 _) rfl dX4_readings_1 ?_
  refine s_iconst (pc := 4) dX4_readings_4 ?_
  refine s_ialdML (pc := 5) (a := 112) 2 rfl (Nat.le_of_ble_eq_true rfl) (t_112 _) rfl r_112 dX4_readings_5 ?_
  refine s_if_ne (pc := 6) (tgt := 13) dX4_readings_6 rfl ?_ ?_
  · refine s_aload_n (pc := 13) dX4_readings_13 rfl ?_
    refine s_iconst (pc := 14) dX4_readings_14 ?_
    refine s_aload_n (pc := 15) dX4_readings_15 rfl ?_
    refine s_get (pc := 16) (a := 111) (v := 112) flX4_7 (t_111 _) rfl (g_111_0 _) rfl dX4_readings_16 ?_
    refine s_iconst (pc := 19) dX4_readings_19 ?_
    refine s_ialdML (pc := 20) (a := 112) 2 rfl (Nat.le_of_ble_eq_true rfl) (t_112 _) rfl r_112 dX4_readings_20 ?_
    refine s_iconst (pc := 21) dX4_readings_21 ?_
    refine s_isub (pc := 22) dX4_readings_22 ?_
    refine s_iconst (pc := 23) dX4_readings_23 ?_
    refine s_callV3 (pc := 24) (a := 111) (as := [(0, 0), (0, (c 112 2) - 1), (0, 0)]) (st := []) (rv := fun b => ((1, b), (sz, sl, tt td, cv c))) (st3 := fun b => [(1, b)]) (w3 := fun b => (sz, sl, tt td, cv c)) mvX4_394 (fun b h => kX4_oneOf 0 ((c 112 2) - 1) 0 c b h) rfl (by decide) (t_111 td) rfl rfl rfl (Nat.le_of_ble_eq_true rfl) (fun _ => Nat.le_of_ble_eq_true rfl) (fun _ => ⟨rfl, rfl⟩) dX4_readings_24 (fun p_1 => ?_)
    exact s_lret (pc := 27) dX4_readings_27 rfl (fun h => h)
  refine s_lconst0 (pc := 9) dX4_readings_9 ?_
  refine s_goto (pc := 10) (tgt := 27) dX4_readings_10 rfl ?_
  exact s_lret (pc := 27) dX4_readings_27 rfl (fun h => h)
theorem kX4_readings {G : GG} {sz sl : Nat} {td : TT}  (c : CC) (x : Int) (h : fX4_readings  c = some x) : Ct G yX4_readings muX4_readings [(2, 111)] (sz, sl, tt td, cv c) ((1, x), (sz, sl, tt td, cv c)) :=
  Ct.of (n := 0) (ls0 := [some (2, 111)]) (by decide) rfl rfl ⟨by decide, by decide⟩ (Nat.le_of_ble_eq_true rfl) rfl ⟨Nat.le_refl _, Nat.le_refl _⟩ (show (1 : Nat) ≠ 9 by decide) (fun Γ => sX4_readings  c x h rfl)
