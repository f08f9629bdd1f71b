/-! LAYER 2: methods of HeldTongue, by gen/decomp2.py -/
set_option maxRecDepth 100000
abbrev muX0_capped : MI := (cX0_capped, RX0, 6, some .long, 3, "capped")
abbrev gX0_capped_l11 (G : GG) (Γ : Cx) (r : Vv × Wd) (sz sl : Nat) (td : TT) (c : CC) (v4 : Int) : (Int) → Prop := fun s => WP G Γ muX0_capped r 11 [some (2, 43), none, none, none, some (0, v4), some (0, s)] [] (sz, sl, tt td, cv c)
abbrev eX0_capped_l11 (G : GG) (Γ : Cx) (r : Vv × Wd) (sz sl : Nat) (td : TT) (c : CC) (v4 : Int) : ((Unit) ⊕ (Unit)) → Prop := (Sum.elim (fun s => WP G Γ muX0_capped r 31 [none, none, none, none, none, none] [] (sz, sl, tt td, cv c)) (fun s => WP G Γ muX0_capped r 41 [some (2, 43), none, none, none, some (0, v4), none] [] (sz, sl, tt td, cv c)))
noncomputable def fX0_capped_l11 (v4 : Int) (v5 : Int) (c : CC) : Option ((Int) ⊕ ((Unit) ⊕ (Unit))) :=
  if v5 < 7 then
  (gd (inR (v4 + v5)) <|
   gd ((0 : Int) ≤ v4 + v5 ∧ v4 + v5 < 16800) <|
   if (0 : Int) < c 53 (Int.toNat (v4 + v5)) then
  (some (.inr (.inl ())))
  else
  (gd (inR (v5 + 1)) <| bd (v5 + 1) fun v5_2 =>
   some (.inl v5_2)))
  else
  (some (.inr (.inr ())))
theorem sX0_capped_l11 {G : GG} {Γ : Cx} {r : Vv × Wd} {sz : Nat} {sl : Nat} {td : TT} (v4 : Int) (v5 : Int) (c : CC) : Sm (fX0_capped_l11 v4 v5 c) (fun x => Sum.elim (gX0_capped_l11 G Γ r sz sl td c v4) (eX0_capped_l11 G Γ r sz sl td c v4) x) (gX0_capped_l11 G Γ r sz sl td c v4 v5) := by
  show Sm _ _ (WP G Γ muX0_capped r 11 [some (2, 43), none, none, none, some (0, v4), some (0, v5)] [] (sz, sl, tt td, cv c))
  unfold fX0_capped_l11
  refine s_iload (pc := 11) dX0_capped_11 rfl ?_
  refine s_bipush (pc := 13) dX0_capped_13 ?_
  refine s_icmp_ge (pc := 15) (tgt := 41) dX0_capped_15 rfl ?_ ?_
  · refine s_wk [true, true, true, true, true, false] (ls' := [some (2, 43), none, none, none, some (0, v4), none]) rfl ?_
    exact Sm.some (fun h => h)
  refine s_aload_n (pc := 18) dX0_capped_18 rfl ?_
  refine s_get (pc := 19) (a := 43) (v := 53) flX0_51 (t_43 _) rfl (g_43_16 _) rfl dX0_capped_19 ?_
  refine s_iload (pc := 22) dX0_capped_22 rfl ?_
  refine s_iload (pc := 24) dX0_capped_24 rfl ?_
  refine s_iadd (pc := 26) dX0_capped_26 ?_
  refine s_ialdM (pc := 27) (a := 53) (t_53 _) rfl r_53 dX0_capped_27 ?_
  refine s_if_le (pc := 28) (tgt := 35) dX0_capped_28 rfl ?_ ?_
  · refine s_iinc (pc := 35) (lf := fun x => [some (2, 43), none, none, none, some (0, v4), some (0, x)]) dX0_capped_35 rfl (fun _ => rfl) (Nat.le_of_ble_eq_true rfl) (fun v5_2 => ?_)
    refine s_goto (pc := 38) (tgt := 11) dX0_capped_38 rfl ?_
    exact Sm.some (fun h => h)
  refine s_wk [false, true, true, true, false, false] (ls' := [none, none, none, none, none, none]) rfl ?_
  exact Sm.some (fun h => h)
noncomputable def fX0_capped (a1 : Int) (a2 : Int) (a3 : Int) (c : CC) : Option Int :=
  cl (fX0_countAt a1 a2 a3 ) fun p_1 =>
   cl (wh (fun s => fX0_capped_l11 p_1 s c) 2) (Sum.elim (fun e_3 =>
  some 4000000000) (fun e_4 =>
  gd (inR (p_1 + 1)) <|
   gd ((0 : Int) ≤ p_1 + 1 ∧ p_1 + 1 < 16800) <|
   gd (inL ((c 53 (Int.toNat (p_1 + 1))) * 1000000000)) <|
   gd ((0 : Int) ≤ p_1 ∧ p_1 < 16800) <|
   gd (inL (((c 53 (Int.toNat (p_1 + 1))) * 1000000000) + (c 53 (Int.toNat p_1)))) <|
    some (min 4000000000 (((c 53 (Int.toNat (p_1 + 1))) * 1000000000) + (c 53 (Int.toNat p_1))))))
theorem sX0_capped {G : GG} {Γ : Cx} {r : Vv × Wd} {sz : Nat} {sl : Nat} {td : TT} (a1 : Int) (a2 : Int) (a3 : Int) (c : CC) : Sm (fX0_capped a1 a2 a3 c) (fun x => r = ((1, x), (sz, sl, tt td, cv c))) (WP G Γ muX0_capped r 0 [some (2, 43), some (0, a1), some (0, a2), some (0, a3), none, none] [] (sz, sl, tt td, cv c)) := by
  unfold fX0_capped
  refine s_iload_n (pc := 0) dX0_capped_0 rfl ?_
  refine s_iload_n (pc := 1) dX0_capped_1 rfl ?_
  refine s_iload_n (pc := 2) dX0_capped_2 rfl ?_
  refine s_callS3 (pc := 3) (as := [(0, a1), (0, a2), (0, a3)]) (st := []) (rv := fun b => ((0, b), (sz, sl, tt td, cv c))) (st3 := fun b => [(0, b)]) (w3 := fun b => (sz, sl, tt td, cv c)) msX0_199 (fun b h => kX0_countAt a1 a2 a3 c b h) rfl (by decide) rfl (Nat.le_of_ble_eq_true rfl) (fun _ => Nat.le_of_ble_eq_true rfl) (fun _ => ⟨rfl, rfl⟩) dX0_capped_3 (fun p_1 => ?_)
  refine s_istoreD (pc := 6) (ls' := [some (2, 43), some (0, a1), some (0, a2), some (0, a3), some (0, p_1), none]) dX0_capped_6 rfl (Nat.le_of_ble_eq_true rfl) ?_
  refine s_iconst (pc := 8) dX0_capped_8 ?_
  refine s_istoreD (pc := 9) (ls' := [some (2, 43), some (0, a1), some (0, a2), some (0, a3), some (0, p_1), some (0, 2)]) dX0_capped_9 rfl (Nat.le_of_ble_eq_true rfl) ?_
  refine s_wk [true, false, false, false, true, true] (ls' := [some (2, 43), none, none, none, some (0, p_1), some (0, 2)]) rfl ?_
  refine s_loop (g := gX0_capped_l11 G Γ r sz sl td c p_1) (Ex := eX0_capped_l11 G Γ r sz sl td c p_1) (s0 := 2) (fun s => sX0_capped_l11 p_1 s c) ?_
  refine s_elim ?_ ?_
  · intro e_3
    show Sm _ _ (WP G Γ muX0_capped r 31 [none, none, none, none, none, none] [] (sz, sl, tt td, cv c))
    refine s_ldc2 (pc := 31) (z := 4000000000) q928 dX0_capped_31 ?_
    exact s_lret (pc := 34) dX0_capped_34 rfl (fun h => h)
  intro e_4
  show Sm _ _ (WP G Γ muX0_capped r 41 [some (2, 43), none, none, none, some (0, p_1), none] [] (sz, sl, tt td, cv c))
  refine s_ldc2 (pc := 41) (z := 4000000000) q928 dX0_capped_41 ?_
  refine s_aload_n (pc := 44) dX0_capped_44 rfl ?_
  refine s_get (pc := 45) (a := 43) (v := 53) flX0_51 (t_43 _) rfl (g_43_16 _) rfl dX0_capped_45 ?_
  refine s_iload (pc := 48) dX0_capped_48 rfl ?_
  refine s_iconst (pc := 50) dX0_capped_50 ?_
  refine s_iadd (pc := 51) dX0_capped_51 ?_
  refine s_ialdM (pc := 52) (a := 53) (t_53 _) rfl r_53 dX0_capped_52 ?_
  refine s_i2l (pc := 53) dX0_capped_53 ?_
  refine s_ldc2 (pc := 54) (z := 1000000000) q880 dX0_capped_54 ?_
  refine s_lmul (pc := 57) dX0_capped_57 ?_
  refine s_aload_n (pc := 58) dX0_capped_58 rfl ?_
  refine s_get (pc := 59) (a := 43) (v := 53) flX0_51 (t_43 _) rfl (g_43_16 _) rfl dX0_capped_59 ?_
  refine s_iload (pc := 62) dX0_capped_62 rfl ?_
  refine s_ialdM (pc := 64) (a := 53) (t_53 _) rfl r_53 dX0_capped_64 ?_
  refine s_i2l (pc := 65) dX0_capped_65 ?_
  refine s_ladd (pc := 66) dX0_capped_66 ?_
  refine s_lmin (a := 4000000000) (b := ((c 53 (Int.toNat (p_1 + 1))) * 1000000000) + (c 53 (Int.toNat p_1))) (st := []) q929 dX0_capped_67 (by decide) (Nat.le_of_ble_eq_true rfl) ?_
  exact s_lret (pc := 70) dX0_capped_70 rfl (fun h => h)
theorem kX0_capped {G : GG} {sz : Nat} {sl : Nat} {td : TT} (a1 : Int) (a2 : Int) (a3 : Int) (c : CC) (x : Int) (h : fX0_capped a1 a2 a3 c = some x) : Ct G yX0_capped muX0_capped [(2, 43), (0, a1), (0, a2), (0, a3)] (sz, sl, tt td, cv c) ((1, x), (sz, sl, tt td, cv c)) :=
  Ct.of (n := 2) (ls0 := [some (2, 43), some (0, a1), some (0, a2), some (0, a3), none, none]) (by decide) rfl rfl ⟨show (some .long : Option FieldType) ≠ some .float by decide, show (some .long : Option FieldType) ≠ some .double by decide⟩ (Nat.le_of_ble_eq_true rfl) rfl ⟨Nat.le_refl _, Nat.le_refl _⟩ (show (1 : Nat) ≠ 9 by decide) (fun Γ => sX0_capped a1 a2 a3 c x h rfl)
theorem mvX0_215 : MV RX0 215 RX0 yX0_capped muX0_capped 3 := ⟨lw_V q924 q926 qs24 q125 q927, by decide +kernel, Nat.le_of_ble_eq_true rfl⟩
abbrev muX0_all : MI := (cX0_all, RX0, 1, some .long, 4, "all")
noncomputable def fX0_all  (c : CC) : Option Int :=
  if c 43 5 = 0 then
  (some 0)
  else
  (gd (inR ((c 43 5) - 1)) <|
   cl (fX0_capped 0 ((c 43 5) - 1) 0 c) fun p_1 =>
   some p_1)
theorem sX0_all {G : GG} {Γ : Cx} {r : Vv × Wd} {sz : Nat} {sl : Nat} {td : TT}  (c : CC) : Sm (fX0_all  c) (fun x => r = ((1, x), (sz, sl, tt td, cv c))) (WP G Γ muX0_all r 0 [some (2, 43)] [] (sz, sl, tt td, cv c)) := by
  unfold fX0_all
  refine s_aload_n (pc := 0) dX0_all_0 rfl ?_
  refine s_get (pc := 1) (a := 43) (v := c 43 5) flX0_158 (t_43 _) rfl (g_43_5 _) rfl dX0_all_1 ?_
  refine s_if_ne (pc := 4) (tgt := 11) dX0_all_4 rfl ?_ ?_
  · refine s_aload_n (pc := 11) dX0_all_11 rfl ?_
    refine s_iconst (pc := 12) dX0_all_12 ?_
    refine s_aload_n (pc := 13) dX0_all_13 rfl ?_
    refine s_get (pc := 14) (a := 43) (v := c 43 5) flX0_158 (t_43 _) rfl (g_43_5 _) rfl dX0_all_14 ?_
    refine s_iconst (pc := 17) dX0_all_17 ?_
    refine s_isub (pc := 18) dX0_all_18 ?_
    refine s_iconst (pc := 19) dX0_all_19 ?_
    refine s_callV3 (pc := 20) (a := 43) (as := [(0, 0), (0, (c 43 5) - 1), (0, 0)]) (st := []) (rv := fun b => ((1, b), (sz, sl, tt td, cv c))) (st3 := fun b => [(1, b)]) (w3 := fun b => (sz, sl, tt td, cv c)) mvX0_215 (fun b h => kX0_capped 0 ((c 43 5) - 1) 0 c b h) rfl (by decide) (t_43 td) rfl rfl rfl (Nat.le_of_ble_eq_true rfl) (fun _ => Nat.le_of_ble_eq_true rfl) (fun _ => ⟨rfl, rfl⟩) dX0_all_20 (fun p_1 => ?_)
    exact s_lret (pc := 23) dX0_all_23 rfl (fun h => h)
  refine s_lconst0 (pc := 7) dX0_all_7 ?_
  refine s_goto (pc := 8) (tgt := 23) dX0_all_8 rfl ?_
  exact s_lret (pc := 23) dX0_all_23 rfl (fun h => h)
theorem kX0_all {G : GG} {sz : Nat} {sl : Nat} {td : TT}  (c : CC) (x : Int) (h : fX0_all  c = some x) : Ct G yX0_all muX0_all [(2, 43)] (sz, sl, tt td, cv c) ((1, x), (sz, sl, tt td, cv c)) :=
  Ct.of (n := 0) (ls0 := [some (2, 43)]) (by decide) rfl rfl ⟨show (some .long : Option FieldType) ≠ some .float by decide, show (some .long : Option FieldType) ≠ some .double by decide⟩ (Nat.le_of_ble_eq_true rfl) rfl ⟨Nat.le_refl _, Nat.le_refl _⟩ (show (1 : Nat) ≠ 9 by decide) (fun Γ => sX0_all  c x h rfl)
theorem mvX0_219 : MV RX0 219 RX0 yX0_reckon muX0_reckon 0 := ⟨lw_V q828 q830 qs21 q125 q831, by decide +kernel, Nat.le_of_ble_eq_true rfl⟩
abbrev muX0_count : MI := (cX0_count, RX0, 2, some .int, 5, "count")
noncomputable def fX0_count (a1 : Int) (td : TT) (c : CC) : Option (Int × CC) :=
  cl (fX0_in a1 0 6 ) fun p_1 =>
   if p_1 = 0 then
  (some ((-1), c))
  else
  (cl (fX0_reckon  td c) fun p_2 =>
   if p_2 43 5 = 0 then
  (some (0, p_2))
  else
  (gd (inR ((p_2 43 5) - 1)) <|
   cl (fX0_countAt 0 ((p_2 43 5) - 1) 0 ) fun p_3 =>
   gd (inR (p_3 + a1)) <|
   gd ((0 : Int) ≤ p_3 + a1 ∧ p_3 + a1 < 16800) <|
   some ((p_2 53 (Int.toNat (p_3 + a1))), p_2)))
theorem sX0_count {G : GG} {Γ : Cx} {r : Vv × Wd} {sz : Nat} {sl : Nat} (a1 : Int) (td : TT) (c : CC) : Sm (fX0_count a1 td c) (fun x => r = ((0, x.1), (sz, sl, tt td, cv x.2))) (WP G Γ muX0_count r 0 [some (2, 43), some (0, a1)] [] (sz, sl, tt td, cv c)) := by
  unfold fX0_count
  refine s_iload_n (pc := 0) dX0_count_0 rfl ?_
  refine s_iconst (pc := 1) dX0_count_1 ?_
  refine s_bipush (pc := 2) dX0_count_2 ?_
  refine s_callS3 (pc := 4) (as := [(0, a1), (0, 0), (0, 6)]) (st := []) (rv := fun b => ((0, b), (sz, sl, tt td, cv c))) (st3 := fun b => [(0, b)]) (w3 := fun b => (sz, sl, tt td, cv c)) msX0_130 (fun b h => kX0_in a1 0 6 c b h) rfl (by decide) rfl (Nat.le_of_ble_eq_true rfl) (fun _ => Nat.le_of_ble_eq_true rfl) (fun _ => ⟨rfl, rfl⟩) dX0_count_4 (fun p_1 => ?_)
  refine s_if_ne (pc := 7) (tgt := 12) dX0_count_7 rfl ?_ ?_
  · refine s_aload_n (pc := 12) dX0_count_12 rfl ?_
    refine s_callV3 (pc := 13) (a := 43) (as := []) (st := []) (rv := fun b => ((3, 0), (sz, sl, tt td, cv b))) (st3 := fun b => []) (w3 := fun b => (sz, sl, tt td, cv b)) mvX0_219 (fun b h => kX0_reckon  td c b h) rfl (by decide) (t_43 td) rfl rfl rfl (Nat.le_of_ble_eq_true rfl) (fun _ => Nat.le_of_ble_eq_true rfl) (fun _ => ⟨rfl, rfl⟩) dX0_count_13 (fun p_2 => ?_)
    refine s_aload_n (pc := 16) dX0_count_16 rfl ?_
    refine s_get (pc := 17) (a := 43) (v := p_2 43 5) flX0_158 (t_43 _) rfl (g_43_5 _) rfl dX0_count_17 ?_
    refine s_if_ne (pc := 20) (tgt := 27) dX0_count_20 rfl ?_ ?_
    · refine s_aload_n (pc := 27) dX0_count_27 rfl ?_
      refine s_get (pc := 28) (a := 43) (v := 53) flX0_51 (t_43 _) rfl (g_43_16 _) rfl dX0_count_28 ?_
      refine s_iconst (pc := 31) dX0_count_31 ?_
      refine s_aload_n (pc := 32) dX0_count_32 rfl ?_
      refine s_get (pc := 33) (a := 43) (v := p_2 43 5) flX0_158 (t_43 _) rfl (g_43_5 _) rfl dX0_count_33 ?_
      refine s_iconst (pc := 36) dX0_count_36 ?_
      refine s_isub (pc := 37) dX0_count_37 ?_
      refine s_iconst (pc := 38) dX0_count_38 ?_
      refine s_callS3 (pc := 39) (as := [(0, 0), (0, (p_2 43 5) - 1), (0, 0)]) (st := [(2, 53)]) (rv := fun b => ((0, b), (sz, sl, tt td, cv p_2))) (st3 := fun b => [(0, b), (2, 53)]) (w3 := fun b => (sz, sl, tt td, cv p_2)) msX0_199 (fun b h => kX0_countAt 0 ((p_2 43 5) - 1) 0 p_2 b h) rfl (by decide) rfl (Nat.le_of_ble_eq_true rfl) (fun _ => Nat.le_of_ble_eq_true rfl) (fun _ => ⟨rfl, rfl⟩) dX0_count_39 (fun p_3 => ?_)
      refine s_iload_n (pc := 42) dX0_count_42 rfl ?_
      refine s_iadd (pc := 43) dX0_count_43 ?_
      refine s_ialdM (pc := 44) (a := 53) (t_53 _) rfl r_53 dX0_count_44 ?_
      exact s_iret (pc := 45) dX0_count_45 rfl (fun h => h)
    refine s_iconst (pc := 23) dX0_count_23 ?_
    refine s_goto (pc := 24) (tgt := 45) dX0_count_24 rfl ?_
    exact s_iret (pc := 45) dX0_count_45 rfl (fun h => h)
  refine s_iconst (pc := 10) dX0_count_10 ?_
  exact s_iret (pc := 11) dX0_count_11 rfl (fun h => h)
theorem kX0_count {G : GG} {sz : Nat} {sl : Nat} (a1 : Int) (td : TT) (c : CC) (x : (Int × CC)) (h : fX0_count a1 td c = some x) : Ct G yX0_count muX0_count [(2, 43), (0, a1)] (sz, sl, tt td, cv c) ((0, x.1), (sz, sl, tt td, cv x.2)) :=
  Ct.of (n := 0) (ls0 := [some (2, 43), some (0, a1)]) (by decide) rfl rfl ⟨show (some .int : Option FieldType) ≠ some .float by decide, show (some .int : Option FieldType) ≠ some .double by decide⟩ (Nat.le_of_ble_eq_true rfl) rfl ⟨Nat.le_refl _, Nat.le_refl _⟩ (show (0 : Nat) ≠ 9 by decide) (fun Γ => sX0_count a1 td c x h rfl)
abbrev muX0_span : MI := (cX0_span, RX0, 5, some .int, 5, "span")
noncomputable def fX0_span_j68 (v1 : Int) (v2 : Int) (v4 : Int) (w0 : Int) (w1 : Int) (td : TT) (c : CC) : Option ((Int × Int) ⊕ (Int)) :=
  bd (orI w1 w0) fun v3_5 =>
   gd (inR (v4 + 1)) <| bd (v4 + 1) fun v4_6 =>
   some (.inl (v3_5, v4_6))
abbrev gX0_span_l39 (G : GG) (Γ : Cx) (r : Vv × Wd) (sz sl : Nat) (td : TT) (c : CC) (v1 : Int) (v2 : Int) : (Int × Int) → Prop := fun s => WP G Γ muX0_span r 39 [some (2, 43), some (0, v1), some (0, v2), some (0, s.1), some (0, s.2)] [] (sz, sl, tt td, cv c)
abbrev eX0_span_l39 (G : GG) (Γ : Cx) (r : Vv × Wd) (sz sl : Nat) (td : TT) (c : CC) (v1 : Int) (v2 : Int) : (Int) → Prop := (fun s => WP G Γ muX0_span r 76 [none, none, none, some (0, s), none] [] (sz, sl, tt td, cv c))
theorem sX0_span_j68 {G : GG} {Γ : Cx} {r : Vv × Wd} {sz : Nat} {sl : Nat} (v1 : Int) (v2 : Int) (v4 : Int) (w0 : Int) (w1 : Int) (td : TT) (c : CC) : Sm (fX0_span_j68 v1 v2 v4 w0 w1 td c) (fun x => Sum.elim (gX0_span_l39 G Γ r sz sl td c v1 v2) (eX0_span_l39 G Γ r sz sl td c v1 v2) x) (WP G Γ muX0_span r 68 [some (2, 43), some (0, v1), some (0, v2), none, some (0, v4)] [(0, w0), (0, w1)] (sz, sl, tt td, cv c)) := by
  unfold fX0_span_j68
  refine s_ior (pc := 68) dX0_span_68 ?_
  refine s_istore_n (pc := 69) (lf := fun x => [some (2, 43), some (0, v1), some (0, v2), some (0, x), some (0, v4)]) dX0_span_69 (fun _ => rfl) (Nat.le_of_ble_eq_true rfl) (fun v3_5 => ?_)
  refine s_iinc (pc := 70) (lf := fun x => [some (2, 43), some (0, v1), some (0, v2), some (0, v3_5), some (0, x)]) dX0_span_70 rfl (fun _ => rfl) (Nat.le_of_ble_eq_true rfl) (fun v4_6 => ?_)
  refine s_goto (pc := 73) (tgt := 39) dX0_span_73 rfl ?_
  exact Sm.some (fun h => h)
noncomputable def fX0_span_l39 (v1 : Int) (v2 : Int) (v3 : Int) (v4 : Int) (td : TT) (c : CC) : Option ((Int × Int) ⊕ (Int)) :=
  if v4 < 8 then
  (cl (fX0_capped v1 v2 v4 c) fun p_4 =>
   if (0 : Int) < p_4 then
  (fX0_span_j68 v1 v2 v4 (shlI 1 v4) v3 td c)
  else
  (fX0_span_j68 v1 v2 v4 0 v3 td c))
  else
  (some (.inr v3))
theorem sX0_span_l39 {G : GG} {Γ : Cx} {r : Vv × Wd} {sz : Nat} {sl : Nat} (v1 : Int) (v2 : Int) (v3 : Int) (v4 : Int) (td : TT) (c : CC) : Sm (fX0_span_l39 v1 v2 v3 v4 td c) (fun x => Sum.elim (gX0_span_l39 G Γ r sz sl td c v1 v2) (eX0_span_l39 G Γ r sz sl td c v1 v2) x) (gX0_span_l39 G Γ r sz sl td c v1 v2 (v3, v4)) := by
  show Sm _ _ (WP G Γ muX0_span r 39 [some (2, 43), some (0, v1), some (0, v2), some (0, v3), some (0, v4)] [] (sz, sl, tt td, cv c))
  unfold fX0_span_l39
  refine s_iload (pc := 39) dX0_span_39 rfl ?_
  refine s_bipush (pc := 41) dX0_span_41 ?_
  refine s_icmp_ge (pc := 43) (tgt := 76) dX0_span_43 rfl ?_ ?_
  · refine s_wk [false, false, false, true, false] (ls' := [none, none, none, some (0, v3), none]) rfl ?_
    exact Sm.some (fun h => h)
  refine s_iload_n (pc := 46) dX0_span_46 rfl ?_
  refine s_aload_n (pc := 47) dX0_span_47 rfl ?_
  refine s_iload_n (pc := 48) dX0_span_48 rfl ?_
  refine s_iload_n (pc := 49) dX0_span_49 rfl ?_
  refine s_iload (pc := 50) dX0_span_50 rfl ?_
  refine s_callV3 (pc := 52) (a := 43) (as := [(0, v1), (0, v2), (0, v4)]) (st := [(0, v3)]) (rv := fun b => ((1, b), (sz, sl, tt td, cv c))) (st3 := fun b => [(1, b), (0, v3)]) (w3 := fun b => (sz, sl, tt td, cv c)) mvX0_215 (fun b h => kX0_capped v1 v2 v4 c b h) rfl (by decide) (t_43 td) rfl rfl rfl (Nat.le_of_ble_eq_true rfl) (fun _ => Nat.le_of_ble_eq_true rfl) (fun _ => ⟨rfl, rfl⟩) dX0_span_52 (fun p_4 => ?_)
  refine s_lconst0 (pc := 55) dX0_span_55 ?_
  refine s_lcmp_le (pc := 56) (tgt := 67) dX0_span_56 dX0_span_57 rfl ?_ ?_
  · refine s_iconst (pc := 67) dX0_span_67 ?_
    refine s_wk [true, true, true, false, true] (ls' := [some (2, 43), some (0, v1), some (0, v2), none, some (0, v4)]) rfl ?_
    exact sX0_span_j68 v1 v2 v4 0 v3 td c
  refine s_iconst (pc := 60) dX0_span_60 ?_
  refine s_iload (pc := 61) dX0_span_61 rfl ?_
  refine s_ishl (pc := 63) dX0_span_63 ?_
  refine s_goto (pc := 64) (tgt := 68) dX0_span_64 rfl ?_
  refine s_wk [true, true, true, false, true] (ls' := [some (2, 43), some (0, v1), some (0, v2), none, some (0, v4)]) rfl ?_
  exact sX0_span_j68 v1 v2 v4 (shlI 1 v4) v3 td c
noncomputable def fX0_span (a1 : Int) (a2 : Int) (td : TT) (c : CC) : Option (Int × CC) :=
  gd (inR ((c 43 5) - 1)) <|
   cl (fX0_in a1 0 ((c 43 5) - 1) ) fun p_1 =>
   if p_1 = 0 then
  (some ((-1), c))
  else
  (gd (inR ((c 43 5) - 1)) <|
   cl (fX0_in a2 a1 ((c 43 5) - 1) ) fun p_2 =>
   if p_2 = 0 then
  (some ((-1), c))
  else
  (cl (fX0_reckon  td c) fun p_3 =>
   cl (wh (fun s => fX0_span_l39 a1 a2 s.1 s.2 td p_3) (0, 0)) (fun e_7 =>
  some (e_7, p_3))))
theorem sX0_span {G : GG} {Γ : Cx} {r : Vv × Wd} {sz : Nat} {sl : Nat} (a1 : Int) (a2 : Int) (td : TT) (c : CC) : Sm (fX0_span a1 a2 td c) (fun x => r = ((0, x.1), (sz, sl, tt td, cv x.2))) (WP G Γ muX0_span r 0 [some (2, 43), some (0, a1), some (0, a2), none, none] [] (sz, sl, tt td, cv c)) := by
  unfold fX0_span
  refine s_iload_n (pc := 0) dX0_span_0 rfl ?_
  refine s_iconst (pc := 1) dX0_span_1 ?_
  refine s_aload_n (pc := 2) dX0_span_2 rfl ?_
  refine s_get (pc := 3) (a := 43) (v := c 43 5) flX0_158 (t_43 _) rfl (g_43_5 _) rfl dX0_span_3 ?_
  refine s_iconst (pc := 6) dX0_span_6 ?_
  refine s_isub (pc := 7) dX0_span_7 ?_
  refine s_callS3 (pc := 8) (as := [(0, a1), (0, 0), (0, (c 43 5) - 1)]) (st := []) (rv := fun b => ((0, b), (sz, sl, tt td, cv c))) (st3 := fun b => [(0, b)]) (w3 := fun b => (sz, sl, tt td, cv c)) msX0_130 (fun b h => kX0_in a1 0 ((c 43 5) - 1) c b h) rfl (by decide) rfl (Nat.le_of_ble_eq_true rfl) (fun _ => Nat.le_of_ble_eq_true rfl) (fun _ => ⟨rfl, rfl⟩) dX0_span_8 (fun p_1 => ?_)
  refine s_if_eq (pc := 11) (tgt := 28) dX0_span_11 rfl ?_ ?_
  · refine s_iconst (pc := 28) dX0_span_28 ?_
    exact s_iret (pc := 29) dX0_span_29 rfl (fun h => h)
  refine s_iload_n (pc := 14) dX0_span_14 rfl ?_
  refine s_iload_n (pc := 15) dX0_span_15 rfl ?_
  refine s_aload_n (pc := 16) dX0_span_16 rfl ?_
  refine s_get (pc := 17) (a := 43) (v := c 43 5) flX0_158 (t_43 _) rfl (g_43_5 _) rfl dX0_span_17 ?_
  refine s_iconst (pc := 20) dX0_span_20 ?_
  refine s_isub (pc := 21) dX0_span_21 ?_
  refine s_callS3 (pc := 22) (as := [(0, a2), (0, a1), (0, (c 43 5) - 1)]) (st := []) (rv := fun b => ((0, b), (sz, sl, tt td, cv c))) (st3 := fun b => [(0, b)]) (w3 := fun b => (sz, sl, tt td, cv c)) msX0_130 (fun b h => kX0_in a2 a1 ((c 43 5) - 1) c b h) rfl (by decide) rfl (Nat.le_of_ble_eq_true rfl) (fun _ => Nat.le_of_ble_eq_true rfl) (fun _ => ⟨rfl, rfl⟩) dX0_span_22 (fun p_2 => ?_)
  refine s_if_ne (pc := 25) (tgt := 30) dX0_span_25 rfl ?_ ?_
  · refine s_aload_n (pc := 30) dX0_span_30 rfl ?_
    refine s_callV3 (pc := 31) (a := 43) (as := []) (st := []) (rv := fun b => ((3, 0), (sz, sl, tt td, cv b))) (st3 := fun b => []) (w3 := fun b => (sz, sl, tt td, cv b)) mvX0_219 (fun b h => kX0_reckon  td c b h) rfl (by decide) (t_43 td) rfl rfl rfl (Nat.le_of_ble_eq_true rfl) (fun _ => Nat.le_of_ble_eq_true rfl) (fun _ => ⟨rfl, rfl⟩) dX0_span_31 (fun p_3 => ?_)
    refine s_iconst (pc := 34) dX0_span_34 ?_
    refine s_istore_nD (pc := 35) (ls' := [some (2, 43), some (0, a1), some (0, a2), some (0, 0), none]) dX0_span_35 rfl (Nat.le_of_ble_eq_true rfl) ?_
    refine s_iconst (pc := 36) dX0_span_36 ?_
    refine s_istoreD (pc := 37) (ls' := [some (2, 43), some (0, a1), some (0, a2), some (0, 0), some (0, 0)]) dX0_span_37 rfl (Nat.le_of_ble_eq_true rfl) ?_
    refine s_loop (g := gX0_span_l39 G Γ r sz sl td p_3 a1 a2) (Ex := eX0_span_l39 G Γ r sz sl td p_3 a1 a2) (s0 := (0, 0)) (fun s => sX0_span_l39 a1 a2 s.1 s.2 td p_3) ?_
    intro e_7
    show Sm _ _ (WP G Γ muX0_span r 76 [none, none, none, some (0, e_7), none] [] (sz, sl, tt td, cv p_3))
    refine s_iload_n (pc := 76) dX0_span_76 rfl ?_
    exact s_iret (pc := 77) dX0_span_77 rfl (fun h => h)
  refine s_iconst (pc := 28) dX0_span_28 ?_
  exact s_iret (pc := 29) dX0_span_29 rfl (fun h => h)
theorem kX0_span {G : GG} {sz : Nat} {sl : Nat} (a1 : Int) (a2 : Int) (td : TT) (c : CC) (x : (Int × CC)) (h : fX0_span a1 a2 td c = some x) : Ct G yX0_span muX0_span [(2, 43), (0, a1), (0, a2)] (sz, sl, tt td, cv c) ((0, x.1), (sz, sl, tt td, cv x.2)) :=
  Ct.of (n := 2) (ls0 := [some (2, 43), some (0, a1), some (0, a2), none, none]) (by decide) rfl rfl ⟨show (some .int : Option FieldType) ≠ some .float by decide, show (some .int : Option FieldType) ≠ some .double by decide⟩ (Nat.le_of_ble_eq_true rfl) rfl ⟨Nat.le_refl _, Nat.le_refl _⟩ (show (0 : Nat) ≠ 9 by decide) (fun Γ => sX0_span a1 a2 td c x h rfl)
theorem flX0_222 : FL RX0 222 0 21 := ⟨_, _, _, cf0, by decide, q234⟩
theorem flX0_61 : FL RX0 61 0 19 := ⟨_, _, _, cf0, by decide, q232⟩
theorem fpX0_222 (nm : String) : FP RX0 222 0 21 nm := ⟨_, _, _, cf0, by decide, q234, Or.inl rfl⟩
theorem fpX0_222t : fty 0 21 ≠ .boolean ∧ fty 0 21 ≠ .byte ∧ fty 0 21 ≠ .char ∧ fty 0 21 ≠ .short := by decide
theorem flX0_66 : FL RX0 66 0 20 := ⟨_, _, _, cf0, by decide, q233⟩
abbrev muX0_times : MI := (cX0_times, RX0, 4, some .long, 1, "times")
noncomputable def fX0_times (a0 : Int) (a2 : Int)  : Option Int :=
  gd (a0 ≠ 0 ∧ inL (Int.tdiv 4000000000 a0)) <|
   if Int.tdiv 4000000000 a0 < a2 then
  (some 4000000000)
  else
  (gd (inL (a0 * a2)) <|
   some (a0 * a2))
theorem sX0_times {G : GG} {Γ : Cx} {r : Vv × Wd} {sz : Nat} {sl : Nat} {td : TT} (a0 : Int) (a2 : Int) (c : CC) : Sm (fX0_times a0 a2 ) (fun x => r = ((1, x), (sz, sl, tt td, cv c))) (WP G Γ muX0_times r 0 [some (1, a0), none, some (1, a2), none] [] (sz, sl, tt td, cv c)) := by
  unfold fX0_times
  refine s_lload_n (pc := 0) dX0_times_0 rfl ?_
  refine s_ldc2 (pc := 1) (z := 4000000000) q928 dX0_times_1 ?_
  refine s_lload_n (pc := 4) dX0_times_4 rfl ?_
  refine s_ldiv (pc := 5) dX0_times_5 ?_
  refine s_lcmp_le (pc := 6) (tgt := 16) dX0_times_6 dX0_times_7 rfl ?_ ?_
  · refine s_lload_n (pc := 16) dX0_times_16 rfl ?_
    refine s_lload_n (pc := 17) dX0_times_17 rfl ?_
    refine s_lmul (pc := 18) dX0_times_18 ?_
    exact s_lret (pc := 19) dX0_times_19 rfl (fun h => h)
  refine s_ldc2 (pc := 10) (z := 4000000000) q928 dX0_times_10 ?_
  refine s_goto (pc := 13) (tgt := 19) dX0_times_13 rfl ?_
  exact s_lret (pc := 19) dX0_times_19 rfl (fun h => h)
theorem kX0_times {G : GG} {sz : Nat} {sl : Nat} {td : TT} (a0 : Int) (a2 : Int) (c : CC) (x : Int) (h : fX0_times a0 a2  = some x) : Ct G yX0_times muX0_times [(1, a0), (1, a2)] (sz, sl, tt td, cv c) ((1, x), (sz, sl, tt td, cv c)) :=
  Ct.of (n := 0) (ls0 := [some (1, a0), none, some (1, a2), none]) (by decide) rfl rfl ⟨show (some .long : Option FieldType) ≠ some .float by decide, show (some .long : Option FieldType) ≠ some .double by decide⟩ (Nat.le_of_ble_eq_true rfl) rfl ⟨Nat.le_refl _, Nat.le_refl _⟩ (show (1 : Nat) ≠ 9 by decide) (fun Γ => sX0_times a0 a2 c x h rfl)
theorem msX0_225 : MS RX0 225 yX0_times muX0_times 2 := ⟨lw_S q948 q949 q125 q950, by decide +kernel, by decide⟩
abbrev muX0_push : MI := (cX0_push, RX0, 7, none, 4, "push")
abbrev gX0_push_l52 (G : GG) (Γ : Cx) (r : Vv × Wd) (sz sl : Nat) (td : TT) (c : CC) (v1 : Int) (v2 : Int) (v3 : Int) : (Int × Int) → Prop := fun s => WP G Γ muX0_push r 52 [some (2, 43), some (0, v1), some (0, v2), some (0, v3), some (1, s.1), none, some (0, s.2)] [] (sz, sl, tt td, cv c)
abbrev eX0_push_l52 (G : GG) (Γ : Cx) (r : Vv × Wd) (sz sl : Nat) (td : TT) (c : CC) (v1 : Int) (v2 : Int) (v3 : Int) : (Int) → Prop := (fun s => WP G Γ muX0_push r 119 [some (2, 43), some (0, v1), some (0, v2), some (0, v3), some (1, s), none, none] [] (sz, sl, tt td, cv c))
noncomputable def fX0_push_l52 (v1 : Int) (v2 : Int) (v3 : Int) (v4 : Int) (v6 : Int) (td : TT) (c : CC) : Option ((Int × Int) ⊕ (Int)) :=
  if v6 < v3 then
  (if (0 : Int) < v2 then
  (gd (inR (v2 - 1)) <|
   gd ((0 : Int) ≤ v2 - 1 ∧ v2 - 1 < 31) <|
   gd ((0 : Int) ≤ cv c 57 (Int.toNat (v2 - 1)) ∧ (tt td (Int.toNat (cv c 57 (Int.toNat (v2 - 1))))).1 = 51 ∧ (0 : Int) ≤ v6 ∧ v6 < ((tt td (Int.toNat (cv c 57 (Int.toNat (v2 - 1))))).2 : Int)) <|
   if (0 : Int) < cv c (Int.toNat (cv c 57 (Int.toNat (v2 - 1)))) (Int.toNat v6) then
  (gd (inR (v2 - 1)) <|
   gd ((0 : Int) ≤ v2 - 1 ∧ v2 - 1 < 31) <|
   gd ((0 : Int) ≤ cv c 57 (Int.toNat (v2 - 1)) ∧ (tt td (Int.toNat (cv c 57 (Int.toNat (v2 - 1))))).1 = 51 ∧ (0 : Int) ≤ v6 ∧ v6 < ((tt td (Int.toNat (cv c 57 (Int.toNat (v2 - 1))))).2 : Int)) <|
   gd (inR (v6 + 1)) <|
   cl (fX0_capped (v6 + 1) v3 v1 c) fun p_5 =>
   cl (fX0_times (cv c (Int.toNat (cv c 57 (Int.toNat (v2 - 1)))) (Int.toNat v6)) p_5 ) fun p_6 =>
   gd (inL (v4 + p_6)) <|
    bd (min 4000000000 (v4 + p_6)) fun v4_8 =>
   gd (inR (v6 + 1)) <| bd (v6 + 1) fun v6_9 =>
   some (.inl (v4_8, v6_9)))
  else
  (gd (inR (v6 + 1)) <| bd (v6 + 1) fun v6_4 =>
   some (.inl (v4, v6_4))))
  else
  (some (.inr v4)))
  else
  (some (.inr v4))
theorem sX0_push_l52 {G : GG} {Γ : Cx} {r : Vv × Wd} {sz : Nat} {sl : Nat} (v1 : Int) (v2 : Int) (v3 : Int) (v4 : Int) (v6 : Int) (td : TT) (c : CC) : Sm (fX0_push_l52 v1 v2 v3 v4 v6 td c) (fun x => Sum.elim (gX0_push_l52 G Γ r sz sl td c v1 v2 v3) (eX0_push_l52 G Γ r sz sl td c v1 v2 v3) x) (gX0_push_l52 G Γ r sz sl td c v1 v2 v3 (v4, v6)) := by
  show Sm _ _ (WP G Γ muX0_push r 52 [some (2, 43), some (0, v1), some (0, v2), some (0, v3), some (1, v4), none, some (0, v6)] [] (sz, sl, tt td, cv c))
  unfold fX0_push_l52
  refine s_iload (pc := 52) dX0_push_52 rfl ?_
  refine s_iload_n (pc := 54) dX0_push_54 rfl ?_
  refine s_icmp_ge (pc := 55) (tgt := 119) dX0_push_55 rfl ?_ ?_
  · refine s_wk [true, true, true, true, true, true, false] (ls' := [some (2, 43), some (0, v1), some (0, v2), some (0, v3), some (1, v4), none, none]) rfl ?_
    exact Sm.some (fun h => h)
  refine s_iload_n (pc := 58) dX0_push_58 rfl ?_
  refine s_if_le (pc := 59) (tgt := 119) dX0_push_59 rfl ?_ ?_
  · refine s_wk [true, true, true, true, true, true, false] (ls' := [some (2, 43), some (0, v1), some (0, v2), some (0, v3), some (1, v4), none, none]) rfl ?_
    exact Sm.some (fun h => h)
  refine s_aload_n (pc := 62) dX0_push_62 rfl ?_
  refine s_get (pc := 63) (a := 43) (v := 57) flX0_66 (t_43 _) rfl (g_43_20 _) rfl dX0_push_63 ?_
  refine s_iload_n (pc := 66) dX0_push_66 rfl ?_
  refine s_iconst (pc := 67) dX0_push_67 ?_
  refine s_isub (pc := 68) dX0_push_68 ?_
  refine s_aaldM (pc := 69) (a := 57) (q := 8) (by decide) ⟨rfl, rfl⟩ (t_57 _) rfl dX0_push_69 ?_
  refine s_iload (pc := 70) dX0_push_70 rfl ?_
  refine s_laldD (pc := 72) dX0_push_72 ?_
  refine s_lconst0 (pc := 73) dX0_push_73 ?_
  refine s_lcmp_le (pc := 74) (tgt := 113) dX0_push_74 dX0_push_75 rfl ?_ ?_
  · refine s_iinc (pc := 113) (lf := fun x => [some (2, 43), some (0, v1), some (0, v2), some (0, v3), some (1, v4), none, some (0, x)]) dX0_push_113 rfl (fun _ => rfl) (Nat.le_of_ble_eq_true rfl) (fun v6_4 => ?_)
    refine s_goto (pc := 116) (tgt := 52) dX0_push_116 rfl ?_
    exact Sm.some (fun h => h)
  refine s_ldc2 (pc := 78) (z := 4000000000) q928 dX0_push_78 ?_
  refine s_lload (pc := 81) dX0_push_81 rfl ?_
  refine s_aload_n (pc := 83) dX0_push_83 rfl ?_
  refine s_get (pc := 84) (a := 43) (v := 57) flX0_66 (t_43 _) rfl (g_43_20 _) rfl dX0_push_84 ?_
  refine s_iload_n (pc := 87) dX0_push_87 rfl ?_
  refine s_iconst (pc := 88) dX0_push_88 ?_
  refine s_isub (pc := 89) dX0_push_89 ?_
  refine s_aaldM (pc := 90) (a := 57) (q := 8) (by decide) ⟨rfl, rfl⟩ (t_57 _) rfl dX0_push_90 ?_
  refine s_iload (pc := 91) dX0_push_91 rfl ?_
  refine s_laldD (pc := 93) dX0_push_93 ?_
  refine s_aload_n (pc := 94) dX0_push_94 rfl ?_
  refine s_iload (pc := 95) dX0_push_95 rfl ?_
  refine s_iconst (pc := 97) dX0_push_97 ?_
  refine s_iadd (pc := 98) dX0_push_98 ?_
  refine s_iload_n (pc := 99) dX0_push_99 rfl ?_
  refine s_iload_n (pc := 100) dX0_push_100 rfl ?_
  refine s_callV3 (pc := 101) (a := 43) (as := [(0, v6 + 1), (0, v3), (0, v1)]) (st := [(1, cv c (Int.toNat (cv c 57 (Int.toNat (v2 - 1)))) (Int.toNat v6)), (1, v4), (1, 4000000000)]) (rv := fun b => ((1, b), (sz, sl, tt td, cv c))) (st3 := fun b => [(1, b), (1, cv c (Int.toNat (cv c 57 (Int.toNat (v2 - 1)))) (Int.toNat v6)), (1, v4), (1, 4000000000)]) (w3 := fun b => (sz, sl, tt td, cv c)) mvX0_215 (fun b h => kX0_capped (v6 + 1) v3 v1 c b h) rfl (by decide) (t_43 td) rfl rfl rfl (Nat.le_of_ble_eq_true rfl) (fun _ => Nat.le_of_ble_eq_true rfl) (fun _ => ⟨rfl, rfl⟩) dX0_push_101 (fun p_5 => ?_)
  refine s_callS3 (pc := 104) (as := [(1, cv c (Int.toNat (cv c 57 (Int.toNat (v2 - 1)))) (Int.toNat v6)), (1, p_5)]) (st := [(1, v4), (1, 4000000000)]) (rv := fun b => ((1, b), (sz, sl, tt td, cv c))) (st3 := fun b => [(1, b), (1, v4), (1, 4000000000)]) (w3 := fun b => (sz, sl, tt td, cv c)) msX0_225 (fun b h => kX0_times (cv c (Int.toNat (cv c 57 (Int.toNat (v2 - 1)))) (Int.toNat v6)) p_5 c b h) rfl (by decide) rfl (Nat.le_of_ble_eq_true rfl) (fun _ => Nat.le_of_ble_eq_true rfl) (fun _ => ⟨rfl, rfl⟩) dX0_push_104 (fun p_6 => ?_)
  refine s_ladd (pc := 107) dX0_push_107 ?_
  refine s_lmin (a := 4000000000) (b := v4 + p_6) (st := []) q929 dX0_push_108 (by decide) (Nat.le_of_ble_eq_true rfl) ?_
  refine s_lstore (pc := 111) (lf := fun x => [some (2, 43), some (0, v1), some (0, v2), some (0, v3), some (1, x), none, some (0, v6)]) dX0_push_111 (fun _ => rfl) (Nat.le_of_ble_eq_true rfl) (fun v4_8 => ?_)
  refine s_iinc (pc := 113) (lf := fun x => [some (2, 43), some (0, v1), some (0, v2), some (0, v3), some (1, v4_8), none, some (0, x)]) dX0_push_113 rfl (fun _ => rfl) (Nat.le_of_ble_eq_true rfl) (fun v6_9 => ?_)
  refine s_goto (pc := 116) (tgt := 52) dX0_push_116 rfl ?_
  exact Sm.some (fun h => h)
noncomputable def fX0_push_j119 (v1 : Int) (v2 : Int) (v3 : Int) (v4 : Int) (td : TT) (c : CC) : Option ((Int × CC) ⊕ (CC)) :=
  gd ((0 : Int) ≤ v2 ∧ v2 < 31) <|
   gd (58 ≤ cv c 57 (Int.toNat v2) ∧ cv c 57 (Int.toNat v2) ≤ 88 ∧ (0 : Int) ≤ v3 ∧ v3 < 24) <| bd (up2 c (Int.toNat (cv c 57 (Int.toNat v2))) (Int.toNat v3) v4) fun c_11 =>
   gd (inR (v3 + 1)) <| bd (v3 + 1) fun v3_12 =>
   some (.inl (v3_12, c_11))
abbrev gX0_push_l24 (G : GG) (Γ : Cx) (r : Vv × Wd) (sz sl : Nat) (td : TT) (c : CC) (v1 : Int) (v2 : Int) : (Int × CC) → Prop := fun s => WP G Γ muX0_push r 24 [some (2, 43), some (0, v1), some (0, v2), some (0, s.1), none, none, none] [] (sz, sl, tt td, cv s.2)
abbrev eX0_push_l24 (G : GG) (Γ : Cx) (r : Vv × Wd) (sz sl : Nat) (td : TT) (c : CC) (v1 : Int) (v2 : Int) : (CC) → Prop := (fun s => WP G Γ muX0_push r 135 [none, none, none, none, none, none, none] [] (sz, sl, tt td, cv s))
theorem sX0_push_j119 {G : GG} {Γ : Cx} {r : Vv × Wd} {sz : Nat} {sl : Nat} (v1 : Int) (v2 : Int) (v3 : Int) (v4 : Int) (td : TT) (c : CC) : Sm (fX0_push_j119 v1 v2 v3 v4 td c) (fun x => Sum.elim (gX0_push_l24 G Γ r sz sl td c v1 v2) (eX0_push_l24 G Γ r sz sl td c v1 v2) x) (WP G Γ muX0_push r 119 [some (2, 43), some (0, v1), some (0, v2), some (0, v3), some (1, v4), none, none] [] (sz, sl, tt td, cv c)) := by
  unfold fX0_push_j119
  refine s_aload_n (pc := 119) dX0_push_119 rfl ?_
  refine s_get (pc := 120) (a := 43) (v := 57) flX0_66 (t_43 _) rfl (g_43_20 _) rfl dX0_push_120 ?_
  refine s_iload_n (pc := 123) dX0_push_123 rfl ?_
  refine s_aaldM (pc := 124) (a := 57) (q := 8) (by decide) ⟨rfl, rfl⟩ (t_57 _) rfl dX0_push_124 ?_
  refine s_iload_n (pc := 125) dX0_push_125 rfl ?_
  refine s_lload (pc := 126) dX0_push_126 rfl ?_
  refine s_lastW (pc := 128) dX0_push_128 (fun c_11 => ?_)
  refine s_iinc (pc := 129) (lf := fun x => [some (2, 43), some (0, v1), some (0, v2), some (0, x), some (1, v4), none, none]) dX0_push_129 rfl (fun _ => rfl) (Nat.le_of_ble_eq_true rfl) (fun v3_12 => ?_)
  refine s_goto (pc := 132) (tgt := 24) dX0_push_132 rfl ?_
  refine s_wk [true, true, true, true, false, true, true] (ls' := [some (2, 43), some (0, v1), some (0, v2), some (0, v3_12), none, none, none]) rfl ?_
  exact Sm.some (fun h => h)
noncomputable def fX0_push_j47 (v1 : Int) (v2 : Int) (v3 : Int) (w0 : Int) (td : TT) (c : CC) : Option ((Int × CC) ⊕ (CC)) :=
  cl (wh (fun s => fX0_push_l52 v1 v2 v3 s.1 s.2 td c) (w0, 0)) (fun e_10 =>
  fX0_push_j119 v1 v2 v3 e_10 td c)
theorem sX0_push_j47 {G : GG} {Γ : Cx} {r : Vv × Wd} {sz : Nat} {sl : Nat} (v1 : Int) (v2 : Int) (v3 : Int) (w0 : Int) (td : TT) (c : CC) : Sm (fX0_push_j47 v1 v2 v3 w0 td c) (fun x => Sum.elim (gX0_push_l24 G Γ r sz sl td c v1 v2) (eX0_push_l24 G Γ r sz sl td c v1 v2) x) (WP G Γ muX0_push r 47 [some (2, 43), some (0, v1), some (0, v2), some (0, v3), none, none, none] [(1, w0)] (sz, sl, tt td, cv c)) := by
  unfold fX0_push_j47
  refine s_lstoreD (pc := 47) (ls' := [some (2, 43), some (0, v1), some (0, v2), some (0, v3), some (1, w0), none, none]) dX0_push_47 rfl (Nat.le_of_ble_eq_true rfl) ?_
  refine s_iconst (pc := 49) dX0_push_49 ?_
  refine s_istoreD (pc := 50) (ls' := [some (2, 43), some (0, v1), some (0, v2), some (0, v3), some (1, w0), none, some (0, 0)]) dX0_push_50 rfl (Nat.le_of_ble_eq_true rfl) ?_
  refine s_loop (g := gX0_push_l52 G Γ r sz sl td c v1 v2 v3) (Ex := eX0_push_l52 G Γ r sz sl td c v1 v2 v3) (s0 := (w0, 0)) (fun s => sX0_push_l52 v1 v2 v3 s.1 s.2 td c) ?_
  intro e_10
  show Sm _ _ (WP G Γ muX0_push r 119 [some (2, 43), some (0, v1), some (0, v2), some (0, v3), some (1, e_10), none, none] [] (sz, sl, tt td, cv c))
  exact sX0_push_j119 v1 v2 v3 e_10 td c
noncomputable def fX0_push_l24 (v1 : Int) (v2 : Int) (v3 : Int) (td : TT) (c : CC) : Option ((Int × CC) ⊕ (CC)) :=
  if v3 < c 43 5 then
  (if v2 = 0 then
  (cl (fX0_capped 0 v3 v1 c) fun p_13 =>
   fX0_push_j47 v1 v2 v3 p_13 td c)
  else
  (fX0_push_j47 v1 v2 v3 0 td c))
  else
  (some (.inr c))
theorem sX0_push_l24 {G : GG} {Γ : Cx} {r : Vv × Wd} {sz : Nat} {sl : Nat} (v1 : Int) (v2 : Int) (v3 : Int) (td : TT) (c : CC) : Sm (fX0_push_l24 v1 v2 v3 td c) (fun x => Sum.elim (gX0_push_l24 G Γ r sz sl td c v1 v2) (eX0_push_l24 G Γ r sz sl td c v1 v2) x) (gX0_push_l24 G Γ r sz sl td c v1 v2 (v3, c)) := by
  show Sm _ _ (WP G Γ muX0_push r 24 [some (2, 43), some (0, v1), some (0, v2), some (0, v3), none, none, none] [] (sz, sl, tt td, cv c))
  unfold fX0_push_l24
  refine s_iload_n (pc := 24) dX0_push_24 rfl ?_
  refine s_aload_n (pc := 25) dX0_push_25 rfl ?_
  refine s_get (pc := 26) (a := 43) (v := c 43 5) flX0_158 (t_43 _) rfl (g_43_5 _) rfl dX0_push_26 ?_
  refine s_icmp_ge (pc := 29) (tgt := 135) dX0_push_29 rfl ?_ ?_
  · refine s_wk [false, false, false, false, true, true, true] (ls' := [none, none, none, none, none, none, none]) rfl ?_
    exact Sm.some (fun h => h)
  refine s_iload_n (pc := 32) dX0_push_32 rfl ?_
  refine s_if_ne (pc := 33) (tgt := 46) dX0_push_33 rfl ?_ ?_
  · refine s_lconst0 (pc := 46) dX0_push_46 ?_
    exact sX0_push_j47 v1 v2 v3 0 td c
  refine s_aload_n (pc := 36) dX0_push_36 rfl ?_
  refine s_iconst (pc := 37) dX0_push_37 ?_
  refine s_iload_n (pc := 38) dX0_push_38 rfl ?_
  refine s_iload_n (pc := 39) dX0_push_39 rfl ?_
  refine s_callV3 (pc := 40) (a := 43) (as := [(0, 0), (0, v3), (0, v1)]) (st := []) (rv := fun b => ((1, b), (sz, sl, tt td, cv c))) (st3 := fun b => [(1, b)]) (w3 := fun b => (sz, sl, tt td, cv c)) mvX0_215 (fun b h => kX0_capped 0 v3 v1 c b h) rfl (by decide) (t_43 td) rfl rfl rfl (Nat.le_of_ble_eq_true rfl) (fun _ => Nat.le_of_ble_eq_true rfl) (fun _ => ⟨rfl, rfl⟩) dX0_push_40 (fun p_13 => ?_)
  refine s_goto (pc := 43) (tgt := 47) dX0_push_43 rfl ?_
  exact sX0_push_j47 v1 v2 v3 p_13 td c
noncomputable def fX0_push (a1 : Int) (td : TT) (c : CC) : Option CC :=
  bd (c 43 21) fun v2_1 =>
   gd ((0 : Int) ≤ v2_1 ∧ v2_1 < 31) <| bd (up2 c 56 (Int.toNat v2_1) a1) fun c_2 =>
   gd (inR ((c_2 43 21) + 1)) <|
   bd (up2 c_2 43 21 ((c_2 43 21) + 1)) fun c_3 =>
   cl (wh (fun s => fX0_push_l24 a1 v2_1 s.1 td s.2) (0, c_3)) (fun e_14 =>
  some e_14)
theorem sX0_push {G : GG} {Γ : Cx} {r : Vv × Wd} {sz : Nat} {sl : Nat} (a1 : Int) (td : TT) (c : CC) : Sm (fX0_push a1 td c) (fun x => r = ((3, 0), (sz, sl, tt td, cv x))) (WP G Γ muX0_push r 0 [some (2, 43), some (0, a1), none, none, none, none, none] [] (sz, sl, tt td, cv c)) := by
  unfold fX0_push
  refine s_aload_n (pc := 0) dX0_push_0 rfl ?_
  refine s_get (pc := 1) (a := 43) (v := c 43 21) flX0_222 (t_43 _) rfl (g_43_21 _) rfl dX0_push_1 ?_
  refine s_istore_n (pc := 4) (lf := fun x => [some (2, 43), some (0, a1), some (0, x), none, none, none, none]) dX0_push_4 (fun _ => rfl) (Nat.le_of_ble_eq_true rfl) (fun v2_1 => ?_)
  refine s_aload_n (pc := 5) dX0_push_5 rfl ?_
  refine s_get (pc := 6) (a := 43) (v := 56) flX0_61 (t_43 _) rfl (g_43_19 _) rfl dX0_push_6 ?_
  refine s_iload_n (pc := 9) dX0_push_9 rfl ?_
  refine s_iload_n (pc := 10) dX0_push_10 rfl ?_
  refine s_iastM (pc := 11) (a := 56) (t_56 _) rfl kO_56 r_56 dX0_push_11 (fun c_2 => ?_)
  refine s_aload_n (pc := 12) dX0_push_12 rfl ?_
  refine s_dup (pc := 13) (by decide : ¬ (2 : Nat) = 1) dX0_push_13 ?_
  refine s_get (pc := 14) (a := 43) (v := c_2 43 21) flX0_222 (t_43 _) rfl (g_43_21 _) rfl dX0_push_14 ?_
  refine s_iconst (pc := 17) dX0_push_17 ?_
  refine s_iadd (pc := 18) dX0_push_18 ?_
  refine s_putM (pc := 19) (a := 43) (fpX0_222 _) (t_43 _) rfl kO_43 n_43_21 rfl (fpX0_222t) dX0_push_19 (fun c_3 => ?_)
  refine s_iconst (pc := 22) dX0_push_22 ?_
  refine s_istore_nD (pc := 23) (ls' := [some (2, 43), some (0, a1), some (0, v2_1), some (0, 0), none, none, none]) dX0_push_23 rfl (Nat.le_of_ble_eq_true rfl) ?_
  refine s_loop (g := gX0_push_l24 G Γ r sz sl td c_3 a1 v2_1) (Ex := eX0_push_l24 G Γ r sz sl td c_3 a1 v2_1) (s0 := (0, c_3)) (fun s => sX0_push_l24 a1 v2_1 s.1 td s.2) ?_
  intro e_14
  show Sm _ _ (WP G Γ muX0_push r 135 [none, none, none, none, none, none, none] [] (sz, sl, tt td, cv e_14))
  exact s_vret (pc := 135) dX0_push_135 rfl (fun h => h)
theorem kX0_push {G : GG} {sz : Nat} {sl : Nat} (a1 : Int) (td : TT) (c : CC) (x : CC) (h : fX0_push a1 td c = some x) : Ct G yX0_push muX0_push [(2, 43), (0, a1)] (sz, sl, tt td, cv c) ((3, 0), (sz, sl, tt td, cv x)) :=
  Ct.of (n := 5) (ls0 := [some (2, 43), some (0, a1), none, none, none, none, none]) (by decide) rfl rfl ⟨show (none : Option FieldType) ≠ some .float by decide, show (none : Option FieldType) ≠ some .double by decide⟩ (Nat.le_of_ble_eq_true rfl) rfl ⟨Nat.le_refl _, Nat.le_refl _⟩ (show (3 : Nat) ≠ 9 by decide) (fun Γ => sX0_push a1 td c x h rfl)
abbrev muX0_ahead : MI := (cX0_ahead, RX0, 2, some .long, 1, "ahead")
noncomputable def fX0_ahead (a1 : Int) (td : TT) (c : CC) : Option Int :=
  if c 43 21 = 0 then
  (if a1 = 0 then
  (some 1)
  else
  (some 0))
  else
  (if a1 = 0 then
  (some 0)
  else
  (gd (inR ((c 43 21) - 1)) <|
   gd ((0 : Int) ≤ (c 43 21) - 1 ∧ (c 43 21) - 1 < 31) <|
   gd (inR (a1 - 1)) <|
   gd ((0 : Int) ≤ cv c 57 (Int.toNat ((c 43 21) - 1)) ∧ (tt td (Int.toNat (cv c 57 (Int.toNat ((c 43 21) - 1))))).1 = 51 ∧ (0 : Int) ≤ a1 - 1 ∧ a1 - 1 < ((tt td (Int.toNat (cv c 57 (Int.toNat ((c 43 21) - 1))))).2 : Int)) <|
   some (cv c (Int.toNat (cv c 57 (Int.toNat ((c 43 21) - 1)))) (Int.toNat (a1 - 1)))))
theorem sX0_ahead {G : GG} {Γ : Cx} {r : Vv × Wd} {sz : Nat} {sl : Nat} (a1 : Int) (td : TT) (c : CC) : Sm (fX0_ahead a1 td c) (fun x => r = ((1, x), (sz, sl, tt td, cv c))) (WP G Γ muX0_ahead r 0 [some (2, 43), some (0, a1)] [] (sz, sl, tt td, cv c)) := by
  unfold fX0_ahead
  refine s_aload_n (pc := 0) dX0_ahead_0 rfl ?_
  refine s_get (pc := 1) (a := 43) (v := c 43 21) flX0_222 (t_43 _) rfl (g_43_21 _) rfl dX0_ahead_1 ?_
  refine s_if_ne (pc := 4) (tgt := 19) dX0_ahead_4 rfl ?_ ?_
  · refine s_iload_n (pc := 19) dX0_ahead_19 rfl ?_
    refine s_if_ne (pc := 20) (tgt := 27) dX0_ahead_20 rfl ?_ ?_
    · refine s_aload_n (pc := 27) dX0_ahead_27 rfl ?_
      refine s_get (pc := 28) (a := 43) (v := 57) flX0_66 (t_43 _) rfl (g_43_20 _) rfl dX0_ahead_28 ?_
      refine s_aload_n (pc := 31) dX0_ahead_31 rfl ?_
      refine s_get (pc := 32) (a := 43) (v := c 43 21) flX0_222 (t_43 _) rfl (g_43_21 _) rfl dX0_ahead_32 ?_
      refine s_iconst (pc := 35) dX0_ahead_35 ?_
      refine s_isub (pc := 36) dX0_ahead_36 ?_
      refine s_aaldM (pc := 37) (a := 57) (q := 8) (by decide) ⟨rfl, rfl⟩ (t_57 _) rfl dX0_ahead_37 ?_
      refine s_iload_n (pc := 38) dX0_ahead_38 rfl ?_
      refine s_iconst (pc := 39) dX0_ahead_39 ?_
      refine s_isub (pc := 40) dX0_ahead_40 ?_
      refine s_laldD (pc := 41) dX0_ahead_41 ?_
      exact s_lret (pc := 42) dX0_ahead_42 rfl (fun h => h)
    refine s_lconst0 (pc := 23) dX0_ahead_23 ?_
    refine s_goto (pc := 24) (tgt := 42) dX0_ahead_24 rfl ?_
    exact s_lret (pc := 42) dX0_ahead_42 rfl (fun h => h)
  refine s_iload_n (pc := 7) dX0_ahead_7 rfl ?_
  refine s_if_ne (pc := 8) (tgt := 15) dX0_ahead_8 rfl ?_ ?_
  · refine s_lconst0 (pc := 15) dX0_ahead_15 ?_
    refine s_goto (pc := 16) (tgt := 42) dX0_ahead_16 rfl ?_
    exact s_lret (pc := 42) dX0_ahead_42 rfl (fun h => h)
  refine s_lconst1 (pc := 11) dX0_ahead_11 ?_
  refine s_goto (pc := 12) (tgt := 42) dX0_ahead_12 rfl ?_
  exact s_lret (pc := 42) dX0_ahead_42 rfl (fun h => h)
theorem kX0_ahead {G : GG} {sz : Nat} {sl : Nat} (a1 : Int) (td : TT) (c : CC) (x : Int) (h : fX0_ahead a1 td c = some x) : Ct G yX0_ahead muX0_ahead [(2, 43), (0, a1)] (sz, sl, tt td, cv c) ((1, x), (sz, sl, tt td, cv c)) :=
  Ct.of (n := 0) (ls0 := [some (2, 43), some (0, a1)]) (by decide) rfl rfl ⟨show (some .long : Option FieldType) ≠ some .float by decide, show (some .long : Option FieldType) ≠ some .double by decide⟩ (Nat.le_of_ble_eq_true rfl) rfl ⟨Nat.le_refl _, Nat.le_refl _⟩ (show (1 : Nat) ≠ 9 by decide) (fun Γ => sX0_ahead a1 td c x h rfl)
theorem mvX0_228 : MV RX0 228 RX0 yX0_all muX0_all 0 := ⟨lw_V q940 q942 qs26 q125 q943, by decide +kernel, Nat.le_of_ble_eq_true rfl⟩
theorem mvX0_232 : MV RX0 232 RX0 yX0_push muX0_push 1 := ⟨lw_V q944 q946 qs27 q125 q947, by decide +kernel, Nat.le_of_ble_eq_true rfl⟩
theorem flX0_71 : FL RX0 71 0 22 := ⟨_, _, _, cf0, by decide, q235⟩
theorem mvX0_235 : MV RX0 235 RX0 yX0_ahead muX0_ahead 1 := ⟨lw_V q951 q953 qs28 q125 q954, by decide +kernel, Nat.le_of_ble_eq_true rfl⟩
theorem flX0_75 : FL RX0 75 0 23 := ⟨_, _, _, cf0, by decide, q236⟩
abbrev muX0_find : MI := (cX0_find, RX0, 14, some .boolean, 5, "find")
abbrev gX0_find_l190 (G : GG) (Γ : Cx) (r : Vv × Wd) (sz sl : Nat) (td : TT) (c : CC) (v2 : Int) (v4 : Int) (v5 : Int) (v6 : Int) (v7 : Int) (v8 : Int) (v9 : Int) (v10 : Int) (v11 : Int) : (Int × CC) → Prop := fun s => WP G Γ muX0_find r 190 [some (2, 43), none, some (1, v2), none, some (0, v4), some (0, v5), some (0, v6), some (2, v7), some (0, v8), some (0, v9), some (2, v10), some (0, v11), some (0, s.1), none] [] (sz, sl, tt td, cv s.2)
abbrev eX0_find_l190 (G : GG) (Γ : Cx) (r : Vv × Wd) (sz sl : Nat) (td : TT) (c : CC) (v2 : Int) (v4 : Int) (v5 : Int) (v6 : Int) (v7 : Int) (v8 : Int) (v9 : Int) (v10 : Int) (v11 : Int) : (CC) → Prop := (fun s => WP G Γ muX0_find r 221 [some (2, 43), none, some (1, v2), none, some (0, v4), some (0, v5), some (0, v6), some (2, v7), some (0, v8), some (0, v9), some (2, v10), some (0, v11), none, none] [] (sz, sl, tt td, cv s))
noncomputable def fX0_find_l190 (v2 : Int) (v4 : Int) (v5 : Int) (v6 : Int) (v7 : Int) (v8 : Int) (v9 : Int) (v10 : Int) (v11 : Int) (v12 : Int) (td : TT) (c : CC) : Option ((Int × CC) ⊕ (CC)) :=
  cl (fV_takes v10 v11 td c) fun p_18 =>
   if v12 < p_18 then
  (cl (fV_kind v10 v11 v12 td c) fun p_19 =>
   cl (fX0_push p_19 td c) fun p_20 =>
   gd (inR (v12 + 1)) <| bd (v12 + 1) fun v12_21 =>
   some (.inl (v12_21, p_20)))
  else
  (some (.inr c))
theorem sX0_find_l190 {G : GG} {Γ : Cx} {r : Vv × Wd} {sz : Nat} {sl : Nat} (v2 : Int) (v4 : Int) (v5 : Int) (v6 : Int) (v7 : Int) (v8 : Int) (v9 : Int) (v10 : Int) (v11 : Int) (v12 : Int) (td : TT) (c : CC) : Sm (fX0_find_l190 v2 v4 v5 v6 v7 v8 v9 v10 v11 v12 td c) (fun x => Sum.elim (gX0_find_l190 G Γ r sz sl td c v2 v4 v5 v6 v7 v8 v9 v10 v11) (eX0_find_l190 G Γ r sz sl td c v2 v4 v5 v6 v7 v8 v9 v10 v11) x) (gX0_find_l190 G Γ r sz sl td c v2 v4 v5 v6 v7 v8 v9 v10 v11 (v12, c)) := by
  show Sm _ _ (WP G Γ muX0_find r 190 [some (2, 43), none, some (1, v2), none, some (0, v4), some (0, v5), some (0, v6), some (2, v7), some (0, v8), some (0, v9), some (2, v10), some (0, v11), some (0, v12), none] [] (sz, sl, tt td, cv c))
  unfold fX0_find_l190
  refine s_iload (pc := 190) dX0_find_190 rfl ?_
  refine s_aload (pc := 192) dX0_find_192 rfl ?_
  refine s_iload (pc := 194) dX0_find_194 rfl ?_
  refine s_callU (pc := 196) (z := v10) (as := [(0, v11)]) (st := [(0, v12)]) (rv := fun b => ((0, b), (sz, sl, tt td, cv c))) (st3 := fun b => [(0, b), (0, v12)]) (w3 := fun b => (sz, sl, tt td, cv c)) rfl rfl (fun b h => vdX0_167 v10 v11 td c b h (by decide)) (Nat.le_of_ble_eq_true rfl) (fun _ => Nat.le_of_ble_eq_true rfl) (fun _ => ⟨rfl, rfl⟩) dX0_find_196 (fun p_18 => ?_)
  refine s_icmp_ge (pc := 199) (tgt := 221) dX0_find_199 rfl ?_ ?_
  · refine s_wk [true, true, true, true, true, true, true, true, true, true, true, true, false, true] (ls' := [some (2, 43), none, some (1, v2), none, some (0, v4), some (0, v5), some (0, v6), some (2, v7), some (0, v8), some (0, v9), some (2, v10), some (0, v11), none, none]) rfl ?_
    exact Sm.some (fun h => h)
  refine s_aload_n (pc := 202) dX0_find_202 rfl ?_
  refine s_aload (pc := 203) dX0_find_203 rfl ?_
  refine s_iload (pc := 205) dX0_find_205 rfl ?_
  refine s_iload (pc := 207) dX0_find_207 rfl ?_
  refine s_callU (pc := 209) (z := v10) (as := [(0, v11), (0, v12)]) (st := [(2, 43)]) (rv := fun b => ((0, b), (sz, sl, tt td, cv c))) (st3 := fun b => [(0, b), (2, 43)]) (w3 := fun b => (sz, sl, tt td, cv c)) rfl rfl (fun b h => vdX0_175 v10 v11 v12 td c b h (by decide)) (Nat.le_of_ble_eq_true rfl) (fun _ => Nat.le_of_ble_eq_true rfl) (fun _ => ⟨rfl, rfl⟩) dX0_find_209 (fun p_19 => ?_)
  refine s_callV3 (pc := 212) (a := 43) (as := [(0, p_19)]) (st := []) (rv := fun b => ((3, 0), (sz, sl, tt td, cv b))) (st3 := fun b => []) (w3 := fun b => (sz, sl, tt td, cv b)) mvX0_232 (fun b h => kX0_push p_19 td c b h) rfl (by decide) (t_43 td) rfl rfl rfl (Nat.le_of_ble_eq_true rfl) (fun _ => Nat.le_of_ble_eq_true rfl) (fun _ => ⟨rfl, rfl⟩) dX0_find_212 (fun p_20 => ?_)
  refine s_iinc (pc := 215) (lf := fun x => [some (2, 43), none, some (1, v2), none, some (0, v4), some (0, v5), some (0, v6), some (2, v7), some (0, v8), some (0, v9), some (2, v10), some (0, v11), some (0, x), none]) dX0_find_215 rfl (fun _ => rfl) (Nat.le_of_ble_eq_true rfl) (fun v12_21 => ?_)
  refine s_goto (pc := 218) (tgt := 190) dX0_find_218 rfl ?_
  exact Sm.some (fun h => h)
abbrev gX0_find_l143 (G : GG) (Γ : Cx) (r : Vv × Wd) (sz sl : Nat) (td : TT) (c : CC) (v4 : Int) (v5 : Int) (v6 : Int) (v7 : Int) (v8 : Int) (v9 : Int) (v10 : Int) : (Int × Int × CC) → Prop := fun s => WP G Γ muX0_find r 143 [some (2, 43), none, some (1, s.1), none, some (0, v4), some (0, v5), some (0, v6), some (2, v7), some (0, v8), some (0, v9), some (2, v10), some (0, s.2.1), none, none] [] (sz, sl, tt td, cv s.2.2)
abbrev eX0_find_l143 (G : GG) (Γ : Cx) (r : Vv × Wd) (sz sl : Nat) (td : TT) (c : CC) (v4 : Int) (v5 : Int) (v6 : Int) (v7 : Int) (v8 : Int) (v9 : Int) (v10 : Int) : (Int × CC) → Prop := (fun s => WP G Γ muX0_find r 268 [some (2, 43), none, some (1, s.1), none, some (0, v4), some (0, v5), some (0, v6), some (2, v7), some (0, v8), some (0, v9), none, none, none, none] [] (sz, sl, tt td, cv s.2))
noncomputable def fX0_find_l143 (v4 : Int) (v5 : Int) (v6 : Int) (v7 : Int) (v8 : Int) (v9 : Int) (v10 : Int) (v2 : Int) (v11 : Int) (td : TT) (c : CC) : Option ((Int × Int × CC) ⊕ (Int × CC)) :=
  cl (fV_most v10  td c) fun p_15 =>
   if p_15 < v11 then
  (some (.inr (v2, c)))
  else
  (gd ((0 : Int) ≤ v4 ∧ v4 < 24) <|
   if cv c 89 (Int.toNat v4) < 0 then
  (bd (up2 c 43 21 v5) fun c_16 =>
   cl (fV_takes v10 v11 td c_16) fun p_17 =>
   gd (inR (v5 + p_17)) <|
   if v4 < v5 + p_17 then
  (gd (inR (v11 + 1)) <| bd (v11 + 1) fun v11_29 =>
   some (.inl (v2, v11_29, c_16)))
  else
  (cl (wh (fun s => fX0_find_l190 v2 v4 v5 v6 v7 v8 v9 v10 v11 s.1 td s.2) (0, c_16)) (fun e_22 =>
  cl (fX0_ahead v4 td e_22) fun p_23 =>
   if v2 < p_23 then
  (gd ((0 : Int) ≤ v4 ∧ v4 < 24 ∧ (0 : Int) ≤ v10 ∧ 6 ≤ (tt td (Int.toNat v10)).1 ∧ (tt td (Int.toNat v10)).1 ≤ 10) <| bd (up2 e_22 89 (Int.toNat v4) v10) fun c_24 =>
   gd ((0 : Int) ≤ v4 ∧ v4 < 24) <| bd (up2 c_24 90 (Int.toNat v4) v11) fun c_25 =>
   gd (inR (v11 + 1)) <| bd (v11 + 1) fun v11_26 =>
   some (.inl (v2, v11_26, c_25)))
  else
  (gd (inL (v2 - p_23)) <|
   bd (v2 - p_23) fun v2_27 =>
   gd (inR (v11 + 1)) <| bd (v11 + 1) fun v11_28 =>
   some (.inl (v2_27, v11_28, e_22))))))
  else
  (some (.inr (v2, c))))
theorem sX0_find_l143 {G : GG} {Γ : Cx} {r : Vv × Wd} {sz : Nat} {sl : Nat} (v4 : Int) (v5 : Int) (v6 : Int) (v7 : Int) (v8 : Int) (v9 : Int) (v10 : Int) (v2 : Int) (v11 : Int) (td : TT) (c : CC) : Sm (fX0_find_l143 v4 v5 v6 v7 v8 v9 v10 v2 v11 td c) (fun x => Sum.elim (gX0_find_l143 G Γ r sz sl td c v4 v5 v6 v7 v8 v9 v10) (eX0_find_l143 G Γ r sz sl td c v4 v5 v6 v7 v8 v9 v10) x) (gX0_find_l143 G Γ r sz sl td c v4 v5 v6 v7 v8 v9 v10 (v2, v11, c)) := by
  show Sm _ _ (WP G Γ muX0_find r 143 [some (2, 43), none, some (1, v2), none, some (0, v4), some (0, v5), some (0, v6), some (2, v7), some (0, v8), some (0, v9), some (2, v10), some (0, v11), none, none] [] (sz, sl, tt td, cv c))
  unfold fX0_find_l143
  refine s_iload (pc := 143) dX0_find_143 rfl ?_
  refine s_aload (pc := 145) dX0_find_145 rfl ?_
  refine s_callU (pc := 147) (z := v10) (as := []) (st := [(0, v11)]) (rv := fun b => ((0, b), (sz, sl, tt td, cv c))) (st3 := fun b => [(0, b), (0, v11)]) (w3 := fun b => (sz, sl, tt td, cv c)) rfl rfl (fun b h => vdX0_193 v10  td c b h (by decide)) (Nat.le_of_ble_eq_true rfl) (fun _ => Nat.le_of_ble_eq_true rfl) (fun _ => ⟨rfl, rfl⟩) dX0_find_147 (fun p_15 => ?_)
  refine s_icmp_gt (pc := 150) (tgt := 268) dX0_find_150 rfl ?_ ?_
  · refine s_wk [true, true, true, true, true, true, true, true, true, true, false, false, true, true] (ls' := [some (2, 43), none, some (1, v2), none, some (0, v4), some (0, v5), some (0, v6), some (2, v7), some (0, v8), some (0, v9), none, none, none, none]) rfl ?_
    exact Sm.some (fun h => h)
  refine s_aload_n (pc := 153) dX0_find_153 rfl ?_
  refine s_get (pc := 154) (a := 43) (v := 89) flX0_71 (t_43 _) rfl (g_43_22 _) rfl dX0_find_154 ?_
  refine s_iload (pc := 157) dX0_find_157 rfl ?_
  refine s_aaldM (pc := 159) (a := 89) (q := 5) (by decide) ⟨rfl, rfl⟩ (t_89 _) rfl dX0_find_159 ?_
  refine s_ifnonnull (pc := 160) (tgt := 268) dX0_find_160 rfl ?_ ?_
  · refine s_wk [true, true, true, true, true, true, true, true, true, true, false, false, true, true] (ls' := [some (2, 43), none, some (1, v2), none, some (0, v4), some (0, v5), some (0, v6), some (2, v7), some (0, v8), some (0, v9), none, none, none, none]) rfl ?_
    exact Sm.some (fun h => h)
  refine s_aload_n (pc := 163) dX0_find_163 rfl ?_
  refine s_iload (pc := 164) dX0_find_164 rfl ?_
  refine s_putM (pc := 166) (a := 43) (fpX0_222 _) (t_43 _) rfl kO_43 n_43_21 rfl (fpX0_222t) dX0_find_166 (fun c_16 => ?_)
  refine s_iload (pc := 169) dX0_find_169 rfl ?_
  refine s_aload (pc := 171) dX0_find_171 rfl ?_
  refine s_iload (pc := 173) dX0_find_173 rfl ?_
  refine s_callU (pc := 175) (z := v10) (as := [(0, v11)]) (st := [(0, v5)]) (rv := fun b => ((0, b), (sz, sl, tt td, cv c_16))) (st3 := fun b => [(0, b), (0, v5)]) (w3 := fun b => (sz, sl, tt td, cv c_16)) rfl rfl (fun b h => vdX0_167 v10 v11 td c_16 b h (by decide)) (Nat.le_of_ble_eq_true rfl) (fun _ => Nat.le_of_ble_eq_true rfl) (fun _ => ⟨rfl, rfl⟩) dX0_find_175 (fun p_17 => ?_)
  refine s_iadd (pc := 178) dX0_find_178 ?_
  refine s_iload (pc := 179) dX0_find_179 rfl ?_
  refine s_icmp_le (pc := 181) (tgt := 187) dX0_find_181 rfl ?_ ?_
  · refine s_iconst (pc := 187) dX0_find_187 ?_
    refine s_istoreD (pc := 188) (ls' := [some (2, 43), none, some (1, v2), none, some (0, v4), some (0, v5), some (0, v6), some (2, v7), some (0, v8), some (0, v9), some (2, v10), some (0, v11), some (0, 0), none]) dX0_find_188 rfl (Nat.le_of_ble_eq_true rfl) ?_
    refine s_loop (g := gX0_find_l190 G Γ r sz sl td c_16 v2 v4 v5 v6 v7 v8 v9 v10 v11) (Ex := eX0_find_l190 G Γ r sz sl td c_16 v2 v4 v5 v6 v7 v8 v9 v10 v11) (s0 := (0, c_16)) (fun s => sX0_find_l190 v2 v4 v5 v6 v7 v8 v9 v10 v11 s.1 td s.2) ?_
    intro e_22
    show Sm _ _ (WP G Γ muX0_find r 221 [some (2, 43), none, some (1, v2), none, some (0, v4), some (0, v5), some (0, v6), some (2, v7), some (0, v8), some (0, v9), some (2, v10), some (0, v11), none, none] [] (sz, sl, tt td, cv e_22))
    refine s_aload_n (pc := 221) dX0_find_221 rfl ?_
    refine s_iload (pc := 222) dX0_find_222 rfl ?_
    refine s_callV3 (pc := 224) (a := 43) (as := [(0, v4)]) (st := []) (rv := fun b => ((1, b), (sz, sl, tt td, cv e_22))) (st3 := fun b => [(1, b)]) (w3 := fun b => (sz, sl, tt td, cv e_22)) mvX0_235 (fun b h => kX0_ahead v4 td e_22 b h) rfl (by decide) (t_43 td) rfl rfl rfl (Nat.le_of_ble_eq_true rfl) (fun _ => Nat.le_of_ble_eq_true rfl) (fun _ => ⟨rfl, rfl⟩) dX0_find_224 (fun p_23 => ?_)
    refine s_lstoreD (pc := 227) (ls' := [some (2, 43), none, some (1, v2), none, some (0, v4), some (0, v5), some (0, v6), some (2, v7), some (0, v8), some (0, v9), some (2, v10), some (0, v11), some (1, p_23), none]) dX0_find_227 rfl (Nat.le_of_ble_eq_true rfl) ?_
    refine s_lload_n (pc := 229) dX0_find_229 rfl ?_
    refine s_lload (pc := 230) dX0_find_230 rfl ?_
    refine s_lcmp_lt (pc := 232) (tgt := 244) dX0_find_232 dX0_find_233 rfl ?_ ?_
    · refine s_aload_n (pc := 244) dX0_find_244 rfl ?_
      refine s_get (pc := 245) (a := 43) (v := 89) flX0_71 (t_43 _) rfl (g_43_22 _) rfl dX0_find_245 ?_
      refine s_iload (pc := 248) dX0_find_248 rfl ?_
      refine s_aload (pc := 250) dX0_find_250 rfl ?_
      refine s_aastSM (pc := 252) (a := 89) castS (t_89 _) rfl kO_89 r_89 dX0_find_252 (fun c_24 => ?_)
      refine s_aload_n (pc := 253) dX0_find_253 rfl ?_
      refine s_get (pc := 254) (a := 43) (v := 90) flX0_75 (t_43 _) rfl (g_43_23 _) rfl dX0_find_254 ?_
      refine s_iload (pc := 257) dX0_find_257 rfl ?_
      refine s_iload (pc := 259) dX0_find_259 rfl ?_
      refine s_iastM (pc := 261) (a := 90) (t_90 _) rfl kO_90 r_90 dX0_find_261 (fun c_25 => ?_)
      refine s_iinc (pc := 262) (lf := fun x => [some (2, 43), none, some (1, v2), none, some (0, v4), some (0, v5), some (0, v6), some (2, v7), some (0, v8), some (0, v9), some (2, v10), some (0, x), some (1, p_23), none]) dX0_find_262 rfl (fun _ => rfl) (Nat.le_of_ble_eq_true rfl) (fun v11_26 => ?_)
      refine s_goto (pc := 265) (tgt := 143) dX0_find_265 rfl ?_
      refine s_wk [true, true, true, true, true, true, true, true, true, true, true, true, false, true] (ls' := [some (2, 43), none, some (1, v2), none, some (0, v4), some (0, v5), some (0, v6), some (2, v7), some (0, v8), some (0, v9), some (2, v10), some (0, v11_26), none, none]) rfl ?_
      exact Sm.some (fun h => h)
    refine s_lload_n (pc := 236) dX0_find_236 rfl ?_
    refine s_lload (pc := 237) dX0_find_237 rfl ?_
    refine s_lsub (pc := 239) dX0_find_239 ?_
    refine s_lstore_n (pc := 240) (lf := fun x => [some (2, 43), none, some (1, x), none, some (0, v4), some (0, v5), some (0, v6), some (2, v7), some (0, v8), some (0, v9), some (2, v10), some (0, v11), some (1, p_23), none]) dX0_find_240 (fun _ => rfl) (Nat.le_of_ble_eq_true rfl) (fun v2_27 => ?_)
    refine s_goto (pc := 241) (tgt := 262) dX0_find_241 rfl ?_
    refine s_iinc (pc := 262) (lf := fun x => [some (2, 43), none, some (1, v2_27), none, some (0, v4), some (0, v5), some (0, v6), some (2, v7), some (0, v8), some (0, v9), some (2, v10), some (0, x), some (1, p_23), none]) dX0_find_262 rfl (fun _ => rfl) (Nat.le_of_ble_eq_true rfl) (fun v11_28 => ?_)
    refine s_goto (pc := 265) (tgt := 143) dX0_find_265 rfl ?_
    refine s_wk [true, true, true, true, true, true, true, true, true, true, true, true, false, true] (ls' := [some (2, 43), none, some (1, v2_27), none, some (0, v4), some (0, v5), some (0, v6), some (2, v7), some (0, v8), some (0, v9), some (2, v10), some (0, v11_28), none, none]) rfl ?_
    exact Sm.some (fun h => h)
  refine s_goto (pc := 184) (tgt := 262) dX0_find_184 rfl ?_
  refine s_iinc (pc := 262) (lf := fun x => [some (2, 43), none, some (1, v2), none, some (0, v4), some (0, v5), some (0, v6), some (2, v7), some (0, v8), some (0, v9), some (2, v10), some (0, x), none, none]) dX0_find_262 rfl (fun _ => rfl) (Nat.le_of_ble_eq_true rfl) (fun v11_29 => ?_)
  refine s_goto (pc := 265) (tgt := 143) dX0_find_265 rfl ?_
  exact Sm.some (fun h => h)
abbrev gX0_find_l88 (G : GG) (Γ : Cx) (r : Vv × Wd) (sz sl : Nat) (td : TT) (c : CC) (v4 : Int) (v5 : Int) (v6 : Int) (v7 : Int) (v8 : Int) : (Int × Int × CC) → Prop := fun s => WP G Γ muX0_find r 88 [some (2, 43), none, some (1, s.1), none, some (0, v4), some (0, v5), some (0, v6), some (2, v7), some (0, v8), some (0, s.2.1), none, none, none, none] [] (sz, sl, tt td, cv s.2.2)
abbrev eX0_find_l88 (G : GG) (Γ : Cx) (r : Vv × Wd) (sz sl : Nat) (td : TT) (c : CC) (v4 : Int) (v5 : Int) (v6 : Int) (v7 : Int) (v8 : Int) : (Int × CC) → Prop := (fun s => WP G Γ muX0_find r 274 [some (2, 43), none, some (1, s.1), none, some (0, v4), none, none, none, none, none, none, none, none, none] [] (sz, sl, tt td, cv s.2))
noncomputable def fX0_find_l88 (v4 : Int) (v5 : Int) (v6 : Int) (v7 : Int) (v8 : Int) (v2 : Int) (v9 : Int) (td : TT) (c : CC) : Option ((Int × Int × CC) ⊕ (Int × CC)) :=
  if v9 < v8 then
  (gd ((0 : Int) ≤ v7 ∧ (tt td (Int.toNat v7)).1 = 55 ∧ (0 : Int) ≤ v9 ∧ v9 < ((tt td (Int.toNat v7)).2 : Int)) <|
   bd (cv c (Int.toNat v7) (Int.toNat v9)) fun v10_12 =>
   gd ((0 : Int) ≤ v10_12 ∧ 6 ≤ (tt td (Int.toNat v10_12)).1 ∧ (tt td (Int.toNat v10_12)).1 ≤ 10) <|
   gd ((0 : Int) ≤ v4 ∧ v4 < 24) <|
   if cv c (Int.toNat v10_12) 1 = c 50 (Int.toNat v4) then
  (gd ((0 : Int) ≤ v10_12 ∧ 6 ≤ (tt td (Int.toNat v10_12)).1 ∧ (tt td (Int.toNat v10_12)).1 ≤ 10) <|
   if cv c (Int.toNat v10_12) 2 = v6 then
  (gd ((0 : Int) ≤ v4 ∧ v4 < 24) <|
   if cv c 89 (Int.toNat v4) < 0 then
  (cl (wh (fun s => fX0_find_l143 v4 v5 v6 v7 v8 v9 v10_12 s.1 s.2.1 td s.2.2) (v2, 1, c)) (fun e_30 =>
  gd (inR (v9 + 1)) <| bd (v9 + 1) fun v9_31 =>
   some (.inl (e_30.1, v9_31, e_30.2))))
  else
  (gd (inR (v9 + 1)) <| bd (v9 + 1) fun v9_32 =>
   some (.inl (v2, v9_32, c))))
  else
  (gd (inR (v9 + 1)) <| bd (v9 + 1) fun v9_14 =>
   some (.inl (v2, v9_14, c))))
  else
  (gd (inR (v9 + 1)) <| bd (v9 + 1) fun v9_13 =>
   some (.inl (v2, v9_13, c))))
  else
  (some (.inr (v2, c)))
theorem sX0_find_l88 {G : GG} {Γ : Cx} {r : Vv × Wd} {sz : Nat} {sl : Nat} (v4 : Int) (v5 : Int) (v6 : Int) (v7 : Int) (v8 : Int) (v2 : Int) (v9 : Int) (td : TT) (c : CC) : Sm (fX0_find_l88 v4 v5 v6 v7 v8 v2 v9 td c) (fun x => Sum.elim (gX0_find_l88 G Γ r sz sl td c v4 v5 v6 v7 v8) (eX0_find_l88 G Γ r sz sl td c v4 v5 v6 v7 v8) x) (gX0_find_l88 G Γ r sz sl td c v4 v5 v6 v7 v8 (v2, v9, c)) := by
  show Sm _ _ (WP G Γ muX0_find r 88 [some (2, 43), none, some (1, v2), none, some (0, v4), some (0, v5), some (0, v6), some (2, v7), some (0, v8), some (0, v9), none, none, none, none] [] (sz, sl, tt td, cv c))
  unfold fX0_find_l88
  refine s_iload (pc := 88) dX0_find_88 rfl ?_
  refine s_iload (pc := 90) dX0_find_90 rfl ?_
  refine s_icmp_ge (pc := 92) (tgt := 274) dX0_find_92 rfl ?_ ?_
  · refine s_wk [true, true, true, true, true, false, false, false, false, false, true, true, true, true] (ls' := [some (2, 43), none, some (1, v2), none, some (0, v4), none, none, none, none, none, none, none, none, none]) rfl ?_
    exact Sm.some (fun h => h)
  refine s_aload (pc := 95) dX0_find_95 rfl ?_
  refine s_iload (pc := 97) dX0_find_97 rfl ?_
  refine s_aald5D (pc := 99) dX0_find_99 ?_
  refine s_astore (pc := 100) (lf := fun x => [some (2, 43), none, some (1, v2), none, some (0, v4), some (0, v5), some (0, v6), some (2, v7), some (0, v8), some (0, v9), some (2, x), none, none, none]) dX0_find_100 (fun _ => rfl) (Nat.le_of_ble_eq_true rfl) (fun v10_12 => ?_)
  refine s_aload (pc := 102) dX0_find_102 rfl ?_
  refine s_getS (pc := 104) fsX0_190 dX0_find_104 ?_
  refine s_aload_n (pc := 107) dX0_find_107 rfl ?_
  refine s_get (pc := 108) (a := 43) (v := 50) flX0_34 (t_43 _) rfl (g_43_9 _) rfl dX0_find_108 ?_
  refine s_iload (pc := 111) dX0_find_111 rfl ?_
  refine s_ialdM (pc := 113) (a := 50) (t_50 _) rfl r_50 dX0_find_113 ?_
  refine s_icmp_ne (pc := 114) (tgt := 268) dX0_find_114 rfl ?_ ?_
  · refine s_iinc (pc := 268) (lf := fun x => [some (2, 43), none, some (1, v2), none, some (0, v4), some (0, v5), some (0, v6), some (2, v7), some (0, v8), some (0, x), some (2, v10_12), none, none, none]) dX0_find_268 rfl (fun _ => rfl) (Nat.le_of_ble_eq_true rfl) (fun v9_13 => ?_)
    refine s_goto (pc := 271) (tgt := 88) dX0_find_271 rfl ?_
    refine s_wk [true, true, true, true, true, true, true, true, true, true, false, true, true, true] (ls' := [some (2, 43), none, some (1, v2), none, some (0, v4), some (0, v5), some (0, v6), some (2, v7), some (0, v8), some (0, v9_13), none, none, none, none]) rfl ?_
    exact Sm.some (fun h => h)
  refine s_aload (pc := 117) dX0_find_117 rfl ?_
  refine s_getS (pc := 119) fsX0_196 dX0_find_119 ?_
  refine s_iload (pc := 122) dX0_find_122 rfl ?_
  refine s_icmp_ne (pc := 124) (tgt := 268) dX0_find_124 rfl ?_ ?_
  · refine s_iinc (pc := 268) (lf := fun x => [some (2, 43), none, some (1, v2), none, some (0, v4), some (0, v5), some (0, v6), some (2, v7), some (0, v8), some (0, x), some (2, v10_12), none, none, none]) dX0_find_268 rfl (fun _ => rfl) (Nat.le_of_ble_eq_true rfl) (fun v9_14 => ?_)
    refine s_goto (pc := 271) (tgt := 88) dX0_find_271 rfl ?_
    refine s_wk [true, true, true, true, true, true, true, true, true, true, false, true, true, true] (ls' := [some (2, 43), none, some (1, v2), none, some (0, v4), some (0, v5), some (0, v6), some (2, v7), some (0, v8), some (0, v9_14), none, none, none, none]) rfl ?_
    exact Sm.some (fun h => h)
  refine s_aload_n (pc := 127) dX0_find_127 rfl ?_
  refine s_get (pc := 128) (a := 43) (v := 89) flX0_71 (t_43 _) rfl (g_43_22 _) rfl dX0_find_128 ?_
  refine s_iload (pc := 131) dX0_find_131 rfl ?_
  refine s_aaldM (pc := 133) (a := 89) (q := 5) (by decide) ⟨rfl, rfl⟩ (t_89 _) rfl dX0_find_133 ?_
  refine s_ifnull (pc := 134) (tgt := 140) dX0_find_134 rfl ?_ ?_
  · refine s_iconst (pc := 140) dX0_find_140 ?_
    refine s_istoreD (pc := 141) (ls' := [some (2, 43), none, some (1, v2), none, some (0, v4), some (0, v5), some (0, v6), some (2, v7), some (0, v8), some (0, v9), some (2, v10_12), some (0, 1), none, none]) dX0_find_141 rfl (Nat.le_of_ble_eq_true rfl) ?_
    refine s_loop (g := gX0_find_l143 G Γ r sz sl td c v4 v5 v6 v7 v8 v9 v10_12) (Ex := eX0_find_l143 G Γ r sz sl td c v4 v5 v6 v7 v8 v9 v10_12) (s0 := (v2, 1, c)) (fun s => sX0_find_l143 v4 v5 v6 v7 v8 v9 v10_12 s.1 s.2.1 td s.2.2) ?_
    intro e_30
    show Sm _ _ (WP G Γ muX0_find r 268 [some (2, 43), none, some (1, e_30.1), none, some (0, v4), some (0, v5), some (0, v6), some (2, v7), some (0, v8), some (0, v9), none, none, none, none] [] (sz, sl, tt td, cv e_30.2))
    refine s_iinc (pc := 268) (lf := fun x => [some (2, 43), none, some (1, e_30.1), none, some (0, v4), some (0, v5), some (0, v6), some (2, v7), some (0, v8), some (0, x), none, none, none, none]) dX0_find_268 rfl (fun _ => rfl) (Nat.le_of_ble_eq_true rfl) (fun v9_31 => ?_)
    refine s_goto (pc := 271) (tgt := 88) dX0_find_271 rfl ?_
    exact Sm.some (fun h => h)
  refine s_goto (pc := 137) (tgt := 268) dX0_find_137 rfl ?_
  refine s_iinc (pc := 268) (lf := fun x => [some (2, 43), none, some (1, v2), none, some (0, v4), some (0, v5), some (0, v6), some (2, v7), some (0, v8), some (0, x), some (2, v10_12), none, none, none]) dX0_find_268 rfl (fun _ => rfl) (Nat.le_of_ble_eq_true rfl) (fun v9_32 => ?_)
  refine s_goto (pc := 271) (tgt := 88) dX0_find_271 rfl ?_
  refine s_wk [true, true, true, true, true, true, true, true, true, true, false, true, true, true] (ls' := [some (2, 43), none, some (1, v2), none, some (0, v4), some (0, v5), some (0, v6), some (2, v7), some (0, v8), some (0, v9_32), none, none, none, none]) rfl ?_
  exact Sm.some (fun h => h)
abbrev gX0_find_l41 (G : GG) (Γ : Cx) (r : Vv × Wd) (sz sl : Nat) (td : TT) (c : CC)  : (Int × Int × CC) → Prop := fun s => WP G Γ muX0_find r 41 [some (2, 43), none, some (1, s.1), none, some (0, s.2.1), none, none, none, none, none, none, none, none, none] [] (sz, sl, tt td, cv s.2.2)
abbrev eX0_find_l41 (G : GG) (Γ : Cx) (r : Vv × Wd) (sz sl : Nat) (td : TT) (c : CC)  : (CC) → Prop := (fun s => WP G Γ muX0_find r 280 [none, none, none, none, none, none, none, none, none, none, none, none, none, none] [] (sz, sl, tt td, cv s))
noncomputable def fX0_find_l41 (v2 : Int) (v4 : Int) (td : TT) (c : CC) : Option ((Int × Int × CC) ⊕ (CC)) :=
  if v4 < 0 then
  (some (.inr c))
  else
  (gd (inR ((c 43 21) - 1)) <|
   bd ((c 43 21) - 1) fun v5_6 =>
   gd ((0 : Int) ≤ v5_6 ∧ v5_6 < 31) <|
   bd (c 56 (Int.toNat v5_6)) fun v6_7 =>
   gd ((0 : Int) ≤ v4 ∧ v4 < 24) <| bd (up2 c 89 (Int.toNat v4) (-1)) fun c_8 =>
   cl (fX0_lexicon  td c_8) fun p_9 =>
   gd ((0 : Int) ≤ p_9 ∧ (tt td (Int.toNat p_9)).1 = 1) <|
   bd (cv c_8 (Int.toNat p_9) 0) fun v7_10 =>
   gd ((0 : Int) ≤ v7_10 ∧ (tt td (Int.toNat v7_10)).1 = 55 ∧ (tt td (Int.toNat v7_10)).2 < 2147483648) <|
   bd (((tt td (Int.toNat v7_10)).2 : Int)) fun v8_11 =>
   cl (wh (fun s => fX0_find_l88 v4 v5_6 v6_7 v7_10 v8_11 s.1 s.2.1 td s.2.2) (v2, 0, c_8)) (fun e_33 =>
  gd (inR (v4 + -1)) <| bd (v4 + -1) fun v4_34 =>
   some (.inl (e_33.1, v4_34, e_33.2))))
theorem sX0_find_l41 {G : GG} {Γ : Cx} {r : Vv × Wd} {sz : Nat} {sl : Nat} (v2 : Int) (v4 : Int) (td : TT) (c : CC) : Sm (fX0_find_l41 v2 v4 td c) (fun x => Sum.elim (gX0_find_l41 G Γ r sz sl td c ) (eX0_find_l41 G Γ r sz sl td c ) x) (gX0_find_l41 G Γ r sz sl td c  (v2, v4, c)) := by
  show Sm _ _ (WP G Γ muX0_find r 41 [some (2, 43), none, some (1, v2), none, some (0, v4), none, none, none, none, none, none, none, none, none] [] (sz, sl, tt td, cv c))
  unfold fX0_find_l41
  refine s_iload (pc := 41) dX0_find_41 rfl ?_
  refine s_if_lt (pc := 43) (tgt := 280) dX0_find_43 rfl ?_ ?_
  · refine s_wk [false, true, false, true, false, true, true, true, true, true, true, true, true, true] (ls' := [none, none, none, none, none, none, none, none, none, none, none, none, none, none]) rfl ?_
    exact Sm.some (fun h => h)
  refine s_aload_n (pc := 46) dX0_find_46 rfl ?_
  refine s_get (pc := 47) (a := 43) (v := c 43 21) flX0_222 (t_43 _) rfl (g_43_21 _) rfl dX0_find_47 ?_
  refine s_iconst (pc := 50) dX0_find_50 ?_
  refine s_isub (pc := 51) dX0_find_51 ?_
  refine s_istore (pc := 52) (lf := fun x => [some (2, 43), none, some (1, v2), none, some (0, v4), some (0, x), none, none, none, none, none, none, none, none]) dX0_find_52 (fun _ => rfl) (Nat.le_of_ble_eq_true rfl) (fun v5_6 => ?_)
  refine s_aload_n (pc := 54) dX0_find_54 rfl ?_
  refine s_get (pc := 55) (a := 43) (v := 56) flX0_61 (t_43 _) rfl (g_43_19 _) rfl dX0_find_55 ?_
  refine s_iload (pc := 58) dX0_find_58 rfl ?_
  refine s_ialdM (pc := 60) (a := 56) (t_56 _) rfl r_56 dX0_find_60 ?_
  refine s_istore (pc := 61) (lf := fun x => [some (2, 43), none, some (1, v2), none, some (0, v4), some (0, v5_6), some (0, x), none, none, none, none, none, none, none]) dX0_find_61 (fun _ => rfl) (Nat.le_of_ble_eq_true rfl) (fun v6_7 => ?_)
  refine s_aload_n (pc := 63) dX0_find_63 rfl ?_
  refine s_get (pc := 64) (a := 43) (v := 89) flX0_71 (t_43 _) rfl (g_43_22 _) rfl dX0_find_64 ?_
  refine s_iload (pc := 67) dX0_find_67 rfl ?_
  refine s_null (pc := 69) dX0_find_69 ?_
  refine s_aastNM (pc := 70) (a := 89) (q := 5) (by decide) (Or.inl ⟨_, rfl⟩) (t_89 _) rfl kO_89 r_89 dX0_find_70 (fun c_8 => ?_)
  refine s_aload_n (pc := 71) dX0_find_71 rfl ?_
  refine s_callV3 (pc := 72) (a := 43) (as := []) (st := []) (rv := fun b => ((2, b), (sz, sl, tt td, cv c_8))) (st3 := fun b => [(2, b)]) (w3 := fun b => (sz, sl, tt td, cv c_8)) mvX0_186 (fun b h => kX0_lexicon  td c_8 b h) rfl (by decide) (t_43 td) rfl rfl rfl (Nat.le_of_ble_eq_true rfl) (fun _ => Nat.le_of_ble_eq_true rfl) (fun _ => ⟨rfl, rfl⟩) dX0_find_72 (fun p_9 => ?_)
  refine s_getDN (pc := 75) fnX0_189 rfl dX0_find_75 ?_
  refine s_astore (pc := 78) (lf := fun x => [some (2, 43), none, some (1, v2), none, some (0, v4), some (0, v5_6), some (0, v6_7), some (2, x), none, none, none, none, none, none]) dX0_find_78 (fun _ => rfl) (Nat.le_of_ble_eq_true rfl) (fun v7_10 => ?_)
  refine s_aload (pc := 80) dX0_find_80 rfl ?_
  refine s_alenD (pc := 82) (q := 5) (by decide) dX0_find_82 ?_
  refine s_istore (pc := 83) (lf := fun x => [some (2, 43), none, some (1, v2), none, some (0, v4), some (0, v5_6), some (0, v6_7), some (2, v7_10), some (0, x), none, none, none, none, none]) dX0_find_83 (fun _ => rfl) (Nat.le_of_ble_eq_true rfl) (fun v8_11 => ?_)
  refine s_iconst (pc := 85) dX0_find_85 ?_
  refine s_istoreD (pc := 86) (ls' := [some (2, 43), none, some (1, v2), none, some (0, v4), some (0, v5_6), some (0, v6_7), some (2, v7_10), some (0, v8_11), some (0, 0), none, none, none, none]) dX0_find_86 rfl (Nat.le_of_ble_eq_true rfl) ?_
  refine s_loop (g := gX0_find_l88 G Γ r sz sl td c_8 v4 v5_6 v6_7 v7_10 v8_11) (Ex := eX0_find_l88 G Γ r sz sl td c_8 v4 v5_6 v6_7 v7_10 v8_11) (s0 := (v2, 0, c_8)) (fun s => sX0_find_l88 v4 v5_6 v6_7 v7_10 v8_11 s.1 s.2.1 td s.2.2) ?_
  intro e_33
  show Sm _ _ (WP G Γ muX0_find r 274 [some (2, 43), none, some (1, e_33.1), none, some (0, v4), none, none, none, none, none, none, none, none, none] [] (sz, sl, tt td, cv e_33.2))
  refine s_iinc (pc := 274) (lf := fun x => [some (2, 43), none, some (1, e_33.1), none, some (0, x), none, none, none, none, none, none, none, none, none]) dX0_find_274 rfl (fun _ => rfl) (Nat.le_of_ble_eq_true rfl) (fun v4_34 => ?_)
  refine s_goto (pc := 277) (tgt := 41) dX0_find_277 rfl ?_
  exact Sm.some (fun h => h)
noncomputable def fX0_find (a1 : Int) (td : TT) (c : CC) : Option (Int × CC) :=
  cl (fX0_reckon  td c) fun p_1 =>
   if a1 < 0 then
  (gd ((0 : Int) ≤ 0 ∧ (0 : Int) < 2) (some (0, p_1)))
  else
  (cl (fX0_all  p_1) fun p_2 =>
   if a1 < p_2 then
  (bd (up2 p_1 43 21 0) fun c_3 =>
   cl (fX0_push 0 td c_3) fun p_4 =>
   gd (inR ((p_4 43 5) - 1)) <|
   bd ((p_4 43 5) - 1) fun v4_5 =>
   cl (wh (fun s => fX0_find_l41  s.1 s.2.1 td s.2.2) (a1, v4_5, p_4)) (fun e_35 =>
  gd ((0 : Int) ≤ 1 ∧ (1 : Int) < 2) (some (1, e_35))))
  else
  (gd ((0 : Int) ≤ 0 ∧ (0 : Int) < 2) (some (0, p_1))))
theorem sX0_find {G : GG} {Γ : Cx} {r : Vv × Wd} {sz : Nat} {sl : Nat} (a1 : Int) (td : TT) (c : CC) : Sm (fX0_find a1 td c) (fun x => r = ((0, x.1), (sz, sl, tt td, cv x.2))) (WP G Γ muX0_find r 0 [some (2, 43), some (0, a1), none, none, none, none, none, none, none, none, none, none, none, none] [] (sz, sl, tt td, cv c)) := by
  unfold fX0_find
  refine s_aload_n (pc := 0) dX0_find_0 rfl ?_
  refine s_callV3 (pc := 1) (a := 43) (as := []) (st := []) (rv := fun b => ((3, 0), (sz, sl, tt td, cv b))) (st3 := fun b => []) (w3 := fun b => (sz, sl, tt td, cv b)) mvX0_219 (fun b h => kX0_reckon  td c b h) rfl (by decide) (t_43 td) rfl rfl rfl (Nat.le_of_ble_eq_true rfl) (fun _ => Nat.le_of_ble_eq_true rfl) (fun _ => ⟨rfl, rfl⟩) dX0_find_1 (fun p_1 => ?_)
  refine s_iload_n (pc := 4) dX0_find_4 rfl ?_
  refine s_if_lt (pc := 5) (tgt := 18) dX0_find_5 rfl ?_ ?_
  · refine s_iconst (pc := 18) dX0_find_18 ?_
    exact s_zret (pc := 19) dX0_find_19 rfl (fun h => h)
  refine s_iload_n (pc := 8) dX0_find_8 rfl ?_
  refine s_i2l (pc := 9) dX0_find_9 ?_
  refine s_aload_n (pc := 10) dX0_find_10 rfl ?_
  refine s_callV3 (pc := 11) (a := 43) (as := []) (st := [(1, a1)]) (rv := fun b => ((1, b), (sz, sl, tt td, cv p_1))) (st3 := fun b => [(1, b), (1, a1)]) (w3 := fun b => (sz, sl, tt td, cv p_1)) mvX0_228 (fun b h => kX0_all  p_1 b h) rfl (by decide) (t_43 td) rfl rfl rfl (Nat.le_of_ble_eq_true rfl) (fun _ => Nat.le_of_ble_eq_true rfl) (fun _ => ⟨rfl, rfl⟩) dX0_find_11 (fun p_2 => ?_)
  refine s_lcmp_lt (pc := 14) (tgt := 20) dX0_find_14 dX0_find_15 rfl ?_ ?_
  · refine s_iload_n (pc := 20) dX0_find_20 rfl ?_
    refine s_i2l (pc := 21) dX0_find_21 ?_
    refine s_lstore_nD (pc := 22) (ls' := [some (2, 43), some (0, a1), some (1, a1), none, none, none, none, none, none, none, none, none, none, none]) dX0_find_22 rfl (Nat.le_of_ble_eq_true rfl) ?_
    refine s_aload_n (pc := 23) dX0_find_23 rfl ?_
    refine s_iconst (pc := 24) dX0_find_24 ?_
    refine s_putM (pc := 25) (a := 43) (fpX0_222 _) (t_43 _) rfl kO_43 n_43_21 rfl (fpX0_222t) dX0_find_25 (fun c_3 => ?_)
    refine s_aload_n (pc := 28) dX0_find_28 rfl ?_
    refine s_iconst (pc := 29) dX0_find_29 ?_
    refine s_callV3 (pc := 30) (a := 43) (as := [(0, 0)]) (st := []) (rv := fun b => ((3, 0), (sz, sl, tt td, cv b))) (st3 := fun b => []) (w3 := fun b => (sz, sl, tt td, cv b)) mvX0_232 (fun b h => kX0_push 0 td c_3 b h) rfl (by decide) (t_43 td) rfl rfl rfl (Nat.le_of_ble_eq_true rfl) (fun _ => Nat.le_of_ble_eq_true rfl) (fun _ => ⟨rfl, rfl⟩) dX0_find_30 (fun p_4 => ?_)
    refine s_aload_n (pc := 33) dX0_find_33 rfl ?_
    refine s_get (pc := 34) (a := 43) (v := p_4 43 5) flX0_158 (t_43 _) rfl (g_43_5 _) rfl dX0_find_34 ?_
    refine s_iconst (pc := 37) dX0_find_37 ?_
    refine s_isub (pc := 38) dX0_find_38 ?_
    refine s_istore (pc := 39) (lf := fun x => [some (2, 43), some (0, a1), some (1, a1), none, some (0, x), none, none, none, none, none, none, none, none, none]) dX0_find_39 (fun _ => rfl) (Nat.le_of_ble_eq_true rfl) (fun v4_5 => ?_)
    refine s_wk [true, false, true, true, true, true, true, true, true, true, true, true, true, true] (ls' := [some (2, 43), none, some (1, a1), none, some (0, v4_5), none, none, none, none, none, none, none, none, none]) rfl ?_
    refine s_loop (g := gX0_find_l41 G Γ r sz sl td p_4 ) (Ex := eX0_find_l41 G Γ r sz sl td p_4 ) (s0 := (a1, v4_5, p_4)) (fun s => sX0_find_l41  s.1 s.2.1 td s.2.2) ?_
    intro e_35
    show Sm _ _ (WP G Γ muX0_find r 280 [none, none, none, none, none, none, none, none, none, none, none, none, none, none] [] (sz, sl, tt td, cv e_35))
    refine s_iconst (pc := 280) dX0_find_280 ?_
    exact s_zret (pc := 281) dX0_find_281 rfl (fun h => h)
  refine s_iconst (pc := 18) dX0_find_18 ?_
  exact s_zret (pc := 19) dX0_find_19 rfl (fun h => h)
theorem kX0_find {G : GG} {sz : Nat} {sl : Nat} (a1 : Int) (td : TT) (c : CC) (x : (Int × CC)) (h : fX0_find a1 td c = some x) : Ct G yX0_find muX0_find [(2, 43), (0, a1)] (sz, sl, tt td, cv c) ((0, x.1), (sz, sl, tt td, cv x.2)) :=
  Ct.of (n := 12) (ls0 := [some (2, 43), some (0, a1), none, none, none, none, none, none, none, none, none, none, none, none]) (by decide) rfl rfl ⟨show (some .boolean : Option FieldType) ≠ some .float by decide, show (some .boolean : Option FieldType) ≠ some .double by decide⟩ (Nat.le_of_ble_eq_true rfl) rfl ⟨Nat.le_refl _, Nat.le_refl _⟩ (show (0 : Nat) ≠ 9 by decide) (fun Γ => sX0_find a1 td c x h rfl)
theorem mvX0_239 : MV RX0 239 RX0 yX0_find muX0_find 1 := ⟨lw_V q936 q938 qs25 q125 q939, by decide +kernel, Nat.le_of_ble_eq_true rfl⟩
theorem fsX0_243 : ∀ ci, 6 ≤ ci → ci ≤ 10 → FL RX0 243 ci 0 ∧ tgF (fty ci 0) = 0 := by
  intro ci h1 h2
  rcases (by omega : ci = 6 ∨ ci = 7 ∨ ci = 8 ∨ ci = 9 ∨ ci = 10) with e | e | e | e | e <;> subst e
  · exact ⟨⟨_, _, _, cf6, by decide, q590⟩, rfl⟩
  · exact ⟨⟨_, _, _, cf7, by decide, q590⟩, rfl⟩
  · exact ⟨⟨_, _, _, cf8, by decide, q590⟩, rfl⟩
  · exact ⟨⟨_, _, _, cf9, by decide, q590⟩, rfl⟩
  · exact ⟨⟨_, _, _, cf10, by decide, q590⟩, rfl⟩
abbrev muX0_sense : MI := (cX0_sense, RX0, 3, some .int, 6, "sense")
noncomputable def fX0_sense (a1 : Int) (a2 : Int) (td : TT) (c : CC) : Option (Int × CC) :=
  gd (inR ((c 43 5) - 1)) <|
   cl (fX0_in a2 0 ((c 43 5) - 1) ) fun p_1 =>
   if p_1 = 0 then
  (some ((-1), c))
  else
  (cl (fX0_find a1 td c) fun p_2 =>
   if p_2.1 = 0 then
  (some ((-1), p_2.2))
  else
  (gd ((0 : Int) ≤ a2 ∧ a2 < 24) <|
   gd ((0 : Int) ≤ cv p_2.2 89 (Int.toNat a2) ∧ 6 ≤ (tt td (Int.toNat (cv p_2.2 89 (Int.toNat a2)))).1 ∧ (tt td (Int.toNat (cv p_2.2 89 (Int.toNat a2)))).1 ≤ 10) <|
   some ((cv p_2.2 (Int.toNat (cv p_2.2 89 (Int.toNat a2))) 0), p_2.2)))
theorem sX0_sense {G : GG} {Γ : Cx} {r : Vv × Wd} {sz : Nat} {sl : Nat} (a1 : Int) (a2 : Int) (td : TT) (c : CC) : Sm (fX0_sense a1 a2 td c) (fun x => r = ((0, x.1), (sz, sl, tt td, cv x.2))) (WP G Γ muX0_sense r 0 [some (2, 43), some (0, a1), some (0, a2)] [] (sz, sl, tt td, cv c)) := by
  unfold fX0_sense
  refine s_iload_n (pc := 0) dX0_sense_0 rfl ?_
  refine s_iconst (pc := 1) dX0_sense_1 ?_
  refine s_aload_n (pc := 2) dX0_sense_2 rfl ?_
  refine s_get (pc := 3) (a := 43) (v := c 43 5) flX0_158 (t_43 _) rfl (g_43_5 _) rfl dX0_sense_3 ?_
  refine s_iconst (pc := 6) dX0_sense_6 ?_
  refine s_isub (pc := 7) dX0_sense_7 ?_
  refine s_callS3 (pc := 8) (as := [(0, a2), (0, 0), (0, (c 43 5) - 1)]) (st := []) (rv := fun b => ((0, b), (sz, sl, tt td, cv c))) (st3 := fun b => [(0, b)]) (w3 := fun b => (sz, sl, tt td, cv c)) msX0_130 (fun b h => kX0_in a2 0 ((c 43 5) - 1) c b h) rfl (by decide) rfl (Nat.le_of_ble_eq_true rfl) (fun _ => Nat.le_of_ble_eq_true rfl) (fun _ => ⟨rfl, rfl⟩) dX0_sense_8 (fun p_1 => ?_)
  refine s_if_eq (pc := 11) (tgt := 34) dX0_sense_11 rfl ?_ ?_
  · refine s_iconst (pc := 34) dX0_sense_34 ?_
    exact s_iret (pc := 35) dX0_sense_35 rfl (fun h => h)
  refine s_aload_n (pc := 14) dX0_sense_14 rfl ?_
  refine s_iload_n (pc := 15) dX0_sense_15 rfl ?_
  refine s_callV3 (pc := 16) (a := 43) (as := [(0, a1)]) (st := []) (rv := fun b => ((0, b.1), (sz, sl, tt td, cv b.2))) (st3 := fun b => [(0, b.1)]) (w3 := fun b => (sz, sl, tt td, cv b.2)) mvX0_239 (fun b h => kX0_find a1 td c b h) rfl (by decide) (t_43 td) rfl rfl rfl (Nat.le_of_ble_eq_true rfl) (fun _ => Nat.le_of_ble_eq_true rfl) (fun _ => ⟨rfl, rfl⟩) dX0_sense_16 (fun p_2 => ?_)
  refine s_if_eq (pc := 19) (tgt := 34) dX0_sense_19 rfl ?_ ?_
  · refine s_iconst (pc := 34) dX0_sense_34 ?_
    exact s_iret (pc := 35) dX0_sense_35 rfl (fun h => h)
  refine s_aload_n (pc := 22) dX0_sense_22 rfl ?_
  refine s_get (pc := 23) (a := 43) (v := 89) flX0_71 (t_43 _) rfl (g_43_22 _) rfl dX0_sense_23 ?_
  refine s_iload_n (pc := 26) dX0_sense_26 rfl ?_
  refine s_aaldM (pc := 27) (a := 89) (q := 5) (by decide) ⟨rfl, rfl⟩ (t_89 _) rfl dX0_sense_27 ?_
  refine s_getS (pc := 28) fsX0_243 dX0_sense_28 ?_
  refine s_goto (pc := 31) (tgt := 35) dX0_sense_31 rfl ?_
  exact s_iret (pc := 35) dX0_sense_35 rfl (fun h => h)
theorem kX0_sense {G : GG} {sz : Nat} {sl : Nat} (a1 : Int) (a2 : Int) (td : TT) (c : CC) (x : (Int × CC)) (h : fX0_sense a1 a2 td c = some x) : Ct G yX0_sense muX0_sense [(2, 43), (0, a1), (0, a2)] (sz, sl, tt td, cv c) ((0, x.1), (sz, sl, tt td, cv x.2)) :=
  Ct.of (n := 0) (ls0 := [some (2, 43), some (0, a1), some (0, a2)]) (by decide) rfl rfl ⟨show (some .int : Option FieldType) ≠ some .float by decide, show (some .int : Option FieldType) ≠ some .double by decide⟩ (Nat.le_of_ble_eq_true rfl) rfl ⟨Nat.le_refl _, Nat.le_refl _⟩ (show (0 : Nat) ≠ 9 by decide) (fun Γ => sX0_sense a1 a2 td c x h rfl)
abbrev muX0_taken : MI := (cX0_taken, RX0, 3, some .int, 6, "taken")
noncomputable def fX0_taken (a1 : Int) (a2 : Int) (td : TT) (c : CC) : Option (Int × CC) :=
  gd (inR ((c 43 5) - 1)) <|
   cl (fX0_in a2 0 ((c 43 5) - 1) ) fun p_1 =>
   if p_1 = 0 then
  (some ((-1), c))
  else
  (cl (fX0_find a1 td c) fun p_2 =>
   if p_2.1 = 0 then
  (some ((-1), p_2.2))
  else
  (gd ((0 : Int) ≤ a2 ∧ a2 < 24) <|
   some ((p_2.2 90 (Int.toNat a2)), p_2.2)))
theorem sX0_taken {G : GG} {Γ : Cx} {r : Vv × Wd} {sz : Nat} {sl : Nat} (a1 : Int) (a2 : Int) (td : TT) (c : CC) : Sm (fX0_taken a1 a2 td c) (fun x => r = ((0, x.1), (sz, sl, tt td, cv x.2))) (WP G Γ muX0_taken r 0 [some (2, 43), some (0, a1), some (0, a2)] [] (sz, sl, tt td, cv c)) := by
  unfold fX0_taken
  refine s_iload_n (pc := 0) dX0_taken_0 rfl ?_
  refine s_iconst (pc := 1) dX0_taken_1 ?_
  refine s_aload_n (pc := 2) dX0_taken_2 rfl ?_
  refine s_get (pc := 3) (a := 43) (v := c 43 5) flX0_158 (t_43 _) rfl (g_43_5 _) rfl dX0_taken_3 ?_
  refine s_iconst (pc := 6) dX0_taken_6 ?_
  refine s_isub (pc := 7) dX0_taken_7 ?_
  refine s_callS3 (pc := 8) (as := [(0, a2), (0, 0), (0, (c 43 5) - 1)]) (st := []) (rv := fun b => ((0, b), (sz, sl, tt td, cv c))) (st3 := fun b => [(0, b)]) (w3 := fun b => (sz, sl, tt td, cv c)) msX0_130 (fun b h => kX0_in a2 0 ((c 43 5) - 1) c b h) rfl (by decide) rfl (Nat.le_of_ble_eq_true rfl) (fun _ => Nat.le_of_ble_eq_true rfl) (fun _ => ⟨rfl, rfl⟩) dX0_taken_8 (fun p_1 => ?_)
  refine s_if_eq (pc := 11) (tgt := 31) dX0_taken_11 rfl ?_ ?_
  · refine s_iconst (pc := 31) dX0_taken_31 ?_
    exact s_iret (pc := 32) dX0_taken_32 rfl (fun h => h)
  refine s_aload_n (pc := 14) dX0_taken_14 rfl ?_
  refine s_iload_n (pc := 15) dX0_taken_15 rfl ?_
  refine s_callV3 (pc := 16) (a := 43) (as := [(0, a1)]) (st := []) (rv := fun b => ((0, b.1), (sz, sl, tt td, cv b.2))) (st3 := fun b => [(0, b.1)]) (w3 := fun b => (sz, sl, tt td, cv b.2)) mvX0_239 (fun b h => kX0_find a1 td c b h) rfl (by decide) (t_43 td) rfl rfl rfl (Nat.le_of_ble_eq_true rfl) (fun _ => Nat.le_of_ble_eq_true rfl) (fun _ => ⟨rfl, rfl⟩) dX0_taken_16 (fun p_2 => ?_)
  refine s_if_eq (pc := 19) (tgt := 31) dX0_taken_19 rfl ?_ ?_
  · refine s_iconst (pc := 31) dX0_taken_31 ?_
    exact s_iret (pc := 32) dX0_taken_32 rfl (fun h => h)
  refine s_aload_n (pc := 22) dX0_taken_22 rfl ?_
  refine s_get (pc := 23) (a := 43) (v := 90) flX0_75 (t_43 _) rfl (g_43_23 _) rfl dX0_taken_23 ?_
  refine s_iload_n (pc := 26) dX0_taken_26 rfl ?_
  refine s_ialdM (pc := 27) (a := 90) (t_90 _) rfl r_90 dX0_taken_27 ?_
  refine s_goto (pc := 28) (tgt := 32) dX0_taken_28 rfl ?_
  exact s_iret (pc := 32) dX0_taken_32 rfl (fun h => h)
theorem kX0_taken {G : GG} {sz : Nat} {sl : Nat} (a1 : Int) (a2 : Int) (td : TT) (c : CC) (x : (Int × CC)) (h : fX0_taken a1 a2 td c = some x) : Ct G yX0_taken muX0_taken [(2, 43), (0, a1), (0, a2)] (sz, sl, tt td, cv c) ((0, x.1), (sz, sl, tt td, cv x.2)) :=
  Ct.of (n := 0) (ls0 := [some (2, 43), some (0, a1), some (0, a2)]) (by decide) rfl rfl ⟨show (some .int : Option FieldType) ≠ some .float by decide, show (some .int : Option FieldType) ≠ some .double by decide⟩ (Nat.le_of_ble_eq_true rfl) rfl ⟨Nat.le_refl _, Nat.le_refl _⟩ (show (0 : Nat) ≠ 9 by decide) (fun Γ => sX0_taken a1 a2 td c x h rfl)
abbrev muX0_open : MI := (cX0_open, RX0, 8, some .int, 5, "open")
abbrev gX0_open_l75 (G : GG) (Γ : Cx) (r : Vv × Wd) (sz sl : Nat) (td : TT) (c : CC) (v1 : Int) (v2 : Int) (v3 : Int) (v4 : Int) (v5 : Int) (v6 : Int) : (Int × CC) → Prop := fun s => WP G Γ muX0_open r 75 [some (2, 43), some (0, v1), some (2, v2), some (0, v3), some (0, v4), some (2, v5), some (0, v6), some (0, s.1)] [] (sz, sl, tt td, cv s.2)
abbrev eX0_open_l75 (G : GG) (Γ : Cx) (r : Vv × Wd) (sz sl : Nat) (td : TT) (c : CC) (v1 : Int) (v2 : Int) (v3 : Int) (v4 : Int) (v5 : Int) (v6 : Int) : (CC) → Prop := (fun s => WP G Γ muX0_open r 106 [some (2, 43), some (0, v1), some (2, v2), some (0, v3), some (0, v4), some (2, v5), some (0, v6), none] [] (sz, sl, tt td, cv s))
noncomputable def fX0_open_l75 (v1 : Int) (v2 : Int) (v3 : Int) (v4 : Int) (v5 : Int) (v6 : Int) (v7 : Int) (td : TT) (c : CC) : Option ((Int × CC) ⊕ (CC)) :=
  cl (fV_takes v5 v6 td c) fun p_8 =>
   if v7 < p_8 then
  (cl (fV_kind v5 v6 v7 td c) fun p_9 =>
   cl (fX0_push p_9 td c) fun p_10 =>
   gd (inR (v7 + 1)) <| bd (v7 + 1) fun v7_11 =>
   some (.inl (v7_11, p_10)))
  else
  (some (.inr c))
theorem sX0_open_l75 {G : GG} {Γ : Cx} {r : Vv × Wd} {sz : Nat} {sl : Nat} (v1 : Int) (v2 : Int) (v3 : Int) (v4 : Int) (v5 : Int) (v6 : Int) (v7 : Int) (td : TT) (c : CC) : Sm (fX0_open_l75 v1 v2 v3 v4 v5 v6 v7 td c) (fun x => Sum.elim (gX0_open_l75 G Γ r sz sl td c v1 v2 v3 v4 v5 v6) (eX0_open_l75 G Γ r sz sl td c v1 v2 v3 v4 v5 v6) x) (gX0_open_l75 G Γ r sz sl td c v1 v2 v3 v4 v5 v6 (v7, c)) := by
  show Sm _ _ (WP G Γ muX0_open r 75 [some (2, 43), some (0, v1), some (2, v2), some (0, v3), some (0, v4), some (2, v5), some (0, v6), some (0, v7)] [] (sz, sl, tt td, cv c))
  unfold fX0_open_l75
  refine s_iload (pc := 75) dX0_open_75 rfl ?_
  refine s_aload (pc := 77) dX0_open_77 rfl ?_
  refine s_iload (pc := 79) dX0_open_79 rfl ?_
  refine s_callU (pc := 81) (z := v5) (as := [(0, v6)]) (st := [(0, v7)]) (rv := fun b => ((0, b), (sz, sl, tt td, cv c))) (st3 := fun b => [(0, b), (0, v7)]) (w3 := fun b => (sz, sl, tt td, cv c)) rfl rfl (fun b h => vdX0_167 v5 v6 td c b h (by decide)) (Nat.le_of_ble_eq_true rfl) (fun _ => Nat.le_of_ble_eq_true rfl) (fun _ => ⟨rfl, rfl⟩) dX0_open_81 (fun p_8 => ?_)
  refine s_icmp_ge (pc := 84) (tgt := 106) dX0_open_84 rfl ?_ ?_
  · refine s_wk [true, true, true, true, true, true, true, false] (ls' := [some (2, 43), some (0, v1), some (2, v2), some (0, v3), some (0, v4), some (2, v5), some (0, v6), none]) rfl ?_
    exact Sm.some (fun h => h)
  refine s_aload_n (pc := 87) dX0_open_87 rfl ?_
  refine s_aload (pc := 88) dX0_open_88 rfl ?_
  refine s_iload (pc := 90) dX0_open_90 rfl ?_
  refine s_iload (pc := 92) dX0_open_92 rfl ?_
  refine s_callU (pc := 94) (z := v5) (as := [(0, v6), (0, v7)]) (st := [(2, 43)]) (rv := fun b => ((0, b), (sz, sl, tt td, cv c))) (st3 := fun b => [(0, b), (2, 43)]) (w3 := fun b => (sz, sl, tt td, cv c)) rfl rfl (fun b h => vdX0_175 v5 v6 v7 td c b h (by decide)) (Nat.le_of_ble_eq_true rfl) (fun _ => Nat.le_of_ble_eq_true rfl) (fun _ => ⟨rfl, rfl⟩) dX0_open_94 (fun p_9 => ?_)
  refine s_callV3 (pc := 97) (a := 43) (as := [(0, p_9)]) (st := []) (rv := fun b => ((3, 0), (sz, sl, tt td, cv b))) (st3 := fun b => []) (w3 := fun b => (sz, sl, tt td, cv b)) mvX0_232 (fun b h => kX0_push p_9 td c b h) rfl (by decide) (t_43 td) rfl rfl rfl (Nat.le_of_ble_eq_true rfl) (fun _ => Nat.le_of_ble_eq_true rfl) (fun _ => ⟨rfl, rfl⟩) dX0_open_97 (fun p_10 => ?_)
  refine s_iinc (pc := 100) (lf := fun x => [some (2, 43), some (0, v1), some (2, v2), some (0, v3), some (0, v4), some (2, v5), some (0, v6), some (0, x)]) dX0_open_100 rfl (fun _ => rfl) (Nat.le_of_ble_eq_true rfl) (fun v7_11 => ?_)
  refine s_goto (pc := 103) (tgt := 75) dX0_open_103 rfl ?_
  exact Sm.some (fun h => h)
abbrev gX0_open_l57 (G : GG) (Γ : Cx) (r : Vv × Wd) (sz sl : Nat) (td : TT) (c : CC) (v2 : Int) (v3 : Int) (v4 : Int) (v5 : Int) : (Int × Int × CC) → Prop := fun s => WP G Γ muX0_open r 57 [some (2, 43), some (0, s.1), some (2, v2), some (0, v3), some (0, v4), some (2, v5), some (0, s.2.1), none] [] (sz, sl, tt td, cv s.2.2)
abbrev eX0_open_l57 (G : GG) (Γ : Cx) (r : Vv × Wd) (sz sl : Nat) (td : TT) (c : CC) (v2 : Int) (v3 : Int) (v4 : Int) (v5 : Int) : (Int × CC) → Prop := (fun s => WP G Γ muX0_open r 135 [some (2, 43), some (0, s.1), some (2, v2), some (0, v3), some (0, v4), none, none, none] [] (sz, sl, tt td, cv s.2))
noncomputable def fX0_open_l57 (v2 : Int) (v3 : Int) (v4 : Int) (v5 : Int) (v1 : Int) (v6 : Int) (td : TT) (c : CC) : Option ((Int × Int × CC) ⊕ (Int × CC)) :=
  cl (fV_most v5  td c) fun p_6 =>
   if p_6 < v6 then
  (some (.inr (v1, c)))
  else
  (bd (up2 c 43 21 0) fun c_7 =>
   cl (wh (fun s => fX0_open_l75 v1 v2 v3 v4 v5 v6 s.1 td s.2) (0, c_7)) (fun e_12 =>
  cl (fX0_ahead (e_12 43 5) td e_12) fun p_13 =>
   if (0 : Int) < p_13 then
  (gd ((0 : Int) ≤ v5 ∧ 6 ≤ (tt td (Int.toNat v5)).1 ∧ (tt td (Int.toNat v5)).1 ≤ 10) <|
   bd (orI v1 (shlI 1 (cv e_12 (Int.toNat v5) 1))) fun v1_15 =>
   gd (inR (v6 + 1)) <| bd (v6 + 1) fun v6_16 =>
   some (.inl (v1_15, v6_16, e_12)))
  else
  (gd (inR (v6 + 1)) <| bd (v6 + 1) fun v6_14 =>
   some (.inl (v1, v6_14, e_12)))))
theorem sX0_open_l57 {G : GG} {Γ : Cx} {r : Vv × Wd} {sz : Nat} {sl : Nat} (v2 : Int) (v3 : Int) (v4 : Int) (v5 : Int) (v1 : Int) (v6 : Int) (td : TT) (c : CC) : Sm (fX0_open_l57 v2 v3 v4 v5 v1 v6 td c) (fun x => Sum.elim (gX0_open_l57 G Γ r sz sl td c v2 v3 v4 v5) (eX0_open_l57 G Γ r sz sl td c v2 v3 v4 v5) x) (gX0_open_l57 G Γ r sz sl td c v2 v3 v4 v5 (v1, v6, c)) := by
  show Sm _ _ (WP G Γ muX0_open r 57 [some (2, 43), some (0, v1), some (2, v2), some (0, v3), some (0, v4), some (2, v5), some (0, v6), none] [] (sz, sl, tt td, cv c))
  unfold fX0_open_l57
  refine s_iload (pc := 57) dX0_open_57 rfl ?_
  refine s_aload (pc := 59) dX0_open_59 rfl ?_
  refine s_callU (pc := 61) (z := v5) (as := []) (st := [(0, v6)]) (rv := fun b => ((0, b), (sz, sl, tt td, cv c))) (st3 := fun b => [(0, b), (0, v6)]) (w3 := fun b => (sz, sl, tt td, cv c)) rfl rfl (fun b h => vdX0_193 v5  td c b h (by decide)) (Nat.le_of_ble_eq_true rfl) (fun _ => Nat.le_of_ble_eq_true rfl) (fun _ => ⟨rfl, rfl⟩) dX0_open_61 (fun p_6 => ?_)
  refine s_icmp_gt (pc := 64) (tgt := 135) dX0_open_64 rfl ?_ ?_
  · refine s_wk [true, true, true, true, true, false, false, true] (ls' := [some (2, 43), some (0, v1), some (2, v2), some (0, v3), some (0, v4), none, none, none]) rfl ?_
    exact Sm.some (fun h => h)
  refine s_aload_n (pc := 67) dX0_open_67 rfl ?_
  refine s_iconst (pc := 68) dX0_open_68 ?_
  refine s_putM (pc := 69) (a := 43) (fpX0_222 _) (t_43 _) rfl kO_43 n_43_21 rfl (fpX0_222t) dX0_open_69 (fun c_7 => ?_)
  refine s_iconst (pc := 72) dX0_open_72 ?_
  refine s_istoreD (pc := 73) (ls' := [some (2, 43), some (0, v1), some (2, v2), some (0, v3), some (0, v4), some (2, v5), some (0, v6), some (0, 0)]) dX0_open_73 rfl (Nat.le_of_ble_eq_true rfl) ?_
  refine s_loop (g := gX0_open_l75 G Γ r sz sl td c_7 v1 v2 v3 v4 v5 v6) (Ex := eX0_open_l75 G Γ r sz sl td c_7 v1 v2 v3 v4 v5 v6) (s0 := (0, c_7)) (fun s => sX0_open_l75 v1 v2 v3 v4 v5 v6 s.1 td s.2) ?_
  intro e_12
  show Sm _ _ (WP G Γ muX0_open r 106 [some (2, 43), some (0, v1), some (2, v2), some (0, v3), some (0, v4), some (2, v5), some (0, v6), none] [] (sz, sl, tt td, cv e_12))
  refine s_aload_n (pc := 106) dX0_open_106 rfl ?_
  refine s_aload_n (pc := 107) dX0_open_107 rfl ?_
  refine s_get (pc := 108) (a := 43) (v := e_12 43 5) flX0_158 (t_43 _) rfl (g_43_5 _) rfl dX0_open_108 ?_
  refine s_callV3 (pc := 111) (a := 43) (as := [(0, e_12 43 5)]) (st := []) (rv := fun b => ((1, b), (sz, sl, tt td, cv e_12))) (st3 := fun b => [(1, b)]) (w3 := fun b => (sz, sl, tt td, cv e_12)) mvX0_235 (fun b h => kX0_ahead (e_12 43 5) td e_12 b h) rfl (by decide) (t_43 td) rfl rfl rfl (Nat.le_of_ble_eq_true rfl) (fun _ => Nat.le_of_ble_eq_true rfl) (fun _ => ⟨rfl, rfl⟩) dX0_open_111 (fun p_13 => ?_)
  refine s_lconst0 (pc := 114) dX0_open_114 ?_
  refine s_lcmp_le (pc := 115) (tgt := 129) dX0_open_115 dX0_open_116 rfl ?_ ?_
  · refine s_iinc (pc := 129) (lf := fun x => [some (2, 43), some (0, v1), some (2, v2), some (0, v3), some (0, v4), some (2, v5), some (0, x), none]) dX0_open_129 rfl (fun _ => rfl) (Nat.le_of_ble_eq_true rfl) (fun v6_14 => ?_)
    refine s_goto (pc := 132) (tgt := 57) dX0_open_132 rfl ?_
    exact Sm.some (fun h => h)
  refine s_iload_n (pc := 119) dX0_open_119 rfl ?_
  refine s_iconst (pc := 120) dX0_open_120 ?_
  refine s_aload (pc := 121) dX0_open_121 rfl ?_
  refine s_getS (pc := 123) fsX0_190 dX0_open_123 ?_
  refine s_ishl (pc := 126) dX0_open_126 ?_
  refine s_ior (pc := 127) dX0_open_127 ?_
  refine s_istore_n (pc := 128) (lf := fun x => [some (2, 43), some (0, x), some (2, v2), some (0, v3), some (0, v4), some (2, v5), some (0, v6), none]) dX0_open_128 (fun _ => rfl) (Nat.le_of_ble_eq_true rfl) (fun v1_15 => ?_)
  refine s_iinc (pc := 129) (lf := fun x => [some (2, 43), some (0, v1_15), some (2, v2), some (0, v3), some (0, v4), some (2, v5), some (0, x), none]) dX0_open_129 rfl (fun _ => rfl) (Nat.le_of_ble_eq_true rfl) (fun v6_16 => ?_)
  refine s_goto (pc := 132) (tgt := 57) dX0_open_132 rfl ?_
  exact Sm.some (fun h => h)
abbrev gX0_open_l31 (G : GG) (Γ : Cx) (r : Vv × Wd) (sz sl : Nat) (td : TT) (c : CC) (v2 : Int) (v3 : Int) : (Int × Int × CC) → Prop := fun s => WP G Γ muX0_open r 31 [some (2, 43), some (0, s.1), some (2, v2), some (0, v3), some (0, s.2.1), none, none, none] [] (sz, sl, tt td, cv s.2.2)
abbrev eX0_open_l31 (G : GG) (Γ : Cx) (r : Vv × Wd) (sz sl : Nat) (td : TT) (c : CC) (v2 : Int) (v3 : Int) : (Int × CC) → Prop := (fun s => WP G Γ muX0_open r 141 [none, some (0, s.1), none, none, none, none, none, none] [] (sz, sl, tt td, cv s.2))
noncomputable def fX0_open_l31 (v2 : Int) (v3 : Int) (v1 : Int) (v4 : Int) (td : TT) (c : CC) : Option ((Int × Int × CC) ⊕ (Int × CC)) :=
  if v4 < v3 then
  (gd ((0 : Int) ≤ v2 ∧ (tt td (Int.toNat v2)).1 = 55 ∧ (0 : Int) ≤ v4 ∧ v4 < ((tt td (Int.toNat v2)).2 : Int)) <|
   bd (cv c (Int.toNat v2) (Int.toNat v4)) fun v5_5 =>
   gd ((0 : Int) ≤ v5_5 ∧ 6 ≤ (tt td (Int.toNat v5_5)).1 ∧ (tt td (Int.toNat v5_5)).1 ≤ 10) <|
   if cv c (Int.toNat v5_5) 2 = 0 then
  (cl (wh (fun s => fX0_open_l57 v2 v3 v4 v5_5 s.1 s.2.1 td s.2.2) (v1, 1, c)) (fun e_17 =>
  gd (inR (v4 + 1)) <| bd (v4 + 1) fun v4_18 =>
   some (.inl (e_17.1, v4_18, e_17.2))))
  else
  (gd (inR (v4 + 1)) <| bd (v4 + 1) fun v4_19 =>
   some (.inl (v1, v4_19, c))))
  else
  (some (.inr (v1, c)))
theorem sX0_open_l31 {G : GG} {Γ : Cx} {r : Vv × Wd} {sz : Nat} {sl : Nat} (v2 : Int) (v3 : Int) (v1 : Int) (v4 : Int) (td : TT) (c : CC) : Sm (fX0_open_l31 v2 v3 v1 v4 td c) (fun x => Sum.elim (gX0_open_l31 G Γ r sz sl td c v2 v3) (eX0_open_l31 G Γ r sz sl td c v2 v3) x) (gX0_open_l31 G Γ r sz sl td c v2 v3 (v1, v4, c)) := by
  show Sm _ _ (WP G Γ muX0_open r 31 [some (2, 43), some (0, v1), some (2, v2), some (0, v3), some (0, v4), none, none, none] [] (sz, sl, tt td, cv c))
  unfold fX0_open_l31
  refine s_iload (pc := 31) dX0_open_31 rfl ?_
  refine s_iload_n (pc := 33) dX0_open_33 rfl ?_
  refine s_icmp_ge (pc := 34) (tgt := 141) dX0_open_34 rfl ?_ ?_
  · refine s_wk [false, true, false, false, false, true, true, true] (ls' := [none, some (0, v1), none, none, none, none, none, none]) rfl ?_
    exact Sm.some (fun h => h)
  refine s_aload_n (pc := 37) dX0_open_37 rfl ?_
  refine s_iload (pc := 38) dX0_open_38 rfl ?_
  refine s_aald5D (pc := 40) dX0_open_40 ?_
  refine s_astore (pc := 41) (lf := fun x => [some (2, 43), some (0, v1), some (2, v2), some (0, v3), some (0, v4), some (2, x), none, none]) dX0_open_41 (fun _ => rfl) (Nat.le_of_ble_eq_true rfl) (fun v5_5 => ?_)
  refine s_aload (pc := 43) dX0_open_43 rfl ?_
  refine s_getS (pc := 45) fsX0_196 dX0_open_45 ?_
  refine s_if_eq (pc := 48) (tgt := 54) dX0_open_48 rfl ?_ ?_
  · refine s_iconst (pc := 54) dX0_open_54 ?_
    refine s_istoreD (pc := 55) (ls' := [some (2, 43), some (0, v1), some (2, v2), some (0, v3), some (0, v4), some (2, v5_5), some (0, 1), none]) dX0_open_55 rfl (Nat.le_of_ble_eq_true rfl) ?_
    refine s_loop (g := gX0_open_l57 G Γ r sz sl td c v2 v3 v4 v5_5) (Ex := eX0_open_l57 G Γ r sz sl td c v2 v3 v4 v5_5) (s0 := (v1, 1, c)) (fun s => sX0_open_l57 v2 v3 v4 v5_5 s.1 s.2.1 td s.2.2) ?_
    intro e_17
    show Sm _ _ (WP G Γ muX0_open r 135 [some (2, 43), some (0, e_17.1), some (2, v2), some (0, v3), some (0, v4), none, none, none] [] (sz, sl, tt td, cv e_17.2))
    refine s_iinc (pc := 135) (lf := fun x => [some (2, 43), some (0, e_17.1), some (2, v2), some (0, v3), some (0, x), none, none, none]) dX0_open_135 rfl (fun _ => rfl) (Nat.le_of_ble_eq_true rfl) (fun v4_18 => ?_)
    refine s_goto (pc := 138) (tgt := 31) dX0_open_138 rfl ?_
    exact Sm.some (fun h => h)
  refine s_goto (pc := 51) (tgt := 135) dX0_open_51 rfl ?_
  refine s_iinc (pc := 135) (lf := fun x => [some (2, 43), some (0, v1), some (2, v2), some (0, v3), some (0, x), some (2, v5_5), none, none]) dX0_open_135 rfl (fun _ => rfl) (Nat.le_of_ble_eq_true rfl) (fun v4_19 => ?_)
  refine s_goto (pc := 138) (tgt := 31) dX0_open_138 rfl ?_
  refine s_wk [true, true, true, true, true, false, true, true] (ls' := [some (2, 43), some (0, v1), some (2, v2), some (0, v3), some (0, v4_19), none, none, none]) rfl ?_
  exact Sm.some (fun h => h)
noncomputable def fX0_open  (td : TT) (c : CC) : Option (Int × CC) :=
  if c 43 5 = 24 then
  (some (0, c))
  else
  (cl (fX0_reckon  td c) fun p_1 =>
   cl (fX0_lexicon  td p_1) fun p_2 =>
   gd ((0 : Int) ≤ p_2 ∧ (tt td (Int.toNat p_2)).1 = 1) <|
   bd (cv p_1 (Int.toNat p_2) 0) fun v2_3 =>
   gd ((0 : Int) ≤ v2_3 ∧ (tt td (Int.toNat v2_3)).1 = 55 ∧ (tt td (Int.toNat v2_3)).2 < 2147483648) <|
   bd (((tt td (Int.toNat v2_3)).2 : Int)) fun v3_4 =>
   cl (wh (fun s => fX0_open_l31 v2_3 v3_4 s.1 s.2.1 td s.2.2) (0, 0, p_1)) (fun e_20 =>
  some (e_20.1, e_20.2)))
theorem sX0_open {G : GG} {Γ : Cx} {r : Vv × Wd} {sz : Nat} {sl : Nat}  (td : TT) (c : CC) : Sm (fX0_open  td c) (fun x => r = ((0, x.1), (sz, sl, tt td, cv x.2))) (WP G Γ muX0_open r 0 [some (2, 43), none, none, none, none, none, none, none] [] (sz, sl, tt td, cv c)) := by
  unfold fX0_open
  refine s_aload_n (pc := 0) dX0_open_0 rfl ?_
  refine s_get (pc := 1) (a := 43) (v := c 43 5) flX0_158 (t_43 _) rfl (g_43_5 _) rfl dX0_open_1 ?_
  refine s_bipush (pc := 4) dX0_open_4 ?_
  refine s_icmp_ne (pc := 6) (tgt := 11) dX0_open_6 rfl ?_ ?_
  · refine s_aload_n (pc := 11) dX0_open_11 rfl ?_
    refine s_callV3 (pc := 12) (a := 43) (as := []) (st := []) (rv := fun b => ((3, 0), (sz, sl, tt td, cv b))) (st3 := fun b => []) (w3 := fun b => (sz, sl, tt td, cv b)) mvX0_219 (fun b h => kX0_reckon  td c b h) rfl (by decide) (t_43 td) rfl rfl rfl (Nat.le_of_ble_eq_true rfl) (fun _ => Nat.le_of_ble_eq_true rfl) (fun _ => ⟨rfl, rfl⟩) dX0_open_12 (fun p_1 => ?_)
    refine s_iconst (pc := 15) dX0_open_15 ?_
    refine s_istore_nD (pc := 16) (ls' := [some (2, 43), some (0, 0), none, none, none, none, none, none]) dX0_open_16 rfl (Nat.le_of_ble_eq_true rfl) ?_
    refine s_aload_n (pc := 17) dX0_open_17 rfl ?_
    refine s_callV3 (pc := 18) (a := 43) (as := []) (st := []) (rv := fun b => ((2, b), (sz, sl, tt td, cv p_1))) (st3 := fun b => [(2, b)]) (w3 := fun b => (sz, sl, tt td, cv p_1)) mvX0_186 (fun b h => kX0_lexicon  td p_1 b h) rfl (by decide) (t_43 td) rfl rfl rfl (Nat.le_of_ble_eq_true rfl) (fun _ => Nat.le_of_ble_eq_true rfl) (fun _ => ⟨rfl, rfl⟩) dX0_open_18 (fun p_2 => ?_)
    refine s_getDN (pc := 21) fnX0_189 rfl dX0_open_21 ?_
    refine s_astore_n (pc := 24) (lf := fun x => [some (2, 43), some (0, 0), some (2, x), none, none, none, none, none]) dX0_open_24 (fun _ => rfl) (Nat.le_of_ble_eq_true rfl) (fun v2_3 => ?_)
    refine s_aload_n (pc := 25) dX0_open_25 rfl ?_
    refine s_alenD (pc := 26) (q := 5) (by decide) dX0_open_26 ?_
    refine s_istore_n (pc := 27) (lf := fun x => [some (2, 43), some (0, 0), some (2, v2_3), some (0, x), none, none, none, none]) dX0_open_27 (fun _ => rfl) (Nat.le_of_ble_eq_true rfl) (fun v3_4 => ?_)
    refine s_iconst (pc := 28) dX0_open_28 ?_
    refine s_istoreD (pc := 29) (ls' := [some (2, 43), some (0, 0), some (2, v2_3), some (0, v3_4), some (0, 0), none, none, none]) dX0_open_29 rfl (Nat.le_of_ble_eq_true rfl) ?_
    refine s_loop (g := gX0_open_l31 G Γ r sz sl td p_1 v2_3 v3_4) (Ex := eX0_open_l31 G Γ r sz sl td p_1 v2_3 v3_4) (s0 := (0, 0, p_1)) (fun s => sX0_open_l31 v2_3 v3_4 s.1 s.2.1 td s.2.2) ?_
    intro e_20
    show Sm _ _ (WP G Γ muX0_open r 141 [none, some (0, e_20.1), none, none, none, none, none, none] [] (sz, sl, tt td, cv e_20.2))
    refine s_iload_n (pc := 141) dX0_open_141 rfl ?_
    exact s_iret (pc := 142) dX0_open_142 rfl (fun h => h)
  refine s_iconst (pc := 9) dX0_open_9 ?_
  exact s_iret (pc := 10) dX0_open_10 rfl (fun h => h)
theorem kX0_open {G : GG} {sz : Nat} {sl : Nat}  (td : TT) (c : CC) (x : (Int × CC)) (h : fX0_open  td c = some x) : Ct G yX0_open muX0_open [(2, 43)] (sz, sl, tt td, cv c) ((0, x.1), (sz, sl, tt td, cv x.2)) :=
  Ct.of (n := 7) (ls0 := [some (2, 43), none, none, none, none, none, none, none]) (by decide) rfl rfl ⟨show (some .int : Option FieldType) ≠ some .float by decide, show (some .int : Option FieldType) ≠ some .double by decide⟩ (Nat.le_of_ble_eq_true rfl) rfl ⟨Nat.le_refl _, Nat.le_refl _⟩ (show (0 : Nat) ≠ 9 by decide) (fun Γ => sX0_open  td c x h rfl)
abbrev muX0_mostOf : MI := (cX0_mostOf, RX0, 4, some .int, 2, "mostOf")
abbrev gX0_mostOf_l6 (G : GG) (Γ : Cx) (r : Vv × Wd) (sz sl : Nat) (td : TT) (c : CC)  : (Int × Int × Int) → Prop := fun s => WP G Γ muX0_mostOf r 6 [some (2, 43), some (0, s.1), some (0, s.2.1), some (0, s.2.2)] [] (sz, sl, tt td, cv c)
abbrev eX0_mostOf_l6 (G : GG) (Γ : Cx) (r : Vv × Wd) (sz sl : Nat) (td : TT) (c : CC)  : (Int) → Prop := (fun s => WP G Γ muX0_mostOf r 46 [none, none, some (0, s), none] [] (sz, sl, tt td, cv c))
noncomputable def fX0_mostOf_l6 (v1 : Int) (v2 : Int) (v3 : Int) (td : TT) (c : CC) : Option ((Int × Int × Int) ⊕ (Int)) :=
  if v3 < c 43 5 then
  (gd ((0 : Int) ≤ v3 ∧ v3 < 24) <|
   gd ((0 : Int) ≤ v3 ∧ v3 < 24) <|
   cl (fV_takes (cv c 89 (Int.toNat v3)) (c 90 (Int.toNat v3)) td c) fun p_1 =>
   gd (inR (1 - p_1)) <|
   gd (inR (v1 + (1 - p_1))) <|
   bd (v1 + (1 - p_1)) fun v1_2 =>
    bd (max v2 v1_2) fun v2_4 =>
   gd (inR (v3 + 1)) <| bd (v3 + 1) fun v3_5 =>
   some (.inl (v1_2, v2_4, v3_5)))
  else
  (some (.inr v2))
theorem sX0_mostOf_l6 {G : GG} {Γ : Cx} {r : Vv × Wd} {sz : Nat} {sl : Nat} (v1 : Int) (v2 : Int) (v3 : Int) (td : TT) (c : CC) : Sm (fX0_mostOf_l6 v1 v2 v3 td c) (fun x => Sum.elim (gX0_mostOf_l6 G Γ r sz sl td c ) (eX0_mostOf_l6 G Γ r sz sl td c ) x) (gX0_mostOf_l6 G Γ r sz sl td c  (v1, v2, v3)) := by
  show Sm _ _ (WP G Γ muX0_mostOf r 6 [some (2, 43), some (0, v1), some (0, v2), some (0, v3)] [] (sz, sl, tt td, cv c))
  unfold fX0_mostOf_l6
  refine s_iload_n (pc := 6) dX0_mostOf_6 rfl ?_
  refine s_aload_n (pc := 7) dX0_mostOf_7 rfl ?_
  refine s_get (pc := 8) (a := 43) (v := c 43 5) flX0_158 (t_43 _) rfl (g_43_5 _) rfl dX0_mostOf_8 ?_
  refine s_icmp_ge (pc := 11) (tgt := 46) dX0_mostOf_11 rfl ?_ ?_
  · refine s_wk [false, false, true, false] (ls' := [none, none, some (0, v2), none]) rfl ?_
    exact Sm.some (fun h => h)
  refine s_iload_n (pc := 14) dX0_mostOf_14 rfl ?_
  refine s_iconst (pc := 15) dX0_mostOf_15 ?_
  refine s_aload_n (pc := 16) dX0_mostOf_16 rfl ?_
  refine s_get (pc := 17) (a := 43) (v := 89) flX0_71 (t_43 _) rfl (g_43_22 _) rfl dX0_mostOf_17 ?_
  refine s_iload_n (pc := 20) dX0_mostOf_20 rfl ?_
  refine s_aaldM (pc := 21) (a := 89) (q := 5) (by decide) ⟨rfl, rfl⟩ (t_89 _) rfl dX0_mostOf_21 ?_
  refine s_aload_n (pc := 22) dX0_mostOf_22 rfl ?_
  refine s_get (pc := 23) (a := 43) (v := 90) flX0_75 (t_43 _) rfl (g_43_23 _) rfl dX0_mostOf_23 ?_
  refine s_iload_n (pc := 26) dX0_mostOf_26 rfl ?_
  refine s_ialdM (pc := 27) (a := 90) (t_90 _) rfl r_90 dX0_mostOf_27 ?_
  refine s_callU (pc := 28) (z := cv c 89 (Int.toNat v3)) (as := [(0, c 90 (Int.toNat v3))]) (st := [(0, 1), (0, v1)]) (rv := fun b => ((0, b), (sz, sl, tt td, cv c))) (st3 := fun b => [(0, b), (0, 1), (0, v1)]) (w3 := fun b => (sz, sl, tt td, cv c)) rfl rfl (fun b h => vdX0_167 (cv c 89 (Int.toNat v3)) (c 90 (Int.toNat v3)) td c b h (by decide)) (Nat.le_of_ble_eq_true rfl) (fun _ => Nat.le_of_ble_eq_true rfl) (fun _ => ⟨rfl, rfl⟩) dX0_mostOf_28 (fun p_1 => ?_)
  refine s_isub (pc := 31) dX0_mostOf_31 ?_
  refine s_iadd (pc := 32) dX0_mostOf_32 ?_
  refine s_istore_n (pc := 33) (lf := fun x => [some (2, 43), some (0, x), some (0, v2), some (0, v3)]) dX0_mostOf_33 (fun _ => rfl) (Nat.le_of_ble_eq_true rfl) (fun v1_2 => ?_)
  refine s_iload_n (pc := 34) dX0_mostOf_34 rfl ?_
  refine s_iload_n (pc := 35) dX0_mostOf_35 rfl ?_
  refine s_imax (a := v2) (b := v1_2) (st := []) q975 dX0_mostOf_36 (by decide) (Nat.le_of_ble_eq_true rfl) ?_
  refine s_istore_n (pc := 39) (lf := fun x => [some (2, 43), some (0, v1_2), some (0, x), some (0, v3)]) dX0_mostOf_39 (fun _ => rfl) (Nat.le_of_ble_eq_true rfl) (fun v2_4 => ?_)
  refine s_iinc (pc := 40) (lf := fun x => [some (2, 43), some (0, v1_2), some (0, v2_4), some (0, x)]) dX0_mostOf_40 rfl (fun _ => rfl) (Nat.le_of_ble_eq_true rfl) (fun v3_5 => ?_)
  refine s_goto (pc := 43) (tgt := 6) dX0_mostOf_43 rfl ?_
  exact Sm.some (fun h => h)
noncomputable def fX0_mostOf  (td : TT) (c : CC) : Option Int :=
  cl (wh (fun s => fX0_mostOf_l6  s.1 s.2.1 s.2.2 td c) (0, 0, 0)) (fun e_6 =>
  some e_6)
theorem sX0_mostOf {G : GG} {Γ : Cx} {r : Vv × Wd} {sz : Nat} {sl : Nat}  (td : TT) (c : CC) : Sm (fX0_mostOf  td c) (fun x => r = ((0, x), (sz, sl, tt td, cv c))) (WP G Γ muX0_mostOf r 0 [some (2, 43), none, none, none] [] (sz, sl, tt td, cv c)) := by
  unfold fX0_mostOf
  refine s_iconst (pc := 0) dX0_mostOf_0 ?_
  refine s_istore_nD (pc := 1) (ls' := [some (2, 43), some (0, 0), none, none]) dX0_mostOf_1 rfl (Nat.le_of_ble_eq_true rfl) ?_
  refine s_iconst (pc := 2) dX0_mostOf_2 ?_
  refine s_istore_nD (pc := 3) (ls' := [some (2, 43), some (0, 0), some (0, 0), none]) dX0_mostOf_3 rfl (Nat.le_of_ble_eq_true rfl) ?_
  refine s_iconst (pc := 4) dX0_mostOf_4 ?_
  refine s_istore_nD (pc := 5) (ls' := [some (2, 43), some (0, 0), some (0, 0), some (0, 0)]) dX0_mostOf_5 rfl (Nat.le_of_ble_eq_true rfl) ?_
  refine s_loop (g := gX0_mostOf_l6 G Γ r sz sl td c ) (Ex := eX0_mostOf_l6 G Γ r sz sl td c ) (s0 := (0, 0, 0)) (fun s => sX0_mostOf_l6  s.1 s.2.1 s.2.2 td c) ?_
  intro e_6
  show Sm _ _ (WP G Γ muX0_mostOf r 46 [none, none, some (0, e_6), none] [] (sz, sl, tt td, cv c))
  refine s_iload_n (pc := 46) dX0_mostOf_46 rfl ?_
  exact s_iret (pc := 47) dX0_mostOf_47 rfl (fun h => h)
theorem kX0_mostOf {G : GG} {sz : Nat} {sl : Nat}  (td : TT) (c : CC) (x : Int) (h : fX0_mostOf  td c = some x) : Ct G yX0_mostOf muX0_mostOf [(2, 43)] (sz, sl, tt td, cv c) ((0, x), (sz, sl, tt td, cv c)) :=
  Ct.of (n := 3) (ls0 := [some (2, 43), none, none, none]) (by decide) rfl rfl ⟨show (some .int : Option FieldType) ≠ some .float by decide, show (some .int : Option FieldType) ≠ some .double by decide⟩ (Nat.le_of_ble_eq_true rfl) rfl ⟨Nat.le_refl _, Nat.le_refl _⟩ (show (0 : Nat) ≠ 9 by decide) (fun Γ => sX0_mostOf  td c x h rfl)
theorem flX0_83 : FL RX0 83 0 25 := ⟨_, _, _, cf0, by decide, q238⟩
theorem flX0_78 : FL RX0 78 0 24 := ⟨_, _, _, cf0, by decide, q237⟩
abbrev muX0_easeOf : MI := (cX0_easeOf, RX0, 10, some .int, 2, "easeOf")
abbrev gX0_easeOf_l93 (G : GG) (Γ : Cx) (r : Vv × Wd) (sz sl : Nat) (td : TT) (c : CC) (v1 : Int) (v2 : Int) (v3 : Int) (v4 : Int) (v5 : Int) (v6 : Int) (v7 : Int) : (Int × Int) → Prop := fun s => WP G Γ muX0_easeOf r 93 [some (2, 43), some (2, v1), some (0, v2), some (0, v3), some (0, v4), some (0, v5), some (0, v6), some (0, v7), some (0, s.1), some (0, s.2)] [] (sz, sl, tt td, cv c)
abbrev eX0_easeOf_l93 (G : GG) (Γ : Cx) (r : Vv × Wd) (sz sl : Nat) (td : TT) (c : CC) (v1 : Int) (v2 : Int) (v3 : Int) (v4 : Int) (v5 : Int) (v6 : Int) (v7 : Int) : (Int) → Prop := (fun s => WP G Γ muX0_easeOf r 161 [some (2, 43), some (2, v1), some (0, v2), some (0, v3), some (0, v4), some (0, v5), some (0, v6), some (0, v7), some (0, s), none] [] (sz, sl, tt td, cv c))
noncomputable def fX0_easeOf_l93 (v1 : Int) (v2 : Int) (v3 : Int) (v4 : Int) (v5 : Int) (v6 : Int) (v7 : Int) (v8 : Int) (v9 : Int) (td : TT) (c : CC) : Option ((Int × Int) ⊕ (Int)) :=
  if v9 < v7 then
  (if (0 : Int) < v6 then
  (gd (inR (v6 - 1)) <|
   gd ((0 : Int) ≤ v6 - 1 ∧ v6 - 1 < 6) <|
   gd ((0 : Int) ≤ cv c 92 (Int.toNat (v6 - 1)) ∧ (tt td (Int.toNat (cv c 92 (Int.toNat (v6 - 1))))).1 = 50 ∧ (0 : Int) ≤ v9 ∧ v9 < ((tt td (Int.toNat (cv c 92 (Int.toNat (v6 - 1))))).2 : Int)) <|
   gd (inR (v9 + 1)) <|
   cl (fX0_spanAt (v9 + 1) v7 ) fun p_2 =>
   gd (inR (8 * p_2)) <|
   cl (fV_kind v1 v2 v6 td c) fun p_3 =>
   gd (inR ((8 * p_2) + p_3)) <|
   gd ((0 : Int) ≤ (8 * p_2) + p_3 ∧ (8 * p_2) + p_3 < 2400) <|
   gd (inR (v6 + (c 91 (Int.toNat ((8 * p_2) + p_3))))) <|
     bd (min v8 (max (cv c (Int.toNat (cv c 92 (Int.toNat (v6 - 1)))) (Int.toNat v9)) (v6 + (c 91 (Int.toNat ((8 * p_2) + p_3)))))) fun v8_6 =>
   gd (inR (v9 + 1)) <| bd (v9 + 1) fun v9_7 =>
   some (.inl (v8_6, v9_7)))
  else
  (some (.inr v8)))
  else
  (some (.inr v8))
theorem sX0_easeOf_l93 {G : GG} {Γ : Cx} {r : Vv × Wd} {sz : Nat} {sl : Nat} (v1 : Int) (v2 : Int) (v3 : Int) (v4 : Int) (v5 : Int) (v6 : Int) (v7 : Int) (v8 : Int) (v9 : Int) (td : TT) (c : CC) : Sm (fX0_easeOf_l93 v1 v2 v3 v4 v5 v6 v7 v8 v9 td c) (fun x => Sum.elim (gX0_easeOf_l93 G Γ r sz sl td c v1 v2 v3 v4 v5 v6 v7) (eX0_easeOf_l93 G Γ r sz sl td c v1 v2 v3 v4 v5 v6 v7) x) (gX0_easeOf_l93 G Γ r sz sl td c v1 v2 v3 v4 v5 v6 v7 (v8, v9)) := by
  show Sm _ _ (WP G Γ muX0_easeOf r 93 [some (2, 43), some (2, v1), some (0, v2), some (0, v3), some (0, v4), some (0, v5), some (0, v6), some (0, v7), some (0, v8), some (0, v9)] [] (sz, sl, tt td, cv c))
  unfold fX0_easeOf_l93
  refine s_iload (pc := 93) dX0_easeOf_93 rfl ?_
  refine s_iload (pc := 95) dX0_easeOf_95 rfl ?_
  refine s_icmp_ge (pc := 97) (tgt := 161) dX0_easeOf_97 rfl ?_ ?_
  · refine s_wk [true, true, true, true, true, true, true, true, true, false] (ls' := [some (2, 43), some (2, v1), some (0, v2), some (0, v3), some (0, v4), some (0, v5), some (0, v6), some (0, v7), some (0, v8), none]) rfl ?_
    exact Sm.some (fun h => h)
  refine s_iload (pc := 100) dX0_easeOf_100 rfl ?_
  refine s_if_le (pc := 102) (tgt := 161) dX0_easeOf_102 rfl ?_ ?_
  · refine s_wk [true, true, true, true, true, true, true, true, true, false] (ls' := [some (2, 43), some (2, v1), some (0, v2), some (0, v3), some (0, v4), some (0, v5), some (0, v6), some (0, v7), some (0, v8), none]) rfl ?_
    exact Sm.some (fun h => h)
  refine s_iload (pc := 105) dX0_easeOf_105 rfl ?_
  refine s_aload_n (pc := 107) dX0_easeOf_107 rfl ?_
  refine s_get (pc := 108) (a := 43) (v := 92) flX0_83 (t_43 _) rfl (g_43_25 _) rfl dX0_easeOf_108 ?_
  refine s_iload (pc := 111) dX0_easeOf_111 rfl ?_
  refine s_iconst (pc := 113) dX0_easeOf_113 ?_
  refine s_isub (pc := 114) dX0_easeOf_114 ?_
  refine s_aaldM (pc := 115) (a := 92) (q := 7) (by decide) ⟨rfl, rfl⟩ (t_92 _) rfl dX0_easeOf_115 ?_
  refine s_iload (pc := 116) dX0_easeOf_116 rfl ?_
  refine s_ialdD (pc := 118) dX0_easeOf_118 ?_
  refine s_iload (pc := 119) dX0_easeOf_119 rfl ?_
  refine s_aload_n (pc := 121) dX0_easeOf_121 rfl ?_
  refine s_get (pc := 122) (a := 43) (v := 91) flX0_78 (t_43 _) rfl (g_43_24 _) rfl dX0_easeOf_122 ?_
  refine s_bipush (pc := 125) dX0_easeOf_125 ?_
  refine s_iload (pc := 127) dX0_easeOf_127 rfl ?_
  refine s_iconst (pc := 129) dX0_easeOf_129 ?_
  refine s_iadd (pc := 130) dX0_easeOf_130 ?_
  refine s_iload (pc := 131) dX0_easeOf_131 rfl ?_
  refine s_callS3 (pc := 133) (as := [(0, v9 + 1), (0, v7)]) (st := [(0, 8), (2, 91), (0, v6), (0, cv c (Int.toNat (cv c 92 (Int.toNat (v6 - 1)))) (Int.toNat v9)), (0, v8)]) (rv := fun b => ((0, b), (sz, sl, tt td, cv c))) (st3 := fun b => [(0, b), (0, 8), (2, 91), (0, v6), (0, cv c (Int.toNat (cv c 92 (Int.toNat (v6 - 1)))) (Int.toNat v9)), (0, v8)]) (w3 := fun b => (sz, sl, tt td, cv c)) msX0_161 (fun b h => kX0_spanAt (v9 + 1) v7 c b h) rfl (by decide) rfl (Nat.le_of_ble_eq_true rfl) (fun _ => Nat.le_of_ble_eq_true rfl) (fun _ => ⟨rfl, rfl⟩) dX0_easeOf_133 (fun p_2 => ?_)
  refine s_imul (pc := 136) dX0_easeOf_136 ?_
  refine s_aload_n (pc := 137) dX0_easeOf_137 rfl ?_
  refine s_iload_n (pc := 138) dX0_easeOf_138 rfl ?_
  refine s_iload (pc := 139) dX0_easeOf_139 rfl ?_
  refine s_callU (pc := 141) (z := v1) (as := [(0, v2), (0, v6)]) (st := [(0, 8 * p_2), (2, 91), (0, v6), (0, cv c (Int.toNat (cv c 92 (Int.toNat (v6 - 1)))) (Int.toNat v9)), (0, v8)]) (rv := fun b => ((0, b), (sz, sl, tt td, cv c))) (st3 := fun b => [(0, b), (0, 8 * p_2), (2, 91), (0, v6), (0, cv c (Int.toNat (cv c 92 (Int.toNat (v6 - 1)))) (Int.toNat v9)), (0, v8)]) (w3 := fun b => (sz, sl, tt td, cv c)) rfl rfl (fun b h => vdX0_175 v1 v2 v6 td c b h (by decide)) (Nat.le_of_ble_eq_true rfl) (fun _ => Nat.le_of_ble_eq_true rfl) (fun _ => ⟨rfl, rfl⟩) dX0_easeOf_141 (fun p_3 => ?_)
  refine s_iadd (pc := 144) dX0_easeOf_144 ?_
  refine s_ialdM (pc := 145) (a := 91) (t_91 _) rfl r_91 dX0_easeOf_145 ?_
  refine s_iadd (pc := 146) dX0_easeOf_146 ?_
  refine s_imax (a := cv c (Int.toNat (cv c 92 (Int.toNat (v6 - 1)))) (Int.toNat v9)) (b := v6 + (c 91 (Int.toNat ((8 * p_2) + p_3)))) (st := [(0, v8)]) q975 dX0_easeOf_147 (by decide) (Nat.le_of_ble_eq_true rfl) ?_
  refine s_imin (a := v8) (b := max (cv c (Int.toNat (cv c 92 (Int.toNat (v6 - 1)))) (Int.toNat v9)) (v6 + (c 91 (Int.toNat ((8 * p_2) + p_3))))) (st := []) q978 dX0_easeOf_150 (by decide) (Nat.le_of_ble_eq_true rfl) ?_
  refine s_istore (pc := 153) (lf := fun x => [some (2, 43), some (2, v1), some (0, v2), some (0, v3), some (0, v4), some (0, v5), some (0, v6), some (0, v7), some (0, x), some (0, v9)]) dX0_easeOf_153 (fun _ => rfl) (Nat.le_of_ble_eq_true rfl) (fun v8_6 => ?_)
  refine s_iinc (pc := 155) (lf := fun x => [some (2, 43), some (2, v1), some (0, v2), some (0, v3), some (0, v4), some (0, v5), some (0, v6), some (0, v7), some (0, v8_6), some (0, x)]) dX0_easeOf_155 rfl (fun _ => rfl) (Nat.le_of_ble_eq_true rfl) (fun v9_7 => ?_)
  refine s_goto (pc := 158) (tgt := 93) dX0_easeOf_158 rfl ?_
  exact Sm.some (fun h => h)
noncomputable def fX0_easeOf_j161 (v1 : Int) (v2 : Int) (v3 : Int) (v4 : Int) (v5 : Int) (v6 : Int) (v7 : Int) (v8 : Int) (td : TT) (c : CC) : Option ((Int × CC) ⊕ (CC)) :=
  gd ((0 : Int) ≤ v6 ∧ v6 < 6) <|
   gd (93 ≤ cv c 92 (Int.toNat v6) ∧ cv c 92 (Int.toNat v6) ≤ 98 ∧ (0 : Int) ≤ v7 ∧ v7 < 24) <| bd (up2 c (Int.toNat (cv c 92 (Int.toNat v6))) (Int.toNat v7) v8) fun c_9 =>
   gd (inR (v7 + 1)) <| bd (v7 + 1) fun v7_10 =>
   some (.inl (v7_10, c_9))
abbrev gX0_easeOf_l49 (G : GG) (Γ : Cx) (r : Vv × Wd) (sz sl : Nat) (td : TT) (c : CC) (v1 : Int) (v2 : Int) (v3 : Int) (v4 : Int) (v5 : Int) (v6 : Int) : (Int × CC) → Prop := fun s => WP G Γ muX0_easeOf r 49 [some (2, 43), some (2, v1), some (0, v2), some (0, v3), some (0, v4), some (0, v5), some (0, v6), some (0, s.1), none, none] [] (sz, sl, tt td, cv s.2)
abbrev eX0_easeOf_l49 (G : GG) (Γ : Cx) (r : Vv × Wd) (sz sl : Nat) (td : TT) (c : CC) (v1 : Int) (v2 : Int) (v3 : Int) (v4 : Int) (v5 : Int) (v6 : Int) : (CC) → Prop := (fun s => WP G Γ muX0_easeOf r 179 [some (2, 43), some (2, v1), some (0, v2), some (0, v3), some (0, v4), some (0, v5), some (0, v6), none, none, none] [] (sz, sl, tt td, cv s))
theorem sX0_easeOf_j161 {G : GG} {Γ : Cx} {r : Vv × Wd} {sz : Nat} {sl : Nat} (v1 : Int) (v2 : Int) (v3 : Int) (v4 : Int) (v5 : Int) (v6 : Int) (v7 : Int) (v8 : Int) (td : TT) (c : CC) : Sm (fX0_easeOf_j161 v1 v2 v3 v4 v5 v6 v7 v8 td c) (fun x => Sum.elim (gX0_easeOf_l49 G Γ r sz sl td c v1 v2 v3 v4 v5 v6) (eX0_easeOf_l49 G Γ r sz sl td c v1 v2 v3 v4 v5 v6) x) (WP G Γ muX0_easeOf r 161 [some (2, 43), some (2, v1), some (0, v2), some (0, v3), some (0, v4), some (0, v5), some (0, v6), some (0, v7), some (0, v8), none] [] (sz, sl, tt td, cv c)) := by
  unfold fX0_easeOf_j161
  refine s_aload_n (pc := 161) dX0_easeOf_161 rfl ?_
  refine s_get (pc := 162) (a := 43) (v := 92) flX0_83 (t_43 _) rfl (g_43_25 _) rfl dX0_easeOf_162 ?_
  refine s_iload (pc := 165) dX0_easeOf_165 rfl ?_
  refine s_aaldM (pc := 167) (a := 92) (q := 7) (by decide) ⟨rfl, rfl⟩ (t_92 _) rfl dX0_easeOf_167 ?_
  refine s_iload (pc := 168) dX0_easeOf_168 rfl ?_
  refine s_iload (pc := 170) dX0_easeOf_170 rfl ?_
  refine s_iastH (pc := 172) dX0_easeOf_172 (fun c_9 => ?_)
  refine s_iinc (pc := 173) (lf := fun x => [some (2, 43), some (2, v1), some (0, v2), some (0, v3), some (0, v4), some (0, v5), some (0, v6), some (0, x), some (0, v8), none]) dX0_easeOf_173 rfl (fun _ => rfl) (Nat.le_of_ble_eq_true rfl) (fun v7_10 => ?_)
  refine s_goto (pc := 176) (tgt := 49) dX0_easeOf_176 rfl ?_
  refine s_wk [true, true, true, true, true, true, true, true, false, true] (ls' := [some (2, 43), some (2, v1), some (0, v2), some (0, v3), some (0, v4), some (0, v5), some (0, v6), some (0, v7_10), none, none]) rfl ?_
  exact Sm.some (fun h => h)
noncomputable def fX0_easeOf_j88 (v1 : Int) (v2 : Int) (v3 : Int) (v4 : Int) (v5 : Int) (v6 : Int) (v7 : Int) (w0 : Int) (td : TT) (c : CC) : Option ((Int × CC) ⊕ (CC)) :=
  cl (wh (fun s => fX0_easeOf_l93 v1 v2 v3 v4 v5 v6 v7 s.1 s.2 td c) (w0, v3)) (fun e_8 =>
  fX0_easeOf_j161 v1 v2 v3 v4 v5 v6 v7 e_8 td c)
theorem sX0_easeOf_j88 {G : GG} {Γ : Cx} {r : Vv × Wd} {sz : Nat} {sl : Nat} (v1 : Int) (v2 : Int) (v3 : Int) (v4 : Int) (v5 : Int) (v6 : Int) (v7 : Int) (w0 : Int) (td : TT) (c : CC) : Sm (fX0_easeOf_j88 v1 v2 v3 v4 v5 v6 v7 w0 td c) (fun x => Sum.elim (gX0_easeOf_l49 G Γ r sz sl td c v1 v2 v3 v4 v5 v6) (eX0_easeOf_l49 G Γ r sz sl td c v1 v2 v3 v4 v5 v6) x) (WP G Γ muX0_easeOf r 88 [some (2, 43), some (2, v1), some (0, v2), some (0, v3), some (0, v4), some (0, v5), some (0, v6), some (0, v7), none, none] [(0, w0)] (sz, sl, tt td, cv c)) := by
  unfold fX0_easeOf_j88
  refine s_istoreD (pc := 88) (ls' := [some (2, 43), some (2, v1), some (0, v2), some (0, v3), some (0, v4), some (0, v5), some (0, v6), some (0, v7), some (0, w0), none]) dX0_easeOf_88 rfl (Nat.le_of_ble_eq_true rfl) ?_
  refine s_iload_n (pc := 90) dX0_easeOf_90 rfl ?_
  refine s_istoreD (pc := 91) (ls' := [some (2, 43), some (2, v1), some (0, v2), some (0, v3), some (0, v4), some (0, v5), some (0, v6), some (0, v7), some (0, w0), some (0, v3)]) dX0_easeOf_91 rfl (Nat.le_of_ble_eq_true rfl) ?_
  refine s_loop (g := gX0_easeOf_l93 G Γ r sz sl td c v1 v2 v3 v4 v5 v6 v7) (Ex := eX0_easeOf_l93 G Γ r sz sl td c v1 v2 v3 v4 v5 v6 v7) (s0 := (w0, v3)) (fun s => sX0_easeOf_l93 v1 v2 v3 v4 v5 v6 v7 s.1 s.2 td c) ?_
  intro e_8
  show Sm _ _ (WP G Γ muX0_easeOf r 161 [some (2, 43), some (2, v1), some (0, v2), some (0, v3), some (0, v4), some (0, v5), some (0, v6), some (0, v7), some (0, e_8), none] [] (sz, sl, tt td, cv c))
  exact sX0_easeOf_j161 v1 v2 v3 v4 v5 v6 v7 e_8 td c
noncomputable def fX0_easeOf_l49 (v1 : Int) (v2 : Int) (v3 : Int) (v4 : Int) (v5 : Int) (v6 : Int) (v7 : Int) (td : TT) (c : CC) : Option ((Int × CC) ⊕ (CC)) :=
  if v4 < v7 then
  (some (.inr c))
  else
  (if v6 = 0 then
  (cl (fX0_spanAt v3 v7 ) fun p_11 =>
   gd (inR (8 * p_11)) <|
   cl (fV_kind v1 v2 0 td c) fun p_12 =>
   gd (inR ((8 * p_11) + p_12)) <|
   gd ((0 : Int) ≤ (8 * p_11) + p_12 ∧ (8 * p_11) + p_12 < 2400) <|
   fX0_easeOf_j88 v1 v2 v3 v4 v5 v6 v7 (c 91 (Int.toNat ((8 * p_11) + p_12))) td c)
  else
  (fX0_easeOf_j88 v1 v2 v3 v4 v5 v6 v7 1000 td c))
theorem sX0_easeOf_l49 {G : GG} {Γ : Cx} {r : Vv × Wd} {sz : Nat} {sl : Nat} (v1 : Int) (v2 : Int) (v3 : Int) (v4 : Int) (v5 : Int) (v6 : Int) (v7 : Int) (td : TT) (c : CC) : Sm (fX0_easeOf_l49 v1 v2 v3 v4 v5 v6 v7 td c) (fun x => Sum.elim (gX0_easeOf_l49 G Γ r sz sl td c v1 v2 v3 v4 v5 v6) (eX0_easeOf_l49 G Γ r sz sl td c v1 v2 v3 v4 v5 v6) x) (gX0_easeOf_l49 G Γ r sz sl td c v1 v2 v3 v4 v5 v6 (v7, c)) := by
  show Sm _ _ (WP G Γ muX0_easeOf r 49 [some (2, 43), some (2, v1), some (0, v2), some (0, v3), some (0, v4), some (0, v5), some (0, v6), some (0, v7), none, none] [] (sz, sl, tt td, cv c))
  unfold fX0_easeOf_l49
  refine s_iload (pc := 49) dX0_easeOf_49 rfl ?_
  refine s_iload (pc := 51) dX0_easeOf_51 rfl ?_
  refine s_icmp_gt (pc := 53) (tgt := 179) dX0_easeOf_53 rfl ?_ ?_
  · refine s_wk [true, true, true, true, true, true, true, false, true, true] (ls' := [some (2, 43), some (2, v1), some (0, v2), some (0, v3), some (0, v4), some (0, v5), some (0, v6), none, none, none]) rfl ?_
    exact Sm.some (fun h => h)
  refine s_iload (pc := 56) dX0_easeOf_56 rfl ?_
  refine s_if_ne (pc := 58) (tgt := 85) dX0_easeOf_58 rfl ?_ ?_
  · refine s_sipush (pc := 85) dX0_easeOf_85 ?_
    exact sX0_easeOf_j88 v1 v2 v3 v4 v5 v6 v7 1000 td c
  refine s_aload_n (pc := 61) dX0_easeOf_61 rfl ?_
  refine s_get (pc := 62) (a := 43) (v := 91) flX0_78 (t_43 _) rfl (g_43_24 _) rfl dX0_easeOf_62 ?_
  refine s_bipush (pc := 65) dX0_easeOf_65 ?_
  refine s_iload_n (pc := 67) dX0_easeOf_67 rfl ?_
  refine s_iload (pc := 68) dX0_easeOf_68 rfl ?_
  refine s_callS3 (pc := 70) (as := [(0, v3), (0, v7)]) (st := [(0, 8), (2, 91)]) (rv := fun b => ((0, b), (sz, sl, tt td, cv c))) (st3 := fun b => [(0, b), (0, 8), (2, 91)]) (w3 := fun b => (sz, sl, tt td, cv c)) msX0_161 (fun b h => kX0_spanAt v3 v7 c b h) rfl (by decide) rfl (Nat.le_of_ble_eq_true rfl) (fun _ => Nat.le_of_ble_eq_true rfl) (fun _ => ⟨rfl, rfl⟩) dX0_easeOf_70 (fun p_11 => ?_)
  refine s_imul (pc := 73) dX0_easeOf_73 ?_
  refine s_aload_n (pc := 74) dX0_easeOf_74 rfl ?_
  refine s_iload_n (pc := 75) dX0_easeOf_75 rfl ?_
  refine s_iconst (pc := 76) dX0_easeOf_76 ?_
  refine s_callU (pc := 77) (z := v1) (as := [(0, v2), (0, 0)]) (st := [(0, 8 * p_11), (2, 91)]) (rv := fun b => ((0, b), (sz, sl, tt td, cv c))) (st3 := fun b => [(0, b), (0, 8 * p_11), (2, 91)]) (w3 := fun b => (sz, sl, tt td, cv c)) rfl rfl (fun b h => vdX0_175 v1 v2 0 td c b h (by decide)) (Nat.le_of_ble_eq_true rfl) (fun _ => Nat.le_of_ble_eq_true rfl) (fun _ => ⟨rfl, rfl⟩) dX0_easeOf_77 (fun p_12 => ?_)
  refine s_iadd (pc := 80) dX0_easeOf_80 ?_
  refine s_ialdM (pc := 81) (a := 91) (t_91 _) rfl r_91 dX0_easeOf_81 ?_
  refine s_goto (pc := 82) (tgt := 88) dX0_easeOf_82 rfl ?_
  exact sX0_easeOf_j88 v1 v2 v3 v4 v5 v6 v7 (c 91 (Int.toNat ((8 * p_11) + p_12))) td c
abbrev gX0_easeOf_l39 (G : GG) (Γ : Cx) (r : Vv × Wd) (sz sl : Nat) (td : TT) (c : CC) (v1 : Int) (v2 : Int) (v3 : Int) (v4 : Int) (v5 : Int) : (Int × CC) → Prop := fun s => WP G Γ muX0_easeOf r 39 [some (2, 43), some (2, v1), some (0, v2), some (0, v3), some (0, v4), some (0, v5), some (0, s.1), none, none, none] [] (sz, sl, tt td, cv s.2)
abbrev eX0_easeOf_l39 (G : GG) (Γ : Cx) (r : Vv × Wd) (sz sl : Nat) (td : TT) (c : CC) (v1 : Int) (v2 : Int) (v3 : Int) (v4 : Int) (v5 : Int) : (CC) → Prop := (fun s => WP G Γ muX0_easeOf r 185 [some (2, 43), none, none, none, some (0, v4), some (0, v5), none, none, none, none] [] (sz, sl, tt td, cv s))
noncomputable def fX0_easeOf_l39 (v1 : Int) (v2 : Int) (v3 : Int) (v4 : Int) (v5 : Int) (v6 : Int) (td : TT) (c : CC) : Option ((Int × CC) ⊕ (CC)) :=
  if v6 < v5 then
  (cl (wh (fun s => fX0_easeOf_l49 v1 v2 v3 v4 v5 v6 s.1 td s.2) (v3, c)) (fun e_13 =>
  gd (inR (v6 + 1)) <| bd (v6 + 1) fun v6_14 =>
   some (.inl (v6_14, e_13))))
  else
  (some (.inr c))
theorem sX0_easeOf_l39 {G : GG} {Γ : Cx} {r : Vv × Wd} {sz : Nat} {sl : Nat} (v1 : Int) (v2 : Int) (v3 : Int) (v4 : Int) (v5 : Int) (v6 : Int) (td : TT) (c : CC) : Sm (fX0_easeOf_l39 v1 v2 v3 v4 v5 v6 td c) (fun x => Sum.elim (gX0_easeOf_l39 G Γ r sz sl td c v1 v2 v3 v4 v5) (eX0_easeOf_l39 G Γ r sz sl td c v1 v2 v3 v4 v5) x) (gX0_easeOf_l39 G Γ r sz sl td c v1 v2 v3 v4 v5 (v6, c)) := by
  show Sm _ _ (WP G Γ muX0_easeOf r 39 [some (2, 43), some (2, v1), some (0, v2), some (0, v3), some (0, v4), some (0, v5), some (0, v6), none, none, none] [] (sz, sl, tt td, cv c))
  unfold fX0_easeOf_l39
  refine s_iload (pc := 39) dX0_easeOf_39 rfl ?_
  refine s_iload (pc := 41) dX0_easeOf_41 rfl ?_
  refine s_icmp_ge (pc := 43) (tgt := 185) dX0_easeOf_43 rfl ?_ ?_
  · refine s_wk [true, false, false, false, true, true, false, true, true, true] (ls' := [some (2, 43), none, none, none, some (0, v4), some (0, v5), none, none, none, none]) rfl ?_
    exact Sm.some (fun h => h)
  refine s_iload_n (pc := 46) dX0_easeOf_46 rfl ?_
  refine s_istoreD (pc := 47) (ls' := [some (2, 43), some (2, v1), some (0, v2), some (0, v3), some (0, v4), some (0, v5), some (0, v6), some (0, v3), none, none]) dX0_easeOf_47 rfl (Nat.le_of_ble_eq_true rfl) ?_
  refine s_loop (g := gX0_easeOf_l49 G Γ r sz sl td c v1 v2 v3 v4 v5 v6) (Ex := eX0_easeOf_l49 G Γ r sz sl td c v1 v2 v3 v4 v5 v6) (s0 := (v3, c)) (fun s => sX0_easeOf_l49 v1 v2 v3 v4 v5 v6 s.1 td s.2) ?_
  intro e_13
  show Sm _ _ (WP G Γ muX0_easeOf r 179 [some (2, 43), some (2, v1), some (0, v2), some (0, v3), some (0, v4), some (0, v5), some (0, v6), none, none, none] [] (sz, sl, tt td, cv e_13))
  refine s_iinc (pc := 179) (lf := fun x => [some (2, 43), some (2, v1), some (0, v2), some (0, v3), some (0, v4), some (0, v5), some (0, x), none, none, none]) dX0_easeOf_179 rfl (fun _ => rfl) (Nat.le_of_ble_eq_true rfl) (fun v6_14 => ?_)
  refine s_goto (pc := 182) (tgt := 39) dX0_easeOf_182 rfl ?_
  exact Sm.some (fun h => h)
noncomputable def fX0_easeOf (a1 : Int) (a2 : Int) (a3 : Int) (a4 : Int) (td : TT) (c : CC) : Option (Int × CC) :=
  cl (fV_takes a1 a2 td c) fun p_1 =>
   if p_1 = 0 then
  (if a4 < a3 then
  (some (0, c))
  else
  (some (1000, c)))
  else
  (if a4 < a3 then
  (some (1000, c))
  else
  (cl (wh (fun s => fX0_easeOf_l39 a1 a2 a3 a4 p_1 s.1 td s.2) (0, c)) (fun e_15 =>
  gd (inR (p_1 - 1)) <|
   gd ((0 : Int) ≤ p_1 - 1 ∧ p_1 - 1 < 6) <|
   gd ((0 : Int) ≤ cv e_15 92 (Int.toNat (p_1 - 1)) ∧ (tt td (Int.toNat (cv e_15 92 (Int.toNat (p_1 - 1))))).1 = 50 ∧ (0 : Int) ≤ a4 ∧ a4 < ((tt td (Int.toNat (cv e_15 92 (Int.toNat (p_1 - 1))))).2 : Int)) <|
   some ((cv e_15 (Int.toNat (cv e_15 92 (Int.toNat (p_1 - 1)))) (Int.toNat a4)), e_15))))
theorem sX0_easeOf {G : GG} {Γ : Cx} {r : Vv × Wd} {sz : Nat} {sl : Nat} (a1 : Int) (a2 : Int) (a3 : Int) (a4 : Int) (td : TT) (c : CC) : Sm (fX0_easeOf a1 a2 a3 a4 td c) (fun x => r = ((0, x.1), (sz, sl, tt td, cv x.2))) (WP G Γ muX0_easeOf r 0 [some (2, 43), some (2, a1), some (0, a2), some (0, a3), some (0, a4), none, none, none, none, none] [] (sz, sl, tt td, cv c)) := by
  unfold fX0_easeOf
  refine s_aload_n (pc := 0) dX0_easeOf_0 rfl ?_
  refine s_iload_n (pc := 1) dX0_easeOf_1 rfl ?_
  refine s_callU (pc := 2) (z := a1) (as := [(0, a2)]) (st := []) (rv := fun b => ((0, b), (sz, sl, tt td, cv c))) (st3 := fun b => [(0, b)]) (w3 := fun b => (sz, sl, tt td, cv c)) rfl rfl (fun b h => vdX0_167 a1 a2 td c b h (by decide)) (Nat.le_of_ble_eq_true rfl) (fun _ => Nat.le_of_ble_eq_true rfl) (fun _ => ⟨rfl, rfl⟩) dX0_easeOf_2 (fun p_1 => ?_)
  refine s_istoreD (pc := 5) (ls' := [some (2, 43), some (2, a1), some (0, a2), some (0, a3), some (0, a4), some (0, p_1), none, none, none, none]) dX0_easeOf_5 rfl (Nat.le_of_ble_eq_true rfl) ?_
  refine s_iload (pc := 7) dX0_easeOf_7 rfl ?_
  refine s_if_ne (pc := 9) (tgt := 26) dX0_easeOf_9 rfl ?_ ?_
  · refine s_iload_n (pc := 26) dX0_easeOf_26 rfl ?_
    refine s_iload (pc := 27) dX0_easeOf_27 rfl ?_
    refine s_icmp_le (pc := 29) (tgt := 36) dX0_easeOf_29 rfl ?_ ?_
    · refine s_iconst (pc := 36) dX0_easeOf_36 ?_
      refine s_istoreD (pc := 37) (ls' := [some (2, 43), some (2, a1), some (0, a2), some (0, a3), some (0, a4), some (0, p_1), some (0, 0), none, none, none]) dX0_easeOf_37 rfl (Nat.le_of_ble_eq_true rfl) ?_
      refine s_loop (g := gX0_easeOf_l39 G Γ r sz sl td c a1 a2 a3 a4 p_1) (Ex := eX0_easeOf_l39 G Γ r sz sl td c a1 a2 a3 a4 p_1) (s0 := (0, c)) (fun s => sX0_easeOf_l39 a1 a2 a3 a4 p_1 s.1 td s.2) ?_
      intro e_15
      show Sm _ _ (WP G Γ muX0_easeOf r 185 [some (2, 43), none, none, none, some (0, a4), some (0, p_1), none, none, none, none] [] (sz, sl, tt td, cv e_15))
      refine s_aload_n (pc := 185) dX0_easeOf_185 rfl ?_
      refine s_get (pc := 186) (a := 43) (v := 92) flX0_83 (t_43 _) rfl (g_43_25 _) rfl dX0_easeOf_186 ?_
      refine s_iload (pc := 189) dX0_easeOf_189 rfl ?_
      refine s_iconst (pc := 191) dX0_easeOf_191 ?_
      refine s_isub (pc := 192) dX0_easeOf_192 ?_
      refine s_aaldM (pc := 193) (a := 92) (q := 7) (by decide) ⟨rfl, rfl⟩ (t_92 _) rfl dX0_easeOf_193 ?_
      refine s_iload (pc := 194) dX0_easeOf_194 rfl ?_
      refine s_ialdD (pc := 196) dX0_easeOf_196 ?_
      exact s_iret (pc := 197) dX0_easeOf_197 rfl (fun h => h)
    refine s_sipush (pc := 32) dX0_easeOf_32 ?_
    exact s_iret (pc := 35) dX0_easeOf_35 rfl (fun h => h)
  refine s_iload_n (pc := 12) dX0_easeOf_12 rfl ?_
  refine s_iload (pc := 13) dX0_easeOf_13 rfl ?_
  refine s_icmp_le (pc := 15) (tgt := 22) dX0_easeOf_15 rfl ?_ ?_
  · refine s_sipush (pc := 22) dX0_easeOf_22 ?_
    exact s_iret (pc := 25) dX0_easeOf_25 rfl (fun h => h)
  refine s_iconst (pc := 18) dX0_easeOf_18 ?_
  refine s_goto (pc := 19) (tgt := 25) dX0_easeOf_19 rfl ?_
  exact s_iret (pc := 25) dX0_easeOf_25 rfl (fun h => h)
theorem kX0_easeOf {G : GG} {sz : Nat} {sl : Nat} (a1 : Int) (a2 : Int) (a3 : Int) (a4 : Int) (td : TT) (c : CC) (x : (Int × CC)) (h : fX0_easeOf a1 a2 a3 a4 td c = some x) : Ct G yX0_easeOf muX0_easeOf [(2, 43), (2, a1), (0, a2), (0, a3), (0, a4)] (sz, sl, tt td, cv c) ((0, x.1), (sz, sl, tt td, cv x.2)) :=
  Ct.of (n := 5) (ls0 := [some (2, 43), some (2, a1), some (0, a2), some (0, a3), some (0, a4), none, none, none, none, none]) (by decide) rfl rfl ⟨show (some .int : Option FieldType) ≠ some .float by decide, show (some .int : Option FieldType) ≠ some .double by decide⟩ (Nat.le_of_ble_eq_true rfl) rfl ⟨Nat.le_refl _, Nat.le_refl _⟩ (show (0 : Nat) ≠ 9 by decide) (fun Γ => sX0_easeOf a1 a2 a3 a4 td c x h rfl)
theorem mvX0_251 : MV RX0 251 RX0 yX0_easeOf muX0_easeOf 4 := ⟨lw_V q971 q973 qs30 q125 q974, by decide +kernel, Nat.le_of_ble_eq_true rfl⟩
abbrev muX0_ease : MI := (cX0_ease, RX0, 9, some .int, 3, "ease")
abbrev gX0_ease_l23 (G : GG) (Γ : Cx) (r : Vv × Wd) (sz sl : Nat) (td : TT) (c : CC) (v1 : Int) (v2 : Int) : (Int × CC) → Prop := fun s => WP G Γ muX0_ease r 23 [some (2, 43), some (0, v1), some (0, v2), some (0, s.1), none, none, none, none, none] [] (sz, sl, tt td, cv s.2)
abbrev eX0_ease_l23 (G : GG) (Γ : Cx) (r : Vv × Wd) (sz sl : Nat) (td : TT) (c : CC) (v1 : Int) (v2 : Int) : (CC) → Prop := (fun s => WP G Γ muX0_ease r 53 [some (2, 43), some (0, v1), some (0, v2), none, none, none, none, none, none] [] (sz, sl, tt td, cv s))
noncomputable def fX0_ease_l23 (v1 : Int) (v2 : Int) (v3 : Int) (td : TT) (c : CC) : Option ((Int × CC) ⊕ (CC)) :=
  if v3 < 8 then
  (cl (fX0_spanAt v1 v2 ) fun p_2 =>
   gd (inR (8 * p_2)) <|
   gd (inR ((8 * p_2) + v3)) <|
   gd ((0 : Int) ≤ (8 * p_2) + v3 ∧ (8 * p_2) + v3 < 2400) <| bd (up2 c 91 (Int.toNat ((8 * p_2) + v3)) 1000) fun c_3 =>
   gd (inR (v3 + 1)) <| bd (v3 + 1) fun v3_4 =>
   some (.inl (v3_4, c_3)))
  else
  (some (.inr c))
theorem sX0_ease_l23 {G : GG} {Γ : Cx} {r : Vv × Wd} {sz : Nat} {sl : Nat} (v1 : Int) (v2 : Int) (v3 : Int) (td : TT) (c : CC) : Sm (fX0_ease_l23 v1 v2 v3 td c) (fun x => Sum.elim (gX0_ease_l23 G Γ r sz sl td c v1 v2) (eX0_ease_l23 G Γ r sz sl td c v1 v2) x) (gX0_ease_l23 G Γ r sz sl td c v1 v2 (v3, c)) := by
  show Sm _ _ (WP G Γ muX0_ease r 23 [some (2, 43), some (0, v1), some (0, v2), some (0, v3), none, none, none, none, none] [] (sz, sl, tt td, cv c))
  unfold fX0_ease_l23
  refine s_iload_n (pc := 23) dX0_ease_23 rfl ?_
  refine s_bipush (pc := 24) dX0_ease_24 ?_
  refine s_icmp_ge (pc := 26) (tgt := 53) dX0_ease_26 rfl ?_ ?_
  · refine s_wk [true, true, true, false, true, true, true, true, true] (ls' := [some (2, 43), some (0, v1), some (0, v2), none, none, none, none, none, none]) rfl ?_
    exact Sm.some (fun h => h)
  refine s_aload_n (pc := 29) dX0_ease_29 rfl ?_
  refine s_get (pc := 30) (a := 43) (v := 91) flX0_78 (t_43 _) rfl (g_43_24 _) rfl dX0_ease_30 ?_
  refine s_bipush (pc := 33) dX0_ease_33 ?_
  refine s_iload_n (pc := 35) dX0_ease_35 rfl ?_
  refine s_iload_n (pc := 36) dX0_ease_36 rfl ?_
  refine s_callS3 (pc := 37) (as := [(0, v1), (0, v2)]) (st := [(0, 8), (2, 91)]) (rv := fun b => ((0, b), (sz, sl, tt td, cv c))) (st3 := fun b => [(0, b), (0, 8), (2, 91)]) (w3 := fun b => (sz, sl, tt td, cv c)) msX0_161 (fun b h => kX0_spanAt v1 v2 c b h) rfl (by decide) rfl (Nat.le_of_ble_eq_true rfl) (fun _ => Nat.le_of_ble_eq_true rfl) (fun _ => ⟨rfl, rfl⟩) dX0_ease_37 (fun p_2 => ?_)
  refine s_imul (pc := 40) dX0_ease_40 ?_
  refine s_iload_n (pc := 41) dX0_ease_41 rfl ?_
  refine s_iadd (pc := 42) dX0_ease_42 ?_
  refine s_sipush (pc := 43) dX0_ease_43 ?_
  refine s_iastM (pc := 46) (a := 91) (t_91 _) rfl kO_91 r_91 dX0_ease_46 (fun c_3 => ?_)
  refine s_iinc (pc := 47) (lf := fun x => [some (2, 43), some (0, v1), some (0, v2), some (0, x), none, none, none, none, none]) dX0_ease_47 rfl (fun _ => rfl) (Nat.le_of_ble_eq_true rfl) (fun v3_4 => ?_)
  refine s_goto (pc := 50) (tgt := 23) dX0_ease_50 rfl ?_
  exact Sm.some (fun h => h)
abbrev gX0_ease_l117 (G : GG) (Γ : Cx) (r : Vv × Wd) (sz sl : Nat) (td : TT) (c : CC) (v1 : Int) (v2 : Int) (v3 : Int) (v4 : Int) (v5 : Int) (v6 : Int) (v7 : Int) : (Int × CC) → Prop := fun s => WP G Γ muX0_ease r 117 [some (2, 43), some (0, v1), some (0, v2), some (2, v3), some (0, v4), some (0, v5), some (2, v6), some (0, v7), some (0, s.1)] [] (sz, sl, tt td, cv s.2)
abbrev eX0_ease_l117 (G : GG) (Γ : Cx) (r : Vv × Wd) (sz sl : Nat) (td : TT) (c : CC) (v1 : Int) (v2 : Int) (v3 : Int) (v4 : Int) (v5 : Int) (v6 : Int) (v7 : Int) : (CC) → Prop := (fun s => WP G Γ muX0_ease r 166 [some (2, 43), some (0, v1), some (0, v2), some (2, v3), some (0, v4), some (0, v5), none, none, none] [] (sz, sl, tt td, cv s))
noncomputable def fX0_ease_l117 (v1 : Int) (v2 : Int) (v3 : Int) (v4 : Int) (v5 : Int) (v6 : Int) (v7 : Int) (v8 : Int) (td : TT) (c : CC) : Option ((Int × CC) ⊕ (CC)) :=
  cl (fV_most v6  td c) fun p_12 =>
   if p_12 < v8 then
  (some (.inr c))
  else
  (gd ((0 : Int) ≤ v7 ∧ v7 < 2400) <|
   gd (inR (v2 - 1)) <|
   cl (fX0_easeOf v6 v8 v1 (v2 - 1) td c) fun p_13 =>
     gd ((0 : Int) ≤ v7 ∧ v7 < 2400) <| bd (up2 p_13.2 91 (Int.toNat v7) (min (c 91 (Int.toNat v7)) (max 1 p_13.1))) fun c_16 =>
   gd (inR (v8 + 1)) <| bd (v8 + 1) fun v8_17 =>
   some (.inl (v8_17, c_16)))
theorem sX0_ease_l117 {G : GG} {Γ : Cx} {r : Vv × Wd} {sz : Nat} {sl : Nat} (v1 : Int) (v2 : Int) (v3 : Int) (v4 : Int) (v5 : Int) (v6 : Int) (v7 : Int) (v8 : Int) (td : TT) (c : CC) : Sm (fX0_ease_l117 v1 v2 v3 v4 v5 v6 v7 v8 td c) (fun x => Sum.elim (gX0_ease_l117 G Γ r sz sl td c v1 v2 v3 v4 v5 v6 v7) (eX0_ease_l117 G Γ r sz sl td c v1 v2 v3 v4 v5 v6 v7) x) (gX0_ease_l117 G Γ r sz sl td c v1 v2 v3 v4 v5 v6 v7 (v8, c)) := by
  show Sm _ _ (WP G Γ muX0_ease r 117 [some (2, 43), some (0, v1), some (0, v2), some (2, v3), some (0, v4), some (0, v5), some (2, v6), some (0, v7), some (0, v8)] [] (sz, sl, tt td, cv c))
  unfold fX0_ease_l117
  refine s_iload (pc := 117) dX0_ease_117 rfl ?_
  refine s_aload (pc := 119) dX0_ease_119 rfl ?_
  refine s_callU (pc := 121) (z := v6) (as := []) (st := [(0, v8)]) (rv := fun b => ((0, b), (sz, sl, tt td, cv c))) (st3 := fun b => [(0, b), (0, v8)]) (w3 := fun b => (sz, sl, tt td, cv c)) rfl rfl (fun b h => vdX0_193 v6  td c b h (by decide)) (Nat.le_of_ble_eq_true rfl) (fun _ => Nat.le_of_ble_eq_true rfl) (fun _ => ⟨rfl, rfl⟩) dX0_ease_121 (fun p_12 => ?_)
  refine s_icmp_gt (pc := 124) (tgt := 166) dX0_ease_124 rfl ?_ ?_
  · refine s_wk [true, true, true, true, true, true, false, false, false] (ls' := [some (2, 43), some (0, v1), some (0, v2), some (2, v3), some (0, v4), some (0, v5), none, none, none]) rfl ?_
    exact Sm.some (fun h => h)
  refine s_aload_n (pc := 127) dX0_ease_127 rfl ?_
  refine s_get (pc := 128) (a := 43) (v := 91) flX0_78 (t_43 _) rfl (g_43_24 _) rfl dX0_ease_128 ?_
  refine s_iload (pc := 131) dX0_ease_131 rfl ?_
  refine s_aload_n (pc := 133) dX0_ease_133 rfl ?_
  refine s_get (pc := 134) (a := 43) (v := 91) flX0_78 (t_43 _) rfl (g_43_24 _) rfl dX0_ease_134 ?_
  refine s_iload (pc := 137) dX0_ease_137 rfl ?_
  refine s_ialdM (pc := 139) (a := 91) (t_91 _) rfl r_91 dX0_ease_139 ?_
  refine s_iconst (pc := 140) dX0_ease_140 ?_
  refine s_aload_n (pc := 141) dX0_ease_141 rfl ?_
  refine s_aload (pc := 142) dX0_ease_142 rfl ?_
  refine s_iload (pc := 144) dX0_ease_144 rfl ?_
  refine s_iload_n (pc := 146) dX0_ease_146 rfl ?_
  refine s_iload_n (pc := 147) dX0_ease_147 rfl ?_
  refine s_iconst (pc := 148) dX0_ease_148 ?_
  refine s_isub (pc := 149) dX0_ease_149 ?_
  refine s_callV3 (pc := 150) (a := 43) (as := [(2, v6), (0, v8), (0, v1), (0, v2 - 1)]) (st := [(0, 1), (0, c 91 (Int.toNat v7)), (0, v7), (2, 91)]) (rv := fun b => ((0, b.1), (sz, sl, tt td, cv b.2))) (st3 := fun b => [(0, b.1), (0, 1), (0, c 91 (Int.toNat v7)), (0, v7), (2, 91)]) (w3 := fun b => (sz, sl, tt td, cv b.2)) mvX0_251 (fun b h => kX0_easeOf v6 v8 v1 (v2 - 1) td c b h) rfl (by decide) (t_43 td) rfl rfl rfl (Nat.le_of_ble_eq_true rfl) (fun _ => Nat.le_of_ble_eq_true rfl) (fun _ => ⟨rfl, rfl⟩) dX0_ease_150 (fun p_13 => ?_)
  refine s_imax (a := 1) (b := p_13.1) (st := [(0, c 91 (Int.toNat v7)), (0, v7), (2, 91)]) q975 dX0_ease_153 (by decide) (Nat.le_of_ble_eq_true rfl) ?_
  refine s_imin (a := c 91 (Int.toNat v7)) (b := max 1 p_13.1) (st := [(0, v7), (2, 91)]) q978 dX0_ease_156 (by decide) (Nat.le_of_ble_eq_true rfl) ?_
  refine s_iastM (pc := 159) (a := 91) (t_91 _) rfl kO_91 r_91 dX0_ease_159 (fun c_16 => ?_)
  refine s_iinc (pc := 160) (lf := fun x => [some (2, 43), some (0, v1), some (0, v2), some (2, v3), some (0, v4), some (0, v5), some (2, v6), some (0, v7), some (0, x)]) dX0_ease_160 rfl (fun _ => rfl) (Nat.le_of_ble_eq_true rfl) (fun v8_17 => ?_)
  refine s_goto (pc := 163) (tgt := 117) dX0_ease_163 rfl ?_
  exact Sm.some (fun h => h)
abbrev gX0_ease_l68 (G : GG) (Γ : Cx) (r : Vv × Wd) (sz sl : Nat) (td : TT) (c : CC) (v1 : Int) (v2 : Int) (v3 : Int) (v4 : Int) : (Int × CC) → Prop := fun s => WP G Γ muX0_ease r 68 [some (2, 43), some (0, v1), some (0, v2), some (2, v3), some (0, v4), some (0, s.1), none, none, none] [] (sz, sl, tt td, cv s.2)
abbrev eX0_ease_l68 (G : GG) (Γ : Cx) (r : Vv × Wd) (sz sl : Nat) (td : TT) (c : CC) (v1 : Int) (v2 : Int) (v3 : Int) (v4 : Int) : (CC) → Prop := (fun s => WP G Γ muX0_ease r 172 [some (2, 43), some (0, v1), some (0, v2), none, none, none, none, none, none] [] (sz, sl, tt td, cv s))
noncomputable def fX0_ease_l68 (v1 : Int) (v2 : Int) (v3 : Int) (v4 : Int) (v5 : Int) (td : TT) (c : CC) : Option ((Int × CC) ⊕ (CC)) :=
  if v5 < v4 then
  (gd ((0 : Int) ≤ v3 ∧ (tt td (Int.toNat v3)).1 = 55 ∧ (0 : Int) ≤ v5 ∧ v5 < ((tt td (Int.toNat v3)).2 : Int)) <|
   bd (cv c (Int.toNat v3) (Int.toNat v5)) fun v6_9 =>
   gd ((0 : Int) ≤ v6_9 ∧ 6 ≤ (tt td (Int.toNat v6_9)).1 ∧ (tt td (Int.toNat v6_9)).1 ≤ 10) <|
   gd ((0 : Int) ≤ v2 ∧ v2 < 24) <|
   if cv c (Int.toNat v6_9) 1 = c 50 (Int.toNat v2) then
  (cl (fX0_spanAt v1 v2 ) fun p_10 =>
   gd (inR (8 * p_10)) <|
   gd ((0 : Int) ≤ v6_9 ∧ 6 ≤ (tt td (Int.toNat v6_9)).1 ∧ (tt td (Int.toNat v6_9)).1 ≤ 10) <|
   gd (inR ((8 * p_10) + (cv c (Int.toNat v6_9) 2))) <|
   bd ((8 * p_10) + (cv c (Int.toNat v6_9) 2)) fun v7_11 =>
   cl (wh (fun s => fX0_ease_l117 v1 v2 v3 v4 v5 v6_9 v7_11 s.1 td s.2) (1, c)) (fun e_18 =>
  gd (inR (v5 + 1)) <| bd (v5 + 1) fun v5_19 =>
   some (.inl (v5_19, e_18))))
  else
  (gd (inR (v5 + 1)) <| bd (v5 + 1) fun v5_20 =>
   some (.inl (v5_20, c))))
  else
  (some (.inr c))
theorem sX0_ease_l68 {G : GG} {Γ : Cx} {r : Vv × Wd} {sz : Nat} {sl : Nat} (v1 : Int) (v2 : Int) (v3 : Int) (v4 : Int) (v5 : Int) (td : TT) (c : CC) : Sm (fX0_ease_l68 v1 v2 v3 v4 v5 td c) (fun x => Sum.elim (gX0_ease_l68 G Γ r sz sl td c v1 v2 v3 v4) (eX0_ease_l68 G Γ r sz sl td c v1 v2 v3 v4) x) (gX0_ease_l68 G Γ r sz sl td c v1 v2 v3 v4 (v5, c)) := by
  show Sm _ _ (WP G Γ muX0_ease r 68 [some (2, 43), some (0, v1), some (0, v2), some (2, v3), some (0, v4), some (0, v5), none, none, none] [] (sz, sl, tt td, cv c))
  unfold fX0_ease_l68
  refine s_iload (pc := 68) dX0_ease_68 rfl ?_
  refine s_iload (pc := 70) dX0_ease_70 rfl ?_
  refine s_icmp_ge (pc := 72) (tgt := 172) dX0_ease_72 rfl ?_ ?_
  · refine s_wk [true, true, true, false, false, false, true, true, true] (ls' := [some (2, 43), some (0, v1), some (0, v2), none, none, none, none, none, none]) rfl ?_
    exact Sm.some (fun h => h)
  refine s_aload_n (pc := 75) dX0_ease_75 rfl ?_
  refine s_iload (pc := 76) dX0_ease_76 rfl ?_
  refine s_aald5D (pc := 78) dX0_ease_78 ?_
  refine s_astore (pc := 79) (lf := fun x => [some (2, 43), some (0, v1), some (0, v2), some (2, v3), some (0, v4), some (0, v5), some (2, x), none, none]) dX0_ease_79 (fun _ => rfl) (Nat.le_of_ble_eq_true rfl) (fun v6_9 => ?_)
  refine s_aload (pc := 81) dX0_ease_81 rfl ?_
  refine s_getS (pc := 83) fsX0_190 dX0_ease_83 ?_
  refine s_aload_n (pc := 86) dX0_ease_86 rfl ?_
  refine s_get (pc := 87) (a := 43) (v := 50) flX0_34 (t_43 _) rfl (g_43_9 _) rfl dX0_ease_87 ?_
  refine s_iload_n (pc := 90) dX0_ease_90 rfl ?_
  refine s_ialdM (pc := 91) (a := 50) (t_50 _) rfl r_50 dX0_ease_91 ?_
  refine s_icmp_eq (pc := 92) (tgt := 98) dX0_ease_92 rfl ?_ ?_
  · refine s_bipush (pc := 98) dX0_ease_98 ?_
    refine s_iload_n (pc := 100) dX0_ease_100 rfl ?_
    refine s_iload_n (pc := 101) dX0_ease_101 rfl ?_
    refine s_callS3 (pc := 102) (as := [(0, v1), (0, v2)]) (st := [(0, 8)]) (rv := fun b => ((0, b), (sz, sl, tt td, cv c))) (st3 := fun b => [(0, b), (0, 8)]) (w3 := fun b => (sz, sl, tt td, cv c)) msX0_161 (fun b h => kX0_spanAt v1 v2 c b h) rfl (by decide) rfl (Nat.le_of_ble_eq_true rfl) (fun _ => Nat.le_of_ble_eq_true rfl) (fun _ => ⟨rfl, rfl⟩) dX0_ease_102 (fun p_10 => ?_)
    refine s_imul (pc := 105) dX0_ease_105 ?_
    refine s_aload (pc := 106) dX0_ease_106 rfl ?_
    refine s_getS (pc := 108) fsX0_196 dX0_ease_108 ?_
    refine s_iadd (pc := 111) dX0_ease_111 ?_
    refine s_istore (pc := 112) (lf := fun x => [some (2, 43), some (0, v1), some (0, v2), some (2, v3), some (0, v4), some (0, v5), some (2, v6_9), some (0, x), none]) dX0_ease_112 (fun _ => rfl) (Nat.le_of_ble_eq_true rfl) (fun v7_11 => ?_)
    refine s_iconst (pc := 114) dX0_ease_114 ?_
    refine s_istoreD (pc := 115) (ls' := [some (2, 43), some (0, v1), some (0, v2), some (2, v3), some (0, v4), some (0, v5), some (2, v6_9), some (0, v7_11), some (0, 1)]) dX0_ease_115 rfl (Nat.le_of_ble_eq_true rfl) ?_
    refine s_loop (g := gX0_ease_l117 G Γ r sz sl td c v1 v2 v3 v4 v5 v6_9 v7_11) (Ex := eX0_ease_l117 G Γ r sz sl td c v1 v2 v3 v4 v5 v6_9 v7_11) (s0 := (1, c)) (fun s => sX0_ease_l117 v1 v2 v3 v4 v5 v6_9 v7_11 s.1 td s.2) ?_
    intro e_18
    show Sm _ _ (WP G Γ muX0_ease r 166 [some (2, 43), some (0, v1), some (0, v2), some (2, v3), some (0, v4), some (0, v5), none, none, none] [] (sz, sl, tt td, cv e_18))
    refine s_iinc (pc := 166) (lf := fun x => [some (2, 43), some (0, v1), some (0, v2), some (2, v3), some (0, v4), some (0, x), none, none, none]) dX0_ease_166 rfl (fun _ => rfl) (Nat.le_of_ble_eq_true rfl) (fun v5_19 => ?_)
    refine s_goto (pc := 169) (tgt := 68) dX0_ease_169 rfl ?_
    exact Sm.some (fun h => h)
  refine s_goto (pc := 95) (tgt := 166) dX0_ease_95 rfl ?_
  refine s_iinc (pc := 166) (lf := fun x => [some (2, 43), some (0, v1), some (0, v2), some (2, v3), some (0, v4), some (0, x), some (2, v6_9), none, none]) dX0_ease_166 rfl (fun _ => rfl) (Nat.le_of_ble_eq_true rfl) (fun v5_20 => ?_)
  refine s_goto (pc := 169) (tgt := 68) dX0_ease_169 rfl ?_
  refine s_wk [true, true, true, true, true, true, false, true, true] (ls' := [some (2, 43), some (0, v1), some (0, v2), some (2, v3), some (0, v4), some (0, v5_20), none, none, none]) rfl ?_
  exact Sm.some (fun h => h)
abbrev gX0_ease_l13 (G : GG) (Γ : Cx) (r : Vv × Wd) (sz sl : Nat) (td : TT) (c : CC) (v1 : Int) : (Int × CC) → Prop := fun s => WP G Γ muX0_ease r 13 [some (2, 43), some (0, v1), some (0, s.1), none, none, none, none, none, none] [] (sz, sl, tt td, cv s.2)
abbrev eX0_ease_l13 (G : GG) (Γ : Cx) (r : Vv × Wd) (sz sl : Nat) (td : TT) (c : CC) (v1 : Int) : (CC) → Prop := (fun s => WP G Γ muX0_ease r 178 [some (2, 43), some (0, v1), none, none, none, none, none, none, none] [] (sz, sl, tt td, cv s))
noncomputable def fX0_ease_l13 (v1 : Int) (v2 : Int) (td : TT) (c : CC) : Option ((Int × CC) ⊕ (CC)) :=
  if v2 < c 43 5 then
  (cl (wh (fun s => fX0_ease_l23 v1 v2 s.1 td s.2) (0, c)) (fun e_5 =>
  cl (fX0_lexicon  td e_5) fun p_6 =>
   gd ((0 : Int) ≤ p_6 ∧ (tt td (Int.toNat p_6)).1 = 1) <|
   bd (cv e_5 (Int.toNat p_6) 0) fun v3_7 =>
   gd ((0 : Int) ≤ v3_7 ∧ (tt td (Int.toNat v3_7)).1 = 55 ∧ (tt td (Int.toNat v3_7)).2 < 2147483648) <|
   bd (((tt td (Int.toNat v3_7)).2 : Int)) fun v4_8 =>
   cl (wh (fun s => fX0_ease_l68 v1 v2 v3_7 v4_8 s.1 td s.2) (0, e_5)) (fun e_21 =>
  gd (inR (v2 + 1)) <| bd (v2 + 1) fun v2_22 =>
   some (.inl (v2_22, e_21)))))
  else
  (some (.inr c))
theorem sX0_ease_l13 {G : GG} {Γ : Cx} {r : Vv × Wd} {sz : Nat} {sl : Nat} (v1 : Int) (v2 : Int) (td : TT) (c : CC) : Sm (fX0_ease_l13 v1 v2 td c) (fun x => Sum.elim (gX0_ease_l13 G Γ r sz sl td c v1) (eX0_ease_l13 G Γ r sz sl td c v1) x) (gX0_ease_l13 G Γ r sz sl td c v1 (v2, c)) := by
  show Sm _ _ (WP G Γ muX0_ease r 13 [some (2, 43), some (0, v1), some (0, v2), none, none, none, none, none, none] [] (sz, sl, tt td, cv c))
  unfold fX0_ease_l13
  refine s_iload_n (pc := 13) dX0_ease_13 rfl ?_
  refine s_aload_n (pc := 14) dX0_ease_14 rfl ?_
  refine s_get (pc := 15) (a := 43) (v := c 43 5) flX0_158 (t_43 _) rfl (g_43_5 _) rfl dX0_ease_15 ?_
  refine s_icmp_ge (pc := 18) (tgt := 178) dX0_ease_18 rfl ?_ ?_
  · refine s_wk [true, true, false, true, true, true, true, true, true] (ls' := [some (2, 43), some (0, v1), none, none, none, none, none, none, none]) rfl ?_
    exact Sm.some (fun h => h)
  refine s_iconst (pc := 21) dX0_ease_21 ?_
  refine s_istore_nD (pc := 22) (ls' := [some (2, 43), some (0, v1), some (0, v2), some (0, 0), none, none, none, none, none]) dX0_ease_22 rfl (Nat.le_of_ble_eq_true rfl) ?_
  refine s_loop (g := gX0_ease_l23 G Γ r sz sl td c v1 v2) (Ex := eX0_ease_l23 G Γ r sz sl td c v1 v2) (s0 := (0, c)) (fun s => sX0_ease_l23 v1 v2 s.1 td s.2) ?_
  intro e_5
  show Sm _ _ (WP G Γ muX0_ease r 53 [some (2, 43), some (0, v1), some (0, v2), none, none, none, none, none, none] [] (sz, sl, tt td, cv e_5))
  refine s_aload_n (pc := 53) dX0_ease_53 rfl ?_
  refine s_callV3 (pc := 54) (a := 43) (as := []) (st := []) (rv := fun b => ((2, b), (sz, sl, tt td, cv e_5))) (st3 := fun b => [(2, b)]) (w3 := fun b => (sz, sl, tt td, cv e_5)) mvX0_186 (fun b h => kX0_lexicon  td e_5 b h) rfl (by decide) (t_43 td) rfl rfl rfl (Nat.le_of_ble_eq_true rfl) (fun _ => Nat.le_of_ble_eq_true rfl) (fun _ => ⟨rfl, rfl⟩) dX0_ease_54 (fun p_6 => ?_)
  refine s_getDN (pc := 57) fnX0_189 rfl dX0_ease_57 ?_
  refine s_astore_n (pc := 60) (lf := fun x => [some (2, 43), some (0, v1), some (0, v2), some (2, x), none, none, none, none, none]) dX0_ease_60 (fun _ => rfl) (Nat.le_of_ble_eq_true rfl) (fun v3_7 => ?_)
  refine s_aload_n (pc := 61) dX0_ease_61 rfl ?_
  refine s_alenD (pc := 62) (q := 5) (by decide) dX0_ease_62 ?_
  refine s_istore (pc := 63) (lf := fun x => [some (2, 43), some (0, v1), some (0, v2), some (2, v3_7), some (0, x), none, none, none, none]) dX0_ease_63 (fun _ => rfl) (Nat.le_of_ble_eq_true rfl) (fun v4_8 => ?_)
  refine s_iconst (pc := 65) dX0_ease_65 ?_
  refine s_istoreD (pc := 66) (ls' := [some (2, 43), some (0, v1), some (0, v2), some (2, v3_7), some (0, v4_8), some (0, 0), none, none, none]) dX0_ease_66 rfl (Nat.le_of_ble_eq_true rfl) ?_
  refine s_loop (g := gX0_ease_l68 G Γ r sz sl td e_5 v1 v2 v3_7 v4_8) (Ex := eX0_ease_l68 G Γ r sz sl td e_5 v1 v2 v3_7 v4_8) (s0 := (0, e_5)) (fun s => sX0_ease_l68 v1 v2 v3_7 v4_8 s.1 td s.2) ?_
  intro e_21
  show Sm _ _ (WP G Γ muX0_ease r 172 [some (2, 43), some (0, v1), some (0, v2), none, none, none, none, none, none] [] (sz, sl, tt td, cv e_21))
  refine s_iinc (pc := 172) (lf := fun x => [some (2, 43), some (0, v1), some (0, x), none, none, none, none, none, none]) dX0_ease_172 rfl (fun _ => rfl) (Nat.le_of_ble_eq_true rfl) (fun v2_22 => ?_)
  refine s_goto (pc := 175) (tgt := 13) dX0_ease_175 rfl ?_
  exact Sm.some (fun h => h)
abbrev gX0_ease_l7 (G : GG) (Γ : Cx) (r : Vv × Wd) (sz sl : Nat) (td : TT) (c : CC)  : (Int × CC) → Prop := fun s => WP G Γ muX0_ease r 7 [some (2, 43), some (0, s.1), none, none, none, none, none, none, none] [] (sz, sl, tt td, cv s.2)
abbrev eX0_ease_l7 (G : GG) (Γ : Cx) (r : Vv × Wd) (sz sl : Nat) (td : TT) (c : CC)  : (CC) → Prop := (fun s => WP G Γ muX0_ease r 184 [some (2, 43), none, none, none, none, none, none, none, none] [] (sz, sl, tt td, cv s))
noncomputable def fX0_ease_l7 (v1 : Int) (td : TT) (c : CC) : Option ((Int × CC) ⊕ (CC)) :=
  if v1 < 0 then
  (some (.inr c))
  else
  (cl (wh (fun s => fX0_ease_l13 v1 s.1 td s.2) (v1, c)) (fun e_23 =>
  gd (inR (v1 + -1)) <| bd (v1 + -1) fun v1_24 =>
   some (.inl (v1_24, e_23))))
theorem sX0_ease_l7 {G : GG} {Γ : Cx} {r : Vv × Wd} {sz : Nat} {sl : Nat} (v1 : Int) (td : TT) (c : CC) : Sm (fX0_ease_l7 v1 td c) (fun x => Sum.elim (gX0_ease_l7 G Γ r sz sl td c ) (eX0_ease_l7 G Γ r sz sl td c ) x) (gX0_ease_l7 G Γ r sz sl td c  (v1, c)) := by
  show Sm _ _ (WP G Γ muX0_ease r 7 [some (2, 43), some (0, v1), none, none, none, none, none, none, none] [] (sz, sl, tt td, cv c))
  unfold fX0_ease_l7
  refine s_iload_n (pc := 7) dX0_ease_7 rfl ?_
  refine s_if_lt (pc := 8) (tgt := 184) dX0_ease_8 rfl ?_ ?_
  · refine s_wk [true, false, true, true, true, true, true, true, true] (ls' := [some (2, 43), none, none, none, none, none, none, none, none]) rfl ?_
    exact Sm.some (fun h => h)
  refine s_iload_n (pc := 11) dX0_ease_11 rfl ?_
  refine s_istore_nD (pc := 12) (ls' := [some (2, 43), some (0, v1), some (0, v1), none, none, none, none, none, none]) dX0_ease_12 rfl (Nat.le_of_ble_eq_true rfl) ?_
  refine s_loop (g := gX0_ease_l13 G Γ r sz sl td c v1) (Ex := eX0_ease_l13 G Γ r sz sl td c v1) (s0 := (v1, c)) (fun s => sX0_ease_l13 v1 s.1 td s.2) ?_
  intro e_23
  show Sm _ _ (WP G Γ muX0_ease r 178 [some (2, 43), some (0, v1), none, none, none, none, none, none, none] [] (sz, sl, tt td, cv e_23))
  refine s_iinc (pc := 178) (lf := fun x => [some (2, 43), some (0, x), none, none, none, none, none, none, none]) dX0_ease_178 rfl (fun _ => rfl) (Nat.le_of_ble_eq_true rfl) (fun v1_24 => ?_)
  refine s_goto (pc := 181) (tgt := 7) dX0_ease_181 rfl ?_
  exact Sm.some (fun h => h)
noncomputable def fX0_ease  (td : TT) (c : CC) : Option (Int × CC) :=
  gd (inR ((c 43 5) - 1)) <|
   bd ((c 43 5) - 1) fun v1_1 =>
   cl (wh (fun s => fX0_ease_l7  s.1 td s.2) (v1_1, c)) (fun e_25 =>
  if e_25 43 5 = 0 then
  (some ((-1), e_25))
  else
  (gd (inR ((e_25 43 5) - 1)) <|
   cl (fX0_spanAt 0 ((e_25 43 5) - 1) ) fun p_26 =>
   gd (inR (8 * p_26)) <|
   gd ((0 : Int) ≤ 8 * p_26 ∧ 8 * p_26 < 2400) <|
   if e_25 91 (Int.toNat (8 * p_26)) < 1000 then
  (gd (inR ((e_25 43 5) - 1)) <|
   cl (fX0_spanAt 0 ((e_25 43 5) - 1) ) fun p_27 =>
   gd (inR (8 * p_27)) <|
   gd ((0 : Int) ≤ 8 * p_27 ∧ 8 * p_27 < 2400) <|
   some ((e_25 91 (Int.toNat (8 * p_27))), e_25))
  else
  (some ((-1), e_25))))
theorem sX0_ease {G : GG} {Γ : Cx} {r : Vv × Wd} {sz : Nat} {sl : Nat}  (td : TT) (c : CC) : Sm (fX0_ease  td c) (fun x => r = ((0, x.1), (sz, sl, tt td, cv x.2))) (WP G Γ muX0_ease r 0 [some (2, 43), none, none, none, none, none, none, none, none] [] (sz, sl, tt td, cv c)) := by
  unfold fX0_ease
  refine s_aload_n (pc := 0) dX0_ease_0 rfl ?_
  refine s_get (pc := 1) (a := 43) (v := c 43 5) flX0_158 (t_43 _) rfl (g_43_5 _) rfl dX0_ease_1 ?_
  refine s_iconst (pc := 4) dX0_ease_4 ?_
  refine s_isub (pc := 5) dX0_ease_5 ?_
  refine s_istore_n (pc := 6) (lf := fun x => [some (2, 43), some (0, x), none, none, none, none, none, none, none]) dX0_ease_6 (fun _ => rfl) (Nat.le_of_ble_eq_true rfl) (fun v1_1 => ?_)
  refine s_loop (g := gX0_ease_l7 G Γ r sz sl td c ) (Ex := eX0_ease_l7 G Γ r sz sl td c ) (s0 := (v1_1, c)) (fun s => sX0_ease_l7  s.1 td s.2) ?_
  intro e_25
  show Sm _ _ (WP G Γ muX0_ease r 184 [some (2, 43), none, none, none, none, none, none, none, none] [] (sz, sl, tt td, cv e_25))
  refine s_aload_n (pc := 184) dX0_ease_184 rfl ?_
  refine s_get (pc := 185) (a := 43) (v := e_25 43 5) flX0_158 (t_43 _) rfl (g_43_5 _) rfl dX0_ease_185 ?_
  refine s_if_eq (pc := 188) (tgt := 215) dX0_ease_188 rfl ?_ ?_
  · refine s_iconst (pc := 215) dX0_ease_215 ?_
    refine s_goto (pc := 216) (tgt := 237) dX0_ease_216 rfl ?_
    exact s_iret (pc := 237) dX0_ease_237 rfl (fun h => h)
  refine s_aload_n (pc := 191) dX0_ease_191 rfl ?_
  refine s_get (pc := 192) (a := 43) (v := 91) flX0_78 (t_43 _) rfl (g_43_24 _) rfl dX0_ease_192 ?_
  refine s_bipush (pc := 195) dX0_ease_195 ?_
  refine s_iconst (pc := 197) dX0_ease_197 ?_
  refine s_aload_n (pc := 198) dX0_ease_198 rfl ?_
  refine s_get (pc := 199) (a := 43) (v := e_25 43 5) flX0_158 (t_43 _) rfl (g_43_5 _) rfl dX0_ease_199 ?_
  refine s_iconst (pc := 202) dX0_ease_202 ?_
  refine s_isub (pc := 203) dX0_ease_203 ?_
  refine s_callS3 (pc := 204) (as := [(0, 0), (0, (e_25 43 5) - 1)]) (st := [(0, 8), (2, 91)]) (rv := fun b => ((0, b), (sz, sl, tt td, cv e_25))) (st3 := fun b => [(0, b), (0, 8), (2, 91)]) (w3 := fun b => (sz, sl, tt td, cv e_25)) msX0_161 (fun b h => kX0_spanAt 0 ((e_25 43 5) - 1) e_25 b h) rfl (by decide) rfl (Nat.le_of_ble_eq_true rfl) (fun _ => Nat.le_of_ble_eq_true rfl) (fun _ => ⟨rfl, rfl⟩) dX0_ease_204 (fun p_26 => ?_)
  refine s_imul (pc := 207) dX0_ease_207 ?_
  refine s_ialdM (pc := 208) (a := 91) (t_91 _) rfl r_91 dX0_ease_208 ?_
  refine s_sipush (pc := 209) dX0_ease_209 ?_
  refine s_icmp_lt (pc := 212) (tgt := 219) dX0_ease_212 rfl ?_ ?_
  · refine s_aload_n (pc := 219) dX0_ease_219 rfl ?_
    refine s_get (pc := 220) (a := 43) (v := 91) flX0_78 (t_43 _) rfl (g_43_24 _) rfl dX0_ease_220 ?_
    refine s_bipush (pc := 223) dX0_ease_223 ?_
    refine s_iconst (pc := 225) dX0_ease_225 ?_
    refine s_aload_n (pc := 226) dX0_ease_226 rfl ?_
    refine s_get (pc := 227) (a := 43) (v := e_25 43 5) flX0_158 (t_43 _) rfl (g_43_5 _) rfl dX0_ease_227 ?_
    refine s_iconst (pc := 230) dX0_ease_230 ?_
    refine s_isub (pc := 231) dX0_ease_231 ?_
    refine s_callS3 (pc := 232) (as := [(0, 0), (0, (e_25 43 5) - 1)]) (st := [(0, 8), (2, 91)]) (rv := fun b => ((0, b), (sz, sl, tt td, cv e_25))) (st3 := fun b => [(0, b), (0, 8), (2, 91)]) (w3 := fun b => (sz, sl, tt td, cv e_25)) msX0_161 (fun b h => kX0_spanAt 0 ((e_25 43 5) - 1) e_25 b h) rfl (by decide) rfl (Nat.le_of_ble_eq_true rfl) (fun _ => Nat.le_of_ble_eq_true rfl) (fun _ => ⟨rfl, rfl⟩) dX0_ease_232 (fun p_27 => ?_)
    refine s_imul (pc := 235) dX0_ease_235 ?_
    refine s_ialdM (pc := 236) (a := 91) (t_91 _) rfl r_91 dX0_ease_236 ?_
    exact s_iret (pc := 237) dX0_ease_237 rfl (fun h => h)
  refine s_iconst (pc := 215) dX0_ease_215 ?_
  refine s_goto (pc := 216) (tgt := 237) dX0_ease_216 rfl ?_
  exact s_iret (pc := 237) dX0_ease_237 rfl (fun h => h)
theorem kX0_ease {G : GG} {sz : Nat} {sl : Nat}  (td : TT) (c : CC) (x : (Int × CC)) (h : fX0_ease  td c = some x) : Ct G yX0_ease muX0_ease [(2, 43)] (sz, sl, tt td, cv c) ((0, x.1), (sz, sl, tt td, cv x.2)) :=
  Ct.of (n := 8) (ls0 := [some (2, 43), none, none, none, none, none, none, none, none]) (by decide) rfl rfl ⟨show (some .int : Option FieldType) ≠ some .float by decide, show (some .int : Option FieldType) ≠ some .double by decide⟩ (Nat.le_of_ble_eq_true rfl) rfl ⟨Nat.le_refl _, Nat.le_refl _⟩ (show (0 : Nat) ≠ 9 by decide) (fun Γ => sX0_ease  td c x h rfl)
theorem mvX0_258 : MV RX0 258 RX0 yX0_mostOf muX0_mostOf 0 := ⟨lw_V q979 q981 qs31 q125 q982, by decide +kernel, Nat.le_of_ble_eq_true rfl⟩
theorem mvX0_255 : MV RX0 255 RX0 yX0_ease muX0_ease 0 := ⟨lw_V q967 q969 qs29 q125 q970, by decide +kernel, Nat.le_of_ble_eq_true rfl⟩
abbrev muX0_most : MI := (cX0_most, RX0, 2, some .int, 6, "most")
noncomputable def fX0_most (a1 : Int) (td : TT) (c : CC) : Option (Int × CC) :=
  if a1 = -1 then
  (cl (fX0_ease  td c) fun p_3 =>
   some (p_3.1, p_3.2))
  else
  (cl (fX0_find a1 td c) fun p_1 =>
   if p_1.1 = 0 then
  (some ((-1), p_1.2))
  else
  (cl (fX0_mostOf  td p_1.2) fun p_2 =>
   some (p_2, p_1.2)))
theorem sX0_most {G : GG} {Γ : Cx} {r : Vv × Wd} {sz : Nat} {sl : Nat} (a1 : Int) (td : TT) (c : CC) : Sm (fX0_most a1 td c) (fun x => r = ((0, x.1), (sz, sl, tt td, cv x.2))) (WP G Γ muX0_most r 0 [some (2, 43), some (0, a1)] [] (sz, sl, tt td, cv c)) := by
  unfold fX0_most
  refine s_iload_n (pc := 0) dX0_most_0 rfl ?_
  refine s_iconst (pc := 1) dX0_most_1 ?_
  refine s_icmp_ne (pc := 2) (tgt := 12) dX0_most_2 rfl ?_ ?_
  · refine s_aload_n (pc := 12) dX0_most_12 rfl ?_
    refine s_iload_n (pc := 13) dX0_most_13 rfl ?_
    refine s_callV3 (pc := 14) (a := 43) (as := [(0, a1)]) (st := []) (rv := fun b => ((0, b.1), (sz, sl, tt td, cv b.2))) (st3 := fun b => [(0, b.1)]) (w3 := fun b => (sz, sl, tt td, cv b.2)) mvX0_239 (fun b h => kX0_find a1 td c b h) rfl (by decide) (t_43 td) rfl rfl rfl (Nat.le_of_ble_eq_true rfl) (fun _ => Nat.le_of_ble_eq_true rfl) (fun _ => ⟨rfl, rfl⟩) dX0_most_14 (fun p_1 => ?_)
    refine s_if_eq (pc := 17) (tgt := 27) dX0_most_17 rfl ?_ ?_
    · refine s_iconst (pc := 27) dX0_most_27 ?_
      exact s_iret (pc := 28) dX0_most_28 rfl (fun h => h)
    refine s_aload_n (pc := 20) dX0_most_20 rfl ?_
    refine s_callV3 (pc := 21) (a := 43) (as := []) (st := []) (rv := fun b => ((0, b), (sz, sl, tt td, cv p_1.2))) (st3 := fun b => [(0, b)]) (w3 := fun b => (sz, sl, tt td, cv p_1.2)) mvX0_258 (fun b h => kX0_mostOf  td p_1.2 b h) rfl (by decide) (t_43 td) rfl rfl rfl (Nat.le_of_ble_eq_true rfl) (fun _ => Nat.le_of_ble_eq_true rfl) (fun _ => ⟨rfl, rfl⟩) dX0_most_21 (fun p_2 => ?_)
    refine s_goto (pc := 24) (tgt := 28) dX0_most_24 rfl ?_
    exact s_iret (pc := 28) dX0_most_28 rfl (fun h => h)
  refine s_aload_n (pc := 5) dX0_most_5 rfl ?_
  refine s_callV3 (pc := 6) (a := 43) (as := []) (st := []) (rv := fun b => ((0, b.1), (sz, sl, tt td, cv b.2))) (st3 := fun b => [(0, b.1)]) (w3 := fun b => (sz, sl, tt td, cv b.2)) mvX0_255 (fun b h => kX0_ease  td c b h) rfl (by decide) (t_43 td) rfl rfl rfl (Nat.le_of_ble_eq_true rfl) (fun _ => Nat.le_of_ble_eq_true rfl) (fun _ => ⟨rfl, rfl⟩) dX0_most_6 (fun p_3 => ?_)
  refine s_goto (pc := 9) (tgt := 28) dX0_most_9 rfl ?_
  exact s_iret (pc := 28) dX0_most_28 rfl (fun h => h)
theorem kX0_most {G : GG} {sz : Nat} {sl : Nat} (a1 : Int) (td : TT) (c : CC) (x : (Int × CC)) (h : fX0_most a1 td c = some x) : Ct G yX0_most muX0_most [(2, 43), (0, a1)] (sz, sl, tt td, cv c) ((0, x.1), (sz, sl, tt td, cv x.2)) :=
  Ct.of (n := 0) (ls0 := [some (2, 43), some (0, a1)]) (by decide) rfl rfl ⟨show (some .int : Option FieldType) ≠ some .float by decide, show (some .int : Option FieldType) ≠ some .double by decide⟩ (Nat.le_of_ble_eq_true rfl) rfl ⟨Nat.le_refl _, Nat.le_refl _⟩ (show (0 : Nat) ≠ 9 by decide) (fun Γ => sX0_most a1 td c x h rfl)
theorem flX0_86 : FL RX0 86 0 26 := ⟨_, _, _, cf0, by decide, q239⟩
theorem flX0_89 : FL RX0 89 0 27 := ⟨_, _, _, cf0, by decide, q240⟩
theorem flX0_92 : FL RX0 92 0 28 := ⟨_, _, _, cf0, by decide, q241⟩
theorem flX0_95 : FL RX0 95 0 29 := ⟨_, _, _, cf0, by decide, q242⟩
abbrev muX0_isLike : MI := (cX0_isLike, RX0, 7, some .boolean, 1, "isLike")
abbrev gX0_isLike_l45 (G : GG) (Γ : Cx) (r : Vv × Wd) (sz sl : Nat) (td : TT) (c : CC) (v1 : Int) (v4 : Int) (v5 : Int) : (Int) → Prop := fun s => WP G Γ muX0_isLike r 45 [some (2, 43), some (0, v1), none, none, some (0, v4), some (0, v5), some (0, s)] [] (sz, sl, tt td, cv c)
abbrev eX0_isLike_l45 (G : GG) (Γ : Cx) (r : Vv × Wd) (sz sl : Nat) (td : TT) (c : CC) (v1 : Int) (v4 : Int) (v5 : Int) : ((Unit) ⊕ (Unit)) → Prop := (Sum.elim (fun s => WP G Γ muX0_isLike r 79 [none, none, none, none, none, none, none] [] (sz, sl, tt td, cv c)) (fun s => WP G Γ muX0_isLike r 87 [none, none, none, none, none, none, none] [] (sz, sl, tt td, cv c)))
noncomputable def fX0_isLike_l45 (v1 : Int) (v4 : Int) (v5 : Int) (v6 : Int) (c : CC) : Option ((Int) ⊕ ((Unit) ⊕ (Unit))) :=
  if v6 < v5 then
  (gd ((0 : Int) ≤ v1 ∧ v1 < 8001) <|
   gd (inR ((c 101 (Int.toNat v1)) + v6)) <|
   gd ((0 : Int) ≤ (c 101 (Int.toNat v1)) + v6 ∧ (c 101 (Int.toNat v1)) + v6 < 16000) <|
   gd (inR (v4 + v6)) <|
   gd ((0 : Int) ≤ v4 + v6 ∧ v4 + v6 < 16000) <|
   if c 102 (Int.toNat ((c 101 (Int.toNat v1)) + v6)) = c 102 (Int.toNat (v4 + v6)) then
  (gd (inR (v6 + 1)) <| bd (v6 + 1) fun v6_1 =>
   some (.inl v6_1))
  else
  (some (.inr (.inl ()))))
  else
  (some (.inr (.inr ())))
theorem sX0_isLike_l45 {G : GG} {Γ : Cx} {r : Vv × Wd} {sz : Nat} {sl : Nat} {td : TT} (v1 : Int) (v4 : Int) (v5 : Int) (v6 : Int) (c : CC) : Sm (fX0_isLike_l45 v1 v4 v5 v6 c) (fun x => Sum.elim (gX0_isLike_l45 G Γ r sz sl td c v1 v4 v5) (eX0_isLike_l45 G Γ r sz sl td c v1 v4 v5) x) (gX0_isLike_l45 G Γ r sz sl td c v1 v4 v5 v6) := by
  show Sm _ _ (WP G Γ muX0_isLike r 45 [some (2, 43), some (0, v1), none, none, some (0, v4), some (0, v5), some (0, v6)] [] (sz, sl, tt td, cv c))
  unfold fX0_isLike_l45
  refine s_iload (pc := 45) dX0_isLike_45 rfl ?_
  refine s_iload (pc := 47) dX0_isLike_47 rfl ?_
  refine s_icmp_ge (pc := 49) (tgt := 87) dX0_isLike_49 rfl ?_ ?_
  · refine s_wk [false, false, true, true, false, false, false] (ls' := [none, none, none, none, none, none, none]) rfl ?_
    exact Sm.some (fun h => h)
  refine s_aload_n (pc := 52) dX0_isLike_52 rfl ?_
  refine s_get (pc := 53) (a := 43) (v := 102) flX0_95 (t_43 _) rfl (g_43_29 _) rfl dX0_isLike_53 ?_
  refine s_aload_n (pc := 56) dX0_isLike_56 rfl ?_
  refine s_get (pc := 57) (a := 43) (v := 101) flX0_92 (t_43 _) rfl (g_43_28 _) rfl dX0_isLike_57 ?_
  refine s_iload_n (pc := 60) dX0_isLike_60 rfl ?_
  refine s_ialdM (pc := 61) (a := 101) (t_101 _) rfl r_101 dX0_isLike_61 ?_
  refine s_iload (pc := 62) dX0_isLike_62 rfl ?_
  refine s_iadd (pc := 64) dX0_isLike_64 ?_
  refine s_ialdM (pc := 65) (a := 102) (t_102 _) rfl r_102 dX0_isLike_65 ?_
  refine s_aload_n (pc := 66) dX0_isLike_66 rfl ?_
  refine s_get (pc := 67) (a := 43) (v := 102) flX0_95 (t_43 _) rfl (g_43_29 _) rfl dX0_isLike_67 ?_
  refine s_iload (pc := 70) dX0_isLike_70 rfl ?_
  refine s_iload (pc := 72) dX0_isLike_72 rfl ?_
  refine s_iadd (pc := 74) dX0_isLike_74 ?_
  refine s_ialdM (pc := 75) (a := 102) (t_102 _) rfl r_102 dX0_isLike_75 ?_
  refine s_icmp_eq (pc := 76) (tgt := 81) dX0_isLike_76 rfl ?_ ?_
  · refine s_iinc (pc := 81) (lf := fun x => [some (2, 43), some (0, v1), none, none, some (0, v4), some (0, v5), some (0, x)]) dX0_isLike_81 rfl (fun _ => rfl) (Nat.le_of_ble_eq_true rfl) (fun v6_1 => ?_)
    refine s_goto (pc := 84) (tgt := 45) dX0_isLike_84 rfl ?_
    exact Sm.some (fun h => h)
  refine s_wk [false, false, true, true, false, false, false] (ls' := [none, none, none, none, none, none, none]) rfl ?_
  exact Sm.some (fun h => h)
noncomputable def fX0_isLike (a1 : Int) (a2 : Int) (a3 : Int) (a4 : Int) (a5 : Int) (c : CC) : Option Int :=
  gd ((0 : Int) ≤ a1 ∧ a1 < 8000) <|
   if c 99 (Int.toNat a1) = a2 then
  (gd ((0 : Int) ≤ a1 ∧ a1 < 8000) <|
   if c 100 (Int.toNat a1) = a3 then
  (gd (inR (a1 + 1)) <|
   gd ((0 : Int) ≤ a1 + 1 ∧ a1 + 1 < 8001) <|
   gd ((0 : Int) ≤ a1 ∧ a1 < 8001) <|
   gd (inR ((c 101 (Int.toNat (a1 + 1))) - (c 101 (Int.toNat a1)))) <|
   if (c 101 (Int.toNat (a1 + 1))) - (c 101 (Int.toNat a1)) = a5 then
  (cl (wh (fun s => fX0_isLike_l45 a1 a4 a5 s c) 0) (Sum.elim (fun e_2 =>
  gd ((0 : Int) ≤ 0 ∧ (0 : Int) < 2) (some 0)) (fun e_3 =>
  gd ((0 : Int) ≤ 1 ∧ (1 : Int) < 2) (some 1))))
  else
  (gd ((0 : Int) ≤ 0 ∧ (0 : Int) < 2) (some 0)))
  else
  (gd ((0 : Int) ≤ 0 ∧ (0 : Int) < 2) (some 0)))
  else
  (gd ((0 : Int) ≤ 0 ∧ (0 : Int) < 2) (some 0))
theorem sX0_isLike {G : GG} {Γ : Cx} {r : Vv × Wd} {sz : Nat} {sl : Nat} {td : TT} (a1 : Int) (a2 : Int) (a3 : Int) (a4 : Int) (a5 : Int) (c : CC) : Sm (fX0_isLike a1 a2 a3 a4 a5 c) (fun x => r = ((0, x), (sz, sl, tt td, cv c))) (WP G Γ muX0_isLike r 0 [some (2, 43), some (0, a1), some (0, a2), some (0, a3), some (0, a4), some (0, a5), none] [] (sz, sl, tt td, cv c)) := by
  unfold fX0_isLike
  refine s_aload_n (pc := 0) dX0_isLike_0 rfl ?_
  refine s_get (pc := 1) (a := 43) (v := 99) flX0_86 (t_43 _) rfl (g_43_26 _) rfl dX0_isLike_1 ?_
  refine s_iload_n (pc := 4) dX0_isLike_4 rfl ?_
  refine s_ialdM (pc := 5) (a := 99) (t_99 _) rfl r_99 dX0_isLike_5 ?_
  refine s_iload_n (pc := 6) dX0_isLike_6 rfl ?_
  refine s_icmp_ne (pc := 7) (tgt := 40) dX0_isLike_7 rfl ?_ ?_
  · refine s_iconst (pc := 40) dX0_isLike_40 ?_
    exact s_zret (pc := 41) dX0_isLike_41 rfl (fun h => h)
  refine s_aload_n (pc := 10) dX0_isLike_10 rfl ?_
  refine s_get (pc := 11) (a := 43) (v := 100) flX0_89 (t_43 _) rfl (g_43_27 _) rfl dX0_isLike_11 ?_
  refine s_iload_n (pc := 14) dX0_isLike_14 rfl ?_
  refine s_ialdM (pc := 15) (a := 100) (t_100 _) rfl r_100 dX0_isLike_15 ?_
  refine s_iload_n (pc := 16) dX0_isLike_16 rfl ?_
  refine s_icmp_ne (pc := 17) (tgt := 40) dX0_isLike_17 rfl ?_ ?_
  · refine s_iconst (pc := 40) dX0_isLike_40 ?_
    exact s_zret (pc := 41) dX0_isLike_41 rfl (fun h => h)
  refine s_aload_n (pc := 20) dX0_isLike_20 rfl ?_
  refine s_get (pc := 21) (a := 43) (v := 101) flX0_92 (t_43 _) rfl (g_43_28 _) rfl dX0_isLike_21 ?_
  refine s_iload_n (pc := 24) dX0_isLike_24 rfl ?_
  refine s_iconst (pc := 25) dX0_isLike_25 ?_
  refine s_iadd (pc := 26) dX0_isLike_26 ?_
  refine s_ialdM (pc := 27) (a := 101) (t_101 _) rfl r_101 dX0_isLike_27 ?_
  refine s_aload_n (pc := 28) dX0_isLike_28 rfl ?_
  refine s_get (pc := 29) (a := 43) (v := 101) flX0_92 (t_43 _) rfl (g_43_28 _) rfl dX0_isLike_29 ?_
  refine s_iload_n (pc := 32) dX0_isLike_32 rfl ?_
  refine s_ialdM (pc := 33) (a := 101) (t_101 _) rfl r_101 dX0_isLike_33 ?_
  refine s_isub (pc := 34) dX0_isLike_34 ?_
  refine s_iload (pc := 35) dX0_isLike_35 rfl ?_
  refine s_icmp_eq (pc := 37) (tgt := 42) dX0_isLike_37 rfl ?_ ?_
  · refine s_iconst (pc := 42) dX0_isLike_42 ?_
    refine s_istoreD (pc := 43) (ls' := [some (2, 43), some (0, a1), some (0, a2), some (0, a3), some (0, a4), some (0, a5), some (0, 0)]) dX0_isLike_43 rfl (Nat.le_of_ble_eq_true rfl) ?_
    refine s_wk [true, true, false, false, true, true, true] (ls' := [some (2, 43), some (0, a1), none, none, some (0, a4), some (0, a5), some (0, 0)]) rfl ?_
    refine s_loop (g := gX0_isLike_l45 G Γ r sz sl td c a1 a4 a5) (Ex := eX0_isLike_l45 G Γ r sz sl td c a1 a4 a5) (s0 := 0) (fun s => sX0_isLike_l45 a1 a4 a5 s c) ?_
    refine s_elim ?_ ?_
    · intro e_2
      show Sm _ _ (WP G Γ muX0_isLike r 79 [none, none, none, none, none, none, none] [] (sz, sl, tt td, cv c))
      refine s_iconst (pc := 79) dX0_isLike_79 ?_
      exact s_zret (pc := 80) dX0_isLike_80 rfl (fun h => h)
    intro e_3
    show Sm _ _ (WP G Γ muX0_isLike r 87 [none, none, none, none, none, none, none] [] (sz, sl, tt td, cv c))
    refine s_iconst (pc := 87) dX0_isLike_87 ?_
    exact s_zret (pc := 88) dX0_isLike_88 rfl (fun h => h)
  refine s_iconst (pc := 40) dX0_isLike_40 ?_
  exact s_zret (pc := 41) dX0_isLike_41 rfl (fun h => h)
theorem kX0_isLike {G : GG} {sz : Nat} {sl : Nat} {td : TT} (a1 : Int) (a2 : Int) (a3 : Int) (a4 : Int) (a5 : Int) (c : CC) (x : Int) (h : fX0_isLike a1 a2 a3 a4 a5 c = some x) : Ct G yX0_isLike muX0_isLike [(2, 43), (0, a1), (0, a2), (0, a3), (0, a4), (0, a5)] (sz, sl, tt td, cv c) ((0, x), (sz, sl, tt td, cv c)) :=
  Ct.of (n := 1) (ls0 := [some (2, 43), some (0, a1), some (0, a2), some (0, a3), some (0, a4), some (0, a5), none]) (by decide) rfl rfl ⟨show (some .boolean : Option FieldType) ≠ some .float by decide, show (some .boolean : Option FieldType) ≠ some .double by decide⟩ (Nat.le_of_ble_eq_true rfl) rfl ⟨Nat.le_refl _, Nat.le_refl _⟩ (show (0 : Nat) ≠ 9 by decide) (fun Γ => sX0_isLike a1 a2 a3 a4 a5 c x h rfl)
