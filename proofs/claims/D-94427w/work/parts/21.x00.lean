/-! LAYER 2: methods of HeldTongue, by gen/decomp2.py -/
set_option maxRecDepth 100000
theorem flX0_27 : FL RX0 27 0 4 := ⟨_, _, _, cf0, by decide, q217⟩
theorem flX0_11 : FL RX0 11 0 0 := ⟨_, _, _, cf0, by decide, q213⟩
theorem flX0_16 : FL RX0 16 0 1 := ⟨_, _, _, cf0, by decide, q214⟩
abbrev muX0_lexicon : MI := (cX0_lexicon, RX0, 1, some (.object "HeldTongue$Lexicon"), 1, "lexicon")
noncomputable def fX0_lexicon  (td : TT) (c : CC) : Option Int :=
  if c 43 4 < 0 then
  (some 45)
  else
  (gd ((0 : Int) ≤ c 43 4 ∧ c 43 4 < 6) <|
   some (cv c 44 (Int.toNat (c 43 4))))
theorem sX0_lexicon {G : GG} {Γ : Cx} {r : Vv × Wd} {sz : Nat} {sl : Nat}  (td : TT) (c : CC) : Sm (fX0_lexicon  td c) (fun x => r = ((2, x), (sz, sl, tt td, cv c))) (WP G Γ muX0_lexicon r 0 [some (2, 43)] [] (sz, sl, tt td, cv c)) := by
  unfold fX0_lexicon
  refine s_aload_n (pc := 0) dX0_lexicon_0 rfl ?_
  refine s_get (pc := 1) (a := 43) (v := c 43 4) flX0_27 (t_43 _) rfl (g_43_4 _) rfl dX0_lexicon_1 ?_
  refine s_if_ge (pc := 4) (tgt := 14) dX0_lexicon_4 rfl ?_ ?_
  · refine s_aload_n (pc := 14) dX0_lexicon_14 rfl ?_
    refine s_get (pc := 15) (a := 43) (v := 44) flX0_11 (t_43 _) rfl (g_43_0 _) rfl dX0_lexicon_15 ?_
    refine s_aload_n (pc := 18) dX0_lexicon_18 rfl ?_
    refine s_get (pc := 19) (a := 43) (v := c 43 4) flX0_27 (t_43 _) rfl (g_43_4 _) rfl dX0_lexicon_19 ?_
    refine s_aaldM (pc := 22) (a := 44) (q := 4) (by decide) ⟨rfl, rfl⟩ (t_44 _) rfl dX0_lexicon_22 ?_
    exact s_aret (pc := 23) dX0_lexicon_23 rfl ⟨rfl, by decide, by decide⟩ (fun h => h)
  refine s_aload_n (pc := 7) dX0_lexicon_7 rfl ?_
  refine s_get (pc := 8) (a := 43) (v := 45) flX0_16 (t_43 _) rfl (g_43_1 _) rfl dX0_lexicon_8 ?_
  refine s_goto (pc := 11) (tgt := 23) dX0_lexicon_11 rfl ?_
  exact s_aret (pc := 23) dX0_lexicon_23 rfl ⟨rfl, by decide, by decide⟩ (fun h => h)
theorem kX0_lexicon {G : GG} {sz : Nat} {sl : Nat}  (td : TT) (c : CC) (x : Int) (h : fX0_lexicon  td c = some x) : Ct G yX0_lexicon muX0_lexicon [(2, 43)] (sz, sl, tt td, cv c) ((2, x), (sz, sl, tt td, cv c)) :=
  Ct.of (n := 0) (ls0 := [some (2, 43)]) (by decide) rfl rfl ⟨show (some (.object "HeldTongue$Lexicon") : Option FieldType) ≠ some .float by decide, show (some (.object "HeldTongue$Lexicon") : Option FieldType) ≠ some .double by decide⟩ (Nat.le_of_ble_eq_true rfl) rfl ⟨Nat.le_refl _, Nat.le_refl _⟩ (show (2 : Nat) ≠ 9 by decide) (fun Γ => sX0_lexicon  td c x h rfl)
theorem flX0_123 : FL RX0 123 0 13 := ⟨_, _, _, cf0, by decide, q226⟩
theorem flX0_41 : FL RX0 41 0 12 := ⟨_, _, _, cf0, by decide, q225⟩
theorem fpX0_123 (nm : String) : FP RX0 123 0 13 nm := ⟨_, _, _, cf0, by decide, q226, Or.inl rfl⟩
theorem fpX0_123t : fty 0 13 ≠ .boolean ∧ fty 0 13 ≠ .byte ∧ fty 0 13 ≠ .char ∧ fty 0 13 ≠ .short := by decide
abbrev muX0_four : MI := (cX0_four, RX0, 3, none, 1, "four")
abbrev gX0_four_l3 (G : GG) (Γ : Cx) (r : Vv × Wd) (sz sl : Nat) (td : TT) (c : CC) (v1 : Int) : (Int × CC) → Prop := fun s => WP G Γ muX0_four r 3 [some (2, 43), some (0, v1), some (0, s.1)] [] (sz, sl, tt td, cv s.2)
abbrev eX0_four_l3 (G : GG) (Γ : Cx) (r : Vv × Wd) (sz sl : Nat) (td : TT) (c : CC) (v1 : Int) : (CC) → Prop := (fun s => WP G Γ muX0_four r 33 [none, none, none] [] (sz, sl, tt td, cv s))
noncomputable def fX0_four_l3 (v1 : Int) (v2 : Int) (c : CC) : Option ((Int × CC) ⊕ (CC)) :=
  if v2 < 0 then
  (some (.inr c))
  else
  (gd (inR ((c 43 13) + 1)) <|
   bd (up2 c 43 13 ((c 43 13) + 1)) fun c_1 =>
   gd ((0 : Int) ≤ c 43 13 ∧ c 43 13 < 300 ∧ (-128 : Int) ≤ b8 (shrI v1 v2) ∧ b8 (shrI v1 v2) < 128) <| bd (up2 c_1 52 (Int.toNat (c 43 13)) (b8 (shrI v1 v2))) fun c_2 =>
   gd (inR (v2 + -8)) <| bd (v2 + -8) fun v2_3 =>
   some (.inl (v2_3, c_2)))
theorem sX0_four_l3 {G : GG} {Γ : Cx} {r : Vv × Wd} {sz : Nat} {sl : Nat} {td : TT} (v1 : Int) (v2 : Int) (c : CC) : Sm (fX0_four_l3 v1 v2 c) (fun x => Sum.elim (gX0_four_l3 G Γ r sz sl td c v1) (eX0_four_l3 G Γ r sz sl td c v1) x) (gX0_four_l3 G Γ r sz sl td c v1 (v2, c)) := by
  show Sm _ _ (WP G Γ muX0_four r 3 [some (2, 43), some (0, v1), some (0, v2)] [] (sz, sl, tt td, cv c))
  unfold fX0_four_l3
  refine s_iload_n (pc := 3) dX0_four_3 rfl ?_
  refine s_if_lt (pc := 4) (tgt := 33) dX0_four_4 rfl ?_ ?_
  · refine s_wk [false, false, false] (ls' := [none, none, none]) rfl ?_
    exact Sm.some (fun h => h)
  refine s_aload_n (pc := 7) dX0_four_7 rfl ?_
  refine s_get (pc := 8) (a := 43) (v := 52) flX0_41 (t_43 _) rfl (g_43_12 _) rfl dX0_four_8 ?_
  refine s_aload_n (pc := 11) dX0_four_11 rfl ?_
  refine s_dup (pc := 12) (by decide : ¬ (2 : Nat) = 1) dX0_four_12 ?_
  refine s_get (pc := 13) (a := 43) (v := c 43 13) flX0_123 (t_43 _) rfl (g_43_13 _) rfl dX0_four_13 ?_
  refine s_dup_x1 (pc := 16) (by decide : ¬ (0 : Nat) = 1) (by decide : ¬ (2 : Nat) = 1) dX0_four_16 ?_
  refine s_iconst (pc := 17) dX0_four_17 ?_
  refine s_iadd (pc := 18) dX0_four_18 ?_
  refine s_putM (pc := 19) (a := 43) (fpX0_123 _) (t_43 _) rfl kO_43 n_43_13 rfl (fpX0_123t) dX0_four_19 (fun c_1 => ?_)
  refine s_iload_n (pc := 22) dX0_four_22 rfl ?_
  refine s_iload_n (pc := 23) dX0_four_23 rfl ?_
  refine s_ishr (pc := 24) dX0_four_24 ?_
  refine s_i2b (pc := 25) dX0_four_25 ?_
  refine s_bastM (pc := 26) (a := 52) (t_52 _) rfl kO_52 r_52 dX0_four_26 (fun c_2 => ?_)
  refine s_iinc (pc := 27) (lf := fun x => [some (2, 43), some (0, v1), some (0, x)]) dX0_four_27 rfl (fun _ => rfl) (Nat.le_of_ble_eq_true rfl) (fun v2_3 => ?_)
  refine s_goto (pc := 30) (tgt := 3) dX0_four_30 rfl ?_
  exact Sm.some (fun h => h)
noncomputable def fX0_four (a1 : Int) (c : CC) : Option CC :=
  cl (wh (fun s => fX0_four_l3 a1 s.1 s.2) (24, c)) (fun e_4 =>
  some e_4)
theorem sX0_four {G : GG} {Γ : Cx} {r : Vv × Wd} {sz : Nat} {sl : Nat} {td : TT} (a1 : Int) (c : CC) : Sm (fX0_four a1 c) (fun x => r = ((3, 0), (sz, sl, tt td, cv x))) (WP G Γ muX0_four r 0 [some (2, 43), some (0, a1), none] [] (sz, sl, tt td, cv c)) := by
  unfold fX0_four
  refine s_bipush (pc := 0) dX0_four_0 ?_
  refine s_istore_nD (pc := 2) (ls' := [some (2, 43), some (0, a1), some (0, 24)]) dX0_four_2 rfl (Nat.le_of_ble_eq_true rfl) ?_
  refine s_loop (g := gX0_four_l3 G Γ r sz sl td c a1) (Ex := eX0_four_l3 G Γ r sz sl td c a1) (s0 := (24, c)) (fun s => sX0_four_l3 a1 s.1 s.2) ?_
  intro e_4
  show Sm _ _ (WP G Γ muX0_four r 33 [none, none, none] [] (sz, sl, tt td, cv e_4))
  exact s_vret (pc := 33) dX0_four_33 rfl (fun h => h)
theorem kX0_four {G : GG} {sz : Nat} {sl : Nat} {td : TT} (a1 : Int) (c : CC) (x : CC) (h : fX0_four a1 c = some x) : Ct G yX0_four muX0_four [(2, 43), (0, a1)] (sz, sl, tt td, cv c) ((3, 0), (sz, sl, tt td, cv x)) :=
  Ct.of (n := 1) (ls0 := [some (2, 43), some (0, a1), none]) (by decide) rfl rfl ⟨show (none : Option FieldType) ≠ some .float by decide, show (none : Option FieldType) ≠ some .double by decide⟩ (Nat.le_of_ble_eq_true rfl) rfl ⟨Nat.le_refl _, Nat.le_refl _⟩ (show (3 : Nat) ≠ 9 by decide) (fun Γ => sX0_four a1 c x h rfl)
theorem mvX0_126 : MV RX0 126 RX0 yX0_four muX0_four 1 := ⟨lw_V q343 q345 qs0 q125 q346, by decide +kernel, Nat.le_of_ble_eq_true rfl⟩
abbrev muX0_feed : MI := (cX0_feed, RX0, 6, some .int, 2, "feed")
noncomputable def fX0_feed (a1 : Int) (a2 : Int) (a3 : Int) (a4 : Int) (a5 : Int) (c : CC) : Option (Int × CC) :=
  gd (inR ((c 43 13) + 20)) <|
   if (300 : Int) < (c 43 13) + 20 then
  (some ((-1), c))
  else
  (cl (fX0_four a1 c) fun p_1 =>
   cl (fX0_four a2 p_1) fun p_2 =>
   cl (fX0_four a3 p_2) fun p_3 =>
   cl (fX0_four a4 p_3) fun p_4 =>
   cl (fX0_four a5 p_4) fun p_5 =>
   some ((p_5 43 13), p_5))
theorem sX0_feed {G : GG} {Γ : Cx} {r : Vv × Wd} {sz : Nat} {sl : Nat} {td : TT} (a1 : Int) (a2 : Int) (a3 : Int) (a4 : Int) (a5 : Int) (c : CC) : Sm (fX0_feed a1 a2 a3 a4 a5 c) (fun x => r = ((0, x.1), (sz, sl, tt td, cv x.2))) (WP G Γ muX0_feed r 0 [some (2, 43), some (0, a1), some (0, a2), some (0, a3), some (0, a4), some (0, a5)] [] (sz, sl, tt td, cv c)) := by
  unfold fX0_feed
  refine s_aload_n (pc := 0) dX0_feed_0 rfl ?_
  refine s_get (pc := 1) (a := 43) (v := c 43 13) flX0_123 (t_43 _) rfl (g_43_13 _) rfl dX0_feed_1 ?_
  refine s_bipush (pc := 4) dX0_feed_4 ?_
  refine s_iadd (pc := 6) dX0_feed_6 ?_
  refine s_sipush (pc := 7) dX0_feed_7 ?_
  refine s_icmp_le (pc := 10) (tgt := 15) dX0_feed_10 rfl ?_ ?_
  · refine s_aload_n (pc := 15) dX0_feed_15 rfl ?_
    refine s_iload_n (pc := 16) dX0_feed_16 rfl ?_
    refine s_callV3 (pc := 17) (a := 43) (as := [(0, a1)]) (st := []) (rv := fun b => ((3, 0), (sz, sl, tt td, cv b))) (st3 := fun b => []) (w3 := fun b => (sz, sl, tt td, cv b)) mvX0_126 (fun b h => kX0_four a1 c b h) rfl (by decide) (t_43 td) rfl rfl rfl (Nat.le_of_ble_eq_true rfl) (fun _ => Nat.le_of_ble_eq_true rfl) (fun _ => ⟨rfl, rfl⟩) dX0_feed_17 (fun p_1 => ?_)
    refine s_aload_n (pc := 20) dX0_feed_20 rfl ?_
    refine s_iload_n (pc := 21) dX0_feed_21 rfl ?_
    refine s_callV3 (pc := 22) (a := 43) (as := [(0, a2)]) (st := []) (rv := fun b => ((3, 0), (sz, sl, tt td, cv b))) (st3 := fun b => []) (w3 := fun b => (sz, sl, tt td, cv b)) mvX0_126 (fun b h => kX0_four a2 p_1 b h) rfl (by decide) (t_43 td) rfl rfl rfl (Nat.le_of_ble_eq_true rfl) (fun _ => Nat.le_of_ble_eq_true rfl) (fun _ => ⟨rfl, rfl⟩) dX0_feed_22 (fun p_2 => ?_)
    refine s_aload_n (pc := 25) dX0_feed_25 rfl ?_
    refine s_iload_n (pc := 26) dX0_feed_26 rfl ?_
    refine s_callV3 (pc := 27) (a := 43) (as := [(0, a3)]) (st := []) (rv := fun b => ((3, 0), (sz, sl, tt td, cv b))) (st3 := fun b => []) (w3 := fun b => (sz, sl, tt td, cv b)) mvX0_126 (fun b h => kX0_four a3 p_2 b h) rfl (by decide) (t_43 td) rfl rfl rfl (Nat.le_of_ble_eq_true rfl) (fun _ => Nat.le_of_ble_eq_true rfl) (fun _ => ⟨rfl, rfl⟩) dX0_feed_27 (fun p_3 => ?_)
    refine s_aload_n (pc := 30) dX0_feed_30 rfl ?_
    refine s_iload (pc := 31) dX0_feed_31 rfl ?_
    refine s_callV3 (pc := 33) (a := 43) (as := [(0, a4)]) (st := []) (rv := fun b => ((3, 0), (sz, sl, tt td, cv b))) (st3 := fun b => []) (w3 := fun b => (sz, sl, tt td, cv b)) mvX0_126 (fun b h => kX0_four a4 p_3 b h) rfl (by decide) (t_43 td) rfl rfl rfl (Nat.le_of_ble_eq_true rfl) (fun _ => Nat.le_of_ble_eq_true rfl) (fun _ => ⟨rfl, rfl⟩) dX0_feed_33 (fun p_4 => ?_)
    refine s_aload_n (pc := 36) dX0_feed_36 rfl ?_
    refine s_iload (pc := 37) dX0_feed_37 rfl ?_
    refine s_callV3 (pc := 39) (a := 43) (as := [(0, a5)]) (st := []) (rv := fun b => ((3, 0), (sz, sl, tt td, cv b))) (st3 := fun b => []) (w3 := fun b => (sz, sl, tt td, cv b)) mvX0_126 (fun b h => kX0_four a5 p_4 b h) rfl (by decide) (t_43 td) rfl rfl rfl (Nat.le_of_ble_eq_true rfl) (fun _ => Nat.le_of_ble_eq_true rfl) (fun _ => ⟨rfl, rfl⟩) dX0_feed_39 (fun p_5 => ?_)
    refine s_aload_n (pc := 42) dX0_feed_42 rfl ?_
    refine s_get (pc := 43) (a := 43) (v := p_5 43 13) flX0_123 (t_43 _) rfl (g_43_13 _) rfl dX0_feed_43 ?_
    exact s_iret (pc := 46) dX0_feed_46 rfl (fun h => h)
  refine s_iconst (pc := 13) dX0_feed_13 ?_
  exact s_iret (pc := 14) dX0_feed_14 rfl (fun h => h)
theorem kX0_feed {G : GG} {sz : Nat} {sl : Nat} {td : TT} (a1 : Int) (a2 : Int) (a3 : Int) (a4 : Int) (a5 : Int) (c : CC) (x : (Int × CC)) (h : fX0_feed a1 a2 a3 a4 a5 c = some x) : Ct G yX0_feed muX0_feed [(2, 43), (0, a1), (0, a2), (0, a3), (0, a4), (0, a5)] (sz, sl, tt td, cv c) ((0, x.1), (sz, sl, tt td, cv x.2)) :=
  Ct.of (n := 0) (ls0 := [some (2, 43), some (0, a1), some (0, a2), some (0, a3), some (0, a4), some (0, a5)]) (by decide) rfl rfl ⟨show (some .int : Option FieldType) ≠ some .float by decide, show (some .int : Option FieldType) ≠ some .double by decide⟩ (Nat.le_of_ble_eq_true rfl) rfl ⟨Nat.le_refl _, Nat.le_refl _⟩ (show (0 : Nat) ≠ 9 by decide) (fun Γ => sX0_feed a1 a2 a3 a4 a5 c x h rfl)
theorem msX0_130 : MS RX0 130 yX0_in muX0_in 3 := ⟨lw_S q351 q352 q125 q353, by decide +kernel, by decide⟩
abbrev muX0_end : MI := (cX0_end, RX0, 2, some .int, 2, "end")
noncomputable def fX0_end (a1 : Int) (c : CC) : Option (Int × CC) :=
  cl (fX0_in a1 0 (c 43 13) ) fun p_1 =>
   if p_1 = 0 then
  (some ((-1), c))
  else
  (bd (up2 c 43 13 a1) fun c_2 =>
   some (a1, c_2))
theorem sX0_end {G : GG} {Γ : Cx} {r : Vv × Wd} {sz : Nat} {sl : Nat} {td : TT} (a1 : Int) (c : CC) : Sm (fX0_end a1 c) (fun x => r = ((0, x.1), (sz, sl, tt td, cv x.2))) (WP G Γ muX0_end r 0 [some (2, 43), some (0, a1)] [] (sz, sl, tt td, cv c)) := by
  unfold fX0_end
  refine s_iload_n (pc := 0) dX0_end_0 rfl ?_
  refine s_iconst (pc := 1) dX0_end_1 ?_
  refine s_aload_n (pc := 2) dX0_end_2 rfl ?_
  refine s_get (pc := 3) (a := 43) (v := c 43 13) flX0_123 (t_43 _) rfl (g_43_13 _) rfl dX0_end_3 ?_
  refine s_callS3 (pc := 6) (as := [(0, a1), (0, 0), (0, c 43 13)]) (st := []) (rv := fun b => ((0, b), (sz, sl, tt td, cv c))) (st3 := fun b => [(0, b)]) (w3 := fun b => (sz, sl, tt td, cv c)) msX0_130 (fun b h => kX0_in a1 0 (c 43 13) c b h) rfl (by decide) rfl (Nat.le_of_ble_eq_true rfl) (fun _ => Nat.le_of_ble_eq_true rfl) (fun _ => ⟨rfl, rfl⟩) dX0_end_6 (fun p_1 => ?_)
  refine s_if_ne (pc := 9) (tgt := 14) dX0_end_9 rfl ?_ ?_
  · refine s_aload_n (pc := 14) dX0_end_14 rfl ?_
    refine s_iload_n (pc := 15) dX0_end_15 rfl ?_
    refine s_putM (pc := 16) (a := 43) (fpX0_123 _) (t_43 _) rfl kO_43 n_43_13 rfl (fpX0_123t) dX0_end_16 (fun c_2 => ?_)
    refine s_iload_n (pc := 19) dX0_end_19 rfl ?_
    exact s_iret (pc := 20) dX0_end_20 rfl (fun h => h)
  refine s_iconst (pc := 12) dX0_end_12 ?_
  exact s_iret (pc := 13) dX0_end_13 rfl (fun h => h)
theorem kX0_end {G : GG} {sz : Nat} {sl : Nat} {td : TT} (a1 : Int) (c : CC) (x : (Int × CC)) (h : fX0_end a1 c = some x) : Ct G yX0_end muX0_end [(2, 43), (0, a1)] (sz, sl, tt td, cv c) ((0, x.1), (sz, sl, tt td, cv x.2)) :=
  Ct.of (n := 0) (ls0 := [some (2, 43), some (0, a1)]) (by decide) rfl rfl ⟨show (some .int : Option FieldType) ≠ some .float by decide, show (some .int : Option FieldType) ≠ some .double by decide⟩ (Nat.le_of_ble_eq_true rfl) rfl ⟨Nat.le_refl _, Nat.le_refl _⟩ (show (0 : Nat) ≠ 9 by decide) (fun Γ => sX0_end a1 c x h rfl)
theorem flX0_48 : FL RX0 48 0 15 := ⟨_, _, _, cf0, by decide, q228⟩
theorem flX0_45 : FL RX0 45 0 14 := ⟨_, _, _, cf0, by decide, q227⟩
abbrev muX0_fault : MI := (cX0_fault, RX0, 2, some .int, 1, "fault")
noncomputable def fX0_fault (a1 : Int) (c : CC) : Option Int :=
  if a1 = 0 then
  (some (c 43 14))
  else
  (if a1 = 1 then
  (some (c 43 15))
  else
  (some (-1)))
theorem sX0_fault {G : GG} {Γ : Cx} {r : Vv × Wd} {sz : Nat} {sl : Nat} {td : TT} (a1 : Int) (c : CC) : Sm (fX0_fault a1 c) (fun x => r = ((0, x), (sz, sl, tt td, cv c))) (WP G Γ muX0_fault r 0 [some (2, 43), some (0, a1)] [] (sz, sl, tt td, cv c)) := by
  unfold fX0_fault
  refine s_iload_n (pc := 0) dX0_fault_0 rfl ?_
  refine s_if_ne (pc := 1) (tgt := 11) dX0_fault_1 rfl ?_ ?_
  · refine s_iload_n (pc := 11) dX0_fault_11 rfl ?_
    refine s_iconst (pc := 12) dX0_fault_12 ?_
    refine s_icmp_ne (pc := 13) (tgt := 23) dX0_fault_13 rfl ?_ ?_
    · refine s_iconst (pc := 23) dX0_fault_23 ?_
      exact s_iret (pc := 24) dX0_fault_24 rfl (fun h => h)
    refine s_aload_n (pc := 16) dX0_fault_16 rfl ?_
    refine s_get (pc := 17) (a := 43) (v := c 43 15) flX0_48 (t_43 _) rfl (g_43_15 _) rfl dX0_fault_17 ?_
    refine s_goto (pc := 20) (tgt := 24) dX0_fault_20 rfl ?_
    exact s_iret (pc := 24) dX0_fault_24 rfl (fun h => h)
  refine s_aload_n (pc := 4) dX0_fault_4 rfl ?_
  refine s_get (pc := 5) (a := 43) (v := c 43 14) flX0_45 (t_43 _) rfl (g_43_14 _) rfl dX0_fault_5 ?_
  refine s_goto (pc := 8) (tgt := 24) dX0_fault_8 rfl ?_
  exact s_iret (pc := 24) dX0_fault_24 rfl (fun h => h)
theorem kX0_fault {G : GG} {sz : Nat} {sl : Nat} {td : TT} (a1 : Int) (c : CC) (x : Int) (h : fX0_fault a1 c = some x) : Ct G yX0_fault muX0_fault [(2, 43), (0, a1)] (sz, sl, tt td, cv c) ((0, x), (sz, sl, tt td, cv c)) :=
  Ct.of (n := 0) (ls0 := [some (2, 43), some (0, a1)]) (by decide) rfl rfl ⟨show (some .int : Option FieldType) ≠ some .float by decide, show (some .int : Option FieldType) ≠ some .double by decide⟩ (Nat.le_of_ble_eq_true rfl) rfl ⟨Nat.le_refl _, Nat.le_refl _⟩ (show (0 : Nat) ≠ 9 by decide) (fun Γ => sX0_fault a1 c x h rfl)
theorem flX0_134 : FL RX0 134 0 3 := ⟨_, _, _, cf0, by decide, q216⟩
theorem fpX0_27 (nm : String) : FP RX0 27 0 4 nm := ⟨_, _, _, cf0, by decide, q217, Or.inl rfl⟩
theorem fpX0_27t : fty 0 4 ≠ .boolean ∧ fty 0 4 ≠ .byte ∧ fty 0 4 ≠ .char ∧ fty 0 4 ≠ .short := by decide
theorem fpX0_154 (nm : String) : FP RX0 154 0 11 nm := ⟨_, _, _, cf0, by decide, q224, Or.inl rfl⟩
abbrev muX0_by : MI := (cX0_by, RX0, 2, some .boolean, 2, "by")
noncomputable def fX0_by (a1 : Int) (c : CC) : Option (Int × CC) :=
  gd (inR ((c 43 3) - 1)) <|
   cl (fX0_in a1 (-1) ((c 43 3) - 1) ) fun p_1 =>
   if p_1 = 0 then
  (gd ((0 : Int) ≤ 0 ∧ (0 : Int) < 2) (some (0, c)))
  else
  (bd (up2 c 43 4 a1) fun c_2 =>
   gd ((0 : Int) ≤ 0 ∧ (0 : Int) < 2) <| bd (up2 c_2 43 11 0) fun c_3 =>
   gd ((0 : Int) ≤ 1 ∧ (1 : Int) < 2) (some (1, c_3)))
theorem sX0_by {G : GG} {Γ : Cx} {r : Vv × Wd} {sz : Nat} {sl : Nat} {td : TT} (a1 : Int) (c : CC) : Sm (fX0_by a1 c) (fun x => r = ((0, x.1), (sz, sl, tt td, cv x.2))) (WP G Γ muX0_by r 0 [some (2, 43), some (0, a1)] [] (sz, sl, tt td, cv c)) := by
  unfold fX0_by
  refine s_iload_n (pc := 0) dX0_by_0 rfl ?_
  refine s_iconst (pc := 1) dX0_by_1 ?_
  refine s_aload_n (pc := 2) dX0_by_2 rfl ?_
  refine s_get (pc := 3) (a := 43) (v := c 43 3) flX0_134 (t_43 _) rfl (g_43_3 _) rfl dX0_by_3 ?_
  refine s_iconst (pc := 6) dX0_by_6 ?_
  refine s_isub (pc := 7) dX0_by_7 ?_
  refine s_callS3 (pc := 8) (as := [(0, a1), (0, -1), (0, (c 43 3) - 1)]) (st := []) (rv := fun b => ((0, b), (sz, sl, tt td, cv c))) (st3 := fun b => [(0, b)]) (w3 := fun b => (sz, sl, tt td, cv c)) msX0_130 (fun b h => kX0_in a1 (-1) ((c 43 3) - 1) c b h) rfl (by decide) rfl (Nat.le_of_ble_eq_true rfl) (fun _ => Nat.le_of_ble_eq_true rfl) (fun _ => ⟨rfl, rfl⟩) dX0_by_8 (fun p_1 => ?_)
  refine s_if_ne (pc := 11) (tgt := 16) dX0_by_11 rfl ?_ ?_
  · refine s_aload_n (pc := 16) dX0_by_16 rfl ?_
    refine s_iload_n (pc := 17) dX0_by_17 rfl ?_
    refine s_putM (pc := 18) (a := 43) (fpX0_27 _) (t_43 _) rfl kO_43 n_43_4 rfl (fpX0_27t) dX0_by_18 (fun c_2 => ?_)
    refine s_aload_n (pc := 21) dX0_by_21 rfl ?_
    refine s_iconst (pc := 22) dX0_by_22 ?_
    refine s_putZM (pc := 23) (a := 43) (fpX0_154 _) (t_43 _) rfl kO_43 n_43_11 rfl dX0_by_23 (fun c_3 => ?_)
    refine s_iconst (pc := 26) dX0_by_26 ?_
    exact s_zret (pc := 27) dX0_by_27 rfl (fun h => h)
  refine s_iconst (pc := 14) dX0_by_14 ?_
  exact s_zret (pc := 15) dX0_by_15 rfl (fun h => h)
theorem kX0_by {G : GG} {sz : Nat} {sl : Nat} {td : TT} (a1 : Int) (c : CC) (x : (Int × CC)) (h : fX0_by a1 c = some x) : Ct G yX0_by muX0_by [(2, 43), (0, a1)] (sz, sl, tt td, cv c) ((0, x.1), (sz, sl, tt td, cv x.2)) :=
  Ct.of (n := 0) (ls0 := [some (2, 43), some (0, a1)]) (by decide) rfl rfl ⟨show (some .boolean : Option FieldType) ≠ some .float by decide, show (some .boolean : Option FieldType) ≠ some .double by decide⟩ (Nat.le_of_ble_eq_true rfl) rfl ⟨Nat.le_refl _, Nat.le_refl _⟩ (show (0 : Nat) ≠ 9 by decide) (fun Γ => sX0_by a1 c x h rfl)
theorem flX0_158 : FL RX0 158 0 5 := ⟨_, _, _, cf0, by decide, q218⟩
theorem flX0_34 : FL RX0 34 0 9 := ⟨_, _, _, cf0, by decide, q222⟩
theorem fpX0_158 (nm : String) : FP RX0 158 0 5 nm := ⟨_, _, _, cf0, by decide, q218, Or.inl rfl⟩
theorem fpX0_158t : fty 0 5 ≠ .boolean ∧ fty 0 5 ≠ .byte ∧ fty 0 5 ≠ .char ∧ fty 0 5 ≠ .short := by decide
abbrev muX0_say : MI := (cX0_say, RX0, 2, some .int, 2, "say")
noncomputable def fX0_say (a1 : Int) (c : CC) : Option (Int × CC) :=
  cl (fX0_in a1 0 19 ) fun p_1 =>
   if p_1 = 0 then
  (some ((-1), c))
  else
  (if c 43 5 = 24 then
  (some ((-1), c))
  else
  (gd ((0 : Int) ≤ c 43 5 ∧ c 43 5 < 24) <| bd (up2 c 50 (Int.toNat (c 43 5)) a1) fun c_2 =>
   gd ((0 : Int) ≤ 0 ∧ (0 : Int) < 2) <| bd (up2 c_2 43 11 0) fun c_3 =>
   gd (inR ((c_3 43 5) + 1)) <|
   bd (up2 c_3 43 5 ((c_3 43 5) + 1)) fun c_4 =>
   some (((c_3 43 5) + 1), c_4)))
theorem sX0_say {G : GG} {Γ : Cx} {r : Vv × Wd} {sz : Nat} {sl : Nat} {td : TT} (a1 : Int) (c : CC) : Sm (fX0_say a1 c) (fun x => r = ((0, x.1), (sz, sl, tt td, cv x.2))) (WP G Γ muX0_say r 0 [some (2, 43), some (0, a1)] [] (sz, sl, tt td, cv c)) := by
  unfold fX0_say
  refine s_iload_n (pc := 0) dX0_say_0 rfl ?_
  refine s_iconst (pc := 1) dX0_say_1 ?_
  refine s_bipush (pc := 2) dX0_say_2 ?_
  refine s_callS3 (pc := 4) (as := [(0, a1), (0, 0), (0, 19)]) (st := []) (rv := fun b => ((0, b), (sz, sl, tt td, cv c))) (st3 := fun b => [(0, b)]) (w3 := fun b => (sz, sl, tt td, cv c)) msX0_130 (fun b h => kX0_in a1 0 19 c b h) rfl (by decide) rfl (Nat.le_of_ble_eq_true rfl) (fun _ => Nat.le_of_ble_eq_true rfl) (fun _ => ⟨rfl, rfl⟩) dX0_say_4 (fun p_1 => ?_)
  refine s_if_eq (pc := 7) (tgt := 19) dX0_say_7 rfl ?_ ?_
  · refine s_iconst (pc := 19) dX0_say_19 ?_
    exact s_iret (pc := 20) dX0_say_20 rfl (fun h => h)
  refine s_aload_n (pc := 10) dX0_say_10 rfl ?_
  refine s_get (pc := 11) (a := 43) (v := c 43 5) flX0_158 (t_43 _) rfl (g_43_5 _) rfl dX0_say_11 ?_
  refine s_bipush (pc := 14) dX0_say_14 ?_
  refine s_icmp_ne (pc := 16) (tgt := 21) dX0_say_16 rfl ?_ ?_
  · refine s_aload_n (pc := 21) dX0_say_21 rfl ?_
    refine s_get (pc := 22) (a := 43) (v := 50) flX0_34 (t_43 _) rfl (g_43_9 _) rfl dX0_say_22 ?_
    refine s_aload_n (pc := 25) dX0_say_25 rfl ?_
    refine s_get (pc := 26) (a := 43) (v := c 43 5) flX0_158 (t_43 _) rfl (g_43_5 _) rfl dX0_say_26 ?_
    refine s_iload_n (pc := 29) dX0_say_29 rfl ?_
    refine s_iastM (pc := 30) (a := 50) (t_50 _) rfl kO_50 r_50 dX0_say_30 (fun c_2 => ?_)
    refine s_aload_n (pc := 31) dX0_say_31 rfl ?_
    refine s_iconst (pc := 32) dX0_say_32 ?_
    refine s_putZM (pc := 33) (a := 43) (fpX0_154 _) (t_43 _) rfl kO_43 n_43_11 rfl dX0_say_33 (fun c_3 => ?_)
    refine s_aload_n (pc := 36) dX0_say_36 rfl ?_
    refine s_dup (pc := 37) (by decide : ¬ (2 : Nat) = 1) dX0_say_37 ?_
    refine s_get (pc := 38) (a := 43) (v := c_3 43 5) flX0_158 (t_43 _) rfl (g_43_5 _) rfl dX0_say_38 ?_
    refine s_iconst (pc := 41) dX0_say_41 ?_
    refine s_iadd (pc := 42) dX0_say_42 ?_
    refine s_dup_x1 (pc := 43) (by decide : ¬ (0 : Nat) = 1) (by decide : ¬ (2 : Nat) = 1) dX0_say_43 ?_
    refine s_putM (pc := 44) (a := 43) (fpX0_158 _) (t_43 _) rfl kO_43 n_43_5 rfl (fpX0_158t) dX0_say_44 (fun c_4 => ?_)
    exact s_iret (pc := 47) dX0_say_47 rfl (fun h => h)
  refine s_iconst (pc := 19) dX0_say_19 ?_
  exact s_iret (pc := 20) dX0_say_20 rfl (fun h => h)
theorem kX0_say {G : GG} {sz : Nat} {sl : Nat} {td : TT} (a1 : Int) (c : CC) (x : (Int × CC)) (h : fX0_say a1 c = some x) : Ct G yX0_say muX0_say [(2, 43), (0, a1)] (sz, sl, tt td, cv c) ((0, x.1), (sz, sl, tt td, cv x.2)) :=
  Ct.of (n := 0) (ls0 := [some (2, 43), some (0, a1)]) (by decide) rfl rfl ⟨show (some .int : Option FieldType) ≠ some .float by decide, show (some .int : Option FieldType) ≠ some .double by decide⟩ (Nat.le_of_ble_eq_true rfl) rfl ⟨Nat.le_refl _, Nat.le_refl _⟩ (show (0 : Nat) ≠ 9 by decide) (fun Γ => sX0_say a1 c x h rfl)
abbrev muX0_unsay : MI := (cX0_unsay, RX0, 2, some .int, 2, "unsay")
noncomputable def fX0_unsay (a1 : Int) (c : CC) : Option (Int × CC) :=
  cl (fX0_in a1 0 (c 43 5) ) fun p_1 =>
   if p_1 = 0 then
  (some ((-1), c))
  else
  (gd (inR ((c 43 5) - a1)) <|
   bd (up2 c 43 5 ((c 43 5) - a1)) fun c_2 =>
   gd ((0 : Int) ≤ 0 ∧ (0 : Int) < 2) <| bd (up2 c_2 43 11 0) fun c_3 =>
   some ((c_3 43 5), c_3))
theorem sX0_unsay {G : GG} {Γ : Cx} {r : Vv × Wd} {sz : Nat} {sl : Nat} {td : TT} (a1 : Int) (c : CC) : Sm (fX0_unsay a1 c) (fun x => r = ((0, x.1), (sz, sl, tt td, cv x.2))) (WP G Γ muX0_unsay r 0 [some (2, 43), some (0, a1)] [] (sz, sl, tt td, cv c)) := by
  unfold fX0_unsay
  refine s_iload_n (pc := 0) dX0_unsay_0 rfl ?_
  refine s_iconst (pc := 1) dX0_unsay_1 ?_
  refine s_aload_n (pc := 2) dX0_unsay_2 rfl ?_
  refine s_get (pc := 3) (a := 43) (v := c 43 5) flX0_158 (t_43 _) rfl (g_43_5 _) rfl dX0_unsay_3 ?_
  refine s_callS3 (pc := 6) (as := [(0, a1), (0, 0), (0, c 43 5)]) (st := []) (rv := fun b => ((0, b), (sz, sl, tt td, cv c))) (st3 := fun b => [(0, b)]) (w3 := fun b => (sz, sl, tt td, cv c)) msX0_130 (fun b h => kX0_in a1 0 (c 43 5) c b h) rfl (by decide) rfl (Nat.le_of_ble_eq_true rfl) (fun _ => Nat.le_of_ble_eq_true rfl) (fun _ => ⟨rfl, rfl⟩) dX0_unsay_6 (fun p_1 => ?_)
  refine s_if_ne (pc := 9) (tgt := 14) dX0_unsay_9 rfl ?_ ?_
  · refine s_aload_n (pc := 14) dX0_unsay_14 rfl ?_
    refine s_dup (pc := 15) (by decide : ¬ (2 : Nat) = 1) dX0_unsay_15 ?_
    refine s_get (pc := 16) (a := 43) (v := c 43 5) flX0_158 (t_43 _) rfl (g_43_5 _) rfl dX0_unsay_16 ?_
    refine s_iload_n (pc := 19) dX0_unsay_19 rfl ?_
    refine s_isub (pc := 20) dX0_unsay_20 ?_
    refine s_putM (pc := 21) (a := 43) (fpX0_158 _) (t_43 _) rfl kO_43 n_43_5 rfl (fpX0_158t) dX0_unsay_21 (fun c_2 => ?_)
    refine s_aload_n (pc := 24) dX0_unsay_24 rfl ?_
    refine s_iconst (pc := 25) dX0_unsay_25 ?_
    refine s_putZM (pc := 26) (a := 43) (fpX0_154 _) (t_43 _) rfl kO_43 n_43_11 rfl dX0_unsay_26 (fun c_3 => ?_)
    refine s_aload_n (pc := 29) dX0_unsay_29 rfl ?_
    refine s_get (pc := 30) (a := 43) (v := c_3 43 5) flX0_158 (t_43 _) rfl (g_43_5 _) rfl dX0_unsay_30 ?_
    exact s_iret (pc := 33) dX0_unsay_33 rfl (fun h => h)
  refine s_iconst (pc := 12) dX0_unsay_12 ?_
  exact s_iret (pc := 13) dX0_unsay_13 rfl (fun h => h)
theorem kX0_unsay {G : GG} {sz : Nat} {sl : Nat} {td : TT} (a1 : Int) (c : CC) (x : (Int × CC)) (h : fX0_unsay a1 c = some x) : Ct G yX0_unsay muX0_unsay [(2, 43), (0, a1)] (sz, sl, tt td, cv c) ((0, x.1), (sz, sl, tt td, cv x.2)) :=
  Ct.of (n := 0) (ls0 := [some (2, 43), some (0, a1)]) (by decide) rfl rfl ⟨show (some .int : Option FieldType) ≠ some .float by decide, show (some .int : Option FieldType) ≠ some .double by decide⟩ (Nat.le_of_ble_eq_true rfl) rfl ⟨Nat.le_refl _, Nat.le_refl _⟩ (show (0 : Nat) ≠ 9 by decide) (fun Γ => sX0_unsay a1 c x h rfl)
abbrev muX0_word : MI := (cX0_word, RX0, 2, some .int, 2, "word")
noncomputable def fX0_word (a1 : Int) (c : CC) : Option Int :=
  gd (inR ((c 43 5) - 1)) <|
   cl (fX0_in a1 0 ((c 43 5) - 1) ) fun p_1 =>
   if p_1 = 0 then
  (some (-1))
  else
  (gd ((0 : Int) ≤ a1 ∧ a1 < 24) <|
   some (c 50 (Int.toNat a1)))
theorem sX0_word {G : GG} {Γ : Cx} {r : Vv × Wd} {sz : Nat} {sl : Nat} {td : TT} (a1 : Int) (c : CC) : Sm (fX0_word a1 c) (fun x => r = ((0, x), (sz, sl, tt td, cv c))) (WP G Γ muX0_word r 0 [some (2, 43), some (0, a1)] [] (sz, sl, tt td, cv c)) := by
  unfold fX0_word
  refine s_iload_n (pc := 0) dX0_word_0 rfl ?_
  refine s_iconst (pc := 1) dX0_word_1 ?_
  refine s_aload_n (pc := 2) dX0_word_2 rfl ?_
  refine s_get (pc := 3) (a := 43) (v := c 43 5) flX0_158 (t_43 _) rfl (g_43_5 _) rfl dX0_word_3 ?_
  refine s_iconst (pc := 6) dX0_word_6 ?_
  refine s_isub (pc := 7) dX0_word_7 ?_
  refine s_callS3 (pc := 8) (as := [(0, a1), (0, 0), (0, (c 43 5) - 1)]) (st := []) (rv := fun b => ((0, b), (sz, sl, tt td, cv c))) (st3 := fun b => [(0, b)]) (w3 := fun b => (sz, sl, tt td, cv c)) msX0_130 (fun b h => kX0_in a1 0 ((c 43 5) - 1) c b h) rfl (by decide) rfl (Nat.le_of_ble_eq_true rfl) (fun _ => Nat.le_of_ble_eq_true rfl) (fun _ => ⟨rfl, rfl⟩) dX0_word_8 (fun p_1 => ?_)
  refine s_if_eq (pc := 11) (tgt := 23) dX0_word_11 rfl ?_ ?_
  · refine s_iconst (pc := 23) dX0_word_23 ?_
    exact s_iret (pc := 24) dX0_word_24 rfl (fun h => h)
  refine s_aload_n (pc := 14) dX0_word_14 rfl ?_
  refine s_get (pc := 15) (a := 43) (v := 50) flX0_34 (t_43 _) rfl (g_43_9 _) rfl dX0_word_15 ?_
  refine s_iload_n (pc := 18) dX0_word_18 rfl ?_
  refine s_ialdM (pc := 19) (a := 50) (t_50 _) rfl r_50 dX0_word_19 ?_
  refine s_goto (pc := 20) (tgt := 24) dX0_word_20 rfl ?_
  exact s_iret (pc := 24) dX0_word_24 rfl (fun h => h)
theorem kX0_word {G : GG} {sz : Nat} {sl : Nat} {td : TT} (a1 : Int) (c : CC) (x : Int) (h : fX0_word a1 c = some x) : Ct G yX0_word muX0_word [(2, 43), (0, a1)] (sz, sl, tt td, cv c) ((0, x), (sz, sl, tt td, cv c)) :=
  Ct.of (n := 0) (ls0 := [some (2, 43), some (0, a1)]) (by decide) rfl rfl ⟨show (some .int : Option FieldType) ≠ some .float by decide, show (some .int : Option FieldType) ≠ some .double by decide⟩ (Nat.le_of_ble_eq_true rfl) rfl ⟨Nat.le_refl _, Nat.le_refl _⟩ (show (0 : Nat) ≠ 9 by decide) (fun Γ => sX0_word a1 c x h rfl)
abbrev muX0_spanAt : MI := (cX0_spanAt, RX0, 2, some .int, 1, "spanAt")
noncomputable def fX0_spanAt (a0 : Int) (a1 : Int)  : Option Int :=
  gd (inR (a1 + 1)) <|
   gd (inR (a1 * (a1 + 1))) <|
   gd ((2 : Int) ≠ 0 ∧ inR (Int.tdiv (a1 * (a1 + 1)) 2)) <|
   gd (inR ((Int.tdiv (a1 * (a1 + 1)) 2) + a0)) <|
   some ((Int.tdiv (a1 * (a1 + 1)) 2) + a0)
theorem sX0_spanAt {G : GG} {Γ : Cx} {r : Vv × Wd} {sz : Nat} {sl : Nat} {td : TT} (a0 : Int) (a1 : Int) (c : CC) : Sm (fX0_spanAt a0 a1 ) (fun x => r = ((0, x), (sz, sl, tt td, cv c))) (WP G Γ muX0_spanAt r 0 [some (0, a0), some (0, a1)] [] (sz, sl, tt td, cv c)) := by
  unfold fX0_spanAt
  refine s_iload_n (pc := 0) dX0_spanAt_0 rfl ?_
  refine s_iload_n (pc := 1) dX0_spanAt_1 rfl ?_
  refine s_iconst (pc := 2) dX0_spanAt_2 ?_
  refine s_iadd (pc := 3) dX0_spanAt_3 ?_
  refine s_imul (pc := 4) dX0_spanAt_4 ?_
  refine s_iconst (pc := 5) dX0_spanAt_5 ?_
  refine s_idiv (pc := 6) dX0_spanAt_6 ?_
  refine s_iload_n (pc := 7) dX0_spanAt_7 rfl ?_
  refine s_iadd (pc := 8) dX0_spanAt_8 ?_
  exact s_iret (pc := 9) dX0_spanAt_9 rfl (fun h => h)
theorem kX0_spanAt {G : GG} {sz : Nat} {sl : Nat} {td : TT} (a0 : Int) (a1 : Int) (c : CC) (x : Int) (h : fX0_spanAt a0 a1  = some x) : Ct G yX0_spanAt muX0_spanAt [(0, a0), (0, a1)] (sz, sl, tt td, cv c) ((0, x), (sz, sl, tt td, cv c)) :=
  Ct.of (n := 0) (ls0 := [some (0, a0), some (0, a1)]) (by decide) rfl rfl ⟨show (some .int : Option FieldType) ≠ some .float by decide, show (some .int : Option FieldType) ≠ some .double by decide⟩ (Nat.le_of_ble_eq_true rfl) rfl ⟨Nat.le_refl _, Nat.le_refl _⟩ (show (0 : Nat) ≠ 9 by decide) (fun Γ => sX0_spanAt a0 a1 c x h rfl)
theorem msX0_161 : MS RX0 161 yX0_spanAt muX0_spanAt 2 := ⟨lw_S q852 q853 q125 q854, by decide +kernel, by decide⟩
abbrev muX0_countAt : MI := (cX0_countAt, RX0, 3, some .int, 2, "countAt")
noncomputable def fX0_countAt (a0 : Int) (a1 : Int) (a2 : Int)  : Option Int :=
  cl (fX0_spanAt a0 a1 ) fun p_1 =>
   gd (inR (8 * p_1)) <|
   gd (inR ((8 * p_1) + a2)) <|
   gd (inR (7 * ((8 * p_1) + a2))) <|
   some (7 * ((8 * p_1) + a2))
theorem sX0_countAt {G : GG} {Γ : Cx} {r : Vv × Wd} {sz : Nat} {sl : Nat} {td : TT} (a0 : Int) (a1 : Int) (a2 : Int) (c : CC) : Sm (fX0_countAt a0 a1 a2 ) (fun x => r = ((0, x), (sz, sl, tt td, cv c))) (WP G Γ muX0_countAt r 0 [some (0, a0), some (0, a1), some (0, a2)] [] (sz, sl, tt td, cv c)) := by
  unfold fX0_countAt
  refine s_bipush (pc := 0) dX0_countAt_0 ?_
  refine s_bipush (pc := 2) dX0_countAt_2 ?_
  refine s_iload_n (pc := 4) dX0_countAt_4 rfl ?_
  refine s_iload_n (pc := 5) dX0_countAt_5 rfl ?_
  refine s_callS3 (pc := 6) (as := [(0, a0), (0, a1)]) (st := [(0, 8), (0, 7)]) (rv := fun b => ((0, b), (sz, sl, tt td, cv c))) (st3 := fun b => [(0, b), (0, 8), (0, 7)]) (w3 := fun b => (sz, sl, tt td, cv c)) msX0_161 (fun b h => kX0_spanAt a0 a1 c b h) rfl (by decide) rfl (Nat.le_of_ble_eq_true rfl) (fun _ => Nat.le_of_ble_eq_true rfl) (fun _ => ⟨rfl, rfl⟩) dX0_countAt_6 (fun p_1 => ?_)
  refine s_imul (pc := 9) dX0_countAt_9 ?_
  refine s_iload_n (pc := 10) dX0_countAt_10 rfl ?_
  refine s_iadd (pc := 11) dX0_countAt_11 ?_
  refine s_imul (pc := 12) dX0_countAt_12 ?_
  exact s_iret (pc := 13) dX0_countAt_13 rfl (fun h => h)
theorem kX0_countAt {G : GG} {sz : Nat} {sl : Nat} {td : TT} (a0 : Int) (a1 : Int) (a2 : Int) (c : CC) (x : Int) (h : fX0_countAt a0 a1 a2  = some x) : Ct G yX0_countAt muX0_countAt [(0, a0), (0, a1), (0, a2)] (sz, sl, tt td, cv c) ((0, x), (sz, sl, tt td, cv c)) :=
  Ct.of (n := 0) (ls0 := [some (0, a0), some (0, a1), some (0, a2)]) (by decide) rfl rfl ⟨show (some .int : Option FieldType) ≠ some .float by decide, show (some .int : Option FieldType) ≠ some .double by decide⟩ (Nat.le_of_ble_eq_true rfl) rfl ⟨Nat.le_refl _, Nat.le_refl _⟩ (show (0 : Nat) ≠ 9 by decide) (fun Γ => sX0_countAt a0 a1 a2 c x h rfl)
abbrev muX0_rowAt : MI := (cX0_rowAt, RX0, 4, some .int, 2, "rowAt")
noncomputable def fX0_rowAt (a0 : Int) (a1 : Int) (a2 : Int) (a3 : Int)  : Option Int :=
  cl (fX0_spanAt a0 a1 ) fun p_1 =>
   gd (inR (8 * p_1)) <|
   gd (inR ((8 * p_1) + a2)) <|
   gd (inR (5 * ((8 * p_1) + a2))) <|
   gd (inR ((5 * ((8 * p_1) + a2)) + a3)) <|
   gd (inR (((5 * ((8 * p_1) + a2)) + a3) - 1)) <|
   gd (inR (7 * (((5 * ((8 * p_1) + a2)) + a3) - 1))) <|
   some (7 * (((5 * ((8 * p_1) + a2)) + a3) - 1))
theorem sX0_rowAt {G : GG} {Γ : Cx} {r : Vv × Wd} {sz : Nat} {sl : Nat} {td : TT} (a0 : Int) (a1 : Int) (a2 : Int) (a3 : Int) (c : CC) : Sm (fX0_rowAt a0 a1 a2 a3 ) (fun x => r = ((0, x), (sz, sl, tt td, cv c))) (WP G Γ muX0_rowAt r 0 [some (0, a0), some (0, a1), some (0, a2), some (0, a3)] [] (sz, sl, tt td, cv c)) := by
  unfold fX0_rowAt
  refine s_bipush (pc := 0) dX0_rowAt_0 ?_
  refine s_iconst (pc := 2) dX0_rowAt_2 ?_
  refine s_bipush (pc := 3) dX0_rowAt_3 ?_
  refine s_iload_n (pc := 5) dX0_rowAt_5 rfl ?_
  refine s_iload_n (pc := 6) dX0_rowAt_6 rfl ?_
  refine s_callS3 (pc := 7) (as := [(0, a0), (0, a1)]) (st := [(0, 8), (0, 5), (0, 7)]) (rv := fun b => ((0, b), (sz, sl, tt td, cv c))) (st3 := fun b => [(0, b), (0, 8), (0, 5), (0, 7)]) (w3 := fun b => (sz, sl, tt td, cv c)) msX0_161 (fun b h => kX0_spanAt a0 a1 c b h) rfl (by decide) rfl (Nat.le_of_ble_eq_true rfl) (fun _ => Nat.le_of_ble_eq_true rfl) (fun _ => ⟨rfl, rfl⟩) dX0_rowAt_7 (fun p_1 => ?_)
  refine s_imul (pc := 10) dX0_rowAt_10 ?_
  refine s_iload_n (pc := 11) dX0_rowAt_11 rfl ?_
  refine s_iadd (pc := 12) dX0_rowAt_12 ?_
  refine s_imul (pc := 13) dX0_rowAt_13 ?_
  refine s_iload_n (pc := 14) dX0_rowAt_14 rfl ?_
  refine s_iadd (pc := 15) dX0_rowAt_15 ?_
  refine s_iconst (pc := 16) dX0_rowAt_16 ?_
  refine s_isub (pc := 17) dX0_rowAt_17 ?_
  refine s_imul (pc := 18) dX0_rowAt_18 ?_
  exact s_iret (pc := 19) dX0_rowAt_19 rfl (fun h => h)
theorem kX0_rowAt {G : GG} {sz : Nat} {sl : Nat} {td : TT} (a0 : Int) (a1 : Int) (a2 : Int) (a3 : Int) (c : CC) (x : Int) (h : fX0_rowAt a0 a1 a2 a3  = some x) : Ct G yX0_rowAt muX0_rowAt [(0, a0), (0, a1), (0, a2), (0, a3)] (sz, sl, tt td, cv c) ((0, x), (sz, sl, tt td, cv c)) :=
  Ct.of (n := 0) (ls0 := [some (0, a0), some (0, a1), some (0, a2), some (0, a3)]) (by decide) rfl rfl ⟨show (some .int : Option FieldType) ≠ some .float by decide, show (some .int : Option FieldType) ≠ some .double by decide⟩ (Nat.le_of_ble_eq_true rfl) rfl ⟨Nat.le_refl _, Nat.le_refl _⟩ (show (0 : Nat) ≠ 9 by decide) (fun Γ => sX0_rowAt a0 a1 a2 a3 c x h rfl)
abbrev muX8_takes : MI := (cX8_takes, RX8, 2, some .int, 1, "takes")
noncomputable def fX8_takes (a0 : Int) (a1 : Int) (td : TT) (c : CC) : Option Int :=
  some 0
theorem sX8_takes {G : GG} {Γ : Cx} {r : Vv × Wd} {sz : Nat} {sl : Nat} (a0 : Int) (a1 : Int) (td : TT) (c : CC) : Sm (fX8_takes a0 a1 td c) (fun x => r = ((0, x), (sz, sl, tt td, cv c))) (WP G Γ muX8_takes r 0 [some (2, a0), some (0, a1)] [] (sz, sl, tt td, cv c)) := by
  unfold fX8_takes
  refine s_iconst (pc := 0) dX8_takes_0 ?_
  exact s_iret (pc := 1) dX8_takes_1 rfl (fun h => h)
theorem kX8_takes {G : GG} {sz : Nat} {sl : Nat} (a0 : Int) (a1 : Int) (td : TT) (c : CC) (x : Int) (h : fX8_takes a0 a1 td c = some x) : Ct G yX8_takes muX8_takes [(2, a0), (0, a1)] (sz, sl, tt td, cv c) ((0, x), (sz, sl, tt td, cv c)) :=
  Ct.of (n := 0) (ls0 := [some (2, a0), some (0, a1)]) (by decide) rfl rfl ⟨show (some .int : Option FieldType) ≠ some .float by decide, show (some .int : Option FieldType) ≠ some .double by decide⟩ (Nat.le_of_ble_eq_true rfl) rfl ⟨Nat.le_refl _, Nat.le_refl _⟩ (show (0 : Nat) ≠ 9 by decide) (fun Γ => sX8_takes a0 a1 td c x h rfl)
abbrev muX9_takes : MI := (cX9_takes, RX9, 2, some .int, 1, "takes")
noncomputable def fX9_takes (a0 : Int) (a1 : Int) (td : TT) (c : CC) : Option Int :=
  some 2
theorem sX9_takes {G : GG} {Γ : Cx} {r : Vv × Wd} {sz : Nat} {sl : Nat} (a0 : Int) (a1 : Int) (td : TT) (c : CC) : Sm (fX9_takes a0 a1 td c) (fun x => r = ((0, x), (sz, sl, tt td, cv c))) (WP G Γ muX9_takes r 0 [some (2, a0), some (0, a1)] [] (sz, sl, tt td, cv c)) := by
  unfold fX9_takes
  refine s_iconst (pc := 0) dX9_takes_0 ?_
  exact s_iret (pc := 1) dX9_takes_1 rfl (fun h => h)
theorem kX9_takes {G : GG} {sz : Nat} {sl : Nat} (a0 : Int) (a1 : Int) (td : TT) (c : CC) (x : Int) (h : fX9_takes a0 a1 td c = some x) : Ct G yX9_takes muX9_takes [(2, a0), (0, a1)] (sz, sl, tt td, cv c) ((0, x), (sz, sl, tt td, cv c)) :=
  Ct.of (n := 0) (ls0 := [some (2, a0), some (0, a1)]) (by decide) rfl rfl ⟨show (some .int : Option FieldType) ≠ some .float by decide, show (some .int : Option FieldType) ≠ some .double by decide⟩ (Nat.le_of_ble_eq_true rfl) rfl ⟨Nat.le_refl _, Nat.le_refl _⟩ (show (0 : Nat) ≠ 9 by decide) (fun Γ => sX9_takes a0 a1 td c x h rfl)
abbrev muX10_takes : MI := (cX10_takes, RX10, 2, some .int, 1, "takes")
noncomputable def fX10_takes (a0 : Int) (a1 : Int) (td : TT) (c : CC) : Option Int :=
  some a1
theorem sX10_takes {G : GG} {Γ : Cx} {r : Vv × Wd} {sz : Nat} {sl : Nat} (a0 : Int) (a1 : Int) (td : TT) (c : CC) : Sm (fX10_takes a0 a1 td c) (fun x => r = ((0, x), (sz, sl, tt td, cv c))) (WP G Γ muX10_takes r 0 [some (2, a0), some (0, a1)] [] (sz, sl, tt td, cv c)) := by
  unfold fX10_takes
  refine s_iload_n (pc := 0) dX10_takes_0 rfl ?_
  exact s_iret (pc := 1) dX10_takes_1 rfl (fun h => h)
theorem kX10_takes {G : GG} {sz : Nat} {sl : Nat} (a0 : Int) (a1 : Int) (td : TT) (c : CC) (x : Int) (h : fX10_takes a0 a1 td c = some x) : Ct G yX10_takes muX10_takes [(2, a0), (0, a1)] (sz, sl, tt td, cv c) ((0, x), (sz, sl, tt td, cv c)) :=
  Ct.of (n := 0) (ls0 := [some (2, a0), some (0, a1)]) (by decide) rfl rfl ⟨show (some .int : Option FieldType) ≠ some .float by decide, show (some .int : Option FieldType) ≠ some .double by decide⟩ (Nat.le_of_ble_eq_true rfl) rfl ⟨Nat.le_refl _, Nat.le_refl _⟩ (show (0 : Nat) ≠ 9 by decide) (fun Γ => sX10_takes a0 a1 td c x h rfl)
abbrev muX11_takes : MI := (cX11_takes, RX11, 2, some .int, 1, "takes")
noncomputable def fX11_takes (a0 : Int) (a1 : Int) (td : TT) (c : CC) : Option Int :=
  gd (inR (2 * a1)) <|
   some (2 * a1)
theorem sX11_takes {G : GG} {Γ : Cx} {r : Vv × Wd} {sz : Nat} {sl : Nat} (a0 : Int) (a1 : Int) (td : TT) (c : CC) : Sm (fX11_takes a0 a1 td c) (fun x => r = ((0, x), (sz, sl, tt td, cv c))) (WP G Γ muX11_takes r 0 [some (2, a0), some (0, a1)] [] (sz, sl, tt td, cv c)) := by
  unfold fX11_takes
  refine s_iconst (pc := 0) dX11_takes_0 ?_
  refine s_iload_n (pc := 1) dX11_takes_1 rfl ?_
  refine s_imul (pc := 2) dX11_takes_2 ?_
  exact s_iret (pc := 3) dX11_takes_3 rfl (fun h => h)
theorem kX11_takes {G : GG} {sz : Nat} {sl : Nat} (a0 : Int) (a1 : Int) (td : TT) (c : CC) (x : Int) (h : fX11_takes a0 a1 td c = some x) : Ct G yX11_takes muX11_takes [(2, a0), (0, a1)] (sz, sl, tt td, cv c) ((0, x), (sz, sl, tt td, cv c)) :=
  Ct.of (n := 0) (ls0 := [some (2, a0), some (0, a1)]) (by decide) rfl rfl ⟨show (some .int : Option FieldType) ≠ some .float by decide, show (some .int : Option FieldType) ≠ some .double by decide⟩ (Nat.le_of_ble_eq_true rfl) rfl ⟨Nat.le_refl _, Nat.le_refl _⟩ (show (0 : Nat) ≠ 9 by decide) (fun Γ => sX11_takes a0 a1 td c x h rfl)
abbrev muX12_takes : MI := (cX12_takes, RX12, 2, some .int, 1, "takes")
noncomputable def fX12_takes (a0 : Int) (a1 : Int) (td : TT) (c : CC) : Option Int :=
  some 1
theorem sX12_takes {G : GG} {Γ : Cx} {r : Vv × Wd} {sz : Nat} {sl : Nat} (a0 : Int) (a1 : Int) (td : TT) (c : CC) : Sm (fX12_takes a0 a1 td c) (fun x => r = ((0, x), (sz, sl, tt td, cv c))) (WP G Γ muX12_takes r 0 [some (2, a0), some (0, a1)] [] (sz, sl, tt td, cv c)) := by
  unfold fX12_takes
  refine s_iconst (pc := 0) dX12_takes_0 ?_
  exact s_iret (pc := 1) dX12_takes_1 rfl (fun h => h)
theorem kX12_takes {G : GG} {sz : Nat} {sl : Nat} (a0 : Int) (a1 : Int) (td : TT) (c : CC) (x : Int) (h : fX12_takes a0 a1 td c = some x) : Ct G yX12_takes muX12_takes [(2, a0), (0, a1)] (sz, sl, tt td, cv c) ((0, x), (sz, sl, tt td, cv c)) :=
  Ct.of (n := 0) (ls0 := [some (2, a0), some (0, a1)]) (by decide) rfl rfl ⟨show (some .int : Option FieldType) ≠ some .float by decide, show (some .int : Option FieldType) ≠ some .double by decide⟩ (Nat.le_of_ble_eq_true rfl) rfl ⟨Nat.le_refl _, Nat.le_refl _⟩ (show (0 : Nat) ≠ 9 by decide) (fun Γ => sX12_takes a0 a1 td c x h rfl)
noncomputable def fV_takes (z : Int) (a1 : Int) (td : TT) (c : CC) : Option Int :=
  if 0 ≤ z then if (tt td (Int.toNat z)).1 = 6 then fX8_takes z a1 td c else if (tt td (Int.toNat z)).1 = 7 then fX9_takes z a1 td c else if (tt td (Int.toNat z)).1 = 8 then fX10_takes z a1 td c else if (tt td (Int.toNat z)).1 = 9 then fX11_takes z a1 td c else if (tt td (Int.toNat z)).1 = 10 then fX12_takes z a1 td c else none else none
theorem muX0_167_6 : MU RX0 167 RX8 (⟨"HeldTongue$Sense", "takes", "(I)I"⟩ : MethodName) yX8_takes muX8_takes 1 := ⟨"HeldTongue$Sense", fun R s args rm hts hP hR => va_cwA 1 hts (lw_U (ow := "HeldTongue$Sense") q859 q861 q871 q872 q141 q873) rfl rfl rfl (hP _ (PP.nwD q860)) (by decide +kernel) hR⟩
theorem muX0_167_7 : MU RX0 167 RX9 (⟨"HeldTongue$Sense", "takes", "(I)I"⟩ : MethodName) yX9_takes muX9_takes 1 := ⟨"HeldTongue$Sense", fun R s args rm hts hP hR => va_cwA 1 hts (lw_U (ow := "HeldTongue$Sense") q859 q861 q874 q875 q142 q876) rfl rfl rfl (hP _ (PP.nwD q860)) (by decide +kernel) hR⟩
theorem muX0_167_8 : MU RX0 167 RX10 (⟨"HeldTongue$Sense", "takes", "(I)I"⟩ : MethodName) yX10_takes muX10_takes 1 := ⟨"HeldTongue$Sense", fun R s args rm hts hP hR => va_cwA 1 hts (lw_U (ow := "HeldTongue$Sense") q859 q861 q868 q869 q143 q870) rfl rfl rfl (hP _ (PP.nwD q860)) (by decide +kernel) hR⟩
theorem muX0_167_9 : MU RX0 167 RX11 (⟨"HeldTongue$Sense", "takes", "(I)I"⟩ : MethodName) yX11_takes muX11_takes 1 := ⟨"HeldTongue$Sense", fun R s args rm hts hP hR => va_cwA 1 hts (lw_U (ow := "HeldTongue$Sense") q859 q861 q865 q866 q144 q867) rfl rfl rfl (hP _ (PP.nwD q860)) (by decide +kernel) hR⟩
theorem muX0_167_10 : MU RX0 167 RX12 (⟨"HeldTongue$Sense", "takes", "(I)I"⟩ : MethodName) yX12_takes muX12_takes 1 := ⟨"HeldTongue$Sense", fun R s args rm hts hP hR => va_cwA 1 hts (lw_U (ow := "HeldTongue$Sense") q859 q861 q862 q863 q145 q864) rfl rfl rfl (hP _ (PP.nwD q860)) (by decide +kernel) hR⟩
theorem vdX0_167 {G : GG} {sz sl : Nat} {dd : Nat} (z : Int) (a1 : Int) (td : TT) (c : CC) (b : Int) (h : fV_takes z a1 td c = some b) (hd : 1 + 1 ≤ dd) : ∃ (a ci N : Nat) (C : String) (y : MethodName) (μy : MI), ((sz, sl, tt td, cv c) : Wd).2.2.1 a = (ci, N) ∧ (kCl[ci]?.map (fun q => q.1)) = some C ∧ z = (a : Int) ∧ MU RX0 167 C (⟨"HeldTongue$Sense", "takes", "(I)I"⟩ : MethodName) y μy 1 ∧ μy.2.2.1 ≤ 45 ∧ μy.2.2.2.2.1 + 1 ≤ dd ∧ Ct G y μy ((2, z) :: [(0, a1)]) (sz, sl, tt td, cv c) ((0, b), (sz, sl, tt td, cv c)) := by
  unfold fV_takes at h
  by_cases h0 : 0 ≤ z
  · rw [if_pos h0] at h
    by_cases h6 : (tt td (Int.toNat z)).1 = 6
    · rw [if_pos h6] at h
      exact ⟨z.toNat, 6, _, _, _, _, dyn_t h6, rfl, dyn_z h0, muX0_167_6, by decide, Nat.le_trans (by decide) hd, kX8_takes z a1 td c b h⟩
    rw [if_neg h6] at h
    by_cases h7 : (tt td (Int.toNat z)).1 = 7
    · rw [if_pos h7] at h
      exact ⟨z.toNat, 7, _, _, _, _, dyn_t h7, rfl, dyn_z h0, muX0_167_7, by decide, Nat.le_trans (by decide) hd, kX9_takes z a1 td c b h⟩
    rw [if_neg h7] at h
    by_cases h8 : (tt td (Int.toNat z)).1 = 8
    · rw [if_pos h8] at h
      exact ⟨z.toNat, 8, _, _, _, _, dyn_t h8, rfl, dyn_z h0, muX0_167_8, by decide, Nat.le_trans (by decide) hd, kX10_takes z a1 td c b h⟩
    rw [if_neg h8] at h
    by_cases h9 : (tt td (Int.toNat z)).1 = 9
    · rw [if_pos h9] at h
      exact ⟨z.toNat, 9, _, _, _, _, dyn_t h9, rfl, dyn_z h0, muX0_167_9, by decide, Nat.le_trans (by decide) hd, kX11_takes z a1 td c b h⟩
    rw [if_neg h9] at h
    by_cases h10 : (tt td (Int.toNat z)).1 = 10
    · rw [if_pos h10] at h
      exact ⟨z.toNat, 10, _, _, _, _, dyn_t h10, rfl, dyn_z h0, muX0_167_10, by decide, Nat.le_trans (by decide) hd, kX12_takes z a1 td c b h⟩
    rw [if_neg h10] at h
    cases h
  · rw [if_neg h0] at h; cases h
abbrev muX8_kind : MI := (cX8_kind, RX8, 3, some .int, 1, "kind")
noncomputable def fX8_kind (a0 : Int) (a1 : Int) (a2 : Int) (td : TT) (c : CC) : Option Int :=
  some (-1)
theorem sX8_kind {G : GG} {Γ : Cx} {r : Vv × Wd} {sz : Nat} {sl : Nat} (a0 : Int) (a1 : Int) (a2 : Int) (td : TT) (c : CC) : Sm (fX8_kind a0 a1 a2 td c) (fun x => r = ((0, x), (sz, sl, tt td, cv c))) (WP G Γ muX8_kind r 0 [some (2, a0), some (0, a1), some (0, a2)] [] (sz, sl, tt td, cv c)) := by
  unfold fX8_kind
  refine s_iconst (pc := 0) dX8_kind_0 ?_
  exact s_iret (pc := 1) dX8_kind_1 rfl (fun h => h)
theorem kX8_kind {G : GG} {sz : Nat} {sl : Nat} (a0 : Int) (a1 : Int) (a2 : Int) (td : TT) (c : CC) (x : Int) (h : fX8_kind a0 a1 a2 td c = some x) : Ct G yX8_kind muX8_kind [(2, a0), (0, a1), (0, a2)] (sz, sl, tt td, cv c) ((0, x), (sz, sl, tt td, cv c)) :=
  Ct.of (n := 0) (ls0 := [some (2, a0), some (0, a1), some (0, a2)]) (by decide) rfl rfl ⟨show (some .int : Option FieldType) ≠ some .float by decide, show (some .int : Option FieldType) ≠ some .double by decide⟩ (Nat.le_of_ble_eq_true rfl) rfl ⟨Nat.le_refl _, Nat.le_refl _⟩ (show (0 : Nat) ≠ 9 by decide) (fun Γ => sX8_kind a0 a1 a2 td c x h rfl)
theorem flX9_15 : FL RX9 15 7 5 := ⟨_, _, _, cf7, by decide, q615⟩
theorem flX9_9 : FL RX9 9 7 4 := ⟨_, _, _, cf7, by decide, q614⟩
abbrev muX9_kind : MI := (cX9_kind, RX9, 3, some .int, 1, "kind")
noncomputable def fX9_kind (a0 : Int) (a1 : Int) (a2 : Int) (td : TT) (c : CC) : Option Int :=
  if a2 = 0 then
  (gd ((0 : Int) ≤ a0 ∧ (tt td (Int.toNat a0)).1 = 7) <|
   some (cv c (Int.toNat a0) 4))
  else
  (gd ((0 : Int) ≤ a0 ∧ (tt td (Int.toNat a0)).1 = 7) <|
   some (cv c (Int.toNat a0) 5))
theorem sX9_kind {G : GG} {Γ : Cx} {r : Vv × Wd} {sz : Nat} {sl : Nat} (a0 : Int) (a1 : Int) (a2 : Int) (td : TT) (c : CC) : Sm (fX9_kind a0 a1 a2 td c) (fun x => r = ((0, x), (sz, sl, tt td, cv c))) (WP G Γ muX9_kind r 0 [some (2, a0), some (0, a1), some (0, a2)] [] (sz, sl, tt td, cv c)) := by
  unfold fX9_kind
  refine s_iload_n (pc := 0) dX9_kind_0 rfl ?_
  refine s_if_ne (pc := 1) (tgt := 11) dX9_kind_1 rfl ?_ ?_
  · refine s_aload_n (pc := 11) dX9_kind_11 rfl ?_
    refine s_getD (pc := 12) flX9_15 rfl dX9_kind_12 ?_
    exact s_iret (pc := 15) dX9_kind_15 rfl (fun h => h)
  refine s_aload_n (pc := 4) dX9_kind_4 rfl ?_
  refine s_getD (pc := 5) flX9_9 rfl dX9_kind_5 ?_
  refine s_goto (pc := 8) (tgt := 15) dX9_kind_8 rfl ?_
  exact s_iret (pc := 15) dX9_kind_15 rfl (fun h => h)
theorem kX9_kind {G : GG} {sz : Nat} {sl : Nat} (a0 : Int) (a1 : Int) (a2 : Int) (td : TT) (c : CC) (x : Int) (h : fX9_kind a0 a1 a2 td c = some x) : Ct G yX9_kind muX9_kind [(2, a0), (0, a1), (0, a2)] (sz, sl, tt td, cv c) ((0, x), (sz, sl, tt td, cv c)) :=
  Ct.of (n := 0) (ls0 := [some (2, a0), some (0, a1), some (0, a2)]) (by decide) rfl rfl ⟨show (some .int : Option FieldType) ≠ some .float by decide, show (some .int : Option FieldType) ≠ some .double by decide⟩ (Nat.le_of_ble_eq_true rfl) rfl ⟨Nat.le_refl _, Nat.le_refl _⟩ (show (0 : Nat) ≠ 9 by decide) (fun Γ => sX9_kind a0 a1 a2 td c x h rfl)
theorem flX10_9 : FL RX10 9 8 4 := ⟨_, _, _, cf8, by decide, q634⟩
abbrev muX10_kind : MI := (cX10_kind, RX10, 3, some .int, 1, "kind")
noncomputable def fX10_kind (a0 : Int) (a1 : Int) (a2 : Int) (td : TT) (c : CC) : Option Int :=
  gd ((0 : Int) ≤ a0 ∧ (tt td (Int.toNat a0)).1 = 8) <|
   some (cv c (Int.toNat a0) 4)
theorem sX10_kind {G : GG} {Γ : Cx} {r : Vv × Wd} {sz : Nat} {sl : Nat} (a0 : Int) (a1 : Int) (a2 : Int) (td : TT) (c : CC) : Sm (fX10_kind a0 a1 a2 td c) (fun x => r = ((0, x), (sz, sl, tt td, cv c))) (WP G Γ muX10_kind r 0 [some (2, a0), some (0, a1), some (0, a2)] [] (sz, sl, tt td, cv c)) := by
  unfold fX10_kind
  refine s_aload_n (pc := 0) dX10_kind_0 rfl ?_
  refine s_getD (pc := 1) flX10_9 rfl dX10_kind_1 ?_
  exact s_iret (pc := 4) dX10_kind_4 rfl (fun h => h)
theorem kX10_kind {G : GG} {sz : Nat} {sl : Nat} (a0 : Int) (a1 : Int) (a2 : Int) (td : TT) (c : CC) (x : Int) (h : fX10_kind a0 a1 a2 td c = some x) : Ct G yX10_kind muX10_kind [(2, a0), (0, a1), (0, a2)] (sz, sl, tt td, cv c) ((0, x), (sz, sl, tt td, cv c)) :=
  Ct.of (n := 0) (ls0 := [some (2, a0), some (0, a1), some (0, a2)]) (by decide) rfl rfl ⟨show (some .int : Option FieldType) ≠ some .float by decide, show (some .int : Option FieldType) ≠ some .double by decide⟩ (Nat.le_of_ble_eq_true rfl) rfl ⟨Nat.le_refl _, Nat.le_refl _⟩ (show (0 : Nat) ≠ 9 by decide) (fun Γ => sX10_kind a0 a1 a2 td c x h rfl)
theorem flX11_15 : FL RX11 15 9 5 := ⟨_, _, _, cf9, by decide, q649⟩
theorem flX11_9 : FL RX11 9 9 4 := ⟨_, _, _, cf9, by decide, q648⟩
abbrev muX11_kind : MI := (cX11_kind, RX11, 3, some .int, 1, "kind")
noncomputable def fX11_kind (a0 : Int) (a1 : Int) (a2 : Int) (td : TT) (c : CC) : Option Int :=
  if a2 < a1 then
  (gd ((0 : Int) ≤ a0 ∧ (tt td (Int.toNat a0)).1 = 9) <|
   some (cv c (Int.toNat a0) 4))
  else
  (gd ((0 : Int) ≤ a0 ∧ (tt td (Int.toNat a0)).1 = 9) <|
   some (cv c (Int.toNat a0) 5))
theorem sX11_kind {G : GG} {Γ : Cx} {r : Vv × Wd} {sz : Nat} {sl : Nat} (a0 : Int) (a1 : Int) (a2 : Int) (td : TT) (c : CC) : Sm (fX11_kind a0 a1 a2 td c) (fun x => r = ((0, x), (sz, sl, tt td, cv c))) (WP G Γ muX11_kind r 0 [some (2, a0), some (0, a1), some (0, a2)] [] (sz, sl, tt td, cv c)) := by
  unfold fX11_kind
  refine s_iload_n (pc := 0) dX11_kind_0 rfl ?_
  refine s_iload_n (pc := 1) dX11_kind_1 rfl ?_
  refine s_icmp_ge (pc := 2) (tgt := 12) dX11_kind_2 rfl ?_ ?_
  · refine s_aload_n (pc := 12) dX11_kind_12 rfl ?_
    refine s_getD (pc := 13) flX11_15 rfl dX11_kind_13 ?_
    exact s_iret (pc := 16) dX11_kind_16 rfl (fun h => h)
  refine s_aload_n (pc := 5) dX11_kind_5 rfl ?_
  refine s_getD (pc := 6) flX11_9 rfl dX11_kind_6 ?_
  refine s_goto (pc := 9) (tgt := 16) dX11_kind_9 rfl ?_
  exact s_iret (pc := 16) dX11_kind_16 rfl (fun h => h)
theorem kX11_kind {G : GG} {sz : Nat} {sl : Nat} (a0 : Int) (a1 : Int) (a2 : Int) (td : TT) (c : CC) (x : Int) (h : fX11_kind a0 a1 a2 td c = some x) : Ct G yX11_kind muX11_kind [(2, a0), (0, a1), (0, a2)] (sz, sl, tt td, cv c) ((0, x), (sz, sl, tt td, cv c)) :=
  Ct.of (n := 0) (ls0 := [some (2, a0), some (0, a1), some (0, a2)]) (by decide) rfl rfl ⟨show (some .int : Option FieldType) ≠ some .float by decide, show (some .int : Option FieldType) ≠ some .double by decide⟩ (Nat.le_of_ble_eq_true rfl) rfl ⟨Nat.le_refl _, Nat.le_refl _⟩ (show (0 : Nat) ≠ 9 by decide) (fun Γ => sX11_kind a0 a1 a2 td c x h rfl)
theorem flX12_9 : FL RX12 9 10 4 := ⟨_, _, _, cf10, by decide, q665⟩
abbrev muX12_kind : MI := (cX12_kind, RX12, 3, some .int, 1, "kind")
noncomputable def fX12_kind (a0 : Int) (a1 : Int) (a2 : Int) (td : TT) (c : CC) : Option Int :=
  gd ((0 : Int) ≤ a0 ∧ (tt td (Int.toNat a0)).1 = 10) <|
   some (cv c (Int.toNat a0) 4)
theorem sX12_kind {G : GG} {Γ : Cx} {r : Vv × Wd} {sz : Nat} {sl : Nat} (a0 : Int) (a1 : Int) (a2 : Int) (td : TT) (c : CC) : Sm (fX12_kind a0 a1 a2 td c) (fun x => r = ((0, x), (sz, sl, tt td, cv c))) (WP G Γ muX12_kind r 0 [some (2, a0), some (0, a1), some (0, a2)] [] (sz, sl, tt td, cv c)) := by
  unfold fX12_kind
  refine s_aload_n (pc := 0) dX12_kind_0 rfl ?_
  refine s_getD (pc := 1) flX12_9 rfl dX12_kind_1 ?_
  exact s_iret (pc := 4) dX12_kind_4 rfl (fun h => h)
theorem kX12_kind {G : GG} {sz : Nat} {sl : Nat} (a0 : Int) (a1 : Int) (a2 : Int) (td : TT) (c : CC) (x : Int) (h : fX12_kind a0 a1 a2 td c = some x) : Ct G yX12_kind muX12_kind [(2, a0), (0, a1), (0, a2)] (sz, sl, tt td, cv c) ((0, x), (sz, sl, tt td, cv c)) :=
  Ct.of (n := 0) (ls0 := [some (2, a0), some (0, a1), some (0, a2)]) (by decide) rfl rfl ⟨show (some .int : Option FieldType) ≠ some .float by decide, show (some .int : Option FieldType) ≠ some .double by decide⟩ (Nat.le_of_ble_eq_true rfl) rfl ⟨Nat.le_refl _, Nat.le_refl _⟩ (show (0 : Nat) ≠ 9 by decide) (fun Γ => sX12_kind a0 a1 a2 td c x h rfl)
noncomputable def fV_kind (z : Int) (a1 : Int) (a2 : Int) (td : TT) (c : CC) : Option Int :=
  if 0 ≤ z then if (tt td (Int.toNat z)).1 = 6 then fX8_kind z a1 a2 td c else if (tt td (Int.toNat z)).1 = 7 then fX9_kind z a1 a2 td c else if (tt td (Int.toNat z)).1 = 8 then fX10_kind z a1 a2 td c else if (tt td (Int.toNat z)).1 = 9 then fX11_kind z a1 a2 td c else if (tt td (Int.toNat z)).1 = 10 then fX12_kind z a1 a2 td c else none else none
theorem muX0_175_6 : MU RX0 175 RX8 (⟨"HeldTongue$Sense", "kind", "(II)I"⟩ : MethodName) yX8_kind muX8_kind 2 := ⟨"HeldTongue$Sense", fun R s args rm hts hP hR => va_cwA 2 hts (lw_U (ow := "HeldTongue$Sense") q881 q883 q893 q894 q141 q895) rfl rfl rfl (hP _ (PP.nwD q882)) (by decide +kernel) hR⟩
theorem muX0_175_7 : MU RX0 175 RX9 (⟨"HeldTongue$Sense", "kind", "(II)I"⟩ : MethodName) yX9_kind muX9_kind 2 := ⟨"HeldTongue$Sense", fun R s args rm hts hP hR => va_cwA 2 hts (lw_U (ow := "HeldTongue$Sense") q881 q883 q896 q897 q142 q898) rfl rfl rfl (hP _ (PP.nwD q882)) (by decide +kernel) hR⟩
theorem muX0_175_8 : MU RX0 175 RX10 (⟨"HeldTongue$Sense", "kind", "(II)I"⟩ : MethodName) yX10_kind muX10_kind 2 := ⟨"HeldTongue$Sense", fun R s args rm hts hP hR => va_cwA 2 hts (lw_U (ow := "HeldTongue$Sense") q881 q883 q890 q891 q143 q892) rfl rfl rfl (hP _ (PP.nwD q882)) (by decide +kernel) hR⟩
theorem muX0_175_9 : MU RX0 175 RX11 (⟨"HeldTongue$Sense", "kind", "(II)I"⟩ : MethodName) yX11_kind muX11_kind 2 := ⟨"HeldTongue$Sense", fun R s args rm hts hP hR => va_cwA 2 hts (lw_U (ow := "HeldTongue$Sense") q881 q883 q887 q888 q144 q889) rfl rfl rfl (hP _ (PP.nwD q882)) (by decide +kernel) hR⟩
theorem muX0_175_10 : MU RX0 175 RX12 (⟨"HeldTongue$Sense", "kind", "(II)I"⟩ : MethodName) yX12_kind muX12_kind 2 := ⟨"HeldTongue$Sense", fun R s args rm hts hP hR => va_cwA 2 hts (lw_U (ow := "HeldTongue$Sense") q881 q883 q884 q885 q145 q886) rfl rfl rfl (hP _ (PP.nwD q882)) (by decide +kernel) hR⟩
theorem vdX0_175 {G : GG} {sz sl : Nat} {dd : Nat} (z : Int) (a1 : Int) (a2 : Int) (td : TT) (c : CC) (b : Int) (h : fV_kind z a1 a2 td c = some b) (hd : 1 + 1 ≤ dd) : ∃ (a ci N : Nat) (C : String) (y : MethodName) (μy : MI), ((sz, sl, tt td, cv c) : Wd).2.2.1 a = (ci, N) ∧ (kCl[ci]?.map (fun q => q.1)) = some C ∧ z = (a : Int) ∧ MU RX0 175 C (⟨"HeldTongue$Sense", "kind", "(II)I"⟩ : MethodName) y μy 2 ∧ μy.2.2.1 ≤ 45 ∧ μy.2.2.2.2.1 + 1 ≤ dd ∧ Ct G y μy ((2, z) :: [(0, a1), (0, a2)]) (sz, sl, tt td, cv c) ((0, b), (sz, sl, tt td, cv c)) := by
  unfold fV_kind at h
  by_cases h0 : 0 ≤ z
  · rw [if_pos h0] at h
    by_cases h6 : (tt td (Int.toNat z)).1 = 6
    · rw [if_pos h6] at h
      exact ⟨z.toNat, 6, _, _, _, _, dyn_t h6, rfl, dyn_z h0, muX0_175_6, by decide, Nat.le_trans (by decide) hd, kX8_kind z a1 a2 td c b h⟩
    rw [if_neg h6] at h
    by_cases h7 : (tt td (Int.toNat z)).1 = 7
    · rw [if_pos h7] at h
      exact ⟨z.toNat, 7, _, _, _, _, dyn_t h7, rfl, dyn_z h0, muX0_175_7, by decide, Nat.le_trans (by decide) hd, kX9_kind z a1 a2 td c b h⟩
    rw [if_neg h7] at h
    by_cases h8 : (tt td (Int.toNat z)).1 = 8
    · rw [if_pos h8] at h
      exact ⟨z.toNat, 8, _, _, _, _, dyn_t h8, rfl, dyn_z h0, muX0_175_8, by decide, Nat.le_trans (by decide) hd, kX10_kind z a1 a2 td c b h⟩
    rw [if_neg h8] at h
    by_cases h9 : (tt td (Int.toNat z)).1 = 9
    · rw [if_pos h9] at h
      exact ⟨z.toNat, 9, _, _, _, _, dyn_t h9, rfl, dyn_z h0, muX0_175_9, by decide, Nat.le_trans (by decide) hd, kX11_kind z a1 a2 td c b h⟩
    rw [if_neg h9] at h
    by_cases h10 : (tt td (Int.toNat z)).1 = 10
    · rw [if_pos h10] at h
      exact ⟨z.toNat, 10, _, _, _, _, dyn_t h10, rfl, dyn_z h0, muX0_175_10, by decide, Nat.le_trans (by decide) hd, kX12_kind z a1 a2 td c b h⟩
    rw [if_neg h10] at h
    cases h
  · rw [if_neg h0] at h; cases h
abbrev muX8_sort : MI := (cX8_sort, RX8, 1, some .int, 1, "sort")
noncomputable def fX8_sort (a0 : Int) (td : TT) (c : CC) : Option Int :=
  some 0
theorem sX8_sort {G : GG} {Γ : Cx} {r : Vv × Wd} {sz : Nat} {sl : Nat} (a0 : Int) (td : TT) (c : CC) : Sm (fX8_sort a0 td c) (fun x => r = ((0, x), (sz, sl, tt td, cv c))) (WP G Γ muX8_sort r 0 [some (2, a0)] [] (sz, sl, tt td, cv c)) := by
  unfold fX8_sort
  refine s_iconst (pc := 0) dX8_sort_0 ?_
  exact s_iret (pc := 1) dX8_sort_1 rfl (fun h => h)
theorem kX8_sort {G : GG} {sz : Nat} {sl : Nat} (a0 : Int) (td : TT) (c : CC) (x : Int) (h : fX8_sort a0 td c = some x) : Ct G yX8_sort muX8_sort [(2, a0)] (sz, sl, tt td, cv c) ((0, x), (sz, sl, tt td, cv c)) :=
  Ct.of (n := 0) (ls0 := [some (2, a0)]) (by decide) rfl rfl ⟨show (some .int : Option FieldType) ≠ some .float by decide, show (some .int : Option FieldType) ≠ some .double by decide⟩ (Nat.le_of_ble_eq_true rfl) rfl ⟨Nat.le_refl _, Nat.le_refl _⟩ (show (0 : Nat) ≠ 9 by decide) (fun Γ => sX8_sort a0 td c x h rfl)
abbrev muX9_sort : MI := (cX9_sort, RX9, 1, some .int, 1, "sort")
noncomputable def fX9_sort (a0 : Int) (td : TT) (c : CC) : Option Int :=
  some 1
theorem sX9_sort {G : GG} {Γ : Cx} {r : Vv × Wd} {sz : Nat} {sl : Nat} (a0 : Int) (td : TT) (c : CC) : Sm (fX9_sort a0 td c) (fun x => r = ((0, x), (sz, sl, tt td, cv c))) (WP G Γ muX9_sort r 0 [some (2, a0)] [] (sz, sl, tt td, cv c)) := by
  unfold fX9_sort
  refine s_iconst (pc := 0) dX9_sort_0 ?_
  exact s_iret (pc := 1) dX9_sort_1 rfl (fun h => h)
theorem kX9_sort {G : GG} {sz : Nat} {sl : Nat} (a0 : Int) (td : TT) (c : CC) (x : Int) (h : fX9_sort a0 td c = some x) : Ct G yX9_sort muX9_sort [(2, a0)] (sz, sl, tt td, cv c) ((0, x), (sz, sl, tt td, cv c)) :=
  Ct.of (n := 0) (ls0 := [some (2, a0)]) (by decide) rfl rfl ⟨show (some .int : Option FieldType) ≠ some .float by decide, show (some .int : Option FieldType) ≠ some .double by decide⟩ (Nat.le_of_ble_eq_true rfl) rfl ⟨Nat.le_refl _, Nat.le_refl _⟩ (show (0 : Nat) ≠ 9 by decide) (fun Γ => sX9_sort a0 td c x h rfl)
abbrev muX10_sort : MI := (cX10_sort, RX10, 1, some .int, 1, "sort")
noncomputable def fX10_sort (a0 : Int) (td : TT) (c : CC) : Option Int :=
  some 2
theorem sX10_sort {G : GG} {Γ : Cx} {r : Vv × Wd} {sz : Nat} {sl : Nat} (a0 : Int) (td : TT) (c : CC) : Sm (fX10_sort a0 td c) (fun x => r = ((0, x), (sz, sl, tt td, cv c))) (WP G Γ muX10_sort r 0 [some (2, a0)] [] (sz, sl, tt td, cv c)) := by
  unfold fX10_sort
  refine s_iconst (pc := 0) dX10_sort_0 ?_
  exact s_iret (pc := 1) dX10_sort_1 rfl (fun h => h)
theorem kX10_sort {G : GG} {sz : Nat} {sl : Nat} (a0 : Int) (td : TT) (c : CC) (x : Int) (h : fX10_sort a0 td c = some x) : Ct G yX10_sort muX10_sort [(2, a0)] (sz, sl, tt td, cv c) ((0, x), (sz, sl, tt td, cv c)) :=
  Ct.of (n := 0) (ls0 := [some (2, a0)]) (by decide) rfl rfl ⟨show (some .int : Option FieldType) ≠ some .float by decide, show (some .int : Option FieldType) ≠ some .double by decide⟩ (Nat.le_of_ble_eq_true rfl) rfl ⟨Nat.le_refl _, Nat.le_refl _⟩ (show (0 : Nat) ≠ 9 by decide) (fun Γ => sX10_sort a0 td c x h rfl)
abbrev muX11_sort : MI := (cX11_sort, RX11, 1, some .int, 1, "sort")
noncomputable def fX11_sort (a0 : Int) (td : TT) (c : CC) : Option Int :=
  some 3
theorem sX11_sort {G : GG} {Γ : Cx} {r : Vv × Wd} {sz : Nat} {sl : Nat} (a0 : Int) (td : TT) (c : CC) : Sm (fX11_sort a0 td c) (fun x => r = ((0, x), (sz, sl, tt td, cv c))) (WP G Γ muX11_sort r 0 [some (2, a0)] [] (sz, sl, tt td, cv c)) := by
  unfold fX11_sort
  refine s_iconst (pc := 0) dX11_sort_0 ?_
  exact s_iret (pc := 1) dX11_sort_1 rfl (fun h => h)
theorem kX11_sort {G : GG} {sz : Nat} {sl : Nat} (a0 : Int) (td : TT) (c : CC) (x : Int) (h : fX11_sort a0 td c = some x) : Ct G yX11_sort muX11_sort [(2, a0)] (sz, sl, tt td, cv c) ((0, x), (sz, sl, tt td, cv c)) :=
  Ct.of (n := 0) (ls0 := [some (2, a0)]) (by decide) rfl rfl ⟨show (some .int : Option FieldType) ≠ some .float by decide, show (some .int : Option FieldType) ≠ some .double by decide⟩ (Nat.le_of_ble_eq_true rfl) rfl ⟨Nat.le_refl _, Nat.le_refl _⟩ (show (0 : Nat) ≠ 9 by decide) (fun Γ => sX11_sort a0 td c x h rfl)
abbrev muX12_sort : MI := (cX12_sort, RX12, 1, some .int, 1, "sort")
noncomputable def fX12_sort (a0 : Int) (td : TT) (c : CC) : Option Int :=
  some (-1)
theorem sX12_sort {G : GG} {Γ : Cx} {r : Vv × Wd} {sz : Nat} {sl : Nat} (a0 : Int) (td : TT) (c : CC) : Sm (fX12_sort a0 td c) (fun x => r = ((0, x), (sz, sl, tt td, cv c))) (WP G Γ muX12_sort r 0 [some (2, a0)] [] (sz, sl, tt td, cv c)) := by
  unfold fX12_sort
  refine s_iconst (pc := 0) dX12_sort_0 ?_
  exact s_iret (pc := 1) dX12_sort_1 rfl (fun h => h)
theorem kX12_sort {G : GG} {sz : Nat} {sl : Nat} (a0 : Int) (td : TT) (c : CC) (x : Int) (h : fX12_sort a0 td c = some x) : Ct G yX12_sort muX12_sort [(2, a0)] (sz, sl, tt td, cv c) ((0, x), (sz, sl, tt td, cv c)) :=
  Ct.of (n := 0) (ls0 := [some (2, a0)]) (by decide) rfl rfl ⟨show (some .int : Option FieldType) ≠ some .float by decide, show (some .int : Option FieldType) ≠ some .double by decide⟩ (Nat.le_of_ble_eq_true rfl) rfl ⟨Nat.le_refl _, Nat.le_refl _⟩ (show (0 : Nat) ≠ 9 by decide) (fun Γ => sX12_sort a0 td c x h rfl)
noncomputable def fV_sort (z : Int)  (td : TT) (c : CC) : Option Int :=
  if 0 ≤ z then if (tt td (Int.toNat z)).1 = 6 then fX8_sort z  td c else if (tt td (Int.toNat z)).1 = 7 then fX9_sort z  td c else if (tt td (Int.toNat z)).1 = 8 then fX10_sort z  td c else if (tt td (Int.toNat z)).1 = 9 then fX11_sort z  td c else if (tt td (Int.toNat z)).1 = 10 then fX12_sort z  td c else none else none
theorem muX0_178_6 : MU RX0 178 RX8 (⟨"HeldTongue$Sense", "sort", "()I"⟩ : MethodName) yX8_sort muX8_sort 0 := ⟨"HeldTongue$Sense", fun R s args rm hts hP hR => va_cwA 0 hts (lw_U (ow := "HeldTongue$Sense") q899 q901 q911 q912 q141 q913) rfl rfl rfl (hP _ (PP.nwD q900)) (by decide +kernel) hR⟩
theorem muX0_178_7 : MU RX0 178 RX9 (⟨"HeldTongue$Sense", "sort", "()I"⟩ : MethodName) yX9_sort muX9_sort 0 := ⟨"HeldTongue$Sense", fun R s args rm hts hP hR => va_cwA 0 hts (lw_U (ow := "HeldTongue$Sense") q899 q901 q914 q915 q142 q916) rfl rfl rfl (hP _ (PP.nwD q900)) (by decide +kernel) hR⟩
theorem muX0_178_8 : MU RX0 178 RX10 (⟨"HeldTongue$Sense", "sort", "()I"⟩ : MethodName) yX10_sort muX10_sort 0 := ⟨"HeldTongue$Sense", fun R s args rm hts hP hR => va_cwA 0 hts (lw_U (ow := "HeldTongue$Sense") q899 q901 q908 q909 q143 q910) rfl rfl rfl (hP _ (PP.nwD q900)) (by decide +kernel) hR⟩
theorem muX0_178_9 : MU RX0 178 RX11 (⟨"HeldTongue$Sense", "sort", "()I"⟩ : MethodName) yX11_sort muX11_sort 0 := ⟨"HeldTongue$Sense", fun R s args rm hts hP hR => va_cwA 0 hts (lw_U (ow := "HeldTongue$Sense") q899 q901 q905 q906 q144 q907) rfl rfl rfl (hP _ (PP.nwD q900)) (by decide +kernel) hR⟩
theorem muX0_178_10 : MU RX0 178 RX12 (⟨"HeldTongue$Sense", "sort", "()I"⟩ : MethodName) yX12_sort muX12_sort 0 := ⟨"HeldTongue$Sense", fun R s args rm hts hP hR => va_cwA 0 hts (lw_U (ow := "HeldTongue$Sense") q899 q901 q902 q903 q145 q904) rfl rfl rfl (hP _ (PP.nwD q900)) (by decide +kernel) hR⟩
theorem vdX0_178 {G : GG} {sz sl : Nat} {dd : Nat} (z : Int)  (td : TT) (c : CC) (b : Int) (h : fV_sort z  td c = some b) (hd : 1 + 1 ≤ dd) : ∃ (a ci N : Nat) (C : String) (y : MethodName) (μy : MI), ((sz, sl, tt td, cv c) : Wd).2.2.1 a = (ci, N) ∧ (kCl[ci]?.map (fun q => q.1)) = some C ∧ z = (a : Int) ∧ MU RX0 178 C (⟨"HeldTongue$Sense", "sort", "()I"⟩ : MethodName) y μy 0 ∧ μy.2.2.1 ≤ 45 ∧ μy.2.2.2.2.1 + 1 ≤ dd ∧ Ct G y μy ((2, z) :: []) (sz, sl, tt td, cv c) ((0, b), (sz, sl, tt td, cv c)) := by
  unfold fV_sort at h
  by_cases h0 : 0 ≤ z
  · rw [if_pos h0] at h
    by_cases h6 : (tt td (Int.toNat z)).1 = 6
    · rw [if_pos h6] at h
      exact ⟨z.toNat, 6, _, _, _, _, dyn_t h6, rfl, dyn_z h0, muX0_178_6, by decide, Nat.le_trans (by decide) hd, kX8_sort z  td c b h⟩
    rw [if_neg h6] at h
    by_cases h7 : (tt td (Int.toNat z)).1 = 7
    · rw [if_pos h7] at h
      exact ⟨z.toNat, 7, _, _, _, _, dyn_t h7, rfl, dyn_z h0, muX0_178_7, by decide, Nat.le_trans (by decide) hd, kX9_sort z  td c b h⟩
    rw [if_neg h7] at h
    by_cases h8 : (tt td (Int.toNat z)).1 = 8
    · rw [if_pos h8] at h
      exact ⟨z.toNat, 8, _, _, _, _, dyn_t h8, rfl, dyn_z h0, muX0_178_8, by decide, Nat.le_trans (by decide) hd, kX10_sort z  td c b h⟩
    rw [if_neg h8] at h
    by_cases h9 : (tt td (Int.toNat z)).1 = 9
    · rw [if_pos h9] at h
      exact ⟨z.toNat, 9, _, _, _, _, dyn_t h9, rfl, dyn_z h0, muX0_178_9, by decide, Nat.le_trans (by decide) hd, kX11_sort z  td c b h⟩
    rw [if_neg h9] at h
    by_cases h10 : (tt td (Int.toNat z)).1 = 10
    · rw [if_pos h10] at h
      exact ⟨z.toNat, 10, _, _, _, _, dyn_t h10, rfl, dyn_z h0, muX0_178_10, by decide, Nat.le_trans (by decide) hd, kX12_sort z  td c b h⟩
    rw [if_neg h10] at h
    cases h
  · rw [if_neg h0] at h; cases h
theorem flX0_51 : FL RX0 51 0 16 := ⟨_, _, _, cf0, by decide, q229⟩
theorem flX0_55 : FL RX0 55 0 17 := ⟨_, _, _, cf0, by decide, q230⟩
theorem msX0_182 : MS RX0 182 yX0_rowAt muX0_rowAt 4 := ⟨lw_S q917 q918 q125 q919, by decide +kernel, by decide⟩
abbrev muX0_add_53_54_54 : MI := (cX0_add, RX0, 12, none, 1, "add")
abbrev gX0_add_53_54_54_l28 (G : GG) (Γ : Cx) (r : Vv × Wd) (sz sl : Nat) (td : TT) (c : CC) (v1 : Int) (v3 : Int) (v5 : Int) (v6 : Int) : (Int × Int × CC) → Prop := fun s => WP G Γ muX0_add_53_54_54 r 28 [some (2, 53), some (0, v1), some (2, 54), some (0, v3), some (2, 54), some (0, v5), some (0, v6), some (1, s.1), none, some (0, s.2.1), none, none] [] (sz, sl, tt td, cv s.2.2)
abbrev eX0_add_53_54_54_l28 (G : GG) (Γ : Cx) (r : Vv × Wd) (sz sl : Nat) (td : TT) (c : CC) (v1 : Int) (v3 : Int) (v5 : Int) (v6 : Int) : (CC) → Prop := (fun s => WP G Γ muX0_add_53_54_54 r 101 [some (2, 53), some (0, v1), some (2, 54), some (0, v3), some (2, 54), some (0, v5), some (0, v6), none, none, none, none, none] [] (sz, sl, tt td, cv s))
noncomputable def fX0_add_53_54_54_l28 (v1 : Int) (v3 : Int) (v5 : Int) (v6 : Int) (v7 : Int) (v9 : Int) (c : CC) : Option ((Int × Int × CC) ⊕ (CC)) :=
  gd (inR (v6 + v9)) <|
   if v6 + v9 < 7 then
  (gd (inR (v1 + v6)) <|
   gd (inR ((v1 + v6) + v9)) <|
   gd ((0 : Int) ≤ (v1 + v6) + v9 ∧ (v1 + v6) + v9 < 16800) <|
   gd (inL ((c 53 (Int.toNat ((v1 + v6) + v9))) + v7)) <|
   gd (inR (v3 + v6)) <|
   gd ((0 : Int) ≤ v3 + v6 ∧ v3 + v6 < 84000) <|
   gd (inR (v5 + v9)) <|
   gd ((0 : Int) ≤ v5 + v9 ∧ v5 + v9 < 84000) <|
   gd (inL ((c 54 (Int.toNat (v3 + v6))) * (c 54 (Int.toNat (v5 + v9))))) <|
   gd (inL (((c 53 (Int.toNat ((v1 + v6) + v9))) + v7) + ((c 54 (Int.toNat (v3 + v6))) * (c 54 (Int.toNat (v5 + v9)))))) <|
   bd (((c 53 (Int.toNat ((v1 + v6) + v9))) + v7) + ((c 54 (Int.toNat (v3 + v6))) * (c 54 (Int.toNat (v5 + v9))))) fun v10_1 =>
   gd (inR (v1 + v6)) <|
   gd (inR ((v1 + v6) + v9)) <|
   gd ((1000000000 : Int) ≠ 0 ∧ inL (Int.tmod v10_1 1000000000)) <|
   gd (inR (Int.tmod v10_1 1000000000)) <|
   gd ((0 : Int) ≤ (v1 + v6) + v9 ∧ (v1 + v6) + v9 < 16800) <| bd (up2 c 53 (Int.toNat ((v1 + v6) + v9)) (Int.tmod v10_1 1000000000)) fun c_2 =>
   gd ((1000000000 : Int) ≠ 0 ∧ inL (Int.tdiv v10_1 1000000000)) <|
   bd (Int.tdiv v10_1 1000000000) fun v7_3 =>
   gd (inR (v9 + 1)) <| bd (v9 + 1) fun v9_4 =>
   some (.inl (v7_3, v9_4, c_2)))
  else
  (some (.inr c))
theorem sX0_add_53_54_54_l28 {G : GG} {Γ : Cx} {r : Vv × Wd} {sz : Nat} {sl : Nat} {td : TT} (v1 : Int) (v3 : Int) (v5 : Int) (v6 : Int) (v7 : Int) (v9 : Int) (c : CC) : Sm (fX0_add_53_54_54_l28 v1 v3 v5 v6 v7 v9 c) (fun x => Sum.elim (gX0_add_53_54_54_l28 G Γ r sz sl td c v1 v3 v5 v6) (eX0_add_53_54_54_l28 G Γ r sz sl td c v1 v3 v5 v6) x) (gX0_add_53_54_54_l28 G Γ r sz sl td c v1 v3 v5 v6 (v7, v9, c)) := by
  show Sm _ _ (WP G Γ muX0_add_53_54_54 r 28 [some (2, 53), some (0, v1), some (2, 54), some (0, v3), some (2, 54), some (0, v5), some (0, v6), some (1, v7), none, some (0, v9), none, none] [] (sz, sl, tt td, cv c))
  unfold fX0_add_53_54_54_l28
  refine s_iload (pc := 28) dX0_add_28 rfl ?_
  refine s_iload (pc := 30) dX0_add_30 rfl ?_
  refine s_iadd (pc := 32) dX0_add_32 ?_
  refine s_bipush (pc := 33) dX0_add_33 ?_
  refine s_icmp_ge (pc := 35) (tgt := 101) dX0_add_35 rfl ?_ ?_
  · refine s_wk [true, true, true, true, true, true, true, false, true, false, true, true] (ls' := [some (2, 53), some (0, v1), some (2, 54), some (0, v3), some (2, 54), some (0, v5), some (0, v6), none, none, none, none, none]) rfl ?_
    exact Sm.some (fun h => h)
  refine s_aload_n (pc := 38) dX0_add_38 rfl ?_
  refine s_iload_n (pc := 39) dX0_add_39 rfl ?_
  refine s_iload (pc := 40) dX0_add_40 rfl ?_
  refine s_iadd (pc := 42) dX0_add_42 ?_
  refine s_iload (pc := 43) dX0_add_43 rfl ?_
  refine s_iadd (pc := 45) dX0_add_45 ?_
  refine s_ialdM (pc := 46) (a := 53) (t_53 _) rfl r_53 dX0_add_46 ?_
  refine s_i2l (pc := 47) dX0_add_47 ?_
  refine s_lload (pc := 48) dX0_add_48 rfl ?_
  refine s_ladd (pc := 50) dX0_add_50 ?_
  refine s_aload_n (pc := 51) dX0_add_51 rfl ?_
  refine s_iload_n (pc := 52) dX0_add_52 rfl ?_
  refine s_iload (pc := 53) dX0_add_53 rfl ?_
  refine s_iadd (pc := 55) dX0_add_55 ?_
  refine s_ialdM (pc := 56) (a := 54) (t_54 _) rfl r_54 dX0_add_56 ?_
  refine s_i2l (pc := 57) dX0_add_57 ?_
  refine s_aload (pc := 58) dX0_add_58 rfl ?_
  refine s_iload (pc := 60) dX0_add_60 rfl ?_
  refine s_iload (pc := 62) dX0_add_62 rfl ?_
  refine s_iadd (pc := 64) dX0_add_64 ?_
  refine s_ialdM (pc := 65) (a := 54) (t_54 _) rfl r_54 dX0_add_65 ?_
  refine s_i2l (pc := 66) dX0_add_66 ?_
  refine s_lmul (pc := 67) dX0_add_67 ?_
  refine s_ladd (pc := 68) dX0_add_68 ?_
  refine s_lstore (pc := 69) (lf := fun x => [some (2, 53), some (0, v1), some (2, 54), some (0, v3), some (2, 54), some (0, v5), some (0, v6), some (1, v7), none, some (0, v9), some (1, x), none]) dX0_add_69 (fun _ => rfl) (Nat.le_of_ble_eq_true rfl) (fun v10_1 => ?_)
  refine s_aload_n (pc := 71) dX0_add_71 rfl ?_
  refine s_iload_n (pc := 72) dX0_add_72 rfl ?_
  refine s_iload (pc := 73) dX0_add_73 rfl ?_
  refine s_iadd (pc := 75) dX0_add_75 ?_
  refine s_iload (pc := 76) dX0_add_76 rfl ?_
  refine s_iadd (pc := 78) dX0_add_78 ?_
  refine s_lload (pc := 79) dX0_add_79 rfl ?_
  refine s_ldc2 (pc := 81) (z := 1000000000) q880 dX0_add_81 ?_
  refine s_lrem (pc := 84) dX0_add_84 ?_
  refine s_l2i (pc := 85) dX0_add_85 ?_
  refine s_iastM (pc := 86) (a := 53) (t_53 _) rfl kO_53 r_53 dX0_add_86 (fun c_2 => ?_)
  refine s_lload (pc := 87) dX0_add_87 rfl ?_
  refine s_ldc2 (pc := 89) (z := 1000000000) q880 dX0_add_89 ?_
  refine s_ldiv (pc := 92) dX0_add_92 ?_
  refine s_lstore (pc := 93) (lf := fun x => [some (2, 53), some (0, v1), some (2, 54), some (0, v3), some (2, 54), some (0, v5), some (0, v6), some (1, x), none, some (0, v9), some (1, v10_1), none]) dX0_add_93 (fun _ => rfl) (Nat.le_of_ble_eq_true rfl) (fun v7_3 => ?_)
  refine s_iinc (pc := 95) (lf := fun x => [some (2, 53), some (0, v1), some (2, 54), some (0, v3), some (2, 54), some (0, v5), some (0, v6), some (1, v7_3), none, some (0, x), some (1, v10_1), none]) dX0_add_95 rfl (fun _ => rfl) (Nat.le_of_ble_eq_true rfl) (fun v9_4 => ?_)
  refine s_goto (pc := 98) (tgt := 28) dX0_add_98 rfl ?_
  refine s_wk [true, true, true, true, true, true, true, true, true, true, false, true] (ls' := [some (2, 53), some (0, v1), some (2, 54), some (0, v3), some (2, 54), some (0, v5), some (0, v6), some (1, v7_3), none, some (0, v9_4), none, none]) rfl ?_
  exact Sm.some (fun h => h)
abbrev gX0_add_53_54_54_l3 (G : GG) (Γ : Cx) (r : Vv × Wd) (sz sl : Nat) (td : TT) (c : CC) (v1 : Int) (v3 : Int) (v5 : Int) : (Int × CC) → Prop := fun s => WP G Γ muX0_add_53_54_54 r 3 [some (2, 53), some (0, v1), some (2, 54), some (0, v3), some (2, 54), some (0, v5), some (0, s.1), none, none, none, none, none] [] (sz, sl, tt td, cv s.2)
abbrev eX0_add_53_54_54_l3 (G : GG) (Γ : Cx) (r : Vv × Wd) (sz sl : Nat) (td : TT) (c : CC) (v1 : Int) (v3 : Int) (v5 : Int) : (CC) → Prop := (fun s => WP G Γ muX0_add_53_54_54 r 107 [none, none, none, none, none, none, none, none, none, none, none, none] [] (sz, sl, tt td, cv s))
noncomputable def fX0_add_53_54_54_l3 (v1 : Int) (v3 : Int) (v5 : Int) (v6 : Int) (c : CC) : Option ((Int × CC) ⊕ (CC)) :=
  if v6 < 7 then
  (gd (inR (v3 + v6)) <|
   gd ((0 : Int) ≤ v3 + v6 ∧ v3 + v6 < 84000) <|
   if c 54 (Int.toNat (v3 + v6)) = 0 then
  (gd (inR (v6 + 1)) <| bd (v6 + 1) fun v6_7 =>
   some (.inl (v6_7, c)))
  else
  (cl (wh (fun s => fX0_add_53_54_54_l28 v1 v3 v5 v6 s.1 s.2.1 s.2.2) (0, 0, c)) (fun e_5 =>
  gd (inR (v6 + 1)) <| bd (v6 + 1) fun v6_6 =>
   some (.inl (v6_6, e_5)))))
  else
  (some (.inr c))
theorem sX0_add_53_54_54_l3 {G : GG} {Γ : Cx} {r : Vv × Wd} {sz : Nat} {sl : Nat} {td : TT} (v1 : Int) (v3 : Int) (v5 : Int) (v6 : Int) (c : CC) : Sm (fX0_add_53_54_54_l3 v1 v3 v5 v6 c) (fun x => Sum.elim (gX0_add_53_54_54_l3 G Γ r sz sl td c v1 v3 v5) (eX0_add_53_54_54_l3 G Γ r sz sl td c v1 v3 v5) x) (gX0_add_53_54_54_l3 G Γ r sz sl td c v1 v3 v5 (v6, c)) := by
  show Sm _ _ (WP G Γ muX0_add_53_54_54 r 3 [some (2, 53), some (0, v1), some (2, 54), some (0, v3), some (2, 54), some (0, v5), some (0, v6), none, none, none, none, none] [] (sz, sl, tt td, cv c))
  unfold fX0_add_53_54_54_l3
  refine s_iload (pc := 3) dX0_add_3 rfl ?_
  refine s_bipush (pc := 5) dX0_add_5 ?_
  refine s_icmp_ge (pc := 7) (tgt := 107) dX0_add_7 rfl ?_ ?_
  · refine s_wk [false, false, false, false, false, false, false, true, true, true, true, true] (ls' := [none, none, none, none, none, none, none, none, none, none, none, none]) rfl ?_
    exact Sm.some (fun h => h)
  refine s_aload_n (pc := 10) dX0_add_10 rfl ?_
  refine s_iload_n (pc := 11) dX0_add_11 rfl ?_
  refine s_iload (pc := 12) dX0_add_12 rfl ?_
  refine s_iadd (pc := 14) dX0_add_14 ?_
  refine s_ialdM (pc := 15) (a := 54) (t_54 _) rfl r_54 dX0_add_15 ?_
  refine s_if_ne (pc := 16) (tgt := 22) dX0_add_16 rfl ?_ ?_
  · refine s_lconst0 (pc := 22) dX0_add_22 ?_
    refine s_lstoreD (pc := 23) (ls' := [some (2, 53), some (0, v1), some (2, 54), some (0, v3), some (2, 54), some (0, v5), some (0, v6), some (1, 0), none, none, none, none]) dX0_add_23 rfl (Nat.le_of_ble_eq_true rfl) ?_
    refine s_iconst (pc := 25) dX0_add_25 ?_
    refine s_istoreD (pc := 26) (ls' := [some (2, 53), some (0, v1), some (2, 54), some (0, v3), some (2, 54), some (0, v5), some (0, v6), some (1, 0), none, some (0, 0), none, none]) dX0_add_26 rfl (Nat.le_of_ble_eq_true rfl) ?_
    refine s_loop (g := gX0_add_53_54_54_l28 G Γ r sz sl td c v1 v3 v5 v6) (Ex := eX0_add_53_54_54_l28 G Γ r sz sl td c v1 v3 v5 v6) (s0 := (0, 0, c)) (fun s => sX0_add_53_54_54_l28 v1 v3 v5 v6 s.1 s.2.1 s.2.2) ?_
    intro e_5
    show Sm _ _ (WP G Γ muX0_add_53_54_54 r 101 [some (2, 53), some (0, v1), some (2, 54), some (0, v3), some (2, 54), some (0, v5), some (0, v6), none, none, none, none, none] [] (sz, sl, tt td, cv e_5))
    refine s_iinc (pc := 101) (lf := fun x => [some (2, 53), some (0, v1), some (2, 54), some (0, v3), some (2, 54), some (0, v5), some (0, x), none, none, none, none, none]) dX0_add_101 rfl (fun _ => rfl) (Nat.le_of_ble_eq_true rfl) (fun v6_6 => ?_)
    refine s_goto (pc := 104) (tgt := 3) dX0_add_104 rfl ?_
    exact Sm.some (fun h => h)
  refine s_goto (pc := 19) (tgt := 101) dX0_add_19 rfl ?_
  refine s_iinc (pc := 101) (lf := fun x => [some (2, 53), some (0, v1), some (2, 54), some (0, v3), some (2, 54), some (0, v5), some (0, x), none, none, none, none, none]) dX0_add_101 rfl (fun _ => rfl) (Nat.le_of_ble_eq_true rfl) (fun v6_7 => ?_)
  refine s_goto (pc := 104) (tgt := 3) dX0_add_104 rfl ?_
  exact Sm.some (fun h => h)
noncomputable def fX0_add_53_54_54 (a1 : Int) (a3 : Int) (a5 : Int) (c : CC) : Option CC :=
  cl (wh (fun s => fX0_add_53_54_54_l3 a1 a3 a5 s.1 s.2) (0, c)) (fun e_8 =>
  some e_8)
theorem sX0_add_53_54_54 {G : GG} {Γ : Cx} {r : Vv × Wd} {sz : Nat} {sl : Nat} {td : TT} (a1 : Int) (a3 : Int) (a5 : Int) (c : CC) : Sm (fX0_add_53_54_54 a1 a3 a5 c) (fun x => r = ((3, 0), (sz, sl, tt td, cv x))) (WP G Γ muX0_add_53_54_54 r 0 [some (2, 53), some (0, a1), some (2, 54), some (0, a3), some (2, 54), some (0, a5), none, none, none, none, none, none] [] (sz, sl, tt td, cv c)) := by
  unfold fX0_add_53_54_54
  refine s_iconst (pc := 0) dX0_add_0 ?_
  refine s_istoreD (pc := 1) (ls' := [some (2, 53), some (0, a1), some (2, 54), some (0, a3), some (2, 54), some (0, a5), some (0, 0), none, none, none, none, none]) dX0_add_1 rfl (Nat.le_of_ble_eq_true rfl) ?_
  refine s_loop (g := gX0_add_53_54_54_l3 G Γ r sz sl td c a1 a3 a5) (Ex := eX0_add_53_54_54_l3 G Γ r sz sl td c a1 a3 a5) (s0 := (0, c)) (fun s => sX0_add_53_54_54_l3 a1 a3 a5 s.1 s.2) ?_
  intro e_8
  show Sm _ _ (WP G Γ muX0_add_53_54_54 r 107 [none, none, none, none, none, none, none, none, none, none, none, none] [] (sz, sl, tt td, cv e_8))
  exact s_vret (pc := 107) dX0_add_107 rfl (fun h => h)
theorem kX0_add_53_54_54 {G : GG} {sz : Nat} {sl : Nat} {td : TT} (a1 : Int) (a3 : Int) (a5 : Int) (c : CC) (x : CC) (h : fX0_add_53_54_54 a1 a3 a5 c = some x) : Ct G yX0_add muX0_add_53_54_54 [(2, 53), (0, a1), (2, 54), (0, a3), (2, 54), (0, a5)] (sz, sl, tt td, cv c) ((3, 0), (sz, sl, tt td, cv x)) :=
  Ct.of (n := 6) (ls0 := [some (2, 53), some (0, a1), some (2, 54), some (0, a3), some (2, 54), some (0, a5), none, none, none, none, none, none]) (by decide) rfl rfl ⟨show (none : Option FieldType) ≠ some .float by decide, show (none : Option FieldType) ≠ some .double by decide⟩ (Nat.le_of_ble_eq_true rfl) rfl ⟨Nat.le_refl _, Nat.le_refl _⟩ (show (3 : Nat) ≠ 9 by decide) (fun Γ => sX0_add_53_54_54 a1 a3 a5 c x h rfl)
theorem msX0_171_53_54_54 : MS RX0 171 yX0_add muX0_add_53_54_54 6 := ⟨lw_S q877 q878 q125 q879, by decide +kernel, by decide⟩
theorem flX0_58 : FL RX0 58 0 18 := ⟨_, _, _, cf0, by decide, q231⟩
abbrev muX0_add_53_54_55 : MI := (cX0_add, RX0, 12, none, 1, "add")
abbrev gX0_add_53_54_55_l28 (G : GG) (Γ : Cx) (r : Vv × Wd) (sz sl : Nat) (td : TT) (c : CC) (v1 : Int) (v3 : Int) (v5 : Int) (v6 : Int) : (Int × Int × CC) → Prop := fun s => WP G Γ muX0_add_53_54_55 r 28 [some (2, 53), some (0, v1), some (2, 54), some (0, v3), some (2, 55), some (0, v5), some (0, v6), some (1, s.1), none, some (0, s.2.1), none, none] [] (sz, sl, tt td, cv s.2.2)
abbrev eX0_add_53_54_55_l28 (G : GG) (Γ : Cx) (r : Vv × Wd) (sz sl : Nat) (td : TT) (c : CC) (v1 : Int) (v3 : Int) (v5 : Int) (v6 : Int) : (CC) → Prop := (fun s => WP G Γ muX0_add_53_54_55 r 101 [some (2, 53), some (0, v1), some (2, 54), some (0, v3), some (2, 55), some (0, v5), some (0, v6), none, none, none, none, none] [] (sz, sl, tt td, cv s))
noncomputable def fX0_add_53_54_55_l28 (v1 : Int) (v3 : Int) (v5 : Int) (v6 : Int) (v7 : Int) (v9 : Int) (c : CC) : Option ((Int × Int × CC) ⊕ (CC)) :=
  gd (inR (v6 + v9)) <|
   if v6 + v9 < 7 then
  (gd (inR (v1 + v6)) <|
   gd (inR ((v1 + v6) + v9)) <|
   gd ((0 : Int) ≤ (v1 + v6) + v9 ∧ (v1 + v6) + v9 < 16800) <|
   gd (inL ((c 53 (Int.toNat ((v1 + v6) + v9))) + v7)) <|
   gd (inR (v3 + v6)) <|
   gd ((0 : Int) ≤ v3 + v6 ∧ v3 + v6 < 84000) <|
   gd (inR (v5 + v9)) <|
   gd ((0 : Int) ≤ v5 + v9 ∧ v5 + v9 < 7) <|
   gd (inL ((c 54 (Int.toNat (v3 + v6))) * (c 55 (Int.toNat (v5 + v9))))) <|
   gd (inL (((c 53 (Int.toNat ((v1 + v6) + v9))) + v7) + ((c 54 (Int.toNat (v3 + v6))) * (c 55 (Int.toNat (v5 + v9)))))) <|
   bd (((c 53 (Int.toNat ((v1 + v6) + v9))) + v7) + ((c 54 (Int.toNat (v3 + v6))) * (c 55 (Int.toNat (v5 + v9))))) fun v10_1 =>
   gd (inR (v1 + v6)) <|
   gd (inR ((v1 + v6) + v9)) <|
   gd ((1000000000 : Int) ≠ 0 ∧ inL (Int.tmod v10_1 1000000000)) <|
   gd (inR (Int.tmod v10_1 1000000000)) <|
   gd ((0 : Int) ≤ (v1 + v6) + v9 ∧ (v1 + v6) + v9 < 16800) <| bd (up2 c 53 (Int.toNat ((v1 + v6) + v9)) (Int.tmod v10_1 1000000000)) fun c_2 =>
   gd ((1000000000 : Int) ≠ 0 ∧ inL (Int.tdiv v10_1 1000000000)) <|
   bd (Int.tdiv v10_1 1000000000) fun v7_3 =>
   gd (inR (v9 + 1)) <| bd (v9 + 1) fun v9_4 =>
   some (.inl (v7_3, v9_4, c_2)))
  else
  (some (.inr c))
theorem sX0_add_53_54_55_l28 {G : GG} {Γ : Cx} {r : Vv × Wd} {sz : Nat} {sl : Nat} {td : TT} (v1 : Int) (v3 : Int) (v5 : Int) (v6 : Int) (v7 : Int) (v9 : Int) (c : CC) : Sm (fX0_add_53_54_55_l28 v1 v3 v5 v6 v7 v9 c) (fun x => Sum.elim (gX0_add_53_54_55_l28 G Γ r sz sl td c v1 v3 v5 v6) (eX0_add_53_54_55_l28 G Γ r sz sl td c v1 v3 v5 v6) x) (gX0_add_53_54_55_l28 G Γ r sz sl td c v1 v3 v5 v6 (v7, v9, c)) := by
  show Sm _ _ (WP G Γ muX0_add_53_54_55 r 28 [some (2, 53), some (0, v1), some (2, 54), some (0, v3), some (2, 55), some (0, v5), some (0, v6), some (1, v7), none, some (0, v9), none, none] [] (sz, sl, tt td, cv c))
  unfold fX0_add_53_54_55_l28
  refine s_iload (pc := 28) dX0_add_28 rfl ?_
  refine s_iload (pc := 30) dX0_add_30 rfl ?_
  refine s_iadd (pc := 32) dX0_add_32 ?_
  refine s_bipush (pc := 33) dX0_add_33 ?_
  refine s_icmp_ge (pc := 35) (tgt := 101) dX0_add_35 rfl ?_ ?_
  · refine s_wk [true, true, true, true, true, true, true, false, true, false, true, true] (ls' := [some (2, 53), some (0, v1), some (2, 54), some (0, v3), some (2, 55), some (0, v5), some (0, v6), none, none, none, none, none]) rfl ?_
    exact Sm.some (fun h => h)
  refine s_aload_n (pc := 38) dX0_add_38 rfl ?_
  refine s_iload_n (pc := 39) dX0_add_39 rfl ?_
  refine s_iload (pc := 40) dX0_add_40 rfl ?_
  refine s_iadd (pc := 42) dX0_add_42 ?_
  refine s_iload (pc := 43) dX0_add_43 rfl ?_
  refine s_iadd (pc := 45) dX0_add_45 ?_
  refine s_ialdM (pc := 46) (a := 53) (t_53 _) rfl r_53 dX0_add_46 ?_
  refine s_i2l (pc := 47) dX0_add_47 ?_
  refine s_lload (pc := 48) dX0_add_48 rfl ?_
  refine s_ladd (pc := 50) dX0_add_50 ?_
  refine s_aload_n (pc := 51) dX0_add_51 rfl ?_
  refine s_iload_n (pc := 52) dX0_add_52 rfl ?_
  refine s_iload (pc := 53) dX0_add_53 rfl ?_
  refine s_iadd (pc := 55) dX0_add_55 ?_
  refine s_ialdM (pc := 56) (a := 54) (t_54 _) rfl r_54 dX0_add_56 ?_
  refine s_i2l (pc := 57) dX0_add_57 ?_
  refine s_aload (pc := 58) dX0_add_58 rfl ?_
  refine s_iload (pc := 60) dX0_add_60 rfl ?_
  refine s_iload (pc := 62) dX0_add_62 rfl ?_
  refine s_iadd (pc := 64) dX0_add_64 ?_
  refine s_ialdM (pc := 65) (a := 55) (t_55 _) rfl r_55 dX0_add_65 ?_
  refine s_i2l (pc := 66) dX0_add_66 ?_
  refine s_lmul (pc := 67) dX0_add_67 ?_
  refine s_ladd (pc := 68) dX0_add_68 ?_
  refine s_lstore (pc := 69) (lf := fun x => [some (2, 53), some (0, v1), some (2, 54), some (0, v3), some (2, 55), some (0, v5), some (0, v6), some (1, v7), none, some (0, v9), some (1, x), none]) dX0_add_69 (fun _ => rfl) (Nat.le_of_ble_eq_true rfl) (fun v10_1 => ?_)
  refine s_aload_n (pc := 71) dX0_add_71 rfl ?_
  refine s_iload_n (pc := 72) dX0_add_72 rfl ?_
  refine s_iload (pc := 73) dX0_add_73 rfl ?_
  refine s_iadd (pc := 75) dX0_add_75 ?_
  refine s_iload (pc := 76) dX0_add_76 rfl ?_
  refine s_iadd (pc := 78) dX0_add_78 ?_
  refine s_lload (pc := 79) dX0_add_79 rfl ?_
  refine s_ldc2 (pc := 81) (z := 1000000000) q880 dX0_add_81 ?_
  refine s_lrem (pc := 84) dX0_add_84 ?_
  refine s_l2i (pc := 85) dX0_add_85 ?_
  refine s_iastM (pc := 86) (a := 53) (t_53 _) rfl kO_53 r_53 dX0_add_86 (fun c_2 => ?_)
  refine s_lload (pc := 87) dX0_add_87 rfl ?_
  refine s_ldc2 (pc := 89) (z := 1000000000) q880 dX0_add_89 ?_
  refine s_ldiv (pc := 92) dX0_add_92 ?_
  refine s_lstore (pc := 93) (lf := fun x => [some (2, 53), some (0, v1), some (2, 54), some (0, v3), some (2, 55), some (0, v5), some (0, v6), some (1, x), none, some (0, v9), some (1, v10_1), none]) dX0_add_93 (fun _ => rfl) (Nat.le_of_ble_eq_true rfl) (fun v7_3 => ?_)
  refine s_iinc (pc := 95) (lf := fun x => [some (2, 53), some (0, v1), some (2, 54), some (0, v3), some (2, 55), some (0, v5), some (0, v6), some (1, v7_3), none, some (0, x), some (1, v10_1), none]) dX0_add_95 rfl (fun _ => rfl) (Nat.le_of_ble_eq_true rfl) (fun v9_4 => ?_)
  refine s_goto (pc := 98) (tgt := 28) dX0_add_98 rfl ?_
  refine s_wk [true, true, true, true, true, true, true, true, true, true, false, true] (ls' := [some (2, 53), some (0, v1), some (2, 54), some (0, v3), some (2, 55), some (0, v5), some (0, v6), some (1, v7_3), none, some (0, v9_4), none, none]) rfl ?_
  exact Sm.some (fun h => h)
abbrev gX0_add_53_54_55_l3 (G : GG) (Γ : Cx) (r : Vv × Wd) (sz sl : Nat) (td : TT) (c : CC) (v1 : Int) (v3 : Int) (v5 : Int) : (Int × CC) → Prop := fun s => WP G Γ muX0_add_53_54_55 r 3 [some (2, 53), some (0, v1), some (2, 54), some (0, v3), some (2, 55), some (0, v5), some (0, s.1), none, none, none, none, none] [] (sz, sl, tt td, cv s.2)
abbrev eX0_add_53_54_55_l3 (G : GG) (Γ : Cx) (r : Vv × Wd) (sz sl : Nat) (td : TT) (c : CC) (v1 : Int) (v3 : Int) (v5 : Int) : (CC) → Prop := (fun s => WP G Γ muX0_add_53_54_55 r 107 [none, none, none, none, none, none, none, none, none, none, none, none] [] (sz, sl, tt td, cv s))
noncomputable def fX0_add_53_54_55_l3 (v1 : Int) (v3 : Int) (v5 : Int) (v6 : Int) (c : CC) : Option ((Int × CC) ⊕ (CC)) :=
  if v6 < 7 then
  (gd (inR (v3 + v6)) <|
   gd ((0 : Int) ≤ v3 + v6 ∧ v3 + v6 < 84000) <|
   if c 54 (Int.toNat (v3 + v6)) = 0 then
  (gd (inR (v6 + 1)) <| bd (v6 + 1) fun v6_7 =>
   some (.inl (v6_7, c)))
  else
  (cl (wh (fun s => fX0_add_53_54_55_l28 v1 v3 v5 v6 s.1 s.2.1 s.2.2) (0, 0, c)) (fun e_5 =>
  gd (inR (v6 + 1)) <| bd (v6 + 1) fun v6_6 =>
   some (.inl (v6_6, e_5)))))
  else
  (some (.inr c))
theorem sX0_add_53_54_55_l3 {G : GG} {Γ : Cx} {r : Vv × Wd} {sz : Nat} {sl : Nat} {td : TT} (v1 : Int) (v3 : Int) (v5 : Int) (v6 : Int) (c : CC) : Sm (fX0_add_53_54_55_l3 v1 v3 v5 v6 c) (fun x => Sum.elim (gX0_add_53_54_55_l3 G Γ r sz sl td c v1 v3 v5) (eX0_add_53_54_55_l3 G Γ r sz sl td c v1 v3 v5) x) (gX0_add_53_54_55_l3 G Γ r sz sl td c v1 v3 v5 (v6, c)) := by
  show Sm _ _ (WP G Γ muX0_add_53_54_55 r 3 [some (2, 53), some (0, v1), some (2, 54), some (0, v3), some (2, 55), some (0, v5), some (0, v6), none, none, none, none, none] [] (sz, sl, tt td, cv c))
  unfold fX0_add_53_54_55_l3
  refine s_iload (pc := 3) dX0_add_3 rfl ?_
  refine s_bipush (pc := 5) dX0_add_5 ?_
  refine s_icmp_ge (pc := 7) (tgt := 107) dX0_add_7 rfl ?_ ?_
  · refine s_wk [false, false, false, false, false, false, false, true, true, true, true, true] (ls' := [none, none, none, none, none, none, none, none, none, none, none, none]) rfl ?_
    exact Sm.some (fun h => h)
  refine s_aload_n (pc := 10) dX0_add_10 rfl ?_
  refine s_iload_n (pc := 11) dX0_add_11 rfl ?_
  refine s_iload (pc := 12) dX0_add_12 rfl ?_
  refine s_iadd (pc := 14) dX0_add_14 ?_
  refine s_ialdM (pc := 15) (a := 54) (t_54 _) rfl r_54 dX0_add_15 ?_
  refine s_if_ne (pc := 16) (tgt := 22) dX0_add_16 rfl ?_ ?_
  · refine s_lconst0 (pc := 22) dX0_add_22 ?_
    refine s_lstoreD (pc := 23) (ls' := [some (2, 53), some (0, v1), some (2, 54), some (0, v3), some (2, 55), some (0, v5), some (0, v6), some (1, 0), none, none, none, none]) dX0_add_23 rfl (Nat.le_of_ble_eq_true rfl) ?_
    refine s_iconst (pc := 25) dX0_add_25 ?_
    refine s_istoreD (pc := 26) (ls' := [some (2, 53), some (0, v1), some (2, 54), some (0, v3), some (2, 55), some (0, v5), some (0, v6), some (1, 0), none, some (0, 0), none, none]) dX0_add_26 rfl (Nat.le_of_ble_eq_true rfl) ?_
    refine s_loop (g := gX0_add_53_54_55_l28 G Γ r sz sl td c v1 v3 v5 v6) (Ex := eX0_add_53_54_55_l28 G Γ r sz sl td c v1 v3 v5 v6) (s0 := (0, 0, c)) (fun s => sX0_add_53_54_55_l28 v1 v3 v5 v6 s.1 s.2.1 s.2.2) ?_
    intro e_5
    show Sm _ _ (WP G Γ muX0_add_53_54_55 r 101 [some (2, 53), some (0, v1), some (2, 54), some (0, v3), some (2, 55), some (0, v5), some (0, v6), none, none, none, none, none] [] (sz, sl, tt td, cv e_5))
    refine s_iinc (pc := 101) (lf := fun x => [some (2, 53), some (0, v1), some (2, 54), some (0, v3), some (2, 55), some (0, v5), some (0, x), none, none, none, none, none]) dX0_add_101 rfl (fun _ => rfl) (Nat.le_of_ble_eq_true rfl) (fun v6_6 => ?_)
    refine s_goto (pc := 104) (tgt := 3) dX0_add_104 rfl ?_
    exact Sm.some (fun h => h)
  refine s_goto (pc := 19) (tgt := 101) dX0_add_19 rfl ?_
  refine s_iinc (pc := 101) (lf := fun x => [some (2, 53), some (0, v1), some (2, 54), some (0, v3), some (2, 55), some (0, v5), some (0, x), none, none, none, none, none]) dX0_add_101 rfl (fun _ => rfl) (Nat.le_of_ble_eq_true rfl) (fun v6_7 => ?_)
  refine s_goto (pc := 104) (tgt := 3) dX0_add_104 rfl ?_
  exact Sm.some (fun h => h)
noncomputable def fX0_add_53_54_55 (a1 : Int) (a3 : Int) (a5 : Int) (c : CC) : Option CC :=
  cl (wh (fun s => fX0_add_53_54_55_l3 a1 a3 a5 s.1 s.2) (0, c)) (fun e_8 =>
  some e_8)
theorem sX0_add_53_54_55 {G : GG} {Γ : Cx} {r : Vv × Wd} {sz : Nat} {sl : Nat} {td : TT} (a1 : Int) (a3 : Int) (a5 : Int) (c : CC) : Sm (fX0_add_53_54_55 a1 a3 a5 c) (fun x => r = ((3, 0), (sz, sl, tt td, cv x))) (WP G Γ muX0_add_53_54_55 r 0 [some (2, 53), some (0, a1), some (2, 54), some (0, a3), some (2, 55), some (0, a5), none, none, none, none, none, none] [] (sz, sl, tt td, cv c)) := by
  unfold fX0_add_53_54_55
  refine s_iconst (pc := 0) dX0_add_0 ?_
  refine s_istoreD (pc := 1) (ls' := [some (2, 53), some (0, a1), some (2, 54), some (0, a3), some (2, 55), some (0, a5), some (0, 0), none, none, none, none, none]) dX0_add_1 rfl (Nat.le_of_ble_eq_true rfl) ?_
  refine s_loop (g := gX0_add_53_54_55_l3 G Γ r sz sl td c a1 a3 a5) (Ex := eX0_add_53_54_55_l3 G Γ r sz sl td c a1 a3 a5) (s0 := (0, c)) (fun s => sX0_add_53_54_55_l3 a1 a3 a5 s.1 s.2) ?_
  intro e_8
  show Sm _ _ (WP G Γ muX0_add_53_54_55 r 107 [none, none, none, none, none, none, none, none, none, none, none, none] [] (sz, sl, tt td, cv e_8))
  exact s_vret (pc := 107) dX0_add_107 rfl (fun h => h)
theorem kX0_add_53_54_55 {G : GG} {sz : Nat} {sl : Nat} {td : TT} (a1 : Int) (a3 : Int) (a5 : Int) (c : CC) (x : CC) (h : fX0_add_53_54_55 a1 a3 a5 c = some x) : Ct G yX0_add muX0_add_53_54_55 [(2, 53), (0, a1), (2, 54), (0, a3), (2, 55), (0, a5)] (sz, sl, tt td, cv c) ((3, 0), (sz, sl, tt td, cv x)) :=
  Ct.of (n := 6) (ls0 := [some (2, 53), some (0, a1), some (2, 54), some (0, a3), some (2, 55), some (0, a5), none, none, none, none, none, none]) (by decide) rfl rfl ⟨show (none : Option FieldType) ≠ some .float by decide, show (none : Option FieldType) ≠ some .double by decide⟩ (Nat.le_of_ble_eq_true rfl) rfl ⟨Nat.le_refl _, Nat.le_refl _⟩ (show (3 : Nat) ≠ 9 by decide) (fun Γ => sX0_add_53_54_55 a1 a3 a5 c x h rfl)
theorem msX0_171_53_54_55 : MS RX0 171 yX0_add muX0_add_53_54_55 6 := ⟨lw_S q877 q878 q125 q879, by decide +kernel, by decide⟩
abbrev muX0_add_53_55_55 : MI := (cX0_add, RX0, 12, none, 1, "add")
abbrev gX0_add_53_55_55_l28 (G : GG) (Γ : Cx) (r : Vv × Wd) (sz sl : Nat) (td : TT) (c : CC) (v1 : Int) (v3 : Int) (v5 : Int) (v6 : Int) : (Int × Int × CC) → Prop := fun s => WP G Γ muX0_add_53_55_55 r 28 [some (2, 53), some (0, v1), some (2, 55), some (0, v3), some (2, 55), some (0, v5), some (0, v6), some (1, s.1), none, some (0, s.2.1), none, none] [] (sz, sl, tt td, cv s.2.2)
abbrev eX0_add_53_55_55_l28 (G : GG) (Γ : Cx) (r : Vv × Wd) (sz sl : Nat) (td : TT) (c : CC) (v1 : Int) (v3 : Int) (v5 : Int) (v6 : Int) : (CC) → Prop := (fun s => WP G Γ muX0_add_53_55_55 r 101 [some (2, 53), some (0, v1), some (2, 55), some (0, v3), some (2, 55), some (0, v5), some (0, v6), none, none, none, none, none] [] (sz, sl, tt td, cv s))
noncomputable def fX0_add_53_55_55_l28 (v1 : Int) (v3 : Int) (v5 : Int) (v6 : Int) (v7 : Int) (v9 : Int) (c : CC) : Option ((Int × Int × CC) ⊕ (CC)) :=
  gd (inR (v6 + v9)) <|
   if v6 + v9 < 7 then
  (gd (inR (v1 + v6)) <|
   gd (inR ((v1 + v6) + v9)) <|
   gd ((0 : Int) ≤ (v1 + v6) + v9 ∧ (v1 + v6) + v9 < 16800) <|
   gd (inL ((c 53 (Int.toNat ((v1 + v6) + v9))) + v7)) <|
   gd (inR (v3 + v6)) <|
   gd ((0 : Int) ≤ v3 + v6 ∧ v3 + v6 < 7) <|
   gd (inR (v5 + v9)) <|
   gd ((0 : Int) ≤ v5 + v9 ∧ v5 + v9 < 7) <|
   gd (inL ((c 55 (Int.toNat (v3 + v6))) * (c 55 (Int.toNat (v5 + v9))))) <|
   gd (inL (((c 53 (Int.toNat ((v1 + v6) + v9))) + v7) + ((c 55 (Int.toNat (v3 + v6))) * (c 55 (Int.toNat (v5 + v9)))))) <|
   bd (((c 53 (Int.toNat ((v1 + v6) + v9))) + v7) + ((c 55 (Int.toNat (v3 + v6))) * (c 55 (Int.toNat (v5 + v9))))) fun v10_1 =>
   gd (inR (v1 + v6)) <|
   gd (inR ((v1 + v6) + v9)) <|
   gd ((1000000000 : Int) ≠ 0 ∧ inL (Int.tmod v10_1 1000000000)) <|
   gd (inR (Int.tmod v10_1 1000000000)) <|
   gd ((0 : Int) ≤ (v1 + v6) + v9 ∧ (v1 + v6) + v9 < 16800) <| bd (up2 c 53 (Int.toNat ((v1 + v6) + v9)) (Int.tmod v10_1 1000000000)) fun c_2 =>
   gd ((1000000000 : Int) ≠ 0 ∧ inL (Int.tdiv v10_1 1000000000)) <|
   bd (Int.tdiv v10_1 1000000000) fun v7_3 =>
   gd (inR (v9 + 1)) <| bd (v9 + 1) fun v9_4 =>
   some (.inl (v7_3, v9_4, c_2)))
  else
  (some (.inr c))
theorem sX0_add_53_55_55_l28 {G : GG} {Γ : Cx} {r : Vv × Wd} {sz : Nat} {sl : Nat} {td : TT} (v1 : Int) (v3 : Int) (v5 : Int) (v6 : Int) (v7 : Int) (v9 : Int) (c : CC) : Sm (fX0_add_53_55_55_l28 v1 v3 v5 v6 v7 v9 c) (fun x => Sum.elim (gX0_add_53_55_55_l28 G Γ r sz sl td c v1 v3 v5 v6) (eX0_add_53_55_55_l28 G Γ r sz sl td c v1 v3 v5 v6) x) (gX0_add_53_55_55_l28 G Γ r sz sl td c v1 v3 v5 v6 (v7, v9, c)) := by
  show Sm _ _ (WP G Γ muX0_add_53_55_55 r 28 [some (2, 53), some (0, v1), some (2, 55), some (0, v3), some (2, 55), some (0, v5), some (0, v6), some (1, v7), none, some (0, v9), none, none] [] (sz, sl, tt td, cv c))
  unfold fX0_add_53_55_55_l28
  refine s_iload (pc := 28) dX0_add_28 rfl ?_
  refine s_iload (pc := 30) dX0_add_30 rfl ?_
  refine s_iadd (pc := 32) dX0_add_32 ?_
  refine s_bipush (pc := 33) dX0_add_33 ?_
  refine s_icmp_ge (pc := 35) (tgt := 101) dX0_add_35 rfl ?_ ?_
  · refine s_wk [true, true, true, true, true, true, true, false, true, false, true, true] (ls' := [some (2, 53), some (0, v1), some (2, 55), some (0, v3), some (2, 55), some (0, v5), some (0, v6), none, none, none, none, none]) rfl ?_
    exact Sm.some (fun h => h)
  refine s_aload_n (pc := 38) dX0_add_38 rfl ?_
  refine s_iload_n (pc := 39) dX0_add_39 rfl ?_
  refine s_iload (pc := 40) dX0_add_40 rfl ?_
  refine s_iadd (pc := 42) dX0_add_42 ?_
  refine s_iload (pc := 43) dX0_add_43 rfl ?_
  refine s_iadd (pc := 45) dX0_add_45 ?_
  refine s_ialdM (pc := 46) (a := 53) (t_53 _) rfl r_53 dX0_add_46 ?_
  refine s_i2l (pc := 47) dX0_add_47 ?_
  refine s_lload (pc := 48) dX0_add_48 rfl ?_
  refine s_ladd (pc := 50) dX0_add_50 ?_
  refine s_aload_n (pc := 51) dX0_add_51 rfl ?_
  refine s_iload_n (pc := 52) dX0_add_52 rfl ?_
  refine s_iload (pc := 53) dX0_add_53 rfl ?_
  refine s_iadd (pc := 55) dX0_add_55 ?_
  refine s_ialdM (pc := 56) (a := 55) (t_55 _) rfl r_55 dX0_add_56 ?_
  refine s_i2l (pc := 57) dX0_add_57 ?_
  refine s_aload (pc := 58) dX0_add_58 rfl ?_
  refine s_iload (pc := 60) dX0_add_60 rfl ?_
  refine s_iload (pc := 62) dX0_add_62 rfl ?_
  refine s_iadd (pc := 64) dX0_add_64 ?_
  refine s_ialdM (pc := 65) (a := 55) (t_55 _) rfl r_55 dX0_add_65 ?_
  refine s_i2l (pc := 66) dX0_add_66 ?_
  refine s_lmul (pc := 67) dX0_add_67 ?_
  refine s_ladd (pc := 68) dX0_add_68 ?_
  refine s_lstore (pc := 69) (lf := fun x => [some (2, 53), some (0, v1), some (2, 55), some (0, v3), some (2, 55), some (0, v5), some (0, v6), some (1, v7), none, some (0, v9), some (1, x), none]) dX0_add_69 (fun _ => rfl) (Nat.le_of_ble_eq_true rfl) (fun v10_1 => ?_)
  refine s_aload_n (pc := 71) dX0_add_71 rfl ?_
  refine s_iload_n (pc := 72) dX0_add_72 rfl ?_
  refine s_iload (pc := 73) dX0_add_73 rfl ?_
  refine s_iadd (pc := 75) dX0_add_75 ?_
  refine s_iload (pc := 76) dX0_add_76 rfl ?_
  refine s_iadd (pc := 78) dX0_add_78 ?_
  refine s_lload (pc := 79) dX0_add_79 rfl ?_
  refine s_ldc2 (pc := 81) (z := 1000000000) q880 dX0_add_81 ?_
  refine s_lrem (pc := 84) dX0_add_84 ?_
  refine s_l2i (pc := 85) dX0_add_85 ?_
  refine s_iastM (pc := 86) (a := 53) (t_53 _) rfl kO_53 r_53 dX0_add_86 (fun c_2 => ?_)
  refine s_lload (pc := 87) dX0_add_87 rfl ?_
  refine s_ldc2 (pc := 89) (z := 1000000000) q880 dX0_add_89 ?_
  refine s_ldiv (pc := 92) dX0_add_92 ?_
  refine s_lstore (pc := 93) (lf := fun x => [some (2, 53), some (0, v1), some (2, 55), some (0, v3), some (2, 55), some (0, v5), some (0, v6), some (1, x), none, some (0, v9), some (1, v10_1), none]) dX0_add_93 (fun _ => rfl) (Nat.le_of_ble_eq_true rfl) (fun v7_3 => ?_)
  refine s_iinc (pc := 95) (lf := fun x => [some (2, 53), some (0, v1), some (2, 55), some (0, v3), some (2, 55), some (0, v5), some (0, v6), some (1, v7_3), none, some (0, x), some (1, v10_1), none]) dX0_add_95 rfl (fun _ => rfl) (Nat.le_of_ble_eq_true rfl) (fun v9_4 => ?_)
  refine s_goto (pc := 98) (tgt := 28) dX0_add_98 rfl ?_
  refine s_wk [true, true, true, true, true, true, true, true, true, true, false, true] (ls' := [some (2, 53), some (0, v1), some (2, 55), some (0, v3), some (2, 55), some (0, v5), some (0, v6), some (1, v7_3), none, some (0, v9_4), none, none]) rfl ?_
  exact Sm.some (fun h => h)
abbrev gX0_add_53_55_55_l3 (G : GG) (Γ : Cx) (r : Vv × Wd) (sz sl : Nat) (td : TT) (c : CC) (v1 : Int) (v3 : Int) (v5 : Int) : (Int × CC) → Prop := fun s => WP G Γ muX0_add_53_55_55 r 3 [some (2, 53), some (0, v1), some (2, 55), some (0, v3), some (2, 55), some (0, v5), some (0, s.1), none, none, none, none, none] [] (sz, sl, tt td, cv s.2)
abbrev eX0_add_53_55_55_l3 (G : GG) (Γ : Cx) (r : Vv × Wd) (sz sl : Nat) (td : TT) (c : CC) (v1 : Int) (v3 : Int) (v5 : Int) : (CC) → Prop := (fun s => WP G Γ muX0_add_53_55_55 r 107 [none, none, none, none, none, none, none, none, none, none, none, none] [] (sz, sl, tt td, cv s))
noncomputable def fX0_add_53_55_55_l3 (v1 : Int) (v3 : Int) (v5 : Int) (v6 : Int) (c : CC) : Option ((Int × CC) ⊕ (CC)) :=
  if v6 < 7 then
  (gd (inR (v3 + v6)) <|
   gd ((0 : Int) ≤ v3 + v6 ∧ v3 + v6 < 7) <|
   if c 55 (Int.toNat (v3 + v6)) = 0 then
  (gd (inR (v6 + 1)) <| bd (v6 + 1) fun v6_7 =>
   some (.inl (v6_7, c)))
  else
  (cl (wh (fun s => fX0_add_53_55_55_l28 v1 v3 v5 v6 s.1 s.2.1 s.2.2) (0, 0, c)) (fun e_5 =>
  gd (inR (v6 + 1)) <| bd (v6 + 1) fun v6_6 =>
   some (.inl (v6_6, e_5)))))
  else
  (some (.inr c))
theorem sX0_add_53_55_55_l3 {G : GG} {Γ : Cx} {r : Vv × Wd} {sz : Nat} {sl : Nat} {td : TT} (v1 : Int) (v3 : Int) (v5 : Int) (v6 : Int) (c : CC) : Sm (fX0_add_53_55_55_l3 v1 v3 v5 v6 c) (fun x => Sum.elim (gX0_add_53_55_55_l3 G Γ r sz sl td c v1 v3 v5) (eX0_add_53_55_55_l3 G Γ r sz sl td c v1 v3 v5) x) (gX0_add_53_55_55_l3 G Γ r sz sl td c v1 v3 v5 (v6, c)) := by
  show Sm _ _ (WP G Γ muX0_add_53_55_55 r 3 [some (2, 53), some (0, v1), some (2, 55), some (0, v3), some (2, 55), some (0, v5), some (0, v6), none, none, none, none, none] [] (sz, sl, tt td, cv c))
  unfold fX0_add_53_55_55_l3
  refine s_iload (pc := 3) dX0_add_3 rfl ?_
  refine s_bipush (pc := 5) dX0_add_5 ?_
  refine s_icmp_ge (pc := 7) (tgt := 107) dX0_add_7 rfl ?_ ?_
  · refine s_wk [false, false, false, false, false, false, false, true, true, true, true, true] (ls' := [none, none, none, none, none, none, none, none, none, none, none, none]) rfl ?_
    exact Sm.some (fun h => h)
  refine s_aload_n (pc := 10) dX0_add_10 rfl ?_
  refine s_iload_n (pc := 11) dX0_add_11 rfl ?_
  refine s_iload (pc := 12) dX0_add_12 rfl ?_
  refine s_iadd (pc := 14) dX0_add_14 ?_
  refine s_ialdM (pc := 15) (a := 55) (t_55 _) rfl r_55 dX0_add_15 ?_
  refine s_if_ne (pc := 16) (tgt := 22) dX0_add_16 rfl ?_ ?_
  · refine s_lconst0 (pc := 22) dX0_add_22 ?_
    refine s_lstoreD (pc := 23) (ls' := [some (2, 53), some (0, v1), some (2, 55), some (0, v3), some (2, 55), some (0, v5), some (0, v6), some (1, 0), none, none, none, none]) dX0_add_23 rfl (Nat.le_of_ble_eq_true rfl) ?_
    refine s_iconst (pc := 25) dX0_add_25 ?_
    refine s_istoreD (pc := 26) (ls' := [some (2, 53), some (0, v1), some (2, 55), some (0, v3), some (2, 55), some (0, v5), some (0, v6), some (1, 0), none, some (0, 0), none, none]) dX0_add_26 rfl (Nat.le_of_ble_eq_true rfl) ?_
    refine s_loop (g := gX0_add_53_55_55_l28 G Γ r sz sl td c v1 v3 v5 v6) (Ex := eX0_add_53_55_55_l28 G Γ r sz sl td c v1 v3 v5 v6) (s0 := (0, 0, c)) (fun s => sX0_add_53_55_55_l28 v1 v3 v5 v6 s.1 s.2.1 s.2.2) ?_
    intro e_5
    show Sm _ _ (WP G Γ muX0_add_53_55_55 r 101 [some (2, 53), some (0, v1), some (2, 55), some (0, v3), some (2, 55), some (0, v5), some (0, v6), none, none, none, none, none] [] (sz, sl, tt td, cv e_5))
    refine s_iinc (pc := 101) (lf := fun x => [some (2, 53), some (0, v1), some (2, 55), some (0, v3), some (2, 55), some (0, v5), some (0, x), none, none, none, none, none]) dX0_add_101 rfl (fun _ => rfl) (Nat.le_of_ble_eq_true rfl) (fun v6_6 => ?_)
    refine s_goto (pc := 104) (tgt := 3) dX0_add_104 rfl ?_
    exact Sm.some (fun h => h)
  refine s_goto (pc := 19) (tgt := 101) dX0_add_19 rfl ?_
  refine s_iinc (pc := 101) (lf := fun x => [some (2, 53), some (0, v1), some (2, 55), some (0, v3), some (2, 55), some (0, v5), some (0, x), none, none, none, none, none]) dX0_add_101 rfl (fun _ => rfl) (Nat.le_of_ble_eq_true rfl) (fun v6_7 => ?_)
  refine s_goto (pc := 104) (tgt := 3) dX0_add_104 rfl ?_
  exact Sm.some (fun h => h)
noncomputable def fX0_add_53_55_55 (a1 : Int) (a3 : Int) (a5 : Int) (c : CC) : Option CC :=
  cl (wh (fun s => fX0_add_53_55_55_l3 a1 a3 a5 s.1 s.2) (0, c)) (fun e_8 =>
  some e_8)
theorem sX0_add_53_55_55 {G : GG} {Γ : Cx} {r : Vv × Wd} {sz : Nat} {sl : Nat} {td : TT} (a1 : Int) (a3 : Int) (a5 : Int) (c : CC) : Sm (fX0_add_53_55_55 a1 a3 a5 c) (fun x => r = ((3, 0), (sz, sl, tt td, cv x))) (WP G Γ muX0_add_53_55_55 r 0 [some (2, 53), some (0, a1), some (2, 55), some (0, a3), some (2, 55), some (0, a5), none, none, none, none, none, none] [] (sz, sl, tt td, cv c)) := by
  unfold fX0_add_53_55_55
  refine s_iconst (pc := 0) dX0_add_0 ?_
  refine s_istoreD (pc := 1) (ls' := [some (2, 53), some (0, a1), some (2, 55), some (0, a3), some (2, 55), some (0, a5), some (0, 0), none, none, none, none, none]) dX0_add_1 rfl (Nat.le_of_ble_eq_true rfl) ?_
  refine s_loop (g := gX0_add_53_55_55_l3 G Γ r sz sl td c a1 a3 a5) (Ex := eX0_add_53_55_55_l3 G Γ r sz sl td c a1 a3 a5) (s0 := (0, c)) (fun s => sX0_add_53_55_55_l3 a1 a3 a5 s.1 s.2) ?_
  intro e_8
  show Sm _ _ (WP G Γ muX0_add_53_55_55 r 107 [none, none, none, none, none, none, none, none, none, none, none, none] [] (sz, sl, tt td, cv e_8))
  exact s_vret (pc := 107) dX0_add_107 rfl (fun h => h)
theorem kX0_add_53_55_55 {G : GG} {sz : Nat} {sl : Nat} {td : TT} (a1 : Int) (a3 : Int) (a5 : Int) (c : CC) (x : CC) (h : fX0_add_53_55_55 a1 a3 a5 c = some x) : Ct G yX0_add muX0_add_53_55_55 [(2, 53), (0, a1), (2, 55), (0, a3), (2, 55), (0, a5)] (sz, sl, tt td, cv c) ((3, 0), (sz, sl, tt td, cv x)) :=
  Ct.of (n := 6) (ls0 := [some (2, 53), some (0, a1), some (2, 55), some (0, a3), some (2, 55), some (0, a5), none, none, none, none, none, none]) (by decide) rfl rfl ⟨show (none : Option FieldType) ≠ some .float by decide, show (none : Option FieldType) ≠ some .double by decide⟩ (Nat.le_of_ble_eq_true rfl) rfl ⟨Nat.le_refl _, Nat.le_refl _⟩ (show (3 : Nat) ≠ 9 by decide) (fun Γ => sX0_add_53_55_55 a1 a3 a5 c x h rfl)
theorem msX0_171_53_55_55 : MS RX0 171 yX0_add muX0_add_53_55_55 6 := ⟨lw_S q877 q878 q125 q879, by decide +kernel, by decide⟩
abbrev muX0_addWays : MI := (cX0_addWays, RX0, 10, none, 3, "addWays")
abbrev gX0_addWays_l49 (G : GG) (Γ : Cx) (r : Vv × Wd) (sz sl : Nat) (td : TT) (c : CC) (v1 : Int) (v2 : Int) (v3 : Int) (v4 : Int) (v5 : Int) (v6 : Int) : (Int) → Prop := fun s => WP G Γ muX0_addWays r 49 [some (2, 43), some (0, v1), some (2, v2), some (0, v3), some (0, v4), some (0, v5), some (0, v6), some (0, s), none, none] [] (sz, sl, tt td, cv c)
abbrev eX0_addWays_l49 (G : GG) (Γ : Cx) (r : Vv × Wd) (sz sl : Nat) (td : TT) (c : CC) (v1 : Int) (v2 : Int) (v3 : Int) (v4 : Int) (v5 : Int) (v6 : Int) : (Int) → Prop := (fun s => WP G Γ muX0_addWays r 78 [some (2, 43), some (0, v1), some (2, v2), some (0, v3), some (0, v4), some (0, v5), some (0, v6), some (0, s), none, none] [] (sz, sl, tt td, cv c))
noncomputable def fX0_addWays_l49 (v1 : Int) (v2 : Int) (v3 : Int) (v4 : Int) (v5 : Int) (v6 : Int) (v7 : Int) (td : TT) (c : CC) : Option ((Int) ⊕ (Int)) :=
  if v7 < v6 then
  (cl (fV_kind v2 v3 v7 td c) fun p_2 =>
   cl (fV_kind v2 v3 0 td c) fun p_3 =>
   if p_2 = p_3 then
  (gd (inR (v7 + 1)) <| bd (v7 + 1) fun v7_4 =>
   some (.inl v7_4))
  else
  (some (.inr v7)))
  else
  (some (.inr v7))
theorem sX0_addWays_l49 {G : GG} {Γ : Cx} {r : Vv × Wd} {sz : Nat} {sl : Nat} (v1 : Int) (v2 : Int) (v3 : Int) (v4 : Int) (v5 : Int) (v6 : Int) (v7 : Int) (td : TT) (c : CC) : Sm (fX0_addWays_l49 v1 v2 v3 v4 v5 v6 v7 td c) (fun x => Sum.elim (gX0_addWays_l49 G Γ r sz sl td c v1 v2 v3 v4 v5 v6) (eX0_addWays_l49 G Γ r sz sl td c v1 v2 v3 v4 v5 v6) x) (gX0_addWays_l49 G Γ r sz sl td c v1 v2 v3 v4 v5 v6 v7) := by
  show Sm _ _ (WP G Γ muX0_addWays r 49 [some (2, 43), some (0, v1), some (2, v2), some (0, v3), some (0, v4), some (0, v5), some (0, v6), some (0, v7), none, none] [] (sz, sl, tt td, cv c))
  unfold fX0_addWays_l49
  refine s_iload (pc := 49) dX0_addWays_49 rfl ?_
  refine s_iload (pc := 51) dX0_addWays_51 rfl ?_
  refine s_icmp_ge (pc := 53) (tgt := 78) dX0_addWays_53 rfl ?_ ?_
  · exact Sm.some (fun h => h)
  refine s_aload_n (pc := 56) dX0_addWays_56 rfl ?_
  refine s_iload_n (pc := 57) dX0_addWays_57 rfl ?_
  refine s_iload (pc := 58) dX0_addWays_58 rfl ?_
  refine s_callU (pc := 60) (z := v2) (as := [(0, v3), (0, v7)]) (st := []) (rv := fun b => ((0, b), (sz, sl, tt td, cv c))) (st3 := fun b => [(0, b)]) (w3 := fun b => (sz, sl, tt td, cv c)) rfl rfl (fun b h => vdX0_175 v2 v3 v7 td c b h (by decide)) (Nat.le_of_ble_eq_true rfl) (fun _ => Nat.le_of_ble_eq_true rfl) (fun _ => ⟨rfl, rfl⟩) dX0_addWays_60 (fun p_2 => ?_)
  refine s_aload_n (pc := 63) dX0_addWays_63 rfl ?_
  refine s_iload_n (pc := 64) dX0_addWays_64 rfl ?_
  refine s_iconst (pc := 65) dX0_addWays_65 ?_
  refine s_callU (pc := 66) (z := v2) (as := [(0, v3), (0, 0)]) (st := [(0, p_2)]) (rv := fun b => ((0, b), (sz, sl, tt td, cv c))) (st3 := fun b => [(0, b), (0, p_2)]) (w3 := fun b => (sz, sl, tt td, cv c)) rfl rfl (fun b h => vdX0_175 v2 v3 0 td c b h (by decide)) (Nat.le_of_ble_eq_true rfl) (fun _ => Nat.le_of_ble_eq_true rfl) (fun _ => ⟨rfl, rfl⟩) dX0_addWays_66 (fun p_3 => ?_)
  refine s_icmp_ne (pc := 69) (tgt := 78) dX0_addWays_69 rfl ?_ ?_
  · exact Sm.some (fun h => h)
  refine s_iinc (pc := 72) (lf := fun x => [some (2, 43), some (0, v1), some (2, v2), some (0, v3), some (0, v4), some (0, v5), some (0, v6), some (0, x), none, none]) dX0_addWays_72 rfl (fun _ => rfl) (Nat.le_of_ble_eq_true rfl) (fun v7_4 => ?_)
  refine s_goto (pc := 75) (tgt := 49) dX0_addWays_75 rfl ?_
  exact Sm.some (fun h => h)
abbrev gX0_addWays_l151 (G : GG) (Γ : Cx) (r : Vv × Wd) (sz sl : Nat) (td : TT) (c : CC) (v1 : Int) (v2 : Int) (v3 : Int) (v4 : Int) (v5 : Int) (v6 : Int) (v8 : Int) : (Int × CC) → Prop := fun s => WP G Γ muX0_addWays r 151 [some (2, 43), some (0, v1), some (2, v2), some (0, v3), some (0, v4), some (0, v5), some (0, v6), none, some (0, v8), some (0, s.1)] [] (sz, sl, tt td, cv s.2)
abbrev eX0_addWays_l151 (G : GG) (Γ : Cx) (r : Vv × Wd) (sz sl : Nat) (td : TT) (c : CC) (v1 : Int) (v2 : Int) (v3 : Int) (v4 : Int) (v5 : Int) (v6 : Int) (v8 : Int) : (CC) → Prop := (fun s => WP G Γ muX0_addWays r 218 [none, none, none, none, none, none, none, none, none, none] [] (sz, sl, tt td, cv s))
noncomputable def fX0_addWays_l151 (v1 : Int) (v2 : Int) (v3 : Int) (v4 : Int) (v5 : Int) (v6 : Int) (v8 : Int) (v9 : Int) (td : TT) (c : CC) : Option ((Int × CC) ⊕ (CC)) :=
  if v9 < v5 then
  (cl (fV_kind v2 v3 0 td c) fun p_7 =>
   cl (fX0_rowAt v4 v9 p_7 v8 ) fun p_8 =>
   gd (inR (v9 + 1)) <|
   gd (inR (v6 - 1)) <|
   cl (fV_kind v2 v3 (v6 - 1) td c) fun p_9 =>
   gd (inR (v6 - v8)) <|
   cl (fX0_rowAt (v9 + 1) v5 p_9 (v6 - v8) ) fun p_10 =>
   cl (fX0_add_53_54_54 v1 p_8 p_10 c) fun p_11 =>
   gd (inR (v9 + 1)) <| bd (v9 + 1) fun v9_12 =>
   some (.inl (v9_12, p_11)))
  else
  (some (.inr c))
theorem sX0_addWays_l151 {G : GG} {Γ : Cx} {r : Vv × Wd} {sz : Nat} {sl : Nat} (v1 : Int) (v2 : Int) (v3 : Int) (v4 : Int) (v5 : Int) (v6 : Int) (v8 : Int) (v9 : Int) (td : TT) (c : CC) : Sm (fX0_addWays_l151 v1 v2 v3 v4 v5 v6 v8 v9 td c) (fun x => Sum.elim (gX0_addWays_l151 G Γ r sz sl td c v1 v2 v3 v4 v5 v6 v8) (eX0_addWays_l151 G Γ r sz sl td c v1 v2 v3 v4 v5 v6 v8) x) (gX0_addWays_l151 G Γ r sz sl td c v1 v2 v3 v4 v5 v6 v8 (v9, c)) := by
  show Sm _ _ (WP G Γ muX0_addWays r 151 [some (2, 43), some (0, v1), some (2, v2), some (0, v3), some (0, v4), some (0, v5), some (0, v6), none, some (0, v8), some (0, v9)] [] (sz, sl, tt td, cv c))
  unfold fX0_addWays_l151
  refine s_iload (pc := 151) dX0_addWays_151 rfl ?_
  refine s_iload (pc := 153) dX0_addWays_153 rfl ?_
  refine s_icmp_ge (pc := 155) (tgt := 218) dX0_addWays_155 rfl ?_ ?_
  · refine s_wk [false, false, false, false, false, false, false, true, false, false] (ls' := [none, none, none, none, none, none, none, none, none, none]) rfl ?_
    exact Sm.some (fun h => h)
  refine s_aload_n (pc := 158) dX0_addWays_158 rfl ?_
  refine s_get (pc := 159) (a := 43) (v := 53) flX0_51 (t_43 _) rfl (g_43_16 _) rfl dX0_addWays_159 ?_
  refine s_iload_n (pc := 162) dX0_addWays_162 rfl ?_
  refine s_aload_n (pc := 163) dX0_addWays_163 rfl ?_
  refine s_get (pc := 164) (a := 43) (v := 54) flX0_55 (t_43 _) rfl (g_43_17 _) rfl dX0_addWays_164 ?_
  refine s_iload (pc := 167) dX0_addWays_167 rfl ?_
  refine s_iload (pc := 169) dX0_addWays_169 rfl ?_
  refine s_aload_n (pc := 171) dX0_addWays_171 rfl ?_
  refine s_iload_n (pc := 172) dX0_addWays_172 rfl ?_
  refine s_iconst (pc := 173) dX0_addWays_173 ?_
  refine s_callU (pc := 174) (z := v2) (as := [(0, v3), (0, 0)]) (st := [(0, v9), (0, v4), (2, 54), (0, v1), (2, 53)]) (rv := fun b => ((0, b), (sz, sl, tt td, cv c))) (st3 := fun b => [(0, b), (0, v9), (0, v4), (2, 54), (0, v1), (2, 53)]) (w3 := fun b => (sz, sl, tt td, cv c)) rfl rfl (fun b h => vdX0_175 v2 v3 0 td c b h (by decide)) (Nat.le_of_ble_eq_true rfl) (fun _ => Nat.le_of_ble_eq_true rfl) (fun _ => ⟨rfl, rfl⟩) dX0_addWays_174 (fun p_7 => ?_)
  refine s_iload (pc := 177) dX0_addWays_177 rfl ?_
  refine s_callS3 (pc := 179) (as := [(0, v4), (0, v9), (0, p_7), (0, v8)]) (st := [(2, 54), (0, v1), (2, 53)]) (rv := fun b => ((0, b), (sz, sl, tt td, cv c))) (st3 := fun b => [(0, b), (2, 54), (0, v1), (2, 53)]) (w3 := fun b => (sz, sl, tt td, cv c)) msX0_182 (fun b h => kX0_rowAt v4 v9 p_7 v8 c b h) rfl (by decide) rfl (Nat.le_of_ble_eq_true rfl) (fun _ => Nat.le_of_ble_eq_true rfl) (fun _ => ⟨rfl, rfl⟩) dX0_addWays_179 (fun p_8 => ?_)
  refine s_aload_n (pc := 182) dX0_addWays_182 rfl ?_
  refine s_get (pc := 183) (a := 43) (v := 54) flX0_55 (t_43 _) rfl (g_43_17 _) rfl dX0_addWays_183 ?_
  refine s_iload (pc := 186) dX0_addWays_186 rfl ?_
  refine s_iconst (pc := 188) dX0_addWays_188 ?_
  refine s_iadd (pc := 189) dX0_addWays_189 ?_
  refine s_iload (pc := 190) dX0_addWays_190 rfl ?_
  refine s_aload_n (pc := 192) dX0_addWays_192 rfl ?_
  refine s_iload_n (pc := 193) dX0_addWays_193 rfl ?_
  refine s_iload (pc := 194) dX0_addWays_194 rfl ?_
  refine s_iconst (pc := 196) dX0_addWays_196 ?_
  refine s_isub (pc := 197) dX0_addWays_197 ?_
  refine s_callU (pc := 198) (z := v2) (as := [(0, v3), (0, v6 - 1)]) (st := [(0, v5), (0, v9 + 1), (2, 54), (0, p_8), (2, 54), (0, v1), (2, 53)]) (rv := fun b => ((0, b), (sz, sl, tt td, cv c))) (st3 := fun b => [(0, b), (0, v5), (0, v9 + 1), (2, 54), (0, p_8), (2, 54), (0, v1), (2, 53)]) (w3 := fun b => (sz, sl, tt td, cv c)) rfl rfl (fun b h => vdX0_175 v2 v3 (v6 - 1) td c b h (by decide)) (Nat.le_of_ble_eq_true rfl) (fun _ => Nat.le_of_ble_eq_true rfl) (fun _ => ⟨rfl, rfl⟩) dX0_addWays_198 (fun p_9 => ?_)
  refine s_iload (pc := 201) dX0_addWays_201 rfl ?_
  refine s_iload (pc := 203) dX0_addWays_203 rfl ?_
  refine s_isub (pc := 205) dX0_addWays_205 ?_
  refine s_callS3 (pc := 206) (as := [(0, v9 + 1), (0, v5), (0, p_9), (0, v6 - v8)]) (st := [(2, 54), (0, p_8), (2, 54), (0, v1), (2, 53)]) (rv := fun b => ((0, b), (sz, sl, tt td, cv c))) (st3 := fun b => [(0, b), (2, 54), (0, p_8), (2, 54), (0, v1), (2, 53)]) (w3 := fun b => (sz, sl, tt td, cv c)) msX0_182 (fun b h => kX0_rowAt (v9 + 1) v5 p_9 (v6 - v8) c b h) rfl (by decide) rfl (Nat.le_of_ble_eq_true rfl) (fun _ => Nat.le_of_ble_eq_true rfl) (fun _ => ⟨rfl, rfl⟩) dX0_addWays_206 (fun p_10 => ?_)
  refine s_callS3 (pc := 209) (as := [(2, 53), (0, v1), (2, 54), (0, p_8), (2, 54), (0, p_10)]) (st := []) (rv := fun b => ((3, 0), (sz, sl, tt td, cv b))) (st3 := fun b => []) (w3 := fun b => (sz, sl, tt td, cv b)) msX0_171_53_54_54 (fun b h => kX0_add_53_54_54 v1 p_8 p_10 c b h) rfl (by decide) rfl (Nat.le_of_ble_eq_true rfl) (fun _ => Nat.le_of_ble_eq_true rfl) (fun _ => ⟨rfl, rfl⟩) dX0_addWays_209 (fun p_11 => ?_)
  refine s_iinc (pc := 212) (lf := fun x => [some (2, 43), some (0, v1), some (2, v2), some (0, v3), some (0, v4), some (0, v5), some (0, v6), none, some (0, v8), some (0, x)]) dX0_addWays_212 rfl (fun _ => rfl) (Nat.le_of_ble_eq_true rfl) (fun v9_12 => ?_)
  refine s_goto (pc := 215) (tgt := 151) dX0_addWays_215 rfl ?_
  exact Sm.some (fun h => h)
noncomputable def fX0_addWays_j145 (v1 : Int) (v2 : Int) (v3 : Int) (v4 : Int) (v5 : Int) (v6 : Int) (w0 : Int) (td : TT) (c : CC) : Option CC :=
  cl (wh (fun s => fX0_addWays_l151 v1 v2 v3 v4 v5 v6 w0 s.1 td s.2) (v4, c)) (fun e_13 =>
  some e_13)
theorem sX0_addWays_j145 {G : GG} {Γ : Cx} {r : Vv × Wd} {sz : Nat} {sl : Nat} (v1 : Int) (v2 : Int) (v3 : Int) (v4 : Int) (v5 : Int) (v6 : Int) (w0 : Int) (td : TT) (c : CC) : Sm (fX0_addWays_j145 v1 v2 v3 v4 v5 v6 w0 td c) (fun x => r = ((3, 0), (sz, sl, tt td, cv x))) (WP G Γ muX0_addWays r 145 [some (2, 43), some (0, v1), some (2, v2), some (0, v3), some (0, v4), some (0, v5), some (0, v6), none, none, none] [(0, w0)] (sz, sl, tt td, cv c)) := by
  unfold fX0_addWays_j145
  refine s_istoreD (pc := 145) (ls' := [some (2, 43), some (0, v1), some (2, v2), some (0, v3), some (0, v4), some (0, v5), some (0, v6), none, some (0, w0), none]) dX0_addWays_145 rfl (Nat.le_of_ble_eq_true rfl) ?_
  refine s_iload (pc := 147) dX0_addWays_147 rfl ?_
  refine s_istoreD (pc := 149) (ls' := [some (2, 43), some (0, v1), some (2, v2), some (0, v3), some (0, v4), some (0, v5), some (0, v6), none, some (0, w0), some (0, v4)]) dX0_addWays_149 rfl (Nat.le_of_ble_eq_true rfl) ?_
  refine s_loop (g := gX0_addWays_l151 G Γ r sz sl td c v1 v2 v3 v4 v5 v6 w0) (Ex := eX0_addWays_l151 G Γ r sz sl td c v1 v2 v3 v4 v5 v6 w0) (s0 := (v4, c)) (fun s => sX0_addWays_l151 v1 v2 v3 v4 v5 v6 w0 s.1 td s.2) ?_
  intro e_13
  show Sm _ _ (WP G Γ muX0_addWays r 218 [none, none, none, none, none, none, none, none, none, none] [] (sz, sl, tt td, cv e_13))
  exact s_vret (pc := 218) dX0_addWays_218 rfl (fun h => h)
noncomputable def fX0_addWays_j132 (v1 : Int) (v2 : Int) (v3 : Int) (v4 : Int) (v5 : Int) (v6 : Int) (td : TT) (c : CC) : Option CC :=
  cl (fV_sort v2  td c) fun p_6 =>
   if p_6 = 3 then
  (fX0_addWays_j145 v1 v2 v3 v4 v5 v6 v3 td c)
  else
  (fX0_addWays_j145 v1 v2 v3 v4 v5 v6 1 td c)
theorem sX0_addWays_j132 {G : GG} {Γ : Cx} {r : Vv × Wd} {sz : Nat} {sl : Nat} (v1 : Int) (v2 : Int) (v3 : Int) (v4 : Int) (v5 : Int) (v6 : Int) (td : TT) (c : CC) : Sm (fX0_addWays_j132 v1 v2 v3 v4 v5 v6 td c) (fun x => r = ((3, 0), (sz, sl, tt td, cv x))) (WP G Γ muX0_addWays r 132 [some (2, 43), some (0, v1), some (2, v2), some (0, v3), some (0, v4), some (0, v5), some (0, v6), none, none, none] [] (sz, sl, tt td, cv c)) := by
  unfold fX0_addWays_j132
  refine s_aload_n (pc := 132) dX0_addWays_132 rfl ?_
  refine s_callU (pc := 133) (z := v2) (as := []) (st := []) (rv := fun b => ((0, b), (sz, sl, tt td, cv c))) (st3 := fun b => [(0, b)]) (w3 := fun b => (sz, sl, tt td, cv c)) rfl rfl (fun b h => vdX0_178 v2  td c b h (by decide)) (Nat.le_of_ble_eq_true rfl) (fun _ => Nat.le_of_ble_eq_true rfl) (fun _ => ⟨rfl, rfl⟩) dX0_addWays_133 (fun p_6 => ?_)
  refine s_iconst (pc := 136) dX0_addWays_136 ?_
  refine s_icmp_ne (pc := 137) (tgt := 144) dX0_addWays_137 rfl ?_ ?_
  · refine s_iconst (pc := 144) dX0_addWays_144 ?_
    exact sX0_addWays_j145 v1 v2 v3 v4 v5 v6 1 td c
  refine s_iload_n (pc := 140) dX0_addWays_140 rfl ?_
  refine s_goto (pc := 141) (tgt := 145) dX0_addWays_141 rfl ?_
  exact sX0_addWays_j145 v1 v2 v3 v4 v5 v6 v3 td c
noncomputable def fX0_addWays_j99 (v1 : Int) (v2 : Int) (v3 : Int) (v4 : Int) (v5 : Int) (v6 : Int) (td : TT) (c : CC) : Option CC :=
  cl (fV_kind v2 v3 0 td c) fun p_15 =>
   cl (fX0_rowAt v4 v5 p_15 v6 ) fun p_16 =>
   cl (fX0_add_53_54_55 v1 p_16 0 c) fun p_17 =>
   some p_17
theorem sX0_addWays_j99 {G : GG} {Γ : Cx} {r : Vv × Wd} {sz : Nat} {sl : Nat} (v1 : Int) (v2 : Int) (v3 : Int) (v4 : Int) (v5 : Int) (v6 : Int) (td : TT) (c : CC) : Sm (fX0_addWays_j99 v1 v2 v3 v4 v5 v6 td c) (fun x => r = ((3, 0), (sz, sl, tt td, cv x))) (WP G Γ muX0_addWays r 99 [some (2, 43), some (0, v1), some (2, v2), some (0, v3), some (0, v4), some (0, v5), some (0, v6), none, none, none] [] (sz, sl, tt td, cv c)) := by
  unfold fX0_addWays_j99
  refine s_aload_n (pc := 99) dX0_addWays_99 rfl ?_
  refine s_get (pc := 100) (a := 43) (v := 53) flX0_51 (t_43 _) rfl (g_43_16 _) rfl dX0_addWays_100 ?_
  refine s_iload_n (pc := 103) dX0_addWays_103 rfl ?_
  refine s_aload_n (pc := 104) dX0_addWays_104 rfl ?_
  refine s_get (pc := 105) (a := 43) (v := 54) flX0_55 (t_43 _) rfl (g_43_17 _) rfl dX0_addWays_105 ?_
  refine s_iload (pc := 108) dX0_addWays_108 rfl ?_
  refine s_iload (pc := 110) dX0_addWays_110 rfl ?_
  refine s_aload_n (pc := 112) dX0_addWays_112 rfl ?_
  refine s_iload_n (pc := 113) dX0_addWays_113 rfl ?_
  refine s_iconst (pc := 114) dX0_addWays_114 ?_
  refine s_callU (pc := 115) (z := v2) (as := [(0, v3), (0, 0)]) (st := [(0, v5), (0, v4), (2, 54), (0, v1), (2, 53)]) (rv := fun b => ((0, b), (sz, sl, tt td, cv c))) (st3 := fun b => [(0, b), (0, v5), (0, v4), (2, 54), (0, v1), (2, 53)]) (w3 := fun b => (sz, sl, tt td, cv c)) rfl rfl (fun b h => vdX0_175 v2 v3 0 td c b h (by decide)) (Nat.le_of_ble_eq_true rfl) (fun _ => Nat.le_of_ble_eq_true rfl) (fun _ => ⟨rfl, rfl⟩) dX0_addWays_115 (fun p_15 => ?_)
  refine s_iload (pc := 118) dX0_addWays_118 rfl ?_
  refine s_callS3 (pc := 120) (as := [(0, v4), (0, v5), (0, p_15), (0, v6)]) (st := [(2, 54), (0, v1), (2, 53)]) (rv := fun b => ((0, b), (sz, sl, tt td, cv c))) (st3 := fun b => [(0, b), (2, 54), (0, v1), (2, 53)]) (w3 := fun b => (sz, sl, tt td, cv c)) msX0_182 (fun b h => kX0_rowAt v4 v5 p_15 v6 c b h) rfl (by decide) rfl (Nat.le_of_ble_eq_true rfl) (fun _ => Nat.le_of_ble_eq_true rfl) (fun _ => ⟨rfl, rfl⟩) dX0_addWays_120 (fun p_16 => ?_)
  refine s_aload_n (pc := 123) dX0_addWays_123 rfl ?_
  refine s_get (pc := 124) (a := 43) (v := 55) flX0_58 (t_43 _) rfl (g_43_18 _) rfl dX0_addWays_124 ?_
  refine s_iconst (pc := 127) dX0_addWays_127 ?_
  refine s_callS3 (pc := 128) (as := [(2, 53), (0, v1), (2, 54), (0, p_16), (2, 55), (0, 0)]) (st := []) (rv := fun b => ((3, 0), (sz, sl, tt td, cv b))) (st3 := fun b => []) (w3 := fun b => (sz, sl, tt td, cv b)) msX0_171_53_54_55 (fun b h => kX0_add_53_54_55 v1 p_16 0 c b h) rfl (by decide) rfl (Nat.le_of_ble_eq_true rfl) (fun _ => Nat.le_of_ble_eq_true rfl) (fun _ => ⟨rfl, rfl⟩) dX0_addWays_128 (fun p_17 => ?_)
  exact s_vret (pc := 131) dX0_addWays_131 rfl (fun h => h)
noncomputable def fX0_addWays_j78 (v1 : Int) (v2 : Int) (v3 : Int) (v4 : Int) (v5 : Int) (v6 : Int) (v7 : Int) (td : TT) (c : CC) : Option CC :=
  if v7 = v6 then
  (cl (fV_sort v2  td c) fun p_14 =>
   if p_14 = 3 then
  (if (5 : Int) < v6 then
  (fX0_addWays_j132 v1 v2 v3 v4 v5 v6 td c)
  else
  (fX0_addWays_j99 v1 v2 v3 v4 v5 v6 td c))
  else
  (fX0_addWays_j99 v1 v2 v3 v4 v5 v6 td c))
  else
  (fX0_addWays_j132 v1 v2 v3 v4 v5 v6 td c)
theorem sX0_addWays_j78 {G : GG} {Γ : Cx} {r : Vv × Wd} {sz : Nat} {sl : Nat} (v1 : Int) (v2 : Int) (v3 : Int) (v4 : Int) (v5 : Int) (v6 : Int) (v7 : Int) (td : TT) (c : CC) : Sm (fX0_addWays_j78 v1 v2 v3 v4 v5 v6 v7 td c) (fun x => r = ((3, 0), (sz, sl, tt td, cv x))) (WP G Γ muX0_addWays r 78 [some (2, 43), some (0, v1), some (2, v2), some (0, v3), some (0, v4), some (0, v5), some (0, v6), some (0, v7), none, none] [] (sz, sl, tt td, cv c)) := by
  unfold fX0_addWays_j78
  refine s_iload (pc := 78) dX0_addWays_78 rfl ?_
  refine s_iload (pc := 80) dX0_addWays_80 rfl ?_
  refine s_icmp_ne (pc := 82) (tgt := 132) dX0_addWays_82 rfl ?_ ?_
  · refine s_wk [true, true, true, true, true, true, true, false, true, true] (ls' := [some (2, 43), some (0, v1), some (2, v2), some (0, v3), some (0, v4), some (0, v5), some (0, v6), none, none, none]) rfl ?_
    exact sX0_addWays_j132 v1 v2 v3 v4 v5 v6 td c
  refine s_aload_n (pc := 85) dX0_addWays_85 rfl ?_
  refine s_callU (pc := 86) (z := v2) (as := []) (st := []) (rv := fun b => ((0, b), (sz, sl, tt td, cv c))) (st3 := fun b => [(0, b)]) (w3 := fun b => (sz, sl, tt td, cv c)) rfl rfl (fun b h => vdX0_178 v2  td c b h (by decide)) (Nat.le_of_ble_eq_true rfl) (fun _ => Nat.le_of_ble_eq_true rfl) (fun _ => ⟨rfl, rfl⟩) dX0_addWays_86 (fun p_14 => ?_)
  refine s_iconst (pc := 89) dX0_addWays_89 ?_
  refine s_icmp_ne (pc := 90) (tgt := 99) dX0_addWays_90 rfl ?_ ?_
  · refine s_wk [true, true, true, true, true, true, true, false, true, true] (ls' := [some (2, 43), some (0, v1), some (2, v2), some (0, v3), some (0, v4), some (0, v5), some (0, v6), none, none, none]) rfl ?_
    exact sX0_addWays_j99 v1 v2 v3 v4 v5 v6 td c
  refine s_iload (pc := 93) dX0_addWays_93 rfl ?_
  refine s_iconst (pc := 95) dX0_addWays_95 ?_
  refine s_icmp_gt (pc := 96) (tgt := 132) dX0_addWays_96 rfl ?_ ?_
  · refine s_wk [true, true, true, true, true, true, true, false, true, true] (ls' := [some (2, 43), some (0, v1), some (2, v2), some (0, v3), some (0, v4), some (0, v5), some (0, v6), none, none, none]) rfl ?_
    exact sX0_addWays_j132 v1 v2 v3 v4 v5 v6 td c
  refine s_wk [true, true, true, true, true, true, true, false, true, true] (ls' := [some (2, 43), some (0, v1), some (2, v2), some (0, v3), some (0, v4), some (0, v5), some (0, v6), none, none, none]) rfl ?_
  exact sX0_addWays_j99 v1 v2 v3 v4 v5 v6 td c
noncomputable def fX0_addWays (a1 : Int) (a2 : Int) (a3 : Int) (a4 : Int) (a5 : Int) (td : TT) (c : CC) : Option CC :=
  cl (fV_takes a2 a3 td c) fun p_1 =>
   if p_1 = 0 then
  (if a5 < a4 then
  (cl (fX0_add_53_55_55 a1 0 0 c) fun p_18 =>
   some p_18)
  else
  (some c))
  else
  (if a5 < a4 then
  (some c)
  else
  (cl (wh (fun s => fX0_addWays_l49 a1 a2 a3 a4 a5 p_1 s td c) 0) (fun e_5 =>
  fX0_addWays_j78 a1 a2 a3 a4 a5 p_1 e_5 td c)))
theorem sX0_addWays {G : GG} {Γ : Cx} {r : Vv × Wd} {sz : Nat} {sl : Nat} (a1 : Int) (a2 : Int) (a3 : Int) (a4 : Int) (a5 : Int) (td : TT) (c : CC) : Sm (fX0_addWays a1 a2 a3 a4 a5 td c) (fun x => r = ((3, 0), (sz, sl, tt td, cv x))) (WP G Γ muX0_addWays r 0 [some (2, 43), some (0, a1), some (2, a2), some (0, a3), some (0, a4), some (0, a5), none, none, none, none] [] (sz, sl, tt td, cv c)) := by
  unfold fX0_addWays
  refine s_aload_n (pc := 0) dX0_addWays_0 rfl ?_
  refine s_iload_n (pc := 1) dX0_addWays_1 rfl ?_
  refine s_callU (pc := 2) (z := a2) (as := [(0, a3)]) (st := []) (rv := fun b => ((0, b), (sz, sl, tt td, cv c))) (st3 := fun b => [(0, b)]) (w3 := fun b => (sz, sl, tt td, cv c)) rfl rfl (fun b h => vdX0_167 a2 a3 td c b h (by decide)) (Nat.le_of_ble_eq_true rfl) (fun _ => Nat.le_of_ble_eq_true rfl) (fun _ => ⟨rfl, rfl⟩) dX0_addWays_2 (fun p_1 => ?_)
  refine s_istoreD (pc := 5) (ls' := [some (2, 43), some (0, a1), some (2, a2), some (0, a3), some (0, a4), some (0, a5), some (0, p_1), none, none, none]) dX0_addWays_5 rfl (Nat.le_of_ble_eq_true rfl) ?_
  refine s_iload (pc := 7) dX0_addWays_7 rfl ?_
  refine s_if_ne (pc := 9) (tgt := 38) dX0_addWays_9 rfl ?_ ?_
  · refine s_iload (pc := 38) dX0_addWays_38 rfl ?_
    refine s_iload (pc := 40) dX0_addWays_40 rfl ?_
    refine s_icmp_le (pc := 42) (tgt := 46) dX0_addWays_42 rfl ?_ ?_
    · refine s_iconst (pc := 46) dX0_addWays_46 ?_
      refine s_istoreD (pc := 47) (ls' := [some (2, 43), some (0, a1), some (2, a2), some (0, a3), some (0, a4), some (0, a5), some (0, p_1), some (0, 0), none, none]) dX0_addWays_47 rfl (Nat.le_of_ble_eq_true rfl) ?_
      refine s_loop (g := gX0_addWays_l49 G Γ r sz sl td c a1 a2 a3 a4 a5 p_1) (Ex := eX0_addWays_l49 G Γ r sz sl td c a1 a2 a3 a4 a5 p_1) (s0 := 0) (fun s => sX0_addWays_l49 a1 a2 a3 a4 a5 p_1 s td c) ?_
      intro e_5
      show Sm _ _ (WP G Γ muX0_addWays r 78 [some (2, 43), some (0, a1), some (2, a2), some (0, a3), some (0, a4), some (0, a5), some (0, p_1), some (0, e_5), none, none] [] (sz, sl, tt td, cv c))
      exact sX0_addWays_j78 a1 a2 a3 a4 a5 p_1 e_5 td c
    exact s_vret (pc := 45) dX0_addWays_45 rfl (fun h => h)
  refine s_iload (pc := 12) dX0_addWays_12 rfl ?_
  refine s_iload (pc := 14) dX0_addWays_14 rfl ?_
  refine s_icmp_le (pc := 16) (tgt := 37) dX0_addWays_16 rfl ?_ ?_
  · exact s_vret (pc := 37) dX0_addWays_37 rfl (fun h => h)
  refine s_aload_n (pc := 19) dX0_addWays_19 rfl ?_
  refine s_get (pc := 20) (a := 43) (v := 53) flX0_51 (t_43 _) rfl (g_43_16 _) rfl dX0_addWays_20 ?_
  refine s_iload_n (pc := 23) dX0_addWays_23 rfl ?_
  refine s_aload_n (pc := 24) dX0_addWays_24 rfl ?_
  refine s_get (pc := 25) (a := 43) (v := 55) flX0_58 (t_43 _) rfl (g_43_18 _) rfl dX0_addWays_25 ?_
  refine s_iconst (pc := 28) dX0_addWays_28 ?_
  refine s_aload_n (pc := 29) dX0_addWays_29 rfl ?_
  refine s_get (pc := 30) (a := 43) (v := 55) flX0_58 (t_43 _) rfl (g_43_18 _) rfl dX0_addWays_30 ?_
  refine s_iconst (pc := 33) dX0_addWays_33 ?_
  refine s_callS3 (pc := 34) (as := [(2, 53), (0, a1), (2, 55), (0, 0), (2, 55), (0, 0)]) (st := []) (rv := fun b => ((3, 0), (sz, sl, tt td, cv b))) (st3 := fun b => []) (w3 := fun b => (sz, sl, tt td, cv b)) msX0_171_53_55_55 (fun b h => kX0_add_53_55_55 a1 0 0 c b h) rfl (by decide) rfl (Nat.le_of_ble_eq_true rfl) (fun _ => Nat.le_of_ble_eq_true rfl) (fun _ => ⟨rfl, rfl⟩) dX0_addWays_34 (fun p_18 => ?_)
  exact s_vret (pc := 37) dX0_addWays_37 rfl (fun h => h)
theorem kX0_addWays {G : GG} {sz : Nat} {sl : Nat} (a1 : Int) (a2 : Int) (a3 : Int) (a4 : Int) (a5 : Int) (td : TT) (c : CC) (x : CC) (h : fX0_addWays a1 a2 a3 a4 a5 td c = some x) : Ct G yX0_addWays muX0_addWays [(2, 43), (0, a1), (2, a2), (0, a3), (0, a4), (0, a5)] (sz, sl, tt td, cv c) ((3, 0), (sz, sl, tt td, cv x)) :=
  Ct.of (n := 4) (ls0 := [some (2, 43), some (0, a1), some (2, a2), some (0, a3), some (0, a4), some (0, a5), none, none, none, none]) (by decide) rfl rfl ⟨show (none : Option FieldType) ≠ some .float by decide, show (none : Option FieldType) ≠ some .double by decide⟩ (Nat.le_of_ble_eq_true rfl) rfl ⟨Nat.le_refl _, Nat.le_refl _⟩ (show (3 : Nat) ≠ 9 by decide) (fun Γ => sX0_addWays a1 a2 a3 a4 a5 td c x h rfl)
theorem flX0_154 : FL RX0 154 0 11 := ⟨_, _, _, cf0, by decide, q224⟩
theorem mvX0_186 : MV RX0 186 RX0 yX0_lexicon muX0_lexicon 0 := ⟨lw_V q832 q834 qs22 q125 q835, by decide +kernel, Nat.le_of_ble_eq_true rfl⟩
theorem fnX0_189 : FLNf RX0 189 1 0 := ⟨_, _, _, _, cf1, by decide, PP.nwF q175⟩
theorem fsX0_190 : ∀ ci, 6 ≤ ci → ci ≤ 10 → FL RX0 190 ci 1 ∧ tgF (fty ci 1) = 0 := by
  intro ci h1 h2
  rcases (by omega : ci = 6 ∨ ci = 7 ∨ ci = 8 ∨ ci = 9 ∨ ci = 10) with e | e | e | e | e <;> subst e
  · exact ⟨⟨_, _, _, cf6, by decide, q592⟩, rfl⟩
  · exact ⟨⟨_, _, _, cf7, by decide, q592⟩, rfl⟩
  · exact ⟨⟨_, _, _, cf8, by decide, q592⟩, rfl⟩
  · exact ⟨⟨_, _, _, cf9, by decide, q592⟩, rfl⟩
  · exact ⟨⟨_, _, _, cf10, by decide, q592⟩, rfl⟩
abbrev muX7_most : MI := (cX7_most, RX7, 1, some .int, 1, "most")
noncomputable def fX7_most (a0 : Int) (td : TT) (c : CC) : Option Int :=
  some 1
theorem sX7_most {G : GG} {Γ : Cx} {r : Vv × Wd} {sz : Nat} {sl : Nat} (a0 : Int) (td : TT) (c : CC) : Sm (fX7_most a0 td c) (fun x => r = ((0, x), (sz, sl, tt td, cv c))) (WP G Γ muX7_most r 0 [some (2, a0)] [] (sz, sl, tt td, cv c)) := by
  unfold fX7_most
  refine s_iconst (pc := 0) dX7_most_0 ?_
  exact s_iret (pc := 1) dX7_most_1 rfl (fun h => h)
theorem kX7_most {G : GG} {sz : Nat} {sl : Nat} (a0 : Int) (td : TT) (c : CC) (x : Int) (h : fX7_most a0 td c = some x) : Ct G yX7_most muX7_most [(2, a0)] (sz, sl, tt td, cv c) ((0, x), (sz, sl, tt td, cv c)) :=
  Ct.of (n := 0) (ls0 := [some (2, a0)]) (by decide) rfl rfl ⟨show (some .int : Option FieldType) ≠ some .float by decide, show (some .int : Option FieldType) ≠ some .double by decide⟩ (Nat.le_of_ble_eq_true rfl) rfl ⟨Nat.le_refl _, Nat.le_refl _⟩ (show (0 : Nat) ≠ 9 by decide) (fun Γ => sX7_most a0 td c x h rfl)
abbrev muX10_most : MI := (cX10_most, RX10, 1, some .int, 1, "most")
noncomputable def fX10_most (a0 : Int) (td : TT) (c : CC) : Option Int :=
  some 5
theorem sX10_most {G : GG} {Γ : Cx} {r : Vv × Wd} {sz : Nat} {sl : Nat} (a0 : Int) (td : TT) (c : CC) : Sm (fX10_most a0 td c) (fun x => r = ((0, x), (sz, sl, tt td, cv c))) (WP G Γ muX10_most r 0 [some (2, a0)] [] (sz, sl, tt td, cv c)) := by
  unfold fX10_most
  refine s_iconst (pc := 0) dX10_most_0 ?_
  exact s_iret (pc := 1) dX10_most_1 rfl (fun h => h)
theorem kX10_most {G : GG} {sz : Nat} {sl : Nat} (a0 : Int) (td : TT) (c : CC) (x : Int) (h : fX10_most a0 td c = some x) : Ct G yX10_most muX10_most [(2, a0)] (sz, sl, tt td, cv c) ((0, x), (sz, sl, tt td, cv c)) :=
  Ct.of (n := 0) (ls0 := [some (2, a0)]) (by decide) rfl rfl ⟨show (some .int : Option FieldType) ≠ some .float by decide, show (some .int : Option FieldType) ≠ some .double by decide⟩ (Nat.le_of_ble_eq_true rfl) rfl ⟨Nat.le_refl _, Nat.le_refl _⟩ (show (0 : Nat) ≠ 9 by decide) (fun Γ => sX10_most a0 td c x h rfl)
abbrev muX11_most : MI := (cX11_most, RX11, 1, some .int, 1, "most")
noncomputable def fX11_most (a0 : Int) (td : TT) (c : CC) : Option Int :=
  some 3
theorem sX11_most {G : GG} {Γ : Cx} {r : Vv × Wd} {sz : Nat} {sl : Nat} (a0 : Int) (td : TT) (c : CC) : Sm (fX11_most a0 td c) (fun x => r = ((0, x), (sz, sl, tt td, cv c))) (WP G Γ muX11_most r 0 [some (2, a0)] [] (sz, sl, tt td, cv c)) := by
  unfold fX11_most
  refine s_iconst (pc := 0) dX11_most_0 ?_
  exact s_iret (pc := 1) dX11_most_1 rfl (fun h => h)
theorem kX11_most {G : GG} {sz : Nat} {sl : Nat} (a0 : Int) (td : TT) (c : CC) (x : Int) (h : fX11_most a0 td c = some x) : Ct G yX11_most muX11_most [(2, a0)] (sz, sl, tt td, cv c) ((0, x), (sz, sl, tt td, cv c)) :=
  Ct.of (n := 0) (ls0 := [some (2, a0)]) (by decide) rfl rfl ⟨show (some .int : Option FieldType) ≠ some .float by decide, show (some .int : Option FieldType) ≠ some .double by decide⟩ (Nat.le_of_ble_eq_true rfl) rfl ⟨Nat.le_refl _, Nat.le_refl _⟩ (show (0 : Nat) ≠ 9 by decide) (fun Γ => sX11_most a0 td c x h rfl)
noncomputable def fV_most (z : Int)  (td : TT) (c : CC) : Option Int :=
  if 0 ≤ z then if (tt td (Int.toNat z)).1 = 6 then fX7_most z  td c else if (tt td (Int.toNat z)).1 = 7 then fX7_most z  td c else if (tt td (Int.toNat z)).1 = 8 then fX10_most z  td c else if (tt td (Int.toNat z)).1 = 9 then fX11_most z  td c else if (tt td (Int.toNat z)).1 = 10 then fX7_most z  td c else none else none
theorem muX0_193_6 : MU RX0 193 RX8 (⟨"HeldTongue$Sense", "most", "()I"⟩ : MethodName) yX7_most muX7_most 0 := ⟨"HeldTongue$Sense", fun R s args rm hts hP hR => va_cwU 0 hts (lw_U (ow := "HeldTongue$Sense") q836 q838 q846 q837 q140 q848) rfl rfl rfl rfl (by decide +kernel) hR⟩
theorem muX0_193_7 : MU RX0 193 RX9 (⟨"HeldTongue$Sense", "most", "()I"⟩ : MethodName) yX7_most muX7_most 0 := ⟨"HeldTongue$Sense", fun R s args rm hts hP hR => va_cwU 0 hts (lw_U (ow := "HeldTongue$Sense") q836 q838 q847 q837 q140 q848) rfl rfl rfl rfl (by decide +kernel) hR⟩
theorem muX0_193_8 : MU RX0 193 RX10 (⟨"HeldTongue$Sense", "most", "()I"⟩ : MethodName) yX10_most muX10_most 0 := ⟨"HeldTongue$Sense", fun R s args rm hts hP hR => va_cwO 0 hts (lw_O (ow := "HeldTongue$Sense") q836 q838 q837 q843 q844 q143 q845) rfl rfl rfl q848 (by decide +kernel) hR⟩
theorem muX0_193_9 : MU RX0 193 RX11 (⟨"HeldTongue$Sense", "most", "()I"⟩ : MethodName) yX11_most muX11_most 0 := ⟨"HeldTongue$Sense", fun R s args rm hts hP hR => va_cwO 0 hts (lw_O (ow := "HeldTongue$Sense") q836 q838 q837 q840 q841 q144 q842) rfl rfl rfl q848 (by decide +kernel) hR⟩
theorem muX0_193_10 : MU RX0 193 RX12 (⟨"HeldTongue$Sense", "most", "()I"⟩ : MethodName) yX7_most muX7_most 0 := ⟨"HeldTongue$Sense", fun R s args rm hts hP hR => va_cwU 0 hts (lw_U (ow := "HeldTongue$Sense") q836 q838 q839 q837 q140 q848) rfl rfl rfl rfl (by decide +kernel) hR⟩
theorem vdX0_193 {G : GG} {sz sl : Nat} {dd : Nat} (z : Int)  (td : TT) (c : CC) (b : Int) (h : fV_most z  td c = some b) (hd : 1 + 1 ≤ dd) : ∃ (a ci N : Nat) (C : String) (y : MethodName) (μy : MI), ((sz, sl, tt td, cv c) : Wd).2.2.1 a = (ci, N) ∧ (kCl[ci]?.map (fun q => q.1)) = some C ∧ z = (a : Int) ∧ MU RX0 193 C (⟨"HeldTongue$Sense", "most", "()I"⟩ : MethodName) y μy 0 ∧ μy.2.2.1 ≤ 45 ∧ μy.2.2.2.2.1 + 1 ≤ dd ∧ Ct G y μy ((2, z) :: []) (sz, sl, tt td, cv c) ((0, b), (sz, sl, tt td, cv c)) := by
  unfold fV_most at h
  by_cases h0 : 0 ≤ z
  · rw [if_pos h0] at h
    by_cases h6 : (tt td (Int.toNat z)).1 = 6
    · rw [if_pos h6] at h
      exact ⟨z.toNat, 6, _, _, _, _, dyn_t h6, rfl, dyn_z h0, muX0_193_6, by decide, Nat.le_trans (by decide) hd, kX7_most z  td c b h⟩
    rw [if_neg h6] at h
    by_cases h7 : (tt td (Int.toNat z)).1 = 7
    · rw [if_pos h7] at h
      exact ⟨z.toNat, 7, _, _, _, _, dyn_t h7, rfl, dyn_z h0, muX0_193_7, by decide, Nat.le_trans (by decide) hd, kX7_most z  td c b h⟩
    rw [if_neg h7] at h
    by_cases h8 : (tt td (Int.toNat z)).1 = 8
    · rw [if_pos h8] at h
      exact ⟨z.toNat, 8, _, _, _, _, dyn_t h8, rfl, dyn_z h0, muX0_193_8, by decide, Nat.le_trans (by decide) hd, kX10_most z  td c b h⟩
    rw [if_neg h8] at h
    by_cases h9 : (tt td (Int.toNat z)).1 = 9
    · rw [if_pos h9] at h
      exact ⟨z.toNat, 9, _, _, _, _, dyn_t h9, rfl, dyn_z h0, muX0_193_9, by decide, Nat.le_trans (by decide) hd, kX11_most z  td c b h⟩
    rw [if_neg h9] at h
    by_cases h10 : (tt td (Int.toNat z)).1 = 10
    · rw [if_pos h10] at h
      exact ⟨z.toNat, 10, _, _, _, _, dyn_t h10, rfl, dyn_z h0, muX0_193_10, by decide, Nat.le_trans (by decide) hd, kX7_most z  td c b h⟩
    rw [if_neg h10] at h
    cases h
  · rw [if_neg h0] at h; cases h
theorem fsX0_196 : ∀ ci, 6 ≤ ci → ci ≤ 10 → FL RX0 196 ci 2 ∧ tgF (fty ci 2) = 0 := by
  intro ci h1 h2
  rcases (by omega : ci = 6 ∨ ci = 7 ∨ ci = 8 ∨ ci = 9 ∨ ci = 10) with e | e | e | e | e <;> subst e
  · exact ⟨⟨_, _, _, cf6, by decide, q594⟩, rfl⟩
  · exact ⟨⟨_, _, _, cf7, by decide, q594⟩, rfl⟩
  · exact ⟨⟨_, _, _, cf8, by decide, q594⟩, rfl⟩
  · exact ⟨⟨_, _, _, cf9, by decide, q594⟩, rfl⟩
  · exact ⟨⟨_, _, _, cf10, by decide, q594⟩, rfl⟩
theorem msX0_199 : MS RX0 199 yX0_countAt muX0_countAt 3 := ⟨lw_S q849 q850 q125 q851, by decide +kernel, by decide⟩
theorem mvX0_203 : MV RX0 203 RX0 yX0_addWays muX0_addWays 5 := ⟨lw_V q855 q857 qs23 q125 q858, by decide +kernel, Nat.le_of_ble_eq_true rfl⟩
abbrev muX0_add_54_53_55 : MI := (cX0_add, RX0, 12, none, 1, "add")
abbrev gX0_add_54_53_55_l28 (G : GG) (Γ : Cx) (r : Vv × Wd) (sz sl : Nat) (td : TT) (c : CC) (v1 : Int) (v3 : Int) (v5 : Int) (v6 : Int) : (Int × Int × CC) → Prop := fun s => WP G Γ muX0_add_54_53_55 r 28 [some (2, 54), some (0, v1), some (2, 53), some (0, v3), some (2, 55), some (0, v5), some (0, v6), some (1, s.1), none, some (0, s.2.1), none, none] [] (sz, sl, tt td, cv s.2.2)
abbrev eX0_add_54_53_55_l28 (G : GG) (Γ : Cx) (r : Vv × Wd) (sz sl : Nat) (td : TT) (c : CC) (v1 : Int) (v3 : Int) (v5 : Int) (v6 : Int) : (CC) → Prop := (fun s => WP G Γ muX0_add_54_53_55 r 101 [some (2, 54), some (0, v1), some (2, 53), some (0, v3), some (2, 55), some (0, v5), some (0, v6), none, none, none, none, none] [] (sz, sl, tt td, cv s))
noncomputable def fX0_add_54_53_55_l28 (v1 : Int) (v3 : Int) (v5 : Int) (v6 : Int) (v7 : Int) (v9 : Int) (c : CC) : Option ((Int × Int × CC) ⊕ (CC)) :=
  gd (inR (v6 + v9)) <|
   if v6 + v9 < 7 then
  (gd (inR (v1 + v6)) <|
   gd (inR ((v1 + v6) + v9)) <|
   gd ((0 : Int) ≤ (v1 + v6) + v9 ∧ (v1 + v6) + v9 < 84000) <|
   gd (inL ((c 54 (Int.toNat ((v1 + v6) + v9))) + v7)) <|
   gd (inR (v3 + v6)) <|
   gd ((0 : Int) ≤ v3 + v6 ∧ v3 + v6 < 16800) <|
   gd (inR (v5 + v9)) <|
   gd ((0 : Int) ≤ v5 + v9 ∧ v5 + v9 < 7) <|
   gd (inL ((c 53 (Int.toNat (v3 + v6))) * (c 55 (Int.toNat (v5 + v9))))) <|
   gd (inL (((c 54 (Int.toNat ((v1 + v6) + v9))) + v7) + ((c 53 (Int.toNat (v3 + v6))) * (c 55 (Int.toNat (v5 + v9)))))) <|
   bd (((c 54 (Int.toNat ((v1 + v6) + v9))) + v7) + ((c 53 (Int.toNat (v3 + v6))) * (c 55 (Int.toNat (v5 + v9))))) fun v10_1 =>
   gd (inR (v1 + v6)) <|
   gd (inR ((v1 + v6) + v9)) <|
   gd ((1000000000 : Int) ≠ 0 ∧ inL (Int.tmod v10_1 1000000000)) <|
   gd (inR (Int.tmod v10_1 1000000000)) <|
   gd ((0 : Int) ≤ (v1 + v6) + v9 ∧ (v1 + v6) + v9 < 84000) <| bd (up2 c 54 (Int.toNat ((v1 + v6) + v9)) (Int.tmod v10_1 1000000000)) fun c_2 =>
   gd ((1000000000 : Int) ≠ 0 ∧ inL (Int.tdiv v10_1 1000000000)) <|
   bd (Int.tdiv v10_1 1000000000) fun v7_3 =>
   gd (inR (v9 + 1)) <| bd (v9 + 1) fun v9_4 =>
   some (.inl (v7_3, v9_4, c_2)))
  else
  (some (.inr c))
theorem sX0_add_54_53_55_l28 {G : GG} {Γ : Cx} {r : Vv × Wd} {sz : Nat} {sl : Nat} {td : TT} (v1 : Int) (v3 : Int) (v5 : Int) (v6 : Int) (v7 : Int) (v9 : Int) (c : CC) : Sm (fX0_add_54_53_55_l28 v1 v3 v5 v6 v7 v9 c) (fun x => Sum.elim (gX0_add_54_53_55_l28 G Γ r sz sl td c v1 v3 v5 v6) (eX0_add_54_53_55_l28 G Γ r sz sl td c v1 v3 v5 v6) x) (gX0_add_54_53_55_l28 G Γ r sz sl td c v1 v3 v5 v6 (v7, v9, c)) := by
  show Sm _ _ (WP G Γ muX0_add_54_53_55 r 28 [some (2, 54), some (0, v1), some (2, 53), some (0, v3), some (2, 55), some (0, v5), some (0, v6), some (1, v7), none, some (0, v9), none, none] [] (sz, sl, tt td, cv c))
  unfold fX0_add_54_53_55_l28
  refine s_iload (pc := 28) dX0_add_28 rfl ?_
  refine s_iload (pc := 30) dX0_add_30 rfl ?_
  refine s_iadd (pc := 32) dX0_add_32 ?_
  refine s_bipush (pc := 33) dX0_add_33 ?_
  refine s_icmp_ge (pc := 35) (tgt := 101) dX0_add_35 rfl ?_ ?_
  · refine s_wk [true, true, true, true, true, true, true, false, true, false, true, true] (ls' := [some (2, 54), some (0, v1), some (2, 53), some (0, v3), some (2, 55), some (0, v5), some (0, v6), none, none, none, none, none]) rfl ?_
    exact Sm.some (fun h => h)
  refine s_aload_n (pc := 38) dX0_add_38 rfl ?_
  refine s_iload_n (pc := 39) dX0_add_39 rfl ?_
  refine s_iload (pc := 40) dX0_add_40 rfl ?_
  refine s_iadd (pc := 42) dX0_add_42 ?_
  refine s_iload (pc := 43) dX0_add_43 rfl ?_
  refine s_iadd (pc := 45) dX0_add_45 ?_
  refine s_ialdM (pc := 46) (a := 54) (t_54 _) rfl r_54 dX0_add_46 ?_
  refine s_i2l (pc := 47) dX0_add_47 ?_
  refine s_lload (pc := 48) dX0_add_48 rfl ?_
  refine s_ladd (pc := 50) dX0_add_50 ?_
  refine s_aload_n (pc := 51) dX0_add_51 rfl ?_
  refine s_iload_n (pc := 52) dX0_add_52 rfl ?_
  refine s_iload (pc := 53) dX0_add_53 rfl ?_
  refine s_iadd (pc := 55) dX0_add_55 ?_
  refine s_ialdM (pc := 56) (a := 53) (t_53 _) rfl r_53 dX0_add_56 ?_
  refine s_i2l (pc := 57) dX0_add_57 ?_
  refine s_aload (pc := 58) dX0_add_58 rfl ?_
  refine s_iload (pc := 60) dX0_add_60 rfl ?_
  refine s_iload (pc := 62) dX0_add_62 rfl ?_
  refine s_iadd (pc := 64) dX0_add_64 ?_
  refine s_ialdM (pc := 65) (a := 55) (t_55 _) rfl r_55 dX0_add_65 ?_
  refine s_i2l (pc := 66) dX0_add_66 ?_
  refine s_lmul (pc := 67) dX0_add_67 ?_
  refine s_ladd (pc := 68) dX0_add_68 ?_
  refine s_lstore (pc := 69) (lf := fun x => [some (2, 54), some (0, v1), some (2, 53), some (0, v3), some (2, 55), some (0, v5), some (0, v6), some (1, v7), none, some (0, v9), some (1, x), none]) dX0_add_69 (fun _ => rfl) (Nat.le_of_ble_eq_true rfl) (fun v10_1 => ?_)
  refine s_aload_n (pc := 71) dX0_add_71 rfl ?_
  refine s_iload_n (pc := 72) dX0_add_72 rfl ?_
  refine s_iload (pc := 73) dX0_add_73 rfl ?_
  refine s_iadd (pc := 75) dX0_add_75 ?_
  refine s_iload (pc := 76) dX0_add_76 rfl ?_
  refine s_iadd (pc := 78) dX0_add_78 ?_
  refine s_lload (pc := 79) dX0_add_79 rfl ?_
  refine s_ldc2 (pc := 81) (z := 1000000000) q880 dX0_add_81 ?_
  refine s_lrem (pc := 84) dX0_add_84 ?_
  refine s_l2i (pc := 85) dX0_add_85 ?_
  refine s_iastM (pc := 86) (a := 54) (t_54 _) rfl kO_54 r_54 dX0_add_86 (fun c_2 => ?_)
  refine s_lload (pc := 87) dX0_add_87 rfl ?_
  refine s_ldc2 (pc := 89) (z := 1000000000) q880 dX0_add_89 ?_
  refine s_ldiv (pc := 92) dX0_add_92 ?_
  refine s_lstore (pc := 93) (lf := fun x => [some (2, 54), some (0, v1), some (2, 53), some (0, v3), some (2, 55), some (0, v5), some (0, v6), some (1, x), none, some (0, v9), some (1, v10_1), none]) dX0_add_93 (fun _ => rfl) (Nat.le_of_ble_eq_true rfl) (fun v7_3 => ?_)
  refine s_iinc (pc := 95) (lf := fun x => [some (2, 54), some (0, v1), some (2, 53), some (0, v3), some (2, 55), some (0, v5), some (0, v6), some (1, v7_3), none, some (0, x), some (1, v10_1), none]) dX0_add_95 rfl (fun _ => rfl) (Nat.le_of_ble_eq_true rfl) (fun v9_4 => ?_)
  refine s_goto (pc := 98) (tgt := 28) dX0_add_98 rfl ?_
  refine s_wk [true, true, true, true, true, true, true, true, true, true, false, true] (ls' := [some (2, 54), some (0, v1), some (2, 53), some (0, v3), some (2, 55), some (0, v5), some (0, v6), some (1, v7_3), none, some (0, v9_4), none, none]) rfl ?_
  exact Sm.some (fun h => h)
abbrev gX0_add_54_53_55_l3 (G : GG) (Γ : Cx) (r : Vv × Wd) (sz sl : Nat) (td : TT) (c : CC) (v1 : Int) (v3 : Int) (v5 : Int) : (Int × CC) → Prop := fun s => WP G Γ muX0_add_54_53_55 r 3 [some (2, 54), some (0, v1), some (2, 53), some (0, v3), some (2, 55), some (0, v5), some (0, s.1), none, none, none, none, none] [] (sz, sl, tt td, cv s.2)
abbrev eX0_add_54_53_55_l3 (G : GG) (Γ : Cx) (r : Vv × Wd) (sz sl : Nat) (td : TT) (c : CC) (v1 : Int) (v3 : Int) (v5 : Int) : (CC) → Prop := (fun s => WP G Γ muX0_add_54_53_55 r 107 [none, none, none, none, none, none, none, none, none, none, none, none] [] (sz, sl, tt td, cv s))
noncomputable def fX0_add_54_53_55_l3 (v1 : Int) (v3 : Int) (v5 : Int) (v6 : Int) (c : CC) : Option ((Int × CC) ⊕ (CC)) :=
  if v6 < 7 then
  (gd (inR (v3 + v6)) <|
   gd ((0 : Int) ≤ v3 + v6 ∧ v3 + v6 < 16800) <|
   if c 53 (Int.toNat (v3 + v6)) = 0 then
  (gd (inR (v6 + 1)) <| bd (v6 + 1) fun v6_7 =>
   some (.inl (v6_7, c)))
  else
  (cl (wh (fun s => fX0_add_54_53_55_l28 v1 v3 v5 v6 s.1 s.2.1 s.2.2) (0, 0, c)) (fun e_5 =>
  gd (inR (v6 + 1)) <| bd (v6 + 1) fun v6_6 =>
   some (.inl (v6_6, e_5)))))
  else
  (some (.inr c))
theorem sX0_add_54_53_55_l3 {G : GG} {Γ : Cx} {r : Vv × Wd} {sz : Nat} {sl : Nat} {td : TT} (v1 : Int) (v3 : Int) (v5 : Int) (v6 : Int) (c : CC) : Sm (fX0_add_54_53_55_l3 v1 v3 v5 v6 c) (fun x => Sum.elim (gX0_add_54_53_55_l3 G Γ r sz sl td c v1 v3 v5) (eX0_add_54_53_55_l3 G Γ r sz sl td c v1 v3 v5) x) (gX0_add_54_53_55_l3 G Γ r sz sl td c v1 v3 v5 (v6, c)) := by
  show Sm _ _ (WP G Γ muX0_add_54_53_55 r 3 [some (2, 54), some (0, v1), some (2, 53), some (0, v3), some (2, 55), some (0, v5), some (0, v6), none, none, none, none, none] [] (sz, sl, tt td, cv c))
  unfold fX0_add_54_53_55_l3
  refine s_iload (pc := 3) dX0_add_3 rfl ?_
  refine s_bipush (pc := 5) dX0_add_5 ?_
  refine s_icmp_ge (pc := 7) (tgt := 107) dX0_add_7 rfl ?_ ?_
  · refine s_wk [false, false, false, false, false, false, false, true, true, true, true, true] (ls' := [none, none, none, none, none, none, none, none, none, none, none, none]) rfl ?_
    exact Sm.some (fun h => h)
  refine s_aload_n (pc := 10) dX0_add_10 rfl ?_
  refine s_iload_n (pc := 11) dX0_add_11 rfl ?_
  refine s_iload (pc := 12) dX0_add_12 rfl ?_
  refine s_iadd (pc := 14) dX0_add_14 ?_
  refine s_ialdM (pc := 15) (a := 53) (t_53 _) rfl r_53 dX0_add_15 ?_
  refine s_if_ne (pc := 16) (tgt := 22) dX0_add_16 rfl ?_ ?_
  · refine s_lconst0 (pc := 22) dX0_add_22 ?_
    refine s_lstoreD (pc := 23) (ls' := [some (2, 54), some (0, v1), some (2, 53), some (0, v3), some (2, 55), some (0, v5), some (0, v6), some (1, 0), none, none, none, none]) dX0_add_23 rfl (Nat.le_of_ble_eq_true rfl) ?_
    refine s_iconst (pc := 25) dX0_add_25 ?_
    refine s_istoreD (pc := 26) (ls' := [some (2, 54), some (0, v1), some (2, 53), some (0, v3), some (2, 55), some (0, v5), some (0, v6), some (1, 0), none, some (0, 0), none, none]) dX0_add_26 rfl (Nat.le_of_ble_eq_true rfl) ?_
    refine s_loop (g := gX0_add_54_53_55_l28 G Γ r sz sl td c v1 v3 v5 v6) (Ex := eX0_add_54_53_55_l28 G Γ r sz sl td c v1 v3 v5 v6) (s0 := (0, 0, c)) (fun s => sX0_add_54_53_55_l28 v1 v3 v5 v6 s.1 s.2.1 s.2.2) ?_
    intro e_5
    show Sm _ _ (WP G Γ muX0_add_54_53_55 r 101 [some (2, 54), some (0, v1), some (2, 53), some (0, v3), some (2, 55), some (0, v5), some (0, v6), none, none, none, none, none] [] (sz, sl, tt td, cv e_5))
    refine s_iinc (pc := 101) (lf := fun x => [some (2, 54), some (0, v1), some (2, 53), some (0, v3), some (2, 55), some (0, v5), some (0, x), none, none, none, none, none]) dX0_add_101 rfl (fun _ => rfl) (Nat.le_of_ble_eq_true rfl) (fun v6_6 => ?_)
    refine s_goto (pc := 104) (tgt := 3) dX0_add_104 rfl ?_
    exact Sm.some (fun h => h)
  refine s_goto (pc := 19) (tgt := 101) dX0_add_19 rfl ?_
  refine s_iinc (pc := 101) (lf := fun x => [some (2, 54), some (0, v1), some (2, 53), some (0, v3), some (2, 55), some (0, v5), some (0, x), none, none, none, none, none]) dX0_add_101 rfl (fun _ => rfl) (Nat.le_of_ble_eq_true rfl) (fun v6_7 => ?_)
  refine s_goto (pc := 104) (tgt := 3) dX0_add_104 rfl ?_
  exact Sm.some (fun h => h)
noncomputable def fX0_add_54_53_55 (a1 : Int) (a3 : Int) (a5 : Int) (c : CC) : Option CC :=
  cl (wh (fun s => fX0_add_54_53_55_l3 a1 a3 a5 s.1 s.2) (0, c)) (fun e_8 =>
  some e_8)
theorem sX0_add_54_53_55 {G : GG} {Γ : Cx} {r : Vv × Wd} {sz : Nat} {sl : Nat} {td : TT} (a1 : Int) (a3 : Int) (a5 : Int) (c : CC) : Sm (fX0_add_54_53_55 a1 a3 a5 c) (fun x => r = ((3, 0), (sz, sl, tt td, cv x))) (WP G Γ muX0_add_54_53_55 r 0 [some (2, 54), some (0, a1), some (2, 53), some (0, a3), some (2, 55), some (0, a5), none, none, none, none, none, none] [] (sz, sl, tt td, cv c)) := by
  unfold fX0_add_54_53_55
  refine s_iconst (pc := 0) dX0_add_0 ?_
  refine s_istoreD (pc := 1) (ls' := [some (2, 54), some (0, a1), some (2, 53), some (0, a3), some (2, 55), some (0, a5), some (0, 0), none, none, none, none, none]) dX0_add_1 rfl (Nat.le_of_ble_eq_true rfl) ?_
  refine s_loop (g := gX0_add_54_53_55_l3 G Γ r sz sl td c a1 a3 a5) (Ex := eX0_add_54_53_55_l3 G Γ r sz sl td c a1 a3 a5) (s0 := (0, c)) (fun s => sX0_add_54_53_55_l3 a1 a3 a5 s.1 s.2) ?_
  intro e_8
  show Sm _ _ (WP G Γ muX0_add_54_53_55 r 107 [none, none, none, none, none, none, none, none, none, none, none, none] [] (sz, sl, tt td, cv e_8))
  exact s_vret (pc := 107) dX0_add_107 rfl (fun h => h)
theorem kX0_add_54_53_55 {G : GG} {sz : Nat} {sl : Nat} {td : TT} (a1 : Int) (a3 : Int) (a5 : Int) (c : CC) (x : CC) (h : fX0_add_54_53_55 a1 a3 a5 c = some x) : Ct G yX0_add muX0_add_54_53_55 [(2, 54), (0, a1), (2, 53), (0, a3), (2, 55), (0, a5)] (sz, sl, tt td, cv c) ((3, 0), (sz, sl, tt td, cv x)) :=
  Ct.of (n := 6) (ls0 := [some (2, 54), some (0, a1), some (2, 53), some (0, a3), some (2, 55), some (0, a5), none, none, none, none, none, none]) (by decide) rfl rfl ⟨show (none : Option FieldType) ≠ some .float by decide, show (none : Option FieldType) ≠ some .double by decide⟩ (Nat.le_of_ble_eq_true rfl) rfl ⟨Nat.le_refl _, Nat.le_refl _⟩ (show (3 : Nat) ≠ 9 by decide) (fun Γ => sX0_add_54_53_55 a1 a3 a5 c x h rfl)
theorem msX0_171_54_53_55 : MS RX0 171 yX0_add muX0_add_54_53_55 6 := ⟨lw_S q877 q878 q125 q879, by decide +kernel, by decide⟩
abbrev muX0_add_54_53_54 : MI := (cX0_add, RX0, 12, none, 1, "add")
abbrev gX0_add_54_53_54_l28 (G : GG) (Γ : Cx) (r : Vv × Wd) (sz sl : Nat) (td : TT) (c : CC) (v1 : Int) (v3 : Int) (v5 : Int) (v6 : Int) : (Int × Int × CC) → Prop := fun s => WP G Γ muX0_add_54_53_54 r 28 [some (2, 54), some (0, v1), some (2, 53), some (0, v3), some (2, 54), some (0, v5), some (0, v6), some (1, s.1), none, some (0, s.2.1), none, none] [] (sz, sl, tt td, cv s.2.2)
abbrev eX0_add_54_53_54_l28 (G : GG) (Γ : Cx) (r : Vv × Wd) (sz sl : Nat) (td : TT) (c : CC) (v1 : Int) (v3 : Int) (v5 : Int) (v6 : Int) : (CC) → Prop := (fun s => WP G Γ muX0_add_54_53_54 r 101 [some (2, 54), some (0, v1), some (2, 53), some (0, v3), some (2, 54), some (0, v5), some (0, v6), none, none, none, none, none] [] (sz, sl, tt td, cv s))
noncomputable def fX0_add_54_53_54_l28 (v1 : Int) (v3 : Int) (v5 : Int) (v6 : Int) (v7 : Int) (v9 : Int) (c : CC) : Option ((Int × Int × CC) ⊕ (CC)) :=
  gd (inR (v6 + v9)) <|
   if v6 + v9 < 7 then
  (gd (inR (v1 + v6)) <|
   gd (inR ((v1 + v6) + v9)) <|
   gd ((0 : Int) ≤ (v1 + v6) + v9 ∧ (v1 + v6) + v9 < 84000) <|
   gd (inL ((c 54 (Int.toNat ((v1 + v6) + v9))) + v7)) <|
   gd (inR (v3 + v6)) <|
   gd ((0 : Int) ≤ v3 + v6 ∧ v3 + v6 < 16800) <|
   gd (inR (v5 + v9)) <|
   gd ((0 : Int) ≤ v5 + v9 ∧ v5 + v9 < 84000) <|
   gd (inL ((c 53 (Int.toNat (v3 + v6))) * (c 54 (Int.toNat (v5 + v9))))) <|
   gd (inL (((c 54 (Int.toNat ((v1 + v6) + v9))) + v7) + ((c 53 (Int.toNat (v3 + v6))) * (c 54 (Int.toNat (v5 + v9)))))) <|
   bd (((c 54 (Int.toNat ((v1 + v6) + v9))) + v7) + ((c 53 (Int.toNat (v3 + v6))) * (c 54 (Int.toNat (v5 + v9))))) fun v10_1 =>
   gd (inR (v1 + v6)) <|
   gd (inR ((v1 + v6) + v9)) <|
   gd ((1000000000 : Int) ≠ 0 ∧ inL (Int.tmod v10_1 1000000000)) <|
   gd (inR (Int.tmod v10_1 1000000000)) <|
   gd ((0 : Int) ≤ (v1 + v6) + v9 ∧ (v1 + v6) + v9 < 84000) <| bd (up2 c 54 (Int.toNat ((v1 + v6) + v9)) (Int.tmod v10_1 1000000000)) fun c_2 =>
   gd ((1000000000 : Int) ≠ 0 ∧ inL (Int.tdiv v10_1 1000000000)) <|
   bd (Int.tdiv v10_1 1000000000) fun v7_3 =>
   gd (inR (v9 + 1)) <| bd (v9 + 1) fun v9_4 =>
   some (.inl (v7_3, v9_4, c_2)))
  else
  (some (.inr c))
theorem sX0_add_54_53_54_l28 {G : GG} {Γ : Cx} {r : Vv × Wd} {sz : Nat} {sl : Nat} {td : TT} (v1 : Int) (v3 : Int) (v5 : Int) (v6 : Int) (v7 : Int) (v9 : Int) (c : CC) : Sm (fX0_add_54_53_54_l28 v1 v3 v5 v6 v7 v9 c) (fun x => Sum.elim (gX0_add_54_53_54_l28 G Γ r sz sl td c v1 v3 v5 v6) (eX0_add_54_53_54_l28 G Γ r sz sl td c v1 v3 v5 v6) x) (gX0_add_54_53_54_l28 G Γ r sz sl td c v1 v3 v5 v6 (v7, v9, c)) := by
  show Sm _ _ (WP G Γ muX0_add_54_53_54 r 28 [some (2, 54), some (0, v1), some (2, 53), some (0, v3), some (2, 54), some (0, v5), some (0, v6), some (1, v7), none, some (0, v9), none, none] [] (sz, sl, tt td, cv c))
  unfold fX0_add_54_53_54_l28
  refine s_iload (pc := 28) dX0_add_28 rfl ?_
  refine s_iload (pc := 30) dX0_add_30 rfl ?_
  refine s_iadd (pc := 32) dX0_add_32 ?_
  refine s_bipush (pc := 33) dX0_add_33 ?_
  refine s_icmp_ge (pc := 35) (tgt := 101) dX0_add_35 rfl ?_ ?_
  · refine s_wk [true, true, true, true, true, true, true, false, true, false, true, true] (ls' := [some (2, 54), some (0, v1), some (2, 53), some (0, v3), some (2, 54), some (0, v5), some (0, v6), none, none, none, none, none]) rfl ?_
    exact Sm.some (fun h => h)
  refine s_aload_n (pc := 38) dX0_add_38 rfl ?_
  refine s_iload_n (pc := 39) dX0_add_39 rfl ?_
  refine s_iload (pc := 40) dX0_add_40 rfl ?_
  refine s_iadd (pc := 42) dX0_add_42 ?_
  refine s_iload (pc := 43) dX0_add_43 rfl ?_
  refine s_iadd (pc := 45) dX0_add_45 ?_
  refine s_ialdM (pc := 46) (a := 54) (t_54 _) rfl r_54 dX0_add_46 ?_
  refine s_i2l (pc := 47) dX0_add_47 ?_
  refine s_lload (pc := 48) dX0_add_48 rfl ?_
  refine s_ladd (pc := 50) dX0_add_50 ?_
  refine s_aload_n (pc := 51) dX0_add_51 rfl ?_
  refine s_iload_n (pc := 52) dX0_add_52 rfl ?_
  refine s_iload (pc := 53) dX0_add_53 rfl ?_
  refine s_iadd (pc := 55) dX0_add_55 ?_
  refine s_ialdM (pc := 56) (a := 53) (t_53 _) rfl r_53 dX0_add_56 ?_
  refine s_i2l (pc := 57) dX0_add_57 ?_
  refine s_aload (pc := 58) dX0_add_58 rfl ?_
  refine s_iload (pc := 60) dX0_add_60 rfl ?_
  refine s_iload (pc := 62) dX0_add_62 rfl ?_
  refine s_iadd (pc := 64) dX0_add_64 ?_
  refine s_ialdM (pc := 65) (a := 54) (t_54 _) rfl r_54 dX0_add_65 ?_
  refine s_i2l (pc := 66) dX0_add_66 ?_
  refine s_lmul (pc := 67) dX0_add_67 ?_
  refine s_ladd (pc := 68) dX0_add_68 ?_
  refine s_lstore (pc := 69) (lf := fun x => [some (2, 54), some (0, v1), some (2, 53), some (0, v3), some (2, 54), some (0, v5), some (0, v6), some (1, v7), none, some (0, v9), some (1, x), none]) dX0_add_69 (fun _ => rfl) (Nat.le_of_ble_eq_true rfl) (fun v10_1 => ?_)
  refine s_aload_n (pc := 71) dX0_add_71 rfl ?_
  refine s_iload_n (pc := 72) dX0_add_72 rfl ?_
  refine s_iload (pc := 73) dX0_add_73 rfl ?_
  refine s_iadd (pc := 75) dX0_add_75 ?_
  refine s_iload (pc := 76) dX0_add_76 rfl ?_
  refine s_iadd (pc := 78) dX0_add_78 ?_
  refine s_lload (pc := 79) dX0_add_79 rfl ?_
  refine s_ldc2 (pc := 81) (z := 1000000000) q880 dX0_add_81 ?_
  refine s_lrem (pc := 84) dX0_add_84 ?_
  refine s_l2i (pc := 85) dX0_add_85 ?_
  refine s_iastM (pc := 86) (a := 54) (t_54 _) rfl kO_54 r_54 dX0_add_86 (fun c_2 => ?_)
  refine s_lload (pc := 87) dX0_add_87 rfl ?_
  refine s_ldc2 (pc := 89) (z := 1000000000) q880 dX0_add_89 ?_
  refine s_ldiv (pc := 92) dX0_add_92 ?_
  refine s_lstore (pc := 93) (lf := fun x => [some (2, 54), some (0, v1), some (2, 53), some (0, v3), some (2, 54), some (0, v5), some (0, v6), some (1, x), none, some (0, v9), some (1, v10_1), none]) dX0_add_93 (fun _ => rfl) (Nat.le_of_ble_eq_true rfl) (fun v7_3 => ?_)
  refine s_iinc (pc := 95) (lf := fun x => [some (2, 54), some (0, v1), some (2, 53), some (0, v3), some (2, 54), some (0, v5), some (0, v6), some (1, v7_3), none, some (0, x), some (1, v10_1), none]) dX0_add_95 rfl (fun _ => rfl) (Nat.le_of_ble_eq_true rfl) (fun v9_4 => ?_)
  refine s_goto (pc := 98) (tgt := 28) dX0_add_98 rfl ?_
  refine s_wk [true, true, true, true, true, true, true, true, true, true, false, true] (ls' := [some (2, 54), some (0, v1), some (2, 53), some (0, v3), some (2, 54), some (0, v5), some (0, v6), some (1, v7_3), none, some (0, v9_4), none, none]) rfl ?_
  exact Sm.some (fun h => h)
abbrev gX0_add_54_53_54_l3 (G : GG) (Γ : Cx) (r : Vv × Wd) (sz sl : Nat) (td : TT) (c : CC) (v1 : Int) (v3 : Int) (v5 : Int) : (Int × CC) → Prop := fun s => WP G Γ muX0_add_54_53_54 r 3 [some (2, 54), some (0, v1), some (2, 53), some (0, v3), some (2, 54), some (0, v5), some (0, s.1), none, none, none, none, none] [] (sz, sl, tt td, cv s.2)
abbrev eX0_add_54_53_54_l3 (G : GG) (Γ : Cx) (r : Vv × Wd) (sz sl : Nat) (td : TT) (c : CC) (v1 : Int) (v3 : Int) (v5 : Int) : (CC) → Prop := (fun s => WP G Γ muX0_add_54_53_54 r 107 [none, none, none, none, none, none, none, none, none, none, none, none] [] (sz, sl, tt td, cv s))
noncomputable def fX0_add_54_53_54_l3 (v1 : Int) (v3 : Int) (v5 : Int) (v6 : Int) (c : CC) : Option ((Int × CC) ⊕ (CC)) :=
  if v6 < 7 then
  (gd (inR (v3 + v6)) <|
   gd ((0 : Int) ≤ v3 + v6 ∧ v3 + v6 < 16800) <|
   if c 53 (Int.toNat (v3 + v6)) = 0 then
  (gd (inR (v6 + 1)) <| bd (v6 + 1) fun v6_7 =>
   some (.inl (v6_7, c)))
  else
  (cl (wh (fun s => fX0_add_54_53_54_l28 v1 v3 v5 v6 s.1 s.2.1 s.2.2) (0, 0, c)) (fun e_5 =>
  gd (inR (v6 + 1)) <| bd (v6 + 1) fun v6_6 =>
   some (.inl (v6_6, e_5)))))
  else
  (some (.inr c))
theorem sX0_add_54_53_54_l3 {G : GG} {Γ : Cx} {r : Vv × Wd} {sz : Nat} {sl : Nat} {td : TT} (v1 : Int) (v3 : Int) (v5 : Int) (v6 : Int) (c : CC) : Sm (fX0_add_54_53_54_l3 v1 v3 v5 v6 c) (fun x => Sum.elim (gX0_add_54_53_54_l3 G Γ r sz sl td c v1 v3 v5) (eX0_add_54_53_54_l3 G Γ r sz sl td c v1 v3 v5) x) (gX0_add_54_53_54_l3 G Γ r sz sl td c v1 v3 v5 (v6, c)) := by
  show Sm _ _ (WP G Γ muX0_add_54_53_54 r 3 [some (2, 54), some (0, v1), some (2, 53), some (0, v3), some (2, 54), some (0, v5), some (0, v6), none, none, none, none, none] [] (sz, sl, tt td, cv c))
  unfold fX0_add_54_53_54_l3
  refine s_iload (pc := 3) dX0_add_3 rfl ?_
  refine s_bipush (pc := 5) dX0_add_5 ?_
  refine s_icmp_ge (pc := 7) (tgt := 107) dX0_add_7 rfl ?_ ?_
  · refine s_wk [false, false, false, false, false, false, false, true, true, true, true, true] (ls' := [none, none, none, none, none, none, none, none, none, none, none, none]) rfl ?_
    exact Sm.some (fun h => h)
  refine s_aload_n (pc := 10) dX0_add_10 rfl ?_
  refine s_iload_n (pc := 11) dX0_add_11 rfl ?_
  refine s_iload (pc := 12) dX0_add_12 rfl ?_
  refine s_iadd (pc := 14) dX0_add_14 ?_
  refine s_ialdM (pc := 15) (a := 53) (t_53 _) rfl r_53 dX0_add_15 ?_
  refine s_if_ne (pc := 16) (tgt := 22) dX0_add_16 rfl ?_ ?_
  · refine s_lconst0 (pc := 22) dX0_add_22 ?_
    refine s_lstoreD (pc := 23) (ls' := [some (2, 54), some (0, v1), some (2, 53), some (0, v3), some (2, 54), some (0, v5), some (0, v6), some (1, 0), none, none, none, none]) dX0_add_23 rfl (Nat.le_of_ble_eq_true rfl) ?_
    refine s_iconst (pc := 25) dX0_add_25 ?_
    refine s_istoreD (pc := 26) (ls' := [some (2, 54), some (0, v1), some (2, 53), some (0, v3), some (2, 54), some (0, v5), some (0, v6), some (1, 0), none, some (0, 0), none, none]) dX0_add_26 rfl (Nat.le_of_ble_eq_true rfl) ?_
    refine s_loop (g := gX0_add_54_53_54_l28 G Γ r sz sl td c v1 v3 v5 v6) (Ex := eX0_add_54_53_54_l28 G Γ r sz sl td c v1 v3 v5 v6) (s0 := (0, 0, c)) (fun s => sX0_add_54_53_54_l28 v1 v3 v5 v6 s.1 s.2.1 s.2.2) ?_
    intro e_5
    show Sm _ _ (WP G Γ muX0_add_54_53_54 r 101 [some (2, 54), some (0, v1), some (2, 53), some (0, v3), some (2, 54), some (0, v5), some (0, v6), none, none, none, none, none] [] (sz, sl, tt td, cv e_5))
    refine s_iinc (pc := 101) (lf := fun x => [some (2, 54), some (0, v1), some (2, 53), some (0, v3), some (2, 54), some (0, v5), some (0, x), none, none, none, none, none]) dX0_add_101 rfl (fun _ => rfl) (Nat.le_of_ble_eq_true rfl) (fun v6_6 => ?_)
    refine s_goto (pc := 104) (tgt := 3) dX0_add_104 rfl ?_
    exact Sm.some (fun h => h)
  refine s_goto (pc := 19) (tgt := 101) dX0_add_19 rfl ?_
  refine s_iinc (pc := 101) (lf := fun x => [some (2, 54), some (0, v1), some (2, 53), some (0, v3), some (2, 54), some (0, v5), some (0, x), none, none, none, none, none]) dX0_add_101 rfl (fun _ => rfl) (Nat.le_of_ble_eq_true rfl) (fun v6_7 => ?_)
  refine s_goto (pc := 104) (tgt := 3) dX0_add_104 rfl ?_
  exact Sm.some (fun h => h)
noncomputable def fX0_add_54_53_54 (a1 : Int) (a3 : Int) (a5 : Int) (c : CC) : Option CC :=
  cl (wh (fun s => fX0_add_54_53_54_l3 a1 a3 a5 s.1 s.2) (0, c)) (fun e_8 =>
  some e_8)
theorem sX0_add_54_53_54 {G : GG} {Γ : Cx} {r : Vv × Wd} {sz : Nat} {sl : Nat} {td : TT} (a1 : Int) (a3 : Int) (a5 : Int) (c : CC) : Sm (fX0_add_54_53_54 a1 a3 a5 c) (fun x => r = ((3, 0), (sz, sl, tt td, cv x))) (WP G Γ muX0_add_54_53_54 r 0 [some (2, 54), some (0, a1), some (2, 53), some (0, a3), some (2, 54), some (0, a5), none, none, none, none, none, none] [] (sz, sl, tt td, cv c)) := by
  unfold fX0_add_54_53_54
  refine s_iconst (pc := 0) dX0_add_0 ?_
  refine s_istoreD (pc := 1) (ls' := [some (2, 54), some (0, a1), some (2, 53), some (0, a3), some (2, 54), some (0, a5), some (0, 0), none, none, none, none, none]) dX0_add_1 rfl (Nat.le_of_ble_eq_true rfl) ?_
  refine s_loop (g := gX0_add_54_53_54_l3 G Γ r sz sl td c a1 a3 a5) (Ex := eX0_add_54_53_54_l3 G Γ r sz sl td c a1 a3 a5) (s0 := (0, c)) (fun s => sX0_add_54_53_54_l3 a1 a3 a5 s.1 s.2) ?_
  intro e_8
  show Sm _ _ (WP G Γ muX0_add_54_53_54 r 107 [none, none, none, none, none, none, none, none, none, none, none, none] [] (sz, sl, tt td, cv e_8))
  exact s_vret (pc := 107) dX0_add_107 rfl (fun h => h)
theorem kX0_add_54_53_54 {G : GG} {sz : Nat} {sl : Nat} {td : TT} (a1 : Int) (a3 : Int) (a5 : Int) (c : CC) (x : CC) (h : fX0_add_54_53_54 a1 a3 a5 c = some x) : Ct G yX0_add muX0_add_54_53_54 [(2, 54), (0, a1), (2, 53), (0, a3), (2, 54), (0, a5)] (sz, sl, tt td, cv c) ((3, 0), (sz, sl, tt td, cv x)) :=
  Ct.of (n := 6) (ls0 := [some (2, 54), some (0, a1), some (2, 53), some (0, a3), some (2, 54), some (0, a5), none, none, none, none, none, none]) (by decide) rfl rfl ⟨show (none : Option FieldType) ≠ some .float by decide, show (none : Option FieldType) ≠ some .double by decide⟩ (Nat.le_of_ble_eq_true rfl) rfl ⟨Nat.le_refl _, Nat.le_refl _⟩ (show (3 : Nat) ≠ 9 by decide) (fun Γ => sX0_add_54_53_54 a1 a3 a5 c x h rfl)
theorem msX0_171_54_53_54 : MS RX0 171 yX0_add muX0_add_54_53_54 6 := ⟨lw_S q877 q878 q125 q879, by decide +kernel, by decide⟩
abbrev muX0_reckon : MI := (cX0_reckon, RX0, 8, none, 4, "reckon")
abbrev gX0_reckon_l15 (G : GG) (Γ : Cx) (r : Vv × Wd) (sz sl : Nat) (td : TT) (c : CC)  : (Int × CC) → Prop := fun s => WP G Γ muX0_reckon r 15 [some (2, 43), some (0, s.1), none, none, none, none, none, none] [] (sz, sl, tt td, cv s.2)
abbrev eX0_reckon_l15 (G : GG) (Γ : Cx) (r : Vv × Wd) (sz sl : Nat) (td : TT) (c : CC)  : (CC) → Prop := (fun s => WP G Γ muX0_reckon r 37 [some (2, 43), none, none, none, none, none, none, none] [] (sz, sl, tt td, cv s))
noncomputable def fX0_reckon_l15 (v1 : Int) (td : TT) (c : CC) : Option ((Int × CC) ⊕ (CC)) :=
  if v1 < 16800 then
  (gd ((0 : Int) ≤ v1 ∧ v1 < 16800) <| bd (up2 c 53 (Int.toNat v1) 0) fun c_2 =>
   gd (inR (v1 + 1)) <| bd (v1 + 1) fun v1_3 =>
   some (.inl (v1_3, c_2)))
  else
  (some (.inr c))
theorem sX0_reckon_l15 {G : GG} {Γ : Cx} {r : Vv × Wd} {sz : Nat} {sl : Nat} (v1 : Int) (td : TT) (c : CC) : Sm (fX0_reckon_l15 v1 td c) (fun x => Sum.elim (gX0_reckon_l15 G Γ r sz sl td c ) (eX0_reckon_l15 G Γ r sz sl td c ) x) (gX0_reckon_l15 G Γ r sz sl td c  (v1, c)) := by
  show Sm _ _ (WP G Γ muX0_reckon r 15 [some (2, 43), some (0, v1), none, none, none, none, none, none] [] (sz, sl, tt td, cv c))
  unfold fX0_reckon_l15
  refine s_iload_n (pc := 15) dX0_reckon_15 rfl ?_
  refine s_aload_n (pc := 16) dX0_reckon_16 rfl ?_
  refine s_get (pc := 17) (a := 43) (v := 53) flX0_51 (t_43 _) rfl (g_43_16 _) rfl dX0_reckon_17 ?_
  refine s_alen (pc := 20) (a := 53) (q := 0) (n := 16800) (t_53 _) (by decide) rfl (by decide) dX0_reckon_20 ?_
  refine s_icmp_ge (pc := 21) (tgt := 37) dX0_reckon_21 rfl ?_ ?_
  · refine s_wk [true, false, true, true, true, true, true, true] (ls' := [some (2, 43), none, none, none, none, none, none, none]) rfl ?_
    exact Sm.some (fun h => h)
  refine s_aload_n (pc := 24) dX0_reckon_24 rfl ?_
  refine s_get (pc := 25) (a := 43) (v := 53) flX0_51 (t_43 _) rfl (g_43_16 _) rfl dX0_reckon_25 ?_
  refine s_iload_n (pc := 28) dX0_reckon_28 rfl ?_
  refine s_iconst (pc := 29) dX0_reckon_29 ?_
  refine s_iastM (pc := 30) (a := 53) (t_53 _) rfl kO_53 r_53 dX0_reckon_30 (fun c_2 => ?_)
  refine s_iinc (pc := 31) (lf := fun x => [some (2, 43), some (0, x), none, none, none, none, none, none]) dX0_reckon_31 rfl (fun _ => rfl) (Nat.le_of_ble_eq_true rfl) (fun v1_3 => ?_)
  refine s_goto (pc := 34) (tgt := 15) dX0_reckon_34 rfl ?_
  exact Sm.some (fun h => h)
abbrev gX0_reckon_l39 (G : GG) (Γ : Cx) (r : Vv × Wd) (sz sl : Nat) (td : TT) (c : CC)  : (Int × CC) → Prop := fun s => WP G Γ muX0_reckon r 39 [some (2, 43), some (0, s.1), none, none, none, none, none, none] [] (sz, sl, tt td, cv s.2)
abbrev eX0_reckon_l39 (G : GG) (Γ : Cx) (r : Vv × Wd) (sz sl : Nat) (td : TT) (c : CC)  : (CC) → Prop := (fun s => WP G Γ muX0_reckon r 61 [some (2, 43), none, none, none, none, none, none, none] [] (sz, sl, tt td, cv s))
noncomputable def fX0_reckon_l39 (v1 : Int) (td : TT) (c : CC) : Option ((Int × CC) ⊕ (CC)) :=
  if v1 < 84000 then
  (gd ((0 : Int) ≤ v1 ∧ v1 < 84000) <| bd (up2 c 54 (Int.toNat v1) 0) fun c_5 =>
   gd (inR (v1 + 1)) <| bd (v1 + 1) fun v1_6 =>
   some (.inl (v1_6, c_5)))
  else
  (some (.inr c))
theorem sX0_reckon_l39 {G : GG} {Γ : Cx} {r : Vv × Wd} {sz : Nat} {sl : Nat} (v1 : Int) (td : TT) (c : CC) : Sm (fX0_reckon_l39 v1 td c) (fun x => Sum.elim (gX0_reckon_l39 G Γ r sz sl td c ) (eX0_reckon_l39 G Γ r sz sl td c ) x) (gX0_reckon_l39 G Γ r sz sl td c  (v1, c)) := by
  show Sm _ _ (WP G Γ muX0_reckon r 39 [some (2, 43), some (0, v1), none, none, none, none, none, none] [] (sz, sl, tt td, cv c))
  unfold fX0_reckon_l39
  refine s_iload_n (pc := 39) dX0_reckon_39 rfl ?_
  refine s_aload_n (pc := 40) dX0_reckon_40 rfl ?_
  refine s_get (pc := 41) (a := 43) (v := 54) flX0_55 (t_43 _) rfl (g_43_17 _) rfl dX0_reckon_41 ?_
  refine s_alen (pc := 44) (a := 54) (q := 0) (n := 84000) (t_54 _) (by decide) rfl (by decide) dX0_reckon_44 ?_
  refine s_icmp_ge (pc := 45) (tgt := 61) dX0_reckon_45 rfl ?_ ?_
  · refine s_wk [true, false, true, true, true, true, true, true] (ls' := [some (2, 43), none, none, none, none, none, none, none]) rfl ?_
    exact Sm.some (fun h => h)
  refine s_aload_n (pc := 48) dX0_reckon_48 rfl ?_
  refine s_get (pc := 49) (a := 43) (v := 54) flX0_55 (t_43 _) rfl (g_43_17 _) rfl dX0_reckon_49 ?_
  refine s_iload_n (pc := 52) dX0_reckon_52 rfl ?_
  refine s_iconst (pc := 53) dX0_reckon_53 ?_
  refine s_iastM (pc := 54) (a := 54) (t_54 _) rfl kO_54 r_54 dX0_reckon_54 (fun c_5 => ?_)
  refine s_iinc (pc := 55) (lf := fun x => [some (2, 43), some (0, x), none, none, none, none, none, none]) dX0_reckon_55 rfl (fun _ => rfl) (Nat.le_of_ble_eq_true rfl) (fun v1_6 => ?_)
  refine s_goto (pc := 58) (tgt := 39) dX0_reckon_58 rfl ?_
  exact Sm.some (fun h => h)
abbrev gX0_reckon_l130 (G : GG) (Γ : Cx) (r : Vv × Wd) (sz sl : Nat) (td : TT) (c : CC) (v1 : Int) (v2 : Int) (v3 : Int) (v4 : Int) (v5 : Int) (v6 : Int) : (Int × CC) → Prop := fun s => WP G Γ muX0_reckon r 130 [some (2, 43), some (0, v1), some (0, v2), some (2, v3), some (0, v4), some (0, v5), some (2, v6), some (0, s.1)] [] (sz, sl, tt td, cv s.2)
abbrev eX0_reckon_l130 (G : GG) (Γ : Cx) (r : Vv × Wd) (sz sl : Nat) (td : TT) (c : CC) (v1 : Int) (v2 : Int) (v3 : Int) (v4 : Int) (v5 : Int) (v6 : Int) : (CC) → Prop := (fun s => WP G Γ muX0_reckon r 168 [some (2, 43), some (0, v1), some (0, v2), some (2, v3), some (0, v4), some (0, v5), none, none] [] (sz, sl, tt td, cv s))
noncomputable def fX0_reckon_l130 (v1 : Int) (v2 : Int) (v3 : Int) (v4 : Int) (v5 : Int) (v6 : Int) (v7 : Int) (td : TT) (c : CC) : Option ((Int × CC) ⊕ (CC)) :=
  cl (fV_most v6  td c) fun p_13 =>
   if p_13 < v7 then
  (some (.inr c))
  else
  (gd ((0 : Int) ≤ v6 ∧ 6 ≤ (tt td (Int.toNat v6)).1 ∧ (tt td (Int.toNat v6)).1 ≤ 10) <|
   cl (fX0_countAt v1 v2 (cv c (Int.toNat v6) 2) ) fun p_14 =>
   gd (inR (v2 - 1)) <|
   cl (fX0_addWays p_14 v6 v7 v1 (v2 - 1) td c) fun p_15 =>
   gd (inR (v7 + 1)) <| bd (v7 + 1) fun v7_16 =>
   some (.inl (v7_16, p_15)))
theorem sX0_reckon_l130 {G : GG} {Γ : Cx} {r : Vv × Wd} {sz : Nat} {sl : Nat} (v1 : Int) (v2 : Int) (v3 : Int) (v4 : Int) (v5 : Int) (v6 : Int) (v7 : Int) (td : TT) (c : CC) : Sm (fX0_reckon_l130 v1 v2 v3 v4 v5 v6 v7 td c) (fun x => Sum.elim (gX0_reckon_l130 G Γ r sz sl td c v1 v2 v3 v4 v5 v6) (eX0_reckon_l130 G Γ r sz sl td c v1 v2 v3 v4 v5 v6) x) (gX0_reckon_l130 G Γ r sz sl td c v1 v2 v3 v4 v5 v6 (v7, c)) := by
  show Sm _ _ (WP G Γ muX0_reckon r 130 [some (2, 43), some (0, v1), some (0, v2), some (2, v3), some (0, v4), some (0, v5), some (2, v6), some (0, v7)] [] (sz, sl, tt td, cv c))
  unfold fX0_reckon_l130
  refine s_iload (pc := 130) dX0_reckon_130 rfl ?_
  refine s_aload (pc := 132) dX0_reckon_132 rfl ?_
  refine s_callU (pc := 134) (z := v6) (as := []) (st := [(0, v7)]) (rv := fun b => ((0, b), (sz, sl, tt td, cv c))) (st3 := fun b => [(0, b), (0, v7)]) (w3 := fun b => (sz, sl, tt td, cv c)) rfl rfl (fun b h => vdX0_193 v6  td c b h (by decide)) (Nat.le_of_ble_eq_true rfl) (fun _ => Nat.le_of_ble_eq_true rfl) (fun _ => ⟨rfl, rfl⟩) dX0_reckon_134 (fun p_13 => ?_)
  refine s_icmp_gt (pc := 137) (tgt := 168) dX0_reckon_137 rfl ?_ ?_
  · refine s_wk [true, true, true, true, true, true, false, false] (ls' := [some (2, 43), some (0, v1), some (0, v2), some (2, v3), some (0, v4), some (0, v5), none, none]) rfl ?_
    exact Sm.some (fun h => h)
  refine s_aload_n (pc := 140) dX0_reckon_140 rfl ?_
  refine s_iload_n (pc := 141) dX0_reckon_141 rfl ?_
  refine s_iload_n (pc := 142) dX0_reckon_142 rfl ?_
  refine s_aload (pc := 143) dX0_reckon_143 rfl ?_
  refine s_getS (pc := 145) fsX0_196 dX0_reckon_145 ?_
  refine s_callS3 (pc := 148) (as := [(0, v1), (0, v2), (0, cv c (Int.toNat v6) 2)]) (st := [(2, 43)]) (rv := fun b => ((0, b), (sz, sl, tt td, cv c))) (st3 := fun b => [(0, b), (2, 43)]) (w3 := fun b => (sz, sl, tt td, cv c)) msX0_199 (fun b h => kX0_countAt v1 v2 (cv c (Int.toNat v6) 2) c b h) rfl (by decide) rfl (Nat.le_of_ble_eq_true rfl) (fun _ => Nat.le_of_ble_eq_true rfl) (fun _ => ⟨rfl, rfl⟩) dX0_reckon_148 (fun p_14 => ?_)
  refine s_aload (pc := 151) dX0_reckon_151 rfl ?_
  refine s_iload (pc := 153) dX0_reckon_153 rfl ?_
  refine s_iload_n (pc := 155) dX0_reckon_155 rfl ?_
  refine s_iload_n (pc := 156) dX0_reckon_156 rfl ?_
  refine s_iconst (pc := 157) dX0_reckon_157 ?_
  refine s_isub (pc := 158) dX0_reckon_158 ?_
  refine s_callV3 (pc := 159) (a := 43) (as := [(0, p_14), (2, v6), (0, v7), (0, v1), (0, v2 - 1)]) (st := []) (rv := fun b => ((3, 0), (sz, sl, tt td, cv b))) (st3 := fun b => []) (w3 := fun b => (sz, sl, tt td, cv b)) mvX0_203 (fun b h => kX0_addWays p_14 v6 v7 v1 (v2 - 1) td c b h) rfl (by decide) (t_43 td) rfl rfl rfl (Nat.le_of_ble_eq_true rfl) (fun _ => Nat.le_of_ble_eq_true rfl) (fun _ => ⟨rfl, rfl⟩) dX0_reckon_159 (fun p_15 => ?_)
  refine s_iinc (pc := 162) (lf := fun x => [some (2, 43), some (0, v1), some (0, v2), some (2, v3), some (0, v4), some (0, v5), some (2, v6), some (0, x)]) dX0_reckon_162 rfl (fun _ => rfl) (Nat.le_of_ble_eq_true rfl) (fun v7_16 => ?_)
  refine s_goto (pc := 165) (tgt := 130) dX0_reckon_165 rfl ?_
  exact Sm.some (fun h => h)
abbrev gX0_reckon_l97 (G : GG) (Γ : Cx) (r : Vv × Wd) (sz sl : Nat) (td : TT) (c : CC) (v1 : Int) (v2 : Int) (v3 : Int) (v4 : Int) : (Int × CC) → Prop := fun s => WP G Γ muX0_reckon r 97 [some (2, 43), some (0, v1), some (0, v2), some (2, v3), some (0, v4), some (0, s.1), none, none] [] (sz, sl, tt td, cv s.2)
abbrev eX0_reckon_l97 (G : GG) (Γ : Cx) (r : Vv × Wd) (sz sl : Nat) (td : TT) (c : CC) (v1 : Int) (v2 : Int) (v3 : Int) (v4 : Int) : (CC) → Prop := (fun s => WP G Γ muX0_reckon r 174 [some (2, 43), some (0, v1), some (0, v2), none, none, none, none, none] [] (sz, sl, tt td, cv s))
noncomputable def fX0_reckon_l97 (v1 : Int) (v2 : Int) (v3 : Int) (v4 : Int) (v5 : Int) (td : TT) (c : CC) : Option ((Int × CC) ⊕ (CC)) :=
  if v5 < v4 then
  (gd ((0 : Int) ≤ v3 ∧ (tt td (Int.toNat v3)).1 = 55 ∧ (0 : Int) ≤ v5 ∧ v5 < ((tt td (Int.toNat v3)).2 : Int)) <|
   bd (cv c (Int.toNat v3) (Int.toNat v5)) fun v6_12 =>
   gd ((0 : Int) ≤ v6_12 ∧ 6 ≤ (tt td (Int.toNat v6_12)).1 ∧ (tt td (Int.toNat v6_12)).1 ≤ 10) <|
   gd ((0 : Int) ≤ v2 ∧ v2 < 24) <|
   if cv c (Int.toNat v6_12) 1 = c 50 (Int.toNat v2) then
  (cl (wh (fun s => fX0_reckon_l130 v1 v2 v3 v4 v5 v6_12 s.1 td s.2) (1, c)) (fun e_17 =>
  gd (inR (v5 + 1)) <| bd (v5 + 1) fun v5_18 =>
   some (.inl (v5_18, e_17))))
  else
  (gd (inR (v5 + 1)) <| bd (v5 + 1) fun v5_19 =>
   some (.inl (v5_19, c))))
  else
  (some (.inr c))
theorem sX0_reckon_l97 {G : GG} {Γ : Cx} {r : Vv × Wd} {sz : Nat} {sl : Nat} (v1 : Int) (v2 : Int) (v3 : Int) (v4 : Int) (v5 : Int) (td : TT) (c : CC) : Sm (fX0_reckon_l97 v1 v2 v3 v4 v5 td c) (fun x => Sum.elim (gX0_reckon_l97 G Γ r sz sl td c v1 v2 v3 v4) (eX0_reckon_l97 G Γ r sz sl td c v1 v2 v3 v4) x) (gX0_reckon_l97 G Γ r sz sl td c v1 v2 v3 v4 (v5, c)) := by
  show Sm _ _ (WP G Γ muX0_reckon r 97 [some (2, 43), some (0, v1), some (0, v2), some (2, v3), some (0, v4), some (0, v5), none, none] [] (sz, sl, tt td, cv c))
  unfold fX0_reckon_l97
  refine s_iload (pc := 97) dX0_reckon_97 rfl ?_
  refine s_iload (pc := 99) dX0_reckon_99 rfl ?_
  refine s_icmp_ge (pc := 101) (tgt := 174) dX0_reckon_101 rfl ?_ ?_
  · refine s_wk [true, true, true, false, false, false, true, true] (ls' := [some (2, 43), some (0, v1), some (0, v2), none, none, none, none, none]) rfl ?_
    exact Sm.some (fun h => h)
  refine s_aload_n (pc := 104) dX0_reckon_104 rfl ?_
  refine s_iload (pc := 105) dX0_reckon_105 rfl ?_
  refine s_aald5D (pc := 107) dX0_reckon_107 ?_
  refine s_astore (pc := 108) (lf := fun x => [some (2, 43), some (0, v1), some (0, v2), some (2, v3), some (0, v4), some (0, v5), some (2, x), none]) dX0_reckon_108 (fun _ => rfl) (Nat.le_of_ble_eq_true rfl) (fun v6_12 => ?_)
  refine s_aload (pc := 110) dX0_reckon_110 rfl ?_
  refine s_getS (pc := 112) fsX0_190 dX0_reckon_112 ?_
  refine s_aload_n (pc := 115) dX0_reckon_115 rfl ?_
  refine s_get (pc := 116) (a := 43) (v := 50) flX0_34 (t_43 _) rfl (g_43_9 _) rfl dX0_reckon_116 ?_
  refine s_iload_n (pc := 119) dX0_reckon_119 rfl ?_
  refine s_ialdM (pc := 120) (a := 50) (t_50 _) rfl r_50 dX0_reckon_120 ?_
  refine s_icmp_eq (pc := 121) (tgt := 127) dX0_reckon_121 rfl ?_ ?_
  · refine s_iconst (pc := 127) dX0_reckon_127 ?_
    refine s_istoreD (pc := 128) (ls' := [some (2, 43), some (0, v1), some (0, v2), some (2, v3), some (0, v4), some (0, v5), some (2, v6_12), some (0, 1)]) dX0_reckon_128 rfl (Nat.le_of_ble_eq_true rfl) ?_
    refine s_loop (g := gX0_reckon_l130 G Γ r sz sl td c v1 v2 v3 v4 v5 v6_12) (Ex := eX0_reckon_l130 G Γ r sz sl td c v1 v2 v3 v4 v5 v6_12) (s0 := (1, c)) (fun s => sX0_reckon_l130 v1 v2 v3 v4 v5 v6_12 s.1 td s.2) ?_
    intro e_17
    show Sm _ _ (WP G Γ muX0_reckon r 168 [some (2, 43), some (0, v1), some (0, v2), some (2, v3), some (0, v4), some (0, v5), none, none] [] (sz, sl, tt td, cv e_17))
    refine s_iinc (pc := 168) (lf := fun x => [some (2, 43), some (0, v1), some (0, v2), some (2, v3), some (0, v4), some (0, x), none, none]) dX0_reckon_168 rfl (fun _ => rfl) (Nat.le_of_ble_eq_true rfl) (fun v5_18 => ?_)
    refine s_goto (pc := 171) (tgt := 97) dX0_reckon_171 rfl ?_
    exact Sm.some (fun h => h)
  refine s_goto (pc := 124) (tgt := 168) dX0_reckon_124 rfl ?_
  refine s_iinc (pc := 168) (lf := fun x => [some (2, 43), some (0, v1), some (0, v2), some (2, v3), some (0, v4), some (0, x), some (2, v6_12), none]) dX0_reckon_168 rfl (fun _ => rfl) (Nat.le_of_ble_eq_true rfl) (fun v5_19 => ?_)
  refine s_goto (pc := 171) (tgt := 97) dX0_reckon_171 rfl ?_
  refine s_wk [true, true, true, true, true, true, false, true] (ls' := [some (2, 43), some (0, v1), some (0, v2), some (2, v3), some (0, v4), some (0, v5_19), none, none]) rfl ?_
  exact Sm.some (fun h => h)
abbrev gX0_reckon_l223 (G : GG) (Γ : Cx) (r : Vv × Wd) (sz sl : Nat) (td : TT) (c : CC) (v1 : Int) (v2 : Int) (v3 : Int) (v4 : Int) : (Int × CC) → Prop := fun s => WP G Γ muX0_reckon r 223 [some (2, 43), some (0, v1), some (0, v2), some (0, v3), some (0, v4), some (0, s.1), none, none] [] (sz, sl, tt td, cv s.2)
abbrev eX0_reckon_l223 (G : GG) (Γ : Cx) (r : Vv × Wd) (sz sl : Nat) (td : TT) (c : CC) (v1 : Int) (v2 : Int) (v3 : Int) (v4 : Int) : (CC) → Prop := (fun s => WP G Γ muX0_reckon r 278 [some (2, 43), some (0, v1), some (0, v2), some (0, v3), some (0, v4), none, none, none] [] (sz, sl, tt td, cv s))
noncomputable def fX0_reckon_l223 (v1 : Int) (v2 : Int) (v3 : Int) (v4 : Int) (v5 : Int) (td : TT) (c : CC) : Option ((Int × CC) ⊕ (CC)) :=
  if v5 < v2 then
  (cl (fX0_rowAt v1 v2 v3 v4 ) fun p_24 =>
   cl (fX0_countAt v1 v5 v3 ) fun p_25 =>
   gd (inR (v5 + 1)) <|
   gd (inR (v4 - 1)) <|
   cl (fX0_rowAt (v5 + 1) v2 v3 (v4 - 1) ) fun p_26 =>
   cl (fX0_add_54_53_54 p_24 p_25 p_26 c) fun p_27 =>
   gd (inR (v5 + 1)) <| bd (v5 + 1) fun v5_28 =>
   some (.inl (v5_28, p_27)))
  else
  (some (.inr c))
theorem sX0_reckon_l223 {G : GG} {Γ : Cx} {r : Vv × Wd} {sz : Nat} {sl : Nat} (v1 : Int) (v2 : Int) (v3 : Int) (v4 : Int) (v5 : Int) (td : TT) (c : CC) : Sm (fX0_reckon_l223 v1 v2 v3 v4 v5 td c) (fun x => Sum.elim (gX0_reckon_l223 G Γ r sz sl td c v1 v2 v3 v4) (eX0_reckon_l223 G Γ r sz sl td c v1 v2 v3 v4) x) (gX0_reckon_l223 G Γ r sz sl td c v1 v2 v3 v4 (v5, c)) := by
  show Sm _ _ (WP G Γ muX0_reckon r 223 [some (2, 43), some (0, v1), some (0, v2), some (0, v3), some (0, v4), some (0, v5), none, none] [] (sz, sl, tt td, cv c))
  unfold fX0_reckon_l223
  refine s_iload (pc := 223) dX0_reckon_223 rfl ?_
  refine s_iload_n (pc := 225) dX0_reckon_225 rfl ?_
  refine s_icmp_ge (pc := 226) (tgt := 278) dX0_reckon_226 rfl ?_ ?_
  · refine s_wk [true, true, true, true, true, false, true, true] (ls' := [some (2, 43), some (0, v1), some (0, v2), some (0, v3), some (0, v4), none, none, none]) rfl ?_
    exact Sm.some (fun h => h)
  refine s_aload_n (pc := 229) dX0_reckon_229 rfl ?_
  refine s_get (pc := 230) (a := 43) (v := 54) flX0_55 (t_43 _) rfl (g_43_17 _) rfl dX0_reckon_230 ?_
  refine s_iload_n (pc := 233) dX0_reckon_233 rfl ?_
  refine s_iload_n (pc := 234) dX0_reckon_234 rfl ?_
  refine s_iload_n (pc := 235) dX0_reckon_235 rfl ?_
  refine s_iload (pc := 236) dX0_reckon_236 rfl ?_
  refine s_callS3 (pc := 238) (as := [(0, v1), (0, v2), (0, v3), (0, v4)]) (st := [(2, 54)]) (rv := fun b => ((0, b), (sz, sl, tt td, cv c))) (st3 := fun b => [(0, b), (2, 54)]) (w3 := fun b => (sz, sl, tt td, cv c)) msX0_182 (fun b h => kX0_rowAt v1 v2 v3 v4 c b h) rfl (by decide) rfl (Nat.le_of_ble_eq_true rfl) (fun _ => Nat.le_of_ble_eq_true rfl) (fun _ => ⟨rfl, rfl⟩) dX0_reckon_238 (fun p_24 => ?_)
  refine s_aload_n (pc := 241) dX0_reckon_241 rfl ?_
  refine s_get (pc := 242) (a := 43) (v := 53) flX0_51 (t_43 _) rfl (g_43_16 _) rfl dX0_reckon_242 ?_
  refine s_iload_n (pc := 245) dX0_reckon_245 rfl ?_
  refine s_iload (pc := 246) dX0_reckon_246 rfl ?_
  refine s_iload_n (pc := 248) dX0_reckon_248 rfl ?_
  refine s_callS3 (pc := 249) (as := [(0, v1), (0, v5), (0, v3)]) (st := [(2, 53), (0, p_24), (2, 54)]) (rv := fun b => ((0, b), (sz, sl, tt td, cv c))) (st3 := fun b => [(0, b), (2, 53), (0, p_24), (2, 54)]) (w3 := fun b => (sz, sl, tt td, cv c)) msX0_199 (fun b h => kX0_countAt v1 v5 v3 c b h) rfl (by decide) rfl (Nat.le_of_ble_eq_true rfl) (fun _ => Nat.le_of_ble_eq_true rfl) (fun _ => ⟨rfl, rfl⟩) dX0_reckon_249 (fun p_25 => ?_)
  refine s_aload_n (pc := 252) dX0_reckon_252 rfl ?_
  refine s_get (pc := 253) (a := 43) (v := 54) flX0_55 (t_43 _) rfl (g_43_17 _) rfl dX0_reckon_253 ?_
  refine s_iload (pc := 256) dX0_reckon_256 rfl ?_
  refine s_iconst (pc := 258) dX0_reckon_258 ?_
  refine s_iadd (pc := 259) dX0_reckon_259 ?_
  refine s_iload_n (pc := 260) dX0_reckon_260 rfl ?_
  refine s_iload_n (pc := 261) dX0_reckon_261 rfl ?_
  refine s_iload (pc := 262) dX0_reckon_262 rfl ?_
  refine s_iconst (pc := 264) dX0_reckon_264 ?_
  refine s_isub (pc := 265) dX0_reckon_265 ?_
  refine s_callS3 (pc := 266) (as := [(0, v5 + 1), (0, v2), (0, v3), (0, v4 - 1)]) (st := [(2, 54), (0, p_25), (2, 53), (0, p_24), (2, 54)]) (rv := fun b => ((0, b), (sz, sl, tt td, cv c))) (st3 := fun b => [(0, b), (2, 54), (0, p_25), (2, 53), (0, p_24), (2, 54)]) (w3 := fun b => (sz, sl, tt td, cv c)) msX0_182 (fun b h => kX0_rowAt (v5 + 1) v2 v3 (v4 - 1) c b h) rfl (by decide) rfl (Nat.le_of_ble_eq_true rfl) (fun _ => Nat.le_of_ble_eq_true rfl) (fun _ => ⟨rfl, rfl⟩) dX0_reckon_266 (fun p_26 => ?_)
  refine s_callS3 (pc := 269) (as := [(2, 54), (0, p_24), (2, 53), (0, p_25), (2, 54), (0, p_26)]) (st := []) (rv := fun b => ((3, 0), (sz, sl, tt td, cv b))) (st3 := fun b => []) (w3 := fun b => (sz, sl, tt td, cv b)) msX0_171_54_53_54 (fun b h => kX0_add_54_53_54 p_24 p_25 p_26 c b h) rfl (by decide) rfl (Nat.le_of_ble_eq_true rfl) (fun _ => Nat.le_of_ble_eq_true rfl) (fun _ => ⟨rfl, rfl⟩) dX0_reckon_269 (fun p_27 => ?_)
  refine s_iinc (pc := 272) (lf := fun x => [some (2, 43), some (0, v1), some (0, v2), some (0, v3), some (0, v4), some (0, x), none, none]) dX0_reckon_272 rfl (fun _ => rfl) (Nat.le_of_ble_eq_true rfl) (fun v5_28 => ?_)
  refine s_goto (pc := 275) (tgt := 223) dX0_reckon_275 rfl ?_
  exact Sm.some (fun h => h)
abbrev gX0_reckon_l214 (G : GG) (Γ : Cx) (r : Vv × Wd) (sz sl : Nat) (td : TT) (c : CC) (v1 : Int) (v2 : Int) (v3 : Int) : (Int × CC) → Prop := fun s => WP G Γ muX0_reckon r 214 [some (2, 43), some (0, v1), some (0, v2), some (0, v3), some (0, s.1), none, none, none] [] (sz, sl, tt td, cv s.2)
abbrev eX0_reckon_l214 (G : GG) (Γ : Cx) (r : Vv × Wd) (sz sl : Nat) (td : TT) (c : CC) (v1 : Int) (v2 : Int) (v3 : Int) : (CC) → Prop := (fun s => WP G Γ muX0_reckon r 284 [some (2, 43), some (0, v1), some (0, v2), some (0, v3), none, none, none, none] [] (sz, sl, tt td, cv s))
noncomputable def fX0_reckon_l214 (v1 : Int) (v2 : Int) (v3 : Int) (v4 : Int) (td : TT) (c : CC) : Option ((Int × CC) ⊕ (CC)) :=
  if (5 : Int) < v4 then
  (some (.inr c))
  else
  (cl (wh (fun s => fX0_reckon_l223 v1 v2 v3 v4 s.1 td s.2) (v1, c)) (fun e_29 =>
  gd (inR (v4 + 1)) <| bd (v4 + 1) fun v4_30 =>
   some (.inl (v4_30, e_29))))
theorem sX0_reckon_l214 {G : GG} {Γ : Cx} {r : Vv × Wd} {sz : Nat} {sl : Nat} (v1 : Int) (v2 : Int) (v3 : Int) (v4 : Int) (td : TT) (c : CC) : Sm (fX0_reckon_l214 v1 v2 v3 v4 td c) (fun x => Sum.elim (gX0_reckon_l214 G Γ r sz sl td c v1 v2 v3) (eX0_reckon_l214 G Γ r sz sl td c v1 v2 v3) x) (gX0_reckon_l214 G Γ r sz sl td c v1 v2 v3 (v4, c)) := by
  show Sm _ _ (WP G Γ muX0_reckon r 214 [some (2, 43), some (0, v1), some (0, v2), some (0, v3), some (0, v4), none, none, none] [] (sz, sl, tt td, cv c))
  unfold fX0_reckon_l214
  refine s_iload (pc := 214) dX0_reckon_214 rfl ?_
  refine s_iconst (pc := 216) dX0_reckon_216 ?_
  refine s_icmp_gt (pc := 217) (tgt := 284) dX0_reckon_217 rfl ?_ ?_
  · refine s_wk [true, true, true, true, false, true, true, true] (ls' := [some (2, 43), some (0, v1), some (0, v2), some (0, v3), none, none, none, none]) rfl ?_
    exact Sm.some (fun h => h)
  refine s_iload_n (pc := 220) dX0_reckon_220 rfl ?_
  refine s_istoreD (pc := 221) (ls' := [some (2, 43), some (0, v1), some (0, v2), some (0, v3), some (0, v4), some (0, v1), none, none]) dX0_reckon_221 rfl (Nat.le_of_ble_eq_true rfl) ?_
  refine s_loop (g := gX0_reckon_l223 G Γ r sz sl td c v1 v2 v3 v4) (Ex := eX0_reckon_l223 G Γ r sz sl td c v1 v2 v3 v4) (s0 := (v1, c)) (fun s => sX0_reckon_l223 v1 v2 v3 v4 s.1 td s.2) ?_
  intro e_29
  show Sm _ _ (WP G Γ muX0_reckon r 278 [some (2, 43), some (0, v1), some (0, v2), some (0, v3), some (0, v4), none, none, none] [] (sz, sl, tt td, cv e_29))
  refine s_iinc (pc := 278) (lf := fun x => [some (2, 43), some (0, v1), some (0, v2), some (0, v3), some (0, x), none, none, none]) dX0_reckon_278 rfl (fun _ => rfl) (Nat.le_of_ble_eq_true rfl) (fun v4_30 => ?_)
  refine s_goto (pc := 281) (tgt := 214) dX0_reckon_281 rfl ?_
  exact Sm.some (fun h => h)
abbrev gX0_reckon_l176 (G : GG) (Γ : Cx) (r : Vv × Wd) (sz sl : Nat) (td : TT) (c : CC) (v1 : Int) (v2 : Int) : (Int × CC) → Prop := fun s => WP G Γ muX0_reckon r 176 [some (2, 43), some (0, v1), some (0, v2), some (0, s.1), none, none, none, none] [] (sz, sl, tt td, cv s.2)
abbrev eX0_reckon_l176 (G : GG) (Γ : Cx) (r : Vv × Wd) (sz sl : Nat) (td : TT) (c : CC) (v1 : Int) (v2 : Int) : (CC) → Prop := (fun s => WP G Γ muX0_reckon r 290 [some (2, 43), some (0, v1), some (0, v2), none, none, none, none, none] [] (sz, sl, tt td, cv s))
noncomputable def fX0_reckon_l176 (v1 : Int) (v2 : Int) (v3 : Int) (td : TT) (c : CC) : Option ((Int × CC) ⊕ (CC)) :=
  if v3 < 8 then
  (cl (fX0_rowAt v1 v2 v3 1 ) fun p_21 =>
   cl (fX0_countAt v1 v2 v3 ) fun p_22 =>
   cl (fX0_add_54_53_55 p_21 p_22 0 c) fun p_23 =>
   cl (wh (fun s => fX0_reckon_l214 v1 v2 v3 s.1 td s.2) (2, p_23)) (fun e_31 =>
  gd (inR (v3 + 1)) <| bd (v3 + 1) fun v3_32 =>
   some (.inl (v3_32, e_31))))
  else
  (some (.inr c))
theorem sX0_reckon_l176 {G : GG} {Γ : Cx} {r : Vv × Wd} {sz : Nat} {sl : Nat} (v1 : Int) (v2 : Int) (v3 : Int) (td : TT) (c : CC) : Sm (fX0_reckon_l176 v1 v2 v3 td c) (fun x => Sum.elim (gX0_reckon_l176 G Γ r sz sl td c v1 v2) (eX0_reckon_l176 G Γ r sz sl td c v1 v2) x) (gX0_reckon_l176 G Γ r sz sl td c v1 v2 (v3, c)) := by
  show Sm _ _ (WP G Γ muX0_reckon r 176 [some (2, 43), some (0, v1), some (0, v2), some (0, v3), none, none, none, none] [] (sz, sl, tt td, cv c))
  unfold fX0_reckon_l176
  refine s_iload_n (pc := 176) dX0_reckon_176 rfl ?_
  refine s_bipush (pc := 177) dX0_reckon_177 ?_
  refine s_icmp_ge (pc := 179) (tgt := 290) dX0_reckon_179 rfl ?_ ?_
  · refine s_wk [true, true, true, false, true, true, true, true] (ls' := [some (2, 43), some (0, v1), some (0, v2), none, none, none, none, none]) rfl ?_
    exact Sm.some (fun h => h)
  refine s_aload_n (pc := 182) dX0_reckon_182 rfl ?_
  refine s_get (pc := 183) (a := 43) (v := 54) flX0_55 (t_43 _) rfl (g_43_17 _) rfl dX0_reckon_183 ?_
  refine s_iload_n (pc := 186) dX0_reckon_186 rfl ?_
  refine s_iload_n (pc := 187) dX0_reckon_187 rfl ?_
  refine s_iload_n (pc := 188) dX0_reckon_188 rfl ?_
  refine s_iconst (pc := 189) dX0_reckon_189 ?_
  refine s_callS3 (pc := 190) (as := [(0, v1), (0, v2), (0, v3), (0, 1)]) (st := [(2, 54)]) (rv := fun b => ((0, b), (sz, sl, tt td, cv c))) (st3 := fun b => [(0, b), (2, 54)]) (w3 := fun b => (sz, sl, tt td, cv c)) msX0_182 (fun b h => kX0_rowAt v1 v2 v3 1 c b h) rfl (by decide) rfl (Nat.le_of_ble_eq_true rfl) (fun _ => Nat.le_of_ble_eq_true rfl) (fun _ => ⟨rfl, rfl⟩) dX0_reckon_190 (fun p_21 => ?_)
  refine s_aload_n (pc := 193) dX0_reckon_193 rfl ?_
  refine s_get (pc := 194) (a := 43) (v := 53) flX0_51 (t_43 _) rfl (g_43_16 _) rfl dX0_reckon_194 ?_
  refine s_iload_n (pc := 197) dX0_reckon_197 rfl ?_
  refine s_iload_n (pc := 198) dX0_reckon_198 rfl ?_
  refine s_iload_n (pc := 199) dX0_reckon_199 rfl ?_
  refine s_callS3 (pc := 200) (as := [(0, v1), (0, v2), (0, v3)]) (st := [(2, 53), (0, p_21), (2, 54)]) (rv := fun b => ((0, b), (sz, sl, tt td, cv c))) (st3 := fun b => [(0, b), (2, 53), (0, p_21), (2, 54)]) (w3 := fun b => (sz, sl, tt td, cv c)) msX0_199 (fun b h => kX0_countAt v1 v2 v3 c b h) rfl (by decide) rfl (Nat.le_of_ble_eq_true rfl) (fun _ => Nat.le_of_ble_eq_true rfl) (fun _ => ⟨rfl, rfl⟩) dX0_reckon_200 (fun p_22 => ?_)
  refine s_aload_n (pc := 203) dX0_reckon_203 rfl ?_
  refine s_get (pc := 204) (a := 43) (v := 55) flX0_58 (t_43 _) rfl (g_43_18 _) rfl dX0_reckon_204 ?_
  refine s_iconst (pc := 207) dX0_reckon_207 ?_
  refine s_callS3 (pc := 208) (as := [(2, 54), (0, p_21), (2, 53), (0, p_22), (2, 55), (0, 0)]) (st := []) (rv := fun b => ((3, 0), (sz, sl, tt td, cv b))) (st3 := fun b => []) (w3 := fun b => (sz, sl, tt td, cv b)) msX0_171_54_53_55 (fun b h => kX0_add_54_53_55 p_21 p_22 0 c b h) rfl (by decide) rfl (Nat.le_of_ble_eq_true rfl) (fun _ => Nat.le_of_ble_eq_true rfl) (fun _ => ⟨rfl, rfl⟩) dX0_reckon_208 (fun p_23 => ?_)
  refine s_iconst (pc := 211) dX0_reckon_211 ?_
  refine s_istoreD (pc := 212) (ls' := [some (2, 43), some (0, v1), some (0, v2), some (0, v3), some (0, 2), none, none, none]) dX0_reckon_212 rfl (Nat.le_of_ble_eq_true rfl) ?_
  refine s_loop (g := gX0_reckon_l214 G Γ r sz sl td p_23 v1 v2 v3) (Ex := eX0_reckon_l214 G Γ r sz sl td p_23 v1 v2 v3) (s0 := (2, p_23)) (fun s => sX0_reckon_l214 v1 v2 v3 s.1 td s.2) ?_
  intro e_31
  show Sm _ _ (WP G Γ muX0_reckon r 284 [some (2, 43), some (0, v1), some (0, v2), some (0, v3), none, none, none, none] [] (sz, sl, tt td, cv e_31))
  refine s_iinc (pc := 284) (lf := fun x => [some (2, 43), some (0, v1), some (0, v2), some (0, x), none, none, none, none]) dX0_reckon_284 rfl (fun _ => rfl) (Nat.le_of_ble_eq_true rfl) (fun v3_32 => ?_)
  refine s_goto (pc := 287) (tgt := 176) dX0_reckon_287 rfl ?_
  exact Sm.some (fun h => h)
abbrev gX0_reckon_l74 (G : GG) (Γ : Cx) (r : Vv × Wd) (sz sl : Nat) (td : TT) (c : CC) (v1 : Int) : (Int × CC) → Prop := fun s => WP G Γ muX0_reckon r 74 [some (2, 43), some (0, v1), some (0, s.1), none, none, none, none, none] [] (sz, sl, tt td, cv s.2)
abbrev eX0_reckon_l74 (G : GG) (Γ : Cx) (r : Vv × Wd) (sz sl : Nat) (td : TT) (c : CC) (v1 : Int) : (CC) → Prop := (fun s => WP G Γ muX0_reckon r 296 [some (2, 43), some (0, v1), none, none, none, none, none, none] [] (sz, sl, tt td, cv s))
noncomputable def fX0_reckon_l74 (v1 : Int) (v2 : Int) (td : TT) (c : CC) : Option ((Int × CC) ⊕ (CC)) :=
  if v2 < c 43 5 then
  (cl (fX0_lexicon  td c) fun p_9 =>
   gd ((0 : Int) ≤ p_9 ∧ (tt td (Int.toNat p_9)).1 = 1) <|
   bd (cv c (Int.toNat p_9) 0) fun v3_10 =>
   gd ((0 : Int) ≤ v3_10 ∧ (tt td (Int.toNat v3_10)).1 = 55 ∧ (tt td (Int.toNat v3_10)).2 < 2147483648) <|
   bd (((tt td (Int.toNat v3_10)).2 : Int)) fun v4_11 =>
   cl (wh (fun s => fX0_reckon_l97 v1 v2 v3_10 v4_11 s.1 td s.2) (0, c)) (fun e_20 =>
  cl (wh (fun s => fX0_reckon_l176 v1 v2 s.1 td s.2) (0, e_20)) (fun e_33 =>
  gd (inR (v2 + 1)) <| bd (v2 + 1) fun v2_34 =>
   some (.inl (v2_34, e_33)))))
  else
  (some (.inr c))
theorem sX0_reckon_l74 {G : GG} {Γ : Cx} {r : Vv × Wd} {sz : Nat} {sl : Nat} (v1 : Int) (v2 : Int) (td : TT) (c : CC) : Sm (fX0_reckon_l74 v1 v2 td c) (fun x => Sum.elim (gX0_reckon_l74 G Γ r sz sl td c v1) (eX0_reckon_l74 G Γ r sz sl td c v1) x) (gX0_reckon_l74 G Γ r sz sl td c v1 (v2, c)) := by
  show Sm _ _ (WP G Γ muX0_reckon r 74 [some (2, 43), some (0, v1), some (0, v2), none, none, none, none, none] [] (sz, sl, tt td, cv c))
  unfold fX0_reckon_l74
  refine s_iload_n (pc := 74) dX0_reckon_74 rfl ?_
  refine s_aload_n (pc := 75) dX0_reckon_75 rfl ?_
  refine s_get (pc := 76) (a := 43) (v := c 43 5) flX0_158 (t_43 _) rfl (g_43_5 _) rfl dX0_reckon_76 ?_
  refine s_icmp_ge (pc := 79) (tgt := 296) dX0_reckon_79 rfl ?_ ?_
  · refine s_wk [true, true, false, true, true, true, true, true] (ls' := [some (2, 43), some (0, v1), none, none, none, none, none, none]) rfl ?_
    exact Sm.some (fun h => h)
  refine s_aload_n (pc := 82) dX0_reckon_82 rfl ?_
  refine s_callV3 (pc := 83) (a := 43) (as := []) (st := []) (rv := fun b => ((2, b), (sz, sl, tt td, cv c))) (st3 := fun b => [(2, b)]) (w3 := fun b => (sz, sl, tt td, cv c)) mvX0_186 (fun b h => kX0_lexicon  td c b h) rfl (by decide) (t_43 td) rfl rfl rfl (Nat.le_of_ble_eq_true rfl) (fun _ => Nat.le_of_ble_eq_true rfl) (fun _ => ⟨rfl, rfl⟩) dX0_reckon_83 (fun p_9 => ?_)
  refine s_getDN (pc := 86) fnX0_189 rfl dX0_reckon_86 ?_
  refine s_astore_n (pc := 89) (lf := fun x => [some (2, 43), some (0, v1), some (0, v2), some (2, x), none, none, none, none]) dX0_reckon_89 (fun _ => rfl) (Nat.le_of_ble_eq_true rfl) (fun v3_10 => ?_)
  refine s_aload_n (pc := 90) dX0_reckon_90 rfl ?_
  refine s_alenD (pc := 91) (q := 5) (by decide) dX0_reckon_91 ?_
  refine s_istore (pc := 92) (lf := fun x => [some (2, 43), some (0, v1), some (0, v2), some (2, v3_10), some (0, x), none, none, none]) dX0_reckon_92 (fun _ => rfl) (Nat.le_of_ble_eq_true rfl) (fun v4_11 => ?_)
  refine s_iconst (pc := 94) dX0_reckon_94 ?_
  refine s_istoreD (pc := 95) (ls' := [some (2, 43), some (0, v1), some (0, v2), some (2, v3_10), some (0, v4_11), some (0, 0), none, none]) dX0_reckon_95 rfl (Nat.le_of_ble_eq_true rfl) ?_
  refine s_loop (g := gX0_reckon_l97 G Γ r sz sl td c v1 v2 v3_10 v4_11) (Ex := eX0_reckon_l97 G Γ r sz sl td c v1 v2 v3_10 v4_11) (s0 := (0, c)) (fun s => sX0_reckon_l97 v1 v2 v3_10 v4_11 s.1 td s.2) ?_
  intro e_20
  show Sm _ _ (WP G Γ muX0_reckon r 174 [some (2, 43), some (0, v1), some (0, v2), none, none, none, none, none] [] (sz, sl, tt td, cv e_20))
  refine s_iconst (pc := 174) dX0_reckon_174 ?_
  refine s_istore_nD (pc := 175) (ls' := [some (2, 43), some (0, v1), some (0, v2), some (0, 0), none, none, none, none]) dX0_reckon_175 rfl (Nat.le_of_ble_eq_true rfl) ?_
  refine s_loop (g := gX0_reckon_l176 G Γ r sz sl td e_20 v1 v2) (Ex := eX0_reckon_l176 G Γ r sz sl td e_20 v1 v2) (s0 := (0, e_20)) (fun s => sX0_reckon_l176 v1 v2 s.1 td s.2) ?_
  intro e_33
  show Sm _ _ (WP G Γ muX0_reckon r 290 [some (2, 43), some (0, v1), some (0, v2), none, none, none, none, none] [] (sz, sl, tt td, cv e_33))
  refine s_iinc (pc := 290) (lf := fun x => [some (2, 43), some (0, v1), some (0, x), none, none, none, none, none]) dX0_reckon_290 rfl (fun _ => rfl) (Nat.le_of_ble_eq_true rfl) (fun v2_34 => ?_)
  refine s_goto (pc := 293) (tgt := 74) dX0_reckon_293 rfl ?_
  exact Sm.some (fun h => h)
abbrev gX0_reckon_l68 (G : GG) (Γ : Cx) (r : Vv × Wd) (sz sl : Nat) (td : TT) (c : CC)  : (Int × CC) → Prop := fun s => WP G Γ muX0_reckon r 68 [some (2, 43), some (0, s.1), none, none, none, none, none, none] [] (sz, sl, tt td, cv s.2)
abbrev eX0_reckon_l68 (G : GG) (Γ : Cx) (r : Vv × Wd) (sz sl : Nat) (td : TT) (c : CC)  : (CC) → Prop := (fun s => WP G Γ muX0_reckon r 302 [none, none, none, none, none, none, none, none] [] (sz, sl, tt td, cv s))
noncomputable def fX0_reckon_l68 (v1 : Int) (td : TT) (c : CC) : Option ((Int × CC) ⊕ (CC)) :=
  if v1 < 0 then
  (some (.inr c))
  else
  (cl (wh (fun s => fX0_reckon_l74 v1 s.1 td s.2) (v1, c)) (fun e_35 =>
  gd (inR (v1 + -1)) <| bd (v1 + -1) fun v1_36 =>
   some (.inl (v1_36, e_35))))
theorem sX0_reckon_l68 {G : GG} {Γ : Cx} {r : Vv × Wd} {sz : Nat} {sl : Nat} (v1 : Int) (td : TT) (c : CC) : Sm (fX0_reckon_l68 v1 td c) (fun x => Sum.elim (gX0_reckon_l68 G Γ r sz sl td c ) (eX0_reckon_l68 G Γ r sz sl td c ) x) (gX0_reckon_l68 G Γ r sz sl td c  (v1, c)) := by
  show Sm _ _ (WP G Γ muX0_reckon r 68 [some (2, 43), some (0, v1), none, none, none, none, none, none] [] (sz, sl, tt td, cv c))
  unfold fX0_reckon_l68
  refine s_iload_n (pc := 68) dX0_reckon_68 rfl ?_
  refine s_if_lt (pc := 69) (tgt := 302) dX0_reckon_69 rfl ?_ ?_
  · refine s_wk [false, false, true, true, true, true, true, true] (ls' := [none, none, none, none, none, none, none, none]) rfl ?_
    exact Sm.some (fun h => h)
  refine s_iload_n (pc := 72) dX0_reckon_72 rfl ?_
  refine s_istore_nD (pc := 73) (ls' := [some (2, 43), some (0, v1), some (0, v1), none, none, none, none, none]) dX0_reckon_73 rfl (Nat.le_of_ble_eq_true rfl) ?_
  refine s_loop (g := gX0_reckon_l74 G Γ r sz sl td c v1) (Ex := eX0_reckon_l74 G Γ r sz sl td c v1) (s0 := (v1, c)) (fun s => sX0_reckon_l74 v1 s.1 td s.2) ?_
  intro e_35
  show Sm _ _ (WP G Γ muX0_reckon r 296 [some (2, 43), some (0, v1), none, none, none, none, none, none] [] (sz, sl, tt td, cv e_35))
  refine s_iinc (pc := 296) (lf := fun x => [some (2, 43), some (0, x), none, none, none, none, none, none]) dX0_reckon_296 rfl (fun _ => rfl) (Nat.le_of_ble_eq_true rfl) (fun v1_36 => ?_)
  refine s_goto (pc := 299) (tgt := 68) dX0_reckon_299 rfl ?_
  exact Sm.some (fun h => h)
noncomputable def fX0_reckon  (td : TT) (c : CC) : Option CC :=
  if c 43 11 = 0 then
  (gd ((0 : Int) ≤ 1 ∧ (1 : Int) < 2) <| bd (up2 c 43 11 1) fun c_1 =>
   cl (wh (fun s => fX0_reckon_l15  s.1 td s.2) (0, c_1)) (fun e_4 =>
  cl (wh (fun s => fX0_reckon_l39  s.1 td s.2) (0, e_4)) (fun e_7 =>
  gd (inR ((e_7 43 5) - 1)) <|
   bd ((e_7 43 5) - 1) fun v1_8 =>
   cl (wh (fun s => fX0_reckon_l68  s.1 td s.2) (v1_8, e_7)) (fun e_37 =>
  some e_37))))
  else
  (some c)
theorem sX0_reckon {G : GG} {Γ : Cx} {r : Vv × Wd} {sz : Nat} {sl : Nat}  (td : TT) (c : CC) : Sm (fX0_reckon  td c) (fun x => r = ((3, 0), (sz, sl, tt td, cv x))) (WP G Γ muX0_reckon r 0 [some (2, 43), none, none, none, none, none, none, none] [] (sz, sl, tt td, cv c)) := by
  unfold fX0_reckon
  refine s_aload_n (pc := 0) dX0_reckon_0 rfl ?_
  refine s_get (pc := 1) (a := 43) (v := c 43 11) flX0_154 (t_43 _) rfl (g_43_11 _) rfl dX0_reckon_1 ?_
  refine s_if_eq (pc := 4) (tgt := 8) dX0_reckon_4 rfl ?_ ?_
  · refine s_aload_n (pc := 8) dX0_reckon_8 rfl ?_
    refine s_iconst (pc := 9) dX0_reckon_9 ?_
    refine s_putZM (pc := 10) (a := 43) (fpX0_154 _) (t_43 _) rfl kO_43 n_43_11 rfl dX0_reckon_10 (fun c_1 => ?_)
    refine s_iconst (pc := 13) dX0_reckon_13 ?_
    refine s_istore_nD (pc := 14) (ls' := [some (2, 43), some (0, 0), none, none, none, none, none, none]) dX0_reckon_14 rfl (Nat.le_of_ble_eq_true rfl) ?_
    refine s_loop (g := gX0_reckon_l15 G Γ r sz sl td c_1 ) (Ex := eX0_reckon_l15 G Γ r sz sl td c_1 ) (s0 := (0, c_1)) (fun s => sX0_reckon_l15  s.1 td s.2) ?_
    intro e_4
    show Sm _ _ (WP G Γ muX0_reckon r 37 [some (2, 43), none, none, none, none, none, none, none] [] (sz, sl, tt td, cv e_4))
    refine s_iconst (pc := 37) dX0_reckon_37 ?_
    refine s_istore_nD (pc := 38) (ls' := [some (2, 43), some (0, 0), none, none, none, none, none, none]) dX0_reckon_38 rfl (Nat.le_of_ble_eq_true rfl) ?_
    refine s_loop (g := gX0_reckon_l39 G Γ r sz sl td e_4 ) (Ex := eX0_reckon_l39 G Γ r sz sl td e_4 ) (s0 := (0, e_4)) (fun s => sX0_reckon_l39  s.1 td s.2) ?_
    intro e_7
    show Sm _ _ (WP G Γ muX0_reckon r 61 [some (2, 43), none, none, none, none, none, none, none] [] (sz, sl, tt td, cv e_7))
    refine s_aload_n (pc := 61) dX0_reckon_61 rfl ?_
    refine s_get (pc := 62) (a := 43) (v := e_7 43 5) flX0_158 (t_43 _) rfl (g_43_5 _) rfl dX0_reckon_62 ?_
    refine s_iconst (pc := 65) dX0_reckon_65 ?_
    refine s_isub (pc := 66) dX0_reckon_66 ?_
    refine s_istore_n (pc := 67) (lf := fun x => [some (2, 43), some (0, x), none, none, none, none, none, none]) dX0_reckon_67 (fun _ => rfl) (Nat.le_of_ble_eq_true rfl) (fun v1_8 => ?_)
    refine s_loop (g := gX0_reckon_l68 G Γ r sz sl td e_7 ) (Ex := eX0_reckon_l68 G Γ r sz sl td e_7 ) (s0 := (v1_8, e_7)) (fun s => sX0_reckon_l68  s.1 td s.2) ?_
    intro e_37
    show Sm _ _ (WP G Γ muX0_reckon r 302 [none, none, none, none, none, none, none, none] [] (sz, sl, tt td, cv e_37))
    exact s_vret (pc := 302) dX0_reckon_302 rfl (fun h => h)
  exact s_vret (pc := 7) dX0_reckon_7 rfl (fun h => h)
theorem kX0_reckon {G : GG} {sz : Nat} {sl : Nat}  (td : TT) (c : CC) (x : CC) (h : fX0_reckon  td c = some x) : Ct G yX0_reckon muX0_reckon [(2, 43)] (sz, sl, tt td, cv c) ((3, 0), (sz, sl, tt td, cv x)) :=
  Ct.of (n := 7) (ls0 := [some (2, 43), none, none, none, none, none, none, none]) (by decide) rfl rfl ⟨show (none : Option FieldType) ≠ some .float by decide, show (none : Option FieldType) ≠ some .double by decide⟩ (Nat.le_of_ble_eq_true rfl) rfl ⟨Nat.le_refl _, Nat.le_refl _⟩ (show (3 : Nat) ≠ 9 by decide) (fun Γ => sX0_reckon  td c x h rfl)
