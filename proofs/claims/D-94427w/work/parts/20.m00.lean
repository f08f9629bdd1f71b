/-! LAYER 2: methods of HeldTongueModel, by gen/decomp.py -/
set_option maxRecDepth 100000
theorem flX4_7 : FL RX4 7 3 0 := ⟨_, _, _, cf3, by decide, q1244⟩
theorem flX4_13 : FL RX4 13 3 1 := ⟨_, _, _, cf3, by decide, q1245⟩
abbrev muX4_copies : MI := (cX4_copies, RX4, 3, none, 1, "copies")
abbrev gX4_copies_l2 (G : GG) (Γ : Cx) (r : Vv × Wd) (sz sl : Nat) (td : TT) (v1 : Int) : (Int × CC) → Prop := fun s => WP G Γ muX4_copies r 2 [some (2, 111), some (0, v1), some (0, s.1)] [] (sz, sl, tt td, cv s.2)
abbrev eX4_copies_l2 (G : GG) (Γ : Cx) (r : Vv × Wd) (sz sl : Nat) (td : TT) (v1 : Int) : (CC) → Prop := (fun s => WP G Γ muX4_copies r 45 [none, none, none] [] (sz, sl, tt td, cv s))
noncomputable def fX4_copies_l2 (v1 : Int) (v2 : Int) (c : CC) : Option ((Int × CC) ⊕ (CC)) :=
  if v2 < 40 then
  (if v1 = 0 then
  (gd ((0 : Int) ≤ v2 ∧ v2 < 40) <|
   gd ((0 : Int) ≤ v2 ∧ v2 < 40) <| bd (up2 c 112 (Int.toNat v2) (c 113 (Int.toNat v2))) fun c_1 =>
   gd (inR (v2 + 1)) <| bd (v2 + 1) fun v2_2 =>
   some (.inl (v2_2, c_1)))
  else
  (gd ((0 : Int) ≤ v2 ∧ v2 < 40) <|
   gd ((0 : Int) ≤ v2 ∧ v2 < 40) <| bd (up2 c 113 (Int.toNat v2) (c 112 (Int.toNat v2))) fun c_3 =>
   gd (inR (v2 + 1)) <| bd (v2 + 1) fun v2_4 =>
   some (.inl (v2_4, c_3))))
  else
  (some (.inr c))
theorem sX4_copies_l2 {G : GG} {Γ : Cx} {r : Vv × Wd} {sz sl : Nat} {td : TT} (v1 : Int) (v2 : Int) (c : CC) : Sm (fX4_copies_l2 v1 v2 c) (fun x => Sum.elim (gX4_copies_l2 G Γ r sz sl td v1) (eX4_copies_l2 G Γ r sz sl td v1) x) (gX4_copies_l2 G Γ r sz sl td v1 (v2, c)) := by
  show Sm _ _ (WP G Γ muX4_copies r 2 [some (2, 111), some (0, v1), some (0, v2)] [] (sz, sl, tt td, cv c))
  unfold fX4_copies_l2
  refine s_iload_n (pc := 2) dX4_copies_2 rfl ?_
  refine s_bipush (pc := 3) dX4_copies_3 ?_
  refine s_icmp_ge (pc := 5) (tgt := 45) dX4_copies_5 rfl ?_ ?_
  · refine s_wk [false, false, false] (ls' := [none, none, none]) rfl ?_
    exact Sm.some (fun h => h)
  refine s_iload_n (pc := 8) dX4_copies_8 rfl ?_
  refine s_if_eq (pc := 9) (tgt := 27) dX4_copies_9 rfl ?_ ?_
  · refine s_aload_n (pc := 27) dX4_copies_27 rfl ?_
    refine s_get (pc := 28) (a := 111) (v := 112) flX4_7 (t_111 _) rfl (g_111_0 _) rfl dX4_copies_28 ?_
    refine s_iload_n (pc := 31) dX4_copies_31 rfl ?_
    refine s_aload_n (pc := 32) dX4_copies_32 rfl ?_
    refine s_get (pc := 33) (a := 111) (v := 113) flX4_13 (t_111 _) rfl (g_111_1 _) rfl dX4_copies_33 ?_
    refine s_iload_n (pc := 36) dX4_copies_36 rfl ?_
    refine s_ialdM (pc := 37) (a := 113) (t_113 _) rfl r_113 dX4_copies_37 ?_
    refine s_iastM (pc := 38) (a := 112) (t_112 _) rfl kO_112 r_112 dX4_copies_38 (fun c_1 => ?_)
    refine s_iinc (pc := 39) (lf := fun x => [some (2, 111), some (0, v1), some (0, x)]) dX4_copies_39 rfl (fun _ => rfl) (Nat.le_of_ble_eq_true rfl) (fun v2_2 => ?_)
    refine s_goto (pc := 42) (tgt := 2) dX4_copies_42 rfl ?_
    exact Sm.some (fun h => h)
  refine s_aload_n (pc := 12) dX4_copies_12 rfl ?_
  refine s_get (pc := 13) (a := 111) (v := 113) flX4_13 (t_111 _) rfl (g_111_1 _) rfl dX4_copies_13 ?_
  refine s_iload_n (pc := 16) dX4_copies_16 rfl ?_
  refine s_aload_n (pc := 17) dX4_copies_17 rfl ?_
  refine s_get (pc := 18) (a := 111) (v := 112) flX4_7 (t_111 _) rfl (g_111_0 _) rfl dX4_copies_18 ?_
  refine s_iload_n (pc := 21) dX4_copies_21 rfl ?_
  refine s_ialdM (pc := 22) (a := 112) (t_112 _) rfl r_112 dX4_copies_22 ?_
  refine s_iastM (pc := 23) (a := 113) (t_113 _) rfl kO_113 r_113 dX4_copies_23 (fun c_3 => ?_)
  refine s_goto (pc := 24) (tgt := 39) dX4_copies_24 rfl ?_
  refine s_iinc (pc := 39) (lf := fun x => [some (2, 111), some (0, v1), some (0, x)]) dX4_copies_39 rfl (fun _ => rfl) (Nat.le_of_ble_eq_true rfl) (fun v2_4 => ?_)
  refine s_goto (pc := 42) (tgt := 2) dX4_copies_42 rfl ?_
  exact Sm.some (fun h => h)
noncomputable def fX4_copies (a1 : Int) (c : CC) : Option CC :=
  cl (wh (fun s => fX4_copies_l2 a1 s.1 s.2) (0, c)) (fun e_5 =>
  some e_5)
theorem sX4_copies {G : GG} {Γ : Cx} {r : Vv × Wd} {sz sl : Nat} {td : TT} (a1 : Int) (c : CC) : Sm (fX4_copies a1 c) (fun x => r = ((3, 0), (sz, sl, tt td, cv x))) (WP G Γ muX4_copies r 0 [some (2, 111), some (0, a1), none] [] (sz, sl, tt td, cv c)) := by
  unfold fX4_copies
  refine s_iconst (pc := 0) dX4_copies_0 ?_
  refine s_istore_nD (pc := 1) (ls' := [some (2, 111), some (0, a1), some (0, 0)]) dX4_copies_1 rfl (Nat.le_of_ble_eq_true rfl) ?_
  refine s_loop (g := gX4_copies_l2 G Γ r sz sl td a1) (Ex := eX4_copies_l2 G Γ r sz sl td a1) (s0 := (0, c)) (fun s => sX4_copies_l2 a1 s.1 s.2) ?_
  intro e_5
  show Sm _ _ (WP G Γ muX4_copies r 45 [none, none, none] [] (sz, sl, tt td, cv e_5))
  exact s_vret (pc := 45) dX4_copies_45 rfl (fun h => h)
theorem kX4_copies {G : GG} {sz sl : Nat} {td : TT} (a1 : Int) (c : CC) (x : CC) (h : fX4_copies a1 c = some x) : Ct G yX4_copies muX4_copies [(2, 111), (0, a1)] (sz, sl, tt td, cv c) ((3, 0), (sz, sl, tt td, cv x)) :=
  Ct.of (n := 1) (ls0 := [some (2, 111), some (0, a1), none]) (by decide) rfl rfl ⟨by decide, by decide⟩ (Nat.le_of_ble_eq_true rfl) rfl ⟨Nat.le_refl _, Nat.le_refl _⟩ (show (3 : Nat) ≠ 9 by decide) (fun Γ => sX4_copies a1 c x h rfl)
abbrev muX4_in : MI := (cX4_in, RX4, 3, some .boolean, 1, "in")
noncomputable def fX4_in (a0 : Int) (a1 : Int) (a2 : Int) : Option Int :=
  if a0 < a1 then
  (gd ((0 : Int) ≤ 0 ∧ (0 : Int) < 2) (some 0))
  else
  (if a2 < a0 then
  (gd ((0 : Int) ≤ 0 ∧ (0 : Int) < 2) (some 0))
  else
  (gd ((0 : Int) ≤ 1 ∧ (1 : Int) < 2) (some 1)))
theorem sX4_in {G : GG} {Γ : Cx} {r : Vv × Wd} {sz sl : Nat} {td : TT} (a0 : Int) (a1 : Int) (a2 : Int) (c : CC) : Sm (fX4_in a0 a1 a2) (fun x => r = ((0, x), (sz, sl, tt td, cv c))) (WP G Γ muX4_in r 0 [some (0, a0), some (0, a1), some (0, a2)] [] (sz, sl, tt td, cv c)) := by
  unfold fX4_in
  refine s_iload_n (pc := 0) dX4_in_0 rfl ?_
  refine s_iload_n (pc := 1) dX4_in_1 rfl ?_
  refine s_icmp_lt (pc := 2) (tgt := 14) dX4_in_2 rfl ?_ ?_
  · refine s_iconst (pc := 14) dX4_in_14 ?_
    exact s_zret (pc := 15) dX4_in_15 rfl (fun h => h)
  refine s_iload_n (pc := 5) dX4_in_5 rfl ?_
  refine s_iload_n (pc := 6) dX4_in_6 rfl ?_
  refine s_icmp_gt (pc := 7) (tgt := 14) dX4_in_7 rfl ?_ ?_
  · refine s_iconst (pc := 14) dX4_in_14 ?_
    exact s_zret (pc := 15) dX4_in_15 rfl (fun h => h)
  refine s_iconst (pc := 10) dX4_in_10 ?_
  refine s_goto (pc := 11) (tgt := 15) dX4_in_11 rfl ?_
  exact s_zret (pc := 15) dX4_in_15 rfl (fun h => h)
theorem kX4_in {G : GG} {sz sl : Nat} {td : TT} (a0 : Int) (a1 : Int) (a2 : Int) (c : CC) (x : Int) (h : fX4_in a0 a1 a2 = some x) : Ct G yX4_in muX4_in [(0, a0), (0, a1), (0, a2)] (sz, sl, tt td, cv c) ((0, x), (sz, sl, tt td, cv c)) :=
  Ct.of (n := 0) (ls0 := [some (0, a0), some (0, a1), some (0, a2)]) (by decide) rfl rfl ⟨by decide, by decide⟩ (Nat.le_of_ble_eq_true rfl) rfl ⟨Nat.le_refl _, Nat.le_refl _⟩ (show (0 : Nat) ≠ 9 by decide) (fun Γ => sX4_in a0 a1 a2 c x h rfl)
theorem flX4_16 : FL RX4 16 3 2 := ⟨_, _, _, cf3, by decide, q1246⟩
theorem flX4_192 : FL RX4 192 3 3 := ⟨_, _, _, cf3, by decide, q1247⟩
theorem fpX4_192 (nm : String) : FP RX4 192 3 3 nm := ⟨_, _, _, cf3, by decide, q1247, Or.inl rfl⟩
theorem fpX4_192t : fty 3 3 ≠ .boolean ∧ fty 3 3 ≠ .byte ∧ fty 3 3 ≠ .char ∧ fty 3 3 ≠ .short := by decide
abbrev muX4_put : MI := (cX4_put, RX4, 3, none, 1, "put")
abbrev gX4_put_l3 (G : GG) (Γ : Cx) (r : Vv × Wd) (sz sl : Nat) (td : TT) (v1 : Int) : (Int × CC) → Prop := fun s => WP G Γ muX4_put r 3 [some (2, 111), some (0, v1), some (0, s.1)] [] (sz, sl, tt td, cv s.2)
abbrev eX4_put_l3 (G : GG) (Γ : Cx) (r : Vv × Wd) (sz sl : Nat) (td : TT) (v1 : Int) : (CC) → Prop := (fun s => WP G Γ muX4_put r 38 [none, none, none] [] (sz, sl, tt td, cv s))
noncomputable def fX4_put_l3 (v1 : Int) (v2 : Int) (c : CC) : Option ((Int × CC) ⊕ (CC)) :=
  if v2 < 0 then
  (some (.inr c))
  else
  (gd ((0 : Int) ≤ c 111 3 ∧ c 111 3 < 300 ∧ (-128 : Int) ≤ b8 (shrI v1 v2) ∧ b8 (shrI v1 v2) < 128) <| bd (up2 c 114 (Int.toNat (c 111 3)) (b8 (shrI v1 v2))) fun c_1 =>
   gd (inR ((c_1 111 3) + 1)) <|
   bd (up2 c_1 111 3 ((c_1 111 3) + 1)) fun c_2 =>
   gd (inR (v2 - 8)) <|
   bd (v2 - 8) fun v2_3 =>
   some (.inl (v2_3, c_2)))
theorem sX4_put_l3 {G : GG} {Γ : Cx} {r : Vv × Wd} {sz sl : Nat} {td : TT} (v1 : Int) (v2 : Int) (c : CC) : Sm (fX4_put_l3 v1 v2 c) (fun x => Sum.elim (gX4_put_l3 G Γ r sz sl td v1) (eX4_put_l3 G Γ r sz sl td v1) x) (gX4_put_l3 G Γ r sz sl td v1 (v2, c)) := by
  show Sm _ _ (WP G Γ muX4_put r 3 [some (2, 111), some (0, v1), some (0, v2)] [] (sz, sl, tt td, cv c))
  unfold fX4_put_l3
  refine s_iload_n (pc := 3) dX4_put_3 rfl ?_
  refine s_if_lt (pc := 4) (tgt := 38) dX4_put_4 rfl ?_ ?_
  · refine s_wk [false, false, false] (ls' := [none, none, none]) rfl ?_
    exact Sm.some (fun h => h)
  refine s_aload_n (pc := 7) dX4_put_7 rfl ?_
  refine s_get (pc := 8) (a := 111) (v := 114) flX4_16 (t_111 _) rfl (g_111_2 _) rfl dX4_put_8 ?_
  refine s_aload_n (pc := 11) dX4_put_11 rfl ?_
  refine s_get (pc := 12) (a := 111) (v := c 111 3) flX4_192 (t_111 _) rfl (g_111_3 _) rfl dX4_put_12 ?_
  refine s_iload_n (pc := 15) dX4_put_15 rfl ?_
  refine s_iload_n (pc := 16) dX4_put_16 rfl ?_
  refine s_ishr (pc := 17) dX4_put_17 ?_
  refine s_i2b (pc := 18) dX4_put_18 ?_
  refine s_bastM (pc := 19) (a := 114) (t_114 _) rfl kO_114 r_114 dX4_put_19 (fun c_1 => ?_)
  refine s_aload_n (pc := 20) dX4_put_20 rfl ?_
  refine s_dup (pc := 21) (by decide : ¬ (2 : Nat) = 1) dX4_put_21 ?_
  refine s_get (pc := 22) (a := 111) (v := c_1 111 3) flX4_192 (t_111 _) rfl (g_111_3 _) rfl dX4_put_22 ?_
  refine s_iconst (pc := 25) dX4_put_25 ?_
  refine s_iadd (pc := 26) dX4_put_26 ?_
  refine s_putM (pc := 27) (a := 111) (fpX4_192 _) (t_111 _) rfl kO_111 n_111_3 rfl (fpX4_192t) dX4_put_27 (fun c_2 => ?_)
  refine s_iload_n (pc := 30) dX4_put_30 rfl ?_
  refine s_bipush (pc := 31) dX4_put_31 ?_
  refine s_isub (pc := 33) dX4_put_33 ?_
  refine s_istore_n (pc := 34) (lf := fun x => [some (2, 111), some (0, v1), some (0, x)]) dX4_put_34 (fun _ => rfl) (Nat.le_of_ble_eq_true rfl) (fun v2_3 => ?_)
  refine s_goto (pc := 35) (tgt := 3) dX4_put_35 rfl ?_
  exact Sm.some (fun h => h)
noncomputable def fX4_put (a1 : Int) (c : CC) : Option CC :=
  cl (wh (fun s => fX4_put_l3 a1 s.1 s.2) (24, c)) (fun e_4 =>
  some e_4)
theorem sX4_put {G : GG} {Γ : Cx} {r : Vv × Wd} {sz sl : Nat} {td : TT} (a1 : Int) (c : CC) : Sm (fX4_put a1 c) (fun x => r = ((3, 0), (sz, sl, tt td, cv x))) (WP G Γ muX4_put r 0 [some (2, 111), some (0, a1), none] [] (sz, sl, tt td, cv c)) := by
  unfold fX4_put
  refine s_bipush (pc := 0) dX4_put_0 ?_
  refine s_istore_nD (pc := 2) (ls' := [some (2, 111), some (0, a1), some (0, 24)]) dX4_put_2 rfl (Nat.le_of_ble_eq_true rfl) ?_
  refine s_loop (g := gX4_put_l3 G Γ r sz sl td a1) (Ex := eX4_put_l3 G Γ r sz sl td a1) (s0 := (24, c)) (fun s => sX4_put_l3 a1 s.1 s.2) ?_
  intro e_4
  show Sm _ _ (WP G Γ muX4_put r 38 [none, none, none] [] (sz, sl, tt td, cv e_4))
  exact s_vret (pc := 38) dX4_put_38 rfl (fun h => h)
theorem kX4_put {G : GG} {sz sl : Nat} {td : TT} (a1 : Int) (c : CC) (x : CC) (h : fX4_put a1 c = some x) : Ct G yX4_put muX4_put [(2, 111), (0, a1)] (sz, sl, tt td, cv c) ((3, 0), (sz, sl, tt td, cv x)) :=
  Ct.of (n := 1) (ls0 := [some (2, 111), some (0, a1), none]) (by decide) rfl rfl ⟨by decide, by decide⟩ (Nat.le_of_ble_eq_true rfl) rfl ⟨Nat.le_refl _, Nat.le_refl _⟩ (show (3 : Nat) ≠ 9 by decide) (fun Γ => sX4_put a1 c x h rfl)
theorem mvX4_195 : MV RX4 195 RX4 yX4_put muX4_put 1 := ⟨lw_V q1498 q1500 qs56 q129 q1501, by decide +kernel, by decide⟩
abbrev muX4_feed : MI := (cX4_feed, RX4, 6, some .int, 2, "feed")
noncomputable def fX4_feed (a1 : Int) (a2 : Int) (a3 : Int) (a4 : Int) (a5 : Int) (c : CC) : Option (Int × CC) :=
  gd (inR ((c 111 3) + 20)) <|
   if (300 : Int) < (c 111 3) + 20 then
  (some (-1, c))
  else
  (cl (fX4_put a1 c) fun p_1 =>
   cl (fX4_put a2 p_1) fun p_2 =>
   cl (fX4_put a3 p_2) fun p_3 =>
   cl (fX4_put a4 p_3) fun p_4 =>
   cl (fX4_put a5 p_4) fun p_5 =>
   some (p_5 111 3, p_5))
theorem sX4_feed {G : GG} {Γ : Cx} {r : Vv × Wd} {sz sl : Nat} {td : TT} (a1 : Int) (a2 : Int) (a3 : Int) (a4 : Int) (a5 : Int) (c : CC) : Sm (fX4_feed a1 a2 a3 a4 a5 c) (fun x => r = ((0, x.1), (sz, sl, tt td, cv x.2))) (WP G Γ muX4_feed r 0 [some (2, 111), some (0, a1), some (0, a2), some (0, a3), some (0, a4), some (0, a5)] [] (sz, sl, tt td, cv c)) := by
  unfold fX4_feed
  refine s_aload_n (pc := 0) dX4_feed_0 rfl ?_
  refine s_get (pc := 1) (a := 111) (v := c 111 3) flX4_192 (t_111 _) rfl (g_111_3 _) rfl dX4_feed_1 ?_
  refine s_bipush (pc := 4) dX4_feed_4 ?_
  refine s_iadd (pc := 6) dX4_feed_6 ?_
  refine s_sipush (pc := 7) dX4_feed_7 ?_
  refine s_icmp_le (pc := 10) (tgt := 15) dX4_feed_10 rfl ?_ ?_
  · refine s_aload_n (pc := 15) dX4_feed_15 rfl ?_
    refine s_iload_n (pc := 16) dX4_feed_16 rfl ?_
    refine s_callV3 (pc := 17) (a := 111) (as := [(0, a1)]) (st := []) (rv := fun b => ((3, 0), (sz, sl, tt td, cv b))) (st3 := fun b => []) (w3 := fun b => (sz, sl, tt td, cv b)) mvX4_195 (fun b h => kX4_put a1 c b h) rfl (by decide) (t_111 td) rfl rfl rfl (Nat.le_of_ble_eq_true rfl) (fun _ => Nat.le_of_ble_eq_true rfl) (fun _ => ⟨rfl, rfl⟩) dX4_feed_17 (fun p_1 => ?_)
    refine s_aload_n (pc := 20) dX4_feed_20 rfl ?_
    refine s_iload_n (pc := 21) dX4_feed_21 rfl ?_
    refine s_callV3 (pc := 22) (a := 111) (as := [(0, a2)]) (st := []) (rv := fun b => ((3, 0), (sz, sl, tt td, cv b))) (st3 := fun b => []) (w3 := fun b => (sz, sl, tt td, cv b)) mvX4_195 (fun b h => kX4_put a2 p_1 b h) rfl (by decide) (t_111 td) rfl rfl rfl (Nat.le_of_ble_eq_true rfl) (fun _ => Nat.le_of_ble_eq_true rfl) (fun _ => ⟨rfl, rfl⟩) dX4_feed_22 (fun p_2 => ?_)
    refine s_aload_n (pc := 25) dX4_feed_25 rfl ?_
    refine s_iload_n (pc := 26) dX4_feed_26 rfl ?_
    refine s_callV3 (pc := 27) (a := 111) (as := [(0, a3)]) (st := []) (rv := fun b => ((3, 0), (sz, sl, tt td, cv b))) (st3 := fun b => []) (w3 := fun b => (sz, sl, tt td, cv b)) mvX4_195 (fun b h => kX4_put a3 p_2 b h) rfl (by decide) (t_111 td) rfl rfl rfl (Nat.le_of_ble_eq_true rfl) (fun _ => Nat.le_of_ble_eq_true rfl) (fun _ => ⟨rfl, rfl⟩) dX4_feed_27 (fun p_3 => ?_)
    refine s_aload_n (pc := 30) dX4_feed_30 rfl ?_
    refine s_iload (pc := 31) dX4_feed_31 rfl ?_
    refine s_callV3 (pc := 33) (a := 111) (as := [(0, a4)]) (st := []) (rv := fun b => ((3, 0), (sz, sl, tt td, cv b))) (st3 := fun b => []) (w3 := fun b => (sz, sl, tt td, cv b)) mvX4_195 (fun b h => kX4_put a4 p_3 b h) rfl (by decide) (t_111 td) rfl rfl rfl (Nat.le_of_ble_eq_true rfl) (fun _ => Nat.le_of_ble_eq_true rfl) (fun _ => ⟨rfl, rfl⟩) dX4_feed_33 (fun p_4 => ?_)
    refine s_aload_n (pc := 36) dX4_feed_36 rfl ?_
    refine s_iload (pc := 37) dX4_feed_37 rfl ?_
    refine s_callV3 (pc := 39) (a := 111) (as := [(0, a5)]) (st := []) (rv := fun b => ((3, 0), (sz, sl, tt td, cv b))) (st3 := fun b => []) (w3 := fun b => (sz, sl, tt td, cv b)) mvX4_195 (fun b h => kX4_put a5 p_4 b h) rfl (by decide) (t_111 td) rfl rfl rfl (Nat.le_of_ble_eq_true rfl) (fun _ => Nat.le_of_ble_eq_true rfl) (fun _ => ⟨rfl, rfl⟩) dX4_feed_39 (fun p_5 => ?_)
    refine s_aload_n (pc := 42) dX4_feed_42 rfl ?_
    refine s_get (pc := 43) (a := 111) (v := p_5 111 3) flX4_192 (t_111 _) rfl (g_111_3 _) rfl dX4_feed_43 ?_
    exact s_iret (pc := 46) dX4_feed_46 rfl (fun h => h)
  refine s_iconst (pc := 13) dX4_feed_13 ?_
  exact s_iret (pc := 14) dX4_feed_14 rfl (fun h => h)
theorem kX4_feed {G : GG} {sz sl : Nat} {td : TT} (a1 : Int) (a2 : Int) (a3 : Int) (a4 : Int) (a5 : Int) (c : CC) (x : (Int × CC)) (h : fX4_feed a1 a2 a3 a4 a5 c = some x) : Ct G yX4_feed muX4_feed [(2, 111), (0, a1), (0, a2), (0, a3), (0, a4), (0, a5)] (sz, sl, tt td, cv c) ((0, x.1), (sz, sl, tt td, cv x.2)) :=
  Ct.of (n := 0) (ls0 := [some (2, 111), some (0, a1), some (0, a2), some (0, a3), some (0, a4), some (0, a5)]) (by decide) rfl rfl ⟨by decide, by decide⟩ (Nat.le_of_ble_eq_true rfl) rfl ⟨Nat.le_refl _, Nat.le_refl _⟩ (show (0 : Nat) ≠ 9 by decide) (fun Γ => sX4_feed a1 a2 a3 a4 a5 c x h rfl)
theorem msX4_199 : MS RX4 199 yX4_in muX4_in 3 := ⟨lw_S q1506 q1507 q129 q1508, by decide +kernel, by decide⟩
abbrev muX4_end : MI := (cX4_end, RX4, 2, some .int, 2, "end")
noncomputable def fX4_end (a1 : Int) (c : CC) : Option (Int × CC) :=
  cl (fX4_in a1 0 (c 111 3)) fun p_1 =>
   if p_1 = 0 then
  (some (-1, c))
  else
  (bd (up2 c 111 3 a1) fun c_2 =>
   some (a1, c_2))
theorem sX4_end {G : GG} {Γ : Cx} {r : Vv × Wd} {sz sl : Nat} {td : TT} (a1 : Int) (c : CC) : Sm (fX4_end a1 c) (fun x => r = ((0, x.1), (sz, sl, tt td, cv x.2))) (WP G Γ muX4_end r 0 [some (2, 111), some (0, a1)] [] (sz, sl, tt td, cv c)) := by
  unfold fX4_end
  refine s_iload_n (pc := 0) dX4_end_0 rfl ?_
  refine s_iconst (pc := 1) dX4_end_1 ?_
  refine s_aload_n (pc := 2) dX4_end_2 rfl ?_
  refine s_get (pc := 3) (a := 111) (v := c 111 3) flX4_192 (t_111 _) rfl (g_111_3 _) rfl dX4_end_3 ?_
  refine s_callS3 (pc := 6) (as := [(0, a1), (0, 0), (0, c 111 3)]) (st := []) (rv := fun b => ((0, b), (sz, sl, tt td, cv c))) (st3 := fun b => [(0, b)]) (w3 := fun b => (sz, sl, tt td, cv c)) msX4_199 (fun b h => kX4_in a1 0 (c 111 3) c b h) rfl (by decide) rfl (Nat.le_of_ble_eq_true rfl) (fun _ => Nat.le_of_ble_eq_true rfl) (fun _ => ⟨rfl, rfl⟩) dX4_end_6 (fun p_1 => ?_)
  refine s_if_ne (pc := 9) (tgt := 14) dX4_end_9 rfl ?_ ?_
  · refine s_aload_n (pc := 14) dX4_end_14 rfl ?_
    refine s_iload_n (pc := 15) dX4_end_15 rfl ?_
    refine s_putM (pc := 16) (a := 111) (fpX4_192 _) (t_111 _) rfl kO_111 n_111_3 rfl (fpX4_192t) dX4_end_16 (fun c_2 => ?_)
    refine s_iload_n (pc := 19) dX4_end_19 rfl ?_
    exact s_iret (pc := 20) dX4_end_20 rfl (fun h => h)
  refine s_iconst (pc := 12) dX4_end_12 ?_
  exact s_iret (pc := 13) dX4_end_13 rfl (fun h => h)
theorem kX4_end {G : GG} {sz sl : Nat} {td : TT} (a1 : Int) (c : CC) (x : (Int × CC)) (h : fX4_end a1 c = some x) : Ct G yX4_end muX4_end [(2, 111), (0, a1)] (sz, sl, tt td, cv c) ((0, x.1), (sz, sl, tt td, cv x.2)) :=
  Ct.of (n := 0) (ls0 := [some (2, 111), some (0, a1)]) (by decide) rfl rfl ⟨by decide, by decide⟩ (Nat.le_of_ble_eq_true rfl) rfl ⟨Nat.le_refl _, Nat.le_refl _⟩ (show (0 : Nat) ≠ 9 by decide) (fun Γ => sX4_end a1 c x h rfl)
abbrev muX4_isLetter : MI := (cX4_isLetter, RX4, 1, some .boolean, 2, "isLetter")
noncomputable def fX4_isLetter (a0 : Int) : Option Int :=
  cl (fX4_in a0 97 122) fun p_1 =>
   if p_1 = 0 then
  (cl (fX4_in a0 65 90) fun p_2 =>
   if p_2 = 0 then
  (gd ((0 : Int) ≤ 0 ∧ (0 : Int) < 2) (some 0))
  else
  (gd ((0 : Int) ≤ 1 ∧ (1 : Int) < 2) (some 1)))
  else
  (gd ((0 : Int) ≤ 1 ∧ (1 : Int) < 2) (some 1))
theorem sX4_isLetter {G : GG} {Γ : Cx} {r : Vv × Wd} {sz sl : Nat} {td : TT} (a0 : Int) (c : CC) : Sm (fX4_isLetter a0) (fun x => r = ((0, x), (sz, sl, tt td, cv c))) (WP G Γ muX4_isLetter r 0 [some (0, a0)] [] (sz, sl, tt td, cv c)) := by
  unfold fX4_isLetter
  refine s_iload_n (pc := 0) dX4_isLetter_0 rfl ?_
  refine s_bipush (pc := 1) dX4_isLetter_1 ?_
  refine s_bipush (pc := 3) dX4_isLetter_3 ?_
  refine s_callS3 (pc := 5) (as := [(0, a0), (0, 97), (0, 122)]) (st := []) (rv := fun b => ((0, b), (sz, sl, tt td, cv c))) (st3 := fun b => [(0, b)]) (w3 := fun b => (sz, sl, tt td, cv c)) msX4_199 (fun b h => kX4_in a0 97 122 c b h) rfl (by decide) rfl (Nat.le_of_ble_eq_true rfl) (fun _ => Nat.le_of_ble_eq_true rfl) (fun _ => ⟨rfl, rfl⟩) dX4_isLetter_5 (fun p_1 => ?_)
  refine s_if_ne (pc := 8) (tgt := 22) dX4_isLetter_8 rfl ?_ ?_
  · refine s_iconst (pc := 22) dX4_isLetter_22 ?_
    refine s_goto (pc := 23) (tgt := 27) dX4_isLetter_23 rfl ?_
    exact s_zret (pc := 27) dX4_isLetter_27 rfl (fun h => h)
  refine s_iload_n (pc := 11) dX4_isLetter_11 rfl ?_
  refine s_bipush (pc := 12) dX4_isLetter_12 ?_
  refine s_bipush (pc := 14) dX4_isLetter_14 ?_
  refine s_callS3 (pc := 16) (as := [(0, a0), (0, 65), (0, 90)]) (st := []) (rv := fun b => ((0, b), (sz, sl, tt td, cv c))) (st3 := fun b => [(0, b)]) (w3 := fun b => (sz, sl, tt td, cv c)) msX4_199 (fun b h => kX4_in a0 65 90 c b h) rfl (by decide) rfl (Nat.le_of_ble_eq_true rfl) (fun _ => Nat.le_of_ble_eq_true rfl) (fun _ => ⟨rfl, rfl⟩) dX4_isLetter_16 (fun p_2 => ?_)
  refine s_if_eq (pc := 19) (tgt := 26) dX4_isLetter_19 rfl ?_ ?_
  · refine s_iconst (pc := 26) dX4_isLetter_26 ?_
    exact s_zret (pc := 27) dX4_isLetter_27 rfl (fun h => h)
  refine s_iconst (pc := 22) dX4_isLetter_22 ?_
  refine s_goto (pc := 23) (tgt := 27) dX4_isLetter_23 rfl ?_
  exact s_zret (pc := 27) dX4_isLetter_27 rfl (fun h => h)
theorem kX4_isLetter {G : GG} {sz sl : Nat} {td : TT} (a0 : Int) (c : CC) (x : Int) (h : fX4_isLetter a0 = some x) : Ct G yX4_isLetter muX4_isLetter [(0, a0)] (sz, sl, tt td, cv c) ((0, x), (sz, sl, tt td, cv c)) :=
  Ct.of (n := 0) (ls0 := [some (0, a0)]) (by decide) rfl rfl ⟨by decide, by decide⟩ (Nat.le_of_ble_eq_true rfl) rfl ⟨Nat.le_refl _, Nat.le_refl _⟩ (show (0 : Nat) ≠ 9 by decide) (fun Γ => sX4_isLetter a0 c x h rfl)
abbrev muX4_wordOf : MI := (cX4_wordOf, RX4, 2, some .int, 1, "wordOf")
noncomputable def fX4_wordOf (a0 : Int) : Option Int :=
  if a0 = 14613668 then
  (some 0)
  else
  (if a0 = 932616680 then
  (some 1)
  else
  (if a0 = 9645040 then
  (some 2)
  else
  (if a0 = 12196709 then
  (some 3)
  else
  (if a0 = 11205230 then
  (some 4)
  else
  (if a0 = 13851822 then
  (some 5)
  else
  (if a0 = 42443377010 then
  (some 6)
  else
  (if a0 = 600505587 then
  (some 7)
  else
  (if a0 = 2163 then
  (some 8)
  else
  (if a0 = 763804019 then
  (some 9)
  else
  (if a0 = 3058 then
  (some 10)
  else
  (if a0 = 138148 then
  (some 11)
  else
  (if a0 = 191476 then
  (some 12)
  else
  (if a0 = 212333 then
  (some 13)
  else
  (if a0 = 748035316 then
  (some 14)
  else
  (if a0 = 11934649 then
  (some 15)
  else
  (if a0 = 11443108 then
  (some 16)
  else
  (if a0 = 59687467572 then
  (some 17)
  else
  (if a0 = 137701 then
  (some 18)
  else
  (if a0 = 816978149 then
  (some 19)
  else
  (some (-1)))))))))))))))))))))
theorem sX4_wordOf {G : GG} {Γ : Cx} {r : Vv × Wd} {sz sl : Nat} {td : TT} (a0 : Int) (c : CC) : Sm (fX4_wordOf a0) (fun x => r = ((0, x), (sz, sl, tt td, cv c))) (WP G Γ muX4_wordOf r 0 [some (1, a0), none] [] (sz, sl, tt td, cv c)) := by
  unfold fX4_wordOf
  refine s_lload_n (pc := 0) dX4_wordOf_0 rfl ?_
  refine s_ldc2 (pc := 1) (z := 14613668) q1524 dX4_wordOf_1 ?_
  refine s_lcmp_ne (pc := 4) (tgt := 10) dX4_wordOf_4 dX4_wordOf_5 rfl ?_ ?_
  · refine s_lload_n (pc := 10) dX4_wordOf_10 rfl ?_
    refine s_ldc2 (pc := 11) (z := 932616680) q1525 dX4_wordOf_11 ?_
    refine s_lcmp_ne (pc := 14) (tgt := 20) dX4_wordOf_14 dX4_wordOf_15 rfl ?_ ?_
    · refine s_lload_n (pc := 20) dX4_wordOf_20 rfl ?_
      refine s_ldc2 (pc := 21) (z := 9645040) q1526 dX4_wordOf_21 ?_
      refine s_lcmp_ne (pc := 24) (tgt := 30) dX4_wordOf_24 dX4_wordOf_25 rfl ?_ ?_
      · refine s_lload_n (pc := 30) dX4_wordOf_30 rfl ?_
        refine s_ldc2 (pc := 31) (z := 12196709) q1527 dX4_wordOf_31 ?_
        refine s_lcmp_ne (pc := 34) (tgt := 40) dX4_wordOf_34 dX4_wordOf_35 rfl ?_ ?_
        · refine s_lload_n (pc := 40) dX4_wordOf_40 rfl ?_
          refine s_ldc2 (pc := 41) (z := 11205230) q1528 dX4_wordOf_41 ?_
          refine s_lcmp_ne (pc := 44) (tgt := 50) dX4_wordOf_44 dX4_wordOf_45 rfl ?_ ?_
          · refine s_lload_n (pc := 50) dX4_wordOf_50 rfl ?_
            refine s_ldc2 (pc := 51) (z := 13851822) q1529 dX4_wordOf_51 ?_
            refine s_lcmp_ne (pc := 54) (tgt := 60) dX4_wordOf_54 dX4_wordOf_55 rfl ?_ ?_
            · refine s_lload_n (pc := 60) dX4_wordOf_60 rfl ?_
              refine s_ldc2 (pc := 61) (z := 42443377010) q1530 dX4_wordOf_61 ?_
              refine s_lcmp_ne (pc := 64) (tgt := 71) dX4_wordOf_64 dX4_wordOf_65 rfl ?_ ?_
              · refine s_lload_n (pc := 71) dX4_wordOf_71 rfl ?_
                refine s_ldc2 (pc := 72) (z := 600505587) q1531 dX4_wordOf_72 ?_
                refine s_lcmp_ne (pc := 75) (tgt := 82) dX4_wordOf_75 dX4_wordOf_76 rfl ?_ ?_
                · refine s_lload_n (pc := 82) dX4_wordOf_82 rfl ?_
                  refine s_ldc2 (pc := 83) (z := 2163) q1532 dX4_wordOf_83 ?_
                  refine s_lcmp_ne (pc := 86) (tgt := 93) dX4_wordOf_86 dX4_wordOf_87 rfl ?_ ?_
                  · refine s_lload_n (pc := 93) dX4_wordOf_93 rfl ?_
                    refine s_ldc2 (pc := 94) (z := 763804019) q1533 dX4_wordOf_94 ?_
                    refine s_lcmp_ne (pc := 97) (tgt := 104) dX4_wordOf_97 dX4_wordOf_98 rfl ?_ ?_
                    · refine s_lload_n (pc := 104) dX4_wordOf_104 rfl ?_
                      refine s_ldc2 (pc := 105) (z := 3058) q1534 dX4_wordOf_105 ?_
                      refine s_lcmp_ne (pc := 108) (tgt := 115) dX4_wordOf_108 dX4_wordOf_109 rfl ?_ ?_
                      · refine s_lload_n (pc := 115) dX4_wordOf_115 rfl ?_
                        refine s_ldc2 (pc := 116) (z := 138148) q1535 dX4_wordOf_116 ?_
                        refine s_lcmp_ne (pc := 119) (tgt := 126) dX4_wordOf_119 dX4_wordOf_120 rfl ?_ ?_
                        · refine s_lload_n (pc := 126) dX4_wordOf_126 rfl ?_
                          refine s_ldc2 (pc := 127) (z := 191476) q1536 dX4_wordOf_127 ?_
                          refine s_lcmp_ne (pc := 130) (tgt := 137) dX4_wordOf_130 dX4_wordOf_131 rfl ?_ ?_
                          · refine s_lload_n (pc := 137) dX4_wordOf_137 rfl ?_
                            refine s_ldc2 (pc := 138) (z := 212333) q1537 dX4_wordOf_138 ?_
                            refine s_lcmp_ne (pc := 141) (tgt := 148) dX4_wordOf_141 dX4_wordOf_142 rfl ?_ ?_
                            · refine s_lload_n (pc := 148) dX4_wordOf_148 rfl ?_
                              refine s_ldc2 (pc := 149) (z := 748035316) q1538 dX4_wordOf_149 ?_
                              refine s_lcmp_ne (pc := 152) (tgt := 159) dX4_wordOf_152 dX4_wordOf_153 rfl ?_ ?_
                              · refine s_lload_n (pc := 159) dX4_wordOf_159 rfl ?_
                                refine s_ldc2 (pc := 160) (z := 11934649) q1539 dX4_wordOf_160 ?_
                                refine s_lcmp_ne (pc := 163) (tgt := 170) dX4_wordOf_163 dX4_wordOf_164 rfl ?_ ?_
                                · refine s_lload_n (pc := 170) dX4_wordOf_170 rfl ?_
                                  refine s_ldc2 (pc := 171) (z := 11443108) q1540 dX4_wordOf_171 ?_
                                  refine s_lcmp_ne (pc := 174) (tgt := 181) dX4_wordOf_174 dX4_wordOf_175 rfl ?_ ?_
                                  · refine s_lload_n (pc := 181) dX4_wordOf_181 rfl ?_
                                    refine s_ldc2 (pc := 182) (z := 59687467572) q1541 dX4_wordOf_182 ?_
                                    refine s_lcmp_ne (pc := 185) (tgt := 192) dX4_wordOf_185 dX4_wordOf_186 rfl ?_ ?_
                                    · refine s_lload_n (pc := 192) dX4_wordOf_192 rfl ?_
                                      refine s_ldc2 (pc := 193) (z := 137701) q1542 dX4_wordOf_193 ?_
                                      refine s_lcmp_ne (pc := 196) (tgt := 203) dX4_wordOf_196 dX4_wordOf_197 rfl ?_ ?_
                                      · refine s_lload_n (pc := 203) dX4_wordOf_203 rfl ?_
                                        refine s_ldc2 (pc := 204) (z := 816978149) q1543 dX4_wordOf_204 ?_
                                        refine s_lcmp_ne (pc := 207) (tgt := 214) dX4_wordOf_207 dX4_wordOf_208 rfl ?_ ?_
                                        · refine s_iconst (pc := 214) dX4_wordOf_214 ?_
                                          exact s_iret (pc := 215) dX4_wordOf_215 rfl (fun h => h)
                                        refine s_bipush (pc := 211) dX4_wordOf_211 ?_
                                        exact s_iret (pc := 213) dX4_wordOf_213 rfl (fun h => h)
                                      refine s_bipush (pc := 200) dX4_wordOf_200 ?_
                                      exact s_iret (pc := 202) dX4_wordOf_202 rfl (fun h => h)
                                    refine s_bipush (pc := 189) dX4_wordOf_189 ?_
                                    exact s_iret (pc := 191) dX4_wordOf_191 rfl (fun h => h)
                                  refine s_bipush (pc := 178) dX4_wordOf_178 ?_
                                  exact s_iret (pc := 180) dX4_wordOf_180 rfl (fun h => h)
                                refine s_bipush (pc := 167) dX4_wordOf_167 ?_
                                exact s_iret (pc := 169) dX4_wordOf_169 rfl (fun h => h)
                              refine s_bipush (pc := 156) dX4_wordOf_156 ?_
                              exact s_iret (pc := 158) dX4_wordOf_158 rfl (fun h => h)
                            refine s_bipush (pc := 145) dX4_wordOf_145 ?_
                            exact s_iret (pc := 147) dX4_wordOf_147 rfl (fun h => h)
                          refine s_bipush (pc := 134) dX4_wordOf_134 ?_
                          exact s_iret (pc := 136) dX4_wordOf_136 rfl (fun h => h)
                        refine s_bipush (pc := 123) dX4_wordOf_123 ?_
                        exact s_iret (pc := 125) dX4_wordOf_125 rfl (fun h => h)
                      refine s_bipush (pc := 112) dX4_wordOf_112 ?_
                      exact s_iret (pc := 114) dX4_wordOf_114 rfl (fun h => h)
                    refine s_bipush (pc := 101) dX4_wordOf_101 ?_
                    exact s_iret (pc := 103) dX4_wordOf_103 rfl (fun h => h)
                  refine s_bipush (pc := 90) dX4_wordOf_90 ?_
                  exact s_iret (pc := 92) dX4_wordOf_92 rfl (fun h => h)
                refine s_bipush (pc := 79) dX4_wordOf_79 ?_
                exact s_iret (pc := 81) dX4_wordOf_81 rfl (fun h => h)
              refine s_bipush (pc := 68) dX4_wordOf_68 ?_
              exact s_iret (pc := 70) dX4_wordOf_70 rfl (fun h => h)
            refine s_iconst (pc := 58) dX4_wordOf_58 ?_
            exact s_iret (pc := 59) dX4_wordOf_59 rfl (fun h => h)
          refine s_iconst (pc := 48) dX4_wordOf_48 ?_
          exact s_iret (pc := 49) dX4_wordOf_49 rfl (fun h => h)
        refine s_iconst (pc := 38) dX4_wordOf_38 ?_
        exact s_iret (pc := 39) dX4_wordOf_39 rfl (fun h => h)
      refine s_iconst (pc := 28) dX4_wordOf_28 ?_
      exact s_iret (pc := 29) dX4_wordOf_29 rfl (fun h => h)
    refine s_iconst (pc := 18) dX4_wordOf_18 ?_
    exact s_iret (pc := 19) dX4_wordOf_19 rfl (fun h => h)
  refine s_iconst (pc := 8) dX4_wordOf_8 ?_
  exact s_iret (pc := 9) dX4_wordOf_9 rfl (fun h => h)
theorem kX4_wordOf {G : GG} {sz sl : Nat} {td : TT} (a0 : Int) (c : CC) (x : Int) (h : fX4_wordOf a0 = some x) : Ct G yX4_wordOf muX4_wordOf [(1, a0)] (sz, sl, tt td, cv c) ((0, x), (sz, sl, tt td, cv c)) :=
  Ct.of (n := 0) (ls0 := [some (1, a0), none]) (by decide) rfl rfl ⟨by decide, by decide⟩ (Nat.le_of_ble_eq_true rfl) rfl ⟨Nat.le_refl _, Nat.le_refl _⟩ (show (0 : Nat) ≠ 9 by decide) (fun Γ => sX4_wordOf a0 c x h rfl)
theorem flX4_243 : FL RX4 243 3 19 := ⟨_, _, _, cf3, by decide, q1263⟩
theorem flX4_246 : FL RX4 246 3 18 := ⟨_, _, _, cf3, by decide, q1262⟩
theorem fpX4_243 (nm : String) : FP RX4 243 3 19 nm := ⟨_, _, _, cf3, by decide, q1263, Or.inl rfl⟩
theorem fpX4_243t : fty 3 19 ≠ .boolean ∧ fty 3 19 ≠ .byte ∧ fty 3 19 ≠ .char ∧ fty 3 19 ≠ .short := by decide
theorem fpX4_249 (nm : String) : FP RX4 249 3 20 nm := ⟨_, _, _, cf3, by decide, q1264, Or.inl rfl⟩
theorem fpX4_249t : fty 3 20 ≠ .boolean ∧ fty 3 20 ≠ .byte ∧ fty 3 20 ≠ .char ∧ fty 3 20 ≠ .short := by decide
theorem msX4_255 : MS RX4 255 yX4_isLetter muX4_isLetter 1 := ⟨lw_S q1517 q1518 q129 q1519, by decide +kernel, by decide⟩
theorem fpX4_265 (nm : String) : FP RX4 265 3 22 nm := ⟨_, _, _, cf3, by decide, q1266, Or.inl rfl⟩
theorem fpX4_265t : fty 3 22 ≠ .boolean ∧ fty 3 22 ≠ .byte ∧ fty 3 22 ≠ .char ∧ fty 3 22 ≠ .short := by decide
theorem fpX4_252 (nm : String) : FP RX4 252 3 21 nm := ⟨_, _, _, cf3, by decide, q1265, Or.inl rfl⟩
theorem fpX4_252t : fty 3 21 ≠ .boolean ∧ fty 3 21 ≠ .byte ∧ fty 3 21 ≠ .char ∧ fty 3 21 ≠ .short := by decide
theorem flX4_265 : FL RX4 265 3 22 := ⟨_, _, _, cf3, by decide, q1266⟩
theorem msX4_261 : MS RX4 261 yX4_wordOf muX4_wordOf 1 := ⟨lw_S q1521 q1522 q129 q1523, by decide +kernel, by decide⟩
abbrev muX4_next : MI := (cX4_next, RX4, 5, none, 3, "next")
noncomputable def fX4_next_j39  (c : CC) : Option ((CC) ⊕ (CC)) :=
  gd (inR ((c 111 19) + 1)) <|
   bd (up2 c 111 19 ((c 111 19) + 1)) fun c_1 =>
   some (.inl c_1)
abbrev gX4_next_l0 (G : GG) (Γ : Cx) (r : Vv × Wd) (sz sl : Nat) (td : TT)  : (CC) → Prop := fun s => WP G Γ muX4_next r 0 [some (2, 111), none, none, none, none] [] (sz, sl, tt td, cv s)
abbrev eX4_next_l0 (G : GG) (Γ : Cx) (r : Vv × Wd) (sz sl : Nat) (td : TT)  : (CC) → Prop := (fun s => WP G Γ muX4_next r 52 [some (2, 111), none, none, none, none] [] (sz, sl, tt td, cv s))
theorem sX4_next_j39 {G : GG} {Γ : Cx} {r : Vv × Wd} {sz sl : Nat} {td : TT}  (c : CC) : Sm (fX4_next_j39  c) (fun x => Sum.elim (gX4_next_l0 G Γ r sz sl td ) (eX4_next_l0 G Γ r sz sl td ) x) (WP G Γ muX4_next r 39 [some (2, 111), none, none, none, none] [] (sz, sl, tt td, cv c)) := by
  unfold fX4_next_j39
  refine s_aload_n (pc := 39) dX4_next_39 rfl ?_
  refine s_dup (pc := 40) (by decide : ¬ (2 : Nat) = 1) dX4_next_40 ?_
  refine s_get (pc := 41) (a := 111) (v := c 111 19) flX4_243 (t_111 _) rfl (g_111_19 _) rfl dX4_next_41 ?_
  refine s_iconst (pc := 44) dX4_next_44 ?_
  refine s_iadd (pc := 45) dX4_next_45 ?_
  refine s_putM (pc := 46) (a := 111) (fpX4_243 _) (t_111 _) rfl kO_111 n_111_19 rfl (fpX4_243t) dX4_next_46 (fun c_1 => ?_)
  refine s_goto (pc := 49) (tgt := 0) dX4_next_49 rfl ?_
  exact Sm.some (fun h => h)
noncomputable def fX4_next_l0  (c : CC) : Option ((CC) ⊕ (CC)) :=
  if c 111 19 < c 111 18 then
  (gd ((0 : Int) ≤ c 111 19 ∧ c 111 19 < 300) <|
   if c 114 (Int.toNat (c 111 19)) = 32 then
  (fX4_next_j39  c)
  else
  (gd ((0 : Int) ≤ c 111 19 ∧ c 111 19 < 300) <|
   if c 114 (Int.toNat (c 111 19)) = 10 then
  (fX4_next_j39  c)
  else
  (some (.inr c))))
  else
  (some (.inr c))
theorem sX4_next_l0 {G : GG} {Γ : Cx} {r : Vv × Wd} {sz sl : Nat} {td : TT}  (c : CC) : Sm (fX4_next_l0  c) (fun x => Sum.elim (gX4_next_l0 G Γ r sz sl td ) (eX4_next_l0 G Γ r sz sl td ) x) (gX4_next_l0 G Γ r sz sl td  c) := by
  show Sm _ _ (WP G Γ muX4_next r 0 [some (2, 111), none, none, none, none] [] (sz, sl, tt td, cv c))
  unfold fX4_next_l0
  refine s_aload_n (pc := 0) dX4_next_0 rfl ?_
  refine s_get (pc := 1) (a := 111) (v := c 111 19) flX4_243 (t_111 _) rfl (g_111_19 _) rfl dX4_next_1 ?_
  refine s_aload_n (pc := 4) dX4_next_4 rfl ?_
  refine s_get (pc := 5) (a := 111) (v := c 111 18) flX4_246 (t_111 _) rfl (g_111_18 _) rfl dX4_next_5 ?_
  refine s_icmp_ge (pc := 8) (tgt := 52) dX4_next_8 rfl ?_ ?_
  · exact Sm.some (fun h => h)
  refine s_aload_n (pc := 11) dX4_next_11 rfl ?_
  refine s_get (pc := 12) (a := 111) (v := 114) flX4_16 (t_111 _) rfl (g_111_2 _) rfl dX4_next_12 ?_
  refine s_aload_n (pc := 15) dX4_next_15 rfl ?_
  refine s_get (pc := 16) (a := 111) (v := c 111 19) flX4_243 (t_111 _) rfl (g_111_19 _) rfl dX4_next_16 ?_
  refine s_baldM (pc := 19) (a := 114) (t_114 _) rfl r_114 dX4_next_19 ?_
  refine s_bipush (pc := 20) dX4_next_20 ?_
  refine s_icmp_eq (pc := 22) (tgt := 39) dX4_next_22 rfl ?_ ?_
  · exact sX4_next_j39  c
  refine s_aload_n (pc := 25) dX4_next_25 rfl ?_
  refine s_get (pc := 26) (a := 111) (v := 114) flX4_16 (t_111 _) rfl (g_111_2 _) rfl dX4_next_26 ?_
  refine s_aload_n (pc := 29) dX4_next_29 rfl ?_
  refine s_get (pc := 30) (a := 111) (v := c 111 19) flX4_243 (t_111 _) rfl (g_111_19 _) rfl dX4_next_30 ?_
  refine s_baldM (pc := 33) (a := 114) (t_114 _) rfl r_114 dX4_next_33 ?_
  refine s_bipush (pc := 34) dX4_next_34 ?_
  refine s_icmp_ne (pc := 36) (tgt := 52) dX4_next_36 rfl ?_ ?_
  · exact Sm.some (fun h => h)
  exact sX4_next_j39  c
noncomputable def fX4_next_j427 (w0 : Int) (c : CC) : Option CC :=
  bd (up2 c 111 22 w0) fun c_11 =>
   gd (inR ((c_11 111 19) + 1)) <|
   bd (up2 c_11 111 19 ((c_11 111 19) + 1)) fun c_12 =>
   some c_12
theorem sX4_next_j427 {G : GG} {Γ : Cx} {r : Vv × Wd} {sz sl : Nat} {td : TT} (w0 : Int) (c : CC) : Sm (fX4_next_j427 w0 c) (fun x => r = ((3, 0), (sz, sl, tt td, cv x))) (WP G Γ muX4_next r 427 [some (2, 111), none, none, none, none] [(0, w0), (2, 111)] (sz, sl, tt td, cv c)) := by
  unfold fX4_next_j427
  refine s_putM (pc := 427) (a := 111) (fpX4_265 _) (t_111 _) rfl kO_111 n_111_22 rfl (fpX4_265t) dX4_next_427 (fun c_11 => ?_)
  refine s_aload_n (pc := 430) dX4_next_430 rfl ?_
  refine s_dup (pc := 431) (by decide : ¬ (2 : Nat) = 1) dX4_next_431 ?_
  refine s_get (pc := 432) (a := 111) (v := c_11 111 19) flX4_243 (t_111 _) rfl (g_111_19 _) rfl dX4_next_432 ?_
  refine s_iconst (pc := 435) dX4_next_435 ?_
  refine s_iadd (pc := 436) dX4_next_436 ?_
  refine s_putM (pc := 437) (a := 111) (fpX4_243 _) (t_111 _) rfl kO_111 n_111_19 rfl (fpX4_243t) dX4_next_437 (fun c_12 => ?_)
  exact s_vret (pc := 440) dX4_next_440 rfl (fun h => h)
noncomputable def fX4_next_j386 (v1 : Int) (c : CC) : Option CC :=
  if c 111 19 < c 111 18 then
  (gd ((0 : Int) ≤ c 111 19 ∧ c 111 19 < 300) <|
   if c 114 (Int.toNat (c 111 19)) = 61 then
  (if v1 = 60 then
  (fX4_next_j427 300 c)
  else
  (fX4_next_j427 301 c))
  else
  (some c))
  else
  (some c)
theorem sX4_next_j386 {G : GG} {Γ : Cx} {r : Vv × Wd} {sz sl : Nat} {td : TT} (v1 : Int) (c : CC) : Sm (fX4_next_j386 v1 c) (fun x => r = ((3, 0), (sz, sl, tt td, cv x))) (WP G Γ muX4_next r 386 [some (2, 111), some (0, v1), none, none, none] [] (sz, sl, tt td, cv c)) := by
  unfold fX4_next_j386
  refine s_aload_n (pc := 386) dX4_next_386 rfl ?_
  refine s_get (pc := 387) (a := 111) (v := c 111 19) flX4_243 (t_111 _) rfl (g_111_19 _) rfl dX4_next_387 ?_
  refine s_aload_n (pc := 390) dX4_next_390 rfl ?_
  refine s_get (pc := 391) (a := 111) (v := c 111 18) flX4_246 (t_111 _) rfl (g_111_18 _) rfl dX4_next_391 ?_
  refine s_icmp_ge (pc := 394) (tgt := 440) dX4_next_394 rfl ?_ ?_
  · exact s_vret (pc := 440) dX4_next_440 rfl (fun h => h)
  refine s_aload_n (pc := 397) dX4_next_397 rfl ?_
  refine s_get (pc := 398) (a := 111) (v := 114) flX4_16 (t_111 _) rfl (g_111_2 _) rfl dX4_next_398 ?_
  refine s_aload_n (pc := 401) dX4_next_401 rfl ?_
  refine s_get (pc := 402) (a := 111) (v := c 111 19) flX4_243 (t_111 _) rfl (g_111_19 _) rfl dX4_next_402 ?_
  refine s_baldM (pc := 405) (a := 114) (t_114 _) rfl r_114 dX4_next_405 ?_
  refine s_bipush (pc := 406) dX4_next_406 ?_
  refine s_icmp_ne (pc := 408) (tgt := 440) dX4_next_408 rfl ?_ ?_
  · exact s_vret (pc := 440) dX4_next_440 rfl (fun h => h)
  refine s_aload_n (pc := 411) dX4_next_411 rfl ?_
  refine s_iload_n (pc := 412) dX4_next_412 rfl ?_
  refine s_bipush (pc := 413) dX4_next_413 ?_
  refine s_icmp_ne (pc := 415) (tgt := 424) dX4_next_415 rfl ?_ ?_
  · refine s_sipush (pc := 424) dX4_next_424 ?_
    refine s_wk [true, false, true, true, true] (ls' := [some (2, 111), none, none, none, none]) rfl ?_
    exact sX4_next_j427 301 c
  refine s_sipush (pc := 418) dX4_next_418 ?_
  refine s_goto (pc := 421) (tgt := 427) dX4_next_421 rfl ?_
  refine s_wk [true, false, true, true, true] (ls' := [some (2, 111), none, none, none, none]) rfl ?_
  exact sX4_next_j427 300 c
noncomputable def fX4_next_j371 (v1 : Int) (w0 : Int) (c : CC) : Option CC :=
  bd (up2 c 111 21 w0) fun c_10 =>
   if v1 = 60 then
  (fX4_next_j386 v1 c_10)
  else
  (if v1 = 62 then
  (fX4_next_j386 v1 c_10)
  else
  (some c_10))
theorem sX4_next_j371 {G : GG} {Γ : Cx} {r : Vv × Wd} {sz sl : Nat} {td : TT} (v1 : Int) (w0 : Int) (c : CC) : Sm (fX4_next_j371 v1 w0 c) (fun x => r = ((3, 0), (sz, sl, tt td, cv x))) (WP G Γ muX4_next r 371 [some (2, 111), some (0, v1), none, none, none] [(0, w0), (2, 111)] (sz, sl, tt td, cv c)) := by
  unfold fX4_next_j371
  refine s_putM (pc := 371) (a := 111) (fpX4_252 _) (t_111 _) rfl kO_111 n_111_21 rfl (fpX4_252t) dX4_next_371 (fun c_10 => ?_)
  refine s_iload_n (pc := 374) dX4_next_374 rfl ?_
  refine s_bipush (pc := 375) dX4_next_375 ?_
  refine s_icmp_eq (pc := 377) (tgt := 386) dX4_next_377 rfl ?_ ?_
  · exact sX4_next_j386 v1 c_10
  refine s_iload_n (pc := 380) dX4_next_380 rfl ?_
  refine s_bipush (pc := 381) dX4_next_381 ?_
  refine s_icmp_ne (pc := 383) (tgt := 440) dX4_next_383 rfl ?_ ?_
  · exact s_vret (pc := 440) dX4_next_440 rfl (fun h => h)
  exact sX4_next_j386 v1 c_10
noncomputable def fX4_next_j300 (w0 : Int) (c : CC) : Option ((CC) ⊕ (CC)) :=
  bd (up2 c 111 22 w0) fun c_17 =>
   gd (inR ((c_17 111 19) + 1)) <|
   bd (up2 c_17 111 19 ((c_17 111 19) + 1)) fun c_18 =>
   some (.inl c_18)
abbrev gX4_next_l232 (G : GG) (Γ : Cx) (r : Vv × Wd) (sz sl : Nat) (td : TT)  : (CC) → Prop := fun s => WP G Γ muX4_next r 232 [some (2, 111), none, none, none, none] [] (sz, sl, tt td, cv s)
abbrev eX4_next_l232 (G : GG) (Γ : Cx) (r : Vv × Wd) (sz sl : Nat) (td : TT)  : (CC) → Prop := (fun s => WP G Γ muX4_next r 440 [none, none, none, none, none] [] (sz, sl, tt td, cv s))
theorem sX4_next_j300 {G : GG} {Γ : Cx} {r : Vv × Wd} {sz sl : Nat} {td : TT} (w0 : Int) (c : CC) : Sm (fX4_next_j300 w0 c) (fun x => Sum.elim (gX4_next_l232 G Γ r sz sl td ) (eX4_next_l232 G Γ r sz sl td ) x) (WP G Γ muX4_next r 300 [some (2, 111), none, none, none, none] [(0, w0), (2, 111)] (sz, sl, tt td, cv c)) := by
  unfold fX4_next_j300
  refine s_putM (pc := 300) (a := 111) (fpX4_265 _) (t_111 _) rfl kO_111 n_111_22 rfl (fpX4_265t) dX4_next_300 (fun c_17 => ?_)
  refine s_aload_n (pc := 303) dX4_next_303 rfl ?_
  refine s_dup (pc := 304) (by decide : ¬ (2 : Nat) = 1) dX4_next_304 ?_
  refine s_get (pc := 305) (a := 111) (v := c_17 111 19) flX4_243 (t_111 _) rfl (g_111_19 _) rfl dX4_next_305 ?_
  refine s_iconst (pc := 308) dX4_next_308 ?_
  refine s_iadd (pc := 309) dX4_next_309 ?_
  refine s_putM (pc := 310) (a := 111) (fpX4_243 _) (t_111 _) rfl kO_111 n_111_19 rfl (fpX4_243t) dX4_next_310 (fun c_18 => ?_)
  refine s_goto (pc := 313) (tgt := 232) dX4_next_313 rfl ?_
  exact Sm.some (fun h => h)
noncomputable def fX4_next_l232  (c : CC) : Option ((CC) ⊕ (CC)) :=
  if c 111 19 < c 111 18 then
  (gd ((0 : Int) ≤ c 111 19 ∧ c 111 19 < 300) <|
   cl (fX4_in (c 114 (Int.toNat (c 111 19))) 48 57) fun p_16 =>
   if p_16 = 0 then
  (some (.inr c))
  else
  (if (99999 : Int) < c 111 22 then
  (fX4_next_j300 (c 111 22) c)
  else
  (gd (inR (10 * (c 111 22))) <|
   gd ((0 : Int) ≤ c 111 19 ∧ c 111 19 < 300) <|
   gd (inR ((10 * (c 111 22)) + (c 114 (Int.toNat (c 111 19))))) <|
   gd (inR (((10 * (c 111 22)) + (c 114 (Int.toNat (c 111 19)))) - 48)) <|
   fX4_next_j300 (((10 * (c 111 22)) + (c 114 (Int.toNat (c 111 19)))) - 48) c)))
  else
  (some (.inr c))
theorem sX4_next_l232 {G : GG} {Γ : Cx} {r : Vv × Wd} {sz sl : Nat} {td : TT}  (c : CC) : Sm (fX4_next_l232  c) (fun x => Sum.elim (gX4_next_l232 G Γ r sz sl td ) (eX4_next_l232 G Γ r sz sl td ) x) (gX4_next_l232 G Γ r sz sl td  c) := by
  show Sm _ _ (WP G Γ muX4_next r 232 [some (2, 111), none, none, none, none] [] (sz, sl, tt td, cv c))
  unfold fX4_next_l232
  refine s_aload_n (pc := 232) dX4_next_232 rfl ?_
  refine s_get (pc := 233) (a := 111) (v := c 111 19) flX4_243 (t_111 _) rfl (g_111_19 _) rfl dX4_next_233 ?_
  refine s_aload_n (pc := 236) dX4_next_236 rfl ?_
  refine s_get (pc := 237) (a := 111) (v := c 111 18) flX4_246 (t_111 _) rfl (g_111_18 _) rfl dX4_next_237 ?_
  refine s_icmp_ge (pc := 240) (tgt := 440) dX4_next_240 rfl ?_ ?_
  · refine s_wk [false, true, true, true, true] (ls' := [none, none, none, none, none]) rfl ?_
    exact Sm.some (fun h => h)
  refine s_aload_n (pc := 243) dX4_next_243 rfl ?_
  refine s_get (pc := 244) (a := 111) (v := 114) flX4_16 (t_111 _) rfl (g_111_2 _) rfl dX4_next_244 ?_
  refine s_aload_n (pc := 247) dX4_next_247 rfl ?_
  refine s_get (pc := 248) (a := 111) (v := c 111 19) flX4_243 (t_111 _) rfl (g_111_19 _) rfl dX4_next_248 ?_
  refine s_baldM (pc := 251) (a := 114) (t_114 _) rfl r_114 dX4_next_251 ?_
  refine s_bipush (pc := 252) dX4_next_252 ?_
  refine s_bipush (pc := 254) dX4_next_254 ?_
  refine s_callS3 (pc := 256) (as := [(0, c 114 (Int.toNat (c 111 19))), (0, 48), (0, 57)]) (st := []) (rv := fun b => ((0, b), (sz, sl, tt td, cv c))) (st3 := fun b => [(0, b)]) (w3 := fun b => (sz, sl, tt td, cv c)) msX4_199 (fun b h => kX4_in (c 114 (Int.toNat (c 111 19))) 48 57 c b h) rfl (by decide) rfl (Nat.le_of_ble_eq_true rfl) (fun _ => Nat.le_of_ble_eq_true rfl) (fun _ => ⟨rfl, rfl⟩) dX4_next_256 (fun p_16 => ?_)
  refine s_if_eq (pc := 259) (tgt := 440) dX4_next_259 rfl ?_ ?_
  · refine s_wk [false, true, true, true, true] (ls' := [none, none, none, none, none]) rfl ?_
    exact Sm.some (fun h => h)
  refine s_aload_n (pc := 262) dX4_next_262 rfl ?_
  refine s_aload_n (pc := 263) dX4_next_263 rfl ?_
  refine s_get (pc := 264) (a := 111) (v := c 111 22) flX4_265 (t_111 _) rfl (g_111_22 _) rfl dX4_next_264 ?_
  refine s_ldcw (pc := 267) (z := 99999) q1544 dX4_next_267 ?_
  refine s_icmp_le (pc := 270) (tgt := 280) dX4_next_270 rfl ?_ ?_
  · refine s_bipush (pc := 280) dX4_next_280 ?_
    refine s_aload_n (pc := 282) dX4_next_282 rfl ?_
    refine s_get (pc := 283) (a := 111) (v := c 111 22) flX4_265 (t_111 _) rfl (g_111_22 _) rfl dX4_next_283 ?_
    refine s_imul (pc := 286) dX4_next_286 ?_
    refine s_aload_n (pc := 287) dX4_next_287 rfl ?_
    refine s_get (pc := 288) (a := 111) (v := 114) flX4_16 (t_111 _) rfl (g_111_2 _) rfl dX4_next_288 ?_
    refine s_aload_n (pc := 291) dX4_next_291 rfl ?_
    refine s_get (pc := 292) (a := 111) (v := c 111 19) flX4_243 (t_111 _) rfl (g_111_19 _) rfl dX4_next_292 ?_
    refine s_baldM (pc := 295) (a := 114) (t_114 _) rfl r_114 dX4_next_295 ?_
    refine s_iadd (pc := 296) dX4_next_296 ?_
    refine s_bipush (pc := 297) dX4_next_297 ?_
    refine s_isub (pc := 299) dX4_next_299 ?_
    exact sX4_next_j300 (((10 * (c 111 22)) + (c 114 (Int.toNat (c 111 19)))) - 48) c
  refine s_aload_n (pc := 273) dX4_next_273 rfl ?_
  refine s_get (pc := 274) (a := 111) (v := c 111 22) flX4_265 (t_111 _) rfl (g_111_22 _) rfl dX4_next_274 ?_
  refine s_goto (pc := 277) (tgt := 300) dX4_next_277 rfl ?_
  exact sX4_next_j300 (c 111 22) c
noncomputable def fX4_next_j156 (v4 : Int) (w0 : Int) (c : CC) : Option ((Int × Int × CC) ⊕ (Int × Int × CC)) :=
  gd (inR (v4 + 1)) <| bd (v4 + 1) fun v4_21 =>
   gd (inR ((c 111 19) + 1)) <|
   bd (up2 c 111 19 ((c 111 19) + 1)) fun c_22 =>
   some (.inl (w0, v4_21, c_22))
abbrev gX4_next_l99 (G : GG) (Γ : Cx) (r : Vv × Wd) (sz sl : Nat) (td : TT)  : (Int × Int × CC) → Prop := fun s => WP G Γ muX4_next r 99 [some (2, 111), none, some (1, s.1), none, some (0, s.2.1)] [] (sz, sl, tt td, cv s.2.2)
abbrev eX4_next_l99 (G : GG) (Γ : Cx) (r : Vv × Wd) (sz sl : Nat) (td : TT)  : (Int × Int × CC) → Prop := (fun s => WP G Γ muX4_next r 173 [some (2, 111), none, some (1, s.1), none, some (0, s.2.1)] [] (sz, sl, tt td, cv s.2.2))
theorem sX4_next_j156 {G : GG} {Γ : Cx} {r : Vv × Wd} {sz sl : Nat} {td : TT} (v4 : Int) (w0 : Int) (c : CC) : Sm (fX4_next_j156 v4 w0 c) (fun x => Sum.elim (gX4_next_l99 G Γ r sz sl td ) (eX4_next_l99 G Γ r sz sl td ) x) (WP G Γ muX4_next r 156 [some (2, 111), none, none, none, some (0, v4)] [(1, w0)] (sz, sl, tt td, cv c)) := by
  unfold fX4_next_j156
  refine s_lstore_nD (pc := 156) (ls' := [some (2, 111), none, some (1, w0), none, some (0, v4)]) dX4_next_156 rfl (Nat.le_of_ble_eq_true rfl) ?_
  refine s_iinc (pc := 157) (lf := fun x => [some (2, 111), none, some (1, w0), none, some (0, x)]) dX4_next_157 rfl (fun _ => rfl) (Nat.le_of_ble_eq_true rfl) (fun v4_21 => ?_)
  refine s_aload_n (pc := 160) dX4_next_160 rfl ?_
  refine s_dup (pc := 161) (by decide : ¬ (2 : Nat) = 1) dX4_next_161 ?_
  refine s_get (pc := 162) (a := 111) (v := c 111 19) flX4_243 (t_111 _) rfl (g_111_19 _) rfl dX4_next_162 ?_
  refine s_iconst (pc := 165) dX4_next_165 ?_
  refine s_iadd (pc := 166) dX4_next_166 ?_
  refine s_putM (pc := 167) (a := 111) (fpX4_243 _) (t_111 _) rfl kO_111 n_111_19 rfl (fpX4_243t) dX4_next_167 (fun c_22 => ?_)
  refine s_goto (pc := 170) (tgt := 99) dX4_next_170 rfl ?_
  exact Sm.some (fun h => h)
noncomputable def fX4_next_l99 (v2 : Int) (v4 : Int) (c : CC) : Option ((Int × Int × CC) ⊕ (Int × Int × CC)) :=
  if c 111 19 < c 111 18 then
  (gd ((0 : Int) ≤ c 111 19 ∧ c 111 19 < 300) <|
   cl (fX4_isLetter (c 114 (Int.toNat (c 111 19)))) fun p_20 =>
   if p_20 = 0 then
  (some (.inr (v2, v4, c)))
  else
  (if v4 < 8 then
  (gd (inL (64 * v2)) <|
   gd ((0 : Int) ≤ c 111 19 ∧ c 111 19 < 300) <|
   gd (inL ((64 * v2) + (c 114 (Int.toNat (c 111 19))))) <|
   gd (inL (((64 * v2) + (c 114 (Int.toNat (c 111 19)))) - 64)) <|
   fX4_next_j156 v4 (((64 * v2) + (c 114 (Int.toNat (c 111 19)))) - 64) c)
  else
  (fX4_next_j156 v4 v2 c)))
  else
  (some (.inr (v2, v4, c)))
theorem sX4_next_l99 {G : GG} {Γ : Cx} {r : Vv × Wd} {sz sl : Nat} {td : TT} (v2 : Int) (v4 : Int) (c : CC) : Sm (fX4_next_l99 v2 v4 c) (fun x => Sum.elim (gX4_next_l99 G Γ r sz sl td ) (eX4_next_l99 G Γ r sz sl td ) x) (gX4_next_l99 G Γ r sz sl td  (v2, v4, c)) := by
  show Sm _ _ (WP G Γ muX4_next r 99 [some (2, 111), none, some (1, v2), none, some (0, v4)] [] (sz, sl, tt td, cv c))
  unfold fX4_next_l99
  refine s_aload_n (pc := 99) dX4_next_99 rfl ?_
  refine s_get (pc := 100) (a := 111) (v := c 111 19) flX4_243 (t_111 _) rfl (g_111_19 _) rfl dX4_next_100 ?_
  refine s_aload_n (pc := 103) dX4_next_103 rfl ?_
  refine s_get (pc := 104) (a := 111) (v := c 111 18) flX4_246 (t_111 _) rfl (g_111_18 _) rfl dX4_next_104 ?_
  refine s_icmp_ge (pc := 107) (tgt := 173) dX4_next_107 rfl ?_ ?_
  · exact Sm.some (fun h => h)
  refine s_aload_n (pc := 110) dX4_next_110 rfl ?_
  refine s_get (pc := 111) (a := 111) (v := 114) flX4_16 (t_111 _) rfl (g_111_2 _) rfl dX4_next_111 ?_
  refine s_aload_n (pc := 114) dX4_next_114 rfl ?_
  refine s_get (pc := 115) (a := 111) (v := c 111 19) flX4_243 (t_111 _) rfl (g_111_19 _) rfl dX4_next_115 ?_
  refine s_baldM (pc := 118) (a := 114) (t_114 _) rfl r_114 dX4_next_118 ?_
  refine s_callS3 (pc := 119) (as := [(0, c 114 (Int.toNat (c 111 19)))]) (st := []) (rv := fun b => ((0, b), (sz, sl, tt td, cv c))) (st3 := fun b => [(0, b)]) (w3 := fun b => (sz, sl, tt td, cv c)) msX4_255 (fun b h => kX4_isLetter (c 114 (Int.toNat (c 111 19))) c b h) rfl (by decide) rfl (Nat.le_of_ble_eq_true rfl) (fun _ => Nat.le_of_ble_eq_true rfl) (fun _ => ⟨rfl, rfl⟩) dX4_next_119 (fun p_20 => ?_)
  refine s_if_eq (pc := 122) (tgt := 173) dX4_next_122 rfl ?_ ?_
  · exact Sm.some (fun h => h)
  refine s_iload (pc := 125) dX4_next_125 rfl ?_
  refine s_bipush (pc := 127) dX4_next_127 ?_
  refine s_icmp_ge (pc := 129) (tgt := 155) dX4_next_129 rfl ?_ ?_
  · refine s_lload_n (pc := 155) dX4_next_155 rfl ?_
    refine s_wk [true, true, false, true, true] (ls' := [some (2, 111), none, none, none, some (0, v4)]) rfl ?_
    exact sX4_next_j156 v4 v2 c
  refine s_ldc2 (pc := 132) (z := 64) q1520 dX4_next_132 ?_
  refine s_lload_n (pc := 135) dX4_next_135 rfl ?_
  refine s_lmul (pc := 136) dX4_next_136 ?_
  refine s_aload_n (pc := 137) dX4_next_137 rfl ?_
  refine s_get (pc := 138) (a := 111) (v := 114) flX4_16 (t_111 _) rfl (g_111_2 _) rfl dX4_next_138 ?_
  refine s_aload_n (pc := 141) dX4_next_141 rfl ?_
  refine s_get (pc := 142) (a := 111) (v := c 111 19) flX4_243 (t_111 _) rfl (g_111_19 _) rfl dX4_next_142 ?_
  refine s_baldM (pc := 145) (a := 114) (t_114 _) rfl r_114 dX4_next_145 ?_
  refine s_i2l (pc := 146) dX4_next_146 ?_
  refine s_ladd (pc := 147) dX4_next_147 ?_
  refine s_ldc2 (pc := 148) (z := 64) q1520 dX4_next_148 ?_
  refine s_lsub (pc := 151) dX4_next_151 ?_
  refine s_goto (pc := 152) (tgt := 156) dX4_next_152 rfl ?_
  refine s_wk [true, true, false, true, true] (ls' := [some (2, 111), none, none, none, some (0, v4)]) rfl ?_
  exact sX4_next_j156 v4 (((64 * v2) + (c 114 (Int.toNat (c 111 19)))) - 64) c
noncomputable def fX4_next_j189 (w0 : Int) (c : CC) : Option CC :=
  bd (up2 c 111 22 w0) fun c_25 =>
   if c_25 111 22 < 0 then
  (bd (up2 c_25 111 21 4) fun c_27 =>
   some c_27)
  else
  (bd (up2 c_25 111 21 1) fun c_26 =>
   some c_26)
theorem sX4_next_j189 {G : GG} {Γ : Cx} {r : Vv × Wd} {sz sl : Nat} {td : TT} (w0 : Int) (c : CC) : Sm (fX4_next_j189 w0 c) (fun x => r = ((3, 0), (sz, sl, tt td, cv x))) (WP G Γ muX4_next r 189 [some (2, 111), none, none, none, none] [(0, w0), (2, 111)] (sz, sl, tt td, cv c)) := by
  unfold fX4_next_j189
  refine s_putM (pc := 189) (a := 111) (fpX4_265 _) (t_111 _) rfl kO_111 n_111_22 rfl (fpX4_265t) dX4_next_189 (fun c_25 => ?_)
  refine s_aload_n (pc := 192) dX4_next_192 rfl ?_
  refine s_aload_n (pc := 193) dX4_next_193 rfl ?_
  refine s_get (pc := 194) (a := 111) (v := c_25 111 22) flX4_265 (t_111 _) rfl (g_111_22 _) rfl dX4_next_194 ?_
  refine s_if_ge (pc := 197) (tgt := 204) dX4_next_197 rfl ?_ ?_
  · refine s_iconst (pc := 204) dX4_next_204 ?_
    refine s_putM (pc := 205) (a := 111) (fpX4_252 _) (t_111 _) rfl kO_111 n_111_21 rfl (fpX4_252t) dX4_next_205 (fun c_26 => ?_)
    refine s_goto (pc := 208) (tgt := 440) dX4_next_208 rfl ?_
    exact s_vret (pc := 440) dX4_next_440 rfl (fun h => h)
  refine s_iconst (pc := 200) dX4_next_200 ?_
  refine s_goto (pc := 201) (tgt := 205) dX4_next_201 rfl ?_
  refine s_putM (pc := 205) (a := 111) (fpX4_252 _) (t_111 _) rfl kO_111 n_111_21 rfl (fpX4_252t) dX4_next_205 (fun c_27 => ?_)
  refine s_goto (pc := 208) (tgt := 440) dX4_next_208 rfl ?_
  exact s_vret (pc := 440) dX4_next_440 rfl (fun h => h)
noncomputable def fX4_next_j173 (v2 : Int) (v4 : Int) (c : CC) : Option CC :=
  if (7 : Int) < v4 then
  (fX4_next_j189 (-1) c)
  else
  (cl (fX4_wordOf v2) fun p_24 =>
   fX4_next_j189 p_24 c)
theorem sX4_next_j173 {G : GG} {Γ : Cx} {r : Vv × Wd} {sz sl : Nat} {td : TT} (v2 : Int) (v4 : Int) (c : CC) : Sm (fX4_next_j173 v2 v4 c) (fun x => r = ((3, 0), (sz, sl, tt td, cv x))) (WP G Γ muX4_next r 173 [some (2, 111), none, some (1, v2), none, some (0, v4)] [] (sz, sl, tt td, cv c)) := by
  unfold fX4_next_j173
  refine s_aload_n (pc := 173) dX4_next_173 rfl ?_
  refine s_iload (pc := 174) dX4_next_174 rfl ?_
  refine s_bipush (pc := 176) dX4_next_176 ?_
  refine s_icmp_le (pc := 178) (tgt := 185) dX4_next_178 rfl ?_ ?_
  · refine s_lload_n (pc := 185) dX4_next_185 rfl ?_
    refine s_callS3 (pc := 186) (as := [(1, v2)]) (st := [(2, 111)]) (rv := fun b => ((0, b), (sz, sl, tt td, cv c))) (st3 := fun b => [(0, b), (2, 111)]) (w3 := fun b => (sz, sl, tt td, cv c)) msX4_261 (fun b h => kX4_wordOf v2 c b h) rfl (by decide) rfl (Nat.le_of_ble_eq_true rfl) (fun _ => Nat.le_of_ble_eq_true rfl) (fun _ => ⟨rfl, rfl⟩) dX4_next_186 (fun p_24 => ?_)
    refine s_wk [true, true, false, true, false] (ls' := [some (2, 111), none, none, none, none]) rfl ?_
    exact sX4_next_j189 p_24 c
  refine s_iconst (pc := 181) dX4_next_181 ?_
  refine s_goto (pc := 182) (tgt := 189) dX4_next_182 rfl ?_
  refine s_wk [true, true, false, true, false] (ls' := [some (2, 111), none, none, none, none]) rfl ?_
  exact sX4_next_j189 (-1) c
noncomputable def fX4_next_j52  (c : CC) : Option CC :=
  bd (up2 c 111 20 (c 111 19)) fun c_3 =>
   if c_3 111 19 = c_3 111 18 then
  (bd (up2 c_3 111 21 0) fun c_28 =>
   some c_28)
  else
  (gd ((0 : Int) ≤ c_3 111 19 ∧ c_3 111 19 < 300) <|
   bd (c_3 114 (Int.toNat (c_3 111 19))) fun v1_4 =>
   cl (fX4_isLetter v1_4) fun p_5 =>
   if p_5 = 0 then
  (cl (fX4_in v1_4 48 57) fun p_6 =>
   if p_6 = 0 then
  (gd (inR ((c_3 111 19) + 1)) <|
   bd (up2 c_3 111 19 ((c_3 111 19) + 1)) fun c_7 =>
   bd (up2 c_7 111 22 v1_4) fun c_8 =>
   cl (fX4_in v1_4 59 62) fun p_9 =>
   if p_9 = 0 then
  (cl (fX4_in v1_4 40 45) fun p_13 =>
   if p_13 = 0 then
  (if v1_4 = 47 then
  (fX4_next_j371 v1_4 3 c_8)
  else
  (if v1_4 = 35 then
  (fX4_next_j371 v1_4 3 c_8)
  else
  (fX4_next_j371 v1_4 4 c_8)))
  else
  (fX4_next_j371 v1_4 3 c_8))
  else
  (fX4_next_j371 v1_4 3 c_8))
  else
  (bd (up2 c_3 111 21 2) fun c_14 =>
   bd (up2 c_14 111 22 0) fun c_15 =>
   cl (wh (fun s => fX4_next_l232   s) c_15) (fun e_19 =>
  some e_19)))
  else
  (cl (wh (fun s => fX4_next_l99  s.1 s.2.1 s.2.2) (0, 0, c_3)) (fun e_23 =>
  fX4_next_j173 e_23.1 e_23.2.1 e_23.2.2)))
theorem sX4_next_j52 {G : GG} {Γ : Cx} {r : Vv × Wd} {sz sl : Nat} {td : TT}  (c : CC) : Sm (fX4_next_j52  c) (fun x => r = ((3, 0), (sz, sl, tt td, cv x))) (WP G Γ muX4_next r 52 [some (2, 111), none, none, none, none] [] (sz, sl, tt td, cv c)) := by
  unfold fX4_next_j52
  refine s_aload_n (pc := 52) dX4_next_52 rfl ?_
  refine s_aload_n (pc := 53) dX4_next_53 rfl ?_
  refine s_get (pc := 54) (a := 111) (v := c 111 19) flX4_243 (t_111 _) rfl (g_111_19 _) rfl dX4_next_54 ?_
  refine s_putM (pc := 57) (a := 111) (fpX4_249 _) (t_111 _) rfl kO_111 n_111_20 rfl (fpX4_249t) dX4_next_57 (fun c_3 => ?_)
  refine s_aload_n (pc := 60) dX4_next_60 rfl ?_
  refine s_get (pc := 61) (a := 111) (v := c_3 111 19) flX4_243 (t_111 _) rfl (g_111_19 _) rfl dX4_next_61 ?_
  refine s_aload_n (pc := 64) dX4_next_64 rfl ?_
  refine s_get (pc := 65) (a := 111) (v := c_3 111 18) flX4_246 (t_111 _) rfl (g_111_18 _) rfl dX4_next_65 ?_
  refine s_icmp_ne (pc := 68) (tgt := 77) dX4_next_68 rfl ?_ ?_
  · refine s_aload_n (pc := 77) dX4_next_77 rfl ?_
    refine s_get (pc := 78) (a := 111) (v := 114) flX4_16 (t_111 _) rfl (g_111_2 _) rfl dX4_next_78 ?_
    refine s_aload_n (pc := 81) dX4_next_81 rfl ?_
    refine s_get (pc := 82) (a := 111) (v := c_3 111 19) flX4_243 (t_111 _) rfl (g_111_19 _) rfl dX4_next_82 ?_
    refine s_baldM (pc := 85) (a := 114) (t_114 _) rfl r_114 dX4_next_85 ?_
    refine s_istore_n (pc := 86) (lf := fun x => [some (2, 111), some (0, x), none, none, none]) dX4_next_86 (fun _ => rfl) (Nat.le_of_ble_eq_true rfl) (fun v1_4 => ?_)
    refine s_iload_n (pc := 87) dX4_next_87 rfl ?_
    refine s_callS3 (pc := 88) (as := [(0, v1_4)]) (st := []) (rv := fun b => ((0, b), (sz, sl, tt td, cv c_3))) (st3 := fun b => [(0, b)]) (w3 := fun b => (sz, sl, tt td, cv c_3)) msX4_255 (fun b h => kX4_isLetter v1_4 c_3 b h) rfl (by decide) rfl (Nat.le_of_ble_eq_true rfl) (fun _ => Nat.le_of_ble_eq_true rfl) (fun _ => ⟨rfl, rfl⟩) dX4_next_88 (fun p_5 => ?_)
    refine s_if_eq (pc := 91) (tgt := 211) dX4_next_91 rfl ?_ ?_
    · refine s_iload_n (pc := 211) dX4_next_211 rfl ?_
      refine s_bipush (pc := 212) dX4_next_212 ?_
      refine s_bipush (pc := 214) dX4_next_214 ?_
      refine s_callS3 (pc := 216) (as := [(0, v1_4), (0, 48), (0, 57)]) (st := []) (rv := fun b => ((0, b), (sz, sl, tt td, cv c_3))) (st3 := fun b => [(0, b)]) (w3 := fun b => (sz, sl, tt td, cv c_3)) msX4_199 (fun b h => kX4_in v1_4 48 57 c_3 b h) rfl (by decide) rfl (Nat.le_of_ble_eq_true rfl) (fun _ => Nat.le_of_ble_eq_true rfl) (fun _ => ⟨rfl, rfl⟩) dX4_next_216 (fun p_6 => ?_)
      refine s_if_eq (pc := 219) (tgt := 316) dX4_next_219 rfl ?_ ?_
      · refine s_aload_n (pc := 316) dX4_next_316 rfl ?_
        refine s_dup (pc := 317) (by decide : ¬ (2 : Nat) = 1) dX4_next_317 ?_
        refine s_get (pc := 318) (a := 111) (v := c_3 111 19) flX4_243 (t_111 _) rfl (g_111_19 _) rfl dX4_next_318 ?_
        refine s_iconst (pc := 321) dX4_next_321 ?_
        refine s_iadd (pc := 322) dX4_next_322 ?_
        refine s_putM (pc := 323) (a := 111) (fpX4_243 _) (t_111 _) rfl kO_111 n_111_19 rfl (fpX4_243t) dX4_next_323 (fun c_7 => ?_)
        refine s_aload_n (pc := 326) dX4_next_326 rfl ?_
        refine s_iload_n (pc := 327) dX4_next_327 rfl ?_
        refine s_putM (pc := 328) (a := 111) (fpX4_265 _) (t_111 _) rfl kO_111 n_111_22 rfl (fpX4_265t) dX4_next_328 (fun c_8 => ?_)
        refine s_aload_n (pc := 331) dX4_next_331 rfl ?_
        refine s_iload_n (pc := 332) dX4_next_332 rfl ?_
        refine s_bipush (pc := 333) dX4_next_333 ?_
        refine s_bipush (pc := 335) dX4_next_335 ?_
        refine s_callS3 (pc := 337) (as := [(0, v1_4), (0, 59), (0, 62)]) (st := [(2, 111)]) (rv := fun b => ((0, b), (sz, sl, tt td, cv c_8))) (st3 := fun b => [(0, b), (2, 111)]) (w3 := fun b => (sz, sl, tt td, cv c_8)) msX4_199 (fun b h => kX4_in v1_4 59 62 c_8 b h) rfl (by decide) rfl (Nat.le_of_ble_eq_true rfl) (fun _ => Nat.le_of_ble_eq_true rfl) (fun _ => ⟨rfl, rfl⟩) dX4_next_337 (fun p_9 => ?_)
        refine s_if_ne (pc := 340) (tgt := 366) dX4_next_340 rfl ?_ ?_
        · refine s_iconst (pc := 366) dX4_next_366 ?_
          refine s_goto (pc := 367) (tgt := 371) dX4_next_367 rfl ?_
          exact sX4_next_j371 v1_4 3 c_8
        refine s_iload_n (pc := 343) dX4_next_343 rfl ?_
        refine s_bipush (pc := 344) dX4_next_344 ?_
        refine s_bipush (pc := 346) dX4_next_346 ?_
        refine s_callS3 (pc := 348) (as := [(0, v1_4), (0, 40), (0, 45)]) (st := [(2, 111)]) (rv := fun b => ((0, b), (sz, sl, tt td, cv c_8))) (st3 := fun b => [(0, b), (2, 111)]) (w3 := fun b => (sz, sl, tt td, cv c_8)) msX4_199 (fun b h => kX4_in v1_4 40 45 c_8 b h) rfl (by decide) rfl (Nat.le_of_ble_eq_true rfl) (fun _ => Nat.le_of_ble_eq_true rfl) (fun _ => ⟨rfl, rfl⟩) dX4_next_348 (fun p_13 => ?_)
        refine s_if_ne (pc := 351) (tgt := 366) dX4_next_351 rfl ?_ ?_
        · refine s_iconst (pc := 366) dX4_next_366 ?_
          refine s_goto (pc := 367) (tgt := 371) dX4_next_367 rfl ?_
          exact sX4_next_j371 v1_4 3 c_8
        refine s_iload_n (pc := 354) dX4_next_354 rfl ?_
        refine s_bipush (pc := 355) dX4_next_355 ?_
        refine s_icmp_eq (pc := 357) (tgt := 366) dX4_next_357 rfl ?_ ?_
        · refine s_iconst (pc := 366) dX4_next_366 ?_
          refine s_goto (pc := 367) (tgt := 371) dX4_next_367 rfl ?_
          exact sX4_next_j371 v1_4 3 c_8
        refine s_iload_n (pc := 360) dX4_next_360 rfl ?_
        refine s_bipush (pc := 361) dX4_next_361 ?_
        refine s_icmp_ne (pc := 363) (tgt := 370) dX4_next_363 rfl ?_ ?_
        · refine s_iconst (pc := 370) dX4_next_370 ?_
          exact sX4_next_j371 v1_4 4 c_8
        refine s_iconst (pc := 366) dX4_next_366 ?_
        refine s_goto (pc := 367) (tgt := 371) dX4_next_367 rfl ?_
        exact sX4_next_j371 v1_4 3 c_8
      refine s_aload_n (pc := 222) dX4_next_222 rfl ?_
      refine s_iconst (pc := 223) dX4_next_223 ?_
      refine s_putM (pc := 224) (a := 111) (fpX4_252 _) (t_111 _) rfl kO_111 n_111_21 rfl (fpX4_252t) dX4_next_224 (fun c_14 => ?_)
      refine s_aload_n (pc := 227) dX4_next_227 rfl ?_
      refine s_iconst (pc := 228) dX4_next_228 ?_
      refine s_putM (pc := 229) (a := 111) (fpX4_265 _) (t_111 _) rfl kO_111 n_111_22 rfl (fpX4_265t) dX4_next_229 (fun c_15 => ?_)
      refine s_wk [true, false, true, true, true] (ls' := [some (2, 111), none, none, none, none]) rfl ?_
      refine s_loop (g := gX4_next_l232 G Γ r sz sl td ) (Ex := eX4_next_l232 G Γ r sz sl td ) (s0 := c_15) (fun s => sX4_next_l232   s) ?_
      intro e_19
      show Sm _ _ (WP G Γ muX4_next r 440 [none, none, none, none, none] [] (sz, sl, tt td, cv e_19))
      exact s_vret (pc := 440) dX4_next_440 rfl (fun h => h)
    refine s_lconst0 (pc := 94) dX4_next_94 ?_
    refine s_lstore_nD (pc := 95) (ls' := [some (2, 111), some (0, v1_4), some (1, 0), none, none]) dX4_next_95 rfl (Nat.le_of_ble_eq_true rfl) ?_
    refine s_iconst (pc := 96) dX4_next_96 ?_
    refine s_istoreD (pc := 97) (ls' := [some (2, 111), some (0, v1_4), some (1, 0), none, some (0, 0)]) dX4_next_97 rfl (Nat.le_of_ble_eq_true rfl) ?_
    refine s_wk [true, false, true, true, true] (ls' := [some (2, 111), none, some (1, 0), none, some (0, 0)]) rfl ?_
    refine s_loop (g := gX4_next_l99 G Γ r sz sl td ) (Ex := eX4_next_l99 G Γ r sz sl td ) (s0 := (0, 0, c_3)) (fun s => sX4_next_l99  s.1 s.2.1 s.2.2) ?_
    intro e_23
    show Sm _ _ (WP G Γ muX4_next r 173 [some (2, 111), none, some (1, e_23.1), none, some (0, e_23.2.1)] [] (sz, sl, tt td, cv e_23.2.2))
    exact sX4_next_j173 e_23.1 e_23.2.1 e_23.2.2
  refine s_aload_n (pc := 71) dX4_next_71 rfl ?_
  refine s_iconst (pc := 72) dX4_next_72 ?_
  refine s_putM (pc := 73) (a := 111) (fpX4_252 _) (t_111 _) rfl kO_111 n_111_21 rfl (fpX4_252t) dX4_next_73 (fun c_28 => ?_)
  exact s_vret (pc := 76) dX4_next_76 rfl (fun h => h)
noncomputable def fX4_next  (c : CC) : Option CC :=
  cl (wh (fun s => fX4_next_l0   s) c) (fun e_2 =>
  fX4_next_j52  e_2)
theorem sX4_next {G : GG} {Γ : Cx} {r : Vv × Wd} {sz sl : Nat} {td : TT}  (c : CC) : Sm (fX4_next  c) (fun x => r = ((3, 0), (sz, sl, tt td, cv x))) (WP G Γ muX4_next r 0 [some (2, 111), none, none, none, none] [] (sz, sl, tt td, cv c)) := by
  unfold fX4_next
  refine s_loop (g := gX4_next_l0 G Γ r sz sl td ) (Ex := eX4_next_l0 G Γ r sz sl td ) (s0 := c) (fun s => sX4_next_l0   s) ?_
  intro e_2
  show Sm _ _ (WP G Γ muX4_next r 52 [some (2, 111), none, none, none, none] [] (sz, sl, tt td, cv e_2))
  exact sX4_next_j52  e_2
theorem kX4_next {G : GG} {sz sl : Nat} {td : TT}  (c : CC) (x : CC) (h : fX4_next  c = some x) : Ct G yX4_next muX4_next [(2, 111)] (sz, sl, tt td, cv c) ((3, 0), (sz, sl, tt td, cv x)) :=
  Ct.of (n := 4) (ls0 := [some (2, 111), none, none, none, none]) (by decide) rfl rfl ⟨by decide, by decide⟩ (Nat.le_of_ble_eq_true rfl) rfl ⟨Nat.le_refl _, Nat.le_refl _⟩ (show (3 : Nat) ≠ 9 by decide) (fun Γ => sX4_next  c x h rfl)
theorem flX4_252 : FL RX4 252 3 21 := ⟨_, _, _, cf3, by decide, q1265⟩
abbrev muX4_isSign : MI := (cX4_isSign, RX4, 2, some .boolean, 1, "isSign")
noncomputable def fX4_isSign (a1 : Int) (c : CC) : Option Int :=
  if c 111 21 = 3 then
  (if c 111 22 = a1 then
  (gd ((0 : Int) ≤ 1 ∧ (1 : Int) < 2) (some 1))
  else
  (gd ((0 : Int) ≤ 0 ∧ (0 : Int) < 2) (some 0)))
  else
  (gd ((0 : Int) ≤ 0 ∧ (0 : Int) < 2) (some 0))
theorem sX4_isSign {G : GG} {Γ : Cx} {r : Vv × Wd} {sz sl : Nat} {td : TT} (a1 : Int) (c : CC) : Sm (fX4_isSign a1 c) (fun x => r = ((0, x), (sz, sl, tt td, cv c))) (WP G Γ muX4_isSign r 0 [some (2, 111), some (0, a1)] [] (sz, sl, tt td, cv c)) := by
  unfold fX4_isSign
  refine s_aload_n (pc := 0) dX4_isSign_0 rfl ?_
  refine s_get (pc := 1) (a := 111) (v := c 111 21) flX4_252 (t_111 _) rfl (g_111_21 _) rfl dX4_isSign_1 ?_
  refine s_iconst (pc := 4) dX4_isSign_4 ?_
  refine s_icmp_ne (pc := 5) (tgt := 20) dX4_isSign_5 rfl ?_ ?_
  · refine s_iconst (pc := 20) dX4_isSign_20 ?_
    exact s_zret (pc := 21) dX4_isSign_21 rfl (fun h => h)
  refine s_aload_n (pc := 8) dX4_isSign_8 rfl ?_
  refine s_get (pc := 9) (a := 111) (v := c 111 22) flX4_265 (t_111 _) rfl (g_111_22 _) rfl dX4_isSign_9 ?_
  refine s_iload_n (pc := 12) dX4_isSign_12 rfl ?_
  refine s_icmp_ne (pc := 13) (tgt := 20) dX4_isSign_13 rfl ?_ ?_
  · refine s_iconst (pc := 20) dX4_isSign_20 ?_
    exact s_zret (pc := 21) dX4_isSign_21 rfl (fun h => h)
  refine s_iconst (pc := 16) dX4_isSign_16 ?_
  refine s_goto (pc := 17) (tgt := 21) dX4_isSign_17 rfl ?_
  exact s_zret (pc := 21) dX4_isSign_21 rfl (fun h => h)
theorem kX4_isSign {G : GG} {sz sl : Nat} {td : TT} (a1 : Int) (c : CC) (x : Int) (h : fX4_isSign a1 c = some x) : Ct G yX4_isSign muX4_isSign [(2, 111), (0, a1)] (sz, sl, tt td, cv c) ((0, x), (sz, sl, tt td, cv c)) :=
  Ct.of (n := 0) (ls0 := [some (2, 111), some (0, a1)]) (by decide) rfl rfl ⟨by decide, by decide⟩ (Nat.le_of_ble_eq_true rfl) rfl ⟨Nat.le_refl _, Nat.le_refl _⟩ (show (0 : Nat) ≠ 9 by decide) (fun Γ => sX4_isSign a1 c x h rfl)
abbrev muX4_isWord : MI := (cX4_isWord, RX4, 2, some .boolean, 1, "isWord")
noncomputable def fX4_isWord (a1 : Int) (c : CC) : Option Int :=
  if c 111 21 = 1 then
  (if c 111 22 = a1 then
  (gd ((0 : Int) ≤ 1 ∧ (1 : Int) < 2) (some 1))
  else
  (gd ((0 : Int) ≤ 0 ∧ (0 : Int) < 2) (some 0)))
  else
  (gd ((0 : Int) ≤ 0 ∧ (0 : Int) < 2) (some 0))
theorem sX4_isWord {G : GG} {Γ : Cx} {r : Vv × Wd} {sz sl : Nat} {td : TT} (a1 : Int) (c : CC) : Sm (fX4_isWord a1 c) (fun x => r = ((0, x), (sz, sl, tt td, cv c))) (WP G Γ muX4_isWord r 0 [some (2, 111), some (0, a1)] [] (sz, sl, tt td, cv c)) := by
  unfold fX4_isWord
  refine s_aload_n (pc := 0) dX4_isWord_0 rfl ?_
  refine s_get (pc := 1) (a := 111) (v := c 111 21) flX4_252 (t_111 _) rfl (g_111_21 _) rfl dX4_isWord_1 ?_
  refine s_iconst (pc := 4) dX4_isWord_4 ?_
  refine s_icmp_ne (pc := 5) (tgt := 20) dX4_isWord_5 rfl ?_ ?_
  · refine s_iconst (pc := 20) dX4_isWord_20 ?_
    exact s_zret (pc := 21) dX4_isWord_21 rfl (fun h => h)
  refine s_aload_n (pc := 8) dX4_isWord_8 rfl ?_
  refine s_get (pc := 9) (a := 111) (v := c 111 22) flX4_265 (t_111 _) rfl (g_111_22 _) rfl dX4_isWord_9 ?_
  refine s_iload_n (pc := 12) dX4_isWord_12 rfl ?_
  refine s_icmp_ne (pc := 13) (tgt := 20) dX4_isWord_13 rfl ?_ ?_
  · refine s_iconst (pc := 20) dX4_isWord_20 ?_
    exact s_zret (pc := 21) dX4_isWord_21 rfl (fun h => h)
  refine s_iconst (pc := 16) dX4_isWord_16 ?_
  refine s_goto (pc := 17) (tgt := 21) dX4_isWord_17 rfl ?_
  exact s_zret (pc := 21) dX4_isWord_21 rfl (fun h => h)
theorem kX4_isWord {G : GG} {sz sl : Nat} {td : TT} (a1 : Int) (c : CC) (x : Int) (h : fX4_isWord a1 c = some x) : Ct G yX4_isWord muX4_isWord [(2, 111), (0, a1)] (sz, sl, tt td, cv c) ((0, x), (sz, sl, tt td, cv c)) :=
  Ct.of (n := 0) (ls0 := [some (2, 111), some (0, a1)]) (by decide) rfl rfl ⟨by decide, by decide⟩ (Nat.le_of_ble_eq_true rfl) rfl ⟨Nat.le_refl _, Nat.le_refl _⟩ (show (0 : Nat) ≠ 9 by decide) (fun Γ => sX4_isWord a1 c x h rfl)
theorem flX4_269 : FL RX4 269 3 23 := ⟨_, _, _, cf3, by decide, q1267⟩
theorem fpX4_269 (nm : String) : FP RX4 269 3 23 nm := ⟨_, _, _, cf3, by decide, q1267, Or.inl rfl⟩
theorem fpX4_269t : fty 3 23 ≠ .boolean ∧ fty 3 23 ≠ .byte ∧ fty 3 23 ≠ .char ∧ fty 3 23 ≠ .short := by decide
theorem flX4_249 : FL RX4 249 3 20 := ⟨_, _, _, cf3, by decide, q1264⟩
theorem fpX4_272 (nm : String) : FP RX4 272 3 24 nm := ⟨_, _, _, cf3, by decide, q1268, Or.inl rfl⟩
theorem fpX4_272t : fty 3 24 ≠ .boolean ∧ fty 3 24 ≠ .byte ∧ fty 3 24 ≠ .char ∧ fty 3 24 ≠ .short := by decide
abbrev muX4_errs : MI := (cX4_errs, RX4, 2, none, 1, "errs")
noncomputable def fX4_errs (a1 : Int) (c : CC) : Option CC :=
  if c 111 23 = 0 then
  (bd (up2 c 111 23 a1) fun c_1 =>
   bd (up2 c_1 111 24 (c_1 111 20)) fun c_2 =>
   some c_2)
  else
  (some c)
theorem sX4_errs {G : GG} {Γ : Cx} {r : Vv × Wd} {sz sl : Nat} {td : TT} (a1 : Int) (c : CC) : Sm (fX4_errs a1 c) (fun x => r = ((3, 0), (sz, sl, tt td, cv x))) (WP G Γ muX4_errs r 0 [some (2, 111), some (0, a1)] [] (sz, sl, tt td, cv c)) := by
  unfold fX4_errs
  refine s_aload_n (pc := 0) dX4_errs_0 rfl ?_
  refine s_get (pc := 1) (a := 111) (v := c 111 23) flX4_269 (t_111 _) rfl (g_111_23 _) rfl dX4_errs_1 ?_
  refine s_if_ne (pc := 4) (tgt := 20) dX4_errs_4 rfl ?_ ?_
  · exact s_vret (pc := 20) dX4_errs_20 rfl (fun h => h)
  refine s_aload_n (pc := 7) dX4_errs_7 rfl ?_
  refine s_iload_n (pc := 8) dX4_errs_8 rfl ?_
  refine s_putM (pc := 9) (a := 111) (fpX4_269 _) (t_111 _) rfl kO_111 n_111_23 rfl (fpX4_269t) dX4_errs_9 (fun c_1 => ?_)
  refine s_aload_n (pc := 12) dX4_errs_12 rfl ?_
  refine s_aload_n (pc := 13) dX4_errs_13 rfl ?_
  refine s_get (pc := 14) (a := 111) (v := c_1 111 20) flX4_249 (t_111 _) rfl (g_111_20 _) rfl dX4_errs_14 ?_
  refine s_putM (pc := 17) (a := 111) (fpX4_272 _) (t_111 _) rfl kO_111 n_111_24 rfl (fpX4_272t) dX4_errs_17 (fun c_2 => ?_)
  exact s_vret (pc := 20) dX4_errs_20 rfl (fun h => h)
theorem kX4_errs {G : GG} {sz sl : Nat} {td : TT} (a1 : Int) (c : CC) (x : CC) (h : fX4_errs a1 c = some x) : Ct G yX4_errs muX4_errs [(2, 111), (0, a1)] (sz, sl, tt td, cv c) ((3, 0), (sz, sl, tt td, cv x)) :=
  Ct.of (n := 0) (ls0 := [some (2, 111), some (0, a1)]) (by decide) rfl rfl ⟨by decide, by decide⟩ (Nat.le_of_ble_eq_true rfl) rfl ⟨Nat.le_refl _, Nat.le_refl _⟩ (show (3 : Nat) ≠ 9 by decide) (fun Γ => sX4_errs a1 c x h rfl)
theorem flX4_84 : FL RX4 84 3 39 := ⟨_, _, _, cf3, by decide, q1283⟩
theorem flX4_275 : FL RX4 275 3 38 := ⟨_, _, _, cf3, by decide, q1282⟩
theorem flX4_87 : FL RX4 87 3 40 := ⟨_, _, _, cf3, by decide, q1284⟩
theorem fpX4_275 (nm : String) : FP RX4 275 3 38 nm := ⟨_, _, _, cf3, by decide, q1282, Or.inl rfl⟩
theorem fpX4_275t : fty 3 38 ≠ .boolean ∧ fty 3 38 ≠ .byte ∧ fty 3 38 ≠ .char ∧ fty 3 38 ≠ .short := by decide
abbrev muX4_emits : MI := (cX4_emits, RX4, 3, none, 1, "emits")
noncomputable def fX4_emits (a1 : Int) (a2 : Int) (c : CC) : Option CC :=
  gd ((0 : Int) ≤ c 111 38 ∧ c 111 38 < 400) <| bd (up2 c 134 (Int.toNat (c 111 38)) a1) fun c_1 =>
   gd ((0 : Int) ≤ c_1 111 38 ∧ c_1 111 38 < 400) <| bd (up2 c_1 135 (Int.toNat (c_1 111 38)) a2) fun c_2 =>
   gd (inR ((c_2 111 38) + 1)) <|
   bd (up2 c_2 111 38 ((c_2 111 38) + 1)) fun c_3 =>
   some c_3
theorem sX4_emits {G : GG} {Γ : Cx} {r : Vv × Wd} {sz sl : Nat} {td : TT} (a1 : Int) (a2 : Int) (c : CC) : Sm (fX4_emits a1 a2 c) (fun x => r = ((3, 0), (sz, sl, tt td, cv x))) (WP G Γ muX4_emits r 0 [some (2, 111), some (0, a1), some (0, a2)] [] (sz, sl, tt td, cv c)) := by
  unfold fX4_emits
  refine s_aload_n (pc := 0) dX4_emits_0 rfl ?_
  refine s_get (pc := 1) (a := 111) (v := 134) flX4_84 (t_111 _) rfl (g_111_39 _) rfl dX4_emits_1 ?_
  refine s_aload_n (pc := 4) dX4_emits_4 rfl ?_
  refine s_get (pc := 5) (a := 111) (v := c 111 38) flX4_275 (t_111 _) rfl (g_111_38 _) rfl dX4_emits_5 ?_
  refine s_iload_n (pc := 8) dX4_emits_8 rfl ?_
  refine s_iastM (pc := 9) (a := 134) (t_134 _) rfl kO_134 r_134 dX4_emits_9 (fun c_1 => ?_)
  refine s_aload_n (pc := 10) dX4_emits_10 rfl ?_
  refine s_get (pc := 11) (a := 111) (v := 135) flX4_87 (t_111 _) rfl (g_111_40 _) rfl dX4_emits_11 ?_
  refine s_aload_n (pc := 14) dX4_emits_14 rfl ?_
  refine s_get (pc := 15) (a := 111) (v := c_1 111 38) flX4_275 (t_111 _) rfl (g_111_38 _) rfl dX4_emits_15 ?_
  refine s_iload_n (pc := 18) dX4_emits_18 rfl ?_
  refine s_iastM (pc := 19) (a := 135) (t_135 _) rfl kO_135 r_135 dX4_emits_19 (fun c_2 => ?_)
  refine s_aload_n (pc := 20) dX4_emits_20 rfl ?_
  refine s_dup (pc := 21) (by decide : ¬ (2 : Nat) = 1) dX4_emits_21 ?_
  refine s_get (pc := 22) (a := 111) (v := c_2 111 38) flX4_275 (t_111 _) rfl (g_111_38 _) rfl dX4_emits_22 ?_
  refine s_iconst (pc := 25) dX4_emits_25 ?_
  refine s_iadd (pc := 26) dX4_emits_26 ?_
  refine s_putM (pc := 27) (a := 111) (fpX4_275 _) (t_111 _) rfl kO_111 n_111_38 rfl (fpX4_275t) dX4_emits_27 (fun c_3 => ?_)
  exact s_vret (pc := 30) dX4_emits_30 rfl (fun h => h)
theorem kX4_emits {G : GG} {sz sl : Nat} {td : TT} (a1 : Int) (a2 : Int) (c : CC) (x : CC) (h : fX4_emits a1 a2 c = some x) : Ct G yX4_emits muX4_emits [(2, 111), (0, a1), (0, a2)] (sz, sl, tt td, cv c) ((3, 0), (sz, sl, tt td, cv x)) :=
  Ct.of (n := 0) (ls0 := [some (2, 111), some (0, a1), some (0, a2)]) (by decide) rfl rfl ⟨by decide, by decide⟩ (Nat.le_of_ble_eq_true rfl) rfl ⟨Nat.le_refl _, Nat.le_refl _⟩ (show (3 : Nat) ≠ 9 by decide) (fun Γ => sX4_emits a1 a2 c x h rfl)
theorem flX4_63 : FL RX4 63 3 27 := ⟨_, _, _, cf3, by decide, q1271⟩
theorem flX4_278 : FL RX4 278 3 26 := ⟨_, _, _, cf3, by decide, q1270⟩
theorem fpX4_278 (nm : String) : FP RX4 278 3 26 nm := ⟨_, _, _, cf3, by decide, q1270, Or.inl rfl⟩
theorem fpX4_278t : fty 3 26 ≠ .boolean ∧ fty 3 26 ≠ .byte ∧ fty 3 26 ≠ .char ∧ fty 3 26 ≠ .short := by decide
abbrev muX4_opensFrame : MI := (cX4_opensFrame, RX4, 2, none, 1, "opensFrame")
noncomputable def fX4_opensFrame (a1 : Int) (c : CC) : Option CC :=
  gd ((0 : Int) ≤ c 111 26 ∧ c 111 26 < 40) <| bd (up2 c 127 (Int.toNat (c 111 26)) a1) fun c_1 =>
   gd (inR ((c_1 111 26) + 1)) <|
   bd (up2 c_1 111 26 ((c_1 111 26) + 1)) fun c_2 =>
   some c_2
theorem sX4_opensFrame {G : GG} {Γ : Cx} {r : Vv × Wd} {sz sl : Nat} {td : TT} (a1 : Int) (c : CC) : Sm (fX4_opensFrame a1 c) (fun x => r = ((3, 0), (sz, sl, tt td, cv x))) (WP G Γ muX4_opensFrame r 0 [some (2, 111), some (0, a1)] [] (sz, sl, tt td, cv c)) := by
  unfold fX4_opensFrame
  refine s_aload_n (pc := 0) dX4_opensFrame_0 rfl ?_
  refine s_get (pc := 1) (a := 111) (v := 127) flX4_63 (t_111 _) rfl (g_111_27 _) rfl dX4_opensFrame_1 ?_
  refine s_aload_n (pc := 4) dX4_opensFrame_4 rfl ?_
  refine s_get (pc := 5) (a := 111) (v := c 111 26) flX4_278 (t_111 _) rfl (g_111_26 _) rfl dX4_opensFrame_5 ?_
  refine s_iload_n (pc := 8) dX4_opensFrame_8 rfl ?_
  refine s_iastM (pc := 9) (a := 127) (t_127 _) rfl kO_127 r_127 dX4_opensFrame_9 (fun c_1 => ?_)
  refine s_aload_n (pc := 10) dX4_opensFrame_10 rfl ?_
  refine s_dup (pc := 11) (by decide : ¬ (2 : Nat) = 1) dX4_opensFrame_11 ?_
  refine s_get (pc := 12) (a := 111) (v := c_1 111 26) flX4_278 (t_111 _) rfl (g_111_26 _) rfl dX4_opensFrame_12 ?_
  refine s_iconst (pc := 15) dX4_opensFrame_15 ?_
  refine s_iadd (pc := 16) dX4_opensFrame_16 ?_
  refine s_putM (pc := 17) (a := 111) (fpX4_278 _) (t_111 _) rfl kO_111 n_111_26 rfl (fpX4_278t) dX4_opensFrame_17 (fun c_2 => ?_)
  exact s_vret (pc := 20) dX4_opensFrame_20 rfl (fun h => h)
theorem kX4_opensFrame {G : GG} {sz sl : Nat} {td : TT} (a1 : Int) (c : CC) (x : CC) (h : fX4_opensFrame a1 c = some x) : Ct G yX4_opensFrame muX4_opensFrame [(2, 111), (0, a1)] (sz, sl, tt td, cv c) ((3, 0), (sz, sl, tt td, cv x)) :=
  Ct.of (n := 0) (ls0 := [some (2, 111), some (0, a1)]) (by decide) rfl rfl ⟨by decide, by decide⟩ (Nat.le_of_ble_eq_true rfl) rfl ⟨Nat.le_refl _, Nat.le_refl _⟩ (show (3 : Nat) ≠ 9 by decide) (fun Γ => sX4_opensFrame a1 c x h rfl)
abbrev muX4_top : MI := (cX4_top, RX4, 1, some .int, 1, "top")
noncomputable def fX4_top  (c : CC) : Option Int :=
  gd (inR ((c 111 26) - 1)) <|
   gd ((0 : Int) ≤ (c 111 26) - 1 ∧ (c 111 26) - 1 < 40) <|
   some (c 127 (Int.toNat ((c 111 26) - 1)))
theorem sX4_top {G : GG} {Γ : Cx} {r : Vv × Wd} {sz sl : Nat} {td : TT}  (c : CC) : Sm (fX4_top  c) (fun x => r = ((0, x), (sz, sl, tt td, cv c))) (WP G Γ muX4_top r 0 [some (2, 111)] [] (sz, sl, tt td, cv c)) := by
  unfold fX4_top
  refine s_aload_n (pc := 0) dX4_top_0 rfl ?_
  refine s_get (pc := 1) (a := 111) (v := 127) flX4_63 (t_111 _) rfl (g_111_27 _) rfl dX4_top_1 ?_
  refine s_aload_n (pc := 4) dX4_top_4 rfl ?_
  refine s_get (pc := 5) (a := 111) (v := c 111 26) flX4_278 (t_111 _) rfl (g_111_26 _) rfl dX4_top_5 ?_
  refine s_iconst (pc := 8) dX4_top_8 ?_
  refine s_isub (pc := 9) dX4_top_9 ?_
  refine s_ialdM (pc := 10) (a := 127) (t_127 _) rfl r_127 dX4_top_10 ?_
  exact s_iret (pc := 11) dX4_top_11 rfl (fun h => h)
theorem kX4_top {G : GG} {sz sl : Nat} {td : TT}  (c : CC) (x : Int) (h : fX4_top  c = some x) : Ct G yX4_top muX4_top [(2, 111)] (sz, sl, tt td, cv c) ((0, x), (sz, sl, tt td, cv c)) :=
  Ct.of (n := 0) (ls0 := [some (2, 111)]) (by decide) rfl rfl ⟨by decide, by decide⟩ (Nat.le_of_ble_eq_true rfl) rfl ⟨Nat.le_refl _, Nat.le_refl _⟩ (show (0 : Nat) ≠ 9 by decide) (fun Γ => sX4_top  c x h rfl)
theorem flX4_281 : FL RX4 281 3 25 := ⟨_, _, _, cf3, by decide, q1269⟩
theorem fpX4_281 (nm : String) : FP RX4 281 3 25 nm := ⟨_, _, _, cf3, by decide, q1269, Or.inl rfl⟩
theorem fpX4_281t : fty 3 25 ≠ .boolean ∧ fty 3 25 ≠ .byte ∧ fty 3 25 ≠ .char ∧ fty 3 25 ≠ .short := by decide
theorem mvX4_287 : MV RX4 287 RX4 yX4_opensFrame muX4_opensFrame 1 := ⟨lw_V q1561 q1563 qs62 q129 q1564, by decide +kernel, by decide⟩
theorem mvX4_290 : MV RX4 290 RX4 yX4_next muX4_next 0 := ⟨lw_V q1513 q1515 qs57 q129 q1516, by decide +kernel, by decide⟩
theorem mvX4_284 : MV RX4 284 RX4 yX4_errs muX4_errs 1 := ⟨lw_V q1557 q1559 qs61 q129 q1560, by decide +kernel, by decide⟩
abbrev muX4_opensSign : MI := (cX4_opensSign, RX4, 2, some .boolean, 4, "opensSign")
noncomputable def fX4_opensSign (a1 : Int) (c : CC) : Option (Int × CC) :=
  if c 111 25 = 8 then
  (cl (fX4_errs 3 c) fun p_4 =>
   gd ((0 : Int) ≤ 0 ∧ (0 : Int) < 2) (some (0, p_4)))
  else
  (gd (inR ((c 111 25) + 1)) <|
   bd (up2 c 111 25 ((c 111 25) + 1)) fun c_1 =>
   cl (fX4_opensFrame a1 c_1) fun p_2 =>
   cl (fX4_next  p_2) fun p_3 =>
   gd ((0 : Int) ≤ 1 ∧ (1 : Int) < 2) (some (1, p_3)))
theorem sX4_opensSign {G : GG} {Γ : Cx} {r : Vv × Wd} {sz sl : Nat} {td : TT} (a1 : Int) (c : CC) : Sm (fX4_opensSign a1 c) (fun x => r = ((0, x.1), (sz, sl, tt td, cv x.2))) (WP G Γ muX4_opensSign r 0 [some (2, 111), some (0, a1)] [] (sz, sl, tt td, cv c)) := by
  unfold fX4_opensSign
  refine s_aload_n (pc := 0) dX4_opensSign_0 rfl ?_
  refine s_get (pc := 1) (a := 111) (v := c 111 25) flX4_281 (t_111 _) rfl (g_111_25 _) rfl dX4_opensSign_1 ?_
  refine s_bipush (pc := 4) dX4_opensSign_4 ?_
  refine s_icmp_ne (pc := 6) (tgt := 16) dX4_opensSign_6 rfl ?_ ?_
  · refine s_aload_n (pc := 16) dX4_opensSign_16 rfl ?_
    refine s_dup (pc := 17) (by decide : ¬ (2 : Nat) = 1) dX4_opensSign_17 ?_
    refine s_get (pc := 18) (a := 111) (v := c 111 25) flX4_281 (t_111 _) rfl (g_111_25 _) rfl dX4_opensSign_18 ?_
    refine s_iconst (pc := 21) dX4_opensSign_21 ?_
    refine s_iadd (pc := 22) dX4_opensSign_22 ?_
    refine s_putM (pc := 23) (a := 111) (fpX4_281 _) (t_111 _) rfl kO_111 n_111_25 rfl (fpX4_281t) dX4_opensSign_23 (fun c_1 => ?_)
    refine s_aload_n (pc := 26) dX4_opensSign_26 rfl ?_
    refine s_iload_n (pc := 27) dX4_opensSign_27 rfl ?_
    refine s_callV3 (pc := 28) (a := 111) (as := [(0, a1)]) (st := []) (rv := fun b => ((3, 0), (sz, sl, tt td, cv b))) (st3 := fun b => []) (w3 := fun b => (sz, sl, tt td, cv b)) mvX4_287 (fun b h => kX4_opensFrame a1 c_1 b h) rfl (by decide) (t_111 td) rfl rfl rfl (Nat.le_of_ble_eq_true rfl) (fun _ => Nat.le_of_ble_eq_true rfl) (fun _ => ⟨rfl, rfl⟩) dX4_opensSign_28 (fun p_2 => ?_)
    refine s_aload_n (pc := 31) dX4_opensSign_31 rfl ?_
    refine s_callV3 (pc := 32) (a := 111) (as := []) (st := []) (rv := fun b => ((3, 0), (sz, sl, tt td, cv b))) (st3 := fun b => []) (w3 := fun b => (sz, sl, tt td, cv b)) mvX4_290 (fun b h => kX4_next  p_2 b h) rfl (by decide) (t_111 td) rfl rfl rfl (Nat.le_of_ble_eq_true rfl) (fun _ => Nat.le_of_ble_eq_true rfl) (fun _ => ⟨rfl, rfl⟩) dX4_opensSign_32 (fun p_3 => ?_)
    refine s_iconst (pc := 35) dX4_opensSign_35 ?_
    exact s_zret (pc := 36) dX4_opensSign_36 rfl (fun h => h)
  refine s_aload_n (pc := 9) dX4_opensSign_9 rfl ?_
  refine s_iconst (pc := 10) dX4_opensSign_10 ?_
  refine s_callV3 (pc := 11) (a := 111) (as := [(0, 3)]) (st := []) (rv := fun b => ((3, 0), (sz, sl, tt td, cv b))) (st3 := fun b => []) (w3 := fun b => (sz, sl, tt td, cv b)) mvX4_284 (fun b h => kX4_errs 3 c b h) rfl (by decide) (t_111 td) rfl rfl rfl (Nat.le_of_ble_eq_true rfl) (fun _ => Nat.le_of_ble_eq_true rfl) (fun _ => ⟨rfl, rfl⟩) dX4_opensSign_11 (fun p_4 => ?_)
  refine s_iconst (pc := 14) dX4_opensSign_14 ?_
  exact s_zret (pc := 15) dX4_opensSign_15 rfl (fun h => h)
theorem kX4_opensSign {G : GG} {sz sl : Nat} {td : TT} (a1 : Int) (c : CC) (x : (Int × CC)) (h : fX4_opensSign a1 c = some x) : Ct G yX4_opensSign muX4_opensSign [(2, 111), (0, a1)] (sz, sl, tt td, cv c) ((0, x.1), (sz, sl, tt td, cv x.2)) :=
  Ct.of (n := 0) (ls0 := [some (2, 111), some (0, a1)]) (by decide) rfl rfl ⟨by decide, by decide⟩ (Nat.le_of_ble_eq_true rfl) rfl ⟨Nat.le_refl _, Nat.le_refl _⟩ (show (0 : Nat) ≠ 9 by decide) (fun Γ => sX4_opensSign a1 c x h rfl)
abbrev muX4_rank : MI := (cX4_rank, RX4, 1, some .int, 1, "rank")
noncomputable def fX4_rank (a0 : Int) : Option Int :=
  if a0 = 407 then
  (some 1)
  else
  (if a0 = 406 then
  (some 2)
  else
  (if a0 = 43 then
  (some 3)
  else
  (if a0 = 45 then
  (some 3)
  else
  (some 4))))
theorem sX4_rank {G : GG} {Γ : Cx} {r : Vv × Wd} {sz sl : Nat} {td : TT} (a0 : Int) (c : CC) : Sm (fX4_rank a0) (fun x => r = ((0, x), (sz, sl, tt td, cv c))) (WP G Γ muX4_rank r 0 [some (0, a0)] [] (sz, sl, tt td, cv c)) := by
  unfold fX4_rank
  refine s_iload_n (pc := 0) dX4_rank_0 rfl ?_
  refine s_sipush (pc := 1) dX4_rank_1 ?_
  refine s_icmp_ne (pc := 4) (tgt := 11) dX4_rank_4 rfl ?_ ?_
  · refine s_iload_n (pc := 11) dX4_rank_11 rfl ?_
    refine s_sipush (pc := 12) dX4_rank_12 ?_
    refine s_icmp_ne (pc := 15) (tgt := 22) dX4_rank_15 rfl ?_ ?_
    · refine s_iload_n (pc := 22) dX4_rank_22 rfl ?_
      refine s_bipush (pc := 23) dX4_rank_23 ?_
      refine s_icmp_eq (pc := 25) (tgt := 34) dX4_rank_25 rfl ?_ ?_
      · refine s_iconst (pc := 34) dX4_rank_34 ?_
        refine s_goto (pc := 35) (tgt := 39) dX4_rank_35 rfl ?_
        exact s_iret (pc := 39) dX4_rank_39 rfl (fun h => h)
      refine s_iload_n (pc := 28) dX4_rank_28 rfl ?_
      refine s_bipush (pc := 29) dX4_rank_29 ?_
      refine s_icmp_ne (pc := 31) (tgt := 38) dX4_rank_31 rfl ?_ ?_
      · refine s_iconst (pc := 38) dX4_rank_38 ?_
        exact s_iret (pc := 39) dX4_rank_39 rfl (fun h => h)
      refine s_iconst (pc := 34) dX4_rank_34 ?_
      refine s_goto (pc := 35) (tgt := 39) dX4_rank_35 rfl ?_
      exact s_iret (pc := 39) dX4_rank_39 rfl (fun h => h)
    refine s_iconst (pc := 18) dX4_rank_18 ?_
    refine s_goto (pc := 19) (tgt := 39) dX4_rank_19 rfl ?_
    exact s_iret (pc := 39) dX4_rank_39 rfl (fun h => h)
  refine s_iconst (pc := 7) dX4_rank_7 ?_
  refine s_goto (pc := 8) (tgt := 39) dX4_rank_8 rfl ?_
  exact s_iret (pc := 39) dX4_rank_39 rfl (fun h => h)
theorem kX4_rank {G : GG} {sz sl : Nat} {td : TT} (a0 : Int) (c : CC) (x : Int) (h : fX4_rank a0 = some x) : Ct G yX4_rank muX4_rank [(0, a0)] (sz, sl, tt td, cv c) ((0, x), (sz, sl, tt td, cv c)) :=
  Ct.of (n := 0) (ls0 := [some (0, a0)]) (by decide) rfl rfl ⟨by decide, by decide⟩ (Nat.le_of_ble_eq_true rfl) rfl ⟨Nat.le_refl _, Nat.le_refl _⟩ (show (0 : Nat) ≠ 9 by decide) (fun Γ => sX4_rank a0 c x h rfl)
theorem flX4_293 : FL RX4 293 3 29 := ⟨_, _, _, cf3, by decide, q1273⟩
theorem flX4_72 : FL RX4 72 3 31 := ⟨_, _, _, cf3, by decide, q1275⟩
theorem flX4_69 : FL RX4 69 3 30 := ⟨_, _, _, cf3, by decide, q1274⟩
theorem msX4_296 : MS RX4 296 yX4_rank muX4_rank 1 := ⟨lw_S q1593 q1594 q129 q1595, by decide +kernel, by decide⟩
theorem fpX4_293 (nm : String) : FP RX4 293 3 29 nm := ⟨_, _, _, cf3, by decide, q1273, Or.inl rfl⟩
theorem fpX4_293t : fty 3 29 ≠ .boolean ∧ fty 3 29 ≠ .byte ∧ fty 3 29 ≠ .char ∧ fty 3 29 ≠ .short := by decide
theorem mvX4_300 : MV RX4 300 RX4 yX4_emits muX4_emits 2 := ⟨lw_V q1569 q1571 qs64 q129 q1572, by decide +kernel, by decide⟩
abbrev muX4_works : MI := (cX4_works, RX4, 2, none, 2, "works")
abbrev gX4_works_l0 (G : GG) (Γ : Cx) (r : Vv × Wd) (sz sl : Nat) (td : TT) (v1 : Int) : (CC) → Prop := fun s => WP G Γ muX4_works r 0 [some (2, 111), some (0, v1)] [] (sz, sl, tt td, cv s)
abbrev eX4_works_l0 (G : GG) (Γ : Cx) (r : Vv × Wd) (sz sl : Nat) (td : TT) (v1 : Int) : (CC) → Prop := (fun s => WP G Γ muX4_works r 70 [none, none] [] (sz, sl, tt td, cv s))
noncomputable def fX4_works_l0 (v1 : Int) (c : CC) : Option ((CC) ⊕ (CC)) :=
  if (0 : Int) < c 111 29 then
  (gd (inR ((c 111 29) - 1)) <|
   gd ((0 : Int) ≤ (c 111 29) - 1 ∧ (c 111 29) - 1 < 80) <|
   if c 130 (Int.toNat ((c 111 29) - 1)) = c 111 26 then
  (gd (inR ((c 111 29) - 1)) <|
   gd ((0 : Int) ≤ (c 111 29) - 1 ∧ (c 111 29) - 1 < 80) <|
   cl (fX4_rank (c 129 (Int.toNat ((c 111 29) - 1)))) fun p_1 =>
   if p_1 < v1 then
  (some (.inr c))
  else
  (gd (inR ((c 111 29) - 1)) <|
   bd (up2 c 111 29 ((c 111 29) - 1)) fun c_2 =>
   gd ((0 : Int) ≤ c_2 111 29 ∧ c_2 111 29 < 80) <|
   cl (fX4_emits (c_2 129 (Int.toNat (c_2 111 29))) 0 c_2) fun p_3 =>
   some (.inl p_3)))
  else
  (some (.inr c)))
  else
  (some (.inr c))
theorem sX4_works_l0 {G : GG} {Γ : Cx} {r : Vv × Wd} {sz sl : Nat} {td : TT} (v1 : Int) (c : CC) : Sm (fX4_works_l0 v1 c) (fun x => Sum.elim (gX4_works_l0 G Γ r sz sl td v1) (eX4_works_l0 G Γ r sz sl td v1) x) (gX4_works_l0 G Γ r sz sl td v1 c) := by
  show Sm _ _ (WP G Γ muX4_works r 0 [some (2, 111), some (0, v1)] [] (sz, sl, tt td, cv c))
  unfold fX4_works_l0
  refine s_aload_n (pc := 0) dX4_works_0 rfl ?_
  refine s_get (pc := 1) (a := 111) (v := c 111 29) flX4_293 (t_111 _) rfl (g_111_29 _) rfl dX4_works_1 ?_
  refine s_if_le (pc := 4) (tgt := 70) dX4_works_4 rfl ?_ ?_
  · refine s_wk [false, false] (ls' := [none, none]) rfl ?_
    exact Sm.some (fun h => h)
  refine s_aload_n (pc := 7) dX4_works_7 rfl ?_
  refine s_get (pc := 8) (a := 111) (v := 130) flX4_72 (t_111 _) rfl (g_111_31 _) rfl dX4_works_8 ?_
  refine s_aload_n (pc := 11) dX4_works_11 rfl ?_
  refine s_get (pc := 12) (a := 111) (v := c 111 29) flX4_293 (t_111 _) rfl (g_111_29 _) rfl dX4_works_12 ?_
  refine s_iconst (pc := 15) dX4_works_15 ?_
  refine s_isub (pc := 16) dX4_works_16 ?_
  refine s_ialdM (pc := 17) (a := 130) (t_130 _) rfl r_130 dX4_works_17 ?_
  refine s_aload_n (pc := 18) dX4_works_18 rfl ?_
  refine s_get (pc := 19) (a := 111) (v := c 111 26) flX4_278 (t_111 _) rfl (g_111_26 _) rfl dX4_works_19 ?_
  refine s_icmp_ne (pc := 22) (tgt := 70) dX4_works_22 rfl ?_ ?_
  · refine s_wk [false, false] (ls' := [none, none]) rfl ?_
    exact Sm.some (fun h => h)
  refine s_aload_n (pc := 25) dX4_works_25 rfl ?_
  refine s_get (pc := 26) (a := 111) (v := 129) flX4_69 (t_111 _) rfl (g_111_30 _) rfl dX4_works_26 ?_
  refine s_aload_n (pc := 29) dX4_works_29 rfl ?_
  refine s_get (pc := 30) (a := 111) (v := c 111 29) flX4_293 (t_111 _) rfl (g_111_29 _) rfl dX4_works_30 ?_
  refine s_iconst (pc := 33) dX4_works_33 ?_
  refine s_isub (pc := 34) dX4_works_34 ?_
  refine s_ialdM (pc := 35) (a := 129) (t_129 _) rfl r_129 dX4_works_35 ?_
  refine s_callS3 (pc := 36) (as := [(0, c 129 (Int.toNat ((c 111 29) - 1)))]) (st := []) (rv := fun b => ((0, b), (sz, sl, tt td, cv c))) (st3 := fun b => [(0, b)]) (w3 := fun b => (sz, sl, tt td, cv c)) msX4_296 (fun b h => kX4_rank (c 129 (Int.toNat ((c 111 29) - 1))) c b h) rfl (by decide) rfl (Nat.le_of_ble_eq_true rfl) (fun _ => Nat.le_of_ble_eq_true rfl) (fun _ => ⟨rfl, rfl⟩) dX4_works_36 (fun p_1 => ?_)
  refine s_iload_n (pc := 39) dX4_works_39 rfl ?_
  refine s_icmp_lt (pc := 40) (tgt := 70) dX4_works_40 rfl ?_ ?_
  · refine s_wk [false, false] (ls' := [none, none]) rfl ?_
    exact Sm.some (fun h => h)
  refine s_aload_n (pc := 43) dX4_works_43 rfl ?_
  refine s_dup (pc := 44) (by decide : ¬ (2 : Nat) = 1) dX4_works_44 ?_
  refine s_get (pc := 45) (a := 111) (v := c 111 29) flX4_293 (t_111 _) rfl (g_111_29 _) rfl dX4_works_45 ?_
  refine s_iconst (pc := 48) dX4_works_48 ?_
  refine s_isub (pc := 49) dX4_works_49 ?_
  refine s_putM (pc := 50) (a := 111) (fpX4_293 _) (t_111 _) rfl kO_111 n_111_29 rfl (fpX4_293t) dX4_works_50 (fun c_2 => ?_)
  refine s_aload_n (pc := 53) dX4_works_53 rfl ?_
  refine s_aload_n (pc := 54) dX4_works_54 rfl ?_
  refine s_get (pc := 55) (a := 111) (v := 129) flX4_69 (t_111 _) rfl (g_111_30 _) rfl dX4_works_55 ?_
  refine s_aload_n (pc := 58) dX4_works_58 rfl ?_
  refine s_get (pc := 59) (a := 111) (v := c_2 111 29) flX4_293 (t_111 _) rfl (g_111_29 _) rfl dX4_works_59 ?_
  refine s_ialdM (pc := 62) (a := 129) (t_129 _) rfl r_129 dX4_works_62 ?_
  refine s_iconst (pc := 63) dX4_works_63 ?_
  refine s_callV3 (pc := 64) (a := 111) (as := [(0, c_2 129 (Int.toNat (c_2 111 29))), (0, 0)]) (st := []) (rv := fun b => ((3, 0), (sz, sl, tt td, cv b))) (st3 := fun b => []) (w3 := fun b => (sz, sl, tt td, cv b)) mvX4_300 (fun b h => kX4_emits (c_2 129 (Int.toNat (c_2 111 29))) 0 c_2 b h) rfl (by decide) (t_111 td) rfl rfl rfl (Nat.le_of_ble_eq_true rfl) (fun _ => Nat.le_of_ble_eq_true rfl) (fun _ => ⟨rfl, rfl⟩) dX4_works_64 (fun p_3 => ?_)
  refine s_goto (pc := 67) (tgt := 0) dX4_works_67 rfl ?_
  exact Sm.some (fun h => h)
noncomputable def fX4_works (a1 : Int) (c : CC) : Option CC :=
  cl (wh (fun s => fX4_works_l0 a1  s) c) (fun e_4 =>
  some e_4)
theorem sX4_works {G : GG} {Γ : Cx} {r : Vv × Wd} {sz sl : Nat} {td : TT} (a1 : Int) (c : CC) : Sm (fX4_works a1 c) (fun x => r = ((3, 0), (sz, sl, tt td, cv x))) (WP G Γ muX4_works r 0 [some (2, 111), some (0, a1)] [] (sz, sl, tt td, cv c)) := by
  unfold fX4_works
  refine s_loop (g := gX4_works_l0 G Γ r sz sl td a1) (Ex := eX4_works_l0 G Γ r sz sl td a1) (s0 := c) (fun s => sX4_works_l0 a1  s) ?_
  intro e_4
  show Sm _ _ (WP G Γ muX4_works r 70 [none, none] [] (sz, sl, tt td, cv e_4))
  exact s_vret (pc := 70) dX4_works_70 rfl (fun h => h)
theorem kX4_works {G : GG} {sz sl : Nat} {td : TT} (a1 : Int) (c : CC) (x : CC) (h : fX4_works a1 c = some x) : Ct G yX4_works muX4_works [(2, 111), (0, a1)] (sz, sl, tt td, cv c) ((3, 0), (sz, sl, tt td, cv x)) :=
  Ct.of (n := 0) (ls0 := [some (2, 111), some (0, a1)]) (by decide) rfl rfl ⟨by decide, by decide⟩ (Nat.le_of_ble_eq_true rfl) rfl ⟨Nat.le_refl _, Nat.le_refl _⟩ (show (3 : Nat) ≠ 9 by decide) (fun Γ => sX4_works a1 c x h rfl)
