/-! LAYER 2: methods of HeldTongueModel, by gen/decomp.py -/
set_option maxRecDepth 100000
theorem mvX4_304 : MV RX4 304 RX4 yX4_works muX4_works 1 := ⟨lw_V q1596 q1598 qs70 q129 q1599, by decide +kernel, by decide⟩
abbrev muX4_waitsFor : MI := (cX4_waitsFor, RX4, 2, none, 4, "waitsFor")
noncomputable def fX4_waitsFor (a1 : Int) (c : CC) : Option CC :=
  cl (fX4_rank a1) fun p_1 =>
   cl (fX4_works p_1 c) fun p_2 =>
   gd ((0 : Int) ≤ p_2 111 29 ∧ p_2 111 29 < 80) <| bd (up2 p_2 129 (Int.toNat (p_2 111 29)) a1) fun c_3 =>
   gd ((0 : Int) ≤ c_3 111 29 ∧ c_3 111 29 < 80) <| bd (up2 c_3 130 (Int.toNat (c_3 111 29)) (c_3 111 26)) fun c_4 =>
   gd (inR ((c_4 111 29) + 1)) <|
   bd (up2 c_4 111 29 ((c_4 111 29) + 1)) fun c_5 =>
   cl (fX4_next  c_5) fun p_6 =>
   some p_6
theorem sX4_waitsFor {G : GG} {Γ : Cx} {r : Vv × Wd} {sz sl : Nat} {td : TT} (a1 : Int) (c : CC) : Sm (fX4_waitsFor a1 c) (fun x => r = ((3, 0), (sz, sl, tt td, cv x))) (WP G Γ muX4_waitsFor r 0 [some (2, 111), some (0, a1)] [] (sz, sl, tt td, cv c)) := by
  unfold fX4_waitsFor
  refine s_aload_n (pc := 0) dX4_waitsFor_0 rfl ?_
  refine s_iload_n (pc := 1) dX4_waitsFor_1 rfl ?_
  refine s_callS3 (pc := 2) (as := [(0, a1)]) (st := [(2, 111)]) (rv := fun b => ((0, b), (sz, sl, tt td, cv c))) (st3 := fun b => [(0, b), (2, 111)]) (w3 := fun b => (sz, sl, tt td, cv c)) msX4_296 (fun b h => kX4_rank a1 c b h) rfl (by decide) rfl (Nat.le_of_ble_eq_true rfl) (fun _ => Nat.le_of_ble_eq_true rfl) (fun _ => ⟨rfl, rfl⟩) dX4_waitsFor_2 (fun p_1 => ?_)
  refine s_callV3 (pc := 5) (a := 111) (as := [(0, p_1)]) (st := []) (rv := fun b => ((3, 0), (sz, sl, tt td, cv b))) (st3 := fun b => []) (w3 := fun b => (sz, sl, tt td, cv b)) mvX4_304 (fun b h => kX4_works p_1 c b h) rfl (by decide) (t_111 td) rfl rfl rfl (Nat.le_of_ble_eq_true rfl) (fun _ => Nat.le_of_ble_eq_true rfl) (fun _ => ⟨rfl, rfl⟩) dX4_waitsFor_5 (fun p_2 => ?_)
  refine s_aload_n (pc := 8) dX4_waitsFor_8 rfl ?_
  refine s_get (pc := 9) (a := 111) (v := 129) flX4_69 (t_111 _) rfl (g_111_30 _) rfl dX4_waitsFor_9 ?_
  refine s_aload_n (pc := 12) dX4_waitsFor_12 rfl ?_
  refine s_get (pc := 13) (a := 111) (v := p_2 111 29) flX4_293 (t_111 _) rfl (g_111_29 _) rfl dX4_waitsFor_13 ?_
  refine s_iload_n (pc := 16) dX4_waitsFor_16 rfl ?_
  refine s_iastM (pc := 17) (a := 129) (t_129 _) rfl kO_129 r_129 dX4_waitsFor_17 (fun c_3 => ?_)
  refine s_aload_n (pc := 18) dX4_waitsFor_18 rfl ?_
  refine s_get (pc := 19) (a := 111) (v := 130) flX4_72 (t_111 _) rfl (g_111_31 _) rfl dX4_waitsFor_19 ?_
  refine s_aload_n (pc := 22) dX4_waitsFor_22 rfl ?_
  refine s_get (pc := 23) (a := 111) (v := c_3 111 29) flX4_293 (t_111 _) rfl (g_111_29 _) rfl dX4_waitsFor_23 ?_
  refine s_aload_n (pc := 26) dX4_waitsFor_26 rfl ?_
  refine s_get (pc := 27) (a := 111) (v := c_3 111 26) flX4_278 (t_111 _) rfl (g_111_26 _) rfl dX4_waitsFor_27 ?_
  refine s_iastM (pc := 30) (a := 130) (t_130 _) rfl kO_130 r_130 dX4_waitsFor_30 (fun c_4 => ?_)
  refine s_aload_n (pc := 31) dX4_waitsFor_31 rfl ?_
  refine s_dup (pc := 32) (by decide : ¬ (2 : Nat) = 1) dX4_waitsFor_32 ?_
  refine s_get (pc := 33) (a := 111) (v := c_4 111 29) flX4_293 (t_111 _) rfl (g_111_29 _) rfl dX4_waitsFor_33 ?_
  refine s_iconst (pc := 36) dX4_waitsFor_36 ?_
  refine s_iadd (pc := 37) dX4_waitsFor_37 ?_
  refine s_putM (pc := 38) (a := 111) (fpX4_293 _) (t_111 _) rfl kO_111 n_111_29 rfl (fpX4_293t) dX4_waitsFor_38 (fun c_5 => ?_)
  refine s_aload_n (pc := 41) dX4_waitsFor_41 rfl ?_
  refine s_callV3 (pc := 42) (a := 111) (as := []) (st := []) (rv := fun b => ((3, 0), (sz, sl, tt td, cv b))) (st3 := fun b => []) (w3 := fun b => (sz, sl, tt td, cv b)) mvX4_290 (fun b h => kX4_next  c_5 b h) rfl (by decide) (t_111 td) rfl rfl rfl (Nat.le_of_ble_eq_true rfl) (fun _ => Nat.le_of_ble_eq_true rfl) (fun _ => ⟨rfl, rfl⟩) dX4_waitsFor_42 (fun p_6 => ?_)
  exact s_vret (pc := 45) dX4_waitsFor_45 rfl (fun h => h)
theorem kX4_waitsFor {G : GG} {sz sl : Nat} {td : TT} (a1 : Int) (c : CC) (x : CC) (h : fX4_waitsFor a1 c = some x) : Ct G yX4_waitsFor muX4_waitsFor [(2, 111), (0, a1)] (sz, sl, tt td, cv c) ((3, 0), (sz, sl, tt td, cv x)) :=
  Ct.of (n := 0) (ls0 := [some (2, 111), some (0, a1)]) (by decide) rfl rfl ⟨by decide, by decide⟩ (Nat.le_of_ble_eq_true rfl) rfl ⟨Nat.le_refl _, Nat.le_refl _⟩ (show (3 : Nat) ≠ 9 by decide) (fun Γ => sX4_waitsFor a1 c x h rfl)
theorem mvX4_307 : MV RX4 307 RX4 yX4_isWord muX4_isWord 1 := ⟨lw_V q1549 q1551 qs59 q129 q1552, by decide +kernel, by decide⟩
theorem fpX4_313 (nm : String) : FP RX4 313 3 32 nm := ⟨_, _, _, cf3, by decide, q1276, Or.inl rfl⟩
theorem fpX4_313t : fty 3 32 ≠ .boolean ∧ fty 3 32 ≠ .byte ∧ fty 3 32 ≠ .char ∧ fty 3 32 ≠ .short := by decide
theorem mvX4_310 : MV RX4 310 RX4 yX4_opensSign muX4_opensSign 1 := ⟨lw_V q1553 q1555 qs60 q129 q1556, by decide +kernel, by decide⟩
abbrev muX4_asks : MI := (cX4_asks, RX4, 2, none, 5, "asks")
noncomputable def fX4_asks  (c : CC) : Option CC :=
  cl (fX4_isWord 12 c) fun p_1 =>
   if p_1 = 0 then
  (cl (fX4_opensFrame 4 c) fun p_2 =>
   bd (up2 p_2 111 32 1) fun c_3 =>
   some c_3)
  else
  (cl (fX4_opensSign 3 c) fun p_4 =>
   some p_4.2)
theorem sX4_asks {G : GG} {Γ : Cx} {r : Vv × Wd} {sz sl : Nat} {td : TT}  (c : CC) : Sm (fX4_asks  c) (fun x => r = ((3, 0), (sz, sl, tt td, cv x))) (WP G Γ muX4_asks r 0 [some (2, 111), none] [] (sz, sl, tt td, cv c)) := by
  unfold fX4_asks
  refine s_aload_n (pc := 0) dX4_asks_0 rfl ?_
  refine s_bipush (pc := 1) dX4_asks_1 ?_
  refine s_callV3 (pc := 3) (a := 111) (as := [(0, 12)]) (st := []) (rv := fun b => ((0, b), (sz, sl, tt td, cv c))) (st3 := fun b => [(0, b)]) (w3 := fun b => (sz, sl, tt td, cv c)) mvX4_307 (fun b h => kX4_isWord 12 c b h) rfl (by decide) (t_111 td) rfl rfl rfl (Nat.le_of_ble_eq_true rfl) (fun _ => Nat.le_of_ble_eq_true rfl) (fun _ => ⟨rfl, rfl⟩) dX4_asks_3 (fun p_1 => ?_)
  refine s_if_eq (pc := 6) (tgt := 18) dX4_asks_6 rfl ?_ ?_
  · refine s_aload_n (pc := 18) dX4_asks_18 rfl ?_
    refine s_iconst (pc := 19) dX4_asks_19 ?_
    refine s_callV3 (pc := 20) (a := 111) (as := [(0, 4)]) (st := []) (rv := fun b => ((3, 0), (sz, sl, tt td, cv b))) (st3 := fun b => []) (w3 := fun b => (sz, sl, tt td, cv b)) mvX4_287 (fun b h => kX4_opensFrame 4 c b h) rfl (by decide) (t_111 td) rfl rfl rfl (Nat.le_of_ble_eq_true rfl) (fun _ => Nat.le_of_ble_eq_true rfl) (fun _ => ⟨rfl, rfl⟩) dX4_asks_20 (fun p_2 => ?_)
    refine s_aload_n (pc := 23) dX4_asks_23 rfl ?_
    refine s_iconst (pc := 24) dX4_asks_24 ?_
    refine s_putM (pc := 25) (a := 111) (fpX4_313 _) (t_111 _) rfl kO_111 n_111_32 rfl (fpX4_313t) dX4_asks_25 (fun c_3 => ?_)
    exact s_vret (pc := 28) dX4_asks_28 rfl (fun h => h)
  refine s_aload_n (pc := 9) dX4_asks_9 rfl ?_
  refine s_iconst (pc := 10) dX4_asks_10 ?_
  refine s_callV3 (pc := 11) (a := 111) (as := [(0, 3)]) (st := []) (rv := fun b => ((0, b.1), (sz, sl, tt td, cv b.2))) (st3 := fun b => [(0, b.1)]) (w3 := fun b => (sz, sl, tt td, cv b.2)) mvX4_310 (fun b h => kX4_opensSign 3 c b h) rfl (by decide) (t_111 td) rfl rfl rfl (Nat.le_of_ble_eq_true rfl) (fun _ => Nat.le_of_ble_eq_true rfl) (fun _ => ⟨rfl, rfl⟩) dX4_asks_11 (fun p_4 => ?_)
  refine s_istore_nD (pc := 14) (ls' := [some (2, 111), some (0, p_4.1)]) dX4_asks_14 rfl (Nat.le_of_ble_eq_true rfl) ?_
  refine s_goto (pc := 15) (tgt := 28) dX4_asks_15 rfl ?_
  exact s_vret (pc := 28) dX4_asks_28 rfl (fun h => h)
theorem kX4_asks {G : GG} {sz sl : Nat} {td : TT}  (c : CC) (x : CC) (h : fX4_asks  c = some x) : Ct G yX4_asks muX4_asks [(2, 111)] (sz, sl, tt td, cv c) ((3, 0), (sz, sl, tt td, cv x)) :=
  Ct.of (n := 1) (ls0 := [some (2, 111), none]) (by decide) rfl rfl ⟨by decide, by decide⟩ (Nat.le_of_ble_eq_true rfl) rfl ⟨Nat.le_refl _, Nat.le_refl _⟩ (show (3 : Nat) ≠ 9 by decide) (fun Γ => sX4_asks  c x h rfl)
theorem mvX4_325 : MV RX4 325 RX4 yX4_top muX4_top 0 := ⟨lw_V q1577 q1579 qs66 q129 q1580, by decide +kernel, by decide⟩
abbrev muX4_oneIsOver : MI := (cX4_oneIsOver, RX4, 1, none, 2, "oneIsOver")
abbrev gX4_oneIsOver_l0 (G : GG) (Γ : Cx) (r : Vv × Wd) (sz sl : Nat) (td : TT)  : (CC) → Prop := fun s => WP G Γ muX4_oneIsOver r 0 [some (2, 111)] [] (sz, sl, tt td, cv s)
abbrev eX4_oneIsOver_l0 (G : GG) (Γ : Cx) (r : Vv × Wd) (sz sl : Nat) (td : TT)  : (CC) → Prop := (fun s => WP G Γ muX4_oneIsOver r 40 [some (2, 111)] [] (sz, sl, tt td, cv s))
noncomputable def fX4_oneIsOver_l0  (c : CC) : Option ((CC) ⊕ (CC)) :=
  cl (fX4_top  c) fun p_1 =>
   if p_1 = 7 then
  (gd (inR ((c 111 26) - 1)) <|
   bd (up2 c 111 26 ((c 111 26) - 1)) fun c_2 =>
   gd (inR ((c_2 111 25) - 1)) <|
   bd (up2 c_2 111 25 ((c_2 111 25) - 1)) fun c_3 =>
   cl (fX4_emits 402 0 c_3) fun p_4 =>
   some (.inl p_4))
  else
  (some (.inr c))
theorem sX4_oneIsOver_l0 {G : GG} {Γ : Cx} {r : Vv × Wd} {sz sl : Nat} {td : TT}  (c : CC) : Sm (fX4_oneIsOver_l0  c) (fun x => Sum.elim (gX4_oneIsOver_l0 G Γ r sz sl td ) (eX4_oneIsOver_l0 G Γ r sz sl td ) x) (gX4_oneIsOver_l0 G Γ r sz sl td  c) := by
  show Sm _ _ (WP G Γ muX4_oneIsOver r 0 [some (2, 111)] [] (sz, sl, tt td, cv c))
  unfold fX4_oneIsOver_l0
  refine s_aload_n (pc := 0) dX4_oneIsOver_0 rfl ?_
  refine s_callV3 (pc := 1) (a := 111) (as := []) (st := []) (rv := fun b => ((0, b), (sz, sl, tt td, cv c))) (st3 := fun b => [(0, b)]) (w3 := fun b => (sz, sl, tt td, cv c)) mvX4_325 (fun b h => kX4_top  c b h) rfl (by decide) (t_111 td) rfl rfl rfl (Nat.le_of_ble_eq_true rfl) (fun _ => Nat.le_of_ble_eq_true rfl) (fun _ => ⟨rfl, rfl⟩) dX4_oneIsOver_1 (fun p_1 => ?_)
  refine s_bipush (pc := 4) dX4_oneIsOver_4 ?_
  refine s_icmp_ne (pc := 6) (tgt := 40) dX4_oneIsOver_6 rfl ?_ ?_
  · exact Sm.some (fun h => h)
  refine s_aload_n (pc := 9) dX4_oneIsOver_9 rfl ?_
  refine s_dup (pc := 10) (by decide : ¬ (2 : Nat) = 1) dX4_oneIsOver_10 ?_
  refine s_get (pc := 11) (a := 111) (v := c 111 26) flX4_278 (t_111 _) rfl (g_111_26 _) rfl dX4_oneIsOver_11 ?_
  refine s_iconst (pc := 14) dX4_oneIsOver_14 ?_
  refine s_isub (pc := 15) dX4_oneIsOver_15 ?_
  refine s_putM (pc := 16) (a := 111) (fpX4_278 _) (t_111 _) rfl kO_111 n_111_26 rfl (fpX4_278t) dX4_oneIsOver_16 (fun c_2 => ?_)
  refine s_aload_n (pc := 19) dX4_oneIsOver_19 rfl ?_
  refine s_dup (pc := 20) (by decide : ¬ (2 : Nat) = 1) dX4_oneIsOver_20 ?_
  refine s_get (pc := 21) (a := 111) (v := c_2 111 25) flX4_281 (t_111 _) rfl (g_111_25 _) rfl dX4_oneIsOver_21 ?_
  refine s_iconst (pc := 24) dX4_oneIsOver_24 ?_
  refine s_isub (pc := 25) dX4_oneIsOver_25 ?_
  refine s_putM (pc := 26) (a := 111) (fpX4_281 _) (t_111 _) rfl kO_111 n_111_25 rfl (fpX4_281t) dX4_oneIsOver_26 (fun c_3 => ?_)
  refine s_aload_n (pc := 29) dX4_oneIsOver_29 rfl ?_
  refine s_sipush (pc := 30) dX4_oneIsOver_30 ?_
  refine s_iconst (pc := 33) dX4_oneIsOver_33 ?_
  refine s_callV3 (pc := 34) (a := 111) (as := [(0, 402), (0, 0)]) (st := []) (rv := fun b => ((3, 0), (sz, sl, tt td, cv b))) (st3 := fun b => []) (w3 := fun b => (sz, sl, tt td, cv b)) mvX4_300 (fun b h => kX4_emits 402 0 c_3 b h) rfl (by decide) (t_111 td) rfl rfl rfl (Nat.le_of_ble_eq_true rfl) (fun _ => Nat.le_of_ble_eq_true rfl) (fun _ => ⟨rfl, rfl⟩) dX4_oneIsOver_34 (fun p_4 => ?_)
  refine s_goto (pc := 37) (tgt := 0) dX4_oneIsOver_37 rfl ?_
  exact Sm.some (fun h => h)
noncomputable def fX4_oneIsOver  (c : CC) : Option CC :=
  cl (wh (fun s => fX4_oneIsOver_l0   s) c) (fun e_5 =>
  bd (up2 e_5 111 32 2) fun c_6 =>
   some c_6)
theorem sX4_oneIsOver {G : GG} {Γ : Cx} {r : Vv × Wd} {sz sl : Nat} {td : TT}  (c : CC) : Sm (fX4_oneIsOver  c) (fun x => r = ((3, 0), (sz, sl, tt td, cv x))) (WP G Γ muX4_oneIsOver r 0 [some (2, 111)] [] (sz, sl, tt td, cv c)) := by
  unfold fX4_oneIsOver
  refine s_loop (g := gX4_oneIsOver_l0 G Γ r sz sl td ) (Ex := eX4_oneIsOver_l0 G Γ r sz sl td ) (s0 := c) (fun s => sX4_oneIsOver_l0   s) ?_
  intro e_5
  show Sm _ _ (WP G Γ muX4_oneIsOver r 40 [some (2, 111)] [] (sz, sl, tt td, cv e_5))
  refine s_aload_n (pc := 40) dX4_oneIsOver_40 rfl ?_
  refine s_iconst (pc := 41) dX4_oneIsOver_41 ?_
  refine s_putM (pc := 42) (a := 111) (fpX4_313 _) (t_111 _) rfl kO_111 n_111_32 rfl (fpX4_313t) dX4_oneIsOver_42 (fun c_6 => ?_)
  exact s_vret (pc := 45) dX4_oneIsOver_45 rfl (fun h => h)
theorem kX4_oneIsOver {G : GG} {sz sl : Nat} {td : TT}  (c : CC) (x : CC) (h : fX4_oneIsOver  c = some x) : Ct G yX4_oneIsOver muX4_oneIsOver [(2, 111)] (sz, sl, tt td, cv c) ((3, 0), (sz, sl, tt td, cv x)) :=
  Ct.of (n := 0) (ls0 := [some (2, 111)]) (by decide) rfl rfl ⟨by decide, by decide⟩ (Nat.le_of_ble_eq_true rfl) rfl ⟨Nat.le_refl _, Nat.le_refl _⟩ (show (3 : Nat) ≠ 9 by decide) (fun Γ => sX4_oneIsOver  c x h rfl)
theorem mvX4_322 : MV RX4 322 RX4 yX4_isSign muX4_isSign 1 := ⟨lw_V q1581 q1583 qs67 q129 q1584, by decide +kernel, by decide⟩
theorem flX4_319 : FL RX4 319 3 34 := ⟨_, _, _, cf3, by decide, q1278⟩
theorem mvX4_316 : MV RX4 316 RX4 yX4_oneIsOver muX4_oneIsOver 0 := ⟨lw_V q1573 q1575 qs65 q129 q1576, by decide +kernel, by decide⟩
abbrev muX4_begins : MI := (cX4_begins, RX4, 2, none, 5, "begins")
noncomputable def fX4_begins_j119  (c : CC) : Option CC :=
  cl (fX4_isSign 40 c) fun p_1 =>
   if p_1 = 0 then
  (cl (fX4_isSign 45 c) fun p_2 =>
   if p_2 = 0 then
  (cl (fX4_errs 1 c) fun p_3 =>
   some p_3)
  else
  (cl (fX4_opensSign 7 c) fun p_4 =>
   some p_4.2))
  else
  (cl (fX4_opensSign 6 c) fun p_5 =>
   some p_5.2)
theorem sX4_begins_j119 {G : GG} {Γ : Cx} {r : Vv × Wd} {sz sl : Nat} {td : TT}  (c : CC) : Sm (fX4_begins_j119  c) (fun x => r = ((3, 0), (sz, sl, tt td, cv x))) (WP G Γ muX4_begins r 119 [some (2, 111), none] [] (sz, sl, tt td, cv c)) := by
  unfold fX4_begins_j119
  refine s_aload_n (pc := 119) dX4_begins_119 rfl ?_
  refine s_bipush (pc := 120) dX4_begins_120 ?_
  refine s_callV3 (pc := 122) (a := 111) (as := [(0, 40)]) (st := []) (rv := fun b => ((0, b), (sz, sl, tt td, cv c))) (st3 := fun b => [(0, b)]) (w3 := fun b => (sz, sl, tt td, cv c)) mvX4_322 (fun b h => kX4_isSign 40 c b h) rfl (by decide) (t_111 td) rfl rfl rfl (Nat.le_of_ble_eq_true rfl) (fun _ => Nat.le_of_ble_eq_true rfl) (fun _ => ⟨rfl, rfl⟩) dX4_begins_122 (fun p_1 => ?_)
  refine s_if_eq (pc := 125) (tgt := 138) dX4_begins_125 rfl ?_ ?_
  · refine s_aload_n (pc := 138) dX4_begins_138 rfl ?_
    refine s_bipush (pc := 139) dX4_begins_139 ?_
    refine s_callV3 (pc := 141) (a := 111) (as := [(0, 45)]) (st := []) (rv := fun b => ((0, b), (sz, sl, tt td, cv c))) (st3 := fun b => [(0, b)]) (w3 := fun b => (sz, sl, tt td, cv c)) mvX4_322 (fun b h => kX4_isSign 45 c b h) rfl (by decide) (t_111 td) rfl rfl rfl (Nat.le_of_ble_eq_true rfl) (fun _ => Nat.le_of_ble_eq_true rfl) (fun _ => ⟨rfl, rfl⟩) dX4_begins_141 (fun p_2 => ?_)
    refine s_if_eq (pc := 144) (tgt := 157) dX4_begins_144 rfl ?_ ?_
    · refine s_aload_n (pc := 157) dX4_begins_157 rfl ?_
      refine s_iconst (pc := 158) dX4_begins_158 ?_
      refine s_callV3 (pc := 159) (a := 111) (as := [(0, 1)]) (st := []) (rv := fun b => ((3, 0), (sz, sl, tt td, cv b))) (st3 := fun b => []) (w3 := fun b => (sz, sl, tt td, cv b)) mvX4_284 (fun b h => kX4_errs 1 c b h) rfl (by decide) (t_111 td) rfl rfl rfl (Nat.le_of_ble_eq_true rfl) (fun _ => Nat.le_of_ble_eq_true rfl) (fun _ => ⟨rfl, rfl⟩) dX4_begins_159 (fun p_3 => ?_)
      exact s_vret (pc := 162) dX4_begins_162 rfl (fun h => h)
    refine s_aload_n (pc := 147) dX4_begins_147 rfl ?_
    refine s_bipush (pc := 148) dX4_begins_148 ?_
    refine s_callV3 (pc := 150) (a := 111) (as := [(0, 7)]) (st := []) (rv := fun b => ((0, b.1), (sz, sl, tt td, cv b.2))) (st3 := fun b => [(0, b.1)]) (w3 := fun b => (sz, sl, tt td, cv b.2)) mvX4_310 (fun b h => kX4_opensSign 7 c b h) rfl (by decide) (t_111 td) rfl rfl rfl (Nat.le_of_ble_eq_true rfl) (fun _ => Nat.le_of_ble_eq_true rfl) (fun _ => ⟨rfl, rfl⟩) dX4_begins_150 (fun p_4 => ?_)
    refine s_istore_nD (pc := 153) (ls' := [some (2, 111), some (0, p_4.1)]) dX4_begins_153 rfl (Nat.le_of_ble_eq_true rfl) ?_
    refine s_goto (pc := 154) (tgt := 162) dX4_begins_154 rfl ?_
    exact s_vret (pc := 162) dX4_begins_162 rfl (fun h => h)
  refine s_aload_n (pc := 128) dX4_begins_128 rfl ?_
  refine s_bipush (pc := 129) dX4_begins_129 ?_
  refine s_callV3 (pc := 131) (a := 111) (as := [(0, 6)]) (st := []) (rv := fun b => ((0, b.1), (sz, sl, tt td, cv b.2))) (st3 := fun b => [(0, b.1)]) (w3 := fun b => (sz, sl, tt td, cv b.2)) mvX4_310 (fun b h => kX4_opensSign 6 c b h) rfl (by decide) (t_111 td) rfl rfl rfl (Nat.le_of_ble_eq_true rfl) (fun _ => Nat.le_of_ble_eq_true rfl) (fun _ => ⟨rfl, rfl⟩) dX4_begins_131 (fun p_5 => ?_)
  refine s_istore_nD (pc := 134) (ls' := [some (2, 111), some (0, p_5.1)]) dX4_begins_134 rfl (Nat.le_of_ble_eq_true rfl) ?_
  refine s_goto (pc := 135) (tgt := 162) dX4_begins_135 rfl ?_
  exact s_vret (pc := 162) dX4_begins_162 rfl (fun h => h)
noncomputable def fX4_begins_j100 (v1 : Int) (c : CC) : Option CC :=
  cl (fX4_emits 401 v1 c) fun p_7 =>
   cl (fX4_next  p_7) fun p_8 =>
   cl (fX4_oneIsOver  p_8) fun p_9 =>
   some p_9
theorem sX4_begins_j100 {G : GG} {Γ : Cx} {r : Vv × Wd} {sz sl : Nat} {td : TT} (v1 : Int) (c : CC) : Sm (fX4_begins_j100 v1 c) (fun x => r = ((3, 0), (sz, sl, tt td, cv x))) (WP G Γ muX4_begins r 100 [some (2, 111), some (0, v1)] [] (sz, sl, tt td, cv c)) := by
  unfold fX4_begins_j100
  refine s_aload_n (pc := 100) dX4_begins_100 rfl ?_
  refine s_sipush (pc := 101) dX4_begins_101 ?_
  refine s_iload_n (pc := 104) dX4_begins_104 rfl ?_
  refine s_callV3 (pc := 105) (a := 111) (as := [(0, 401), (0, v1)]) (st := []) (rv := fun b => ((3, 0), (sz, sl, tt td, cv b))) (st3 := fun b => []) (w3 := fun b => (sz, sl, tt td, cv b)) mvX4_300 (fun b h => kX4_emits 401 v1 c b h) rfl (by decide) (t_111 td) rfl rfl rfl (Nat.le_of_ble_eq_true rfl) (fun _ => Nat.le_of_ble_eq_true rfl) (fun _ => ⟨rfl, rfl⟩) dX4_begins_105 (fun p_7 => ?_)
  refine s_aload_n (pc := 108) dX4_begins_108 rfl ?_
  refine s_callV3 (pc := 109) (a := 111) (as := []) (st := []) (rv := fun b => ((3, 0), (sz, sl, tt td, cv b))) (st3 := fun b => []) (w3 := fun b => (sz, sl, tt td, cv b)) mvX4_290 (fun b h => kX4_next  p_7 b h) rfl (by decide) (t_111 td) rfl rfl rfl (Nat.le_of_ble_eq_true rfl) (fun _ => Nat.le_of_ble_eq_true rfl) (fun _ => ⟨rfl, rfl⟩) dX4_begins_109 (fun p_8 => ?_)
  refine s_aload_n (pc := 112) dX4_begins_112 rfl ?_
  refine s_callV3 (pc := 113) (a := 111) (as := []) (st := []) (rv := fun b => ((3, 0), (sz, sl, tt td, cv b))) (st3 := fun b => []) (w3 := fun b => (sz, sl, tt td, cv b)) mvX4_316 (fun b h => kX4_oneIsOver  p_8 b h) rfl (by decide) (t_111 td) rfl rfl rfl (Nat.le_of_ble_eq_true rfl) (fun _ => Nat.le_of_ble_eq_true rfl) (fun _ => ⟨rfl, rfl⟩) dX4_begins_113 (fun p_9 => ?_)
  refine s_goto (pc := 116) (tgt := 162) dX4_begins_116 rfl ?_
  exact s_vret (pc := 162) dX4_begins_162 rfl (fun h => h)
noncomputable def fX4_begins_j94  (c : CC) : Option CC :=
  cl (fX4_errs 5 c) fun p_10 =>
   some p_10
theorem sX4_begins_j94 {G : GG} {Γ : Cx} {r : Vv × Wd} {sz sl : Nat} {td : TT}  (c : CC) : Sm (fX4_begins_j94  c) (fun x => r = ((3, 0), (sz, sl, tt td, cv x))) (WP G Γ muX4_begins r 94 [some (2, 111), none] [] (sz, sl, tt td, cv c)) := by
  unfold fX4_begins_j94
  refine s_aload_n (pc := 94) dX4_begins_94 rfl ?_
  refine s_iconst (pc := 95) dX4_begins_95 ?_
  refine s_callV3 (pc := 96) (a := 111) (as := [(0, 5)]) (st := []) (rv := fun b => ((3, 0), (sz, sl, tt td, cv b))) (st3 := fun b => []) (w3 := fun b => (sz, sl, tt td, cv b)) mvX4_284 (fun b h => kX4_errs 5 c b h) rfl (by decide) (t_111 td) rfl rfl rfl (Nat.le_of_ble_eq_true rfl) (fun _ => Nat.le_of_ble_eq_true rfl) (fun _ => ⟨rfl, rfl⟩) dX4_begins_96 (fun p_10 => ?_)
  exact s_vret (pc := 99) dX4_begins_99 rfl (fun h => h)
noncomputable def fX4_begins  (c : CC) : Option CC :=
  if c 111 21 = 2 then
  (if (9999 : Int) < c 111 22 then
  (cl (fX4_errs 2 c) fun p_14 =>
   some p_14)
  else
  (cl (fX4_emits 400 (c 111 22) c) fun p_11 =>
   cl (fX4_next  p_11) fun p_12 =>
   cl (fX4_oneIsOver  p_12) fun p_13 =>
   some p_13))
  else
  (if c 111 21 = 1 then
  (if (12 : Int) < c 111 22 then
  (gd (inR ((c 111 22) - 12)) <|
   gd (inR (((c 111 22) - 12) - 1)) <|
   bd (((c 111 22) - 12) - 1) fun v1_6 =>
   if c 111 34 = 1 then
  (if (3 : Int) < v1_6 then
  (fX4_begins_j94  c)
  else
  (fX4_begins_j100 v1_6 c))
  else
  (if v1_6 < 3 then
  (fX4_begins_j94  c)
  else
  (fX4_begins_j100 v1_6 c)))
  else
  (fX4_begins_j119  c))
  else
  (fX4_begins_j119  c))
theorem sX4_begins {G : GG} {Γ : Cx} {r : Vv × Wd} {sz sl : Nat} {td : TT}  (c : CC) : Sm (fX4_begins  c) (fun x => r = ((3, 0), (sz, sl, tt td, cv x))) (WP G Γ muX4_begins r 0 [some (2, 111), none] [] (sz, sl, tt td, cv c)) := by
  unfold fX4_begins
  refine s_aload_n (pc := 0) dX4_begins_0 rfl ?_
  refine s_get (pc := 1) (a := 111) (v := c 111 21) flX4_252 (t_111 _) rfl (g_111_21 _) rfl dX4_begins_1 ?_
  refine s_iconst (pc := 4) dX4_begins_4 ?_
  refine s_icmp_ne (pc := 5) (tgt := 46) dX4_begins_5 rfl ?_ ?_
  · refine s_aload_n (pc := 46) dX4_begins_46 rfl ?_
    refine s_get (pc := 47) (a := 111) (v := c 111 21) flX4_252 (t_111 _) rfl (g_111_21 _) rfl dX4_begins_47 ?_
    refine s_iconst (pc := 50) dX4_begins_50 ?_
    refine s_icmp_ne (pc := 51) (tgt := 119) dX4_begins_51 rfl ?_ ?_
    · exact sX4_begins_j119  c
    refine s_aload_n (pc := 54) dX4_begins_54 rfl ?_
    refine s_get (pc := 55) (a := 111) (v := c 111 22) flX4_265 (t_111 _) rfl (g_111_22 _) rfl dX4_begins_55 ?_
    refine s_bipush (pc := 58) dX4_begins_58 ?_
    refine s_icmp_le (pc := 60) (tgt := 119) dX4_begins_60 rfl ?_ ?_
    · exact sX4_begins_j119  c
    refine s_aload_n (pc := 63) dX4_begins_63 rfl ?_
    refine s_get (pc := 64) (a := 111) (v := c 111 22) flX4_265 (t_111 _) rfl (g_111_22 _) rfl dX4_begins_64 ?_
    refine s_bipush (pc := 67) dX4_begins_67 ?_
    refine s_isub (pc := 69) dX4_begins_69 ?_
    refine s_iconst (pc := 70) dX4_begins_70 ?_
    refine s_isub (pc := 71) dX4_begins_71 ?_
    refine s_istore_n (pc := 72) (lf := fun x => [some (2, 111), some (0, x)]) dX4_begins_72 (fun _ => rfl) (Nat.le_of_ble_eq_true rfl) (fun v1_6 => ?_)
    refine s_aload_n (pc := 73) dX4_begins_73 rfl ?_
    refine s_get (pc := 74) (a := 111) (v := c 111 34) flX4_319 (t_111 _) rfl (g_111_34 _) rfl dX4_begins_74 ?_
    refine s_iconst (pc := 77) dX4_begins_77 ?_
    refine s_icmp_ne (pc := 78) (tgt := 89) dX4_begins_78 rfl ?_ ?_
    · refine s_iload_n (pc := 89) dX4_begins_89 rfl ?_
      refine s_iconst (pc := 90) dX4_begins_90 ?_
      refine s_icmp_ge (pc := 91) (tgt := 100) dX4_begins_91 rfl ?_ ?_
      · exact sX4_begins_j100 v1_6 c
      refine s_wk [true, false] (ls' := [some (2, 111), none]) rfl ?_
      exact sX4_begins_j94  c
    refine s_iload_n (pc := 81) dX4_begins_81 rfl ?_
    refine s_iconst (pc := 82) dX4_begins_82 ?_
    refine s_icmp_le (pc := 83) (tgt := 100) dX4_begins_83 rfl ?_ ?_
    · exact sX4_begins_j100 v1_6 c
    refine s_goto (pc := 86) (tgt := 94) dX4_begins_86 rfl ?_
    refine s_wk [true, false] (ls' := [some (2, 111), none]) rfl ?_
    exact sX4_begins_j94  c
  refine s_aload_n (pc := 8) dX4_begins_8 rfl ?_
  refine s_get (pc := 9) (a := 111) (v := c 111 22) flX4_265 (t_111 _) rfl (g_111_22 _) rfl dX4_begins_9 ?_
  refine s_sipush (pc := 12) dX4_begins_12 ?_
  refine s_icmp_le (pc := 15) (tgt := 24) dX4_begins_15 rfl ?_ ?_
  · refine s_aload_n (pc := 24) dX4_begins_24 rfl ?_
    refine s_sipush (pc := 25) dX4_begins_25 ?_
    refine s_aload_n (pc := 28) dX4_begins_28 rfl ?_
    refine s_get (pc := 29) (a := 111) (v := c 111 22) flX4_265 (t_111 _) rfl (g_111_22 _) rfl dX4_begins_29 ?_
    refine s_callV3 (pc := 32) (a := 111) (as := [(0, 400), (0, c 111 22)]) (st := []) (rv := fun b => ((3, 0), (sz, sl, tt td, cv b))) (st3 := fun b => []) (w3 := fun b => (sz, sl, tt td, cv b)) mvX4_300 (fun b h => kX4_emits 400 (c 111 22) c b h) rfl (by decide) (t_111 td) rfl rfl rfl (Nat.le_of_ble_eq_true rfl) (fun _ => Nat.le_of_ble_eq_true rfl) (fun _ => ⟨rfl, rfl⟩) dX4_begins_32 (fun p_11 => ?_)
    refine s_aload_n (pc := 35) dX4_begins_35 rfl ?_
    refine s_callV3 (pc := 36) (a := 111) (as := []) (st := []) (rv := fun b => ((3, 0), (sz, sl, tt td, cv b))) (st3 := fun b => []) (w3 := fun b => (sz, sl, tt td, cv b)) mvX4_290 (fun b h => kX4_next  p_11 b h) rfl (by decide) (t_111 td) rfl rfl rfl (Nat.le_of_ble_eq_true rfl) (fun _ => Nat.le_of_ble_eq_true rfl) (fun _ => ⟨rfl, rfl⟩) dX4_begins_36 (fun p_12 => ?_)
    refine s_aload_n (pc := 39) dX4_begins_39 rfl ?_
    refine s_callV3 (pc := 40) (a := 111) (as := []) (st := []) (rv := fun b => ((3, 0), (sz, sl, tt td, cv b))) (st3 := fun b => []) (w3 := fun b => (sz, sl, tt td, cv b)) mvX4_316 (fun b h => kX4_oneIsOver  p_12 b h) rfl (by decide) (t_111 td) rfl rfl rfl (Nat.le_of_ble_eq_true rfl) (fun _ => Nat.le_of_ble_eq_true rfl) (fun _ => ⟨rfl, rfl⟩) dX4_begins_40 (fun p_13 => ?_)
    refine s_goto (pc := 43) (tgt := 162) dX4_begins_43 rfl ?_
    exact s_vret (pc := 162) dX4_begins_162 rfl (fun h => h)
  refine s_aload_n (pc := 18) dX4_begins_18 rfl ?_
  refine s_iconst (pc := 19) dX4_begins_19 ?_
  refine s_callV3 (pc := 20) (a := 111) (as := [(0, 2)]) (st := []) (rv := fun b => ((3, 0), (sz, sl, tt td, cv b))) (st3 := fun b => []) (w3 := fun b => (sz, sl, tt td, cv b)) mvX4_284 (fun b h => kX4_errs 2 c b h) rfl (by decide) (t_111 td) rfl rfl rfl (Nat.le_of_ble_eq_true rfl) (fun _ => Nat.le_of_ble_eq_true rfl) (fun _ => ⟨rfl, rfl⟩) dX4_begins_20 (fun p_14 => ?_)
  exact s_vret (pc := 23) dX4_begins_23 rfl (fun h => h)
theorem kX4_begins {G : GG} {sz sl : Nat} {td : TT}  (c : CC) (x : CC) (h : fX4_begins  c = some x) : Ct G yX4_begins muX4_begins [(2, 111)] (sz, sl, tt td, cv c) ((3, 0), (sz, sl, tt td, cv x)) :=
  Ct.of (n := 1) (ls0 := [some (2, 111), none]) (by decide) rfl rfl ⟨by decide, by decide⟩ (Nat.le_of_ble_eq_true rfl) rfl ⟨Nat.le_refl _, Nat.le_refl _⟩ (show (3 : Nat) ≠ 9 by decide) (fun Γ => sX4_begins  c x h rfl)
abbrev muX4_askIsOver : MI := (cX4_askIsOver, RX4, 1, none, 2, "askIsOver")
abbrev gX4_askIsOver_l0 (G : GG) (Γ : Cx) (r : Vv × Wd) (sz sl : Nat) (td : TT)  : (CC) → Prop := fun s => WP G Γ muX4_askIsOver r 0 [some (2, 111)] [] (sz, sl, tt td, cv s)
abbrev eX4_askIsOver_l0 (G : GG) (Γ : Cx) (r : Vv × Wd) (sz sl : Nat) (td : TT)  : (CC) → Prop := (fun s => WP G Γ muX4_askIsOver r 39 [some (2, 111)] [] (sz, sl, tt td, cv s))
noncomputable def fX4_askIsOver_l0  (c : CC) : Option ((CC) ⊕ (CC)) :=
  cl (fX4_top  c) fun p_1 =>
   if p_1 = 3 then
  (gd (inR ((c 111 26) - 1)) <|
   bd (up2 c 111 26 ((c 111 26) - 1)) fun c_2 =>
   gd (inR ((c_2 111 25) - 1)) <|
   bd (up2 c_2 111 25 ((c_2 111 25) - 1)) fun c_3 =>
   cl (fX4_emits 405 0 c_3) fun p_4 =>
   some (.inl p_4))
  else
  (some (.inr c))
theorem sX4_askIsOver_l0 {G : GG} {Γ : Cx} {r : Vv × Wd} {sz sl : Nat} {td : TT}  (c : CC) : Sm (fX4_askIsOver_l0  c) (fun x => Sum.elim (gX4_askIsOver_l0 G Γ r sz sl td ) (eX4_askIsOver_l0 G Γ r sz sl td ) x) (gX4_askIsOver_l0 G Γ r sz sl td  c) := by
  show Sm _ _ (WP G Γ muX4_askIsOver r 0 [some (2, 111)] [] (sz, sl, tt td, cv c))
  unfold fX4_askIsOver_l0
  refine s_aload_n (pc := 0) dX4_askIsOver_0 rfl ?_
  refine s_callV3 (pc := 1) (a := 111) (as := []) (st := []) (rv := fun b => ((0, b), (sz, sl, tt td, cv c))) (st3 := fun b => [(0, b)]) (w3 := fun b => (sz, sl, tt td, cv c)) mvX4_325 (fun b h => kX4_top  c b h) rfl (by decide) (t_111 td) rfl rfl rfl (Nat.le_of_ble_eq_true rfl) (fun _ => Nat.le_of_ble_eq_true rfl) (fun _ => ⟨rfl, rfl⟩) dX4_askIsOver_1 (fun p_1 => ?_)
  refine s_iconst (pc := 4) dX4_askIsOver_4 ?_
  refine s_icmp_ne (pc := 5) (tgt := 39) dX4_askIsOver_5 rfl ?_ ?_
  · exact Sm.some (fun h => h)
  refine s_aload_n (pc := 8) dX4_askIsOver_8 rfl ?_
  refine s_dup (pc := 9) (by decide : ¬ (2 : Nat) = 1) dX4_askIsOver_9 ?_
  refine s_get (pc := 10) (a := 111) (v := c 111 26) flX4_278 (t_111 _) rfl (g_111_26 _) rfl dX4_askIsOver_10 ?_
  refine s_iconst (pc := 13) dX4_askIsOver_13 ?_
  refine s_isub (pc := 14) dX4_askIsOver_14 ?_
  refine s_putM (pc := 15) (a := 111) (fpX4_278 _) (t_111 _) rfl kO_111 n_111_26 rfl (fpX4_278t) dX4_askIsOver_15 (fun c_2 => ?_)
  refine s_aload_n (pc := 18) dX4_askIsOver_18 rfl ?_
  refine s_dup (pc := 19) (by decide : ¬ (2 : Nat) = 1) dX4_askIsOver_19 ?_
  refine s_get (pc := 20) (a := 111) (v := c_2 111 25) flX4_281 (t_111 _) rfl (g_111_25 _) rfl dX4_askIsOver_20 ?_
  refine s_iconst (pc := 23) dX4_askIsOver_23 ?_
  refine s_isub (pc := 24) dX4_askIsOver_24 ?_
  refine s_putM (pc := 25) (a := 111) (fpX4_281 _) (t_111 _) rfl kO_111 n_111_25 rfl (fpX4_281t) dX4_askIsOver_25 (fun c_3 => ?_)
  refine s_aload_n (pc := 28) dX4_askIsOver_28 rfl ?_
  refine s_sipush (pc := 29) dX4_askIsOver_29 ?_
  refine s_iconst (pc := 32) dX4_askIsOver_32 ?_
  refine s_callV3 (pc := 33) (a := 111) (as := [(0, 405), (0, 0)]) (st := []) (rv := fun b => ((3, 0), (sz, sl, tt td, cv b))) (st3 := fun b => []) (w3 := fun b => (sz, sl, tt td, cv b)) mvX4_300 (fun b h => kX4_emits 405 0 c_3 b h) rfl (by decide) (t_111 td) rfl rfl rfl (Nat.le_of_ble_eq_true rfl) (fun _ => Nat.le_of_ble_eq_true rfl) (fun _ => ⟨rfl, rfl⟩) dX4_askIsOver_33 (fun p_4 => ?_)
  refine s_goto (pc := 36) (tgt := 0) dX4_askIsOver_36 rfl ?_
  exact Sm.some (fun h => h)
noncomputable def fX4_askIsOver  (c : CC) : Option CC :=
  cl (wh (fun s => fX4_askIsOver_l0   s) c) (fun e_5 =>
  bd (up2 e_5 111 32 3) fun c_6 =>
   some c_6)
theorem sX4_askIsOver {G : GG} {Γ : Cx} {r : Vv × Wd} {sz sl : Nat} {td : TT}  (c : CC) : Sm (fX4_askIsOver  c) (fun x => r = ((3, 0), (sz, sl, tt td, cv x))) (WP G Γ muX4_askIsOver r 0 [some (2, 111)] [] (sz, sl, tt td, cv c)) := by
  unfold fX4_askIsOver
  refine s_loop (g := gX4_askIsOver_l0 G Γ r sz sl td ) (Ex := eX4_askIsOver_l0 G Γ r sz sl td ) (s0 := c) (fun s => sX4_askIsOver_l0   s) ?_
  intro e_5
  show Sm _ _ (WP G Γ muX4_askIsOver r 39 [some (2, 111)] [] (sz, sl, tt td, cv e_5))
  refine s_aload_n (pc := 39) dX4_askIsOver_39 rfl ?_
  refine s_iconst (pc := 40) dX4_askIsOver_40 ?_
  refine s_putM (pc := 41) (a := 111) (fpX4_313 _) (t_111 _) rfl kO_111 n_111_32 rfl (fpX4_313t) dX4_askIsOver_41 (fun c_6 => ?_)
  exact s_vret (pc := 44) dX4_askIsOver_44 rfl (fun h => h)
theorem kX4_askIsOver {G : GG} {sz sl : Nat} {td : TT}  (c : CC) (x : CC) (h : fX4_askIsOver  c = some x) : Ct G yX4_askIsOver muX4_askIsOver [(2, 111)] (sz, sl, tt td, cv c) ((3, 0), (sz, sl, tt td, cv x)) :=
  Ct.of (n := 0) (ls0 := [some (2, 111)]) (by decide) rfl rfl ⟨by decide, by decide⟩ (Nat.le_of_ble_eq_true rfl) rfl ⟨Nat.le_refl _, Nat.le_refl _⟩ (show (3 : Nat) ≠ 9 by decide) (fun Γ => sX4_askIsOver  c x h rfl)
abbrev muX4_isAsking : MI := (cX4_isAsking, RX4, 1, some .boolean, 1, "isAsking")
noncomputable def fX4_isAsking (a0 : Int) : Option Int :=
  if a0 = 60 then
  (gd ((0 : Int) ≤ 1 ∧ (1 : Int) < 2) (some 1))
  else
  (if a0 = 62 then
  (gd ((0 : Int) ≤ 1 ∧ (1 : Int) < 2) (some 1))
  else
  (if a0 = 61 then
  (gd ((0 : Int) ≤ 1 ∧ (1 : Int) < 2) (some 1))
  else
  (if a0 = 35 then
  (gd ((0 : Int) ≤ 1 ∧ (1 : Int) < 2) (some 1))
  else
  (if a0 = 300 then
  (gd ((0 : Int) ≤ 1 ∧ (1 : Int) < 2) (some 1))
  else
  (if a0 = 301 then
  (gd ((0 : Int) ≤ 1 ∧ (1 : Int) < 2) (some 1))
  else
  (gd ((0 : Int) ≤ 0 ∧ (0 : Int) < 2) (some 0)))))))
theorem sX4_isAsking {G : GG} {Γ : Cx} {r : Vv × Wd} {sz sl : Nat} {td : TT} (a0 : Int) (c : CC) : Sm (fX4_isAsking a0) (fun x => r = ((0, x), (sz, sl, tt td, cv c))) (WP G Γ muX4_isAsking r 0 [some (0, a0)] [] (sz, sl, tt td, cv c)) := by
  unfold fX4_isAsking
  refine s_iload_n (pc := 0) dX4_isAsking_0 rfl ?_
  refine s_bipush (pc := 1) dX4_isAsking_1 ?_
  refine s_icmp_eq (pc := 3) (tgt := 38) dX4_isAsking_3 rfl ?_ ?_
  · refine s_iconst (pc := 38) dX4_isAsking_38 ?_
    refine s_goto (pc := 39) (tgt := 43) dX4_isAsking_39 rfl ?_
    exact s_zret (pc := 43) dX4_isAsking_43 rfl (fun h => h)
  refine s_iload_n (pc := 6) dX4_isAsking_6 rfl ?_
  refine s_bipush (pc := 7) dX4_isAsking_7 ?_
  refine s_icmp_eq (pc := 9) (tgt := 38) dX4_isAsking_9 rfl ?_ ?_
  · refine s_iconst (pc := 38) dX4_isAsking_38 ?_
    refine s_goto (pc := 39) (tgt := 43) dX4_isAsking_39 rfl ?_
    exact s_zret (pc := 43) dX4_isAsking_43 rfl (fun h => h)
  refine s_iload_n (pc := 12) dX4_isAsking_12 rfl ?_
  refine s_bipush (pc := 13) dX4_isAsking_13 ?_
  refine s_icmp_eq (pc := 15) (tgt := 38) dX4_isAsking_15 rfl ?_ ?_
  · refine s_iconst (pc := 38) dX4_isAsking_38 ?_
    refine s_goto (pc := 39) (tgt := 43) dX4_isAsking_39 rfl ?_
    exact s_zret (pc := 43) dX4_isAsking_43 rfl (fun h => h)
  refine s_iload_n (pc := 18) dX4_isAsking_18 rfl ?_
  refine s_bipush (pc := 19) dX4_isAsking_19 ?_
  refine s_icmp_eq (pc := 21) (tgt := 38) dX4_isAsking_21 rfl ?_ ?_
  · refine s_iconst (pc := 38) dX4_isAsking_38 ?_
    refine s_goto (pc := 39) (tgt := 43) dX4_isAsking_39 rfl ?_
    exact s_zret (pc := 43) dX4_isAsking_43 rfl (fun h => h)
  refine s_iload_n (pc := 24) dX4_isAsking_24 rfl ?_
  refine s_sipush (pc := 25) dX4_isAsking_25 ?_
  refine s_icmp_eq (pc := 28) (tgt := 38) dX4_isAsking_28 rfl ?_ ?_
  · refine s_iconst (pc := 38) dX4_isAsking_38 ?_
    refine s_goto (pc := 39) (tgt := 43) dX4_isAsking_39 rfl ?_
    exact s_zret (pc := 43) dX4_isAsking_43 rfl (fun h => h)
  refine s_iload_n (pc := 31) dX4_isAsking_31 rfl ?_
  refine s_sipush (pc := 32) dX4_isAsking_32 ?_
  refine s_icmp_ne (pc := 35) (tgt := 42) dX4_isAsking_35 rfl ?_ ?_
  · refine s_iconst (pc := 42) dX4_isAsking_42 ?_
    exact s_zret (pc := 43) dX4_isAsking_43 rfl (fun h => h)
  refine s_iconst (pc := 38) dX4_isAsking_38 ?_
  refine s_goto (pc := 39) (tgt := 43) dX4_isAsking_39 rfl ?_
  exact s_zret (pc := 43) dX4_isAsking_43 rfl (fun h => h)
theorem kX4_isAsking {G : GG} {sz sl : Nat} {td : TT} (a0 : Int) (c : CC) (x : Int) (h : fX4_isAsking a0 = some x) : Ct G yX4_isAsking muX4_isAsking [(0, a0)] (sz, sl, tt td, cv c) ((0, x), (sz, sl, tt td, cv c)) :=
  Ct.of (n := 0) (ls0 := [some (0, a0)]) (by decide) rfl rfl ⟨by decide, by decide⟩ (Nat.le_of_ble_eq_true rfl) rfl ⟨Nat.le_refl _, Nat.le_refl _⟩ (show (0 : Nat) ≠ 9 by decide) (fun Γ => sX4_isAsking a0 c x h rfl)
theorem flX4_341 : FL RX4 341 3 33 := ⟨_, _, _, cf3, by decide, q1277⟩
theorem fpX4_341 (nm : String) : FP RX4 341 3 33 nm := ⟨_, _, _, cf3, by decide, q1277, Or.inl rfl⟩
theorem fpX4_341t : fty 3 33 ≠ .boolean ∧ fty 3 33 ≠ .byte ∧ fty 3 33 ≠ .char ∧ fty 3 33 ≠ .short := by decide
abbrev muX4_clauseIsOver : MI := (cX4_clauseIsOver, RX4, 1, none, 4, "clauseIsOver")
noncomputable def fX4_clauseIsOver  (c : CC) : Option CC :=
  cl (fX4_works 1 c) fun p_1 =>
   bd (up2 p_1 111 26 0) fun c_2 =>
   cl (fX4_emits 408 0 c_2) fun p_3 =>
   gd (inR ((p_3 111 33) + 1)) <|
   bd (up2 p_3 111 33 ((p_3 111 33) + 1)) fun c_4 =>
   cl (fX4_next  c_4) fun p_5 =>
   bd (up2 p_5 111 32 4) fun c_6 =>
   some c_6
theorem sX4_clauseIsOver {G : GG} {Γ : Cx} {r : Vv × Wd} {sz sl : Nat} {td : TT}  (c : CC) : Sm (fX4_clauseIsOver  c) (fun x => r = ((3, 0), (sz, sl, tt td, cv x))) (WP G Γ muX4_clauseIsOver r 0 [some (2, 111)] [] (sz, sl, tt td, cv c)) := by
  unfold fX4_clauseIsOver
  refine s_aload_n (pc := 0) dX4_clauseIsOver_0 rfl ?_
  refine s_iconst (pc := 1) dX4_clauseIsOver_1 ?_
  refine s_callV3 (pc := 2) (a := 111) (as := [(0, 1)]) (st := []) (rv := fun b => ((3, 0), (sz, sl, tt td, cv b))) (st3 := fun b => []) (w3 := fun b => (sz, sl, tt td, cv b)) mvX4_304 (fun b h => kX4_works 1 c b h) rfl (by decide) (t_111 td) rfl rfl rfl (Nat.le_of_ble_eq_true rfl) (fun _ => Nat.le_of_ble_eq_true rfl) (fun _ => ⟨rfl, rfl⟩) dX4_clauseIsOver_2 (fun p_1 => ?_)
  refine s_aload_n (pc := 5) dX4_clauseIsOver_5 rfl ?_
  refine s_iconst (pc := 6) dX4_clauseIsOver_6 ?_
  refine s_putM (pc := 7) (a := 111) (fpX4_278 _) (t_111 _) rfl kO_111 n_111_26 rfl (fpX4_278t) dX4_clauseIsOver_7 (fun c_2 => ?_)
  refine s_aload_n (pc := 10) dX4_clauseIsOver_10 rfl ?_
  refine s_sipush (pc := 11) dX4_clauseIsOver_11 ?_
  refine s_iconst (pc := 14) dX4_clauseIsOver_14 ?_
  refine s_callV3 (pc := 15) (a := 111) (as := [(0, 408), (0, 0)]) (st := []) (rv := fun b => ((3, 0), (sz, sl, tt td, cv b))) (st3 := fun b => []) (w3 := fun b => (sz, sl, tt td, cv b)) mvX4_300 (fun b h => kX4_emits 408 0 c_2 b h) rfl (by decide) (t_111 td) rfl rfl rfl (Nat.le_of_ble_eq_true rfl) (fun _ => Nat.le_of_ble_eq_true rfl) (fun _ => ⟨rfl, rfl⟩) dX4_clauseIsOver_15 (fun p_3 => ?_)
  refine s_aload_n (pc := 18) dX4_clauseIsOver_18 rfl ?_
  refine s_dup (pc := 19) (by decide : ¬ (2 : Nat) = 1) dX4_clauseIsOver_19 ?_
  refine s_get (pc := 20) (a := 111) (v := p_3 111 33) flX4_341 (t_111 _) rfl (g_111_33 _) rfl dX4_clauseIsOver_20 ?_
  refine s_iconst (pc := 23) dX4_clauseIsOver_23 ?_
  refine s_iadd (pc := 24) dX4_clauseIsOver_24 ?_
  refine s_putM (pc := 25) (a := 111) (fpX4_341 _) (t_111 _) rfl kO_111 n_111_33 rfl (fpX4_341t) dX4_clauseIsOver_25 (fun c_4 => ?_)
  refine s_aload_n (pc := 28) dX4_clauseIsOver_28 rfl ?_
  refine s_callV3 (pc := 29) (a := 111) (as := []) (st := []) (rv := fun b => ((3, 0), (sz, sl, tt td, cv b))) (st3 := fun b => []) (w3 := fun b => (sz, sl, tt td, cv b)) mvX4_290 (fun b h => kX4_next  c_4 b h) rfl (by decide) (t_111 td) rfl rfl rfl (Nat.le_of_ble_eq_true rfl) (fun _ => Nat.le_of_ble_eq_true rfl) (fun _ => ⟨rfl, rfl⟩) dX4_clauseIsOver_29 (fun p_5 => ?_)
  refine s_aload_n (pc := 32) dX4_clauseIsOver_32 rfl ?_
  refine s_iconst (pc := 33) dX4_clauseIsOver_33 ?_
  refine s_putM (pc := 34) (a := 111) (fpX4_313 _) (t_111 _) rfl kO_111 n_111_32 rfl (fpX4_313t) dX4_clauseIsOver_34 (fun c_6 => ?_)
  exact s_vret (pc := 37) dX4_clauseIsOver_37 rfl (fun h => h)
theorem kX4_clauseIsOver {G : GG} {sz sl : Nat} {td : TT}  (c : CC) (x : CC) (h : fX4_clauseIsOver  c = some x) : Ct G yX4_clauseIsOver muX4_clauseIsOver [(2, 111)] (sz, sl, tt td, cv c) ((3, 0), (sz, sl, tt td, cv x)) :=
  Ct.of (n := 0) (ls0 := [some (2, 111)]) (by decide) rfl rfl ⟨by decide, by decide⟩ (Nat.le_of_ble_eq_true rfl) rfl ⟨Nat.le_refl _, Nat.le_refl _⟩ (show (3 : Nat) ≠ 9 by decide) (fun Γ => sX4_clauseIsOver  c x h rfl)
theorem mvX4_338 : MV RX4 338 RX4 yX4_clauseIsOver muX4_clauseIsOver 0 := ⟨lw_V q1607 q1609 qs72 q129 q1610, by decide +kernel, by decide⟩
theorem flX4_66 : FL RX4 66 3 28 := ⟨_, _, _, cf3, by decide, q1272⟩
theorem mvX4_335 : MV RX4 335 RX4 yX4_askIsOver muX4_askIsOver 0 := ⟨lw_V q1603 q1605 qs71 q129 q1606, by decide +kernel, by decide⟩
theorem msX4_332 : MS RX4 332 yX4_isAsking muX4_isAsking 1 := ⟨lw_S q1600 q1601 q129 q1602, by decide +kernel, by decide⟩
theorem mvX4_329 : MV RX4 329 RX4 yX4_waitsFor muX4_waitsFor 1 := ⟨lw_V q1589 q1591 qs69 q129 q1592, by decide +kernel, by decide⟩
abbrev muX4_goesOn : MI := (cX4_goesOn, RX4, 3, none, 5, "goesOn")
noncomputable def fX4_goesOn_j245  (c : CC) : Option CC :=
  cl (fX4_errs 1 c) fun p_2 =>
   some p_2
theorem sX4_goesOn_j245 {G : GG} {Γ : Cx} {r : Vv × Wd} {sz sl : Nat} {td : TT}  (c : CC) : Sm (fX4_goesOn_j245  c) (fun x => r = ((3, 0), (sz, sl, tt td, cv x))) (WP G Γ muX4_goesOn r 245 [some (2, 111), none, none] [] (sz, sl, tt td, cv c)) := by
  unfold fX4_goesOn_j245
  refine s_aload_n (pc := 245) dX4_goesOn_245 rfl ?_
  refine s_iconst (pc := 246) dX4_goesOn_246 ?_
  refine s_callV3 (pc := 247) (a := 111) (as := [(0, 1)]) (st := []) (rv := fun b => ((3, 0), (sz, sl, tt td, cv b))) (st3 := fun b => []) (w3 := fun b => (sz, sl, tt td, cv b)) mvX4_284 (fun b h => kX4_errs 1 c b h) rfl (by decide) (t_111 td) rfl rfl rfl (Nat.le_of_ble_eq_true rfl) (fun _ => Nat.le_of_ble_eq_true rfl) (fun _ => ⟨rfl, rfl⟩) dX4_goesOn_247 (fun p_2 => ?_)
  exact s_vret (pc := 250) dX4_goesOn_250 rfl (fun h => h)
noncomputable def fX4_goesOn_j181 (v1 : Int) (c : CC) : Option CC :=
  if v1 = 5 then
  (cl (fX4_works 3 c) fun p_5 =>
   gd ((0 : Int) ≤ p_5 111 26 ∧ p_5 111 26 < 41) <|
   bd (p_5 128 (Int.toNat (p_5 111 26))) fun v2_6 =>
   gd (inR ((p_5 111 26) - 1)) <|
   bd (up2 p_5 111 26 ((p_5 111 26) - 1)) fun c_7 =>
   cl (fX4_emits v2_6 0 c_7) fun p_8 =>
   cl (fX4_askIsOver  p_8) fun p_9 =>
   some p_9)
  else
  (if v1 = 1 then
  (cl (fX4_isSign 59 c) fun p_3 =>
   if p_3 = 0 then
  (fX4_goesOn_j245  c)
  else
  (cl (fX4_clauseIsOver  c) fun p_4 =>
   some p_4))
  else
  (fX4_goesOn_j245  c))
theorem sX4_goesOn_j181 {G : GG} {Γ : Cx} {r : Vv × Wd} {sz sl : Nat} {td : TT} (v1 : Int) (c : CC) : Sm (fX4_goesOn_j181 v1 c) (fun x => r = ((3, 0), (sz, sl, tt td, cv x))) (WP G Γ muX4_goesOn r 181 [some (2, 111), some (0, v1), none] [] (sz, sl, tt td, cv c)) := by
  unfold fX4_goesOn_j181
  refine s_iload_n (pc := 181) dX4_goesOn_181 rfl ?_
  refine s_iconst (pc := 182) dX4_goesOn_182 ?_
  refine s_icmp_ne (pc := 183) (tgt := 224) dX4_goesOn_183 rfl ?_ ?_
  · refine s_iload_n (pc := 224) dX4_goesOn_224 rfl ?_
    refine s_iconst (pc := 225) dX4_goesOn_225 ?_
    refine s_icmp_ne (pc := 226) (tgt := 245) dX4_goesOn_226 rfl ?_ ?_
    · refine s_wk [true, false, true] (ls' := [some (2, 111), none, none]) rfl ?_
      exact sX4_goesOn_j245  c
    refine s_aload_n (pc := 229) dX4_goesOn_229 rfl ?_
    refine s_bipush (pc := 230) dX4_goesOn_230 ?_
    refine s_callV3 (pc := 232) (a := 111) (as := [(0, 59)]) (st := []) (rv := fun b => ((0, b), (sz, sl, tt td, cv c))) (st3 := fun b => [(0, b)]) (w3 := fun b => (sz, sl, tt td, cv c)) mvX4_322 (fun b h => kX4_isSign 59 c b h) rfl (by decide) (t_111 td) rfl rfl rfl (Nat.le_of_ble_eq_true rfl) (fun _ => Nat.le_of_ble_eq_true rfl) (fun _ => ⟨rfl, rfl⟩) dX4_goesOn_232 (fun p_3 => ?_)
    refine s_if_eq (pc := 235) (tgt := 245) dX4_goesOn_235 rfl ?_ ?_
    · refine s_wk [true, false, true] (ls' := [some (2, 111), none, none]) rfl ?_
      exact sX4_goesOn_j245  c
    refine s_aload_n (pc := 238) dX4_goesOn_238 rfl ?_
    refine s_callV3 (pc := 239) (a := 111) (as := []) (st := []) (rv := fun b => ((3, 0), (sz, sl, tt td, cv b))) (st3 := fun b => []) (w3 := fun b => (sz, sl, tt td, cv b)) mvX4_338 (fun b h => kX4_clauseIsOver  c b h) rfl (by decide) (t_111 td) rfl rfl rfl (Nat.le_of_ble_eq_true rfl) (fun _ => Nat.le_of_ble_eq_true rfl) (fun _ => ⟨rfl, rfl⟩) dX4_goesOn_239 (fun p_4 => ?_)
    refine s_goto (pc := 242) (tgt := 250) dX4_goesOn_242 rfl ?_
    exact s_vret (pc := 250) dX4_goesOn_250 rfl (fun h => h)
  refine s_aload_n (pc := 186) dX4_goesOn_186 rfl ?_
  refine s_iconst (pc := 187) dX4_goesOn_187 ?_
  refine s_callV3 (pc := 188) (a := 111) (as := [(0, 3)]) (st := []) (rv := fun b => ((3, 0), (sz, sl, tt td, cv b))) (st3 := fun b => []) (w3 := fun b => (sz, sl, tt td, cv b)) mvX4_304 (fun b h => kX4_works 3 c b h) rfl (by decide) (t_111 td) rfl rfl rfl (Nat.le_of_ble_eq_true rfl) (fun _ => Nat.le_of_ble_eq_true rfl) (fun _ => ⟨rfl, rfl⟩) dX4_goesOn_188 (fun p_5 => ?_)
  refine s_aload_n (pc := 191) dX4_goesOn_191 rfl ?_
  refine s_get (pc := 192) (a := 111) (v := 128) flX4_66 (t_111 _) rfl (g_111_28 _) rfl dX4_goesOn_192 ?_
  refine s_aload_n (pc := 195) dX4_goesOn_195 rfl ?_
  refine s_get (pc := 196) (a := 111) (v := p_5 111 26) flX4_278 (t_111 _) rfl (g_111_26 _) rfl dX4_goesOn_196 ?_
  refine s_ialdM (pc := 199) (a := 128) (t_128 _) rfl r_128 dX4_goesOn_199 ?_
  refine s_istore_n (pc := 200) (lf := fun x => [some (2, 111), some (0, v1), some (0, x)]) dX4_goesOn_200 (fun _ => rfl) (Nat.le_of_ble_eq_true rfl) (fun v2_6 => ?_)
  refine s_aload_n (pc := 201) dX4_goesOn_201 rfl ?_
  refine s_dup (pc := 202) (by decide : ¬ (2 : Nat) = 1) dX4_goesOn_202 ?_
  refine s_get (pc := 203) (a := 111) (v := p_5 111 26) flX4_278 (t_111 _) rfl (g_111_26 _) rfl dX4_goesOn_203 ?_
  refine s_iconst (pc := 206) dX4_goesOn_206 ?_
  refine s_isub (pc := 207) dX4_goesOn_207 ?_
  refine s_putM (pc := 208) (a := 111) (fpX4_278 _) (t_111 _) rfl kO_111 n_111_26 rfl (fpX4_278t) dX4_goesOn_208 (fun c_7 => ?_)
  refine s_aload_n (pc := 211) dX4_goesOn_211 rfl ?_
  refine s_iload_n (pc := 212) dX4_goesOn_212 rfl ?_
  refine s_iconst (pc := 213) dX4_goesOn_213 ?_
  refine s_callV3 (pc := 214) (a := 111) (as := [(0, v2_6), (0, 0)]) (st := []) (rv := fun b => ((3, 0), (sz, sl, tt td, cv b))) (st3 := fun b => []) (w3 := fun b => (sz, sl, tt td, cv b)) mvX4_300 (fun b h => kX4_emits v2_6 0 c_7 b h) rfl (by decide) (t_111 td) rfl rfl rfl (Nat.le_of_ble_eq_true rfl) (fun _ => Nat.le_of_ble_eq_true rfl) (fun _ => ⟨rfl, rfl⟩) dX4_goesOn_214 (fun p_8 => ?_)
  refine s_aload_n (pc := 217) dX4_goesOn_217 rfl ?_
  refine s_callV3 (pc := 218) (a := 111) (as := []) (st := []) (rv := fun b => ((3, 0), (sz, sl, tt td, cv b))) (st3 := fun b => []) (w3 := fun b => (sz, sl, tt td, cv b)) mvX4_335 (fun b h => kX4_askIsOver  p_8 b h) rfl (by decide) (t_111 td) rfl rfl rfl (Nat.le_of_ble_eq_true rfl) (fun _ => Nat.le_of_ble_eq_true rfl) (fun _ => ⟨rfl, rfl⟩) dX4_goesOn_218 (fun p_9 => ?_)
  refine s_goto (pc := 221) (tgt := 250) dX4_goesOn_221 rfl ?_
  exact s_vret (pc := 250) dX4_goesOn_250 rfl (fun h => h)
noncomputable def fX4_goesOn_j116 (v1 : Int) (c : CC) : Option CC :=
  if v1 = 4 then
  (if c 111 21 = 3 then
  (cl (fX4_isAsking (c 111 22)) fun p_10 =>
   if p_10 = 0 then
  (fX4_goesOn_j181 v1 c)
  else
  (cl (fX4_works 3 c) fun p_11 =>
   gd ((0 : Int) ≤ p_11 111 26 ∧ p_11 111 26 < 41) <| bd (up2 p_11 128 (Int.toNat (p_11 111 26)) (p_11 111 22)) fun c_12 =>
   gd (inR ((c_12 111 26) - 1)) <|
   gd ((0 : Int) ≤ (c_12 111 26) - 1 ∧ (c_12 111 26) - 1 < 40) <| bd (up2 c_12 127 (Int.toNat ((c_12 111 26) - 1)) 5) fun c_13 =>
   cl (fX4_next  c_13) fun p_14 =>
   bd (up2 p_14 111 32 1) fun c_15 =>
   some c_15))
  else
  (fX4_goesOn_j181 v1 c))
  else
  (fX4_goesOn_j181 v1 c)
theorem sX4_goesOn_j116 {G : GG} {Γ : Cx} {r : Vv × Wd} {sz sl : Nat} {td : TT} (v1 : Int) (c : CC) : Sm (fX4_goesOn_j116 v1 c) (fun x => r = ((3, 0), (sz, sl, tt td, cv x))) (WP G Γ muX4_goesOn r 116 [some (2, 111), some (0, v1), none] [] (sz, sl, tt td, cv c)) := by
  unfold fX4_goesOn_j116
  refine s_iload_n (pc := 116) dX4_goesOn_116 rfl ?_
  refine s_iconst (pc := 117) dX4_goesOn_117 ?_
  refine s_icmp_ne (pc := 118) (tgt := 181) dX4_goesOn_118 rfl ?_ ?_
  · exact sX4_goesOn_j181 v1 c
  refine s_aload_n (pc := 121) dX4_goesOn_121 rfl ?_
  refine s_get (pc := 122) (a := 111) (v := c 111 21) flX4_252 (t_111 _) rfl (g_111_21 _) rfl dX4_goesOn_122 ?_
  refine s_iconst (pc := 125) dX4_goesOn_125 ?_
  refine s_icmp_ne (pc := 126) (tgt := 181) dX4_goesOn_126 rfl ?_ ?_
  · exact sX4_goesOn_j181 v1 c
  refine s_aload_n (pc := 129) dX4_goesOn_129 rfl ?_
  refine s_get (pc := 130) (a := 111) (v := c 111 22) flX4_265 (t_111 _) rfl (g_111_22 _) rfl dX4_goesOn_130 ?_
  refine s_callS3 (pc := 133) (as := [(0, c 111 22)]) (st := []) (rv := fun b => ((0, b), (sz, sl, tt td, cv c))) (st3 := fun b => [(0, b)]) (w3 := fun b => (sz, sl, tt td, cv c)) msX4_332 (fun b h => kX4_isAsking (c 111 22) c b h) rfl (by decide) rfl (Nat.le_of_ble_eq_true rfl) (fun _ => Nat.le_of_ble_eq_true rfl) (fun _ => ⟨rfl, rfl⟩) dX4_goesOn_133 (fun p_10 => ?_)
  refine s_if_eq (pc := 136) (tgt := 181) dX4_goesOn_136 rfl ?_ ?_
  · exact sX4_goesOn_j181 v1 c
  refine s_aload_n (pc := 139) dX4_goesOn_139 rfl ?_
  refine s_iconst (pc := 140) dX4_goesOn_140 ?_
  refine s_callV3 (pc := 141) (a := 111) (as := [(0, 3)]) (st := []) (rv := fun b => ((3, 0), (sz, sl, tt td, cv b))) (st3 := fun b => []) (w3 := fun b => (sz, sl, tt td, cv b)) mvX4_304 (fun b h => kX4_works 3 c b h) rfl (by decide) (t_111 td) rfl rfl rfl (Nat.le_of_ble_eq_true rfl) (fun _ => Nat.le_of_ble_eq_true rfl) (fun _ => ⟨rfl, rfl⟩) dX4_goesOn_141 (fun p_11 => ?_)
  refine s_aload_n (pc := 144) dX4_goesOn_144 rfl ?_
  refine s_get (pc := 145) (a := 111) (v := 128) flX4_66 (t_111 _) rfl (g_111_28 _) rfl dX4_goesOn_145 ?_
  refine s_aload_n (pc := 148) dX4_goesOn_148 rfl ?_
  refine s_get (pc := 149) (a := 111) (v := p_11 111 26) flX4_278 (t_111 _) rfl (g_111_26 _) rfl dX4_goesOn_149 ?_
  refine s_aload_n (pc := 152) dX4_goesOn_152 rfl ?_
  refine s_get (pc := 153) (a := 111) (v := p_11 111 22) flX4_265 (t_111 _) rfl (g_111_22 _) rfl dX4_goesOn_153 ?_
  refine s_iastM (pc := 156) (a := 128) (t_128 _) rfl kO_128 r_128 dX4_goesOn_156 (fun c_12 => ?_)
  refine s_aload_n (pc := 157) dX4_goesOn_157 rfl ?_
  refine s_get (pc := 158) (a := 111) (v := 127) flX4_63 (t_111 _) rfl (g_111_27 _) rfl dX4_goesOn_158 ?_
  refine s_aload_n (pc := 161) dX4_goesOn_161 rfl ?_
  refine s_get (pc := 162) (a := 111) (v := c_12 111 26) flX4_278 (t_111 _) rfl (g_111_26 _) rfl dX4_goesOn_162 ?_
  refine s_iconst (pc := 165) dX4_goesOn_165 ?_
  refine s_isub (pc := 166) dX4_goesOn_166 ?_
  refine s_iconst (pc := 167) dX4_goesOn_167 ?_
  refine s_iastM (pc := 168) (a := 127) (t_127 _) rfl kO_127 r_127 dX4_goesOn_168 (fun c_13 => ?_)
  refine s_aload_n (pc := 169) dX4_goesOn_169 rfl ?_
  refine s_callV3 (pc := 170) (a := 111) (as := []) (st := []) (rv := fun b => ((3, 0), (sz, sl, tt td, cv b))) (st3 := fun b => []) (w3 := fun b => (sz, sl, tt td, cv b)) mvX4_290 (fun b h => kX4_next  c_13 b h) rfl (by decide) (t_111 td) rfl rfl rfl (Nat.le_of_ble_eq_true rfl) (fun _ => Nat.le_of_ble_eq_true rfl) (fun _ => ⟨rfl, rfl⟩) dX4_goesOn_170 (fun p_14 => ?_)
  refine s_aload_n (pc := 173) dX4_goesOn_173 rfl ?_
  refine s_iconst (pc := 174) dX4_goesOn_174 ?_
  refine s_putM (pc := 175) (a := 111) (fpX4_313 _) (t_111 _) rfl kO_111 n_111_32 rfl (fpX4_313t) dX4_goesOn_175 (fun c_15 => ?_)
  refine s_goto (pc := 178) (tgt := 250) dX4_goesOn_178 rfl ?_
  exact s_vret (pc := 250) dX4_goesOn_250 rfl (fun h => h)
noncomputable def fX4_goesOn_j65 (v1 : Int) (c : CC) : Option CC :=
  if v1 = 6 then
  (cl (fX4_isSign 41 c) fun p_16 =>
   if p_16 = 0 then
  (fX4_goesOn_j116 v1 c)
  else
  (cl (fX4_works 3 c) fun p_17 =>
   gd (inR ((p_17 111 26) - 1)) <|
   bd (up2 p_17 111 26 ((p_17 111 26) - 1)) fun c_18 =>
   gd (inR ((c_18 111 25) - 1)) <|
   bd (up2 c_18 111 25 ((c_18 111 25) - 1)) fun c_19 =>
   cl (fX4_next  c_19) fun p_20 =>
   cl (fX4_oneIsOver  p_20) fun p_21 =>
   some p_21))
  else
  (fX4_goesOn_j116 v1 c)
theorem sX4_goesOn_j65 {G : GG} {Γ : Cx} {r : Vv × Wd} {sz sl : Nat} {td : TT} (v1 : Int) (c : CC) : Sm (fX4_goesOn_j65 v1 c) (fun x => r = ((3, 0), (sz, sl, tt td, cv x))) (WP G Γ muX4_goesOn r 65 [some (2, 111), some (0, v1), none] [] (sz, sl, tt td, cv c)) := by
  unfold fX4_goesOn_j65
  refine s_iload_n (pc := 65) dX4_goesOn_65 rfl ?_
  refine s_bipush (pc := 66) dX4_goesOn_66 ?_
  refine s_icmp_ne (pc := 68) (tgt := 116) dX4_goesOn_68 rfl ?_ ?_
  · exact sX4_goesOn_j116 v1 c
  refine s_aload_n (pc := 71) dX4_goesOn_71 rfl ?_
  refine s_bipush (pc := 72) dX4_goesOn_72 ?_
  refine s_callV3 (pc := 74) (a := 111) (as := [(0, 41)]) (st := []) (rv := fun b => ((0, b), (sz, sl, tt td, cv c))) (st3 := fun b => [(0, b)]) (w3 := fun b => (sz, sl, tt td, cv c)) mvX4_322 (fun b h => kX4_isSign 41 c b h) rfl (by decide) (t_111 td) rfl rfl rfl (Nat.le_of_ble_eq_true rfl) (fun _ => Nat.le_of_ble_eq_true rfl) (fun _ => ⟨rfl, rfl⟩) dX4_goesOn_74 (fun p_16 => ?_)
  refine s_if_eq (pc := 77) (tgt := 116) dX4_goesOn_77 rfl ?_ ?_
  · exact sX4_goesOn_j116 v1 c
  refine s_aload_n (pc := 80) dX4_goesOn_80 rfl ?_
  refine s_iconst (pc := 81) dX4_goesOn_81 ?_
  refine s_callV3 (pc := 82) (a := 111) (as := [(0, 3)]) (st := []) (rv := fun b => ((3, 0), (sz, sl, tt td, cv b))) (st3 := fun b => []) (w3 := fun b => (sz, sl, tt td, cv b)) mvX4_304 (fun b h => kX4_works 3 c b h) rfl (by decide) (t_111 td) rfl rfl rfl (Nat.le_of_ble_eq_true rfl) (fun _ => Nat.le_of_ble_eq_true rfl) (fun _ => ⟨rfl, rfl⟩) dX4_goesOn_82 (fun p_17 => ?_)
  refine s_aload_n (pc := 85) dX4_goesOn_85 rfl ?_
  refine s_dup (pc := 86) (by decide : ¬ (2 : Nat) = 1) dX4_goesOn_86 ?_
  refine s_get (pc := 87) (a := 111) (v := p_17 111 26) flX4_278 (t_111 _) rfl (g_111_26 _) rfl dX4_goesOn_87 ?_
  refine s_iconst (pc := 90) dX4_goesOn_90 ?_
  refine s_isub (pc := 91) dX4_goesOn_91 ?_
  refine s_putM (pc := 92) (a := 111) (fpX4_278 _) (t_111 _) rfl kO_111 n_111_26 rfl (fpX4_278t) dX4_goesOn_92 (fun c_18 => ?_)
  refine s_aload_n (pc := 95) dX4_goesOn_95 rfl ?_
  refine s_dup (pc := 96) (by decide : ¬ (2 : Nat) = 1) dX4_goesOn_96 ?_
  refine s_get (pc := 97) (a := 111) (v := c_18 111 25) flX4_281 (t_111 _) rfl (g_111_25 _) rfl dX4_goesOn_97 ?_
  refine s_iconst (pc := 100) dX4_goesOn_100 ?_
  refine s_isub (pc := 101) dX4_goesOn_101 ?_
  refine s_putM (pc := 102) (a := 111) (fpX4_281 _) (t_111 _) rfl kO_111 n_111_25 rfl (fpX4_281t) dX4_goesOn_102 (fun c_19 => ?_)
  refine s_aload_n (pc := 105) dX4_goesOn_105 rfl ?_
  refine s_callV3 (pc := 106) (a := 111) (as := []) (st := []) (rv := fun b => ((3, 0), (sz, sl, tt td, cv b))) (st3 := fun b => []) (w3 := fun b => (sz, sl, tt td, cv b)) mvX4_290 (fun b h => kX4_next  c_19 b h) rfl (by decide) (t_111 td) rfl rfl rfl (Nat.le_of_ble_eq_true rfl) (fun _ => Nat.le_of_ble_eq_true rfl) (fun _ => ⟨rfl, rfl⟩) dX4_goesOn_106 (fun p_20 => ?_)
  refine s_aload_n (pc := 109) dX4_goesOn_109 rfl ?_
  refine s_callV3 (pc := 110) (a := 111) (as := []) (st := []) (rv := fun b => ((3, 0), (sz, sl, tt td, cv b))) (st3 := fun b => []) (w3 := fun b => (sz, sl, tt td, cv b)) mvX4_316 (fun b h => kX4_oneIsOver  p_20 b h) rfl (by decide) (t_111 td) rfl rfl rfl (Nat.le_of_ble_eq_true rfl) (fun _ => Nat.le_of_ble_eq_true rfl) (fun _ => ⟨rfl, rfl⟩) dX4_goesOn_110 (fun p_21 => ?_)
  refine s_goto (pc := 113) (tgt := 250) dX4_goesOn_113 rfl ?_
  exact s_vret (pc := 250) dX4_goesOn_250 rfl (fun h => h)
noncomputable def fX4_goesOn_j49  (c : CC) : Option CC :=
  cl (fX4_waitsFor (c 111 22) c) fun p_22 =>
   bd (up2 p_22 111 32 1) fun c_23 =>
   some c_23
theorem sX4_goesOn_j49 {G : GG} {Γ : Cx} {r : Vv × Wd} {sz sl : Nat} {td : TT}  (c : CC) : Sm (fX4_goesOn_j49  c) (fun x => r = ((3, 0), (sz, sl, tt td, cv x))) (WP G Γ muX4_goesOn r 49 [some (2, 111), none, none] [] (sz, sl, tt td, cv c)) := by
  unfold fX4_goesOn_j49
  refine s_aload_n (pc := 49) dX4_goesOn_49 rfl ?_
  refine s_aload_n (pc := 50) dX4_goesOn_50 rfl ?_
  refine s_get (pc := 51) (a := 111) (v := c 111 22) flX4_265 (t_111 _) rfl (g_111_22 _) rfl dX4_goesOn_51 ?_
  refine s_callV3 (pc := 54) (a := 111) (as := [(0, c 111 22)]) (st := []) (rv := fun b => ((3, 0), (sz, sl, tt td, cv b))) (st3 := fun b => []) (w3 := fun b => (sz, sl, tt td, cv b)) mvX4_329 (fun b h => kX4_waitsFor (c 111 22) c b h) rfl (by decide) (t_111 td) rfl rfl rfl (Nat.le_of_ble_eq_true rfl) (fun _ => Nat.le_of_ble_eq_true rfl) (fun _ => ⟨rfl, rfl⟩) dX4_goesOn_54 (fun p_22 => ?_)
  refine s_aload_n (pc := 57) dX4_goesOn_57 rfl ?_
  refine s_iconst (pc := 58) dX4_goesOn_58 ?_
  refine s_putM (pc := 59) (a := 111) (fpX4_313 _) (t_111 _) rfl kO_111 n_111_32 rfl (fpX4_313t) dX4_goesOn_59 (fun c_23 => ?_)
  refine s_goto (pc := 62) (tgt := 250) dX4_goesOn_62 rfl ?_
  exact s_vret (pc := 250) dX4_goesOn_250 rfl (fun h => h)
noncomputable def fX4_goesOn  (c : CC) : Option CC :=
  cl (fX4_top  c) fun p_1 =>
   if c 111 21 = 3 then
  (if c 111 22 = 43 then
  (fX4_goesOn_j49  c)
  else
  (if c 111 22 = 45 then
  (fX4_goesOn_j49  c)
  else
  (if c 111 22 = 42 then
  (fX4_goesOn_j49  c)
  else
  (if c 111 22 = 47 then
  (fX4_goesOn_j49  c)
  else
  (fX4_goesOn_j65 p_1 c)))))
  else
  (fX4_goesOn_j65 p_1 c)
theorem sX4_goesOn {G : GG} {Γ : Cx} {r : Vv × Wd} {sz sl : Nat} {td : TT}  (c : CC) : Sm (fX4_goesOn  c) (fun x => r = ((3, 0), (sz, sl, tt td, cv x))) (WP G Γ muX4_goesOn r 0 [some (2, 111), none, none] [] (sz, sl, tt td, cv c)) := by
  unfold fX4_goesOn
  refine s_aload_n (pc := 0) dX4_goesOn_0 rfl ?_
  refine s_callV3 (pc := 1) (a := 111) (as := []) (st := []) (rv := fun b => ((0, b), (sz, sl, tt td, cv c))) (st3 := fun b => [(0, b)]) (w3 := fun b => (sz, sl, tt td, cv c)) mvX4_325 (fun b h => kX4_top  c b h) rfl (by decide) (t_111 td) rfl rfl rfl (Nat.le_of_ble_eq_true rfl) (fun _ => Nat.le_of_ble_eq_true rfl) (fun _ => ⟨rfl, rfl⟩) dX4_goesOn_1 (fun p_1 => ?_)
  refine s_istore_nD (pc := 4) (ls' := [some (2, 111), some (0, p_1), none]) dX4_goesOn_4 rfl (Nat.le_of_ble_eq_true rfl) ?_
  refine s_aload_n (pc := 5) dX4_goesOn_5 rfl ?_
  refine s_get (pc := 6) (a := 111) (v := c 111 21) flX4_252 (t_111 _) rfl (g_111_21 _) rfl dX4_goesOn_6 ?_
  refine s_iconst (pc := 9) dX4_goesOn_9 ?_
  refine s_icmp_ne (pc := 10) (tgt := 65) dX4_goesOn_10 rfl ?_ ?_
  · exact sX4_goesOn_j65 p_1 c
  refine s_aload_n (pc := 13) dX4_goesOn_13 rfl ?_
  refine s_get (pc := 14) (a := 111) (v := c 111 22) flX4_265 (t_111 _) rfl (g_111_22 _) rfl dX4_goesOn_14 ?_
  refine s_bipush (pc := 17) dX4_goesOn_17 ?_
  refine s_icmp_eq (pc := 19) (tgt := 49) dX4_goesOn_19 rfl ?_ ?_
  · refine s_wk [true, false, true] (ls' := [some (2, 111), none, none]) rfl ?_
    exact sX4_goesOn_j49  c
  refine s_aload_n (pc := 22) dX4_goesOn_22 rfl ?_
  refine s_get (pc := 23) (a := 111) (v := c 111 22) flX4_265 (t_111 _) rfl (g_111_22 _) rfl dX4_goesOn_23 ?_
  refine s_bipush (pc := 26) dX4_goesOn_26 ?_
  refine s_icmp_eq (pc := 28) (tgt := 49) dX4_goesOn_28 rfl ?_ ?_
  · refine s_wk [true, false, true] (ls' := [some (2, 111), none, none]) rfl ?_
    exact sX4_goesOn_j49  c
  refine s_aload_n (pc := 31) dX4_goesOn_31 rfl ?_
  refine s_get (pc := 32) (a := 111) (v := c 111 22) flX4_265 (t_111 _) rfl (g_111_22 _) rfl dX4_goesOn_32 ?_
  refine s_bipush (pc := 35) dX4_goesOn_35 ?_
  refine s_icmp_eq (pc := 37) (tgt := 49) dX4_goesOn_37 rfl ?_ ?_
  · refine s_wk [true, false, true] (ls' := [some (2, 111), none, none]) rfl ?_
    exact sX4_goesOn_j49  c
  refine s_aload_n (pc := 40) dX4_goesOn_40 rfl ?_
  refine s_get (pc := 41) (a := 111) (v := c 111 22) flX4_265 (t_111 _) rfl (g_111_22 _) rfl dX4_goesOn_41 ?_
  refine s_bipush (pc := 44) dX4_goesOn_44 ?_
  refine s_icmp_ne (pc := 46) (tgt := 65) dX4_goesOn_46 rfl ?_ ?_
  · exact sX4_goesOn_j65 p_1 c
  refine s_wk [true, false, true] (ls' := [some (2, 111), none, none]) rfl ?_
  exact sX4_goesOn_j49  c
theorem kX4_goesOn {G : GG} {sz sl : Nat} {td : TT}  (c : CC) (x : CC) (h : fX4_goesOn  c = some x) : Ct G yX4_goesOn muX4_goesOn [(2, 111)] (sz, sl, tt td, cv c) ((3, 0), (sz, sl, tt td, cv x)) :=
  Ct.of (n := 2) (ls0 := [some (2, 111), none, none]) (by decide) rfl rfl ⟨by decide, by decide⟩ (Nat.le_of_ble_eq_true rfl) rfl ⟨Nat.le_refl _, Nat.le_refl _⟩ (show (3 : Nat) ≠ 9 by decide) (fun Γ => sX4_goesOn  c x h rfl)
abbrev muX4_asksOn : MI := (cX4_asksOn, RX4, 1, none, 5, "asksOn")
noncomputable def fX4_asksOn_j37 (w0 : Int) (c : CC) : Option CC :=
  cl (fX4_waitsFor w0 c) fun p_3 =>
   bd (up2 p_3 111 32 0) fun c_4 =>
   some c_4
theorem sX4_asksOn_j37 {G : GG} {Γ : Cx} {r : Vv × Wd} {sz sl : Nat} {td : TT} (w0 : Int) (c : CC) : Sm (fX4_asksOn_j37 w0 c) (fun x => r = ((3, 0), (sz, sl, tt td, cv x))) (WP G Γ muX4_asksOn r 37 [some (2, 111)] [(0, w0), (2, 111)] (sz, sl, tt td, cv c)) := by
  unfold fX4_asksOn_j37
  refine s_callV3 (pc := 37) (a := 111) (as := [(0, w0)]) (st := []) (rv := fun b => ((3, 0), (sz, sl, tt td, cv b))) (st3 := fun b => []) (w3 := fun b => (sz, sl, tt td, cv b)) mvX4_329 (fun b h => kX4_waitsFor w0 c b h) rfl (by decide) (t_111 td) rfl rfl rfl (Nat.le_of_ble_eq_true rfl) (fun _ => Nat.le_of_ble_eq_true rfl) (fun _ => ⟨rfl, rfl⟩) dX4_asksOn_37 (fun p_3 => ?_)
  refine s_aload_n (pc := 40) dX4_asksOn_40 rfl ?_
  refine s_iconst (pc := 41) dX4_asksOn_41 ?_
  refine s_putM (pc := 42) (a := 111) (fpX4_313 _) (t_111 _) rfl kO_111 n_111_32 rfl (fpX4_313t) dX4_asksOn_42 (fun c_4 => ?_)
  refine s_goto (pc := 45) (tgt := 77) dX4_asksOn_45 rfl ?_
  exact s_vret (pc := 77) dX4_asksOn_77 rfl (fun h => h)
noncomputable def fX4_asksOn_j18  (c : CC) : Option CC :=
  cl (fX4_isWord 10 c) fun p_2 =>
   if p_2 = 0 then
  (fX4_asksOn_j37 406 c)
  else
  (fX4_asksOn_j37 407 c)
theorem sX4_asksOn_j18 {G : GG} {Γ : Cx} {r : Vv × Wd} {sz sl : Nat} {td : TT}  (c : CC) : Sm (fX4_asksOn_j18  c) (fun x => r = ((3, 0), (sz, sl, tt td, cv x))) (WP G Γ muX4_asksOn r 18 [some (2, 111)] [] (sz, sl, tt td, cv c)) := by
  unfold fX4_asksOn_j18
  refine s_aload_n (pc := 18) dX4_asksOn_18 rfl ?_
  refine s_aload_n (pc := 19) dX4_asksOn_19 rfl ?_
  refine s_bipush (pc := 20) dX4_asksOn_20 ?_
  refine s_callV3 (pc := 22) (a := 111) (as := [(0, 10)]) (st := [(2, 111)]) (rv := fun b => ((0, b), (sz, sl, tt td, cv c))) (st3 := fun b => [(0, b), (2, 111)]) (w3 := fun b => (sz, sl, tt td, cv c)) mvX4_307 (fun b h => kX4_isWord 10 c b h) rfl (by decide) (t_111 td) rfl rfl rfl (Nat.le_of_ble_eq_true rfl) (fun _ => Nat.le_of_ble_eq_true rfl) (fun _ => ⟨rfl, rfl⟩) dX4_asksOn_22 (fun p_2 => ?_)
  refine s_if_eq (pc := 25) (tgt := 34) dX4_asksOn_25 rfl ?_ ?_
  · refine s_sipush (pc := 34) dX4_asksOn_34 ?_
    exact sX4_asksOn_j37 406 c
  refine s_sipush (pc := 28) dX4_asksOn_28 ?_
  refine s_goto (pc := 31) (tgt := 37) dX4_asksOn_31 rfl ?_
  exact sX4_asksOn_j37 407 c
noncomputable def fX4_asksOn_j72  (c : CC) : Option CC :=
  cl (fX4_errs 1 c) fun p_7 =>
   some p_7
theorem sX4_asksOn_j72 {G : GG} {Γ : Cx} {r : Vv × Wd} {sz sl : Nat} {td : TT}  (c : CC) : Sm (fX4_asksOn_j72  c) (fun x => r = ((3, 0), (sz, sl, tt td, cv x))) (WP G Γ muX4_asksOn r 72 [some (2, 111)] [] (sz, sl, tt td, cv c)) := by
  unfold fX4_asksOn_j72
  refine s_aload_n (pc := 72) dX4_asksOn_72 rfl ?_
  refine s_iconst (pc := 73) dX4_asksOn_73 ?_
  refine s_callV3 (pc := 74) (a := 111) (as := [(0, 1)]) (st := []) (rv := fun b => ((3, 0), (sz, sl, tt td, cv b))) (st3 := fun b => []) (w3 := fun b => (sz, sl, tt td, cv b)) mvX4_284 (fun b h => kX4_errs 1 c b h) rfl (by decide) (t_111 td) rfl rfl rfl (Nat.le_of_ble_eq_true rfl) (fun _ => Nat.le_of_ble_eq_true rfl) (fun _ => ⟨rfl, rfl⟩) dX4_asksOn_74 (fun p_7 => ?_)
  exact s_vret (pc := 77) dX4_asksOn_77 rfl (fun h => h)
noncomputable def fX4_asksOn  (c : CC) : Option CC :=
  cl (fX4_isWord 10 c) fun p_1 =>
   if p_1 = 0 then
  (cl (fX4_isWord 11 c) fun p_5 =>
   if p_5 = 0 then
  (cl (fX4_top  c) fun p_6 =>
   if p_6 = 2 then
  (cl (fX4_isSign 59 c) fun p_8 =>
   if p_8 = 0 then
  (fX4_asksOn_j72  c)
  else
  (cl (fX4_clauseIsOver  c) fun p_9 =>
   some p_9))
  else
  (fX4_asksOn_j72  c))
  else
  (fX4_asksOn_j18  c))
  else
  (fX4_asksOn_j18  c)
theorem sX4_asksOn {G : GG} {Γ : Cx} {r : Vv × Wd} {sz sl : Nat} {td : TT}  (c : CC) : Sm (fX4_asksOn  c) (fun x => r = ((3, 0), (sz, sl, tt td, cv x))) (WP G Γ muX4_asksOn r 0 [some (2, 111)] [] (sz, sl, tt td, cv c)) := by
  unfold fX4_asksOn
  refine s_aload_n (pc := 0) dX4_asksOn_0 rfl ?_
  refine s_bipush (pc := 1) dX4_asksOn_1 ?_
  refine s_callV3 (pc := 3) (a := 111) (as := [(0, 10)]) (st := []) (rv := fun b => ((0, b), (sz, sl, tt td, cv c))) (st3 := fun b => [(0, b)]) (w3 := fun b => (sz, sl, tt td, cv c)) mvX4_307 (fun b h => kX4_isWord 10 c b h) rfl (by decide) (t_111 td) rfl rfl rfl (Nat.le_of_ble_eq_true rfl) (fun _ => Nat.le_of_ble_eq_true rfl) (fun _ => ⟨rfl, rfl⟩) dX4_asksOn_3 (fun p_1 => ?_)
  refine s_if_ne (pc := 6) (tgt := 18) dX4_asksOn_6 rfl ?_ ?_
  · exact sX4_asksOn_j18  c
  refine s_aload_n (pc := 9) dX4_asksOn_9 rfl ?_
  refine s_bipush (pc := 10) dX4_asksOn_10 ?_
  refine s_callV3 (pc := 12) (a := 111) (as := [(0, 11)]) (st := []) (rv := fun b => ((0, b), (sz, sl, tt td, cv c))) (st3 := fun b => [(0, b)]) (w3 := fun b => (sz, sl, tt td, cv c)) mvX4_307 (fun b h => kX4_isWord 11 c b h) rfl (by decide) (t_111 td) rfl rfl rfl (Nat.le_of_ble_eq_true rfl) (fun _ => Nat.le_of_ble_eq_true rfl) (fun _ => ⟨rfl, rfl⟩) dX4_asksOn_12 (fun p_5 => ?_)
  refine s_if_eq (pc := 15) (tgt := 48) dX4_asksOn_15 rfl ?_ ?_
  · refine s_aload_n (pc := 48) dX4_asksOn_48 rfl ?_
    refine s_callV3 (pc := 49) (a := 111) (as := []) (st := []) (rv := fun b => ((0, b), (sz, sl, tt td, cv c))) (st3 := fun b => [(0, b)]) (w3 := fun b => (sz, sl, tt td, cv c)) mvX4_325 (fun b h => kX4_top  c b h) rfl (by decide) (t_111 td) rfl rfl rfl (Nat.le_of_ble_eq_true rfl) (fun _ => Nat.le_of_ble_eq_true rfl) (fun _ => ⟨rfl, rfl⟩) dX4_asksOn_49 (fun p_6 => ?_)
    refine s_iconst (pc := 52) dX4_asksOn_52 ?_
    refine s_icmp_ne (pc := 53) (tgt := 72) dX4_asksOn_53 rfl ?_ ?_
    · exact sX4_asksOn_j72  c
    refine s_aload_n (pc := 56) dX4_asksOn_56 rfl ?_
    refine s_bipush (pc := 57) dX4_asksOn_57 ?_
    refine s_callV3 (pc := 59) (a := 111) (as := [(0, 59)]) (st := []) (rv := fun b => ((0, b), (sz, sl, tt td, cv c))) (st3 := fun b => [(0, b)]) (w3 := fun b => (sz, sl, tt td, cv c)) mvX4_322 (fun b h => kX4_isSign 59 c b h) rfl (by decide) (t_111 td) rfl rfl rfl (Nat.le_of_ble_eq_true rfl) (fun _ => Nat.le_of_ble_eq_true rfl) (fun _ => ⟨rfl, rfl⟩) dX4_asksOn_59 (fun p_8 => ?_)
    refine s_if_eq (pc := 62) (tgt := 72) dX4_asksOn_62 rfl ?_ ?_
    · exact sX4_asksOn_j72  c
    refine s_aload_n (pc := 65) dX4_asksOn_65 rfl ?_
    refine s_callV3 (pc := 66) (a := 111) (as := []) (st := []) (rv := fun b => ((3, 0), (sz, sl, tt td, cv b))) (st3 := fun b => []) (w3 := fun b => (sz, sl, tt td, cv b)) mvX4_338 (fun b h => kX4_clauseIsOver  c b h) rfl (by decide) (t_111 td) rfl rfl rfl (Nat.le_of_ble_eq_true rfl) (fun _ => Nat.le_of_ble_eq_true rfl) (fun _ => ⟨rfl, rfl⟩) dX4_asksOn_66 (fun p_9 => ?_)
    refine s_goto (pc := 69) (tgt := 77) dX4_asksOn_69 rfl ?_
    exact s_vret (pc := 77) dX4_asksOn_77 rfl (fun h => h)
  exact sX4_asksOn_j18  c
theorem kX4_asksOn {G : GG} {sz sl : Nat} {td : TT}  (c : CC) (x : CC) (h : fX4_asksOn  c = some x) : Ct G yX4_asksOn muX4_asksOn [(2, 111)] (sz, sl, tt td, cv c) ((3, 0), (sz, sl, tt td, cv x)) :=
  Ct.of (n := 0) (ls0 := [some (2, 111)]) (by decide) rfl rfl ⟨by decide, by decide⟩ (Nat.le_of_ble_eq_true rfl) rfl ⟨Nat.le_refl _, Nat.le_refl _⟩ (show (3 : Nat) ≠ 9 by decide) (fun Γ => sX4_asksOn  c x h rfl)
abbrev muX4_number : MI := (cX4_number, RX4, 4, some .int, 4, "number")
noncomputable def fX4_number_j15 (v1 : Int) (c : CC) : Option (Int × CC) :=
  cl (fX4_errs 1 c) fun p_1 =>
   some (v1, p_1)
theorem sX4_number_j15 {G : GG} {Γ : Cx} {r : Vv × Wd} {sz sl : Nat} {td : TT} (v1 : Int) (c : CC) : Sm (fX4_number_j15 v1 c) (fun x => r = ((0, x.1), (sz, sl, tt td, cv x.2))) (WP G Γ muX4_number r 15 [some (2, 111), some (0, v1), none, none] [] (sz, sl, tt td, cv c)) := by
  unfold fX4_number_j15
  refine s_aload_n (pc := 15) dX4_number_15 rfl ?_
  refine s_iconst (pc := 16) dX4_number_16 ?_
  refine s_callV3 (pc := 17) (a := 111) (as := [(0, 1)]) (st := []) (rv := fun b => ((3, 0), (sz, sl, tt td, cv b))) (st3 := fun b => []) (w3 := fun b => (sz, sl, tt td, cv b)) mvX4_284 (fun b h => kX4_errs 1 c b h) rfl (by decide) (t_111 td) rfl rfl rfl (Nat.le_of_ble_eq_true rfl) (fun _ => Nat.le_of_ble_eq_true rfl) (fun _ => ⟨rfl, rfl⟩) dX4_number_17 (fun p_1 => ?_)
  refine s_iload_n (pc := 20) dX4_number_20 rfl ?_
  exact s_iret (pc := 21) dX4_number_21 rfl (fun h => h)
noncomputable def fX4_number (a1 : Int) (a2 : Int) (c : CC) : Option (Int × CC) :=
  if (0 : Int) < c 111 23 then
  (fX4_number_j15 a1 c)
  else
  (if c 111 21 = 2 then
  (cl (fX4_in (c 111 22) a1 a2) fun p_2 =>
   if p_2 = 0 then
  (cl (fX4_errs 2 c) fun p_5 =>
   some (a1, p_5))
  else
  (bd (c 111 22) fun v3_3 =>
   cl (fX4_next  c) fun p_4 =>
   some (v3_3, p_4)))
  else
  (fX4_number_j15 a1 c))
theorem sX4_number {G : GG} {Γ : Cx} {r : Vv × Wd} {sz sl : Nat} {td : TT} (a1 : Int) (a2 : Int) (c : CC) : Sm (fX4_number a1 a2 c) (fun x => r = ((0, x.1), (sz, sl, tt td, cv x.2))) (WP G Γ muX4_number r 0 [some (2, 111), some (0, a1), some (0, a2), none] [] (sz, sl, tt td, cv c)) := by
  unfold fX4_number
  refine s_aload_n (pc := 0) dX4_number_0 rfl ?_
  refine s_get (pc := 1) (a := 111) (v := c 111 23) flX4_269 (t_111 _) rfl (g_111_23 _) rfl dX4_number_1 ?_
  refine s_if_gt (pc := 4) (tgt := 15) dX4_number_4 rfl ?_ ?_
  · refine s_wk [true, true, false, true] (ls' := [some (2, 111), some (0, a1), none, none]) rfl ?_
    exact sX4_number_j15 a1 c
  refine s_aload_n (pc := 7) dX4_number_7 rfl ?_
  refine s_get (pc := 8) (a := 111) (v := c 111 21) flX4_252 (t_111 _) rfl (g_111_21 _) rfl dX4_number_8 ?_
  refine s_iconst (pc := 11) dX4_number_11 ?_
  refine s_icmp_eq (pc := 12) (tgt := 22) dX4_number_12 rfl ?_ ?_
  · refine s_aload_n (pc := 22) dX4_number_22 rfl ?_
    refine s_get (pc := 23) (a := 111) (v := c 111 22) flX4_265 (t_111 _) rfl (g_111_22 _) rfl dX4_number_23 ?_
    refine s_iload_n (pc := 26) dX4_number_26 rfl ?_
    refine s_iload_n (pc := 27) dX4_number_27 rfl ?_
    refine s_callS3 (pc := 28) (as := [(0, c 111 22), (0, a1), (0, a2)]) (st := []) (rv := fun b => ((0, b), (sz, sl, tt td, cv c))) (st3 := fun b => [(0, b)]) (w3 := fun b => (sz, sl, tt td, cv c)) msX4_199 (fun b h => kX4_in (c 111 22) a1 a2 c b h) rfl (by decide) rfl (Nat.le_of_ble_eq_true rfl) (fun _ => Nat.le_of_ble_eq_true rfl) (fun _ => ⟨rfl, rfl⟩) dX4_number_28 (fun p_2 => ?_)
    refine s_if_ne (pc := 31) (tgt := 41) dX4_number_31 rfl ?_ ?_
    · refine s_aload_n (pc := 41) dX4_number_41 rfl ?_
      refine s_get (pc := 42) (a := 111) (v := c 111 22) flX4_265 (t_111 _) rfl (g_111_22 _) rfl dX4_number_42 ?_
      refine s_istore_n (pc := 45) (lf := fun x => [some (2, 111), some (0, a1), some (0, a2), some (0, x)]) dX4_number_45 (fun _ => rfl) (Nat.le_of_ble_eq_true rfl) (fun v3_3 => ?_)
      refine s_aload_n (pc := 46) dX4_number_46 rfl ?_
      refine s_callV3 (pc := 47) (a := 111) (as := []) (st := []) (rv := fun b => ((3, 0), (sz, sl, tt td, cv b))) (st3 := fun b => []) (w3 := fun b => (sz, sl, tt td, cv b)) mvX4_290 (fun b h => kX4_next  c b h) rfl (by decide) (t_111 td) rfl rfl rfl (Nat.le_of_ble_eq_true rfl) (fun _ => Nat.le_of_ble_eq_true rfl) (fun _ => ⟨rfl, rfl⟩) dX4_number_47 (fun p_4 => ?_)
      refine s_iload_n (pc := 50) dX4_number_50 rfl ?_
      exact s_iret (pc := 51) dX4_number_51 rfl (fun h => h)
    refine s_aload_n (pc := 34) dX4_number_34 rfl ?_
    refine s_iconst (pc := 35) dX4_number_35 ?_
    refine s_callV3 (pc := 36) (a := 111) (as := [(0, 2)]) (st := []) (rv := fun b => ((3, 0), (sz, sl, tt td, cv b))) (st3 := fun b => []) (w3 := fun b => (sz, sl, tt td, cv b)) mvX4_284 (fun b h => kX4_errs 2 c b h) rfl (by decide) (t_111 td) rfl rfl rfl (Nat.le_of_ble_eq_true rfl) (fun _ => Nat.le_of_ble_eq_true rfl) (fun _ => ⟨rfl, rfl⟩) dX4_number_36 (fun p_5 => ?_)
    refine s_iload_n (pc := 39) dX4_number_39 rfl ?_
    exact s_iret (pc := 40) dX4_number_40 rfl (fun h => h)
  refine s_wk [true, true, false, true] (ls' := [some (2, 111), some (0, a1), none, none]) rfl ?_
  exact sX4_number_j15 a1 c
theorem kX4_number {G : GG} {sz sl : Nat} {td : TT} (a1 : Int) (a2 : Int) (c : CC) (x : (Int × CC)) (h : fX4_number a1 a2 c = some x) : Ct G yX4_number muX4_number [(2, 111), (0, a1), (0, a2)] (sz, sl, tt td, cv c) ((0, x.1), (sz, sl, tt td, cv x.2)) :=
  Ct.of (n := 1) (ls0 := [some (2, 111), some (0, a1), some (0, a2), none]) (by decide) rfl rfl ⟨by decide, by decide⟩ (Nat.le_of_ble_eq_true rfl) rfl ⟨Nat.le_refl _, Nat.le_refl _⟩ (show (0 : Nat) ≠ 9 by decide) (fun Γ => sX4_number a1 a2 c x h rfl)
abbrev muX4_wants : MI := (cX4_wants, RX4, 2, none, 4, "wants")
noncomputable def fX4_wants_j16  (c : CC) : Option CC :=
  if c 111 23 = 0 then
  (cl (fX4_next  c) fun p_1 =>
   some p_1)
  else
  (some c)
theorem sX4_wants_j16 {G : GG} {Γ : Cx} {r : Vv × Wd} {sz sl : Nat} {td : TT}  (c : CC) : Sm (fX4_wants_j16  c) (fun x => r = ((3, 0), (sz, sl, tt td, cv x))) (WP G Γ muX4_wants r 16 [some (2, 111), none] [] (sz, sl, tt td, cv c)) := by
  unfold fX4_wants_j16
  refine s_aload_n (pc := 16) dX4_wants_16 rfl ?_
  refine s_get (pc := 17) (a := 111) (v := c 111 23) flX4_269 (t_111 _) rfl (g_111_23 _) rfl dX4_wants_17 ?_
  refine s_if_ne (pc := 20) (tgt := 27) dX4_wants_20 rfl ?_ ?_
  · exact s_vret (pc := 27) dX4_wants_27 rfl (fun h => h)
  refine s_aload_n (pc := 23) dX4_wants_23 rfl ?_
  refine s_callV3 (pc := 24) (a := 111) (as := []) (st := []) (rv := fun b => ((3, 0), (sz, sl, tt td, cv b))) (st3 := fun b => []) (w3 := fun b => (sz, sl, tt td, cv b)) mvX4_290 (fun b h => kX4_next  c b h) rfl (by decide) (t_111 td) rfl rfl rfl (Nat.le_of_ble_eq_true rfl) (fun _ => Nat.le_of_ble_eq_true rfl) (fun _ => ⟨rfl, rfl⟩) dX4_wants_24 (fun p_1 => ?_)
  exact s_vret (pc := 27) dX4_wants_27 rfl (fun h => h)
noncomputable def fX4_wants (a1 : Int) (c : CC) : Option CC :=
  if c 111 23 = 0 then
  (if a1 = 0 then
  (cl (fX4_errs 1 c) fun p_2 =>
   fX4_wants_j16  p_2)
  else
  (fX4_wants_j16  c))
  else
  (fX4_wants_j16  c)
theorem sX4_wants {G : GG} {Γ : Cx} {r : Vv × Wd} {sz sl : Nat} {td : TT} (a1 : Int) (c : CC) : Sm (fX4_wants a1 c) (fun x => r = ((3, 0), (sz, sl, tt td, cv x))) (WP G Γ muX4_wants r 0 [some (2, 111), some (0, a1)] [] (sz, sl, tt td, cv c)) := by
  unfold fX4_wants
  refine s_aload_n (pc := 0) dX4_wants_0 rfl ?_
  refine s_get (pc := 1) (a := 111) (v := c 111 23) flX4_269 (t_111 _) rfl (g_111_23 _) rfl dX4_wants_1 ?_
  refine s_if_ne (pc := 4) (tgt := 16) dX4_wants_4 rfl ?_ ?_
  · refine s_wk [true, false] (ls' := [some (2, 111), none]) rfl ?_
    exact sX4_wants_j16  c
  refine s_iload_n (pc := 7) dX4_wants_7 rfl ?_
  refine s_if_ne (pc := 8) (tgt := 16) dX4_wants_8 rfl ?_ ?_
  · refine s_wk [true, false] (ls' := [some (2, 111), none]) rfl ?_
    exact sX4_wants_j16  c
  refine s_aload_n (pc := 11) dX4_wants_11 rfl ?_
  refine s_iconst (pc := 12) dX4_wants_12 ?_
  refine s_callV3 (pc := 13) (a := 111) (as := [(0, 1)]) (st := []) (rv := fun b => ((3, 0), (sz, sl, tt td, cv b))) (st3 := fun b => []) (w3 := fun b => (sz, sl, tt td, cv b)) mvX4_284 (fun b h => kX4_errs 1 c b h) rfl (by decide) (t_111 td) rfl rfl rfl (Nat.le_of_ble_eq_true rfl) (fun _ => Nat.le_of_ble_eq_true rfl) (fun _ => ⟨rfl, rfl⟩) dX4_wants_13 (fun p_2 => ?_)
  refine s_wk [true, false] (ls' := [some (2, 111), none]) rfl ?_
  exact sX4_wants_j16  p_2
theorem kX4_wants {G : GG} {sz sl : Nat} {td : TT} (a1 : Int) (c : CC) (x : CC) (h : fX4_wants a1 c = some x) : Ct G yX4_wants muX4_wants [(2, 111), (0, a1)] (sz, sl, tt td, cv c) ((3, 0), (sz, sl, tt td, cv x)) :=
  Ct.of (n := 0) (ls0 := [some (2, 111), some (0, a1)]) (by decide) rfl rfl ⟨by decide, by decide⟩ (Nat.le_of_ble_eq_true rfl) rfl ⟨Nat.le_refl _, Nat.le_refl _⟩ (show (3 : Nat) ≠ 9 by decide) (fun Γ => sX4_wants a1 c x h rfl)
theorem flX4_81 : FL RX4 81 3 37 := ⟨_, _, _, cf3, by decide, q1281⟩
theorem mvX4_344 : MV RX4 344 RX4 yX4_number muX4_number 2 := ⟨lw_V q1627 q1629 qs77 q129 q1630, by decide +kernel, by decide⟩
theorem mvX4_348 : MV RX4 348 RX4 yX4_wants muX4_wants 1 := ⟨lw_V q1631 q1633 qs78 q129 q1634, by decide +kernel, by decide⟩
abbrev muX4_readsSense : MI := (cX4_readsSense, RX4, 3, none, 5, "readsSense")
abbrev gX4_readsSense_l10 (G : GG) (Γ : Cx) (r : Vv × Wd) (sz sl : Nat) (td : TT) (v1 : Int) : (Int × CC) → Prop := fun s => WP G Γ muX4_readsSense r 10 [some (2, 111), some (0, v1), some (0, s.1)] [] (sz, sl, tt td, cv s.2)
abbrev eX4_readsSense_l10 (G : GG) (Γ : Cx) (r : Vv × Wd) (sz sl : Nat) (td : TT) (v1 : Int) : (CC) → Prop := (fun s => WP G Γ muX4_readsSense r 31 [some (2, 111), some (0, v1), none] [] (sz, sl, tt td, cv s))
noncomputable def fX4_readsSense_l10 (v1 : Int) (v2 : Int) (c : CC) : Option ((Int × CC) ⊕ (CC)) :=
  if v2 < 7 then
  (gd (inR (v1 + v2)) <|
   gd ((0 : Int) ≤ v1 + v2 ∧ v1 + v2 < 168) <| bd (up2 c 133 (Int.toNat (v1 + v2)) (-1)) fun c_2 =>
   gd (inR (v2 + 1)) <| bd (v2 + 1) fun v2_3 =>
   some (.inl (v2_3, c_2)))
  else
  (some (.inr c))
theorem sX4_readsSense_l10 {G : GG} {Γ : Cx} {r : Vv × Wd} {sz sl : Nat} {td : TT} (v1 : Int) (v2 : Int) (c : CC) : Sm (fX4_readsSense_l10 v1 v2 c) (fun x => Sum.elim (gX4_readsSense_l10 G Γ r sz sl td v1) (eX4_readsSense_l10 G Γ r sz sl td v1) x) (gX4_readsSense_l10 G Γ r sz sl td v1 (v2, c)) := by
  show Sm _ _ (WP G Γ muX4_readsSense r 10 [some (2, 111), some (0, v1), some (0, v2)] [] (sz, sl, tt td, cv c))
  unfold fX4_readsSense_l10
  refine s_iload_n (pc := 10) dX4_readsSense_10 rfl ?_
  refine s_bipush (pc := 11) dX4_readsSense_11 ?_
  refine s_icmp_ge (pc := 13) (tgt := 31) dX4_readsSense_13 rfl ?_ ?_
  · refine s_wk [true, true, false] (ls' := [some (2, 111), some (0, v1), none]) rfl ?_
    exact Sm.some (fun h => h)
  refine s_aload_n (pc := 16) dX4_readsSense_16 rfl ?_
  refine s_get (pc := 17) (a := 111) (v := 133) flX4_81 (t_111 _) rfl (g_111_37 _) rfl dX4_readsSense_17 ?_
  refine s_iload_n (pc := 20) dX4_readsSense_20 rfl ?_
  refine s_iload_n (pc := 21) dX4_readsSense_21 rfl ?_
  refine s_iadd (pc := 22) dX4_readsSense_22 ?_
  refine s_iconst (pc := 23) dX4_readsSense_23 ?_
  refine s_iastM (pc := 24) (a := 133) (t_133 _) rfl kO_133 r_133 dX4_readsSense_24 (fun c_2 => ?_)
  refine s_iinc (pc := 25) (lf := fun x => [some (2, 111), some (0, v1), some (0, x)]) dX4_readsSense_25 rfl (fun _ => rfl) (Nat.le_of_ble_eq_true rfl) (fun v2_3 => ?_)
  refine s_goto (pc := 28) (tgt := 10) dX4_readsSense_28 rfl ?_
  exact Sm.some (fun h => h)
noncomputable def fX4_readsSense_j258  (c : CC) : Option CC :=
  if c 111 23 = 0 then
  (cl (fX4_clauseIsOver  c) fun p_12 =>
   some p_12)
  else
  (some c)
theorem sX4_readsSense_j258 {G : GG} {Γ : Cx} {r : Vv × Wd} {sz sl : Nat} {td : TT}  (c : CC) : Sm (fX4_readsSense_j258  c) (fun x => r = ((3, 0), (sz, sl, tt td, cv x))) (WP G Γ muX4_readsSense r 258 [some (2, 111), none, none] [] (sz, sl, tt td, cv c)) := by
  unfold fX4_readsSense_j258
  refine s_aload_n (pc := 258) dX4_readsSense_258 rfl ?_
  refine s_get (pc := 259) (a := 111) (v := c 111 23) flX4_269 (t_111 _) rfl (g_111_23 _) rfl dX4_readsSense_259 ?_
  refine s_if_ne (pc := 262) (tgt := 269) dX4_readsSense_262 rfl ?_ ?_
  · exact s_vret (pc := 269) dX4_readsSense_269 rfl (fun h => h)
  refine s_aload_n (pc := 265) dX4_readsSense_265 rfl ?_
  refine s_callV3 (pc := 266) (a := 111) (as := []) (st := []) (rv := fun b => ((3, 0), (sz, sl, tt td, cv b))) (st3 := fun b => []) (w3 := fun b => (sz, sl, tt td, cv b)) mvX4_338 (fun b h => kX4_clauseIsOver  c b h) rfl (by decide) (t_111 td) rfl rfl rfl (Nat.le_of_ble_eq_true rfl) (fun _ => Nat.le_of_ble_eq_true rfl) (fun _ => ⟨rfl, rfl⟩) dX4_readsSense_266 (fun p_12 => ?_)
  exact s_vret (pc := 269) dX4_readsSense_269 rfl (fun h => h)
noncomputable def fX4_readsSense_j237  (c : CC) : Option CC :=
  if c 111 23 = 0 then
  (cl (fX4_isSign 59 c) fun p_13 =>
   if p_13 = 0 then
  (cl (fX4_errs 1 c) fun p_14 =>
   fX4_readsSense_j258  p_14)
  else
  (fX4_readsSense_j258  c))
  else
  (fX4_readsSense_j258  c)
theorem sX4_readsSense_j237 {G : GG} {Γ : Cx} {r : Vv × Wd} {sz sl : Nat} {td : TT}  (c : CC) : Sm (fX4_readsSense_j237  c) (fun x => r = ((3, 0), (sz, sl, tt td, cv x))) (WP G Γ muX4_readsSense r 237 [some (2, 111), none, none] [] (sz, sl, tt td, cv c)) := by
  unfold fX4_readsSense_j237
  refine s_aload_n (pc := 237) dX4_readsSense_237 rfl ?_
  refine s_get (pc := 238) (a := 111) (v := c 111 23) flX4_269 (t_111 _) rfl (g_111_23 _) rfl dX4_readsSense_238 ?_
  refine s_if_ne (pc := 241) (tgt := 258) dX4_readsSense_241 rfl ?_ ?_
  · exact sX4_readsSense_j258  c
  refine s_aload_n (pc := 244) dX4_readsSense_244 rfl ?_
  refine s_bipush (pc := 245) dX4_readsSense_245 ?_
  refine s_callV3 (pc := 247) (a := 111) (as := [(0, 59)]) (st := []) (rv := fun b => ((0, b), (sz, sl, tt td, cv c))) (st3 := fun b => [(0, b)]) (w3 := fun b => (sz, sl, tt td, cv c)) mvX4_322 (fun b h => kX4_isSign 59 c b h) rfl (by decide) (t_111 td) rfl rfl rfl (Nat.le_of_ble_eq_true rfl) (fun _ => Nat.le_of_ble_eq_true rfl) (fun _ => ⟨rfl, rfl⟩) dX4_readsSense_247 (fun p_13 => ?_)
  refine s_if_ne (pc := 250) (tgt := 258) dX4_readsSense_250 rfl ?_ ?_
  · exact sX4_readsSense_j258  c
  refine s_aload_n (pc := 253) dX4_readsSense_253 rfl ?_
  refine s_iconst (pc := 254) dX4_readsSense_254 ?_
  refine s_callV3 (pc := 255) (a := 111) (as := [(0, 1)]) (st := []) (rv := fun b => ((3, 0), (sz, sl, tt td, cv b))) (st3 := fun b => []) (w3 := fun b => (sz, sl, tt td, cv b)) mvX4_284 (fun b h => kX4_errs 1 c b h) rfl (by decide) (t_111 td) rfl rfl rfl (Nat.le_of_ble_eq_true rfl) (fun _ => Nat.le_of_ble_eq_true rfl) (fun _ => ⟨rfl, rfl⟩) dX4_readsSense_255 (fun p_14 => ?_)
  exact sX4_readsSense_j258  p_14
noncomputable def fX4_readsSense_j206 (v1 : Int) (v2 : Int) (c : CC) : Option CC :=
  if v2 = 5 then
  (fX4_readsSense_j237  c)
  else
  (cl (fX4_isSign 44 c) fun p_15 =>
   cl (fX4_wants p_15 c) fun p_16 =>
   gd (inR (v1 + 6)) <|
   cl (fX4_number 0 99 p_16) fun p_17 =>
   gd ((0 : Int) ≤ v1 + 6 ∧ v1 + 6 < 168) <| bd (up2 p_17.2 133 (Int.toNat (v1 + 6)) p_17.1) fun c_18 =>
   fX4_readsSense_j237  c_18)
theorem sX4_readsSense_j206 {G : GG} {Γ : Cx} {r : Vv × Wd} {sz sl : Nat} {td : TT} (v1 : Int) (v2 : Int) (c : CC) : Sm (fX4_readsSense_j206 v1 v2 c) (fun x => r = ((3, 0), (sz, sl, tt td, cv x))) (WP G Γ muX4_readsSense r 206 [some (2, 111), some (0, v1), some (0, v2)] [] (sz, sl, tt td, cv c)) := by
  unfold fX4_readsSense_j206
  refine s_iload_n (pc := 206) dX4_readsSense_206 rfl ?_
  refine s_iconst (pc := 207) dX4_readsSense_207 ?_
  refine s_icmp_eq (pc := 208) (tgt := 237) dX4_readsSense_208 rfl ?_ ?_
  · refine s_wk [true, false, false] (ls' := [some (2, 111), none, none]) rfl ?_
    exact sX4_readsSense_j237  c
  refine s_aload_n (pc := 211) dX4_readsSense_211 rfl ?_
  refine s_aload_n (pc := 212) dX4_readsSense_212 rfl ?_
  refine s_bipush (pc := 213) dX4_readsSense_213 ?_
  refine s_callV3 (pc := 215) (a := 111) (as := [(0, 44)]) (st := [(2, 111)]) (rv := fun b => ((0, b), (sz, sl, tt td, cv c))) (st3 := fun b => [(0, b), (2, 111)]) (w3 := fun b => (sz, sl, tt td, cv c)) mvX4_322 (fun b h => kX4_isSign 44 c b h) rfl (by decide) (t_111 td) rfl rfl rfl (Nat.le_of_ble_eq_true rfl) (fun _ => Nat.le_of_ble_eq_true rfl) (fun _ => ⟨rfl, rfl⟩) dX4_readsSense_215 (fun p_15 => ?_)
  refine s_callV3 (pc := 218) (a := 111) (as := [(0, p_15)]) (st := []) (rv := fun b => ((3, 0), (sz, sl, tt td, cv b))) (st3 := fun b => []) (w3 := fun b => (sz, sl, tt td, cv b)) mvX4_348 (fun b h => kX4_wants p_15 c b h) rfl (by decide) (t_111 td) rfl rfl rfl (Nat.le_of_ble_eq_true rfl) (fun _ => Nat.le_of_ble_eq_true rfl) (fun _ => ⟨rfl, rfl⟩) dX4_readsSense_218 (fun p_16 => ?_)
  refine s_aload_n (pc := 221) dX4_readsSense_221 rfl ?_
  refine s_get (pc := 222) (a := 111) (v := 133) flX4_81 (t_111 _) rfl (g_111_37 _) rfl dX4_readsSense_222 ?_
  refine s_iload_n (pc := 225) dX4_readsSense_225 rfl ?_
  refine s_bipush (pc := 226) dX4_readsSense_226 ?_
  refine s_iadd (pc := 228) dX4_readsSense_228 ?_
  refine s_aload_n (pc := 229) dX4_readsSense_229 rfl ?_
  refine s_iconst (pc := 230) dX4_readsSense_230 ?_
  refine s_bipush (pc := 231) dX4_readsSense_231 ?_
  refine s_callV3 (pc := 233) (a := 111) (as := [(0, 0), (0, 99)]) (st := [(0, v1 + 6), (2, 133)]) (rv := fun b => ((0, b.1), (sz, sl, tt td, cv b.2))) (st3 := fun b => [(0, b.1), (0, v1 + 6), (2, 133)]) (w3 := fun b => (sz, sl, tt td, cv b.2)) mvX4_344 (fun b h => kX4_number 0 99 p_16 b h) rfl (by decide) (t_111 td) rfl rfl rfl (Nat.le_of_ble_eq_true rfl) (fun _ => Nat.le_of_ble_eq_true rfl) (fun _ => ⟨rfl, rfl⟩) dX4_readsSense_233 (fun p_17 => ?_)
  refine s_iastM (pc := 236) (a := 133) (t_133 _) rfl kO_133 r_133 dX4_readsSense_236 (fun c_18 => ?_)
  refine s_wk [true, false, false] (ls' := [some (2, 111), none, none]) rfl ?_
  exact sX4_readsSense_j237  c_18
noncomputable def fX4_readsSense_j162 (v1 : Int) (v2 : Int) (c : CC) : Option CC :=
  gd (inR (v1 + 4)) <|
   cl (fX4_number 0 7 c) fun p_10 =>
   gd ((0 : Int) ≤ v1 + 4 ∧ v1 + 4 < 168) <| bd (up2 p_10.2 133 (Int.toNat (v1 + 4)) p_10.1) fun c_11 =>
   if v2 = 0 then
  (cl (fX4_isSign 44 c_11) fun p_19 =>
   cl (fX4_wants p_19 c_11) fun p_20 =>
   gd (inR (v1 + 5)) <|
   cl (fX4_number 1 9 p_20) fun p_21 =>
   gd ((0 : Int) ≤ v1 + 5 ∧ v1 + 5 < 168) <| bd (up2 p_21.2 133 (Int.toNat (v1 + 5)) p_21.1) fun c_22 =>
   fX4_readsSense_j206 v1 v2 c_22)
  else
  (fX4_readsSense_j206 v1 v2 c_11)
theorem sX4_readsSense_j162 {G : GG} {Γ : Cx} {r : Vv × Wd} {sz sl : Nat} {td : TT} (v1 : Int) (v2 : Int) (c : CC) : Sm (fX4_readsSense_j162 v1 v2 c) (fun x => r = ((3, 0), (sz, sl, tt td, cv x))) (WP G Γ muX4_readsSense r 162 [some (2, 111), some (0, v1), some (0, v2)] [] (sz, sl, tt td, cv c)) := by
  unfold fX4_readsSense_j162
  refine s_aload_n (pc := 162) dX4_readsSense_162 rfl ?_
  refine s_get (pc := 163) (a := 111) (v := 133) flX4_81 (t_111 _) rfl (g_111_37 _) rfl dX4_readsSense_163 ?_
  refine s_iload_n (pc := 166) dX4_readsSense_166 rfl ?_
  refine s_iconst (pc := 167) dX4_readsSense_167 ?_
  refine s_iadd (pc := 168) dX4_readsSense_168 ?_
  refine s_aload_n (pc := 169) dX4_readsSense_169 rfl ?_
  refine s_iconst (pc := 170) dX4_readsSense_170 ?_
  refine s_bipush (pc := 171) dX4_readsSense_171 ?_
  refine s_callV3 (pc := 173) (a := 111) (as := [(0, 0), (0, 7)]) (st := [(0, v1 + 4), (2, 133)]) (rv := fun b => ((0, b.1), (sz, sl, tt td, cv b.2))) (st3 := fun b => [(0, b.1), (0, v1 + 4), (2, 133)]) (w3 := fun b => (sz, sl, tt td, cv b.2)) mvX4_344 (fun b h => kX4_number 0 7 c b h) rfl (by decide) (t_111 td) rfl rfl rfl (Nat.le_of_ble_eq_true rfl) (fun _ => Nat.le_of_ble_eq_true rfl) (fun _ => ⟨rfl, rfl⟩) dX4_readsSense_173 (fun p_10 => ?_)
  refine s_iastM (pc := 176) (a := 133) (t_133 _) rfl kO_133 r_133 dX4_readsSense_176 (fun c_11 => ?_)
  refine s_iload_n (pc := 177) dX4_readsSense_177 rfl ?_
  refine s_if_ne (pc := 178) (tgt := 206) dX4_readsSense_178 rfl ?_ ?_
  · exact sX4_readsSense_j206 v1 v2 c_11
  refine s_aload_n (pc := 181) dX4_readsSense_181 rfl ?_
  refine s_aload_n (pc := 182) dX4_readsSense_182 rfl ?_
  refine s_bipush (pc := 183) dX4_readsSense_183 ?_
  refine s_callV3 (pc := 185) (a := 111) (as := [(0, 44)]) (st := [(2, 111)]) (rv := fun b => ((0, b), (sz, sl, tt td, cv c_11))) (st3 := fun b => [(0, b), (2, 111)]) (w3 := fun b => (sz, sl, tt td, cv c_11)) mvX4_322 (fun b h => kX4_isSign 44 c_11 b h) rfl (by decide) (t_111 td) rfl rfl rfl (Nat.le_of_ble_eq_true rfl) (fun _ => Nat.le_of_ble_eq_true rfl) (fun _ => ⟨rfl, rfl⟩) dX4_readsSense_185 (fun p_19 => ?_)
  refine s_callV3 (pc := 188) (a := 111) (as := [(0, p_19)]) (st := []) (rv := fun b => ((3, 0), (sz, sl, tt td, cv b))) (st3 := fun b => []) (w3 := fun b => (sz, sl, tt td, cv b)) mvX4_348 (fun b h => kX4_wants p_19 c_11 b h) rfl (by decide) (t_111 td) rfl rfl rfl (Nat.le_of_ble_eq_true rfl) (fun _ => Nat.le_of_ble_eq_true rfl) (fun _ => ⟨rfl, rfl⟩) dX4_readsSense_188 (fun p_20 => ?_)
  refine s_aload_n (pc := 191) dX4_readsSense_191 rfl ?_
  refine s_get (pc := 192) (a := 111) (v := 133) flX4_81 (t_111 _) rfl (g_111_37 _) rfl dX4_readsSense_192 ?_
  refine s_iload_n (pc := 195) dX4_readsSense_195 rfl ?_
  refine s_iconst (pc := 196) dX4_readsSense_196 ?_
  refine s_iadd (pc := 197) dX4_readsSense_197 ?_
  refine s_aload_n (pc := 198) dX4_readsSense_198 rfl ?_
  refine s_iconst (pc := 199) dX4_readsSense_199 ?_
  refine s_bipush (pc := 200) dX4_readsSense_200 ?_
  refine s_callV3 (pc := 202) (a := 111) (as := [(0, 1), (0, 9)]) (st := [(0, v1 + 5), (2, 133)]) (rv := fun b => ((0, b.1), (sz, sl, tt td, cv b.2))) (st3 := fun b => [(0, b.1), (0, v1 + 5), (2, 133)]) (w3 := fun b => (sz, sl, tt td, cv b.2)) mvX4_344 (fun b h => kX4_number 1 9 p_20 b h) rfl (by decide) (t_111 td) rfl rfl rfl (Nat.le_of_ble_eq_true rfl) (fun _ => Nat.le_of_ble_eq_true rfl) (fun _ => ⟨rfl, rfl⟩) dX4_readsSense_202 (fun p_21 => ?_)
  refine s_iastM (pc := 205) (a := 133) (t_133 _) rfl kO_133 r_133 dX4_readsSense_205 (fun c_22 => ?_)
  exact sX4_readsSense_j206 v1 v2 c_22
noncomputable def fX4_readsSense_j152 (v1 : Int) (v2 : Int) (c : CC) : Option CC :=
  cl (fX4_isWord 9 c) fun p_25 =>
   cl (fX4_wants p_25 c) fun p_26 =>
   fX4_readsSense_j162 v1 v2 p_26
theorem sX4_readsSense_j152 {G : GG} {Γ : Cx} {r : Vv × Wd} {sz sl : Nat} {td : TT} (v1 : Int) (v2 : Int) (c : CC) : Sm (fX4_readsSense_j152 v1 v2 c) (fun x => r = ((3, 0), (sz, sl, tt td, cv x))) (WP G Γ muX4_readsSense r 152 [some (2, 111), some (0, v1), some (0, v2)] [] (sz, sl, tt td, cv c)) := by
  unfold fX4_readsSense_j152
  refine s_aload_n (pc := 152) dX4_readsSense_152 rfl ?_
  refine s_aload_n (pc := 153) dX4_readsSense_153 rfl ?_
  refine s_bipush (pc := 154) dX4_readsSense_154 ?_
  refine s_callV3 (pc := 156) (a := 111) (as := [(0, 9)]) (st := [(2, 111)]) (rv := fun b => ((0, b), (sz, sl, tt td, cv c))) (st3 := fun b => [(0, b), (2, 111)]) (w3 := fun b => (sz, sl, tt td, cv c)) mvX4_307 (fun b h => kX4_isWord 9 c b h) rfl (by decide) (t_111 td) rfl rfl rfl (Nat.le_of_ble_eq_true rfl) (fun _ => Nat.le_of_ble_eq_true rfl) (fun _ => ⟨rfl, rfl⟩) dX4_readsSense_156 (fun p_25 => ?_)
  refine s_callV3 (pc := 159) (a := 111) (as := [(0, p_25)]) (st := []) (rv := fun b => ((3, 0), (sz, sl, tt td, cv b))) (st3 := fun b => []) (w3 := fun b => (sz, sl, tt td, cv b)) mvX4_348 (fun b h => kX4_wants p_25 c b h) rfl (by decide) (t_111 td) rfl rfl rfl (Nat.le_of_ble_eq_true rfl) (fun _ => Nat.le_of_ble_eq_true rfl) (fun _ => ⟨rfl, rfl⟩) dX4_readsSense_159 (fun p_26 => ?_)
  exact sX4_readsSense_j162 v1 v2 p_26
noncomputable def fX4_readsSense_j78 (v1 : Int) (v2 : Int) (w0 : Int) (c : CC) : Option CC :=
  cl (fX4_wants w0 c) fun p_8 =>
   if (0 : Int) < p_8 111 23 then
  (some p_8)
  else
  (gd (inR (v1 + 1)) <|
   gd ((0 : Int) ≤ v1 + 1 ∧ v1 + 1 < 168) <| bd (up2 p_8 133 (Int.toNat (v1 + 1)) v2) fun c_9 =>
   if v2 = 0 then
  (fX4_readsSense_j162 v1 v2 c_9)
  else
  (gd (inR (v1 + 2)) <|
   cl (fX4_number 0 7 c_9) fun p_23 =>
   gd ((0 : Int) ≤ v1 + 2 ∧ v1 + 2 < 168) <| bd (up2 p_23.2 133 (Int.toNat (v1 + 2)) p_23.1) fun c_24 =>
   if v2 = 3 then
  (fX4_readsSense_j152 v1 v2 c_24)
  else
  (if v2 = 5 then
  (fX4_readsSense_j152 v1 v2 c_24)
  else
  (cl (fX4_isSign 44 c_24) fun p_27 =>
   cl (fX4_wants p_27 c_24) fun p_28 =>
   gd (inR (v1 + 3)) <|
   cl (fX4_number 0 7 p_28) fun p_29 =>
   gd ((0 : Int) ≤ v1 + 3 ∧ v1 + 3 < 168) <| bd (up2 p_29.2 133 (Int.toNat (v1 + 3)) p_29.1) fun c_30 =>
   fX4_readsSense_j152 v1 v2 c_30))))
theorem sX4_readsSense_j78 {G : GG} {Γ : Cx} {r : Vv × Wd} {sz sl : Nat} {td : TT} (v1 : Int) (v2 : Int) (w0 : Int) (c : CC) : Sm (fX4_readsSense_j78 v1 v2 w0 c) (fun x => r = ((3, 0), (sz, sl, tt td, cv x))) (WP G Γ muX4_readsSense r 78 [some (2, 111), some (0, v1), some (0, v2)] [(0, w0), (2, 111)] (sz, sl, tt td, cv c)) := by
  unfold fX4_readsSense_j78
  refine s_callV3 (pc := 78) (a := 111) (as := [(0, w0)]) (st := []) (rv := fun b => ((3, 0), (sz, sl, tt td, cv b))) (st3 := fun b => []) (w3 := fun b => (sz, sl, tt td, cv b)) mvX4_348 (fun b h => kX4_wants w0 c b h) rfl (by decide) (t_111 td) rfl rfl rfl (Nat.le_of_ble_eq_true rfl) (fun _ => Nat.le_of_ble_eq_true rfl) (fun _ => ⟨rfl, rfl⟩) dX4_readsSense_78 (fun p_8 => ?_)
  refine s_aload_n (pc := 81) dX4_readsSense_81 rfl ?_
  refine s_get (pc := 82) (a := 111) (v := p_8 111 23) flX4_269 (t_111 _) rfl (g_111_23 _) rfl dX4_readsSense_82 ?_
  refine s_if_le (pc := 85) (tgt := 89) dX4_readsSense_85 rfl ?_ ?_
  · refine s_aload_n (pc := 89) dX4_readsSense_89 rfl ?_
    refine s_get (pc := 90) (a := 111) (v := 133) flX4_81 (t_111 _) rfl (g_111_37 _) rfl dX4_readsSense_90 ?_
    refine s_iload_n (pc := 93) dX4_readsSense_93 rfl ?_
    refine s_iconst (pc := 94) dX4_readsSense_94 ?_
    refine s_iadd (pc := 95) dX4_readsSense_95 ?_
    refine s_iload_n (pc := 96) dX4_readsSense_96 rfl ?_
    refine s_iastM (pc := 97) (a := 133) (t_133 _) rfl kO_133 r_133 dX4_readsSense_97 (fun c_9 => ?_)
    refine s_iload_n (pc := 98) dX4_readsSense_98 rfl ?_
    refine s_if_eq (pc := 99) (tgt := 162) dX4_readsSense_99 rfl ?_ ?_
    · exact sX4_readsSense_j162 v1 v2 c_9
    refine s_aload_n (pc := 102) dX4_readsSense_102 rfl ?_
    refine s_get (pc := 103) (a := 111) (v := 133) flX4_81 (t_111 _) rfl (g_111_37 _) rfl dX4_readsSense_103 ?_
    refine s_iload_n (pc := 106) dX4_readsSense_106 rfl ?_
    refine s_iconst (pc := 107) dX4_readsSense_107 ?_
    refine s_iadd (pc := 108) dX4_readsSense_108 ?_
    refine s_aload_n (pc := 109) dX4_readsSense_109 rfl ?_
    refine s_iconst (pc := 110) dX4_readsSense_110 ?_
    refine s_bipush (pc := 111) dX4_readsSense_111 ?_
    refine s_callV3 (pc := 113) (a := 111) (as := [(0, 0), (0, 7)]) (st := [(0, v1 + 2), (2, 133)]) (rv := fun b => ((0, b.1), (sz, sl, tt td, cv b.2))) (st3 := fun b => [(0, b.1), (0, v1 + 2), (2, 133)]) (w3 := fun b => (sz, sl, tt td, cv b.2)) mvX4_344 (fun b h => kX4_number 0 7 c_9 b h) rfl (by decide) (t_111 td) rfl rfl rfl (Nat.le_of_ble_eq_true rfl) (fun _ => Nat.le_of_ble_eq_true rfl) (fun _ => ⟨rfl, rfl⟩) dX4_readsSense_113 (fun p_23 => ?_)
    refine s_iastM (pc := 116) (a := 133) (t_133 _) rfl kO_133 r_133 dX4_readsSense_116 (fun c_24 => ?_)
    refine s_iload_n (pc := 117) dX4_readsSense_117 rfl ?_
    refine s_iconst (pc := 118) dX4_readsSense_118 ?_
    refine s_icmp_eq (pc := 119) (tgt := 152) dX4_readsSense_119 rfl ?_ ?_
    · exact sX4_readsSense_j152 v1 v2 c_24
    refine s_iload_n (pc := 122) dX4_readsSense_122 rfl ?_
    refine s_iconst (pc := 123) dX4_readsSense_123 ?_
    refine s_icmp_eq (pc := 124) (tgt := 152) dX4_readsSense_124 rfl ?_ ?_
    · exact sX4_readsSense_j152 v1 v2 c_24
    refine s_aload_n (pc := 127) dX4_readsSense_127 rfl ?_
    refine s_aload_n (pc := 128) dX4_readsSense_128 rfl ?_
    refine s_bipush (pc := 129) dX4_readsSense_129 ?_
    refine s_callV3 (pc := 131) (a := 111) (as := [(0, 44)]) (st := [(2, 111)]) (rv := fun b => ((0, b), (sz, sl, tt td, cv c_24))) (st3 := fun b => [(0, b), (2, 111)]) (w3 := fun b => (sz, sl, tt td, cv c_24)) mvX4_322 (fun b h => kX4_isSign 44 c_24 b h) rfl (by decide) (t_111 td) rfl rfl rfl (Nat.le_of_ble_eq_true rfl) (fun _ => Nat.le_of_ble_eq_true rfl) (fun _ => ⟨rfl, rfl⟩) dX4_readsSense_131 (fun p_27 => ?_)
    refine s_callV3 (pc := 134) (a := 111) (as := [(0, p_27)]) (st := []) (rv := fun b => ((3, 0), (sz, sl, tt td, cv b))) (st3 := fun b => []) (w3 := fun b => (sz, sl, tt td, cv b)) mvX4_348 (fun b h => kX4_wants p_27 c_24 b h) rfl (by decide) (t_111 td) rfl rfl rfl (Nat.le_of_ble_eq_true rfl) (fun _ => Nat.le_of_ble_eq_true rfl) (fun _ => ⟨rfl, rfl⟩) dX4_readsSense_134 (fun p_28 => ?_)
    refine s_aload_n (pc := 137) dX4_readsSense_137 rfl ?_
    refine s_get (pc := 138) (a := 111) (v := 133) flX4_81 (t_111 _) rfl (g_111_37 _) rfl dX4_readsSense_138 ?_
    refine s_iload_n (pc := 141) dX4_readsSense_141 rfl ?_
    refine s_iconst (pc := 142) dX4_readsSense_142 ?_
    refine s_iadd (pc := 143) dX4_readsSense_143 ?_
    refine s_aload_n (pc := 144) dX4_readsSense_144 rfl ?_
    refine s_iconst (pc := 145) dX4_readsSense_145 ?_
    refine s_bipush (pc := 146) dX4_readsSense_146 ?_
    refine s_callV3 (pc := 148) (a := 111) (as := [(0, 0), (0, 7)]) (st := [(0, v1 + 3), (2, 133)]) (rv := fun b => ((0, b.1), (sz, sl, tt td, cv b.2))) (st3 := fun b => [(0, b.1), (0, v1 + 3), (2, 133)]) (w3 := fun b => (sz, sl, tt td, cv b.2)) mvX4_344 (fun b h => kX4_number 0 7 p_28 b h) rfl (by decide) (t_111 td) rfl rfl rfl (Nat.le_of_ble_eq_true rfl) (fun _ => Nat.le_of_ble_eq_true rfl) (fun _ => ⟨rfl, rfl⟩) dX4_readsSense_148 (fun p_29 => ?_)
    refine s_iastM (pc := 151) (a := 133) (t_133 _) rfl kO_133 r_133 dX4_readsSense_151 (fun c_30 => ?_)
    exact sX4_readsSense_j152 v1 v2 c_30
  exact s_vret (pc := 88) dX4_readsSense_88 rfl (fun h => h)
noncomputable def fX4_readsSense_j77 (v1 : Int) (v2 : Int) (c : CC) : Option CC :=
  fX4_readsSense_j78 v1 v2 0 c
theorem sX4_readsSense_j77 {G : GG} {Γ : Cx} {r : Vv × Wd} {sz sl : Nat} {td : TT} (v1 : Int) (v2 : Int) (c : CC) : Sm (fX4_readsSense_j77 v1 v2 c) (fun x => r = ((3, 0), (sz, sl, tt td, cv x))) (WP G Γ muX4_readsSense r 77 [some (2, 111), some (0, v1), some (0, v2)] [(2, 111)] (sz, sl, tt td, cv c)) := by
  unfold fX4_readsSense_j77
  refine s_iconst (pc := 77) dX4_readsSense_77 ?_
  exact sX4_readsSense_j78 v1 v2 0 c
noncomputable def fX4_readsSense  (c : CC) : Option CC :=
  gd (inR (7 * (c 111 33))) <|
   bd (7 * (c 111 33)) fun v1_1 =>
   cl (wh (fun s => fX4_readsSense_l10 v1_1 s.1 s.2) (0, c)) (fun e_4 =>
  cl (fX4_number 0 19 e_4) fun p_5 =>
   gd ((0 : Int) ≤ v1_1 ∧ v1_1 < 168) <| bd (up2 p_5.2 133 (Int.toNat v1_1) p_5.1) fun c_6 =>
   gd (inR ((c_6 111 22) - 3)) <|
   bd ((c_6 111 22) - 3) fun v2_7 =>
   if c_6 111 21 = 1 then
  (cl (fX4_in (c_6 111 22) 3 8) fun p_31 =>
   if p_31 = 0 then
  (fX4_readsSense_j77 v1_1 v2_7 c_6)
  else
  (fX4_readsSense_j78 v1_1 v2_7 1 c_6))
  else
  (fX4_readsSense_j77 v1_1 v2_7 c_6))
theorem sX4_readsSense {G : GG} {Γ : Cx} {r : Vv × Wd} {sz sl : Nat} {td : TT}  (c : CC) : Sm (fX4_readsSense  c) (fun x => r = ((3, 0), (sz, sl, tt td, cv x))) (WP G Γ muX4_readsSense r 0 [some (2, 111), none, none] [] (sz, sl, tt td, cv c)) := by
  unfold fX4_readsSense
  refine s_bipush (pc := 0) dX4_readsSense_0 ?_
  refine s_aload_n (pc := 2) dX4_readsSense_2 rfl ?_
  refine s_get (pc := 3) (a := 111) (v := c 111 33) flX4_341 (t_111 _) rfl (g_111_33 _) rfl dX4_readsSense_3 ?_
  refine s_imul (pc := 6) dX4_readsSense_6 ?_
  refine s_istore_n (pc := 7) (lf := fun x => [some (2, 111), some (0, x), none]) dX4_readsSense_7 (fun _ => rfl) (Nat.le_of_ble_eq_true rfl) (fun v1_1 => ?_)
  refine s_iconst (pc := 8) dX4_readsSense_8 ?_
  refine s_istore_nD (pc := 9) (ls' := [some (2, 111), some (0, v1_1), some (0, 0)]) dX4_readsSense_9 rfl (Nat.le_of_ble_eq_true rfl) ?_
  refine s_loop (g := gX4_readsSense_l10 G Γ r sz sl td v1_1) (Ex := eX4_readsSense_l10 G Γ r sz sl td v1_1) (s0 := (0, c)) (fun s => sX4_readsSense_l10 v1_1 s.1 s.2) ?_
  intro e_4
  show Sm _ _ (WP G Γ muX4_readsSense r 31 [some (2, 111), some (0, v1_1), none] [] (sz, sl, tt td, cv e_4))
  refine s_aload_n (pc := 31) dX4_readsSense_31 rfl ?_
  refine s_get (pc := 32) (a := 111) (v := 133) flX4_81 (t_111 _) rfl (g_111_37 _) rfl dX4_readsSense_32 ?_
  refine s_iload_n (pc := 35) dX4_readsSense_35 rfl ?_
  refine s_aload_n (pc := 36) dX4_readsSense_36 rfl ?_
  refine s_iconst (pc := 37) dX4_readsSense_37 ?_
  refine s_bipush (pc := 38) dX4_readsSense_38 ?_
  refine s_callV3 (pc := 40) (a := 111) (as := [(0, 0), (0, 19)]) (st := [(0, v1_1), (2, 133)]) (rv := fun b => ((0, b.1), (sz, sl, tt td, cv b.2))) (st3 := fun b => [(0, b.1), (0, v1_1), (2, 133)]) (w3 := fun b => (sz, sl, tt td, cv b.2)) mvX4_344 (fun b h => kX4_number 0 19 e_4 b h) rfl (by decide) (t_111 td) rfl rfl rfl (Nat.le_of_ble_eq_true rfl) (fun _ => Nat.le_of_ble_eq_true rfl) (fun _ => ⟨rfl, rfl⟩) dX4_readsSense_40 (fun p_5 => ?_)
  refine s_iastM (pc := 43) (a := 133) (t_133 _) rfl kO_133 r_133 dX4_readsSense_43 (fun c_6 => ?_)
  refine s_aload_n (pc := 44) dX4_readsSense_44 rfl ?_
  refine s_get (pc := 45) (a := 111) (v := c_6 111 22) flX4_265 (t_111 _) rfl (g_111_22 _) rfl dX4_readsSense_45 ?_
  refine s_iconst (pc := 48) dX4_readsSense_48 ?_
  refine s_isub (pc := 49) dX4_readsSense_49 ?_
  refine s_istore_n (pc := 50) (lf := fun x => [some (2, 111), some (0, v1_1), some (0, x)]) dX4_readsSense_50 (fun _ => rfl) (Nat.le_of_ble_eq_true rfl) (fun v2_7 => ?_)
  refine s_aload_n (pc := 51) dX4_readsSense_51 rfl ?_
  refine s_aload_n (pc := 52) dX4_readsSense_52 rfl ?_
  refine s_get (pc := 53) (a := 111) (v := c_6 111 21) flX4_252 (t_111 _) rfl (g_111_21 _) rfl dX4_readsSense_53 ?_
  refine s_iconst (pc := 56) dX4_readsSense_56 ?_
  refine s_icmp_ne (pc := 57) (tgt := 77) dX4_readsSense_57 rfl ?_ ?_
  · exact sX4_readsSense_j77 v1_1 v2_7 c_6
  refine s_aload_n (pc := 60) dX4_readsSense_60 rfl ?_
  refine s_get (pc := 61) (a := 111) (v := c_6 111 22) flX4_265 (t_111 _) rfl (g_111_22 _) rfl dX4_readsSense_61 ?_
  refine s_iconst (pc := 64) dX4_readsSense_64 ?_
  refine s_bipush (pc := 65) dX4_readsSense_65 ?_
  refine s_callS3 (pc := 67) (as := [(0, c_6 111 22), (0, 3), (0, 8)]) (st := [(2, 111)]) (rv := fun b => ((0, b), (sz, sl, tt td, cv c_6))) (st3 := fun b => [(0, b), (2, 111)]) (w3 := fun b => (sz, sl, tt td, cv c_6)) msX4_199 (fun b h => kX4_in (c_6 111 22) 3 8 c_6 b h) rfl (by decide) rfl (Nat.le_of_ble_eq_true rfl) (fun _ => Nat.le_of_ble_eq_true rfl) (fun _ => ⟨rfl, rfl⟩) dX4_readsSense_67 (fun p_31 => ?_)
  refine s_if_eq (pc := 70) (tgt := 77) dX4_readsSense_70 rfl ?_ ?_
  · exact sX4_readsSense_j77 v1_1 v2_7 c_6
  refine s_iconst (pc := 73) dX4_readsSense_73 ?_
  refine s_goto (pc := 74) (tgt := 78) dX4_readsSense_74 rfl ?_
  exact sX4_readsSense_j78 v1_1 v2_7 1 c_6
theorem kX4_readsSense {G : GG} {sz sl : Nat} {td : TT}  (c : CC) (x : CC) (h : fX4_readsSense  c = some x) : Ct G yX4_readsSense muX4_readsSense [(2, 111)] (sz, sl, tt td, cv c) ((3, 0), (sz, sl, tt td, cv x)) :=
  Ct.of (n := 2) (ls0 := [some (2, 111), none, none]) (by decide) rfl rfl ⟨by decide, by decide⟩ (Nat.le_of_ble_eq_true rfl) rfl ⟨Nat.le_refl _, Nat.le_refl _⟩ (show (3 : Nat) ≠ 9 by decide) (fun Γ => sX4_readsSense  c x h rfl)
