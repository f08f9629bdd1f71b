/-! LAYER 2: methods of HeldTongueModel, by gen/decomp.py -/
set_option maxRecDepth 100000
theorem flX4_185 : FL RX4 185 3 81 := ⟨_, _, _, cf3, by decide, q1325⟩
abbrev muX4_isAhead : MI := (cX4_isAhead, RX4, 2, some .boolean, 1, "isAhead")
abbrev gX4_isAhead_l2 (G : GG) (Γ : Cx) (r : Vv × Wd) (sz sl : Nat) (td : TT)  (c : CC) : (Int) → Prop := fun s => WP G Γ muX4_isAhead r 2 [some (2, 111), some (0, s)] [] (sz, sl, tt td, cv c)
abbrev eX4_isAhead_l2 (G : GG) (Γ : Cx) (r : Vv × Wd) (sz sl : Nat) (td : TT)  (c : CC) : (Int) → Prop := (fun s => WP G Γ muX4_isAhead r 31 [some (2, 111), some (0, s)] [] (sz, sl, tt td, cv c))
noncomputable def fX4_isAhead_l2 (v1 : Int) (c : CC) : Option ((Int) ⊕ (Int)) :=
  if v1 < c 111 82 then
  (gd ((0 : Int) ≤ v1 ∧ v1 < 100) <|
   gd ((0 : Int) ≤ v1 ∧ v1 < 100) <|
   if c 166 (Int.toNat v1) = c 167 (Int.toNat v1) then
  (gd (inR (v1 + 1)) <| bd (v1 + 1) fun v1_1 =>
   some (.inl v1_1))
  else
  (some (.inr v1)))
  else
  (some (.inr v1))
theorem sX4_isAhead_l2 {G : GG} {Γ : Cx} {r : Vv × Wd} {sz sl : Nat} {td : TT} (v1 : Int) (c : CC) : Sm (fX4_isAhead_l2 v1 c) (fun x => Sum.elim (gX4_isAhead_l2 G Γ r sz sl td c) (eX4_isAhead_l2 G Γ r sz sl td c) x) (gX4_isAhead_l2 G Γ r sz sl td c v1) := by
  show Sm _ _ (WP G Γ muX4_isAhead r 2 [some (2, 111), some (0, v1)] [] (sz, sl, tt td, cv c))
  unfold fX4_isAhead_l2
  refine s_iload_n (pc := 2) dX4_isAhead_2 rfl ?_
  refine s_aload_n (pc := 3) dX4_isAhead_3 rfl ?_
  refine s_get (pc := 4) (a := 111) (v := c 111 82) flX4_566 (t_111 _) rfl (g_111_82 _) rfl dX4_isAhead_4 ?_
  refine s_icmp_ge (pc := 7) (tgt := 31) dX4_isAhead_7 rfl ?_ ?_
  · exact Sm.some (fun h => h)
  refine s_aload_n (pc := 10) dX4_isAhead_10 rfl ?_
  refine s_get (pc := 11) (a := 111) (v := 166) flX4_182 (t_111 _) rfl (g_111_80 _) rfl dX4_isAhead_11 ?_
  refine s_iload_n (pc := 14) dX4_isAhead_14 rfl ?_
  refine s_ialdM (pc := 15) (a := 166) (t_166 _) rfl r_166 dX4_isAhead_15 ?_
  refine s_aload_n (pc := 16) dX4_isAhead_16 rfl ?_
  refine s_get (pc := 17) (a := 111) (v := 167) flX4_185 (t_111 _) rfl (g_111_81 _) rfl dX4_isAhead_17 ?_
  refine s_iload_n (pc := 20) dX4_isAhead_20 rfl ?_
  refine s_ialdM (pc := 21) (a := 167) (t_167 _) rfl r_167 dX4_isAhead_21 ?_
  refine s_icmp_ne (pc := 22) (tgt := 31) dX4_isAhead_22 rfl ?_ ?_
  · exact Sm.some (fun h => h)
  refine s_iinc (pc := 25) (lf := fun x => [some (2, 111), some (0, x)]) dX4_isAhead_25 rfl (fun _ => rfl) (Nat.le_of_ble_eq_true rfl) (fun v1_1 => ?_)
  refine s_goto (pc := 28) (tgt := 2) dX4_isAhead_28 rfl ?_
  exact Sm.some (fun h => h)
noncomputable def fX4_isAhead_j31 (v1 : Int) (c : CC) : Option Int :=
  if v1 < c 111 82 then
  (gd ((0 : Int) ≤ v1 ∧ v1 < 100) <|
   gd ((0 : Int) ≤ v1 ∧ v1 < 100) <|
   if c 166 (Int.toNat v1) < c 167 (Int.toNat v1) then
  (gd ((0 : Int) ≤ 1 ∧ (1 : Int) < 2) (some 1))
  else
  (gd ((0 : Int) ≤ 0 ∧ (0 : Int) < 2) (some 0)))
  else
  (gd ((0 : Int) ≤ 0 ∧ (0 : Int) < 2) (some 0))
theorem sX4_isAhead_j31 {G : GG} {Γ : Cx} {r : Vv × Wd} {sz sl : Nat} {td : TT} (v1 : Int) (c : CC) : Sm (fX4_isAhead_j31 v1 c) (fun x => r = ((0, x), (sz, sl, tt td, cv c))) (WP G Γ muX4_isAhead r 31 [some (2, 111), some (0, v1)] [] (sz, sl, tt td, cv c)) := by
  unfold fX4_isAhead_j31
  refine s_iload_n (pc := 31) dX4_isAhead_31 rfl ?_
  refine s_aload_n (pc := 32) dX4_isAhead_32 rfl ?_
  refine s_get (pc := 33) (a := 111) (v := c 111 82) flX4_566 (t_111 _) rfl (g_111_82 _) rfl dX4_isAhead_33 ?_
  refine s_icmp_ge (pc := 36) (tgt := 58) dX4_isAhead_36 rfl ?_ ?_
  · refine s_iconst (pc := 58) dX4_isAhead_58 ?_
    exact s_zret (pc := 59) dX4_isAhead_59 rfl (fun h => h)
  refine s_aload_n (pc := 39) dX4_isAhead_39 rfl ?_
  refine s_get (pc := 40) (a := 111) (v := 166) flX4_182 (t_111 _) rfl (g_111_80 _) rfl dX4_isAhead_40 ?_
  refine s_iload_n (pc := 43) dX4_isAhead_43 rfl ?_
  refine s_ialdM (pc := 44) (a := 166) (t_166 _) rfl r_166 dX4_isAhead_44 ?_
  refine s_aload_n (pc := 45) dX4_isAhead_45 rfl ?_
  refine s_get (pc := 46) (a := 111) (v := 167) flX4_185 (t_111 _) rfl (g_111_81 _) rfl dX4_isAhead_46 ?_
  refine s_iload_n (pc := 49) dX4_isAhead_49 rfl ?_
  refine s_ialdM (pc := 50) (a := 167) (t_167 _) rfl r_167 dX4_isAhead_50 ?_
  refine s_icmp_ge (pc := 51) (tgt := 58) dX4_isAhead_51 rfl ?_ ?_
  · refine s_iconst (pc := 58) dX4_isAhead_58 ?_
    exact s_zret (pc := 59) dX4_isAhead_59 rfl (fun h => h)
  refine s_iconst (pc := 54) dX4_isAhead_54 ?_
  refine s_goto (pc := 55) (tgt := 59) dX4_isAhead_55 rfl ?_
  exact s_zret (pc := 59) dX4_isAhead_59 rfl (fun h => h)
noncomputable def fX4_isAhead  (c : CC) : Option Int :=
  cl (wh (fun s => fX4_isAhead_l2  s c) 0) (fun e_2 =>
  fX4_isAhead_j31 e_2 c)
theorem sX4_isAhead {G : GG} {Γ : Cx} {r : Vv × Wd} {sz sl : Nat} {td : TT}  (c : CC) : Sm (fX4_isAhead  c) (fun x => r = ((0, x), (sz, sl, tt td, cv c))) (WP G Γ muX4_isAhead r 0 [some (2, 111), none] [] (sz, sl, tt td, cv c)) := by
  unfold fX4_isAhead
  refine s_iconst (pc := 0) dX4_isAhead_0 ?_
  refine s_istore_nD (pc := 1) (ls' := [some (2, 111), some (0, 0)]) dX4_isAhead_1 rfl (Nat.le_of_ble_eq_true rfl) ?_
  refine s_loop (g := gX4_isAhead_l2 G Γ r sz sl td c) (Ex := eX4_isAhead_l2 G Γ r sz sl td c) (s0 := 0) (fun s => sX4_isAhead_l2  s c) ?_
  intro e_2
  show Sm _ _ (WP G Γ muX4_isAhead r 31 [some (2, 111), some (0, e_2)] [] (sz, sl, tt td, cv c))
  exact sX4_isAhead_j31 e_2 c
theorem kX4_isAhead {G : GG} {sz sl : Nat} {td : TT}  (c : CC) (x : Int) (h : fX4_isAhead  c = some x) : Ct G yX4_isAhead muX4_isAhead [(2, 111)] (sz, sl, tt td, cv c) ((0, x), (sz, sl, tt td, cv c)) :=
  Ct.of (n := 1) (ls0 := [some (2, 111), none]) (by decide) rfl rfl ⟨by decide, by decide⟩ (Nat.le_of_ble_eq_true rfl) rfl ⟨Nat.le_refl _, Nat.le_refl _⟩ (show (0 : Nat) ≠ 9 by decide) (fun Γ => sX4_isAhead  c x h rfl)
abbrev muX4_copiesSaid : MI := (cX4_copiesSaid, RX4, 2, none, 1, "copiesSaid")
abbrev gX4_copiesSaid_l2 (G : GG) (Γ : Cx) (r : Vv × Wd) (sz sl : Nat) (td : TT)  : (Int × CC) → Prop := fun s => WP G Γ muX4_copiesSaid r 2 [some (2, 111), some (0, s.1)] [] (sz, sl, tt td, cv s.2)
abbrev eX4_copiesSaid_l2 (G : GG) (Γ : Cx) (r : Vv × Wd) (sz sl : Nat) (td : TT)  : (CC) → Prop := (fun s => WP G Γ muX4_copiesSaid r 28 [none, none] [] (sz, sl, tt td, cv s))
noncomputable def fX4_copiesSaid_l2 (v1 : Int) (c : CC) : Option ((Int × CC) ⊕ (CC)) :=
  if v1 < c 111 82 then
  (gd ((0 : Int) ≤ v1 ∧ v1 < 100) <|
   gd ((0 : Int) ≤ v1 ∧ v1 < 100) <| bd (up2 c 167 (Int.toNat v1) (c 166 (Int.toNat v1))) fun c_1 =>
   gd (inR (v1 + 1)) <| bd (v1 + 1) fun v1_2 =>
   some (.inl (v1_2, c_1)))
  else
  (some (.inr c))
theorem sX4_copiesSaid_l2 {G : GG} {Γ : Cx} {r : Vv × Wd} {sz sl : Nat} {td : TT} (v1 : Int) (c : CC) : Sm (fX4_copiesSaid_l2 v1 c) (fun x => Sum.elim (gX4_copiesSaid_l2 G Γ r sz sl td ) (eX4_copiesSaid_l2 G Γ r sz sl td ) x) (gX4_copiesSaid_l2 G Γ r sz sl td  (v1, c)) := by
  show Sm _ _ (WP G Γ muX4_copiesSaid r 2 [some (2, 111), some (0, v1)] [] (sz, sl, tt td, cv c))
  unfold fX4_copiesSaid_l2
  refine s_iload_n (pc := 2) dX4_copiesSaid_2 rfl ?_
  refine s_aload_n (pc := 3) dX4_copiesSaid_3 rfl ?_
  refine s_get (pc := 4) (a := 111) (v := c 111 82) flX4_566 (t_111 _) rfl (g_111_82 _) rfl dX4_copiesSaid_4 ?_
  refine s_icmp_ge (pc := 7) (tgt := 28) dX4_copiesSaid_7 rfl ?_ ?_
  · refine s_wk [false, false] (ls' := [none, none]) rfl ?_
    exact Sm.some (fun h => h)
  refine s_aload_n (pc := 10) dX4_copiesSaid_10 rfl ?_
  refine s_get (pc := 11) (a := 111) (v := 167) flX4_185 (t_111 _) rfl (g_111_81 _) rfl dX4_copiesSaid_11 ?_
  refine s_iload_n (pc := 14) dX4_copiesSaid_14 rfl ?_
  refine s_aload_n (pc := 15) dX4_copiesSaid_15 rfl ?_
  refine s_get (pc := 16) (a := 111) (v := 166) flX4_182 (t_111 _) rfl (g_111_80 _) rfl dX4_copiesSaid_16 ?_
  refine s_iload_n (pc := 19) dX4_copiesSaid_19 rfl ?_
  refine s_ialdM (pc := 20) (a := 166) (t_166 _) rfl r_166 dX4_copiesSaid_20 ?_
  refine s_iastM (pc := 21) (a := 167) (t_167 _) rfl kO_167 r_167 dX4_copiesSaid_21 (fun c_1 => ?_)
  refine s_iinc (pc := 22) (lf := fun x => [some (2, 111), some (0, x)]) dX4_copiesSaid_22 rfl (fun _ => rfl) (Nat.le_of_ble_eq_true rfl) (fun v1_2 => ?_)
  refine s_goto (pc := 25) (tgt := 2) dX4_copiesSaid_25 rfl ?_
  exact Sm.some (fun h => h)
noncomputable def fX4_copiesSaid  (c : CC) : Option CC :=
  cl (wh (fun s => fX4_copiesSaid_l2  s.1 s.2) (0, c)) (fun e_3 =>
  some e_3)
theorem sX4_copiesSaid {G : GG} {Γ : Cx} {r : Vv × Wd} {sz sl : Nat} {td : TT}  (c : CC) : Sm (fX4_copiesSaid  c) (fun x => r = ((3, 0), (sz, sl, tt td, cv x))) (WP G Γ muX4_copiesSaid r 0 [some (2, 111), none] [] (sz, sl, tt td, cv c)) := by
  unfold fX4_copiesSaid
  refine s_iconst (pc := 0) dX4_copiesSaid_0 ?_
  refine s_istore_nD (pc := 1) (ls' := [some (2, 111), some (0, 0)]) dX4_copiesSaid_1 rfl (Nat.le_of_ble_eq_true rfl) ?_
  refine s_loop (g := gX4_copiesSaid_l2 G Γ r sz sl td ) (Ex := eX4_copiesSaid_l2 G Γ r sz sl td ) (s0 := (0, c)) (fun s => sX4_copiesSaid_l2  s.1 s.2) ?_
  intro e_3
  show Sm _ _ (WP G Γ muX4_copiesSaid r 28 [none, none] [] (sz, sl, tt td, cv e_3))
  exact s_vret (pc := 28) dX4_copiesSaid_28 rfl (fun h => h)
theorem kX4_copiesSaid {G : GG} {sz sl : Nat} {td : TT}  (c : CC) (x : CC) (h : fX4_copiesSaid  c = some x) : Ct G yX4_copiesSaid muX4_copiesSaid [(2, 111)] (sz, sl, tt td, cv c) ((3, 0), (sz, sl, tt td, cv x)) :=
  Ct.of (n := 1) (ls0 := [some (2, 111), none]) (by decide) rfl rfl ⟨by decide, by decide⟩ (Nat.le_of_ble_eq_true rfl) rfl ⟨Nat.le_refl _, Nat.le_refl _⟩ (show (3 : Nat) ≠ 9 by decide) (fun Γ => sX4_copiesSaid  c x h rfl)
theorem msX4_573 : MS RX4 573 yX4_firstOrder muX4_firstOrder 1 := ⟨lw_S q1888 q1889 q129 q1890, by decide +kernel, by decide⟩
theorem mvX4_576 : MV RX4 576 RX4 yX4_costBy muX4_costBy 4 := ⟨lw_V q1891 q1893 qs115 q129 q1894, by decide +kernel, by decide⟩
theorem mvX4_579 : MV RX4 579 RX4 yX4_nextOrder muX4_nextOrder 2 := ⟨lw_V q1903 q1905 qs118 q129 q1906, by decide +kernel, by decide⟩
theorem mvX4_582 : MV RX4 582 RX4 yX4_writes muX4_writes 1 := ⟨lw_V q1911 q1913 qs120 q129 q1914, by decide +kernel, by decide⟩
theorem mvX4_588 : MV RX4 588 RX4 yX4_isAhead muX4_isAhead 0 := ⟨lw_V q1919 q1921 qs122 q129 q1922, by decide +kernel, by decide⟩
theorem mvX4_585 : MV RX4 585 RX4 yX4_copiesSaid muX4_copiesSaid 0 := ⟨lw_V q1915 q1917 qs121 q129 q1918, by decide +kernel, by decide⟩
abbrev muX4_bestOrder : MI := (cX4_bestOrder, RX4, 10, some .int, 4, "bestOrder")
noncomputable def fX4_bestOrder_j166 (v1 : Int) (v2 : Int) (v3 : Int) (v4 : Int) (v5 : Int) (v6 : Int) (v7 : Int) (v8 : Int) (c : CC) : Option ((Int × Int × Int × Int × CC) ⊕ (Int × CC)) :=
  cl (fX4_nextOrder v8 v4 c) fun p_6 =>
   some (.inl (v5, v6, v7, p_6.1, p_6.2))
abbrev gX4_bestOrder_l58 (G : GG) (Γ : Cx) (r : Vv × Wd) (sz sl : Nat) (td : TT) (v1 : Int) (v2 : Int) (v3 : Int) (v4 : Int) : (Int × Int × Int × Int × CC) → Prop := fun s => WP G Γ muX4_bestOrder r 58 [some (2, 111), some (0, v1), some (0, v2), some (0, v3), some (0, v4), some (0, s.1), some (0, s.2.1), some (0, s.2.2.1), some (0, s.2.2.2.1), none] [] (sz, sl, tt td, cv s.2.2.2.2)
abbrev eX4_bestOrder_l58 (G : GG) (Γ : Cx) (r : Vv × Wd) (sz sl : Nat) (td : TT) (v1 : Int) (v2 : Int) (v3 : Int) (v4 : Int) : (Int × CC) → Prop := (fun s => WP G Γ muX4_bestOrder r 179 [none, none, none, none, none, some (0, s.1), none, none, none, none] [] (sz, sl, tt td, cv s.2))
theorem sX4_bestOrder_j166 {G : GG} {Γ : Cx} {r : Vv × Wd} {sz sl : Nat} {td : TT} (v1 : Int) (v2 : Int) (v3 : Int) (v4 : Int) (v5 : Int) (v6 : Int) (v7 : Int) (v8 : Int) (c : CC) : Sm (fX4_bestOrder_j166 v1 v2 v3 v4 v5 v6 v7 v8 c) (fun x => Sum.elim (gX4_bestOrder_l58 G Γ r sz sl td v1 v2 v3 v4) (eX4_bestOrder_l58 G Γ r sz sl td v1 v2 v3 v4) x) (WP G Γ muX4_bestOrder r 166 [some (2, 111), some (0, v1), some (0, v2), some (0, v3), some (0, v4), some (0, v5), some (0, v6), some (0, v7), some (0, v8), none] [] (sz, sl, tt td, cv c)) := by
  unfold fX4_bestOrder_j166
  refine s_aload_n (pc := 166) dX4_bestOrder_166 rfl ?_
  refine s_iload (pc := 167) dX4_bestOrder_167 rfl ?_
  refine s_iload (pc := 169) dX4_bestOrder_169 rfl ?_
  refine s_callV3 (pc := 171) (a := 111) (as := [(0, v8), (0, v4)]) (st := []) (rv := fun b => ((0, b.1), (sz, sl, tt td, cv b.2))) (st3 := fun b => [(0, b.1)]) (w3 := fun b => (sz, sl, tt td, cv b.2)) mvX4_579 (fun b h => kX4_nextOrder v8 v4 c b h) rfl (by decide) (t_111 td) rfl rfl rfl (Nat.le_of_ble_eq_true rfl) (fun _ => Nat.le_of_ble_eq_true rfl) (fun _ => ⟨rfl, rfl⟩) dX4_bestOrder_171 (fun p_6 => ?_)
  refine s_istoreD (pc := 174) (ls' := [some (2, 111), some (0, v1), some (0, v2), some (0, v3), some (0, v4), some (0, v5), some (0, v6), some (0, v7), some (0, p_6.1), none]) dX4_bestOrder_174 rfl (Nat.le_of_ble_eq_true rfl) ?_
  refine s_goto (pc := 176) (tgt := 58) dX4_bestOrder_176 rfl ?_
  exact Sm.some (fun h => h)
noncomputable def fX4_bestOrder_j137 (v1 : Int) (v2 : Int) (v3 : Int) (v4 : Int) (v5 : Int) (v6 : Int) (v7 : Int) (v8 : Int) (c : CC) : Option ((Int × Int × Int × Int × CC) ⊕ (Int × CC)) :=
  cl (fX4_pushes 0 v1 v2 v8 v3 c) fun p_7 =>
   cl (fX4_writes p_7.1 p_7.2) fun p_8 =>
   cl (fX4_isAhead  p_8) fun p_9 =>
   if p_9 = 0 then
  (fX4_bestOrder_j166 v1 v2 v3 v4 v5 v6 v7 v8 p_8)
  else
  (cl (fX4_copiesSaid  p_8) fun p_10 =>
   fX4_bestOrder_j166 v1 v2 v3 v4 v8 v6 v7 v8 p_10)
theorem sX4_bestOrder_j137 {G : GG} {Γ : Cx} {r : Vv × Wd} {sz sl : Nat} {td : TT} (v1 : Int) (v2 : Int) (v3 : Int) (v4 : Int) (v5 : Int) (v6 : Int) (v7 : Int) (v8 : Int) (c : CC) : Sm (fX4_bestOrder_j137 v1 v2 v3 v4 v5 v6 v7 v8 c) (fun x => Sum.elim (gX4_bestOrder_l58 G Γ r sz sl td v1 v2 v3 v4) (eX4_bestOrder_l58 G Γ r sz sl td v1 v2 v3 v4) x) (WP G Γ muX4_bestOrder r 137 [some (2, 111), some (0, v1), some (0, v2), some (0, v3), some (0, v4), some (0, v5), some (0, v6), some (0, v7), some (0, v8), none] [] (sz, sl, tt td, cv c)) := by
  unfold fX4_bestOrder_j137
  refine s_aload_n (pc := 137) dX4_bestOrder_137 rfl ?_
  refine s_aload_n (pc := 138) dX4_bestOrder_138 rfl ?_
  refine s_iconst (pc := 139) dX4_bestOrder_139 ?_
  refine s_iload_n (pc := 140) dX4_bestOrder_140 rfl ?_
  refine s_iload_n (pc := 141) dX4_bestOrder_141 rfl ?_
  refine s_iload (pc := 142) dX4_bestOrder_142 rfl ?_
  refine s_iload_n (pc := 144) dX4_bestOrder_144 rfl ?_
  refine s_callV3 (pc := 145) (a := 111) (as := [(0, 0), (0, v1), (0, v2), (0, v8), (0, v3)]) (st := [(2, 111)]) (rv := fun b => ((0, b.1), (sz, sl, tt td, cv b.2))) (st3 := fun b => [(0, b.1), (2, 111)]) (w3 := fun b => (sz, sl, tt td, cv b.2)) mvX4_569 (fun b h => kX4_pushes 0 v1 v2 v8 v3 c b h) rfl (by decide) (t_111 td) rfl rfl rfl (Nat.le_of_ble_eq_true rfl) (fun _ => Nat.le_of_ble_eq_true rfl) (fun _ => ⟨rfl, rfl⟩) dX4_bestOrder_145 (fun p_7 => ?_)
  refine s_callV3 (pc := 148) (a := 111) (as := [(0, p_7.1)]) (st := []) (rv := fun b => ((3, 0), (sz, sl, tt td, cv b))) (st3 := fun b => []) (w3 := fun b => (sz, sl, tt td, cv b)) mvX4_582 (fun b h => kX4_writes p_7.1 p_7.2 b h) rfl (by decide) (t_111 td) rfl rfl rfl (Nat.le_of_ble_eq_true rfl) (fun _ => Nat.le_of_ble_eq_true rfl) (fun _ => ⟨rfl, rfl⟩) dX4_bestOrder_148 (fun p_8 => ?_)
  refine s_aload_n (pc := 151) dX4_bestOrder_151 rfl ?_
  refine s_callV3 (pc := 152) (a := 111) (as := []) (st := []) (rv := fun b => ((0, b), (sz, sl, tt td, cv p_8))) (st3 := fun b => [(0, b)]) (w3 := fun b => (sz, sl, tt td, cv p_8)) mvX4_588 (fun b h => kX4_isAhead  p_8 b h) rfl (by decide) (t_111 td) rfl rfl rfl (Nat.le_of_ble_eq_true rfl) (fun _ => Nat.le_of_ble_eq_true rfl) (fun _ => ⟨rfl, rfl⟩) dX4_bestOrder_152 (fun p_9 => ?_)
  refine s_if_eq (pc := 155) (tgt := 166) dX4_bestOrder_155 rfl ?_ ?_
  · exact sX4_bestOrder_j166 v1 v2 v3 v4 v5 v6 v7 v8 p_8
  refine s_iload (pc := 158) dX4_bestOrder_158 rfl ?_
  refine s_istoreD (pc := 160) (ls' := [some (2, 111), some (0, v1), some (0, v2), some (0, v3), some (0, v4), some (0, v8), some (0, v6), some (0, v7), some (0, v8), none]) dX4_bestOrder_160 rfl (Nat.le_of_ble_eq_true rfl) ?_
  refine s_aload_n (pc := 162) dX4_bestOrder_162 rfl ?_
  refine s_callV3 (pc := 163) (a := 111) (as := []) (st := []) (rv := fun b => ((3, 0), (sz, sl, tt td, cv b))) (st3 := fun b => []) (w3 := fun b => (sz, sl, tt td, cv b)) mvX4_585 (fun b h => kX4_copiesSaid  p_8 b h) rfl (by decide) (t_111 td) rfl rfl rfl (Nat.le_of_ble_eq_true rfl) (fun _ => Nat.le_of_ble_eq_true rfl) (fun _ => ⟨rfl, rfl⟩) dX4_bestOrder_163 (fun p_10 => ?_)
  exact sX4_bestOrder_j166 v1 v2 v3 v4 v8 v6 v7 v8 p_10
noncomputable def fX4_bestOrder_l58 (v1 : Int) (v2 : Int) (v3 : Int) (v4 : Int) (v5 : Int) (v6 : Int) (v7 : Int) (v8 : Int) (c : CC) : Option ((Int × Int × Int × Int × CC) ⊕ (Int × CC)) :=
  if v8 = -1 then
  (some (.inr (v5, c)))
  else
  (cl (fX4_costBy v1 v2 v8 v3 c) fun p_5 =>
   if p_5 < v6 then
  (fX4_bestOrder_j166 v1 v2 v3 v4 v8 p_5 0 v8 c)
  else
  (if p_5 = v6 then
  (if p_5 < 10000 then
  (if v7 = 0 then
  (cl (fX4_pushes 0 v1 v2 v5 v3 c) fun p_11 =>
   cl (fX4_writes p_11.1 p_11.2) fun p_12 =>
   cl (fX4_copiesSaid  p_12) fun p_13 =>
   fX4_bestOrder_j137 v1 v2 v3 v4 v5 v6 1 v8 p_13)
  else
  (fX4_bestOrder_j137 v1 v2 v3 v4 v5 v6 v7 v8 c))
  else
  (fX4_bestOrder_j166 v1 v2 v3 v4 v5 v6 v7 v8 c))
  else
  (fX4_bestOrder_j166 v1 v2 v3 v4 v5 v6 v7 v8 c)))
theorem sX4_bestOrder_l58 {G : GG} {Γ : Cx} {r : Vv × Wd} {sz sl : Nat} {td : TT} (v1 : Int) (v2 : Int) (v3 : Int) (v4 : Int) (v5 : Int) (v6 : Int) (v7 : Int) (v8 : Int) (c : CC) : Sm (fX4_bestOrder_l58 v1 v2 v3 v4 v5 v6 v7 v8 c) (fun x => Sum.elim (gX4_bestOrder_l58 G Γ r sz sl td v1 v2 v3 v4) (eX4_bestOrder_l58 G Γ r sz sl td v1 v2 v3 v4) x) (gX4_bestOrder_l58 G Γ r sz sl td v1 v2 v3 v4 (v5, v6, v7, v8, c)) := by
  show Sm _ _ (WP G Γ muX4_bestOrder r 58 [some (2, 111), some (0, v1), some (0, v2), some (0, v3), some (0, v4), some (0, v5), some (0, v6), some (0, v7), some (0, v8), none] [] (sz, sl, tt td, cv c))
  unfold fX4_bestOrder_l58
  refine s_iload (pc := 58) dX4_bestOrder_58 rfl ?_
  refine s_iconst (pc := 60) dX4_bestOrder_60 ?_
  refine s_icmp_eq (pc := 61) (tgt := 179) dX4_bestOrder_61 rfl ?_ ?_
  · refine s_wk [false, false, false, false, false, true, false, false, false, true] (ls' := [none, none, none, none, none, some (0, v5), none, none, none, none]) rfl ?_
    exact Sm.some (fun h => h)
  refine s_aload_n (pc := 64) dX4_bestOrder_64 rfl ?_
  refine s_iload_n (pc := 65) dX4_bestOrder_65 rfl ?_
  refine s_iload_n (pc := 66) dX4_bestOrder_66 rfl ?_
  refine s_iload (pc := 67) dX4_bestOrder_67 rfl ?_
  refine s_iload_n (pc := 69) dX4_bestOrder_69 rfl ?_
  refine s_callV3 (pc := 70) (a := 111) (as := [(0, v1), (0, v2), (0, v8), (0, v3)]) (st := []) (rv := fun b => ((0, b), (sz, sl, tt td, cv c))) (st3 := fun b => [(0, b)]) (w3 := fun b => (sz, sl, tt td, cv c)) mvX4_576 (fun b h => kX4_costBy v1 v2 v8 v3 c b h) rfl (by decide) (t_111 td) rfl rfl rfl (Nat.le_of_ble_eq_true rfl) (fun _ => Nat.le_of_ble_eq_true rfl) (fun _ => ⟨rfl, rfl⟩) dX4_bestOrder_70 (fun p_5 => ?_)
  refine s_istoreD (pc := 73) (ls' := [some (2, 111), some (0, v1), some (0, v2), some (0, v3), some (0, v4), some (0, v5), some (0, v6), some (0, v7), some (0, v8), some (0, p_5)]) dX4_bestOrder_73 rfl (Nat.le_of_ble_eq_true rfl) ?_
  refine s_iload (pc := 75) dX4_bestOrder_75 rfl ?_
  refine s_iload (pc := 77) dX4_bestOrder_77 rfl ?_
  refine s_icmp_ge (pc := 79) (tgt := 96) dX4_bestOrder_79 rfl ?_ ?_
  · refine s_iload (pc := 96) dX4_bestOrder_96 rfl ?_
    refine s_iload (pc := 98) dX4_bestOrder_98 rfl ?_
    refine s_icmp_ne (pc := 100) (tgt := 166) dX4_bestOrder_100 rfl ?_ ?_
    · refine s_wk [true, true, true, true, true, true, true, true, true, false] (ls' := [some (2, 111), some (0, v1), some (0, v2), some (0, v3), some (0, v4), some (0, v5), some (0, v6), some (0, v7), some (0, v8), none]) rfl ?_
      exact sX4_bestOrder_j166 v1 v2 v3 v4 v5 v6 v7 v8 c
    refine s_iload (pc := 103) dX4_bestOrder_103 rfl ?_
    refine s_sipush (pc := 105) dX4_bestOrder_105 ?_
    refine s_icmp_ge (pc := 108) (tgt := 166) dX4_bestOrder_108 rfl ?_ ?_
    · refine s_wk [true, true, true, true, true, true, true, true, true, false] (ls' := [some (2, 111), some (0, v1), some (0, v2), some (0, v3), some (0, v4), some (0, v5), some (0, v6), some (0, v7), some (0, v8), none]) rfl ?_
      exact sX4_bestOrder_j166 v1 v2 v3 v4 v5 v6 v7 v8 c
    refine s_iload (pc := 111) dX4_bestOrder_111 rfl ?_
    refine s_if_ne (pc := 113) (tgt := 137) dX4_bestOrder_113 rfl ?_ ?_
    · refine s_wk [true, true, true, true, true, true, true, true, true, false] (ls' := [some (2, 111), some (0, v1), some (0, v2), some (0, v3), some (0, v4), some (0, v5), some (0, v6), some (0, v7), some (0, v8), none]) rfl ?_
      exact sX4_bestOrder_j137 v1 v2 v3 v4 v5 v6 v7 v8 c
    refine s_aload_n (pc := 116) dX4_bestOrder_116 rfl ?_
    refine s_aload_n (pc := 117) dX4_bestOrder_117 rfl ?_
    refine s_iconst (pc := 118) dX4_bestOrder_118 ?_
    refine s_iload_n (pc := 119) dX4_bestOrder_119 rfl ?_
    refine s_iload_n (pc := 120) dX4_bestOrder_120 rfl ?_
    refine s_iload (pc := 121) dX4_bestOrder_121 rfl ?_
    refine s_iload_n (pc := 123) dX4_bestOrder_123 rfl ?_
    refine s_callV3 (pc := 124) (a := 111) (as := [(0, 0), (0, v1), (0, v2), (0, v5), (0, v3)]) (st := [(2, 111)]) (rv := fun b => ((0, b.1), (sz, sl, tt td, cv b.2))) (st3 := fun b => [(0, b.1), (2, 111)]) (w3 := fun b => (sz, sl, tt td, cv b.2)) mvX4_569 (fun b h => kX4_pushes 0 v1 v2 v5 v3 c b h) rfl (by decide) (t_111 td) rfl rfl rfl (Nat.le_of_ble_eq_true rfl) (fun _ => Nat.le_of_ble_eq_true rfl) (fun _ => ⟨rfl, rfl⟩) dX4_bestOrder_124 (fun p_11 => ?_)
    refine s_callV3 (pc := 127) (a := 111) (as := [(0, p_11.1)]) (st := []) (rv := fun b => ((3, 0), (sz, sl, tt td, cv b))) (st3 := fun b => []) (w3 := fun b => (sz, sl, tt td, cv b)) mvX4_582 (fun b h => kX4_writes p_11.1 p_11.2 b h) rfl (by decide) (t_111 td) rfl rfl rfl (Nat.le_of_ble_eq_true rfl) (fun _ => Nat.le_of_ble_eq_true rfl) (fun _ => ⟨rfl, rfl⟩) dX4_bestOrder_127 (fun p_12 => ?_)
    refine s_aload_n (pc := 130) dX4_bestOrder_130 rfl ?_
    refine s_callV3 (pc := 131) (a := 111) (as := []) (st := []) (rv := fun b => ((3, 0), (sz, sl, tt td, cv b))) (st3 := fun b => []) (w3 := fun b => (sz, sl, tt td, cv b)) mvX4_585 (fun b h => kX4_copiesSaid  p_12 b h) rfl (by decide) (t_111 td) rfl rfl rfl (Nat.le_of_ble_eq_true rfl) (fun _ => Nat.le_of_ble_eq_true rfl) (fun _ => ⟨rfl, rfl⟩) dX4_bestOrder_131 (fun p_13 => ?_)
    refine s_iconst (pc := 134) dX4_bestOrder_134 ?_
    refine s_istoreD (pc := 135) (ls' := [some (2, 111), some (0, v1), some (0, v2), some (0, v3), some (0, v4), some (0, v5), some (0, v6), some (0, 1), some (0, v8), some (0, p_5)]) dX4_bestOrder_135 rfl (Nat.le_of_ble_eq_true rfl) ?_
    refine s_wk [true, true, true, true, true, true, true, true, true, false] (ls' := [some (2, 111), some (0, v1), some (0, v2), some (0, v3), some (0, v4), some (0, v5), some (0, v6), some (0, 1), some (0, v8), none]) rfl ?_
    exact sX4_bestOrder_j137 v1 v2 v3 v4 v5 v6 1 v8 p_13
  refine s_iload (pc := 82) dX4_bestOrder_82 rfl ?_
  refine s_istoreD (pc := 84) (ls' := [some (2, 111), some (0, v1), some (0, v2), some (0, v3), some (0, v4), some (0, v5), some (0, p_5), some (0, v7), some (0, v8), some (0, p_5)]) dX4_bestOrder_84 rfl (Nat.le_of_ble_eq_true rfl) ?_
  refine s_iload (pc := 86) dX4_bestOrder_86 rfl ?_
  refine s_istoreD (pc := 88) (ls' := [some (2, 111), some (0, v1), some (0, v2), some (0, v3), some (0, v4), some (0, v8), some (0, p_5), some (0, v7), some (0, v8), some (0, p_5)]) dX4_bestOrder_88 rfl (Nat.le_of_ble_eq_true rfl) ?_
  refine s_iconst (pc := 90) dX4_bestOrder_90 ?_
  refine s_istoreD (pc := 91) (ls' := [some (2, 111), some (0, v1), some (0, v2), some (0, v3), some (0, v4), some (0, v8), some (0, p_5), some (0, 0), some (0, v8), some (0, p_5)]) dX4_bestOrder_91 rfl (Nat.le_of_ble_eq_true rfl) ?_
  refine s_goto (pc := 93) (tgt := 166) dX4_bestOrder_93 rfl ?_
  refine s_wk [true, true, true, true, true, true, true, true, true, false] (ls' := [some (2, 111), some (0, v1), some (0, v2), some (0, v3), some (0, v4), some (0, v8), some (0, p_5), some (0, 0), some (0, v8), none]) rfl ?_
  exact sX4_bestOrder_j166 v1 v2 v3 v4 v8 p_5 0 v8 c
noncomputable def fX4_bestOrder (a1 : Int) (a2 : Int) (a3 : Int) (c : CC) : Option (Int × CC) :=
  gd ((0 : Int) ≤ a1 ∧ a1 < 7300) <|
   bd (c 152 (Int.toNat a1)) fun v4_1 =>
   cl (fX4_firstOrder v4_1 c) fun p_2 =>
   gd ((0 : Int) ≤ a2 ∧ a2 < 144) <|
   if c 119 (Int.toNat a2) = 3 then
  (if v4_1 = 1 then
  (some (p_2, c))
  else
  (cl (fX4_costBy a1 a2 p_2 a3 c) fun p_3 =>
   cl (fX4_nextOrder p_2 v4_1 c) fun p_4 =>
   cl (wh (fun s => fX4_bestOrder_l58 a1 a2 a3 v4_1 s.1 s.2.1 s.2.2.1 s.2.2.2.1 s.2.2.2.2) (p_2, p_3, 0, p_4.1, p_4.2)) (fun e_14 =>
  some (e_14.1, e_14.2))))
  else
  (some (p_2, c))
theorem sX4_bestOrder {G : GG} {Γ : Cx} {r : Vv × Wd} {sz sl : Nat} {td : TT} (a1 : Int) (a2 : Int) (a3 : Int) (c : CC) : Sm (fX4_bestOrder a1 a2 a3 c) (fun x => r = ((0, x.1), (sz, sl, tt td, cv x.2))) (WP G Γ muX4_bestOrder r 0 [some (2, 111), some (0, a1), some (0, a2), some (0, a3), none, none, none, none, none, none] [] (sz, sl, tt td, cv c)) := by
  unfold fX4_bestOrder
  refine s_aload_n (pc := 0) dX4_bestOrder_0 rfl ?_
  refine s_get (pc := 1) (a := 111) (v := 152) flX4_139 (t_111 _) rfl (g_111_60 _) rfl dX4_bestOrder_1 ?_
  refine s_iload_n (pc := 4) dX4_bestOrder_4 rfl ?_
  refine s_ialdM (pc := 5) (a := 152) (t_152 _) rfl r_152 dX4_bestOrder_5 ?_
  refine s_istore (pc := 6) (lf := fun x => [some (2, 111), some (0, a1), some (0, a2), some (0, a3), some (0, x), none, none, none, none, none]) dX4_bestOrder_6 (fun _ => rfl) (Nat.le_of_ble_eq_true rfl) (fun v4_1 => ?_)
  refine s_iload (pc := 8) dX4_bestOrder_8 rfl ?_
  refine s_callS3 (pc := 10) (as := [(0, v4_1)]) (st := []) (rv := fun b => ((0, b), (sz, sl, tt td, cv c))) (st3 := fun b => [(0, b)]) (w3 := fun b => (sz, sl, tt td, cv c)) msX4_573 (fun b h => kX4_firstOrder v4_1 c b h) rfl (by decide) rfl (Nat.le_of_ble_eq_true rfl) (fun _ => Nat.le_of_ble_eq_true rfl) (fun _ => ⟨rfl, rfl⟩) dX4_bestOrder_10 (fun p_2 => ?_)
  refine s_istoreD (pc := 13) (ls' := [some (2, 111), some (0, a1), some (0, a2), some (0, a3), some (0, v4_1), some (0, p_2), none, none, none, none]) dX4_bestOrder_13 rfl (Nat.le_of_ble_eq_true rfl) ?_
  refine s_aload_n (pc := 15) dX4_bestOrder_15 rfl ?_
  refine s_get (pc := 16) (a := 111) (v := 119) flX4_39 (t_111 _) rfl (g_111_10 _) rfl dX4_bestOrder_16 ?_
  refine s_iload_n (pc := 19) dX4_bestOrder_19 rfl ?_
  refine s_ialdM (pc := 20) (a := 119) (t_119 _) rfl r_119 dX4_bestOrder_20 ?_
  refine s_iconst (pc := 21) dX4_bestOrder_21 ?_
  refine s_icmp_ne (pc := 22) (tgt := 31) dX4_bestOrder_22 rfl ?_ ?_
  · refine s_iload (pc := 31) dX4_bestOrder_31 rfl ?_
    exact s_iret (pc := 33) dX4_bestOrder_33 rfl (fun h => h)
  refine s_iload (pc := 25) dX4_bestOrder_25 rfl ?_
  refine s_iconst (pc := 27) dX4_bestOrder_27 ?_
  refine s_icmp_ne (pc := 28) (tgt := 34) dX4_bestOrder_28 rfl ?_ ?_
  · refine s_aload_n (pc := 34) dX4_bestOrder_34 rfl ?_
    refine s_iload_n (pc := 35) dX4_bestOrder_35 rfl ?_
    refine s_iload_n (pc := 36) dX4_bestOrder_36 rfl ?_
    refine s_iload (pc := 37) dX4_bestOrder_37 rfl ?_
    refine s_iload_n (pc := 39) dX4_bestOrder_39 rfl ?_
    refine s_callV3 (pc := 40) (a := 111) (as := [(0, a1), (0, a2), (0, p_2), (0, a3)]) (st := []) (rv := fun b => ((0, b), (sz, sl, tt td, cv c))) (st3 := fun b => [(0, b)]) (w3 := fun b => (sz, sl, tt td, cv c)) mvX4_576 (fun b h => kX4_costBy a1 a2 p_2 a3 c b h) rfl (by decide) (t_111 td) rfl rfl rfl (Nat.le_of_ble_eq_true rfl) (fun _ => Nat.le_of_ble_eq_true rfl) (fun _ => ⟨rfl, rfl⟩) dX4_bestOrder_40 (fun p_3 => ?_)
    refine s_istoreD (pc := 43) (ls' := [some (2, 111), some (0, a1), some (0, a2), some (0, a3), some (0, v4_1), some (0, p_2), some (0, p_3), none, none, none]) dX4_bestOrder_43 rfl (Nat.le_of_ble_eq_true rfl) ?_
    refine s_iconst (pc := 45) dX4_bestOrder_45 ?_
    refine s_istoreD (pc := 46) (ls' := [some (2, 111), some (0, a1), some (0, a2), some (0, a3), some (0, v4_1), some (0, p_2), some (0, p_3), some (0, 0), none, none]) dX4_bestOrder_46 rfl (Nat.le_of_ble_eq_true rfl) ?_
    refine s_aload_n (pc := 48) dX4_bestOrder_48 rfl ?_
    refine s_iload (pc := 49) dX4_bestOrder_49 rfl ?_
    refine s_iload (pc := 51) dX4_bestOrder_51 rfl ?_
    refine s_callV3 (pc := 53) (a := 111) (as := [(0, p_2), (0, v4_1)]) (st := []) (rv := fun b => ((0, b.1), (sz, sl, tt td, cv b.2))) (st3 := fun b => [(0, b.1)]) (w3 := fun b => (sz, sl, tt td, cv b.2)) mvX4_579 (fun b h => kX4_nextOrder p_2 v4_1 c b h) rfl (by decide) (t_111 td) rfl rfl rfl (Nat.le_of_ble_eq_true rfl) (fun _ => Nat.le_of_ble_eq_true rfl) (fun _ => ⟨rfl, rfl⟩) dX4_bestOrder_53 (fun p_4 => ?_)
    refine s_istoreD (pc := 56) (ls' := [some (2, 111), some (0, a1), some (0, a2), some (0, a3), some (0, v4_1), some (0, p_2), some (0, p_3), some (0, 0), some (0, p_4.1), none]) dX4_bestOrder_56 rfl (Nat.le_of_ble_eq_true rfl) ?_
    refine s_loop (g := gX4_bestOrder_l58 G Γ r sz sl td a1 a2 a3 v4_1) (Ex := eX4_bestOrder_l58 G Γ r sz sl td a1 a2 a3 v4_1) (s0 := (p_2, p_3, 0, p_4.1, p_4.2)) (fun s => sX4_bestOrder_l58 a1 a2 a3 v4_1 s.1 s.2.1 s.2.2.1 s.2.2.2.1 s.2.2.2.2) ?_
    intro e_14
    show Sm _ _ (WP G Γ muX4_bestOrder r 179 [none, none, none, none, none, some (0, e_14.1), none, none, none, none] [] (sz, sl, tt td, cv e_14.2))
    refine s_iload (pc := 179) dX4_bestOrder_179 rfl ?_
    exact s_iret (pc := 181) dX4_bestOrder_181 rfl (fun h => h)
  refine s_iload (pc := 31) dX4_bestOrder_31 rfl ?_
  exact s_iret (pc := 33) dX4_bestOrder_33 rfl (fun h => h)
theorem kX4_bestOrder {G : GG} {sz sl : Nat} {td : TT} (a1 : Int) (a2 : Int) (a3 : Int) (c : CC) (x : (Int × CC)) (h : fX4_bestOrder a1 a2 a3 c = some x) : Ct G yX4_bestOrder muX4_bestOrder [(2, 111), (0, a1), (0, a2), (0, a3)] (sz, sl, tt td, cv c) ((0, x.1), (sz, sl, tt td, cv x.2)) :=
  Ct.of (n := 6) (ls0 := [some (2, 111), some (0, a1), some (0, a2), some (0, a3), none, none, none, none, none, none]) (by decide) rfl rfl ⟨by decide, by decide⟩ (Nat.le_of_ble_eq_true rfl) rfl ⟨Nat.le_refl _, Nat.le_refl _⟩ (show (0 : Nat) ≠ 9 by decide) (fun Γ => sX4_bestOrder a1 a2 a3 c x h rfl)
abbrev muX4_takesCost : MI := (cX4_takesCost, RX4, 5, none, 1, "takesCost")
noncomputable def fX4_takesCost_j37 (v1 : Int) (v2 : Int) (v3 : Int) (v4 : Int) (c : CC) : Option CC :=
  gd ((0 : Int) ≤ v1 ∧ v1 < 4992) <| bd (up2 c 161 (Int.toNat v1) v2) fun c_1 =>
   gd ((0 : Int) ≤ v1 ∧ v1 < 4992) <| bd (up2 c_1 162 (Int.toNat v1) v3) fun c_2 =>
   gd ((0 : Int) ≤ v1 ∧ v1 < 4992) <| bd (up2 c_2 163 (Int.toNat v1) v4) fun c_3 =>
   some c_3
theorem sX4_takesCost_j37 {G : GG} {Γ : Cx} {r : Vv × Wd} {sz sl : Nat} {td : TT} (v1 : Int) (v2 : Int) (v3 : Int) (v4 : Int) (c : CC) : Sm (fX4_takesCost_j37 v1 v2 v3 v4 c) (fun x => r = ((3, 0), (sz, sl, tt td, cv x))) (WP G Γ muX4_takesCost r 37 [some (2, 111), some (0, v1), some (0, v2), some (0, v3), some (0, v4)] [] (sz, sl, tt td, cv c)) := by
  unfold fX4_takesCost_j37
  refine s_aload_n (pc := 37) dX4_takesCost_37 rfl ?_
  refine s_get (pc := 38) (a := 111) (v := 161) flX4_167 (t_111 _) rfl (g_111_75 _) rfl dX4_takesCost_38 ?_
  refine s_iload_n (pc := 41) dX4_takesCost_41 rfl ?_
  refine s_iload_n (pc := 42) dX4_takesCost_42 rfl ?_
  refine s_iastM (pc := 43) (a := 161) (t_161 _) rfl kO_161 r_161 dX4_takesCost_43 (fun c_1 => ?_)
  refine s_aload_n (pc := 44) dX4_takesCost_44 rfl ?_
  refine s_get (pc := 45) (a := 111) (v := 162) flX4_170 (t_111 _) rfl (g_111_76 _) rfl dX4_takesCost_45 ?_
  refine s_iload_n (pc := 48) dX4_takesCost_48 rfl ?_
  refine s_iload_n (pc := 49) dX4_takesCost_49 rfl ?_
  refine s_iastM (pc := 50) (a := 162) (t_162 _) rfl kO_162 r_162 dX4_takesCost_50 (fun c_2 => ?_)
  refine s_aload_n (pc := 51) dX4_takesCost_51 rfl ?_
  refine s_get (pc := 52) (a := 111) (v := 163) flX4_173 (t_111 _) rfl (g_111_77 _) rfl dX4_takesCost_52 ?_
  refine s_iload_n (pc := 55) dX4_takesCost_55 rfl ?_
  refine s_iload (pc := 56) dX4_takesCost_56 rfl ?_
  refine s_iastM (pc := 58) (a := 163) (t_163 _) rfl kO_163 r_163 dX4_takesCost_58 (fun c_3 => ?_)
  exact s_vret (pc := 59) dX4_takesCost_59 rfl (fun h => h)
noncomputable def fX4_takesCost (a1 : Int) (a2 : Int) (a3 : Int) (a4 : Int) (c : CC) : Option CC :=
  gd ((0 : Int) ≤ a1 ∧ a1 < 4992) <|
   if a2 < c 161 (Int.toNat a1) then
  (fX4_takesCost_j37 a1 a2 a3 a4 c)
  else
  (gd ((0 : Int) ≤ a1 ∧ a1 < 4992) <|
   if a2 = c 161 (Int.toNat a1) then
  (if a2 < 10000 then
  (gd ((0 : Int) ≤ a1 ∧ a1 < 4992) <|
   if a3 < c 162 (Int.toNat a1) then
  (fX4_takesCost_j37 a1 a2 a3 a4 c)
  else
  (some c))
  else
  (some c))
  else
  (some c))
theorem sX4_takesCost {G : GG} {Γ : Cx} {r : Vv × Wd} {sz sl : Nat} {td : TT} (a1 : Int) (a2 : Int) (a3 : Int) (a4 : Int) (c : CC) : Sm (fX4_takesCost a1 a2 a3 a4 c) (fun x => r = ((3, 0), (sz, sl, tt td, cv x))) (WP G Γ muX4_takesCost r 0 [some (2, 111), some (0, a1), some (0, a2), some (0, a3), some (0, a4)] [] (sz, sl, tt td, cv c)) := by
  unfold fX4_takesCost
  refine s_iload_n (pc := 0) dX4_takesCost_0 rfl ?_
  refine s_aload_n (pc := 1) dX4_takesCost_1 rfl ?_
  refine s_get (pc := 2) (a := 111) (v := 161) flX4_167 (t_111 _) rfl (g_111_75 _) rfl dX4_takesCost_2 ?_
  refine s_iload_n (pc := 5) dX4_takesCost_5 rfl ?_
  refine s_ialdM (pc := 6) (a := 161) (t_161 _) rfl r_161 dX4_takesCost_6 ?_
  refine s_icmp_lt (pc := 7) (tgt := 37) dX4_takesCost_7 rfl ?_ ?_
  · exact sX4_takesCost_j37 a1 a2 a3 a4 c
  refine s_iload_n (pc := 10) dX4_takesCost_10 rfl ?_
  refine s_aload_n (pc := 11) dX4_takesCost_11 rfl ?_
  refine s_get (pc := 12) (a := 111) (v := 161) flX4_167 (t_111 _) rfl (g_111_75 _) rfl dX4_takesCost_12 ?_
  refine s_iload_n (pc := 15) dX4_takesCost_15 rfl ?_
  refine s_ialdM (pc := 16) (a := 161) (t_161 _) rfl r_161 dX4_takesCost_16 ?_
  refine s_icmp_ne (pc := 17) (tgt := 59) dX4_takesCost_17 rfl ?_ ?_
  · exact s_vret (pc := 59) dX4_takesCost_59 rfl (fun h => h)
  refine s_iload_n (pc := 20) dX4_takesCost_20 rfl ?_
  refine s_sipush (pc := 21) dX4_takesCost_21 ?_
  refine s_icmp_ge (pc := 24) (tgt := 59) dX4_takesCost_24 rfl ?_ ?_
  · exact s_vret (pc := 59) dX4_takesCost_59 rfl (fun h => h)
  refine s_iload_n (pc := 27) dX4_takesCost_27 rfl ?_
  refine s_aload_n (pc := 28) dX4_takesCost_28 rfl ?_
  refine s_get (pc := 29) (a := 111) (v := 162) flX4_170 (t_111 _) rfl (g_111_76 _) rfl dX4_takesCost_29 ?_
  refine s_iload_n (pc := 32) dX4_takesCost_32 rfl ?_
  refine s_ialdM (pc := 33) (a := 162) (t_162 _) rfl r_162 dX4_takesCost_33 ?_
  refine s_icmp_ge (pc := 34) (tgt := 59) dX4_takesCost_34 rfl ?_ ?_
  · exact s_vret (pc := 59) dX4_takesCost_59 rfl (fun h => h)
  exact sX4_takesCost_j37 a1 a2 a3 a4 c
theorem kX4_takesCost {G : GG} {sz sl : Nat} {td : TT} (a1 : Int) (a2 : Int) (a3 : Int) (a4 : Int) (c : CC) (x : CC) (h : fX4_takesCost a1 a2 a3 a4 c = some x) : Ct G yX4_takesCost muX4_takesCost [(2, 111), (0, a1), (0, a2), (0, a3), (0, a4)] (sz, sl, tt td, cv c) ((3, 0), (sz, sl, tt td, cv x)) :=
  Ct.of (n := 0) (ls0 := [some (2, 111), some (0, a1), some (0, a2), some (0, a3), some (0, a4)]) (by decide) rfl rfl ⟨by decide, by decide⟩ (Nat.le_of_ble_eq_true rfl) rfl ⟨Nat.le_refl _, Nat.le_refl _⟩ (show (3 : Nat) ≠ 9 by decide) (fun Γ => sX4_takesCost a1 a2 a3 a4 c x h rfl)
theorem mvX4_591 : MV RX4 591 RX4 yX4_fits muX4_fits 2 := ⟨lw_V q1880 q1882 qs113 q129 q1883, by decide +kernel, by decide⟩
theorem mvX4_594 : MV RX4 594 RX4 yX4_bestOrder muX4_bestOrder 3 := ⟨lw_V q1884 q1886 qs114 q129 q1887, by decide +kernel, by decide⟩
theorem mvX4_597 : MV RX4 597 RX4 yX4_takesCost muX4_takesCost 4 := ⟨lw_V q1923 q1925 qs123 q129 q1926, by decide +kernel, by decide⟩
abbrev muX4_laysCost : MI := (cX4_laysCost, RX4, 7, none, 5, "laysCost")
abbrev gX4_laysCost_l2 (G : GG) (Γ : Cx) (r : Vv × Wd) (sz sl : Nat) (td : TT) (v1 : Int) (v2 : Int) : (Int × CC) → Prop := fun s => WP G Γ muX4_laysCost r 2 [some (2, 111), some (0, v1), some (0, v2), some (0, s.1), none, none, none] [] (sz, sl, tt td, cv s.2)
abbrev eX4_laysCost_l2 (G : GG) (Γ : Cx) (r : Vv × Wd) (sz sl : Nat) (td : TT) (v1 : Int) (v2 : Int) : (CC) → Prop := (fun s => WP G Γ muX4_laysCost r 28 [some (2, 111), some (0, v1), some (0, v2), none, none, none, none] [] (sz, sl, tt td, cv s))
noncomputable def fX4_laysCost_l2 (v1 : Int) (v2 : Int) (v3 : Int) (c : CC) : Option ((Int × CC) ⊕ (CC)) :=
  if v3 < 8 then
  (cl (fX4_at26 v1 v3 v2) fun p_1 =>
   gd ((0 : Int) ≤ p_1 ∧ p_1 < 4992) <| bd (up2 c 161 (Int.toNat p_1) 10000) fun c_2 =>
   gd (inR (v3 + 1)) <| bd (v3 + 1) fun v3_3 =>
   some (.inl (v3_3, c_2)))
  else
  (some (.inr c))
theorem sX4_laysCost_l2 {G : GG} {Γ : Cx} {r : Vv × Wd} {sz sl : Nat} {td : TT} (v1 : Int) (v2 : Int) (v3 : Int) (c : CC) : Sm (fX4_laysCost_l2 v1 v2 v3 c) (fun x => Sum.elim (gX4_laysCost_l2 G Γ r sz sl td v1 v2) (eX4_laysCost_l2 G Γ r sz sl td v1 v2) x) (gX4_laysCost_l2 G Γ r sz sl td v1 v2 (v3, c)) := by
  show Sm _ _ (WP G Γ muX4_laysCost r 2 [some (2, 111), some (0, v1), some (0, v2), some (0, v3), none, none, none] [] (sz, sl, tt td, cv c))
  unfold fX4_laysCost_l2
  refine s_iload_n (pc := 2) dX4_laysCost_2 rfl ?_
  refine s_bipush (pc := 3) dX4_laysCost_3 ?_
  refine s_icmp_ge (pc := 5) (tgt := 28) dX4_laysCost_5 rfl ?_ ?_
  · refine s_wk [true, true, true, false, true, true, true] (ls' := [some (2, 111), some (0, v1), some (0, v2), none, none, none, none]) rfl ?_
    exact Sm.some (fun h => h)
  refine s_aload_n (pc := 8) dX4_laysCost_8 rfl ?_
  refine s_get (pc := 9) (a := 111) (v := 161) flX4_167 (t_111 _) rfl (g_111_75 _) rfl dX4_laysCost_9 ?_
  refine s_iload_n (pc := 12) dX4_laysCost_12 rfl ?_
  refine s_iload_n (pc := 13) dX4_laysCost_13 rfl ?_
  refine s_iload_n (pc := 14) dX4_laysCost_14 rfl ?_
  refine s_callS3 (pc := 15) (as := [(0, v1), (0, v3), (0, v2)]) (st := [(2, 161)]) (rv := fun b => ((0, b), (sz, sl, tt td, cv c))) (st3 := fun b => [(0, b), (2, 161)]) (w3 := fun b => (sz, sl, tt td, cv c)) msX4_556 (fun b h => kX4_at26 v1 v3 v2 c b h) rfl (by decide) rfl (Nat.le_of_ble_eq_true rfl) (fun _ => Nat.le_of_ble_eq_true rfl) (fun _ => ⟨rfl, rfl⟩) dX4_laysCost_15 (fun p_1 => ?_)
  refine s_sipush (pc := 18) dX4_laysCost_18 ?_
  refine s_iastM (pc := 21) (a := 161) (t_161 _) rfl kO_161 r_161 dX4_laysCost_21 (fun c_2 => ?_)
  refine s_iinc (pc := 22) (lf := fun x => [some (2, 111), some (0, v1), some (0, v2), some (0, x), none, none, none]) dX4_laysCost_22 rfl (fun _ => rfl) (Nat.le_of_ble_eq_true rfl) (fun v3_3 => ?_)
  refine s_goto (pc := 25) (tgt := 2) dX4_laysCost_25 rfl ?_
  exact Sm.some (fun h => h)
abbrev gX4_laysCost_l30 (G : GG) (Γ : Cx) (r : Vv × Wd) (sz sl : Nat) (td : TT) (v1 : Int) (v2 : Int) : (Int × CC) → Prop := fun s => WP G Γ muX4_laysCost r 30 [some (2, 111), some (0, v1), some (0, v2), some (0, s.1), none, none, none] [] (sz, sl, tt td, cv s.2)
abbrev eX4_laysCost_l30 (G : GG) (Γ : Cx) (r : Vv × Wd) (sz sl : Nat) (td : TT) (v1 : Int) (v2 : Int) : (CC) → Prop := (fun s => WP G Γ muX4_laysCost r 110 [some (2, 111), some (0, v1), some (0, v2), none, none, none, none] [] (sz, sl, tt td, cv s))
noncomputable def fX4_laysCost_l30 (v1 : Int) (v2 : Int) (v3 : Int) (c : CC) : Option ((Int × CC) ⊕ (CC)) :=
  cl (fX4_senses  c) fun p_5 =>
   if v3 < p_5 then
  (cl (fX4_at24 v3 c) fun p_6 =>
   gd ((0 : Int) ≤ p_6 ∧ p_6 < 144) <|
   if c 116 (Int.toNat p_6) = 0 then
  (cl (fX4_fits v1 p_6 c) fun p_8 =>
   if p_8 = 0 then
  (gd (inR (v3 + 1)) <| bd (v3 + 1) fun v3_9 =>
   some (.inl (v3_9, c)))
  else
  (cl (fX4_bestOrder v1 p_6 v2 c) fun p_10 =>
   gd ((0 : Int) ≤ p_6 ∧ p_6 < 144) <|
   cl (fX4_at26 v1 (p_10.2 122 (Int.toNat p_6)) v2) fun p_11 =>
   cl (fX4_costBy v1 p_6 p_10.1 v2 p_10.2) fun p_12 =>
   cl (fX4_takesCost p_11 p_12 v3 p_10.1 p_10.2) fun p_13 =>
   gd (inR (v3 + 1)) <| bd (v3 + 1) fun v3_14 =>
   some (.inl (v3_14, p_13))))
  else
  (gd (inR (v3 + 1)) <| bd (v3 + 1) fun v3_7 =>
   some (.inl (v3_7, c))))
  else
  (some (.inr c))
theorem sX4_laysCost_l30 {G : GG} {Γ : Cx} {r : Vv × Wd} {sz sl : Nat} {td : TT} (v1 : Int) (v2 : Int) (v3 : Int) (c : CC) : Sm (fX4_laysCost_l30 v1 v2 v3 c) (fun x => Sum.elim (gX4_laysCost_l30 G Γ r sz sl td v1 v2) (eX4_laysCost_l30 G Γ r sz sl td v1 v2) x) (gX4_laysCost_l30 G Γ r sz sl td v1 v2 (v3, c)) := by
  show Sm _ _ (WP G Γ muX4_laysCost r 30 [some (2, 111), some (0, v1), some (0, v2), some (0, v3), none, none, none] [] (sz, sl, tt td, cv c))
  unfold fX4_laysCost_l30
  refine s_iload_n (pc := 30) dX4_laysCost_30 rfl ?_
  refine s_aload_n (pc := 31) dX4_laysCost_31 rfl ?_
  refine s_callV3 (pc := 32) (a := 111) (as := []) (st := [(0, v3)]) (rv := fun b => ((0, b), (sz, sl, tt td, cv c))) (st3 := fun b => [(0, b), (0, v3)]) (w3 := fun b => (sz, sl, tt td, cv c)) mvX4_409 (fun b h => kX4_senses  c b h) rfl (by decide) (t_111 td) rfl rfl rfl (Nat.le_of_ble_eq_true rfl) (fun _ => Nat.le_of_ble_eq_true rfl) (fun _ => ⟨rfl, rfl⟩) dX4_laysCost_32 (fun p_5 => ?_)
  refine s_icmp_ge (pc := 35) (tgt := 110) dX4_laysCost_35 rfl ?_ ?_
  · refine s_wk [true, true, true, false, true, true, true] (ls' := [some (2, 111), some (0, v1), some (0, v2), none, none, none, none]) rfl ?_
    exact Sm.some (fun h => h)
  refine s_aload_n (pc := 38) dX4_laysCost_38 rfl ?_
  refine s_iload_n (pc := 39) dX4_laysCost_39 rfl ?_
  refine s_callV3 (pc := 40) (a := 111) (as := [(0, v3)]) (st := []) (rv := fun b => ((0, b), (sz, sl, tt td, cv c))) (st3 := fun b => [(0, b)]) (w3 := fun b => (sz, sl, tt td, cv c)) mvX4_412 (fun b h => kX4_at24 v3 c b h) rfl (by decide) (t_111 td) rfl rfl rfl (Nat.le_of_ble_eq_true rfl) (fun _ => Nat.le_of_ble_eq_true rfl) (fun _ => ⟨rfl, rfl⟩) dX4_laysCost_40 (fun p_6 => ?_)
  refine s_istoreD (pc := 43) (ls' := [some (2, 111), some (0, v1), some (0, v2), some (0, v3), some (0, p_6), none, none]) dX4_laysCost_43 rfl (Nat.le_of_ble_eq_true rfl) ?_
  refine s_aload_n (pc := 45) dX4_laysCost_45 rfl ?_
  refine s_get (pc := 46) (a := 111) (v := 116) flX4_30 (t_111 _) rfl (g_111_7 _) rfl dX4_laysCost_46 ?_
  refine s_iload (pc := 49) dX4_laysCost_49 rfl ?_
  refine s_ialdM (pc := 51) (a := 116) (t_116 _) rfl r_116 dX4_laysCost_51 ?_
  refine s_if_ne (pc := 52) (tgt := 104) dX4_laysCost_52 rfl ?_ ?_
  · refine s_iinc (pc := 104) (lf := fun x => [some (2, 111), some (0, v1), some (0, v2), some (0, x), some (0, p_6), none, none]) dX4_laysCost_104 rfl (fun _ => rfl) (Nat.le_of_ble_eq_true rfl) (fun v3_7 => ?_)
    refine s_goto (pc := 107) (tgt := 30) dX4_laysCost_107 rfl ?_
    refine s_wk [true, true, true, true, false, true, true] (ls' := [some (2, 111), some (0, v1), some (0, v2), some (0, v3_7), none, none, none]) rfl ?_
    exact Sm.some (fun h => h)
  refine s_aload_n (pc := 55) dX4_laysCost_55 rfl ?_
  refine s_iload_n (pc := 56) dX4_laysCost_56 rfl ?_
  refine s_iload (pc := 57) dX4_laysCost_57 rfl ?_
  refine s_callV3 (pc := 59) (a := 111) (as := [(0, v1), (0, p_6)]) (st := []) (rv := fun b => ((0, b), (sz, sl, tt td, cv c))) (st3 := fun b => [(0, b)]) (w3 := fun b => (sz, sl, tt td, cv c)) mvX4_591 (fun b h => kX4_fits v1 p_6 c b h) rfl (by decide) (t_111 td) rfl rfl rfl (Nat.le_of_ble_eq_true rfl) (fun _ => Nat.le_of_ble_eq_true rfl) (fun _ => ⟨rfl, rfl⟩) dX4_laysCost_59 (fun p_8 => ?_)
  refine s_if_eq (pc := 62) (tgt := 104) dX4_laysCost_62 rfl ?_ ?_
  · refine s_iinc (pc := 104) (lf := fun x => [some (2, 111), some (0, v1), some (0, v2), some (0, x), some (0, p_6), none, none]) dX4_laysCost_104 rfl (fun _ => rfl) (Nat.le_of_ble_eq_true rfl) (fun v3_9 => ?_)
    refine s_goto (pc := 107) (tgt := 30) dX4_laysCost_107 rfl ?_
    refine s_wk [true, true, true, true, false, true, true] (ls' := [some (2, 111), some (0, v1), some (0, v2), some (0, v3_9), none, none, none]) rfl ?_
    exact Sm.some (fun h => h)
  refine s_aload_n (pc := 65) dX4_laysCost_65 rfl ?_
  refine s_iload_n (pc := 66) dX4_laysCost_66 rfl ?_
  refine s_iload (pc := 67) dX4_laysCost_67 rfl ?_
  refine s_iload_n (pc := 69) dX4_laysCost_69 rfl ?_
  refine s_callV3 (pc := 70) (a := 111) (as := [(0, v1), (0, p_6), (0, v2)]) (st := []) (rv := fun b => ((0, b.1), (sz, sl, tt td, cv b.2))) (st3 := fun b => [(0, b.1)]) (w3 := fun b => (sz, sl, tt td, cv b.2)) mvX4_594 (fun b h => kX4_bestOrder v1 p_6 v2 c b h) rfl (by decide) (t_111 td) rfl rfl rfl (Nat.le_of_ble_eq_true rfl) (fun _ => Nat.le_of_ble_eq_true rfl) (fun _ => ⟨rfl, rfl⟩) dX4_laysCost_70 (fun p_10 => ?_)
  refine s_istoreD (pc := 73) (ls' := [some (2, 111), some (0, v1), some (0, v2), some (0, v3), some (0, p_6), some (0, p_10.1), none]) dX4_laysCost_73 rfl (Nat.le_of_ble_eq_true rfl) ?_
  refine s_aload_n (pc := 75) dX4_laysCost_75 rfl ?_
  refine s_iload_n (pc := 76) dX4_laysCost_76 rfl ?_
  refine s_aload_n (pc := 77) dX4_laysCost_77 rfl ?_
  refine s_get (pc := 78) (a := 111) (v := 122) flX4_48 (t_111 _) rfl (g_111_13 _) rfl dX4_laysCost_78 ?_
  refine s_iload (pc := 81) dX4_laysCost_81 rfl ?_
  refine s_ialdM (pc := 83) (a := 122) (t_122 _) rfl r_122 dX4_laysCost_83 ?_
  refine s_iload_n (pc := 84) dX4_laysCost_84 rfl ?_
  refine s_callS3 (pc := 85) (as := [(0, v1), (0, p_10.2 122 (Int.toNat p_6)), (0, v2)]) (st := [(2, 111)]) (rv := fun b => ((0, b), (sz, sl, tt td, cv p_10.2))) (st3 := fun b => [(0, b), (2, 111)]) (w3 := fun b => (sz, sl, tt td, cv p_10.2)) msX4_556 (fun b h => kX4_at26 v1 (p_10.2 122 (Int.toNat p_6)) v2 p_10.2 b h) rfl (by decide) rfl (Nat.le_of_ble_eq_true rfl) (fun _ => Nat.le_of_ble_eq_true rfl) (fun _ => ⟨rfl, rfl⟩) dX4_laysCost_85 (fun p_11 => ?_)
  refine s_aload_n (pc := 88) dX4_laysCost_88 rfl ?_
  refine s_iload_n (pc := 89) dX4_laysCost_89 rfl ?_
  refine s_iload (pc := 90) dX4_laysCost_90 rfl ?_
  refine s_iload (pc := 92) dX4_laysCost_92 rfl ?_
  refine s_iload_n (pc := 94) dX4_laysCost_94 rfl ?_
  refine s_callV3 (pc := 95) (a := 111) (as := [(0, v1), (0, p_6), (0, p_10.1), (0, v2)]) (st := [(0, p_11), (2, 111)]) (rv := fun b => ((0, b), (sz, sl, tt td, cv p_10.2))) (st3 := fun b => [(0, b), (0, p_11), (2, 111)]) (w3 := fun b => (sz, sl, tt td, cv p_10.2)) mvX4_576 (fun b h => kX4_costBy v1 p_6 p_10.1 v2 p_10.2 b h) rfl (by decide) (t_111 td) rfl rfl rfl (Nat.le_of_ble_eq_true rfl) (fun _ => Nat.le_of_ble_eq_true rfl) (fun _ => ⟨rfl, rfl⟩) dX4_laysCost_95 (fun p_12 => ?_)
  refine s_iload_n (pc := 98) dX4_laysCost_98 rfl ?_
  refine s_iload (pc := 99) dX4_laysCost_99 rfl ?_
  refine s_callV3 (pc := 101) (a := 111) (as := [(0, p_11), (0, p_12), (0, v3), (0, p_10.1)]) (st := []) (rv := fun b => ((3, 0), (sz, sl, tt td, cv b))) (st3 := fun b => []) (w3 := fun b => (sz, sl, tt td, cv b)) mvX4_597 (fun b h => kX4_takesCost p_11 p_12 v3 p_10.1 p_10.2 b h) rfl (by decide) (t_111 td) rfl rfl rfl (Nat.le_of_ble_eq_true rfl) (fun _ => Nat.le_of_ble_eq_true rfl) (fun _ => ⟨rfl, rfl⟩) dX4_laysCost_101 (fun p_13 => ?_)
  refine s_iinc (pc := 104) (lf := fun x => [some (2, 111), some (0, v1), some (0, v2), some (0, x), some (0, p_6), some (0, p_10.1), none]) dX4_laysCost_104 rfl (fun _ => rfl) (Nat.le_of_ble_eq_true rfl) (fun v3_14 => ?_)
  refine s_goto (pc := 107) (tgt := 30) dX4_laysCost_107 rfl ?_
  refine s_wk [true, true, true, true, false, false, true] (ls' := [some (2, 111), some (0, v1), some (0, v2), some (0, v3_14), none, none, none]) rfl ?_
  exact Sm.some (fun h => h)
noncomputable def fX4_laysCost_j208 (v1 : Int) (v2 : Int) (v3 : Int) (v4 : Int) (w0 : Int) (w1 : Int) (c : CC) : Option ((Int × CC) ⊕ (CC)) :=
  cl (fX4_takesCost w1 w0 v4 0 c) fun p_23 =>
   gd (inR (v4 + 1)) <| bd (v4 + 1) fun v4_24 =>
   some (.inl (v4_24, p_23))
abbrev gX4_laysCost_l121 (G : GG) (Γ : Cx) (r : Vv × Wd) (sz sl : Nat) (td : TT) (v1 : Int) (v2 : Int) (v3 : Int) : (Int × CC) → Prop := fun s => WP G Γ muX4_laysCost r 121 [some (2, 111), some (0, v1), some (0, v2), some (0, v3), some (0, s.1), none, none] [] (sz, sl, tt td, cv s.2)
abbrev eX4_laysCost_l121 (G : GG) (Γ : Cx) (r : Vv × Wd) (sz sl : Nat) (td : TT) (v1 : Int) (v2 : Int) (v3 : Int) : (CC) → Prop := (fun s => WP G Γ muX4_laysCost r 220 [some (2, 111), some (0, v1), some (0, v2), some (0, v3), none, none, none] [] (sz, sl, tt td, cv s))
theorem sX4_laysCost_j208 {G : GG} {Γ : Cx} {r : Vv × Wd} {sz sl : Nat} {td : TT} (v1 : Int) (v2 : Int) (v3 : Int) (v4 : Int) (w0 : Int) (w1 : Int) (c : CC) : Sm (fX4_laysCost_j208 v1 v2 v3 v4 w0 w1 c) (fun x => Sum.elim (gX4_laysCost_l121 G Γ r sz sl td v1 v2 v3) (eX4_laysCost_l121 G Γ r sz sl td v1 v2 v3) x) (WP G Γ muX4_laysCost r 208 [some (2, 111), some (0, v1), some (0, v2), some (0, v3), some (0, v4), none, none] [(0, w0), (0, w1), (2, 111)] (sz, sl, tt td, cv c)) := by
  unfold fX4_laysCost_j208
  refine s_iload (pc := 208) dX4_laysCost_208 rfl ?_
  refine s_iconst (pc := 210) dX4_laysCost_210 ?_
  refine s_callV3 (pc := 211) (a := 111) (as := [(0, w1), (0, w0), (0, v4), (0, 0)]) (st := []) (rv := fun b => ((3, 0), (sz, sl, tt td, cv b))) (st3 := fun b => []) (w3 := fun b => (sz, sl, tt td, cv b)) mvX4_597 (fun b h => kX4_takesCost w1 w0 v4 0 c b h) rfl (by decide) (t_111 td) rfl rfl rfl (Nat.le_of_ble_eq_true rfl) (fun _ => Nat.le_of_ble_eq_true rfl) (fun _ => ⟨rfl, rfl⟩) dX4_laysCost_211 (fun p_23 => ?_)
  refine s_iinc (pc := 214) (lf := fun x => [some (2, 111), some (0, v1), some (0, v2), some (0, v3), some (0, x), none, none]) dX4_laysCost_214 rfl (fun _ => rfl) (Nat.le_of_ble_eq_true rfl) (fun v4_24 => ?_)
  refine s_goto (pc := 217) (tgt := 121) dX4_laysCost_217 rfl ?_
  exact Sm.some (fun h => h)
noncomputable def fX4_laysCost_l121 (v1 : Int) (v2 : Int) (v3 : Int) (v4 : Int) (c : CC) : Option ((Int × CC) ⊕ (CC)) :=
  cl (fX4_senses  c) fun p_16 =>
   if v4 < p_16 then
  (cl (fX4_at24 v4 c) fun p_17 =>
   gd ((0 : Int) ≤ p_17 ∧ p_17 < 144) <|
   if c 116 (Int.toNat p_17) = 0 then
  (gd ((0 : Int) ≤ p_17 ∧ p_17 < 144) <|
   if c 119 (Int.toNat p_17) = 5 then
  (gd ((0 : Int) ≤ p_17 ∧ p_17 < 144) <|
   cl (fX4_at26 v1 (c 120 (Int.toNat p_17)) v2) fun p_20 =>
   gd ((0 : Int) ≤ p_20 ∧ p_20 < 4992) <|
   gd (inR ((c 161 (Int.toNat p_20)) + 1)) <|
   bd ((c 161 (Int.toNat p_20)) + 1) fun v6_21 =>
   gd ((0 : Int) ≤ p_17 ∧ p_17 < 144) <|
   cl (fX4_at26 v1 (c 122 (Int.toNat p_17)) v2) fun p_22 =>
   if (99 : Int) < v6_21 then
  (fX4_laysCost_j208 v1 v2 v3 v4 10000 p_22 c)
  else
  (fX4_laysCost_j208 v1 v2 v3 v4 v6_21 p_22 c))
  else
  (gd (inR (v4 + 1)) <| bd (v4 + 1) fun v4_19 =>
   some (.inl (v4_19, c))))
  else
  (gd (inR (v4 + 1)) <| bd (v4 + 1) fun v4_18 =>
   some (.inl (v4_18, c))))
  else
  (some (.inr c))
theorem sX4_laysCost_l121 {G : GG} {Γ : Cx} {r : Vv × Wd} {sz sl : Nat} {td : TT} (v1 : Int) (v2 : Int) (v3 : Int) (v4 : Int) (c : CC) : Sm (fX4_laysCost_l121 v1 v2 v3 v4 c) (fun x => Sum.elim (gX4_laysCost_l121 G Γ r sz sl td v1 v2 v3) (eX4_laysCost_l121 G Γ r sz sl td v1 v2 v3) x) (gX4_laysCost_l121 G Γ r sz sl td v1 v2 v3 (v4, c)) := by
  show Sm _ _ (WP G Γ muX4_laysCost r 121 [some (2, 111), some (0, v1), some (0, v2), some (0, v3), some (0, v4), none, none] [] (sz, sl, tt td, cv c))
  unfold fX4_laysCost_l121
  refine s_iload (pc := 121) dX4_laysCost_121 rfl ?_
  refine s_aload_n (pc := 123) dX4_laysCost_123 rfl ?_
  refine s_callV3 (pc := 124) (a := 111) (as := []) (st := [(0, v4)]) (rv := fun b => ((0, b), (sz, sl, tt td, cv c))) (st3 := fun b => [(0, b), (0, v4)]) (w3 := fun b => (sz, sl, tt td, cv c)) mvX4_409 (fun b h => kX4_senses  c b h) rfl (by decide) (t_111 td) rfl rfl rfl (Nat.le_of_ble_eq_true rfl) (fun _ => Nat.le_of_ble_eq_true rfl) (fun _ => ⟨rfl, rfl⟩) dX4_laysCost_124 (fun p_16 => ?_)
  refine s_icmp_ge (pc := 127) (tgt := 220) dX4_laysCost_127 rfl ?_ ?_
  · refine s_wk [true, true, true, true, false, true, true] (ls' := [some (2, 111), some (0, v1), some (0, v2), some (0, v3), none, none, none]) rfl ?_
    exact Sm.some (fun h => h)
  refine s_aload_n (pc := 130) dX4_laysCost_130 rfl ?_
  refine s_iload (pc := 131) dX4_laysCost_131 rfl ?_
  refine s_callV3 (pc := 133) (a := 111) (as := [(0, v4)]) (st := []) (rv := fun b => ((0, b), (sz, sl, tt td, cv c))) (st3 := fun b => [(0, b)]) (w3 := fun b => (sz, sl, tt td, cv c)) mvX4_412 (fun b h => kX4_at24 v4 c b h) rfl (by decide) (t_111 td) rfl rfl rfl (Nat.le_of_ble_eq_true rfl) (fun _ => Nat.le_of_ble_eq_true rfl) (fun _ => ⟨rfl, rfl⟩) dX4_laysCost_133 (fun p_17 => ?_)
  refine s_istoreD (pc := 136) (ls' := [some (2, 111), some (0, v1), some (0, v2), some (0, v3), some (0, v4), some (0, p_17), none]) dX4_laysCost_136 rfl (Nat.le_of_ble_eq_true rfl) ?_
  refine s_aload_n (pc := 138) dX4_laysCost_138 rfl ?_
  refine s_get (pc := 139) (a := 111) (v := 116) flX4_30 (t_111 _) rfl (g_111_7 _) rfl dX4_laysCost_139 ?_
  refine s_iload (pc := 142) dX4_laysCost_142 rfl ?_
  refine s_ialdM (pc := 144) (a := 116) (t_116 _) rfl r_116 dX4_laysCost_144 ?_
  refine s_if_ne (pc := 145) (tgt := 214) dX4_laysCost_145 rfl ?_ ?_
  · refine s_iinc (pc := 214) (lf := fun x => [some (2, 111), some (0, v1), some (0, v2), some (0, v3), some (0, x), some (0, p_17), none]) dX4_laysCost_214 rfl (fun _ => rfl) (Nat.le_of_ble_eq_true rfl) (fun v4_18 => ?_)
    refine s_goto (pc := 217) (tgt := 121) dX4_laysCost_217 rfl ?_
    refine s_wk [true, true, true, true, true, false, true] (ls' := [some (2, 111), some (0, v1), some (0, v2), some (0, v3), some (0, v4_18), none, none]) rfl ?_
    exact Sm.some (fun h => h)
  refine s_aload_n (pc := 148) dX4_laysCost_148 rfl ?_
  refine s_get (pc := 149) (a := 111) (v := 119) flX4_39 (t_111 _) rfl (g_111_10 _) rfl dX4_laysCost_149 ?_
  refine s_iload (pc := 152) dX4_laysCost_152 rfl ?_
  refine s_ialdM (pc := 154) (a := 119) (t_119 _) rfl r_119 dX4_laysCost_154 ?_
  refine s_iconst (pc := 155) dX4_laysCost_155 ?_
  refine s_icmp_ne (pc := 156) (tgt := 214) dX4_laysCost_156 rfl ?_ ?_
  · refine s_iinc (pc := 214) (lf := fun x => [some (2, 111), some (0, v1), some (0, v2), some (0, v3), some (0, x), some (0, p_17), none]) dX4_laysCost_214 rfl (fun _ => rfl) (Nat.le_of_ble_eq_true rfl) (fun v4_19 => ?_)
    refine s_goto (pc := 217) (tgt := 121) dX4_laysCost_217 rfl ?_
    refine s_wk [true, true, true, true, true, false, true] (ls' := [some (2, 111), some (0, v1), some (0, v2), some (0, v3), some (0, v4_19), none, none]) rfl ?_
    exact Sm.some (fun h => h)
  refine s_aload_n (pc := 159) dX4_laysCost_159 rfl ?_
  refine s_get (pc := 160) (a := 111) (v := 161) flX4_167 (t_111 _) rfl (g_111_75 _) rfl dX4_laysCost_160 ?_
  refine s_iload_n (pc := 163) dX4_laysCost_163 rfl ?_
  refine s_aload_n (pc := 164) dX4_laysCost_164 rfl ?_
  refine s_get (pc := 165) (a := 111) (v := 120) flX4_42 (t_111 _) rfl (g_111_11 _) rfl dX4_laysCost_165 ?_
  refine s_iload (pc := 168) dX4_laysCost_168 rfl ?_
  refine s_ialdM (pc := 170) (a := 120) (t_120 _) rfl r_120 dX4_laysCost_170 ?_
  refine s_iload_n (pc := 171) dX4_laysCost_171 rfl ?_
  refine s_callS3 (pc := 172) (as := [(0, v1), (0, c 120 (Int.toNat p_17)), (0, v2)]) (st := [(2, 161)]) (rv := fun b => ((0, b), (sz, sl, tt td, cv c))) (st3 := fun b => [(0, b), (2, 161)]) (w3 := fun b => (sz, sl, tt td, cv c)) msX4_556 (fun b h => kX4_at26 v1 (c 120 (Int.toNat p_17)) v2 c b h) rfl (by decide) rfl (Nat.le_of_ble_eq_true rfl) (fun _ => Nat.le_of_ble_eq_true rfl) (fun _ => ⟨rfl, rfl⟩) dX4_laysCost_172 (fun p_20 => ?_)
  refine s_ialdM (pc := 175) (a := 161) (t_161 _) rfl r_161 dX4_laysCost_175 ?_
  refine s_iconst (pc := 176) dX4_laysCost_176 ?_
  refine s_iadd (pc := 177) dX4_laysCost_177 ?_
  refine s_istore (pc := 178) (lf := fun x => [some (2, 111), some (0, v1), some (0, v2), some (0, v3), some (0, v4), some (0, p_17), some (0, x)]) dX4_laysCost_178 (fun _ => rfl) (Nat.le_of_ble_eq_true rfl) (fun v6_21 => ?_)
  refine s_aload_n (pc := 180) dX4_laysCost_180 rfl ?_
  refine s_iload_n (pc := 181) dX4_laysCost_181 rfl ?_
  refine s_aload_n (pc := 182) dX4_laysCost_182 rfl ?_
  refine s_get (pc := 183) (a := 111) (v := 122) flX4_48 (t_111 _) rfl (g_111_13 _) rfl dX4_laysCost_183 ?_
  refine s_iload (pc := 186) dX4_laysCost_186 rfl ?_
  refine s_ialdM (pc := 188) (a := 122) (t_122 _) rfl r_122 dX4_laysCost_188 ?_
  refine s_iload_n (pc := 189) dX4_laysCost_189 rfl ?_
  refine s_callS3 (pc := 190) (as := [(0, v1), (0, c 122 (Int.toNat p_17)), (0, v2)]) (st := [(2, 111)]) (rv := fun b => ((0, b), (sz, sl, tt td, cv c))) (st3 := fun b => [(0, b), (2, 111)]) (w3 := fun b => (sz, sl, tt td, cv c)) msX4_556 (fun b h => kX4_at26 v1 (c 122 (Int.toNat p_17)) v2 c b h) rfl (by decide) rfl (Nat.le_of_ble_eq_true rfl) (fun _ => Nat.le_of_ble_eq_true rfl) (fun _ => ⟨rfl, rfl⟩) dX4_laysCost_190 (fun p_22 => ?_)
  refine s_iload (pc := 193) dX4_laysCost_193 rfl ?_
  refine s_bipush (pc := 195) dX4_laysCost_195 ?_
  refine s_icmp_le (pc := 197) (tgt := 206) dX4_laysCost_197 rfl ?_ ?_
  · refine s_iload (pc := 206) dX4_laysCost_206 rfl ?_
    refine s_wk [true, true, true, true, true, false, false] (ls' := [some (2, 111), some (0, v1), some (0, v2), some (0, v3), some (0, v4), none, none]) rfl ?_
    exact sX4_laysCost_j208 v1 v2 v3 v4 v6_21 p_22 c
  refine s_sipush (pc := 200) dX4_laysCost_200 ?_
  refine s_goto (pc := 203) (tgt := 208) dX4_laysCost_203 rfl ?_
  refine s_wk [true, true, true, true, true, false, false] (ls' := [some (2, 111), some (0, v1), some (0, v2), some (0, v3), some (0, v4), none, none]) rfl ?_
  exact sX4_laysCost_j208 v1 v2 v3 v4 10000 p_22 c
abbrev gX4_laysCost_l112 (G : GG) (Γ : Cx) (r : Vv × Wd) (sz sl : Nat) (td : TT) (v1 : Int) (v2 : Int) : (Int × CC) → Prop := fun s => WP G Γ muX4_laysCost r 112 [some (2, 111), some (0, v1), some (0, v2), some (0, s.1), none, none, none] [] (sz, sl, tt td, cv s.2)
abbrev eX4_laysCost_l112 (G : GG) (Γ : Cx) (r : Vv × Wd) (sz sl : Nat) (td : TT) (v1 : Int) (v2 : Int) : (CC) → Prop := (fun s => WP G Γ muX4_laysCost r 226 [none, none, none, none, none, none, none] [] (sz, sl, tt td, cv s))
noncomputable def fX4_laysCost_l112 (v1 : Int) (v2 : Int) (v3 : Int) (c : CC) : Option ((Int × CC) ⊕ (CC)) :=
  if v3 < 8 then
  (cl (wh (fun s => fX4_laysCost_l121 v1 v2 v3 s.1 s.2) (0, c)) (fun e_25 =>
  gd (inR (v3 + 1)) <| bd (v3 + 1) fun v3_26 =>
   some (.inl (v3_26, e_25))))
  else
  (some (.inr c))
theorem sX4_laysCost_l112 {G : GG} {Γ : Cx} {r : Vv × Wd} {sz sl : Nat} {td : TT} (v1 : Int) (v2 : Int) (v3 : Int) (c : CC) : Sm (fX4_laysCost_l112 v1 v2 v3 c) (fun x => Sum.elim (gX4_laysCost_l112 G Γ r sz sl td v1 v2) (eX4_laysCost_l112 G Γ r sz sl td v1 v2) x) (gX4_laysCost_l112 G Γ r sz sl td v1 v2 (v3, c)) := by
  show Sm _ _ (WP G Γ muX4_laysCost r 112 [some (2, 111), some (0, v1), some (0, v2), some (0, v3), none, none, none] [] (sz, sl, tt td, cv c))
  unfold fX4_laysCost_l112
  refine s_iload_n (pc := 112) dX4_laysCost_112 rfl ?_
  refine s_bipush (pc := 113) dX4_laysCost_113 ?_
  refine s_icmp_ge (pc := 115) (tgt := 226) dX4_laysCost_115 rfl ?_ ?_
  · refine s_wk [false, false, false, false, true, true, true] (ls' := [none, none, none, none, none, none, none]) rfl ?_
    exact Sm.some (fun h => h)
  refine s_iconst (pc := 118) dX4_laysCost_118 ?_
  refine s_istoreD (pc := 119) (ls' := [some (2, 111), some (0, v1), some (0, v2), some (0, v3), some (0, 0), none, none]) dX4_laysCost_119 rfl (Nat.le_of_ble_eq_true rfl) ?_
  refine s_loop (g := gX4_laysCost_l121 G Γ r sz sl td v1 v2 v3) (Ex := eX4_laysCost_l121 G Γ r sz sl td v1 v2 v3) (s0 := (0, c)) (fun s => sX4_laysCost_l121 v1 v2 v3 s.1 s.2) ?_
  intro e_25
  show Sm _ _ (WP G Γ muX4_laysCost r 220 [some (2, 111), some (0, v1), some (0, v2), some (0, v3), none, none, none] [] (sz, sl, tt td, cv e_25))
  refine s_iinc (pc := 220) (lf := fun x => [some (2, 111), some (0, v1), some (0, v2), some (0, x), none, none, none]) dX4_laysCost_220 rfl (fun _ => rfl) (Nat.le_of_ble_eq_true rfl) (fun v3_26 => ?_)
  refine s_goto (pc := 223) (tgt := 112) dX4_laysCost_223 rfl ?_
  exact Sm.some (fun h => h)
noncomputable def fX4_laysCost (a1 : Int) (a2 : Int) (c : CC) : Option CC :=
  cl (wh (fun s => fX4_laysCost_l2 a1 a2 s.1 s.2) (0, c)) (fun e_4 =>
  cl (wh (fun s => fX4_laysCost_l30 a1 a2 s.1 s.2) (0, e_4)) (fun e_15 =>
  cl (wh (fun s => fX4_laysCost_l112 a1 a2 s.1 s.2) (0, e_15)) (fun e_27 =>
  some e_27)))
theorem sX4_laysCost {G : GG} {Γ : Cx} {r : Vv × Wd} {sz sl : Nat} {td : TT} (a1 : Int) (a2 : Int) (c : CC) : Sm (fX4_laysCost a1 a2 c) (fun x => r = ((3, 0), (sz, sl, tt td, cv x))) (WP G Γ muX4_laysCost r 0 [some (2, 111), some (0, a1), some (0, a2), none, none, none, none] [] (sz, sl, tt td, cv c)) := by
  unfold fX4_laysCost
  refine s_iconst (pc := 0) dX4_laysCost_0 ?_
  refine s_istore_nD (pc := 1) (ls' := [some (2, 111), some (0, a1), some (0, a2), some (0, 0), none, none, none]) dX4_laysCost_1 rfl (Nat.le_of_ble_eq_true rfl) ?_
  refine s_loop (g := gX4_laysCost_l2 G Γ r sz sl td a1 a2) (Ex := eX4_laysCost_l2 G Γ r sz sl td a1 a2) (s0 := (0, c)) (fun s => sX4_laysCost_l2 a1 a2 s.1 s.2) ?_
  intro e_4
  show Sm _ _ (WP G Γ muX4_laysCost r 28 [some (2, 111), some (0, a1), some (0, a2), none, none, none, none] [] (sz, sl, tt td, cv e_4))
  refine s_iconst (pc := 28) dX4_laysCost_28 ?_
  refine s_istore_nD (pc := 29) (ls' := [some (2, 111), some (0, a1), some (0, a2), some (0, 0), none, none, none]) dX4_laysCost_29 rfl (Nat.le_of_ble_eq_true rfl) ?_
  refine s_loop (g := gX4_laysCost_l30 G Γ r sz sl td a1 a2) (Ex := eX4_laysCost_l30 G Γ r sz sl td a1 a2) (s0 := (0, e_4)) (fun s => sX4_laysCost_l30 a1 a2 s.1 s.2) ?_
  intro e_15
  show Sm _ _ (WP G Γ muX4_laysCost r 110 [some (2, 111), some (0, a1), some (0, a2), none, none, none, none] [] (sz, sl, tt td, cv e_15))
  refine s_iconst (pc := 110) dX4_laysCost_110 ?_
  refine s_istore_nD (pc := 111) (ls' := [some (2, 111), some (0, a1), some (0, a2), some (0, 0), none, none, none]) dX4_laysCost_111 rfl (Nat.le_of_ble_eq_true rfl) ?_
  refine s_loop (g := gX4_laysCost_l112 G Γ r sz sl td a1 a2) (Ex := eX4_laysCost_l112 G Γ r sz sl td a1 a2) (s0 := (0, e_15)) (fun s => sX4_laysCost_l112 a1 a2 s.1 s.2) ?_
  intro e_27
  show Sm _ _ (WP G Γ muX4_laysCost r 226 [none, none, none, none, none, none, none] [] (sz, sl, tt td, cv e_27))
  exact s_vret (pc := 226) dX4_laysCost_226 rfl (fun h => h)
theorem kX4_laysCost {G : GG} {sz sl : Nat} {td : TT} (a1 : Int) (a2 : Int) (c : CC) (x : CC) (h : fX4_laysCost a1 a2 c = some x) : Ct G yX4_laysCost muX4_laysCost [(2, 111), (0, a1), (0, a2)] (sz, sl, tt td, cv c) ((3, 0), (sz, sl, tt td, cv x)) :=
  Ct.of (n := 4) (ls0 := [some (2, 111), some (0, a1), some (0, a2), none, none, none, none]) (by decide) rfl rfl ⟨by decide, by decide⟩ (Nat.le_of_ble_eq_true rfl) rfl ⟨Nat.le_refl _, Nat.le_refl _⟩ (show (3 : Nat) ≠ 9 by decide) (fun Γ => sX4_laysCost a1 a2 c x h rfl)
theorem mvX4_601 : MV RX4 601 RX4 yX4_laysCost muX4_laysCost 2 := ⟨lw_V q1873 q1875 qs112 q129 q1876, by decide +kernel, by decide⟩
abbrev muX4_laysCosts : MI := (cX4_laysCosts, RX4, 5, some .int, 7, "laysCosts")
abbrev gX4_laysCosts_l32 (G : GG) (Γ : Cx) (r : Vv × Wd) (sz sl : Nat) (td : TT) (v2 : Int) (v3 : Int) : (Int × CC) → Prop := fun s => WP G Γ muX4_laysCosts r 32 [some (2, 111), none, some (0, v2), some (0, v3), some (0, s.1)] [] (sz, sl, tt td, cv s.2)
abbrev eX4_laysCosts_l32 (G : GG) (Γ : Cx) (r : Vv × Wd) (sz sl : Nat) (td : TT) (v2 : Int) (v3 : Int) : (CC) → Prop := (fun s => WP G Γ muX4_laysCosts r 52 [some (2, 111), none, some (0, v2), some (0, v3), none] [] (sz, sl, tt td, cv s))
noncomputable def fX4_laysCosts_l32 (v2 : Int) (v3 : Int) (v4 : Int) (c : CC) : Option ((Int × CC) ⊕ (CC)) :=
  if (24 : Int) < v4 then
  (some (.inr c))
  else
  (cl (fX4_laysCost v3 v4 c) fun p_4 =>
   gd (inR (v4 + 1)) <| bd (v4 + 1) fun v4_5 =>
   some (.inl (v4_5, p_4)))
theorem sX4_laysCosts_l32 {G : GG} {Γ : Cx} {r : Vv × Wd} {sz sl : Nat} {td : TT} (v2 : Int) (v3 : Int) (v4 : Int) (c : CC) : Sm (fX4_laysCosts_l32 v2 v3 v4 c) (fun x => Sum.elim (gX4_laysCosts_l32 G Γ r sz sl td v2 v3) (eX4_laysCosts_l32 G Γ r sz sl td v2 v3) x) (gX4_laysCosts_l32 G Γ r sz sl td v2 v3 (v4, c)) := by
  show Sm _ _ (WP G Γ muX4_laysCosts r 32 [some (2, 111), none, some (0, v2), some (0, v3), some (0, v4)] [] (sz, sl, tt td, cv c))
  unfold fX4_laysCosts_l32
  refine s_iload (pc := 32) dX4_laysCosts_32 rfl ?_
  refine s_bipush (pc := 34) dX4_laysCosts_34 ?_
  refine s_icmp_gt (pc := 36) (tgt := 52) dX4_laysCosts_36 rfl ?_ ?_
  · refine s_wk [true, true, true, true, false] (ls' := [some (2, 111), none, some (0, v2), some (0, v3), none]) rfl ?_
    exact Sm.some (fun h => h)
  refine s_aload_n (pc := 39) dX4_laysCosts_39 rfl ?_
  refine s_iload_n (pc := 40) dX4_laysCosts_40 rfl ?_
  refine s_iload (pc := 41) dX4_laysCosts_41 rfl ?_
  refine s_callV3 (pc := 43) (a := 111) (as := [(0, v3), (0, v4)]) (st := []) (rv := fun b => ((3, 0), (sz, sl, tt td, cv b))) (st3 := fun b => []) (w3 := fun b => (sz, sl, tt td, cv b)) mvX4_601 (fun b h => kX4_laysCost v3 v4 c b h) rfl (by decide) (t_111 td) rfl rfl rfl (Nat.le_of_ble_eq_true rfl) (fun _ => Nat.le_of_ble_eq_true rfl) (fun _ => ⟨rfl, rfl⟩) dX4_laysCosts_43 (fun p_4 => ?_)
  refine s_iinc (pc := 46) (lf := fun x => [some (2, 111), none, some (0, v2), some (0, v3), some (0, x)]) dX4_laysCosts_46 rfl (fun _ => rfl) (Nat.le_of_ble_eq_true rfl) (fun v4_5 => ?_)
  refine s_goto (pc := 49) (tgt := 32) dX4_laysCosts_49 rfl ?_
  exact Sm.some (fun h => h)
abbrev gX4_laysCosts_l21 (G : GG) (Γ : Cx) (r : Vv × Wd) (sz sl : Nat) (td : TT) (v2 : Int) : (Int × CC) → Prop := fun s => WP G Γ muX4_laysCosts r 21 [some (2, 111), none, some (0, v2), some (0, s.1), none] [] (sz, sl, tt td, cv s.2)
abbrev eX4_laysCosts_l21 (G : GG) (Γ : Cx) (r : Vv × Wd) (sz sl : Nat) (td : TT) (v2 : Int) : (CC) → Prop := (fun s => WP G Γ muX4_laysCosts r 58 [none, none, some (0, v2), none, none] [] (sz, sl, tt td, cv s))
noncomputable def fX4_laysCosts_l21 (v2 : Int) (v3 : Int) (c : CC) : Option ((Int × CC) ⊕ (CC)) :=
  if v3 < c 111 55 then
  (cl (wh (fun s => fX4_laysCosts_l32 v2 v3 s.1 s.2) (1, c)) (fun e_6 =>
  gd (inR (v3 + 1)) <| bd (v3 + 1) fun v3_7 =>
   some (.inl (v3_7, e_6))))
  else
  (some (.inr c))
theorem sX4_laysCosts_l21 {G : GG} {Γ : Cx} {r : Vv × Wd} {sz sl : Nat} {td : TT} (v2 : Int) (v3 : Int) (c : CC) : Sm (fX4_laysCosts_l21 v2 v3 c) (fun x => Sum.elim (gX4_laysCosts_l21 G Γ r sz sl td v2) (eX4_laysCosts_l21 G Γ r sz sl td v2) x) (gX4_laysCosts_l21 G Γ r sz sl td v2 (v3, c)) := by
  show Sm _ _ (WP G Γ muX4_laysCosts r 21 [some (2, 111), none, some (0, v2), some (0, v3), none] [] (sz, sl, tt td, cv c))
  unfold fX4_laysCosts_l21
  refine s_iload_n (pc := 21) dX4_laysCosts_21 rfl ?_
  refine s_aload_n (pc := 22) dX4_laysCosts_22 rfl ?_
  refine s_get (pc := 23) (a := 111) (v := c 111 55) flX4_486 (t_111 _) rfl (g_111_55 _) rfl dX4_laysCosts_23 ?_
  refine s_icmp_ge (pc := 26) (tgt := 58) dX4_laysCosts_26 rfl ?_ ?_
  · refine s_wk [false, true, true, false, true] (ls' := [none, none, some (0, v2), none, none]) rfl ?_
    exact Sm.some (fun h => h)
  refine s_iconst (pc := 29) dX4_laysCosts_29 ?_
  refine s_istoreD (pc := 30) (ls' := [some (2, 111), none, some (0, v2), some (0, v3), some (0, 1)]) dX4_laysCosts_30 rfl (Nat.le_of_ble_eq_true rfl) ?_
  refine s_loop (g := gX4_laysCosts_l32 G Γ r sz sl td v2 v3) (Ex := eX4_laysCosts_l32 G Γ r sz sl td v2 v3) (s0 := (1, c)) (fun s => sX4_laysCosts_l32 v2 v3 s.1 s.2) ?_
  intro e_6
  show Sm _ _ (WP G Γ muX4_laysCosts r 52 [some (2, 111), none, some (0, v2), some (0, v3), none] [] (sz, sl, tt td, cv e_6))
  refine s_iinc (pc := 52) (lf := fun x => [some (2, 111), none, some (0, v2), some (0, x), none]) dX4_laysCosts_52 rfl (fun _ => rfl) (Nat.le_of_ble_eq_true rfl) (fun v3_7 => ?_)
  refine s_goto (pc := 55) (tgt := 21) dX4_laysCosts_55 rfl ?_
  exact Sm.some (fun h => h)
noncomputable def fX4_laysCosts (a1 : Int) (c : CC) : Option (Int × CC) :=
  cl (fX4_reads a1 c) fun p_1 =>
   if p_1.1 = 0 then
  (some (-1, p_1.2))
  else
  (cl (fX4_forgets  p_1.2) fun p_2 =>
   cl (fX4_means  p_2) fun p_3 =>
   cl (wh (fun s => fX4_laysCosts_l21 p_3.1 s.1 s.2) (0, p_3.2)) (fun e_8 =>
  some (p_3.1, e_8)))
theorem sX4_laysCosts {G : GG} {Γ : Cx} {r : Vv × Wd} {sz sl : Nat} {td : TT} (a1 : Int) (c : CC) : Sm (fX4_laysCosts a1 c) (fun x => r = ((0, x.1), (sz, sl, tt td, cv x.2))) (WP G Γ muX4_laysCosts r 0 [some (2, 111), some (0, a1), none, none, none] [] (sz, sl, tt td, cv c)) := by
  unfold fX4_laysCosts
  refine s_aload_n (pc := 0) dX4_laysCosts_0 rfl ?_
  refine s_iload_n (pc := 1) dX4_laysCosts_1 rfl ?_
  refine s_callV3 (pc := 2) (a := 111) (as := [(0, a1)]) (st := []) (rv := fun b => ((0, b.1), (sz, sl, tt td, cv b.2))) (st3 := fun b => [(0, b.1)]) (w3 := fun b => (sz, sl, tt td, cv b.2)) mvX4_471 (fun b h => kX4_reads a1 c b h) rfl (by decide) (t_111 td) rfl rfl rfl (Nat.le_of_ble_eq_true rfl) (fun _ => Nat.le_of_ble_eq_true rfl) (fun _ => ⟨rfl, rfl⟩) dX4_laysCosts_2 (fun p_1 => ?_)
  refine s_if_ne (pc := 5) (tgt := 10) dX4_laysCosts_5 rfl ?_ ?_
  · refine s_aload_n (pc := 10) dX4_laysCosts_10 rfl ?_
    refine s_callV3 (pc := 11) (a := 111) (as := []) (st := []) (rv := fun b => ((3, 0), (sz, sl, tt td, cv b))) (st3 := fun b => []) (w3 := fun b => (sz, sl, tt td, cv b)) mvX4_519 (fun b h => kX4_forgets  p_1.2 b h) rfl (by decide) (t_111 td) rfl rfl rfl (Nat.le_of_ble_eq_true rfl) (fun _ => Nat.le_of_ble_eq_true rfl) (fun _ => ⟨rfl, rfl⟩) dX4_laysCosts_11 (fun p_2 => ?_)
    refine s_aload_n (pc := 14) dX4_laysCosts_14 rfl ?_
    refine s_callV3 (pc := 15) (a := 111) (as := []) (st := []) (rv := fun b => ((0, b.1), (sz, sl, tt td, cv b.2))) (st3 := fun b => [(0, b.1)]) (w3 := fun b => (sz, sl, tt td, cv b.2)) mvX4_522 (fun b h => kX4_means  p_2 b h) rfl (by decide) (t_111 td) rfl rfl rfl (Nat.le_of_ble_eq_true rfl) (fun _ => Nat.le_of_ble_eq_true rfl) (fun _ => ⟨rfl, rfl⟩) dX4_laysCosts_15 (fun p_3 => ?_)
    refine s_istore_nD (pc := 18) (ls' := [some (2, 111), some (0, a1), some (0, p_3.1), none, none]) dX4_laysCosts_18 rfl (Nat.le_of_ble_eq_true rfl) ?_
    refine s_iconst (pc := 19) dX4_laysCosts_19 ?_
    refine s_istore_nD (pc := 20) (ls' := [some (2, 111), some (0, a1), some (0, p_3.1), some (0, 0), none]) dX4_laysCosts_20 rfl (Nat.le_of_ble_eq_true rfl) ?_
    refine s_wk [true, false, true, true, true] (ls' := [some (2, 111), none, some (0, p_3.1), some (0, 0), none]) rfl ?_
    refine s_loop (g := gX4_laysCosts_l21 G Γ r sz sl td p_3.1) (Ex := eX4_laysCosts_l21 G Γ r sz sl td p_3.1) (s0 := (0, p_3.2)) (fun s => sX4_laysCosts_l21 p_3.1 s.1 s.2) ?_
    intro e_8
    show Sm _ _ (WP G Γ muX4_laysCosts r 58 [none, none, some (0, p_3.1), none, none] [] (sz, sl, tt td, cv e_8))
    refine s_iload_n (pc := 58) dX4_laysCosts_58 rfl ?_
    exact s_iret (pc := 59) dX4_laysCosts_59 rfl (fun h => h)
  refine s_iconst (pc := 8) dX4_laysCosts_8 ?_
  exact s_iret (pc := 9) dX4_laysCosts_9 rfl (fun h => h)
theorem kX4_laysCosts {G : GG} {sz sl : Nat} {td : TT} (a1 : Int) (c : CC) (x : (Int × CC)) (h : fX4_laysCosts a1 c = some x) : Ct G yX4_laysCosts muX4_laysCosts [(2, 111), (0, a1)] (sz, sl, tt td, cv c) ((0, x.1), (sz, sl, tt td, cv x.2)) :=
  Ct.of (n := 3) (ls0 := [some (2, 111), some (0, a1), none, none, none]) (by decide) rfl rfl ⟨by decide, by decide⟩ (Nat.le_of_ble_eq_true rfl) rfl ⟨Nat.le_refl _, Nat.le_refl _⟩ (show (0 : Nat) ≠ 9 by decide) (fun Γ => sX4_laysCosts a1 c x h rfl)
theorem mvX4_604 : MV RX4 604 RX4 yX4_laysCosts muX4_laysCosts 1 := ⟨lw_V q1869 q1871 qs111 q129 q1872, by decide +kernel, by decide⟩
abbrev muX4_wordy : MI := (cX4_wordy, RX4, 5, some .int, 8, "wordy")
noncomputable def fX4_wordy_j36 (w0 : Int) (c : CC) : Option (Int × CC) :=
  if w0 < 10000 then
  (some (w0, c))
  else
  (some (-1, c))
theorem sX4_wordy_j36 {G : GG} {Γ : Cx} {r : Vv × Wd} {sz sl : Nat} {td : TT} (w0 : Int) (c : CC) : Sm (fX4_wordy_j36 w0 c) (fun x => r = ((0, x.1), (sz, sl, tt td, cv x.2))) (WP G Γ muX4_wordy r 36 [some (2, 111), none, none, none, none] [(0, w0)] (sz, sl, tt td, cv c)) := by
  unfold fX4_wordy_j36
  refine s_istoreD (pc := 36) (ls' := [some (2, 111), none, none, none, some (0, w0)]) dX4_wordy_36 rfl (Nat.le_of_ble_eq_true rfl) ?_
  refine s_iload (pc := 38) dX4_wordy_38 rfl ?_
  refine s_sipush (pc := 40) dX4_wordy_40 ?_
  refine s_icmp_lt (pc := 43) (tgt := 50) dX4_wordy_43 rfl ?_ ?_
  · refine s_iload (pc := 50) dX4_wordy_50 rfl ?_
    exact s_iret (pc := 52) dX4_wordy_52 rfl (fun h => h)
  refine s_iconst (pc := 46) dX4_wordy_46 ?_
  refine s_goto (pc := 47) (tgt := 52) dX4_wordy_47 rfl ?_
  exact s_iret (pc := 52) dX4_wordy_52 rfl (fun h => h)
noncomputable def fX4_wordy (a1 : Int) (a2 : Int) (c : CC) : Option (Int × CC) :=
  cl (fX4_in a2 1 24) fun p_1 =>
   if p_1 = 0 then
  (some (-1, c))
  else
  (cl (fX4_laysCosts a1 c) fun p_2 =>
   if p_2.1 = -1 then
  (fX4_wordy_j36 10000 p_2.2)
  else
  (cl (fX4_costOf p_2.1 0 a2 p_2.2) fun p_3 =>
   fX4_wordy_j36 p_3 p_2.2))
theorem sX4_wordy {G : GG} {Γ : Cx} {r : Vv × Wd} {sz sl : Nat} {td : TT} (a1 : Int) (a2 : Int) (c : CC) : Sm (fX4_wordy a1 a2 c) (fun x => r = ((0, x.1), (sz, sl, tt td, cv x.2))) (WP G Γ muX4_wordy r 0 [some (2, 111), some (0, a1), some (0, a2), none, none] [] (sz, sl, tt td, cv c)) := by
  unfold fX4_wordy
  refine s_iload_n (pc := 0) dX4_wordy_0 rfl ?_
  refine s_iconst (pc := 1) dX4_wordy_1 ?_
  refine s_bipush (pc := 2) dX4_wordy_2 ?_
  refine s_callS3 (pc := 4) (as := [(0, a2), (0, 1), (0, 24)]) (st := []) (rv := fun b => ((0, b), (sz, sl, tt td, cv c))) (st3 := fun b => [(0, b)]) (w3 := fun b => (sz, sl, tt td, cv c)) msX4_199 (fun b h => kX4_in a2 1 24 c b h) rfl (by decide) rfl (Nat.le_of_ble_eq_true rfl) (fun _ => Nat.le_of_ble_eq_true rfl) (fun _ => ⟨rfl, rfl⟩) dX4_wordy_4 (fun p_1 => ?_)
  refine s_if_ne (pc := 7) (tgt := 12) dX4_wordy_7 rfl ?_ ?_
  · refine s_aload_n (pc := 12) dX4_wordy_12 rfl ?_
    refine s_iload_n (pc := 13) dX4_wordy_13 rfl ?_
    refine s_callV3 (pc := 14) (a := 111) (as := [(0, a1)]) (st := []) (rv := fun b => ((0, b.1), (sz, sl, tt td, cv b.2))) (st3 := fun b => [(0, b.1)]) (w3 := fun b => (sz, sl, tt td, cv b.2)) mvX4_604 (fun b h => kX4_laysCosts a1 c b h) rfl (by decide) (t_111 td) rfl rfl rfl (Nat.le_of_ble_eq_true rfl) (fun _ => Nat.le_of_ble_eq_true rfl) (fun _ => ⟨rfl, rfl⟩) dX4_wordy_14 (fun p_2 => ?_)
    refine s_istore_nD (pc := 17) (ls' := [some (2, 111), some (0, a1), some (0, a2), some (0, p_2.1), none]) dX4_wordy_17 rfl (Nat.le_of_ble_eq_true rfl) ?_
    refine s_iload_n (pc := 18) dX4_wordy_18 rfl ?_
    refine s_iconst (pc := 19) dX4_wordy_19 ?_
    refine s_icmp_ne (pc := 20) (tgt := 29) dX4_wordy_20 rfl ?_ ?_
    · refine s_aload_n (pc := 29) dX4_wordy_29 rfl ?_
      refine s_iload_n (pc := 30) dX4_wordy_30 rfl ?_
      refine s_iconst (pc := 31) dX4_wordy_31 ?_
      refine s_iload_n (pc := 32) dX4_wordy_32 rfl ?_
      refine s_callV3 (pc := 33) (a := 111) (as := [(0, p_2.1), (0, 0), (0, a2)]) (st := []) (rv := fun b => ((0, b), (sz, sl, tt td, cv p_2.2))) (st3 := fun b => [(0, b)]) (w3 := fun b => (sz, sl, tt td, cv p_2.2)) mvX4_563 (fun b h => kX4_costOf p_2.1 0 a2 p_2.2 b h) rfl (by decide) (t_111 td) rfl rfl rfl (Nat.le_of_ble_eq_true rfl) (fun _ => Nat.le_of_ble_eq_true rfl) (fun _ => ⟨rfl, rfl⟩) dX4_wordy_33 (fun p_3 => ?_)
      refine s_wk [true, false, false, false, true] (ls' := [some (2, 111), none, none, none, none]) rfl ?_
      exact sX4_wordy_j36 p_3 p_2.2
    refine s_sipush (pc := 23) dX4_wordy_23 ?_
    refine s_goto (pc := 26) (tgt := 36) dX4_wordy_26 rfl ?_
    refine s_wk [true, false, false, false, true] (ls' := [some (2, 111), none, none, none, none]) rfl ?_
    exact sX4_wordy_j36 10000 p_2.2
  refine s_iconst (pc := 10) dX4_wordy_10 ?_
  exact s_iret (pc := 11) dX4_wordy_11 rfl (fun h => h)
theorem kX4_wordy {G : GG} {sz sl : Nat} {td : TT} (a1 : Int) (a2 : Int) (c : CC) (x : (Int × CC)) (h : fX4_wordy a1 a2 c = some x) : Ct G yX4_wordy muX4_wordy [(2, 111), (0, a1), (0, a2)] (sz, sl, tt td, cv c) ((0, x.1), (sz, sl, tt td, cv x.2)) :=
  Ct.of (n := 2) (ls0 := [some (2, 111), some (0, a1), some (0, a2), none, none]) (by decide) rfl rfl ⟨by decide, by decide⟩ (Nat.le_of_ble_eq_true rfl) rfl ⟨Nat.le_refl _, Nat.le_refl _⟩ (show (0 : Nat) ≠ 9 by decide) (fun Γ => sX4_wordy a1 a2 c x h rfl)
abbrev muX4_saying : MI := (cX4_saying, RX4, 6, some .int, 8, "saying")
noncomputable def fX4_saying_j39 (v2 : Int) (v3 : Int) (v4 : Int) (w0 : Int) (c : CC) : Option (Int × CC) :=
  if w0 < 10000 then
  (gd (inR (w0 - 1)) <|
   cl (fX4_in v3 0 (w0 - 1)) fun p_4 =>
   if p_4 = 0 then
  (some (-1, c))
  else
  (cl (fX4_at26 v4 0 v2) fun p_5 =>
   bd (up2 c 165 0 p_5) fun c_6 =>
   cl (fX4_writes 1 c_6) fun p_7 =>
   gd (inR (w0 - 1)) <|
   gd (inR ((w0 - 1) - v3)) <|
   gd ((0 : Int) ≤ (w0 - 1) - v3 ∧ (w0 - 1) - v3 < 100) <|
   cl (fX4_at24 (p_7 166 (Int.toNat ((w0 - 1) - v3))) p_7) fun p_8 =>
   gd ((0 : Int) ≤ p_8 ∧ p_8 < 144) <|
   some (p_7 118 (Int.toNat p_8), p_7)))
  else
  (some (-1, c))
theorem sX4_saying_j39 {G : GG} {Γ : Cx} {r : Vv × Wd} {sz sl : Nat} {td : TT} (v2 : Int) (v3 : Int) (v4 : Int) (w0 : Int) (c : CC) : Sm (fX4_saying_j39 v2 v3 v4 w0 c) (fun x => r = ((0, x.1), (sz, sl, tt td, cv x.2))) (WP G Γ muX4_saying r 39 [some (2, 111), none, some (0, v2), some (0, v3), some (0, v4), none] [(0, w0)] (sz, sl, tt td, cv c)) := by
  unfold fX4_saying_j39
  refine s_istoreD (pc := 39) (ls' := [some (2, 111), none, some (0, v2), some (0, v3), some (0, v4), some (0, w0)]) dX4_saying_39 rfl (Nat.le_of_ble_eq_true rfl) ?_
  refine s_iload (pc := 41) dX4_saying_41 rfl ?_
  refine s_sipush (pc := 43) dX4_saying_43 ?_
  refine s_icmp_ge (pc := 46) (tgt := 61) dX4_saying_46 rfl ?_ ?_
  · refine s_iconst (pc := 61) dX4_saying_61 ?_
    exact s_iret (pc := 62) dX4_saying_62 rfl (fun h => h)
  refine s_iload_n (pc := 49) dX4_saying_49 rfl ?_
  refine s_iconst (pc := 50) dX4_saying_50 ?_
  refine s_iload (pc := 51) dX4_saying_51 rfl ?_
  refine s_iconst (pc := 53) dX4_saying_53 ?_
  refine s_isub (pc := 54) dX4_saying_54 ?_
  refine s_callS3 (pc := 55) (as := [(0, v3), (0, 0), (0, w0 - 1)]) (st := []) (rv := fun b => ((0, b), (sz, sl, tt td, cv c))) (st3 := fun b => [(0, b)]) (w3 := fun b => (sz, sl, tt td, cv c)) msX4_199 (fun b h => kX4_in v3 0 (w0 - 1) c b h) rfl (by decide) rfl (Nat.le_of_ble_eq_true rfl) (fun _ => Nat.le_of_ble_eq_true rfl) (fun _ => ⟨rfl, rfl⟩) dX4_saying_55 (fun p_4 => ?_)
  refine s_if_ne (pc := 58) (tgt := 63) dX4_saying_58 rfl ?_ ?_
  · refine s_aload_n (pc := 63) dX4_saying_63 rfl ?_
    refine s_get (pc := 64) (a := 111) (v := 165) flX4_179 (t_111 _) rfl (g_111_79 _) rfl dX4_saying_64 ?_
    refine s_iconst (pc := 67) dX4_saying_67 ?_
    refine s_iload (pc := 68) dX4_saying_68 rfl ?_
    refine s_iconst (pc := 70) dX4_saying_70 ?_
    refine s_iload_n (pc := 71) dX4_saying_71 rfl ?_
    refine s_callS3 (pc := 72) (as := [(0, v4), (0, 0), (0, v2)]) (st := [(0, 0), (2, 165)]) (rv := fun b => ((0, b), (sz, sl, tt td, cv c))) (st3 := fun b => [(0, b), (0, 0), (2, 165)]) (w3 := fun b => (sz, sl, tt td, cv c)) msX4_556 (fun b h => kX4_at26 v4 0 v2 c b h) rfl (by decide) rfl (Nat.le_of_ble_eq_true rfl) (fun _ => Nat.le_of_ble_eq_true rfl) (fun _ => ⟨rfl, rfl⟩) dX4_saying_72 (fun p_5 => ?_)
    refine s_iastML (pc := 75) (a := 165) 0 rfl (Nat.le_of_ble_eq_true rfl) (t_165 _) rfl kO_165 r_165 dX4_saying_75 (fun c_6 => ?_)
    refine s_aload_n (pc := 76) dX4_saying_76 rfl ?_
    refine s_iconst (pc := 77) dX4_saying_77 ?_
    refine s_callV3 (pc := 78) (a := 111) (as := [(0, 1)]) (st := []) (rv := fun b => ((3, 0), (sz, sl, tt td, cv b))) (st3 := fun b => []) (w3 := fun b => (sz, sl, tt td, cv b)) mvX4_582 (fun b h => kX4_writes 1 c_6 b h) rfl (by decide) (t_111 td) rfl rfl rfl (Nat.le_of_ble_eq_true rfl) (fun _ => Nat.le_of_ble_eq_true rfl) (fun _ => ⟨rfl, rfl⟩) dX4_saying_78 (fun p_7 => ?_)
    refine s_aload_n (pc := 81) dX4_saying_81 rfl ?_
    refine s_get (pc := 82) (a := 111) (v := 118) flX4_36 (t_111 _) rfl (g_111_9 _) rfl dX4_saying_82 ?_
    refine s_aload_n (pc := 85) dX4_saying_85 rfl ?_
    refine s_aload_n (pc := 86) dX4_saying_86 rfl ?_
    refine s_get (pc := 87) (a := 111) (v := 166) flX4_182 (t_111 _) rfl (g_111_80 _) rfl dX4_saying_87 ?_
    refine s_iload (pc := 90) dX4_saying_90 rfl ?_
    refine s_iconst (pc := 92) dX4_saying_92 ?_
    refine s_isub (pc := 93) dX4_saying_93 ?_
    refine s_iload_n (pc := 94) dX4_saying_94 rfl ?_
    refine s_isub (pc := 95) dX4_saying_95 ?_
    refine s_ialdM (pc := 96) (a := 166) (t_166 _) rfl r_166 dX4_saying_96 ?_
    refine s_callV3 (pc := 97) (a := 111) (as := [(0, p_7 166 (Int.toNat ((w0 - 1) - v3)))]) (st := [(2, 118)]) (rv := fun b => ((0, b), (sz, sl, tt td, cv p_7))) (st3 := fun b => [(0, b), (2, 118)]) (w3 := fun b => (sz, sl, tt td, cv p_7)) mvX4_412 (fun b h => kX4_at24 (p_7 166 (Int.toNat ((w0 - 1) - v3))) p_7 b h) rfl (by decide) (t_111 td) rfl rfl rfl (Nat.le_of_ble_eq_true rfl) (fun _ => Nat.le_of_ble_eq_true rfl) (fun _ => ⟨rfl, rfl⟩) dX4_saying_97 (fun p_8 => ?_)
    refine s_ialdM (pc := 100) (a := 118) (t_118 _) rfl r_118 dX4_saying_100 ?_
    exact s_iret (pc := 101) dX4_saying_101 rfl (fun h => h)
  refine s_iconst (pc := 61) dX4_saying_61 ?_
  exact s_iret (pc := 62) dX4_saying_62 rfl (fun h => h)
noncomputable def fX4_saying (a1 : Int) (a2 : Int) (a3 : Int) (c : CC) : Option (Int × CC) :=
  cl (fX4_in a2 1 24) fun p_1 =>
   if p_1 = 0 then
  (some (-1, c))
  else
  (cl (fX4_laysCosts a1 c) fun p_2 =>
   if p_2.1 = -1 then
  (fX4_saying_j39 a2 a3 p_2.1 10000 p_2.2)
  else
  (cl (fX4_costOf p_2.1 0 a2 p_2.2) fun p_3 =>
   fX4_saying_j39 a2 a3 p_2.1 p_3 p_2.2))
theorem sX4_saying {G : GG} {Γ : Cx} {r : Vv × Wd} {sz sl : Nat} {td : TT} (a1 : Int) (a2 : Int) (a3 : Int) (c : CC) : Sm (fX4_saying a1 a2 a3 c) (fun x => r = ((0, x.1), (sz, sl, tt td, cv x.2))) (WP G Γ muX4_saying r 0 [some (2, 111), some (0, a1), some (0, a2), some (0, a3), none, none] [] (sz, sl, tt td, cv c)) := by
  unfold fX4_saying
  refine s_iload_n (pc := 0) dX4_saying_0 rfl ?_
  refine s_iconst (pc := 1) dX4_saying_1 ?_
  refine s_bipush (pc := 2) dX4_saying_2 ?_
  refine s_callS3 (pc := 4) (as := [(0, a2), (0, 1), (0, 24)]) (st := []) (rv := fun b => ((0, b), (sz, sl, tt td, cv c))) (st3 := fun b => [(0, b)]) (w3 := fun b => (sz, sl, tt td, cv c)) msX4_199 (fun b h => kX4_in a2 1 24 c b h) rfl (by decide) rfl (Nat.le_of_ble_eq_true rfl) (fun _ => Nat.le_of_ble_eq_true rfl) (fun _ => ⟨rfl, rfl⟩) dX4_saying_4 (fun p_1 => ?_)
  refine s_if_ne (pc := 7) (tgt := 12) dX4_saying_7 rfl ?_ ?_
  · refine s_aload_n (pc := 12) dX4_saying_12 rfl ?_
    refine s_iload_n (pc := 13) dX4_saying_13 rfl ?_
    refine s_callV3 (pc := 14) (a := 111) (as := [(0, a1)]) (st := []) (rv := fun b => ((0, b.1), (sz, sl, tt td, cv b.2))) (st3 := fun b => [(0, b.1)]) (w3 := fun b => (sz, sl, tt td, cv b.2)) mvX4_604 (fun b h => kX4_laysCosts a1 c b h) rfl (by decide) (t_111 td) rfl rfl rfl (Nat.le_of_ble_eq_true rfl) (fun _ => Nat.le_of_ble_eq_true rfl) (fun _ => ⟨rfl, rfl⟩) dX4_saying_14 (fun p_2 => ?_)
    refine s_istoreD (pc := 17) (ls' := [some (2, 111), some (0, a1), some (0, a2), some (0, a3), some (0, p_2.1), none]) dX4_saying_17 rfl (Nat.le_of_ble_eq_true rfl) ?_
    refine s_iload (pc := 19) dX4_saying_19 rfl ?_
    refine s_iconst (pc := 21) dX4_saying_21 ?_
    refine s_icmp_ne (pc := 22) (tgt := 31) dX4_saying_22 rfl ?_ ?_
    · refine s_aload_n (pc := 31) dX4_saying_31 rfl ?_
      refine s_iload (pc := 32) dX4_saying_32 rfl ?_
      refine s_iconst (pc := 34) dX4_saying_34 ?_
      refine s_iload_n (pc := 35) dX4_saying_35 rfl ?_
      refine s_callV3 (pc := 36) (a := 111) (as := [(0, p_2.1), (0, 0), (0, a2)]) (st := []) (rv := fun b => ((0, b), (sz, sl, tt td, cv p_2.2))) (st3 := fun b => [(0, b)]) (w3 := fun b => (sz, sl, tt td, cv p_2.2)) mvX4_563 (fun b h => kX4_costOf p_2.1 0 a2 p_2.2 b h) rfl (by decide) (t_111 td) rfl rfl rfl (Nat.le_of_ble_eq_true rfl) (fun _ => Nat.le_of_ble_eq_true rfl) (fun _ => ⟨rfl, rfl⟩) dX4_saying_36 (fun p_3 => ?_)
      refine s_wk [true, false, true, true, true, true] (ls' := [some (2, 111), none, some (0, a2), some (0, a3), some (0, p_2.1), none]) rfl ?_
      exact sX4_saying_j39 a2 a3 p_2.1 p_3 p_2.2
    refine s_sipush (pc := 25) dX4_saying_25 ?_
    refine s_goto (pc := 28) (tgt := 39) dX4_saying_28 rfl ?_
    refine s_wk [true, false, true, true, true, true] (ls' := [some (2, 111), none, some (0, a2), some (0, a3), some (0, p_2.1), none]) rfl ?_
    exact sX4_saying_j39 a2 a3 p_2.1 10000 p_2.2
  refine s_iconst (pc := 10) dX4_saying_10 ?_
  exact s_iret (pc := 11) dX4_saying_11 rfl (fun h => h)
theorem kX4_saying {G : GG} {sz sl : Nat} {td : TT} (a1 : Int) (a2 : Int) (a3 : Int) (c : CC) (x : (Int × CC)) (h : fX4_saying a1 a2 a3 c = some x) : Ct G yX4_saying muX4_saying [(2, 111), (0, a1), (0, a2), (0, a3)] (sz, sl, tt td, cv c) ((0, x.1), (sz, sl, tt td, cv x.2)) :=
  Ct.of (n := 2) (ls0 := [some (2, 111), some (0, a1), some (0, a2), some (0, a3), none, none]) (by decide) rfl rfl ⟨by decide, by decide⟩ (Nat.le_of_ble_eq_true rfl) rfl ⟨Nat.le_refl _, Nat.le_refl _⟩ (show (0 : Nat) ≠ 9 by decide) (fun Γ => sX4_saying a1 a2 a3 c x h rfl)
abbrev muX4_light : MI := (cX4_light, RX4, 4, some .int, 8, "light")
abbrev gX4_light_l15 (G : GG) (Γ : Cx) (r : Vv × Wd) (sz sl : Nat) (td : TT) (v2 : Int) (c : CC) : (Int) → Prop := fun s => WP G Γ muX4_light r 15 [some (2, 111), none, some (0, v2), some (0, s)] [] (sz, sl, tt td, cv c)
abbrev eX4_light_l15 (G : GG) (Γ : Cx) (r : Vv × Wd) (sz sl : Nat) (td : TT) (v2 : Int) (c : CC) : ((Int) ⊕ (Unit)) → Prop := (Sum.elim (fun s => WP G Γ muX4_light r 34 [none, none, none, some (0, s)] [] (sz, sl, tt td, cv c)) (fun s => WP G Γ muX4_light r 42 [none, none, none, none] [] (sz, sl, tt td, cv c)))
noncomputable def fX4_light_l15 (v2 : Int) (v3 : Int) (c : CC) : Option ((Int) ⊕ ((Int) ⊕ (Unit))) :=
  if (24 : Int) < v3 then
  (some (.inr (.inr ())))
  else
  (cl (fX4_costOf v2 0 v3 c) fun p_2 =>
   if p_2 < 10000 then
  (some (.inr (.inl v3)))
  else
  (gd (inR (v3 + 1)) <| bd (v3 + 1) fun v3_3 =>
   some (.inl v3_3)))
theorem sX4_light_l15 {G : GG} {Γ : Cx} {r : Vv × Wd} {sz sl : Nat} {td : TT} (v2 : Int) (v3 : Int) (c : CC) : Sm (fX4_light_l15 v2 v3 c) (fun x => Sum.elim (gX4_light_l15 G Γ r sz sl td v2 c) (eX4_light_l15 G Γ r sz sl td v2 c) x) (gX4_light_l15 G Γ r sz sl td v2 c v3) := by
  show Sm _ _ (WP G Γ muX4_light r 15 [some (2, 111), none, some (0, v2), some (0, v3)] [] (sz, sl, tt td, cv c))
  unfold fX4_light_l15
  refine s_iload_n (pc := 15) dX4_light_15 rfl ?_
  refine s_bipush (pc := 16) dX4_light_16 ?_
  refine s_icmp_gt (pc := 18) (tgt := 42) dX4_light_18 rfl ?_ ?_
  · refine s_wk [false, true, false, false] (ls' := [none, none, none, none]) rfl ?_
    exact Sm.some (fun h => h)
  refine s_aload_n (pc := 21) dX4_light_21 rfl ?_
  refine s_iload_n (pc := 22) dX4_light_22 rfl ?_
  refine s_iconst (pc := 23) dX4_light_23 ?_
  refine s_iload_n (pc := 24) dX4_light_24 rfl ?_
  refine s_callV3 (pc := 25) (a := 111) (as := [(0, v2), (0, 0), (0, v3)]) (st := []) (rv := fun b => ((0, b), (sz, sl, tt td, cv c))) (st3 := fun b => [(0, b)]) (w3 := fun b => (sz, sl, tt td, cv c)) mvX4_563 (fun b h => kX4_costOf v2 0 v3 c b h) rfl (by decide) (t_111 td) rfl rfl rfl (Nat.le_of_ble_eq_true rfl) (fun _ => Nat.le_of_ble_eq_true rfl) (fun _ => ⟨rfl, rfl⟩) dX4_light_25 (fun p_2 => ?_)
  refine s_sipush (pc := 28) dX4_light_28 ?_
  refine s_icmp_ge (pc := 31) (tgt := 36) dX4_light_31 rfl ?_ ?_
  · refine s_iinc (pc := 36) (lf := fun x => [some (2, 111), none, some (0, v2), some (0, x)]) dX4_light_36 rfl (fun _ => rfl) (Nat.le_of_ble_eq_true rfl) (fun v3_3 => ?_)
    refine s_goto (pc := 39) (tgt := 15) dX4_light_39 rfl ?_
    exact Sm.some (fun h => h)
  refine s_wk [false, true, false, true] (ls' := [none, none, none, some (0, v3)]) rfl ?_
  exact Sm.some (fun h => h)
noncomputable def fX4_light (a1 : Int) (c : CC) : Option (Int × CC) :=
  cl (fX4_laysCosts a1 c) fun p_1 =>
   if p_1.1 = -1 then
  (some (-1, p_1.2))
  else
  (cl (wh (fun s => fX4_light_l15 p_1.1 s p_1.2) 1) (Sum.elim (fun e_4 =>
  some (e_4, p_1.2)) (fun e_5 =>
  some (-1, p_1.2))))
theorem sX4_light {G : GG} {Γ : Cx} {r : Vv × Wd} {sz sl : Nat} {td : TT} (a1 : Int) (c : CC) : Sm (fX4_light a1 c) (fun x => r = ((0, x.1), (sz, sl, tt td, cv x.2))) (WP G Γ muX4_light r 0 [some (2, 111), some (0, a1), none, none] [] (sz, sl, tt td, cv c)) := by
  unfold fX4_light
  refine s_aload_n (pc := 0) dX4_light_0 rfl ?_
  refine s_iload_n (pc := 1) dX4_light_1 rfl ?_
  refine s_callV3 (pc := 2) (a := 111) (as := [(0, a1)]) (st := []) (rv := fun b => ((0, b.1), (sz, sl, tt td, cv b.2))) (st3 := fun b => [(0, b.1)]) (w3 := fun b => (sz, sl, tt td, cv b.2)) mvX4_604 (fun b h => kX4_laysCosts a1 c b h) rfl (by decide) (t_111 td) rfl rfl rfl (Nat.le_of_ble_eq_true rfl) (fun _ => Nat.le_of_ble_eq_true rfl) (fun _ => ⟨rfl, rfl⟩) dX4_light_2 (fun p_1 => ?_)
  refine s_istore_nD (pc := 5) (ls' := [some (2, 111), some (0, a1), some (0, p_1.1), none]) dX4_light_5 rfl (Nat.le_of_ble_eq_true rfl) ?_
  refine s_iload_n (pc := 6) dX4_light_6 rfl ?_
  refine s_iconst (pc := 7) dX4_light_7 ?_
  refine s_icmp_ne (pc := 8) (tgt := 13) dX4_light_8 rfl ?_ ?_
  · refine s_iconst (pc := 13) dX4_light_13 ?_
    refine s_istore_nD (pc := 14) (ls' := [some (2, 111), some (0, a1), some (0, p_1.1), some (0, 1)]) dX4_light_14 rfl (Nat.le_of_ble_eq_true rfl) ?_
    refine s_wk [true, false, true, true] (ls' := [some (2, 111), none, some (0, p_1.1), some (0, 1)]) rfl ?_
    refine s_loop (g := gX4_light_l15 G Γ r sz sl td p_1.1 p_1.2) (Ex := eX4_light_l15 G Γ r sz sl td p_1.1 p_1.2) (s0 := 1) (fun s => sX4_light_l15 p_1.1 s p_1.2) ?_
    refine s_elim ?_ ?_
    · intro e_4
      show Sm _ _ (WP G Γ muX4_light r 34 [none, none, none, some (0, e_4)] [] (sz, sl, tt td, cv p_1.2))
      refine s_iload_n (pc := 34) dX4_light_34 rfl ?_
      exact s_iret (pc := 35) dX4_light_35 rfl (fun h => h)
    intro e_5
    show Sm _ _ (WP G Γ muX4_light r 42 [none, none, none, none] [] (sz, sl, tt td, cv p_1.2))
    refine s_iconst (pc := 42) dX4_light_42 ?_
    exact s_iret (pc := 43) dX4_light_43 rfl (fun h => h)
  refine s_iconst (pc := 11) dX4_light_11 ?_
  exact s_iret (pc := 12) dX4_light_12 rfl (fun h => h)
theorem kX4_light {G : GG} {sz sl : Nat} {td : TT} (a1 : Int) (c : CC) (x : (Int × CC)) (h : fX4_light a1 c = some x) : Ct G yX4_light muX4_light [(2, 111), (0, a1)] (sz, sl, tt td, cv c) ((0, x.1), (sz, sl, tt td, cv x.2)) :=
  Ct.of (n := 2) (ls0 := [some (2, 111), some (0, a1), none, none]) (by decide) rfl rfl ⟨by decide, by decide⟩ (Nat.le_of_ble_eq_true rfl) rfl ⟨Nat.le_refl _, Nat.le_refl _⟩ (show (0 : Nat) ≠ 9 by decide) (fun Γ => sX4_light a1 c x h rfl)
