/-! LAYER 2: methods of HeldTongueModel, by gen/decomp.py -/
set_option maxRecDepth 100000
theorem flX4_75 : FL RX4 75 3 35 := ⟨_, _, _, cf3, by decide, q1279⟩
abbrev muX4_wasWeighed : MI := (cX4_wasWeighed, RX4, 3, some .boolean, 1, "wasWeighed")
abbrev gX4_wasWeighed_l4 (G : GG) (Γ : Cx) (r : Vv × Wd) (sz sl : Nat) (td : TT)  (c : CC) : (Int × Int) → Prop := fun s => WP G Γ muX4_wasWeighed r 4 [some (2, 111), some (0, s.1), some (0, s.2)] [] (sz, sl, tt td, cv c)
abbrev eX4_wasWeighed_l4 (G : GG) (Γ : Cx) (r : Vv × Wd) (sz sl : Nat) (td : TT)  (c : CC) : (Int) → Prop := (fun s => WP G Γ muX4_wasWeighed r 38 [none, some (0, s), none] [] (sz, sl, tt td, cv c))
noncomputable def fX4_wasWeighed_l4 (v1 : Int) (v2 : Int) (c : CC) : Option ((Int × Int) ⊕ (Int)) :=
  if v2 < c 111 33 then
  (if v1 = 0 then
  (gd ((0 : Int) ≤ v2 ∧ v2 < 24) <|
   if c 131 (Int.toNat v2) = 1 then
  (gd (inR (v2 + 1)) <| bd (v2 + 1) fun v2_3 =>
   some (.inl (1, v2_3)))
  else
  (gd (inR (v2 + 1)) <| bd (v2 + 1) fun v2_2 =>
   some (.inl (0, v2_2))))
  else
  (gd (inR (v2 + 1)) <| bd (v2 + 1) fun v2_1 =>
   some (.inl (1, v2_1))))
  else
  (some (.inr v1))
theorem sX4_wasWeighed_l4 {G : GG} {Γ : Cx} {r : Vv × Wd} {sz sl : Nat} {td : TT} (v1 : Int) (v2 : Int) (c : CC) : Sm (fX4_wasWeighed_l4 v1 v2 c) (fun x => Sum.elim (gX4_wasWeighed_l4 G Γ r sz sl td c) (eX4_wasWeighed_l4 G Γ r sz sl td c) x) (gX4_wasWeighed_l4 G Γ r sz sl td c (v1, v2)) := by
  show Sm _ _ (WP G Γ muX4_wasWeighed r 4 [some (2, 111), some (0, v1), some (0, v2)] [] (sz, sl, tt td, cv c))
  unfold fX4_wasWeighed_l4
  refine s_iload_n (pc := 4) dX4_wasWeighed_4 rfl ?_
  refine s_aload_n (pc := 5) dX4_wasWeighed_5 rfl ?_
  refine s_get (pc := 6) (a := 111) (v := c 111 33) flX4_341 (t_111 _) rfl (g_111_33 _) rfl dX4_wasWeighed_6 ?_
  refine s_icmp_ge (pc := 9) (tgt := 38) dX4_wasWeighed_9 rfl ?_ ?_
  · refine s_wk [false, true, false] (ls' := [none, some (0, v1), none]) rfl ?_
    exact Sm.some (fun h => h)
  refine s_iload_n (pc := 12) dX4_wasWeighed_12 rfl ?_
  refine s_if_ne (pc := 13) (tgt := 26) dX4_wasWeighed_13 rfl ?_ ?_
  · refine s_iconst (pc := 26) dX4_wasWeighed_26 ?_
    refine s_goto (pc := 27) (tgt := 31) dX4_wasWeighed_27 rfl ?_
    refine s_istore_nD (pc := 31) (ls' := [some (2, 111), some (0, 1), some (0, v2)]) dX4_wasWeighed_31 rfl (Nat.le_of_ble_eq_true rfl) ?_
    refine s_iinc (pc := 32) (lf := fun x => [some (2, 111), some (0, 1), some (0, x)]) dX4_wasWeighed_32 rfl (fun _ => rfl) (Nat.le_of_ble_eq_true rfl) (fun v2_1 => ?_)
    refine s_goto (pc := 35) (tgt := 4) dX4_wasWeighed_35 rfl ?_
    exact Sm.some (fun h => h)
  refine s_aload_n (pc := 16) dX4_wasWeighed_16 rfl ?_
  refine s_get (pc := 17) (a := 111) (v := 131) flX4_75 (t_111 _) rfl (g_111_35 _) rfl dX4_wasWeighed_17 ?_
  refine s_iload_n (pc := 20) dX4_wasWeighed_20 rfl ?_
  refine s_ialdM (pc := 21) (a := 131) (t_131 _) rfl r_131 dX4_wasWeighed_21 ?_
  refine s_iconst (pc := 22) dX4_wasWeighed_22 ?_
  refine s_icmp_ne (pc := 23) (tgt := 30) dX4_wasWeighed_23 rfl ?_ ?_
  · refine s_iconst (pc := 30) dX4_wasWeighed_30 ?_
    refine s_istore_nD (pc := 31) (ls' := [some (2, 111), some (0, 0), some (0, v2)]) dX4_wasWeighed_31 rfl (Nat.le_of_ble_eq_true rfl) ?_
    refine s_iinc (pc := 32) (lf := fun x => [some (2, 111), some (0, 0), some (0, x)]) dX4_wasWeighed_32 rfl (fun _ => rfl) (Nat.le_of_ble_eq_true rfl) (fun v2_2 => ?_)
    refine s_goto (pc := 35) (tgt := 4) dX4_wasWeighed_35 rfl ?_
    exact Sm.some (fun h => h)
  refine s_iconst (pc := 26) dX4_wasWeighed_26 ?_
  refine s_goto (pc := 27) (tgt := 31) dX4_wasWeighed_27 rfl ?_
  refine s_istore_nD (pc := 31) (ls' := [some (2, 111), some (0, 1), some (0, v2)]) dX4_wasWeighed_31 rfl (Nat.le_of_ble_eq_true rfl) ?_
  refine s_iinc (pc := 32) (lf := fun x => [some (2, 111), some (0, 1), some (0, x)]) dX4_wasWeighed_32 rfl (fun _ => rfl) (Nat.le_of_ble_eq_true rfl) (fun v2_3 => ?_)
  refine s_goto (pc := 35) (tgt := 4) dX4_wasWeighed_35 rfl ?_
  exact Sm.some (fun h => h)
noncomputable def fX4_wasWeighed  (c : CC) : Option Int :=
  cl (wh (fun s => fX4_wasWeighed_l4  s.1 s.2 c) (0, 0)) (fun e_4 =>
  gd ((0 : Int) ≤ e_4 ∧ e_4 < 2) (some e_4))
theorem sX4_wasWeighed {G : GG} {Γ : Cx} {r : Vv × Wd} {sz sl : Nat} {td : TT}  (c : CC) : Sm (fX4_wasWeighed  c) (fun x => r = ((0, x), (sz, sl, tt td, cv c))) (WP G Γ muX4_wasWeighed r 0 [some (2, 111), none, none] [] (sz, sl, tt td, cv c)) := by
  unfold fX4_wasWeighed
  refine s_iconst (pc := 0) dX4_wasWeighed_0 ?_
  refine s_istore_nD (pc := 1) (ls' := [some (2, 111), some (0, 0), none]) dX4_wasWeighed_1 rfl (Nat.le_of_ble_eq_true rfl) ?_
  refine s_iconst (pc := 2) dX4_wasWeighed_2 ?_
  refine s_istore_nD (pc := 3) (ls' := [some (2, 111), some (0, 0), some (0, 0)]) dX4_wasWeighed_3 rfl (Nat.le_of_ble_eq_true rfl) ?_
  refine s_loop (g := gX4_wasWeighed_l4 G Γ r sz sl td c) (Ex := eX4_wasWeighed_l4 G Γ r sz sl td c) (s0 := (0, 0)) (fun s => sX4_wasWeighed_l4  s.1 s.2 c) ?_
  intro e_4
  show Sm _ _ (WP G Γ muX4_wasWeighed r 38 [none, some (0, e_4), none] [] (sz, sl, tt td, cv c))
  refine s_iload_n (pc := 38) dX4_wasWeighed_38 rfl ?_
  exact s_zret (pc := 39) dX4_wasWeighed_39 rfl (fun h => h)
theorem kX4_wasWeighed {G : GG} {sz sl : Nat} {td : TT}  (c : CC) (x : Int) (h : fX4_wasWeighed  c = some x) : Ct G yX4_wasWeighed muX4_wasWeighed [(2, 111)] (sz, sl, tt td, cv c) ((0, x), (sz, sl, tt td, cv c)) :=
  Ct.of (n := 2) (ls0 := [some (2, 111), none, none]) (by decide) rfl rfl ⟨by decide, by decide⟩ (Nat.le_of_ble_eq_true rfl) rfl ⟨Nat.le_refl _, Nat.le_refl _⟩ (show (0 : Nat) ≠ 9 by decide) (fun Γ => sX4_wasWeighed  c x h rfl)
theorem fpX4_319 (nm : String) : FP RX4 319 3 34 nm := ⟨_, _, _, cf3, by decide, q1278, Or.inl rfl⟩
theorem fpX4_319t : fty 3 34 ≠ .boolean ∧ fty 3 34 ≠ .byte ∧ fty 3 34 ≠ .char ∧ fty 3 34 ≠ .short := by decide
theorem flX4_78 : FL RX4 78 3 36 := ⟨_, _, _, cf3, by decide, q1280⟩
theorem mvX4_355 : MV RX4 355 RX4 yX4_readsSense muX4_readsSense 0 := ⟨lw_V q1623 q1625 qs76 q129 q1626, by decide +kernel, by decide⟩
theorem mvX4_351 : MV RX4 351 RX4 yX4_wasWeighed muX4_wasWeighed 0 := ⟨lw_V q1619 q1621 qs75 q129 q1622, by decide +kernel, by decide⟩
abbrev muX4_clause : MI := (cX4_clause, RX4, 1, none, 6, "clause")
noncomputable def fX4_clause_j16  (c : CC) : Option CC :=
  cl (fX4_errs 1 c) fun p_1 =>
   some p_1
theorem sX4_clause_j16 {G : GG} {Γ : Cx} {r : Vv × Wd} {sz sl : Nat} {td : TT}  (c : CC) : Sm (fX4_clause_j16  c) (fun x => r = ((3, 0), (sz, sl, tt td, cv x))) (WP G Γ muX4_clause r 16 [some (2, 111)] [] (sz, sl, tt td, cv c)) := by
  unfold fX4_clause_j16
  refine s_aload_n (pc := 16) dX4_clause_16 rfl ?_
  refine s_iconst (pc := 17) dX4_clause_17 ?_
  refine s_callV3 (pc := 18) (a := 111) (as := [(0, 1)]) (st := []) (rv := fun b => ((3, 0), (sz, sl, tt td, cv b))) (st3 := fun b => []) (w3 := fun b => (sz, sl, tt td, cv b)) mvX4_284 (fun b h => kX4_errs 1 c b h) rfl (by decide) (t_111 td) rfl rfl rfl (Nat.le_of_ble_eq_true rfl) (fun _ => Nat.le_of_ble_eq_true rfl) (fun _ => ⟨rfl, rfl⟩) dX4_clause_18 (fun p_1 => ?_)
  exact s_vret (pc := 21) dX4_clause_21 rfl (fun h => h)
noncomputable def fX4_clause_j134 (w0 : Int) (c : CC) : Option CC :=
  cl (fX4_opensFrame w0 c) fun p_6 =>
   if p_6 111 34 = 2 then
  (bd (up2 p_6 111 32 0) fun c_8 =>
   some c_8)
  else
  (bd (up2 p_6 111 32 1) fun c_7 =>
   some c_7)
theorem sX4_clause_j134 {G : GG} {Γ : Cx} {r : Vv × Wd} {sz sl : Nat} {td : TT} (w0 : Int) (c : CC) : Sm (fX4_clause_j134 w0 c) (fun x => r = ((3, 0), (sz, sl, tt td, cv x))) (WP G Γ muX4_clause r 134 [some (2, 111)] [(0, w0), (2, 111)] (sz, sl, tt td, cv c)) := by
  unfold fX4_clause_j134
  refine s_callV3 (pc := 134) (a := 111) (as := [(0, w0)]) (st := []) (rv := fun b => ((3, 0), (sz, sl, tt td, cv b))) (st3 := fun b => []) (w3 := fun b => (sz, sl, tt td, cv b)) mvX4_287 (fun b h => kX4_opensFrame w0 c b h) rfl (by decide) (t_111 td) rfl rfl rfl (Nat.le_of_ble_eq_true rfl) (fun _ => Nat.le_of_ble_eq_true rfl) (fun _ => ⟨rfl, rfl⟩) dX4_clause_134 (fun p_6 => ?_)
  refine s_aload_n (pc := 137) dX4_clause_137 rfl ?_
  refine s_aload_n (pc := 138) dX4_clause_138 rfl ?_
  refine s_get (pc := 139) (a := 111) (v := p_6 111 34) flX4_319 (t_111 _) rfl (g_111_34 _) rfl dX4_clause_139 ?_
  refine s_iconst (pc := 142) dX4_clause_142 ?_
  refine s_icmp_ne (pc := 143) (tgt := 150) dX4_clause_143 rfl ?_ ?_
  · refine s_iconst (pc := 150) dX4_clause_150 ?_
    refine s_putM (pc := 151) (a := 111) (fpX4_313 _) (t_111 _) rfl kO_111 n_111_32 rfl (fpX4_313t) dX4_clause_151 (fun c_7 => ?_)
    exact s_vret (pc := 154) dX4_clause_154 rfl (fun h => h)
  refine s_iconst (pc := 146) dX4_clause_146 ?_
  refine s_goto (pc := 147) (tgt := 151) dX4_clause_147 rfl ?_
  refine s_putM (pc := 151) (a := 111) (fpX4_313 _) (t_111 _) rfl kO_111 n_111_32 rfl (fpX4_313t) dX4_clause_151 (fun c_8 => ?_)
  exact s_vret (pc := 154) dX4_clause_154 rfl (fun h => h)
noncomputable def fX4_clause_j68  (c : CC) : Option CC :=
  if (0 : Int) < c 111 23 then
  (some c)
  else
  (gd ((0 : Int) ≤ c 111 33 ∧ c 111 33 < 24) <| bd (up2 c 131 (Int.toNat (c 111 33)) (c 111 34)) fun c_3 =>
   gd ((0 : Int) ≤ c_3 111 33 ∧ c_3 111 33 < 24) <| bd (up2 c_3 132 (Int.toNat (c_3 111 33)) (c_3 111 38)) fun c_4 =>
   cl (fX4_next  c_4) fun p_5 =>
   if p_5 111 34 = 0 then
  (cl (fX4_readsSense  p_5) fun p_9 =>
   some p_9)
  else
  (if p_5 111 34 = 2 then
  (fX4_clause_j134 2 p_5)
  else
  (fX4_clause_j134 1 p_5)))
theorem sX4_clause_j68 {G : GG} {Γ : Cx} {r : Vv × Wd} {sz sl : Nat} {td : TT}  (c : CC) : Sm (fX4_clause_j68  c) (fun x => r = ((3, 0), (sz, sl, tt td, cv x))) (WP G Γ muX4_clause r 68 [some (2, 111)] [] (sz, sl, tt td, cv c)) := by
  unfold fX4_clause_j68
  refine s_aload_n (pc := 68) dX4_clause_68 rfl ?_
  refine s_get (pc := 69) (a := 111) (v := c 111 23) flX4_269 (t_111 _) rfl (g_111_23 _) rfl dX4_clause_69 ?_
  refine s_if_le (pc := 72) (tgt := 76) dX4_clause_72 rfl ?_ ?_
  · refine s_aload_n (pc := 76) dX4_clause_76 rfl ?_
    refine s_get (pc := 77) (a := 111) (v := 131) flX4_75 (t_111 _) rfl (g_111_35 _) rfl dX4_clause_77 ?_
    refine s_aload_n (pc := 80) dX4_clause_80 rfl ?_
    refine s_get (pc := 81) (a := 111) (v := c 111 33) flX4_341 (t_111 _) rfl (g_111_33 _) rfl dX4_clause_81 ?_
    refine s_aload_n (pc := 84) dX4_clause_84 rfl ?_
    refine s_get (pc := 85) (a := 111) (v := c 111 34) flX4_319 (t_111 _) rfl (g_111_34 _) rfl dX4_clause_85 ?_
    refine s_iastM (pc := 88) (a := 131) (t_131 _) rfl kO_131 r_131 dX4_clause_88 (fun c_3 => ?_)
    refine s_aload_n (pc := 89) dX4_clause_89 rfl ?_
    refine s_get (pc := 90) (a := 111) (v := 132) flX4_78 (t_111 _) rfl (g_111_36 _) rfl dX4_clause_90 ?_
    refine s_aload_n (pc := 93) dX4_clause_93 rfl ?_
    refine s_get (pc := 94) (a := 111) (v := c_3 111 33) flX4_341 (t_111 _) rfl (g_111_33 _) rfl dX4_clause_94 ?_
    refine s_aload_n (pc := 97) dX4_clause_97 rfl ?_
    refine s_get (pc := 98) (a := 111) (v := c_3 111 38) flX4_275 (t_111 _) rfl (g_111_38 _) rfl dX4_clause_98 ?_
    refine s_iastM (pc := 101) (a := 132) (t_132 _) rfl kO_132 r_132 dX4_clause_101 (fun c_4 => ?_)
    refine s_aload_n (pc := 102) dX4_clause_102 rfl ?_
    refine s_callV3 (pc := 103) (a := 111) (as := []) (st := []) (rv := fun b => ((3, 0), (sz, sl, tt td, cv b))) (st3 := fun b => []) (w3 := fun b => (sz, sl, tt td, cv b)) mvX4_290 (fun b h => kX4_next  c_4 b h) rfl (by decide) (t_111 td) rfl rfl rfl (Nat.le_of_ble_eq_true rfl) (fun _ => Nat.le_of_ble_eq_true rfl) (fun _ => ⟨rfl, rfl⟩) dX4_clause_103 (fun p_5 => ?_)
    refine s_aload_n (pc := 106) dX4_clause_106 rfl ?_
    refine s_get (pc := 107) (a := 111) (v := p_5 111 34) flX4_319 (t_111 _) rfl (g_111_34 _) rfl dX4_clause_107 ?_
    refine s_if_ne (pc := 110) (tgt := 120) dX4_clause_110 rfl ?_ ?_
    · refine s_aload_n (pc := 120) dX4_clause_120 rfl ?_
      refine s_aload_n (pc := 121) dX4_clause_121 rfl ?_
      refine s_get (pc := 122) (a := 111) (v := p_5 111 34) flX4_319 (t_111 _) rfl (g_111_34 _) rfl dX4_clause_122 ?_
      refine s_iconst (pc := 125) dX4_clause_125 ?_
      refine s_icmp_ne (pc := 126) (tgt := 133) dX4_clause_126 rfl ?_ ?_
      · refine s_iconst (pc := 133) dX4_clause_133 ?_
        exact sX4_clause_j134 1 p_5
      refine s_iconst (pc := 129) dX4_clause_129 ?_
      refine s_goto (pc := 130) (tgt := 134) dX4_clause_130 rfl ?_
      exact sX4_clause_j134 2 p_5
    refine s_aload_n (pc := 113) dX4_clause_113 rfl ?_
    refine s_callV3 (pc := 114) (a := 111) (as := []) (st := []) (rv := fun b => ((3, 0), (sz, sl, tt td, cv b))) (st3 := fun b => []) (w3 := fun b => (sz, sl, tt td, cv b)) mvX4_355 (fun b h => kX4_readsSense  p_5 b h) rfl (by decide) (t_111 td) rfl rfl rfl (Nat.le_of_ble_eq_true rfl) (fun _ => Nat.le_of_ble_eq_true rfl) (fun _ => ⟨rfl, rfl⟩) dX4_clause_114 (fun p_9 => ?_)
    refine s_goto (pc := 117) (tgt := 154) dX4_clause_117 rfl ?_
    exact s_vret (pc := 154) dX4_clause_154 rfl (fun h => h)
  exact s_vret (pc := 75) dX4_clause_75 rfl (fun h => h)
noncomputable def fX4_clause_j53  (c : CC) : Option CC :=
  if c 111 33 = 24 then
  (cl (fX4_errs 6 c) fun p_10 =>
   fX4_clause_j68  p_10)
  else
  (fX4_clause_j68  c)
theorem sX4_clause_j53 {G : GG} {Γ : Cx} {r : Vv × Wd} {sz sl : Nat} {td : TT}  (c : CC) : Sm (fX4_clause_j53  c) (fun x => r = ((3, 0), (sz, sl, tt td, cv x))) (WP G Γ muX4_clause r 53 [some (2, 111)] [] (sz, sl, tt td, cv c)) := by
  unfold fX4_clause_j53
  refine s_aload_n (pc := 53) dX4_clause_53 rfl ?_
  refine s_get (pc := 54) (a := 111) (v := c 111 33) flX4_341 (t_111 _) rfl (g_111_33 _) rfl dX4_clause_54 ?_
  refine s_bipush (pc := 57) dX4_clause_57 ?_
  refine s_icmp_ne (pc := 59) (tgt := 68) dX4_clause_59 rfl ?_ ?_
  · exact sX4_clause_j68  c
  refine s_aload_n (pc := 62) dX4_clause_62 rfl ?_
  refine s_bipush (pc := 63) dX4_clause_63 ?_
  refine s_callV3 (pc := 65) (a := 111) (as := [(0, 6)]) (st := []) (rv := fun b => ((3, 0), (sz, sl, tt td, cv b))) (st3 := fun b => []) (w3 := fun b => (sz, sl, tt td, cv b)) mvX4_284 (fun b h => kX4_errs 6 c b h) rfl (by decide) (t_111 td) rfl rfl rfl (Nat.le_of_ble_eq_true rfl) (fun _ => Nat.le_of_ble_eq_true rfl) (fun _ => ⟨rfl, rfl⟩) dX4_clause_65 (fun p_10 => ?_)
  exact sX4_clause_j68  p_10
noncomputable def fX4_clause  (c : CC) : Option CC :=
  if c 111 21 = 1 then
  (if (2 : Int) < c 111 22 then
  (fX4_clause_j16  c)
  else
  (bd (up2 c 111 34 (c 111 22)) fun c_2 =>
   if c_2 111 34 = 1 then
  (cl (fX4_wasWeighed  c_2) fun p_11 =>
   if p_11 = 0 then
  (fX4_clause_j53  c_2)
  else
  (cl (fX4_errs 4 c_2) fun p_12 =>
   fX4_clause_j68  p_12))
  else
  (fX4_clause_j53  c_2)))
  else
  (fX4_clause_j16  c)
theorem sX4_clause {G : GG} {Γ : Cx} {r : Vv × Wd} {sz sl : Nat} {td : TT}  (c : CC) : Sm (fX4_clause  c) (fun x => r = ((3, 0), (sz, sl, tt td, cv x))) (WP G Γ muX4_clause r 0 [some (2, 111)] [] (sz, sl, tt td, cv c)) := by
  unfold fX4_clause
  refine s_aload_n (pc := 0) dX4_clause_0 rfl ?_
  refine s_get (pc := 1) (a := 111) (v := c 111 21) flX4_252 (t_111 _) rfl (g_111_21 _) rfl dX4_clause_1 ?_
  refine s_iconst (pc := 4) dX4_clause_4 ?_
  refine s_icmp_ne (pc := 5) (tgt := 16) dX4_clause_5 rfl ?_ ?_
  · exact sX4_clause_j16  c
  refine s_aload_n (pc := 8) dX4_clause_8 rfl ?_
  refine s_get (pc := 9) (a := 111) (v := c 111 22) flX4_265 (t_111 _) rfl (g_111_22 _) rfl dX4_clause_9 ?_
  refine s_iconst (pc := 12) dX4_clause_12 ?_
  refine s_icmp_le (pc := 13) (tgt := 22) dX4_clause_13 rfl ?_ ?_
  · refine s_aload_n (pc := 22) dX4_clause_22 rfl ?_
    refine s_aload_n (pc := 23) dX4_clause_23 rfl ?_
    refine s_get (pc := 24) (a := 111) (v := c 111 22) flX4_265 (t_111 _) rfl (g_111_22 _) rfl dX4_clause_24 ?_
    refine s_putM (pc := 27) (a := 111) (fpX4_319 _) (t_111 _) rfl kO_111 n_111_34 rfl (fpX4_319t) dX4_clause_27 (fun c_2 => ?_)
    refine s_aload_n (pc := 30) dX4_clause_30 rfl ?_
    refine s_get (pc := 31) (a := 111) (v := c_2 111 34) flX4_319 (t_111 _) rfl (g_111_34 _) rfl dX4_clause_31 ?_
    refine s_iconst (pc := 34) dX4_clause_34 ?_
    refine s_icmp_ne (pc := 35) (tgt := 53) dX4_clause_35 rfl ?_ ?_
    · exact sX4_clause_j53  c_2
    refine s_aload_n (pc := 38) dX4_clause_38 rfl ?_
    refine s_callV3 (pc := 39) (a := 111) (as := []) (st := []) (rv := fun b => ((0, b), (sz, sl, tt td, cv c_2))) (st3 := fun b => [(0, b)]) (w3 := fun b => (sz, sl, tt td, cv c_2)) mvX4_351 (fun b h => kX4_wasWeighed  c_2 b h) rfl (by decide) (t_111 td) rfl rfl rfl (Nat.le_of_ble_eq_true rfl) (fun _ => Nat.le_of_ble_eq_true rfl) (fun _ => ⟨rfl, rfl⟩) dX4_clause_39 (fun p_11 => ?_)
    refine s_if_eq (pc := 42) (tgt := 53) dX4_clause_42 rfl ?_ ?_
    · exact sX4_clause_j53  c_2
    refine s_aload_n (pc := 45) dX4_clause_45 rfl ?_
    refine s_iconst (pc := 46) dX4_clause_46 ?_
    refine s_callV3 (pc := 47) (a := 111) (as := [(0, 4)]) (st := []) (rv := fun b => ((3, 0), (sz, sl, tt td, cv b))) (st3 := fun b => []) (w3 := fun b => (sz, sl, tt td, cv b)) mvX4_284 (fun b h => kX4_errs 4 c_2 b h) rfl (by decide) (t_111 td) rfl rfl rfl (Nat.le_of_ble_eq_true rfl) (fun _ => Nat.le_of_ble_eq_true rfl) (fun _ => ⟨rfl, rfl⟩) dX4_clause_47 (fun p_12 => ?_)
    refine s_goto (pc := 50) (tgt := 68) dX4_clause_50 rfl ?_
    exact sX4_clause_j68  p_12
  exact sX4_clause_j16  c
theorem kX4_clause {G : GG} {sz sl : Nat} {td : TT}  (c : CC) (x : CC) (h : fX4_clause  c = some x) : Ct G yX4_clause muX4_clause [(2, 111)] (sz, sl, tt td, cv c) ((3, 0), (sz, sl, tt td, cv x)) :=
  Ct.of (n := 0) (ls0 := [some (2, 111)]) (by decide) rfl rfl ⟨by decide, by decide⟩ (Nat.le_of_ble_eq_true rfl) rfl ⟨Nat.le_refl _, Nat.le_refl _⟩ (show (3 : Nat) ≠ 9 by decide) (fun Γ => sX4_clause  c x h rfl)
theorem flX4_27 : FL RX4 27 3 6 := ⟨_, _, _, cf3, by decide, q1250⟩
theorem flX4_30 : FL RX4 30 3 7 := ⟨_, _, _, cf3, by decide, q1251⟩
theorem flX4_33 : FL RX4 33 3 8 := ⟨_, _, _, cf3, by decide, q1252⟩
theorem flX4_36 : FL RX4 36 3 9 := ⟨_, _, _, cf3, by decide, q1253⟩
theorem flX4_39 : FL RX4 39 3 10 := ⟨_, _, _, cf3, by decide, q1254⟩
theorem flX4_42 : FL RX4 42 3 11 := ⟨_, _, _, cf3, by decide, q1255⟩
theorem flX4_45 : FL RX4 45 3 12 := ⟨_, _, _, cf3, by decide, q1256⟩
theorem flX4_48 : FL RX4 48 3 13 := ⟨_, _, _, cf3, by decide, q1257⟩
theorem flX4_51 : FL RX4 51 3 14 := ⟨_, _, _, cf3, by decide, q1258⟩
theorem flX4_54 : FL RX4 54 3 15 := ⟨_, _, _, cf3, by decide, q1259⟩
theorem flX4_57 : FL RX4 57 3 16 := ⟨_, _, _, cf3, by decide, q1260⟩
theorem flX4_60 : FL RX4 60 3 17 := ⟨_, _, _, cf3, by decide, q1261⟩
abbrev muX4_keepsText : MI := (cX4_keepsText, RX4, 5, none, 1, "keepsText")
noncomputable def fX4_keepsText_j122 (v1 : Int) (v2 : Int) (v3 : Int) (w0 : Int) (w1 : Int) (c : CC) : Option ((Int × CC) ⊕ (CC)) :=
  gd ((0 : Int) ≤ w1 ∧ w1 < 144) <| bd (up2 c 119 (Int.toNat w1) w0) fun c_6 =>
   gd (inR (7 * v2)) <|
   gd (inR ((7 * v2) + 2)) <|
   gd ((0 : Int) ≤ (7 * v2) + 2 ∧ (7 * v2) + 2 < 168) <|
   gd ((0 : Int) ≤ v3 ∧ v3 < 144) <| bd (up2 c_6 120 (Int.toNat v3) (c_6 133 (Int.toNat ((7 * v2) + 2)))) fun c_7 =>
   gd (inR (7 * v2)) <|
   gd (inR ((7 * v2) + 3)) <|
   gd ((0 : Int) ≤ (7 * v2) + 3 ∧ (7 * v2) + 3 < 168) <|
   gd ((0 : Int) ≤ v3 ∧ v3 < 144) <| bd (up2 c_7 121 (Int.toNat v3) (c_7 133 (Int.toNat ((7 * v2) + 3)))) fun c_8 =>
   gd (inR (7 * v2)) <|
   gd (inR ((7 * v2) + 4)) <|
   gd ((0 : Int) ≤ (7 * v2) + 4 ∧ (7 * v2) + 4 < 168) <|
   gd ((0 : Int) ≤ v3 ∧ v3 < 144) <| bd (up2 c_8 122 (Int.toNat v3) (c_8 133 (Int.toNat ((7 * v2) + 4)))) fun c_9 =>
   gd (inR (7 * v2)) <|
   gd (inR ((7 * v2) + 5)) <|
   gd ((0 : Int) ≤ (7 * v2) + 5 ∧ (7 * v2) + 5 < 168) <|
   gd ((0 : Int) ≤ v3 ∧ v3 < 144) <| bd (up2 c_9 123 (Int.toNat v3) (c_9 133 (Int.toNat ((7 * v2) + 5)))) fun c_10 =>
   gd (inR (7 * v2)) <|
   gd (inR ((7 * v2) + 6)) <|
   gd ((0 : Int) ≤ (7 * v2) + 6 ∧ (7 * v2) + 6 < 168) <|
   gd ((0 : Int) ≤ v3 ∧ v3 < 144) <| bd (up2 c_10 124 (Int.toNat v3) (c_10 133 (Int.toNat ((7 * v2) + 6)))) fun c_11 =>
   gd (inR (v2 + 1)) <| bd (v2 + 1) fun v2_12 =>
   some (.inl (v2_12, c_11))
abbrev gX4_keepsText_l12 (G : GG) (Γ : Cx) (r : Vv × Wd) (sz sl : Nat) (td : TT) (v1 : Int) : (Int × CC) → Prop := fun s => WP G Γ muX4_keepsText r 12 [some (2, 111), some (0, v1), some (0, s.1), none, none] [] (sz, sl, tt td, cv s.2)
abbrev eX4_keepsText_l12 (G : GG) (Γ : Cx) (r : Vv × Wd) (sz sl : Nat) (td : TT) (v1 : Int) : (CC) → Prop := (fun s => WP G Γ muX4_keepsText r 215 [some (2, 111), some (0, v1), none, none, none] [] (sz, sl, tt td, cv s))
theorem sX4_keepsText_j122 {G : GG} {Γ : Cx} {r : Vv × Wd} {sz sl : Nat} {td : TT} (v1 : Int) (v2 : Int) (v3 : Int) (w0 : Int) (w1 : Int) (c : CC) : Sm (fX4_keepsText_j122 v1 v2 v3 w0 w1 c) (fun x => Sum.elim (gX4_keepsText_l12 G Γ r sz sl td v1) (eX4_keepsText_l12 G Γ r sz sl td v1) x) (WP G Γ muX4_keepsText r 122 [some (2, 111), some (0, v1), some (0, v2), some (0, v3), none] [(0, w0), (0, w1), (2, 119)] (sz, sl, tt td, cv c)) := by
  unfold fX4_keepsText_j122
  refine s_iastM (pc := 122) (a := 119) (t_119 _) rfl kO_119 r_119 dX4_keepsText_122 (fun c_6 => ?_)
  refine s_aload_n (pc := 123) dX4_keepsText_123 rfl ?_
  refine s_get (pc := 124) (a := 111) (v := 120) flX4_42 (t_111 _) rfl (g_111_11 _) rfl dX4_keepsText_124 ?_
  refine s_iload_n (pc := 127) dX4_keepsText_127 rfl ?_
  refine s_aload_n (pc := 128) dX4_keepsText_128 rfl ?_
  refine s_get (pc := 129) (a := 111) (v := 133) flX4_81 (t_111 _) rfl (g_111_37 _) rfl dX4_keepsText_129 ?_
  refine s_bipush (pc := 132) dX4_keepsText_132 ?_
  refine s_iload_n (pc := 134) dX4_keepsText_134 rfl ?_
  refine s_imul (pc := 135) dX4_keepsText_135 ?_
  refine s_iconst (pc := 136) dX4_keepsText_136 ?_
  refine s_iadd (pc := 137) dX4_keepsText_137 ?_
  refine s_ialdM (pc := 138) (a := 133) (t_133 _) rfl r_133 dX4_keepsText_138 ?_
  refine s_iastM (pc := 139) (a := 120) (t_120 _) rfl kO_120 r_120 dX4_keepsText_139 (fun c_7 => ?_)
  refine s_aload_n (pc := 140) dX4_keepsText_140 rfl ?_
  refine s_get (pc := 141) (a := 111) (v := 121) flX4_45 (t_111 _) rfl (g_111_12 _) rfl dX4_keepsText_141 ?_
  refine s_iload_n (pc := 144) dX4_keepsText_144 rfl ?_
  refine s_aload_n (pc := 145) dX4_keepsText_145 rfl ?_
  refine s_get (pc := 146) (a := 111) (v := 133) flX4_81 (t_111 _) rfl (g_111_37 _) rfl dX4_keepsText_146 ?_
  refine s_bipush (pc := 149) dX4_keepsText_149 ?_
  refine s_iload_n (pc := 151) dX4_keepsText_151 rfl ?_
  refine s_imul (pc := 152) dX4_keepsText_152 ?_
  refine s_iconst (pc := 153) dX4_keepsText_153 ?_
  refine s_iadd (pc := 154) dX4_keepsText_154 ?_
  refine s_ialdM (pc := 155) (a := 133) (t_133 _) rfl r_133 dX4_keepsText_155 ?_
  refine s_iastM (pc := 156) (a := 121) (t_121 _) rfl kO_121 r_121 dX4_keepsText_156 (fun c_8 => ?_)
  refine s_aload_n (pc := 157) dX4_keepsText_157 rfl ?_
  refine s_get (pc := 158) (a := 111) (v := 122) flX4_48 (t_111 _) rfl (g_111_13 _) rfl dX4_keepsText_158 ?_
  refine s_iload_n (pc := 161) dX4_keepsText_161 rfl ?_
  refine s_aload_n (pc := 162) dX4_keepsText_162 rfl ?_
  refine s_get (pc := 163) (a := 111) (v := 133) flX4_81 (t_111 _) rfl (g_111_37 _) rfl dX4_keepsText_163 ?_
  refine s_bipush (pc := 166) dX4_keepsText_166 ?_
  refine s_iload_n (pc := 168) dX4_keepsText_168 rfl ?_
  refine s_imul (pc := 169) dX4_keepsText_169 ?_
  refine s_iconst (pc := 170) dX4_keepsText_170 ?_
  refine s_iadd (pc := 171) dX4_keepsText_171 ?_
  refine s_ialdM (pc := 172) (a := 133) (t_133 _) rfl r_133 dX4_keepsText_172 ?_
  refine s_iastM (pc := 173) (a := 122) (t_122 _) rfl kO_122 r_122 dX4_keepsText_173 (fun c_9 => ?_)
  refine s_aload_n (pc := 174) dX4_keepsText_174 rfl ?_
  refine s_get (pc := 175) (a := 111) (v := 123) flX4_51 (t_111 _) rfl (g_111_14 _) rfl dX4_keepsText_175 ?_
  refine s_iload_n (pc := 178) dX4_keepsText_178 rfl ?_
  refine s_aload_n (pc := 179) dX4_keepsText_179 rfl ?_
  refine s_get (pc := 180) (a := 111) (v := 133) flX4_81 (t_111 _) rfl (g_111_37 _) rfl dX4_keepsText_180 ?_
  refine s_bipush (pc := 183) dX4_keepsText_183 ?_
  refine s_iload_n (pc := 185) dX4_keepsText_185 rfl ?_
  refine s_imul (pc := 186) dX4_keepsText_186 ?_
  refine s_iconst (pc := 187) dX4_keepsText_187 ?_
  refine s_iadd (pc := 188) dX4_keepsText_188 ?_
  refine s_ialdM (pc := 189) (a := 133) (t_133 _) rfl r_133 dX4_keepsText_189 ?_
  refine s_iastM (pc := 190) (a := 123) (t_123 _) rfl kO_123 r_123 dX4_keepsText_190 (fun c_10 => ?_)
  refine s_aload_n (pc := 191) dX4_keepsText_191 rfl ?_
  refine s_get (pc := 192) (a := 111) (v := 124) flX4_54 (t_111 _) rfl (g_111_15 _) rfl dX4_keepsText_192 ?_
  refine s_iload_n (pc := 195) dX4_keepsText_195 rfl ?_
  refine s_aload_n (pc := 196) dX4_keepsText_196 rfl ?_
  refine s_get (pc := 197) (a := 111) (v := 133) flX4_81 (t_111 _) rfl (g_111_37 _) rfl dX4_keepsText_197 ?_
  refine s_bipush (pc := 200) dX4_keepsText_200 ?_
  refine s_iload_n (pc := 202) dX4_keepsText_202 rfl ?_
  refine s_imul (pc := 203) dX4_keepsText_203 ?_
  refine s_bipush (pc := 204) dX4_keepsText_204 ?_
  refine s_iadd (pc := 206) dX4_keepsText_206 ?_
  refine s_ialdM (pc := 207) (a := 133) (t_133 _) rfl r_133 dX4_keepsText_207 ?_
  refine s_iastM (pc := 208) (a := 124) (t_124 _) rfl kO_124 r_124 dX4_keepsText_208 (fun c_11 => ?_)
  refine s_iinc (pc := 209) (lf := fun x => [some (2, 111), some (0, v1), some (0, x), some (0, v3), none]) dX4_keepsText_209 rfl (fun _ => rfl) (Nat.le_of_ble_eq_true rfl) (fun v2_12 => ?_)
  refine s_goto (pc := 212) (tgt := 12) dX4_keepsText_212 rfl ?_
  refine s_wk [true, true, true, false, true] (ls' := [some (2, 111), some (0, v1), some (0, v2_12), none, none]) rfl ?_
  exact Sm.some (fun h => h)
noncomputable def fX4_keepsText_j96 (v1 : Int) (v2 : Int) (v3 : Int) (v4 : Int) (w0 : Int) (w1 : Int) (c : CC) : Option ((Int × CC) ⊕ (CC)) :=
  gd ((0 : Int) ≤ w1 ∧ w1 < 144) <| bd (up2 c 118 (Int.toNat w1) w0) fun c_5 =>
   if v4 = 0 then
  (fX4_keepsText_j122 v1 v2 v3 (-1) v3 c_5)
  else
  (gd (inR (7 * v2)) <|
   gd (inR ((7 * v2) + 1)) <|
   gd ((0 : Int) ≤ (7 * v2) + 1 ∧ (7 * v2) + 1 < 168) <|
   fX4_keepsText_j122 v1 v2 v3 (c_5 133 (Int.toNat ((7 * v2) + 1))) v3 c_5)
theorem sX4_keepsText_j96 {G : GG} {Γ : Cx} {r : Vv × Wd} {sz sl : Nat} {td : TT} (v1 : Int) (v2 : Int) (v3 : Int) (v4 : Int) (w0 : Int) (w1 : Int) (c : CC) : Sm (fX4_keepsText_j96 v1 v2 v3 v4 w0 w1 c) (fun x => Sum.elim (gX4_keepsText_l12 G Γ r sz sl td v1) (eX4_keepsText_l12 G Γ r sz sl td v1) x) (WP G Γ muX4_keepsText r 96 [some (2, 111), some (0, v1), some (0, v2), some (0, v3), some (0, v4)] [(0, w0), (0, w1), (2, 118)] (sz, sl, tt td, cv c)) := by
  unfold fX4_keepsText_j96
  refine s_iastM (pc := 96) (a := 118) (t_118 _) rfl kO_118 r_118 dX4_keepsText_96 (fun c_5 => ?_)
  refine s_aload_n (pc := 97) dX4_keepsText_97 rfl ?_
  refine s_get (pc := 98) (a := 111) (v := 119) flX4_39 (t_111 _) rfl (g_111_10 _) rfl dX4_keepsText_98 ?_
  refine s_iload_n (pc := 101) dX4_keepsText_101 rfl ?_
  refine s_iload (pc := 102) dX4_keepsText_102 rfl ?_
  refine s_if_eq (pc := 104) (tgt := 121) dX4_keepsText_104 rfl ?_ ?_
  · refine s_iconst (pc := 121) dX4_keepsText_121 ?_
    refine s_wk [true, true, true, true, false] (ls' := [some (2, 111), some (0, v1), some (0, v2), some (0, v3), none]) rfl ?_
    exact sX4_keepsText_j122 v1 v2 v3 (-1) v3 c_5
  refine s_aload_n (pc := 107) dX4_keepsText_107 rfl ?_
  refine s_get (pc := 108) (a := 111) (v := 133) flX4_81 (t_111 _) rfl (g_111_37 _) rfl dX4_keepsText_108 ?_
  refine s_bipush (pc := 111) dX4_keepsText_111 ?_
  refine s_iload_n (pc := 113) dX4_keepsText_113 rfl ?_
  refine s_imul (pc := 114) dX4_keepsText_114 ?_
  refine s_iconst (pc := 115) dX4_keepsText_115 ?_
  refine s_iadd (pc := 116) dX4_keepsText_116 ?_
  refine s_ialdM (pc := 117) (a := 133) (t_133 _) rfl r_133 dX4_keepsText_117 ?_
  refine s_goto (pc := 118) (tgt := 122) dX4_keepsText_118 rfl ?_
  refine s_wk [true, true, true, true, false] (ls' := [some (2, 111), some (0, v1), some (0, v2), some (0, v3), none]) rfl ?_
  exact sX4_keepsText_j122 v1 v2 v3 (c_5 133 (Int.toNat ((7 * v2) + 1))) v3 c_5
noncomputable def fX4_keepsText_j41 (v1 : Int) (v2 : Int) (v3 : Int) (w0 : Int) (c : CC) : Option ((Int × CC) ⊕ (CC)) :=
  gd ((0 : Int) ≤ v2 ∧ v2 < 24) <|
   gd ((0 : Int) ≤ v3 ∧ v3 < 144) <| bd (up2 c 116 (Int.toNat v3) (c 131 (Int.toNat v2))) fun c_3 =>
   gd (inR (400 * v1)) <|
   gd ((0 : Int) ≤ v2 ∧ v2 < 24) <|
   gd (inR ((400 * v1) + (c_3 132 (Int.toNat v2)))) <|
   gd ((0 : Int) ≤ v3 ∧ v3 < 144) <| bd (up2 c_3 117 (Int.toNat v3) ((400 * v1) + (c_3 132 (Int.toNat v2)))) fun c_4 =>
   if w0 = 0 then
  (fX4_keepsText_j96 v1 v2 v3 w0 (-1) v3 c_4)
  else
  (gd (inR (7 * v2)) <|
   gd ((0 : Int) ≤ 7 * v2 ∧ 7 * v2 < 168) <|
   fX4_keepsText_j96 v1 v2 v3 w0 (c_4 133 (Int.toNat (7 * v2))) v3 c_4)
theorem sX4_keepsText_j41 {G : GG} {Γ : Cx} {r : Vv × Wd} {sz sl : Nat} {td : TT} (v1 : Int) (v2 : Int) (v3 : Int) (w0 : Int) (c : CC) : Sm (fX4_keepsText_j41 v1 v2 v3 w0 c) (fun x => Sum.elim (gX4_keepsText_l12 G Γ r sz sl td v1) (eX4_keepsText_l12 G Γ r sz sl td v1) x) (WP G Γ muX4_keepsText r 41 [some (2, 111), some (0, v1), some (0, v2), some (0, v3), none] [(0, w0)] (sz, sl, tt td, cv c)) := by
  unfold fX4_keepsText_j41
  refine s_istoreD (pc := 41) (ls' := [some (2, 111), some (0, v1), some (0, v2), some (0, v3), some (0, w0)]) dX4_keepsText_41 rfl (Nat.le_of_ble_eq_true rfl) ?_
  refine s_aload_n (pc := 43) dX4_keepsText_43 rfl ?_
  refine s_get (pc := 44) (a := 111) (v := 116) flX4_30 (t_111 _) rfl (g_111_7 _) rfl dX4_keepsText_44 ?_
  refine s_iload_n (pc := 47) dX4_keepsText_47 rfl ?_
  refine s_aload_n (pc := 48) dX4_keepsText_48 rfl ?_
  refine s_get (pc := 49) (a := 111) (v := 131) flX4_75 (t_111 _) rfl (g_111_35 _) rfl dX4_keepsText_49 ?_
  refine s_iload_n (pc := 52) dX4_keepsText_52 rfl ?_
  refine s_ialdM (pc := 53) (a := 131) (t_131 _) rfl r_131 dX4_keepsText_53 ?_
  refine s_iastM (pc := 54) (a := 116) (t_116 _) rfl kO_116 r_116 dX4_keepsText_54 (fun c_3 => ?_)
  refine s_aload_n (pc := 55) dX4_keepsText_55 rfl ?_
  refine s_get (pc := 56) (a := 111) (v := 117) flX4_33 (t_111 _) rfl (g_111_8 _) rfl dX4_keepsText_56 ?_
  refine s_iload_n (pc := 59) dX4_keepsText_59 rfl ?_
  refine s_sipush (pc := 60) dX4_keepsText_60 ?_
  refine s_iload_n (pc := 63) dX4_keepsText_63 rfl ?_
  refine s_imul (pc := 64) dX4_keepsText_64 ?_
  refine s_aload_n (pc := 65) dX4_keepsText_65 rfl ?_
  refine s_get (pc := 66) (a := 111) (v := 132) flX4_78 (t_111 _) rfl (g_111_36 _) rfl dX4_keepsText_66 ?_
  refine s_iload_n (pc := 69) dX4_keepsText_69 rfl ?_
  refine s_ialdM (pc := 70) (a := 132) (t_132 _) rfl r_132 dX4_keepsText_70 ?_
  refine s_iadd (pc := 71) dX4_keepsText_71 ?_
  refine s_iastM (pc := 72) (a := 117) (t_117 _) rfl kO_117 r_117 dX4_keepsText_72 (fun c_4 => ?_)
  refine s_aload_n (pc := 73) dX4_keepsText_73 rfl ?_
  refine s_get (pc := 74) (a := 111) (v := 118) flX4_36 (t_111 _) rfl (g_111_9 _) rfl dX4_keepsText_74 ?_
  refine s_iload_n (pc := 77) dX4_keepsText_77 rfl ?_
  refine s_iload (pc := 78) dX4_keepsText_78 rfl ?_
  refine s_if_eq (pc := 80) (tgt := 95) dX4_keepsText_80 rfl ?_ ?_
  · refine s_iconst (pc := 95) dX4_keepsText_95 ?_
    exact sX4_keepsText_j96 v1 v2 v3 w0 (-1) v3 c_4
  refine s_aload_n (pc := 83) dX4_keepsText_83 rfl ?_
  refine s_get (pc := 84) (a := 111) (v := 133) flX4_81 (t_111 _) rfl (g_111_37 _) rfl dX4_keepsText_84 ?_
  refine s_bipush (pc := 87) dX4_keepsText_87 ?_
  refine s_iload_n (pc := 89) dX4_keepsText_89 rfl ?_
  refine s_imul (pc := 90) dX4_keepsText_90 ?_
  refine s_ialdM (pc := 91) (a := 133) (t_133 _) rfl r_133 dX4_keepsText_91 ?_
  refine s_goto (pc := 92) (tgt := 96) dX4_keepsText_92 rfl ?_
  exact sX4_keepsText_j96 v1 v2 v3 w0 (c_4 133 (Int.toNat (7 * v2))) v3 c_4
noncomputable def fX4_keepsText_l12 (v1 : Int) (v2 : Int) (c : CC) : Option ((Int × CC) ⊕ (CC)) :=
  if v2 < c 111 33 then
  (gd (inR (24 * v1)) <|
   gd (inR ((24 * v1) + v2)) <|
   bd ((24 * v1) + v2) fun v3_2 =>
   gd ((0 : Int) ≤ v2 ∧ v2 < 24) <|
   if c 131 (Int.toNat v2) = 0 then
  (fX4_keepsText_j41 v1 v2 v3_2 1 c)
  else
  (fX4_keepsText_j41 v1 v2 v3_2 0 c))
  else
  (some (.inr c))
theorem sX4_keepsText_l12 {G : GG} {Γ : Cx} {r : Vv × Wd} {sz sl : Nat} {td : TT} (v1 : Int) (v2 : Int) (c : CC) : Sm (fX4_keepsText_l12 v1 v2 c) (fun x => Sum.elim (gX4_keepsText_l12 G Γ r sz sl td v1) (eX4_keepsText_l12 G Γ r sz sl td v1) x) (gX4_keepsText_l12 G Γ r sz sl td v1 (v2, c)) := by
  show Sm _ _ (WP G Γ muX4_keepsText r 12 [some (2, 111), some (0, v1), some (0, v2), none, none] [] (sz, sl, tt td, cv c))
  unfold fX4_keepsText_l12
  refine s_iload_n (pc := 12) dX4_keepsText_12 rfl ?_
  refine s_aload_n (pc := 13) dX4_keepsText_13 rfl ?_
  refine s_get (pc := 14) (a := 111) (v := c 111 33) flX4_341 (t_111 _) rfl (g_111_33 _) rfl dX4_keepsText_14 ?_
  refine s_icmp_ge (pc := 17) (tgt := 215) dX4_keepsText_17 rfl ?_ ?_
  · refine s_wk [true, true, false, true, true] (ls' := [some (2, 111), some (0, v1), none, none, none]) rfl ?_
    exact Sm.some (fun h => h)
  refine s_bipush (pc := 20) dX4_keepsText_20 ?_
  refine s_iload_n (pc := 22) dX4_keepsText_22 rfl ?_
  refine s_imul (pc := 23) dX4_keepsText_23 ?_
  refine s_iload_n (pc := 24) dX4_keepsText_24 rfl ?_
  refine s_iadd (pc := 25) dX4_keepsText_25 ?_
  refine s_istore_n (pc := 26) (lf := fun x => [some (2, 111), some (0, v1), some (0, v2), some (0, x), none]) dX4_keepsText_26 (fun _ => rfl) (Nat.le_of_ble_eq_true rfl) (fun v3_2 => ?_)
  refine s_aload_n (pc := 27) dX4_keepsText_27 rfl ?_
  refine s_get (pc := 28) (a := 111) (v := 131) flX4_75 (t_111 _) rfl (g_111_35 _) rfl dX4_keepsText_28 ?_
  refine s_iload_n (pc := 31) dX4_keepsText_31 rfl ?_
  refine s_ialdM (pc := 32) (a := 131) (t_131 _) rfl r_131 dX4_keepsText_32 ?_
  refine s_if_ne (pc := 33) (tgt := 40) dX4_keepsText_33 rfl ?_ ?_
  · refine s_iconst (pc := 40) dX4_keepsText_40 ?_
    exact sX4_keepsText_j41 v1 v2 v3_2 0 c
  refine s_iconst (pc := 36) dX4_keepsText_36 ?_
  refine s_goto (pc := 37) (tgt := 41) dX4_keepsText_37 rfl ?_
  exact sX4_keepsText_j41 v1 v2 v3_2 1 c
abbrev gX4_keepsText_l217 (G : GG) (Γ : Cx) (r : Vv × Wd) (sz sl : Nat) (td : TT) (v1 : Int) : (Int × CC) → Prop := fun s => WP G Γ muX4_keepsText r 217 [some (2, 111), some (0, v1), some (0, s.1), none, none] [] (sz, sl, tt td, cv s.2)
abbrev eX4_keepsText_l217 (G : GG) (Γ : Cx) (r : Vv × Wd) (sz sl : Nat) (td : TT) (v1 : Int) : (CC) → Prop := (fun s => WP G Γ muX4_keepsText r 267 [none, none, none, none, none] [] (sz, sl, tt td, cv s))
noncomputable def fX4_keepsText_l217 (v1 : Int) (v2 : Int) (c : CC) : Option ((Int × CC) ⊕ (CC)) :=
  if v2 < c 111 38 then
  (gd (inR (400 * v1)) <|
   gd (inR ((400 * v1) + v2)) <|
   gd ((0 : Int) ≤ v2 ∧ v2 < 400) <|
   gd ((0 : Int) ≤ (400 * v1) + v2 ∧ (400 * v1) + v2 < 2400) <| bd (up2 c 125 (Int.toNat ((400 * v1) + v2)) (c 134 (Int.toNat v2))) fun c_14 =>
   gd (inR (400 * v1)) <|
   gd (inR ((400 * v1) + v2)) <|
   gd ((0 : Int) ≤ v2 ∧ v2 < 400) <|
   gd ((0 : Int) ≤ (400 * v1) + v2 ∧ (400 * v1) + v2 < 2400) <| bd (up2 c_14 126 (Int.toNat ((400 * v1) + v2)) (c_14 135 (Int.toNat v2))) fun c_15 =>
   gd (inR (v2 + 1)) <| bd (v2 + 1) fun v2_16 =>
   some (.inl (v2_16, c_15)))
  else
  (some (.inr c))
theorem sX4_keepsText_l217 {G : GG} {Γ : Cx} {r : Vv × Wd} {sz sl : Nat} {td : TT} (v1 : Int) (v2 : Int) (c : CC) : Sm (fX4_keepsText_l217 v1 v2 c) (fun x => Sum.elim (gX4_keepsText_l217 G Γ r sz sl td v1) (eX4_keepsText_l217 G Γ r sz sl td v1) x) (gX4_keepsText_l217 G Γ r sz sl td v1 (v2, c)) := by
  show Sm _ _ (WP G Γ muX4_keepsText r 217 [some (2, 111), some (0, v1), some (0, v2), none, none] [] (sz, sl, tt td, cv c))
  unfold fX4_keepsText_l217
  refine s_iload_n (pc := 217) dX4_keepsText_217 rfl ?_
  refine s_aload_n (pc := 218) dX4_keepsText_218 rfl ?_
  refine s_get (pc := 219) (a := 111) (v := c 111 38) flX4_275 (t_111 _) rfl (g_111_38 _) rfl dX4_keepsText_219 ?_
  refine s_icmp_ge (pc := 222) (tgt := 267) dX4_keepsText_222 rfl ?_ ?_
  · refine s_wk [false, false, false, true, true] (ls' := [none, none, none, none, none]) rfl ?_
    exact Sm.some (fun h => h)
  refine s_aload_n (pc := 225) dX4_keepsText_225 rfl ?_
  refine s_get (pc := 226) (a := 111) (v := 125) flX4_57 (t_111 _) rfl (g_111_16 _) rfl dX4_keepsText_226 ?_
  refine s_sipush (pc := 229) dX4_keepsText_229 ?_
  refine s_iload_n (pc := 232) dX4_keepsText_232 rfl ?_
  refine s_imul (pc := 233) dX4_keepsText_233 ?_
  refine s_iload_n (pc := 234) dX4_keepsText_234 rfl ?_
  refine s_iadd (pc := 235) dX4_keepsText_235 ?_
  refine s_aload_n (pc := 236) dX4_keepsText_236 rfl ?_
  refine s_get (pc := 237) (a := 111) (v := 134) flX4_84 (t_111 _) rfl (g_111_39 _) rfl dX4_keepsText_237 ?_
  refine s_iload_n (pc := 240) dX4_keepsText_240 rfl ?_
  refine s_ialdM (pc := 241) (a := 134) (t_134 _) rfl r_134 dX4_keepsText_241 ?_
  refine s_iastM (pc := 242) (a := 125) (t_125 _) rfl kO_125 r_125 dX4_keepsText_242 (fun c_14 => ?_)
  refine s_aload_n (pc := 243) dX4_keepsText_243 rfl ?_
  refine s_get (pc := 244) (a := 111) (v := 126) flX4_60 (t_111 _) rfl (g_111_17 _) rfl dX4_keepsText_244 ?_
  refine s_sipush (pc := 247) dX4_keepsText_247 ?_
  refine s_iload_n (pc := 250) dX4_keepsText_250 rfl ?_
  refine s_imul (pc := 251) dX4_keepsText_251 ?_
  refine s_iload_n (pc := 252) dX4_keepsText_252 rfl ?_
  refine s_iadd (pc := 253) dX4_keepsText_253 ?_
  refine s_aload_n (pc := 254) dX4_keepsText_254 rfl ?_
  refine s_get (pc := 255) (a := 111) (v := 135) flX4_87 (t_111 _) rfl (g_111_40 _) rfl dX4_keepsText_255 ?_
  refine s_iload_n (pc := 258) dX4_keepsText_258 rfl ?_
  refine s_ialdM (pc := 259) (a := 135) (t_135 _) rfl r_135 dX4_keepsText_259 ?_
  refine s_iastM (pc := 260) (a := 126) (t_126 _) rfl kO_126 r_126 dX4_keepsText_260 (fun c_15 => ?_)
  refine s_iinc (pc := 261) (lf := fun x => [some (2, 111), some (0, v1), some (0, x), none, none]) dX4_keepsText_261 rfl (fun _ => rfl) (Nat.le_of_ble_eq_true rfl) (fun v2_16 => ?_)
  refine s_goto (pc := 264) (tgt := 217) dX4_keepsText_264 rfl ?_
  exact Sm.some (fun h => h)
noncomputable def fX4_keepsText (a1 : Int) (c : CC) : Option CC :=
  gd ((0 : Int) ≤ a1 ∧ a1 < 6) <| bd (up2 c 115 (Int.toNat a1) (c 111 33)) fun c_1 =>
   cl (wh (fun s => fX4_keepsText_l12 a1 s.1 s.2) (0, c_1)) (fun e_13 =>
  cl (wh (fun s => fX4_keepsText_l217 a1 s.1 s.2) (0, e_13)) (fun e_17 =>
  some e_17))
theorem sX4_keepsText {G : GG} {Γ : Cx} {r : Vv × Wd} {sz sl : Nat} {td : TT} (a1 : Int) (c : CC) : Sm (fX4_keepsText a1 c) (fun x => r = ((3, 0), (sz, sl, tt td, cv x))) (WP G Γ muX4_keepsText r 0 [some (2, 111), some (0, a1), none, none, none] [] (sz, sl, tt td, cv c)) := by
  unfold fX4_keepsText
  refine s_aload_n (pc := 0) dX4_keepsText_0 rfl ?_
  refine s_get (pc := 1) (a := 111) (v := 115) flX4_27 (t_111 _) rfl (g_111_6 _) rfl dX4_keepsText_1 ?_
  refine s_iload_n (pc := 4) dX4_keepsText_4 rfl ?_
  refine s_aload_n (pc := 5) dX4_keepsText_5 rfl ?_
  refine s_get (pc := 6) (a := 111) (v := c 111 33) flX4_341 (t_111 _) rfl (g_111_33 _) rfl dX4_keepsText_6 ?_
  refine s_iastM (pc := 9) (a := 115) (t_115 _) rfl kO_115 r_115 dX4_keepsText_9 (fun c_1 => ?_)
  refine s_iconst (pc := 10) dX4_keepsText_10 ?_
  refine s_istore_nD (pc := 11) (ls' := [some (2, 111), some (0, a1), some (0, 0), none, none]) dX4_keepsText_11 rfl (Nat.le_of_ble_eq_true rfl) ?_
  refine s_loop (g := gX4_keepsText_l12 G Γ r sz sl td a1) (Ex := eX4_keepsText_l12 G Γ r sz sl td a1) (s0 := (0, c_1)) (fun s => sX4_keepsText_l12 a1 s.1 s.2) ?_
  intro e_13
  show Sm _ _ (WP G Γ muX4_keepsText r 215 [some (2, 111), some (0, a1), none, none, none] [] (sz, sl, tt td, cv e_13))
  refine s_iconst (pc := 215) dX4_keepsText_215 ?_
  refine s_istore_nD (pc := 216) (ls' := [some (2, 111), some (0, a1), some (0, 0), none, none]) dX4_keepsText_216 rfl (Nat.le_of_ble_eq_true rfl) ?_
  refine s_loop (g := gX4_keepsText_l217 G Γ r sz sl td a1) (Ex := eX4_keepsText_l217 G Γ r sz sl td a1) (s0 := (0, e_13)) (fun s => sX4_keepsText_l217 a1 s.1 s.2) ?_
  intro e_17
  show Sm _ _ (WP G Γ muX4_keepsText r 267 [none, none, none, none, none] [] (sz, sl, tt td, cv e_17))
  exact s_vret (pc := 267) dX4_keepsText_267 rfl (fun h => h)
theorem kX4_keepsText {G : GG} {sz sl : Nat} {td : TT} (a1 : Int) (c : CC) (x : CC) (h : fX4_keepsText a1 c = some x) : Ct G yX4_keepsText muX4_keepsText [(2, 111), (0, a1)] (sz, sl, tt td, cv c) ((3, 0), (sz, sl, tt td, cv x)) :=
  Ct.of (n := 3) (ls0 := [some (2, 111), some (0, a1), none, none, none]) (by decide) rfl rfl ⟨by decide, by decide⟩ (Nat.le_of_ble_eq_true rfl) rfl ⟨Nat.le_refl _, Nat.le_refl _⟩ (show (3 : Nat) ≠ 9 by decide) (fun Γ => sX4_keepsText a1 c x h rfl)
theorem fpX4_246 (nm : String) : FP RX4 246 3 18 nm := ⟨_, _, _, cf3, by decide, q1262, Or.inl rfl⟩
theorem fpX4_246t : fty 3 18 ≠ .boolean ∧ fty 3 18 ≠ .byte ∧ fty 3 18 ≠ .char ∧ fty 3 18 ≠ .short := by decide
theorem flX4_313 : FL RX4 313 3 32 := ⟨_, _, _, cf3, by decide, q1276⟩
theorem mvX4_358 : MV RX4 358 RX4 yX4_asks muX4_asks 0 := ⟨lw_V q1545 q1547 qs58 q129 q1548, by decide +kernel, by decide⟩
theorem mvX4_361 : MV RX4 361 RX4 yX4_begins muX4_begins 0 := ⟨lw_V q1565 q1567 qs63 q129 q1568, by decide +kernel, by decide⟩
theorem mvX4_364 : MV RX4 364 RX4 yX4_goesOn muX4_goesOn 0 := ⟨lw_V q1585 q1587 qs68 q129 q1588, by decide +kernel, by decide⟩
theorem mvX4_367 : MV RX4 367 RX4 yX4_asksOn muX4_asksOn 0 := ⟨lw_V q1611 q1613 qs73 q129 q1614, by decide +kernel, by decide⟩
theorem mvX4_370 : MV RX4 370 RX4 yX4_clause muX4_clause 0 := ⟨lw_V q1615 q1617 qs74 q129 q1618, by decide +kernel, by decide⟩
theorem fpX4_20 (nm : String) : FP RX4 20 3 4 nm := ⟨_, _, _, cf3, by decide, q1248, Or.inl rfl⟩
theorem fpX4_20t : fty 3 4 ≠ .boolean ∧ fty 3 4 ≠ .byte ∧ fty 3 4 ≠ .char ∧ fty 3 4 ≠ .short := by decide
theorem flX4_272 : FL RX4 272 3 24 := ⟨_, _, _, cf3, by decide, q1268⟩
theorem fpX4_24 (nm : String) : FP RX4 24 3 5 nm := ⟨_, _, _, cf3, by decide, q1249, Or.inl rfl⟩
theorem fpX4_24t : fty 3 5 ≠ .boolean ∧ fty 3 5 ≠ .byte ∧ fty 3 5 ≠ .char ∧ fty 3 5 ≠ .short := by decide
theorem mvX4_373 : MV RX4 373 RX4 yX4_keepsText muX4_keepsText 1 := ⟨lw_V q1635 q1637 qs79 q129 q1638, by decide +kernel, by decide⟩
abbrev muX4_text : MI := (cX4_text, RX4, 1, some .int, 7, "text")
noncomputable def fX4_text_j97  (c : CC) : Option ((CC) ⊕ (CC)) :=
  if c 111 32 = 0 then
  (cl (fX4_asks  c) fun p_14 =>
   some (.inl p_14))
  else if c 111 32 = 1 then
  (cl (fX4_begins  c) fun p_16 =>
   some (.inl p_16))
  else if c 111 32 = 2 then
  (cl (fX4_goesOn  c) fun p_18 =>
   some (.inl p_18))
  else if c 111 32 = 3 then
  (cl (fX4_asksOn  c) fun p_20 =>
   some (.inl p_20))
  else (cl (fX4_clause  c) fun p_21 =>
   some (.inl p_21))
abbrev gX4_text_l75 (G : GG) (Γ : Cx) (r : Vv × Wd) (sz sl : Nat) (td : TT)  : (CC) → Prop := fun s => WP G Γ muX4_text r 75 [some (2, 111)] [] (sz, sl, tt td, cv s)
abbrev eX4_text_l75 (G : GG) (Γ : Cx) (r : Vv × Wd) (sz sl : Nat) (td : TT)  : (CC) → Prop := (fun s => WP G Γ muX4_text r 167 [some (2, 111)] [] (sz, sl, tt td, cv s))
theorem sX4_text_j97 {G : GG} {Γ : Cx} {r : Vv × Wd} {sz sl : Nat} {td : TT}  (c : CC) : Sm (fX4_text_j97  c) (fun x => Sum.elim (gX4_text_l75 G Γ r sz sl td ) (eX4_text_l75 G Γ r sz sl td ) x) (WP G Γ muX4_text r 97 [some (2, 111)] [] (sz, sl, tt td, cv c)) := by
  unfold fX4_text_j97
  refine s_aload_n (pc := 97) dX4_text_97 rfl ?_
  refine s_get (pc := 98) (a := 111) (v := c 111 32) flX4_313 (t_111 _) rfl (g_111_32 _) rfl dX4_text_98 ?_
  refine Sm.ite (fun hq_13 => ?_) (fun hq_13 => ?_)
  · refine s_tblIn (pc := 101) (tgt := 132) dX4_text_101 0 hq_13 (by decide) rfl rfl ?_
    refine s_aload_n (pc := 132) dX4_text_132 rfl ?_
    refine s_callV3 (pc := 133) (a := 111) (as := []) (st := []) (rv := fun b => ((3, 0), (sz, sl, tt td, cv b))) (st3 := fun b => []) (w3 := fun b => (sz, sl, tt td, cv b)) mvX4_358 (fun b h => kX4_asks  c b h) rfl (by decide) (t_111 td) rfl rfl rfl (Nat.le_of_ble_eq_true rfl) (fun _ => Nat.le_of_ble_eq_true rfl) (fun _ => ⟨rfl, rfl⟩) dX4_text_133 (fun p_14 => ?_)
    refine s_goto (pc := 136) (tgt := 75) dX4_text_136 rfl ?_
    exact Sm.some (fun h => h)
  refine Sm.ite (fun hq_15 => ?_) (fun hq_15 => ?_)
  · refine s_tblIn (pc := 101) (tgt := 139) dX4_text_101 1 hq_15 (by decide) rfl rfl ?_
    refine s_aload_n (pc := 139) dX4_text_139 rfl ?_
    refine s_callV3 (pc := 140) (a := 111) (as := []) (st := []) (rv := fun b => ((3, 0), (sz, sl, tt td, cv b))) (st3 := fun b => []) (w3 := fun b => (sz, sl, tt td, cv b)) mvX4_361 (fun b h => kX4_begins  c b h) rfl (by decide) (t_111 td) rfl rfl rfl (Nat.le_of_ble_eq_true rfl) (fun _ => Nat.le_of_ble_eq_true rfl) (fun _ => ⟨rfl, rfl⟩) dX4_text_140 (fun p_16 => ?_)
    refine s_goto (pc := 143) (tgt := 75) dX4_text_143 rfl ?_
    exact Sm.some (fun h => h)
  refine Sm.ite (fun hq_17 => ?_) (fun hq_17 => ?_)
  · refine s_tblIn (pc := 101) (tgt := 146) dX4_text_101 2 hq_17 (by decide) rfl rfl ?_
    refine s_aload_n (pc := 146) dX4_text_146 rfl ?_
    refine s_callV3 (pc := 147) (a := 111) (as := []) (st := []) (rv := fun b => ((3, 0), (sz, sl, tt td, cv b))) (st3 := fun b => []) (w3 := fun b => (sz, sl, tt td, cv b)) mvX4_364 (fun b h => kX4_goesOn  c b h) rfl (by decide) (t_111 td) rfl rfl rfl (Nat.le_of_ble_eq_true rfl) (fun _ => Nat.le_of_ble_eq_true rfl) (fun _ => ⟨rfl, rfl⟩) dX4_text_147 (fun p_18 => ?_)
    refine s_goto (pc := 150) (tgt := 75) dX4_text_150 rfl ?_
    exact Sm.some (fun h => h)
  refine Sm.ite (fun hq_19 => ?_) (fun hq_19 => ?_)
  · refine s_tblIn (pc := 101) (tgt := 153) dX4_text_101 3 hq_19 (by decide) rfl rfl ?_
    refine s_aload_n (pc := 153) dX4_text_153 rfl ?_
    refine s_callV3 (pc := 154) (a := 111) (as := []) (st := []) (rv := fun b => ((3, 0), (sz, sl, tt td, cv b))) (st3 := fun b => []) (w3 := fun b => (sz, sl, tt td, cv b)) mvX4_367 (fun b h => kX4_asksOn  c b h) rfl (by decide) (t_111 td) rfl rfl rfl (Nat.le_of_ble_eq_true rfl) (fun _ => Nat.le_of_ble_eq_true rfl) (fun _ => ⟨rfl, rfl⟩) dX4_text_154 (fun p_20 => ?_)
    refine s_goto (pc := 157) (tgt := 75) dX4_text_157 rfl ?_
    exact Sm.some (fun h => h)
  refine s_tblOut (pc := 101) (tgt := 160) dX4_text_101 (by omega) rfl ?_
  refine s_aload_n (pc := 160) dX4_text_160 rfl ?_
  refine s_callV3 (pc := 161) (a := 111) (as := []) (st := []) (rv := fun b => ((3, 0), (sz, sl, tt td, cv b))) (st3 := fun b => []) (w3 := fun b => (sz, sl, tt td, cv b)) mvX4_370 (fun b h => kX4_clause  c b h) rfl (by decide) (t_111 td) rfl rfl rfl (Nat.le_of_ble_eq_true rfl) (fun _ => Nat.le_of_ble_eq_true rfl) (fun _ => ⟨rfl, rfl⟩) dX4_text_161 (fun p_21 => ?_)
  refine s_goto (pc := 164) (tgt := 75) dX4_text_164 rfl ?_
  exact Sm.some (fun h => h)
noncomputable def fX4_text_l75  (c : CC) : Option ((CC) ⊕ (CC)) :=
  if c 111 23 = 0 then
  (if c 111 32 = 4 then
  (if c 111 21 = 0 then
  (some (.inr c))
  else
  (fX4_text_j97  c))
  else
  (fX4_text_j97  c))
  else
  (some (.inr c))
theorem sX4_text_l75 {G : GG} {Γ : Cx} {r : Vv × Wd} {sz sl : Nat} {td : TT}  (c : CC) : Sm (fX4_text_l75  c) (fun x => Sum.elim (gX4_text_l75 G Γ r sz sl td ) (eX4_text_l75 G Γ r sz sl td ) x) (gX4_text_l75 G Γ r sz sl td  c) := by
  show Sm _ _ (WP G Γ muX4_text r 75 [some (2, 111)] [] (sz, sl, tt td, cv c))
  unfold fX4_text_l75
  refine s_aload_n (pc := 75) dX4_text_75 rfl ?_
  refine s_get (pc := 76) (a := 111) (v := c 111 23) flX4_269 (t_111 _) rfl (g_111_23 _) rfl dX4_text_76 ?_
  refine s_if_ne (pc := 79) (tgt := 167) dX4_text_79 rfl ?_ ?_
  · exact Sm.some (fun h => h)
  refine s_aload_n (pc := 82) dX4_text_82 rfl ?_
  refine s_get (pc := 83) (a := 111) (v := c 111 32) flX4_313 (t_111 _) rfl (g_111_32 _) rfl dX4_text_83 ?_
  refine s_iconst (pc := 86) dX4_text_86 ?_
  refine s_icmp_ne (pc := 87) (tgt := 97) dX4_text_87 rfl ?_ ?_
  · exact sX4_text_j97  c
  refine s_aload_n (pc := 90) dX4_text_90 rfl ?_
  refine s_get (pc := 91) (a := 111) (v := c 111 21) flX4_252 (t_111 _) rfl (g_111_21 _) rfl dX4_text_91 ?_
  refine s_if_eq (pc := 94) (tgt := 167) dX4_text_94 rfl ?_ ?_
  · exact Sm.some (fun h => h)
  exact sX4_text_j97  c
noncomputable def fX4_text_j167  (c : CC) : Option (Int × CC) :=
  bd (up2 c 111 4 (c 111 23)) fun c_23 =>
   bd (up2 c_23 111 5 (c_23 111 24)) fun c_24 =>
   if (0 : Int) < c_24 111 23 then
  (some (-1, c_24))
  else
  (cl (fX4_keepsText (c_24 112 0) c_24) fun p_25 =>
   gd (inR ((p_25 112 0) + 1)) <|
   bd (up2 p_25 112 0 ((p_25 112 0) + 1)) fun c_26 =>
   gd (inR ((c_26 112 0) - 1)) <|
   some ((c_26 112 0) - 1, c_26))
theorem sX4_text_j167 {G : GG} {Γ : Cx} {r : Vv × Wd} {sz sl : Nat} {td : TT}  (c : CC) : Sm (fX4_text_j167  c) (fun x => r = ((0, x.1), (sz, sl, tt td, cv x.2))) (WP G Γ muX4_text r 167 [some (2, 111)] [] (sz, sl, tt td, cv c)) := by
  unfold fX4_text_j167
  refine s_aload_n (pc := 167) dX4_text_167 rfl ?_
  refine s_aload_n (pc := 168) dX4_text_168 rfl ?_
  refine s_get (pc := 169) (a := 111) (v := c 111 23) flX4_269 (t_111 _) rfl (g_111_23 _) rfl dX4_text_169 ?_
  refine s_putM (pc := 172) (a := 111) (fpX4_20 _) (t_111 _) rfl kO_111 n_111_4 rfl (fpX4_20t) dX4_text_172 (fun c_23 => ?_)
  refine s_aload_n (pc := 175) dX4_text_175 rfl ?_
  refine s_aload_n (pc := 176) dX4_text_176 rfl ?_
  refine s_get (pc := 177) (a := 111) (v := c_23 111 24) flX4_272 (t_111 _) rfl (g_111_24 _) rfl dX4_text_177 ?_
  refine s_putM (pc := 180) (a := 111) (fpX4_24 _) (t_111 _) rfl kO_111 n_111_5 rfl (fpX4_24t) dX4_text_180 (fun c_24 => ?_)
  refine s_aload_n (pc := 183) dX4_text_183 rfl ?_
  refine s_get (pc := 184) (a := 111) (v := c_24 111 23) flX4_269 (t_111 _) rfl (g_111_23 _) rfl dX4_text_184 ?_
  refine s_if_le (pc := 187) (tgt := 192) dX4_text_187 rfl ?_ ?_
  · refine s_aload_n (pc := 192) dX4_text_192 rfl ?_
    refine s_aload_n (pc := 193) dX4_text_193 rfl ?_
    refine s_get (pc := 194) (a := 111) (v := 112) flX4_7 (t_111 _) rfl (g_111_0 _) rfl dX4_text_194 ?_
    refine s_iconst (pc := 197) dX4_text_197 ?_
    refine s_ialdML (pc := 198) (a := 112) 0 rfl (Nat.le_of_ble_eq_true rfl) (t_112 _) rfl r_112 dX4_text_198 ?_
    refine s_callV3 (pc := 199) (a := 111) (as := [(0, c_24 112 0)]) (st := []) (rv := fun b => ((3, 0), (sz, sl, tt td, cv b))) (st3 := fun b => []) (w3 := fun b => (sz, sl, tt td, cv b)) mvX4_373 (fun b h => kX4_keepsText (c_24 112 0) c_24 b h) rfl (by decide) (t_111 td) rfl rfl rfl (Nat.le_of_ble_eq_true rfl) (fun _ => Nat.le_of_ble_eq_true rfl) (fun _ => ⟨rfl, rfl⟩) dX4_text_199 (fun p_25 => ?_)
    refine s_aload_n (pc := 202) dX4_text_202 rfl ?_
    refine s_get (pc := 203) (a := 111) (v := 112) flX4_7 (t_111 _) rfl (g_111_0 _) rfl dX4_text_203 ?_
    refine s_iconst (pc := 206) dX4_text_206 ?_
    refine s_dup2 (pc := 207) (by decide : ¬ (0 : Nat) = 1) (by decide : ¬ (2 : Nat) = 1) dX4_text_207 ?_
    refine s_ialdML (pc := 208) (a := 112) 0 rfl (Nat.le_of_ble_eq_true rfl) (t_112 _) rfl r_112 dX4_text_208 ?_
    refine s_iconst (pc := 209) dX4_text_209 ?_
    refine s_iadd (pc := 210) dX4_text_210 ?_
    refine s_iastML (pc := 211) (a := 112) 0 rfl (Nat.le_of_ble_eq_true rfl) (t_112 _) rfl kO_112 r_112 dX4_text_211 (fun c_26 => ?_)
    refine s_aload_n (pc := 212) dX4_text_212 rfl ?_
    refine s_get (pc := 213) (a := 111) (v := 112) flX4_7 (t_111 _) rfl (g_111_0 _) rfl dX4_text_213 ?_
    refine s_iconst (pc := 216) dX4_text_216 ?_
    refine s_ialdML (pc := 217) (a := 112) 0 rfl (Nat.le_of_ble_eq_true rfl) (t_112 _) rfl r_112 dX4_text_217 ?_
    refine s_iconst (pc := 218) dX4_text_218 ?_
    refine s_isub (pc := 219) dX4_text_219 ?_
    exact s_iret (pc := 220) dX4_text_220 rfl (fun h => h)
  refine s_iconst (pc := 190) dX4_text_190 ?_
  exact s_iret (pc := 191) dX4_text_191 rfl (fun h => h)
noncomputable def fX4_text  (c : CC) : Option (Int × CC) :=
  if c 112 0 = 6 then
  (some (-1, c))
  else
  (bd (up2 c 111 18 (c 111 3)) fun c_1 =>
   bd (up2 c_1 111 3 0) fun c_2 =>
   bd (up2 c_2 111 19 0) fun c_3 =>
   bd (up2 c_3 111 23 0) fun c_4 =>
   bd (up2 c_4 111 24 (-1)) fun c_5 =>
   bd (up2 c_5 111 25 0) fun c_6 =>
   bd (up2 c_6 111 26 0) fun c_7 =>
   bd (up2 c_7 111 29 0) fun c_8 =>
   bd (up2 c_8 111 32 4) fun c_9 =>
   bd (up2 c_9 111 33 0) fun c_10 =>
   bd (up2 c_10 111 38 0) fun c_11 =>
   cl (fX4_next  c_11) fun p_12 =>
   cl (wh (fun s => fX4_text_l75   s) p_12) (fun e_22 =>
  fX4_text_j167  e_22))
theorem sX4_text {G : GG} {Γ : Cx} {r : Vv × Wd} {sz sl : Nat} {td : TT}  (c : CC) : Sm (fX4_text  c) (fun x => r = ((0, x.1), (sz, sl, tt td, cv x.2))) (WP G Γ muX4_text r 0 [some (2, 111)] [] (sz, sl, tt td, cv c)) := by
  unfold fX4_text
  refine s_aload_n (pc := 0) dX4_text_0 rfl ?_
  refine s_get (pc := 1) (a := 111) (v := 112) flX4_7 (t_111 _) rfl (g_111_0 _) rfl dX4_text_1 ?_
  refine s_iconst (pc := 4) dX4_text_4 ?_
  refine s_ialdML (pc := 5) (a := 112) 0 rfl (Nat.le_of_ble_eq_true rfl) (t_112 _) rfl r_112 dX4_text_5 ?_
  refine s_bipush (pc := 6) dX4_text_6 ?_
  refine s_icmp_ne (pc := 8) (tgt := 13) dX4_text_8 rfl ?_ ?_
  · refine s_aload_n (pc := 13) dX4_text_13 rfl ?_
    refine s_aload_n (pc := 14) dX4_text_14 rfl ?_
    refine s_get (pc := 15) (a := 111) (v := c 111 3) flX4_192 (t_111 _) rfl (g_111_3 _) rfl dX4_text_15 ?_
    refine s_putM (pc := 18) (a := 111) (fpX4_246 _) (t_111 _) rfl kO_111 n_111_18 rfl (fpX4_246t) dX4_text_18 (fun c_1 => ?_)
    refine s_aload_n (pc := 21) dX4_text_21 rfl ?_
    refine s_iconst (pc := 22) dX4_text_22 ?_
    refine s_putM (pc := 23) (a := 111) (fpX4_192 _) (t_111 _) rfl kO_111 n_111_3 rfl (fpX4_192t) dX4_text_23 (fun c_2 => ?_)
    refine s_aload_n (pc := 26) dX4_text_26 rfl ?_
    refine s_iconst (pc := 27) dX4_text_27 ?_
    refine s_putM (pc := 28) (a := 111) (fpX4_243 _) (t_111 _) rfl kO_111 n_111_19 rfl (fpX4_243t) dX4_text_28 (fun c_3 => ?_)
    refine s_aload_n (pc := 31) dX4_text_31 rfl ?_
    refine s_iconst (pc := 32) dX4_text_32 ?_
    refine s_putM (pc := 33) (a := 111) (fpX4_269 _) (t_111 _) rfl kO_111 n_111_23 rfl (fpX4_269t) dX4_text_33 (fun c_4 => ?_)
    refine s_aload_n (pc := 36) dX4_text_36 rfl ?_
    refine s_iconst (pc := 37) dX4_text_37 ?_
    refine s_putM (pc := 38) (a := 111) (fpX4_272 _) (t_111 _) rfl kO_111 n_111_24 rfl (fpX4_272t) dX4_text_38 (fun c_5 => ?_)
    refine s_aload_n (pc := 41) dX4_text_41 rfl ?_
    refine s_iconst (pc := 42) dX4_text_42 ?_
    refine s_putM (pc := 43) (a := 111) (fpX4_281 _) (t_111 _) rfl kO_111 n_111_25 rfl (fpX4_281t) dX4_text_43 (fun c_6 => ?_)
    refine s_aload_n (pc := 46) dX4_text_46 rfl ?_
    refine s_iconst (pc := 47) dX4_text_47 ?_
    refine s_putM (pc := 48) (a := 111) (fpX4_278 _) (t_111 _) rfl kO_111 n_111_26 rfl (fpX4_278t) dX4_text_48 (fun c_7 => ?_)
    refine s_aload_n (pc := 51) dX4_text_51 rfl ?_
    refine s_iconst (pc := 52) dX4_text_52 ?_
    refine s_putM (pc := 53) (a := 111) (fpX4_293 _) (t_111 _) rfl kO_111 n_111_29 rfl (fpX4_293t) dX4_text_53 (fun c_8 => ?_)
    refine s_aload_n (pc := 56) dX4_text_56 rfl ?_
    refine s_iconst (pc := 57) dX4_text_57 ?_
    refine s_putM (pc := 58) (a := 111) (fpX4_313 _) (t_111 _) rfl kO_111 n_111_32 rfl (fpX4_313t) dX4_text_58 (fun c_9 => ?_)
    refine s_aload_n (pc := 61) dX4_text_61 rfl ?_
    refine s_iconst (pc := 62) dX4_text_62 ?_
    refine s_putM (pc := 63) (a := 111) (fpX4_341 _) (t_111 _) rfl kO_111 n_111_33 rfl (fpX4_341t) dX4_text_63 (fun c_10 => ?_)
    refine s_aload_n (pc := 66) dX4_text_66 rfl ?_
    refine s_iconst (pc := 67) dX4_text_67 ?_
    refine s_putM (pc := 68) (a := 111) (fpX4_275 _) (t_111 _) rfl kO_111 n_111_38 rfl (fpX4_275t) dX4_text_68 (fun c_11 => ?_)
    refine s_aload_n (pc := 71) dX4_text_71 rfl ?_
    refine s_callV3 (pc := 72) (a := 111) (as := []) (st := []) (rv := fun b => ((3, 0), (sz, sl, tt td, cv b))) (st3 := fun b => []) (w3 := fun b => (sz, sl, tt td, cv b)) mvX4_290 (fun b h => kX4_next  c_11 b h) rfl (by decide) (t_111 td) rfl rfl rfl (Nat.le_of_ble_eq_true rfl) (fun _ => Nat.le_of_ble_eq_true rfl) (fun _ => ⟨rfl, rfl⟩) dX4_text_72 (fun p_12 => ?_)
    refine s_loop (g := gX4_text_l75 G Γ r sz sl td ) (Ex := eX4_text_l75 G Γ r sz sl td ) (s0 := p_12) (fun s => sX4_text_l75   s) ?_
    intro e_22
    show Sm _ _ (WP G Γ muX4_text r 167 [some (2, 111)] [] (sz, sl, tt td, cv e_22))
    exact sX4_text_j167  e_22
  refine s_iconst (pc := 11) dX4_text_11 ?_
  exact s_iret (pc := 12) dX4_text_12 rfl (fun h => h)
theorem kX4_text {G : GG} {sz sl : Nat} {td : TT}  (c : CC) (x : (Int × CC)) (h : fX4_text  c = some x) : Ct G yX4_text muX4_text [(2, 111)] (sz, sl, tt td, cv c) ((0, x.1), (sz, sl, tt td, cv x.2)) :=
  Ct.of (n := 0) (ls0 := [some (2, 111)]) (by decide) rfl rfl ⟨by decide, by decide⟩ (Nat.le_of_ble_eq_true rfl) rfl ⟨Nat.le_refl _, Nat.le_refl _⟩ (show (0 : Nat) ≠ 9 by decide) (fun Γ => sX4_text  c x h rfl)
theorem flX4_24 : FL RX4 24 3 5 := ⟨_, _, _, cf3, by decide, q1249⟩
theorem flX4_20 : FL RX4 20 3 4 := ⟨_, _, _, cf3, by decide, q1248⟩
abbrev muX4_fault : MI := (cX4_fault, RX4, 2, some .int, 1, "fault")
noncomputable def fX4_fault (a1 : Int) (c : CC) : Option Int :=
  if a1 = 0 then
  (some (c 111 4))
  else
  (if a1 = 1 then
  (some (c 111 5))
  else
  (some (-1)))
theorem sX4_fault {G : GG} {Γ : Cx} {r : Vv × Wd} {sz sl : Nat} {td : TT} (a1 : Int) (c : CC) : Sm (fX4_fault a1 c) (fun x => r = ((0, x), (sz, sl, tt td, cv c))) (WP G Γ muX4_fault r 0 [some (2, 111), some (0, a1)] [] (sz, sl, tt td, cv c)) := by
  unfold fX4_fault
  refine s_iload_n (pc := 0) dX4_fault_0 rfl ?_
  refine s_if_ne (pc := 1) (tgt := 11) dX4_fault_1 rfl ?_ ?_
  · refine s_iload_n (pc := 11) dX4_fault_11 rfl ?_
    refine s_iconst (pc := 12) dX4_fault_12 ?_
    refine s_icmp_ne (pc := 13) (tgt := 23) dX4_fault_13 rfl ?_ ?_
    · refine s_iconst (pc := 23) dX4_fault_23 ?_
      exact s_iret (pc := 24) dX4_fault_24 rfl (fun h => h)
    refine s_aload_n (pc := 16) dX4_fault_16 rfl ?_
    refine s_get (pc := 17) (a := 111) (v := c 111 5) flX4_24 (t_111 _) rfl (g_111_5 _) rfl dX4_fault_17 ?_
    refine s_goto (pc := 20) (tgt := 24) dX4_fault_20 rfl ?_
    exact s_iret (pc := 24) dX4_fault_24 rfl (fun h => h)
  refine s_aload_n (pc := 4) dX4_fault_4 rfl ?_
  refine s_get (pc := 5) (a := 111) (v := c 111 4) flX4_20 (t_111 _) rfl (g_111_4 _) rfl dX4_fault_5 ?_
  refine s_goto (pc := 8) (tgt := 24) dX4_fault_8 rfl ?_
  exact s_iret (pc := 24) dX4_fault_24 rfl (fun h => h)
theorem kX4_fault {G : GG} {sz sl : Nat} {td : TT} (a1 : Int) (c : CC) (x : Int) (h : fX4_fault a1 c = some x) : Ct G yX4_fault muX4_fault [(2, 111), (0, a1)] (sz, sl, tt td, cv c) ((0, x), (sz, sl, tt td, cv c)) :=
  Ct.of (n := 0) (ls0 := [some (2, 111), some (0, a1)]) (by decide) rfl rfl ⟨by decide, by decide⟩ (Nat.le_of_ble_eq_true rfl) rfl ⟨Nat.le_refl _, Nat.le_refl _⟩ (show (0 : Nat) ≠ 9 by decide) (fun Γ => sX4_fault a1 c x h rfl)
theorem qlX4_378 : Cond.constantLong RX4 378 (i64 (-1000000)) ∈ lw_all := by
  have h := q1818
  have e : (-1000000 : Int64) = i64 (-1000000) := by decide
  rw [e] at h
  exact h
abbrev muX4_bound : MI := (cX4_bound, RX4, 2, some .long, 1, "bound")
noncomputable def fX4_bound (a0 : Int) : Option Int :=
  if (1000000 : Int) < a0 then
  (some 1000000)
  else
  (if a0 < -1000000 then
  (some (-1000000))
  else
  (some a0))
theorem sX4_bound {G : GG} {Γ : Cx} {r : Vv × Wd} {sz sl : Nat} {td : TT} (a0 : Int) (c : CC) : Sm (fX4_bound a0) (fun x => r = ((1, x), (sz, sl, tt td, cv c))) (WP G Γ muX4_bound r 0 [some (1, a0), none] [] (sz, sl, tt td, cv c)) := by
  unfold fX4_bound
  refine s_lload_n (pc := 0) dX4_bound_0 rfl ?_
  refine s_ldc2 (pc := 1) (z := 1000000) q1817 dX4_bound_1 ?_
  refine s_lcmp_le (pc := 4) (tgt := 14) dX4_bound_4 dX4_bound_5 rfl ?_ ?_
  · refine s_lload_n (pc := 14) dX4_bound_14 rfl ?_
    refine s_ldc2 (pc := 15) (z := -1000000) qlX4_378 dX4_bound_15 ?_
    refine s_lcmp_ge (pc := 18) (tgt := 28) dX4_bound_18 dX4_bound_19 rfl ?_ ?_
    · refine s_lload_n (pc := 28) dX4_bound_28 rfl ?_
      exact s_lret (pc := 29) dX4_bound_29 rfl (fun h => h)
    refine s_ldc2 (pc := 22) (z := -1000000) qlX4_378 dX4_bound_22 ?_
    refine s_goto (pc := 25) (tgt := 29) dX4_bound_25 rfl ?_
    exact s_lret (pc := 29) dX4_bound_29 rfl (fun h => h)
  refine s_ldc2 (pc := 8) (z := 1000000) q1817 dX4_bound_8 ?_
  refine s_goto (pc := 11) (tgt := 29) dX4_bound_11 rfl ?_
  exact s_lret (pc := 29) dX4_bound_29 rfl (fun h => h)
theorem kX4_bound {G : GG} {sz sl : Nat} {td : TT} (a0 : Int) (c : CC) (x : Int) (h : fX4_bound a0 = some x) : Ct G yX4_bound muX4_bound [(1, a0)] (sz, sl, tt td, cv c) ((1, x), (sz, sl, tt td, cv c)) :=
  Ct.of (n := 0) (ls0 := [some (1, a0), none]) (by decide) rfl rfl ⟨by decide, by decide⟩ (Nat.le_of_ble_eq_true rfl) rfl ⟨Nat.le_refl _, Nat.le_refl _⟩ (show (1 : Nat) ≠ 9 by decide) (fun Γ => sX4_bound a0 c x h rfl)
theorem msX4_380 : MS RX4 380 yX4_bound muX4_bound 1 := ⟨lw_S q1814 q1815 q129 q1816, by decide +kernel, by decide⟩
abbrev muX4_worked : MI := (cX4_worked, RX4, 5, some .long, 2, "worked")
noncomputable def fX4_worked (a0 : Int) (a1 : Int) (a3 : Int) : Option Int :=
  if a0 = 35 then
  (if a1 = a3 then
  (some 0)
  else
  (some 1))
  else if a0 = 42 then
  (gd (inL (a1 * a3)) <|
   cl (fX4_bound (a1 * a3)) fun p_3 =>
   some p_3)
  else if a0 = 43 then
  (gd (inL (a1 + a3)) <|
   cl (fX4_bound (a1 + a3)) fun p_5 =>
   some p_5)
  else if a0 = 45 then
  (gd (inL (a1 - a3)) <|
   cl (fX4_bound (a1 - a3)) fun p_7 =>
   some p_7)
  else if a0 = 47 then
  (if a3 = 0 then
  (some 0)
  else
  (gd (a3 ≠ 0 ∧ inL (Int.tdiv a1 a3)) <|
   some (Int.tdiv a1 a3)))
  else if a0 = 60 then
  (if a1 < a3 then
  (some 1)
  else
  (some 0))
  else if a0 = 61 then
  (if a1 = a3 then
  (some 1)
  else
  (some 0))
  else if a0 = 62 then
  (if a3 < a1 then
  (some 1)
  else
  (some 0))
  else if a0 = 300 then
  (if a3 < a1 then
  (some 0)
  else
  (some 1))
  else if a0 = 301 then
  (if a1 < a3 then
  (some 0)
  else
  (some 1))
  else if a0 = 406 then
  (gd (inL (a1 * a3)) <|
   some (a1 * a3))
  else (gd (inL (a1 + a3)) <|
   if (0 : Int) < a1 + a3 then
  (some 1)
  else
  (some 0))
theorem sX4_worked {G : GG} {Γ : Cx} {r : Vv × Wd} {sz sl : Nat} {td : TT} (a0 : Int) (a1 : Int) (a3 : Int) (c : CC) : Sm (fX4_worked a0 a1 a3) (fun x => r = ((1, x), (sz, sl, tt td, cv c))) (WP G Γ muX4_worked r 0 [some (0, a0), some (1, a1), none, some (1, a3), none] [] (sz, sl, tt td, cv c)) := by
  unfold fX4_worked
  refine s_iload_n (pc := 0) dX4_worked_0 rfl ?_
  refine Sm.ite (fun hq_1 => ?_) (fun hq_1 => ?_)
  · refine s_lkp (pc := 1) (tgt := 171) (off := 170) dX4_worked_1 (by decide) (by rw [hq_1]; decide) rfl ?_
    refine s_lload_n (pc := 171) dX4_worked_171 rfl ?_
    refine s_lload_n (pc := 172) dX4_worked_172 rfl ?_
    refine s_lcmp_eq (pc := 173) (tgt := 181) dX4_worked_173 dX4_worked_174 rfl ?_ ?_
    · refine s_lconst0 (pc := 181) dX4_worked_181 ?_
      exact s_lret (pc := 182) dX4_worked_182 rfl (fun h => h)
    refine s_lconst1 (pc := 177) dX4_worked_177 ?_
    refine s_goto (pc := 178) (tgt := 182) dX4_worked_178 rfl ?_
    exact s_lret (pc := 182) dX4_worked_182 rfl (fun h => h)
  refine Sm.ite (fun hq_2 => ?_) (fun hq_2 => ?_)
  · refine s_lkp (pc := 1) (tgt := 114) (off := 113) dX4_worked_1 (by decide) (by rw [hq_2]; decide) rfl ?_
    refine s_lload_n (pc := 114) dX4_worked_114 rfl ?_
    refine s_lload_n (pc := 115) dX4_worked_115 rfl ?_
    refine s_lmul (pc := 116) dX4_worked_116 ?_
    refine s_callS3 (pc := 117) (as := [(1, a1 * a3)]) (st := []) (rv := fun b => ((1, b), (sz, sl, tt td, cv c))) (st3 := fun b => [(1, b)]) (w3 := fun b => (sz, sl, tt td, cv c)) msX4_380 (fun b h => kX4_bound (a1 * a3) c b h) rfl (by decide) rfl (Nat.le_of_ble_eq_true rfl) (fun _ => Nat.le_of_ble_eq_true rfl) (fun _ => ⟨rfl, rfl⟩) dX4_worked_117 (fun p_3 => ?_)
    exact s_lret (pc := 120) dX4_worked_120 rfl (fun h => h)
  refine Sm.ite (fun hq_4 => ?_) (fun hq_4 => ?_)
  · refine s_lkp (pc := 1) (tgt := 100) (off := 99) dX4_worked_1 (by decide) (by rw [hq_4]; decide) rfl ?_
    refine s_lload_n (pc := 100) dX4_worked_100 rfl ?_
    refine s_lload_n (pc := 101) dX4_worked_101 rfl ?_
    refine s_ladd (pc := 102) dX4_worked_102 ?_
    refine s_callS3 (pc := 103) (as := [(1, a1 + a3)]) (st := []) (rv := fun b => ((1, b), (sz, sl, tt td, cv c))) (st3 := fun b => [(1, b)]) (w3 := fun b => (sz, sl, tt td, cv c)) msX4_380 (fun b h => kX4_bound (a1 + a3) c b h) rfl (by decide) rfl (Nat.le_of_ble_eq_true rfl) (fun _ => Nat.le_of_ble_eq_true rfl) (fun _ => ⟨rfl, rfl⟩) dX4_worked_103 (fun p_5 => ?_)
    exact s_lret (pc := 106) dX4_worked_106 rfl (fun h => h)
  refine Sm.ite (fun hq_6 => ?_) (fun hq_6 => ?_)
  · refine s_lkp (pc := 1) (tgt := 107) (off := 106) dX4_worked_1 (by decide) (by rw [hq_6]; decide) rfl ?_
    refine s_lload_n (pc := 107) dX4_worked_107 rfl ?_
    refine s_lload_n (pc := 108) dX4_worked_108 rfl ?_
    refine s_lsub (pc := 109) dX4_worked_109 ?_
    refine s_callS3 (pc := 110) (as := [(1, a1 - a3)]) (st := []) (rv := fun b => ((1, b), (sz, sl, tt td, cv c))) (st3 := fun b => [(1, b)]) (w3 := fun b => (sz, sl, tt td, cv c)) msX4_380 (fun b h => kX4_bound (a1 - a3) c b h) rfl (by decide) rfl (Nat.le_of_ble_eq_true rfl) (fun _ => Nat.le_of_ble_eq_true rfl) (fun _ => ⟨rfl, rfl⟩) dX4_worked_110 (fun p_7 => ?_)
    exact s_lret (pc := 113) dX4_worked_113 rfl (fun h => h)
  refine Sm.ite (fun hq_8 => ?_) (fun hq_8 => ?_)
  · refine s_lkp (pc := 1) (tgt := 121) (off := 120) dX4_worked_1 (by decide) (by rw [hq_8]; decide) rfl ?_
    refine s_lload_n (pc := 121) dX4_worked_121 rfl ?_
    refine s_lconst0 (pc := 122) dX4_worked_122 ?_
    refine s_lcmp_ne (pc := 123) (tgt := 131) dX4_worked_123 dX4_worked_124 rfl ?_ ?_
    · refine s_lload_n (pc := 131) dX4_worked_131 rfl ?_
      refine s_lload_n (pc := 132) dX4_worked_132 rfl ?_
      refine s_ldiv (pc := 133) dX4_worked_133 ?_
      exact s_lret (pc := 134) dX4_worked_134 rfl (fun h => h)
    refine s_lconst0 (pc := 127) dX4_worked_127 ?_
    refine s_goto (pc := 128) (tgt := 134) dX4_worked_128 rfl ?_
    exact s_lret (pc := 134) dX4_worked_134 rfl (fun h => h)
  refine Sm.ite (fun hq_9 => ?_) (fun hq_9 => ?_)
  · refine s_lkp (pc := 1) (tgt := 135) (off := 134) dX4_worked_1 (by decide) (by rw [hq_9]; decide) rfl ?_
    refine s_lload_n (pc := 135) dX4_worked_135 rfl ?_
    refine s_lload_n (pc := 136) dX4_worked_136 rfl ?_
    refine s_lcmp_ge (pc := 137) (tgt := 145) dX4_worked_137 dX4_worked_138 rfl ?_ ?_
    · refine s_lconst0 (pc := 145) dX4_worked_145 ?_
      exact s_lret (pc := 146) dX4_worked_146 rfl (fun h => h)
    refine s_lconst1 (pc := 141) dX4_worked_141 ?_
    refine s_goto (pc := 142) (tgt := 146) dX4_worked_142 rfl ?_
    exact s_lret (pc := 146) dX4_worked_146 rfl (fun h => h)
  refine Sm.ite (fun hq_10 => ?_) (fun hq_10 => ?_)
  · refine s_lkp (pc := 1) (tgt := 159) (off := 158) dX4_worked_1 (by decide) (by rw [hq_10]; decide) rfl ?_
    refine s_lload_n (pc := 159) dX4_worked_159 rfl ?_
    refine s_lload_n (pc := 160) dX4_worked_160 rfl ?_
    refine s_lcmp_ne (pc := 161) (tgt := 169) dX4_worked_161 dX4_worked_162 rfl ?_ ?_
    · refine s_lconst0 (pc := 169) dX4_worked_169 ?_
      exact s_lret (pc := 170) dX4_worked_170 rfl (fun h => h)
    refine s_lconst1 (pc := 165) dX4_worked_165 ?_
    refine s_goto (pc := 166) (tgt := 170) dX4_worked_166 rfl ?_
    exact s_lret (pc := 170) dX4_worked_170 rfl (fun h => h)
  refine Sm.ite (fun hq_11 => ?_) (fun hq_11 => ?_)
  · refine s_lkp (pc := 1) (tgt := 147) (off := 146) dX4_worked_1 (by decide) (by rw [hq_11]; decide) rfl ?_
    refine s_lload_n (pc := 147) dX4_worked_147 rfl ?_
    refine s_lload_n (pc := 148) dX4_worked_148 rfl ?_
    refine s_lcmp_le (pc := 149) (tgt := 157) dX4_worked_149 dX4_worked_150 rfl ?_ ?_
    · refine s_lconst0 (pc := 157) dX4_worked_157 ?_
      exact s_lret (pc := 158) dX4_worked_158 rfl (fun h => h)
    refine s_lconst1 (pc := 153) dX4_worked_153 ?_
    refine s_goto (pc := 154) (tgt := 158) dX4_worked_154 rfl ?_
    exact s_lret (pc := 158) dX4_worked_158 rfl (fun h => h)
  refine Sm.ite (fun hq_12 => ?_) (fun hq_12 => ?_)
  · refine s_lkp (pc := 1) (tgt := 183) (off := 182) dX4_worked_1 (by decide) (by rw [hq_12]; decide) rfl ?_
    refine s_lload_n (pc := 183) dX4_worked_183 rfl ?_
    refine s_lload_n (pc := 184) dX4_worked_184 rfl ?_
    refine s_lcmp_gt (pc := 185) (tgt := 193) dX4_worked_185 dX4_worked_186 rfl ?_ ?_
    · refine s_lconst0 (pc := 193) dX4_worked_193 ?_
      exact s_lret (pc := 194) dX4_worked_194 rfl (fun h => h)
    refine s_lconst1 (pc := 189) dX4_worked_189 ?_
    refine s_goto (pc := 190) (tgt := 194) dX4_worked_190 rfl ?_
    exact s_lret (pc := 194) dX4_worked_194 rfl (fun h => h)
  refine Sm.ite (fun hq_13 => ?_) (fun hq_13 => ?_)
  · refine s_lkp (pc := 1) (tgt := 195) (off := 194) dX4_worked_1 (by decide) (by rw [hq_13]; decide) rfl ?_
    refine s_lload_n (pc := 195) dX4_worked_195 rfl ?_
    refine s_lload_n (pc := 196) dX4_worked_196 rfl ?_
    refine s_lcmp_lt (pc := 197) (tgt := 205) dX4_worked_197 dX4_worked_198 rfl ?_ ?_
    · refine s_lconst0 (pc := 205) dX4_worked_205 ?_
      exact s_lret (pc := 206) dX4_worked_206 rfl (fun h => h)
    refine s_lconst1 (pc := 201) dX4_worked_201 ?_
    refine s_goto (pc := 202) (tgt := 206) dX4_worked_202 rfl ?_
    exact s_lret (pc := 206) dX4_worked_206 rfl (fun h => h)
  refine Sm.ite (fun hq_14 => ?_) (fun hq_14 => ?_)
  · refine s_lkp (pc := 1) (tgt := 207) (off := 206) dX4_worked_1 (by decide) (by rw [hq_14]; decide) rfl ?_
    refine s_lload_n (pc := 207) dX4_worked_207 rfl ?_
    refine s_lload_n (pc := 208) dX4_worked_208 rfl ?_
    refine s_lmul (pc := 209) dX4_worked_209 ?_
    exact s_lret (pc := 210) dX4_worked_210 rfl (fun h => h)
  refine s_lkp (pc := 1) (tgt := 211) (off := 210) dX4_worked_1 (by decide) (by simp [Op.lookupswitch.offset_cons, Op.lookupswitch.offset_nil, Ne.symm hq_1, Ne.symm hq_2, Ne.symm hq_4, Ne.symm hq_6, Ne.symm hq_8, Ne.symm hq_9, Ne.symm hq_10, Ne.symm hq_11, Ne.symm hq_12, Ne.symm hq_13, Ne.symm hq_14]) rfl ?_
  refine s_lload_n (pc := 211) dX4_worked_211 rfl ?_
  refine s_lload_n (pc := 212) dX4_worked_212 rfl ?_
  refine s_ladd (pc := 213) dX4_worked_213 ?_
  refine s_lconst0 (pc := 214) dX4_worked_214 ?_
  refine s_lcmp_le (pc := 215) (tgt := 223) dX4_worked_215 dX4_worked_216 rfl ?_ ?_
  · refine s_lconst0 (pc := 223) dX4_worked_223 ?_
    exact s_lret (pc := 224) dX4_worked_224 rfl (fun h => h)
  refine s_lconst1 (pc := 219) dX4_worked_219 ?_
  refine s_goto (pc := 220) (tgt := 224) dX4_worked_220 rfl ?_
  exact s_lret (pc := 224) dX4_worked_224 rfl (fun h => h)
theorem kX4_worked {G : GG} {sz sl : Nat} {td : TT} (a0 : Int) (a1 : Int) (a3 : Int) (c : CC) (x : Int) (h : fX4_worked a0 a1 a3 = some x) : Ct G yX4_worked muX4_worked [(0, a0), (1, a1), (1, a3)] (sz, sl, tt td, cv c) ((1, x), (sz, sl, tt td, cv c)) :=
  Ct.of (n := 0) (ls0 := [some (0, a0), some (1, a1), none, some (1, a3), none]) (by decide) rfl rfl ⟨by decide, by decide⟩ (Nat.le_of_ble_eq_true rfl) rfl ⟨Nat.le_refl _, Nat.le_refl _⟩ (show (1 : Nat) ≠ 9 by decide) (fun Γ => sX4_worked a0 a1 a3 c x h rfl)
theorem flX4_93 : FL RX4 93 3 42 := ⟨_, _, _, cf3, by decide, q1286⟩
theorem flX4_90 : FL RX4 90 3 41 := ⟨_, _, _, cf3, by decide, q1285⟩
theorem msX4_384 : MS RX4 384 yX4_worked muX4_worked 3 := ⟨lw_S q1811 q1812 q129 q1813, by decide +kernel, by decide⟩
abbrev muX4_saysOf : MI := (cX4_saysOf, RX4, 5, some .long, 3, "saysOf")
noncomputable def fX4_saysOf_j40 (v2 : Int) (v3 : Int) (v4 : Int) (c : CC) : Option ((Int × Int × CC) ⊕ (CC)) :=
  if v4 = 400 then
  (gd ((0 : Int) ≤ v3 ∧ v3 < 2400) <|
   gd ((0 : Int) ≤ v2 ∧ v2 < 200) <| bd (up2 c 137 (Int.toNat v2) (c 126 (Int.toNat v3))) fun c_5 =>
   gd (inR (v2 + 1)) <| bd (v2 + 1) fun v2_6 =>
   gd (inR (v3 + 1)) <| bd (v3 + 1) fun v3_7 =>
   some (.inl (v2_6, v3_7, c_5)))
  else
  (gd ((0 : Int) ≤ v3 ∧ v3 < 2400) <|
   gd ((0 : Int) ≤ c 126 (Int.toNat v3) ∧ c 126 (Int.toNat v3) < 7) <|
   gd ((0 : Int) ≤ v2 ∧ v2 < 200) <| bd (up2 c 137 (Int.toNat v2) (c 136 (Int.toNat (c 126 (Int.toNat v3))))) fun c_2 =>
   gd (inR (v2 + 1)) <| bd (v2 + 1) fun v2_3 =>
   gd (inR (v3 + 1)) <| bd (v3 + 1) fun v3_4 =>
   some (.inl (v2_3, v3_4, c_2)))
abbrev gX4_saysOf_l4 (G : GG) (Γ : Cx) (r : Vv × Wd) (sz sl : Nat) (td : TT)  : (Int × Int × CC) → Prop := fun s => WP G Γ muX4_saysOf r 4 [some (2, 111), none, some (0, s.1), some (0, s.2.1), none] [] (sz, sl, tt td, cv s.2.2)
abbrev eX4_saysOf_l4 (G : GG) (Γ : Cx) (r : Vv × Wd) (sz sl : Nat) (td : TT)  : (CC) → Prop := (fun s => WP G Γ muX4_saysOf r 175 [some (2, 111), none, none, none, none] [] (sz, sl, tt td, cv s))
theorem sX4_saysOf_j40 {G : GG} {Γ : Cx} {r : Vv × Wd} {sz sl : Nat} {td : TT} (v2 : Int) (v3 : Int) (v4 : Int) (c : CC) : Sm (fX4_saysOf_j40 v2 v3 v4 c) (fun x => Sum.elim (gX4_saysOf_l4 G Γ r sz sl td ) (eX4_saysOf_l4 G Γ r sz sl td ) x) (WP G Γ muX4_saysOf r 40 [some (2, 111), none, some (0, v2), some (0, v3), some (0, v4)] [] (sz, sl, tt td, cv c)) := by
  unfold fX4_saysOf_j40
  refine s_aload_n (pc := 40) dX4_saysOf_40 rfl ?_
  refine s_get (pc := 41) (a := 111) (v := 137) flX4_93 (t_111 _) rfl (g_111_42 _) rfl dX4_saysOf_41 ?_
  refine s_iload_n (pc := 44) dX4_saysOf_44 rfl ?_
  refine s_iload (pc := 45) dX4_saysOf_45 rfl ?_
  refine s_sipush (pc := 47) dX4_saysOf_47 ?_
  refine s_icmp_ne (pc := 50) (tgt := 63) dX4_saysOf_50 rfl ?_ ?_
  · refine s_aload_n (pc := 63) dX4_saysOf_63 rfl ?_
    refine s_get (pc := 64) (a := 111) (v := 136) flX4_90 (t_111 _) rfl (g_111_41 _) rfl dX4_saysOf_64 ?_
    refine s_aload_n (pc := 67) dX4_saysOf_67 rfl ?_
    refine s_get (pc := 68) (a := 111) (v := 126) flX4_60 (t_111 _) rfl (g_111_17 _) rfl dX4_saysOf_68 ?_
    refine s_iload_n (pc := 71) dX4_saysOf_71 rfl ?_
    refine s_ialdM (pc := 72) (a := 126) (t_126 _) rfl r_126 dX4_saysOf_72 ?_
    refine s_ialdM (pc := 73) (a := 136) (t_136 _) rfl r_136 dX4_saysOf_73 ?_
    refine s_i2l (pc := 74) dX4_saysOf_74 ?_
    refine s_lastM (pc := 75) (a := 137) (t_137 _) rfl kO_137 r_137 dX4_saysOf_75 (fun c_2 => ?_)
    refine s_iinc (pc := 76) (lf := fun x => [some (2, 111), none, some (0, x), some (0, v3), some (0, v4)]) dX4_saysOf_76 rfl (fun _ => rfl) (Nat.le_of_ble_eq_true rfl) (fun v2_3 => ?_)
    refine s_goto (pc := 79) (tgt := 169) dX4_saysOf_79 rfl ?_
    refine s_iinc (pc := 169) (lf := fun x => [some (2, 111), none, some (0, v2_3), some (0, x), some (0, v4)]) dX4_saysOf_169 rfl (fun _ => rfl) (Nat.le_of_ble_eq_true rfl) (fun v3_4 => ?_)
    refine s_goto (pc := 172) (tgt := 4) dX4_saysOf_172 rfl ?_
    refine s_wk [true, true, true, true, false] (ls' := [some (2, 111), none, some (0, v2_3), some (0, v3_4), none]) rfl ?_
    exact Sm.some (fun h => h)
  refine s_aload_n (pc := 53) dX4_saysOf_53 rfl ?_
  refine s_get (pc := 54) (a := 111) (v := 126) flX4_60 (t_111 _) rfl (g_111_17 _) rfl dX4_saysOf_54 ?_
  refine s_iload_n (pc := 57) dX4_saysOf_57 rfl ?_
  refine s_ialdM (pc := 58) (a := 126) (t_126 _) rfl r_126 dX4_saysOf_58 ?_
  refine s_i2l (pc := 59) dX4_saysOf_59 ?_
  refine s_goto (pc := 60) (tgt := 75) dX4_saysOf_60 rfl ?_
  refine s_lastM (pc := 75) (a := 137) (t_137 _) rfl kO_137 r_137 dX4_saysOf_75 (fun c_5 => ?_)
  refine s_iinc (pc := 76) (lf := fun x => [some (2, 111), none, some (0, x), some (0, v3), some (0, v4)]) dX4_saysOf_76 rfl (fun _ => rfl) (Nat.le_of_ble_eq_true rfl) (fun v2_6 => ?_)
  refine s_goto (pc := 79) (tgt := 169) dX4_saysOf_79 rfl ?_
  refine s_iinc (pc := 169) (lf := fun x => [some (2, 111), none, some (0, v2_6), some (0, x), some (0, v4)]) dX4_saysOf_169 rfl (fun _ => rfl) (Nat.le_of_ble_eq_true rfl) (fun v3_7 => ?_)
  refine s_goto (pc := 172) (tgt := 4) dX4_saysOf_172 rfl ?_
  refine s_wk [true, true, true, true, false] (ls' := [some (2, 111), none, some (0, v2_6), some (0, v3_7), none]) rfl ?_
  exact Sm.some (fun h => h)
noncomputable def fX4_saysOf_l4 (v2 : Int) (v3 : Int) (c : CC) : Option ((Int × Int × CC) ⊕ (CC)) :=
  gd ((0 : Int) ≤ v3 ∧ v3 < 2400) <|
   if c 125 (Int.toNat v3) = 408 then
  (some (.inr c))
  else
  (gd ((0 : Int) ≤ v3 ∧ v3 < 2400) <|
   bd (c 125 (Int.toNat v3)) fun v4_1 =>
   if v4_1 = 400 then
  (fX4_saysOf_j40 v2 v3 v4_1 c)
  else
  (if v4_1 = 401 then
  (fX4_saysOf_j40 v2 v3 v4_1 c)
  else
  (if v4_1 = 402 then
  (gd (inR (v2 - 1)) <|
   gd (inR (v2 - 1)) <|
   gd ((0 : Int) ≤ v2 - 1 ∧ v2 - 1 < 200) <|
   gd (inL (-(c 137 (Int.toNat (v2 - 1))))) <|
   gd ((0 : Int) ≤ v2 - 1 ∧ v2 - 1 < 200) <| bd (up2 c 137 (Int.toNat (v2 - 1)) (-(c 137 (Int.toNat (v2 - 1))))) fun c_14 =>
   gd (inR (v3 + 1)) <| bd (v3 + 1) fun v3_15 =>
   some (.inl (v2, v3_15, c_14)))
  else
  (if v4_1 = 405 then
  (gd (inR (v2 - 1)) <|
   gd (inR (v2 - 1)) <|
   gd ((0 : Int) ≤ v2 - 1 ∧ v2 - 1 < 200) <|
   gd (inL (1 - (c 137 (Int.toNat (v2 - 1))))) <|
   gd ((0 : Int) ≤ v2 - 1 ∧ v2 - 1 < 200) <| bd (up2 c 137 (Int.toNat (v2 - 1)) (1 - (c 137 (Int.toNat (v2 - 1))))) fun c_12 =>
   gd (inR (v3 + 1)) <| bd (v3 + 1) fun v3_13 =>
   some (.inl (v2, v3_13, c_12)))
  else
  (gd (inR (v2 + -1)) <| bd (v2 + -1) fun v2_8 =>
   gd (inR (v2_8 - 1)) <|
   gd (inR (v2_8 - 1)) <|
   gd ((0 : Int) ≤ v2_8 - 1 ∧ v2_8 - 1 < 200) <|
   gd ((0 : Int) ≤ v2_8 ∧ v2_8 < 200) <|
   cl (fX4_worked v4_1 (c 137 (Int.toNat (v2_8 - 1))) (c 137 (Int.toNat v2_8))) fun p_9 =>
   gd ((0 : Int) ≤ v2_8 - 1 ∧ v2_8 - 1 < 200) <| bd (up2 c 137 (Int.toNat (v2_8 - 1)) p_9) fun c_10 =>
   gd (inR (v3 + 1)) <| bd (v3 + 1) fun v3_11 =>
   some (.inl (v2_8, v3_11, c_10)))))))
theorem sX4_saysOf_l4 {G : GG} {Γ : Cx} {r : Vv × Wd} {sz sl : Nat} {td : TT} (v2 : Int) (v3 : Int) (c : CC) : Sm (fX4_saysOf_l4 v2 v3 c) (fun x => Sum.elim (gX4_saysOf_l4 G Γ r sz sl td ) (eX4_saysOf_l4 G Γ r sz sl td ) x) (gX4_saysOf_l4 G Γ r sz sl td  (v2, v3, c)) := by
  show Sm _ _ (WP G Γ muX4_saysOf r 4 [some (2, 111), none, some (0, v2), some (0, v3), none] [] (sz, sl, tt td, cv c))
  unfold fX4_saysOf_l4
  refine s_aload_n (pc := 4) dX4_saysOf_4 rfl ?_
  refine s_get (pc := 5) (a := 111) (v := 125) flX4_57 (t_111 _) rfl (g_111_16 _) rfl dX4_saysOf_5 ?_
  refine s_iload_n (pc := 8) dX4_saysOf_8 rfl ?_
  refine s_ialdM (pc := 9) (a := 125) (t_125 _) rfl r_125 dX4_saysOf_9 ?_
  refine s_sipush (pc := 10) dX4_saysOf_10 ?_
  refine s_icmp_eq (pc := 13) (tgt := 175) dX4_saysOf_13 rfl ?_ ?_
  · refine s_wk [true, true, false, false, true] (ls' := [some (2, 111), none, none, none, none]) rfl ?_
    exact Sm.some (fun h => h)
  refine s_aload_n (pc := 16) dX4_saysOf_16 rfl ?_
  refine s_get (pc := 17) (a := 111) (v := 125) flX4_57 (t_111 _) rfl (g_111_16 _) rfl dX4_saysOf_17 ?_
  refine s_iload_n (pc := 20) dX4_saysOf_20 rfl ?_
  refine s_ialdM (pc := 21) (a := 125) (t_125 _) rfl r_125 dX4_saysOf_21 ?_
  refine s_istore (pc := 22) (lf := fun x => [some (2, 111), none, some (0, v2), some (0, v3), some (0, x)]) dX4_saysOf_22 (fun _ => rfl) (Nat.le_of_ble_eq_true rfl) (fun v4_1 => ?_)
  refine s_iload (pc := 24) dX4_saysOf_24 rfl ?_
  refine s_sipush (pc := 26) dX4_saysOf_26 ?_
  refine s_icmp_eq (pc := 29) (tgt := 40) dX4_saysOf_29 rfl ?_ ?_
  · exact sX4_saysOf_j40 v2 v3 v4_1 c
  refine s_iload (pc := 32) dX4_saysOf_32 rfl ?_
  refine s_sipush (pc := 34) dX4_saysOf_34 ?_
  refine s_icmp_ne (pc := 37) (tgt := 82) dX4_saysOf_37 rfl ?_ ?_
  · refine s_iload (pc := 82) dX4_saysOf_82 rfl ?_
    refine s_sipush (pc := 84) dX4_saysOf_84 ?_
    refine s_icmp_ne (pc := 87) (tgt := 110) dX4_saysOf_87 rfl ?_ ?_
    · refine s_iload (pc := 110) dX4_saysOf_110 rfl ?_
      refine s_sipush (pc := 112) dX4_saysOf_112 ?_
      refine s_icmp_ne (pc := 115) (tgt := 139) dX4_saysOf_115 rfl ?_ ?_
      · refine s_iinc (pc := 139) (lf := fun x => [some (2, 111), none, some (0, x), some (0, v3), some (0, v4_1)]) dX4_saysOf_139 rfl (fun _ => rfl) (Nat.le_of_ble_eq_true rfl) (fun v2_8 => ?_)
        refine s_aload_n (pc := 142) dX4_saysOf_142 rfl ?_
        refine s_get (pc := 143) (a := 111) (v := 137) flX4_93 (t_111 _) rfl (g_111_42 _) rfl dX4_saysOf_143 ?_
        refine s_iload_n (pc := 146) dX4_saysOf_146 rfl ?_
        refine s_iconst (pc := 147) dX4_saysOf_147 ?_
        refine s_isub (pc := 148) dX4_saysOf_148 ?_
        refine s_iload (pc := 149) dX4_saysOf_149 rfl ?_
        refine s_aload_n (pc := 151) dX4_saysOf_151 rfl ?_
        refine s_get (pc := 152) (a := 111) (v := 137) flX4_93 (t_111 _) rfl (g_111_42 _) rfl dX4_saysOf_152 ?_
        refine s_iload_n (pc := 155) dX4_saysOf_155 rfl ?_
        refine s_iconst (pc := 156) dX4_saysOf_156 ?_
        refine s_isub (pc := 157) dX4_saysOf_157 ?_
        refine s_laldM (pc := 158) (a := 137) (t_137 _) rfl r_137 dX4_saysOf_158 ?_
        refine s_aload_n (pc := 159) dX4_saysOf_159 rfl ?_
        refine s_get (pc := 160) (a := 111) (v := 137) flX4_93 (t_111 _) rfl (g_111_42 _) rfl dX4_saysOf_160 ?_
        refine s_iload_n (pc := 163) dX4_saysOf_163 rfl ?_
        refine s_laldM (pc := 164) (a := 137) (t_137 _) rfl r_137 dX4_saysOf_164 ?_
        refine s_callS3 (pc := 165) (as := [(0, v4_1), (1, c 137 (Int.toNat (v2_8 - 1))), (1, c 137 (Int.toNat v2_8))]) (st := [(0, v2_8 - 1), (2, 137)]) (rv := fun b => ((1, b), (sz, sl, tt td, cv c))) (st3 := fun b => [(1, b), (0, v2_8 - 1), (2, 137)]) (w3 := fun b => (sz, sl, tt td, cv c)) msX4_384 (fun b h => kX4_worked v4_1 (c 137 (Int.toNat (v2_8 - 1))) (c 137 (Int.toNat v2_8)) c b h) rfl (by decide) rfl (Nat.le_of_ble_eq_true rfl) (fun _ => Nat.le_of_ble_eq_true rfl) (fun _ => ⟨rfl, rfl⟩) dX4_saysOf_165 (fun p_9 => ?_)
        refine s_lastM (pc := 168) (a := 137) (t_137 _) rfl kO_137 r_137 dX4_saysOf_168 (fun c_10 => ?_)
        refine s_iinc (pc := 169) (lf := fun x => [some (2, 111), none, some (0, v2_8), some (0, x), some (0, v4_1)]) dX4_saysOf_169 rfl (fun _ => rfl) (Nat.le_of_ble_eq_true rfl) (fun v3_11 => ?_)
        refine s_goto (pc := 172) (tgt := 4) dX4_saysOf_172 rfl ?_
        refine s_wk [true, true, true, true, false] (ls' := [some (2, 111), none, some (0, v2_8), some (0, v3_11), none]) rfl ?_
        exact Sm.some (fun h => h)
      refine s_aload_n (pc := 118) dX4_saysOf_118 rfl ?_
      refine s_get (pc := 119) (a := 111) (v := 137) flX4_93 (t_111 _) rfl (g_111_42 _) rfl dX4_saysOf_119 ?_
      refine s_iload_n (pc := 122) dX4_saysOf_122 rfl ?_
      refine s_iconst (pc := 123) dX4_saysOf_123 ?_
      refine s_isub (pc := 124) dX4_saysOf_124 ?_
      refine s_lconst1 (pc := 125) dX4_saysOf_125 ?_
      refine s_aload_n (pc := 126) dX4_saysOf_126 rfl ?_
      refine s_get (pc := 127) (a := 111) (v := 137) flX4_93 (t_111 _) rfl (g_111_42 _) rfl dX4_saysOf_127 ?_
      refine s_iload_n (pc := 130) dX4_saysOf_130 rfl ?_
      refine s_iconst (pc := 131) dX4_saysOf_131 ?_
      refine s_isub (pc := 132) dX4_saysOf_132 ?_
      refine s_laldM (pc := 133) (a := 137) (t_137 _) rfl r_137 dX4_saysOf_133 ?_
      refine s_lsub (pc := 134) dX4_saysOf_134 ?_
      refine s_lastM (pc := 135) (a := 137) (t_137 _) rfl kO_137 r_137 dX4_saysOf_135 (fun c_12 => ?_)
      refine s_goto (pc := 136) (tgt := 169) dX4_saysOf_136 rfl ?_
      refine s_iinc (pc := 169) (lf := fun x => [some (2, 111), none, some (0, v2), some (0, x), some (0, v4_1)]) dX4_saysOf_169 rfl (fun _ => rfl) (Nat.le_of_ble_eq_true rfl) (fun v3_13 => ?_)
      refine s_goto (pc := 172) (tgt := 4) dX4_saysOf_172 rfl ?_
      refine s_wk [true, true, true, true, false] (ls' := [some (2, 111), none, some (0, v2), some (0, v3_13), none]) rfl ?_
      exact Sm.some (fun h => h)
    refine s_aload_n (pc := 90) dX4_saysOf_90 rfl ?_
    refine s_get (pc := 91) (a := 111) (v := 137) flX4_93 (t_111 _) rfl (g_111_42 _) rfl dX4_saysOf_91 ?_
    refine s_iload_n (pc := 94) dX4_saysOf_94 rfl ?_
    refine s_iconst (pc := 95) dX4_saysOf_95 ?_
    refine s_isub (pc := 96) dX4_saysOf_96 ?_
    refine s_aload_n (pc := 97) dX4_saysOf_97 rfl ?_
    refine s_get (pc := 98) (a := 111) (v := 137) flX4_93 (t_111 _) rfl (g_111_42 _) rfl dX4_saysOf_98 ?_
    refine s_iload_n (pc := 101) dX4_saysOf_101 rfl ?_
    refine s_iconst (pc := 102) dX4_saysOf_102 ?_
    refine s_isub (pc := 103) dX4_saysOf_103 ?_
    refine s_laldM (pc := 104) (a := 137) (t_137 _) rfl r_137 dX4_saysOf_104 ?_
    refine s_lneg (pc := 105) dX4_saysOf_105 ?_
    refine s_lastM (pc := 106) (a := 137) (t_137 _) rfl kO_137 r_137 dX4_saysOf_106 (fun c_14 => ?_)
    refine s_goto (pc := 107) (tgt := 169) dX4_saysOf_107 rfl ?_
    refine s_iinc (pc := 169) (lf := fun x => [some (2, 111), none, some (0, v2), some (0, x), some (0, v4_1)]) dX4_saysOf_169 rfl (fun _ => rfl) (Nat.le_of_ble_eq_true rfl) (fun v3_15 => ?_)
    refine s_goto (pc := 172) (tgt := 4) dX4_saysOf_172 rfl ?_
    refine s_wk [true, true, true, true, false] (ls' := [some (2, 111), none, some (0, v2), some (0, v3_15), none]) rfl ?_
    exact Sm.some (fun h => h)
  exact sX4_saysOf_j40 v2 v3 v4_1 c
noncomputable def fX4_saysOf (a1 : Int) (c : CC) : Option (Int × CC) :=
  cl (wh (fun s => fX4_saysOf_l4  s.1 s.2.1 s.2.2) (0, a1, c)) (fun e_16 =>
  some (e_16 137 0, e_16))
theorem sX4_saysOf {G : GG} {Γ : Cx} {r : Vv × Wd} {sz sl : Nat} {td : TT} (a1 : Int) (c : CC) : Sm (fX4_saysOf a1 c) (fun x => r = ((1, x.1), (sz, sl, tt td, cv x.2))) (WP G Γ muX4_saysOf r 0 [some (2, 111), some (0, a1), none, none, none] [] (sz, sl, tt td, cv c)) := by
  unfold fX4_saysOf
  refine s_iconst (pc := 0) dX4_saysOf_0 ?_
  refine s_istore_nD (pc := 1) (ls' := [some (2, 111), some (0, a1), some (0, 0), none, none]) dX4_saysOf_1 rfl (Nat.le_of_ble_eq_true rfl) ?_
  refine s_iload_n (pc := 2) dX4_saysOf_2 rfl ?_
  refine s_istore_nD (pc := 3) (ls' := [some (2, 111), some (0, a1), some (0, 0), some (0, a1), none]) dX4_saysOf_3 rfl (Nat.le_of_ble_eq_true rfl) ?_
  refine s_wk [true, false, true, true, true] (ls' := [some (2, 111), none, some (0, 0), some (0, a1), none]) rfl ?_
  refine s_loop (g := gX4_saysOf_l4 G Γ r sz sl td ) (Ex := eX4_saysOf_l4 G Γ r sz sl td ) (s0 := (0, a1, c)) (fun s => sX4_saysOf_l4  s.1 s.2.1 s.2.2) ?_
  intro e_16
  show Sm _ _ (WP G Γ muX4_saysOf r 175 [some (2, 111), none, none, none, none] [] (sz, sl, tt td, cv e_16))
  refine s_aload_n (pc := 175) dX4_saysOf_175 rfl ?_
  refine s_get (pc := 176) (a := 111) (v := 137) flX4_93 (t_111 _) rfl (g_111_42 _) rfl dX4_saysOf_176 ?_
  refine s_iconst (pc := 179) dX4_saysOf_179 ?_
  refine s_laldML (pc := 180) (a := 137) 0 rfl (Nat.le_of_ble_eq_true rfl) (t_137 _) rfl r_137 dX4_saysOf_180 ?_
  exact s_lret (pc := 181) dX4_saysOf_181 rfl (fun h => h)
theorem kX4_saysOf {G : GG} {sz sl : Nat} {td : TT} (a1 : Int) (c : CC) (x : (Int × CC)) (h : fX4_saysOf a1 c = some x) : Ct G yX4_saysOf muX4_saysOf [(2, 111), (0, a1)] (sz, sl, tt td, cv c) ((1, x.1), (sz, sl, tt td, cv x.2)) :=
  Ct.of (n := 3) (ls0 := [some (2, 111), some (0, a1), none, none, none]) (by decide) rfl rfl ⟨by decide, by decide⟩ (Nat.le_of_ble_eq_true rfl) rfl ⟨Nat.le_refl _, Nat.le_refl _⟩ (show (1 : Nat) ≠ 9 by decide) (fun Γ => sX4_saysOf a1 c x h rfl)
abbrev muX4_by : MI := (cX4_by, RX4, 2, some .boolean, 2, "by")
noncomputable def fX4_by_j23 (v1 : Int) (c : CC) : Option (Int × CC) :=
  bd (up2 c 112 1 v1) fun c_1 =>
   gd ((0 : Int) ≤ 1 ∧ (1 : Int) < 2) (some (1, c_1))
theorem sX4_by_j23 {G : GG} {Γ : Cx} {r : Vv × Wd} {sz sl : Nat} {td : TT} (v1 : Int) (c : CC) : Sm (fX4_by_j23 v1 c) (fun x => r = ((0, x.1), (sz, sl, tt td, cv x.2))) (WP G Γ muX4_by r 23 [some (2, 111), some (0, v1)] [] (sz, sl, tt td, cv c)) := by
  unfold fX4_by_j23
  refine s_aload_n (pc := 23) dX4_by_23 rfl ?_
  refine s_get (pc := 24) (a := 111) (v := 112) flX4_7 (t_111 _) rfl (g_111_0 _) rfl dX4_by_24 ?_
  refine s_iconst (pc := 27) dX4_by_27 ?_
  refine s_iload_n (pc := 28) dX4_by_28 rfl ?_
  refine s_iastML (pc := 29) (a := 112) 1 rfl (Nat.le_of_ble_eq_true rfl) (t_112 _) rfl kO_112 r_112 dX4_by_29 (fun c_1 => ?_)
  refine s_iconst (pc := 30) dX4_by_30 ?_
  exact s_zret (pc := 31) dX4_by_31 rfl (fun h => h)
noncomputable def fX4_by (a1 : Int) (c : CC) : Option (Int × CC) :=
  if a1 = -1 then
  (fX4_by_j23 a1 c)
  else
  (gd (inR ((c 112 0) - 1)) <|
   cl (fX4_in a1 0 ((c 112 0) - 1)) fun p_2 =>
   if p_2 = 0 then
  (gd ((0 : Int) ≤ 0 ∧ (0 : Int) < 2) (some (0, c)))
  else
  (fX4_by_j23 a1 c))
theorem sX4_by {G : GG} {Γ : Cx} {r : Vv × Wd} {sz sl : Nat} {td : TT} (a1 : Int) (c : CC) : Sm (fX4_by a1 c) (fun x => r = ((0, x.1), (sz, sl, tt td, cv x.2))) (WP G Γ muX4_by r 0 [some (2, 111), some (0, a1)] [] (sz, sl, tt td, cv c)) := by
  unfold fX4_by
  refine s_iload_n (pc := 0) dX4_by_0 rfl ?_
  refine s_iconst (pc := 1) dX4_by_1 ?_
  refine s_icmp_eq (pc := 2) (tgt := 23) dX4_by_2 rfl ?_ ?_
  · exact sX4_by_j23 a1 c
  refine s_iload_n (pc := 5) dX4_by_5 rfl ?_
  refine s_iconst (pc := 6) dX4_by_6 ?_
  refine s_aload_n (pc := 7) dX4_by_7 rfl ?_
  refine s_get (pc := 8) (a := 111) (v := 112) flX4_7 (t_111 _) rfl (g_111_0 _) rfl dX4_by_8 ?_
  refine s_iconst (pc := 11) dX4_by_11 ?_
  refine s_ialdML (pc := 12) (a := 112) 0 rfl (Nat.le_of_ble_eq_true rfl) (t_112 _) rfl r_112 dX4_by_12 ?_
  refine s_iconst (pc := 13) dX4_by_13 ?_
  refine s_isub (pc := 14) dX4_by_14 ?_
  refine s_callS3 (pc := 15) (as := [(0, a1), (0, 0), (0, (c 112 0) - 1)]) (st := []) (rv := fun b => ((0, b), (sz, sl, tt td, cv c))) (st3 := fun b => [(0, b)]) (w3 := fun b => (sz, sl, tt td, cv c)) msX4_199 (fun b h => kX4_in a1 0 ((c 112 0) - 1) c b h) rfl (by decide) rfl (Nat.le_of_ble_eq_true rfl) (fun _ => Nat.le_of_ble_eq_true rfl) (fun _ => ⟨rfl, rfl⟩) dX4_by_15 (fun p_2 => ?_)
  refine s_if_ne (pc := 18) (tgt := 23) dX4_by_18 rfl ?_ ?_
  · exact sX4_by_j23 a1 c
  refine s_iconst (pc := 21) dX4_by_21 ?_
  exact s_zret (pc := 22) dX4_by_22 rfl (fun h => h)
theorem kX4_by {G : GG} {sz sl : Nat} {td : TT} (a1 : Int) (c : CC) (x : (Int × CC)) (h : fX4_by a1 c = some x) : Ct G yX4_by muX4_by [(2, 111), (0, a1)] (sz, sl, tt td, cv c) ((0, x.1), (sz, sl, tt td, cv x.2)) :=
  Ct.of (n := 0) (ls0 := [some (2, 111), some (0, a1)]) (by decide) rfl rfl ⟨by decide, by decide⟩ (Nat.le_of_ble_eq_true rfl) rfl ⟨Nat.le_refl _, Nat.le_refl _⟩ (show (0 : Nat) ≠ 9 by decide) (fun Γ => sX4_by a1 c x h rfl)
abbrev muX4_senses : MI := (cX4_senses, RX4, 1, some .int, 1, "senses")
noncomputable def fX4_senses  (c : CC) : Option Int :=
  if c 112 1 = -1 then
  (some 0)
  else
  (gd ((0 : Int) ≤ c 112 1 ∧ c 112 1 < 6) <|
   some (c 115 (Int.toNat (c 112 1))))
theorem sX4_senses {G : GG} {Γ : Cx} {r : Vv × Wd} {sz sl : Nat} {td : TT}  (c : CC) : Sm (fX4_senses  c) (fun x => r = ((0, x), (sz, sl, tt td, cv c))) (WP G Γ muX4_senses r 0 [some (2, 111)] [] (sz, sl, tt td, cv c)) := by
  unfold fX4_senses
  refine s_aload_n (pc := 0) dX4_senses_0 rfl ?_
  refine s_get (pc := 1) (a := 111) (v := 112) flX4_7 (t_111 _) rfl (g_111_0 _) rfl dX4_senses_1 ?_
  refine s_iconst (pc := 4) dX4_senses_4 ?_
  refine s_ialdML (pc := 5) (a := 112) 1 rfl (Nat.le_of_ble_eq_true rfl) (t_112 _) rfl r_112 dX4_senses_5 ?_
  refine s_iconst (pc := 6) dX4_senses_6 ?_
  refine s_icmp_ne (pc := 7) (tgt := 14) dX4_senses_7 rfl ?_ ?_
  · refine s_aload_n (pc := 14) dX4_senses_14 rfl ?_
    refine s_get (pc := 15) (a := 111) (v := 115) flX4_27 (t_111 _) rfl (g_111_6 _) rfl dX4_senses_15 ?_
    refine s_aload_n (pc := 18) dX4_senses_18 rfl ?_
    refine s_get (pc := 19) (a := 111) (v := 112) flX4_7 (t_111 _) rfl (g_111_0 _) rfl dX4_senses_19 ?_
    refine s_iconst (pc := 22) dX4_senses_22 ?_
    refine s_ialdML (pc := 23) (a := 112) 1 rfl (Nat.le_of_ble_eq_true rfl) (t_112 _) rfl r_112 dX4_senses_23 ?_
    refine s_ialdM (pc := 24) (a := 115) (t_115 _) rfl r_115 dX4_senses_24 ?_
    exact s_iret (pc := 25) dX4_senses_25 rfl (fun h => h)
  refine s_iconst (pc := 10) dX4_senses_10 ?_
  refine s_goto (pc := 11) (tgt := 25) dX4_senses_11 rfl ?_
  exact s_iret (pc := 25) dX4_senses_25 rfl (fun h => h)
theorem kX4_senses {G : GG} {sz sl : Nat} {td : TT}  (c : CC) (x : Int) (h : fX4_senses  c = some x) : Ct G yX4_senses muX4_senses [(2, 111)] (sz, sl, tt td, cv c) ((0, x), (sz, sl, tt td, cv c)) :=
  Ct.of (n := 0) (ls0 := [some (2, 111)]) (by decide) rfl rfl ⟨by decide, by decide⟩ (Nat.le_of_ble_eq_true rfl) rfl ⟨Nat.le_refl _, Nat.le_refl _⟩ (show (0 : Nat) ≠ 9 by decide) (fun Γ => sX4_senses  c x h rfl)
