/-! LAYER 2: methods of HeldTongue, by gen/decomp2.py -/
set_option maxRecDepth 100000
theorem mvX0_392 [Inhabited OrcS] : MV RX0 392 RX0 yX0_saidSet muX0_saidSet 4 := ⟨lw_V q1207 q1209 qs52 q125 q1210, by decide +kernel, Nat.le_of_ble_eq_true rfl⟩
abbrev muX0_begunBy [Inhabited OrcS] : MI := (cX0_begunBy, RX0, 14, some (.array .int), 3 * oSN + 32, "begunBy")
noncomputable def fX0_begunBy_j72 [Inhabited OrcS] (v1 : Int) (v2 : Int) (v3 : Int) (v4 : Int) (v5 : Int) (v6 : Int) (v7 : Int) (v8 : Int) (v9 : Int) (v10 : Int) (w0 : Int) (sz : Nat) (sl : Nat) (td : TT) (c : CC) : Option ((Int × CC) ⊕ ((Int × Int × Int × CC) ⊕ (CC))) :=
  if w0 = 0 then
  (if v10 = 0 then
  (gd (inR (v8 + 1)) <| bd (v8 + 1) fun v8_10 =>
   some (.inl (v8_10, c)))
  else
  (cl (fX0_directly v1 v9 v10 v3 td c) fun p_11 =>
   if p_11.1 = v4 then
  (some (.inr (.inl (v9, v10, w0, p_11.2))))
  else
  (gd (inR (v8 + 1)) <| bd (v8 + 1) fun v8_12 =>
   some (.inl (v8_12, p_11.2)))))
  else
  (cl (fV_kind v9 1 0 td c) fun p_13 =>
   cl (fX0_fewestOf v1 p_13 v3 c) fun p_14 =>
   gd (inR (p_14 + 1)) <|
   if p_14 + 1 = v4 then
  (some (.inr (.inl (v9, v10, w0, c))))
  else
  (gd (inR (v8 + 1)) <| bd (v8 + 1) fun v8_15 =>
   some (.inl (v8_15, c))))
abbrev gX0_begunBy_l23 [Inhabited OrcS] (G : GG) (Γ : Cx) (r : Vv × Wd) (sz sl : Nat) (td : TT) (c : CC) (v1 : Int) (v2 : Int) (v3 : Int) (v4 : Int) (v5 : Int) (v6 : Int) (v7 : Int) : (Int × CC) → Prop := fun s => WP G Γ muX0_begunBy r 23 [some (2, 43), some (0, v1), some (0, v2), some (0, v3), some (0, v4), some (2, v5), some (2, v6), some (0, v7), some (0, s.1), none, none, none, none, none] [] (sz, sl, tt td, cv s.2)
abbrev eX0_begunBy_l23 [Inhabited OrcS] (G : GG) (Γ : Cx) (r : Vv × Wd) (sz sl : Nat) (td : TT) (c : CC) (v1 : Int) (v2 : Int) (v3 : Int) (v4 : Int) (v5 : Int) (v6 : Int) (v7 : Int) : ((Int × Int × Int × CC) ⊕ (CC)) → Prop := (Sum.elim (fun s => WP G Γ muX0_begunBy r 125 [some (2, 43), some (0, v1), none, some (0, v3), none, some (2, v5), none, none, none, some (2, s.1), some (0, s.2.1), some (0, s.2.2.1), none, none] [] (sz, sl, tt td, cv s.2.2.2)) (fun s => WP G Γ muX0_begunBy r 266 [none, none, none, none, none, some (2, v5), none, none, none, none, none, none, none, none] [] (sz, sl, tt td, cv s)))
theorem sX0_begunBy_j72 [Inhabited OrcS] {G : GG} {Γ : Cx} {r : Vv × Wd}  (v1 : Int) (v2 : Int) (v3 : Int) (v4 : Int) (v5 : Int) (v6 : Int) (v7 : Int) (v8 : Int) (v9 : Int) (v10 : Int) (w0 : Int) (sz : Nat) (sl : Nat) (td : TT) (c : CC) [hO : Nonempty (PLift (oSOK G))] : Sm (fX0_begunBy_j72 v1 v2 v3 v4 v5 v6 v7 v8 v9 v10 w0 sz sl td c) (fun x => Sum.elim (gX0_begunBy_l23 G Γ r sz sl td c v1 v2 v3 v4 v5 v6 v7) (eX0_begunBy_l23 G Γ r sz sl td c v1 v2 v3 v4 v5 v6 v7) x) (WP G Γ muX0_begunBy r 72 [some (2, 43), some (0, v1), some (0, v2), some (0, v3), some (0, v4), some (2, v5), some (2, v6), some (0, v7), some (0, v8), some (2, v9), some (0, v10), none, none, none] [(0, w0)] (sz, sl, tt td, cv c)) := by
  unfold fX0_begunBy_j72
  refine s_istoreD (pc := 72) (ls' := [some (2, 43), some (0, v1), some (0, v2), some (0, v3), some (0, v4), some (2, v5), some (2, v6), some (0, v7), some (0, v8), some (2, v9), some (0, v10), some (0, w0), none, none]) dX0_begunBy_72 rfl (Nat.le_of_ble_eq_true rfl) ?_
  refine s_iload (pc := 74) dX0_begunBy_74 rfl ?_
  refine s_if_eq (pc := 76) (tgt := 102) dX0_begunBy_76 rfl ?_ ?_
  · refine s_iload (pc := 102) dX0_begunBy_102 rfl ?_
    refine s_if_eq (pc := 104) (tgt := 260) dX0_begunBy_104 rfl ?_ ?_
    · refine s_iinc (pc := 260) (lf := fun x => [some (2, 43), some (0, v1), some (0, v2), some (0, v3), some (0, v4), some (2, v5), some (2, v6), some (0, v7), some (0, x), some (2, v9), some (0, v10), some (0, w0), none, none]) dX0_begunBy_260 rfl (fun _ => rfl) (Nat.le_of_ble_eq_true rfl) (fun v8_10 => ?_)
      refine s_goto (pc := 263) (tgt := 23) dX0_begunBy_263 rfl ?_
      refine s_wk [true, true, true, true, true, true, true, true, true, false, false, false, true, true] (ls' := [some (2, 43), some (0, v1), some (0, v2), some (0, v3), some (0, v4), some (2, v5), some (2, v6), some (0, v7), some (0, v8_10), none, none, none, none, none]) rfl ?_
      exact Sm.some (fun h => h)
    refine s_aload_n (pc := 107) dX0_begunBy_107 rfl ?_
    refine s_iload_n (pc := 108) dX0_begunBy_108 rfl ?_
    refine s_aload (pc := 109) dX0_begunBy_109 rfl ?_
    refine s_iload (pc := 111) dX0_begunBy_111 rfl ?_
    refine s_iload_n (pc := 113) dX0_begunBy_113 rfl ?_
    refine s_callV3 (pc := 114) (a := 43) (as := [(0, v1), (2, v9), (0, v10), (0, v3)]) (st := []) (rv := fun b => ((0, b.1), (sz, sl, tt td, cv b.2))) (st3 := fun b => [(0, b.1)]) (w3 := fun b => (sz, sl, tt td, cv b.2)) mvX0_368 (fun b h => kX0_directly v1 v9 v10 v3 td c b h) rfl (by first | decide | exact Nat.le_trans (by decide) (Nat.le_add_left 32 _)) (t_43 td) rfl rfl rfl (Nat.le_of_ble_eq_true rfl) (fun _ => Nat.le_of_ble_eq_true rfl) (fun _ => ⟨rfl, rfl⟩) dX0_begunBy_114 (fun p_11 => ?_)
    refine s_iload (pc := 117) dX0_begunBy_117 rfl ?_
    refine s_icmp_eq (pc := 119) (tgt := 125) dX0_begunBy_119 rfl ?_ ?_
    · refine s_wk [true, true, false, true, false, true, false, false, false, true, true, true, true, true] (ls' := [some (2, 43), some (0, v1), none, some (0, v3), none, some (2, v5), none, none, none, some (2, v9), some (0, v10), some (0, w0), none, none]) rfl ?_
      exact Sm.some (fun h => h)
    refine s_goto (pc := 122) (tgt := 260) dX0_begunBy_122 rfl ?_
    refine s_iinc (pc := 260) (lf := fun x => [some (2, 43), some (0, v1), some (0, v2), some (0, v3), some (0, v4), some (2, v5), some (2, v6), some (0, v7), some (0, x), some (2, v9), some (0, v10), some (0, w0), none, none]) dX0_begunBy_260 rfl (fun _ => rfl) (Nat.le_of_ble_eq_true rfl) (fun v8_12 => ?_)
    refine s_goto (pc := 263) (tgt := 23) dX0_begunBy_263 rfl ?_
    refine s_wk [true, true, true, true, true, true, true, true, true, false, false, false, true, true] (ls' := [some (2, 43), some (0, v1), some (0, v2), some (0, v3), some (0, v4), some (2, v5), some (2, v6), some (0, v7), some (0, v8_12), none, none, none, none, none]) rfl ?_
    exact Sm.some (fun h => h)
  refine s_aload_n (pc := 79) dX0_begunBy_79 rfl ?_
  refine s_iload_n (pc := 80) dX0_begunBy_80 rfl ?_
  refine s_aload (pc := 81) dX0_begunBy_81 rfl ?_
  refine s_iconst (pc := 83) dX0_begunBy_83 ?_
  refine s_iconst (pc := 84) dX0_begunBy_84 ?_
  refine s_callU (pc := 85) (z := v9) (as := [(0, 1), (0, 0)]) (st := [(0, v1), (2, 43)]) (rv := fun b => ((0, b), (sz, sl, tt td, cv c))) (st3 := fun b => [(0, b), (0, v1), (2, 43)]) (w3 := fun b => (sz, sl, tt td, cv c)) rfl rfl (fun b h => vdX0_175 v9 1 0 td c b h (by first | decide | exact Nat.le_trans (by decide) (Nat.le_add_left 32 _))) (Nat.le_of_ble_eq_true rfl) (fun _ => Nat.le_of_ble_eq_true rfl) (fun _ => ⟨rfl, rfl⟩) dX0_begunBy_85 (fun p_13 => ?_)
  refine s_iload_n (pc := 88) dX0_begunBy_88 rfl ?_
  refine s_callV3 (pc := 89) (a := 43) (as := [(0, v1), (0, p_13), (0, v3)]) (st := []) (rv := fun b => ((0, b), (sz, sl, tt td, cv c))) (st3 := fun b => [(0, b)]) (w3 := fun b => (sz, sl, tt td, cv c)) mvX0_357 (fun b h => kX0_fewestOf v1 p_13 v3 c b h) rfl (by first | decide | exact Nat.le_trans (by decide) (Nat.le_add_left 32 _)) (t_43 td) rfl rfl rfl (Nat.le_of_ble_eq_true rfl) (fun _ => Nat.le_of_ble_eq_true rfl) (fun _ => ⟨rfl, rfl⟩) dX0_begunBy_89 (fun p_14 => ?_)
  refine s_iconst (pc := 92) dX0_begunBy_92 ?_
  refine s_iadd (pc := 93) dX0_begunBy_93 ?_
  refine s_iload (pc := 94) dX0_begunBy_94 rfl ?_
  refine s_icmp_eq (pc := 96) (tgt := 125) dX0_begunBy_96 rfl ?_ ?_
  · refine s_wk [true, true, false, true, false, true, false, false, false, true, true, true, true, true] (ls' := [some (2, 43), some (0, v1), none, some (0, v3), none, some (2, v5), none, none, none, some (2, v9), some (0, v10), some (0, w0), none, none]) rfl ?_
    exact Sm.some (fun h => h)
  refine s_goto (pc := 99) (tgt := 260) dX0_begunBy_99 rfl ?_
  refine s_iinc (pc := 260) (lf := fun x => [some (2, 43), some (0, v1), some (0, v2), some (0, v3), some (0, v4), some (2, v5), some (2, v6), some (0, v7), some (0, x), some (2, v9), some (0, v10), some (0, w0), none, none]) dX0_begunBy_260 rfl (fun _ => rfl) (Nat.le_of_ble_eq_true rfl) (fun v8_15 => ?_)
  refine s_goto (pc := 263) (tgt := 23) dX0_begunBy_263 rfl ?_
  refine s_wk [true, true, true, true, true, true, true, true, true, false, false, false, true, true] (ls' := [some (2, 43), some (0, v1), some (0, v2), some (0, v3), some (0, v4), some (2, v5), some (2, v6), some (0, v7), some (0, v8_15), none, none, none, none, none]) rfl ?_
  exact Sm.some (fun h => h)
noncomputable def fX0_begunBy_l23 [Inhabited OrcS] (v1 : Int) (v2 : Int) (v3 : Int) (v4 : Int) (v5 : Int) (v6 : Int) (v7 : Int) (v8 : Int) (sz : Nat) (sl : Nat) (td : TT) (c : CC) : Option ((Int × CC) ⊕ ((Int × Int × Int × CC) ⊕ (CC))) :=
  if v8 < v7 then
  (gd ((0 : Int) ≤ v6 ∧ (tt td (Int.toNat v6)).1 = 55 ∧ (0 : Int) ≤ v8 ∧ v8 < ((tt td (Int.toNat v6)).2 : Int)) <|
   bd (cv c (Int.toNat v6) (Int.toNat v8)) fun v9_7 =>
   gd ((0 : Int) ≤ v9_7 ∧ 6 ≤ (tt td (Int.toNat v9_7)).1 ∧ (tt td (Int.toNat v9_7)).1 ≤ 10) <|
   if cv c (Int.toNat v9_7) 2 = v2 then
  (cl (fX0_meantBy v9_7 v1 td c) fun p_8 =>
   cl (fV_sort v9_7  td c) fun p_9 =>
   if p_9 = -1 then
  (fX0_begunBy_j72 v1 v2 v3 v4 v5 v6 v7 v8 v9_7 p_8 1 sz sl td c)
  else
  (fX0_begunBy_j72 v1 v2 v3 v4 v5 v6 v7 v8 v9_7 p_8 0 sz sl td c))
  else
  (gd (inR (v8 + 1)) <| bd (v8 + 1) fun v8_16 =>
   some (.inl (v8_16, c))))
  else
  (some (.inr (.inr c)))
theorem sX0_begunBy_l23 [Inhabited OrcS] {G : GG} {Γ : Cx} {r : Vv × Wd}  (v1 : Int) (v2 : Int) (v3 : Int) (v4 : Int) (v5 : Int) (v6 : Int) (v7 : Int) (v8 : Int) (sz : Nat) (sl : Nat) (td : TT) (c : CC) [hO : Nonempty (PLift (oSOK G))] : Sm (fX0_begunBy_l23 v1 v2 v3 v4 v5 v6 v7 v8 sz sl td c) (fun x => Sum.elim (gX0_begunBy_l23 G Γ r sz sl td c v1 v2 v3 v4 v5 v6 v7) (eX0_begunBy_l23 G Γ r sz sl td c v1 v2 v3 v4 v5 v6 v7) x) (gX0_begunBy_l23 G Γ r sz sl td c v1 v2 v3 v4 v5 v6 v7 (v8, c)) := by
  show Sm _ _ (WP G Γ muX0_begunBy r 23 [some (2, 43), some (0, v1), some (0, v2), some (0, v3), some (0, v4), some (2, v5), some (2, v6), some (0, v7), some (0, v8), none, none, none, none, none] [] (sz, sl, tt td, cv c))
  unfold fX0_begunBy_l23
  refine s_iload (pc := 23) dX0_begunBy_23 rfl ?_
  refine s_iload (pc := 25) dX0_begunBy_25 rfl ?_
  refine s_icmp_ge (pc := 27) (tgt := 266) dX0_begunBy_27 rfl ?_ ?_
  · refine s_wk [false, false, false, false, false, true, false, false, false, true, true, true, true, true] (ls' := [none, none, none, none, none, some (2, v5), none, none, none, none, none, none, none, none]) rfl ?_
    exact Sm.some (fun h => h)
  refine s_aload (pc := 30) dX0_begunBy_30 rfl ?_
  refine s_iload (pc := 32) dX0_begunBy_32 rfl ?_
  refine s_aald5D (pc := 34) dX0_begunBy_34 ?_
  refine s_astore (pc := 35) (lf := fun x => [some (2, 43), some (0, v1), some (0, v2), some (0, v3), some (0, v4), some (2, v5), some (2, v6), some (0, v7), some (0, v8), some (2, x), none, none, none, none]) dX0_begunBy_35 (fun _ => rfl) (Nat.le_of_ble_eq_true rfl) (fun v9_7 => ?_)
  refine s_aload (pc := 37) dX0_begunBy_37 rfl ?_
  refine s_getS (pc := 39) fsX0_196 dX0_begunBy_39 ?_
  refine s_iload_n (pc := 42) dX0_begunBy_42 rfl ?_
  refine s_icmp_eq (pc := 43) (tgt := 49) dX0_begunBy_43 rfl ?_ ?_
  · refine s_aload_n (pc := 49) dX0_begunBy_49 rfl ?_
    refine s_aload (pc := 50) dX0_begunBy_50 rfl ?_
    refine s_iload_n (pc := 52) dX0_begunBy_52 rfl ?_
    refine s_callV3 (pc := 53) (a := 43) (as := [(2, v9_7), (0, v1)]) (st := []) (rv := fun b => ((0, b), (sz, sl, tt td, cv c))) (st3 := fun b => [(0, b)]) (w3 := fun b => (sz, sl, tt td, cv c)) mvX0_364 (fun b h => kX0_meantBy v9_7 v1 td c b h) rfl (by first | decide | exact Nat.le_trans (by decide) (Nat.le_add_left 32 _)) (t_43 td) rfl rfl rfl (Nat.le_of_ble_eq_true rfl) (fun _ => Nat.le_of_ble_eq_true rfl) (fun _ => ⟨rfl, rfl⟩) dX0_begunBy_53 (fun p_8 => ?_)
    refine s_istoreD (pc := 56) (ls' := [some (2, 43), some (0, v1), some (0, v2), some (0, v3), some (0, v4), some (2, v5), some (2, v6), some (0, v7), some (0, v8), some (2, v9_7), some (0, p_8), none, none, none]) dX0_begunBy_56 rfl (Nat.le_of_ble_eq_true rfl) ?_
    refine s_aload (pc := 58) dX0_begunBy_58 rfl ?_
    refine s_callU (pc := 60) (z := v9_7) (as := []) (st := []) (rv := fun b => ((0, b), (sz, sl, tt td, cv c))) (st3 := fun b => [(0, b)]) (w3 := fun b => (sz, sl, tt td, cv c)) rfl rfl (fun b h => vdX0_178 v9_7  td c b h (by first | decide | exact Nat.le_trans (by decide) (Nat.le_add_left 32 _))) (Nat.le_of_ble_eq_true rfl) (fun _ => Nat.le_of_ble_eq_true rfl) (fun _ => ⟨rfl, rfl⟩) dX0_begunBy_60 (fun p_9 => ?_)
    refine s_iconst (pc := 63) dX0_begunBy_63 ?_
    refine s_icmp_ne (pc := 64) (tgt := 71) dX0_begunBy_64 rfl ?_ ?_
    · refine s_iconst (pc := 71) dX0_begunBy_71 ?_
      exact sX0_begunBy_j72 v1 v2 v3 v4 v5 v6 v7 v8 v9_7 p_8 0 sz sl td c
    refine s_iconst (pc := 67) dX0_begunBy_67 ?_
    refine s_goto (pc := 68) (tgt := 72) dX0_begunBy_68 rfl ?_
    exact sX0_begunBy_j72 v1 v2 v3 v4 v5 v6 v7 v8 v9_7 p_8 1 sz sl td c
  refine s_goto (pc := 46) (tgt := 260) dX0_begunBy_46 rfl ?_
  refine s_iinc (pc := 260) (lf := fun x => [some (2, 43), some (0, v1), some (0, v2), some (0, v3), some (0, v4), some (2, v5), some (2, v6), some (0, v7), some (0, x), some (2, v9_7), none, none, none, none]) dX0_begunBy_260 rfl (fun _ => rfl) (Nat.le_of_ble_eq_true rfl) (fun v8_16 => ?_)
  refine s_goto (pc := 263) (tgt := 23) dX0_begunBy_263 rfl ?_
  refine s_wk [true, true, true, true, true, true, true, true, true, false, true, true, true, true] (ls' := [some (2, 43), some (0, v1), some (0, v2), some (0, v3), some (0, v4), some (2, v5), some (2, v6), some (0, v7), some (0, v8_16), none, none, none, none, none]) rfl ?_
  exact Sm.some (fun h => h)
abbrev gX0_begunBy_l209 [Inhabited OrcS] (G : GG) (Γ : Cx) (r : Vv × Wd) (sz sl : Nat) (td : TT) (c : CC) (v1 : Int) (v3 : Int) (v5 : Int) (v9 : Int) (v10 : Int) : (Int × Int × Nat × Nat × TT × CC) → Prop := fun s => WP G Γ muX0_begunBy r 209 [some (2, 43), some (0, v1), none, some (0, v3), none, some (2, v5), none, none, none, some (2, v9), some (0, v10), none, some (0, s.1), some (0, s.2.1)] [] (s.2.2.1, s.2.2.2.1, tt s.2.2.2.2.1, cv s.2.2.2.2.2)
abbrev eX0_begunBy_l209 [Inhabited OrcS] (G : GG) (Γ : Cx) (r : Vv × Wd) (sz sl : Nat) (td : TT) (c : CC) (v1 : Int) (v3 : Int) (v5 : Int) (v9 : Int) (v10 : Int) : (Nat × Nat × TT × CC) → Prop := (fun s => WP G Γ muX0_begunBy r 257 [none, none, none, none, none, some (2, v5), none, none, none, none, none, none, none, none] [] (s.1, s.2.1, tt s.2.2.1, cv s.2.2.2))
noncomputable def fX0_begunBy_l209 [Inhabited OrcS] (v1 : Int) (v3 : Int) (v5 : Int) (v9 : Int) (v10 : Int) (v12 : Int) (v13 : Int) (sz : Nat) (sl : Nat) (td : TT) (c : CC) : Option ((Int × Int × Nat × Nat × TT × CC) ⊕ (Nat × Nat × TT × CC)) :=
  if v13 < 0 then
  (some (.inr (sz, sl, td, c)))
  else
  (cl (fX0_thing v1 v9 v10 v13 td c) fun p_22 =>
   cl (fV_kind v9 v10 v13 td c) fun p_23 =>
   gd (inR (v3 - v13)) <|
   cl (oS p_22 p_23 (v3 - v13) sz sl td c) fun p_24 =>
   cl (fX0_laid v5 v12 p_24.1 p_24.2.2.2.1 p_24.2.2.2.2) fun p_25 =>
   gd (inR (v13 + -1)) <| bd (v13 + -1) fun v13_26 =>
   some (.inl (p_25.1, v13_26, p_24.2.1, p_24.2.2.1, p_24.2.2.2.1, p_25.2)))
theorem sX0_begunBy_l209 [Inhabited OrcS] {G : GG} {Γ : Cx} {r : Vv × Wd}  (v1 : Int) (v3 : Int) (v5 : Int) (v9 : Int) (v10 : Int) (v12 : Int) (v13 : Int) (sz : Nat) (sl : Nat) (td : TT) (c : CC) [hO : Nonempty (PLift (oSOK G))] : Sm (fX0_begunBy_l209 v1 v3 v5 v9 v10 v12 v13 sz sl td c) (fun x => Sum.elim (gX0_begunBy_l209 G Γ r sz sl td c v1 v3 v5 v9 v10) (eX0_begunBy_l209 G Γ r sz sl td c v1 v3 v5 v9 v10) x) (gX0_begunBy_l209 G Γ r sz sl td c v1 v3 v5 v9 v10 (v12, v13, sz, sl, td, c)) := by
  show Sm _ _ (WP G Γ muX0_begunBy r 209 [some (2, 43), some (0, v1), none, some (0, v3), none, some (2, v5), none, none, none, some (2, v9), some (0, v10), none, some (0, v12), some (0, v13)] [] (sz, sl, tt td, cv c))
  unfold fX0_begunBy_l209
  refine s_iload (pc := 209) dX0_begunBy_209 rfl ?_
  refine s_if_lt (pc := 211) (tgt := 257) dX0_begunBy_211 rfl ?_ ?_
  · refine s_wk [false, false, true, false, true, true, true, true, true, false, false, true, false, false] (ls' := [none, none, none, none, none, some (2, v5), none, none, none, none, none, none, none, none]) rfl ?_
    exact Sm.some (fun h => h)
  refine s_aload (pc := 214) dX0_begunBy_214 rfl ?_
  refine s_iload (pc := 216) dX0_begunBy_216 rfl ?_
  refine s_aload_n (pc := 218) dX0_begunBy_218 rfl ?_
  refine s_aload_n (pc := 219) dX0_begunBy_219 rfl ?_
  refine s_iload_n (pc := 220) dX0_begunBy_220 rfl ?_
  refine s_aload (pc := 221) dX0_begunBy_221 rfl ?_
  refine s_iload (pc := 223) dX0_begunBy_223 rfl ?_
  refine s_iload (pc := 225) dX0_begunBy_225 rfl ?_
  refine s_callV3 (pc := 227) (a := 43) (as := [(0, v1), (2, v9), (0, v10), (0, v13)]) (st := [(2, 43), (0, v12), (2, v5)]) (rv := fun b => ((0, b), (sz, sl, tt td, cv c))) (st3 := fun b => [(0, b), (2, 43), (0, v12), (2, v5)]) (w3 := fun b => (sz, sl, tt td, cv c)) mvX0_360 (fun b h => kX0_thing v1 v9 v10 v13 td c b h) rfl (by first | decide | exact Nat.le_trans (by decide) (Nat.le_add_left 32 _)) (t_43 td) rfl rfl rfl (Nat.le_of_ble_eq_true rfl) (fun _ => Nat.le_of_ble_eq_true rfl) (fun _ => ⟨rfl, rfl⟩) dX0_begunBy_227 (fun p_22 => ?_)
  refine s_aload (pc := 230) dX0_begunBy_230 rfl ?_
  refine s_iload (pc := 232) dX0_begunBy_232 rfl ?_
  refine s_iload (pc := 234) dX0_begunBy_234 rfl ?_
  refine s_callU (pc := 236) (z := v9) (as := [(0, v10), (0, v13)]) (st := [(0, p_22), (2, 43), (0, v12), (2, v5)]) (rv := fun b => ((0, b), (sz, sl, tt td, cv c))) (st3 := fun b => [(0, b), (0, p_22), (2, 43), (0, v12), (2, v5)]) (w3 := fun b => (sz, sl, tt td, cv c)) rfl rfl (fun b h => vdX0_175 v9 v10 v13 td c b h (by first | decide | exact Nat.le_trans (by decide) (Nat.le_add_left 32 _))) (Nat.le_of_ble_eq_true rfl) (fun _ => Nat.le_of_ble_eq_true rfl) (fun _ => ⟨rfl, rfl⟩) dX0_begunBy_236 (fun p_23 => ?_)
  refine s_iload_n (pc := 239) dX0_begunBy_239 rfl ?_
  refine s_iload (pc := 240) dX0_begunBy_240 rfl ?_
  refine s_isub (pc := 242) dX0_begunBy_242 ?_
  refine s_callV3 (pc := 243) (a := 43) (as := [(0, p_22), (0, p_23), (0, v3 - v13)]) (st := [(0, v12), (2, v5)]) (rv := fun b => ((2, b.1), (b.2.1, b.2.2.1, tt b.2.2.2.1, cv b.2.2.2.2))) (st3 := fun b => [(2, b.1), (0, v12), (2, v5)]) (w3 := fun b => (b.2.1, b.2.2.1, tt b.2.2.2.1, cv b.2.2.2.2)) (mvoX0_384 (3 * oSN + 30)) (fun b h => hO.elim (fun q => q.down p_22 p_23 (v3 - v13) sz sl td c b h)) rfl (Nat.le_succ _) (t_43 td) rfl rfl rfl (Nat.le_of_ble_eq_true rfl) (fun _ => Nat.le_of_ble_eq_true rfl) (fun _ => ⟨rfl, rfl⟩) dX0_begunBy_243 (fun p_24 => ?_)
  refine s_callS3 (pc := 246) (as := [(2, v5), (0, v12), (2, p_24.1)]) (st := []) (rv := fun b => ((0, b.1), (p_24.2.1, p_24.2.2.1, tt p_24.2.2.2.1, cv b.2))) (st3 := fun b => [(0, b.1)]) (w3 := fun b => (p_24.2.1, p_24.2.2.1, tt p_24.2.2.2.1, cv b.2)) msX0_388 (fun b h => kX0_laid v5 v12 p_24.1 p_24.2.2.2.1 p_24.2.2.2.2 b h) rfl (by first | decide | exact Nat.le_trans (by decide) (Nat.le_add_left 32 _)) rfl (Nat.le_of_ble_eq_true rfl) (fun _ => Nat.le_of_ble_eq_true rfl) (fun _ => ⟨rfl, rfl⟩) dX0_begunBy_246 (fun p_25 => ?_)
  refine s_istoreD (pc := 249) (ls' := [some (2, 43), some (0, v1), none, some (0, v3), none, some (2, v5), none, none, none, some (2, v9), some (0, v10), none, some (0, p_25.1), some (0, v13)]) dX0_begunBy_249 rfl (Nat.le_of_ble_eq_true rfl) ?_
  refine s_iinc (pc := 251) (lf := fun x => [some (2, 43), some (0, v1), none, some (0, v3), none, some (2, v5), none, none, none, some (2, v9), some (0, v10), none, some (0, p_25.1), some (0, x)]) dX0_begunBy_251 rfl (fun _ => rfl) (Nat.le_of_ble_eq_true rfl) (fun v13_26 => ?_)
  refine s_goto (pc := 254) (tgt := 209) dX0_begunBy_254 rfl ?_
  exact Sm.some (fun h => h)
noncomputable def fX0_begunBy_j125 [Inhabited OrcS] (v1 : Int) (v3 : Int) (v5 : Int) (v9 : Int) (v10 : Int) (v11 : Int) (sz : Nat) (sl : Nat) (td : TT) (c : CC) : Option (Int × Nat × Nat × TT × CC) :=
  gd ((0 : Int) ≤ v9 ∧ 6 ≤ (tt td (Int.toNat v9)).1 ∧ (tt td (Int.toNat v9)).1 ≤ 10) <|
   gd (168 ≤ v5 ∧ (tt td (Int.toNat v5)).1 = 50 ∧ (0 : Int) ≤ 0 ∧ (0 : Int) < ((tt td (Int.toNat v5)).2 : Int)) <| bd (up2 c (Int.toNat v5) (Int.toNat 0) (cv c (Int.toNat v9) 0)) fun c_18 =>
   if v11 = 0 then
  (cl (fV_sort v9  td c_18) fun p_19 =>
   if p_19 = 2 then
  (cl (fX0_saidSet v1 v9 v10 v3 sz sl td c_18) fun p_28 =>
   cl (fX0_laid v5 1 p_28.1 p_28.2.2.2.1 p_28.2.2.2.2) fun p_29 =>
   some (v5, p_28.2.1, p_28.2.2.1, p_28.2.2.2.1, p_29.2))
  else
  (cl (fV_takes v9 v10 td c_18) fun p_20 =>
   gd (inR (p_20 - 1)) <|
   bd (p_20 - 1) fun v13_21 =>
   cl (wh (fun s => fX0_begunBy_l209 v1 v3 v5 v9 v10 s.1 s.2.1 s.2.2.1 s.2.2.2.1 s.2.2.2.2.1 s.2.2.2.2.2) (1, v13_21, sz, sl, td, c_18)) (fun e_27 =>
  some (v5, e_27.1, e_27.2.1, e_27.2.2.1, e_27.2.2.2))))
  else
  (cl (fV_kind v9 1 0 td c_18) fun p_30 =>
   cl (oS v1 p_30 v3 sz sl td c_18) fun p_31 =>
   cl (fX0_laid v5 1 p_31.1 p_31.2.2.2.1 p_31.2.2.2.2) fun p_32 =>
   some (v5, p_31.2.1, p_31.2.2.1, p_31.2.2.2.1, p_32.2))
theorem sX0_begunBy_j125 [Inhabited OrcS] {G : GG} {Γ : Cx} {r : Vv × Wd}  (v1 : Int) (v3 : Int) (v5 : Int) (v9 : Int) (v10 : Int) (v11 : Int) (sz : Nat) (sl : Nat) (td : TT) (c : CC) [hO : Nonempty (PLift (oSOK G))] : Sm (fX0_begunBy_j125 v1 v3 v5 v9 v10 v11 sz sl td c) (fun x => r = ((2, x.1), (x.2.1, x.2.2.1, tt x.2.2.2.1, cv x.2.2.2.2))) (WP G Γ muX0_begunBy r 125 [some (2, 43), some (0, v1), none, some (0, v3), none, some (2, v5), none, none, none, some (2, v9), some (0, v10), some (0, v11), none, none] [] (sz, sl, tt td, cv c)) := by
  unfold fX0_begunBy_j125
  refine s_aload (pc := 125) dX0_begunBy_125 rfl ?_
  refine s_iconst (pc := 127) dX0_begunBy_127 ?_
  refine s_aload (pc := 128) dX0_begunBy_128 rfl ?_
  refine s_getS (pc := 130) fsX0_243 dX0_begunBy_130 ?_
  refine s_iastDM (pc := 133) dX0_begunBy_133 (fun c_18 => ?_)
  refine s_iconst (pc := 134) dX0_begunBy_134 ?_
  refine s_istoreD (pc := 135) (ls' := [some (2, 43), some (0, v1), none, some (0, v3), none, some (2, v5), none, none, none, some (2, v9), some (0, v10), some (0, v11), some (0, 1), none]) dX0_begunBy_135 rfl (Nat.le_of_ble_eq_true rfl) ?_
  refine s_iload (pc := 137) dX0_begunBy_137 rfl ?_
  refine s_if_eq (pc := 139) (tgt := 167) dX0_begunBy_139 rfl ?_ ?_
  · refine s_aload (pc := 167) dX0_begunBy_167 rfl ?_
    refine s_callU (pc := 169) (z := v9) (as := []) (st := []) (rv := fun b => ((0, b), (sz, sl, tt td, cv c_18))) (st3 := fun b => [(0, b)]) (w3 := fun b => (sz, sl, tt td, cv c_18)) rfl rfl (fun b h => vdX0_178 v9  td c_18 b h (by first | decide | exact Nat.le_trans (by decide) (Nat.le_add_left 32 _))) (Nat.le_of_ble_eq_true rfl) (fun _ => Nat.le_of_ble_eq_true rfl) (fun _ => ⟨rfl, rfl⟩) dX0_begunBy_169 (fun p_19 => ?_)
    refine s_iconst (pc := 172) dX0_begunBy_172 ?_
    refine s_icmp_ne (pc := 173) (tgt := 198) dX0_begunBy_173 rfl ?_ ?_
    · refine s_aload (pc := 198) dX0_begunBy_198 rfl ?_
      refine s_iload (pc := 200) dX0_begunBy_200 rfl ?_
      refine s_callU (pc := 202) (z := v9) (as := [(0, v10)]) (st := []) (rv := fun b => ((0, b), (sz, sl, tt td, cv c_18))) (st3 := fun b => [(0, b)]) (w3 := fun b => (sz, sl, tt td, cv c_18)) rfl rfl (fun b h => vdX0_167 v9 v10 td c_18 b h (by first | decide | exact Nat.le_trans (by decide) (Nat.le_add_left 32 _))) (Nat.le_of_ble_eq_true rfl) (fun _ => Nat.le_of_ble_eq_true rfl) (fun _ => ⟨rfl, rfl⟩) dX0_begunBy_202 (fun p_20 => ?_)
      refine s_iconst (pc := 205) dX0_begunBy_205 ?_
      refine s_isub (pc := 206) dX0_begunBy_206 ?_
      refine s_istore (pc := 207) (lf := fun x => [some (2, 43), some (0, v1), none, some (0, v3), none, some (2, v5), none, none, none, some (2, v9), some (0, v10), some (0, v11), some (0, 1), some (0, x)]) dX0_begunBy_207 (fun _ => rfl) (Nat.le_of_ble_eq_true rfl) (fun v13_21 => ?_)
      refine s_wk [true, true, true, true, true, true, true, true, true, true, true, false, true, true] (ls' := [some (2, 43), some (0, v1), none, some (0, v3), none, some (2, v5), none, none, none, some (2, v9), some (0, v10), none, some (0, 1), some (0, v13_21)]) rfl ?_
      refine s_loop (g := gX0_begunBy_l209 G Γ r sz sl td c_18 v1 v3 v5 v9 v10) (Ex := eX0_begunBy_l209 G Γ r sz sl td c_18 v1 v3 v5 v9 v10) (s0 := (1, v13_21, sz, sl, td, c_18)) (fun s => sX0_begunBy_l209 v1 v3 v5 v9 v10 s.1 s.2.1 s.2.2.1 s.2.2.2.1 s.2.2.2.2.1 s.2.2.2.2.2) ?_
      intro e_27
      show Sm _ _ (WP G Γ muX0_begunBy r 257 [none, none, none, none, none, some (2, v5), none, none, none, none, none, none, none, none] [] (e_27.1, e_27.2.1, tt e_27.2.2.1, cv e_27.2.2.2))
      refine s_aload (pc := 257) dX0_begunBy_257 rfl ?_
      exact s_aret (pc := 259) dX0_begunBy_259 rfl ⟨rfl, by decide, by decide⟩ (fun h => h)
    refine s_aload (pc := 176) dX0_begunBy_176 rfl ?_
    refine s_iload (pc := 178) dX0_begunBy_178 rfl ?_
    refine s_aload_n (pc := 180) dX0_begunBy_180 rfl ?_
    refine s_iload_n (pc := 181) dX0_begunBy_181 rfl ?_
    refine s_aload (pc := 182) dX0_begunBy_182 rfl ?_
    refine s_iload (pc := 184) dX0_begunBy_184 rfl ?_
    refine s_iload_n (pc := 186) dX0_begunBy_186 rfl ?_
    refine s_callV3 (pc := 187) (a := 43) (as := [(0, v1), (2, v9), (0, v10), (0, v3)]) (st := [(0, 1), (2, v5)]) (rv := fun b => ((2, b.1), (b.2.1, b.2.2.1, tt b.2.2.2.1, cv b.2.2.2.2))) (st3 := fun b => [(2, b.1), (0, 1), (2, v5)]) (w3 := fun b => (b.2.1, b.2.2.1, tt b.2.2.2.1, cv b.2.2.2.2)) mvX0_392 (fun b h => kX0_saidSet v1 v9 v10 v3 sz sl td c_18 b h) rfl (Nat.le_refl _) (t_43 td) rfl rfl rfl (Nat.le_of_ble_eq_true rfl) (fun _ => Nat.le_of_ble_eq_true rfl) (fun _ => ⟨rfl, rfl⟩) dX0_begunBy_187 (fun p_28 => ?_)
    refine s_callS3 (pc := 190) (as := [(2, v5), (0, 1), (2, p_28.1)]) (st := []) (rv := fun b => ((0, b.1), (p_28.2.1, p_28.2.2.1, tt p_28.2.2.2.1, cv b.2))) (st3 := fun b => [(0, b.1)]) (w3 := fun b => (p_28.2.1, p_28.2.2.1, tt p_28.2.2.2.1, cv b.2)) msX0_388 (fun b h => kX0_laid v5 1 p_28.1 p_28.2.2.2.1 p_28.2.2.2.2 b h) rfl (by first | decide | exact Nat.le_trans (by decide) (Nat.le_add_left 32 _)) rfl (Nat.le_of_ble_eq_true rfl) (fun _ => Nat.le_of_ble_eq_true rfl) (fun _ => ⟨rfl, rfl⟩) dX0_begunBy_190 (fun p_29 => ?_)
    refine s_istoreD (pc := 193) (ls' := [some (2, 43), some (0, v1), none, some (0, v3), none, some (2, v5), none, none, none, some (2, v9), some (0, v10), some (0, v11), some (0, p_29.1), none]) dX0_begunBy_193 rfl (Nat.le_of_ble_eq_true rfl) ?_
    refine s_goto (pc := 195) (tgt := 257) dX0_begunBy_195 rfl ?_
    refine s_aload (pc := 257) dX0_begunBy_257 rfl ?_
    exact s_aret (pc := 259) dX0_begunBy_259 rfl ⟨rfl, by decide, by decide⟩ (fun h => h)
  refine s_aload (pc := 142) dX0_begunBy_142 rfl ?_
  refine s_iload (pc := 144) dX0_begunBy_144 rfl ?_
  refine s_aload_n (pc := 146) dX0_begunBy_146 rfl ?_
  refine s_iload_n (pc := 147) dX0_begunBy_147 rfl ?_
  refine s_aload (pc := 148) dX0_begunBy_148 rfl ?_
  refine s_iconst (pc := 150) dX0_begunBy_150 ?_
  refine s_iconst (pc := 151) dX0_begunBy_151 ?_
  refine s_callU (pc := 152) (z := v9) (as := [(0, 1), (0, 0)]) (st := [(0, v1), (2, 43), (0, 1), (2, v5)]) (rv := fun b => ((0, b), (sz, sl, tt td, cv c_18))) (st3 := fun b => [(0, b), (0, v1), (2, 43), (0, 1), (2, v5)]) (w3 := fun b => (sz, sl, tt td, cv c_18)) rfl rfl (fun b h => vdX0_175 v9 1 0 td c_18 b h (by first | decide | exact Nat.le_trans (by decide) (Nat.le_add_left 32 _))) (Nat.le_of_ble_eq_true rfl) (fun _ => Nat.le_of_ble_eq_true rfl) (fun _ => ⟨rfl, rfl⟩) dX0_begunBy_152 (fun p_30 => ?_)
  refine s_iload_n (pc := 155) dX0_begunBy_155 rfl ?_
  refine s_callV3 (pc := 156) (a := 43) (as := [(0, v1), (0, p_30), (0, v3)]) (st := [(0, 1), (2, v5)]) (rv := fun b => ((2, b.1), (b.2.1, b.2.2.1, tt b.2.2.2.1, cv b.2.2.2.2))) (st3 := fun b => [(2, b.1), (0, 1), (2, v5)]) (w3 := fun b => (b.2.1, b.2.2.1, tt b.2.2.2.1, cv b.2.2.2.2)) (mvoX0_384 (3 * oSN + 30)) (fun b h => hO.elim (fun q => q.down v1 p_30 v3 sz sl td c_18 b h)) rfl (Nat.le_succ _) (t_43 td) rfl rfl rfl (Nat.le_of_ble_eq_true rfl) (fun _ => Nat.le_of_ble_eq_true rfl) (fun _ => ⟨rfl, rfl⟩) dX0_begunBy_156 (fun p_31 => ?_)
  refine s_callS3 (pc := 159) (as := [(2, v5), (0, 1), (2, p_31.1)]) (st := []) (rv := fun b => ((0, b.1), (p_31.2.1, p_31.2.2.1, tt p_31.2.2.2.1, cv b.2))) (st3 := fun b => [(0, b.1)]) (w3 := fun b => (p_31.2.1, p_31.2.2.1, tt p_31.2.2.2.1, cv b.2)) msX0_388 (fun b h => kX0_laid v5 1 p_31.1 p_31.2.2.2.1 p_31.2.2.2.2 b h) rfl (by first | decide | exact Nat.le_trans (by decide) (Nat.le_add_left 32 _)) rfl (Nat.le_of_ble_eq_true rfl) (fun _ => Nat.le_of_ble_eq_true rfl) (fun _ => ⟨rfl, rfl⟩) dX0_begunBy_159 (fun p_32 => ?_)
  refine s_istoreD (pc := 162) (ls' := [some (2, 43), some (0, v1), none, some (0, v3), none, some (2, v5), none, none, none, some (2, v9), some (0, v10), some (0, v11), some (0, p_32.1), none]) dX0_begunBy_162 rfl (Nat.le_of_ble_eq_true rfl) ?_
  refine s_goto (pc := 164) (tgt := 257) dX0_begunBy_164 rfl ?_
  refine s_aload (pc := 257) dX0_begunBy_257 rfl ?_
  exact s_aret (pc := 259) dX0_begunBy_259 rfl ⟨rfl, by decide, by decide⟩ (fun h => h)
noncomputable def fX0_begunBy [Inhabited OrcS] (a1 : Int) (a2 : Int) (a3 : Int) (a4 : Int) (sz : Nat) (sl : Nat) (td : TT) (c : CC) : Option (Int × Nat × Nat × TT × CC) :=
  gd (kK ≤ sz ∧ (0 : Int) ≤ a4 ∧ a4 ≤ 100000) <| bd (upT td sz (50 + 0, Int.toNat a4)) fun tq_1 => bd (zc c sz (50 + 0)) fun c_2 =>
   bd (((sz : Nat) : Int)) fun v5_3 =>
   cl (fX0_lexicon  tq_1 c_2) fun p_4 =>
   gd ((0 : Int) ≤ p_4 ∧ (tt tq_1 (Int.toNat p_4)).1 = 1) <|
   bd (cv c_2 (Int.toNat p_4) 0) fun v6_5 =>
   gd ((0 : Int) ≤ v6_5 ∧ (tt tq_1 (Int.toNat v6_5)).1 = 55 ∧ (tt tq_1 (Int.toNat v6_5)).2 < 2147483648) <|
   bd (((tt tq_1 (Int.toNat v6_5)).2 : Int)) fun v7_6 =>
   cl (wh (fun s => fX0_begunBy_l23 a1 a2 a3 a4 v5_3 v6_5 v7_6 s.1 (sz + 1) (sl + Int.toNat a4) tq_1 s.2) (0, c_2)) (Sum.elim (fun e_17 =>
  fX0_begunBy_j125 a1 a3 v5_3 e_17.1 e_17.2.1 e_17.2.2.1 (sz + 1) (sl + Int.toNat a4) tq_1 e_17.2.2.2) (fun e_33 =>
  some (v5_3, (sz + 1), (sl + Int.toNat a4), tq_1, e_33)))
theorem sX0_begunBy [Inhabited OrcS] {G : GG} {Γ : Cx} {r : Vv × Wd}  (a1 : Int) (a2 : Int) (a3 : Int) (a4 : Int) (sz : Nat) (sl : Nat) (td : TT) (c : CC) [hO : Nonempty (PLift (oSOK G))] : Sm (fX0_begunBy a1 a2 a3 a4 sz sl td c) (fun x => r = ((2, x.1), (x.2.1, x.2.2.1, tt x.2.2.2.1, cv x.2.2.2.2))) (WP G Γ muX0_begunBy r 0 [some (2, 43), some (0, a1), some (0, a2), some (0, a3), some (0, a4), none, none, none, none, none, none, none, none, none] [] (sz, sl, tt td, cv c)) := by
  unfold fX0_begunBy
  refine s_iload (pc := 0) dX0_begunBy_0 rfl ?_
  refine s_newaM (pc := 2) (at0 := .int) (q := 0) (by decide) rfl q205 (by decide) (fun _ _ h => h) dX0_begunBy_2 (fun tq_1 c_2 => ?_)
  refine s_astore (pc := 4) (lf := fun x => [some (2, 43), some (0, a1), some (0, a2), some (0, a3), some (0, a4), some (2, x), none, none, none, none, none, none, none, none]) dX0_begunBy_4 (fun _ => rfl) (Nat.le_of_ble_eq_true rfl) (fun v5_3 => ?_)
  refine s_aload_n (pc := 6) dX0_begunBy_6 rfl ?_
  refine s_callV3 (pc := 7) (a := 43) (as := []) (st := []) (rv := fun b => ((2, b), (sz + 1, sl + Int.toNat a4, tt tq_1, cv c_2))) (st3 := fun b => [(2, b)]) (w3 := fun b => (sz + 1, sl + Int.toNat a4, tt tq_1, cv c_2)) mvX0_186 (fun b h => kX0_lexicon  tq_1 c_2 b h) rfl (by first | decide | exact Nat.le_trans (by decide) (Nat.le_add_left 32 _)) (t_43 tq_1) rfl rfl rfl (Nat.le_of_ble_eq_true rfl) (fun _ => Nat.le_of_ble_eq_true rfl) (fun _ => ⟨rfl, rfl⟩) dX0_begunBy_7 (fun p_4 => ?_)
  refine s_getDN (pc := 10) fnX0_189 rfl dX0_begunBy_10 ?_
  refine s_astore (pc := 13) (lf := fun x => [some (2, 43), some (0, a1), some (0, a2), some (0, a3), some (0, a4), some (2, v5_3), some (2, x), none, none, none, none, none, none, none]) dX0_begunBy_13 (fun _ => rfl) (Nat.le_of_ble_eq_true rfl) (fun v6_5 => ?_)
  refine s_aload (pc := 15) dX0_begunBy_15 rfl ?_
  refine s_alenD (pc := 17) (q := 5) (by decide) dX0_begunBy_17 ?_
  refine s_istore (pc := 18) (lf := fun x => [some (2, 43), some (0, a1), some (0, a2), some (0, a3), some (0, a4), some (2, v5_3), some (2, v6_5), some (0, x), none, none, none, none, none, none]) dX0_begunBy_18 (fun _ => rfl) (Nat.le_of_ble_eq_true rfl) (fun v7_6 => ?_)
  refine s_iconst (pc := 20) dX0_begunBy_20 ?_
  refine s_istoreD (pc := 21) (ls' := [some (2, 43), some (0, a1), some (0, a2), some (0, a3), some (0, a4), some (2, v5_3), some (2, v6_5), some (0, v7_6), some (0, 0), none, none, none, none, none]) dX0_begunBy_21 rfl (Nat.le_of_ble_eq_true rfl) ?_
  refine s_loop (g := gX0_begunBy_l23 G Γ r (sz + 1) (sl + Int.toNat a4) tq_1 c_2 a1 a2 a3 a4 v5_3 v6_5 v7_6) (Ex := eX0_begunBy_l23 G Γ r (sz + 1) (sl + Int.toNat a4) tq_1 c_2 a1 a2 a3 a4 v5_3 v6_5 v7_6) (s0 := (0, c_2)) (fun s => sX0_begunBy_l23 a1 a2 a3 a4 v5_3 v6_5 v7_6 s.1 (sz + 1) (sl + Int.toNat a4) tq_1 s.2) ?_
  refine s_elim ?_ ?_
  · intro e_17
    show Sm _ _ (WP G Γ muX0_begunBy r 125 [some (2, 43), some (0, a1), none, some (0, a3), none, some (2, v5_3), none, none, none, some (2, e_17.1), some (0, e_17.2.1), some (0, e_17.2.2.1), none, none] [] (sz + 1, sl + Int.toNat a4, tt tq_1, cv e_17.2.2.2))
    exact sX0_begunBy_j125 a1 a3 v5_3 e_17.1 e_17.2.1 e_17.2.2.1 (sz + 1) (sl + Int.toNat a4) tq_1 e_17.2.2.2
  intro e_33
  show Sm _ _ (WP G Γ muX0_begunBy r 266 [none, none, none, none, none, some (2, v5_3), none, none, none, none, none, none, none, none] [] (sz + 1, sl + Int.toNat a4, tt tq_1, cv e_33))
  refine s_aload (pc := 266) dX0_begunBy_266 rfl ?_
  exact s_aret (pc := 268) dX0_begunBy_268 rfl ⟨rfl, by decide, by decide⟩ (fun h => h)
theorem kX0_begunBy [Inhabited OrcS] {G : GG}  (a1 : Int) (a2 : Int) (a3 : Int) (a4 : Int) (sz : Nat) (sl : Nat) (td : TT) (c : CC) [hO : Nonempty (PLift (oSOK G))] (x : (Int × Nat × Nat × TT × CC)) (h : fX0_begunBy a1 a2 a3 a4 sz sl td c = some x) : Ct G yX0_begunBy muX0_begunBy [(2, 43), (0, a1), (0, a2), (0, a3), (0, a4)] (sz, sl, tt td, cv c) ((2, x.1), (x.2.1, x.2.2.1, tt x.2.2.2.1, cv x.2.2.2.2)) :=
  Ct.of (n := 9) (ls0 := [some (2, 43), some (0, a1), some (0, a2), some (0, a3), some (0, a4), none, none, none, none, none, none, none, none, none]) (by decide) rfl rfl ⟨show (some (.array .int) : Option FieldType) ≠ some .float by decide, show (some (.array .int) : Option FieldType) ≠ some .double by decide⟩ (Nat.le_of_ble_eq_true rfl) rfl (sX0_begunBy (G := G) (Γ := cx0) a1 a2 a3 a4 sz sl td c x h rfl).1 (show (2 : Nat) ≠ 9 by decide) (fun Γ => sX0_begunBy a1 a2 a3 a4 sz sl td c x h rfl)
theorem mvX0_380 [Inhabited OrcS] : MV RX0 380 RX0 yX0_begunBy muX0_begunBy 4 := ⟨lw_V q1199 q1201 qs51 q125 q1202, by decide +kernel, Nat.le_of_ble_eq_true rfl⟩
abbrev muX0_said [Inhabited OrcS] : MI := (cX0_said, RX0, 5, some (.array .int), 3 * oSN + 33, "said")
noncomputable def fX0_said_j39 [Inhabited OrcS] (v4 : Int) (sz : Nat) (sl : Nat) (td : TT) (c : CC) : Option (Int × Nat × Nat × TT × CC) :=
  gd ((0 : Int) ≤ v4 ∧ v4 < 4800) <|
   some ((cv c 110 (Int.toNat v4)), sz, sl, td, c)
theorem sX0_said_j39 [Inhabited OrcS] {G : GG} {Γ : Cx} {r : Vv × Wd}  (v4 : Int) (sz : Nat) (sl : Nat) (td : TT) (c : CC) [hO : Nonempty (PLift (oSOK G))] : Sm (fX0_said_j39 v4 sz sl td c) (fun x => r = ((2, x.1), (x.2.1, x.2.2.1, tt x.2.2.2.1, cv x.2.2.2.2))) (WP G Γ muX0_said r 39 [some (2, 43), none, none, none, some (0, v4)] [] (sz, sl, tt td, cv c)) := by
  unfold fX0_said_j39
  refine s_aload_n (pc := 39) dX0_said_39 rfl ?_
  refine s_get (pc := 40) (a := 43) (v := 110) flX0_120 (t_43 _) rfl (g_43_40 _) rfl dX0_said_40 ?_
  refine s_iload (pc := 43) dX0_said_43 rfl ?_
  refine s_aaldM (pc := 45) (a := 110) (q := 7) (by decide) ⟨rfl, rfl⟩ (t_110 _) rfl dX0_said_45 ?_
  exact s_aret (pc := 46) dX0_said_46 rfl ⟨rfl, by decide, by decide⟩ (fun h => h)
noncomputable def fX0_said [Inhabited OrcS] (a1 : Int) (a2 : Int) (a3 : Int) (sz : Nat) (sl : Nat) (td : TT) (c : CC) : Option (Int × Nat × Nat × TT × CC) :=
  cl (fX0_fewestAt a1 a2 a3 ) fun p_1 =>
   gd ((0 : Int) ≤ p_1 ∧ p_1 < 4800) <|
   if cv c 110 (Int.toNat p_1) < 0 then
  (gd ((0 : Int) ≤ p_1 ∧ p_1 < 4800) <|
   cl (fX0_begunBy a1 a2 a3 (c 108 (Int.toNat p_1)) sz sl td c) fun p_2 =>
   gd ((0 : Int) ≤ p_1 ∧ p_1 < 4800 ∧ (0 : Int) ≤ p_2.1 ∧ (tt p_2.2.2.2.1 (Int.toNat p_2.1)).1 = 50) <| bd (up2 p_2.2.2.2.2 110 (Int.toNat p_1) p_2.1) fun c_3 =>
   fX0_said_j39 p_1 p_2.2.1 p_2.2.2.1 p_2.2.2.2.1 c_3)
  else
  (fX0_said_j39 p_1 sz sl td c)
theorem sX0_said [Inhabited OrcS] {G : GG} {Γ : Cx} {r : Vv × Wd}  (a1 : Int) (a2 : Int) (a3 : Int) (sz : Nat) (sl : Nat) (td : TT) (c : CC) [hO : Nonempty (PLift (oSOK G))] : Sm (fX0_said a1 a2 a3 sz sl td c) (fun x => r = ((2, x.1), (x.2.1, x.2.2.1, tt x.2.2.2.1, cv x.2.2.2.2))) (WP G Γ muX0_said r 0 [some (2, 43), some (0, a1), some (0, a2), some (0, a3), none] [] (sz, sl, tt td, cv c)) := by
  unfold fX0_said
  refine s_iload_n (pc := 0) dX0_said_0 rfl ?_
  refine s_iload_n (pc := 1) dX0_said_1 rfl ?_
  refine s_iload_n (pc := 2) dX0_said_2 rfl ?_
  refine s_callS3 (pc := 3) (as := [(0, a1), (0, a2), (0, a3)]) (st := []) (rv := fun b => ((0, b), (sz, sl, tt td, cv c))) (st3 := fun b => [(0, b)]) (w3 := fun b => (sz, sl, tt td, cv c)) msX0_349 (fun b h => kX0_fewestAt a1 a2 a3 c b h) rfl (by first | decide | exact Nat.le_trans (by decide) (Nat.le_add_left 33 _)) rfl (Nat.le_of_ble_eq_true rfl) (fun _ => Nat.le_of_ble_eq_true rfl) (fun _ => ⟨rfl, rfl⟩) dX0_said_3 (fun p_1 => ?_)
  refine s_istoreD (pc := 6) (ls' := [some (2, 43), some (0, a1), some (0, a2), some (0, a3), some (0, p_1)]) dX0_said_6 rfl (Nat.le_of_ble_eq_true rfl) ?_
  refine s_aload_n (pc := 8) dX0_said_8 rfl ?_
  refine s_get (pc := 9) (a := 43) (v := 110) flX0_120 (t_43 _) rfl (g_43_40 _) rfl dX0_said_9 ?_
  refine s_iload (pc := 12) dX0_said_12 rfl ?_
  refine s_aaldM (pc := 14) (a := 110) (q := 7) (by decide) ⟨rfl, rfl⟩ (t_110 _) rfl dX0_said_14 ?_
  refine s_ifnonnull (pc := 15) (tgt := 39) dX0_said_15 rfl ?_ ?_
  · refine s_wk [true, false, false, false, true] (ls' := [some (2, 43), none, none, none, some (0, p_1)]) rfl ?_
    exact sX0_said_j39 p_1 sz sl td c
  refine s_aload_n (pc := 18) dX0_said_18 rfl ?_
  refine s_get (pc := 19) (a := 43) (v := 110) flX0_120 (t_43 _) rfl (g_43_40 _) rfl dX0_said_19 ?_
  refine s_iload (pc := 22) dX0_said_22 rfl ?_
  refine s_aload_n (pc := 24) dX0_said_24 rfl ?_
  refine s_iload_n (pc := 25) dX0_said_25 rfl ?_
  refine s_iload_n (pc := 26) dX0_said_26 rfl ?_
  refine s_iload_n (pc := 27) dX0_said_27 rfl ?_
  refine s_aload_n (pc := 28) dX0_said_28 rfl ?_
  refine s_get (pc := 29) (a := 43) (v := 108) flX0_113 (t_43 _) rfl (g_43_37 _) rfl dX0_said_29 ?_
  refine s_iload (pc := 32) dX0_said_32 rfl ?_
  refine s_ialdM (pc := 34) (a := 108) (t_108 _) rfl r_108 dX0_said_34 ?_
  refine s_callV3 (pc := 35) (a := 43) (as := [(0, a1), (0, a2), (0, a3), (0, c 108 (Int.toNat p_1))]) (st := [(0, p_1), (2, 110)]) (rv := fun b => ((2, b.1), (b.2.1, b.2.2.1, tt b.2.2.2.1, cv b.2.2.2.2))) (st3 := fun b => [(2, b.1), (0, p_1), (2, 110)]) (w3 := fun b => (b.2.1, b.2.2.1, tt b.2.2.2.1, cv b.2.2.2.2)) mvX0_380 (fun b h => kX0_begunBy a1 a2 a3 (c 108 (Int.toNat p_1)) sz sl td c b h) rfl (Nat.le_refl _) (t_43 td) rfl rfl rfl (Nat.le_of_ble_eq_true rfl) (fun _ => Nat.le_of_ble_eq_true rfl) (fun _ => ⟨rfl, rfl⟩) dX0_said_35 (fun p_2 => ?_)
  refine s_aastAM (pc := 38) (a := 110) (t_110 _) rfl kO_110 r_110 dX0_said_38 (fun c_3 => ?_)
  refine s_wk [true, false, false, false, true] (ls' := [some (2, 43), none, none, none, some (0, p_1)]) rfl ?_
  exact sX0_said_j39 p_1 p_2.2.1 p_2.2.2.1 p_2.2.2.2.1 c_3
theorem kX0_said [Inhabited OrcS] {G : GG}  (a1 : Int) (a2 : Int) (a3 : Int) (sz : Nat) (sl : Nat) (td : TT) (c : CC) [hO : Nonempty (PLift (oSOK G))] (x : (Int × Nat × Nat × TT × CC)) (h : fX0_said a1 a2 a3 sz sl td c = some x) : Ct G yX0_said muX0_said [(2, 43), (0, a1), (0, a2), (0, a3)] (sz, sl, tt td, cv c) ((2, x.1), (x.2.1, x.2.2.1, tt x.2.2.2.1, cv x.2.2.2.2)) :=
  Ct.of (n := 1) (ls0 := [some (2, 43), some (0, a1), some (0, a2), some (0, a3), none]) (by decide) rfl rfl ⟨show (some (.array .int) : Option FieldType) ≠ some .float by decide, show (some (.array .int) : Option FieldType) ≠ some .double by decide⟩ (Nat.le_of_ble_eq_true rfl) rfl (sX0_said (G := G) (Γ := cx0) a1 a2 a3 sz sl td c x h rfl).1 (show (2 : Nat) ≠ 9 by decide) (fun Γ => sX0_said a1 a2 a3 sz sl td c x h rfl)
theorem mvX0_409 : MV RX0 409 RX0 yX0_wordy muX0_wordy 2 := ⟨lw_V q1194 q1150 q1151 q125 q1152, by decide +kernel, Nat.le_of_ble_eq_true rfl⟩
noncomputable def fSaid : Nat → Int → Int → Int → Nat → Nat → TT → CC → Option (Int × Nat × Nat × TT × CC)
  | 0, _, _, _, _, _, _, _ => none
  | n + 1, x, k, m, sz, sl, td, c => @fX0_said ⟨((fSaid n, n) : OrcS)⟩ x k m sz sl td c
theorem kSaid {G : GG} (n : Nat) (x k m : Int) (sz sl : Nat) (td : TT) (c : CC) (b : Int × Nat × Nat × TT × CC) (h : fSaid n x k m sz sl td c = some b) : Ct G yX0_said (muSaid (3 * n + 30)) [(2, 43), (0, x), (0, k), (0, m)] (sz, sl, tt td, cv c) ((2, b.1), (b.2.1, b.2.2.1, tt b.2.2.2.1, cv b.2.2.2.2)) := by
  induction n generalizing x k m sz sl td c b with
  | zero => unfold fSaid at h; cases h
  | succ n ih =>
    unfold fSaid at h
    have e : 3 * (n + 1) + 30 = 3 * n + 33 := by omega
    rw [e]
    exact @kX0_said ⟨((fSaid n, n) : OrcS)⟩ G x k m sz sl td c ⟨⟨ih⟩⟩ b h
theorem mvX0_384_o : MV RX0 384 RX0 yX0_said (@muX0_said ⟨((fSaid 192, 192) : OrcS)⟩) 3 := ⟨lw_V q1195 q1197 qs50 q125 q1198, by decide +kernel, Nat.le_of_ble_eq_true rfl⟩
abbrev muX0_wordOf : MI := (cX0_wordOf, RX0, 6, some .int, 2, "wordOf")
abbrev gX0_wordOf_l14 (G : GG) (Γ : Cx) (r : Vv × Wd) (sz sl : Nat) (td : TT) (c : CC) (v1 : Int) (v2 : Int) (v3 : Int) : (Int) → Prop := fun s => WP G Γ muX0_wordOf r 14 [none, some (0, v1), some (2, v2), some (0, v3), some (0, s), none] [] (sz, sl, tt td, cv c)
abbrev eX0_wordOf_l14 (G : GG) (Γ : Cx) (r : Vv × Wd) (sz sl : Nat) (td : TT) (c : CC) (v1 : Int) (v2 : Int) (v3 : Int) : ((Int) ⊕ (Unit)) → Prop := (Sum.elim (fun s => WP G Γ muX0_wordOf r 35 [none, none, none, none, none, some (2, s)] [] (sz, sl, tt td, cv c)) (fun s => WP G Γ muX0_wordOf r 47 [none, none, none, none, none, none] [] (sz, sl, tt td, cv c)))
noncomputable def fX0_wordOf_l14 (v1 : Int) (v2 : Int) (v3 : Int) (v4 : Int) (td : TT) (c : CC) : Option ((Int) ⊕ ((Int) ⊕ (Unit))) :=
  if v4 < v3 then
  (gd ((0 : Int) ≤ v2 ∧ (tt td (Int.toNat v2)).1 = 55 ∧ (0 : Int) ≤ v4 ∧ v4 < ((tt td (Int.toNat v2)).2 : Int)) <|
   bd (cv c (Int.toNat v2) (Int.toNat v4)) fun v5_4 =>
   gd ((0 : Int) ≤ v5_4 ∧ 6 ≤ (tt td (Int.toNat v5_4)).1 ∧ (tt td (Int.toNat v5_4)).1 ≤ 10) <|
   if cv c (Int.toNat v5_4) 0 = v1 then
  (some (.inr (.inl v5_4)))
  else
  (gd (inR (v4 + 1)) <| bd (v4 + 1) fun v4_5 =>
   some (.inl v4_5)))
  else
  (some (.inr (.inr ())))
theorem sX0_wordOf_l14 {G : GG} {Γ : Cx} {r : Vv × Wd} {sz : Nat} {sl : Nat} (v1 : Int) (v2 : Int) (v3 : Int) (v4 : Int) (td : TT) (c : CC) : Sm (fX0_wordOf_l14 v1 v2 v3 v4 td c) (fun x => Sum.elim (gX0_wordOf_l14 G Γ r sz sl td c v1 v2 v3) (eX0_wordOf_l14 G Γ r sz sl td c v1 v2 v3) x) (gX0_wordOf_l14 G Γ r sz sl td c v1 v2 v3 v4) := by
  show Sm _ _ (WP G Γ muX0_wordOf r 14 [none, some (0, v1), some (2, v2), some (0, v3), some (0, v4), none] [] (sz, sl, tt td, cv c))
  unfold fX0_wordOf_l14
  refine s_iload (pc := 14) dX0_wordOf_14 rfl ?_
  refine s_iload_n (pc := 16) dX0_wordOf_16 rfl ?_
  refine s_icmp_ge (pc := 17) (tgt := 47) dX0_wordOf_17 rfl ?_ ?_
  · refine s_wk [true, false, false, false, false, true] (ls' := [none, none, none, none, none, none]) rfl ?_
    exact Sm.some (fun h => h)
  refine s_aload_n (pc := 20) dX0_wordOf_20 rfl ?_
  refine s_iload (pc := 21) dX0_wordOf_21 rfl ?_
  refine s_aald5D (pc := 23) dX0_wordOf_23 ?_
  refine s_astore (pc := 24) (lf := fun x => [none, some (0, v1), some (2, v2), some (0, v3), some (0, v4), some (2, x)]) dX0_wordOf_24 (fun _ => rfl) (Nat.le_of_ble_eq_true rfl) (fun v5_4 => ?_)
  refine s_aload (pc := 26) dX0_wordOf_26 rfl ?_
  refine s_getS (pc := 28) fsX0_243 dX0_wordOf_28 ?_
  refine s_iload_n (pc := 31) dX0_wordOf_31 rfl ?_
  refine s_icmp_ne (pc := 32) (tgt := 41) dX0_wordOf_32 rfl ?_ ?_
  · refine s_iinc (pc := 41) (lf := fun x => [none, some (0, v1), some (2, v2), some (0, v3), some (0, x), some (2, v5_4)]) dX0_wordOf_41 rfl (fun _ => rfl) (Nat.le_of_ble_eq_true rfl) (fun v4_5 => ?_)
    refine s_goto (pc := 44) (tgt := 14) dX0_wordOf_44 rfl ?_
    refine s_wk [true, true, true, true, true, false] (ls' := [none, some (0, v1), some (2, v2), some (0, v3), some (0, v4_5), none]) rfl ?_
    exact Sm.some (fun h => h)
  refine s_wk [true, false, false, false, false, true] (ls' := [none, none, none, none, none, some (2, v5_4)]) rfl ?_
  exact Sm.some (fun h => h)
noncomputable def fX0_wordOf (a1 : Int) (td : TT) (c : CC) : Option Int :=
  cl (fX0_lexicon  td c) fun p_1 =>
   gd ((0 : Int) ≤ p_1 ∧ (tt td (Int.toNat p_1)).1 = 1) <|
   bd (cv c (Int.toNat p_1) 0) fun v2_2 =>
   gd ((0 : Int) ≤ v2_2 ∧ (tt td (Int.toNat v2_2)).1 = 55 ∧ (tt td (Int.toNat v2_2)).2 < 2147483648) <|
   bd (((tt td (Int.toNat v2_2)).2 : Int)) fun v3_3 =>
   cl (wh (fun s => fX0_wordOf_l14 a1 v2_2 v3_3 s td c) 0) (Sum.elim (fun e_6 =>
  gd ((0 : Int) ≤ e_6 ∧ 6 ≤ (tt td (Int.toNat e_6)).1 ∧ (tt td (Int.toNat e_6)).1 ≤ 10) <|
   some (cv c (Int.toNat e_6) 1)) (fun e_7 =>
  some (-1)))
theorem sX0_wordOf {G : GG} {Γ : Cx} {r : Vv × Wd} {sz : Nat} {sl : Nat} (a1 : Int) (td : TT) (c : CC) : Sm (fX0_wordOf a1 td c) (fun x => r = ((0, x), (sz, sl, tt td, cv c))) (WP G Γ muX0_wordOf r 0 [some (2, 43), some (0, a1), none, none, none, none] [] (sz, sl, tt td, cv c)) := by
  unfold fX0_wordOf
  refine s_aload_n (pc := 0) dX0_wordOf_0 rfl ?_
  refine s_callV3 (pc := 1) (a := 43) (as := []) (st := []) (rv := fun b => ((2, b), (sz, sl, tt td, cv c))) (st3 := fun b => [(2, b)]) (w3 := fun b => (sz, sl, tt td, cv c)) mvX0_186 (fun b h => kX0_lexicon  td c b h) rfl (by decide) (t_43 td) rfl rfl rfl (Nat.le_of_ble_eq_true rfl) (fun _ => Nat.le_of_ble_eq_true rfl) (fun _ => ⟨rfl, rfl⟩) dX0_wordOf_1 (fun p_1 => ?_)
  refine s_getDN (pc := 4) fnX0_189 rfl dX0_wordOf_4 ?_
  refine s_astore_n (pc := 7) (lf := fun x => [some (2, 43), some (0, a1), some (2, x), none, none, none]) dX0_wordOf_7 (fun _ => rfl) (Nat.le_of_ble_eq_true rfl) (fun v2_2 => ?_)
  refine s_aload_n (pc := 8) dX0_wordOf_8 rfl ?_
  refine s_alenD (pc := 9) (q := 5) (by decide) dX0_wordOf_9 ?_
  refine s_istore_n (pc := 10) (lf := fun x => [some (2, 43), some (0, a1), some (2, v2_2), some (0, x), none, none]) dX0_wordOf_10 (fun _ => rfl) (Nat.le_of_ble_eq_true rfl) (fun v3_3 => ?_)
  refine s_iconst (pc := 11) dX0_wordOf_11 ?_
  refine s_istoreD (pc := 12) (ls' := [some (2, 43), some (0, a1), some (2, v2_2), some (0, v3_3), some (0, 0), none]) dX0_wordOf_12 rfl (Nat.le_of_ble_eq_true rfl) ?_
  refine s_wk [false, true, true, true, true, true] (ls' := [none, some (0, a1), some (2, v2_2), some (0, v3_3), some (0, 0), none]) rfl ?_
  refine s_loop (g := gX0_wordOf_l14 G Γ r sz sl td c a1 v2_2 v3_3) (Ex := eX0_wordOf_l14 G Γ r sz sl td c a1 v2_2 v3_3) (s0 := 0) (fun s => sX0_wordOf_l14 a1 v2_2 v3_3 s td c) ?_
  refine s_elim ?_ ?_
  · intro e_6
    show Sm _ _ (WP G Γ muX0_wordOf r 35 [none, none, none, none, none, some (2, e_6)] [] (sz, sl, tt td, cv c))
    refine s_aload (pc := 35) dX0_wordOf_35 rfl ?_
    refine s_getS (pc := 37) fsX0_190 dX0_wordOf_37 ?_
    exact s_iret (pc := 40) dX0_wordOf_40 rfl (fun h => h)
  intro e_7
  show Sm _ _ (WP G Γ muX0_wordOf r 47 [none, none, none, none, none, none] [] (sz, sl, tt td, cv c))
  refine s_iconst (pc := 47) dX0_wordOf_47 ?_
  exact s_iret (pc := 48) dX0_wordOf_48 rfl (fun h => h)
theorem kX0_wordOf {G : GG} {sz : Nat} {sl : Nat} (a1 : Int) (td : TT) (c : CC) (x : Int) (h : fX0_wordOf a1 td c = some x) : Ct G yX0_wordOf muX0_wordOf [(2, 43), (0, a1)] (sz, sl, tt td, cv c) ((0, x), (sz, sl, tt td, cv c)) :=
  Ct.of (n := 4) (ls0 := [some (2, 43), some (0, a1), none, none, none, none]) (by decide) rfl rfl ⟨show (some .int : Option FieldType) ≠ some .float by decide, show (some .int : Option FieldType) ≠ some .double by decide⟩ (Nat.le_of_ble_eq_true rfl) rfl ⟨Nat.le_refl _, Nat.le_refl _⟩ (show (0 : Nat) ≠ 9 by decide) (fun Γ => sX0_wordOf a1 td c x h rfl)
theorem mvX0_412 : MV RX0 412 RX0 yX0_wordOf muX0_wordOf 1 := ⟨lw_V q1218 q1220 qs54 q125 q1221, by decide +kernel, Nat.le_of_ble_eq_true rfl⟩
abbrev muX0_saying : MI := (cX0_saying, RX0, 6, some .int, 610, "saying")
abbrev gX0_saying_l25 (G : GG) (Γ : Cx) (r : Vv × Wd) (sz sl : Nat) (td : TT) (c : CC) (v2 : Int) (v3 : Int) (v4 : Int) : (Int × CC) → Prop := fun s => WP G Γ muX0_saying r 25 [some (2, 43), none, some (0, v2), some (0, v3), some (0, v4), some (0, s.1)] [] (sz, sl, tt td, cv s.2)
abbrev eX0_saying_l25 (G : GG) (Γ : Cx) (r : Vv × Wd) (sz sl : Nat) (td : TT) (c : CC) (v2 : Int) (v3 : Int) (v4 : Int) : (CC) → Prop := (fun s => WP G Γ muX0_saying r 49 [some (2, 43), none, some (0, v2), some (0, v3), some (0, v4), none] [] (sz, sl, tt td, cv s))
noncomputable def fX0_saying_l25 (v2 : Int) (v3 : Int) (v4 : Int) (v5 : Int) (sz : Nat) (sl : Nat) (td : TT) (c : CC) : Option ((Int × CC) ⊕ (CC)) :=
  if v5 < 4800 then
  (gd ((0 : Int) ≤ v5 ∧ v5 < 4800) <| bd (up2 c 110 (Int.toNat v5) (-1)) fun c_3 =>
   gd (inR (v5 + 1)) <| bd (v5 + 1) fun v5_4 =>
   some (.inl (v5_4, c_3)))
  else
  (some (.inr c))
theorem sX0_saying_l25 {G : GG} {Γ : Cx} {r : Vv × Wd}  (v2 : Int) (v3 : Int) (v4 : Int) (v5 : Int) (sz : Nat) (sl : Nat) (td : TT) (c : CC) : Sm (fX0_saying_l25 v2 v3 v4 v5 sz sl td c) (fun x => Sum.elim (gX0_saying_l25 G Γ r sz sl td c v2 v3 v4) (eX0_saying_l25 G Γ r sz sl td c v2 v3 v4) x) (gX0_saying_l25 G Γ r sz sl td c v2 v3 v4 (v5, c)) := by
  show Sm _ _ (WP G Γ muX0_saying r 25 [some (2, 43), none, some (0, v2), some (0, v3), some (0, v4), some (0, v5)] [] (sz, sl, tt td, cv c))
  unfold fX0_saying_l25
  refine s_iload (pc := 25) dX0_saying_25 rfl ?_
  refine s_aload_n (pc := 27) dX0_saying_27 rfl ?_
  refine s_get (pc := 28) (a := 43) (v := 110) flX0_120 (t_43 _) rfl (g_43_40 _) rfl dX0_saying_28 ?_
  refine s_alen (pc := 31) (a := 110) (q := 7) (n := 4800) (t_110 _) (by decide) rfl (by decide) dX0_saying_31 ?_
  refine s_icmp_ge (pc := 32) (tgt := 49) dX0_saying_32 rfl ?_ ?_
  · refine s_wk [true, true, true, true, true, false] (ls' := [some (2, 43), none, some (0, v2), some (0, v3), some (0, v4), none]) rfl ?_
    exact Sm.some (fun h => h)
  refine s_aload_n (pc := 35) dX0_saying_35 rfl ?_
  refine s_get (pc := 36) (a := 43) (v := 110) flX0_120 (t_43 _) rfl (g_43_40 _) rfl dX0_saying_36 ?_
  refine s_iload (pc := 39) dX0_saying_39 rfl ?_
  refine s_null (pc := 41) dX0_saying_41 ?_
  refine s_aastNM (pc := 42) (a := 110) (q := 7) (by decide) (Or.inr ⟨_, rfl⟩) (t_110 _) rfl kO_110 r_110 dX0_saying_42 (fun c_3 => ?_)
  refine s_iinc (pc := 43) (lf := fun x => [some (2, 43), none, some (0, v2), some (0, v3), some (0, v4), some (0, x)]) dX0_saying_43 rfl (fun _ => rfl) (Nat.le_of_ble_eq_true rfl) (fun v5_4 => ?_)
  refine s_goto (pc := 46) (tgt := 25) dX0_saying_46 rfl ?_
  exact Sm.some (fun h => h)
noncomputable def fX0_saying (a1 : Int) (a2 : Int) (a3 : Int) (sz : Nat) (sl : Nat) (td : TT) (c : CC) : Option (Int × Nat × Nat × TT × CC) :=
  cl (fX0_wordy a1 a2 td c) fun p_1 =>
   gd (inR (p_1.1 - 1)) <|
   cl (fX0_in a3 0 (p_1.1 - 1) ) fun p_2 =>
   if p_2 = 0 then
  (some ((-1), sz, sl, td, p_1.2))
  else
  (cl (wh (fun s => fX0_saying_l25 a2 a3 p_1.1 s.1 sz sl td s.2) (0, p_1.2)) (fun e_5 =>
  cl (@fX0_said ⟨((fSaid 192, 192) : OrcS)⟩ (e_5 43 39) 0 a2 sz sl td e_5) fun p_6 =>
   gd (inR (p_1.1 - 1)) <|
   gd (inR ((p_1.1 - 1) - a3)) <|
   gd ((0 : Int) ≤ p_6.1 ∧ (tt p_6.2.2.2.1 (Int.toNat p_6.1)).1 = 50 ∧ (0 : Int) ≤ (p_1.1 - 1) - a3 ∧ (p_1.1 - 1) - a3 < ((tt p_6.2.2.2.1 (Int.toNat p_6.1)).2 : Int)) <|
   cl (fX0_wordOf (cv p_6.2.2.2.2 (Int.toNat p_6.1) (Int.toNat ((p_1.1 - 1) - a3))) p_6.2.2.2.1 p_6.2.2.2.2) fun p_7 =>
   some (p_7, p_6.2.1, p_6.2.2.1, p_6.2.2.2.1, p_6.2.2.2.2)))
theorem sX0_saying {G : GG} {Γ : Cx} {r : Vv × Wd}  (a1 : Int) (a2 : Int) (a3 : Int) (sz : Nat) (sl : Nat) (td : TT) (c : CC) : Sm (fX0_saying a1 a2 a3 sz sl td c) (fun x => r = ((0, x.1), (x.2.1, x.2.2.1, tt x.2.2.2.1, cv x.2.2.2.2))) (WP G Γ muX0_saying r 0 [some (2, 43), some (0, a1), some (0, a2), some (0, a3), none, none] [] (sz, sl, tt td, cv c)) := by
  unfold fX0_saying
  refine s_aload_n (pc := 0) dX0_saying_0 rfl ?_
  refine s_iload_n (pc := 1) dX0_saying_1 rfl ?_
  refine s_iload_n (pc := 2) dX0_saying_2 rfl ?_
  refine s_callV3 (pc := 3) (a := 43) (as := [(0, a1), (0, a2)]) (st := []) (rv := fun b => ((0, b.1), (sz, sl, tt td, cv b.2))) (st3 := fun b => [(0, b.1)]) (w3 := fun b => (sz, sl, tt td, cv b.2)) mvX0_409 (fun b h => kX0_wordy a1 a2 td c b h) rfl (by decide) (t_43 td) rfl rfl rfl (Nat.le_of_ble_eq_true rfl) (fun _ => Nat.le_of_ble_eq_true rfl) (fun _ => ⟨rfl, rfl⟩) dX0_saying_3 (fun p_1 => ?_)
  refine s_istoreD (pc := 6) (ls' := [some (2, 43), some (0, a1), some (0, a2), some (0, a3), some (0, p_1.1), none]) dX0_saying_6 rfl (Nat.le_of_ble_eq_true rfl) ?_
  refine s_iload_n (pc := 8) dX0_saying_8 rfl ?_
  refine s_iconst (pc := 9) dX0_saying_9 ?_
  refine s_iload (pc := 10) dX0_saying_10 rfl ?_
  refine s_iconst (pc := 12) dX0_saying_12 ?_
  refine s_isub (pc := 13) dX0_saying_13 ?_
  refine s_callS3 (pc := 14) (as := [(0, a3), (0, 0), (0, p_1.1 - 1)]) (st := []) (rv := fun b => ((0, b), (sz, sl, tt td, cv p_1.2))) (st3 := fun b => [(0, b)]) (w3 := fun b => (sz, sl, tt td, cv p_1.2)) msX0_130 (fun b h => kX0_in a3 0 (p_1.1 - 1) p_1.2 b h) rfl (by decide) rfl (Nat.le_of_ble_eq_true rfl) (fun _ => Nat.le_of_ble_eq_true rfl) (fun _ => ⟨rfl, rfl⟩) dX0_saying_14 (fun p_2 => ?_)
  refine s_if_ne (pc := 17) (tgt := 22) dX0_saying_17 rfl ?_ ?_
  · refine s_iconst (pc := 22) dX0_saying_22 ?_
    refine s_istoreD (pc := 23) (ls' := [some (2, 43), some (0, a1), some (0, a2), some (0, a3), some (0, p_1.1), some (0, 0)]) dX0_saying_23 rfl (Nat.le_of_ble_eq_true rfl) ?_
    refine s_wk [true, false, true, true, true, true] (ls' := [some (2, 43), none, some (0, a2), some (0, a3), some (0, p_1.1), some (0, 0)]) rfl ?_
    refine s_loop (g := gX0_saying_l25 G Γ r sz sl td p_1.2 a2 a3 p_1.1) (Ex := eX0_saying_l25 G Γ r sz sl td p_1.2 a2 a3 p_1.1) (s0 := (0, p_1.2)) (fun s => sX0_saying_l25 a2 a3 p_1.1 s.1 sz sl td s.2) ?_
    intro e_5
    show Sm _ _ (WP G Γ muX0_saying r 49 [some (2, 43), none, some (0, a2), some (0, a3), some (0, p_1.1), none] [] (sz, sl, tt td, cv e_5))
    refine s_aload_n (pc := 49) dX0_saying_49 rfl ?_
    refine s_aload_n (pc := 50) dX0_saying_50 rfl ?_
    refine s_aload_n (pc := 51) dX0_saying_51 rfl ?_
    refine s_get (pc := 52) (a := 43) (v := e_5 43 39) flX0_371 (t_43 _) rfl (g_43_39 _) rfl dX0_saying_52 ?_
    refine s_iconst (pc := 55) dX0_saying_55 ?_
    refine s_iload_n (pc := 56) dX0_saying_56 rfl ?_
    refine s_callV3 (pc := 57) (a := 43) (as := [(0, e_5 43 39), (0, 0), (0, a2)]) (st := [(2, 43)]) (rv := fun b => ((2, b.1), (b.2.1, b.2.2.1, tt b.2.2.2.1, cv b.2.2.2.2))) (st3 := fun b => [(2, b.1), (2, 43)]) (w3 := fun b => (b.2.1, b.2.2.1, tt b.2.2.2.1, cv b.2.2.2.2)) mvX0_384_o (fun b h => @kX0_said ⟨((fSaid 192, 192) : OrcS)⟩ G (e_5 43 39) 0 a2 sz sl td e_5 ⟨⟨kSaid 192⟩⟩ b h) rfl (by decide) (t_43 td) rfl rfl rfl (Nat.le_of_ble_eq_true rfl) (fun _ => Nat.le_of_ble_eq_true rfl) (fun _ => ⟨rfl, rfl⟩) dX0_saying_57 (fun p_6 => ?_)
    refine s_iload (pc := 60) dX0_saying_60 rfl ?_
    refine s_iconst (pc := 62) dX0_saying_62 ?_
    refine s_isub (pc := 63) dX0_saying_63 ?_
    refine s_iload_n (pc := 64) dX0_saying_64 rfl ?_
    refine s_isub (pc := 65) dX0_saying_65 ?_
    refine s_ialdD (pc := 66) dX0_saying_66 ?_
    refine s_callV3 (pc := 67) (a := 43) (as := [(0, cv p_6.2.2.2.2 (Int.toNat p_6.1) (Int.toNat ((p_1.1 - 1) - a3)))]) (st := []) (rv := fun b => ((0, b), (p_6.2.1, p_6.2.2.1, tt p_6.2.2.2.1, cv p_6.2.2.2.2))) (st3 := fun b => [(0, b)]) (w3 := fun b => (p_6.2.1, p_6.2.2.1, tt p_6.2.2.2.1, cv p_6.2.2.2.2)) mvX0_412 (fun b h => kX0_wordOf (cv p_6.2.2.2.2 (Int.toNat p_6.1) (Int.toNat ((p_1.1 - 1) - a3))) p_6.2.2.2.1 p_6.2.2.2.2 b h) rfl (by decide) (t_43 p_6.2.2.2.1) rfl rfl rfl (Nat.le_of_ble_eq_true rfl) (fun _ => Nat.le_of_ble_eq_true rfl) (fun _ => ⟨rfl, rfl⟩) dX0_saying_67 (fun p_7 => ?_)
    exact s_iret (pc := 70) dX0_saying_70 rfl (fun h => h)
  refine s_iconst (pc := 20) dX0_saying_20 ?_
  exact s_iret (pc := 21) dX0_saying_21 rfl (fun h => h)
theorem kX0_saying {G : GG}  (a1 : Int) (a2 : Int) (a3 : Int) (sz : Nat) (sl : Nat) (td : TT) (c : CC) (x : (Int × Nat × Nat × TT × CC)) (h : fX0_saying a1 a2 a3 sz sl td c = some x) : Ct G yX0_saying muX0_saying [(2, 43), (0, a1), (0, a2), (0, a3)] (sz, sl, tt td, cv c) ((0, x.1), (x.2.1, x.2.2.1, tt x.2.2.2.1, cv x.2.2.2.2)) :=
  Ct.of (n := 2) (ls0 := [some (2, 43), some (0, a1), some (0, a2), some (0, a3), none, none]) (by decide) rfl rfl ⟨show (some .int : Option FieldType) ≠ some .float by decide, show (some .int : Option FieldType) ≠ some .double by decide⟩ (Nat.le_of_ble_eq_true rfl) rfl (sX0_saying (G := G) (Γ := cx0) a1 a2 a3 sz sl td c x h rfl).1 (show (0 : Nat) ≠ 9 by decide) (fun Γ => sX0_saying a1 a2 a3 sz sl td c x h rfl)
theorem fpX0_415 (nm : String) : FP RX0 415 0 6 nm := ⟨_, _, _, cf0, by decide, q219, Or.inl rfl⟩
theorem fpX0_415t : fty 0 6 ≠ .boolean ∧ fty 0 6 ≠ .byte ∧ fty 0 6 ≠ .char ∧ fty 0 6 ≠ .short := by decide
theorem fpX0_31 (nm : String) : FP RX0 31 0 7 nm := ⟨_, _, _, cf0, by decide, q220, Or.inl rfl⟩
theorem fpX0_31t : fty 0 7 ≠ .boolean ∧ fty 0 7 ≠ .byte ∧ fty 0 7 ≠ .char ∧ fty 0 7 ≠ .short := by decide
theorem fpX0_418 (nm : String) : FP RX0 418 0 8 nm := ⟨_, _, _, cf0, by decide, q221, Or.inl rfl⟩
theorem fpX0_418t : fty 0 8 ≠ .boolean ∧ fty 0 8 ≠ .byte ∧ fty 0 8 ≠ .char ∧ fty 0 8 ≠ .short := by decide
theorem flX0_38 : FL RX0 38 0 10 := ⟨_, _, _, cf0, by decide, q223⟩
abbrev muX0_image : MI := (cX0_image, RX0, 1, some .int, 2, "image")
noncomputable def fX0_image  (c : CC) : Option (Int × CC) :=
  bd (up2 c 43 6 (c 43 3)) fun c_1 =>
   bd (up2 c_1 43 7 (c_1 43 4)) fun c_2 =>
   bd (up2 c_2 43 8 (c_2 43 5)) fun c_3 =>
   gd (((0 : Int) ≤ 0 ∧ (0 : Int) ≤ 0 ∧ (0 : Int) ≤ 24) ∧ (0 : Int) + 24 ≤ 24 ∧ (0 : Int) + 24 ≤ 24) <| bd (cpy c_3 50 51 (Int.toNat 0) (Int.toNat 0) (Int.toNat 24)) fun c_5 =>
   some ((c_5 43 5), c_5)
theorem sX0_image {G : GG} {Γ : Cx} {r : Vv × Wd} {sz : Nat} {sl : Nat} {td : TT}  (c : CC) : Sm (fX0_image  c) (fun x => r = ((0, x.1), (sz, sl, tt td, cv x.2))) (WP G Γ muX0_image r 0 [some (2, 43)] [] (sz, sl, tt td, cv c)) := by
  unfold fX0_image
  refine s_aload_n (pc := 0) dX0_image_0 rfl ?_
  refine s_aload_n (pc := 1) dX0_image_1 rfl ?_
  refine s_get (pc := 2) (a := 43) (v := c 43 3) flX0_134 (t_43 _) rfl (g_43_3 _) rfl dX0_image_2 ?_
  refine s_putM (pc := 5) (a := 43) (fpX0_415 _) (t_43 _) rfl kO_43 n_43_6 rfl (fpX0_415t) dX0_image_5 (fun c_1 => ?_)
  refine s_aload_n (pc := 8) dX0_image_8 rfl ?_
  refine s_aload_n (pc := 9) dX0_image_9 rfl ?_
  refine s_get (pc := 10) (a := 43) (v := c_1 43 4) flX0_27 (t_43 _) rfl (g_43_4 _) rfl dX0_image_10 ?_
  refine s_putM (pc := 13) (a := 43) (fpX0_31 _) (t_43 _) rfl kO_43 n_43_7 rfl (fpX0_31t) dX0_image_13 (fun c_2 => ?_)
  refine s_aload_n (pc := 16) dX0_image_16 rfl ?_
  refine s_aload_n (pc := 17) dX0_image_17 rfl ?_
  refine s_get (pc := 18) (a := 43) (v := c_2 43 5) flX0_158 (t_43 _) rfl (g_43_5 _) rfl dX0_image_18 ?_
  refine s_putM (pc := 21) (a := 43) (fpX0_418 _) (t_43 _) rfl kO_43 n_43_8 rfl (fpX0_418t) dX0_image_21 (fun c_3 => ?_)
  refine s_aload_n (pc := 24) dX0_image_24 rfl ?_
  refine s_get (pc := 25) (a := 43) (v := 50) flX0_34 (t_43 _) rfl (g_43_9 _) rfl dX0_image_25 ?_
  refine s_iconst (pc := 28) dX0_image_28 ?_
  refine s_aload_n (pc := 29) dX0_image_29 rfl ?_
  refine s_get (pc := 30) (a := 43) (v := 51) flX0_38 (t_43 _) rfl (g_43_10 _) rfl dX0_image_30 ?_
  refine s_iconst (pc := 33) dX0_image_33 ?_
  refine s_bipush (pc := 34) dX0_image_34 ?_
  refine s_copyL (pc := 36) (a0 := 50) (a := 51) mcX0_396 (t_50 _) (t_51 _) rfl rfl kO_51 r_50 r_51 (by decide) (Nat.le_of_ble_eq_true rfl) dX0_image_36 (fun c_5 => ?_)
  refine s_aload_n (pc := 39) dX0_image_39 rfl ?_
  refine s_get (pc := 40) (a := 43) (v := c_5 43 5) flX0_158 (t_43 _) rfl (g_43_5 _) rfl dX0_image_40 ?_
  exact s_iret (pc := 43) dX0_image_43 rfl (fun h => h)
theorem kX0_image {G : GG} {sz : Nat} {sl : Nat} {td : TT}  (c : CC) (x : (Int × CC)) (h : fX0_image  c = some x) : Ct G yX0_image muX0_image [(2, 43)] (sz, sl, tt td, cv c) ((0, x.1), (sz, sl, tt td, cv x.2)) :=
  Ct.of (n := 0) (ls0 := [some (2, 43)]) (by decide) rfl rfl ⟨show (some .int : Option FieldType) ≠ some .float by decide, show (some .int : Option FieldType) ≠ some .double by decide⟩ (Nat.le_of_ble_eq_true rfl) rfl ⟨Nat.le_refl _, Nat.le_refl _⟩ (show (0 : Nat) ≠ 9 by decide) (fun Γ => sX0_image  c x h rfl)
theorem flX0_415 : FL RX0 415 0 6 := ⟨_, _, _, cf0, by decide, q219⟩
theorem fpX0_134 (nm : String) : FP RX0 134 0 3 nm := ⟨_, _, _, cf0, by decide, q216, Or.inl rfl⟩
theorem fpX0_134t : fty 0 3 ≠ .boolean ∧ fty 0 3 ≠ .byte ∧ fty 0 3 ≠ .char ∧ fty 0 3 ≠ .short := by decide
theorem flX0_31 : FL RX0 31 0 7 := ⟨_, _, _, cf0, by decide, q220⟩
theorem flX0_418 : FL RX0 418 0 8 := ⟨_, _, _, cf0, by decide, q221⟩
abbrev muX0_back : MI := (cX0_back, RX0, 1, some .int, 2, "back")
noncomputable def fX0_back  (c : CC) : Option (Int × CC) :=
  bd (up2 c 43 3 (c 43 6)) fun c_1 =>
   bd (up2 c_1 43 4 (c_1 43 7)) fun c_2 =>
   bd (up2 c_2 43 5 (c_2 43 8)) fun c_3 =>
   gd (((0 : Int) ≤ 0 ∧ (0 : Int) ≤ 0 ∧ (0 : Int) ≤ 24) ∧ (0 : Int) + 24 ≤ 24 ∧ (0 : Int) + 24 ≤ 24) <| bd (cpy c_3 51 50 (Int.toNat 0) (Int.toNat 0) (Int.toNat 24)) fun c_5 =>
   gd ((0 : Int) ≤ 0 ∧ (0 : Int) < 2) <| bd (up2 c_5 43 11 0) fun c_6 =>
   some ((c_6 43 5), c_6)
theorem sX0_back {G : GG} {Γ : Cx} {r : Vv × Wd} {sz : Nat} {sl : Nat} {td : TT}  (c : CC) : Sm (fX0_back  c) (fun x => r = ((0, x.1), (sz, sl, tt td, cv x.2))) (WP G Γ muX0_back r 0 [some (2, 43)] [] (sz, sl, tt td, cv c)) := by
  unfold fX0_back
  refine s_aload_n (pc := 0) dX0_back_0 rfl ?_
  refine s_aload_n (pc := 1) dX0_back_1 rfl ?_
  refine s_get (pc := 2) (a := 43) (v := c 43 6) flX0_415 (t_43 _) rfl (g_43_6 _) rfl dX0_back_2 ?_
  refine s_putM (pc := 5) (a := 43) (fpX0_134 _) (t_43 _) rfl kO_43 n_43_3 rfl (fpX0_134t) dX0_back_5 (fun c_1 => ?_)
  refine s_aload_n (pc := 8) dX0_back_8 rfl ?_
  refine s_aload_n (pc := 9) dX0_back_9 rfl ?_
  refine s_get (pc := 10) (a := 43) (v := c_1 43 7) flX0_31 (t_43 _) rfl (g_43_7 _) rfl dX0_back_10 ?_
  refine s_putM (pc := 13) (a := 43) (fpX0_27 _) (t_43 _) rfl kO_43 n_43_4 rfl (fpX0_27t) dX0_back_13 (fun c_2 => ?_)
  refine s_aload_n (pc := 16) dX0_back_16 rfl ?_
  refine s_aload_n (pc := 17) dX0_back_17 rfl ?_
  refine s_get (pc := 18) (a := 43) (v := c_2 43 8) flX0_418 (t_43 _) rfl (g_43_8 _) rfl dX0_back_18 ?_
  refine s_putM (pc := 21) (a := 43) (fpX0_158 _) (t_43 _) rfl kO_43 n_43_5 rfl (fpX0_158t) dX0_back_21 (fun c_3 => ?_)
  refine s_aload_n (pc := 24) dX0_back_24 rfl ?_
  refine s_get (pc := 25) (a := 43) (v := 51) flX0_38 (t_43 _) rfl (g_43_10 _) rfl dX0_back_25 ?_
  refine s_iconst (pc := 28) dX0_back_28 ?_
  refine s_aload_n (pc := 29) dX0_back_29 rfl ?_
  refine s_get (pc := 30) (a := 43) (v := 50) flX0_34 (t_43 _) rfl (g_43_9 _) rfl dX0_back_30 ?_
  refine s_iconst (pc := 33) dX0_back_33 ?_
  refine s_bipush (pc := 34) dX0_back_34 ?_
  refine s_copyL (pc := 36) (a0 := 51) (a := 50) mcX0_396 (t_51 _) (t_50 _) rfl rfl kO_50 r_51 r_50 (by decide) (Nat.le_of_ble_eq_true rfl) dX0_back_36 (fun c_5 => ?_)
  refine s_aload_n (pc := 39) dX0_back_39 rfl ?_
  refine s_iconst (pc := 40) dX0_back_40 ?_
  refine s_putZM (pc := 41) (a := 43) (fpX0_154 _) (t_43 _) rfl kO_43 n_43_11 rfl dX0_back_41 (fun c_6 => ?_)
  refine s_aload_n (pc := 44) dX0_back_44 rfl ?_
  refine s_get (pc := 45) (a := 43) (v := c_6 43 5) flX0_158 (t_43 _) rfl (g_43_5 _) rfl dX0_back_45 ?_
  exact s_iret (pc := 48) dX0_back_48 rfl (fun h => h)
theorem kX0_back {G : GG} {sz : Nat} {sl : Nat} {td : TT}  (c : CC) (x : (Int × CC)) (h : fX0_back  c = some x) : Ct G yX0_back muX0_back [(2, 43)] (sz, sl, tt td, cv c) ((0, x.1), (sz, sl, tt td, cv x.2)) :=
  Ct.of (n := 0) (ls0 := [some (2, 43)]) (by decide) rfl rfl ⟨show (some .int : Option FieldType) ≠ some .float by decide, show (some .int : Option FieldType) ≠ some .double by decide⟩ (Nat.le_of_ble_eq_true rfl) rfl ⟨Nat.le_refl _, Nat.le_refl _⟩ (show (0 : Nat) ≠ 9 by decide) (fun Γ => sX0_back  c x h rfl)
theorem fnX0_421 : FLNf RX0 421 1 3 := ⟨_, _, _, _, cf1, by decide, PP.nwF q181⟩
abbrev muX0_about : MI := (cX0_about, RX0, 2, some .int, 3, "about")
noncomputable def fX0_about (a1 : Int) (td : TT) (c : CC) : Option Int :=
  cl (fX0_lexicon  td c) fun p_1 =>
   gd ((0 : Int) ≤ p_1 ∧ (tt td (Int.toNat p_1)).1 = 1) <|
   gd (inR (9 + (cv c (Int.toNat p_1) 3))) <|
   cl (fX0_in a1 10 (9 + (cv c (Int.toNat p_1) 3)) ) fun p_2 =>
   if p_2 = 0 then
  (if a1 = 0 then
  (some (c 43 3))
  else if a1 = 1 then
  (some (c 43 4))
  else if a1 = 2 then
  (some (c 43 5))
  else if a1 = 3 then
  (some (c 43 13))
  else if a1 = 4 then
  (cl (fX0_lexicon  td c) fun p_8 =>
   gd ((0 : Int) ≤ p_8 ∧ (tt td (Int.toNat p_8)).1 = 1) <|
   some (cv c (Int.toNat p_8) 3))
  else (some (-2)))
  else
  (gd (inR (a1 - 10)) <|
   cl (fX0_wordOf (a1 - 10) td c) fun p_9 =>
   some p_9)
theorem sX0_about {G : GG} {Γ : Cx} {r : Vv × Wd} {sz : Nat} {sl : Nat} (a1 : Int) (td : TT) (c : CC) : Sm (fX0_about a1 td c) (fun x => r = ((0, x), (sz, sl, tt td, cv c))) (WP G Γ muX0_about r 0 [some (2, 43), some (0, a1)] [] (sz, sl, tt td, cv c)) := by
  unfold fX0_about
  refine s_iload_n (pc := 0) dX0_about_0 rfl ?_
  refine s_bipush (pc := 1) dX0_about_1 ?_
  refine s_bipush (pc := 3) dX0_about_3 ?_
  refine s_aload_n (pc := 5) dX0_about_5 rfl ?_
  refine s_callV3 (pc := 6) (a := 43) (as := []) (st := [(0, 9), (0, 10), (0, a1)]) (rv := fun b => ((2, b), (sz, sl, tt td, cv c))) (st3 := fun b => [(2, b), (0, 9), (0, 10), (0, a1)]) (w3 := fun b => (sz, sl, tt td, cv c)) mvX0_186 (fun b h => kX0_lexicon  td c b h) rfl (by decide) (t_43 td) rfl rfl rfl (Nat.le_of_ble_eq_true rfl) (fun _ => Nat.le_of_ble_eq_true rfl) (fun _ => ⟨rfl, rfl⟩) dX0_about_6 (fun p_1 => ?_)
  refine s_getDN (pc := 9) fnX0_421 rfl dX0_about_9 ?_
  refine s_iadd (pc := 12) dX0_about_12 ?_
  refine s_callS3 (pc := 13) (as := [(0, a1), (0, 10), (0, 9 + (cv c (Int.toNat p_1) 3))]) (st := []) (rv := fun b => ((0, b), (sz, sl, tt td, cv c))) (st3 := fun b => [(0, b)]) (w3 := fun b => (sz, sl, tt td, cv c)) msX0_130 (fun b h => kX0_in a1 10 (9 + (cv c (Int.toNat p_1) 3)) c b h) rfl (by decide) rfl (Nat.le_of_ble_eq_true rfl) (fun _ => Nat.le_of_ble_eq_true rfl) (fun _ => ⟨rfl, rfl⟩) dX0_about_13 (fun p_2 => ?_)
  refine s_if_eq (pc := 16) (tgt := 28) dX0_about_16 rfl ?_ ?_
  · refine s_iload_n (pc := 28) dX0_about_28 rfl ?_
    refine Sm.ite (fun hq_3 => ?_) (fun hq_3 => ?_)
    · refine s_tblIn (pc := 29) (tgt := 64) dX0_about_29 0 hq_3 (by decide) rfl rfl ?_
      refine s_aload_n (pc := 64) dX0_about_64 rfl ?_
      refine s_get (pc := 65) (a := 43) (v := c 43 3) flX0_134 (t_43 _) rfl (g_43_3 _) rfl dX0_about_65 ?_
      exact s_iret (pc := 68) dX0_about_68 rfl (fun h => h)
    refine Sm.ite (fun hq_4 => ?_) (fun hq_4 => ?_)
    · refine s_tblIn (pc := 29) (tgt := 69) dX0_about_29 1 hq_4 (by decide) rfl rfl ?_
      refine s_aload_n (pc := 69) dX0_about_69 rfl ?_
      refine s_get (pc := 70) (a := 43) (v := c 43 4) flX0_27 (t_43 _) rfl (g_43_4 _) rfl dX0_about_70 ?_
      exact s_iret (pc := 73) dX0_about_73 rfl (fun h => h)
    refine Sm.ite (fun hq_5 => ?_) (fun hq_5 => ?_)
    · refine s_tblIn (pc := 29) (tgt := 74) dX0_about_29 2 hq_5 (by decide) rfl rfl ?_
      refine s_aload_n (pc := 74) dX0_about_74 rfl ?_
      refine s_get (pc := 75) (a := 43) (v := c 43 5) flX0_158 (t_43 _) rfl (g_43_5 _) rfl dX0_about_75 ?_
      exact s_iret (pc := 78) dX0_about_78 rfl (fun h => h)
    refine Sm.ite (fun hq_6 => ?_) (fun hq_6 => ?_)
    · refine s_tblIn (pc := 29) (tgt := 79) dX0_about_29 3 hq_6 (by decide) rfl rfl ?_
      refine s_aload_n (pc := 79) dX0_about_79 rfl ?_
      refine s_get (pc := 80) (a := 43) (v := c 43 13) flX0_123 (t_43 _) rfl (g_43_13 _) rfl dX0_about_80 ?_
      exact s_iret (pc := 83) dX0_about_83 rfl (fun h => h)
    refine Sm.ite (fun hq_7 => ?_) (fun hq_7 => ?_)
    · refine s_tblIn (pc := 29) (tgt := 84) dX0_about_29 4 hq_7 (by decide) rfl rfl ?_
      refine s_aload_n (pc := 84) dX0_about_84 rfl ?_
      refine s_callV3 (pc := 85) (a := 43) (as := []) (st := []) (rv := fun b => ((2, b), (sz, sl, tt td, cv c))) (st3 := fun b => [(2, b)]) (w3 := fun b => (sz, sl, tt td, cv c)) mvX0_186 (fun b h => kX0_lexicon  td c b h) rfl (by decide) (t_43 td) rfl rfl rfl (Nat.le_of_ble_eq_true rfl) (fun _ => Nat.le_of_ble_eq_true rfl) (fun _ => ⟨rfl, rfl⟩) dX0_about_85 (fun p_8 => ?_)
      refine s_getDN (pc := 88) fnX0_421 rfl dX0_about_88 ?_
      exact s_iret (pc := 91) dX0_about_91 rfl (fun h => h)
    refine s_tblOut (pc := 29) (tgt := 92) dX0_about_29 (by omega) rfl ?_
    refine s_bipush (pc := 92) dX0_about_92 ?_
    exact s_iret (pc := 94) dX0_about_94 rfl (fun h => h)
  refine s_aload_n (pc := 19) dX0_about_19 rfl ?_
  refine s_iload_n (pc := 20) dX0_about_20 rfl ?_
  refine s_bipush (pc := 21) dX0_about_21 ?_
  refine s_isub (pc := 23) dX0_about_23 ?_
  refine s_callV3 (pc := 24) (a := 43) (as := [(0, a1 - 10)]) (st := []) (rv := fun b => ((0, b), (sz, sl, tt td, cv c))) (st3 := fun b => [(0, b)]) (w3 := fun b => (sz, sl, tt td, cv c)) mvX0_412 (fun b h => kX0_wordOf (a1 - 10) td c b h) rfl (by decide) (t_43 td) rfl rfl rfl (Nat.le_of_ble_eq_true rfl) (fun _ => Nat.le_of_ble_eq_true rfl) (fun _ => ⟨rfl, rfl⟩) dX0_about_24 (fun p_9 => ?_)
  exact s_iret (pc := 27) dX0_about_27 rfl (fun h => h)
theorem kX0_about {G : GG} {sz : Nat} {sl : Nat} (a1 : Int) (td : TT) (c : CC) (x : Int) (h : fX0_about a1 td c = some x) : Ct G yX0_about muX0_about [(2, 43), (0, a1)] (sz, sl, tt td, cv c) ((0, x), (sz, sl, tt td, cv c)) :=
  Ct.of (n := 0) (ls0 := [some (2, 43), some (0, a1)]) (by decide) rfl rfl ⟨show (some .int : Option FieldType) ≠ some .float by decide, show (some .int : Option FieldType) ≠ some .double by decide⟩ (Nat.le_of_ble_eq_true rfl) rfl ⟨Nat.le_refl _, Nat.le_refl _⟩ (show (0 : Nat) ≠ 9 by decide) (fun Γ => sX0_about a1 td c x h rfl)
