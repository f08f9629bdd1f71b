/-! LAYER 2: methods of HeldTongueModel, by gen/decomp.py -/
set_option maxRecDepth 100000
theorem mvX4_455 : MV RX4 455 RX4 yX4_finds muX4_finds 1 := ⟨lw_V q1731 q1733 qs93 q129 q1734, by decide +kernel, by decide⟩
abbrev muX4_reads : MI := (cX4_reads, RX4, 2, some .boolean, 4, "reads")
noncomputable def fX4_reads (a1 : Int) (c : CC) : Option (Int × CC) :=
  cl (fX4_laysSpans 0 c) fun p_1 =>
   cl (fX4_finds a1 p_1) fun p_2 =>
   gd ((0 : Int) ≤ p_2.1 ∧ p_2.1 < 2) (some (p_2.1, p_2.2))
theorem sX4_reads {G : GG} {Γ : Cx} {r : Vv × Wd} {sz sl : Nat} {td : TT} (a1 : Int) (c : CC) : Sm (fX4_reads a1 c) (fun x => r = ((0, x.1), (sz, sl, tt td, cv x.2))) (WP G Γ muX4_reads r 0 [some (2, 111), some (0, a1)] [] (sz, sl, tt td, cv c)) := by
  unfold fX4_reads
  refine s_aload_n (pc := 0) dX4_reads_0 rfl ?_
  refine s_lconst0 (pc := 1) dX4_reads_1 ?_
  refine s_callV3 (pc := 2) (a := 111) (as := [(1, 0)]) (st := []) (rv := fun b => ((3, 0), (sz, sl, tt td, cv b))) (st3 := fun b => []) (w3 := fun b => (sz, sl, tt td, cv b)) mvX4_440 (fun b h => kX4_laysSpans 0 c b h) rfl (by decide) (t_111 td) rfl rfl rfl (Nat.le_of_ble_eq_true rfl) (fun _ => Nat.le_of_ble_eq_true rfl) (fun _ => ⟨rfl, rfl⟩) dX4_reads_2 (fun p_1 => ?_)
  refine s_aload_n (pc := 5) dX4_reads_5 rfl ?_
  refine s_iload_n (pc := 6) dX4_reads_6 rfl ?_
  refine s_callV3 (pc := 7) (a := 111) (as := [(0, a1)]) (st := []) (rv := fun b => ((0, b.1), (sz, sl, tt td, cv b.2))) (st3 := fun b => [(0, b.1)]) (w3 := fun b => (sz, sl, tt td, cv b.2)) mvX4_455 (fun b h => kX4_finds a1 p_1 b h) rfl (by decide) (t_111 td) rfl rfl rfl (Nat.le_of_ble_eq_true rfl) (fun _ => Nat.le_of_ble_eq_true rfl) (fun _ => ⟨rfl, rfl⟩) dX4_reads_7 (fun p_2 => ?_)
  exact s_zret (pc := 10) dX4_reads_10 rfl (fun h => h)
theorem kX4_reads {G : GG} {sz sl : Nat} {td : TT} (a1 : Int) (c : CC) (x : (Int × CC)) (h : fX4_reads a1 c = some x) : Ct G yX4_reads muX4_reads [(2, 111), (0, a1)] (sz, sl, tt td, cv c) ((0, x.1), (sz, sl, tt td, cv x.2)) :=
  Ct.of (n := 0) (ls0 := [some (2, 111), some (0, a1)]) (by decide) rfl rfl ⟨by decide, by decide⟩ (Nat.le_of_ble_eq_true rfl) rfl ⟨Nat.le_refl _, Nat.le_refl _⟩ (show (0 : Nat) ≠ 9 by decide) (fun Γ => sX4_reads a1 c x h rfl)
theorem mvX4_471 : MV RX4 471 RX4 yX4_reads muX4_reads 1 := ⟨lw_V q1727 q1729 qs92 q129 q1730, by decide +kernel, by decide⟩
abbrev muX4_sense : MI := (cX4_sense, RX4, 3, some .int, 5, "sense")
noncomputable def fX4_sense (a1 : Int) (a2 : Int) (c : CC) : Option (Int × CC) :=
  gd (inR ((c 112 2) - 1)) <|
   cl (fX4_in a2 0 ((c 112 2) - 1)) fun p_1 =>
   if p_1 = 0 then
  (some (-1, c))
  else
  (cl (fX4_reads a1 c) fun p_2 =>
   if p_2.1 = 0 then
  (some (-1, p_2.2))
  else
  (gd ((0 : Int) ≤ a2 ∧ a2 < 24) <|
   some (p_2.2 143 (Int.toNat a2), p_2.2)))
theorem sX4_sense {G : GG} {Γ : Cx} {r : Vv × Wd} {sz sl : Nat} {td : TT} (a1 : Int) (a2 : Int) (c : CC) : Sm (fX4_sense a1 a2 c) (fun x => r = ((0, x.1), (sz, sl, tt td, cv x.2))) (WP G Γ muX4_sense r 0 [some (2, 111), some (0, a1), some (0, a2)] [] (sz, sl, tt td, cv c)) := by
  unfold fX4_sense
  refine s_iload_n (pc := 0) dX4_sense_0 rfl ?_
  refine s_iconst (pc := 1) dX4_sense_1 ?_
  refine s_aload_n (pc := 2) dX4_sense_2 rfl ?_
  refine s_get (pc := 3) (a := 111) (v := 112) flX4_7 (t_111 _) rfl (g_111_0 _) rfl dX4_sense_3 ?_
  refine s_iconst (pc := 6) dX4_sense_6 ?_
  refine s_ialdML (pc := 7) (a := 112) 2 rfl (Nat.le_of_ble_eq_true rfl) (t_112 _) rfl r_112 dX4_sense_7 ?_
  refine s_iconst (pc := 8) dX4_sense_8 ?_
  refine s_isub (pc := 9) dX4_sense_9 ?_
  refine s_callS3 (pc := 10) (as := [(0, a2), (0, 0), (0, (c 112 2) - 1)]) (st := []) (rv := fun b => ((0, b), (sz, sl, tt td, cv c))) (st3 := fun b => [(0, b)]) (w3 := fun b => (sz, sl, tt td, cv c)) msX4_199 (fun b h => kX4_in a2 0 ((c 112 2) - 1) c b h) rfl (by decide) rfl (Nat.le_of_ble_eq_true rfl) (fun _ => Nat.le_of_ble_eq_true rfl) (fun _ => ⟨rfl, rfl⟩) dX4_sense_10 (fun p_1 => ?_)
  refine s_if_eq (pc := 13) (tgt := 33) dX4_sense_13 rfl ?_ ?_
  · refine s_iconst (pc := 33) dX4_sense_33 ?_
    exact s_iret (pc := 34) dX4_sense_34 rfl (fun h => h)
  refine s_aload_n (pc := 16) dX4_sense_16 rfl ?_
  refine s_iload_n (pc := 17) dX4_sense_17 rfl ?_
  refine s_callV3 (pc := 18) (a := 111) (as := [(0, a1)]) (st := []) (rv := fun b => ((0, b.1), (sz, sl, tt td, cv b.2))) (st3 := fun b => [(0, b.1)]) (w3 := fun b => (sz, sl, tt td, cv b.2)) mvX4_471 (fun b h => kX4_reads a1 c b h) rfl (by decide) (t_111 td) rfl rfl rfl (Nat.le_of_ble_eq_true rfl) (fun _ => Nat.le_of_ble_eq_true rfl) (fun _ => ⟨rfl, rfl⟩) dX4_sense_18 (fun p_2 => ?_)
  refine s_if_eq (pc := 21) (tgt := 33) dX4_sense_21 rfl ?_ ?_
  · refine s_iconst (pc := 33) dX4_sense_33 ?_
    exact s_iret (pc := 34) dX4_sense_34 rfl (fun h => h)
  refine s_aload_n (pc := 24) dX4_sense_24 rfl ?_
  refine s_get (pc := 25) (a := 111) (v := 143) flX4_112 (t_111 _) rfl (g_111_49 _) rfl dX4_sense_25 ?_
  refine s_iload_n (pc := 28) dX4_sense_28 rfl ?_
  refine s_ialdM (pc := 29) (a := 143) (t_143 _) rfl r_143 dX4_sense_29 ?_
  refine s_goto (pc := 30) (tgt := 34) dX4_sense_30 rfl ?_
  exact s_iret (pc := 34) dX4_sense_34 rfl (fun h => h)
theorem kX4_sense {G : GG} {sz sl : Nat} {td : TT} (a1 : Int) (a2 : Int) (c : CC) (x : (Int × CC)) (h : fX4_sense a1 a2 c = some x) : Ct G yX4_sense muX4_sense [(2, 111), (0, a1), (0, a2)] (sz, sl, tt td, cv c) ((0, x.1), (sz, sl, tt td, cv x.2)) :=
  Ct.of (n := 0) (ls0 := [some (2, 111), some (0, a1), some (0, a2)]) (by decide) rfl rfl ⟨by decide, by decide⟩ (Nat.le_of_ble_eq_true rfl) rfl ⟨Nat.le_refl _, Nat.le_refl _⟩ (show (0 : Nat) ≠ 9 by decide) (fun Γ => sX4_sense a1 a2 c x h rfl)
abbrev muX4_taken : MI := (cX4_taken, RX4, 3, some .int, 5, "taken")
noncomputable def fX4_taken (a1 : Int) (a2 : Int) (c : CC) : Option (Int × CC) :=
  gd (inR ((c 112 2) - 1)) <|
   cl (fX4_in a2 0 ((c 112 2) - 1)) fun p_1 =>
   if p_1 = 0 then
  (some (-1, c))
  else
  (cl (fX4_reads a1 c) fun p_2 =>
   if p_2.1 = 0 then
  (some (-1, p_2.2))
  else
  (gd ((0 : Int) ≤ a2 ∧ a2 < 24) <|
   some (p_2.2 144 (Int.toNat a2), p_2.2)))
theorem sX4_taken {G : GG} {Γ : Cx} {r : Vv × Wd} {sz sl : Nat} {td : TT} (a1 : Int) (a2 : Int) (c : CC) : Sm (fX4_taken a1 a2 c) (fun x => r = ((0, x.1), (sz, sl, tt td, cv x.2))) (WP G Γ muX4_taken r 0 [some (2, 111), some (0, a1), some (0, a2)] [] (sz, sl, tt td, cv c)) := by
  unfold fX4_taken
  refine s_iload_n (pc := 0) dX4_taken_0 rfl ?_
  refine s_iconst (pc := 1) dX4_taken_1 ?_
  refine s_aload_n (pc := 2) dX4_taken_2 rfl ?_
  refine s_get (pc := 3) (a := 111) (v := 112) flX4_7 (t_111 _) rfl (g_111_0 _) rfl dX4_taken_3 ?_
  refine s_iconst (pc := 6) dX4_taken_6 ?_
  refine s_ialdML (pc := 7) (a := 112) 2 rfl (Nat.le_of_ble_eq_true rfl) (t_112 _) rfl r_112 dX4_taken_7 ?_
  refine s_iconst (pc := 8) dX4_taken_8 ?_
  refine s_isub (pc := 9) dX4_taken_9 ?_
  refine s_callS3 (pc := 10) (as := [(0, a2), (0, 0), (0, (c 112 2) - 1)]) (st := []) (rv := fun b => ((0, b), (sz, sl, tt td, cv c))) (st3 := fun b => [(0, b)]) (w3 := fun b => (sz, sl, tt td, cv c)) msX4_199 (fun b h => kX4_in a2 0 ((c 112 2) - 1) c b h) rfl (by decide) rfl (Nat.le_of_ble_eq_true rfl) (fun _ => Nat.le_of_ble_eq_true rfl) (fun _ => ⟨rfl, rfl⟩) dX4_taken_10 (fun p_1 => ?_)
  refine s_if_eq (pc := 13) (tgt := 33) dX4_taken_13 rfl ?_ ?_
  · refine s_iconst (pc := 33) dX4_taken_33 ?_
    exact s_iret (pc := 34) dX4_taken_34 rfl (fun h => h)
  refine s_aload_n (pc := 16) dX4_taken_16 rfl ?_
  refine s_iload_n (pc := 17) dX4_taken_17 rfl ?_
  refine s_callV3 (pc := 18) (a := 111) (as := [(0, a1)]) (st := []) (rv := fun b => ((0, b.1), (sz, sl, tt td, cv b.2))) (st3 := fun b => [(0, b.1)]) (w3 := fun b => (sz, sl, tt td, cv b.2)) mvX4_471 (fun b h => kX4_reads a1 c b h) rfl (by decide) (t_111 td) rfl rfl rfl (Nat.le_of_ble_eq_true rfl) (fun _ => Nat.le_of_ble_eq_true rfl) (fun _ => ⟨rfl, rfl⟩) dX4_taken_18 (fun p_2 => ?_)
  refine s_if_eq (pc := 21) (tgt := 33) dX4_taken_21 rfl ?_ ?_
  · refine s_iconst (pc := 33) dX4_taken_33 ?_
    exact s_iret (pc := 34) dX4_taken_34 rfl (fun h => h)
  refine s_aload_n (pc := 24) dX4_taken_24 rfl ?_
  refine s_get (pc := 25) (a := 111) (v := 144) flX4_115 (t_111 _) rfl (g_111_50 _) rfl dX4_taken_25 ?_
  refine s_iload_n (pc := 28) dX4_taken_28 rfl ?_
  refine s_ialdM (pc := 29) (a := 144) (t_144 _) rfl r_144 dX4_taken_29 ?_
  refine s_goto (pc := 30) (tgt := 34) dX4_taken_30 rfl ?_
  exact s_iret (pc := 34) dX4_taken_34 rfl (fun h => h)
theorem kX4_taken {G : GG} {sz sl : Nat} {td : TT} (a1 : Int) (a2 : Int) (c : CC) (x : (Int × CC)) (h : fX4_taken a1 a2 c = some x) : Ct G yX4_taken muX4_taken [(2, 111), (0, a1), (0, a2)] (sz, sl, tt td, cv c) ((0, x.1), (sz, sl, tt td, cv x.2)) :=
  Ct.of (n := 0) (ls0 := [some (2, 111), some (0, a1), some (0, a2)]) (by decide) rfl rfl ⟨by decide, by decide⟩ (Nat.le_of_ble_eq_true rfl) rfl ⟨Nat.le_refl _, Nat.le_refl _⟩ (show (0 : Nat) ≠ 9 by decide) (fun Γ => sX4_taken a1 a2 c x h rfl)
abbrev muX4_span : MI := (cX4_span, RX4, 5, some .int, 4, "span")
abbrev gX4_span_l44 (G : GG) (Γ : Cx) (r : Vv × Wd) (sz sl : Nat) (td : TT) (v1 : Int) (v2 : Int) (c : CC) : (Int × Int) → Prop := fun s => WP G Γ muX4_span r 44 [some (2, 111), some (0, v1), some (0, v2), some (0, s.1), some (0, s.2)] [] (sz, sl, tt td, cv c)
abbrev eX4_span_l44 (G : GG) (Γ : Cx) (r : Vv × Wd) (sz sl : Nat) (td : TT) (v1 : Int) (v2 : Int) (c : CC) : (Int) → Prop := (fun s => WP G Γ muX4_span r 81 [none, none, none, some (0, s), none] [] (sz, sl, tt td, cv c))
noncomputable def fX4_span_l44 (v1 : Int) (v2 : Int) (v3 : Int) (v4 : Int) (c : CC) : Option ((Int × Int) ⊕ (Int)) :=
  if v4 < 8 then
  (cl (fX4_oneOf v1 v2 v4 c) fun p_4 =>
   if (0 : Int) < p_4 then
  (bd (orI v3 (shlI 1 v4)) fun v3_6 =>
   gd (inR (v4 + 1)) <| bd (v4 + 1) fun v4_7 =>
   some (.inl (v3_6, v4_7)))
  else
  (gd (inR (v4 + 1)) <| bd (v4 + 1) fun v4_5 =>
   some (.inl (v3, v4_5))))
  else
  (some (.inr v3))
theorem sX4_span_l44 {G : GG} {Γ : Cx} {r : Vv × Wd} {sz sl : Nat} {td : TT} (v1 : Int) (v2 : Int) (v3 : Int) (v4 : Int) (c : CC) : Sm (fX4_span_l44 v1 v2 v3 v4 c) (fun x => Sum.elim (gX4_span_l44 G Γ r sz sl td v1 v2 c) (eX4_span_l44 G Γ r sz sl td v1 v2 c) x) (gX4_span_l44 G Γ r sz sl td v1 v2 c (v3, v4)) := by
  show Sm _ _ (WP G Γ muX4_span r 44 [some (2, 111), some (0, v1), some (0, v2), some (0, v3), some (0, v4)] [] (sz, sl, tt td, cv c))
  unfold fX4_span_l44
  refine s_iload (pc := 44) dX4_span_44 rfl ?_
  refine s_bipush (pc := 46) dX4_span_46 ?_
  refine s_icmp_ge (pc := 48) (tgt := 81) dX4_span_48 rfl ?_ ?_
  · refine s_wk [false, false, false, true, false] (ls' := [none, none, none, some (0, v3), none]) rfl ?_
    exact Sm.some (fun h => h)
  refine s_aload_n (pc := 51) dX4_span_51 rfl ?_
  refine s_iload_n (pc := 52) dX4_span_52 rfl ?_
  refine s_iload_n (pc := 53) dX4_span_53 rfl ?_
  refine s_iload (pc := 54) dX4_span_54 rfl ?_
  refine s_callV3 (pc := 56) (a := 111) (as := [(0, v1), (0, v2), (0, v4)]) (st := []) (rv := fun b => ((1, b), (sz, sl, tt td, cv c))) (st3 := fun b => [(1, b)]) (w3 := fun b => (sz, sl, tt td, cv c)) mvX4_394 (fun b h => kX4_oneOf v1 v2 v4 c b h) rfl (by decide) (t_111 td) rfl rfl rfl (Nat.le_of_ble_eq_true rfl) (fun _ => Nat.le_of_ble_eq_true rfl) (fun _ => ⟨rfl, rfl⟩) dX4_span_56 (fun p_4 => ?_)
  refine s_lconst0 (pc := 59) dX4_span_59 ?_
  refine s_lcmp_le (pc := 60) (tgt := 73) dX4_span_60 dX4_span_61 rfl ?_ ?_
  · refine s_iload_n (pc := 73) dX4_span_73 rfl ?_
    refine s_istore_nD (pc := 74) (ls' := [some (2, 111), some (0, v1), some (0, v2), some (0, v3), some (0, v4)]) dX4_span_74 rfl (Nat.le_of_ble_eq_true rfl) ?_
    refine s_iinc (pc := 75) (lf := fun x => [some (2, 111), some (0, v1), some (0, v2), some (0, v3), some (0, x)]) dX4_span_75 rfl (fun _ => rfl) (Nat.le_of_ble_eq_true rfl) (fun v4_5 => ?_)
    refine s_goto (pc := 78) (tgt := 44) dX4_span_78 rfl ?_
    exact Sm.some (fun h => h)
  refine s_iload_n (pc := 64) dX4_span_64 rfl ?_
  refine s_iconst (pc := 65) dX4_span_65 ?_
  refine s_iload (pc := 66) dX4_span_66 rfl ?_
  refine s_ishl (pc := 68) dX4_span_68 ?_
  refine s_ior (pc := 69) dX4_span_69 ?_
  refine s_goto (pc := 70) (tgt := 74) dX4_span_70 rfl ?_
  refine s_istore_n (pc := 74) (lf := fun x => [some (2, 111), some (0, v1), some (0, v2), some (0, x), some (0, v4)]) dX4_span_74 (fun _ => rfl) (Nat.le_of_ble_eq_true rfl) (fun v3_6 => ?_)
  refine s_iinc (pc := 75) (lf := fun x => [some (2, 111), some (0, v1), some (0, v2), some (0, v3_6), some (0, x)]) dX4_span_75 rfl (fun _ => rfl) (Nat.le_of_ble_eq_true rfl) (fun v4_7 => ?_)
  refine s_goto (pc := 78) (tgt := 44) dX4_span_78 rfl ?_
  exact Sm.some (fun h => h)
noncomputable def fX4_span (a1 : Int) (a2 : Int) (c : CC) : Option (Int × CC) :=
  gd (inR ((c 112 2) - 1)) <|
   cl (fX4_in a1 0 ((c 112 2) - 1)) fun p_1 =>
   if p_1 = 0 then
  (some (-1, c))
  else
  (gd (inR ((c 112 2) - 1)) <|
   cl (fX4_in a2 a1 ((c 112 2) - 1)) fun p_2 =>
   if p_2 = 0 then
  (some (-1, c))
  else
  (cl (fX4_laysSpans 0 c) fun p_3 =>
   cl (wh (fun s => fX4_span_l44 a1 a2 s.1 s.2 p_3) (0, 0)) (fun e_8 =>
  some (e_8, p_3))))
theorem sX4_span {G : GG} {Γ : Cx} {r : Vv × Wd} {sz sl : Nat} {td : TT} (a1 : Int) (a2 : Int) (c : CC) : Sm (fX4_span a1 a2 c) (fun x => r = ((0, x.1), (sz, sl, tt td, cv x.2))) (WP G Γ muX4_span r 0 [some (2, 111), some (0, a1), some (0, a2), none, none] [] (sz, sl, tt td, cv c)) := by
  unfold fX4_span
  refine s_iload_n (pc := 0) dX4_span_0 rfl ?_
  refine s_iconst (pc := 1) dX4_span_1 ?_
  refine s_aload_n (pc := 2) dX4_span_2 rfl ?_
  refine s_get (pc := 3) (a := 111) (v := 112) flX4_7 (t_111 _) rfl (g_111_0 _) rfl dX4_span_3 ?_
  refine s_iconst (pc := 6) dX4_span_6 ?_
  refine s_ialdML (pc := 7) (a := 112) 2 rfl (Nat.le_of_ble_eq_true rfl) (t_112 _) rfl r_112 dX4_span_7 ?_
  refine s_iconst (pc := 8) dX4_span_8 ?_
  refine s_isub (pc := 9) dX4_span_9 ?_
  refine s_callS3 (pc := 10) (as := [(0, a1), (0, 0), (0, (c 112 2) - 1)]) (st := []) (rv := fun b => ((0, b), (sz, sl, tt td, cv c))) (st3 := fun b => [(0, b)]) (w3 := fun b => (sz, sl, tt td, cv c)) msX4_199 (fun b h => kX4_in a1 0 ((c 112 2) - 1) c b h) rfl (by decide) rfl (Nat.le_of_ble_eq_true rfl) (fun _ => Nat.le_of_ble_eq_true rfl) (fun _ => ⟨rfl, rfl⟩) dX4_span_10 (fun p_1 => ?_)
  refine s_if_eq (pc := 13) (tgt := 32) dX4_span_13 rfl ?_ ?_
  · refine s_iconst (pc := 32) dX4_span_32 ?_
    exact s_iret (pc := 33) dX4_span_33 rfl (fun h => h)
  refine s_iload_n (pc := 16) dX4_span_16 rfl ?_
  refine s_iload_n (pc := 17) dX4_span_17 rfl ?_
  refine s_aload_n (pc := 18) dX4_span_18 rfl ?_
  refine s_get (pc := 19) (a := 111) (v := 112) flX4_7 (t_111 _) rfl (g_111_0 _) rfl dX4_span_19 ?_
  refine s_iconst (pc := 22) dX4_span_22 ?_
  refine s_ialdML (pc := 23) (a := 112) 2 rfl (Nat.le_of_ble_eq_true rfl) (t_112 _) rfl r_112 dX4_span_23 ?_
  refine s_iconst (pc := 24) dX4_span_24 ?_
  refine s_isub (pc := 25) dX4_span_25 ?_
  refine s_callS3 (pc := 26) (as := [(0, a2), (0, a1), (0, (c 112 2) - 1)]) (st := []) (rv := fun b => ((0, b), (sz, sl, tt td, cv c))) (st3 := fun b => [(0, b)]) (w3 := fun b => (sz, sl, tt td, cv c)) msX4_199 (fun b h => kX4_in a2 a1 ((c 112 2) - 1) c b h) rfl (by decide) rfl (Nat.le_of_ble_eq_true rfl) (fun _ => Nat.le_of_ble_eq_true rfl) (fun _ => ⟨rfl, rfl⟩) dX4_span_26 (fun p_2 => ?_)
  refine s_if_ne (pc := 29) (tgt := 34) dX4_span_29 rfl ?_ ?_
  · refine s_aload_n (pc := 34) dX4_span_34 rfl ?_
    refine s_lconst0 (pc := 35) dX4_span_35 ?_
    refine s_callV3 (pc := 36) (a := 111) (as := [(1, 0)]) (st := []) (rv := fun b => ((3, 0), (sz, sl, tt td, cv b))) (st3 := fun b => []) (w3 := fun b => (sz, sl, tt td, cv b)) mvX4_440 (fun b h => kX4_laysSpans 0 c b h) rfl (by decide) (t_111 td) rfl rfl rfl (Nat.le_of_ble_eq_true rfl) (fun _ => Nat.le_of_ble_eq_true rfl) (fun _ => ⟨rfl, rfl⟩) dX4_span_36 (fun p_3 => ?_)
    refine s_iconst (pc := 39) dX4_span_39 ?_
    refine s_istore_nD (pc := 40) (ls' := [some (2, 111), some (0, a1), some (0, a2), some (0, 0), none]) dX4_span_40 rfl (Nat.le_of_ble_eq_true rfl) ?_
    refine s_iconst (pc := 41) dX4_span_41 ?_
    refine s_istoreD (pc := 42) (ls' := [some (2, 111), some (0, a1), some (0, a2), some (0, 0), some (0, 0)]) dX4_span_42 rfl (Nat.le_of_ble_eq_true rfl) ?_
    refine s_loop (g := gX4_span_l44 G Γ r sz sl td a1 a2 p_3) (Ex := eX4_span_l44 G Γ r sz sl td a1 a2 p_3) (s0 := (0, 0)) (fun s => sX4_span_l44 a1 a2 s.1 s.2 p_3) ?_
    intro e_8
    show Sm _ _ (WP G Γ muX4_span r 81 [none, none, none, some (0, e_8), none] [] (sz, sl, tt td, cv p_3))
    refine s_iload_n (pc := 81) dX4_span_81 rfl ?_
    exact s_iret (pc := 82) dX4_span_82 rfl (fun h => h)
  refine s_iconst (pc := 32) dX4_span_32 ?_
  exact s_iret (pc := 33) dX4_span_33 rfl (fun h => h)
theorem kX4_span {G : GG} {sz sl : Nat} {td : TT} (a1 : Int) (a2 : Int) (c : CC) (x : (Int × CC)) (h : fX4_span a1 a2 c = some x) : Ct G yX4_span muX4_span [(2, 111), (0, a1), (0, a2)] (sz, sl, tt td, cv c) ((0, x.1), (sz, sl, tt td, cv x.2)) :=
  Ct.of (n := 2) (ls0 := [some (2, 111), some (0, a1), some (0, a2), none, none]) (by decide) rfl rfl ⟨by decide, by decide⟩ (Nat.le_of_ble_eq_true rfl) rfl ⟨Nat.le_refl _, Nat.le_refl _⟩ (show (0 : Nat) ≠ 9 by decide) (fun Γ => sX4_span a1 a2 c x h rfl)
abbrev muX4_open : MI := (cX4_open, RX4, 4, some .int, 4, "open")
abbrev gX4_open_l42 (G : GG) (Γ : Cx) (r : Vv × Wd) (sz sl : Nat) (td : TT) (v1 : Int) : (Int × Int × CC) → Prop := fun s => WP G Γ muX4_open r 42 [some (2, 111), some (0, v1), some (0, s.1), some (0, s.2.1)] [] (sz, sl, tt td, cv s.2.2)
abbrev eX4_open_l42 (G : GG) (Γ : Cx) (r : Vv × Wd) (sz sl : Nat) (td : TT) (v1 : Int) : (Int × CC) → Prop := (fun s => WP G Γ muX4_open r 95 [some (2, 111), some (0, v1), some (0, s.1), none] [] (sz, sl, tt td, cv s.2))
noncomputable def fX4_open_l42 (v1 : Int) (v2 : Int) (v3 : Int) (c : CC) : Option ((Int × Int × CC) ⊕ (Int × CC)) :=
  if v3 < 20 then
  (gd (inR (10 + (c 112 2))) <|
   gd (inR ((10 + (c 112 2)) - 1)) <|
   gd ((0 : Int) ≤ (10 + (c 112 2)) - 1 ∧ (10 + (c 112 2)) - 1 < 40) <| bd (up2 c 112 (Int.toNat ((10 + (c 112 2)) - 1)) v3) fun c_3 =>
   cl (fX4_laysSpans 0 c_3) fun p_4 =>
   cl (fX4_readings  p_4) fun p_5 =>
   if (0 : Int) < p_5 then
  (bd (orI v2 (shlI 1 v3)) fun v2_7 =>
   gd (inR (v3 + 1)) <| bd (v3 + 1) fun v3_8 =>
   some (.inl (v2_7, v3_8, p_4)))
  else
  (gd (inR (v3 + 1)) <| bd (v3 + 1) fun v3_6 =>
   some (.inl (v2, v3_6, p_4))))
  else
  (some (.inr (v2, c)))
theorem sX4_open_l42 {G : GG} {Γ : Cx} {r : Vv × Wd} {sz sl : Nat} {td : TT} (v1 : Int) (v2 : Int) (v3 : Int) (c : CC) : Sm (fX4_open_l42 v1 v2 v3 c) (fun x => Sum.elim (gX4_open_l42 G Γ r sz sl td v1) (eX4_open_l42 G Γ r sz sl td v1) x) (gX4_open_l42 G Γ r sz sl td v1 (v2, v3, c)) := by
  show Sm _ _ (WP G Γ muX4_open r 42 [some (2, 111), some (0, v1), some (0, v2), some (0, v3)] [] (sz, sl, tt td, cv c))
  unfold fX4_open_l42
  refine s_iload_n (pc := 42) dX4_open_42 rfl ?_
  refine s_bipush (pc := 43) dX4_open_43 ?_
  refine s_icmp_ge (pc := 45) (tgt := 95) dX4_open_45 rfl ?_ ?_
  · refine s_wk [true, true, true, false] (ls' := [some (2, 111), some (0, v1), some (0, v2), none]) rfl ?_
    exact Sm.some (fun h => h)
  refine s_aload_n (pc := 48) dX4_open_48 rfl ?_
  refine s_get (pc := 49) (a := 111) (v := 112) flX4_7 (t_111 _) rfl (g_111_0 _) rfl dX4_open_49 ?_
  refine s_bipush (pc := 52) dX4_open_52 ?_
  refine s_aload_n (pc := 54) dX4_open_54 rfl ?_
  refine s_get (pc := 55) (a := 111) (v := 112) flX4_7 (t_111 _) rfl (g_111_0 _) rfl dX4_open_55 ?_
  refine s_iconst (pc := 58) dX4_open_58 ?_
  refine s_ialdML (pc := 59) (a := 112) 2 rfl (Nat.le_of_ble_eq_true rfl) (t_112 _) rfl r_112 dX4_open_59 ?_
  refine s_iadd (pc := 60) dX4_open_60 ?_
  refine s_iconst (pc := 61) dX4_open_61 ?_
  refine s_isub (pc := 62) dX4_open_62 ?_
  refine s_iload_n (pc := 63) dX4_open_63 rfl ?_
  refine s_iastM (pc := 64) (a := 112) (t_112 _) rfl kO_112 r_112 dX4_open_64 (fun c_3 => ?_)
  refine s_aload_n (pc := 65) dX4_open_65 rfl ?_
  refine s_lconst0 (pc := 66) dX4_open_66 ?_
  refine s_callV3 (pc := 67) (a := 111) (as := [(1, 0)]) (st := []) (rv := fun b => ((3, 0), (sz, sl, tt td, cv b))) (st3 := fun b => []) (w3 := fun b => (sz, sl, tt td, cv b)) mvX4_440 (fun b h => kX4_laysSpans 0 c_3 b h) rfl (by decide) (t_111 td) rfl rfl rfl (Nat.le_of_ble_eq_true rfl) (fun _ => Nat.le_of_ble_eq_true rfl) (fun _ => ⟨rfl, rfl⟩) dX4_open_67 (fun p_4 => ?_)
  refine s_aload_n (pc := 70) dX4_open_70 rfl ?_
  refine s_callV3 (pc := 71) (a := 111) (as := []) (st := []) (rv := fun b => ((1, b), (sz, sl, tt td, cv p_4))) (st3 := fun b => [(1, b)]) (w3 := fun b => (sz, sl, tt td, cv p_4)) mvX4_444 (fun b h => kX4_readings  p_4 b h) rfl (by decide) (t_111 td) rfl rfl rfl (Nat.le_of_ble_eq_true rfl) (fun _ => Nat.le_of_ble_eq_true rfl) (fun _ => ⟨rfl, rfl⟩) dX4_open_71 (fun p_5 => ?_)
  refine s_lconst0 (pc := 74) dX4_open_74 ?_
  refine s_lcmp_le (pc := 75) (tgt := 87) dX4_open_75 dX4_open_76 rfl ?_ ?_
  · refine s_iload_n (pc := 87) dX4_open_87 rfl ?_
    refine s_istore_nD (pc := 88) (ls' := [some (2, 111), some (0, v1), some (0, v2), some (0, v3)]) dX4_open_88 rfl (Nat.le_of_ble_eq_true rfl) ?_
    refine s_iinc (pc := 89) (lf := fun x => [some (2, 111), some (0, v1), some (0, v2), some (0, x)]) dX4_open_89 rfl (fun _ => rfl) (Nat.le_of_ble_eq_true rfl) (fun v3_6 => ?_)
    refine s_goto (pc := 92) (tgt := 42) dX4_open_92 rfl ?_
    exact Sm.some (fun h => h)
  refine s_iload_n (pc := 79) dX4_open_79 rfl ?_
  refine s_iconst (pc := 80) dX4_open_80 ?_
  refine s_iload_n (pc := 81) dX4_open_81 rfl ?_
  refine s_ishl (pc := 82) dX4_open_82 ?_
  refine s_ior (pc := 83) dX4_open_83 ?_
  refine s_goto (pc := 84) (tgt := 88) dX4_open_84 rfl ?_
  refine s_istore_n (pc := 88) (lf := fun x => [some (2, 111), some (0, v1), some (0, x), some (0, v3)]) dX4_open_88 (fun _ => rfl) (Nat.le_of_ble_eq_true rfl) (fun v2_7 => ?_)
  refine s_iinc (pc := 89) (lf := fun x => [some (2, 111), some (0, v1), some (0, v2_7), some (0, x)]) dX4_open_89 rfl (fun _ => rfl) (Nat.le_of_ble_eq_true rfl) (fun v3_8 => ?_)
  refine s_goto (pc := 92) (tgt := 42) dX4_open_92 rfl ?_
  exact Sm.some (fun h => h)
noncomputable def fX4_open  (c : CC) : Option (Int × CC) :=
  if c 112 2 = 24 then
  (some (0, c))
  else
  (gd (inR (10 + (c 112 2))) <|
   gd ((0 : Int) ≤ 10 + (c 112 2) ∧ 10 + (c 112 2) < 40) <|
   bd (c 112 (Int.toNat (10 + (c 112 2)))) fun v1_1 =>
   gd (inR ((c 112 2) + 1)) <|
   bd (up2 c 112 2 ((c 112 2) + 1)) fun c_2 =>
   cl (wh (fun s => fX4_open_l42 v1_1 s.1 s.2.1 s.2.2) (0, 0, c_2)) (fun e_9 =>
  gd (inR ((e_9.2 112 2) - 1)) <|
   bd (up2 e_9.2 112 2 ((e_9.2 112 2) - 1)) fun c_10 =>
   gd (inR (10 + (c_10 112 2))) <|
   gd ((0 : Int) ≤ 10 + (c_10 112 2) ∧ 10 + (c_10 112 2) < 40) <| bd (up2 c_10 112 (Int.toNat (10 + (c_10 112 2))) v1_1) fun c_11 =>
   some (e_9.1, c_11)))
theorem sX4_open {G : GG} {Γ : Cx} {r : Vv × Wd} {sz sl : Nat} {td : TT}  (c : CC) : Sm (fX4_open  c) (fun x => r = ((0, x.1), (sz, sl, tt td, cv x.2))) (WP G Γ muX4_open r 0 [some (2, 111), none, none, none] [] (sz, sl, tt td, cv c)) := by
  unfold fX4_open
  refine s_aload_n (pc := 0) dX4_open_0 rfl ?_
  refine s_get (pc := 1) (a := 111) (v := 112) flX4_7 (t_111 _) rfl (g_111_0 _) rfl dX4_open_1 ?_
  refine s_iconst (pc := 4) dX4_open_4 ?_
  refine s_ialdML (pc := 5) (a := 112) 2 rfl (Nat.le_of_ble_eq_true rfl) (t_112 _) rfl r_112 dX4_open_5 ?_
  refine s_bipush (pc := 6) dX4_open_6 ?_
  refine s_icmp_ne (pc := 8) (tgt := 13) dX4_open_8 rfl ?_ ?_
  · refine s_aload_n (pc := 13) dX4_open_13 rfl ?_
    refine s_get (pc := 14) (a := 111) (v := 112) flX4_7 (t_111 _) rfl (g_111_0 _) rfl dX4_open_14 ?_
    refine s_bipush (pc := 17) dX4_open_17 ?_
    refine s_aload_n (pc := 19) dX4_open_19 rfl ?_
    refine s_get (pc := 20) (a := 111) (v := 112) flX4_7 (t_111 _) rfl (g_111_0 _) rfl dX4_open_20 ?_
    refine s_iconst (pc := 23) dX4_open_23 ?_
    refine s_ialdML (pc := 24) (a := 112) 2 rfl (Nat.le_of_ble_eq_true rfl) (t_112 _) rfl r_112 dX4_open_24 ?_
    refine s_iadd (pc := 25) dX4_open_25 ?_
    refine s_ialdM (pc := 26) (a := 112) (t_112 _) rfl r_112 dX4_open_26 ?_
    refine s_istore_n (pc := 27) (lf := fun x => [some (2, 111), some (0, x), none, none]) dX4_open_27 (fun _ => rfl) (Nat.le_of_ble_eq_true rfl) (fun v1_1 => ?_)
    refine s_iconst (pc := 28) dX4_open_28 ?_
    refine s_istore_nD (pc := 29) (ls' := [some (2, 111), some (0, v1_1), some (0, 0), none]) dX4_open_29 rfl (Nat.le_of_ble_eq_true rfl) ?_
    refine s_aload_n (pc := 30) dX4_open_30 rfl ?_
    refine s_get (pc := 31) (a := 111) (v := 112) flX4_7 (t_111 _) rfl (g_111_0 _) rfl dX4_open_31 ?_
    refine s_iconst (pc := 34) dX4_open_34 ?_
    refine s_dup2 (pc := 35) (by decide : ¬ (0 : Nat) = 1) (by decide : ¬ (2 : Nat) = 1) dX4_open_35 ?_
    refine s_ialdML (pc := 36) (a := 112) 2 rfl (Nat.le_of_ble_eq_true rfl) (t_112 _) rfl r_112 dX4_open_36 ?_
    refine s_iconst (pc := 37) dX4_open_37 ?_
    refine s_iadd (pc := 38) dX4_open_38 ?_
    refine s_iastML (pc := 39) (a := 112) 2 rfl (Nat.le_of_ble_eq_true rfl) (t_112 _) rfl kO_112 r_112 dX4_open_39 (fun c_2 => ?_)
    refine s_iconst (pc := 40) dX4_open_40 ?_
    refine s_istore_nD (pc := 41) (ls' := [some (2, 111), some (0, v1_1), some (0, 0), some (0, 0)]) dX4_open_41 rfl (Nat.le_of_ble_eq_true rfl) ?_
    refine s_loop (g := gX4_open_l42 G Γ r sz sl td v1_1) (Ex := eX4_open_l42 G Γ r sz sl td v1_1) (s0 := (0, 0, c_2)) (fun s => sX4_open_l42 v1_1 s.1 s.2.1 s.2.2) ?_
    intro e_9
    show Sm _ _ (WP G Γ muX4_open r 95 [some (2, 111), some (0, v1_1), some (0, e_9.1), none] [] (sz, sl, tt td, cv e_9.2))
    refine s_aload_n (pc := 95) dX4_open_95 rfl ?_
    refine s_get (pc := 96) (a := 111) (v := 112) flX4_7 (t_111 _) rfl (g_111_0 _) rfl dX4_open_96 ?_
    refine s_iconst (pc := 99) dX4_open_99 ?_
    refine s_dup2 (pc := 100) (by decide : ¬ (0 : Nat) = 1) (by decide : ¬ (2 : Nat) = 1) dX4_open_100 ?_
    refine s_ialdML (pc := 101) (a := 112) 2 rfl (Nat.le_of_ble_eq_true rfl) (t_112 _) rfl r_112 dX4_open_101 ?_
    refine s_iconst (pc := 102) dX4_open_102 ?_
    refine s_isub (pc := 103) dX4_open_103 ?_
    refine s_iastML (pc := 104) (a := 112) 2 rfl (Nat.le_of_ble_eq_true rfl) (t_112 _) rfl kO_112 r_112 dX4_open_104 (fun c_10 => ?_)
    refine s_aload_n (pc := 105) dX4_open_105 rfl ?_
    refine s_get (pc := 106) (a := 111) (v := 112) flX4_7 (t_111 _) rfl (g_111_0 _) rfl dX4_open_106 ?_
    refine s_bipush (pc := 109) dX4_open_109 ?_
    refine s_aload_n (pc := 111) dX4_open_111 rfl ?_
    refine s_get (pc := 112) (a := 111) (v := 112) flX4_7 (t_111 _) rfl (g_111_0 _) rfl dX4_open_112 ?_
    refine s_iconst (pc := 115) dX4_open_115 ?_
    refine s_ialdML (pc := 116) (a := 112) 2 rfl (Nat.le_of_ble_eq_true rfl) (t_112 _) rfl r_112 dX4_open_116 ?_
    refine s_iadd (pc := 117) dX4_open_117 ?_
    refine s_iload_n (pc := 118) dX4_open_118 rfl ?_
    refine s_iastM (pc := 119) (a := 112) (t_112 _) rfl kO_112 r_112 dX4_open_119 (fun c_11 => ?_)
    refine s_iload_n (pc := 120) dX4_open_120 rfl ?_
    exact s_iret (pc := 121) dX4_open_121 rfl (fun h => h)
  refine s_iconst (pc := 11) dX4_open_11 ?_
  exact s_iret (pc := 12) dX4_open_12 rfl (fun h => h)
theorem kX4_open {G : GG} {sz sl : Nat} {td : TT}  (c : CC) (x : (Int × CC)) (h : fX4_open  c = some x) : Ct G yX4_open muX4_open [(2, 111)] (sz, sl, tt td, cv c) ((0, x.1), (sz, sl, tt td, cv x.2)) :=
  Ct.of (n := 3) (ls0 := [some (2, 111), none, none, none]) (by decide) rfl rfl ⟨by decide, by decide⟩ (Nat.le_of_ble_eq_true rfl) rfl ⟨Nat.le_refl _, Nat.le_refl _⟩ (show (0 : Nat) ≠ 9 by decide) (fun Γ => sX4_open  c x h rfl)
abbrev muX4_greater : MI := (cX4_greater, RX4, 2, some .int, 1, "greater")
noncomputable def fX4_greater (a0 : Int) (a1 : Int) : Option Int :=
  if a1 < a0 then
  (some a0)
  else
  (some a1)
theorem sX4_greater {G : GG} {Γ : Cx} {r : Vv × Wd} {sz sl : Nat} {td : TT} (a0 : Int) (a1 : Int) (c : CC) : Sm (fX4_greater a0 a1) (fun x => r = ((0, x), (sz, sl, tt td, cv c))) (WP G Γ muX4_greater r 0 [some (0, a0), some (0, a1)] [] (sz, sl, tt td, cv c)) := by
  unfold fX4_greater
  refine s_iload_n (pc := 0) dX4_greater_0 rfl ?_
  refine s_iload_n (pc := 1) dX4_greater_1 rfl ?_
  refine s_icmp_le (pc := 2) (tgt := 9) dX4_greater_2 rfl ?_ ?_
  · refine s_iload_n (pc := 9) dX4_greater_9 rfl ?_
    exact s_iret (pc := 10) dX4_greater_10 rfl (fun h => h)
  refine s_iload_n (pc := 5) dX4_greater_5 rfl ?_
  refine s_goto (pc := 6) (tgt := 10) dX4_greater_6 rfl ?_
  exact s_iret (pc := 10) dX4_greater_10 rfl (fun h => h)
theorem kX4_greater {G : GG} {sz sl : Nat} {td : TT} (a0 : Int) (a1 : Int) (c : CC) (x : Int) (h : fX4_greater a0 a1 = some x) : Ct G yX4_greater muX4_greater [(0, a0), (0, a1)] (sz, sl, tt td, cv c) ((0, x), (sz, sl, tt td, cv c)) :=
  Ct.of (n := 0) (ls0 := [some (0, a0), some (0, a1)]) (by decide) rfl rfl ⟨by decide, by decide⟩ (Nat.le_of_ble_eq_true rfl) rfl ⟨Nat.le_refl _, Nat.le_refl _⟩ (show (0 : Nat) ≠ 9 by decide) (fun Γ => sX4_greater a0 a1 c x h rfl)
abbrev muX4_lesser : MI := (cX4_lesser, RX4, 2, some .int, 1, "lesser")
noncomputable def fX4_lesser (a0 : Int) (a1 : Int) : Option Int :=
  if a0 < a1 then
  (some a0)
  else
  (some a1)
theorem sX4_lesser {G : GG} {Γ : Cx} {r : Vv × Wd} {sz sl : Nat} {td : TT} (a0 : Int) (a1 : Int) (c : CC) : Sm (fX4_lesser a0 a1) (fun x => r = ((0, x), (sz, sl, tt td, cv c))) (WP G Γ muX4_lesser r 0 [some (0, a0), some (0, a1)] [] (sz, sl, tt td, cv c)) := by
  unfold fX4_lesser
  refine s_iload_n (pc := 0) dX4_lesser_0 rfl ?_
  refine s_iload_n (pc := 1) dX4_lesser_1 rfl ?_
  refine s_icmp_ge (pc := 2) (tgt := 9) dX4_lesser_2 rfl ?_ ?_
  · refine s_iload_n (pc := 9) dX4_lesser_9 rfl ?_
    exact s_iret (pc := 10) dX4_lesser_10 rfl (fun h => h)
  refine s_iload_n (pc := 5) dX4_lesser_5 rfl ?_
  refine s_goto (pc := 6) (tgt := 10) dX4_lesser_6 rfl ?_
  exact s_iret (pc := 10) dX4_lesser_10 rfl (fun h => h)
theorem kX4_lesser {G : GG} {sz sl : Nat} {td : TT} (a0 : Int) (a1 : Int) (c : CC) (x : Int) (h : fX4_lesser a0 a1 = some x) : Ct G yX4_lesser muX4_lesser [(0, a0), (0, a1)] (sz, sl, tt td, cv c) ((0, x), (sz, sl, tt td, cv c)) :=
  Ct.of (n := 0) (ls0 := [some (0, a0), some (0, a1)]) (by decide) rfl rfl ⟨by decide, by decide⟩ (Nat.le_of_ble_eq_true rfl) rfl ⟨Nat.le_refl _, Nat.le_refl _⟩ (show (0 : Nat) ≠ 9 by decide) (fun Γ => sX4_lesser a0 a1 c x h rfl)
theorem flX4_124 : FL RX4 124 3 53 := ⟨_, _, _, cf3, by decide, q1297⟩
theorem msX4_477 : MS RX4 477 yX4_greater muX4_greater 2 := ⟨lw_S q1776 q1777 q129 q1778, by decide +kernel, by decide⟩
theorem msX4_474 : MS RX4 474 yX4_lesser muX4_lesser 2 := ⟨lw_S q1773 q1774 q129 q1775, by decide +kernel, by decide⟩
theorem flX4_127 : FL RX4 127 3 54 := ⟨_, _, _, cf3, by decide, q1298⟩
abbrev muX4_easeBy : MI := (cX4_easeBy, RX4, 9, some .int, 2, "easeBy")
abbrev gX4_easeBy_l267 (G : GG) (Γ : Cx) (r : Vv × Wd) (sz sl : Nat) (td : TT) (v1 : Int) (v2 : Int) (v4 : Int) (v5 : Int) (c : CC) : (Int × Int) → Prop := fun s => WP G Γ muX4_easeBy r 267 [some (2, 111), some (0, v1), some (0, v2), none, some (0, v4), some (0, v5), some (0, s.1), some (0, s.2), none] [] (sz, sl, tt td, cv c)
abbrev eX4_easeBy_l267 (G : GG) (Γ : Cx) (r : Vv × Wd) (sz sl : Nat) (td : TT) (v1 : Int) (v2 : Int) (v4 : Int) (v5 : Int) (c : CC) : (Int) → Prop := (fun s => WP G Γ muX4_easeBy r 333 [none, none, none, none, none, none, some (0, s), none, none] [] (sz, sl, tt td, cv c))
noncomputable def fX4_easeBy_l267 (v1 : Int) (v2 : Int) (v4 : Int) (v5 : Int) (v6 : Int) (v7 : Int) (c : CC) : Option ((Int × Int) ⊕ (Int)) :=
  gd (inR (v2 - 1)) <|
   if v7 < v2 - 1 then
  (gd (inR (24 * v1)) <|
   gd (inR ((24 * v1) + v7)) <|
   gd (inR (((24 * v1) + v7) * 8)) <|
   gd (inR ((((24 * v1) + v7) * 8) + v4)) <|
   gd ((0 : Int) ≤ (((24 * v1) + v7) * 8) + v4 ∧ (((24 * v1) + v7) * 8) + v4 < 4608) <|
   gd (inR (v7 + 1)) <|
   gd (inR (24 * (v7 + 1))) <|
   gd (inR ((24 * (v7 + 1)) + v2)) <|
   gd (inR (((24 * (v7 + 1)) + v2) - 1)) <|
   gd (inR ((((24 * (v7 + 1)) + v2) - 1) * 8)) <|
   gd (inR (((((24 * (v7 + 1)) + v2) - 1) * 8) + v5)) <|
   gd ((0 : Int) ≤ ((((24 * (v7 + 1)) + v2) - 1) * 8) + v5 ∧ ((((24 * (v7 + 1)) + v2) - 1) * 8) + v5 < 4608) <|
   gd (inR (1 + (c 147 (Int.toNat (((((24 * (v7 + 1)) + v2) - 1) * 8) + v5))))) <|
   cl (fX4_greater (c 147 (Int.toNat ((((24 * v1) + v7) * 8) + v4))) (1 + (c 147 (Int.toNat (((((24 * (v7 + 1)) + v2) - 1) * 8) + v5))))) fun p_5 =>
   cl (fX4_lesser v6 p_5) fun p_6 =>
   gd (inR (v7 + 1)) <| bd (v7 + 1) fun v7_7 =>
   some (.inl (p_6, v7_7)))
  else
  (some (.inr v6))
theorem sX4_easeBy_l267 {G : GG} {Γ : Cx} {r : Vv × Wd} {sz sl : Nat} {td : TT} (v1 : Int) (v2 : Int) (v4 : Int) (v5 : Int) (v6 : Int) (v7 : Int) (c : CC) : Sm (fX4_easeBy_l267 v1 v2 v4 v5 v6 v7 c) (fun x => Sum.elim (gX4_easeBy_l267 G Γ r sz sl td v1 v2 v4 v5 c) (eX4_easeBy_l267 G Γ r sz sl td v1 v2 v4 v5 c) x) (gX4_easeBy_l267 G Γ r sz sl td v1 v2 v4 v5 c (v6, v7)) := by
  show Sm _ _ (WP G Γ muX4_easeBy r 267 [some (2, 111), some (0, v1), some (0, v2), none, some (0, v4), some (0, v5), some (0, v6), some (0, v7), none] [] (sz, sl, tt td, cv c))
  unfold fX4_easeBy_l267
  refine s_iload (pc := 267) dX4_easeBy_267 rfl ?_
  refine s_iload_n (pc := 269) dX4_easeBy_269 rfl ?_
  refine s_iconst (pc := 270) dX4_easeBy_270 ?_
  refine s_isub (pc := 271) dX4_easeBy_271 ?_
  refine s_icmp_ge (pc := 272) (tgt := 333) dX4_easeBy_272 rfl ?_ ?_
  · refine s_wk [false, false, false, true, false, false, true, false, true] (ls' := [none, none, none, none, none, none, some (0, v6), none, none]) rfl ?_
    exact Sm.some (fun h => h)
  refine s_iload (pc := 275) dX4_easeBy_275 rfl ?_
  refine s_aload_n (pc := 277) dX4_easeBy_277 rfl ?_
  refine s_get (pc := 278) (a := 111) (v := 147) flX4_124 (t_111 _) rfl (g_111_53 _) rfl dX4_easeBy_278 ?_
  refine s_bipush (pc := 281) dX4_easeBy_281 ?_
  refine s_iload_n (pc := 283) dX4_easeBy_283 rfl ?_
  refine s_imul (pc := 284) dX4_easeBy_284 ?_
  refine s_iload (pc := 285) dX4_easeBy_285 rfl ?_
  refine s_iadd (pc := 287) dX4_easeBy_287 ?_
  refine s_bipush (pc := 288) dX4_easeBy_288 ?_
  refine s_imul (pc := 290) dX4_easeBy_290 ?_
  refine s_iload (pc := 291) dX4_easeBy_291 rfl ?_
  refine s_iadd (pc := 293) dX4_easeBy_293 ?_
  refine s_ialdM (pc := 294) (a := 147) (t_147 _) rfl r_147 dX4_easeBy_294 ?_
  refine s_iconst (pc := 295) dX4_easeBy_295 ?_
  refine s_aload_n (pc := 296) dX4_easeBy_296 rfl ?_
  refine s_get (pc := 297) (a := 111) (v := 147) flX4_124 (t_111 _) rfl (g_111_53 _) rfl dX4_easeBy_297 ?_
  refine s_bipush (pc := 300) dX4_easeBy_300 ?_
  refine s_iload (pc := 302) dX4_easeBy_302 rfl ?_
  refine s_iconst (pc := 304) dX4_easeBy_304 ?_
  refine s_iadd (pc := 305) dX4_easeBy_305 ?_
  refine s_imul (pc := 306) dX4_easeBy_306 ?_
  refine s_iload_n (pc := 307) dX4_easeBy_307 rfl ?_
  refine s_iadd (pc := 308) dX4_easeBy_308 ?_
  refine s_iconst (pc := 309) dX4_easeBy_309 ?_
  refine s_isub (pc := 310) dX4_easeBy_310 ?_
  refine s_bipush (pc := 311) dX4_easeBy_311 ?_
  refine s_imul (pc := 313) dX4_easeBy_313 ?_
  refine s_iload (pc := 314) dX4_easeBy_314 rfl ?_
  refine s_iadd (pc := 316) dX4_easeBy_316 ?_
  refine s_ialdM (pc := 317) (a := 147) (t_147 _) rfl r_147 dX4_easeBy_317 ?_
  refine s_iadd (pc := 318) dX4_easeBy_318 ?_
  refine s_callS3 (pc := 319) (as := [(0, c 147 (Int.toNat ((((24 * v1) + v7) * 8) + v4))), (0, 1 + (c 147 (Int.toNat (((((24 * (v7 + 1)) + v2) - 1) * 8) + v5))))]) (st := [(0, v6)]) (rv := fun b => ((0, b), (sz, sl, tt td, cv c))) (st3 := fun b => [(0, b), (0, v6)]) (w3 := fun b => (sz, sl, tt td, cv c)) msX4_477 (fun b h => kX4_greater (c 147 (Int.toNat ((((24 * v1) + v7) * 8) + v4))) (1 + (c 147 (Int.toNat (((((24 * (v7 + 1)) + v2) - 1) * 8) + v5)))) c b h) rfl (by decide) rfl (Nat.le_of_ble_eq_true rfl) (fun _ => Nat.le_of_ble_eq_true rfl) (fun _ => ⟨rfl, rfl⟩) dX4_easeBy_319 (fun p_5 => ?_)
  refine s_callS3 (pc := 322) (as := [(0, v6), (0, p_5)]) (st := []) (rv := fun b => ((0, b), (sz, sl, tt td, cv c))) (st3 := fun b => [(0, b)]) (w3 := fun b => (sz, sl, tt td, cv c)) msX4_474 (fun b h => kX4_lesser v6 p_5 c b h) rfl (by decide) rfl (Nat.le_of_ble_eq_true rfl) (fun _ => Nat.le_of_ble_eq_true rfl) (fun _ => ⟨rfl, rfl⟩) dX4_easeBy_322 (fun p_6 => ?_)
  refine s_istoreD (pc := 325) (ls' := [some (2, 111), some (0, v1), some (0, v2), none, some (0, v4), some (0, v5), some (0, p_6), some (0, v7), none]) dX4_easeBy_325 rfl (Nat.le_of_ble_eq_true rfl) ?_
  refine s_iinc (pc := 327) (lf := fun x => [some (2, 111), some (0, v1), some (0, v2), none, some (0, v4), some (0, v5), some (0, p_6), some (0, x), none]) dX4_easeBy_327 rfl (fun _ => rfl) (Nat.le_of_ble_eq_true rfl) (fun v7_7 => ?_)
  refine s_goto (pc := 330) (tgt := 267) dX4_easeBy_330 rfl ?_
  exact Sm.some (fun h => h)
abbrev gX4_easeBy_l111 (G : GG) (Γ : Cx) (r : Vv × Wd) (sz sl : Nat) (td : TT) (v1 : Int) (v2 : Int) (v4 : Int) (c : CC) : (Int × Int) → Prop := fun s => WP G Γ muX4_easeBy r 111 [some (2, 111), some (0, v1), some (0, v2), none, some (0, v4), none, some (0, s.1), some (0, s.2), none] [] (sz, sl, tt td, cv c)
abbrev eX4_easeBy_l111 (G : GG) (Γ : Cx) (r : Vv × Wd) (sz sl : Nat) (td : TT) (v1 : Int) (v2 : Int) (v4 : Int) (c : CC) : (Int) → Prop := (fun s => WP G Γ muX4_easeBy r 161 [none, none, none, none, none, none, some (0, s), none, none] [] (sz, sl, tt td, cv c))
noncomputable def fX4_easeBy_l111 (v1 : Int) (v2 : Int) (v4 : Int) (v6 : Int) (v7 : Int) (c : CC) : Option ((Int × Int) ⊕ (Int)) :=
  if v7 < 6 then
  (if v1 < v2 then
  (gd (inR (24 * v1)) <|
   gd (inR ((24 * v1) + v2)) <|
   gd (inR (((24 * v1) + v2) - 1)) <|
   gd (inR ((((24 * v1) + v2) - 1) * 8)) <|
   gd (inR (((((24 * v1) + v2) - 1) * 8) + v4)) <|
   gd (inR ((((((24 * v1) + v2) - 1) * 8) + v4) * 6)) <|
   gd (inR (((((((24 * v1) + v2) - 1) * 8) + v4) * 6) + v7)) <|
   gd ((0 : Int) ≤ ((((((24 * v1) + v2) - 1) * 8) + v4) * 6) + v7 ∧ ((((((24 * v1) + v2) - 1) * 8) + v4) * 6) + v7 < 27648) <|
   cl (fX4_lesser v6 (c 148 (Int.toNat (((((((24 * v1) + v2) - 1) * 8) + v4) * 6) + v7)))) fun p_12 =>
   gd (inR (v7 + 1)) <| bd (v7 + 1) fun v7_13 =>
   some (.inl (p_12, v7_13)))
  else
  (some (.inr v6)))
  else
  (some (.inr v6))
theorem sX4_easeBy_l111 {G : GG} {Γ : Cx} {r : Vv × Wd} {sz sl : Nat} {td : TT} (v1 : Int) (v2 : Int) (v4 : Int) (v6 : Int) (v7 : Int) (c : CC) : Sm (fX4_easeBy_l111 v1 v2 v4 v6 v7 c) (fun x => Sum.elim (gX4_easeBy_l111 G Γ r sz sl td v1 v2 v4 c) (eX4_easeBy_l111 G Γ r sz sl td v1 v2 v4 c) x) (gX4_easeBy_l111 G Γ r sz sl td v1 v2 v4 c (v6, v7)) := by
  show Sm _ _ (WP G Γ muX4_easeBy r 111 [some (2, 111), some (0, v1), some (0, v2), none, some (0, v4), none, some (0, v6), some (0, v7), none] [] (sz, sl, tt td, cv c))
  unfold fX4_easeBy_l111
  refine s_iload (pc := 111) dX4_easeBy_111 rfl ?_
  refine s_bipush (pc := 113) dX4_easeBy_113 ?_
  refine s_icmp_ge (pc := 115) (tgt := 161) dX4_easeBy_115 rfl ?_ ?_
  · refine s_wk [false, false, false, true, false, true, true, false, true] (ls' := [none, none, none, none, none, none, some (0, v6), none, none]) rfl ?_
    exact Sm.some (fun h => h)
  refine s_iload_n (pc := 118) dX4_easeBy_118 rfl ?_
  refine s_iload_n (pc := 119) dX4_easeBy_119 rfl ?_
  refine s_icmp_ge (pc := 120) (tgt := 161) dX4_easeBy_120 rfl ?_ ?_
  · refine s_wk [false, false, false, true, false, true, true, false, true] (ls' := [none, none, none, none, none, none, some (0, v6), none, none]) rfl ?_
    exact Sm.some (fun h => h)
  refine s_iload (pc := 123) dX4_easeBy_123 rfl ?_
  refine s_aload_n (pc := 125) dX4_easeBy_125 rfl ?_
  refine s_get (pc := 126) (a := 111) (v := 148) flX4_127 (t_111 _) rfl (g_111_54 _) rfl dX4_easeBy_126 ?_
  refine s_bipush (pc := 129) dX4_easeBy_129 ?_
  refine s_iload_n (pc := 131) dX4_easeBy_131 rfl ?_
  refine s_imul (pc := 132) dX4_easeBy_132 ?_
  refine s_iload_n (pc := 133) dX4_easeBy_133 rfl ?_
  refine s_iadd (pc := 134) dX4_easeBy_134 ?_
  refine s_iconst (pc := 135) dX4_easeBy_135 ?_
  refine s_isub (pc := 136) dX4_easeBy_136 ?_
  refine s_bipush (pc := 137) dX4_easeBy_137 ?_
  refine s_imul (pc := 139) dX4_easeBy_139 ?_
  refine s_iload (pc := 140) dX4_easeBy_140 rfl ?_
  refine s_iadd (pc := 142) dX4_easeBy_142 ?_
  refine s_bipush (pc := 143) dX4_easeBy_143 ?_
  refine s_imul (pc := 145) dX4_easeBy_145 ?_
  refine s_iload (pc := 146) dX4_easeBy_146 rfl ?_
  refine s_iadd (pc := 148) dX4_easeBy_148 ?_
  refine s_ialdM (pc := 149) (a := 148) (t_148 _) rfl r_148 dX4_easeBy_149 ?_
  refine s_callS3 (pc := 150) (as := [(0, v6), (0, c 148 (Int.toNat (((((((24 * v1) + v2) - 1) * 8) + v4) * 6) + v7)))]) (st := []) (rv := fun b => ((0, b), (sz, sl, tt td, cv c))) (st3 := fun b => [(0, b)]) (w3 := fun b => (sz, sl, tt td, cv c)) msX4_474 (fun b h => kX4_lesser v6 (c 148 (Int.toNat (((((((24 * v1) + v2) - 1) * 8) + v4) * 6) + v7))) c b h) rfl (by decide) rfl (Nat.le_of_ble_eq_true rfl) (fun _ => Nat.le_of_ble_eq_true rfl) (fun _ => ⟨rfl, rfl⟩) dX4_easeBy_150 (fun p_12 => ?_)
  refine s_istoreD (pc := 153) (ls' := [some (2, 111), some (0, v1), some (0, v2), none, some (0, v4), none, some (0, p_12), some (0, v7), none]) dX4_easeBy_153 rfl (Nat.le_of_ble_eq_true rfl) ?_
  refine s_iinc (pc := 155) (lf := fun x => [some (2, 111), some (0, v1), some (0, v2), none, some (0, v4), none, some (0, p_12), some (0, x), none]) dX4_easeBy_155 rfl (fun _ => rfl) (Nat.le_of_ble_eq_true rfl) (fun v7_13 => ?_)
  refine s_goto (pc := 158) (tgt := 111) dX4_easeBy_158 rfl ?_
  exact Sm.some (fun h => h)
abbrev gX4_easeBy_l176 (G : GG) (Γ : Cx) (r : Vv × Wd) (sz sl : Nat) (td : TT) (v1 : Int) (v2 : Int) (v4 : Int) (v5 : Int) (v7 : Int) (c : CC) : (Int × Int) → Prop := fun s => WP G Γ muX4_easeBy r 176 [some (2, 111), some (0, v1), some (0, v2), none, some (0, v4), some (0, v5), some (0, s.1), some (0, v7), some (0, s.2)] [] (sz, sl, tt td, cv c)
abbrev eX4_easeBy_l176 (G : GG) (Γ : Cx) (r : Vv × Wd) (sz sl : Nat) (td : TT) (v1 : Int) (v2 : Int) (v4 : Int) (v5 : Int) (v7 : Int) (c : CC) : (Int) → Prop := (fun s => WP G Γ muX4_easeBy r 255 [some (2, 111), some (0, v1), some (0, v2), none, some (0, v4), some (0, v5), some (0, s), some (0, v7), none] [] (sz, sl, tt td, cv c))
noncomputable def fX4_easeBy_l176 (v1 : Int) (v2 : Int) (v4 : Int) (v5 : Int) (v7 : Int) (v6 : Int) (v8 : Int) (c : CC) : Option ((Int × Int) ⊕ (Int)) :=
  gd (inR (v2 - 1)) <|
   if v8 < v2 - 1 then
  (gd (inR (24 * v1)) <|
   gd (inR ((24 * v1) + v8)) <|
   gd (inR (((24 * v1) + v8) * 8)) <|
   gd (inR ((((24 * v1) + v8) * 8) + v4)) <|
   gd (inR (((((24 * v1) + v8) * 8) + v4) * 6)) <|
   gd (inR ((((((24 * v1) + v8) * 8) + v4) * 6) + v7)) <|
   gd ((0 : Int) ≤ (((((24 * v1) + v8) * 8) + v4) * 6) + v7 ∧ (((((24 * v1) + v8) * 8) + v4) * 6) + v7 < 27648) <|
   gd (inR (v8 + 1)) <|
   gd (inR (24 * (v8 + 1))) <|
   gd (inR ((24 * (v8 + 1)) + v2)) <|
   gd (inR (((24 * (v8 + 1)) + v2) - 1)) <|
   gd (inR ((((24 * (v8 + 1)) + v2) - 1) * 8)) <|
   gd (inR (((((24 * (v8 + 1)) + v2) - 1) * 8) + v5)) <|
   gd (inR ((((((24 * (v8 + 1)) + v2) - 1) * 8) + v5) * 6)) <|
   gd (inR (((((((24 * (v8 + 1)) + v2) - 1) * 8) + v5) * 6) + v7)) <|
   gd ((0 : Int) ≤ ((((((24 * (v8 + 1)) + v2) - 1) * 8) + v5) * 6) + v7 ∧ ((((((24 * (v8 + 1)) + v2) - 1) * 8) + v5) * 6) + v7 < 27648) <|
   gd (inR (v7 + (c 148 (Int.toNat (((((((24 * (v8 + 1)) + v2) - 1) * 8) + v5) * 6) + v7))))) <|
   cl (fX4_greater (c 148 (Int.toNat ((((((24 * v1) + v8) * 8) + v4) * 6) + v7))) (v7 + (c 148 (Int.toNat (((((((24 * (v8 + 1)) + v2) - 1) * 8) + v5) * 6) + v7))))) fun p_16 =>
   cl (fX4_lesser v6 p_16) fun p_17 =>
   gd (inR (v8 + 1)) <| bd (v8 + 1) fun v8_18 =>
   some (.inl (p_17, v8_18)))
  else
  (some (.inr v6))
theorem sX4_easeBy_l176 {G : GG} {Γ : Cx} {r : Vv × Wd} {sz sl : Nat} {td : TT} (v1 : Int) (v2 : Int) (v4 : Int) (v5 : Int) (v7 : Int) (v6 : Int) (v8 : Int) (c : CC) : Sm (fX4_easeBy_l176 v1 v2 v4 v5 v7 v6 v8 c) (fun x => Sum.elim (gX4_easeBy_l176 G Γ r sz sl td v1 v2 v4 v5 v7 c) (eX4_easeBy_l176 G Γ r sz sl td v1 v2 v4 v5 v7 c) x) (gX4_easeBy_l176 G Γ r sz sl td v1 v2 v4 v5 v7 c (v6, v8)) := by
  show Sm _ _ (WP G Γ muX4_easeBy r 176 [some (2, 111), some (0, v1), some (0, v2), none, some (0, v4), some (0, v5), some (0, v6), some (0, v7), some (0, v8)] [] (sz, sl, tt td, cv c))
  unfold fX4_easeBy_l176
  refine s_iload (pc := 176) dX4_easeBy_176 rfl ?_
  refine s_iload_n (pc := 178) dX4_easeBy_178 rfl ?_
  refine s_iconst (pc := 179) dX4_easeBy_179 ?_
  refine s_isub (pc := 180) dX4_easeBy_180 ?_
  refine s_icmp_ge (pc := 181) (tgt := 255) dX4_easeBy_181 rfl ?_ ?_
  · refine s_wk [true, true, true, true, true, true, true, true, false] (ls' := [some (2, 111), some (0, v1), some (0, v2), none, some (0, v4), some (0, v5), some (0, v6), some (0, v7), none]) rfl ?_
    exact Sm.some (fun h => h)
  refine s_iload (pc := 184) dX4_easeBy_184 rfl ?_
  refine s_aload_n (pc := 186) dX4_easeBy_186 rfl ?_
  refine s_get (pc := 187) (a := 111) (v := 148) flX4_127 (t_111 _) rfl (g_111_54 _) rfl dX4_easeBy_187 ?_
  refine s_bipush (pc := 190) dX4_easeBy_190 ?_
  refine s_iload_n (pc := 192) dX4_easeBy_192 rfl ?_
  refine s_imul (pc := 193) dX4_easeBy_193 ?_
  refine s_iload (pc := 194) dX4_easeBy_194 rfl ?_
  refine s_iadd (pc := 196) dX4_easeBy_196 ?_
  refine s_bipush (pc := 197) dX4_easeBy_197 ?_
  refine s_imul (pc := 199) dX4_easeBy_199 ?_
  refine s_iload (pc := 200) dX4_easeBy_200 rfl ?_
  refine s_iadd (pc := 202) dX4_easeBy_202 ?_
  refine s_bipush (pc := 203) dX4_easeBy_203 ?_
  refine s_imul (pc := 205) dX4_easeBy_205 ?_
  refine s_iload (pc := 206) dX4_easeBy_206 rfl ?_
  refine s_iadd (pc := 208) dX4_easeBy_208 ?_
  refine s_ialdM (pc := 209) (a := 148) (t_148 _) rfl r_148 dX4_easeBy_209 ?_
  refine s_iload (pc := 210) dX4_easeBy_210 rfl ?_
  refine s_aload_n (pc := 212) dX4_easeBy_212 rfl ?_
  refine s_get (pc := 213) (a := 111) (v := 148) flX4_127 (t_111 _) rfl (g_111_54 _) rfl dX4_easeBy_213 ?_
  refine s_bipush (pc := 216) dX4_easeBy_216 ?_
  refine s_iload (pc := 218) dX4_easeBy_218 rfl ?_
  refine s_iconst (pc := 220) dX4_easeBy_220 ?_
  refine s_iadd (pc := 221) dX4_easeBy_221 ?_
  refine s_imul (pc := 222) dX4_easeBy_222 ?_
  refine s_iload_n (pc := 223) dX4_easeBy_223 rfl ?_
  refine s_iadd (pc := 224) dX4_easeBy_224 ?_
  refine s_iconst (pc := 225) dX4_easeBy_225 ?_
  refine s_isub (pc := 226) dX4_easeBy_226 ?_
  refine s_bipush (pc := 227) dX4_easeBy_227 ?_
  refine s_imul (pc := 229) dX4_easeBy_229 ?_
  refine s_iload (pc := 230) dX4_easeBy_230 rfl ?_
  refine s_iadd (pc := 232) dX4_easeBy_232 ?_
  refine s_bipush (pc := 233) dX4_easeBy_233 ?_
  refine s_imul (pc := 235) dX4_easeBy_235 ?_
  refine s_iload (pc := 236) dX4_easeBy_236 rfl ?_
  refine s_iadd (pc := 238) dX4_easeBy_238 ?_
  refine s_ialdM (pc := 239) (a := 148) (t_148 _) rfl r_148 dX4_easeBy_239 ?_
  refine s_iadd (pc := 240) dX4_easeBy_240 ?_
  refine s_callS3 (pc := 241) (as := [(0, c 148 (Int.toNat ((((((24 * v1) + v8) * 8) + v4) * 6) + v7))), (0, v7 + (c 148 (Int.toNat (((((((24 * (v8 + 1)) + v2) - 1) * 8) + v5) * 6) + v7))))]) (st := [(0, v6)]) (rv := fun b => ((0, b), (sz, sl, tt td, cv c))) (st3 := fun b => [(0, b), (0, v6)]) (w3 := fun b => (sz, sl, tt td, cv c)) msX4_477 (fun b h => kX4_greater (c 148 (Int.toNat ((((((24 * v1) + v8) * 8) + v4) * 6) + v7))) (v7 + (c 148 (Int.toNat (((((((24 * (v8 + 1)) + v2) - 1) * 8) + v5) * 6) + v7)))) c b h) rfl (by decide) rfl (Nat.le_of_ble_eq_true rfl) (fun _ => Nat.le_of_ble_eq_true rfl) (fun _ => ⟨rfl, rfl⟩) dX4_easeBy_241 (fun p_16 => ?_)
  refine s_callS3 (pc := 244) (as := [(0, v6), (0, p_16)]) (st := []) (rv := fun b => ((0, b), (sz, sl, tt td, cv c))) (st3 := fun b => [(0, b)]) (w3 := fun b => (sz, sl, tt td, cv c)) msX4_474 (fun b h => kX4_lesser v6 p_16 c b h) rfl (by decide) rfl (Nat.le_of_ble_eq_true rfl) (fun _ => Nat.le_of_ble_eq_true rfl) (fun _ => ⟨rfl, rfl⟩) dX4_easeBy_244 (fun p_17 => ?_)
  refine s_istoreD (pc := 247) (ls' := [some (2, 111), some (0, v1), some (0, v2), none, some (0, v4), some (0, v5), some (0, p_17), some (0, v7), some (0, v8)]) dX4_easeBy_247 rfl (Nat.le_of_ble_eq_true rfl) ?_
  refine s_iinc (pc := 249) (lf := fun x => [some (2, 111), some (0, v1), some (0, v2), none, some (0, v4), some (0, v5), some (0, p_17), some (0, v7), some (0, x)]) dX4_easeBy_249 rfl (fun _ => rfl) (Nat.le_of_ble_eq_true rfl) (fun v8_18 => ?_)
  refine s_goto (pc := 252) (tgt := 176) dX4_easeBy_252 rfl ?_
  exact Sm.some (fun h => h)
abbrev gX4_easeBy_l167 (G : GG) (Γ : Cx) (r : Vv × Wd) (sz sl : Nat) (td : TT) (v1 : Int) (v2 : Int) (v4 : Int) (v5 : Int) (c : CC) : (Int × Int) → Prop := fun s => WP G Γ muX4_easeBy r 167 [some (2, 111), some (0, v1), some (0, v2), none, some (0, v4), some (0, v5), some (0, s.1), some (0, s.2), none] [] (sz, sl, tt td, cv c)
abbrev eX4_easeBy_l167 (G : GG) (Γ : Cx) (r : Vv × Wd) (sz sl : Nat) (td : TT) (v1 : Int) (v2 : Int) (v4 : Int) (v5 : Int) (c : CC) : (Int) → Prop := (fun s => WP G Γ muX4_easeBy r 261 [none, none, none, none, none, none, some (0, s), none, none] [] (sz, sl, tt td, cv c))
noncomputable def fX4_easeBy_l167 (v1 : Int) (v2 : Int) (v4 : Int) (v5 : Int) (v6 : Int) (v7 : Int) (c : CC) : Option ((Int × Int) ⊕ (Int)) :=
  if v7 < 4 then
  (cl (wh (fun s => fX4_easeBy_l176 v1 v2 v4 v5 v7 s.1 s.2 c) (v6, v1)) (fun e_19 =>
  gd (inR (v7 + 1)) <| bd (v7 + 1) fun v7_20 =>
   some (.inl (e_19, v7_20))))
  else
  (some (.inr v6))
theorem sX4_easeBy_l167 {G : GG} {Γ : Cx} {r : Vv × Wd} {sz sl : Nat} {td : TT} (v1 : Int) (v2 : Int) (v4 : Int) (v5 : Int) (v6 : Int) (v7 : Int) (c : CC) : Sm (fX4_easeBy_l167 v1 v2 v4 v5 v6 v7 c) (fun x => Sum.elim (gX4_easeBy_l167 G Γ r sz sl td v1 v2 v4 v5 c) (eX4_easeBy_l167 G Γ r sz sl td v1 v2 v4 v5 c) x) (gX4_easeBy_l167 G Γ r sz sl td v1 v2 v4 v5 c (v6, v7)) := by
  show Sm _ _ (WP G Γ muX4_easeBy r 167 [some (2, 111), some (0, v1), some (0, v2), none, some (0, v4), some (0, v5), some (0, v6), some (0, v7), none] [] (sz, sl, tt td, cv c))
  unfold fX4_easeBy_l167
  refine s_iload (pc := 167) dX4_easeBy_167 rfl ?_
  refine s_iconst (pc := 169) dX4_easeBy_169 ?_
  refine s_icmp_ge (pc := 170) (tgt := 261) dX4_easeBy_170 rfl ?_ ?_
  · refine s_wk [false, false, false, true, false, false, true, false, true] (ls' := [none, none, none, none, none, none, some (0, v6), none, none]) rfl ?_
    exact Sm.some (fun h => h)
  refine s_iload_n (pc := 173) dX4_easeBy_173 rfl ?_
  refine s_istoreD (pc := 174) (ls' := [some (2, 111), some (0, v1), some (0, v2), none, some (0, v4), some (0, v5), some (0, v6), some (0, v7), some (0, v1)]) dX4_easeBy_174 rfl (Nat.le_of_ble_eq_true rfl) ?_
  refine s_loop (g := gX4_easeBy_l176 G Γ r sz sl td v1 v2 v4 v5 v7 c) (Ex := eX4_easeBy_l176 G Γ r sz sl td v1 v2 v4 v5 v7 c) (s0 := (v6, v1)) (fun s => sX4_easeBy_l176 v1 v2 v4 v5 v7 s.1 s.2 c) ?_
  intro e_19
  show Sm _ _ (WP G Γ muX4_easeBy r 255 [some (2, 111), some (0, v1), some (0, v2), none, some (0, v4), some (0, v5), some (0, e_19), some (0, v7), none] [] (sz, sl, tt td, cv c))
  refine s_iinc (pc := 255) (lf := fun x => [some (2, 111), some (0, v1), some (0, v2), none, some (0, v4), some (0, v5), some (0, e_19), some (0, x), none]) dX4_easeBy_255 rfl (fun _ => rfl) (Nat.le_of_ble_eq_true rfl) (fun v7_20 => ?_)
  refine s_goto (pc := 258) (tgt := 167) dX4_easeBy_258 rfl ?_
  exact Sm.some (fun h => h)
noncomputable def fX4_easeBy (a1 : Int) (a2 : Int) (a3 : Int) (c : CC) : Option Int :=
  gd ((0 : Int) ≤ a3 ∧ a3 < 144) <|
   bd (c 120 (Int.toNat a3)) fun v4_1 =>
   gd ((0 : Int) ≤ a3 ∧ a3 < 144) <|
   bd (c 121 (Int.toNat a3)) fun v5_2 =>
   gd ((0 : Int) ≤ a3 ∧ a3 < 144) <|
   if c 119 (Int.toNat a3) = 0 then
  (if a1 = a2 then
  (some 1)
  else
  (some 10000))
  else if c 119 (Int.toNat a3) = 1 then
  (cl (wh (fun s => fX4_easeBy_l267 a1 a2 v4_1 v5_2 s.1 s.2 c) (10000, a1)) (fun e_8 =>
  some e_8))
  else if c 119 (Int.toNat a3) = 2 then
  (cl (wh (fun s => fX4_easeBy_l267 a1 a2 v4_1 v5_2 s.1 s.2 c) (10000, a1)) (fun e_10 =>
  some e_10))
  else if c 119 (Int.toNat a3) = 3 then
  (cl (wh (fun s => fX4_easeBy_l111 a1 a2 v4_1 s.1 s.2 c) (10000, 1)) (fun e_14 =>
  some e_14))
  else if c 119 (Int.toNat a3) = 4 then
  (cl (wh (fun s => fX4_easeBy_l167 a1 a2 v4_1 v5_2 s.1 s.2 c) (10000, 1)) (fun e_21 =>
  some e_21))
  else if c 119 (Int.toNat a3) = 5 then
  (if a1 < a2 then
  (gd (inR (24 * a1)) <|
   gd (inR ((24 * a1) + a2)) <|
   gd (inR (((24 * a1) + a2) - 1)) <|
   gd (inR ((((24 * a1) + a2) - 1) * 8)) <|
   gd (inR (((((24 * a1) + a2) - 1) * 8) + v4_1)) <|
   gd ((0 : Int) ≤ ((((24 * a1) + a2) - 1) * 8) + v4_1 ∧ ((((24 * a1) + a2) - 1) * 8) + v4_1 < 4608) <|
   some (c 147 (Int.toNat (((((24 * a1) + a2) - 1) * 8) + v4_1))))
  else
  (some 10000))
  else (cl (wh (fun s => fX4_easeBy_l267 a1 a2 v4_1 v5_2 s.1 s.2 c) (10000, a1)) (fun e_23 =>
  some e_23))
theorem sX4_easeBy {G : GG} {Γ : Cx} {r : Vv × Wd} {sz sl : Nat} {td : TT} (a1 : Int) (a2 : Int) (a3 : Int) (c : CC) : Sm (fX4_easeBy a1 a2 a3 c) (fun x => r = ((0, x), (sz, sl, tt td, cv c))) (WP G Γ muX4_easeBy r 0 [some (2, 111), some (0, a1), some (0, a2), some (0, a3), none, none, none, none, none] [] (sz, sl, tt td, cv c)) := by
  unfold fX4_easeBy
  refine s_aload_n (pc := 0) dX4_easeBy_0 rfl ?_
  refine s_get (pc := 1) (a := 111) (v := 120) flX4_42 (t_111 _) rfl (g_111_11 _) rfl dX4_easeBy_1 ?_
  refine s_iload_n (pc := 4) dX4_easeBy_4 rfl ?_
  refine s_ialdM (pc := 5) (a := 120) (t_120 _) rfl r_120 dX4_easeBy_5 ?_
  refine s_istore (pc := 6) (lf := fun x => [some (2, 111), some (0, a1), some (0, a2), some (0, a3), some (0, x), none, none, none, none]) dX4_easeBy_6 (fun _ => rfl) (Nat.le_of_ble_eq_true rfl) (fun v4_1 => ?_)
  refine s_aload_n (pc := 8) dX4_easeBy_8 rfl ?_
  refine s_get (pc := 9) (a := 111) (v := 121) flX4_45 (t_111 _) rfl (g_111_12 _) rfl dX4_easeBy_9 ?_
  refine s_iload_n (pc := 12) dX4_easeBy_12 rfl ?_
  refine s_ialdM (pc := 13) (a := 121) (t_121 _) rfl r_121 dX4_easeBy_13 ?_
  refine s_istore (pc := 14) (lf := fun x => [some (2, 111), some (0, a1), some (0, a2), some (0, a3), some (0, v4_1), some (0, x), none, none, none]) dX4_easeBy_14 (fun _ => rfl) (Nat.le_of_ble_eq_true rfl) (fun v5_2 => ?_)
  refine s_sipush (pc := 16) dX4_easeBy_16 ?_
  refine s_istoreD (pc := 19) (ls' := [some (2, 111), some (0, a1), some (0, a2), some (0, a3), some (0, v4_1), some (0, v5_2), some (0, 10000), none, none]) dX4_easeBy_19 rfl (Nat.le_of_ble_eq_true rfl) ?_
  refine s_aload_n (pc := 21) dX4_easeBy_21 rfl ?_
  refine s_get (pc := 22) (a := 111) (v := 119) flX4_39 (t_111 _) rfl (g_111_10 _) rfl dX4_easeBy_22 ?_
  refine s_iload_n (pc := 25) dX4_easeBy_25 rfl ?_
  refine s_ialdM (pc := 26) (a := 119) (t_119 _) rfl r_119 dX4_easeBy_26 ?_
  refine Sm.ite (fun hq_3 => ?_) (fun hq_3 => ?_)
  · refine s_tblIn (pc := 27) (tgt := 64) dX4_easeBy_27 0 hq_3 (by decide) rfl rfl ?_
    refine s_iload_n (pc := 64) dX4_easeBy_64 rfl ?_
    refine s_iload_n (pc := 65) dX4_easeBy_65 rfl ?_
    refine s_icmp_ne (pc := 66) (tgt := 73) dX4_easeBy_66 rfl ?_ ?_
    · refine s_sipush (pc := 73) dX4_easeBy_73 ?_
      exact s_iret (pc := 76) dX4_easeBy_76 rfl (fun h => h)
    refine s_iconst (pc := 69) dX4_easeBy_69 ?_
    refine s_goto (pc := 70) (tgt := 76) dX4_easeBy_70 rfl ?_
    exact s_iret (pc := 76) dX4_easeBy_76 rfl (fun h => h)
  refine Sm.ite (fun hq_4 => ?_) (fun hq_4 => ?_)
  · refine s_tblIn (pc := 27) (tgt := 264) dX4_easeBy_27 1 hq_4 (by decide) rfl rfl ?_
    refine s_iload_n (pc := 264) dX4_easeBy_264 rfl ?_
    refine s_istoreD (pc := 265) (ls' := [some (2, 111), some (0, a1), some (0, a2), some (0, a3), some (0, v4_1), some (0, v5_2), some (0, 10000), some (0, a1), none]) dX4_easeBy_265 rfl (Nat.le_of_ble_eq_true rfl) ?_
    refine s_wk [true, true, true, false, true, true, true, true, true] (ls' := [some (2, 111), some (0, a1), some (0, a2), none, some (0, v4_1), some (0, v5_2), some (0, 10000), some (0, a1), none]) rfl ?_
    refine s_loop (g := gX4_easeBy_l267 G Γ r sz sl td a1 a2 v4_1 v5_2 c) (Ex := eX4_easeBy_l267 G Γ r sz sl td a1 a2 v4_1 v5_2 c) (s0 := (10000, a1)) (fun s => sX4_easeBy_l267 a1 a2 v4_1 v5_2 s.1 s.2 c) ?_
    intro e_8
    show Sm _ _ (WP G Γ muX4_easeBy r 333 [none, none, none, none, none, none, some (0, e_8), none, none] [] (sz, sl, tt td, cv c))
    refine s_iload (pc := 333) dX4_easeBy_333 rfl ?_
    exact s_iret (pc := 335) dX4_easeBy_335 rfl (fun h => h)
  refine Sm.ite (fun hq_9 => ?_) (fun hq_9 => ?_)
  · refine s_tblIn (pc := 27) (tgt := 264) dX4_easeBy_27 2 hq_9 (by decide) rfl rfl ?_
    refine s_iload_n (pc := 264) dX4_easeBy_264 rfl ?_
    refine s_istoreD (pc := 265) (ls' := [some (2, 111), some (0, a1), some (0, a2), some (0, a3), some (0, v4_1), some (0, v5_2), some (0, 10000), some (0, a1), none]) dX4_easeBy_265 rfl (Nat.le_of_ble_eq_true rfl) ?_
    refine s_wk [true, true, true, false, true, true, true, true, true] (ls' := [some (2, 111), some (0, a1), some (0, a2), none, some (0, v4_1), some (0, v5_2), some (0, 10000), some (0, a1), none]) rfl ?_
    refine s_loop (g := gX4_easeBy_l267 G Γ r sz sl td a1 a2 v4_1 v5_2 c) (Ex := eX4_easeBy_l267 G Γ r sz sl td a1 a2 v4_1 v5_2 c) (s0 := (10000, a1)) (fun s => sX4_easeBy_l267 a1 a2 v4_1 v5_2 s.1 s.2 c) ?_
    intro e_10
    show Sm _ _ (WP G Γ muX4_easeBy r 333 [none, none, none, none, none, none, some (0, e_10), none, none] [] (sz, sl, tt td, cv c))
    refine s_iload (pc := 333) dX4_easeBy_333 rfl ?_
    exact s_iret (pc := 335) dX4_easeBy_335 rfl (fun h => h)
  refine Sm.ite (fun hq_11 => ?_) (fun hq_11 => ?_)
  · refine s_tblIn (pc := 27) (tgt := 108) dX4_easeBy_27 3 hq_11 (by decide) rfl rfl ?_
    refine s_iconst (pc := 108) dX4_easeBy_108 ?_
    refine s_istoreD (pc := 109) (ls' := [some (2, 111), some (0, a1), some (0, a2), some (0, a3), some (0, v4_1), some (0, v5_2), some (0, 10000), some (0, 1), none]) dX4_easeBy_109 rfl (Nat.le_of_ble_eq_true rfl) ?_
    refine s_wk [true, true, true, false, true, false, true, true, true] (ls' := [some (2, 111), some (0, a1), some (0, a2), none, some (0, v4_1), none, some (0, 10000), some (0, 1), none]) rfl ?_
    refine s_loop (g := gX4_easeBy_l111 G Γ r sz sl td a1 a2 v4_1 c) (Ex := eX4_easeBy_l111 G Γ r sz sl td a1 a2 v4_1 c) (s0 := (10000, 1)) (fun s => sX4_easeBy_l111 a1 a2 v4_1 s.1 s.2 c) ?_
    intro e_14
    show Sm _ _ (WP G Γ muX4_easeBy r 161 [none, none, none, none, none, none, some (0, e_14), none, none] [] (sz, sl, tt td, cv c))
    refine s_iload (pc := 161) dX4_easeBy_161 rfl ?_
    exact s_iret (pc := 163) dX4_easeBy_163 rfl (fun h => h)
  refine Sm.ite (fun hq_15 => ?_) (fun hq_15 => ?_)
  · refine s_tblIn (pc := 27) (tgt := 164) dX4_easeBy_27 4 hq_15 (by decide) rfl rfl ?_
    refine s_iconst (pc := 164) dX4_easeBy_164 ?_
    refine s_istoreD (pc := 165) (ls' := [some (2, 111), some (0, a1), some (0, a2), some (0, a3), some (0, v4_1), some (0, v5_2), some (0, 10000), some (0, 1), none]) dX4_easeBy_165 rfl (Nat.le_of_ble_eq_true rfl) ?_
    refine s_wk [true, true, true, false, true, true, true, true, true] (ls' := [some (2, 111), some (0, a1), some (0, a2), none, some (0, v4_1), some (0, v5_2), some (0, 10000), some (0, 1), none]) rfl ?_
    refine s_loop (g := gX4_easeBy_l167 G Γ r sz sl td a1 a2 v4_1 v5_2 c) (Ex := eX4_easeBy_l167 G Γ r sz sl td a1 a2 v4_1 v5_2 c) (s0 := (10000, 1)) (fun s => sX4_easeBy_l167 a1 a2 v4_1 v5_2 s.1 s.2 c) ?_
    intro e_21
    show Sm _ _ (WP G Γ muX4_easeBy r 261 [none, none, none, none, none, none, some (0, e_21), none, none] [] (sz, sl, tt td, cv c))
    refine s_iload (pc := 261) dX4_easeBy_261 rfl ?_
    exact s_iret (pc := 263) dX4_easeBy_263 rfl (fun h => h)
  refine Sm.ite (fun hq_22 => ?_) (fun hq_22 => ?_)
  · refine s_tblIn (pc := 27) (tgt := 77) dX4_easeBy_27 5 hq_22 (by decide) rfl rfl ?_
    refine s_iload_n (pc := 77) dX4_easeBy_77 rfl ?_
    refine s_iload_n (pc := 78) dX4_easeBy_78 rfl ?_
    refine s_icmp_ge (pc := 79) (tgt := 104) dX4_easeBy_79 rfl ?_ ?_
    · refine s_sipush (pc := 104) dX4_easeBy_104 ?_
      exact s_iret (pc := 107) dX4_easeBy_107 rfl (fun h => h)
    refine s_aload_n (pc := 82) dX4_easeBy_82 rfl ?_
    refine s_get (pc := 83) (a := 111) (v := 147) flX4_124 (t_111 _) rfl (g_111_53 _) rfl dX4_easeBy_83 ?_
    refine s_bipush (pc := 86) dX4_easeBy_86 ?_
    refine s_iload_n (pc := 88) dX4_easeBy_88 rfl ?_
    refine s_imul (pc := 89) dX4_easeBy_89 ?_
    refine s_iload_n (pc := 90) dX4_easeBy_90 rfl ?_
    refine s_iadd (pc := 91) dX4_easeBy_91 ?_
    refine s_iconst (pc := 92) dX4_easeBy_92 ?_
    refine s_isub (pc := 93) dX4_easeBy_93 ?_
    refine s_bipush (pc := 94) dX4_easeBy_94 ?_
    refine s_imul (pc := 96) dX4_easeBy_96 ?_
    refine s_iload (pc := 97) dX4_easeBy_97 rfl ?_
    refine s_iadd (pc := 99) dX4_easeBy_99 ?_
    refine s_ialdM (pc := 100) (a := 147) (t_147 _) rfl r_147 dX4_easeBy_100 ?_
    refine s_goto (pc := 101) (tgt := 107) dX4_easeBy_101 rfl ?_
    exact s_iret (pc := 107) dX4_easeBy_107 rfl (fun h => h)
  refine s_tblOut (pc := 27) (tgt := 264) dX4_easeBy_27 (by omega) rfl ?_
  refine s_iload_n (pc := 264) dX4_easeBy_264 rfl ?_
  refine s_istoreD (pc := 265) (ls' := [some (2, 111), some (0, a1), some (0, a2), some (0, a3), some (0, v4_1), some (0, v5_2), some (0, 10000), some (0, a1), none]) dX4_easeBy_265 rfl (Nat.le_of_ble_eq_true rfl) ?_
  refine s_wk [true, true, true, false, true, true, true, true, true] (ls' := [some (2, 111), some (0, a1), some (0, a2), none, some (0, v4_1), some (0, v5_2), some (0, 10000), some (0, a1), none]) rfl ?_
  refine s_loop (g := gX4_easeBy_l267 G Γ r sz sl td a1 a2 v4_1 v5_2 c) (Ex := eX4_easeBy_l267 G Γ r sz sl td a1 a2 v4_1 v5_2 c) (s0 := (10000, a1)) (fun s => sX4_easeBy_l267 a1 a2 v4_1 v5_2 s.1 s.2 c) ?_
  intro e_23
  show Sm _ _ (WP G Γ muX4_easeBy r 333 [none, none, none, none, none, none, some (0, e_23), none, none] [] (sz, sl, tt td, cv c))
  refine s_iload (pc := 333) dX4_easeBy_333 rfl ?_
  exact s_iret (pc := 335) dX4_easeBy_335 rfl (fun h => h)
theorem kX4_easeBy {G : GG} {sz sl : Nat} {td : TT} (a1 : Int) (a2 : Int) (a3 : Int) (c : CC) (x : Int) (h : fX4_easeBy a1 a2 a3 c = some x) : Ct G yX4_easeBy muX4_easeBy [(2, 111), (0, a1), (0, a2), (0, a3)] (sz, sl, tt td, cv c) ((0, x), (sz, sl, tt td, cv c)) :=
  Ct.of (n := 5) (ls0 := [some (2, 111), some (0, a1), some (0, a2), some (0, a3), none, none, none, none, none]) (by decide) rfl rfl ⟨by decide, by decide⟩ (Nat.le_of_ble_eq_true rfl) rfl ⟨Nat.le_refl _, Nat.le_refl _⟩ (show (0 : Nat) ≠ 9 by decide) (fun Γ => sX4_easeBy a1 a2 a3 c x h rfl)
abbrev muX4_laysEases : MI := (cX4_laysEases, RX4, 8, none, 2, "laysEases")
abbrev gX4_laysEases_l67 (G : GG) (Γ : Cx) (r : Vv × Wd) (sz sl : Nat) (td : TT) (v1 : Int) (v2 : Int) (v3 : Int) (v4 : Int) (v5 : Int) (c : CC) : (Int × Int) → Prop := fun s => WP G Γ muX4_laysEases r 67 [some (2, 111), some (0, v1), some (0, v2), some (0, v3), some (0, v4), some (0, v5), some (0, s.1), some (0, s.2)] [] (sz, sl, tt td, cv c)
abbrev eX4_laysEases_l67 (G : GG) (Γ : Cx) (r : Vv × Wd) (sz sl : Nat) (td : TT) (v1 : Int) (v2 : Int) (v3 : Int) (v4 : Int) (v5 : Int) (c : CC) : (Int) → Prop := (fun s => WP G Γ muX4_laysEases r 138 [some (2, 111), some (0, v1), some (0, v2), some (0, v3), some (0, v4), some (0, v5), some (0, s), none] [] (sz, sl, tt td, cv c))
noncomputable def fX4_laysEases_l67 (v1 : Int) (v2 : Int) (v3 : Int) (v4 : Int) (v5 : Int) (v6 : Int) (v7 : Int) (c : CC) : Option ((Int × Int) ⊕ (Int)) :=
  if v7 < v2 then
  (gd (inR (24 * v1)) <|
   gd (inR ((24 * v1) + v7)) <|
   gd (inR (((24 * v1) + v7) * 8)) <|
   gd (inR ((((24 * v1) + v7) * 8) + v3)) <|
   gd (inR (((((24 * v1) + v7) * 8) + v3) * 6)) <|
   gd (inR ((((((24 * v1) + v7) * 8) + v3) * 6) + v5)) <|
   gd (inR (((((((24 * v1) + v7) * 8) + v3) * 6) + v5) - 1)) <|
   gd ((0 : Int) ≤ ((((((24 * v1) + v7) * 8) + v3) * 6) + v5) - 1 ∧ ((((((24 * v1) + v7) * 8) + v3) * 6) + v5) - 1 < 27648) <|
   gd (inR (v5 - 1)) <|
   gd (inR (v7 + 1)) <|
   gd (inR (24 * (v7 + 1))) <|
   gd (inR ((24 * (v7 + 1)) + v2)) <|
   gd (inR (((24 * (v7 + 1)) + v2) * 8)) <|
   gd (inR ((((24 * (v7 + 1)) + v2) * 8) + v3)) <|
   gd ((0 : Int) ≤ (((24 * (v7 + 1)) + v2) * 8) + v3 ∧ (((24 * (v7 + 1)) + v2) * 8) + v3 < 4608) <|
   gd (inR ((v5 - 1) + (c 147 (Int.toNat ((((24 * (v7 + 1)) + v2) * 8) + v3))))) <|
   cl (fX4_greater (c 148 (Int.toNat (((((((24 * v1) + v7) * 8) + v3) * 6) + v5) - 1))) ((v5 - 1) + (c 147 (Int.toNat ((((24 * (v7 + 1)) + v2) * 8) + v3))))) fun p_3 =>
   cl (fX4_lesser v6 p_3) fun p_4 =>
   gd (inR (v7 + 1)) <| bd (v7 + 1) fun v7_5 =>
   some (.inl (p_4, v7_5)))
  else
  (some (.inr v6))
theorem sX4_laysEases_l67 {G : GG} {Γ : Cx} {r : Vv × Wd} {sz sl : Nat} {td : TT} (v1 : Int) (v2 : Int) (v3 : Int) (v4 : Int) (v5 : Int) (v6 : Int) (v7 : Int) (c : CC) : Sm (fX4_laysEases_l67 v1 v2 v3 v4 v5 v6 v7 c) (fun x => Sum.elim (gX4_laysEases_l67 G Γ r sz sl td v1 v2 v3 v4 v5 c) (eX4_laysEases_l67 G Γ r sz sl td v1 v2 v3 v4 v5 c) x) (gX4_laysEases_l67 G Γ r sz sl td v1 v2 v3 v4 v5 c (v6, v7)) := by
  show Sm _ _ (WP G Γ muX4_laysEases r 67 [some (2, 111), some (0, v1), some (0, v2), some (0, v3), some (0, v4), some (0, v5), some (0, v6), some (0, v7)] [] (sz, sl, tt td, cv c))
  unfold fX4_laysEases_l67
  refine s_iload (pc := 67) dX4_laysEases_67 rfl ?_
  refine s_iload_n (pc := 69) dX4_laysEases_69 rfl ?_
  refine s_icmp_ge (pc := 70) (tgt := 138) dX4_laysEases_70 rfl ?_ ?_
  · refine s_wk [true, true, true, true, true, true, true, false] (ls' := [some (2, 111), some (0, v1), some (0, v2), some (0, v3), some (0, v4), some (0, v5), some (0, v6), none]) rfl ?_
    exact Sm.some (fun h => h)
  refine s_iload (pc := 73) dX4_laysEases_73 rfl ?_
  refine s_aload_n (pc := 75) dX4_laysEases_75 rfl ?_
  refine s_get (pc := 76) (a := 111) (v := 148) flX4_127 (t_111 _) rfl (g_111_54 _) rfl dX4_laysEases_76 ?_
  refine s_bipush (pc := 79) dX4_laysEases_79 ?_
  refine s_iload_n (pc := 81) dX4_laysEases_81 rfl ?_
  refine s_imul (pc := 82) dX4_laysEases_82 ?_
  refine s_iload (pc := 83) dX4_laysEases_83 rfl ?_
  refine s_iadd (pc := 85) dX4_laysEases_85 ?_
  refine s_bipush (pc := 86) dX4_laysEases_86 ?_
  refine s_imul (pc := 88) dX4_laysEases_88 ?_
  refine s_iload_n (pc := 89) dX4_laysEases_89 rfl ?_
  refine s_iadd (pc := 90) dX4_laysEases_90 ?_
  refine s_bipush (pc := 91) dX4_laysEases_91 ?_
  refine s_imul (pc := 93) dX4_laysEases_93 ?_
  refine s_iload (pc := 94) dX4_laysEases_94 rfl ?_
  refine s_iadd (pc := 96) dX4_laysEases_96 ?_
  refine s_iconst (pc := 97) dX4_laysEases_97 ?_
  refine s_isub (pc := 98) dX4_laysEases_98 ?_
  refine s_ialdM (pc := 99) (a := 148) (t_148 _) rfl r_148 dX4_laysEases_99 ?_
  refine s_iload (pc := 100) dX4_laysEases_100 rfl ?_
  refine s_iconst (pc := 102) dX4_laysEases_102 ?_
  refine s_isub (pc := 103) dX4_laysEases_103 ?_
  refine s_aload_n (pc := 104) dX4_laysEases_104 rfl ?_
  refine s_get (pc := 105) (a := 111) (v := 147) flX4_124 (t_111 _) rfl (g_111_53 _) rfl dX4_laysEases_105 ?_
  refine s_bipush (pc := 108) dX4_laysEases_108 ?_
  refine s_iload (pc := 110) dX4_laysEases_110 rfl ?_
  refine s_iconst (pc := 112) dX4_laysEases_112 ?_
  refine s_iadd (pc := 113) dX4_laysEases_113 ?_
  refine s_imul (pc := 114) dX4_laysEases_114 ?_
  refine s_iload_n (pc := 115) dX4_laysEases_115 rfl ?_
  refine s_iadd (pc := 116) dX4_laysEases_116 ?_
  refine s_bipush (pc := 117) dX4_laysEases_117 ?_
  refine s_imul (pc := 119) dX4_laysEases_119 ?_
  refine s_iload_n (pc := 120) dX4_laysEases_120 rfl ?_
  refine s_iadd (pc := 121) dX4_laysEases_121 ?_
  refine s_ialdM (pc := 122) (a := 147) (t_147 _) rfl r_147 dX4_laysEases_122 ?_
  refine s_iadd (pc := 123) dX4_laysEases_123 ?_
  refine s_callS3 (pc := 124) (as := [(0, c 148 (Int.toNat (((((((24 * v1) + v7) * 8) + v3) * 6) + v5) - 1))), (0, (v5 - 1) + (c 147 (Int.toNat ((((24 * (v7 + 1)) + v2) * 8) + v3))))]) (st := [(0, v6)]) (rv := fun b => ((0, b), (sz, sl, tt td, cv c))) (st3 := fun b => [(0, b), (0, v6)]) (w3 := fun b => (sz, sl, tt td, cv c)) msX4_477 (fun b h => kX4_greater (c 148 (Int.toNat (((((((24 * v1) + v7) * 8) + v3) * 6) + v5) - 1))) ((v5 - 1) + (c 147 (Int.toNat ((((24 * (v7 + 1)) + v2) * 8) + v3)))) c b h) rfl (by decide) rfl (Nat.le_of_ble_eq_true rfl) (fun _ => Nat.le_of_ble_eq_true rfl) (fun _ => ⟨rfl, rfl⟩) dX4_laysEases_124 (fun p_3 => ?_)
  refine s_callS3 (pc := 127) (as := [(0, v6), (0, p_3)]) (st := []) (rv := fun b => ((0, b), (sz, sl, tt td, cv c))) (st3 := fun b => [(0, b)]) (w3 := fun b => (sz, sl, tt td, cv c)) msX4_474 (fun b h => kX4_lesser v6 p_3 c b h) rfl (by decide) rfl (Nat.le_of_ble_eq_true rfl) (fun _ => Nat.le_of_ble_eq_true rfl) (fun _ => ⟨rfl, rfl⟩) dX4_laysEases_127 (fun p_4 => ?_)
  refine s_istoreD (pc := 130) (ls' := [some (2, 111), some (0, v1), some (0, v2), some (0, v3), some (0, v4), some (0, v5), some (0, p_4), some (0, v7)]) dX4_laysEases_130 rfl (Nat.le_of_ble_eq_true rfl) ?_
  refine s_iinc (pc := 132) (lf := fun x => [some (2, 111), some (0, v1), some (0, v2), some (0, v3), some (0, v4), some (0, v5), some (0, p_4), some (0, x)]) dX4_laysEases_132 rfl (fun _ => rfl) (Nat.le_of_ble_eq_true rfl) (fun v7_5 => ?_)
  refine s_goto (pc := 135) (tgt := 67) dX4_laysEases_135 rfl ?_
  exact Sm.some (fun h => h)
abbrev gX4_laysEases_l52 (G : GG) (Γ : Cx) (r : Vv × Wd) (sz sl : Nat) (td : TT) (v1 : Int) (v2 : Int) (v3 : Int) (v4 : Int) : (Int × CC) → Prop := fun s => WP G Γ muX4_laysEases r 52 [some (2, 111), some (0, v1), some (0, v2), some (0, v3), some (0, v4), some (0, s.1), none, none] [] (sz, sl, tt td, cv s.2)
abbrev eX4_laysEases_l52 (G : GG) (Γ : Cx) (r : Vv × Wd) (sz sl : Nat) (td : TT) (v1 : Int) (v2 : Int) (v3 : Int) (v4 : Int) : (CC) → Prop := (fun s => WP G Γ muX4_laysEases r 156 [some (2, 111), some (0, v1), some (0, v2), some (0, v3), none, none, none, none] [] (sz, sl, tt td, cv s))
noncomputable def fX4_laysEases_l52 (v1 : Int) (v2 : Int) (v3 : Int) (v4 : Int) (v5 : Int) (c : CC) : Option ((Int × CC) ⊕ (CC)) :=
  if v5 < 6 then
  (cl (wh (fun s => fX4_laysEases_l67 v1 v2 v3 v4 v5 s.1 s.2 c) (10000, v1)) (fun e_6 =>
  gd (inR (v4 + v5)) <|
   gd ((0 : Int) ≤ v4 + v5 ∧ v4 + v5 < 27648) <| bd (up2 c 148 (Int.toNat (v4 + v5)) e_6) fun c_7 =>
   gd (inR (v5 + 1)) <| bd (v5 + 1) fun v5_8 =>
   some (.inl (v5_8, c_7))))
  else
  (some (.inr c))
theorem sX4_laysEases_l52 {G : GG} {Γ : Cx} {r : Vv × Wd} {sz sl : Nat} {td : TT} (v1 : Int) (v2 : Int) (v3 : Int) (v4 : Int) (v5 : Int) (c : CC) : Sm (fX4_laysEases_l52 v1 v2 v3 v4 v5 c) (fun x => Sum.elim (gX4_laysEases_l52 G Γ r sz sl td v1 v2 v3 v4) (eX4_laysEases_l52 G Γ r sz sl td v1 v2 v3 v4) x) (gX4_laysEases_l52 G Γ r sz sl td v1 v2 v3 v4 (v5, c)) := by
  show Sm _ _ (WP G Γ muX4_laysEases r 52 [some (2, 111), some (0, v1), some (0, v2), some (0, v3), some (0, v4), some (0, v5), none, none] [] (sz, sl, tt td, cv c))
  unfold fX4_laysEases_l52
  refine s_iload (pc := 52) dX4_laysEases_52 rfl ?_
  refine s_bipush (pc := 54) dX4_laysEases_54 ?_
  refine s_icmp_ge (pc := 56) (tgt := 156) dX4_laysEases_56 rfl ?_ ?_
  · refine s_wk [true, true, true, true, false, false, true, true] (ls' := [some (2, 111), some (0, v1), some (0, v2), some (0, v3), none, none, none, none]) rfl ?_
    exact Sm.some (fun h => h)
  refine s_sipush (pc := 59) dX4_laysEases_59 ?_
  refine s_istoreD (pc := 62) (ls' := [some (2, 111), some (0, v1), some (0, v2), some (0, v3), some (0, v4), some (0, v5), some (0, 10000), none]) dX4_laysEases_62 rfl (Nat.le_of_ble_eq_true rfl) ?_
  refine s_iload_n (pc := 64) dX4_laysEases_64 rfl ?_
  refine s_istoreD (pc := 65) (ls' := [some (2, 111), some (0, v1), some (0, v2), some (0, v3), some (0, v4), some (0, v5), some (0, 10000), some (0, v1)]) dX4_laysEases_65 rfl (Nat.le_of_ble_eq_true rfl) ?_
  refine s_loop (g := gX4_laysEases_l67 G Γ r sz sl td v1 v2 v3 v4 v5 c) (Ex := eX4_laysEases_l67 G Γ r sz sl td v1 v2 v3 v4 v5 c) (s0 := (10000, v1)) (fun s => sX4_laysEases_l67 v1 v2 v3 v4 v5 s.1 s.2 c) ?_
  intro e_6
  show Sm _ _ (WP G Γ muX4_laysEases r 138 [some (2, 111), some (0, v1), some (0, v2), some (0, v3), some (0, v4), some (0, v5), some (0, e_6), none] [] (sz, sl, tt td, cv c))
  refine s_aload_n (pc := 138) dX4_laysEases_138 rfl ?_
  refine s_get (pc := 139) (a := 111) (v := 148) flX4_127 (t_111 _) rfl (g_111_54 _) rfl dX4_laysEases_139 ?_
  refine s_iload (pc := 142) dX4_laysEases_142 rfl ?_
  refine s_iload (pc := 144) dX4_laysEases_144 rfl ?_
  refine s_iadd (pc := 146) dX4_laysEases_146 ?_
  refine s_iload (pc := 147) dX4_laysEases_147 rfl ?_
  refine s_iastM (pc := 149) (a := 148) (t_148 _) rfl kO_148 r_148 dX4_laysEases_149 (fun c_7 => ?_)
  refine s_iinc (pc := 150) (lf := fun x => [some (2, 111), some (0, v1), some (0, v2), some (0, v3), some (0, v4), some (0, x), some (0, e_6), none]) dX4_laysEases_150 rfl (fun _ => rfl) (Nat.le_of_ble_eq_true rfl) (fun v5_8 => ?_)
  refine s_goto (pc := 153) (tgt := 52) dX4_laysEases_153 rfl ?_
  refine s_wk [true, true, true, true, true, true, false, true] (ls' := [some (2, 111), some (0, v1), some (0, v2), some (0, v3), some (0, v4), some (0, v5_8), none, none]) rfl ?_
  exact Sm.some (fun h => h)
abbrev gX4_laysEases_l2 (G : GG) (Γ : Cx) (r : Vv × Wd) (sz sl : Nat) (td : TT) (v1 : Int) (v2 : Int) : (Int × CC) → Prop := fun s => WP G Γ muX4_laysEases r 2 [some (2, 111), some (0, v1), some (0, v2), some (0, s.1), none, none, none, none] [] (sz, sl, tt td, cv s.2)
abbrev eX4_laysEases_l2 (G : GG) (Γ : Cx) (r : Vv × Wd) (sz sl : Nat) (td : TT) (v1 : Int) (v2 : Int) : (CC) → Prop := (fun s => WP G Γ muX4_laysEases r 162 [none, none, none, none, none, none, none, none] [] (sz, sl, tt td, cv s))
noncomputable def fX4_laysEases_l2 (v1 : Int) (v2 : Int) (v3 : Int) (c : CC) : Option ((Int × CC) ⊕ (CC)) :=
  if v3 < 8 then
  (gd (inR (24 * v1)) <|
   gd (inR ((24 * v1) + v2)) <|
   gd (inR (((24 * v1) + v2) * 8)) <|
   gd (inR ((((24 * v1) + v2) * 8) + v3)) <|
   gd (inR (((((24 * v1) + v2) * 8) + v3) * 6)) <|
   bd (((((24 * v1) + v2) * 8) + v3) * 6) fun v4_1 =>
   gd (inR (v4_1 + 1)) <|
   gd (inR (24 * v1)) <|
   gd (inR ((24 * v1) + v2)) <|
   gd (inR (((24 * v1) + v2) * 8)) <|
   gd (inR ((((24 * v1) + v2) * 8) + v3)) <|
   gd ((0 : Int) ≤ (((24 * v1) + v2) * 8) + v3 ∧ (((24 * v1) + v2) * 8) + v3 < 4608) <|
   gd ((0 : Int) ≤ v4_1 + 1 ∧ v4_1 + 1 < 27648) <| bd (up2 c 148 (Int.toNat (v4_1 + 1)) (c 147 (Int.toNat ((((24 * v1) + v2) * 8) + v3)))) fun c_2 =>
   cl (wh (fun s => fX4_laysEases_l52 v1 v2 v3 v4_1 s.1 s.2) (2, c_2)) (fun e_9 =>
  gd (inR (v3 + 1)) <| bd (v3 + 1) fun v3_10 =>
   some (.inl (v3_10, e_9))))
  else
  (some (.inr c))
theorem sX4_laysEases_l2 {G : GG} {Γ : Cx} {r : Vv × Wd} {sz sl : Nat} {td : TT} (v1 : Int) (v2 : Int) (v3 : Int) (c : CC) : Sm (fX4_laysEases_l2 v1 v2 v3 c) (fun x => Sum.elim (gX4_laysEases_l2 G Γ r sz sl td v1 v2) (eX4_laysEases_l2 G Γ r sz sl td v1 v2) x) (gX4_laysEases_l2 G Γ r sz sl td v1 v2 (v3, c)) := by
  show Sm _ _ (WP G Γ muX4_laysEases r 2 [some (2, 111), some (0, v1), some (0, v2), some (0, v3), none, none, none, none] [] (sz, sl, tt td, cv c))
  unfold fX4_laysEases_l2
  refine s_iload_n (pc := 2) dX4_laysEases_2 rfl ?_
  refine s_bipush (pc := 3) dX4_laysEases_3 ?_
  refine s_icmp_ge (pc := 5) (tgt := 162) dX4_laysEases_5 rfl ?_ ?_
  · refine s_wk [false, false, false, false, true, true, true, true] (ls' := [none, none, none, none, none, none, none, none]) rfl ?_
    exact Sm.some (fun h => h)
  refine s_bipush (pc := 8) dX4_laysEases_8 ?_
  refine s_iload_n (pc := 10) dX4_laysEases_10 rfl ?_
  refine s_imul (pc := 11) dX4_laysEases_11 ?_
  refine s_iload_n (pc := 12) dX4_laysEases_12 rfl ?_
  refine s_iadd (pc := 13) dX4_laysEases_13 ?_
  refine s_bipush (pc := 14) dX4_laysEases_14 ?_
  refine s_imul (pc := 16) dX4_laysEases_16 ?_
  refine s_iload_n (pc := 17) dX4_laysEases_17 rfl ?_
  refine s_iadd (pc := 18) dX4_laysEases_18 ?_
  refine s_bipush (pc := 19) dX4_laysEases_19 ?_
  refine s_imul (pc := 21) dX4_laysEases_21 ?_
  refine s_istore (pc := 22) (lf := fun x => [some (2, 111), some (0, v1), some (0, v2), some (0, v3), some (0, x), none, none, none]) dX4_laysEases_22 (fun _ => rfl) (Nat.le_of_ble_eq_true rfl) (fun v4_1 => ?_)
  refine s_aload_n (pc := 24) dX4_laysEases_24 rfl ?_
  refine s_get (pc := 25) (a := 111) (v := 148) flX4_127 (t_111 _) rfl (g_111_54 _) rfl dX4_laysEases_25 ?_
  refine s_iload (pc := 28) dX4_laysEases_28 rfl ?_
  refine s_iconst (pc := 30) dX4_laysEases_30 ?_
  refine s_iadd (pc := 31) dX4_laysEases_31 ?_
  refine s_aload_n (pc := 32) dX4_laysEases_32 rfl ?_
  refine s_get (pc := 33) (a := 111) (v := 147) flX4_124 (t_111 _) rfl (g_111_53 _) rfl dX4_laysEases_33 ?_
  refine s_bipush (pc := 36) dX4_laysEases_36 ?_
  refine s_iload_n (pc := 38) dX4_laysEases_38 rfl ?_
  refine s_imul (pc := 39) dX4_laysEases_39 ?_
  refine s_iload_n (pc := 40) dX4_laysEases_40 rfl ?_
  refine s_iadd (pc := 41) dX4_laysEases_41 ?_
  refine s_bipush (pc := 42) dX4_laysEases_42 ?_
  refine s_imul (pc := 44) dX4_laysEases_44 ?_
  refine s_iload_n (pc := 45) dX4_laysEases_45 rfl ?_
  refine s_iadd (pc := 46) dX4_laysEases_46 ?_
  refine s_ialdM (pc := 47) (a := 147) (t_147 _) rfl r_147 dX4_laysEases_47 ?_
  refine s_iastM (pc := 48) (a := 148) (t_148 _) rfl kO_148 r_148 dX4_laysEases_48 (fun c_2 => ?_)
  refine s_iconst (pc := 49) dX4_laysEases_49 ?_
  refine s_istoreD (pc := 50) (ls' := [some (2, 111), some (0, v1), some (0, v2), some (0, v3), some (0, v4_1), some (0, 2), none, none]) dX4_laysEases_50 rfl (Nat.le_of_ble_eq_true rfl) ?_
  refine s_loop (g := gX4_laysEases_l52 G Γ r sz sl td v1 v2 v3 v4_1) (Ex := eX4_laysEases_l52 G Γ r sz sl td v1 v2 v3 v4_1) (s0 := (2, c_2)) (fun s => sX4_laysEases_l52 v1 v2 v3 v4_1 s.1 s.2) ?_
  intro e_9
  show Sm _ _ (WP G Γ muX4_laysEases r 156 [some (2, 111), some (0, v1), some (0, v2), some (0, v3), none, none, none, none] [] (sz, sl, tt td, cv e_9))
  refine s_iinc (pc := 156) (lf := fun x => [some (2, 111), some (0, v1), some (0, v2), some (0, x), none, none, none, none]) dX4_laysEases_156 rfl (fun _ => rfl) (Nat.le_of_ble_eq_true rfl) (fun v3_10 => ?_)
  refine s_goto (pc := 159) (tgt := 2) dX4_laysEases_159 rfl ?_
  exact Sm.some (fun h => h)
noncomputable def fX4_laysEases (a1 : Int) (a2 : Int) (c : CC) : Option CC :=
  cl (wh (fun s => fX4_laysEases_l2 a1 a2 s.1 s.2) (0, c)) (fun e_11 =>
  some e_11)
theorem sX4_laysEases {G : GG} {Γ : Cx} {r : Vv × Wd} {sz sl : Nat} {td : TT} (a1 : Int) (a2 : Int) (c : CC) : Sm (fX4_laysEases a1 a2 c) (fun x => r = ((3, 0), (sz, sl, tt td, cv x))) (WP G Γ muX4_laysEases r 0 [some (2, 111), some (0, a1), some (0, a2), none, none, none, none, none] [] (sz, sl, tt td, cv c)) := by
  unfold fX4_laysEases
  refine s_iconst (pc := 0) dX4_laysEases_0 ?_
  refine s_istore_nD (pc := 1) (ls' := [some (2, 111), some (0, a1), some (0, a2), some (0, 0), none, none, none, none]) dX4_laysEases_1 rfl (Nat.le_of_ble_eq_true rfl) ?_
  refine s_loop (g := gX4_laysEases_l2 G Γ r sz sl td a1 a2) (Ex := eX4_laysEases_l2 G Γ r sz sl td a1 a2) (s0 := (0, c)) (fun s => sX4_laysEases_l2 a1 a2 s.1 s.2) ?_
  intro e_11
  show Sm _ _ (WP G Γ muX4_laysEases r 162 [none, none, none, none, none, none, none, none] [] (sz, sl, tt td, cv e_11))
  exact s_vret (pc := 162) dX4_laysEases_162 rfl (fun h => h)
theorem kX4_laysEases {G : GG} {sz sl : Nat} {td : TT} (a1 : Int) (a2 : Int) (c : CC) (x : CC) (h : fX4_laysEases a1 a2 c = some x) : Ct G yX4_laysEases muX4_laysEases [(2, 111), (0, a1), (0, a2)] (sz, sl, tt td, cv c) ((3, 0), (sz, sl, tt td, cv x)) :=
  Ct.of (n := 5) (ls0 := [some (2, 111), some (0, a1), some (0, a2), none, none, none, none, none]) (by decide) rfl rfl ⟨by decide, by decide⟩ (Nat.le_of_ble_eq_true rfl) rfl ⟨Nat.le_refl _, Nat.le_refl _⟩ (show (3 : Nat) ≠ 9 by decide) (fun Γ => sX4_laysEases a1 a2 c x h rfl)
theorem mvX4_480 : MV RX4 480 RX4 yX4_easeBy muX4_easeBy 3 := ⟨lw_V q1769 q1771 qs97 q129 q1772, by decide +kernel, by decide⟩
theorem mvX4_483 : MV RX4 483 RX4 yX4_laysEases muX4_laysEases 2 := ⟨lw_V q1779 q1781 qs98 q129 q1782, by decide +kernel, by decide⟩
abbrev muX4_easeOfAll : MI := (cX4_easeOfAll, RX4, 8, some .int, 3, "easeOfAll")
abbrev gX4_easeOfAll_l31 (G : GG) (Γ : Cx) (r : Vv × Wd) (sz sl : Nat) (td : TT) (v1 : Int) (v2 : Int) (v3 : Int) (v4 : Int) : (Int × CC) → Prop := fun s => WP G Γ muX4_easeOfAll r 31 [some (2, 111), some (0, v1), some (0, v2), some (0, v3), some (0, v4), some (0, s.1), none, none] [] (sz, sl, tt td, cv s.2)
abbrev eX4_easeOfAll_l31 (G : GG) (Γ : Cx) (r : Vv × Wd) (sz sl : Nat) (td : TT) (v1 : Int) (v2 : Int) (v3 : Int) (v4 : Int) : (CC) → Prop := (fun s => WP G Γ muX4_easeOfAll r 65 [some (2, 111), some (0, v1), some (0, v2), some (0, v3), some (0, v4), none, none, none] [] (sz, sl, tt td, cv s))
noncomputable def fX4_easeOfAll_l31 (v1 : Int) (v2 : Int) (v3 : Int) (v4 : Int) (v5 : Int) (c : CC) : Option ((Int × CC) ⊕ (CC)) :=
  if v5 < 8 then
  (gd (inR (24 * v3)) <|
   gd (inR ((24 * v3) + v4)) <|
   gd (inR (((24 * v3) + v4) * 8)) <|
   gd (inR ((((24 * v3) + v4) * 8) + v5)) <|
   gd ((0 : Int) ≤ (((24 * v3) + v4) * 8) + v5 ∧ (((24 * v3) + v4) * 8) + v5 < 4608) <| bd (up2 c 147 (Int.toNat ((((24 * v3) + v4) * 8) + v5)) 10000) fun c_3 =>
   gd (inR (v5 + 1)) <| bd (v5 + 1) fun v5_4 =>
   some (.inl (v5_4, c_3)))
  else
  (some (.inr c))
theorem sX4_easeOfAll_l31 {G : GG} {Γ : Cx} {r : Vv × Wd} {sz sl : Nat} {td : TT} (v1 : Int) (v2 : Int) (v3 : Int) (v4 : Int) (v5 : Int) (c : CC) : Sm (fX4_easeOfAll_l31 v1 v2 v3 v4 v5 c) (fun x => Sum.elim (gX4_easeOfAll_l31 G Γ r sz sl td v1 v2 v3 v4) (eX4_easeOfAll_l31 G Γ r sz sl td v1 v2 v3 v4) x) (gX4_easeOfAll_l31 G Γ r sz sl td v1 v2 v3 v4 (v5, c)) := by
  show Sm _ _ (WP G Γ muX4_easeOfAll r 31 [some (2, 111), some (0, v1), some (0, v2), some (0, v3), some (0, v4), some (0, v5), none, none] [] (sz, sl, tt td, cv c))
  unfold fX4_easeOfAll_l31
  refine s_iload (pc := 31) dX4_easeOfAll_31 rfl ?_
  refine s_bipush (pc := 33) dX4_easeOfAll_33 ?_
  refine s_icmp_ge (pc := 35) (tgt := 65) dX4_easeOfAll_35 rfl ?_ ?_
  · refine s_wk [true, true, true, true, true, false, true, true] (ls' := [some (2, 111), some (0, v1), some (0, v2), some (0, v3), some (0, v4), none, none, none]) rfl ?_
    exact Sm.some (fun h => h)
  refine s_aload_n (pc := 38) dX4_easeOfAll_38 rfl ?_
  refine s_get (pc := 39) (a := 111) (v := 147) flX4_124 (t_111 _) rfl (g_111_53 _) rfl dX4_easeOfAll_39 ?_
  refine s_bipush (pc := 42) dX4_easeOfAll_42 ?_
  refine s_iload_n (pc := 44) dX4_easeOfAll_44 rfl ?_
  refine s_imul (pc := 45) dX4_easeOfAll_45 ?_
  refine s_iload (pc := 46) dX4_easeOfAll_46 rfl ?_
  refine s_iadd (pc := 48) dX4_easeOfAll_48 ?_
  refine s_bipush (pc := 49) dX4_easeOfAll_49 ?_
  refine s_imul (pc := 51) dX4_easeOfAll_51 ?_
  refine s_iload (pc := 52) dX4_easeOfAll_52 rfl ?_
  refine s_iadd (pc := 54) dX4_easeOfAll_54 ?_
  refine s_sipush (pc := 55) dX4_easeOfAll_55 ?_
  refine s_iastM (pc := 58) (a := 147) (t_147 _) rfl kO_147 r_147 dX4_easeOfAll_58 (fun c_3 => ?_)
  refine s_iinc (pc := 59) (lf := fun x => [some (2, 111), some (0, v1), some (0, v2), some (0, v3), some (0, v4), some (0, x), none, none]) dX4_easeOfAll_59 rfl (fun _ => rfl) (Nat.le_of_ble_eq_true rfl) (fun v5_4 => ?_)
  refine s_goto (pc := 62) (tgt := 31) dX4_easeOfAll_62 rfl ?_
  exact Sm.some (fun h => h)
abbrev gX4_easeOfAll_l68 (G : GG) (Γ : Cx) (r : Vv × Wd) (sz sl : Nat) (td : TT) (v1 : Int) (v2 : Int) (v3 : Int) (v4 : Int) : (Int × CC) → Prop := fun s => WP G Γ muX4_easeOfAll r 68 [some (2, 111), some (0, v1), some (0, v2), some (0, v3), some (0, v4), some (0, s.1), none, none] [] (sz, sl, tt td, cv s.2)
abbrev eX4_easeOfAll_l68 (G : GG) (Γ : Cx) (r : Vv × Wd) (sz sl : Nat) (td : TT) (v1 : Int) (v2 : Int) (v3 : Int) (v4 : Int) : (CC) → Prop := (fun s => WP G Γ muX4_easeOfAll r 157 [some (2, 111), some (0, v1), some (0, v2), some (0, v3), some (0, v4), none, none, none] [] (sz, sl, tt td, cv s))
noncomputable def fX4_easeOfAll_l68 (v1 : Int) (v2 : Int) (v3 : Int) (v4 : Int) (v5 : Int) (c : CC) : Option ((Int × CC) ⊕ (CC)) :=
  cl (fX4_senses  c) fun p_6 =>
   if v5 < p_6 then
  (cl (fX4_at24 v5 c) fun p_7 =>
   gd ((0 : Int) ≤ p_7 ∧ p_7 < 144) <|
   gd (inR (10 + v4)) <|
   gd ((0 : Int) ≤ 10 + v4 ∧ 10 + v4 < 40) <|
   if c 118 (Int.toNat p_7) = c 112 (Int.toNat (10 + v4)) then
  (gd (inR (24 * v3)) <|
   gd (inR ((24 * v3) + v4)) <|
   gd (inR (((24 * v3) + v4) * 8)) <|
   gd ((0 : Int) ≤ p_7 ∧ p_7 < 144) <|
   gd (inR ((((24 * v3) + v4) * 8) + (c 122 (Int.toNat p_7)))) <|
   bd ((((24 * v3) + v4) * 8) + (c 122 (Int.toNat p_7))) fun v7_9 =>
   gd ((0 : Int) ≤ v7_9 ∧ v7_9 < 4608) <|
   cl (fX4_easeBy v3 v4 p_7 c) fun p_10 =>
   cl (fX4_lesser (c 147 (Int.toNat v7_9)) p_10) fun p_11 =>
   gd ((0 : Int) ≤ v7_9 ∧ v7_9 < 4608) <| bd (up2 c 147 (Int.toNat v7_9) p_11) fun c_12 =>
   gd (inR (v5 + 1)) <| bd (v5 + 1) fun v5_13 =>
   some (.inl (v5_13, c_12)))
  else
  (gd (inR (v5 + 1)) <| bd (v5 + 1) fun v5_8 =>
   some (.inl (v5_8, c))))
  else
  (some (.inr c))
theorem sX4_easeOfAll_l68 {G : GG} {Γ : Cx} {r : Vv × Wd} {sz sl : Nat} {td : TT} (v1 : Int) (v2 : Int) (v3 : Int) (v4 : Int) (v5 : Int) (c : CC) : Sm (fX4_easeOfAll_l68 v1 v2 v3 v4 v5 c) (fun x => Sum.elim (gX4_easeOfAll_l68 G Γ r sz sl td v1 v2 v3 v4) (eX4_easeOfAll_l68 G Γ r sz sl td v1 v2 v3 v4) x) (gX4_easeOfAll_l68 G Γ r sz sl td v1 v2 v3 v4 (v5, c)) := by
  show Sm _ _ (WP G Γ muX4_easeOfAll r 68 [some (2, 111), some (0, v1), some (0, v2), some (0, v3), some (0, v4), some (0, v5), none, none] [] (sz, sl, tt td, cv c))
  unfold fX4_easeOfAll_l68
  refine s_iload (pc := 68) dX4_easeOfAll_68 rfl ?_
  refine s_aload_n (pc := 70) dX4_easeOfAll_70 rfl ?_
  refine s_callV3 (pc := 71) (a := 111) (as := []) (st := [(0, v5)]) (rv := fun b => ((0, b), (sz, sl, tt td, cv c))) (st3 := fun b => [(0, b), (0, v5)]) (w3 := fun b => (sz, sl, tt td, cv c)) mvX4_409 (fun b h => kX4_senses  c b h) rfl (by decide) (t_111 td) rfl rfl rfl (Nat.le_of_ble_eq_true rfl) (fun _ => Nat.le_of_ble_eq_true rfl) (fun _ => ⟨rfl, rfl⟩) dX4_easeOfAll_71 (fun p_6 => ?_)
  refine s_icmp_ge (pc := 74) (tgt := 157) dX4_easeOfAll_74 rfl ?_ ?_
  · refine s_wk [true, true, true, true, true, false, true, true] (ls' := [some (2, 111), some (0, v1), some (0, v2), some (0, v3), some (0, v4), none, none, none]) rfl ?_
    exact Sm.some (fun h => h)
  refine s_aload_n (pc := 77) dX4_easeOfAll_77 rfl ?_
  refine s_iload (pc := 78) dX4_easeOfAll_78 rfl ?_
  refine s_callV3 (pc := 80) (a := 111) (as := [(0, v5)]) (st := []) (rv := fun b => ((0, b), (sz, sl, tt td, cv c))) (st3 := fun b => [(0, b)]) (w3 := fun b => (sz, sl, tt td, cv c)) mvX4_412 (fun b h => kX4_at24 v5 c b h) rfl (by decide) (t_111 td) rfl rfl rfl (Nat.le_of_ble_eq_true rfl) (fun _ => Nat.le_of_ble_eq_true rfl) (fun _ => ⟨rfl, rfl⟩) dX4_easeOfAll_80 (fun p_7 => ?_)
  refine s_istoreD (pc := 83) (ls' := [some (2, 111), some (0, v1), some (0, v2), some (0, v3), some (0, v4), some (0, v5), some (0, p_7), none]) dX4_easeOfAll_83 rfl (Nat.le_of_ble_eq_true rfl) ?_
  refine s_aload_n (pc := 85) dX4_easeOfAll_85 rfl ?_
  refine s_get (pc := 86) (a := 111) (v := 118) flX4_36 (t_111 _) rfl (g_111_9 _) rfl dX4_easeOfAll_86 ?_
  refine s_iload (pc := 89) dX4_easeOfAll_89 rfl ?_
  refine s_ialdM (pc := 91) (a := 118) (t_118 _) rfl r_118 dX4_easeOfAll_91 ?_
  refine s_aload_n (pc := 92) dX4_easeOfAll_92 rfl ?_
  refine s_get (pc := 93) (a := 111) (v := 112) flX4_7 (t_111 _) rfl (g_111_0 _) rfl dX4_easeOfAll_93 ?_
  refine s_bipush (pc := 96) dX4_easeOfAll_96 ?_
  refine s_iload (pc := 98) dX4_easeOfAll_98 rfl ?_
  refine s_iadd (pc := 100) dX4_easeOfAll_100 ?_
  refine s_ialdM (pc := 101) (a := 112) (t_112 _) rfl r_112 dX4_easeOfAll_101 ?_
  refine s_icmp_ne (pc := 102) (tgt := 151) dX4_easeOfAll_102 rfl ?_ ?_
  · refine s_iinc (pc := 151) (lf := fun x => [some (2, 111), some (0, v1), some (0, v2), some (0, v3), some (0, v4), some (0, x), some (0, p_7), none]) dX4_easeOfAll_151 rfl (fun _ => rfl) (Nat.le_of_ble_eq_true rfl) (fun v5_8 => ?_)
    refine s_goto (pc := 154) (tgt := 68) dX4_easeOfAll_154 rfl ?_
    refine s_wk [true, true, true, true, true, true, false, true] (ls' := [some (2, 111), some (0, v1), some (0, v2), some (0, v3), some (0, v4), some (0, v5_8), none, none]) rfl ?_
    exact Sm.some (fun h => h)
  refine s_bipush (pc := 105) dX4_easeOfAll_105 ?_
  refine s_iload_n (pc := 107) dX4_easeOfAll_107 rfl ?_
  refine s_imul (pc := 108) dX4_easeOfAll_108 ?_
  refine s_iload (pc := 109) dX4_easeOfAll_109 rfl ?_
  refine s_iadd (pc := 111) dX4_easeOfAll_111 ?_
  refine s_bipush (pc := 112) dX4_easeOfAll_112 ?_
  refine s_imul (pc := 114) dX4_easeOfAll_114 ?_
  refine s_aload_n (pc := 115) dX4_easeOfAll_115 rfl ?_
  refine s_get (pc := 116) (a := 111) (v := 122) flX4_48 (t_111 _) rfl (g_111_13 _) rfl dX4_easeOfAll_116 ?_
  refine s_iload (pc := 119) dX4_easeOfAll_119 rfl ?_
  refine s_ialdM (pc := 121) (a := 122) (t_122 _) rfl r_122 dX4_easeOfAll_121 ?_
  refine s_iadd (pc := 122) dX4_easeOfAll_122 ?_
  refine s_istore (pc := 123) (lf := fun x => [some (2, 111), some (0, v1), some (0, v2), some (0, v3), some (0, v4), some (0, v5), some (0, p_7), some (0, x)]) dX4_easeOfAll_123 (fun _ => rfl) (Nat.le_of_ble_eq_true rfl) (fun v7_9 => ?_)
  refine s_aload_n (pc := 125) dX4_easeOfAll_125 rfl ?_
  refine s_get (pc := 126) (a := 111) (v := 147) flX4_124 (t_111 _) rfl (g_111_53 _) rfl dX4_easeOfAll_126 ?_
  refine s_iload (pc := 129) dX4_easeOfAll_129 rfl ?_
  refine s_aload_n (pc := 131) dX4_easeOfAll_131 rfl ?_
  refine s_get (pc := 132) (a := 111) (v := 147) flX4_124 (t_111 _) rfl (g_111_53 _) rfl dX4_easeOfAll_132 ?_
  refine s_iload (pc := 135) dX4_easeOfAll_135 rfl ?_
  refine s_ialdM (pc := 137) (a := 147) (t_147 _) rfl r_147 dX4_easeOfAll_137 ?_
  refine s_aload_n (pc := 138) dX4_easeOfAll_138 rfl ?_
  refine s_iload_n (pc := 139) dX4_easeOfAll_139 rfl ?_
  refine s_iload (pc := 140) dX4_easeOfAll_140 rfl ?_
  refine s_iload (pc := 142) dX4_easeOfAll_142 rfl ?_
  refine s_callV3 (pc := 144) (a := 111) (as := [(0, v3), (0, v4), (0, p_7)]) (st := [(0, c 147 (Int.toNat v7_9)), (0, v7_9), (2, 147)]) (rv := fun b => ((0, b), (sz, sl, tt td, cv c))) (st3 := fun b => [(0, b), (0, c 147 (Int.toNat v7_9)), (0, v7_9), (2, 147)]) (w3 := fun b => (sz, sl, tt td, cv c)) mvX4_480 (fun b h => kX4_easeBy v3 v4 p_7 c b h) rfl (by decide) (t_111 td) rfl rfl rfl (Nat.le_of_ble_eq_true rfl) (fun _ => Nat.le_of_ble_eq_true rfl) (fun _ => ⟨rfl, rfl⟩) dX4_easeOfAll_144 (fun p_10 => ?_)
  refine s_callS3 (pc := 147) (as := [(0, c 147 (Int.toNat v7_9)), (0, p_10)]) (st := [(0, v7_9), (2, 147)]) (rv := fun b => ((0, b), (sz, sl, tt td, cv c))) (st3 := fun b => [(0, b), (0, v7_9), (2, 147)]) (w3 := fun b => (sz, sl, tt td, cv c)) msX4_474 (fun b h => kX4_lesser (c 147 (Int.toNat v7_9)) p_10 c b h) rfl (by decide) rfl (Nat.le_of_ble_eq_true rfl) (fun _ => Nat.le_of_ble_eq_true rfl) (fun _ => ⟨rfl, rfl⟩) dX4_easeOfAll_147 (fun p_11 => ?_)
  refine s_iastM (pc := 150) (a := 147) (t_147 _) rfl kO_147 r_147 dX4_easeOfAll_150 (fun c_12 => ?_)
  refine s_iinc (pc := 151) (lf := fun x => [some (2, 111), some (0, v1), some (0, v2), some (0, v3), some (0, v4), some (0, x), some (0, p_7), some (0, v7_9)]) dX4_easeOfAll_151 rfl (fun _ => rfl) (Nat.le_of_ble_eq_true rfl) (fun v5_13 => ?_)
  refine s_goto (pc := 154) (tgt := 68) dX4_easeOfAll_154 rfl ?_
  refine s_wk [true, true, true, true, true, true, false, false] (ls' := [some (2, 111), some (0, v1), some (0, v2), some (0, v3), some (0, v4), some (0, v5_13), none, none]) rfl ?_
  exact Sm.some (fun h => h)
abbrev gX4_easeOfAll_l16 (G : GG) (Γ : Cx) (r : Vv × Wd) (sz sl : Nat) (td : TT) (v1 : Int) (v2 : Int) : (Int × CC) → Prop := fun s => WP G Γ muX4_easeOfAll r 16 [some (2, 111), some (0, v1), some (0, v2), some (0, s.1), none, none, none, none] [] (sz, sl, tt td, cv s.2)
abbrev eX4_easeOfAll_l16 (G : GG) (Γ : Cx) (r : Vv × Wd) (sz sl : Nat) (td : TT) (v1 : Int) (v2 : Int) : (CC) → Prop := (fun s => WP G Γ muX4_easeOfAll r 170 [some (2, 111), some (0, v1), some (0, v2), none, none, none, none, none] [] (sz, sl, tt td, cv s))
noncomputable def fX4_easeOfAll_l16 (v1 : Int) (v2 : Int) (v3 : Int) (c : CC) : Option ((Int × CC) ⊕ (CC)) :=
  gd (inR (v3 + v2)) <|
   if v3 + v2 < v1 then
  (gd (inR (v3 + v2)) <|
   bd (v3 + v2) fun v4_2 =>
   cl (wh (fun s => fX4_easeOfAll_l31 v1 v2 v3 v4_2 s.1 s.2) (0, c)) (fun e_5 =>
  cl (wh (fun s => fX4_easeOfAll_l68 v1 v2 v3 v4_2 s.1 s.2) (0, e_5)) (fun e_14 =>
  cl (fX4_laysEases v3 v4_2 e_14) fun p_15 =>
   gd (inR (v3 + 1)) <| bd (v3 + 1) fun v3_16 =>
   some (.inl (v3_16, p_15)))))
  else
  (some (.inr c))
theorem sX4_easeOfAll_l16 {G : GG} {Γ : Cx} {r : Vv × Wd} {sz sl : Nat} {td : TT} (v1 : Int) (v2 : Int) (v3 : Int) (c : CC) : Sm (fX4_easeOfAll_l16 v1 v2 v3 c) (fun x => Sum.elim (gX4_easeOfAll_l16 G Γ r sz sl td v1 v2) (eX4_easeOfAll_l16 G Γ r sz sl td v1 v2) x) (gX4_easeOfAll_l16 G Γ r sz sl td v1 v2 (v3, c)) := by
  show Sm _ _ (WP G Γ muX4_easeOfAll r 16 [some (2, 111), some (0, v1), some (0, v2), some (0, v3), none, none, none, none] [] (sz, sl, tt td, cv c))
  unfold fX4_easeOfAll_l16
  refine s_iload_n (pc := 16) dX4_easeOfAll_16 rfl ?_
  refine s_iload_n (pc := 17) dX4_easeOfAll_17 rfl ?_
  refine s_iadd (pc := 18) dX4_easeOfAll_18 ?_
  refine s_iload_n (pc := 19) dX4_easeOfAll_19 rfl ?_
  refine s_icmp_ge (pc := 20) (tgt := 170) dX4_easeOfAll_20 rfl ?_ ?_
  · refine s_wk [true, true, true, false, true, true, true, true] (ls' := [some (2, 111), some (0, v1), some (0, v2), none, none, none, none, none]) rfl ?_
    exact Sm.some (fun h => h)
  refine s_iload_n (pc := 23) dX4_easeOfAll_23 rfl ?_
  refine s_iload_n (pc := 24) dX4_easeOfAll_24 rfl ?_
  refine s_iadd (pc := 25) dX4_easeOfAll_25 ?_
  refine s_istore (pc := 26) (lf := fun x => [some (2, 111), some (0, v1), some (0, v2), some (0, v3), some (0, x), none, none, none]) dX4_easeOfAll_26 (fun _ => rfl) (Nat.le_of_ble_eq_true rfl) (fun v4_2 => ?_)
  refine s_iconst (pc := 28) dX4_easeOfAll_28 ?_
  refine s_istoreD (pc := 29) (ls' := [some (2, 111), some (0, v1), some (0, v2), some (0, v3), some (0, v4_2), some (0, 0), none, none]) dX4_easeOfAll_29 rfl (Nat.le_of_ble_eq_true rfl) ?_
  refine s_loop (g := gX4_easeOfAll_l31 G Γ r sz sl td v1 v2 v3 v4_2) (Ex := eX4_easeOfAll_l31 G Γ r sz sl td v1 v2 v3 v4_2) (s0 := (0, c)) (fun s => sX4_easeOfAll_l31 v1 v2 v3 v4_2 s.1 s.2) ?_
  intro e_5
  show Sm _ _ (WP G Γ muX4_easeOfAll r 65 [some (2, 111), some (0, v1), some (0, v2), some (0, v3), some (0, v4_2), none, none, none] [] (sz, sl, tt td, cv e_5))
  refine s_iconst (pc := 65) dX4_easeOfAll_65 ?_
  refine s_istoreD (pc := 66) (ls' := [some (2, 111), some (0, v1), some (0, v2), some (0, v3), some (0, v4_2), some (0, 0), none, none]) dX4_easeOfAll_66 rfl (Nat.le_of_ble_eq_true rfl) ?_
  refine s_loop (g := gX4_easeOfAll_l68 G Γ r sz sl td v1 v2 v3 v4_2) (Ex := eX4_easeOfAll_l68 G Γ r sz sl td v1 v2 v3 v4_2) (s0 := (0, e_5)) (fun s => sX4_easeOfAll_l68 v1 v2 v3 v4_2 s.1 s.2) ?_
  intro e_14
  show Sm _ _ (WP G Γ muX4_easeOfAll r 157 [some (2, 111), some (0, v1), some (0, v2), some (0, v3), some (0, v4_2), none, none, none] [] (sz, sl, tt td, cv e_14))
  refine s_aload_n (pc := 157) dX4_easeOfAll_157 rfl ?_
  refine s_iload_n (pc := 158) dX4_easeOfAll_158 rfl ?_
  refine s_iload (pc := 159) dX4_easeOfAll_159 rfl ?_
  refine s_callV3 (pc := 161) (a := 111) (as := [(0, v3), (0, v4_2)]) (st := []) (rv := fun b => ((3, 0), (sz, sl, tt td, cv b))) (st3 := fun b => []) (w3 := fun b => (sz, sl, tt td, cv b)) mvX4_483 (fun b h => kX4_laysEases v3 v4_2 e_14 b h) rfl (by decide) (t_111 td) rfl rfl rfl (Nat.le_of_ble_eq_true rfl) (fun _ => Nat.le_of_ble_eq_true rfl) (fun _ => ⟨rfl, rfl⟩) dX4_easeOfAll_161 (fun p_15 => ?_)
  refine s_iinc (pc := 164) (lf := fun x => [some (2, 111), some (0, v1), some (0, v2), some (0, x), some (0, v4_2), none, none, none]) dX4_easeOfAll_164 rfl (fun _ => rfl) (Nat.le_of_ble_eq_true rfl) (fun v3_16 => ?_)
  refine s_goto (pc := 167) (tgt := 16) dX4_easeOfAll_167 rfl ?_
  refine s_wk [true, true, true, true, false, true, true, true] (ls' := [some (2, 111), some (0, v1), some (0, v2), some (0, v3_16), none, none, none, none]) rfl ?_
  exact Sm.some (fun h => h)
abbrev gX4_easeOfAll_l9 (G : GG) (Γ : Cx) (r : Vv × Wd) (sz sl : Nat) (td : TT) (v1 : Int) : (Int × CC) → Prop := fun s => WP G Γ muX4_easeOfAll r 9 [some (2, 111), some (0, v1), some (0, s.1), none, none, none, none, none] [] (sz, sl, tt td, cv s.2)
abbrev eX4_easeOfAll_l9 (G : GG) (Γ : Cx) (r : Vv × Wd) (sz sl : Nat) (td : TT) (v1 : Int) : (CC) → Prop := (fun s => WP G Γ muX4_easeOfAll r 176 [some (2, 111), some (0, v1), none, none, none, none, none, none] [] (sz, sl, tt td, cv s))
noncomputable def fX4_easeOfAll_l9 (v1 : Int) (v2 : Int) (c : CC) : Option ((Int × CC) ⊕ (CC)) :=
  if v2 < v1 then
  (cl (wh (fun s => fX4_easeOfAll_l16 v1 v2 s.1 s.2) (0, c)) (fun e_17 =>
  gd (inR (v2 + 1)) <| bd (v2 + 1) fun v2_18 =>
   some (.inl (v2_18, e_17))))
  else
  (some (.inr c))
theorem sX4_easeOfAll_l9 {G : GG} {Γ : Cx} {r : Vv × Wd} {sz sl : Nat} {td : TT} (v1 : Int) (v2 : Int) (c : CC) : Sm (fX4_easeOfAll_l9 v1 v2 c) (fun x => Sum.elim (gX4_easeOfAll_l9 G Γ r sz sl td v1) (eX4_easeOfAll_l9 G Γ r sz sl td v1) x) (gX4_easeOfAll_l9 G Γ r sz sl td v1 (v2, c)) := by
  show Sm _ _ (WP G Γ muX4_easeOfAll r 9 [some (2, 111), some (0, v1), some (0, v2), none, none, none, none, none] [] (sz, sl, tt td, cv c))
  unfold fX4_easeOfAll_l9
  refine s_iload_n (pc := 9) dX4_easeOfAll_9 rfl ?_
  refine s_iload_n (pc := 10) dX4_easeOfAll_10 rfl ?_
  refine s_icmp_ge (pc := 11) (tgt := 176) dX4_easeOfAll_11 rfl ?_ ?_
  · refine s_wk [true, true, false, true, true, true, true, true] (ls' := [some (2, 111), some (0, v1), none, none, none, none, none, none]) rfl ?_
    exact Sm.some (fun h => h)
  refine s_iconst (pc := 14) dX4_easeOfAll_14 ?_
  refine s_istore_nD (pc := 15) (ls' := [some (2, 111), some (0, v1), some (0, v2), some (0, 0), none, none, none, none]) dX4_easeOfAll_15 rfl (Nat.le_of_ble_eq_true rfl) ?_
  refine s_loop (g := gX4_easeOfAll_l16 G Γ r sz sl td v1 v2) (Ex := eX4_easeOfAll_l16 G Γ r sz sl td v1 v2) (s0 := (0, c)) (fun s => sX4_easeOfAll_l16 v1 v2 s.1 s.2) ?_
  intro e_17
  show Sm _ _ (WP G Γ muX4_easeOfAll r 170 [some (2, 111), some (0, v1), some (0, v2), none, none, none, none, none] [] (sz, sl, tt td, cv e_17))
  refine s_iinc (pc := 170) (lf := fun x => [some (2, 111), some (0, v1), some (0, x), none, none, none, none, none]) dX4_easeOfAll_170 rfl (fun _ => rfl) (Nat.le_of_ble_eq_true rfl) (fun v2_18 => ?_)
  refine s_goto (pc := 173) (tgt := 9) dX4_easeOfAll_173 rfl ?_
  exact Sm.some (fun h => h)
noncomputable def fX4_easeOfAll_j197 (w0 : Int) (c : CC) : Option (Int × CC) :=
  if w0 < 10000 then
  (some (w0, c))
  else
  (some (-1, c))
theorem sX4_easeOfAll_j197 {G : GG} {Γ : Cx} {r : Vv × Wd} {sz sl : Nat} {td : TT} (w0 : Int) (c : CC) : Sm (fX4_easeOfAll_j197 w0 c) (fun x => r = ((0, x.1), (sz, sl, tt td, cv x.2))) (WP G Γ muX4_easeOfAll r 197 [some (2, 111), none, none, none, none, none, none, none] [(0, w0)] (sz, sl, tt td, cv c)) := by
  unfold fX4_easeOfAll_j197
  refine s_istore_nD (pc := 197) (ls' := [some (2, 111), none, some (0, w0), none, none, none, none, none]) dX4_easeOfAll_197 rfl (Nat.le_of_ble_eq_true rfl) ?_
  refine s_iload_n (pc := 198) dX4_easeOfAll_198 rfl ?_
  refine s_sipush (pc := 199) dX4_easeOfAll_199 ?_
  refine s_icmp_lt (pc := 202) (tgt := 209) dX4_easeOfAll_202 rfl ?_ ?_
  · refine s_iload_n (pc := 209) dX4_easeOfAll_209 rfl ?_
    exact s_iret (pc := 210) dX4_easeOfAll_210 rfl (fun h => h)
  refine s_iconst (pc := 205) dX4_easeOfAll_205 ?_
  refine s_goto (pc := 206) (tgt := 210) dX4_easeOfAll_206 rfl ?_
  exact s_iret (pc := 210) dX4_easeOfAll_210 rfl (fun h => h)
noncomputable def fX4_easeOfAll  (c : CC) : Option (Int × CC) :=
  bd (c 112 2) fun v1_1 =>
   cl (wh (fun s => fX4_easeOfAll_l9 v1_1 s.1 s.2) (0, c)) (fun e_19 =>
  if v1_1 = 0 then
  (fX4_easeOfAll_j197 10000 e_19)
  else
  (gd (inR (v1_1 - 1)) <|
   gd (inR ((v1_1 - 1) * 8)) <|
   gd ((0 : Int) ≤ (v1_1 - 1) * 8 ∧ (v1_1 - 1) * 8 < 4608) <|
   fX4_easeOfAll_j197 (e_19 147 (Int.toNat ((v1_1 - 1) * 8))) e_19))
theorem sX4_easeOfAll {G : GG} {Γ : Cx} {r : Vv × Wd} {sz sl : Nat} {td : TT}  (c : CC) : Sm (fX4_easeOfAll  c) (fun x => r = ((0, x.1), (sz, sl, tt td, cv x.2))) (WP G Γ muX4_easeOfAll r 0 [some (2, 111), none, none, none, none, none, none, none] [] (sz, sl, tt td, cv c)) := by
  unfold fX4_easeOfAll
  refine s_aload_n (pc := 0) dX4_easeOfAll_0 rfl ?_
  refine s_get (pc := 1) (a := 111) (v := 112) flX4_7 (t_111 _) rfl (g_111_0 _) rfl dX4_easeOfAll_1 ?_
  refine s_iconst (pc := 4) dX4_easeOfAll_4 ?_
  refine s_ialdML (pc := 5) (a := 112) 2 rfl (Nat.le_of_ble_eq_true rfl) (t_112 _) rfl r_112 dX4_easeOfAll_5 ?_
  refine s_istore_n (pc := 6) (lf := fun x => [some (2, 111), some (0, x), none, none, none, none, none, none]) dX4_easeOfAll_6 (fun _ => rfl) (Nat.le_of_ble_eq_true rfl) (fun v1_1 => ?_)
  refine s_iconst (pc := 7) dX4_easeOfAll_7 ?_
  refine s_istore_nD (pc := 8) (ls' := [some (2, 111), some (0, v1_1), some (0, 0), none, none, none, none, none]) dX4_easeOfAll_8 rfl (Nat.le_of_ble_eq_true rfl) ?_
  refine s_loop (g := gX4_easeOfAll_l9 G Γ r sz sl td v1_1) (Ex := eX4_easeOfAll_l9 G Γ r sz sl td v1_1) (s0 := (0, c)) (fun s => sX4_easeOfAll_l9 v1_1 s.1 s.2) ?_
  intro e_19
  show Sm _ _ (WP G Γ muX4_easeOfAll r 176 [some (2, 111), some (0, v1_1), none, none, none, none, none, none] [] (sz, sl, tt td, cv e_19))
  refine s_iload_n (pc := 176) dX4_easeOfAll_176 rfl ?_
  refine s_if_ne (pc := 177) (tgt := 186) dX4_easeOfAll_177 rfl ?_ ?_
  · refine s_aload_n (pc := 186) dX4_easeOfAll_186 rfl ?_
    refine s_get (pc := 187) (a := 111) (v := 147) flX4_124 (t_111 _) rfl (g_111_53 _) rfl dX4_easeOfAll_187 ?_
    refine s_iload_n (pc := 190) dX4_easeOfAll_190 rfl ?_
    refine s_iconst (pc := 191) dX4_easeOfAll_191 ?_
    refine s_isub (pc := 192) dX4_easeOfAll_192 ?_
    refine s_bipush (pc := 193) dX4_easeOfAll_193 ?_
    refine s_imul (pc := 195) dX4_easeOfAll_195 ?_
    refine s_ialdM (pc := 196) (a := 147) (t_147 _) rfl r_147 dX4_easeOfAll_196 ?_
    refine s_wk [true, false, true, true, true, true, true, true] (ls' := [some (2, 111), none, none, none, none, none, none, none]) rfl ?_
    exact sX4_easeOfAll_j197 (e_19 147 (Int.toNat ((v1_1 - 1) * 8))) e_19
  refine s_sipush (pc := 180) dX4_easeOfAll_180 ?_
  refine s_goto (pc := 183) (tgt := 197) dX4_easeOfAll_183 rfl ?_
  refine s_wk [true, false, true, true, true, true, true, true] (ls' := [some (2, 111), none, none, none, none, none, none, none]) rfl ?_
  exact sX4_easeOfAll_j197 10000 e_19
theorem kX4_easeOfAll {G : GG} {sz sl : Nat} {td : TT}  (c : CC) (x : (Int × CC)) (h : fX4_easeOfAll  c = some x) : Ct G yX4_easeOfAll muX4_easeOfAll [(2, 111)] (sz, sl, tt td, cv c) ((0, x.1), (sz, sl, tt td, cv x.2)) :=
  Ct.of (n := 7) (ls0 := [some (2, 111), none, none, none, none, none, none, none]) (by decide) rfl rfl ⟨by decide, by decide⟩ (Nat.le_of_ble_eq_true rfl) rfl ⟨Nat.le_refl _, Nat.le_refl _⟩ (show (0 : Nat) ≠ 9 by decide) (fun Γ => sX4_easeOfAll  c x h rfl)
