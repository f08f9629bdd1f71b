/-! LAYER 2: HeldTongue.<init>, by gen/mk_xinit.py -/
set_option maxRecDepth 100000
abbrev muX2_init : MI := (cX2_init, RX2, 1, none, 1, "<init>")
theorem kX2_init {G : GG} (a : Nat) (w : Wd) : Ct G yX2_init muX2_init [(2, (a : Int))] w ((3, 0), w) := by
  have hs : ∀ (Γ : Cx) (r : Vv × Wd), Sm (some ()) (fun _ => r = ((3, 0), w)) (WP G Γ muX2_init r 0 [some (2, (a : Int))] [] w) := by
    intro Γ r
    refine s_aload_n (pc := 0) dX2_init_0 rfl ?_
    refine s_objInit (pc := 1) (a := a) q199 q161 q162 rfl (by decide) (Nat.le_of_ble_eq_true rfl) dX2_init_1 ?_
    exact s_vret (pc := 4) dX2_init_4 rfl (fun h => h)
  exact Ct.of (n := 0) (ls0 := [some (2, (a : Int))]) (by decide) rfl rfl ⟨show (none : Option FieldType) ≠ some .float by decide, show (none : Option FieldType) ≠ some .double by decide⟩ (Nat.le_of_ble_eq_true rfl) rfl (hs cx0 _ () rfl rfl).1 (show (3 : Nat) ≠ 9 by decide) (fun Γ => hs Γ _ () rfl rfl)
theorem fiX1_9 : FP RX1 9 1 0 "<init>" := ⟨_, _, _, cf1, by decide, q174, Or.inl rfl⟩
theorem fiX1_17 : FP RX1 17 1 1 "<init>" := ⟨_, _, _, cf1, by decide, q176, Or.inl rfl⟩
noncomputable def fX1_initB (c : CC) : Option CC :=
  bd (zc c 46 (50 + 5)) fun c_1 =>
  bd (up2 c_1 45 0 46) fun c_2 =>
  bd (zc c_2 47 (50 + 6)) fun c_3 =>
  bd (up2 c_3 45 1 47) fun c_4 =>
  some c_4
theorem sX1_initB {G : GG} {Γ : Cx} {r : Vv × Wd} {sl : Nat} {td : TT} (c : CC) : Sm (fX1_initB c) (fun x => r = ((3, 0), (48, ((sl + Int.toNat 0) + Int.toNat 0), tB td 48, x))) (WP G Γ muX1_init r 0 [some (2, 45)] [] (46, sl, tB td 46, c)) := by
  unfold fX1_initB
  refine s_aload_n (pc := 0) dX1_init_0 rfl ?_
  refine s_objInit (pc := 1) (a := 45) q169 q161 q162 rfl (by decide) (Nat.le_of_ble_eq_true rfl) dX1_init_1 ?_
  refine s_aload_n (pc := 4) dX1_init_4 rfl ?_
  refine s_iconst (pc := 5) dX1_init_5 ?_
  refine s_anewB (pc := 6) (K := 46) (q := 5) (t_46 _) (by decide) (by decide) rfl q170 (PP.aov q171) dX1_init_6 (fun c_1 => ?_)
  refine s_putB (pc := 9) (K := 47) (a := 45) ⟨by decide, by decide⟩ (t_45 _) fiX1_9 rfl rfl (by decide) dX1_init_9 (fun c_2 => ?_)
  refine s_aload_n (pc := 12) dX1_init_12 rfl ?_
  refine s_iconst (pc := 13) dX1_init_13 ?_
  refine s_anewB (pc := 14) (K := 47) (q := 6) (t_47 _) (by decide) (by decide) rfl q172 (PP.aov q173) dX1_init_14 (fun c_3 => ?_)
  refine s_putB (pc := 17) (K := 48) (a := 45) ⟨by decide, by decide⟩ (t_45 _) fiX1_17 rfl rfl (by decide) dX1_init_17 (fun c_4 => ?_)
  exact s_vret (pc := 20) dX1_init_20 rfl (fun h => h)
theorem kX1_initB {G : GG} {sl : Nat} {td : TT} (c : CC) (x : CC) (h : fX1_initB c = some x) : Ct G yX1_init muX1_init [(2, 45)] (46, sl, tB td 46, c) ((3, 0), (48, ((sl + Int.toNat 0) + Int.toNat 0), tB td 48, x)) :=
  Ct.of (n := 0) (ls0 := [some (2, 45)]) (by decide) rfl rfl ⟨show (none : Option FieldType) ≠ some .float by decide, show (none : Option FieldType) ≠ some .double by decide⟩ (Nat.le_of_ble_eq_true rfl) rfl (sX1_initB (G := G) (Γ := cx0) c x h rfl).1 (show (3 : Nat) ≠ 9 by decide) (fun Γ => sX1_initB c x h rfl)
theorem minX3_1B : MInN RX3 1 yX2_init muX2_init 0 := ⟨_, lw_meth q198, rfl, q127, PP.nwM q196, q197, rfl, by decide +kernel, by decide⟩
theorem fiX3_7 : FP RX3 7 2 0 "<init>" := ⟨_, _, _, cf2, by decide, q200, Or.inr ⟨rfl, rfl, rfl⟩⟩
abbrev muX3_init : MI := (cX3_init, RX3, 1, none, 2, "<init>")
noncomputable def fX3_initB (c : CC) : Option CC :=
  gd ((0 : Int) ≤ 48) <| cl (some ()) fun _ =>
  bd (zc c 49 (50 + 0)) fun c_1 =>
  bd (up2 c_1 48 0 49) fun c_2 =>
  some c_2
theorem sX3_initB {G : GG} {Γ : Cx} {r : Vv × Wd} {sl : Nat} {td : TT} (c : CC) : Sm (fX3_initB c) (fun x => r = ((3, 0), (50, (sl + Int.toNat 7), tB td 50, x))) (WP G Γ muX3_init r 0 [some (2, 48)] [] (49, sl, tB td 49, c)) := by
  unfold fX3_initB
  refine s_aload_n (pc := 0) dX3_init_0 rfl ?_
  refine s_callIN3 (pc := 1) (o := some ()) (as := []) (st := []) (rv := fun _ => ((3, 0), (49, sl, tB td 49, c))) (st3 := fun _ => []) (w3 := fun _ => (49, sl, tB td 49, c)) minX3_1B (fun _ _ => kX2_init 48 _) rfl (by decide) rfl (Nat.le_of_ble_eq_true rfl) (fun _ => Nat.le_of_ble_eq_true rfl) (fun _ => ⟨rfl, rfl⟩) dX3_init_1 (fun _ => ?_)
  refine s_aload_n (pc := 4) dX3_init_4 rfl ?_
  refine s_bipush (pc := 5) dX3_init_5 ?_
  refine s_newaB (pc := 7) (K := 49) (at0 := .int) (q := 0) (t_49 _) (by decide) (by decide) rfl q205 (by decide) (fun _ _ h => h) dX3_init_7 (fun c_1 => ?_)
  refine s_putB (pc := 9) (K := 50) (a := 48) ⟨by decide, by decide⟩ (t_48 _) fiX3_7 rfl rfl (by decide) dX3_init_9 (fun c_2 => ?_)
  exact s_vret (pc := 12) dX3_init_12 rfl (fun h => h)
theorem kX3_initB {G : GG} {sl : Nat} {td : TT} (c : CC) (x : CC) (h : fX3_initB c = some x) : Ct G yX3_init muX3_init [(2, 48)] (49, sl, tB td 49, c) ((3, 0), (50, (sl + Int.toNat 7), tB td 50, x)) :=
  Ct.of (n := 0) (ls0 := [some (2, 48)]) (by decide) rfl rfl ⟨show (none : Option FieldType) ≠ some .float by decide, show (none : Option FieldType) ≠ some .double by decide⟩ (Nat.le_of_ble_eq_true rfl) rfl (sX3_initB (G := G) (Γ := cx0) c x h rfl).1 (show (3 : Nat) ≠ 9 by decide) (fun Γ => sX3_initB c x h rfl)
theorem fiX0_11 : FP RX0 11 0 0 "<init>" := ⟨_, _, _, cf0, by decide, q213, Or.inr ⟨rfl, rfl, rfl⟩⟩
theorem minX0_15B : MInN RX0 15 yX1_init muX1_init 0 := ⟨_, lw_meth q168, rfl, q126, PP.nwM q166, q167, rfl, by decide +kernel, by decide⟩
theorem fiX0_16 : FP RX0 16 0 1 "<init>" := ⟨_, _, _, cf0, by decide, q214, Or.inr ⟨rfl, rfl, rfl⟩⟩
theorem minX0_22B : MInN RX0 22 yX3_init muX3_init 0 := ⟨_, lw_meth q195, rfl, q128, PP.nwM q193, q194, rfl, by decide +kernel, by decide⟩
theorem fiX0_23 : FP RX0 23 0 2 "<init>" := ⟨_, _, _, cf0, by decide, q215, Or.inr ⟨rfl, rfl, rfl⟩⟩
theorem fiX0_27 : FP RX0 27 0 4 "<init>" := ⟨_, _, _, cf0, by decide, q217, Or.inl rfl⟩
theorem fiX0_31 : FP RX0 31 0 7 "<init>" := ⟨_, _, _, cf0, by decide, q220, Or.inl rfl⟩
theorem fiX0_34 : FP RX0 34 0 9 "<init>" := ⟨_, _, _, cf0, by decide, q222, Or.inr ⟨rfl, rfl, rfl⟩⟩
theorem fiX0_38 : FP RX0 38 0 10 "<init>" := ⟨_, _, _, cf0, by decide, q223, Or.inr ⟨rfl, rfl, rfl⟩⟩
theorem fiX0_41 : FP RX0 41 0 12 "<init>" := ⟨_, _, _, cf0, by decide, q225, Or.inr ⟨rfl, rfl, rfl⟩⟩
theorem fiX0_45 : FP RX0 45 0 14 "<init>" := ⟨_, _, _, cf0, by decide, q227, Or.inl rfl⟩
theorem fiX0_48 : FP RX0 48 0 15 "<init>" := ⟨_, _, _, cf0, by decide, q228, Or.inl rfl⟩
theorem fiX0_51 : FP RX0 51 0 16 "<init>" := ⟨_, _, _, cf0, by decide, q229, Or.inr ⟨rfl, rfl, rfl⟩⟩
theorem fiX0_55 : FP RX0 55 0 17 "<init>" := ⟨_, _, _, cf0, by decide, q230, Or.inr ⟨rfl, rfl, rfl⟩⟩
theorem fiX0_58 : FP RX0 58 0 18 "<init>" := ⟨_, _, _, cf0, by decide, q231, Or.inr ⟨rfl, rfl, rfl⟩⟩
theorem fiX0_61 : FP RX0 61 0 19 "<init>" := ⟨_, _, _, cf0, by decide, q232, Or.inr ⟨rfl, rfl, rfl⟩⟩
theorem tm_57 (td : TT) : ∀ j, j < 31 → tt td (57 + 1 + j) = (50 + 1, 24) := by
  intro j hj
  have h : ∀ i : Fin 31, T0.getD (57 + 1 + i.val) (99, 0) = (50 + 1, 24) := by decide +kernel
  unfold tt
  rw [if_pos (by show 43 ≤ 57 + 1 + j ∧ 57 + 1 + j < 168; omega)]
  exact h ⟨j, hj⟩
theorem fiX0_66 : FP RX0 66 0 20 "<init>" := ⟨_, _, _, cf0, by decide, q233, Or.inr ⟨rfl, rfl, rfl⟩⟩
theorem fiX0_71 : FP RX0 71 0 22 "<init>" := ⟨_, _, _, cf0, by decide, q235, Or.inr ⟨rfl, rfl, rfl⟩⟩
theorem fiX0_75 : FP RX0 75 0 23 "<init>" := ⟨_, _, _, cf0, by decide, q236, Or.inr ⟨rfl, rfl, rfl⟩⟩
theorem fiX0_78 : FP RX0 78 0 24 "<init>" := ⟨_, _, _, cf0, by decide, q237, Or.inr ⟨rfl, rfl, rfl⟩⟩
theorem tm_92 (td : TT) : ∀ j, j < 6 → tt td (92 + 1 + j) = (50 + 0, 24) := by
  intro j hj
  have h : ∀ i : Fin 6, T0.getD (92 + 1 + i.val) (99, 0) = (50 + 0, 24) := by decide +kernel
  unfold tt
  rw [if_pos (by show 43 ≤ 92 + 1 + j ∧ 92 + 1 + j < 168; omega)]
  exact h ⟨j, hj⟩
theorem fiX0_83 : FP RX0 83 0 25 "<init>" := ⟨_, _, _, cf0, by decide, q238, Or.inr ⟨rfl, rfl, rfl⟩⟩
theorem fiX0_86 : FP RX0 86 0 26 "<init>" := ⟨_, _, _, cf0, by decide, q239, Or.inr ⟨rfl, rfl, rfl⟩⟩
theorem fiX0_89 : FP RX0 89 0 27 "<init>" := ⟨_, _, _, cf0, by decide, q240, Or.inr ⟨rfl, rfl, rfl⟩⟩
theorem fiX0_92 : FP RX0 92 0 28 "<init>" := ⟨_, _, _, cf0, by decide, q241, Or.inr ⟨rfl, rfl, rfl⟩⟩
theorem fiX0_95 : FP RX0 95 0 29 "<init>" := ⟨_, _, _, cf0, by decide, q242, Or.inr ⟨rfl, rfl, rfl⟩⟩
theorem fiX0_98 : FP RX0 98 0 31 "<init>" := ⟨_, _, _, cf0, by decide, q244, Or.inr ⟨rfl, rfl, rfl⟩⟩
theorem fiX0_101 : FP RX0 101 0 32 "<init>" := ⟨_, _, _, cf0, by decide, q245, Or.inr ⟨rfl, rfl, rfl⟩⟩
theorem fiX0_104 : FP RX0 104 0 33 "<init>" := ⟨_, _, _, cf0, by decide, q246, Or.inr ⟨rfl, rfl, rfl⟩⟩
theorem fiX0_107 : FP RX0 107 0 34 "<init>" := ⟨_, _, _, cf0, by decide, q247, Or.inr ⟨rfl, rfl, rfl⟩⟩
theorem fiX0_110 : FP RX0 110 0 36 "<init>" := ⟨_, _, _, cf0, by decide, q249, Or.inr ⟨rfl, rfl, rfl⟩⟩
theorem fiX0_113 : FP RX0 113 0 37 "<init>" := ⟨_, _, _, cf0, by decide, q250, Or.inr ⟨rfl, rfl, rfl⟩⟩
theorem fiX0_116 : FP RX0 116 0 38 "<init>" := ⟨_, _, _, cf0, by decide, q251, Or.inr ⟨rfl, rfl, rfl⟩⟩
theorem fiX0_120 : FP RX0 120 0 40 "<init>" := ⟨_, _, _, cf0, by decide, q253, Or.inr ⟨rfl, rfl, rfl⟩⟩
abbrev muX0_init : MI := (cX0_init, RX0, 1, none, 4, "<init>")
noncomputable def fX0_init (c : CC) : Option CC :=
  bd (zc c 44 (50 + 4)) fun c_1 =>
  bd (up2 c_1 43 0 44) fun c_2 =>
  bd (zc c_2 45 1) fun c_3 =>
  gd ((0 : Int) ≤ 45) <| cl (fX1_initB c_3) fun c_4 =>
  bd (up2 c_4 43 1 45) fun c_5 =>
  bd (zc c_5 48 2) fun c_6 =>
  gd ((0 : Int) ≤ 48) <| cl (fX3_initB c_6) fun c_7 =>
  bd (up2 c_7 43 2 48) fun c_8 =>
  bd (up2 c_8 43 4 (-1)) fun c_9 =>
  bd (up2 c_9 43 7 (-1)) fun c_10 =>
  bd (zc c_10 50 (50 + 0)) fun c_11 =>
  bd (up2 c_11 43 9 50) fun c_12 =>
  bd (zc c_12 51 (50 + 0)) fun c_13 =>
  bd (up2 c_13 43 10 51) fun c_14 =>
  bd (zc c_14 52 (50 + 2)) fun c_15 =>
  bd (up2 c_15 43 12 52) fun c_16 =>
  bd (up2 c_16 43 14 (-1)) fun c_17 =>
  bd (up2 c_17 43 15 (-1)) fun c_18 =>
  bd (zc c_18 53 (50 + 0)) fun c_19 =>
  bd (up2 c_19 43 16 53) fun c_20 =>
  bd (zc c_20 54 (50 + 0)) fun c_21 =>
  bd (up2 c_21 43 17 54) fun c_22 =>
  bd (zc c_22 55 (50 + 0)) fun c_23 =>
  bd (up2 c_23 55 (Int.toNat 0) 1) fun c_24 =>
  bd (up2 c_24 55 (Int.toNat 1) 0) fun c_25 =>
  bd (up2 c_25 55 (Int.toNat 2) 0) fun c_26 =>
  bd (up2 c_26 55 (Int.toNat 3) 0) fun c_27 =>
  bd (up2 c_27 55 (Int.toNat 4) 0) fun c_28 =>
  bd (up2 c_28 55 (Int.toNat 5) 0) fun c_29 =>
  bd (up2 c_29 55 (Int.toNat 6) 0) fun c_30 =>
  bd (up2 c_30 43 18 55) fun c_31 =>
  bd (zc c_31 56 (50 + 0)) fun c_32 =>
  bd (up2 c_32 43 19 56) fun c_33 =>
  bd (muC c_33 57 8 1 (Int.toNat 31)) fun c_34 =>
  bd (up2 c_34 43 20 57) fun c_35 =>
  bd (zc c_35 89 (50 + 5)) fun c_36 =>
  bd (up2 c_36 43 22 89) fun c_37 =>
  bd (zc c_37 90 (50 + 0)) fun c_38 =>
  bd (up2 c_38 43 23 90) fun c_39 =>
  bd (zc c_39 91 (50 + 0)) fun c_40 =>
  bd (up2 c_40 43 24 91) fun c_41 =>
  bd (muC c_41 92 7 0 (Int.toNat 6)) fun c_42 =>
  bd (up2 c_42 43 25 92) fun c_43 =>
  bd (zc c_43 99 (50 + 0)) fun c_44 =>
  bd (up2 c_44 43 26 99) fun c_45 =>
  bd (zc c_45 100 (50 + 0)) fun c_46 =>
  bd (up2 c_46 43 27 100) fun c_47 =>
  bd (zc c_47 101 (50 + 0)) fun c_48 =>
  bd (up2 c_48 43 28 101) fun c_49 =>
  bd (zc c_49 102 (50 + 0)) fun c_50 =>
  bd (up2 c_50 43 29 102) fun c_51 =>
  bd (zc c_51 103 (50 + 0)) fun c_52 =>
  bd (up2 c_52 43 31 103) fun c_53 =>
  bd (zc c_53 104 (50 + 0)) fun c_54 =>
  bd (up2 c_54 43 32 104) fun c_55 =>
  bd (zc c_55 105 (50 + 0)) fun c_56 =>
  bd (up2 c_56 43 33 105) fun c_57 =>
  bd (zc c_57 106 (50 + 0)) fun c_58 =>
  bd (up2 c_58 43 34 106) fun c_59 =>
  bd (zc c_59 107 (50 + 0)) fun c_60 =>
  bd (up2 c_60 43 36 107) fun c_61 =>
  bd (zc c_61 108 (50 + 0)) fun c_62 =>
  bd (up2 c_62 43 37 108) fun c_63 =>
  bd (zc c_63 109 (50 + 0)) fun c_64 =>
  bd (up2 c_64 43 38 109) fun c_65 =>
  bd (zc c_65 110 (50 + 7)) fun c_66 =>
  bd (up2 c_66 43 40 110) fun c_67 =>
  some c_67
theorem sX0_init {G : GG} {Γ : Cx} {r : Vv × Wd} {sl : Nat} {td : TT} (c : CC) : Sm (fX0_init c) (fun x => r = ((3, 0), (111, ((((((((((((((((((((((((((((((sl + Int.toNat 6) + 4) + Int.toNat 0) + Int.toNat 0) + 1) + Int.toNat 7) + Int.toNat 24) + Int.toNat 24) + Int.toNat 300) + Int.toNat 16800) + Int.toNat 84000) + Int.toNat 7) + Int.toNat 31) + Int.toNat 31 + Int.toNat 31 * Int.toNat 24) + Int.toNat 24) + Int.toNat 24) + Int.toNat 2400) + Int.toNat 6 + Int.toNat 6 * Int.toNat 24) + Int.toNat 8000) + Int.toNat 8000) + Int.toNat 8001) + Int.toNat 16000) + Int.toNat 25) + Int.toNat 25) + Int.toNat 25) + Int.toNat 25) + Int.toNat 5) + Int.toNat 4800) + Int.toNat 32) + Int.toNat 4800), tB td 111, x))) (WP G Γ muX0_init r 0 [some (2, 43)] [] (44, sl, tB td 44, c)) := by
  unfold fX0_init
  refine s_aload_n (pc := 0) dX0_init_0 rfl ?_
  refine s_objInit (pc := 1) (a := 43) q160 q161 q162 rfl (by decide) (Nat.le_of_ble_eq_true rfl) dX0_init_1 ?_
  refine s_aload_n (pc := 4) dX0_init_4 rfl ?_
  refine s_bipush (pc := 5) dX0_init_5 ?_
  refine s_anewB (pc := 7) (K := 44) (q := 4) (t_44 _) (by decide) (by decide) rfl q163 (PP.aov q164) dX0_init_7 (fun c_1 => ?_)
  refine s_putB (pc := 10) (K := 45) (a := 43) ⟨by decide, by decide⟩ (t_43 _) fiX0_11 rfl rfl (by decide) dX0_init_10 (fun c_2 => ?_)
  refine s_aload_n (pc := 13) dX0_init_13 rfl ?_
  refine s_newB (pc := 14) (K := 45) (t_45 _) cf1 q163 q165 q126 dX0_init_14 (fun c_3 => ?_)
  refine s_dup (pc := 17) (by decide : ¬ (2 : Nat) = 1) dX0_init_17 ?_
  refine s_callIN3 (pc := 18) (as := []) (st := [(2, 45), (2, 43)]) (rv := fun b => ((3, 0), (48, ((((sl + Int.toNat 6) + 4) + Int.toNat 0) + Int.toNat 0), tB td 48, b))) (st3 := fun _ => [(2, 45), (2, 43)]) (w3 := fun b => (48, ((((sl + Int.toNat 6) + 4) + Int.toNat 0) + Int.toNat 0), tB td 48, b)) minX0_15B (fun b h => kX1_initB c_3 b h) rfl (by decide) rfl (Nat.le_of_ble_eq_true rfl) (fun _ => Nat.le_of_ble_eq_true rfl) (fun _ => ⟨rfl, rfl⟩) dX0_init_18 (fun c_4 => ?_)
  refine s_putB (pc := 21) (K := 48) (a := 43) ⟨by decide, by decide⟩ (t_43 _) fiX0_16 rfl rfl (by decide) dX0_init_21 (fun c_5 => ?_)
  refine s_aload_n (pc := 24) dX0_init_24 rfl ?_
  refine s_newB (pc := 25) (K := 48) (t_48 _) cf2 q191 q192 q128 dX0_init_25 (fun c_6 => ?_)
  refine s_dup (pc := 28) (by decide : ¬ (2 : Nat) = 1) dX0_init_28 ?_
  refine s_callIN3 (pc := 29) (as := []) (st := [(2, 48), (2, 43)]) (rv := fun b => ((3, 0), (50, ((((((sl + Int.toNat 6) + 4) + Int.toNat 0) + Int.toNat 0) + 1) + Int.toNat 7), tB td 50, b))) (st3 := fun _ => [(2, 48), (2, 43)]) (w3 := fun b => (50, ((((((sl + Int.toNat 6) + 4) + Int.toNat 0) + Int.toNat 0) + 1) + Int.toNat 7), tB td 50, b)) minX0_22B (fun b h => kX3_initB c_6 b h) rfl (by decide) rfl (Nat.le_of_ble_eq_true rfl) (fun _ => Nat.le_of_ble_eq_true rfl) (fun _ => ⟨rfl, rfl⟩) dX0_init_29 (fun c_7 => ?_)
  refine s_putB (pc := 32) (K := 50) (a := 43) ⟨by decide, by decide⟩ (t_43 _) fiX0_23 rfl rfl (by decide) dX0_init_32 (fun c_8 => ?_)
  refine s_aload_n (pc := 35) dX0_init_35 rfl ?_
  refine s_iconst (pc := 36) dX0_init_36 ?_
  refine s_putB (pc := 37) (K := 50) (a := 43) ⟨by decide, by decide⟩ (t_43 _) fiX0_27 rfl rfl (by decide) dX0_init_37 (fun c_9 => ?_)
  refine s_aload_n (pc := 40) dX0_init_40 rfl ?_
  refine s_iconst (pc := 41) dX0_init_41 ?_
  refine s_putB (pc := 42) (K := 50) (a := 43) ⟨by decide, by decide⟩ (t_43 _) fiX0_31 rfl rfl (by decide) dX0_init_42 (fun c_10 => ?_)
  refine s_aload_n (pc := 45) dX0_init_45 rfl ?_
  refine s_bipush (pc := 46) dX0_init_46 ?_
  refine s_newaB (pc := 48) (K := 50) (at0 := .int) (q := 0) (t_50 _) (by decide) (by decide) rfl q205 (by decide) (fun _ _ h => h) dX0_init_48 (fun c_11 => ?_)
  refine s_putB (pc := 50) (K := 51) (a := 43) ⟨by decide, by decide⟩ (t_43 _) fiX0_34 rfl rfl (by decide) dX0_init_50 (fun c_12 => ?_)
  refine s_aload_n (pc := 53) dX0_init_53 rfl ?_
  refine s_bipush (pc := 54) dX0_init_54 ?_
  refine s_newaB (pc := 56) (K := 51) (at0 := .int) (q := 0) (t_51 _) (by decide) (by decide) rfl q205 (by decide) (fun _ _ h => h) dX0_init_56 (fun c_13 => ?_)
  refine s_putB (pc := 58) (K := 52) (a := 43) ⟨by decide, by decide⟩ (t_43 _) fiX0_38 rfl rfl (by decide) dX0_init_58 (fun c_14 => ?_)
  refine s_aload_n (pc := 61) dX0_init_61 rfl ?_
  refine s_sipush (pc := 62) dX0_init_62 ?_
  refine s_newaB (pc := 65) (K := 52) (at0 := .byte) (q := 2) (t_52 _) (by decide) (by decide) rfl q337 (by decide) (fun _ _ h => h) dX0_init_65 (fun c_15 => ?_)
  refine s_putB (pc := 67) (K := 53) (a := 43) ⟨by decide, by decide⟩ (t_43 _) fiX0_41 rfl rfl (by decide) dX0_init_67 (fun c_16 => ?_)
  refine s_aload_n (pc := 70) dX0_init_70 rfl ?_
  refine s_iconst (pc := 71) dX0_init_71 ?_
  refine s_putB (pc := 72) (K := 53) (a := 43) ⟨by decide, by decide⟩ (t_43 _) fiX0_45 rfl rfl (by decide) dX0_init_72 (fun c_17 => ?_)
  refine s_aload_n (pc := 75) dX0_init_75 rfl ?_
  refine s_iconst (pc := 76) dX0_init_76 ?_
  refine s_putB (pc := 77) (K := 53) (a := 43) ⟨by decide, by decide⟩ (t_43 _) fiX0_48 rfl rfl (by decide) dX0_init_77 (fun c_18 => ?_)
  refine s_aload_n (pc := 80) dX0_init_80 rfl ?_
  refine s_sipush (pc := 81) dX0_init_81 ?_
  refine s_newaB (pc := 84) (K := 53) (at0 := .int) (q := 0) (t_53 _) (by decide) (by decide) rfl q205 (by decide) (fun _ _ h => h) dX0_init_84 (fun c_19 => ?_)
  refine s_putB (pc := 86) (K := 54) (a := 43) ⟨by decide, by decide⟩ (t_43 _) fiX0_51 rfl rfl (by decide) dX0_init_86 (fun c_20 => ?_)
  refine s_aload_n (pc := 89) dX0_init_89 rfl ?_
  refine s_ldc (pc := 90) (z := 84000) q206 dX0_init_90 ?_
  refine s_newaB (pc := 92) (K := 54) (at0 := .int) (q := 0) (t_54 _) (by decide) (by decide) rfl q205 (by decide) (fun _ _ h => h) dX0_init_92 (fun c_21 => ?_)
  refine s_putB (pc := 94) (K := 55) (a := 43) ⟨by decide, by decide⟩ (t_43 _) fiX0_55 rfl rfl (by decide) dX0_init_94 (fun c_22 => ?_)
  refine s_aload_n (pc := 97) dX0_init_97 rfl ?_
  refine s_bipush (pc := 98) dX0_init_98 ?_
  refine s_newaB (pc := 100) (K := 55) (at0 := .int) (q := 0) (t_55 _) (by decide) (by decide) rfl q205 (by decide) (fun _ _ h => h) dX0_init_100 (fun c_23 => ?_)
  refine s_dup (pc := 102) (by decide : ¬ (2 : Nat) = 1) dX0_init_102 ?_
  refine s_iconst (pc := 103) dX0_init_103 ?_
  refine s_iconst (pc := 104) dX0_init_104 ?_
  refine s_iastB (pc := 105) (K := 56) (a := 55) ⟨by decide, by decide⟩ (t_55 _) rfl (by decide) dX0_init_105 (fun c_24 => ?_)
  refine s_dup (pc := 106) (by decide : ¬ (2 : Nat) = 1) dX0_init_106 ?_
  refine s_iconst (pc := 107) dX0_init_107 ?_
  refine s_iconst (pc := 108) dX0_init_108 ?_
  refine s_iastB (pc := 109) (K := 56) (a := 55) ⟨by decide, by decide⟩ (t_55 _) rfl (by decide) dX0_init_109 (fun c_25 => ?_)
  refine s_dup (pc := 110) (by decide : ¬ (2 : Nat) = 1) dX0_init_110 ?_
  refine s_iconst (pc := 111) dX0_init_111 ?_
  refine s_iconst (pc := 112) dX0_init_112 ?_
  refine s_iastB (pc := 113) (K := 56) (a := 55) ⟨by decide, by decide⟩ (t_55 _) rfl (by decide) dX0_init_113 (fun c_26 => ?_)
  refine s_dup (pc := 114) (by decide : ¬ (2 : Nat) = 1) dX0_init_114 ?_
  refine s_iconst (pc := 115) dX0_init_115 ?_
  refine s_iconst (pc := 116) dX0_init_116 ?_
  refine s_iastB (pc := 117) (K := 56) (a := 55) ⟨by decide, by decide⟩ (t_55 _) rfl (by decide) dX0_init_117 (fun c_27 => ?_)
  refine s_dup (pc := 118) (by decide : ¬ (2 : Nat) = 1) dX0_init_118 ?_
  refine s_iconst (pc := 119) dX0_init_119 ?_
  refine s_iconst (pc := 120) dX0_init_120 ?_
  refine s_iastB (pc := 121) (K := 56) (a := 55) ⟨by decide, by decide⟩ (t_55 _) rfl (by decide) dX0_init_121 (fun c_28 => ?_)
  refine s_dup (pc := 122) (by decide : ¬ (2 : Nat) = 1) dX0_init_122 ?_
  refine s_iconst (pc := 123) dX0_init_123 ?_
  refine s_iconst (pc := 124) dX0_init_124 ?_
  refine s_iastB (pc := 125) (K := 56) (a := 55) ⟨by decide, by decide⟩ (t_55 _) rfl (by decide) dX0_init_125 (fun c_29 => ?_)
  refine s_dup (pc := 126) (by decide : ¬ (2 : Nat) = 1) dX0_init_126 ?_
  refine s_bipush (pc := 127) dX0_init_127 ?_
  refine s_iconst (pc := 129) dX0_init_129 ?_
  refine s_iastB (pc := 130) (K := 56) (a := 55) ⟨by decide, by decide⟩ (t_55 _) rfl (by decide) dX0_init_130 (fun c_30 => ?_)
  refine s_putB (pc := 131) (K := 56) (a := 43) ⟨by decide, by decide⟩ (t_43 _) fiX0_58 rfl rfl (by decide) dX0_init_131 (fun c_31 => ?_)
  refine s_aload_n (pc := 134) dX0_init_134 rfl ?_
  refine s_bipush (pc := 135) dX0_init_135 ?_
  refine s_newaB (pc := 137) (K := 56) (at0 := .int) (q := 0) (t_56 _) (by decide) (by decide) rfl q205 (by decide) (fun _ _ h => h) dX0_init_137 (fun c_32 => ?_)
  refine s_putB (pc := 139) (K := 57) (a := 43) ⟨by decide, by decide⟩ (t_43 _) fiX0_61 rfl rfl (by decide) dX0_init_139 (fun c_33 => ?_)
  refine s_aload_n (pc := 142) dX0_init_142 rfl ?_
  refine s_bipush (pc := 143) dX0_init_143 ?_
  refine s_bipush (pc := 145) dX0_init_145 ?_
  refine s_multiB (pc := 147) (K := 57) (n := 31) (k := 24) (q := 8) (q2 := 1) (ty := .long) (t_57 _) (tm_57 _) (by decide) (by decide) (by decide) (by decide) rfl rfl q207 (PP.aov q208) q338 (by decide) rfl rfl (fun _ _ h => h) rfl (by decide) dX0_init_147 (fun c_34 => ?_)
  refine s_putB (pc := 151) (K := 89) (a := 43) ⟨by decide, by decide⟩ (t_43 _) fiX0_66 rfl rfl (by decide) dX0_init_151 (fun c_35 => ?_)
  refine s_aload_n (pc := 154) dX0_init_154 rfl ?_
  refine s_bipush (pc := 155) dX0_init_155 ?_
  refine s_anewB (pc := 157) (K := 89) (q := 5) (t_89 _) (by decide) (by decide) rfl q209 (PP.aov q171) dX0_init_157 (fun c_36 => ?_)
  refine s_putB (pc := 160) (K := 90) (a := 43) ⟨by decide, by decide⟩ (t_43 _) fiX0_71 rfl rfl (by decide) dX0_init_160 (fun c_37 => ?_)
  refine s_aload_n (pc := 163) dX0_init_163 rfl ?_
  refine s_bipush (pc := 164) dX0_init_164 ?_
  refine s_newaB (pc := 166) (K := 90) (at0 := .int) (q := 0) (t_90 _) (by decide) (by decide) rfl q205 (by decide) (fun _ _ h => h) dX0_init_166 (fun c_38 => ?_)
  refine s_putB (pc := 168) (K := 91) (a := 43) ⟨by decide, by decide⟩ (t_43 _) fiX0_75 rfl rfl (by decide) dX0_init_168 (fun c_39 => ?_)
  refine s_aload_n (pc := 171) dX0_init_171 rfl ?_
  refine s_sipush (pc := 172) dX0_init_172 ?_
  refine s_newaB (pc := 175) (K := 91) (at0 := .int) (q := 0) (t_91 _) (by decide) (by decide) rfl q205 (by decide) (fun _ _ h => h) dX0_init_175 (fun c_40 => ?_)
  refine s_putB (pc := 177) (K := 92) (a := 43) ⟨by decide, by decide⟩ (t_43 _) fiX0_78 rfl rfl (by decide) dX0_init_177 (fun c_41 => ?_)
  refine s_aload_n (pc := 180) dX0_init_180 rfl ?_
  refine s_bipush (pc := 181) dX0_init_181 ?_
  refine s_bipush (pc := 183) dX0_init_183 ?_
  refine s_multiB (pc := 185) (K := 92) (n := 6) (k := 24) (q := 7) (q2 := 0) (ty := .int) (t_92 _) (tm_92 _) (by decide) (by decide) (by decide) (by decide) rfl rfl q210 (PP.aov q211) q205 (by decide) rfl rfl (fun _ _ h => h) rfl (by decide) dX0_init_185 (fun c_42 => ?_)
  refine s_putB (pc := 189) (K := 99) (a := 43) ⟨by decide, by decide⟩ (t_43 _) fiX0_83 rfl rfl (by decide) dX0_init_189 (fun c_43 => ?_)
  refine s_aload_n (pc := 192) dX0_init_192 rfl ?_
  refine s_sipush (pc := 193) dX0_init_193 ?_
  refine s_newaB (pc := 196) (K := 99) (at0 := .int) (q := 0) (t_99 _) (by decide) (by decide) rfl q205 (by decide) (fun _ _ h => h) dX0_init_196 (fun c_44 => ?_)
  refine s_putB (pc := 198) (K := 100) (a := 43) ⟨by decide, by decide⟩ (t_43 _) fiX0_86 rfl rfl (by decide) dX0_init_198 (fun c_45 => ?_)
  refine s_aload_n (pc := 201) dX0_init_201 rfl ?_
  refine s_sipush (pc := 202) dX0_init_202 ?_
  refine s_newaB (pc := 205) (K := 100) (at0 := .int) (q := 0) (t_100 _) (by decide) (by decide) rfl q205 (by decide) (fun _ _ h => h) dX0_init_205 (fun c_46 => ?_)
  refine s_putB (pc := 207) (K := 101) (a := 43) ⟨by decide, by decide⟩ (t_43 _) fiX0_89 rfl rfl (by decide) dX0_init_207 (fun c_47 => ?_)
  refine s_aload_n (pc := 210) dX0_init_210 rfl ?_
  refine s_sipush (pc := 211) dX0_init_211 ?_
  refine s_newaB (pc := 214) (K := 101) (at0 := .int) (q := 0) (t_101 _) (by decide) (by decide) rfl q205 (by decide) (fun _ _ h => h) dX0_init_214 (fun c_48 => ?_)
  refine s_putB (pc := 216) (K := 102) (a := 43) ⟨by decide, by decide⟩ (t_43 _) fiX0_92 rfl rfl (by decide) dX0_init_216 (fun c_49 => ?_)
  refine s_aload_n (pc := 219) dX0_init_219 rfl ?_
  refine s_sipush (pc := 220) dX0_init_220 ?_
  refine s_newaB (pc := 223) (K := 102) (at0 := .int) (q := 0) (t_102 _) (by decide) (by decide) rfl q205 (by decide) (fun _ _ h => h) dX0_init_223 (fun c_50 => ?_)
  refine s_putB (pc := 225) (K := 103) (a := 43) ⟨by decide, by decide⟩ (t_43 _) fiX0_95 rfl rfl (by decide) dX0_init_225 (fun c_51 => ?_)
  refine s_aload_n (pc := 228) dX0_init_228 rfl ?_
  refine s_bipush (pc := 229) dX0_init_229 ?_
  refine s_newaB (pc := 231) (K := 103) (at0 := .int) (q := 0) (t_103 _) (by decide) (by decide) rfl q205 (by decide) (fun _ _ h => h) dX0_init_231 (fun c_52 => ?_)
  refine s_putB (pc := 233) (K := 104) (a := 43) ⟨by decide, by decide⟩ (t_43 _) fiX0_98 rfl rfl (by decide) dX0_init_233 (fun c_53 => ?_)
  refine s_aload_n (pc := 236) dX0_init_236 rfl ?_
  refine s_bipush (pc := 237) dX0_init_237 ?_
  refine s_newaB (pc := 239) (K := 104) (at0 := .int) (q := 0) (t_104 _) (by decide) (by decide) rfl q205 (by decide) (fun _ _ h => h) dX0_init_239 (fun c_54 => ?_)
  refine s_putB (pc := 241) (K := 105) (a := 43) ⟨by decide, by decide⟩ (t_43 _) fiX0_101 rfl rfl (by decide) dX0_init_241 (fun c_55 => ?_)
  refine s_aload_n (pc := 244) dX0_init_244 rfl ?_
  refine s_bipush (pc := 245) dX0_init_245 ?_
  refine s_newaB (pc := 247) (K := 105) (at0 := .int) (q := 0) (t_105 _) (by decide) (by decide) rfl q205 (by decide) (fun _ _ h => h) dX0_init_247 (fun c_56 => ?_)
  refine s_putB (pc := 249) (K := 106) (a := 43) ⟨by decide, by decide⟩ (t_43 _) fiX0_104 rfl rfl (by decide) dX0_init_249 (fun c_57 => ?_)
  refine s_aload_n (pc := 252) dX0_init_252 rfl ?_
  refine s_bipush (pc := 253) dX0_init_253 ?_
  refine s_newaB (pc := 255) (K := 106) (at0 := .int) (q := 0) (t_106 _) (by decide) (by decide) rfl q205 (by decide) (fun _ _ h => h) dX0_init_255 (fun c_58 => ?_)
  refine s_putB (pc := 257) (K := 107) (a := 43) ⟨by decide, by decide⟩ (t_43 _) fiX0_107 rfl rfl (by decide) dX0_init_257 (fun c_59 => ?_)
  refine s_aload_n (pc := 260) dX0_init_260 rfl ?_
  refine s_iconst (pc := 261) dX0_init_261 ?_
  refine s_newaB (pc := 262) (K := 107) (at0 := .int) (q := 0) (t_107 _) (by decide) (by decide) rfl q205 (by decide) (fun _ _ h => h) dX0_init_262 (fun c_60 => ?_)
  refine s_putB (pc := 264) (K := 108) (a := 43) ⟨by decide, by decide⟩ (t_43 _) fiX0_110 rfl rfl (by decide) dX0_init_264 (fun c_61 => ?_)
  refine s_aload_n (pc := 267) dX0_init_267 rfl ?_
  refine s_sipush (pc := 268) dX0_init_268 ?_
  refine s_newaB (pc := 271) (K := 108) (at0 := .int) (q := 0) (t_108 _) (by decide) (by decide) rfl q205 (by decide) (fun _ _ h => h) dX0_init_271 (fun c_62 => ?_)
  refine s_putB (pc := 273) (K := 109) (a := 43) ⟨by decide, by decide⟩ (t_43 _) fiX0_113 rfl rfl (by decide) dX0_init_273 (fun c_63 => ?_)
  refine s_aload_n (pc := 276) dX0_init_276 rfl ?_
  refine s_bipush (pc := 277) dX0_init_277 ?_
  refine s_newaB (pc := 279) (K := 109) (at0 := .int) (q := 0) (t_109 _) (by decide) (by decide) rfl q205 (by decide) (fun _ _ h => h) dX0_init_279 (fun c_64 => ?_)
  refine s_putB (pc := 281) (K := 110) (a := 43) ⟨by decide, by decide⟩ (t_43 _) fiX0_116 rfl rfl (by decide) dX0_init_281 (fun c_65 => ?_)
  refine s_aload_n (pc := 284) dX0_init_284 rfl ?_
  refine s_sipush (pc := 285) dX0_init_285 ?_
  refine s_anewAB (pc := 288) (K := 110) (q := 7) (t_110 _) (by decide) (by decide) rfl q212 (PP.aov q211) dX0_init_288 (fun c_66 => ?_)
  refine s_putB (pc := 291) (K := 111) (a := 43) ⟨by decide, by decide⟩ (t_43 _) fiX0_120 rfl rfl (by decide) dX0_init_291 (fun c_67 => ?_)
  exact s_vret (pc := 294) dX0_init_294 rfl (fun h => h)
theorem kX0_init {G : GG} {sl : Nat} {td : TT} (c : CC) (x : CC) (h : fX0_init c = some x) : Ct G yX0_init muX0_init [(2, 43)] (44, sl, tB td 44, c) ((3, 0), (111, ((((((((((((((((((((((((((((((sl + Int.toNat 6) + 4) + Int.toNat 0) + Int.toNat 0) + 1) + Int.toNat 7) + Int.toNat 24) + Int.toNat 24) + Int.toNat 300) + Int.toNat 16800) + Int.toNat 84000) + Int.toNat 7) + Int.toNat 31) + Int.toNat 31 + Int.toNat 31 * Int.toNat 24) + Int.toNat 24) + Int.toNat 24) + Int.toNat 2400) + Int.toNat 6 + Int.toNat 6 * Int.toNat 24) + Int.toNat 8000) + Int.toNat 8000) + Int.toNat 8001) + Int.toNat 16000) + Int.toNat 25) + Int.toNat 25) + Int.toNat 25) + Int.toNat 25) + Int.toNat 5) + Int.toNat 4800) + Int.toNat 32) + Int.toNat 4800), tB td 111, x)) :=
  Ct.of (n := 0) (ls0 := [some (2, 43)]) (by decide) rfl rfl ⟨show (none : Option FieldType) ≠ some .float by decide, show (none : Option FieldType) ≠ some .double by decide⟩ (Nat.le_of_ble_eq_true rfl) rfl (sX0_init (G := G) (Γ := cx0) c x h rfl).1 (show (3 : Nat) ≠ 9 by decide) (fun Γ => sX0_init c x h rfl)
