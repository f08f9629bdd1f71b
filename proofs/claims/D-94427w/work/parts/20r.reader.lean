/-! LAYER 2: the reader, by gen/decomp2.py -/
set_option maxRecDepth 100000
theorem fqX5_9 : FP RX5 9 4 0 "<init>" := ⟨_, _, _, cf4, by decide, q365, Or.inr ⟨rfl, rfl, rfl⟩⟩
theorem fqX5_9t : fty 4 0 ≠ .boolean ∧ fty 4 0 ≠ .byte ∧ fty 4 0 ≠ .char ∧ fty 4 0 ≠ .short := by decide
theorem fqX5_15 : FP RX5 15 4 1 "<init>" := ⟨_, _, _, cf4, by decide, q366, Or.inr ⟨rfl, rfl, rfl⟩⟩
theorem fqX5_15t : fty 4 1 ≠ .boolean ∧ fty 4 1 ≠ .byte ∧ fty 4 1 ≠ .char ∧ fty 4 1 ≠ .short := by decide
abbrev muX5_init : MI := (cX5_init, RX5, 3, none, 2, "<init>")
noncomputable def fX5_init (a0 : Int) (a1 : Int) (a2 : Int) (td : TT) (c : CC) : Option CC :=
  gd ((0 : Int) ≤ a0) <|
   gd (168 ≤ a0 ∧ (tt td (Int.toNat a0)).1 = 4) <| bd (up2 c (Int.toNat a0) 0 a1) fun c_1 =>
   gd (168 ≤ a0 ∧ (tt td (Int.toNat a0)).1 = 4) <| bd (up2 c_1 (Int.toNat a0) 1 a2) fun c_2 =>
   some c_2
theorem sX5_init {G : GG} {Γ : Cx} {r : Vv × Wd} {sz : Nat} {sl : Nat} (a0 : Int) (a1 : Int) (a2 : Int) (td : TT) (c : CC) : Sm (fX5_init a0 a1 a2 td c) (fun x => r = ((3, 0), (sz, sl, tt td, cv x))) (WP G Γ muX5_init r 0 [some (2, a0), some (2, a1), some (0, a2)] [] (sz, sl, tt td, cv c)) := by
  unfold fX5_init
  refine s_aload_n (pc := 0) dX5_init_0 rfl ?_
  refine s_objInitD (pc := 1) q364 q161 q162 (by decide) (Nat.le_of_ble_eq_true rfl) dX5_init_1 ?_
  refine s_aload_n (pc := 4) dX5_init_4 rfl ?_
  refine s_aload_n (pc := 5) dX5_init_5 rfl ?_
  refine s_putDM (pc := 6) fqX5_9 rfl fqX5_9t dX5_init_6 (fun c_1 => ?_)
  refine s_aload_n (pc := 9) dX5_init_9 rfl ?_
  refine s_iload_n (pc := 10) dX5_init_10 rfl ?_
  refine s_putDM (pc := 11) fqX5_15 rfl fqX5_15t dX5_init_11 (fun c_2 => ?_)
  exact s_vret (pc := 14) dX5_init_14 rfl (fun h => h)
theorem kX5_init {G : GG} {sz : Nat} {sl : Nat} (a0 : Int) (a1 : Int) (a2 : Int) (td : TT) (c : CC) (x : CC) (h : fX5_init a0 a1 a2 td c = some x) : Ct G yX5_init muX5_init [(2, a0), (2, a1), (0, a2)] (sz, sl, tt td, cv c) ((3, 0), (sz, sl, tt td, cv x)) :=
  Ct.of (n := 0) (ls0 := [some (2, a0), some (2, a1), some (0, a2)]) (by decide) rfl rfl ⟨show (none : Option FieldType) ≠ some .float by decide, show (none : Option FieldType) ≠ some .double by decide⟩ (Nat.le_of_ble_eq_true rfl) rfl ⟨Nat.le_refl _, Nat.le_refl _⟩ (show (3 : Nat) ≠ 9 by decide) (fun Γ => sX5_init a0 a1 a2 td c x h rfl)
theorem flX5_19 : FL RX5 19 4 2 := ⟨_, _, _, cf4, by decide, q367⟩
theorem flX5_15 : FL RX5 15 4 1 := ⟨_, _, _, cf4, by decide, q366⟩
theorem flX5_9 : FL RX5 9 4 0 := ⟨_, _, _, cf4, by decide, q365⟩
abbrev muX5_see : MI := (cX5_see, RX5, 1, some .int, 1, "see")
noncomputable def fX5_see (a0 : Int) (td : TT) (c : CC) : Option Int :=
  gd ((0 : Int) ≤ a0 ∧ (tt td (Int.toNat a0)).1 = 4) <|
   gd ((0 : Int) ≤ a0 ∧ (tt td (Int.toNat a0)).1 = 4) <|
   if cv c (Int.toNat a0) 2 < cv c (Int.toNat a0) 1 then
  (gd ((0 : Int) ≤ a0 ∧ (tt td (Int.toNat a0)).1 = 4) <|
   gd ((0 : Int) ≤ a0 ∧ (tt td (Int.toNat a0)).1 = 4) <|
   gd ((0 : Int) ≤ cv c (Int.toNat a0) 0 ∧ (tt td (Int.toNat (cv c (Int.toNat a0) 0))).1 = 52 ∧ (0 : Int) ≤ cv c (Int.toNat a0) 2 ∧ cv c (Int.toNat a0) 2 < ((tt td (Int.toNat (cv c (Int.toNat a0) 0))).2 : Int)) <|
   some (andI (cv c (Int.toNat (cv c (Int.toNat a0) 0)) (Int.toNat (cv c (Int.toNat a0) 2))) 255))
  else
  (some (-1))
theorem sX5_see {G : GG} {Γ : Cx} {r : Vv × Wd} {sz : Nat} {sl : Nat} (a0 : Int) (td : TT) (c : CC) : Sm (fX5_see a0 td c) (fun x => r = ((0, x), (sz, sl, tt td, cv c))) (WP G Γ muX5_see r 0 [some (2, a0)] [] (sz, sl, tt td, cv c)) := by
  unfold fX5_see
  refine s_aload_n (pc := 0) dX5_see_0 rfl ?_
  refine s_getD (pc := 1) flX5_19 rfl dX5_see_1 ?_
  refine s_aload_n (pc := 4) dX5_see_4 rfl ?_
  refine s_getD (pc := 5) flX5_15 rfl dX5_see_5 ?_
  refine s_icmp_ge (pc := 8) (tgt := 27) dX5_see_8 rfl ?_ ?_
  · refine s_iconst (pc := 27) dX5_see_27 ?_
    exact s_iret (pc := 28) dX5_see_28 rfl (fun h => h)
  refine s_aload_n (pc := 11) dX5_see_11 rfl ?_
  refine s_getD (pc := 12) flX5_9 rfl dX5_see_12 ?_
  refine s_aload_n (pc := 15) dX5_see_15 rfl ?_
  refine s_getD (pc := 16) flX5_19 rfl dX5_see_16 ?_
  refine s_baldD (pc := 19) dX5_see_19 ?_
  refine s_sipush (pc := 20) dX5_see_20 ?_
  refine s_iand (pc := 23) dX5_see_23 ?_
  refine s_goto (pc := 24) (tgt := 28) dX5_see_24 rfl ?_
  exact s_iret (pc := 28) dX5_see_28 rfl (fun h => h)
theorem kX5_see {G : GG} {sz : Nat} {sl : Nat} (a0 : Int) (td : TT) (c : CC) (x : Int) (h : fX5_see a0 td c = some x) : Ct G yX5_see muX5_see [(2, a0)] (sz, sl, tt td, cv c) ((0, x), (sz, sl, tt td, cv c)) :=
  Ct.of (n := 0) (ls0 := [some (2, a0)]) (by decide) rfl rfl ⟨show (some .int : Option FieldType) ≠ some .float by decide, show (some .int : Option FieldType) ≠ some .double by decide⟩ (Nat.le_of_ble_eq_true rfl) rfl ⟨Nat.le_refl _, Nat.le_refl _⟩ (show (0 : Nat) ≠ 9 by decide) (fun Γ => sX5_see a0 td c x h rfl)
theorem mvX5_22 : MV RX5 22 RX5 yX5_see muX5_see 0 := ⟨lw_V q406 q408 qs2 q130 q409, by decide +kernel, Nat.le_of_ble_eq_true rfl⟩
abbrev muX0_in : MI := (cX0_in, RX0, 3, some .boolean, 1, "in")
noncomputable def fX0_in (a0 : Int) (a1 : Int) (a2 : Int)  : Option Int :=
  if a0 < a1 then
  (gd ((0 : Int) ≤ 0 ∧ (0 : Int) < 2) (some 0))
  else
  (if a2 < a0 then
  (gd ((0 : Int) ≤ 0 ∧ (0 : Int) < 2) (some 0))
  else
  (gd ((0 : Int) ≤ 1 ∧ (1 : Int) < 2) (some 1)))
theorem sX0_in {G : GG} {Γ : Cx} {r : Vv × Wd} {sz : Nat} {sl : Nat} {td : TT} (a0 : Int) (a1 : Int) (a2 : Int) (c : CC) : Sm (fX0_in a0 a1 a2 ) (fun x => r = ((0, x), (sz, sl, tt td, cv c))) (WP G Γ muX0_in r 0 [some (0, a0), some (0, a1), some (0, a2)] [] (sz, sl, tt td, cv c)) := by
  unfold fX0_in
  refine s_iload_n (pc := 0) dX0_in_0 rfl ?_
  refine s_iload_n (pc := 1) dX0_in_1 rfl ?_
  refine s_icmp_lt (pc := 2) (tgt := 14) dX0_in_2 rfl ?_ ?_
  · refine s_iconst (pc := 14) dX0_in_14 ?_
    exact s_zret (pc := 15) dX0_in_15 rfl (fun h => h)
  refine s_iload_n (pc := 5) dX0_in_5 rfl ?_
  refine s_iload_n (pc := 6) dX0_in_6 rfl ?_
  refine s_icmp_gt (pc := 7) (tgt := 14) dX0_in_7 rfl ?_ ?_
  · refine s_iconst (pc := 14) dX0_in_14 ?_
    exact s_zret (pc := 15) dX0_in_15 rfl (fun h => h)
  refine s_iconst (pc := 10) dX0_in_10 ?_
  refine s_goto (pc := 11) (tgt := 15) dX0_in_11 rfl ?_
  exact s_zret (pc := 15) dX0_in_15 rfl (fun h => h)
theorem kX0_in {G : GG} {sz : Nat} {sl : Nat} {td : TT} (a0 : Int) (a1 : Int) (a2 : Int) (c : CC) (x : Int) (h : fX0_in a0 a1 a2  = some x) : Ct G yX0_in muX0_in [(0, a0), (0, a1), (0, a2)] (sz, sl, tt td, cv c) ((0, x), (sz, sl, tt td, cv c)) :=
  Ct.of (n := 0) (ls0 := [some (0, a0), some (0, a1), some (0, a2)]) (by decide) rfl rfl ⟨show (some .boolean : Option FieldType) ≠ some .float by decide, show (some .boolean : Option FieldType) ≠ some .double by decide⟩ (Nat.le_of_ble_eq_true rfl) rfl ⟨Nat.le_refl _, Nat.le_refl _⟩ (show (0 : Nat) ≠ 9 by decide) (fun Γ => sX0_in a0 a1 a2 c x h rfl)
theorem msnX5_26 : MSN RX5 26 yX0_in muX0_in 3 := ⟨_, lw_meth q353, q125, PP.nwM q414, q352, by decide +kernel, by decide⟩
abbrev muX5_isLetter : MI := (cX5_isLetter, RX5, 1, some .boolean, 2, "isLetter")
noncomputable def fX5_isLetter (a0 : Int) (td : TT) (c : CC) : Option Int :=
  gd ((0 : Int) ≤ a0 ∧ (tt td (Int.toNat a0)).1 = 4) <| cl (fX5_see a0 td c) fun p_1 =>
   cl (fX0_in p_1 97 122 ) fun p_2 =>
   if p_2 = 0 then
  (gd ((0 : Int) ≤ a0 ∧ (tt td (Int.toNat a0)).1 = 4) <| cl (fX5_see a0 td c) fun p_3 =>
   cl (fX0_in p_3 65 90 ) fun p_4 =>
   if p_4 = 0 then
  (gd ((0 : Int) ≤ 0 ∧ (0 : Int) < 2) (some 0))
  else
  (gd ((0 : Int) ≤ 1 ∧ (1 : Int) < 2) (some 1)))
  else
  (gd ((0 : Int) ≤ 1 ∧ (1 : Int) < 2) (some 1))
theorem sX5_isLetter {G : GG} {Γ : Cx} {r : Vv × Wd} {sz : Nat} {sl : Nat} (a0 : Int) (td : TT) (c : CC) : Sm (fX5_isLetter a0 td c) (fun x => r = ((0, x), (sz, sl, tt td, cv c))) (WP G Γ muX5_isLetter r 0 [some (2, a0)] [] (sz, sl, tt td, cv c)) := by
  unfold fX5_isLetter
  refine s_aload_n (pc := 0) dX5_isLetter_0 rfl ?_
  refine s_callVG (pc := 1) (ci := 4) (as := []) (st := []) (rv := fun b => ((0, b), (sz, sl, tt td, cv c))) (st3 := fun b => [(0, b)]) (w3 := fun b => (sz, sl, tt td, cv c)) mvX5_22 (fun b h => kX5_see a0 td c b h) rfl (by decide) rfl rfl (Nat.le_of_ble_eq_true rfl) (fun _ => Nat.le_of_ble_eq_true rfl) (fun _ => ⟨rfl, rfl⟩) dX5_isLetter_1 (fun p_1 => ?_)
  refine s_bipush (pc := 4) dX5_isLetter_4 ?_
  refine s_bipush (pc := 6) dX5_isLetter_6 ?_
  refine s_callSN3 (pc := 8) (as := [(0, p_1), (0, 97), (0, 122)]) (st := []) (rv := fun b => ((0, b), (sz, sl, tt td, cv c))) (st3 := fun b => [(0, b)]) (w3 := fun b => (sz, sl, tt td, cv c)) msnX5_26 (fun b h => kX0_in p_1 97 122 c b h) rfl (by decide) rfl (Nat.le_of_ble_eq_true rfl) (fun _ => Nat.le_of_ble_eq_true rfl) (fun _ => ⟨rfl, rfl⟩) dX5_isLetter_8 (fun p_2 => ?_)
  refine s_if_ne (pc := 11) (tgt := 28) dX5_isLetter_11 rfl ?_ ?_
  · refine s_iconst (pc := 28) dX5_isLetter_28 ?_
    refine s_goto (pc := 29) (tgt := 33) dX5_isLetter_29 rfl ?_
    exact s_zret (pc := 33) dX5_isLetter_33 rfl (fun h => h)
  refine s_aload_n (pc := 14) dX5_isLetter_14 rfl ?_
  refine s_callVG (pc := 15) (ci := 4) (as := []) (st := []) (rv := fun b => ((0, b), (sz, sl, tt td, cv c))) (st3 := fun b => [(0, b)]) (w3 := fun b => (sz, sl, tt td, cv c)) mvX5_22 (fun b h => kX5_see a0 td c b h) rfl (by decide) rfl rfl (Nat.le_of_ble_eq_true rfl) (fun _ => Nat.le_of_ble_eq_true rfl) (fun _ => ⟨rfl, rfl⟩) dX5_isLetter_15 (fun p_3 => ?_)
  refine s_bipush (pc := 18) dX5_isLetter_18 ?_
  refine s_bipush (pc := 20) dX5_isLetter_20 ?_
  refine s_callSN3 (pc := 22) (as := [(0, p_3), (0, 65), (0, 90)]) (st := []) (rv := fun b => ((0, b), (sz, sl, tt td, cv c))) (st3 := fun b => [(0, b)]) (w3 := fun b => (sz, sl, tt td, cv c)) msnX5_26 (fun b h => kX0_in p_3 65 90 c b h) rfl (by decide) rfl (Nat.le_of_ble_eq_true rfl) (fun _ => Nat.le_of_ble_eq_true rfl) (fun _ => ⟨rfl, rfl⟩) dX5_isLetter_22 (fun p_4 => ?_)
  refine s_if_eq (pc := 25) (tgt := 32) dX5_isLetter_25 rfl ?_ ?_
  · refine s_iconst (pc := 32) dX5_isLetter_32 ?_
    exact s_zret (pc := 33) dX5_isLetter_33 rfl (fun h => h)
  refine s_iconst (pc := 28) dX5_isLetter_28 ?_
  refine s_goto (pc := 29) (tgt := 33) dX5_isLetter_29 rfl ?_
  exact s_zret (pc := 33) dX5_isLetter_33 rfl (fun h => h)
theorem kX5_isLetter {G : GG} {sz : Nat} {sl : Nat} (a0 : Int) (td : TT) (c : CC) (x : Int) (h : fX5_isLetter a0 td c = some x) : Ct G yX5_isLetter muX5_isLetter [(2, a0)] (sz, sl, tt td, cv c) ((0, x), (sz, sl, tt td, cv c)) :=
  Ct.of (n := 0) (ls0 := [some (2, a0)]) (by decide) rfl rfl ⟨show (some .boolean : Option FieldType) ≠ some .float by decide, show (some .boolean : Option FieldType) ≠ some .double by decide⟩ (Nat.le_of_ble_eq_true rfl) rfl ⟨Nat.le_refl _, Nat.le_refl _⟩ (show (0 : Nat) ≠ 9 by decide) (fun Γ => sX5_isLetter a0 td c x h rfl)
abbrev muX5_isDigit : MI := (cX5_isDigit, RX5, 1, some .boolean, 2, "isDigit")
noncomputable def fX5_isDigit (a0 : Int) (td : TT) (c : CC) : Option Int :=
  gd ((0 : Int) ≤ a0 ∧ (tt td (Int.toNat a0)).1 = 4) <| cl (fX5_see a0 td c) fun p_1 =>
   cl (fX0_in p_1 48 57 ) fun p_2 =>
   gd ((0 : Int) ≤ p_2 ∧ p_2 < 2) (some p_2)
theorem sX5_isDigit {G : GG} {Γ : Cx} {r : Vv × Wd} {sz : Nat} {sl : Nat} (a0 : Int) (td : TT) (c : CC) : Sm (fX5_isDigit a0 td c) (fun x => r = ((0, x), (sz, sl, tt td, cv c))) (WP G Γ muX5_isDigit r 0 [some (2, a0)] [] (sz, sl, tt td, cv c)) := by
  unfold fX5_isDigit
  refine s_aload_n (pc := 0) dX5_isDigit_0 rfl ?_
  refine s_callVG (pc := 1) (ci := 4) (as := []) (st := []) (rv := fun b => ((0, b), (sz, sl, tt td, cv c))) (st3 := fun b => [(0, b)]) (w3 := fun b => (sz, sl, tt td, cv c)) mvX5_22 (fun b h => kX5_see a0 td c b h) rfl (by decide) rfl rfl (Nat.le_of_ble_eq_true rfl) (fun _ => Nat.le_of_ble_eq_true rfl) (fun _ => ⟨rfl, rfl⟩) dX5_isDigit_1 (fun p_1 => ?_)
  refine s_bipush (pc := 4) dX5_isDigit_4 ?_
  refine s_bipush (pc := 6) dX5_isDigit_6 ?_
  refine s_callSN3 (pc := 8) (as := [(0, p_1), (0, 48), (0, 57)]) (st := []) (rv := fun b => ((0, b), (sz, sl, tt td, cv c))) (st3 := fun b => [(0, b)]) (w3 := fun b => (sz, sl, tt td, cv c)) msnX5_26 (fun b h => kX0_in p_1 48 57 c b h) rfl (by decide) rfl (Nat.le_of_ble_eq_true rfl) (fun _ => Nat.le_of_ble_eq_true rfl) (fun _ => ⟨rfl, rfl⟩) dX5_isDigit_8 (fun p_2 => ?_)
  exact s_zret (pc := 11) dX5_isDigit_11 rfl (fun h => h)
theorem kX5_isDigit {G : GG} {sz : Nat} {sl : Nat} (a0 : Int) (td : TT) (c : CC) (x : Int) (h : fX5_isDigit a0 td c = some x) : Ct G yX5_isDigit muX5_isDigit [(2, a0)] (sz, sl, tt td, cv c) ((0, x), (sz, sl, tt td, cv c)) :=
  Ct.of (n := 0) (ls0 := [some (2, a0)]) (by decide) rfl rfl ⟨show (some .boolean : Option FieldType) ≠ some .float by decide, show (some .boolean : Option FieldType) ≠ some .double by decide⟩ (Nat.le_of_ble_eq_true rfl) rfl ⟨Nat.le_refl _, Nat.le_refl _⟩ (show (0 : Nat) ≠ 9 by decide) (fun Γ => sX5_isDigit a0 td c x h rfl)
abbrev muX5_isSign : MI := (cX5_isSign, RX5, 1, some .boolean, 1, "isSign")
noncomputable def fX5_isSign (a0 : Int)  : Option Int :=
  if a0 = 35 then
  (gd ((0 : Int) ≤ 1 ∧ (1 : Int) < 2) (some 1))
  else if a0 = 36 then
  (gd ((0 : Int) ≤ 0 ∧ (0 : Int) < 2) (some 0))
  else if a0 = 37 then
  (gd ((0 : Int) ≤ 0 ∧ (0 : Int) < 2) (some 0))
  else if a0 = 38 then
  (gd ((0 : Int) ≤ 0 ∧ (0 : Int) < 2) (some 0))
  else if a0 = 39 then
  (gd ((0 : Int) ≤ 0 ∧ (0 : Int) < 2) (some 0))
  else if a0 = 40 then
  (gd ((0 : Int) ≤ 1 ∧ (1 : Int) < 2) (some 1))
  else if a0 = 41 then
  (gd ((0 : Int) ≤ 1 ∧ (1 : Int) < 2) (some 1))
  else if a0 = 42 then
  (gd ((0 : Int) ≤ 1 ∧ (1 : Int) < 2) (some 1))
  else if a0 = 43 then
  (gd ((0 : Int) ≤ 1 ∧ (1 : Int) < 2) (some 1))
  else if a0 = 44 then
  (gd ((0 : Int) ≤ 1 ∧ (1 : Int) < 2) (some 1))
  else if a0 = 45 then
  (gd ((0 : Int) ≤ 1 ∧ (1 : Int) < 2) (some 1))
  else if a0 = 46 then
  (gd ((0 : Int) ≤ 0 ∧ (0 : Int) < 2) (some 0))
  else if a0 = 47 then
  (gd ((0 : Int) ≤ 1 ∧ (1 : Int) < 2) (some 1))
  else if a0 = 48 then
  (gd ((0 : Int) ≤ 0 ∧ (0 : Int) < 2) (some 0))
  else if a0 = 49 then
  (gd ((0 : Int) ≤ 0 ∧ (0 : Int) < 2) (some 0))
  else if a0 = 50 then
  (gd ((0 : Int) ≤ 0 ∧ (0 : Int) < 2) (some 0))
  else if a0 = 51 then
  (gd ((0 : Int) ≤ 0 ∧ (0 : Int) < 2) (some 0))
  else if a0 = 52 then
  (gd ((0 : Int) ≤ 0 ∧ (0 : Int) < 2) (some 0))
  else if a0 = 53 then
  (gd ((0 : Int) ≤ 0 ∧ (0 : Int) < 2) (some 0))
  else if a0 = 54 then
  (gd ((0 : Int) ≤ 0 ∧ (0 : Int) < 2) (some 0))
  else if a0 = 55 then
  (gd ((0 : Int) ≤ 0 ∧ (0 : Int) < 2) (some 0))
  else if a0 = 56 then
  (gd ((0 : Int) ≤ 0 ∧ (0 : Int) < 2) (some 0))
  else if a0 = 57 then
  (gd ((0 : Int) ≤ 0 ∧ (0 : Int) < 2) (some 0))
  else if a0 = 58 then
  (gd ((0 : Int) ≤ 0 ∧ (0 : Int) < 2) (some 0))
  else if a0 = 59 then
  (gd ((0 : Int) ≤ 1 ∧ (1 : Int) < 2) (some 1))
  else if a0 = 60 then
  (gd ((0 : Int) ≤ 1 ∧ (1 : Int) < 2) (some 1))
  else if a0 = 61 then
  (gd ((0 : Int) ≤ 1 ∧ (1 : Int) < 2) (some 1))
  else if a0 = 62 then
  (gd ((0 : Int) ≤ 1 ∧ (1 : Int) < 2) (some 1))
  else (gd ((0 : Int) ≤ 0 ∧ (0 : Int) < 2) (some 0))
theorem sX5_isSign {G : GG} {Γ : Cx} {r : Vv × Wd} {sz : Nat} {sl : Nat} {td : TT} (a0 : Int) (c : CC) : Sm (fX5_isSign a0 ) (fun x => r = ((0, x), (sz, sl, tt td, cv c))) (WP G Γ muX5_isSign r 0 [some (0, a0)] [] (sz, sl, tt td, cv c)) := by
  unfold fX5_isSign
  refine s_iload_n (pc := 0) dX5_isSign_0 rfl ?_
  refine Sm.ite (fun hq_1 => ?_) (fun hq_1 => ?_)
  · refine s_tblIn (pc := 1) (tgt := 128) dX5_isSign_1 35 hq_1 (by decide) rfl rfl ?_
    refine s_iconst (pc := 128) dX5_isSign_128 ?_
    exact s_zret (pc := 129) dX5_isSign_129 rfl (fun h => h)
  refine Sm.ite (fun hq_2 => ?_) (fun hq_2 => ?_)
  · refine s_tblIn (pc := 1) (tgt := 130) dX5_isSign_1 36 hq_2 (by decide) rfl rfl ?_
    refine s_iconst (pc := 130) dX5_isSign_130 ?_
    exact s_zret (pc := 131) dX5_isSign_131 rfl (fun h => h)
  refine Sm.ite (fun hq_3 => ?_) (fun hq_3 => ?_)
  · refine s_tblIn (pc := 1) (tgt := 130) dX5_isSign_1 37 hq_3 (by decide) rfl rfl ?_
    refine s_iconst (pc := 130) dX5_isSign_130 ?_
    exact s_zret (pc := 131) dX5_isSign_131 rfl (fun h => h)
  refine Sm.ite (fun hq_4 => ?_) (fun hq_4 => ?_)
  · refine s_tblIn (pc := 1) (tgt := 130) dX5_isSign_1 38 hq_4 (by decide) rfl rfl ?_
    refine s_iconst (pc := 130) dX5_isSign_130 ?_
    exact s_zret (pc := 131) dX5_isSign_131 rfl (fun h => h)
  refine Sm.ite (fun hq_5 => ?_) (fun hq_5 => ?_)
  · refine s_tblIn (pc := 1) (tgt := 130) dX5_isSign_1 39 hq_5 (by decide) rfl rfl ?_
    refine s_iconst (pc := 130) dX5_isSign_130 ?_
    exact s_zret (pc := 131) dX5_isSign_131 rfl (fun h => h)
  refine Sm.ite (fun hq_6 => ?_) (fun hq_6 => ?_)
  · refine s_tblIn (pc := 1) (tgt := 128) dX5_isSign_1 40 hq_6 (by decide) rfl rfl ?_
    refine s_iconst (pc := 128) dX5_isSign_128 ?_
    exact s_zret (pc := 129) dX5_isSign_129 rfl (fun h => h)
  refine Sm.ite (fun hq_7 => ?_) (fun hq_7 => ?_)
  · refine s_tblIn (pc := 1) (tgt := 128) dX5_isSign_1 41 hq_7 (by decide) rfl rfl ?_
    refine s_iconst (pc := 128) dX5_isSign_128 ?_
    exact s_zret (pc := 129) dX5_isSign_129 rfl (fun h => h)
  refine Sm.ite (fun hq_8 => ?_) (fun hq_8 => ?_)
  · refine s_tblIn (pc := 1) (tgt := 128) dX5_isSign_1 42 hq_8 (by decide) rfl rfl ?_
    refine s_iconst (pc := 128) dX5_isSign_128 ?_
    exact s_zret (pc := 129) dX5_isSign_129 rfl (fun h => h)
  refine Sm.ite (fun hq_9 => ?_) (fun hq_9 => ?_)
  · refine s_tblIn (pc := 1) (tgt := 128) dX5_isSign_1 43 hq_9 (by decide) rfl rfl ?_
    refine s_iconst (pc := 128) dX5_isSign_128 ?_
    exact s_zret (pc := 129) dX5_isSign_129 rfl (fun h => h)
  refine Sm.ite (fun hq_10 => ?_) (fun hq_10 => ?_)
  · refine s_tblIn (pc := 1) (tgt := 128) dX5_isSign_1 44 hq_10 (by decide) rfl rfl ?_
    refine s_iconst (pc := 128) dX5_isSign_128 ?_
    exact s_zret (pc := 129) dX5_isSign_129 rfl (fun h => h)
  refine Sm.ite (fun hq_11 => ?_) (fun hq_11 => ?_)
  · refine s_tblIn (pc := 1) (tgt := 128) dX5_isSign_1 45 hq_11 (by decide) rfl rfl ?_
    refine s_iconst (pc := 128) dX5_isSign_128 ?_
    exact s_zret (pc := 129) dX5_isSign_129 rfl (fun h => h)
  refine Sm.ite (fun hq_12 => ?_) (fun hq_12 => ?_)
  · refine s_tblIn (pc := 1) (tgt := 130) dX5_isSign_1 46 hq_12 (by decide) rfl rfl ?_
    refine s_iconst (pc := 130) dX5_isSign_130 ?_
    exact s_zret (pc := 131) dX5_isSign_131 rfl (fun h => h)
  refine Sm.ite (fun hq_13 => ?_) (fun hq_13 => ?_)
  · refine s_tblIn (pc := 1) (tgt := 128) dX5_isSign_1 47 hq_13 (by decide) rfl rfl ?_
    refine s_iconst (pc := 128) dX5_isSign_128 ?_
    exact s_zret (pc := 129) dX5_isSign_129 rfl (fun h => h)
  refine Sm.ite (fun hq_14 => ?_) (fun hq_14 => ?_)
  · refine s_tblIn (pc := 1) (tgt := 130) dX5_isSign_1 48 hq_14 (by decide) rfl rfl ?_
    refine s_iconst (pc := 130) dX5_isSign_130 ?_
    exact s_zret (pc := 131) dX5_isSign_131 rfl (fun h => h)
  refine Sm.ite (fun hq_15 => ?_) (fun hq_15 => ?_)
  · refine s_tblIn (pc := 1) (tgt := 130) dX5_isSign_1 49 hq_15 (by decide) rfl rfl ?_
    refine s_iconst (pc := 130) dX5_isSign_130 ?_
    exact s_zret (pc := 131) dX5_isSign_131 rfl (fun h => h)
  refine Sm.ite (fun hq_16 => ?_) (fun hq_16 => ?_)
  · refine s_tblIn (pc := 1) (tgt := 130) dX5_isSign_1 50 hq_16 (by decide) rfl rfl ?_
    refine s_iconst (pc := 130) dX5_isSign_130 ?_
    exact s_zret (pc := 131) dX5_isSign_131 rfl (fun h => h)
  refine Sm.ite (fun hq_17 => ?_) (fun hq_17 => ?_)
  · refine s_tblIn (pc := 1) (tgt := 130) dX5_isSign_1 51 hq_17 (by decide) rfl rfl ?_
    refine s_iconst (pc := 130) dX5_isSign_130 ?_
    exact s_zret (pc := 131) dX5_isSign_131 rfl (fun h => h)
  refine Sm.ite (fun hq_18 => ?_) (fun hq_18 => ?_)
  · refine s_tblIn (pc := 1) (tgt := 130) dX5_isSign_1 52 hq_18 (by decide) rfl rfl ?_
    refine s_iconst (pc := 130) dX5_isSign_130 ?_
    exact s_zret (pc := 131) dX5_isSign_131 rfl (fun h => h)
  refine Sm.ite (fun hq_19 => ?_) (fun hq_19 => ?_)
  · refine s_tblIn (pc := 1) (tgt := 130) dX5_isSign_1 53 hq_19 (by decide) rfl rfl ?_
    refine s_iconst (pc := 130) dX5_isSign_130 ?_
    exact s_zret (pc := 131) dX5_isSign_131 rfl (fun h => h)
  refine Sm.ite (fun hq_20 => ?_) (fun hq_20 => ?_)
  · refine s_tblIn (pc := 1) (tgt := 130) dX5_isSign_1 54 hq_20 (by decide) rfl rfl ?_
    refine s_iconst (pc := 130) dX5_isSign_130 ?_
    exact s_zret (pc := 131) dX5_isSign_131 rfl (fun h => h)
  refine Sm.ite (fun hq_21 => ?_) (fun hq_21 => ?_)
  · refine s_tblIn (pc := 1) (tgt := 130) dX5_isSign_1 55 hq_21 (by decide) rfl rfl ?_
    refine s_iconst (pc := 130) dX5_isSign_130 ?_
    exact s_zret (pc := 131) dX5_isSign_131 rfl (fun h => h)
  refine Sm.ite (fun hq_22 => ?_) (fun hq_22 => ?_)
  · refine s_tblIn (pc := 1) (tgt := 130) dX5_isSign_1 56 hq_22 (by decide) rfl rfl ?_
    refine s_iconst (pc := 130) dX5_isSign_130 ?_
    exact s_zret (pc := 131) dX5_isSign_131 rfl (fun h => h)
  refine Sm.ite (fun hq_23 => ?_) (fun hq_23 => ?_)
  · refine s_tblIn (pc := 1) (tgt := 130) dX5_isSign_1 57 hq_23 (by decide) rfl rfl ?_
    refine s_iconst (pc := 130) dX5_isSign_130 ?_
    exact s_zret (pc := 131) dX5_isSign_131 rfl (fun h => h)
  refine Sm.ite (fun hq_24 => ?_) (fun hq_24 => ?_)
  · refine s_tblIn (pc := 1) (tgt := 130) dX5_isSign_1 58 hq_24 (by decide) rfl rfl ?_
    refine s_iconst (pc := 130) dX5_isSign_130 ?_
    exact s_zret (pc := 131) dX5_isSign_131 rfl (fun h => h)
  refine Sm.ite (fun hq_25 => ?_) (fun hq_25 => ?_)
  · refine s_tblIn (pc := 1) (tgt := 128) dX5_isSign_1 59 hq_25 (by decide) rfl rfl ?_
    refine s_iconst (pc := 128) dX5_isSign_128 ?_
    exact s_zret (pc := 129) dX5_isSign_129 rfl (fun h => h)
  refine Sm.ite (fun hq_26 => ?_) (fun hq_26 => ?_)
  · refine s_tblIn (pc := 1) (tgt := 128) dX5_isSign_1 60 hq_26 (by decide) rfl rfl ?_
    refine s_iconst (pc := 128) dX5_isSign_128 ?_
    exact s_zret (pc := 129) dX5_isSign_129 rfl (fun h => h)
  refine Sm.ite (fun hq_27 => ?_) (fun hq_27 => ?_)
  · refine s_tblIn (pc := 1) (tgt := 128) dX5_isSign_1 61 hq_27 (by decide) rfl rfl ?_
    refine s_iconst (pc := 128) dX5_isSign_128 ?_
    exact s_zret (pc := 129) dX5_isSign_129 rfl (fun h => h)
  refine Sm.ite (fun hq_28 => ?_) (fun hq_28 => ?_)
  · refine s_tblIn (pc := 1) (tgt := 128) dX5_isSign_1 62 hq_28 (by decide) rfl rfl ?_
    refine s_iconst (pc := 128) dX5_isSign_128 ?_
    exact s_zret (pc := 129) dX5_isSign_129 rfl (fun h => h)
  refine s_tblOut (pc := 1) (tgt := 130) dX5_isSign_1 (by omega) rfl ?_
  refine s_iconst (pc := 130) dX5_isSign_130 ?_
  exact s_zret (pc := 131) dX5_isSign_131 rfl (fun h => h)
theorem kX5_isSign {G : GG} {sz : Nat} {sl : Nat} {td : TT} (a0 : Int) (c : CC) (x : Int) (h : fX5_isSign a0  = some x) : Ct G yX5_isSign muX5_isSign [(0, a0)] (sz, sl, tt td, cv c) ((0, x), (sz, sl, tt td, cv c)) :=
  Ct.of (n := 0) (ls0 := [some (0, a0)]) (by decide) rfl rfl ⟨show (some .boolean : Option FieldType) ≠ some .float by decide, show (some .boolean : Option FieldType) ≠ some .double by decide⟩ (Nat.le_of_ble_eq_true rfl) rfl ⟨Nat.le_refl _, Nat.le_refl _⟩ (show (0 : Nat) ≠ 9 by decide) (fun Γ => sX5_isSign a0 c x h rfl)
theorem mvX5_42 : MV RX5 42 RX5 yX5_isLetter muX5_isLetter 0 := ⟨lw_V q410 q412 qs3 q130 q413, by decide +kernel, Nat.le_of_ble_eq_true rfl⟩
theorem fpX5_19 (nm : String) : FP RX5 19 4 2 nm := ⟨_, _, _, cf4, by decide, q367, Or.inl rfl⟩
theorem fpX5_19t : fty 4 2 ≠ .boolean ∧ fty 4 2 ≠ .byte ∧ fty 4 2 ≠ .char ∧ fty 4 2 ≠ .short := by decide
abbrev muJ0_coder : MI := (cJ0_coder, RJ0, 1, some .byte, 1, "coder")
noncomputable def fJ0_coder (a0 : Int)  : Option Int :=
  if (1 : Int) = 0 then
  (gd ((-128 : Int) ≤ 1 ∧ (1 : Int) < 128) (some 1))
  else
  (gd (3 ≤ a0 ∧ a0 ≤ 22) <|
   gd ((-128 : Int) ≤ 0 ∧ (0 : Int) < 128) (some 0))
theorem sJ0_coder {G : GG} {Γ : Cx} {r : Vv × Wd} {sz : Nat} {sl : Nat} {td : TT} (a0 : Int) (c : CC) : Sm (fJ0_coder a0 ) (fun x => r = ((0, x), (sz, sl, tt td, cv c))) (WP G Γ muJ0_coder r 0 [some (2, a0)] [] (sz, sl, tt td, cv c)) := by
  unfold fJ0_coder
  refine s_getCS (pc := 0) rfl dJ0_coder_0 ?_
  refine s_if_eq (pc := 3) (tgt := 13) dJ0_coder_3 rfl ?_ ?_
  · refine s_iconst (pc := 13) dJ0_coder_13 ?_
    exact s_bret (pc := 14) dJ0_coder_14 rfl (fun h => h)
  refine s_aload_n (pc := 6) dJ0_coder_6 rfl ?_
  refine s_getSC (pc := 7) rfl dJ0_coder_7 ?_
  refine s_goto (pc := 10) (tgt := 14) dJ0_coder_10 rfl ?_
  exact s_bret (pc := 14) dJ0_coder_14 rfl (fun h => h)
theorem kJ0_coder {G : GG} {sz : Nat} {sl : Nat} {td : TT} (a0 : Int) (c : CC) (x : Int) (h : fJ0_coder a0  = some x) : Ct G yJ0_coder muJ0_coder [(2, a0)] (sz, sl, tt td, cv c) ((0, x), (sz, sl, tt td, cv c)) :=
  Ct.of (n := 0) (ls0 := [some (2, a0)]) (by decide) rfl rfl ⟨show (some .byte : Option FieldType) ≠ some .float by decide, show (some .byte : Option FieldType) ≠ some .double by decide⟩ (Nat.le_of_ble_eq_true rfl) rfl ⟨Nat.le_refl _, Nat.le_refl _⟩ (show (0 : Nat) ≠ 9 by decide) (fun Γ => sJ0_coder a0 c x h rfl)
theorem mvJ0_335 : MV RJ0 335 RJ0 yJ0_coder muJ0_coder 0 := ⟨lw_V q429 q430 q431 q131 q432, by decide +kernel, Nat.le_of_ble_eq_true rfl⟩
abbrev muJ0_length : MI := (cJ0_length, RJ0, 1, some .int, 2, "length")
noncomputable def fJ0_length (a0 : Int)  : Option Int :=
  gd (3 ≤ a0 ∧ a0 ≤ 22) <|
   gd (23 ≤ a0 + 20 ∧ a0 + 20 ≤ 42) <|
   gd (3 ≤ a0 ∧ a0 ≤ 22) <| cl (fJ0_coder a0 ) fun p_1 =>
   some (shrI ((sLen (Int.toNat (a0 + 20) - 20) : Int)) p_1)
theorem sJ0_length {G : GG} {Γ : Cx} {r : Vv × Wd} {sz : Nat} {sl : Nat} {td : TT} (a0 : Int) (c : CC) : Sm (fJ0_length a0 ) (fun x => r = ((0, x), (sz, sl, tt td, cv c))) (WP G Γ muJ0_length r 0 [some (2, a0)] [] (sz, sl, tt td, cv c)) := by
  unfold fJ0_length
  refine s_aload_n (pc := 0) dJ0_length_0 rfl ?_
  refine s_getSV (pc := 1) rfl dJ0_length_1 ?_
  refine s_alenB (pc := 4) dJ0_length_4 ?_
  refine s_aload_n (pc := 5) dJ0_length_5 rfl ?_
  refine s_callVO (pc := 6) (z := a0) (as := []) (st := [(0, (sLen (Int.toNat (a0 + 20) - 20) : Int))]) (rv := fun b => ((0, b), (sz, sl, tt td, cv c))) (st3 := fun b => [(0, b), (0, (sLen (Int.toNat (a0 + 20) - 20) : Int))]) (w3 := fun b => (sz, sl, tt td, cv c)) mvJ0_335 (fun b h => kJ0_coder a0 c b h) rfl (by decide) rfl (Nat.le_of_ble_eq_true rfl) (fun _ => Nat.le_of_ble_eq_true rfl) (fun _ => ⟨rfl, rfl⟩) dJ0_length_6 (fun p_1 => ?_)
  refine s_ishr (pc := 9) dJ0_length_9 ?_
  exact s_iret (pc := 10) dJ0_length_10 rfl (fun h => h)
theorem kJ0_length {G : GG} {sz : Nat} {sl : Nat} {td : TT} (a0 : Int) (c : CC) (x : Int) (h : fJ0_length a0  = some x) : Ct G yJ0_length muJ0_length [(2, a0)] (sz, sl, tt td, cv c) ((0, x), (sz, sl, tt td, cv c)) :=
  Ct.of (n := 0) (ls0 := [some (2, a0)]) (by decide) rfl rfl ⟨show (some .int : Option FieldType) ≠ some .float by decide, show (some .int : Option FieldType) ≠ some .double by decide⟩ (Nat.le_of_ble_eq_true rfl) rfl ⟨Nat.le_refl _, Nat.le_refl _⟩ (show (0 : Nat) ≠ 9 by decide) (fun Γ => sJ0_length a0 c x h rfl)
theorem mvX5_30 : MV RX5 30 RJ0 yJ0_length muJ0_length 0 := ⟨lw_V q425 q426 q427 q131 q428, by decide +kernel, Nat.le_of_ble_eq_true rfl⟩
theorem flX5_35 : FL RX5 35 4 3 := ⟨_, _, _, cf4, by decide, q368⟩
abbrev muJ0_isLatin1 : MI := (cJ0_isLatin1, RJ0, 1, some .boolean, 1, "isLatin1")
noncomputable def fJ0_isLatin1 (a0 : Int)  : Option Int :=
  if (1 : Int) = 0 then
  (gd ((0 : Int) ≤ 0 ∧ (0 : Int) < 2) (some 0))
  else
  (gd (3 ≤ a0 ∧ a0 ≤ 22) <|
   if (0 : Int) = 0 then
  (gd ((0 : Int) ≤ 1 ∧ (1 : Int) < 2) (some 1))
  else
  (gd ((0 : Int) ≤ 0 ∧ (0 : Int) < 2) (some 0)))
theorem sJ0_isLatin1 {G : GG} {Γ : Cx} {r : Vv × Wd} {sz : Nat} {sl : Nat} {td : TT} (a0 : Int) (c : CC) : Sm (fJ0_isLatin1 a0 ) (fun x => r = ((0, x), (sz, sl, tt td, cv c))) (WP G Γ muJ0_isLatin1 r 0 [some (2, a0)] [] (sz, sl, tt td, cv c)) := by
  unfold fJ0_isLatin1
  refine s_getCS (pc := 0) rfl dJ0_isLatin1_0 ?_
  refine s_if_eq (pc := 3) (tgt := 17) dJ0_isLatin1_3 rfl ?_ ?_
  · refine s_iconst (pc := 17) dJ0_isLatin1_17 ?_
    exact s_zret (pc := 18) dJ0_isLatin1_18 rfl (fun h => h)
  refine s_aload_n (pc := 6) dJ0_isLatin1_6 rfl ?_
  refine s_getSC (pc := 7) rfl dJ0_isLatin1_7 ?_
  refine s_if_ne (pc := 10) (tgt := 17) dJ0_isLatin1_10 rfl ?_ ?_
  · refine s_iconst (pc := 17) dJ0_isLatin1_17 ?_
    exact s_zret (pc := 18) dJ0_isLatin1_18 rfl (fun h => h)
  refine s_iconst (pc := 13) dJ0_isLatin1_13 ?_
  refine s_goto (pc := 14) (tgt := 18) dJ0_isLatin1_14 rfl ?_
  exact s_zret (pc := 18) dJ0_isLatin1_18 rfl (fun h => h)
theorem kJ0_isLatin1 {G : GG} {sz : Nat} {sl : Nat} {td : TT} (a0 : Int) (c : CC) (x : Int) (h : fJ0_isLatin1 a0  = some x) : Ct G yJ0_isLatin1 muJ0_isLatin1 [(2, a0)] (sz, sl, tt td, cv c) ((0, x), (sz, sl, tt td, cv c)) :=
  Ct.of (n := 0) (ls0 := [some (2, a0)]) (by decide) rfl rfl ⟨show (some .boolean : Option FieldType) ≠ some .float by decide, show (some .boolean : Option FieldType) ≠ some .double by decide⟩ (Nat.le_of_ble_eq_true rfl) rfl ⟨Nat.le_refl _, Nat.le_refl _⟩ (show (0 : Nat) ≠ 9 by decide) (fun Γ => sJ0_isLatin1 a0 c x h rfl)
theorem mvJ0_492 : MV RJ0 492 RJ0 yJ0_isLatin1 muJ0_isLatin1 0 := ⟨lw_V q439 q440 q441 q131 q442, by decide +kernel, Nat.le_of_ble_eq_true rfl⟩
abbrev muJ0_checkIndex : MI := (cJ0_checkIndex, RJ0, 2, none, 2, "checkIndex")
noncomputable def fJ0_checkIndex (a0 : Int) (a1 : Int)  : Option Unit :=
  gd ((0 : Int) ≤ a0 ∧ a0 < a1) <|
   some ()
theorem sJ0_checkIndex {G : GG} {Γ : Cx} {r : Vv × Wd} {sz : Nat} {sl : Nat} {td : TT} (a0 : Int) (a1 : Int) (c : CC) : Sm (fJ0_checkIndex a0 a1 ) (fun x => r = ((3, 0), (sz, sl, tt td, cv c))) (WP G Γ muJ0_checkIndex r 0 [some (0, a0), some (0, a1)] [] (sz, sl, tt td, cv c)) := by
  unfold fJ0_checkIndex
  refine s_iload_n (pc := 0) dJ0_checkIndex_0 rfl ?_
  refine s_iload_n (pc := 1) dJ0_checkIndex_1 rfl ?_
  refine s_preCheck (pc := 2) (st := []) rfl (by decide) (Nat.le_of_ble_eq_true rfl) dJ0_checkIndex_2 dJ0_checkIndex_5 ?_
  refine s_pop (pc := 8) (by decide : ¬ (0 : Nat) = 1) dJ0_checkIndex_8 ?_
  exact s_vret (pc := 9) dJ0_checkIndex_9 rfl (fun h => h)
theorem kJ0_checkIndex {G : GG} {sz : Nat} {sl : Nat} {td : TT} (a0 : Int) (a1 : Int) (c : CC) (x : Unit) (h : fJ0_checkIndex a0 a1  = some x) : Ct G yJ0_checkIndex muJ0_checkIndex [(0, a0), (0, a1)] (sz, sl, tt td, cv c) ((3, 0), (sz, sl, tt td, cv c)) :=
  Ct.of (n := 0) (ls0 := [some (0, a0), some (0, a1)]) (by decide) rfl rfl ⟨show (none : Option FieldType) ≠ some .float by decide, show (none : Option FieldType) ≠ some .double by decide⟩ (Nat.le_of_ble_eq_true rfl) rfl ⟨Nat.le_refl _, Nat.le_refl _⟩ (show (3 : Nat) ≠ 9 by decide) (fun Γ => sJ0_checkIndex a0 a1 c x h rfl)
theorem msJ1_9 : MS RJ1 9 yJ0_checkIndex muJ0_checkIndex 2 := ⟨lw_S q446 q447 q131 q448, by decide +kernel, by decide⟩
abbrev muJ1_charAt : MI := (cJ1_charAt, RJ1, 2, some .char, 3, "charAt")
noncomputable def fJ1_charAt (a0 : Int) (a1 : Int)  : Option Int :=
  gd (23 ≤ a0 ∧ a0 ≤ 42) <|
   cl (fJ0_checkIndex a1 ((sLen (Int.toNat a0 - 20) : Int)) ) fun p_1 =>
   gd ((23 ≤ a0 ∧ a0 ≤ 42) ∧ (0 : Int) ≤ a1 ∧ a1 < (sLen (Int.toNat a0 - 20) : Int)) <|
   gd ((0 : Int) ≤ c16 (andI (sCh (Int.toNat a0 - 20) (Int.toNat a1)) 255) ∧ c16 (andI (sCh (Int.toNat a0 - 20) (Int.toNat a1)) 255) < 65536) (some (c16 (andI (sCh (Int.toNat a0 - 20) (Int.toNat a1)) 255)))
theorem sJ1_charAt {G : GG} {Γ : Cx} {r : Vv × Wd} {sz : Nat} {sl : Nat} {td : TT} (a0 : Int) (a1 : Int) (c : CC) : Sm (fJ1_charAt a0 a1 ) (fun x => r = ((0, x), (sz, sl, tt td, cv c))) (WP G Γ muJ1_charAt r 0 [some (2, a0), some (0, a1)] [] (sz, sl, tt td, cv c)) := by
  unfold fJ1_charAt
  refine s_iload_n (pc := 0) dJ1_charAt_0 rfl ?_
  refine s_aload_n (pc := 1) dJ1_charAt_1 rfl ?_
  refine s_alenB (pc := 2) dJ1_charAt_2 ?_
  refine s_callS3 (pc := 3) (as := [(0, a1), (0, (sLen (Int.toNat a0 - 20) : Int))]) (st := []) (rv := fun b => ((3, 0), (sz, sl, tt td, cv c))) (st3 := fun b => []) (w3 := fun b => (sz, sl, tt td, cv c)) msJ1_9 (fun b h => kJ0_checkIndex a1 ((sLen (Int.toNat a0 - 20) : Int)) c b h) rfl (by decide) rfl (Nat.le_of_ble_eq_true rfl) (fun _ => Nat.le_of_ble_eq_true rfl) (fun _ => ⟨rfl, rfl⟩) dJ1_charAt_3 (fun p_1 => ?_)
  refine s_aload_n (pc := 6) dJ1_charAt_6 rfl ?_
  refine s_iload_n (pc := 7) dJ1_charAt_7 rfl ?_
  refine s_baldB (pc := 8) dJ1_charAt_8 ?_
  refine s_sipush (pc := 9) dJ1_charAt_9 ?_
  refine s_iand (pc := 12) dJ1_charAt_12 ?_
  refine s_i2c (pc := 13) dJ1_charAt_13 ?_
  exact s_cret (pc := 14) dJ1_charAt_14 rfl (fun h => h)
theorem kJ1_charAt {G : GG} {sz : Nat} {sl : Nat} {td : TT} (a0 : Int) (a1 : Int) (c : CC) (x : Int) (h : fJ1_charAt a0 a1  = some x) : Ct G yJ1_charAt muJ1_charAt [(2, a0), (0, a1)] (sz, sl, tt td, cv c) ((0, x), (sz, sl, tt td, cv c)) :=
  Ct.of (n := 0) (ls0 := [some (2, a0), some (0, a1)]) (by decide) rfl rfl ⟨show (some .char : Option FieldType) ≠ some .float by decide, show (some .char : Option FieldType) ≠ some .double by decide⟩ (Nat.le_of_ble_eq_true rfl) rfl ⟨Nat.le_refl _, Nat.le_refl _⟩ (show (0 : Nat) ≠ 9 by decide) (fun Γ => sJ1_charAt a0 a1 c x h rfl)
theorem msJ0_495 : MS RJ0 495 yJ1_charAt muJ1_charAt 2 := ⟨lw_S q443 q444 q132 q445, by decide +kernel, by decide⟩
abbrev muJ0_charAt : MI := (cJ0_charAt, RJ0, 2, some .char, 4, "charAt")
noncomputable def fJ0_charAt (a0 : Int) (a1 : Int)  : Option Int :=
  gd (3 ≤ a0 ∧ a0 ≤ 22) <| cl (fJ0_isLatin1 a0 ) fun p_1 =>
   if p_1 = 0 then
  (gd (3 ≤ a0 ∧ a0 ≤ 22) <|
   none)
  else
  (gd (3 ≤ a0 ∧ a0 ≤ 22) <|
   cl (fJ1_charAt (a0 + 20) a1 ) fun p_2 =>
   gd ((0 : Int) ≤ p_2 ∧ p_2 < 65536) (some p_2))
theorem sJ0_charAt {G : GG} {Γ : Cx} {r : Vv × Wd} {sz : Nat} {sl : Nat} {td : TT} (a0 : Int) (a1 : Int) (c : CC) : Sm (fJ0_charAt a0 a1 ) (fun x => r = ((0, x), (sz, sl, tt td, cv c))) (WP G Γ muJ0_charAt r 0 [some (2, a0), some (0, a1)] [] (sz, sl, tt td, cv c)) := by
  unfold fJ0_charAt
  refine s_aload_n (pc := 0) dJ0_charAt_0 rfl ?_
  refine s_callVO (pc := 1) (z := a0) (as := []) (st := []) (rv := fun b => ((0, b), (sz, sl, tt td, cv c))) (st3 := fun b => [(0, b)]) (w3 := fun b => (sz, sl, tt td, cv c)) mvJ0_492 (fun b h => kJ0_isLatin1 a0 c b h) rfl (by decide) rfl (Nat.le_of_ble_eq_true rfl) (fun _ => Nat.le_of_ble_eq_true rfl) (fun _ => ⟨rfl, rfl⟩) dJ0_charAt_1 (fun p_1 => ?_)
  refine s_if_eq (pc := 4) (tgt := 16) dJ0_charAt_4 rfl ?_ ?_
  · refine s_aload_n (pc := 16) dJ0_charAt_16 rfl ?_
    refine s_getSV (pc := 17) rfl dJ0_charAt_17 ?_
    refine s_iload_n (pc := 20) dJ0_charAt_20 rfl ?_
    exact fun x h _ => by cases h
  refine s_aload_n (pc := 7) dJ0_charAt_7 rfl ?_
  refine s_getSV (pc := 8) rfl dJ0_charAt_8 ?_
  refine s_iload_n (pc := 11) dJ0_charAt_11 rfl ?_
  refine s_callS3 (pc := 12) (as := [(2, a0 + 20), (0, a1)]) (st := []) (rv := fun b => ((0, b), (sz, sl, tt td, cv c))) (st3 := fun b => [(0, b)]) (w3 := fun b => (sz, sl, tt td, cv c)) msJ0_495 (fun b h => kJ1_charAt (a0 + 20) a1 c b h) rfl (by decide) rfl (Nat.le_of_ble_eq_true rfl) (fun _ => Nat.le_of_ble_eq_true rfl) (fun _ => ⟨rfl, rfl⟩) dJ0_charAt_12 (fun p_2 => ?_)
  exact s_cret (pc := 15) dJ0_charAt_15 rfl (fun h => h)
theorem kJ0_charAt {G : GG} {sz : Nat} {sl : Nat} {td : TT} (a0 : Int) (a1 : Int) (c : CC) (x : Int) (h : fJ0_charAt a0 a1  = some x) : Ct G yJ0_charAt muJ0_charAt [(2, a0), (0, a1)] (sz, sl, tt td, cv c) ((0, x), (sz, sl, tt td, cv c)) :=
  Ct.of (n := 0) (ls0 := [some (2, a0), some (0, a1)]) (by decide) rfl rfl ⟨show (some .char : Option FieldType) ≠ some .float by decide, show (some .char : Option FieldType) ≠ some .double by decide⟩ (Nat.le_of_ble_eq_true rfl) rfl ⟨Nat.le_refl _, Nat.le_refl _⟩ (show (0 : Nat) ≠ 9 by decide) (fun Γ => sJ0_charAt a0 a1 c x h rfl)
theorem mvX5_38 : MV RX5 38 RJ0 yJ0_charAt muJ0_charAt 1 := ⟨lw_V q435 q436 q437 q131 q438, by decide +kernel, Nat.le_of_ble_eq_true rfl⟩
abbrev muX5_wordOf_1 : MI := (cX5_wordOf, RX5, 5, some .int, 5, "wordOf")
abbrev gX5_wordOf_1_l35 (G : GG) (Γ : Cx) (r : Vv × Wd) (sz sl : Nat) (td : TT) (c : CC) (v0 : Int) (v2 : Int) : (Int × Int) → Prop := fun s => WP G Γ muX5_wordOf_1 r 35 [some (2, v0), some (2, 1), some (0, v2), some (0, s.1), some (0, s.2)] [] (sz, sl, tt td, cv c)
abbrev eX5_wordOf_1_l35 (G : GG) (Γ : Cx) (r : Vv × Wd) (sz sl : Nat) (td : TT) (c : CC) (v0 : Int) (v2 : Int) : (Int) → Prop := (fun s => WP G Γ muX5_wordOf_1 r 85 [some (2, v0), some (2, 1), some (0, v2), some (0, s), none] [] (sz, sl, tt td, cv c))
noncomputable def fX5_wordOf_1_l35 (v0 : Int) (v2 : Int) (v3 : Int) (v4 : Int) (td : TT) (c : CC) : Option ((Int × Int) ⊕ (Int)) :=
  gd ((0 : Int) ≤ v2 ∧ v2 < 13) <|
   gd (3 ≤ v2 + 3 ∧ v2 + 3 ≤ 22) <| cl (fJ0_length (v2 + 3) ) fun p_2 =>
   if v4 < p_2 then
  (if v3 = 0 then
  (some (.inr v3))
  else
  (gd ((0 : Int) ≤ v0 ∧ (tt td (Int.toNat v0)).1 = 4) <|
   gd ((0 : Int) ≤ v0 ∧ (tt td (Int.toNat v0)).1 = 4) <|
   gd (inR ((cv c (Int.toNat v0) 3) + v4)) <|
   gd ((0 : Int) ≤ cv c (Int.toNat v0) 0 ∧ (tt td (Int.toNat (cv c (Int.toNat v0) 0))).1 = 52 ∧ (0 : Int) ≤ (cv c (Int.toNat v0) 3) + v4 ∧ (cv c (Int.toNat v0) 3) + v4 < ((tt td (Int.toNat (cv c (Int.toNat v0) 0))).2 : Int)) <|
   gd ((0 : Int) ≤ v2 ∧ v2 < 13) <|
   gd (3 ≤ v2 + 3 ∧ v2 + 3 ≤ 22) <| cl (fJ0_charAt (v2 + 3) v4 ) fun p_3 =>
   if cv c (Int.toNat (cv c (Int.toNat v0) 0)) (Int.toNat ((cv c (Int.toNat v0) 3) + v4)) = p_3 then
  (gd (inR (v4 + 1)) <| bd (v4 + 1) fun v4_5 =>
   some (.inl (1, v4_5)))
  else
  (gd (inR (v4 + 1)) <| bd (v4 + 1) fun v4_4 =>
   some (.inl (0, v4_4)))))
  else
  (some (.inr v3))
theorem sX5_wordOf_1_l35 {G : GG} {Γ : Cx} {r : Vv × Wd} {sz : Nat} {sl : Nat} (v0 : Int) (v2 : Int) (v3 : Int) (v4 : Int) (td : TT) (c : CC) : Sm (fX5_wordOf_1_l35 v0 v2 v3 v4 td c) (fun x => Sum.elim (gX5_wordOf_1_l35 G Γ r sz sl td c v0 v2) (eX5_wordOf_1_l35 G Γ r sz sl td c v0 v2) x) (gX5_wordOf_1_l35 G Γ r sz sl td c v0 v2 (v3, v4)) := by
  show Sm _ _ (WP G Γ muX5_wordOf_1 r 35 [some (2, v0), some (2, 1), some (0, v2), some (0, v3), some (0, v4)] [] (sz, sl, tt td, cv c))
  unfold fX5_wordOf_1_l35
  refine s_iload (pc := 35) dX5_wordOf_35 rfl ?_
  refine s_aload_n (pc := 37) dX5_wordOf_37 rfl ?_
  refine s_iload_n (pc := 38) dX5_wordOf_38 rfl ?_
  refine s_aaldH1 (pc := 39) dX5_wordOf_39 ?_
  refine s_callVO (pc := 40) (z := v2 + 3) (as := []) (st := [(0, v4)]) (rv := fun b => ((0, b), (sz, sl, tt td, cv c))) (st3 := fun b => [(0, b), (0, v4)]) (w3 := fun b => (sz, sl, tt td, cv c)) mvX5_30 (fun b h => kJ0_length (v2 + 3) c b h) rfl (by decide) rfl (Nat.le_of_ble_eq_true rfl) (fun _ => Nat.le_of_ble_eq_true rfl) (fun _ => ⟨rfl, rfl⟩) dX5_wordOf_40 (fun p_2 => ?_)
  refine s_icmp_ge (pc := 43) (tgt := 85) dX5_wordOf_43 rfl ?_ ?_
  · refine s_wk [true, true, true, true, false] (ls' := [some (2, v0), some (2, 1), some (0, v2), some (0, v3), none]) rfl ?_
    exact Sm.some (fun h => h)
  refine s_iload_n (pc := 46) dX5_wordOf_46 rfl ?_
  refine s_if_eq (pc := 47) (tgt := 85) dX5_wordOf_47 rfl ?_ ?_
  · refine s_wk [true, true, true, true, false] (ls' := [some (2, v0), some (2, 1), some (0, v2), some (0, v3), none]) rfl ?_
    exact Sm.some (fun h => h)
  refine s_aload_n (pc := 50) dX5_wordOf_50 rfl ?_
  refine s_getD (pc := 51) flX5_9 rfl dX5_wordOf_51 ?_
  refine s_aload_n (pc := 54) dX5_wordOf_54 rfl ?_
  refine s_getD (pc := 55) flX5_35 rfl dX5_wordOf_55 ?_
  refine s_iload (pc := 58) dX5_wordOf_58 rfl ?_
  refine s_iadd (pc := 60) dX5_wordOf_60 ?_
  refine s_baldD (pc := 61) dX5_wordOf_61 ?_
  refine s_aload_n (pc := 62) dX5_wordOf_62 rfl ?_
  refine s_iload_n (pc := 63) dX5_wordOf_63 rfl ?_
  refine s_aaldH1 (pc := 64) dX5_wordOf_64 ?_
  refine s_iload (pc := 65) dX5_wordOf_65 rfl ?_
  refine s_callVO (pc := 67) (z := v2 + 3) (as := [(0, v4)]) (st := [(0, cv c (Int.toNat (cv c (Int.toNat v0) 0)) (Int.toNat ((cv c (Int.toNat v0) 3) + v4)))]) (rv := fun b => ((0, b), (sz, sl, tt td, cv c))) (st3 := fun b => [(0, b), (0, cv c (Int.toNat (cv c (Int.toNat v0) 0)) (Int.toNat ((cv c (Int.toNat v0) 3) + v4)))]) (w3 := fun b => (sz, sl, tt td, cv c)) mvX5_38 (fun b h => kJ0_charAt (v2 + 3) v4 c b h) rfl (by decide) rfl (Nat.le_of_ble_eq_true rfl) (fun _ => Nat.le_of_ble_eq_true rfl) (fun _ => ⟨rfl, rfl⟩) dX5_wordOf_67 (fun p_3 => ?_)
  refine s_icmp_ne (pc := 70) (tgt := 77) dX5_wordOf_70 rfl ?_ ?_
  · refine s_iconst (pc := 77) dX5_wordOf_77 ?_
    refine s_istore_nD (pc := 78) (ls' := [some (2, v0), some (2, 1), some (0, v2), some (0, 0), some (0, v4)]) dX5_wordOf_78 rfl (Nat.le_of_ble_eq_true rfl) ?_
    refine s_iinc (pc := 79) (lf := fun x => [some (2, v0), some (2, 1), some (0, v2), some (0, 0), some (0, x)]) dX5_wordOf_79 rfl (fun _ => rfl) (Nat.le_of_ble_eq_true rfl) (fun v4_4 => ?_)
    refine s_goto (pc := 82) (tgt := 35) dX5_wordOf_82 rfl ?_
    exact Sm.some (fun h => h)
  refine s_iconst (pc := 73) dX5_wordOf_73 ?_
  refine s_goto (pc := 74) (tgt := 78) dX5_wordOf_74 rfl ?_
  refine s_istore_nD (pc := 78) (ls' := [some (2, v0), some (2, 1), some (0, v2), some (0, 1), some (0, v4)]) dX5_wordOf_78 rfl (Nat.le_of_ble_eq_true rfl) ?_
  refine s_iinc (pc := 79) (lf := fun x => [some (2, v0), some (2, 1), some (0, v2), some (0, 1), some (0, x)]) dX5_wordOf_79 rfl (fun _ => rfl) (Nat.le_of_ble_eq_true rfl) (fun v4_5 => ?_)
  refine s_goto (pc := 82) (tgt := 35) dX5_wordOf_82 rfl ?_
  exact Sm.some (fun h => h)
noncomputable def fX5_wordOf_1_j85 (v0 : Int) (v2 : Int) (v3 : Int) (td : TT) (c : CC) : Option ((Int) ⊕ ((Int) ⊕ (Unit))) :=
  if v3 = 0 then
  (gd (inR (v2 + 1)) <| bd (v2 + 1) fun v2_7 =>
   some (.inl v2_7))
  else
  (some (.inr (.inl v2)))
abbrev gX5_wordOf_1_l2 (G : GG) (Γ : Cx) (r : Vv × Wd) (sz sl : Nat) (td : TT) (c : CC) (v0 : Int) : (Int) → Prop := fun s => WP G Γ muX5_wordOf_1 r 2 [some (2, v0), some (2, 1), some (0, s), none, none] [] (sz, sl, tt td, cv c)
abbrev eX5_wordOf_1_l2 (G : GG) (Γ : Cx) (r : Vv × Wd) (sz sl : Nat) (td : TT) (c : CC) (v0 : Int) : ((Int) ⊕ (Unit)) → Prop := (Sum.elim (fun s => WP G Γ muX5_wordOf_1 r 89 [none, none, some (0, s), none, none] [] (sz, sl, tt td, cv c)) (fun s => WP G Γ muX5_wordOf_1 r 97 [none, none, none, none, none] [] (sz, sl, tt td, cv c)))
theorem sX5_wordOf_1_j85 {G : GG} {Γ : Cx} {r : Vv × Wd} {sz : Nat} {sl : Nat} (v0 : Int) (v2 : Int) (v3 : Int) (td : TT) (c : CC) : Sm (fX5_wordOf_1_j85 v0 v2 v3 td c) (fun x => Sum.elim (gX5_wordOf_1_l2 G Γ r sz sl td c v0) (eX5_wordOf_1_l2 G Γ r sz sl td c v0) x) (WP G Γ muX5_wordOf_1 r 85 [some (2, v0), some (2, 1), some (0, v2), some (0, v3), none] [] (sz, sl, tt td, cv c)) := by
  unfold fX5_wordOf_1_j85
  refine s_iload_n (pc := 85) dX5_wordOf_85 rfl ?_
  refine s_if_eq (pc := 86) (tgt := 91) dX5_wordOf_86 rfl ?_ ?_
  · refine s_iinc (pc := 91) (lf := fun x => [some (2, v0), some (2, 1), some (0, x), some (0, v3), none]) dX5_wordOf_91 rfl (fun _ => rfl) (Nat.le_of_ble_eq_true rfl) (fun v2_7 => ?_)
    refine s_goto (pc := 94) (tgt := 2) dX5_wordOf_94 rfl ?_
    refine s_wk [true, true, true, false, true] (ls' := [some (2, v0), some (2, 1), some (0, v2_7), none, none]) rfl ?_
    exact Sm.some (fun h => h)
  refine s_wk [false, false, true, false, true] (ls' := [none, none, some (0, v2), none, none]) rfl ?_
  exact Sm.some (fun h => h)
noncomputable def fX5_wordOf_1_j31 (v0 : Int) (v2 : Int) (w0 : Int) (td : TT) (c : CC) : Option ((Int) ⊕ ((Int) ⊕ (Unit))) :=
  cl (wh (fun s => fX5_wordOf_1_l35 v0 v2 s.1 s.2 td c) (w0, 0)) (fun e_6 =>
  fX5_wordOf_1_j85 v0 v2 e_6 td c)
theorem sX5_wordOf_1_j31 {G : GG} {Γ : Cx} {r : Vv × Wd} {sz : Nat} {sl : Nat} (v0 : Int) (v2 : Int) (w0 : Int) (td : TT) (c : CC) : Sm (fX5_wordOf_1_j31 v0 v2 w0 td c) (fun x => Sum.elim (gX5_wordOf_1_l2 G Γ r sz sl td c v0) (eX5_wordOf_1_l2 G Γ r sz sl td c v0) x) (WP G Γ muX5_wordOf_1 r 31 [some (2, v0), some (2, 1), some (0, v2), none, none] [(0, w0)] (sz, sl, tt td, cv c)) := by
  unfold fX5_wordOf_1_j31
  refine s_istore_nD (pc := 31) (ls' := [some (2, v0), some (2, 1), some (0, v2), some (0, w0), none]) dX5_wordOf_31 rfl (Nat.le_of_ble_eq_true rfl) ?_
  refine s_iconst (pc := 32) dX5_wordOf_32 ?_
  refine s_istoreD (pc := 33) (ls' := [some (2, v0), some (2, 1), some (0, v2), some (0, w0), some (0, 0)]) dX5_wordOf_33 rfl (Nat.le_of_ble_eq_true rfl) ?_
  refine s_loop (g := gX5_wordOf_1_l35 G Γ r sz sl td c v0 v2) (Ex := eX5_wordOf_1_l35 G Γ r sz sl td c v0 v2) (s0 := (w0, 0)) (fun s => sX5_wordOf_1_l35 v0 v2 s.1 s.2 td c) ?_
  intro e_6
  show Sm _ _ (WP G Γ muX5_wordOf_1 r 85 [some (2, v0), some (2, 1), some (0, v2), some (0, e_6), none] [] (sz, sl, tt td, cv c))
  exact sX5_wordOf_1_j85 v0 v2 e_6 td c
noncomputable def fX5_wordOf_1_l2 (v0 : Int) (v2 : Int) (td : TT) (c : CC) : Option ((Int) ⊕ ((Int) ⊕ (Unit))) :=
  if v2 < 13 then
  (gd ((0 : Int) ≤ v2 ∧ v2 < 13) <|
   gd (3 ≤ v2 + 3 ∧ v2 + 3 ≤ 22) <| cl (fJ0_length (v2 + 3) ) fun p_1 =>
   gd ((0 : Int) ≤ v0 ∧ (tt td (Int.toNat v0)).1 = 4) <|
   gd ((0 : Int) ≤ v0 ∧ (tt td (Int.toNat v0)).1 = 4) <|
   gd (inR ((cv c (Int.toNat v0) 2) - (cv c (Int.toNat v0) 3))) <|
   if p_1 = (cv c (Int.toNat v0) 2) - (cv c (Int.toNat v0) 3) then
  (fX5_wordOf_1_j31 v0 v2 1 td c)
  else
  (fX5_wordOf_1_j31 v0 v2 0 td c))
  else
  (some (.inr (.inr ())))
theorem sX5_wordOf_1_l2 {G : GG} {Γ : Cx} {r : Vv × Wd} {sz : Nat} {sl : Nat} (v0 : Int) (v2 : Int) (td : TT) (c : CC) : Sm (fX5_wordOf_1_l2 v0 v2 td c) (fun x => Sum.elim (gX5_wordOf_1_l2 G Γ r sz sl td c v0) (eX5_wordOf_1_l2 G Γ r sz sl td c v0) x) (gX5_wordOf_1_l2 G Γ r sz sl td c v0 v2) := by
  show Sm _ _ (WP G Γ muX5_wordOf_1 r 2 [some (2, v0), some (2, 1), some (0, v2), none, none] [] (sz, sl, tt td, cv c))
  unfold fX5_wordOf_1_l2
  refine s_iload_n (pc := 2) dX5_wordOf_2 rfl ?_
  refine s_aload_n (pc := 3) dX5_wordOf_3 rfl ?_
  refine s_alenH1 (pc := 4) dX5_wordOf_4 ?_
  refine s_icmp_ge (pc := 5) (tgt := 97) dX5_wordOf_5 rfl ?_ ?_
  · refine s_wk [false, false, false, true, true] (ls' := [none, none, none, none, none]) rfl ?_
    exact Sm.some (fun h => h)
  refine s_aload_n (pc := 8) dX5_wordOf_8 rfl ?_
  refine s_iload_n (pc := 9) dX5_wordOf_9 rfl ?_
  refine s_aaldH1 (pc := 10) dX5_wordOf_10 ?_
  refine s_callVO (pc := 11) (z := v2 + 3) (as := []) (st := []) (rv := fun b => ((0, b), (sz, sl, tt td, cv c))) (st3 := fun b => [(0, b)]) (w3 := fun b => (sz, sl, tt td, cv c)) mvX5_30 (fun b h => kJ0_length (v2 + 3) c b h) rfl (by decide) rfl (Nat.le_of_ble_eq_true rfl) (fun _ => Nat.le_of_ble_eq_true rfl) (fun _ => ⟨rfl, rfl⟩) dX5_wordOf_11 (fun p_1 => ?_)
  refine s_aload_n (pc := 14) dX5_wordOf_14 rfl ?_
  refine s_getD (pc := 15) flX5_19 rfl dX5_wordOf_15 ?_
  refine s_aload_n (pc := 18) dX5_wordOf_18 rfl ?_
  refine s_getD (pc := 19) flX5_35 rfl dX5_wordOf_19 ?_
  refine s_isub (pc := 22) dX5_wordOf_22 ?_
  refine s_icmp_ne (pc := 23) (tgt := 30) dX5_wordOf_23 rfl ?_ ?_
  · refine s_iconst (pc := 30) dX5_wordOf_30 ?_
    exact sX5_wordOf_1_j31 v0 v2 0 td c
  refine s_iconst (pc := 26) dX5_wordOf_26 ?_
  refine s_goto (pc := 27) (tgt := 31) dX5_wordOf_27 rfl ?_
  exact sX5_wordOf_1_j31 v0 v2 1 td c
noncomputable def fX5_wordOf_1 (a0 : Int) (td : TT) (c : CC) : Option Int :=
  cl (wh (fun s => fX5_wordOf_1_l2 a0 s td c) 0) (Sum.elim (fun e_8 =>
  some e_8) (fun e_9 =>
  some (-1)))
theorem sX5_wordOf_1 {G : GG} {Γ : Cx} {r : Vv × Wd} {sz : Nat} {sl : Nat} (a0 : Int) (td : TT) (c : CC) : Sm (fX5_wordOf_1 a0 td c) (fun x => r = ((0, x), (sz, sl, tt td, cv c))) (WP G Γ muX5_wordOf_1 r 0 [some (2, a0), some (2, 1), none, none, none] [] (sz, sl, tt td, cv c)) := by
  unfold fX5_wordOf_1
  refine s_iconst (pc := 0) dX5_wordOf_0 ?_
  refine s_istore_nD (pc := 1) (ls' := [some (2, a0), some (2, 1), some (0, 0), none, none]) dX5_wordOf_1 rfl (Nat.le_of_ble_eq_true rfl) ?_
  refine s_loop (g := gX5_wordOf_1_l2 G Γ r sz sl td c a0) (Ex := eX5_wordOf_1_l2 G Γ r sz sl td c a0) (s0 := 0) (fun s => sX5_wordOf_1_l2 a0 s td c) ?_
  refine s_elim ?_ ?_
  · intro e_8
    show Sm _ _ (WP G Γ muX5_wordOf_1 r 89 [none, none, some (0, e_8), none, none] [] (sz, sl, tt td, cv c))
    refine s_iload_n (pc := 89) dX5_wordOf_89 rfl ?_
    exact s_iret (pc := 90) dX5_wordOf_90 rfl (fun h => h)
  intro e_9
  show Sm _ _ (WP G Γ muX5_wordOf_1 r 97 [none, none, none, none, none] [] (sz, sl, tt td, cv c))
  refine s_iconst (pc := 97) dX5_wordOf_97 ?_
  exact s_iret (pc := 98) dX5_wordOf_98 rfl (fun h => h)
theorem kX5_wordOf_1 {G : GG} {sz : Nat} {sl : Nat} (a0 : Int) (td : TT) (c : CC) (x : Int) (h : fX5_wordOf_1 a0 td c = some x) : Ct G yX5_wordOf muX5_wordOf_1 [(2, a0), (2, 1)] (sz, sl, tt td, cv c) ((0, x), (sz, sl, tt td, cv c)) :=
  Ct.of (n := 3) (ls0 := [some (2, a0), some (2, 1), none, none, none]) (by decide) rfl rfl ⟨show (some .int : Option FieldType) ≠ some .float by decide, show (some .int : Option FieldType) ≠ some .double by decide⟩ (Nat.le_of_ble_eq_true rfl) rfl ⟨Nat.le_refl _, Nat.le_refl _⟩ (show (0 : Nat) ≠ 9 by decide) (fun Γ => sX5_wordOf_1 a0 td c x h rfl)
theorem mvX5_50_1 : MV RX5 50 RX5 yX5_wordOf muX5_wordOf_1 1 := ⟨lw_V q421 q423 qs5 q130 q424, by decide +kernel, Nat.le_of_ble_eq_true rfl⟩
abbrev muX5_wordOf_2 : MI := (cX5_wordOf, RX5, 5, some .int, 5, "wordOf")
abbrev gX5_wordOf_2_l35 (G : GG) (Γ : Cx) (r : Vv × Wd) (sz sl : Nat) (td : TT) (c : CC) (v0 : Int) (v2 : Int) : (Int × Int) → Prop := fun s => WP G Γ muX5_wordOf_2 r 35 [some (2, v0), some (2, 2), some (0, v2), some (0, s.1), some (0, s.2)] [] (sz, sl, tt td, cv c)
abbrev eX5_wordOf_2_l35 (G : GG) (Γ : Cx) (r : Vv × Wd) (sz sl : Nat) (td : TT) (c : CC) (v0 : Int) (v2 : Int) : (Int) → Prop := (fun s => WP G Γ muX5_wordOf_2 r 85 [some (2, v0), some (2, 2), some (0, v2), some (0, s), none] [] (sz, sl, tt td, cv c))
noncomputable def fX5_wordOf_2_l35 (v0 : Int) (v2 : Int) (v3 : Int) (v4 : Int) (td : TT) (c : CC) : Option ((Int × Int) ⊕ (Int)) :=
  gd ((0 : Int) ≤ v2 ∧ v2 < 7) <|
   gd (3 ≤ v2 + 16 ∧ v2 + 16 ≤ 22) <| cl (fJ0_length (v2 + 16) ) fun p_2 =>
   if v4 < p_2 then
  (if v3 = 0 then
  (some (.inr v3))
  else
  (gd ((0 : Int) ≤ v0 ∧ (tt td (Int.toNat v0)).1 = 4) <|
   gd ((0 : Int) ≤ v0 ∧ (tt td (Int.toNat v0)).1 = 4) <|
   gd (inR ((cv c (Int.toNat v0) 3) + v4)) <|
   gd ((0 : Int) ≤ cv c (Int.toNat v0) 0 ∧ (tt td (Int.toNat (cv c (Int.toNat v0) 0))).1 = 52 ∧ (0 : Int) ≤ (cv c (Int.toNat v0) 3) + v4 ∧ (cv c (Int.toNat v0) 3) + v4 < ((tt td (Int.toNat (cv c (Int.toNat v0) 0))).2 : Int)) <|
   gd ((0 : Int) ≤ v2 ∧ v2 < 7) <|
   gd (3 ≤ v2 + 16 ∧ v2 + 16 ≤ 22) <| cl (fJ0_charAt (v2 + 16) v4 ) fun p_3 =>
   if cv c (Int.toNat (cv c (Int.toNat v0) 0)) (Int.toNat ((cv c (Int.toNat v0) 3) + v4)) = p_3 then
  (gd (inR (v4 + 1)) <| bd (v4 + 1) fun v4_5 =>
   some (.inl (1, v4_5)))
  else
  (gd (inR (v4 + 1)) <| bd (v4 + 1) fun v4_4 =>
   some (.inl (0, v4_4)))))
  else
  (some (.inr v3))
theorem sX5_wordOf_2_l35 {G : GG} {Γ : Cx} {r : Vv × Wd} {sz : Nat} {sl : Nat} (v0 : Int) (v2 : Int) (v3 : Int) (v4 : Int) (td : TT) (c : CC) : Sm (fX5_wordOf_2_l35 v0 v2 v3 v4 td c) (fun x => Sum.elim (gX5_wordOf_2_l35 G Γ r sz sl td c v0 v2) (eX5_wordOf_2_l35 G Γ r sz sl td c v0 v2) x) (gX5_wordOf_2_l35 G Γ r sz sl td c v0 v2 (v3, v4)) := by
  show Sm _ _ (WP G Γ muX5_wordOf_2 r 35 [some (2, v0), some (2, 2), some (0, v2), some (0, v3), some (0, v4)] [] (sz, sl, tt td, cv c))
  unfold fX5_wordOf_2_l35
  refine s_iload (pc := 35) dX5_wordOf_35 rfl ?_
  refine s_aload_n (pc := 37) dX5_wordOf_37 rfl ?_
  refine s_iload_n (pc := 38) dX5_wordOf_38 rfl ?_
  refine s_aaldH2 (pc := 39) dX5_wordOf_39 ?_
  refine s_callVO (pc := 40) (z := v2 + 16) (as := []) (st := [(0, v4)]) (rv := fun b => ((0, b), (sz, sl, tt td, cv c))) (st3 := fun b => [(0, b), (0, v4)]) (w3 := fun b => (sz, sl, tt td, cv c)) mvX5_30 (fun b h => kJ0_length (v2 + 16) c b h) rfl (by decide) rfl (Nat.le_of_ble_eq_true rfl) (fun _ => Nat.le_of_ble_eq_true rfl) (fun _ => ⟨rfl, rfl⟩) dX5_wordOf_40 (fun p_2 => ?_)
  refine s_icmp_ge (pc := 43) (tgt := 85) dX5_wordOf_43 rfl ?_ ?_
  · refine s_wk [true, true, true, true, false] (ls' := [some (2, v0), some (2, 2), some (0, v2), some (0, v3), none]) rfl ?_
    exact Sm.some (fun h => h)
  refine s_iload_n (pc := 46) dX5_wordOf_46 rfl ?_
  refine s_if_eq (pc := 47) (tgt := 85) dX5_wordOf_47 rfl ?_ ?_
  · refine s_wk [true, true, true, true, false] (ls' := [some (2, v0), some (2, 2), some (0, v2), some (0, v3), none]) rfl ?_
    exact Sm.some (fun h => h)
  refine s_aload_n (pc := 50) dX5_wordOf_50 rfl ?_
  refine s_getD (pc := 51) flX5_9 rfl dX5_wordOf_51 ?_
  refine s_aload_n (pc := 54) dX5_wordOf_54 rfl ?_
  refine s_getD (pc := 55) flX5_35 rfl dX5_wordOf_55 ?_
  refine s_iload (pc := 58) dX5_wordOf_58 rfl ?_
  refine s_iadd (pc := 60) dX5_wordOf_60 ?_
  refine s_baldD (pc := 61) dX5_wordOf_61 ?_
  refine s_aload_n (pc := 62) dX5_wordOf_62 rfl ?_
  refine s_iload_n (pc := 63) dX5_wordOf_63 rfl ?_
  refine s_aaldH2 (pc := 64) dX5_wordOf_64 ?_
  refine s_iload (pc := 65) dX5_wordOf_65 rfl ?_
  refine s_callVO (pc := 67) (z := v2 + 16) (as := [(0, v4)]) (st := [(0, cv c (Int.toNat (cv c (Int.toNat v0) 0)) (Int.toNat ((cv c (Int.toNat v0) 3) + v4)))]) (rv := fun b => ((0, b), (sz, sl, tt td, cv c))) (st3 := fun b => [(0, b), (0, cv c (Int.toNat (cv c (Int.toNat v0) 0)) (Int.toNat ((cv c (Int.toNat v0) 3) + v4)))]) (w3 := fun b => (sz, sl, tt td, cv c)) mvX5_38 (fun b h => kJ0_charAt (v2 + 16) v4 c b h) rfl (by decide) rfl (Nat.le_of_ble_eq_true rfl) (fun _ => Nat.le_of_ble_eq_true rfl) (fun _ => ⟨rfl, rfl⟩) dX5_wordOf_67 (fun p_3 => ?_)
  refine s_icmp_ne (pc := 70) (tgt := 77) dX5_wordOf_70 rfl ?_ ?_
  · refine s_iconst (pc := 77) dX5_wordOf_77 ?_
    refine s_istore_nD (pc := 78) (ls' := [some (2, v0), some (2, 2), some (0, v2), some (0, 0), some (0, v4)]) dX5_wordOf_78 rfl (Nat.le_of_ble_eq_true rfl) ?_
    refine s_iinc (pc := 79) (lf := fun x => [some (2, v0), some (2, 2), some (0, v2), some (0, 0), some (0, x)]) dX5_wordOf_79 rfl (fun _ => rfl) (Nat.le_of_ble_eq_true rfl) (fun v4_4 => ?_)
    refine s_goto (pc := 82) (tgt := 35) dX5_wordOf_82 rfl ?_
    exact Sm.some (fun h => h)
  refine s_iconst (pc := 73) dX5_wordOf_73 ?_
  refine s_goto (pc := 74) (tgt := 78) dX5_wordOf_74 rfl ?_
  refine s_istore_nD (pc := 78) (ls' := [some (2, v0), some (2, 2), some (0, v2), some (0, 1), some (0, v4)]) dX5_wordOf_78 rfl (Nat.le_of_ble_eq_true rfl) ?_
  refine s_iinc (pc := 79) (lf := fun x => [some (2, v0), some (2, 2), some (0, v2), some (0, 1), some (0, x)]) dX5_wordOf_79 rfl (fun _ => rfl) (Nat.le_of_ble_eq_true rfl) (fun v4_5 => ?_)
  refine s_goto (pc := 82) (tgt := 35) dX5_wordOf_82 rfl ?_
  exact Sm.some (fun h => h)
noncomputable def fX5_wordOf_2_j85 (v0 : Int) (v2 : Int) (v3 : Int) (td : TT) (c : CC) : Option ((Int) ⊕ ((Int) ⊕ (Unit))) :=
  if v3 = 0 then
  (gd (inR (v2 + 1)) <| bd (v2 + 1) fun v2_7 =>
   some (.inl v2_7))
  else
  (some (.inr (.inl v2)))
abbrev gX5_wordOf_2_l2 (G : GG) (Γ : Cx) (r : Vv × Wd) (sz sl : Nat) (td : TT) (c : CC) (v0 : Int) : (Int) → Prop := fun s => WP G Γ muX5_wordOf_2 r 2 [some (2, v0), some (2, 2), some (0, s), none, none] [] (sz, sl, tt td, cv c)
abbrev eX5_wordOf_2_l2 (G : GG) (Γ : Cx) (r : Vv × Wd) (sz sl : Nat) (td : TT) (c : CC) (v0 : Int) : ((Int) ⊕ (Unit)) → Prop := (Sum.elim (fun s => WP G Γ muX5_wordOf_2 r 89 [none, none, some (0, s), none, none] [] (sz, sl, tt td, cv c)) (fun s => WP G Γ muX5_wordOf_2 r 97 [none, none, none, none, none] [] (sz, sl, tt td, cv c)))
theorem sX5_wordOf_2_j85 {G : GG} {Γ : Cx} {r : Vv × Wd} {sz : Nat} {sl : Nat} (v0 : Int) (v2 : Int) (v3 : Int) (td : TT) (c : CC) : Sm (fX5_wordOf_2_j85 v0 v2 v3 td c) (fun x => Sum.elim (gX5_wordOf_2_l2 G Γ r sz sl td c v0) (eX5_wordOf_2_l2 G Γ r sz sl td c v0) x) (WP G Γ muX5_wordOf_2 r 85 [some (2, v0), some (2, 2), some (0, v2), some (0, v3), none] [] (sz, sl, tt td, cv c)) := by
  unfold fX5_wordOf_2_j85
  refine s_iload_n (pc := 85) dX5_wordOf_85 rfl ?_
  refine s_if_eq (pc := 86) (tgt := 91) dX5_wordOf_86 rfl ?_ ?_
  · refine s_iinc (pc := 91) (lf := fun x => [some (2, v0), some (2, 2), some (0, x), some (0, v3), none]) dX5_wordOf_91 rfl (fun _ => rfl) (Nat.le_of_ble_eq_true rfl) (fun v2_7 => ?_)
    refine s_goto (pc := 94) (tgt := 2) dX5_wordOf_94 rfl ?_
    refine s_wk [true, true, true, false, true] (ls' := [some (2, v0), some (2, 2), some (0, v2_7), none, none]) rfl ?_
    exact Sm.some (fun h => h)
  refine s_wk [false, false, true, false, true] (ls' := [none, none, some (0, v2), none, none]) rfl ?_
  exact Sm.some (fun h => h)
noncomputable def fX5_wordOf_2_j31 (v0 : Int) (v2 : Int) (w0 : Int) (td : TT) (c : CC) : Option ((Int) ⊕ ((Int) ⊕ (Unit))) :=
  cl (wh (fun s => fX5_wordOf_2_l35 v0 v2 s.1 s.2 td c) (w0, 0)) (fun e_6 =>
  fX5_wordOf_2_j85 v0 v2 e_6 td c)
theorem sX5_wordOf_2_j31 {G : GG} {Γ : Cx} {r : Vv × Wd} {sz : Nat} {sl : Nat} (v0 : Int) (v2 : Int) (w0 : Int) (td : TT) (c : CC) : Sm (fX5_wordOf_2_j31 v0 v2 w0 td c) (fun x => Sum.elim (gX5_wordOf_2_l2 G Γ r sz sl td c v0) (eX5_wordOf_2_l2 G Γ r sz sl td c v0) x) (WP G Γ muX5_wordOf_2 r 31 [some (2, v0), some (2, 2), some (0, v2), none, none] [(0, w0)] (sz, sl, tt td, cv c)) := by
  unfold fX5_wordOf_2_j31
  refine s_istore_nD (pc := 31) (ls' := [some (2, v0), some (2, 2), some (0, v2), some (0, w0), none]) dX5_wordOf_31 rfl (Nat.le_of_ble_eq_true rfl) ?_
  refine s_iconst (pc := 32) dX5_wordOf_32 ?_
  refine s_istoreD (pc := 33) (ls' := [some (2, v0), some (2, 2), some (0, v2), some (0, w0), some (0, 0)]) dX5_wordOf_33 rfl (Nat.le_of_ble_eq_true rfl) ?_
  refine s_loop (g := gX5_wordOf_2_l35 G Γ r sz sl td c v0 v2) (Ex := eX5_wordOf_2_l35 G Γ r sz sl td c v0 v2) (s0 := (w0, 0)) (fun s => sX5_wordOf_2_l35 v0 v2 s.1 s.2 td c) ?_
  intro e_6
  show Sm _ _ (WP G Γ muX5_wordOf_2 r 85 [some (2, v0), some (2, 2), some (0, v2), some (0, e_6), none] [] (sz, sl, tt td, cv c))
  exact sX5_wordOf_2_j85 v0 v2 e_6 td c
noncomputable def fX5_wordOf_2_l2 (v0 : Int) (v2 : Int) (td : TT) (c : CC) : Option ((Int) ⊕ ((Int) ⊕ (Unit))) :=
  if v2 < 7 then
  (gd ((0 : Int) ≤ v2 ∧ v2 < 7) <|
   gd (3 ≤ v2 + 16 ∧ v2 + 16 ≤ 22) <| cl (fJ0_length (v2 + 16) ) fun p_1 =>
   gd ((0 : Int) ≤ v0 ∧ (tt td (Int.toNat v0)).1 = 4) <|
   gd ((0 : Int) ≤ v0 ∧ (tt td (Int.toNat v0)).1 = 4) <|
   gd (inR ((cv c (Int.toNat v0) 2) - (cv c (Int.toNat v0) 3))) <|
   if p_1 = (cv c (Int.toNat v0) 2) - (cv c (Int.toNat v0) 3) then
  (fX5_wordOf_2_j31 v0 v2 1 td c)
  else
  (fX5_wordOf_2_j31 v0 v2 0 td c))
  else
  (some (.inr (.inr ())))
theorem sX5_wordOf_2_l2 {G : GG} {Γ : Cx} {r : Vv × Wd} {sz : Nat} {sl : Nat} (v0 : Int) (v2 : Int) (td : TT) (c : CC) : Sm (fX5_wordOf_2_l2 v0 v2 td c) (fun x => Sum.elim (gX5_wordOf_2_l2 G Γ r sz sl td c v0) (eX5_wordOf_2_l2 G Γ r sz sl td c v0) x) (gX5_wordOf_2_l2 G Γ r sz sl td c v0 v2) := by
  show Sm _ _ (WP G Γ muX5_wordOf_2 r 2 [some (2, v0), some (2, 2), some (0, v2), none, none] [] (sz, sl, tt td, cv c))
  unfold fX5_wordOf_2_l2
  refine s_iload_n (pc := 2) dX5_wordOf_2 rfl ?_
  refine s_aload_n (pc := 3) dX5_wordOf_3 rfl ?_
  refine s_alenH2 (pc := 4) dX5_wordOf_4 ?_
  refine s_icmp_ge (pc := 5) (tgt := 97) dX5_wordOf_5 rfl ?_ ?_
  · refine s_wk [false, false, false, true, true] (ls' := [none, none, none, none, none]) rfl ?_
    exact Sm.some (fun h => h)
  refine s_aload_n (pc := 8) dX5_wordOf_8 rfl ?_
  refine s_iload_n (pc := 9) dX5_wordOf_9 rfl ?_
  refine s_aaldH2 (pc := 10) dX5_wordOf_10 ?_
  refine s_callVO (pc := 11) (z := v2 + 16) (as := []) (st := []) (rv := fun b => ((0, b), (sz, sl, tt td, cv c))) (st3 := fun b => [(0, b)]) (w3 := fun b => (sz, sl, tt td, cv c)) mvX5_30 (fun b h => kJ0_length (v2 + 16) c b h) rfl (by decide) rfl (Nat.le_of_ble_eq_true rfl) (fun _ => Nat.le_of_ble_eq_true rfl) (fun _ => ⟨rfl, rfl⟩) dX5_wordOf_11 (fun p_1 => ?_)
  refine s_aload_n (pc := 14) dX5_wordOf_14 rfl ?_
  refine s_getD (pc := 15) flX5_19 rfl dX5_wordOf_15 ?_
  refine s_aload_n (pc := 18) dX5_wordOf_18 rfl ?_
  refine s_getD (pc := 19) flX5_35 rfl dX5_wordOf_19 ?_
  refine s_isub (pc := 22) dX5_wordOf_22 ?_
  refine s_icmp_ne (pc := 23) (tgt := 30) dX5_wordOf_23 rfl ?_ ?_
  · refine s_iconst (pc := 30) dX5_wordOf_30 ?_
    exact sX5_wordOf_2_j31 v0 v2 0 td c
  refine s_iconst (pc := 26) dX5_wordOf_26 ?_
  refine s_goto (pc := 27) (tgt := 31) dX5_wordOf_27 rfl ?_
  exact sX5_wordOf_2_j31 v0 v2 1 td c
noncomputable def fX5_wordOf_2 (a0 : Int) (td : TT) (c : CC) : Option Int :=
  cl (wh (fun s => fX5_wordOf_2_l2 a0 s td c) 0) (Sum.elim (fun e_8 =>
  some e_8) (fun e_9 =>
  some (-1)))
theorem sX5_wordOf_2 {G : GG} {Γ : Cx} {r : Vv × Wd} {sz : Nat} {sl : Nat} (a0 : Int) (td : TT) (c : CC) : Sm (fX5_wordOf_2 a0 td c) (fun x => r = ((0, x), (sz, sl, tt td, cv c))) (WP G Γ muX5_wordOf_2 r 0 [some (2, a0), some (2, 2), none, none, none] [] (sz, sl, tt td, cv c)) := by
  unfold fX5_wordOf_2
  refine s_iconst (pc := 0) dX5_wordOf_0 ?_
  refine s_istore_nD (pc := 1) (ls' := [some (2, a0), some (2, 2), some (0, 0), none, none]) dX5_wordOf_1 rfl (Nat.le_of_ble_eq_true rfl) ?_
  refine s_loop (g := gX5_wordOf_2_l2 G Γ r sz sl td c a0) (Ex := eX5_wordOf_2_l2 G Γ r sz sl td c a0) (s0 := 0) (fun s => sX5_wordOf_2_l2 a0 s td c) ?_
  refine s_elim ?_ ?_
  · intro e_8
    show Sm _ _ (WP G Γ muX5_wordOf_2 r 89 [none, none, some (0, e_8), none, none] [] (sz, sl, tt td, cv c))
    refine s_iload_n (pc := 89) dX5_wordOf_89 rfl ?_
    exact s_iret (pc := 90) dX5_wordOf_90 rfl (fun h => h)
  intro e_9
  show Sm _ _ (WP G Γ muX5_wordOf_2 r 97 [none, none, none, none, none] [] (sz, sl, tt td, cv c))
  refine s_iconst (pc := 97) dX5_wordOf_97 ?_
  exact s_iret (pc := 98) dX5_wordOf_98 rfl (fun h => h)
theorem kX5_wordOf_2 {G : GG} {sz : Nat} {sl : Nat} (a0 : Int) (td : TT) (c : CC) (x : Int) (h : fX5_wordOf_2 a0 td c = some x) : Ct G yX5_wordOf muX5_wordOf_2 [(2, a0), (2, 2)] (sz, sl, tt td, cv c) ((0, x), (sz, sl, tt td, cv c)) :=
  Ct.of (n := 3) (ls0 := [some (2, a0), some (2, 2), none, none, none]) (by decide) rfl rfl ⟨show (some .int : Option FieldType) ≠ some .float by decide, show (some .int : Option FieldType) ≠ some .double by decide⟩ (Nat.le_of_ble_eq_true rfl) rfl ⟨Nat.le_refl _, Nat.le_refl _⟩ (show (0 : Nat) ≠ 9 by decide) (fun Γ => sX5_wordOf_2 a0 td c x h rfl)
theorem mvX5_50_2 : MV RX5 50 RX5 yX5_wordOf muX5_wordOf_2 1 := ⟨lw_V q421 q423 qs5 q130 q424, by decide +kernel, Nat.le_of_ble_eq_true rfl⟩
theorem fpX5_57 (nm : String) : FP RX5 57 4 6 nm := ⟨_, _, _, cf4, by decide, q371, Or.inl rfl⟩
theorem fpX5_57t : fty 4 6 ≠ .boolean ∧ fty 4 6 ≠ .byte ∧ fty 4 6 ≠ .char ∧ fty 4 6 ≠ .short := by decide
theorem flX5_57 : FL RX5 57 4 6 := ⟨_, _, _, cf4, by decide, q371⟩
theorem fpX5_60 (nm : String) : FP RX5 60 4 4 nm := ⟨_, _, _, cf4, by decide, q369, Or.inl rfl⟩
theorem fpX5_60t : fty 4 4 ≠ .boolean ∧ fty 4 4 ≠ .byte ∧ fty 4 4 ≠ .char ∧ fty 4 4 ≠ .short := by decide
abbrev muX5_word : MI := (cX5_word, RX5, 2, none, 6, "word")
abbrev gX5_word_l0 (G : GG) (Γ : Cx) (r : Vv × Wd) (sz sl : Nat) (td : TT) (c : CC) (v0 : Int) : (CC) → Prop := fun s => WP G Γ muX5_word r 0 [some (2, v0), none] [] (sz, sl, tt td, cv s)
abbrev eX5_word_l0 (G : GG) (Γ : Cx) (r : Vv × Wd) (sz sl : Nat) (td : TT) (c : CC) (v0 : Int) : (CC) → Prop := (fun s => WP G Γ muX5_word r 20 [some (2, v0), none] [] (sz, sl, tt td, cv s))
noncomputable def fX5_word_l0 (v0 : Int) (td : TT) (c : CC) : Option ((CC) ⊕ (CC)) :=
  gd ((0 : Int) ≤ v0 ∧ (tt td (Int.toNat v0)).1 = 4) <| cl (fX5_isLetter v0 td c) fun p_1 =>
   if p_1 = 0 then
  (some (.inr c))
  else
  (gd ((0 : Int) ≤ v0 ∧ (tt td (Int.toNat v0)).1 = 4) <|
   gd (inR ((cv c (Int.toNat v0) 2) + 1)) <|
   gd (168 ≤ v0 ∧ (tt td (Int.toNat v0)).1 = 4) <| bd (up2 c (Int.toNat v0) 2 ((cv c (Int.toNat v0) 2) + 1)) fun c_2 =>
   some (.inl c_2))
theorem sX5_word_l0 {G : GG} {Γ : Cx} {r : Vv × Wd} {sz : Nat} {sl : Nat} (v0 : Int) (td : TT) (c : CC) : Sm (fX5_word_l0 v0 td c) (fun x => Sum.elim (gX5_word_l0 G Γ r sz sl td c v0) (eX5_word_l0 G Γ r sz sl td c v0) x) (gX5_word_l0 G Γ r sz sl td c v0 c) := by
  show Sm _ _ (WP G Γ muX5_word r 0 [some (2, v0), none] [] (sz, sl, tt td, cv c))
  unfold fX5_word_l0
  refine s_aload_n (pc := 0) dX5_word_0 rfl ?_
  refine s_callVG (pc := 1) (ci := 4) (as := []) (st := []) (rv := fun b => ((0, b), (sz, sl, tt td, cv c))) (st3 := fun b => [(0, b)]) (w3 := fun b => (sz, sl, tt td, cv c)) mvX5_42 (fun b h => kX5_isLetter v0 td c b h) rfl (by decide) rfl rfl (Nat.le_of_ble_eq_true rfl) (fun _ => Nat.le_of_ble_eq_true rfl) (fun _ => ⟨rfl, rfl⟩) dX5_word_1 (fun p_1 => ?_)
  refine s_if_eq (pc := 4) (tgt := 20) dX5_word_4 rfl ?_ ?_
  · exact Sm.some (fun h => h)
  refine s_aload_n (pc := 7) dX5_word_7 rfl ?_
  refine s_dup (pc := 8) (by decide : ¬ (2 : Nat) = 1) dX5_word_8 ?_
  refine s_getD (pc := 9) flX5_19 rfl dX5_word_9 ?_
  refine s_iconst (pc := 12) dX5_word_12 ?_
  refine s_iadd (pc := 13) dX5_word_13 ?_
  refine s_putDM (pc := 14) (fpX5_19 _) rfl fpX5_19t dX5_word_14 (fun c_2 => ?_)
  refine s_goto (pc := 17) (tgt := 0) dX5_word_17 rfl ?_
  exact Sm.some (fun h => h)
noncomputable def fX5_word (a0 : Int) (td : TT) (c : CC) : Option CC :=
  cl (wh (fun s => fX5_word_l0 a0  td s) c) (fun e_3 =>
  gd ((0 : Int) ≤ a0 ∧ (tt td (Int.toNat a0)).1 = 4) <| cl (fX5_wordOf_1 a0 td e_3) fun p_4 =>
   gd ((0 : Int) ≤ a0 ∧ (tt td (Int.toNat a0)).1 = 4) <| cl (fX5_wordOf_2 a0 td e_3) fun p_5 =>
   gd (168 ≤ a0 ∧ (tt td (Int.toNat a0)).1 = 4) <| bd (up2 e_3 (Int.toNat a0) 6 p_5) fun c_6 =>
   if p_4 < 0 then
  (gd ((0 : Int) ≤ a0 ∧ (tt td (Int.toNat a0)).1 = 4) <|
   if cv c_6 (Int.toNat a0) 6 < 0 then
  (gd (168 ≤ a0 ∧ (tt td (Int.toNat a0)).1 = 4) <| bd (up2 c_6 (Int.toNat a0) 4 303) fun c_7 =>
   some c_7)
  else
  (gd (168 ≤ a0 ∧ (tt td (Int.toNat a0)).1 = 4) <| bd (up2 c_6 (Int.toNat a0) 4 302) fun c_8 =>
   some c_8))
  else
  (gd (inR (310 + p_4)) <|
   gd (168 ≤ a0 ∧ (tt td (Int.toNat a0)).1 = 4) <| bd (up2 c_6 (Int.toNat a0) 4 (310 + p_4)) fun c_9 =>
   some c_9))
theorem sX5_word {G : GG} {Γ : Cx} {r : Vv × Wd} {sz : Nat} {sl : Nat} (a0 : Int) (td : TT) (c : CC) : Sm (fX5_word a0 td c) (fun x => r = ((3, 0), (sz, sl, tt td, cv x))) (WP G Γ muX5_word r 0 [some (2, a0), none] [] (sz, sl, tt td, cv c)) := by
  unfold fX5_word
  refine s_loop (g := gX5_word_l0 G Γ r sz sl td c a0) (Ex := eX5_word_l0 G Γ r sz sl td c a0) (s0 := c) (fun s => sX5_word_l0 a0  td s) ?_
  intro e_3
  show Sm _ _ (WP G Γ muX5_word r 20 [some (2, a0), none] [] (sz, sl, tt td, cv e_3))
  refine s_aload_n (pc := 20) dX5_word_20 rfl ?_
  refine s_getst1 (pc := 21) rfl dX5_word_21 ?_
  refine s_callVG (pc := 24) (ci := 4) (as := [(2, 1)]) (st := []) (rv := fun b => ((0, b), (sz, sl, tt td, cv e_3))) (st3 := fun b => [(0, b)]) (w3 := fun b => (sz, sl, tt td, cv e_3)) mvX5_50_1 (fun b h => kX5_wordOf_1 a0 td e_3 b h) rfl (by decide) rfl rfl (Nat.le_of_ble_eq_true rfl) (fun _ => Nat.le_of_ble_eq_true rfl) (fun _ => ⟨rfl, rfl⟩) dX5_word_24 (fun p_4 => ?_)
  refine s_istore_nD (pc := 27) (ls' := [some (2, a0), some (0, p_4)]) dX5_word_27 rfl (Nat.le_of_ble_eq_true rfl) ?_
  refine s_aload_n (pc := 28) dX5_word_28 rfl ?_
  refine s_aload_n (pc := 29) dX5_word_29 rfl ?_
  refine s_getst2 (pc := 30) rfl dX5_word_30 ?_
  refine s_callVG (pc := 33) (ci := 4) (as := [(2, 2)]) (st := [(2, a0)]) (rv := fun b => ((0, b), (sz, sl, tt td, cv e_3))) (st3 := fun b => [(0, b), (2, a0)]) (w3 := fun b => (sz, sl, tt td, cv e_3)) mvX5_50_2 (fun b h => kX5_wordOf_2 a0 td e_3 b h) rfl (by decide) rfl rfl (Nat.le_of_ble_eq_true rfl) (fun _ => Nat.le_of_ble_eq_true rfl) (fun _ => ⟨rfl, rfl⟩) dX5_word_33 (fun p_5 => ?_)
  refine s_putDM (pc := 36) (fpX5_57 _) rfl fpX5_57t dX5_word_36 (fun c_6 => ?_)
  refine s_aload_n (pc := 39) dX5_word_39 rfl ?_
  refine s_iload_n (pc := 40) dX5_word_40 rfl ?_
  refine s_if_lt (pc := 41) (tgt := 52) dX5_word_41 rfl ?_ ?_
  · refine s_aload_n (pc := 52) dX5_word_52 rfl ?_
    refine s_getD (pc := 53) flX5_57 rfl dX5_word_53 ?_
    refine s_if_lt (pc := 56) (tgt := 65) dX5_word_56 rfl ?_ ?_
    · refine s_sipush (pc := 65) dX5_word_65 ?_
      refine s_putDM (pc := 68) (fpX5_60 _) rfl fpX5_60t dX5_word_68 (fun c_7 => ?_)
      exact s_vret (pc := 71) dX5_word_71 rfl (fun h => h)
    refine s_sipush (pc := 59) dX5_word_59 ?_
    refine s_goto (pc := 62) (tgt := 68) dX5_word_62 rfl ?_
    refine s_putDM (pc := 68) (fpX5_60 _) rfl fpX5_60t dX5_word_68 (fun c_8 => ?_)
    exact s_vret (pc := 71) dX5_word_71 rfl (fun h => h)
  refine s_sipush (pc := 44) dX5_word_44 ?_
  refine s_iload_n (pc := 47) dX5_word_47 rfl ?_
  refine s_iadd (pc := 48) dX5_word_48 ?_
  refine s_goto (pc := 49) (tgt := 68) dX5_word_49 rfl ?_
  refine s_putDM (pc := 68) (fpX5_60 _) rfl fpX5_60t dX5_word_68 (fun c_9 => ?_)
  exact s_vret (pc := 71) dX5_word_71 rfl (fun h => h)
theorem kX5_word {G : GG} {sz : Nat} {sl : Nat} (a0 : Int) (td : TT) (c : CC) (x : CC) (h : fX5_word a0 td c = some x) : Ct G yX5_word muX5_word [(2, a0)] (sz, sl, tt td, cv c) ((3, 0), (sz, sl, tt td, cv x)) :=
  Ct.of (n := 1) (ls0 := [some (2, a0), none]) (by decide) rfl rfl ⟨show (none : Option FieldType) ≠ some .float by decide, show (none : Option FieldType) ≠ some .double by decide⟩ (Nat.le_of_ble_eq_true rfl) rfl ⟨Nat.le_refl _, Nat.le_refl _⟩ (show (3 : Nat) ≠ 9 by decide) (fun Γ => sX5_word a0 td c x h rfl)
theorem fpX5_35 (nm : String) : FP RX5 35 4 3 nm := ⟨_, _, _, cf4, by decide, q368, Or.inl rfl⟩
theorem fpX5_35t : fty 4 3 ≠ .boolean ∧ fty 4 3 ≠ .byte ∧ fty 4 3 ≠ .char ∧ fty 4 3 ≠ .short := by decide
theorem mvX5_66 : MV RX5 66 RX5 yX5_isDigit muX5_isDigit 0 := ⟨lw_V q475 q477 qs6 q130 q478, by decide +kernel, Nat.le_of_ble_eq_true rfl⟩
theorem msX5_79 : MS RX5 79 yX5_isSign muX5_isSign 1 := ⟨lw_S q483 q484 q130 q485, by decide +kernel, by decide⟩
theorem fpX5_69 (nm : String) : FP RX5 69 4 5 nm := ⟨_, _, _, cf4, by decide, q370, Or.inl rfl⟩
theorem fpX5_69t : fty 4 5 ≠ .boolean ∧ fty 4 5 ≠ .byte ∧ fty 4 5 ≠ .char ∧ fty 4 5 ≠ .short := by decide
theorem flX5_69 : FL RX5 69 4 5 := ⟨_, _, _, cf4, by decide, q370⟩
theorem mvX5_63 : MV RX5 63 RX5 yX5_word muX5_word 0 := ⟨lw_V q415 q417 qs4 q130 q418, by decide +kernel, Nat.le_of_ble_eq_true rfl⟩
abbrev muX5_next : MI := (cX5_next, RX5, 2, none, 7, "next")
noncomputable def fX5_next_j18 (v0 : Int) (td : TT) (c : CC) : Option ((CC) ⊕ (CC)) :=
  gd ((0 : Int) ≤ v0 ∧ (tt td (Int.toNat v0)).1 = 4) <|
   gd (inR ((cv c (Int.toNat v0) 2) + 1)) <|
   gd (168 ≤ v0 ∧ (tt td (Int.toNat v0)).1 = 4) <| bd (up2 c (Int.toNat v0) 2 ((cv c (Int.toNat v0) 2) + 1)) fun c_2 =>
   some (.inl c_2)
abbrev gX5_next_l0 (G : GG) (Γ : Cx) (r : Vv × Wd) (sz sl : Nat) (td : TT) (c : CC) (v0 : Int) : (CC) → Prop := fun s => WP G Γ muX5_next r 0 [some (2, v0), none] [] (sz, sl, tt td, cv s)
abbrev eX5_next_l0 (G : GG) (Γ : Cx) (r : Vv × Wd) (sz sl : Nat) (td : TT) (c : CC) (v0 : Int) : (CC) → Prop := (fun s => WP G Γ muX5_next r 31 [some (2, v0), none] [] (sz, sl, tt td, cv s))
theorem sX5_next_j18 {G : GG} {Γ : Cx} {r : Vv × Wd} {sz : Nat} {sl : Nat} (v0 : Int) (td : TT) (c : CC) : Sm (fX5_next_j18 v0 td c) (fun x => Sum.elim (gX5_next_l0 G Γ r sz sl td c v0) (eX5_next_l0 G Γ r sz sl td c v0) x) (WP G Γ muX5_next r 18 [some (2, v0), none] [] (sz, sl, tt td, cv c)) := by
  unfold fX5_next_j18
  refine s_aload_n (pc := 18) dX5_next_18 rfl ?_
  refine s_dup (pc := 19) (by decide : ¬ (2 : Nat) = 1) dX5_next_19 ?_
  refine s_getD (pc := 20) flX5_19 rfl dX5_next_20 ?_
  refine s_iconst (pc := 23) dX5_next_23 ?_
  refine s_iadd (pc := 24) dX5_next_24 ?_
  refine s_putDM (pc := 25) (fpX5_19 _) rfl fpX5_19t dX5_next_25 (fun c_2 => ?_)
  refine s_goto (pc := 28) (tgt := 0) dX5_next_28 rfl ?_
  exact Sm.some (fun h => h)
noncomputable def fX5_next_l0 (v0 : Int) (td : TT) (c : CC) : Option ((CC) ⊕ (CC)) :=
  gd ((0 : Int) ≤ v0 ∧ (tt td (Int.toNat v0)).1 = 4) <| cl (fX5_see v0 td c) fun p_1 =>
   if p_1 = 32 then
  (fX5_next_j18 v0 td c)
  else
  (gd ((0 : Int) ≤ v0 ∧ (tt td (Int.toNat v0)).1 = 4) <| cl (fX5_see v0 td c) fun p_3 =>
   if p_3 = 10 then
  (fX5_next_j18 v0 td c)
  else
  (some (.inr c)))
theorem sX5_next_l0 {G : GG} {Γ : Cx} {r : Vv × Wd} {sz : Nat} {sl : Nat} (v0 : Int) (td : TT) (c : CC) : Sm (fX5_next_l0 v0 td c) (fun x => Sum.elim (gX5_next_l0 G Γ r sz sl td c v0) (eX5_next_l0 G Γ r sz sl td c v0) x) (gX5_next_l0 G Γ r sz sl td c v0 c) := by
  show Sm _ _ (WP G Γ muX5_next r 0 [some (2, v0), none] [] (sz, sl, tt td, cv c))
  unfold fX5_next_l0
  refine s_aload_n (pc := 0) dX5_next_0 rfl ?_
  refine s_callVG (pc := 1) (ci := 4) (as := []) (st := []) (rv := fun b => ((0, b), (sz, sl, tt td, cv c))) (st3 := fun b => [(0, b)]) (w3 := fun b => (sz, sl, tt td, cv c)) mvX5_22 (fun b h => kX5_see v0 td c b h) rfl (by decide) rfl rfl (Nat.le_of_ble_eq_true rfl) (fun _ => Nat.le_of_ble_eq_true rfl) (fun _ => ⟨rfl, rfl⟩) dX5_next_1 (fun p_1 => ?_)
  refine s_bipush (pc := 4) dX5_next_4 ?_
  refine s_icmp_eq (pc := 6) (tgt := 18) dX5_next_6 rfl ?_ ?_
  · exact sX5_next_j18 v0 td c
  refine s_aload_n (pc := 9) dX5_next_9 rfl ?_
  refine s_callVG (pc := 10) (ci := 4) (as := []) (st := []) (rv := fun b => ((0, b), (sz, sl, tt td, cv c))) (st3 := fun b => [(0, b)]) (w3 := fun b => (sz, sl, tt td, cv c)) mvX5_22 (fun b h => kX5_see v0 td c b h) rfl (by decide) rfl rfl (Nat.le_of_ble_eq_true rfl) (fun _ => Nat.le_of_ble_eq_true rfl) (fun _ => ⟨rfl, rfl⟩) dX5_next_10 (fun p_3 => ?_)
  refine s_bipush (pc := 13) dX5_next_13 ?_
  refine s_icmp_ne (pc := 15) (tgt := 31) dX5_next_15 rfl ?_ ?_
  · exact Sm.some (fun h => h)
  exact sX5_next_j18 v0 td c
noncomputable def fX5_next_j180 (v0 : Int) (v1 : Int) (td : TT) (c : CC) : Option CC :=
  gd ((0 : Int) ≤ v0 ∧ (tt td (Int.toNat v0)).1 = 4) <| cl (fX5_see v0 td c) fun p_13 =>
   if p_13 = 61 then
  (gd ((0 : Int) ≤ v0 ∧ (tt td (Int.toNat v0)).1 = 4) <|
   gd (inR ((cv c (Int.toNat v0) 2) + 1)) <|
   gd (168 ≤ v0 ∧ (tt td (Int.toNat v0)).1 = 4) <| bd (up2 c (Int.toNat v0) 2 ((cv c (Int.toNat v0) 2) + 1)) fun c_14 =>
   if v1 = 60 then
  (gd (168 ≤ v0 ∧ (tt td (Int.toNat v0)).1 = 4) <| bd (up2 c_14 (Int.toNat v0) 4 304) fun c_16 =>
   some c_16)
  else
  (gd (168 ≤ v0 ∧ (tt td (Int.toNat v0)).1 = 4) <| bd (up2 c_14 (Int.toNat v0) 4 305) fun c_15 =>
   some c_15))
  else
  (some c)
theorem sX5_next_j180 {G : GG} {Γ : Cx} {r : Vv × Wd} {sz : Nat} {sl : Nat} (v0 : Int) (v1 : Int) (td : TT) (c : CC) : Sm (fX5_next_j180 v0 v1 td c) (fun x => r = ((3, 0), (sz, sl, tt td, cv x))) (WP G Γ muX5_next r 180 [some (2, v0), some (0, v1)] [] (sz, sl, tt td, cv c)) := by
  unfold fX5_next_j180
  refine s_aload_n (pc := 180) dX5_next_180 rfl ?_
  refine s_callVG (pc := 181) (ci := 4) (as := []) (st := []) (rv := fun b => ((0, b), (sz, sl, tt td, cv c))) (st3 := fun b => [(0, b)]) (w3 := fun b => (sz, sl, tt td, cv c)) mvX5_22 (fun b h => kX5_see v0 td c b h) rfl (by decide) rfl rfl (Nat.le_of_ble_eq_true rfl) (fun _ => Nat.le_of_ble_eq_true rfl) (fun _ => ⟨rfl, rfl⟩) dX5_next_181 (fun p_13 => ?_)
  refine s_bipush (pc := 184) dX5_next_184 ?_
  refine s_icmp_ne (pc := 186) (tgt := 218) dX5_next_186 rfl ?_ ?_
  · exact s_vret (pc := 218) dX5_next_218 rfl (fun h => h)
  refine s_aload_n (pc := 189) dX5_next_189 rfl ?_
  refine s_dup (pc := 190) (by decide : ¬ (2 : Nat) = 1) dX5_next_190 ?_
  refine s_getD (pc := 191) flX5_19 rfl dX5_next_191 ?_
  refine s_iconst (pc := 194) dX5_next_194 ?_
  refine s_iadd (pc := 195) dX5_next_195 ?_
  refine s_putDM (pc := 196) (fpX5_19 _) rfl fpX5_19t dX5_next_196 (fun c_14 => ?_)
  refine s_aload_n (pc := 199) dX5_next_199 rfl ?_
  refine s_iload_n (pc := 200) dX5_next_200 rfl ?_
  refine s_bipush (pc := 201) dX5_next_201 ?_
  refine s_icmp_ne (pc := 203) (tgt := 212) dX5_next_203 rfl ?_ ?_
  · refine s_sipush (pc := 212) dX5_next_212 ?_
    refine s_putDM (pc := 215) (fpX5_60 _) rfl fpX5_60t dX5_next_215 (fun c_15 => ?_)
    exact s_vret (pc := 218) dX5_next_218 rfl (fun h => h)
  refine s_sipush (pc := 206) dX5_next_206 ?_
  refine s_goto (pc := 209) (tgt := 215) dX5_next_209 rfl ?_
  refine s_putDM (pc := 215) (fpX5_60 _) rfl fpX5_60t dX5_next_215 (fun c_16 => ?_)
  exact s_vret (pc := 218) dX5_next_218 rfl (fun h => h)
noncomputable def fX5_next_j165 (v0 : Int) (v1 : Int) (w0 : Int) (w1 : Int) (td : TT) (c : CC) : Option CC :=
  gd (168 ≤ w1 ∧ (tt td (Int.toNat w1)).1 = 4) <| bd (up2 c (Int.toNat w1) 4 w0) fun c_12 =>
   if v1 = 60 then
  (fX5_next_j180 v0 v1 td c_12)
  else
  (if v1 = 62 then
  (fX5_next_j180 v0 v1 td c_12)
  else
  (some c_12))
theorem sX5_next_j165 {G : GG} {Γ : Cx} {r : Vv × Wd} {sz : Nat} {sl : Nat} (v0 : Int) (v1 : Int) (w0 : Int) (w1 : Int) (td : TT) (c : CC) : Sm (fX5_next_j165 v0 v1 w0 w1 td c) (fun x => r = ((3, 0), (sz, sl, tt td, cv x))) (WP G Γ muX5_next r 165 [some (2, v0), some (0, v1)] [(0, w0), (2, w1)] (sz, sl, tt td, cv c)) := by
  unfold fX5_next_j165
  refine s_putDM (pc := 165) (fpX5_60 _) rfl fpX5_60t dX5_next_165 (fun c_12 => ?_)
  refine s_iload_n (pc := 168) dX5_next_168 rfl ?_
  refine s_bipush (pc := 169) dX5_next_169 ?_
  refine s_icmp_eq (pc := 171) (tgt := 180) dX5_next_171 rfl ?_ ?_
  · exact sX5_next_j180 v0 v1 td c_12
  refine s_iload_n (pc := 174) dX5_next_174 rfl ?_
  refine s_bipush (pc := 175) dX5_next_175 ?_
  refine s_icmp_ne (pc := 177) (tgt := 218) dX5_next_177 rfl ?_ ?_
  · exact s_vret (pc := 218) dX5_next_218 rfl (fun h => h)
  exact sX5_next_j180 v0 v1 td c_12
abbrev gX5_next_l96 (G : GG) (Γ : Cx) (r : Vv × Wd) (sz sl : Nat) (td : TT) (c : CC) (v0 : Int) : (CC) → Prop := fun s => WP G Γ muX5_next r 96 [some (2, v0), none] [] (sz, sl, tt td, cv s)
abbrev eX5_next_l96 (G : GG) (Γ : Cx) (r : Vv × Wd) (sz sl : Nat) (td : TT) (c : CC) (v0 : Int) : (CC) → Prop := (fun s => WP G Γ muX5_next r 218 [none, none] [] (sz, sl, tt td, cv s))
noncomputable def fX5_next_l96 (v0 : Int) (td : TT) (c : CC) : Option ((CC) ⊕ (CC)) :=
  gd ((0 : Int) ≤ v0 ∧ (tt td (Int.toNat v0)).1 = 4) <| cl (fX5_isDigit v0 td c) fun p_19 =>
   if p_19 = 0 then
  (some (.inr c))
  else
  (gd ((0 : Int) ≤ v0 ∧ (tt td (Int.toNat v0)).1 = 4) <|
   gd (inR (10 * (cv c (Int.toNat v0) 5))) <|
   gd ((0 : Int) ≤ v0 ∧ (tt td (Int.toNat v0)).1 = 4) <| cl (fX5_see v0 td c) fun p_20 =>
   gd (inR ((10 * (cv c (Int.toNat v0) 5)) + p_20)) <|
   gd (inR (((10 * (cv c (Int.toNat v0) 5)) + p_20) - 48)) <|
    gd (168 ≤ v0 ∧ (tt td (Int.toNat v0)).1 = 4) <| bd (up2 c (Int.toNat v0) 5 (min 100000 (((10 * (cv c (Int.toNat v0) 5)) + p_20) - 48))) fun c_22 =>
   gd ((0 : Int) ≤ v0 ∧ (tt td (Int.toNat v0)).1 = 4) <|
   gd (inR ((cv c_22 (Int.toNat v0) 2) + 1)) <|
   gd (168 ≤ v0 ∧ (tt td (Int.toNat v0)).1 = 4) <| bd (up2 c_22 (Int.toNat v0) 2 ((cv c_22 (Int.toNat v0) 2) + 1)) fun c_23 =>
   some (.inl c_23))
theorem sX5_next_l96 {G : GG} {Γ : Cx} {r : Vv × Wd} {sz : Nat} {sl : Nat} (v0 : Int) (td : TT) (c : CC) : Sm (fX5_next_l96 v0 td c) (fun x => Sum.elim (gX5_next_l96 G Γ r sz sl td c v0) (eX5_next_l96 G Γ r sz sl td c v0) x) (gX5_next_l96 G Γ r sz sl td c v0 c) := by
  show Sm _ _ (WP G Γ muX5_next r 96 [some (2, v0), none] [] (sz, sl, tt td, cv c))
  unfold fX5_next_l96
  refine s_aload_n (pc := 96) dX5_next_96 rfl ?_
  refine s_callVG (pc := 97) (ci := 4) (as := []) (st := []) (rv := fun b => ((0, b), (sz, sl, tt td, cv c))) (st3 := fun b => [(0, b)]) (w3 := fun b => (sz, sl, tt td, cv c)) mvX5_66 (fun b h => kX5_isDigit v0 td c b h) rfl (by decide) rfl rfl (Nat.le_of_ble_eq_true rfl) (fun _ => Nat.le_of_ble_eq_true rfl) (fun _ => ⟨rfl, rfl⟩) dX5_next_97 (fun p_19 => ?_)
  refine s_if_eq (pc := 100) (tgt := 218) dX5_next_100 rfl ?_ ?_
  · refine s_wk [false, true] (ls' := [none, none]) rfl ?_
    exact Sm.some (fun h => h)
  refine s_aload_n (pc := 103) dX5_next_103 rfl ?_
  refine s_ldc (pc := 104) (z := 100000) q479 dX5_next_104 ?_
  refine s_bipush (pc := 106) dX5_next_106 ?_
  refine s_aload_n (pc := 108) dX5_next_108 rfl ?_
  refine s_getD (pc := 109) flX5_69 rfl dX5_next_109 ?_
  refine s_imul (pc := 112) dX5_next_112 ?_
  refine s_aload_n (pc := 113) dX5_next_113 rfl ?_
  refine s_callVG (pc := 114) (ci := 4) (as := []) (st := [(0, 10 * (cv c (Int.toNat v0) 5)), (0, 100000), (2, v0)]) (rv := fun b => ((0, b), (sz, sl, tt td, cv c))) (st3 := fun b => [(0, b), (0, 10 * (cv c (Int.toNat v0) 5)), (0, 100000), (2, v0)]) (w3 := fun b => (sz, sl, tt td, cv c)) mvX5_22 (fun b h => kX5_see v0 td c b h) rfl (by decide) rfl rfl (Nat.le_of_ble_eq_true rfl) (fun _ => Nat.le_of_ble_eq_true rfl) (fun _ => ⟨rfl, rfl⟩) dX5_next_114 (fun p_20 => ?_)
  refine s_iadd (pc := 117) dX5_next_117 ?_
  refine s_bipush (pc := 118) dX5_next_118 ?_
  refine s_isub (pc := 120) dX5_next_120 ?_
  refine s_imin (a := 100000) (b := ((10 * (cv c (Int.toNat v0) 5)) + p_20) - 48) (st := [(2, v0)]) q480 dX5_next_121 (by decide) (Nat.le_of_ble_eq_true rfl) ?_
  refine s_putDM (pc := 124) (fpX5_69 _) rfl fpX5_69t dX5_next_124 (fun c_22 => ?_)
  refine s_aload_n (pc := 127) dX5_next_127 rfl ?_
  refine s_dup (pc := 128) (by decide : ¬ (2 : Nat) = 1) dX5_next_128 ?_
  refine s_getD (pc := 129) flX5_19 rfl dX5_next_129 ?_
  refine s_iconst (pc := 132) dX5_next_132 ?_
  refine s_iadd (pc := 133) dX5_next_133 ?_
  refine s_putDM (pc := 134) (fpX5_19 _) rfl fpX5_19t dX5_next_134 (fun c_23 => ?_)
  refine s_goto (pc := 137) (tgt := 96) dX5_next_137 rfl ?_
  exact Sm.some (fun h => h)
noncomputable def fX5_next (a0 : Int) (td : TT) (c : CC) : Option CC :=
  cl (wh (fun s => fX5_next_l0 a0  td s) c) (fun e_4 =>
  gd ((0 : Int) ≤ a0 ∧ (tt td (Int.toNat a0)).1 = 4) <|
   gd (168 ≤ a0 ∧ (tt td (Int.toNat a0)).1 = 4) <| bd (up2 e_4 (Int.toNat a0) 3 (cv e_4 (Int.toNat a0) 2)) fun c_5 =>
   gd (168 ≤ a0 ∧ (tt td (Int.toNat a0)).1 = 4) <| bd (up2 c_5 (Int.toNat a0) 6 (-1)) fun c_6 =>
   gd ((0 : Int) ≤ a0 ∧ (tt td (Int.toNat a0)).1 = 4) <| cl (fX5_see a0 td c_6) fun p_7 =>
   if p_7 < 0 then
  (gd (168 ≤ a0 ∧ (tt td (Int.toNat a0)).1 = 4) <| bd (up2 c_6 (Int.toNat a0) 4 300) fun c_26 =>
   some c_26)
  else
  (gd ((0 : Int) ≤ a0 ∧ (tt td (Int.toNat a0)).1 = 4) <| cl (fX5_isLetter a0 td c_6) fun p_8 =>
   if p_8 = 0 then
  (gd ((0 : Int) ≤ a0 ∧ (tt td (Int.toNat a0)).1 = 4) <| cl (fX5_isDigit a0 td c_6) fun p_9 =>
   if p_9 = 0 then
  (gd ((0 : Int) ≤ a0 ∧ (tt td (Int.toNat a0)).1 = 4) <|
   gd (inR ((cv c_6 (Int.toNat a0) 2) + 1)) <|
   gd (168 ≤ a0 ∧ (tt td (Int.toNat a0)).1 = 4) <| bd (up2 c_6 (Int.toNat a0) 2 ((cv c_6 (Int.toNat a0) 2) + 1)) fun c_10 =>
   cl (fX5_isSign p_7 ) fun p_11 =>
   if p_11 = 0 then
  (fX5_next_j165 a0 p_7 303 a0 td c_10)
  else
  (fX5_next_j165 a0 p_7 p_7 a0 td c_10))
  else
  (gd (168 ≤ a0 ∧ (tt td (Int.toNat a0)).1 = 4) <| bd (up2 c_6 (Int.toNat a0) 4 301) fun c_17 =>
   gd (168 ≤ a0 ∧ (tt td (Int.toNat a0)).1 = 4) <| bd (up2 c_17 (Int.toNat a0) 5 0) fun c_18 =>
   cl (wh (fun s => fX5_next_l96 a0  td s) c_18) (fun e_24 =>
  some e_24)))
  else
  (gd ((0 : Int) ≤ a0 ∧ (tt td (Int.toNat a0)).1 = 4) <| cl (fX5_word a0 td c_6) fun p_25 =>
   some p_25)))
theorem sX5_next {G : GG} {Γ : Cx} {r : Vv × Wd} {sz : Nat} {sl : Nat} (a0 : Int) (td : TT) (c : CC) : Sm (fX5_next a0 td c) (fun x => r = ((3, 0), (sz, sl, tt td, cv x))) (WP G Γ muX5_next r 0 [some (2, a0), none] [] (sz, sl, tt td, cv c)) := by
  unfold fX5_next
  refine s_loop (g := gX5_next_l0 G Γ r sz sl td c a0) (Ex := eX5_next_l0 G Γ r sz sl td c a0) (s0 := c) (fun s => sX5_next_l0 a0  td s) ?_
  intro e_4
  show Sm _ _ (WP G Γ muX5_next r 31 [some (2, a0), none] [] (sz, sl, tt td, cv e_4))
  refine s_aload_n (pc := 31) dX5_next_31 rfl ?_
  refine s_aload_n (pc := 32) dX5_next_32 rfl ?_
  refine s_getD (pc := 33) flX5_19 rfl dX5_next_33 ?_
  refine s_putDM (pc := 36) (fpX5_35 _) rfl fpX5_35t dX5_next_36 (fun c_5 => ?_)
  refine s_aload_n (pc := 39) dX5_next_39 rfl ?_
  refine s_iconst (pc := 40) dX5_next_40 ?_
  refine s_putDM (pc := 41) (fpX5_57 _) rfl fpX5_57t dX5_next_41 (fun c_6 => ?_)
  refine s_aload_n (pc := 44) dX5_next_44 rfl ?_
  refine s_callVG (pc := 45) (ci := 4) (as := []) (st := []) (rv := fun b => ((0, b), (sz, sl, tt td, cv c_6))) (st3 := fun b => [(0, b)]) (w3 := fun b => (sz, sl, tt td, cv c_6)) mvX5_22 (fun b h => kX5_see a0 td c_6 b h) rfl (by decide) rfl rfl (Nat.le_of_ble_eq_true rfl) (fun _ => Nat.le_of_ble_eq_true rfl) (fun _ => ⟨rfl, rfl⟩) dX5_next_45 (fun p_7 => ?_)
  refine s_istore_nD (pc := 48) (ls' := [some (2, a0), some (0, p_7)]) dX5_next_48 rfl (Nat.le_of_ble_eq_true rfl) ?_
  refine s_iload_n (pc := 49) dX5_next_49 rfl ?_
  refine s_if_ge (pc := 50) (tgt := 63) dX5_next_50 rfl ?_ ?_
  · refine s_aload_n (pc := 63) dX5_next_63 rfl ?_
    refine s_callVG (pc := 64) (ci := 4) (as := []) (st := []) (rv := fun b => ((0, b), (sz, sl, tt td, cv c_6))) (st3 := fun b => [(0, b)]) (w3 := fun b => (sz, sl, tt td, cv c_6)) mvX5_42 (fun b h => kX5_isLetter a0 td c_6 b h) rfl (by decide) rfl rfl (Nat.le_of_ble_eq_true rfl) (fun _ => Nat.le_of_ble_eq_true rfl) (fun _ => ⟨rfl, rfl⟩) dX5_next_64 (fun p_8 => ?_)
    refine s_if_eq (pc := 67) (tgt := 77) dX5_next_67 rfl ?_ ?_
    · refine s_aload_n (pc := 77) dX5_next_77 rfl ?_
      refine s_callVG (pc := 78) (ci := 4) (as := []) (st := []) (rv := fun b => ((0, b), (sz, sl, tt td, cv c_6))) (st3 := fun b => [(0, b)]) (w3 := fun b => (sz, sl, tt td, cv c_6)) mvX5_66 (fun b h => kX5_isDigit a0 td c_6 b h) rfl (by decide) rfl rfl (Nat.le_of_ble_eq_true rfl) (fun _ => Nat.le_of_ble_eq_true rfl) (fun _ => ⟨rfl, rfl⟩) dX5_next_78 (fun p_9 => ?_)
      refine s_if_eq (pc := 81) (tgt := 140) dX5_next_81 rfl ?_ ?_
      · refine s_aload_n (pc := 140) dX5_next_140 rfl ?_
        refine s_dup (pc := 141) (by decide : ¬ (2 : Nat) = 1) dX5_next_141 ?_
        refine s_getD (pc := 142) flX5_19 rfl dX5_next_142 ?_
        refine s_iconst (pc := 145) dX5_next_145 ?_
        refine s_iadd (pc := 146) dX5_next_146 ?_
        refine s_putDM (pc := 147) (fpX5_19 _) rfl fpX5_19t dX5_next_147 (fun c_10 => ?_)
        refine s_aload_n (pc := 150) dX5_next_150 rfl ?_
        refine s_iload_n (pc := 151) dX5_next_151 rfl ?_
        refine s_callS3 (pc := 152) (as := [(0, p_7)]) (st := [(2, a0)]) (rv := fun b => ((0, b), (sz, sl, tt td, cv c_10))) (st3 := fun b => [(0, b), (2, a0)]) (w3 := fun b => (sz, sl, tt td, cv c_10)) msX5_79 (fun b h => kX5_isSign p_7 c_10 b h) rfl (by decide) rfl (Nat.le_of_ble_eq_true rfl) (fun _ => Nat.le_of_ble_eq_true rfl) (fun _ => ⟨rfl, rfl⟩) dX5_next_152 (fun p_11 => ?_)
        refine s_if_eq (pc := 155) (tgt := 162) dX5_next_155 rfl ?_ ?_
        · refine s_sipush (pc := 162) dX5_next_162 ?_
          exact sX5_next_j165 a0 p_7 303 a0 td c_10
        refine s_iload_n (pc := 158) dX5_next_158 rfl ?_
        refine s_goto (pc := 159) (tgt := 165) dX5_next_159 rfl ?_
        exact sX5_next_j165 a0 p_7 p_7 a0 td c_10
      refine s_aload_n (pc := 84) dX5_next_84 rfl ?_
      refine s_sipush (pc := 85) dX5_next_85 ?_
      refine s_putDM (pc := 88) (fpX5_60 _) rfl fpX5_60t dX5_next_88 (fun c_17 => ?_)
      refine s_aload_n (pc := 91) dX5_next_91 rfl ?_
      refine s_iconst (pc := 92) dX5_next_92 ?_
      refine s_putDM (pc := 93) (fpX5_69 _) rfl fpX5_69t dX5_next_93 (fun c_18 => ?_)
      refine s_wk [true, false] (ls' := [some (2, a0), none]) rfl ?_
      refine s_loop (g := gX5_next_l96 G Γ r sz sl td c_18 a0) (Ex := eX5_next_l96 G Γ r sz sl td c_18 a0) (s0 := c_18) (fun s => sX5_next_l96 a0  td s) ?_
      intro e_24
      show Sm _ _ (WP G Γ muX5_next r 218 [none, none] [] (sz, sl, tt td, cv e_24))
      exact s_vret (pc := 218) dX5_next_218 rfl (fun h => h)
    refine s_aload_n (pc := 70) dX5_next_70 rfl ?_
    refine s_callVG (pc := 71) (ci := 4) (as := []) (st := []) (rv := fun b => ((3, 0), (sz, sl, tt td, cv b))) (st3 := fun b => []) (w3 := fun b => (sz, sl, tt td, cv b)) mvX5_63 (fun b h => kX5_word a0 td c_6 b h) rfl (by decide) rfl rfl (Nat.le_of_ble_eq_true rfl) (fun _ => Nat.le_of_ble_eq_true rfl) (fun _ => ⟨rfl, rfl⟩) dX5_next_71 (fun p_25 => ?_)
    refine s_goto (pc := 74) (tgt := 218) dX5_next_74 rfl ?_
    exact s_vret (pc := 218) dX5_next_218 rfl (fun h => h)
  refine s_aload_n (pc := 53) dX5_next_53 rfl ?_
  refine s_sipush (pc := 54) dX5_next_54 ?_
  refine s_putDM (pc := 57) (fpX5_60 _) rfl fpX5_60t dX5_next_57 (fun c_26 => ?_)
  refine s_goto (pc := 60) (tgt := 218) dX5_next_60 rfl ?_
  exact s_vret (pc := 218) dX5_next_218 rfl (fun h => h)
theorem kX5_next {G : GG} {sz : Nat} {sl : Nat} (a0 : Int) (td : TT) (c : CC) (x : CC) (h : fX5_next a0 td c = some x) : Ct G yX5_next muX5_next [(2, a0)] (sz, sl, tt td, cv c) ((3, 0), (sz, sl, tt td, cv x)) :=
  Ct.of (n := 1) (ls0 := [some (2, a0), none]) (by decide) rfl rfl ⟨show (none : Option FieldType) ≠ some .float by decide, show (none : Option FieldType) ≠ some .double by decide⟩ (Nat.le_of_ble_eq_true rfl) rfl ⟨Nat.le_refl _, Nat.le_refl _⟩ (show (3 : Nat) ≠ 9 by decide) (fun Γ => sX5_next a0 td c x h rfl)
theorem fqX6_7 : FP RX6 7 5 6 "<init>" := ⟨_, _, _, cf5, by decide, q541, Or.inr ⟨rfl, rfl, rfl⟩⟩
theorem fqX6_7t : fty 5 6 ≠ .boolean ∧ fty 5 6 ≠ .byte ∧ fty 5 6 ≠ .char ∧ fty 5 6 ≠ .short := by decide
theorem fqX6_13 : FP RX6 13 5 7 "<init>" := ⟨_, _, _, cf5, by decide, q543, Or.inr ⟨rfl, rfl, rfl⟩⟩
theorem fqX6_13t : fty 5 7 ≠ .boolean ∧ fty 5 7 ≠ .byte ∧ fty 5 7 ≠ .char ∧ fty 5 7 ≠ .short := by decide
abbrev muX6_init : MI := (cX6_init, RX6, 3, none, 6, "<init>")
noncomputable def fX6_init (a0 : Int) (a1 : Int) (a2 : Int) (td : TT) (c : CC) : Option CC :=
  gd (168 ≤ a0 ∧ tt td (Int.toNat a0) = (5, 8) ∧ c (Int.toNat a0) 0 = -1 ∧ c (Int.toNat a0) 1 = -1 ∧ c (Int.toNat a0) 2 = -1 ∧ c (Int.toNat a0) 3 = -1) <|
   gd (168 ≤ a0 ∧ (tt td (Int.toNat a0)).1 = 5) <| bd (up2 c (Int.toNat a0) 6 a1) fun c_2 =>
   gd (168 ≤ a0 ∧ (tt td (Int.toNat a0)).1 = 5) <| bd (up2 c_2 (Int.toNat a0) 7 a2) fun c_3 =>
   some c_3
theorem sX6_init {G : GG} {Γ : Cx} {r : Vv × Wd} {sz : Nat} {sl : Nat} (a0 : Int) (a1 : Int) (a2 : Int) (td : TT) (c : CC) : Sm (fX6_init a0 a1 a2 td c) (fun x => r = ((3, 0), (sz, sl, tt td, cv x))) (WP G Γ muX6_init r 0 [some (2, a0), some (0, a1), some (0, a2)] [] (sz, sl, tt td, cv c)) := by
  unfold fX6_init
  refine s_aload_n (pc := 0) dX6_init_0 rfl ?_
  refine s_null (pc := 1) dX6_init_1 ?_
  refine s_null (pc := 2) dX6_init_2 ?_
  refine s_iconst (pc := 3) dX6_init_3 ?_
  refine s_iconst (pc := 4) dX6_init_4 ?_
  refine s_excInit (pc := 5) (st := []) rfl (by decide) (Nat.le_of_ble_eq_true rfl) dX6_init_5 ?_
  refine s_aload_n (pc := 8) dX6_init_8 rfl ?_
  refine s_iload_n (pc := 9) dX6_init_9 rfl ?_
  refine s_putDM (pc := 10) fqX6_7 rfl fqX6_7t dX6_init_10 (fun c_2 => ?_)
  refine s_aload_n (pc := 13) dX6_init_13 rfl ?_
  refine s_iload_n (pc := 14) dX6_init_14 rfl ?_
  refine s_putDM (pc := 15) fqX6_13 rfl fqX6_13t dX6_init_15 (fun c_3 => ?_)
  exact s_vret (pc := 18) dX6_init_18 rfl (fun h => h)
theorem kX6_init {G : GG} {sz : Nat} {sl : Nat} (a0 : Int) (a1 : Int) (a2 : Int) (td : TT) (c : CC) (x : CC) (h : fX6_init a0 a1 a2 td c = some x) : Ct G yX6_init muX6_init [(2, a0), (0, a1), (0, a2)] (sz, sl, tt td, cv c) ((3, 0), (sz, sl, tt td, cv x)) :=
  Ct.of (n := 0) (ls0 := [some (2, a0), some (0, a1), some (0, a2)]) (by decide) rfl rfl ⟨show (none : Option FieldType) ≠ some .float by decide, show (none : Option FieldType) ≠ some .double by decide⟩ (Nat.le_of_ble_eq_true rfl) rfl ⟨Nat.le_refl _, Nat.le_refl _⟩ (show (3 : Nat) ≠ 9 by decide) (fun Γ => sX6_init a0 a1 a2 td c x h rfl)
theorem miX5_85 : MIn RX5 85 yX6_init muX6_init 2 := ⟨lw_meth q531, rfl, q139, q529, q530, rfl, by decide +kernel, by decide⟩
abbrev muX5_wrong : MI := (cX5_wrong, RX5, 2, some (.object "HeldTongue$Wrong"), 7, "wrong")
noncomputable def fX5_wrong (a0 : Int) (a1 : Int) (sz : Nat) (sl : Nat) (td : TT) (c : CC) : Option (Int × Nat × Nat × TT × CC) :=
  gd (kK ≤ sz) <| bd (upT td sz (5, 8)) fun tq_1 => bd (zc c sz 5) fun c_2 =>
   gd ((0 : Int) ≤ a0 ∧ (tt tq_1 (Int.toNat a0)).1 = 4) <|
   gd ((0 : Int) ≤ ((sz : Nat) : Int)) <| cl (fX6_init (((sz : Nat) : Int)) a1 (cv c_2 (Int.toNat a0) 3) tq_1 c_2) fun p_3 =>
   some ((((sz : Nat) : Int)), (sz + 1), (sl + 8), tq_1, p_3)
theorem sX5_wrong {G : GG} {Γ : Cx} {r : Vv × Wd}  (a0 : Int) (a1 : Int) (sz : Nat) (sl : Nat) (td : TT) (c : CC) : Sm (fX5_wrong a0 a1 sz sl td c) (fun x => r = ((2, x.1), (x.2.1, x.2.2.1, tt x.2.2.2.1, cv x.2.2.2.2))) (WP G Γ muX5_wrong r 0 [some (2, a0), some (0, a1)] [] (sz, sl, tt td, cv c)) := by
  unfold fX5_wrong
  refine s_newM (pc := 0) cf5 q490 q491 q139 dX5_wrong_0 (fun tq_1 c_2 => ?_)
  refine s_dup (pc := 3) (by decide : ¬ (2 : Nat) = 1) dX5_wrong_3 ?_
  refine s_iload_n (pc := 4) dX5_wrong_4 rfl ?_
  refine s_aload_n (pc := 5) dX5_wrong_5 rfl ?_
  refine s_getD (pc := 6) flX5_35 rfl dX5_wrong_6 ?_
  refine s_callI3 (pc := 9) (as := [(0, a1), (0, cv c_2 (Int.toNat a0) 3)]) (st := [(2, ((sz : Nat) : Int))]) (rv := fun b => ((3, 0), (sz + 1, sl + 8, tt tq_1, cv b))) (st3 := fun b => [(2, ((sz : Nat) : Int))]) (w3 := fun b => (sz + 1, sl + 8, tt tq_1, cv b)) miX5_85 (fun b h => kX6_init (((sz : Nat) : Int)) a1 (cv c_2 (Int.toNat a0) 3) tq_1 c_2 b h) rfl (by decide) rfl (Nat.le_of_ble_eq_true rfl) (fun _ => Nat.le_of_ble_eq_true rfl) (fun _ => ⟨rfl, rfl⟩) dX5_wrong_9 (fun p_3 => ?_)
  exact s_aret (pc := 12) dX5_wrong_12 rfl ⟨rfl, by decide, by decide⟩ (fun h => h)
theorem kX5_wrong {G : GG}  (a0 : Int) (a1 : Int) (sz : Nat) (sl : Nat) (td : TT) (c : CC) (x : (Int × Nat × Nat × TT × CC)) (h : fX5_wrong a0 a1 sz sl td c = some x) : Ct G yX5_wrong muX5_wrong [(2, a0), (0, a1)] (sz, sl, tt td, cv c) ((2, x.1), (x.2.1, x.2.2.1, tt x.2.2.2.1, cv x.2.2.2.2)) :=
  Ct.of (n := 0) (ls0 := [some (2, a0), some (0, a1)]) (by decide) rfl rfl ⟨show (some (.object "HeldTongue$Wrong") : Option FieldType) ≠ some .float by decide, show (some (.object "HeldTongue$Wrong") : Option FieldType) ≠ some .double by decide⟩ (Nat.le_of_ble_eq_true rfl) rfl (sX5_wrong (G := G) (Γ := cx0) a0 a1 sz sl td c x h rfl).1 (show (2 : Nat) ≠ 9 by decide) (fun Γ => sX5_wrong a0 a1 sz sl td c x h rfl)
theorem flX5_60 : FL RX5 60 4 4 := ⟨_, _, _, cf4, by decide, q369⟩
theorem mvX5_92 : MV RX5 92 RX5 yX5_next muX5_next 0 := ⟨lw_V q402 q404 qs1 q130 q405, by decide +kernel, Nat.le_of_ble_eq_true rfl⟩
theorem mvX5_88 : MV RX5 88 RX5 yX5_wrong muX5_wrong 1 := ⟨lw_V q486 q488 qs7 q130 q489, by decide +kernel, Nat.le_of_ble_eq_true rfl⟩
abbrev muX5_need : MI := (cX5_need, RX5, 2, none, 8, "need")
noncomputable def fX5_need (a0 : Int) (a1 : Int) (sz : Nat) (sl : Nat) (td : TT) (c : CC) : Option (ThrT ⊕ (Nat × Nat × TT × CC)) :=
  gd ((0 : Int) ≤ a0 ∧ (tt td (Int.toNat a0)).1 = 4) <|
   if cv c (Int.toNat a0) 4 = a1 then
  (gd ((0 : Int) ≤ a0 ∧ (tt td (Int.toNat a0)).1 = 4) <| cl (fX5_next a0 td c) fun p_1 =>
   some (.inr (sz, sl, td, p_1)))
  else
  (gd ((0 : Int) ≤ a0 ∧ (tt td (Int.toNat a0)).1 = 4) <| cl (fX5_wrong a0 1 sz sl td c) fun p_2 =>
   gd ((0 : Int) ≤ p_2.1) (some (.inl (p_2.1, p_2.2.1, p_2.2.2.1, p_2.2.2.2.1, p_2.2.2.2.2))))
theorem sX5_need {G : GG} {Γ : Cx} {r : Vv × Wd}  (a0 : Int) (a1 : Int) (sz : Nat) (sl : Nat) (td : TT) (c : CC) : Sm (fX5_need a0 a1 sz sl td c) (fun x => r = (Sum.elim te (fun v => ((3, 0), (v.1, v.2.1, tt v.2.2.1, cv v.2.2.2))) x)) (WP G Γ muX5_need r 0 [some (2, a0), some (0, a1)] [] (sz, sl, tt td, cv c)) := by
  unfold fX5_need
  refine s_aload_n (pc := 0) dX5_need_0 rfl ?_
  refine s_getD (pc := 1) flX5_60 rfl dX5_need_1 ?_
  refine s_iload_n (pc := 4) dX5_need_4 rfl ?_
  refine s_icmp_eq (pc := 5) (tgt := 14) dX5_need_5 rfl ?_ ?_
  · refine s_aload_n (pc := 14) dX5_need_14 rfl ?_
    refine s_callVG (pc := 15) (ci := 4) (as := []) (st := []) (rv := fun b => ((3, 0), (sz, sl, tt td, cv b))) (st3 := fun b => []) (w3 := fun b => (sz, sl, tt td, cv b)) mvX5_92 (fun b h => kX5_next a0 td c b h) rfl (by decide) rfl rfl (Nat.le_of_ble_eq_true rfl) (fun _ => Nat.le_of_ble_eq_true rfl) (fun _ => ⟨rfl, rfl⟩) dX5_need_15 (fun p_1 => ?_)
    exact s_vret (pc := 18) dX5_need_18 rfl (fun h => h)
  refine s_aload_n (pc := 8) dX5_need_8 rfl ?_
  refine s_iconst (pc := 9) dX5_need_9 ?_
  refine s_callVG (pc := 10) (ci := 4) (as := [(0, 1)]) (st := []) (rv := fun b => ((2, b.1), (b.2.1, b.2.2.1, tt b.2.2.2.1, cv b.2.2.2.2))) (st3 := fun b => [(2, b.1)]) (w3 := fun b => (b.2.1, b.2.2.1, tt b.2.2.2.1, cv b.2.2.2.2)) mvX5_88 (fun b h => kX5_wrong a0 1 sz sl td c b h) rfl (by decide) rfl rfl (Nat.le_of_ble_eq_true rfl) (fun _ => Nat.le_of_ble_eq_true rfl) (fun _ => ⟨rfl, rfl⟩) dX5_need_10 (fun p_2 => ?_)
  exact s_throw (pc := 13) rfl (fun h => h) dX5_need_13
theorem kX5_need {G : GG}  (a0 : Int) (a1 : Int) (sz : Nat) (sl : Nat) (td : TT) (c : CC) (x : (ThrT ⊕ (Nat × Nat × TT × CC))) (h : fX5_need a0 a1 sz sl td c = some x) : CtE G yX5_need muX5_need [(2, a0), (0, a1)] (sz, sl, tt td, cv c) (Sum.elim te (fun v => ((3, 0), (v.1, v.2.1, tt v.2.2.1, cv v.2.2.2))) x) :=
  CtE.of (n := 0) (ls0 := [some (2, a0), some (0, a1)]) (by decide) rfl rfl ⟨show (none : Option FieldType) ≠ some .float by decide, show (none : Option FieldType) ≠ some .double by decide⟩ (Nat.le_of_ble_eq_true rfl) rfl (fun Γ => sX5_need a0 a1 sz sl td c x h rfl)
theorem flX5_95 : FL RX5 95 4 7 := ⟨_, _, _, cf4, by decide, q372⟩
theorem fpX5_95 (nm : String) : FP RX5 95 4 7 nm := ⟨_, _, _, cf4, by decide, q372, Or.inl rfl⟩
theorem fpX5_95t : fty 4 7 ≠ .boolean ∧ fty 4 7 ≠ .byte ∧ fty 4 7 ≠ .char ∧ fty 4 7 ≠ .short := by decide
abbrev muX5_opens : MI := (cX5_opens, RX5, 1, none, 8, "opens")
noncomputable def fX5_opens (a0 : Int) (sz : Nat) (sl : Nat) (td : TT) (c : CC) : Option (ThrT ⊕ (Nat × Nat × TT × CC)) :=
  gd ((0 : Int) ≤ a0 ∧ (tt td (Int.toNat a0)).1 = 4) <|
   if cv c (Int.toNat a0) 7 = 8 then
  (gd ((0 : Int) ≤ a0 ∧ (tt td (Int.toNat a0)).1 = 4) <| cl (fX5_wrong a0 3 sz sl td c) fun p_3 =>
   gd ((0 : Int) ≤ p_3.1) (some (.inl (p_3.1, p_3.2.1, p_3.2.2.1, p_3.2.2.2.1, p_3.2.2.2.2))))
  else
  (gd ((0 : Int) ≤ a0 ∧ (tt td (Int.toNat a0)).1 = 4) <|
   gd (inR ((cv c (Int.toNat a0) 7) + 1)) <|
   gd (168 ≤ a0 ∧ (tt td (Int.toNat a0)).1 = 4) <| bd (up2 c (Int.toNat a0) 7 ((cv c (Int.toNat a0) 7) + 1)) fun c_1 =>
   gd ((0 : Int) ≤ a0 ∧ (tt td (Int.toNat a0)).1 = 4) <| cl (fX5_next a0 td c_1) fun p_2 =>
   some (.inr (sz, sl, td, p_2)))
theorem sX5_opens {G : GG} {Γ : Cx} {r : Vv × Wd}  (a0 : Int) (sz : Nat) (sl : Nat) (td : TT) (c : CC) : Sm (fX5_opens a0 sz sl td c) (fun x => r = (Sum.elim te (fun v => ((3, 0), (v.1, v.2.1, tt v.2.2.1, cv v.2.2.2))) x)) (WP G Γ muX5_opens r 0 [some (2, a0)] [] (sz, sl, tt td, cv c)) := by
  unfold fX5_opens
  refine s_aload_n (pc := 0) dX5_opens_0 rfl ?_
  refine s_getD (pc := 1) flX5_95 rfl dX5_opens_1 ?_
  refine s_bipush (pc := 4) dX5_opens_4 ?_
  refine s_icmp_ne (pc := 6) (tgt := 15) dX5_opens_6 rfl ?_ ?_
  · refine s_aload_n (pc := 15) dX5_opens_15 rfl ?_
    refine s_dup (pc := 16) (by decide : ¬ (2 : Nat) = 1) dX5_opens_16 ?_
    refine s_getD (pc := 17) flX5_95 rfl dX5_opens_17 ?_
    refine s_iconst (pc := 20) dX5_opens_20 ?_
    refine s_iadd (pc := 21) dX5_opens_21 ?_
    refine s_putDM (pc := 22) (fpX5_95 _) rfl fpX5_95t dX5_opens_22 (fun c_1 => ?_)
    refine s_aload_n (pc := 25) dX5_opens_25 rfl ?_
    refine s_callVG (pc := 26) (ci := 4) (as := []) (st := []) (rv := fun b => ((3, 0), (sz, sl, tt td, cv b))) (st3 := fun b => []) (w3 := fun b => (sz, sl, tt td, cv b)) mvX5_92 (fun b h => kX5_next a0 td c_1 b h) rfl (by decide) rfl rfl (Nat.le_of_ble_eq_true rfl) (fun _ => Nat.le_of_ble_eq_true rfl) (fun _ => ⟨rfl, rfl⟩) dX5_opens_26 (fun p_2 => ?_)
    exact s_vret (pc := 29) dX5_opens_29 rfl (fun h => h)
  refine s_aload_n (pc := 9) dX5_opens_9 rfl ?_
  refine s_iconst (pc := 10) dX5_opens_10 ?_
  refine s_callVG (pc := 11) (ci := 4) (as := [(0, 3)]) (st := []) (rv := fun b => ((2, b.1), (b.2.1, b.2.2.1, tt b.2.2.2.1, cv b.2.2.2.2))) (st3 := fun b => [(2, b.1)]) (w3 := fun b => (b.2.1, b.2.2.1, tt b.2.2.2.1, cv b.2.2.2.2)) mvX5_88 (fun b h => kX5_wrong a0 3 sz sl td c b h) rfl (by decide) rfl rfl (Nat.le_of_ble_eq_true rfl) (fun _ => Nat.le_of_ble_eq_true rfl) (fun _ => ⟨rfl, rfl⟩) dX5_opens_11 (fun p_3 => ?_)
  exact s_throw (pc := 14) rfl (fun h => h) dX5_opens_14
theorem kX5_opens {G : GG}  (a0 : Int) (sz : Nat) (sl : Nat) (td : TT) (c : CC) (x : (ThrT ⊕ (Nat × Nat × TT × CC))) (h : fX5_opens a0 sz sl td c = some x) : CtE G yX5_opens muX5_opens [(2, a0)] (sz, sl, tt td, cv c) (Sum.elim te (fun v => ((3, 0), (v.1, v.2.1, tt v.2.2.1, cv v.2.2.2))) x) :=
  CtE.of (n := 0) (ls0 := [some (2, a0)]) (by decide) rfl rfl ⟨show (none : Option FieldType) ≠ some .float by decide, show (none : Option FieldType) ≠ some .double by decide⟩ (Nat.le_of_ble_eq_true rfl) rfl (fun Γ => sX5_opens a0 sz sl td c x h rfl)
abbrev muX5_number : MI := (cX5_number, RX5, 4, some .int, 8, "number")
noncomputable def fX5_number (a0 : Int) (a1 : Int) (a2 : Int) (sz : Nat) (sl : Nat) (td : TT) (c : CC) : Option (ThrT ⊕ (Int × Nat × Nat × TT × CC)) :=
  gd ((0 : Int) ≤ a0 ∧ (tt td (Int.toNat a0)).1 = 4) <|
   if cv c (Int.toNat a0) 4 = 301 then
  (gd ((0 : Int) ≤ a0 ∧ (tt td (Int.toNat a0)).1 = 4) <|
   cl (fX0_in (cv c (Int.toNat a0) 5) a1 a2 ) fun p_1 =>
   if p_1 = 0 then
  (gd ((0 : Int) ≤ a0 ∧ (tt td (Int.toNat a0)).1 = 4) <| cl (fX5_wrong a0 2 sz sl td c) fun p_4 =>
   gd ((0 : Int) ≤ p_4.1) (some (.inl (p_4.1, p_4.2.1, p_4.2.2.1, p_4.2.2.2.1, p_4.2.2.2.2))))
  else
  (gd ((0 : Int) ≤ a0 ∧ (tt td (Int.toNat a0)).1 = 4) <|
   bd (cv c (Int.toNat a0) 5) fun v3_2 =>
   gd ((0 : Int) ≤ a0 ∧ (tt td (Int.toNat a0)).1 = 4) <| cl (fX5_next a0 td c) fun p_3 =>
   some (.inr (v3_2, sz, sl, td, p_3))))
  else
  (gd ((0 : Int) ≤ a0 ∧ (tt td (Int.toNat a0)).1 = 4) <| cl (fX5_wrong a0 1 sz sl td c) fun p_5 =>
   gd ((0 : Int) ≤ p_5.1) (some (.inl (p_5.1, p_5.2.1, p_5.2.2.1, p_5.2.2.2.1, p_5.2.2.2.2))))
theorem sX5_number {G : GG} {Γ : Cx} {r : Vv × Wd}  (a0 : Int) (a1 : Int) (a2 : Int) (sz : Nat) (sl : Nat) (td : TT) (c : CC) : Sm (fX5_number a0 a1 a2 sz sl td c) (fun x => r = (Sum.elim te (fun v => ((0, v.1), (v.2.1, v.2.2.1, tt v.2.2.2.1, cv v.2.2.2.2))) x)) (WP G Γ muX5_number r 0 [some (2, a0), some (0, a1), some (0, a2), none] [] (sz, sl, tt td, cv c)) := by
  unfold fX5_number
  refine s_aload_n (pc := 0) dX5_number_0 rfl ?_
  refine s_getD (pc := 1) flX5_60 rfl dX5_number_1 ?_
  refine s_sipush (pc := 4) dX5_number_4 ?_
  refine s_icmp_eq (pc := 7) (tgt := 16) dX5_number_7 rfl ?_ ?_
  · refine s_aload_n (pc := 16) dX5_number_16 rfl ?_
    refine s_getD (pc := 17) flX5_69 rfl dX5_number_17 ?_
    refine s_iload_n (pc := 20) dX5_number_20 rfl ?_
    refine s_iload_n (pc := 21) dX5_number_21 rfl ?_
    refine s_callSN3 (pc := 22) (as := [(0, cv c (Int.toNat a0) 5), (0, a1), (0, a2)]) (st := []) (rv := fun b => ((0, b), (sz, sl, tt td, cv c))) (st3 := fun b => [(0, b)]) (w3 := fun b => (sz, sl, tt td, cv c)) msnX5_26 (fun b h => kX0_in (cv c (Int.toNat a0) 5) a1 a2 c b h) rfl (by decide) rfl (Nat.le_of_ble_eq_true rfl) (fun _ => Nat.le_of_ble_eq_true rfl) (fun _ => ⟨rfl, rfl⟩) dX5_number_22 (fun p_1 => ?_)
    refine s_if_ne (pc := 25) (tgt := 34) dX5_number_25 rfl ?_ ?_
    · refine s_aload_n (pc := 34) dX5_number_34 rfl ?_
      refine s_getD (pc := 35) flX5_69 rfl dX5_number_35 ?_
      refine s_istore_n (pc := 38) (lf := fun x => [some (2, a0), some (0, a1), some (0, a2), some (0, x)]) dX5_number_38 (fun _ => rfl) (Nat.le_of_ble_eq_true rfl) (fun v3_2 => ?_)
      refine s_aload_n (pc := 39) dX5_number_39 rfl ?_
      refine s_callVG (pc := 40) (ci := 4) (as := []) (st := []) (rv := fun b => ((3, 0), (sz, sl, tt td, cv b))) (st3 := fun b => []) (w3 := fun b => (sz, sl, tt td, cv b)) mvX5_92 (fun b h => kX5_next a0 td c b h) rfl (by decide) rfl rfl (Nat.le_of_ble_eq_true rfl) (fun _ => Nat.le_of_ble_eq_true rfl) (fun _ => ⟨rfl, rfl⟩) dX5_number_40 (fun p_3 => ?_)
      refine s_iload_n (pc := 43) dX5_number_43 rfl ?_
      exact s_iret (pc := 44) dX5_number_44 rfl (fun h => h)
    refine s_aload_n (pc := 28) dX5_number_28 rfl ?_
    refine s_iconst (pc := 29) dX5_number_29 ?_
    refine s_callVG (pc := 30) (ci := 4) (as := [(0, 2)]) (st := []) (rv := fun b => ((2, b.1), (b.2.1, b.2.2.1, tt b.2.2.2.1, cv b.2.2.2.2))) (st3 := fun b => [(2, b.1)]) (w3 := fun b => (b.2.1, b.2.2.1, tt b.2.2.2.1, cv b.2.2.2.2)) mvX5_88 (fun b h => kX5_wrong a0 2 sz sl td c b h) rfl (by decide) rfl rfl (Nat.le_of_ble_eq_true rfl) (fun _ => Nat.le_of_ble_eq_true rfl) (fun _ => ⟨rfl, rfl⟩) dX5_number_30 (fun p_4 => ?_)
    exact s_throw (pc := 33) rfl (fun h => h) dX5_number_33
  refine s_aload_n (pc := 10) dX5_number_10 rfl ?_
  refine s_iconst (pc := 11) dX5_number_11 ?_
  refine s_callVG (pc := 12) (ci := 4) (as := [(0, 1)]) (st := []) (rv := fun b => ((2, b.1), (b.2.1, b.2.2.1, tt b.2.2.2.1, cv b.2.2.2.2))) (st3 := fun b => [(2, b.1)]) (w3 := fun b => (b.2.1, b.2.2.1, tt b.2.2.2.1, cv b.2.2.2.2)) mvX5_88 (fun b h => kX5_wrong a0 1 sz sl td c b h) rfl (by decide) rfl rfl (Nat.le_of_ble_eq_true rfl) (fun _ => Nat.le_of_ble_eq_true rfl) (fun _ => ⟨rfl, rfl⟩) dX5_number_12 (fun p_5 => ?_)
  exact s_throw (pc := 15) rfl (fun h => h) dX5_number_15
theorem kX5_number {G : GG}  (a0 : Int) (a1 : Int) (a2 : Int) (sz : Nat) (sl : Nat) (td : TT) (c : CC) (x : (ThrT ⊕ (Int × Nat × Nat × TT × CC))) (h : fX5_number a0 a1 a2 sz sl td c = some x) : CtE G yX5_number muX5_number [(2, a0), (0, a1), (0, a2)] (sz, sl, tt td, cv c) (Sum.elim te (fun v => ((0, v.1), (v.2.1, v.2.2.1, tt v.2.2.2.1, cv v.2.2.2.2))) x) :=
  CtE.of (n := 1) (ls0 := [some (2, a0), some (0, a1), some (0, a2), none]) (by decide) rfl rfl ⟨show (some .int : Option FieldType) ≠ some .float by decide, show (some .int : Option FieldType) ≠ some .double by decide⟩ (Nat.le_of_ble_eq_true rfl) rfl (fun Γ => sX5_number a0 a1 a2 sz sl td c x h rfl)
theorem mvX5_98 : MV RX5 98 RX5 yX5_need muX5_need 1 := ⟨lw_V q570 q572 qs11 q130 q573, by decide +kernel, Nat.le_of_ble_eq_true rfl⟩
theorem mvX5_102 : MV RX5 102 RX5 yX5_number muX5_number 2 := ⟨lw_V q566 q568 qs10 q130 q569, by decide +kernel, Nat.le_of_ble_eq_true rfl⟩
abbrev muX5_after : MI := (cX5_after, RX5, 3, some .int, 9, "after")
noncomputable def fX5_after (a0 : Int) (a1 : Int) (a2 : Int) (sz : Nat) (sl : Nat) (td : TT) (c : CC) : Option (ThrT ⊕ (Int × Nat × Nat × TT × CC)) :=
  gd ((0 : Int) ≤ a0 ∧ (tt td (Int.toNat a0)).1 = 4) <| cl (fX5_need a0 a1 sz sl td c) (Sum.elim (fun e => some (.inl e)) fun p_1 =>
   gd ((0 : Int) ≤ a0 ∧ (tt p_1.2.2.1 (Int.toNat a0)).1 = 4) <| cl (fX5_number a0 0 a2 p_1.1 p_1.2.1 p_1.2.2.1 p_1.2.2.2) (Sum.elim (fun e => some (.inl e)) fun p_2 =>
   some (.inr (p_2.1, p_2.2.1, p_2.2.2.1, p_2.2.2.2.1, p_2.2.2.2.2))))
theorem sX5_after {G : GG} {Γ : Cx} {r : Vv × Wd}  (a0 : Int) (a1 : Int) (a2 : Int) (sz : Nat) (sl : Nat) (td : TT) (c : CC) : Sm (fX5_after a0 a1 a2 sz sl td c) (fun x => r = (Sum.elim te (fun v => ((0, v.1), (v.2.1, v.2.2.1, tt v.2.2.2.1, cv v.2.2.2.2))) x)) (WP G Γ muX5_after r 0 [some (2, a0), some (0, a1), some (0, a2)] [] (sz, sl, tt td, cv c)) := by
  unfold fX5_after
  refine s_aload_n (pc := 0) dX5_after_0 rfl ?_
  refine s_iload_n (pc := 1) dX5_after_1 rfl ?_
  refine s_callVE (pc := 2) (ci := 4) (as := [(0, a1)]) (st := []) (rv := fun b => ((3, 0), (b.1, b.2.1, tt b.2.2.1, cv b.2.2.2))) (st3 := fun b => []) (w3 := fun b => (b.1, b.2.1, tt b.2.2.1, cv b.2.2.2)) mvX5_98 (fun b h => kX5_need a0 a1 sz sl td c b h) rfl (by decide) rfl rfl (Nat.le_of_ble_eq_true rfl) (fun _ => Nat.le_of_ble_eq_true rfl) (fun _ => ⟨rfl, rfl⟩) dX5_after_2 (fun _ => Sm.some (fun h => h)) (fun p_1 => ?_)
  refine s_aload_n (pc := 5) dX5_after_5 rfl ?_
  refine s_iconst (pc := 6) dX5_after_6 ?_
  refine s_iload_n (pc := 7) dX5_after_7 rfl ?_
  refine s_callVE (pc := 8) (ci := 4) (as := [(0, 0), (0, a2)]) (st := []) (rv := fun b => ((0, b.1), (b.2.1, b.2.2.1, tt b.2.2.2.1, cv b.2.2.2.2))) (st3 := fun b => [(0, b.1)]) (w3 := fun b => (b.2.1, b.2.2.1, tt b.2.2.2.1, cv b.2.2.2.2)) mvX5_102 (fun b h => kX5_number a0 0 a2 p_1.1 p_1.2.1 p_1.2.2.1 p_1.2.2.2 b h) rfl (by decide) rfl rfl (Nat.le_of_ble_eq_true rfl) (fun _ => Nat.le_of_ble_eq_true rfl) (fun _ => ⟨rfl, rfl⟩) dX5_after_8 (fun _ => Sm.some (fun h => h)) (fun p_2 => ?_)
  exact s_iret (pc := 11) dX5_after_11 rfl (fun h => h)
theorem kX5_after {G : GG}  (a0 : Int) (a1 : Int) (a2 : Int) (sz : Nat) (sl : Nat) (td : TT) (c : CC) (x : (ThrT ⊕ (Int × Nat × Nat × TT × CC))) (h : fX5_after a0 a1 a2 sz sl td c = some x) : CtE G yX5_after muX5_after [(2, a0), (0, a1), (0, a2)] (sz, sl, tt td, cv c) (Sum.elim te (fun v => ((0, v.1), (v.2.1, v.2.2.1, tt v.2.2.2.1, cv v.2.2.2.2))) x) :=
  CtE.of (n := 0) (ls0 := [some (2, a0), some (0, a1), some (0, a2)]) (by decide) rfl rfl ⟨show (some .int : Option FieldType) ≠ some .float by decide, show (some .int : Option FieldType) ≠ some .double by decide⟩ (Nat.le_of_ble_eq_true rfl) rfl (fun Γ => sX5_after a0 a1 a2 sz sl td c x h rfl)
theorem mvX5_110 : MV RX5 110 RX5 yX5_after muX5_after 2 := ⟨lw_V q576 q578 qs12 q130 q579, by decide +kernel, Nat.le_of_ble_eq_true rfl⟩
theorem flX5_107 : FL RX5 107 4 8 := ⟨_, _, _, cf4, by decide, q373⟩
theorem fspX7_7 : ∀ ci, 6 ≤ ci → ci ≤ 10 → FP RX7 7 ci 0 "<init>" ∧ tgF (fty ci 0) = 0 ∧ (fty ci 0 ≠ .boolean ∧ fty ci 0 ≠ .byte ∧ fty ci 0 ≠ .char ∧ fty ci 0 ≠ .short) := by
  intro ci h1 h2
  rcases (by omega : ci = 6 ∨ ci = 7 ∨ ci = 8 ∨ ci = 9 ∨ ci = 10) with e | e | e | e | e <;> subst e
  · exact ⟨⟨_, _, _, cf6, by decide, q589, Or.inr ⟨rfl, rfl, rfl⟩⟩, rfl, by decide⟩
  · exact ⟨⟨_, _, _, cf7, by decide, q589, Or.inr ⟨rfl, rfl, rfl⟩⟩, rfl, by decide⟩
  · exact ⟨⟨_, _, _, cf8, by decide, q589, Or.inr ⟨rfl, rfl, rfl⟩⟩, rfl, by decide⟩
  · exact ⟨⟨_, _, _, cf9, by decide, q589, Or.inr ⟨rfl, rfl, rfl⟩⟩, rfl, by decide⟩
  · exact ⟨⟨_, _, _, cf10, by decide, q589, Or.inr ⟨rfl, rfl, rfl⟩⟩, rfl, by decide⟩
theorem fspX7_13 : ∀ ci, 6 ≤ ci → ci ≤ 10 → FP RX7 13 ci 1 "<init>" ∧ tgF (fty ci 1) = 0 ∧ (fty ci 1 ≠ .boolean ∧ fty ci 1 ≠ .byte ∧ fty ci 1 ≠ .char ∧ fty ci 1 ≠ .short) := by
  intro ci h1 h2
  rcases (by omega : ci = 6 ∨ ci = 7 ∨ ci = 8 ∨ ci = 9 ∨ ci = 10) with e | e | e | e | e <;> subst e
  · exact ⟨⟨_, _, _, cf6, by decide, q591, Or.inr ⟨rfl, rfl, rfl⟩⟩, rfl, by decide⟩
  · exact ⟨⟨_, _, _, cf7, by decide, q591, Or.inr ⟨rfl, rfl, rfl⟩⟩, rfl, by decide⟩
  · exact ⟨⟨_, _, _, cf8, by decide, q591, Or.inr ⟨rfl, rfl, rfl⟩⟩, rfl, by decide⟩
  · exact ⟨⟨_, _, _, cf9, by decide, q591, Or.inr ⟨rfl, rfl, rfl⟩⟩, rfl, by decide⟩
  · exact ⟨⟨_, _, _, cf10, by decide, q591, Or.inr ⟨rfl, rfl, rfl⟩⟩, rfl, by decide⟩
theorem fspX7_16 : ∀ ci, 6 ≤ ci → ci ≤ 10 → FP RX7 16 ci 2 "<init>" ∧ tgF (fty ci 2) = 0 ∧ (fty ci 2 ≠ .boolean ∧ fty ci 2 ≠ .byte ∧ fty ci 2 ≠ .char ∧ fty ci 2 ≠ .short) := by
  intro ci h1 h2
  rcases (by omega : ci = 6 ∨ ci = 7 ∨ ci = 8 ∨ ci = 9 ∨ ci = 10) with e | e | e | e | e <;> subst e
  · exact ⟨⟨_, _, _, cf6, by decide, q593, Or.inr ⟨rfl, rfl, rfl⟩⟩, rfl, by decide⟩
  · exact ⟨⟨_, _, _, cf7, by decide, q593, Or.inr ⟨rfl, rfl, rfl⟩⟩, rfl, by decide⟩
  · exact ⟨⟨_, _, _, cf8, by decide, q593, Or.inr ⟨rfl, rfl, rfl⟩⟩, rfl, by decide⟩
  · exact ⟨⟨_, _, _, cf9, by decide, q593, Or.inr ⟨rfl, rfl, rfl⟩⟩, rfl, by decide⟩
  · exact ⟨⟨_, _, _, cf10, by decide, q593, Or.inr ⟨rfl, rfl, rfl⟩⟩, rfl, by decide⟩
theorem fspX7_19 : ∀ ci, 6 ≤ ci → ci ≤ 10 → FP RX7 19 ci 3 "<init>" ∧ tgF (fty ci 3) = 0 ∧ (fty ci 3 ≠ .boolean ∧ fty ci 3 ≠ .byte ∧ fty ci 3 ≠ .char ∧ fty ci 3 ≠ .short) := by
  intro ci h1 h2
  rcases (by omega : ci = 6 ∨ ci = 7 ∨ ci = 8 ∨ ci = 9 ∨ ci = 10) with e | e | e | e | e <;> subst e
  · exact ⟨⟨_, _, _, cf6, by decide, q595, Or.inr ⟨rfl, rfl, rfl⟩⟩, rfl, by decide⟩
  · exact ⟨⟨_, _, _, cf7, by decide, q595, Or.inr ⟨rfl, rfl, rfl⟩⟩, rfl, by decide⟩
  · exact ⟨⟨_, _, _, cf8, by decide, q595, Or.inr ⟨rfl, rfl, rfl⟩⟩, rfl, by decide⟩
  · exact ⟨⟨_, _, _, cf9, by decide, q595, Or.inr ⟨rfl, rfl, rfl⟩⟩, rfl, by decide⟩
  · exact ⟨⟨_, _, _, cf10, by decide, q595, Or.inr ⟨rfl, rfl, rfl⟩⟩, rfl, by decide⟩
abbrev muX7_init : MI := (cX7_init, RX7, 5, none, 2, "<init>")
noncomputable def fX7_init (a0 : Int) (a1 : Int) (a2 : Int) (a3 : Int) (a4 : Int) (td : TT) (c : CC) : Option CC :=
  gd ((0 : Int) ≤ a0) <|
   gd (168 ≤ a0 ∧ 6 ≤ (tt td (Int.toNat a0)).1 ∧ (tt td (Int.toNat a0)).1 ≤ 10) <| bd (up2 c (Int.toNat a0) 0 a1) fun c_1 =>
   gd (168 ≤ a0 ∧ 6 ≤ (tt td (Int.toNat a0)).1 ∧ (tt td (Int.toNat a0)).1 ≤ 10) <| bd (up2 c_1 (Int.toNat a0) 1 a2) fun c_2 =>
   gd (168 ≤ a0 ∧ 6 ≤ (tt td (Int.toNat a0)).1 ∧ (tt td (Int.toNat a0)).1 ≤ 10) <| bd (up2 c_2 (Int.toNat a0) 2 a3) fun c_3 =>
   gd (168 ≤ a0 ∧ 6 ≤ (tt td (Int.toNat a0)).1 ∧ (tt td (Int.toNat a0)).1 ≤ 10) <| bd (up2 c_3 (Int.toNat a0) 3 a4) fun c_4 =>
   some c_4
theorem sX7_init {G : GG} {Γ : Cx} {r : Vv × Wd} {sz : Nat} {sl : Nat} (a0 : Int) (a1 : Int) (a2 : Int) (a3 : Int) (a4 : Int) (td : TT) (c : CC) : Sm (fX7_init a0 a1 a2 a3 a4 td c) (fun x => r = ((3, 0), (sz, sl, tt td, cv x))) (WP G Γ muX7_init r 0 [some (2, a0), some (0, a1), some (0, a2), some (0, a3), some (0, a4)] [] (sz, sl, tt td, cv c)) := by
  unfold fX7_init
  refine s_aload_n (pc := 0) dX7_init_0 rfl ?_
  refine s_objInitD (pc := 1) q586 q161 q162 (by decide) (Nat.le_of_ble_eq_true rfl) dX7_init_1 ?_
  refine s_aload_n (pc := 4) dX7_init_4 rfl ?_
  refine s_iload_n (pc := 5) dX7_init_5 rfl ?_
  refine s_putSM (pc := 6) fspX7_7 dX7_init_6 (fun c_1 => ?_)
  refine s_aload_n (pc := 9) dX7_init_9 rfl ?_
  refine s_iload_n (pc := 10) dX7_init_10 rfl ?_
  refine s_putSM (pc := 11) fspX7_13 dX7_init_11 (fun c_2 => ?_)
  refine s_aload_n (pc := 14) dX7_init_14 rfl ?_
  refine s_iload_n (pc := 15) dX7_init_15 rfl ?_
  refine s_putSM (pc := 16) fspX7_16 dX7_init_16 (fun c_3 => ?_)
  refine s_aload_n (pc := 19) dX7_init_19 rfl ?_
  refine s_iload (pc := 20) dX7_init_20 rfl ?_
  refine s_putSM (pc := 22) fspX7_19 dX7_init_22 (fun c_4 => ?_)
  exact s_vret (pc := 25) dX7_init_25 rfl (fun h => h)
theorem kX7_init {G : GG} {sz : Nat} {sl : Nat} (a0 : Int) (a1 : Int) (a2 : Int) (a3 : Int) (a4 : Int) (td : TT) (c : CC) (x : CC) (h : fX7_init a0 a1 a2 a3 a4 td c = some x) : Ct G yX7_init muX7_init [(2, a0), (0, a1), (0, a2), (0, a3), (0, a4)] (sz, sl, tt td, cv c) ((3, 0), (sz, sl, tt td, cv x)) :=
  Ct.of (n := 0) (ls0 := [some (2, a0), some (0, a1), some (0, a2), some (0, a3), some (0, a4)]) (by decide) rfl rfl ⟨show (none : Option FieldType) ≠ some .float by decide, show (none : Option FieldType) ≠ some .double by decide⟩ (Nat.le_of_ble_eq_true rfl) rfl ⟨Nat.le_refl _, Nat.le_refl _⟩ (show (3 : Nat) ≠ 9 by decide) (fun Γ => sX7_init a0 a1 a2 a3 a4 td c x h rfl)
theorem miX9_3 : MIn RX9 3 yX7_init muX7_init 4 := ⟨lw_meth q585, rfl, q140, q613, q584, rfl, by decide +kernel, by decide⟩
theorem fqX9_9 : FP RX9 9 7 4 "<init>" := ⟨_, _, _, cf7, by decide, q614, Or.inr ⟨rfl, rfl, rfl⟩⟩
theorem fqX9_9t : fty 7 4 ≠ .boolean ∧ fty 7 4 ≠ .byte ∧ fty 7 4 ≠ .char ∧ fty 7 4 ≠ .short := by decide
theorem fqX9_15 : FP RX9 15 7 5 "<init>" := ⟨_, _, _, cf7, by decide, q615, Or.inr ⟨rfl, rfl, rfl⟩⟩
theorem fqX9_15t : fty 7 5 ≠ .boolean ∧ fty 7 5 ≠ .byte ∧ fty 7 5 ≠ .char ∧ fty 7 5 ≠ .short := by decide
theorem fqX9_18 : FP RX9 18 7 6 "<init>" := ⟨_, _, _, cf7, by decide, q616, Or.inr ⟨rfl, rfl, rfl⟩⟩
abbrev muX9_init : MI := (cX9_init, RX9, 8, none, 3, "<init>")
noncomputable def fX9_init (a0 : Int) (a1 : Int) (a2 : Int) (a3 : Int) (a4 : Int) (a5 : Int) (a6 : Int) (a7 : Int) (td : TT) (c : CC) : Option CC :=
  gd ((0 : Int) ≤ a0) <| cl (fX7_init a0 a1 a2 a3 a4 td c) fun p_1 =>
   gd (168 ≤ a0 ∧ (tt td (Int.toNat a0)).1 = 7) <| bd (up2 p_1 (Int.toNat a0) 4 a5) fun c_2 =>
   gd (168 ≤ a0 ∧ (tt td (Int.toNat a0)).1 = 7) <| bd (up2 c_2 (Int.toNat a0) 5 a6) fun c_3 =>
   gd (168 ≤ a0 ∧ (tt td (Int.toNat a0)).1 = 7 ∧ (0 : Int) ≤ a7 ∧ a7 < 2) <| bd (up2 c_3 (Int.toNat a0) 6 a7) fun c_4 =>
   some c_4
theorem sX9_init {G : GG} {Γ : Cx} {r : Vv × Wd} {sz : Nat} {sl : Nat} (a0 : Int) (a1 : Int) (a2 : Int) (a3 : Int) (a4 : Int) (a5 : Int) (a6 : Int) (a7 : Int) (td : TT) (c : CC) : Sm (fX9_init a0 a1 a2 a3 a4 a5 a6 a7 td c) (fun x => r = ((3, 0), (sz, sl, tt td, cv x))) (WP G Γ muX9_init r 0 [some (2, a0), some (0, a1), some (0, a2), some (0, a3), some (0, a4), some (0, a5), some (0, a6), some (0, a7)] [] (sz, sl, tt td, cv c)) := by
  unfold fX9_init
  refine s_aload_n (pc := 0) dX9_init_0 rfl ?_
  refine s_iload_n (pc := 1) dX9_init_1 rfl ?_
  refine s_iload_n (pc := 2) dX9_init_2 rfl ?_
  refine s_iload_n (pc := 3) dX9_init_3 rfl ?_
  refine s_iload (pc := 4) dX9_init_4 rfl ?_
  refine s_callI3 (pc := 6) (as := [(0, a1), (0, a2), (0, a3), (0, a4)]) (st := []) (rv := fun b => ((3, 0), (sz, sl, tt td, cv b))) (st3 := fun b => []) (w3 := fun b => (sz, sl, tt td, cv b)) miX9_3 (fun b h => kX7_init a0 a1 a2 a3 a4 td c b h) rfl (by decide) rfl (Nat.le_of_ble_eq_true rfl) (fun _ => Nat.le_of_ble_eq_true rfl) (fun _ => ⟨rfl, rfl⟩) dX9_init_6 (fun p_1 => ?_)
  refine s_aload_n (pc := 9) dX9_init_9 rfl ?_
  refine s_iload (pc := 10) dX9_init_10 rfl ?_
  refine s_putDM (pc := 12) fqX9_9 rfl fqX9_9t dX9_init_12 (fun c_2 => ?_)
  refine s_aload_n (pc := 15) dX9_init_15 rfl ?_
  refine s_iload (pc := 16) dX9_init_16 rfl ?_
  refine s_putDM (pc := 18) fqX9_15 rfl fqX9_15t dX9_init_18 (fun c_3 => ?_)
  refine s_aload_n (pc := 21) dX9_init_21 rfl ?_
  refine s_iload (pc := 22) dX9_init_22 rfl ?_
  refine s_putDZM (pc := 24) fqX9_18 rfl dX9_init_24 (fun c_4 => ?_)
  exact s_vret (pc := 27) dX9_init_27 rfl (fun h => h)
theorem kX9_init {G : GG} {sz : Nat} {sl : Nat} (a0 : Int) (a1 : Int) (a2 : Int) (a3 : Int) (a4 : Int) (a5 : Int) (a6 : Int) (a7 : Int) (td : TT) (c : CC) (x : CC) (h : fX9_init a0 a1 a2 a3 a4 a5 a6 a7 td c = some x) : Ct G yX9_init muX9_init [(2, a0), (0, a1), (0, a2), (0, a3), (0, a4), (0, a5), (0, a6), (0, a7)] (sz, sl, tt td, cv c) ((3, 0), (sz, sl, tt td, cv x)) :=
  Ct.of (n := 0) (ls0 := [some (2, a0), some (0, a1), some (0, a2), some (0, a3), some (0, a4), some (0, a5), some (0, a6), some (0, a7)]) (by decide) rfl rfl ⟨show (none : Option FieldType) ≠ some .float by decide, show (none : Option FieldType) ≠ some .double by decide⟩ (Nat.le_of_ble_eq_true rfl) rfl ⟨Nat.le_refl _, Nat.le_refl _⟩ (show (3 : Nat) ≠ 9 by decide) (fun Γ => sX9_init a0 a1 a2 a3 a4 a5 a6 a7 td c x h rfl)
theorem miX5_118 : MIn RX5 118 yX9_init muX9_init 7 := ⟨lw_meth q612, rfl, q142, q610, q611, rfl, by decide +kernel, by decide⟩
theorem miX10_3 : MIn RX10 3 yX7_init muX7_init 4 := ⟨lw_meth q585, rfl, q140, q633, q584, rfl, by decide +kernel, by decide⟩
theorem fqX10_9 : FP RX10 9 8 4 "<init>" := ⟨_, _, _, cf8, by decide, q634, Or.inr ⟨rfl, rfl, rfl⟩⟩
theorem fqX10_9t : fty 8 4 ≠ .boolean ∧ fty 8 4 ≠ .byte ∧ fty 8 4 ≠ .char ∧ fty 8 4 ≠ .short := by decide
abbrev muX10_init : MI := (cX10_init, RX10, 6, none, 3, "<init>")
noncomputable def fX10_init (a0 : Int) (a1 : Int) (a2 : Int) (a3 : Int) (a4 : Int) (a5 : Int) (td : TT) (c : CC) : Option CC :=
  gd ((0 : Int) ≤ a0) <| cl (fX7_init a0 a1 a2 a3 a4 td c) fun p_1 =>
   gd (168 ≤ a0 ∧ (tt td (Int.toNat a0)).1 = 8) <| bd (up2 p_1 (Int.toNat a0) 4 a5) fun c_2 =>
   some c_2
theorem sX10_init {G : GG} {Γ : Cx} {r : Vv × Wd} {sz : Nat} {sl : Nat} (a0 : Int) (a1 : Int) (a2 : Int) (a3 : Int) (a4 : Int) (a5 : Int) (td : TT) (c : CC) : Sm (fX10_init a0 a1 a2 a3 a4 a5 td c) (fun x => r = ((3, 0), (sz, sl, tt td, cv x))) (WP G Γ muX10_init r 0 [some (2, a0), some (0, a1), some (0, a2), some (0, a3), some (0, a4), some (0, a5)] [] (sz, sl, tt td, cv c)) := by
  unfold fX10_init
  refine s_aload_n (pc := 0) dX10_init_0 rfl ?_
  refine s_iload_n (pc := 1) dX10_init_1 rfl ?_
  refine s_iload_n (pc := 2) dX10_init_2 rfl ?_
  refine s_iload_n (pc := 3) dX10_init_3 rfl ?_
  refine s_iload (pc := 4) dX10_init_4 rfl ?_
  refine s_callI3 (pc := 6) (as := [(0, a1), (0, a2), (0, a3), (0, a4)]) (st := []) (rv := fun b => ((3, 0), (sz, sl, tt td, cv b))) (st3 := fun b => []) (w3 := fun b => (sz, sl, tt td, cv b)) miX10_3 (fun b h => kX7_init a0 a1 a2 a3 a4 td c b h) rfl (by decide) rfl (Nat.le_of_ble_eq_true rfl) (fun _ => Nat.le_of_ble_eq_true rfl) (fun _ => ⟨rfl, rfl⟩) dX10_init_6 (fun p_1 => ?_)
  refine s_aload_n (pc := 9) dX10_init_9 rfl ?_
  refine s_iload (pc := 10) dX10_init_10 rfl ?_
  refine s_putDM (pc := 12) fqX10_9 rfl fqX10_9t dX10_init_12 (fun c_2 => ?_)
  exact s_vret (pc := 15) dX10_init_15 rfl (fun h => h)
theorem kX10_init {G : GG} {sz : Nat} {sl : Nat} (a0 : Int) (a1 : Int) (a2 : Int) (a3 : Int) (a4 : Int) (a5 : Int) (td : TT) (c : CC) (x : CC) (h : fX10_init a0 a1 a2 a3 a4 a5 td c = some x) : Ct G yX10_init muX10_init [(2, a0), (0, a1), (0, a2), (0, a3), (0, a4), (0, a5)] (sz, sl, tt td, cv c) ((3, 0), (sz, sl, tt td, cv x)) :=
  Ct.of (n := 0) (ls0 := [some (2, a0), some (0, a1), some (0, a2), some (0, a3), some (0, a4), some (0, a5)]) (by decide) rfl rfl ⟨show (none : Option FieldType) ≠ some .float by decide, show (none : Option FieldType) ≠ some .double by decide⟩ (Nat.le_of_ble_eq_true rfl) rfl ⟨Nat.le_refl _, Nat.le_refl _⟩ (show (3 : Nat) ≠ 9 by decide) (fun Γ => sX10_init a0 a1 a2 a3 a4 a5 td c x h rfl)
theorem miX5_123 : MIn RX5 123 yX10_init muX10_init 5 := ⟨lw_meth q632, rfl, q143, q630, q631, rfl, by decide +kernel, by decide⟩
theorem miX11_3 : MIn RX11 3 yX7_init muX7_init 4 := ⟨lw_meth q585, rfl, q140, q647, q584, rfl, by decide +kernel, by decide⟩
theorem fqX11_9 : FP RX11 9 9 4 "<init>" := ⟨_, _, _, cf9, by decide, q648, Or.inr ⟨rfl, rfl, rfl⟩⟩
theorem fqX11_9t : fty 9 4 ≠ .boolean ∧ fty 9 4 ≠ .byte ∧ fty 9 4 ≠ .char ∧ fty 9 4 ≠ .short := by decide
theorem fqX11_15 : FP RX11 15 9 5 "<init>" := ⟨_, _, _, cf9, by decide, q649, Or.inr ⟨rfl, rfl, rfl⟩⟩
theorem fqX11_15t : fty 9 5 ≠ .boolean ∧ fty 9 5 ≠ .byte ∧ fty 9 5 ≠ .char ∧ fty 9 5 ≠ .short := by decide
abbrev muX11_init : MI := (cX11_init, RX11, 7, none, 3, "<init>")
noncomputable def fX11_init (a0 : Int) (a1 : Int) (a2 : Int) (a3 : Int) (a4 : Int) (a5 : Int) (a6 : Int) (td : TT) (c : CC) : Option CC :=
  gd ((0 : Int) ≤ a0) <| cl (fX7_init a0 a1 a2 a3 a4 td c) fun p_1 =>
   gd (168 ≤ a0 ∧ (tt td (Int.toNat a0)).1 = 9) <| bd (up2 p_1 (Int.toNat a0) 4 a5) fun c_2 =>
   gd (168 ≤ a0 ∧ (tt td (Int.toNat a0)).1 = 9) <| bd (up2 c_2 (Int.toNat a0) 5 a6) fun c_3 =>
   some c_3
theorem sX11_init {G : GG} {Γ : Cx} {r : Vv × Wd} {sz : Nat} {sl : Nat} (a0 : Int) (a1 : Int) (a2 : Int) (a3 : Int) (a4 : Int) (a5 : Int) (a6 : Int) (td : TT) (c : CC) : Sm (fX11_init a0 a1 a2 a3 a4 a5 a6 td c) (fun x => r = ((3, 0), (sz, sl, tt td, cv x))) (WP G Γ muX11_init r 0 [some (2, a0), some (0, a1), some (0, a2), some (0, a3), some (0, a4), some (0, a5), some (0, a6)] [] (sz, sl, tt td, cv c)) := by
  unfold fX11_init
  refine s_aload_n (pc := 0) dX11_init_0 rfl ?_
  refine s_iload_n (pc := 1) dX11_init_1 rfl ?_
  refine s_iload_n (pc := 2) dX11_init_2 rfl ?_
  refine s_iload_n (pc := 3) dX11_init_3 rfl ?_
  refine s_iload (pc := 4) dX11_init_4 rfl ?_
  refine s_callI3 (pc := 6) (as := [(0, a1), (0, a2), (0, a3), (0, a4)]) (st := []) (rv := fun b => ((3, 0), (sz, sl, tt td, cv b))) (st3 := fun b => []) (w3 := fun b => (sz, sl, tt td, cv b)) miX11_3 (fun b h => kX7_init a0 a1 a2 a3 a4 td c b h) rfl (by decide) rfl (Nat.le_of_ble_eq_true rfl) (fun _ => Nat.le_of_ble_eq_true rfl) (fun _ => ⟨rfl, rfl⟩) dX11_init_6 (fun p_1 => ?_)
  refine s_aload_n (pc := 9) dX11_init_9 rfl ?_
  refine s_iload (pc := 10) dX11_init_10 rfl ?_
  refine s_putDM (pc := 12) fqX11_9 rfl fqX11_9t dX11_init_12 (fun c_2 => ?_)
  refine s_aload_n (pc := 15) dX11_init_15 rfl ?_
  refine s_iload (pc := 16) dX11_init_16 rfl ?_
  refine s_putDM (pc := 18) fqX11_15 rfl fqX11_15t dX11_init_18 (fun c_3 => ?_)
  exact s_vret (pc := 21) dX11_init_21 rfl (fun h => h)
theorem kX11_init {G : GG} {sz : Nat} {sl : Nat} (a0 : Int) (a1 : Int) (a2 : Int) (a3 : Int) (a4 : Int) (a5 : Int) (a6 : Int) (td : TT) (c : CC) (x : CC) (h : fX11_init a0 a1 a2 a3 a4 a5 a6 td c = some x) : Ct G yX11_init muX11_init [(2, a0), (0, a1), (0, a2), (0, a3), (0, a4), (0, a5), (0, a6)] (sz, sl, tt td, cv c) ((3, 0), (sz, sl, tt td, cv x)) :=
  Ct.of (n := 0) (ls0 := [some (2, a0), some (0, a1), some (0, a2), some (0, a3), some (0, a4), some (0, a5), some (0, a6)]) (by decide) rfl rfl ⟨show (none : Option FieldType) ≠ some .float by decide, show (none : Option FieldType) ≠ some .double by decide⟩ (Nat.le_of_ble_eq_true rfl) rfl ⟨Nat.le_refl _, Nat.le_refl _⟩ (show (3 : Nat) ≠ 9 by decide) (fun Γ => sX11_init a0 a1 a2 a3 a4 a5 a6 td c x h rfl)
theorem miX5_126 : MIn RX5 126 yX11_init muX11_init 6 := ⟨lw_meth q646, rfl, q144, q644, q645, rfl, by decide +kernel, by decide⟩
theorem miX12_3 : MIn RX12 3 yX7_init muX7_init 4 := ⟨lw_meth q585, rfl, q140, q664, q584, rfl, by decide +kernel, by decide⟩
theorem fqX12_9 : FP RX12 9 10 4 "<init>" := ⟨_, _, _, cf10, by decide, q665, Or.inr ⟨rfl, rfl, rfl⟩⟩
theorem fqX12_9t : fty 10 4 ≠ .boolean ∧ fty 10 4 ≠ .byte ∧ fty 10 4 ≠ .char ∧ fty 10 4 ≠ .short := by decide
abbrev muX12_init : MI := (cX12_init, RX12, 5, none, 3, "<init>")
noncomputable def fX12_init (a0 : Int) (a1 : Int) (a2 : Int) (a3 : Int) (a4 : Int) (td : TT) (c : CC) : Option CC :=
  gd ((0 : Int) ≤ a0) <| cl (fX7_init a0 a1 a2 a3 (-1) td c) fun p_1 =>
   gd (168 ≤ a0 ∧ (tt td (Int.toNat a0)).1 = 10) <| bd (up2 p_1 (Int.toNat a0) 4 a4) fun c_2 =>
   some c_2
theorem sX12_init {G : GG} {Γ : Cx} {r : Vv × Wd} {sz : Nat} {sl : Nat} (a0 : Int) (a1 : Int) (a2 : Int) (a3 : Int) (a4 : Int) (td : TT) (c : CC) : Sm (fX12_init a0 a1 a2 a3 a4 td c) (fun x => r = ((3, 0), (sz, sl, tt td, cv x))) (WP G Γ muX12_init r 0 [some (2, a0), some (0, a1), some (0, a2), some (0, a3), some (0, a4)] [] (sz, sl, tt td, cv c)) := by
  unfold fX12_init
  refine s_aload_n (pc := 0) dX12_init_0 rfl ?_
  refine s_iload_n (pc := 1) dX12_init_1 rfl ?_
  refine s_iload_n (pc := 2) dX12_init_2 rfl ?_
  refine s_iload_n (pc := 3) dX12_init_3 rfl ?_
  refine s_iconst (pc := 4) dX12_init_4 ?_
  refine s_callI3 (pc := 5) (as := [(0, a1), (0, a2), (0, a3), (0, -1)]) (st := []) (rv := fun b => ((3, 0), (sz, sl, tt td, cv b))) (st3 := fun b => []) (w3 := fun b => (sz, sl, tt td, cv b)) miX12_3 (fun b h => kX7_init a0 a1 a2 a3 (-1) td c b h) rfl (by decide) rfl (Nat.le_of_ble_eq_true rfl) (fun _ => Nat.le_of_ble_eq_true rfl) (fun _ => ⟨rfl, rfl⟩) dX12_init_5 (fun p_1 => ?_)
  refine s_aload_n (pc := 8) dX12_init_8 rfl ?_
  refine s_iload (pc := 9) dX12_init_9 rfl ?_
  refine s_putDM (pc := 11) fqX12_9 rfl fqX12_9t dX12_init_11 (fun c_2 => ?_)
  exact s_vret (pc := 14) dX12_init_14 rfl (fun h => h)
theorem kX12_init {G : GG} {sz : Nat} {sl : Nat} (a0 : Int) (a1 : Int) (a2 : Int) (a3 : Int) (a4 : Int) (td : TT) (c : CC) (x : CC) (h : fX12_init a0 a1 a2 a3 a4 td c = some x) : Ct G yX12_init muX12_init [(2, a0), (0, a1), (0, a2), (0, a3), (0, a4)] (sz, sl, tt td, cv c) ((3, 0), (sz, sl, tt td, cv x)) :=
  Ct.of (n := 0) (ls0 := [some (2, a0), some (0, a1), some (0, a2), some (0, a3), some (0, a4)]) (by decide) rfl rfl ⟨show (none : Option FieldType) ≠ some .float by decide, show (none : Option FieldType) ≠ some .double by decide⟩ (Nat.le_of_ble_eq_true rfl) rfl ⟨Nat.le_refl _, Nat.le_refl _⟩ (show (3 : Nat) ≠ 9 by decide) (fun Γ => sX12_init a0 a1 a2 a3 a4 td c x h rfl)
theorem miX5_131 : MIn RX5 131 yX12_init muX12_init 4 := ⟨lw_meth q663, rfl, q145, q661, q662, rfl, by decide +kernel, by decide⟩
theorem miX8_3 : MIn RX8 3 yX7_init muX7_init 4 := ⟨lw_meth q585, rfl, q140, q583, q584, rfl, by decide +kernel, by decide⟩
theorem fqX8_9 : FP RX8 9 6 4 "<init>" := ⟨_, _, _, cf6, by decide, q587, Or.inr ⟨rfl, rfl, rfl⟩⟩
theorem fqX8_9t : fty 6 4 ≠ .boolean ∧ fty 6 4 ≠ .byte ∧ fty 6 4 ≠ .char ∧ fty 6 4 ≠ .short := by decide
abbrev muX8_init : MI := (cX8_init, RX8, 6, none, 3, "<init>")
noncomputable def fX8_init (a0 : Int) (a1 : Int) (a2 : Int) (a3 : Int) (a4 : Int) (a5 : Int) (td : TT) (c : CC) : Option CC :=
  gd ((0 : Int) ≤ a0) <| cl (fX7_init a0 a1 a2 a3 a4 td c) fun p_1 =>
   gd (168 ≤ a0 ∧ (tt td (Int.toNat a0)).1 = 6) <| bd (up2 p_1 (Int.toNat a0) 4 a5) fun c_2 =>
   some c_2
theorem sX8_init {G : GG} {Γ : Cx} {r : Vv × Wd} {sz : Nat} {sl : Nat} (a0 : Int) (a1 : Int) (a2 : Int) (a3 : Int) (a4 : Int) (a5 : Int) (td : TT) (c : CC) : Sm (fX8_init a0 a1 a2 a3 a4 a5 td c) (fun x => r = ((3, 0), (sz, sl, tt td, cv x))) (WP G Γ muX8_init r 0 [some (2, a0), some (0, a1), some (0, a2), some (0, a3), some (0, a4), some (0, a5)] [] (sz, sl, tt td, cv c)) := by
  unfold fX8_init
  refine s_aload_n (pc := 0) dX8_init_0 rfl ?_
  refine s_iload_n (pc := 1) dX8_init_1 rfl ?_
  refine s_iload_n (pc := 2) dX8_init_2 rfl ?_
  refine s_iload_n (pc := 3) dX8_init_3 rfl ?_
  refine s_iload (pc := 4) dX8_init_4 rfl ?_
  refine s_callI3 (pc := 6) (as := [(0, a1), (0, a2), (0, a3), (0, a4)]) (st := []) (rv := fun b => ((3, 0), (sz, sl, tt td, cv b))) (st3 := fun b => []) (w3 := fun b => (sz, sl, tt td, cv b)) miX8_3 (fun b h => kX7_init a0 a1 a2 a3 a4 td c b h) rfl (by decide) rfl (Nat.le_of_ble_eq_true rfl) (fun _ => Nat.le_of_ble_eq_true rfl) (fun _ => ⟨rfl, rfl⟩) dX8_init_6 (fun p_1 => ?_)
  refine s_aload_n (pc := 9) dX8_init_9 rfl ?_
  refine s_iload (pc := 10) dX8_init_10 rfl ?_
  refine s_putDM (pc := 12) fqX8_9 rfl fqX8_9t dX8_init_12 (fun c_2 => ?_)
  exact s_vret (pc := 15) dX8_init_15 rfl (fun h => h)
theorem kX8_init {G : GG} {sz : Nat} {sl : Nat} (a0 : Int) (a1 : Int) (a2 : Int) (a3 : Int) (a4 : Int) (a5 : Int) (td : TT) (c : CC) (x : CC) (h : fX8_init a0 a1 a2 a3 a4 a5 td c = some x) : Ct G yX8_init muX8_init [(2, a0), (0, a1), (0, a2), (0, a3), (0, a4), (0, a5)] (sz, sl, tt td, cv c) ((3, 0), (sz, sl, tt td, cv x)) :=
  Ct.of (n := 0) (ls0 := [some (2, a0), some (0, a1), some (0, a2), some (0, a3), some (0, a4), some (0, a5)]) (by decide) rfl rfl ⟨show (none : Option FieldType) ≠ some .float by decide, show (none : Option FieldType) ≠ some .double by decide⟩ (Nat.le_of_ble_eq_true rfl) rfl ⟨Nat.le_refl _, Nat.le_refl _⟩ (show (3 : Nat) ≠ 9 by decide) (fun Γ => sX8_init a0 a1 a2 a3 a4 a5 td c x h rfl)
theorem miX5_113 : MIn RX5 113 yX8_init muX8_init 5 := ⟨lw_meth q582, rfl, q141, q580, q581, rfl, by decide +kernel, by decide⟩
abbrev muX5_sense : MI := (cX5_sense, RX5, 7, some (.object "HeldTongue$Sense"), 10, "sense")
noncomputable def fX5_sense_j150 (v0 : Int) (v1 : Int) (v2 : Int) (v3 : Int) (v4 : Int) (v5 : Int) (w0 : Int) (sz : Nat) (sl : Nat) (td : TT) (c : CC) : Option (ThrT ⊕ (Int × Nat × Nat × TT × CC)) :=
  if v2 = 317 then
  (gd (kK ≤ sz) <| bd (upT td sz (7, 7)) fun tq_9 => bd (zc c sz 7) fun c_10 =>
   gd ((0 : Int) ≤ v0 ∧ (tt tq_9 (Int.toNat v0)).1 = 4) <|
   gd (inR ((cv c_10 (Int.toNat v0) 8) - 1)) <|
   gd ((0 : Int) ≤ ((sz : Nat) : Int)) <| cl (fX9_init (((sz : Nat) : Int)) ((cv c_10 (Int.toNat v0) 8) - 1) v1 v5 w0 v3 v4 0 tq_9 c_10) fun p_11 =>
   some (.inr ((((sz : Nat) : Int)), (sz + 1), (sl + 7), tq_9, p_11)))
  else if v2 = 318 then
  (gd (kK ≤ sz) <| bd (upT td sz (7, 7)) fun tq_13 => bd (zc c sz 7) fun c_14 =>
   gd ((0 : Int) ≤ v0 ∧ (tt tq_13 (Int.toNat v0)).1 = 4) <|
   gd (inR ((cv c_14 (Int.toNat v0) 8) - 1)) <|
   gd ((0 : Int) ≤ ((sz : Nat) : Int)) <| cl (fX9_init (((sz : Nat) : Int)) ((cv c_14 (Int.toNat v0) 8) - 1) v1 v5 w0 v3 v4 1 tq_13 c_14) fun p_15 =>
   some (.inr ((((sz : Nat) : Int)), (sz + 1), (sl + 7), tq_13, p_15)))
  else if v2 = 319 then
  (gd (kK ≤ sz) <| bd (upT td sz (8, 5)) fun tq_17 => bd (zc c sz 8) fun c_18 =>
   gd ((0 : Int) ≤ v0 ∧ (tt tq_17 (Int.toNat v0)).1 = 4) <|
   gd (inR ((cv c_18 (Int.toNat v0) 8) - 1)) <|
   gd ((0 : Int) ≤ ((sz : Nat) : Int)) <| cl (fX10_init (((sz : Nat) : Int)) ((cv c_18 (Int.toNat v0) 8) - 1) v1 v5 w0 v3 tq_17 c_18) fun p_19 =>
   some (.inr ((((sz : Nat) : Int)), (sz + 1), (sl + 5), tq_17, p_19)))
  else if v2 = 320 then
  (gd (kK ≤ sz) <| bd (upT td sz (9, 6)) fun tq_21 => bd (zc c sz 9) fun c_22 =>
   gd ((0 : Int) ≤ v0 ∧ (tt tq_21 (Int.toNat v0)).1 = 4) <|
   gd (inR ((cv c_22 (Int.toNat v0) 8) - 1)) <|
   gd ((0 : Int) ≤ ((sz : Nat) : Int)) <| cl (fX11_init (((sz : Nat) : Int)) ((cv c_22 (Int.toNat v0) 8) - 1) v1 v5 w0 v3 v4 tq_21 c_22) fun p_23 =>
   some (.inr ((((sz : Nat) : Int)), (sz + 1), (sl + 6), tq_21, p_23)))
  else (gd (kK ≤ sz) <| bd (upT td sz (10, 5)) fun tq_24 => bd (zc c sz 10) fun c_25 =>
   gd ((0 : Int) ≤ v0 ∧ (tt tq_24 (Int.toNat v0)).1 = 4) <|
   gd (inR ((cv c_25 (Int.toNat v0) 8) - 1)) <|
   gd ((0 : Int) ≤ ((sz : Nat) : Int)) <| cl (fX12_init (((sz : Nat) : Int)) ((cv c_25 (Int.toNat v0) 8) - 1) v1 v5 v3 tq_24 c_25) fun p_26 =>
   some (.inr ((((sz : Nat) : Int)), (sz + 1), (sl + 5), tq_24, p_26)))
theorem sX5_sense_j150 {G : GG} {Γ : Cx} {r : Vv × Wd}  (v0 : Int) (v1 : Int) (v2 : Int) (v3 : Int) (v4 : Int) (v5 : Int) (w0 : Int) (sz : Nat) (sl : Nat) (td : TT) (c : CC) : Sm (fX5_sense_j150 v0 v1 v2 v3 v4 v5 w0 sz sl td c) (fun x => r = (Sum.elim te (fun v => ((2, v.1), (v.2.1, v.2.2.1, tt v.2.2.2.1, cv v.2.2.2.2))) x)) (WP G Γ muX5_sense r 150 [some (2, v0), some (0, v1), some (0, v2), some (0, v3), some (0, v4), some (0, v5), none] [(0, w0)] (sz, sl, tt td, cv c)) := by
  unfold fX5_sense_j150
  refine s_istoreD (pc := 150) (ls' := [some (2, v0), some (0, v1), some (0, v2), some (0, v3), some (0, v4), some (0, v5), some (0, w0)]) dX5_sense_150 rfl (Nat.le_of_ble_eq_true rfl) ?_
  refine s_iload_n (pc := 152) dX5_sense_152 rfl ?_
  refine Sm.ite (fun hq_8 => ?_) (fun hq_8 => ?_)
  · refine s_tblIn (pc := 153) (tgt := 184) dX5_sense_153 317 hq_8 (by decide) rfl rfl ?_
    refine s_newM (pc := 184) cf7 q608 q609 q142 dX5_sense_184 (fun tq_9 c_10 => ?_)
    refine s_dup (pc := 187) (by decide : ¬ (2 : Nat) = 1) dX5_sense_187 ?_
    refine s_aload_n (pc := 188) dX5_sense_188 rfl ?_
    refine s_getD (pc := 189) flX5_107 rfl dX5_sense_189 ?_
    refine s_iconst (pc := 192) dX5_sense_192 ?_
    refine s_isub (pc := 193) dX5_sense_193 ?_
    refine s_iload_n (pc := 194) dX5_sense_194 rfl ?_
    refine s_iload (pc := 195) dX5_sense_195 rfl ?_
    refine s_iload (pc := 197) dX5_sense_197 rfl ?_
    refine s_iload_n (pc := 199) dX5_sense_199 rfl ?_
    refine s_iload (pc := 200) dX5_sense_200 rfl ?_
    refine s_iconst (pc := 202) dX5_sense_202 ?_
    refine s_callI3 (pc := 203) (as := [(0, (cv c_10 (Int.toNat v0) 8) - 1), (0, v1), (0, v5), (0, w0), (0, v3), (0, v4), (0, 0)]) (st := [(2, ((sz : Nat) : Int))]) (rv := fun b => ((3, 0), (sz + 1, sl + 7, tt tq_9, cv b))) (st3 := fun b => [(2, ((sz : Nat) : Int))]) (w3 := fun b => (sz + 1, sl + 7, tt tq_9, cv b)) miX5_118 (fun b h => kX9_init (((sz : Nat) : Int)) ((cv c_10 (Int.toNat v0) 8) - 1) v1 v5 w0 v3 v4 0 tq_9 c_10 b h) rfl (by decide) rfl (Nat.le_of_ble_eq_true rfl) (fun _ => Nat.le_of_ble_eq_true rfl) (fun _ => ⟨rfl, rfl⟩) dX5_sense_203 (fun p_11 => ?_)
    exact s_aret (pc := 206) dX5_sense_206 rfl ⟨rfl, by decide, by decide⟩ (fun h => h)
  refine Sm.ite (fun hq_12 => ?_) (fun hq_12 => ?_)
  · refine s_tblIn (pc := 153) (tgt := 207) dX5_sense_153 318 hq_12 (by decide) rfl rfl ?_
    refine s_newM (pc := 207) cf7 q608 q609 q142 dX5_sense_207 (fun tq_13 c_14 => ?_)
    refine s_dup (pc := 210) (by decide : ¬ (2 : Nat) = 1) dX5_sense_210 ?_
    refine s_aload_n (pc := 211) dX5_sense_211 rfl ?_
    refine s_getD (pc := 212) flX5_107 rfl dX5_sense_212 ?_
    refine s_iconst (pc := 215) dX5_sense_215 ?_
    refine s_isub (pc := 216) dX5_sense_216 ?_
    refine s_iload_n (pc := 217) dX5_sense_217 rfl ?_
    refine s_iload (pc := 218) dX5_sense_218 rfl ?_
    refine s_iload (pc := 220) dX5_sense_220 rfl ?_
    refine s_iload_n (pc := 222) dX5_sense_222 rfl ?_
    refine s_iload (pc := 223) dX5_sense_223 rfl ?_
    refine s_iconst (pc := 225) dX5_sense_225 ?_
    refine s_callI3 (pc := 226) (as := [(0, (cv c_14 (Int.toNat v0) 8) - 1), (0, v1), (0, v5), (0, w0), (0, v3), (0, v4), (0, 1)]) (st := [(2, ((sz : Nat) : Int))]) (rv := fun b => ((3, 0), (sz + 1, sl + 7, tt tq_13, cv b))) (st3 := fun b => [(2, ((sz : Nat) : Int))]) (w3 := fun b => (sz + 1, sl + 7, tt tq_13, cv b)) miX5_118 (fun b h => kX9_init (((sz : Nat) : Int)) ((cv c_14 (Int.toNat v0) 8) - 1) v1 v5 w0 v3 v4 1 tq_13 c_14 b h) rfl (by decide) rfl (Nat.le_of_ble_eq_true rfl) (fun _ => Nat.le_of_ble_eq_true rfl) (fun _ => ⟨rfl, rfl⟩) dX5_sense_226 (fun p_15 => ?_)
    exact s_aret (pc := 229) dX5_sense_229 rfl ⟨rfl, by decide, by decide⟩ (fun h => h)
  refine Sm.ite (fun hq_16 => ?_) (fun hq_16 => ?_)
  · refine s_tblIn (pc := 153) (tgt := 230) dX5_sense_153 319 hq_16 (by decide) rfl rfl ?_
    refine s_newM (pc := 230) cf8 q628 q629 q143 dX5_sense_230 (fun tq_17 c_18 => ?_)
    refine s_dup (pc := 233) (by decide : ¬ (2 : Nat) = 1) dX5_sense_233 ?_
    refine s_aload_n (pc := 234) dX5_sense_234 rfl ?_
    refine s_getD (pc := 235) flX5_107 rfl dX5_sense_235 ?_
    refine s_iconst (pc := 238) dX5_sense_238 ?_
    refine s_isub (pc := 239) dX5_sense_239 ?_
    refine s_iload_n (pc := 240) dX5_sense_240 rfl ?_
    refine s_iload (pc := 241) dX5_sense_241 rfl ?_
    refine s_iload (pc := 243) dX5_sense_243 rfl ?_
    refine s_iload_n (pc := 245) dX5_sense_245 rfl ?_
    refine s_callI3 (pc := 246) (as := [(0, (cv c_18 (Int.toNat v0) 8) - 1), (0, v1), (0, v5), (0, w0), (0, v3)]) (st := [(2, ((sz : Nat) : Int))]) (rv := fun b => ((3, 0), (sz + 1, sl + 5, tt tq_17, cv b))) (st3 := fun b => [(2, ((sz : Nat) : Int))]) (w3 := fun b => (sz + 1, sl + 5, tt tq_17, cv b)) miX5_123 (fun b h => kX10_init (((sz : Nat) : Int)) ((cv c_18 (Int.toNat v0) 8) - 1) v1 v5 w0 v3 tq_17 c_18 b h) rfl (by decide) rfl (Nat.le_of_ble_eq_true rfl) (fun _ => Nat.le_of_ble_eq_true rfl) (fun _ => ⟨rfl, rfl⟩) dX5_sense_246 (fun p_19 => ?_)
    exact s_aret (pc := 249) dX5_sense_249 rfl ⟨rfl, by decide, by decide⟩ (fun h => h)
  refine Sm.ite (fun hq_20 => ?_) (fun hq_20 => ?_)
  · refine s_tblIn (pc := 153) (tgt := 250) dX5_sense_153 320 hq_20 (by decide) rfl rfl ?_
    refine s_newM (pc := 250) cf9 q642 q643 q144 dX5_sense_250 (fun tq_21 c_22 => ?_)
    refine s_dup (pc := 253) (by decide : ¬ (2 : Nat) = 1) dX5_sense_253 ?_
    refine s_aload_n (pc := 254) dX5_sense_254 rfl ?_
    refine s_getD (pc := 255) flX5_107 rfl dX5_sense_255 ?_
    refine s_iconst (pc := 258) dX5_sense_258 ?_
    refine s_isub (pc := 259) dX5_sense_259 ?_
    refine s_iload_n (pc := 260) dX5_sense_260 rfl ?_
    refine s_iload (pc := 261) dX5_sense_261 rfl ?_
    refine s_iload (pc := 263) dX5_sense_263 rfl ?_
    refine s_iload_n (pc := 265) dX5_sense_265 rfl ?_
    refine s_iload (pc := 266) dX5_sense_266 rfl ?_
    refine s_callI3 (pc := 268) (as := [(0, (cv c_22 (Int.toNat v0) 8) - 1), (0, v1), (0, v5), (0, w0), (0, v3), (0, v4)]) (st := [(2, ((sz : Nat) : Int))]) (rv := fun b => ((3, 0), (sz + 1, sl + 6, tt tq_21, cv b))) (st3 := fun b => [(2, ((sz : Nat) : Int))]) (w3 := fun b => (sz + 1, sl + 6, tt tq_21, cv b)) miX5_126 (fun b h => kX11_init (((sz : Nat) : Int)) ((cv c_22 (Int.toNat v0) 8) - 1) v1 v5 w0 v3 v4 tq_21 c_22 b h) rfl (by decide) rfl (Nat.le_of_ble_eq_true rfl) (fun _ => Nat.le_of_ble_eq_true rfl) (fun _ => ⟨rfl, rfl⟩) dX5_sense_268 (fun p_23 => ?_)
    exact s_aret (pc := 271) dX5_sense_271 rfl ⟨rfl, by decide, by decide⟩ (fun h => h)
  refine s_tblOut (pc := 153) (tgt := 272) dX5_sense_153 (by omega) rfl ?_
  refine s_newM (pc := 272) cf10 q659 q660 q145 dX5_sense_272 (fun tq_24 c_25 => ?_)
  refine s_dup (pc := 275) (by decide : ¬ (2 : Nat) = 1) dX5_sense_275 ?_
  refine s_aload_n (pc := 276) dX5_sense_276 rfl ?_
  refine s_getD (pc := 277) flX5_107 rfl dX5_sense_277 ?_
  refine s_iconst (pc := 280) dX5_sense_280 ?_
  refine s_isub (pc := 281) dX5_sense_281 ?_
  refine s_iload_n (pc := 282) dX5_sense_282 rfl ?_
  refine s_iload (pc := 283) dX5_sense_283 rfl ?_
  refine s_iload_n (pc := 285) dX5_sense_285 rfl ?_
  refine s_callI3 (pc := 286) (as := [(0, (cv c_25 (Int.toNat v0) 8) - 1), (0, v1), (0, v5), (0, v3)]) (st := [(2, ((sz : Nat) : Int))]) (rv := fun b => ((3, 0), (sz + 1, sl + 5, tt tq_24, cv b))) (st3 := fun b => [(2, ((sz : Nat) : Int))]) (w3 := fun b => (sz + 1, sl + 5, tt tq_24, cv b)) miX5_131 (fun b h => kX12_init (((sz : Nat) : Int)) ((cv c_25 (Int.toNat v0) 8) - 1) v1 v5 v3 tq_24 c_25 b h) rfl (by decide) rfl (Nat.le_of_ble_eq_true rfl) (fun _ => Nat.le_of_ble_eq_true rfl) (fun _ => ⟨rfl, rfl⟩) dX5_sense_286 (fun p_26 => ?_)
  exact s_aret (pc := 289) dX5_sense_289 rfl ⟨rfl, by decide, by decide⟩ (fun h => h)
noncomputable def fX5_sense_j118 (v0 : Int) (v1 : Int) (v2 : Int) (v3 : Int) (w0 : Int) (sz : Nat) (sl : Nat) (td : TT) (c : CC) : Option (ThrT ⊕ (Int × Nat × Nat × TT × CC)) :=
  gd ((0 : Int) ≤ v0 ∧ (tt td (Int.toNat v0)).1 = 4) <| cl (fX5_after v0 322 7 sz sl td c) (Sum.elim (fun e => some (.inl e)) fun p_6 =>
   if v2 = 321 then
  (fX5_sense_j150 v0 v1 v2 v3 w0 p_6.1 (-1) p_6.2.1 p_6.2.2.1 p_6.2.2.2.1 p_6.2.2.2.2)
  else
  (gd ((0 : Int) ≤ v0 ∧ (tt p_6.2.2.2.1 (Int.toNat v0)).1 = 4) <| cl (fX5_after v0 44 99 p_6.2.1 p_6.2.2.1 p_6.2.2.2.1 p_6.2.2.2.2) (Sum.elim (fun e => some (.inl e)) fun p_7 =>
   fX5_sense_j150 v0 v1 v2 v3 w0 p_6.1 p_7.1 p_7.2.1 p_7.2.2.1 p_7.2.2.2.1 p_7.2.2.2.2)))
theorem sX5_sense_j118 {G : GG} {Γ : Cx} {r : Vv × Wd}  (v0 : Int) (v1 : Int) (v2 : Int) (v3 : Int) (w0 : Int) (sz : Nat) (sl : Nat) (td : TT) (c : CC) : Sm (fX5_sense_j118 v0 v1 v2 v3 w0 sz sl td c) (fun x => r = (Sum.elim te (fun v => ((2, v.1), (v.2.1, v.2.2.1, tt v.2.2.2.1, cv v.2.2.2.2))) x)) (WP G Γ muX5_sense r 118 [some (2, v0), some (0, v1), some (0, v2), some (0, v3), none, none, none] [(0, w0)] (sz, sl, tt td, cv c)) := by
  unfold fX5_sense_j118
  refine s_istoreD (pc := 118) (ls' := [some (2, v0), some (0, v1), some (0, v2), some (0, v3), some (0, w0), none, none]) dX5_sense_118 rfl (Nat.le_of_ble_eq_true rfl) ?_
  refine s_aload_n (pc := 120) dX5_sense_120 rfl ?_
  refine s_sipush (pc := 121) dX5_sense_121 ?_
  refine s_bipush (pc := 124) dX5_sense_124 ?_
  refine s_callVE (pc := 126) (ci := 4) (as := [(0, 322), (0, 7)]) (st := []) (rv := fun b => ((0, b.1), (b.2.1, b.2.2.1, tt b.2.2.2.1, cv b.2.2.2.2))) (st3 := fun b => [(0, b.1)]) (w3 := fun b => (b.2.1, b.2.2.1, tt b.2.2.2.1, cv b.2.2.2.2)) mvX5_110 (fun b h => kX5_after v0 322 7 sz sl td c b h) rfl (by decide) rfl rfl (Nat.le_of_ble_eq_true rfl) (fun _ => Nat.le_of_ble_eq_true rfl) (fun _ => ⟨rfl, rfl⟩) dX5_sense_126 (fun _ => Sm.some (fun h => h)) (fun p_6 => ?_)
  refine s_istoreD (pc := 129) (ls' := [some (2, v0), some (0, v1), some (0, v2), some (0, v3), some (0, w0), some (0, p_6.1), none]) dX5_sense_129 rfl (Nat.le_of_ble_eq_true rfl) ?_
  refine s_iload_n (pc := 131) dX5_sense_131 rfl ?_
  refine s_sipush (pc := 132) dX5_sense_132 ?_
  refine s_icmp_ne (pc := 135) (tgt := 142) dX5_sense_135 rfl ?_ ?_
  · refine s_aload_n (pc := 142) dX5_sense_142 rfl ?_
    refine s_bipush (pc := 143) dX5_sense_143 ?_
    refine s_bipush (pc := 145) dX5_sense_145 ?_
    refine s_callVE (pc := 147) (ci := 4) (as := [(0, 44), (0, 99)]) (st := []) (rv := fun b => ((0, b.1), (b.2.1, b.2.2.1, tt b.2.2.2.1, cv b.2.2.2.2))) (st3 := fun b => [(0, b.1)]) (w3 := fun b => (b.2.1, b.2.2.1, tt b.2.2.2.1, cv b.2.2.2.2)) mvX5_110 (fun b h => kX5_after v0 44 99 p_6.2.1 p_6.2.2.1 p_6.2.2.2.1 p_6.2.2.2.2 b h) rfl (by decide) rfl rfl (Nat.le_of_ble_eq_true rfl) (fun _ => Nat.le_of_ble_eq_true rfl) (fun _ => ⟨rfl, rfl⟩) dX5_sense_147 (fun _ => Sm.some (fun h => h)) (fun p_7 => ?_)
    exact sX5_sense_j150 v0 v1 v2 v3 w0 p_6.1 p_7.1 p_7.2.1 p_7.2.2.1 p_7.2.2.2.1 p_7.2.2.2.2
  refine s_iconst (pc := 138) dX5_sense_138 ?_
  refine s_goto (pc := 139) (tgt := 150) dX5_sense_139 rfl ?_
  exact sX5_sense_j150 v0 v1 v2 v3 w0 p_6.1 (-1) p_6.2.1 p_6.2.2.1 p_6.2.2.2.1 p_6.2.2.2.2
noncomputable def fX5_sense (a0 : Int) (sz : Nat) (sl : Nat) (td : TT) (c : CC) : Option (ThrT ⊕ (Int × Nat × Nat × TT × CC)) :=
  gd ((0 : Int) ≤ a0 ∧ (tt td (Int.toNat a0)).1 = 4) <| cl (fX5_number a0 0 19 sz sl td c) (Sum.elim (fun e => some (.inl e)) fun p_1 =>
   gd ((0 : Int) ≤ a0 ∧ (tt p_1.2.2.2.1 (Int.toNat a0)).1 = 4) <|
   bd (cv p_1.2.2.2.2 (Int.toNat a0) 4) fun v2_2 =>
   cl (fX0_in v2_2 316 321 ) fun p_3 =>
   if p_3 = 0 then
  (gd ((0 : Int) ≤ a0 ∧ (tt p_1.2.2.2.1 (Int.toNat a0)).1 = 4) <| cl (fX5_wrong a0 1 p_1.2.1 p_1.2.2.1 p_1.2.2.2.1 p_1.2.2.2.2) fun p_34 =>
   gd ((0 : Int) ≤ p_34.1) (some (.inl (p_34.1, p_34.2.1, p_34.2.2.1, p_34.2.2.2.1, p_34.2.2.2.2))))
  else
  (gd ((0 : Int) ≤ a0 ∧ (tt p_1.2.2.2.1 (Int.toNat a0)).1 = 4) <| cl (fX5_next a0 p_1.2.2.2.1 p_1.2.2.2.2) fun p_4 =>
   gd ((0 : Int) ≤ a0 ∧ (tt p_1.2.2.2.1 (Int.toNat a0)).1 = 4) <| cl (fX5_number a0 0 7 p_1.2.1 p_1.2.2.1 p_1.2.2.2.1 p_4) (Sum.elim (fun e => some (.inl e)) fun p_5 =>
   if v2_2 = 316 then
  (gd ((0 : Int) ≤ a0 ∧ (tt p_5.2.2.2.1 (Int.toNat a0)).1 = 4) <| cl (fX5_need a0 44 p_5.2.1 p_5.2.2.1 p_5.2.2.2.1 p_5.2.2.2.2) (Sum.elim (fun e => some (.inl e)) fun p_28 =>
   gd ((0 : Int) ≤ a0 ∧ (tt p_28.2.2.1 (Int.toNat a0)).1 = 4) <| cl (fX5_number a0 1 9 p_28.1 p_28.2.1 p_28.2.2.1 p_28.2.2.2) (Sum.elim (fun e => some (.inl e)) fun p_29 =>
   gd (kK ≤ p_29.2.1) <| bd (upT p_29.2.2.2.1 p_29.2.1 (6, 5)) fun tq_30 => bd (zc p_29.2.2.2.2 p_29.2.1 6) fun c_31 =>
   gd ((0 : Int) ≤ a0 ∧ (tt tq_30 (Int.toNat a0)).1 = 4) <|
   gd (inR ((cv c_31 (Int.toNat a0) 8) - 1)) <|
   gd ((0 : Int) ≤ a0 ∧ (tt tq_30 (Int.toNat a0)).1 = 4) <| cl (fX5_after a0 44 99 (p_29.2.1 + 1) (p_29.2.2.1 + 5) tq_30 c_31) (Sum.elim (fun e => some (.inl e)) fun p_32 =>
   gd ((0 : Int) ≤ ((p_29.2.1 : Nat) : Int)) <| cl (fX8_init (((p_29.2.1 : Nat) : Int)) ((cv c_31 (Int.toNat a0) 8) - 1) p_1.1 p_5.1 p_32.1 p_29.1 p_32.2.2.2.1 p_32.2.2.2.2) fun p_33 =>
   some (.inr ((((p_29.2.1 : Nat) : Int)), p_32.2.1, p_32.2.2.1, p_32.2.2.2.1, p_33))))))
  else
  (if v2_2 = 319 then
  (fX5_sense_j118 a0 p_1.1 v2_2 p_5.1 p_5.1 p_5.2.1 p_5.2.2.1 p_5.2.2.2.1 p_5.2.2.2.2)
  else
  (if v2_2 = 321 then
  (fX5_sense_j118 a0 p_1.1 v2_2 p_5.1 p_5.1 p_5.2.1 p_5.2.2.1 p_5.2.2.2.1 p_5.2.2.2.2)
  else
  (gd ((0 : Int) ≤ a0 ∧ (tt p_5.2.2.2.1 (Int.toNat a0)).1 = 4) <| cl (fX5_after a0 44 7 p_5.2.1 p_5.2.2.1 p_5.2.2.2.1 p_5.2.2.2.2) (Sum.elim (fun e => some (.inl e)) fun p_27 =>
   fX5_sense_j118 a0 p_1.1 v2_2 p_5.1 p_27.1 p_27.2.1 p_27.2.2.1 p_27.2.2.2.1 p_27.2.2.2.2)))))))
theorem sX5_sense {G : GG} {Γ : Cx} {r : Vv × Wd}  (a0 : Int) (sz : Nat) (sl : Nat) (td : TT) (c : CC) : Sm (fX5_sense a0 sz sl td c) (fun x => r = (Sum.elim te (fun v => ((2, v.1), (v.2.1, v.2.2.1, tt v.2.2.2.1, cv v.2.2.2.2))) x)) (WP G Γ muX5_sense r 0 [some (2, a0), none, none, none, none, none, none] [] (sz, sl, tt td, cv c)) := by
  unfold fX5_sense
  refine s_aload_n (pc := 0) dX5_sense_0 rfl ?_
  refine s_iconst (pc := 1) dX5_sense_1 ?_
  refine s_bipush (pc := 2) dX5_sense_2 ?_
  refine s_callVE (pc := 4) (ci := 4) (as := [(0, 0), (0, 19)]) (st := []) (rv := fun b => ((0, b.1), (b.2.1, b.2.2.1, tt b.2.2.2.1, cv b.2.2.2.2))) (st3 := fun b => [(0, b.1)]) (w3 := fun b => (b.2.1, b.2.2.1, tt b.2.2.2.1, cv b.2.2.2.2)) mvX5_102 (fun b h => kX5_number a0 0 19 sz sl td c b h) rfl (by decide) rfl rfl (Nat.le_of_ble_eq_true rfl) (fun _ => Nat.le_of_ble_eq_true rfl) (fun _ => ⟨rfl, rfl⟩) dX5_sense_4 (fun _ => Sm.some (fun h => h)) (fun p_1 => ?_)
  refine s_istore_nD (pc := 7) (ls' := [some (2, a0), some (0, p_1.1), none, none, none, none, none]) dX5_sense_7 rfl (Nat.le_of_ble_eq_true rfl) ?_
  refine s_aload_n (pc := 8) dX5_sense_8 rfl ?_
  refine s_getD (pc := 9) flX5_60 rfl dX5_sense_9 ?_
  refine s_istore_n (pc := 12) (lf := fun x => [some (2, a0), some (0, p_1.1), some (0, x), none, none, none, none]) dX5_sense_12 (fun _ => rfl) (Nat.le_of_ble_eq_true rfl) (fun v2_2 => ?_)
  refine s_iload_n (pc := 13) dX5_sense_13 rfl ?_
  refine s_sipush (pc := 14) dX5_sense_14 ?_
  refine s_sipush (pc := 17) dX5_sense_17 ?_
  refine s_callSN3 (pc := 20) (as := [(0, v2_2), (0, 316), (0, 321)]) (st := []) (rv := fun b => ((0, b), (p_1.2.1, p_1.2.2.1, tt p_1.2.2.2.1, cv p_1.2.2.2.2))) (st3 := fun b => [(0, b)]) (w3 := fun b => (p_1.2.1, p_1.2.2.1, tt p_1.2.2.2.1, cv p_1.2.2.2.2)) msnX5_26 (fun b h => kX0_in v2_2 316 321 p_1.2.2.2.2 b h) rfl (by decide) rfl (Nat.le_of_ble_eq_true rfl) (fun _ => Nat.le_of_ble_eq_true rfl) (fun _ => ⟨rfl, rfl⟩) dX5_sense_20 (fun p_3 => ?_)
  refine s_if_ne (pc := 23) (tgt := 32) dX5_sense_23 rfl ?_ ?_
  · refine s_aload_n (pc := 32) dX5_sense_32 rfl ?_
    refine s_callVG (pc := 33) (ci := 4) (as := []) (st := []) (rv := fun b => ((3, 0), (p_1.2.1, p_1.2.2.1, tt p_1.2.2.2.1, cv b))) (st3 := fun b => []) (w3 := fun b => (p_1.2.1, p_1.2.2.1, tt p_1.2.2.2.1, cv b)) mvX5_92 (fun b h => kX5_next a0 p_1.2.2.2.1 p_1.2.2.2.2 b h) rfl (by decide) rfl rfl (Nat.le_of_ble_eq_true rfl) (fun _ => Nat.le_of_ble_eq_true rfl) (fun _ => ⟨rfl, rfl⟩) dX5_sense_33 (fun p_4 => ?_)
    refine s_aload_n (pc := 36) dX5_sense_36 rfl ?_
    refine s_iconst (pc := 37) dX5_sense_37 ?_
    refine s_bipush (pc := 38) dX5_sense_38 ?_
    refine s_callVE (pc := 40) (ci := 4) (as := [(0, 0), (0, 7)]) (st := []) (rv := fun b => ((0, b.1), (b.2.1, b.2.2.1, tt b.2.2.2.1, cv b.2.2.2.2))) (st3 := fun b => [(0, b.1)]) (w3 := fun b => (b.2.1, b.2.2.1, tt b.2.2.2.1, cv b.2.2.2.2)) mvX5_102 (fun b h => kX5_number a0 0 7 p_1.2.1 p_1.2.2.1 p_1.2.2.2.1 p_4 b h) rfl (by decide) rfl rfl (Nat.le_of_ble_eq_true rfl) (fun _ => Nat.le_of_ble_eq_true rfl) (fun _ => ⟨rfl, rfl⟩) dX5_sense_40 (fun _ => Sm.some (fun h => h)) (fun p_5 => ?_)
    refine s_istore_nD (pc := 43) (ls' := [some (2, a0), some (0, p_1.1), some (0, v2_2), some (0, p_5.1), none, none, none]) dX5_sense_43 rfl (Nat.le_of_ble_eq_true rfl) ?_
    refine s_iload_n (pc := 44) dX5_sense_44 rfl ?_
    refine s_sipush (pc := 45) dX5_sense_45 ?_
    refine s_icmp_ne (pc := 48) (tgt := 92) dX5_sense_48 rfl ?_ ?_
    · refine s_iload_n (pc := 92) dX5_sense_92 rfl ?_
      refine s_sipush (pc := 93) dX5_sense_93 ?_
      refine s_icmp_eq (pc := 96) (tgt := 106) dX5_sense_96 rfl ?_ ?_
      · refine s_iload_n (pc := 106) dX5_sense_106 rfl ?_
        refine s_goto (pc := 107) (tgt := 118) dX5_sense_107 rfl ?_
        exact sX5_sense_j118 a0 p_1.1 v2_2 p_5.1 p_5.1 p_5.2.1 p_5.2.2.1 p_5.2.2.2.1 p_5.2.2.2.2
      refine s_iload_n (pc := 99) dX5_sense_99 rfl ?_
      refine s_sipush (pc := 100) dX5_sense_100 ?_
      refine s_icmp_ne (pc := 103) (tgt := 110) dX5_sense_103 rfl ?_ ?_
      · refine s_aload_n (pc := 110) dX5_sense_110 rfl ?_
        refine s_bipush (pc := 111) dX5_sense_111 ?_
        refine s_bipush (pc := 113) dX5_sense_113 ?_
        refine s_callVE (pc := 115) (ci := 4) (as := [(0, 44), (0, 7)]) (st := []) (rv := fun b => ((0, b.1), (b.2.1, b.2.2.1, tt b.2.2.2.1, cv b.2.2.2.2))) (st3 := fun b => [(0, b.1)]) (w3 := fun b => (b.2.1, b.2.2.1, tt b.2.2.2.1, cv b.2.2.2.2)) mvX5_110 (fun b h => kX5_after a0 44 7 p_5.2.1 p_5.2.2.1 p_5.2.2.2.1 p_5.2.2.2.2 b h) rfl (by decide) rfl rfl (Nat.le_of_ble_eq_true rfl) (fun _ => Nat.le_of_ble_eq_true rfl) (fun _ => ⟨rfl, rfl⟩) dX5_sense_115 (fun _ => Sm.some (fun h => h)) (fun p_27 => ?_)
        exact sX5_sense_j118 a0 p_1.1 v2_2 p_5.1 p_27.1 p_27.2.1 p_27.2.2.1 p_27.2.2.2.1 p_27.2.2.2.2
      refine s_iload_n (pc := 106) dX5_sense_106 rfl ?_
      refine s_goto (pc := 107) (tgt := 118) dX5_sense_107 rfl ?_
      exact sX5_sense_j118 a0 p_1.1 v2_2 p_5.1 p_5.1 p_5.2.1 p_5.2.2.1 p_5.2.2.2.1 p_5.2.2.2.2
    refine s_aload_n (pc := 51) dX5_sense_51 rfl ?_
    refine s_bipush (pc := 52) dX5_sense_52 ?_
    refine s_callVE (pc := 54) (ci := 4) (as := [(0, 44)]) (st := []) (rv := fun b => ((3, 0), (b.1, b.2.1, tt b.2.2.1, cv b.2.2.2))) (st3 := fun b => []) (w3 := fun b => (b.1, b.2.1, tt b.2.2.1, cv b.2.2.2)) mvX5_98 (fun b h => kX5_need a0 44 p_5.2.1 p_5.2.2.1 p_5.2.2.2.1 p_5.2.2.2.2 b h) rfl (by decide) rfl rfl (Nat.le_of_ble_eq_true rfl) (fun _ => Nat.le_of_ble_eq_true rfl) (fun _ => ⟨rfl, rfl⟩) dX5_sense_54 (fun _ => Sm.some (fun h => h)) (fun p_28 => ?_)
    refine s_aload_n (pc := 57) dX5_sense_57 rfl ?_
    refine s_iconst (pc := 58) dX5_sense_58 ?_
    refine s_bipush (pc := 59) dX5_sense_59 ?_
    refine s_callVE (pc := 61) (ci := 4) (as := [(0, 1), (0, 9)]) (st := []) (rv := fun b => ((0, b.1), (b.2.1, b.2.2.1, tt b.2.2.2.1, cv b.2.2.2.2))) (st3 := fun b => [(0, b.1)]) (w3 := fun b => (b.2.1, b.2.2.1, tt b.2.2.2.1, cv b.2.2.2.2)) mvX5_102 (fun b h => kX5_number a0 1 9 p_28.1 p_28.2.1 p_28.2.2.1 p_28.2.2.2 b h) rfl (by decide) rfl rfl (Nat.le_of_ble_eq_true rfl) (fun _ => Nat.le_of_ble_eq_true rfl) (fun _ => ⟨rfl, rfl⟩) dX5_sense_61 (fun _ => Sm.some (fun h => h)) (fun p_29 => ?_)
    refine s_istoreD (pc := 64) (ls' := [some (2, a0), some (0, p_1.1), some (0, v2_2), some (0, p_5.1), some (0, p_29.1), none, none]) dX5_sense_64 rfl (Nat.le_of_ble_eq_true rfl) ?_
    refine s_newM (pc := 66) cf6 q574 q575 q141 dX5_sense_66 (fun tq_30 c_31 => ?_)
    refine s_dup (pc := 69) (by decide : ¬ (2 : Nat) = 1) dX5_sense_69 ?_
    refine s_aload_n (pc := 70) dX5_sense_70 rfl ?_
    refine s_getD (pc := 71) flX5_107 rfl dX5_sense_71 ?_
    refine s_iconst (pc := 74) dX5_sense_74 ?_
    refine s_isub (pc := 75) dX5_sense_75 ?_
    refine s_iload_n (pc := 76) dX5_sense_76 rfl ?_
    refine s_iload_n (pc := 77) dX5_sense_77 rfl ?_
    refine s_aload_n (pc := 78) dX5_sense_78 rfl ?_
    refine s_bipush (pc := 79) dX5_sense_79 ?_
    refine s_bipush (pc := 81) dX5_sense_81 ?_
    refine s_callVE (pc := 83) (ci := 4) (as := [(0, 44), (0, 99)]) (st := [(0, p_5.1), (0, p_1.1), (0, (cv c_31 (Int.toNat a0) 8) - 1), (2, ((p_29.2.1 : Nat) : Int)), (2, ((p_29.2.1 : Nat) : Int))]) (rv := fun b => ((0, b.1), (b.2.1, b.2.2.1, tt b.2.2.2.1, cv b.2.2.2.2))) (st3 := fun b => [(0, b.1), (0, p_5.1), (0, p_1.1), (0, (cv c_31 (Int.toNat a0) 8) - 1), (2, ((p_29.2.1 : Nat) : Int)), (2, ((p_29.2.1 : Nat) : Int))]) (w3 := fun b => (b.2.1, b.2.2.1, tt b.2.2.2.1, cv b.2.2.2.2)) mvX5_110 (fun b h => kX5_after a0 44 99 (p_29.2.1 + 1) (p_29.2.2.1 + 5) tq_30 c_31 b h) rfl (by decide) rfl rfl (Nat.le_of_ble_eq_true rfl) (fun _ => Nat.le_of_ble_eq_true rfl) (fun _ => ⟨rfl, rfl⟩) dX5_sense_83 (fun _ => Sm.some (fun h => h)) (fun p_32 => ?_)
    refine s_iload (pc := 86) dX5_sense_86 rfl ?_
    refine s_callI3 (pc := 88) (as := [(0, (cv c_31 (Int.toNat a0) 8) - 1), (0, p_1.1), (0, p_5.1), (0, p_32.1), (0, p_29.1)]) (st := [(2, ((p_29.2.1 : Nat) : Int))]) (rv := fun b => ((3, 0), (p_32.2.1, p_32.2.2.1, tt p_32.2.2.2.1, cv b))) (st3 := fun b => [(2, ((p_29.2.1 : Nat) : Int))]) (w3 := fun b => (p_32.2.1, p_32.2.2.1, tt p_32.2.2.2.1, cv b)) miX5_113 (fun b h => kX8_init (((p_29.2.1 : Nat) : Int)) ((cv c_31 (Int.toNat a0) 8) - 1) p_1.1 p_5.1 p_32.1 p_29.1 p_32.2.2.2.1 p_32.2.2.2.2 b h) rfl (by decide) rfl (Nat.le_of_ble_eq_true rfl) (fun _ => Nat.le_of_ble_eq_true rfl) (fun _ => ⟨rfl, rfl⟩) dX5_sense_88 (fun p_33 => ?_)
    exact s_aret (pc := 91) dX5_sense_91 rfl ⟨rfl, by decide, by decide⟩ (fun h => h)
  refine s_aload_n (pc := 26) dX5_sense_26 rfl ?_
  refine s_iconst (pc := 27) dX5_sense_27 ?_
  refine s_callVG (pc := 28) (ci := 4) (as := [(0, 1)]) (st := []) (rv := fun b => ((2, b.1), (b.2.1, b.2.2.1, tt b.2.2.2.1, cv b.2.2.2.2))) (st3 := fun b => [(2, b.1)]) (w3 := fun b => (b.2.1, b.2.2.1, tt b.2.2.2.1, cv b.2.2.2.2)) mvX5_88 (fun b h => kX5_wrong a0 1 p_1.2.1 p_1.2.2.1 p_1.2.2.2.1 p_1.2.2.2.2 b h) rfl (by decide) rfl rfl (Nat.le_of_ble_eq_true rfl) (fun _ => Nat.le_of_ble_eq_true rfl) (fun _ => ⟨rfl, rfl⟩) dX5_sense_28 (fun p_34 => ?_)
  exact s_throw (pc := 31) rfl (fun h => h) dX5_sense_31
theorem kX5_sense {G : GG}  (a0 : Int) (sz : Nat) (sl : Nat) (td : TT) (c : CC) (x : (ThrT ⊕ (Int × Nat × Nat × TT × CC))) (h : fX5_sense a0 sz sl td c = some x) : CtE G yX5_sense muX5_sense [(2, a0)] (sz, sl, tt td, cv c) (Sum.elim te (fun v => ((2, v.1), (v.2.1, v.2.2.1, tt v.2.2.2.1, cv v.2.2.2.2))) x) :=
  CtE.of (n := 6) (ls0 := [some (2, a0), none, none, none, none, none, none]) (by decide) rfl rfl ⟨show (some (.object "HeldTongue$Sense") : Option FieldType) ≠ some .float by decide, show (some (.object "HeldTongue$Sense") : Option FieldType) ≠ some .double by decide⟩ (Nat.le_of_ble_eq_true rfl) rfl (fun Γ => sX5_sense a0 sz sl td c x h rfl)
theorem fpX1_9 (nm : String) : FP RX1 9 1 0 nm := ⟨_, _, _, cf1, by decide, q174, Or.inl rfl⟩
theorem fpX1_9t : fty 1 0 ≠ .boolean ∧ fty 1 0 ≠ .byte ∧ fty 1 0 ≠ .char ∧ fty 1 0 ≠ .short := by decide
theorem fpX1_17 (nm : String) : FP RX1 17 1 1 nm := ⟨_, _, _, cf1, by decide, q176, Or.inl rfl⟩
theorem fpX1_17t : fty 1 1 ≠ .boolean ∧ fty 1 1 ≠ .byte ∧ fty 1 1 ≠ .char ∧ fty 1 1 ≠ .short := by decide
abbrev muX1_init : MI := (cX1_init, RX1, 1, none, 2, "<init>")
noncomputable def fX1_init (a0 : Int) (sz : Nat) (sl : Nat) (td : TT) (c : CC) : Option (Nat × Nat × TT × CC) :=
  gd ((0 : Int) ≤ a0) <|
   gd (kK ≤ sz ∧ (0 : Int) ≤ 0 ∧ (0 : Int) ≤ 100000) <| bd (upT td sz (50 + 5, Int.toNat 0)) fun tq_1 => bd (zc c sz (50 + 5)) fun c_2 =>
   gd (168 ≤ a0 ∧ (tt tq_1 (Int.toNat a0)).1 = 1) <| bd (up2 c_2 (Int.toNat a0) 0 (((sz : Nat) : Int))) fun c_3 =>
   gd (kK ≤ sz + 1 ∧ (0 : Int) ≤ 0 ∧ (0 : Int) ≤ 100000) <| bd (upT tq_1 (sz + 1) (50 + 6, Int.toNat 0)) fun tq_4 => bd (zc c_3 (sz + 1) (50 + 6)) fun c_5 =>
   gd (168 ≤ a0 ∧ (tt tq_4 (Int.toNat a0)).1 = 1) <| bd (up2 c_5 (Int.toNat a0) 1 (((sz + 1 : Nat) : Int))) fun c_6 =>
   some (((sz + 1) + 1), ((sl + Int.toNat 0) + Int.toNat 0), tq_4, c_6)
theorem sX1_init {G : GG} {Γ : Cx} {r : Vv × Wd}  (a0 : Int) (sz : Nat) (sl : Nat) (td : TT) (c : CC) : Sm (fX1_init a0 sz sl td c) (fun x => r = ((3, 0), (x.1, x.2.1, tt x.2.2.1, cv x.2.2.2))) (WP G Γ muX1_init r 0 [some (2, a0)] [] (sz, sl, tt td, cv c)) := by
  unfold fX1_init
  refine s_aload_n (pc := 0) dX1_init_0 rfl ?_
  refine s_objInitD (pc := 1) q169 q161 q162 (by decide) (Nat.le_of_ble_eq_true rfl) dX1_init_1 ?_
  refine s_aload_n (pc := 4) dX1_init_4 rfl ?_
  refine s_iconst (pc := 5) dX1_init_5 ?_
  refine s_anewM (pc := 6) (q := 5) (by decide) rfl q170 (PP.aov q171) dX1_init_6 (fun tq_1 c_2 => ?_)
  refine s_putDM (pc := 9) (fpX1_9 _) rfl fpX1_9t dX1_init_9 (fun c_3 => ?_)
  refine s_aload_n (pc := 12) dX1_init_12 rfl ?_
  refine s_iconst (pc := 13) dX1_init_13 ?_
  refine s_anewM (pc := 14) (q := 6) (by decide) rfl q172 (PP.aov q173) dX1_init_14 (fun tq_4 c_5 => ?_)
  refine s_putDM (pc := 17) (fpX1_17 _) rfl fpX1_17t dX1_init_17 (fun c_6 => ?_)
  exact s_vret (pc := 20) dX1_init_20 rfl (fun h => h)
theorem kX1_init {G : GG}  (a0 : Int) (sz : Nat) (sl : Nat) (td : TT) (c : CC) (x : (Nat × Nat × TT × CC)) (h : fX1_init a0 sz sl td c = some x) : Ct G yX1_init muX1_init [(2, a0)] (sz, sl, tt td, cv c) ((3, 0), (x.1, x.2.1, tt x.2.2.1, cv x.2.2.2)) :=
  Ct.of (n := 0) (ls0 := [some (2, a0)]) (by decide) rfl rfl ⟨show (none : Option FieldType) ≠ some .float by decide, show (none : Option FieldType) ≠ some .double by decide⟩ (Nat.le_of_ble_eq_true rfl) rfl (sX1_init (G := G) (Γ := cx0) a0 sz sl td c x h rfl).1 (show (3 : Nat) ≠ 9 by decide) (fun Γ => sX1_init a0 sz sl td c x h rfl)
theorem minX5_136 : MInN RX5 136 yX1_init muX1_init 0 := ⟨_, lw_meth q168, rfl, q126, PP.nwM q401, q167, rfl, by decide +kernel, by decide⟩
theorem fpX5_107 (nm : String) : FP RX5 107 4 8 nm := ⟨_, _, _, cf4, by decide, q373, Or.inl rfl⟩
theorem fpX5_107t : fty 4 8 ≠ .boolean ∧ fty 4 8 ≠ .byte ∧ fty 4 8 ≠ .char ∧ fty 4 8 ≠ .short := by decide
theorem fpX5_141 (nm : String) : FP RX5 141 4 9 nm := ⟨_, _, _, cf4, by decide, q374, Or.inl rfl⟩
theorem fpX5_141t : fty 4 9 ≠ .boolean ∧ fty 4 9 ≠ .byte ∧ fty 4 9 ≠ .char ∧ fty 4 9 ≠ .short := by decide
theorem flX5_141 : FL RX5 141 4 9 := ⟨_, _, _, cf4, by decide, q374⟩
theorem mvoX5_197 (d : Nat) : MV RX5 197 RX5 yX5_one (muOne d) 0 := ⟨lw_V q688 q690 qs15 q130 q691, by decide +kernel, Nat.le_of_ble_eq_true rfl⟩
theorem fqX16_7 : FP RX16 7 14 0 "<init>" := ⟨_, _, _, cf14, by decide, q732, Or.inr ⟨rfl, rfl, rfl⟩⟩
theorem fqX16_7t : fty 14 0 ≠ .boolean ∧ fty 14 0 ≠ .byte ∧ fty 14 0 ≠ .char ∧ fty 14 0 ≠ .short := by decide
theorem fqX16_13 : FP RX16 13 14 1 "<init>" := ⟨_, _, _, cf14, by decide, q733, Or.inr ⟨rfl, rfl, rfl⟩⟩
theorem fqX16_13t : fty 14 1 ≠ .boolean ∧ fty 14 1 ≠ .byte ∧ fty 14 1 ≠ .char ∧ fty 14 1 ≠ .short := by decide
theorem fqX16_17 : FP RX16 17 14 2 "<init>" := ⟨_, _, _, cf14, by decide, q734, Or.inr ⟨rfl, rfl, rfl⟩⟩
theorem fqX16_17t : fty 14 2 ≠ .boolean ∧ fty 14 2 ≠ .byte ∧ fty 14 2 ≠ .char ∧ fty 14 2 ≠ .short := by decide
abbrev muX16_init : MI := (cX16_init, RX16, 4, none, 2, "<init>")
noncomputable def fX16_init (a0 : Int) (a1 : Int) (a2 : Int) (a3 : Int) (td : TT) (c : CC) : Option CC :=
  gd ((0 : Int) ≤ a0) <|
   gd (168 ≤ a0 ∧ (tt td (Int.toNat a0)).1 = 14) <| bd (up2 c (Int.toNat a0) 0 a1) fun c_1 =>
   gd (168 ≤ a0 ∧ (tt td (Int.toNat a0)).1 = 14) <| bd (up2 c_1 (Int.toNat a0) 1 a2) fun c_2 =>
   gd (168 ≤ a0 ∧ (tt td (Int.toNat a0)).1 = 14) <| bd (up2 c_2 (Int.toNat a0) 2 a3) fun c_3 =>
   some c_3
theorem sX16_init {G : GG} {Γ : Cx} {r : Vv × Wd} {sz : Nat} {sl : Nat} (a0 : Int) (a1 : Int) (a2 : Int) (a3 : Int) (td : TT) (c : CC) : Sm (fX16_init a0 a1 a2 a3 td c) (fun x => r = ((3, 0), (sz, sl, tt td, cv x))) (WP G Γ muX16_init r 0 [some (2, a0), some (0, a1), some (2, a2), some (2, a3)] [] (sz, sl, tt td, cv c)) := by
  unfold fX16_init
  refine s_aload_n (pc := 0) dX16_init_0 rfl ?_
  refine s_objInitD (pc := 1) q731 q161 q162 (by decide) (Nat.le_of_ble_eq_true rfl) dX16_init_1 ?_
  refine s_aload_n (pc := 4) dX16_init_4 rfl ?_
  refine s_iload_n (pc := 5) dX16_init_5 rfl ?_
  refine s_putDM (pc := 6) fqX16_7 rfl fqX16_7t dX16_init_6 (fun c_1 => ?_)
  refine s_aload_n (pc := 9) dX16_init_9 rfl ?_
  refine s_aload_n (pc := 10) dX16_init_10 rfl ?_
  refine s_putDM (pc := 11) fqX16_13 rfl fqX16_13t dX16_init_11 (fun c_2 => ?_)
  refine s_aload_n (pc := 14) dX16_init_14 rfl ?_
  refine s_aload_n (pc := 15) dX16_init_15 rfl ?_
  refine s_putDM (pc := 16) fqX16_17 rfl fqX16_17t dX16_init_16 (fun c_3 => ?_)
  exact s_vret (pc := 19) dX16_init_19 rfl (fun h => h)
theorem kX16_init {G : GG} {sz : Nat} {sl : Nat} (a0 : Int) (a1 : Int) (a2 : Int) (a3 : Int) (td : TT) (c : CC) (x : CC) (h : fX16_init a0 a1 a2 a3 td c = some x) : Ct G yX16_init muX16_init [(2, a0), (0, a1), (2, a2), (2, a3)] (sz, sl, tt td, cv c) ((3, 0), (sz, sl, tt td, cv x)) :=
  Ct.of (n := 0) (ls0 := [some (2, a0), some (0, a1), some (2, a2), some (2, a3)]) (by decide) rfl rfl ⟨show (none : Option FieldType) ≠ some .float by decide, show (none : Option FieldType) ≠ some .double by decide⟩ (Nat.le_of_ble_eq_true rfl) rfl ⟨Nat.le_refl _, Nat.le_refl _⟩ (show (3 : Nat) ≠ 9 by decide) (fun Γ => sX16_init a0 a1 a2 a3 td c x h rfl)
theorem miX5_196 : MIn RX5 196 yX16_init muX16_init 3 := ⟨lw_meth q730, rfl, q150, q728, q729, rfl, by decide +kernel, by decide⟩
abbrev muX5_product [Inhabited OrcO] : MI := (cX5_product, RX5, 3, some (.object "HeldTongue$Sum"), 3 * oON + 21, "product")
noncomputable def fX5_product_j23 [Inhabited OrcO] (v0 : Int) (v1 : Int) (sz : Nat) (sl : Nat) (td : TT) (c : CC) : Option ((Int × Nat × Nat × TT × CC) ⊕ ((ThrT) ⊕ (Int × Nat × Nat × TT × CC))) :=
  gd ((0 : Int) ≤ v0 ∧ (tt td (Int.toNat v0)).1 = 4) <|
   bd (cv c (Int.toNat v0) 4) fun v2_2 =>
   gd ((0 : Int) ≤ v0 ∧ (tt td (Int.toNat v0)).1 = 4) <| cl (fX5_next v0 td c) fun p_3 =>
   gd (kK ≤ sz) <| bd (upT td sz (14, 3)) fun tq_4 => bd (zc p_3 sz 14) fun c_5 =>
   gd ((0 : Int) ≤ v0 ∧ (tt tq_4 (Int.toNat v0)).1 = 4) <| cl (oO v0 (sz + 1) (sl + 3) tq_4 c_5) (Sum.elim (fun e => some (.inr (.inl e))) fun p_6 =>
   gd ((0 : Int) ≤ ((sz : Nat) : Int)) <| cl (fX16_init (((sz : Nat) : Int)) v2_2 v1 p_6.1 p_6.2.2.2.1 p_6.2.2.2.2) fun p_7 =>
   bd (((sz : Nat) : Int)) fun v1_8 =>
   some (.inl (v1_8, p_6.2.1, p_6.2.2.1, p_6.2.2.2.1, p_7)))
abbrev gX5_product_l5 [Inhabited OrcO] (G : GG) (Γ : Cx) (r : Vv × Wd) (sz sl : Nat) (td : TT) (c : CC) (v0 : Int) : (Int × Nat × Nat × TT × CC) → Prop := fun s => WP G Γ muX5_product r 5 [some (2, v0), some (2, s.1), none] [] (s.2.1, s.2.2.1, tt s.2.2.2.1, cv s.2.2.2.2)
abbrev eX5_product_l5 [Inhabited OrcO] (G : GG) (Γ : Cx) (r : Vv × Wd) (sz sl : Nat) (td : TT) (c : CC) (v0 : Int) : ((ThrT) ⊕ (Int × Nat × Nat × TT × CC)) → Prop := (Sum.elim (fun s => r = te s) (fun s => WP G Γ muX5_product r 49 [none, some (2, s.1), none] [] (s.2.1, s.2.2.1, tt s.2.2.2.1, cv s.2.2.2.2)))
theorem sX5_product_j23 [Inhabited OrcO] {G : GG} {Γ : Cx} {r : Vv × Wd}  (v0 : Int) (v1 : Int) (sz : Nat) (sl : Nat) (td : TT) (c : CC) [hO : Nonempty (PLift (oOOK G))] : Sm (fX5_product_j23 v0 v1 sz sl td c) (fun x => Sum.elim (gX5_product_l5 G Γ r sz sl td c v0) (eX5_product_l5 G Γ r sz sl td c v0) x) (WP G Γ muX5_product r 23 [some (2, v0), some (2, v1), none] [] (sz, sl, tt td, cv c)) := by
  unfold fX5_product_j23
  refine s_aload_n (pc := 23) dX5_product_23 rfl ?_
  refine s_getD (pc := 24) flX5_60 rfl dX5_product_24 ?_
  refine s_istore_n (pc := 27) (lf := fun x => [some (2, v0), some (2, v1), some (0, x)]) dX5_product_27 (fun _ => rfl) (Nat.le_of_ble_eq_true rfl) (fun v2_2 => ?_)
  refine s_aload_n (pc := 28) dX5_product_28 rfl ?_
  refine s_callVG (pc := 29) (ci := 4) (as := []) (st := []) (rv := fun b => ((3, 0), (sz, sl, tt td, cv b))) (st3 := fun b => []) (w3 := fun b => (sz, sl, tt td, cv b)) mvX5_92 (fun b h => kX5_next v0 td c b h) rfl (by first | decide | exact Nat.le_trans (by decide) (Nat.le_add_left 21 _)) rfl rfl (Nat.le_of_ble_eq_true rfl) (fun _ => Nat.le_of_ble_eq_true rfl) (fun _ => ⟨rfl, rfl⟩) dX5_product_29 (fun p_3 => ?_)
  refine s_newM (pc := 32) cf14 q726 q727 q150 dX5_product_32 (fun tq_4 c_5 => ?_)
  refine s_dup (pc := 35) (by decide : ¬ (2 : Nat) = 1) dX5_product_35 ?_
  refine s_iload_n (pc := 36) dX5_product_36 rfl ?_
  refine s_aload_n (pc := 37) dX5_product_37 rfl ?_
  refine s_aload_n (pc := 38) dX5_product_38 rfl ?_
  refine s_callVE (pc := 39) (ci := 4) (as := []) (st := [(2, v1), (0, v2_2), (2, ((sz : Nat) : Int)), (2, ((sz : Nat) : Int))]) (rv := fun b => ((2, b.1), (b.2.1, b.2.2.1, tt b.2.2.2.1, cv b.2.2.2.2))) (st3 := fun b => [(2, b.1), (2, v1), (0, v2_2), (2, ((sz : Nat) : Int)), (2, ((sz : Nat) : Int))]) (w3 := fun b => (b.2.1, b.2.2.1, tt b.2.2.2.1, cv b.2.2.2.2)) (mvoX5_197 (3 * oON + 20)) (fun b h => hO.elim (fun q => q.down v0 (sz + 1) (sl + 3) tq_4 c_5 b h)) rfl (Nat.le_refl _) rfl rfl (Nat.le_of_ble_eq_true rfl) (fun _ => Nat.le_of_ble_eq_true rfl) (fun _ => ⟨rfl, rfl⟩) dX5_product_39 (fun _ => Sm.some (fun h => h)) (fun p_6 => ?_)
  refine s_callI3 (pc := 42) (as := [(0, v2_2), (2, v1), (2, p_6.1)]) (st := [(2, ((sz : Nat) : Int))]) (rv := fun b => ((3, 0), (p_6.2.1, p_6.2.2.1, tt p_6.2.2.2.1, cv b))) (st3 := fun b => [(2, ((sz : Nat) : Int))]) (w3 := fun b => (p_6.2.1, p_6.2.2.1, tt p_6.2.2.2.1, cv b)) miX5_196 (fun b h => kX16_init (((sz : Nat) : Int)) v2_2 v1 p_6.1 p_6.2.2.2.1 p_6.2.2.2.2 b h) rfl (by first | decide | exact Nat.le_trans (by decide) (Nat.le_add_left 21 _)) rfl (Nat.le_of_ble_eq_true rfl) (fun _ => Nat.le_of_ble_eq_true rfl) (fun _ => ⟨rfl, rfl⟩) dX5_product_42 (fun p_7 => ?_)
  refine s_astore_n (pc := 45) (lf := fun x => [some (2, v0), some (2, x), some (0, v2_2)]) dX5_product_45 (fun _ => rfl) (Nat.le_of_ble_eq_true rfl) (fun v1_8 => ?_)
  refine s_goto (pc := 46) (tgt := 5) dX5_product_46 rfl ?_
  refine s_wk [true, true, false] (ls' := [some (2, v0), some (2, v1_8), none]) rfl ?_
  exact Sm.some (fun h => h)
noncomputable def fX5_product_l5 [Inhabited OrcO] (v0 : Int) (v1 : Int) (sz : Nat) (sl : Nat) (td : TT) (c : CC) : Option ((Int × Nat × Nat × TT × CC) ⊕ ((ThrT) ⊕ (Int × Nat × Nat × TT × CC))) :=
  gd ((0 : Int) ≤ v0 ∧ (tt td (Int.toNat v0)).1 = 4) <|
   if cv c (Int.toNat v0) 4 = 42 then
  (fX5_product_j23 v0 v1 sz sl td c)
  else
  (gd ((0 : Int) ≤ v0 ∧ (tt td (Int.toNat v0)).1 = 4) <|
   if cv c (Int.toNat v0) 4 = 47 then
  (fX5_product_j23 v0 v1 sz sl td c)
  else
  (some (.inr (.inr (v1, sz, sl, td, c)))))
theorem sX5_product_l5 [Inhabited OrcO] {G : GG} {Γ : Cx} {r : Vv × Wd}  (v0 : Int) (v1 : Int) (sz : Nat) (sl : Nat) (td : TT) (c : CC) [hO : Nonempty (PLift (oOOK G))] : Sm (fX5_product_l5 v0 v1 sz sl td c) (fun x => Sum.elim (gX5_product_l5 G Γ r sz sl td c v0) (eX5_product_l5 G Γ r sz sl td c v0) x) (gX5_product_l5 G Γ r sz sl td c v0 (v1, sz, sl, td, c)) := by
  show Sm _ _ (WP G Γ muX5_product r 5 [some (2, v0), some (2, v1), none] [] (sz, sl, tt td, cv c))
  unfold fX5_product_l5
  refine s_aload_n (pc := 5) dX5_product_5 rfl ?_
  refine s_getD (pc := 6) flX5_60 rfl dX5_product_6 ?_
  refine s_bipush (pc := 9) dX5_product_9 ?_
  refine s_icmp_eq (pc := 11) (tgt := 23) dX5_product_11 rfl ?_ ?_
  · exact sX5_product_j23 v0 v1 sz sl td c
  refine s_aload_n (pc := 14) dX5_product_14 rfl ?_
  refine s_getD (pc := 15) flX5_60 rfl dX5_product_15 ?_
  refine s_bipush (pc := 18) dX5_product_18 ?_
  refine s_icmp_ne (pc := 20) (tgt := 49) dX5_product_20 rfl ?_ ?_
  · refine s_wk [false, true, true] (ls' := [none, some (2, v1), none]) rfl ?_
    exact Sm.some (fun h => h)
  exact sX5_product_j23 v0 v1 sz sl td c
noncomputable def fX5_product [Inhabited OrcO] (a0 : Int) (sz : Nat) (sl : Nat) (td : TT) (c : CC) : Option (ThrT ⊕ (Int × Nat × Nat × TT × CC)) :=
  gd ((0 : Int) ≤ a0 ∧ (tt td (Int.toNat a0)).1 = 4) <| cl (oO a0 sz sl td c) (Sum.elim (fun e => some (.inl e)) fun p_1 =>
   cl (wh (fun s => fX5_product_l5 a0 s.1 s.2.1 s.2.2.1 s.2.2.2.1 s.2.2.2.2) (p_1.1, p_1.2.1, p_1.2.2.1, p_1.2.2.2.1, p_1.2.2.2.2)) (Sum.elim (fun e_9 => some (.inl e_9)) (fun e_10 =>
  some (.inr (e_10.1, e_10.2.1, e_10.2.2.1, e_10.2.2.2.1, e_10.2.2.2.2)))))
theorem sX5_product [Inhabited OrcO] {G : GG} {Γ : Cx} {r : Vv × Wd}  (a0 : Int) (sz : Nat) (sl : Nat) (td : TT) (c : CC) [hO : Nonempty (PLift (oOOK G))] : Sm (fX5_product a0 sz sl td c) (fun x => r = (Sum.elim te (fun v => ((2, v.1), (v.2.1, v.2.2.1, tt v.2.2.2.1, cv v.2.2.2.2))) x)) (WP G Γ muX5_product r 0 [some (2, a0), none, none] [] (sz, sl, tt td, cv c)) := by
  unfold fX5_product
  refine s_aload_n (pc := 0) dX5_product_0 rfl ?_
  refine s_callVE (pc := 1) (ci := 4) (as := []) (st := []) (rv := fun b => ((2, b.1), (b.2.1, b.2.2.1, tt b.2.2.2.1, cv b.2.2.2.2))) (st3 := fun b => [(2, b.1)]) (w3 := fun b => (b.2.1, b.2.2.1, tt b.2.2.2.1, cv b.2.2.2.2)) (mvoX5_197 (3 * oON + 20)) (fun b h => hO.elim (fun q => q.down a0 sz sl td c b h)) rfl (Nat.le_refl _) rfl rfl (Nat.le_of_ble_eq_true rfl) (fun _ => Nat.le_of_ble_eq_true rfl) (fun _ => ⟨rfl, rfl⟩) dX5_product_1 (fun _ => Sm.some (fun h => h)) (fun p_1 => ?_)
  refine s_astore_nD (pc := 4) (ls' := [some (2, a0), some (2, p_1.1), none]) dX5_product_4 rfl (Nat.le_of_ble_eq_true rfl) ?_
  refine s_loop (g := gX5_product_l5 G Γ r p_1.2.1 p_1.2.2.1 p_1.2.2.2.1 p_1.2.2.2.2 a0) (Ex := eX5_product_l5 G Γ r p_1.2.1 p_1.2.2.1 p_1.2.2.2.1 p_1.2.2.2.2 a0) (s0 := (p_1.1, p_1.2.1, p_1.2.2.1, p_1.2.2.2.1, p_1.2.2.2.2)) (fun s => sX5_product_l5 a0 s.1 s.2.1 s.2.2.1 s.2.2.2.1 s.2.2.2.2) ?_
  refine s_elim ?_ ?_
  · intro e_9
    exact Sm.some (fun h => h)
  intro e_10
  show Sm _ _ (WP G Γ muX5_product r 49 [none, some (2, e_10.1), none] [] (e_10.2.1, e_10.2.2.1, tt e_10.2.2.2.1, cv e_10.2.2.2.2))
  refine s_aload_n (pc := 49) dX5_product_49 rfl ?_
  exact s_aret (pc := 50) dX5_product_50 rfl ⟨rfl, by decide, by decide⟩ (fun h => h)
theorem kX5_product [Inhabited OrcO] {G : GG}  (a0 : Int) (sz : Nat) (sl : Nat) (td : TT) (c : CC) [hO : Nonempty (PLift (oOOK G))] (x : (ThrT ⊕ (Int × Nat × Nat × TT × CC))) (h : fX5_product a0 sz sl td c = some x) : CtE G yX5_product muX5_product [(2, a0)] (sz, sl, tt td, cv c) (Sum.elim te (fun v => ((2, v.1), (v.2.1, v.2.2.1, tt v.2.2.2.1, cv v.2.2.2.2))) x) :=
  CtE.of (n := 2) (ls0 := [some (2, a0), none, none]) (by decide) rfl rfl ⟨show (some (.object "HeldTongue$Sum") : Option FieldType) ≠ some .float by decide, show (some (.object "HeldTongue$Sum") : Option FieldType) ≠ some .double by decide⟩ (Nat.le_of_ble_eq_true rfl) rfl (fun Γ => sX5_product a0 sz sl td c x h rfl)
theorem mvX5_191 [Inhabited OrcO] : MV RX5 191 RX5 yX5_product muX5_product 0 := ⟨lw_V q684 q686 qs14 q130 q687, by decide +kernel, Nat.le_of_ble_eq_true rfl⟩
abbrev muX5_sum [Inhabited OrcO] : MI := (cX5_sum, RX5, 3, some (.object "HeldTongue$Sum"), 3 * oON + 22, "sum")
noncomputable def fX5_sum_j23 [Inhabited OrcO] (v0 : Int) (v1 : Int) (sz : Nat) (sl : Nat) (td : TT) (c : CC) : Option ((Int × Nat × Nat × TT × CC) ⊕ ((ThrT) ⊕ (Int × Nat × Nat × TT × CC))) :=
  gd ((0 : Int) ≤ v0 ∧ (tt td (Int.toNat v0)).1 = 4) <|
   bd (cv c (Int.toNat v0) 4) fun v2_2 =>
   gd ((0 : Int) ≤ v0 ∧ (tt td (Int.toNat v0)).1 = 4) <| cl (fX5_next v0 td c) fun p_3 =>
   gd (kK ≤ sz) <| bd (upT td sz (14, 3)) fun tq_4 => bd (zc p_3 sz 14) fun c_5 =>
   gd ((0 : Int) ≤ v0 ∧ (tt tq_4 (Int.toNat v0)).1 = 4) <| cl (fX5_product v0 (sz + 1) (sl + 3) tq_4 c_5) (Sum.elim (fun e => some (.inr (.inl e))) fun p_6 =>
   gd ((0 : Int) ≤ ((sz : Nat) : Int)) <| cl (fX16_init (((sz : Nat) : Int)) v2_2 v1 p_6.1 p_6.2.2.2.1 p_6.2.2.2.2) fun p_7 =>
   bd (((sz : Nat) : Int)) fun v1_8 =>
   some (.inl (v1_8, p_6.2.1, p_6.2.2.1, p_6.2.2.2.1, p_7)))
abbrev gX5_sum_l5 [Inhabited OrcO] (G : GG) (Γ : Cx) (r : Vv × Wd) (sz sl : Nat) (td : TT) (c : CC) (v0 : Int) : (Int × Nat × Nat × TT × CC) → Prop := fun s => WP G Γ muX5_sum r 5 [some (2, v0), some (2, s.1), none] [] (s.2.1, s.2.2.1, tt s.2.2.2.1, cv s.2.2.2.2)
abbrev eX5_sum_l5 [Inhabited OrcO] (G : GG) (Γ : Cx) (r : Vv × Wd) (sz sl : Nat) (td : TT) (c : CC) (v0 : Int) : ((ThrT) ⊕ (Int × Nat × Nat × TT × CC)) → Prop := (Sum.elim (fun s => r = te s) (fun s => WP G Γ muX5_sum r 49 [none, some (2, s.1), none] [] (s.2.1, s.2.2.1, tt s.2.2.2.1, cv s.2.2.2.2)))
theorem sX5_sum_j23 [Inhabited OrcO] {G : GG} {Γ : Cx} {r : Vv × Wd}  (v0 : Int) (v1 : Int) (sz : Nat) (sl : Nat) (td : TT) (c : CC) [hO : Nonempty (PLift (oOOK G))] : Sm (fX5_sum_j23 v0 v1 sz sl td c) (fun x => Sum.elim (gX5_sum_l5 G Γ r sz sl td c v0) (eX5_sum_l5 G Γ r sz sl td c v0) x) (WP G Γ muX5_sum r 23 [some (2, v0), some (2, v1), none] [] (sz, sl, tt td, cv c)) := by
  unfold fX5_sum_j23
  refine s_aload_n (pc := 23) dX5_sum_23 rfl ?_
  refine s_getD (pc := 24) flX5_60 rfl dX5_sum_24 ?_
  refine s_istore_n (pc := 27) (lf := fun x => [some (2, v0), some (2, v1), some (0, x)]) dX5_sum_27 (fun _ => rfl) (Nat.le_of_ble_eq_true rfl) (fun v2_2 => ?_)
  refine s_aload_n (pc := 28) dX5_sum_28 rfl ?_
  refine s_callVG (pc := 29) (ci := 4) (as := []) (st := []) (rv := fun b => ((3, 0), (sz, sl, tt td, cv b))) (st3 := fun b => []) (w3 := fun b => (sz, sl, tt td, cv b)) mvX5_92 (fun b h => kX5_next v0 td c b h) rfl (by first | decide | exact Nat.le_trans (by decide) (Nat.le_add_left 22 _)) rfl rfl (Nat.le_of_ble_eq_true rfl) (fun _ => Nat.le_of_ble_eq_true rfl) (fun _ => ⟨rfl, rfl⟩) dX5_sum_29 (fun p_3 => ?_)
  refine s_newM (pc := 32) cf14 q726 q727 q150 dX5_sum_32 (fun tq_4 c_5 => ?_)
  refine s_dup (pc := 35) (by decide : ¬ (2 : Nat) = 1) dX5_sum_35 ?_
  refine s_iload_n (pc := 36) dX5_sum_36 rfl ?_
  refine s_aload_n (pc := 37) dX5_sum_37 rfl ?_
  refine s_aload_n (pc := 38) dX5_sum_38 rfl ?_
  refine s_callVE (pc := 39) (ci := 4) (as := []) (st := [(2, v1), (0, v2_2), (2, ((sz : Nat) : Int)), (2, ((sz : Nat) : Int))]) (rv := fun b => ((2, b.1), (b.2.1, b.2.2.1, tt b.2.2.2.1, cv b.2.2.2.2))) (st3 := fun b => [(2, b.1), (2, v1), (0, v2_2), (2, ((sz : Nat) : Int)), (2, ((sz : Nat) : Int))]) (w3 := fun b => (b.2.1, b.2.2.1, tt b.2.2.2.1, cv b.2.2.2.2)) mvX5_191 (fun b h => kX5_product v0 (sz + 1) (sl + 3) tq_4 c_5 b h) rfl (Nat.le_refl _) rfl rfl (Nat.le_of_ble_eq_true rfl) (fun _ => Nat.le_of_ble_eq_true rfl) (fun _ => ⟨rfl, rfl⟩) dX5_sum_39 (fun _ => Sm.some (fun h => h)) (fun p_6 => ?_)
  refine s_callI3 (pc := 42) (as := [(0, v2_2), (2, v1), (2, p_6.1)]) (st := [(2, ((sz : Nat) : Int))]) (rv := fun b => ((3, 0), (p_6.2.1, p_6.2.2.1, tt p_6.2.2.2.1, cv b))) (st3 := fun b => [(2, ((sz : Nat) : Int))]) (w3 := fun b => (p_6.2.1, p_6.2.2.1, tt p_6.2.2.2.1, cv b)) miX5_196 (fun b h => kX16_init (((sz : Nat) : Int)) v2_2 v1 p_6.1 p_6.2.2.2.1 p_6.2.2.2.2 b h) rfl (by first | decide | exact Nat.le_trans (by decide) (Nat.le_add_left 22 _)) rfl (Nat.le_of_ble_eq_true rfl) (fun _ => Nat.le_of_ble_eq_true rfl) (fun _ => ⟨rfl, rfl⟩) dX5_sum_42 (fun p_7 => ?_)
  refine s_astore_n (pc := 45) (lf := fun x => [some (2, v0), some (2, x), some (0, v2_2)]) dX5_sum_45 (fun _ => rfl) (Nat.le_of_ble_eq_true rfl) (fun v1_8 => ?_)
  refine s_goto (pc := 46) (tgt := 5) dX5_sum_46 rfl ?_
  refine s_wk [true, true, false] (ls' := [some (2, v0), some (2, v1_8), none]) rfl ?_
  exact Sm.some (fun h => h)
noncomputable def fX5_sum_l5 [Inhabited OrcO] (v0 : Int) (v1 : Int) (sz : Nat) (sl : Nat) (td : TT) (c : CC) : Option ((Int × Nat × Nat × TT × CC) ⊕ ((ThrT) ⊕ (Int × Nat × Nat × TT × CC))) :=
  gd ((0 : Int) ≤ v0 ∧ (tt td (Int.toNat v0)).1 = 4) <|
   if cv c (Int.toNat v0) 4 = 43 then
  (fX5_sum_j23 v0 v1 sz sl td c)
  else
  (gd ((0 : Int) ≤ v0 ∧ (tt td (Int.toNat v0)).1 = 4) <|
   if cv c (Int.toNat v0) 4 = 45 then
  (fX5_sum_j23 v0 v1 sz sl td c)
  else
  (some (.inr (.inr (v1, sz, sl, td, c)))))
theorem sX5_sum_l5 [Inhabited OrcO] {G : GG} {Γ : Cx} {r : Vv × Wd}  (v0 : Int) (v1 : Int) (sz : Nat) (sl : Nat) (td : TT) (c : CC) [hO : Nonempty (PLift (oOOK G))] : Sm (fX5_sum_l5 v0 v1 sz sl td c) (fun x => Sum.elim (gX5_sum_l5 G Γ r sz sl td c v0) (eX5_sum_l5 G Γ r sz sl td c v0) x) (gX5_sum_l5 G Γ r sz sl td c v0 (v1, sz, sl, td, c)) := by
  show Sm _ _ (WP G Γ muX5_sum r 5 [some (2, v0), some (2, v1), none] [] (sz, sl, tt td, cv c))
  unfold fX5_sum_l5
  refine s_aload_n (pc := 5) dX5_sum_5 rfl ?_
  refine s_getD (pc := 6) flX5_60 rfl dX5_sum_6 ?_
  refine s_bipush (pc := 9) dX5_sum_9 ?_
  refine s_icmp_eq (pc := 11) (tgt := 23) dX5_sum_11 rfl ?_ ?_
  · exact sX5_sum_j23 v0 v1 sz sl td c
  refine s_aload_n (pc := 14) dX5_sum_14 rfl ?_
  refine s_getD (pc := 15) flX5_60 rfl dX5_sum_15 ?_
  refine s_bipush (pc := 18) dX5_sum_18 ?_
  refine s_icmp_ne (pc := 20) (tgt := 49) dX5_sum_20 rfl ?_ ?_
  · refine s_wk [false, true, true] (ls' := [none, some (2, v1), none]) rfl ?_
    exact Sm.some (fun h => h)
  exact sX5_sum_j23 v0 v1 sz sl td c
noncomputable def fX5_sum [Inhabited OrcO] (a0 : Int) (sz : Nat) (sl : Nat) (td : TT) (c : CC) : Option (ThrT ⊕ (Int × Nat × Nat × TT × CC)) :=
  gd ((0 : Int) ≤ a0 ∧ (tt td (Int.toNat a0)).1 = 4) <| cl (fX5_product a0 sz sl td c) (Sum.elim (fun e => some (.inl e)) fun p_1 =>
   cl (wh (fun s => fX5_sum_l5 a0 s.1 s.2.1 s.2.2.1 s.2.2.2.1 s.2.2.2.2) (p_1.1, p_1.2.1, p_1.2.2.1, p_1.2.2.2.1, p_1.2.2.2.2)) (Sum.elim (fun e_9 => some (.inl e_9)) (fun e_10 =>
  some (.inr (e_10.1, e_10.2.1, e_10.2.2.1, e_10.2.2.2.1, e_10.2.2.2.2)))))
theorem sX5_sum [Inhabited OrcO] {G : GG} {Γ : Cx} {r : Vv × Wd}  (a0 : Int) (sz : Nat) (sl : Nat) (td : TT) (c : CC) [hO : Nonempty (PLift (oOOK G))] : Sm (fX5_sum a0 sz sl td c) (fun x => r = (Sum.elim te (fun v => ((2, v.1), (v.2.1, v.2.2.1, tt v.2.2.2.1, cv v.2.2.2.2))) x)) (WP G Γ muX5_sum r 0 [some (2, a0), none, none] [] (sz, sl, tt td, cv c)) := by
  unfold fX5_sum
  refine s_aload_n (pc := 0) dX5_sum_0 rfl ?_
  refine s_callVE (pc := 1) (ci := 4) (as := []) (st := []) (rv := fun b => ((2, b.1), (b.2.1, b.2.2.1, tt b.2.2.2.1, cv b.2.2.2.2))) (st3 := fun b => [(2, b.1)]) (w3 := fun b => (b.2.1, b.2.2.1, tt b.2.2.2.1, cv b.2.2.2.2)) mvX5_191 (fun b h => kX5_product a0 sz sl td c b h) rfl (Nat.le_refl _) rfl rfl (Nat.le_of_ble_eq_true rfl) (fun _ => Nat.le_of_ble_eq_true rfl) (fun _ => ⟨rfl, rfl⟩) dX5_sum_1 (fun _ => Sm.some (fun h => h)) (fun p_1 => ?_)
  refine s_astore_nD (pc := 4) (ls' := [some (2, a0), some (2, p_1.1), none]) dX5_sum_4 rfl (Nat.le_of_ble_eq_true rfl) ?_
  refine s_loop (g := gX5_sum_l5 G Γ r p_1.2.1 p_1.2.2.1 p_1.2.2.2.1 p_1.2.2.2.2 a0) (Ex := eX5_sum_l5 G Γ r p_1.2.1 p_1.2.2.1 p_1.2.2.2.1 p_1.2.2.2.2 a0) (s0 := (p_1.1, p_1.2.1, p_1.2.2.1, p_1.2.2.2.1, p_1.2.2.2.2)) (fun s => sX5_sum_l5 a0 s.1 s.2.1 s.2.2.1 s.2.2.2.1 s.2.2.2.2) ?_
  refine s_elim ?_ ?_
  · intro e_9
    exact Sm.some (fun h => h)
  intro e_10
  show Sm _ _ (WP G Γ muX5_sum r 49 [none, some (2, e_10.1), none] [] (e_10.2.1, e_10.2.2.1, tt e_10.2.2.2.1, cv e_10.2.2.2.2))
  refine s_aload_n (pc := 49) dX5_sum_49 rfl ?_
  exact s_aret (pc := 50) dX5_sum_50 rfl ⟨rfl, by decide, by decide⟩ (fun h => h)
theorem kX5_sum [Inhabited OrcO] {G : GG}  (a0 : Int) (sz : Nat) (sl : Nat) (td : TT) (c : CC) [hO : Nonempty (PLift (oOOK G))] (x : (ThrT ⊕ (Int × Nat × Nat × TT × CC))) (h : fX5_sum a0 sz sl td c = some x) : CtE G yX5_sum muX5_sum [(2, a0)] (sz, sl, tt td, cv c) (Sum.elim te (fun v => ((2, v.1), (v.2.1, v.2.2.1, tt v.2.2.2.1, cv v.2.2.2.2))) x) :=
  CtE.of (n := 2) (ls0 := [some (2, a0), none, none]) (by decide) rfl rfl ⟨show (some (.object "HeldTongue$Sum") : Option FieldType) ≠ some .float by decide, show (some (.object "HeldTongue$Sum") : Option FieldType) ≠ some .double by decide⟩ (Nat.le_of_ble_eq_true rfl) rfl (fun Γ => sX5_sum a0 sz sl td c x h rfl)
theorem mvX5_176 : MV RX5 176 RX5 yX5_opens muX5_opens 0 := ⟨lw_V q712 q714 qs16 q130 q715, by decide +kernel, Nat.le_of_ble_eq_true rfl⟩
theorem mvX5_152 [Inhabited OrcO] : MV RX5 152 RX5 yX5_sum muX5_sum 0 := ⟨lw_V q680 q682 qs13 q130 q683, by decide +kernel, Nat.le_of_ble_eq_true rfl⟩
theorem fqX15_7 : FP RX15 7 13 0 "<init>" := ⟨_, _, _, cf13, by decide, q722, Or.inr ⟨rfl, rfl, rfl⟩⟩
theorem fqX15_7t : fty 13 0 ≠ .boolean ∧ fty 13 0 ≠ .byte ∧ fty 13 0 ≠ .char ∧ fty 13 0 ≠ .short := by decide
abbrev muX15_init : MI := (cX15_init, RX15, 2, none, 2, "<init>")
noncomputable def fX15_init (a0 : Int) (a1 : Int) (td : TT) (c : CC) : Option CC :=
  gd ((0 : Int) ≤ a0) <|
   gd (168 ≤ a0 ∧ (tt td (Int.toNat a0)).1 = 13) <| bd (up2 c (Int.toNat a0) 0 a1) fun c_1 =>
   some c_1
theorem sX15_init {G : GG} {Γ : Cx} {r : Vv × Wd} {sz : Nat} {sl : Nat} (a0 : Int) (a1 : Int) (td : TT) (c : CC) : Sm (fX15_init a0 a1 td c) (fun x => r = ((3, 0), (sz, sl, tt td, cv x))) (WP G Γ muX15_init r 0 [some (2, a0), some (2, a1)] [] (sz, sl, tt td, cv c)) := by
  unfold fX15_init
  refine s_aload_n (pc := 0) dX15_init_0 rfl ?_
  refine s_objInitD (pc := 1) q721 q161 q162 (by decide) (Nat.le_of_ble_eq_true rfl) dX15_init_1 ?_
  refine s_aload_n (pc := 4) dX15_init_4 rfl ?_
  refine s_aload_n (pc := 5) dX15_init_5 rfl ?_
  refine s_putDM (pc := 6) fqX15_7 rfl fqX15_7t dX15_init_6 (fun c_1 => ?_)
  exact s_vret (pc := 9) dX15_init_9 rfl (fun h => h)
theorem kX15_init {G : GG} {sz : Nat} {sl : Nat} (a0 : Int) (a1 : Int) (td : TT) (c : CC) (x : CC) (h : fX15_init a0 a1 td c = some x) : Ct G yX15_init muX15_init [(2, a0), (2, a1)] (sz, sl, tt td, cv c) ((3, 0), (sz, sl, tt td, cv x)) :=
  Ct.of (n := 0) (ls0 := [some (2, a0), some (2, a1)]) (by decide) rfl rfl ⟨show (none : Option FieldType) ≠ some .float by decide, show (none : Option FieldType) ≠ some .double by decide⟩ (Nat.le_of_ble_eq_true rfl) rfl ⟨Nat.le_refl _, Nat.le_refl _⟩ (show (3 : Nat) ≠ 9 by decide) (fun Γ => sX15_init a0 a1 td c x h rfl)
theorem miX5_209 : MIn RX5 209 yX15_init muX15_init 1 := ⟨lw_meth q720, rfl, q149, q718, q719, rfl, by decide +kernel, by decide⟩
theorem fqX14_7 : FP RX14 7 12 0 "<init>" := ⟨_, _, _, cf12, by decide, q708, Or.inr ⟨rfl, rfl, rfl⟩⟩
theorem fqX14_7t : fty 12 0 ≠ .boolean ∧ fty 12 0 ≠ .byte ∧ fty 12 0 ≠ .char ∧ fty 12 0 ≠ .short := by decide
abbrev muX14_init : MI := (cX14_init, RX14, 2, none, 2, "<init>")
noncomputable def fX14_init (a0 : Int) (a1 : Int) (td : TT) (c : CC) : Option CC :=
  gd ((0 : Int) ≤ a0) <|
   gd (168 ≤ a0 ∧ (tt td (Int.toNat a0)).1 = 12) <| bd (up2 c (Int.toNat a0) 0 a1) fun c_1 =>
   some c_1
theorem sX14_init {G : GG} {Γ : Cx} {r : Vv × Wd} {sz : Nat} {sl : Nat} (a0 : Int) (a1 : Int) (td : TT) (c : CC) : Sm (fX14_init a0 a1 td c) (fun x => r = ((3, 0), (sz, sl, tt td, cv x))) (WP G Γ muX14_init r 0 [some (2, a0), some (0, a1)] [] (sz, sl, tt td, cv c)) := by
  unfold fX14_init
  refine s_aload_n (pc := 0) dX14_init_0 rfl ?_
  refine s_objInitD (pc := 1) q707 q161 q162 (by decide) (Nat.le_of_ble_eq_true rfl) dX14_init_1 ?_
  refine s_aload_n (pc := 4) dX14_init_4 rfl ?_
  refine s_iload_n (pc := 5) dX14_init_5 rfl ?_
  refine s_putDM (pc := 6) fqX14_7 rfl fqX14_7t dX14_init_6 (fun c_1 => ?_)
  exact s_vret (pc := 9) dX14_init_9 rfl (fun h => h)
theorem kX14_init {G : GG} {sz : Nat} {sl : Nat} (a0 : Int) (a1 : Int) (td : TT) (c : CC) (x : CC) (h : fX14_init a0 a1 td c = some x) : Ct G yX14_init muX14_init [(2, a0), (0, a1)] (sz, sl, tt td, cv c) ((3, 0), (sz, sl, tt td, cv x)) :=
  Ct.of (n := 0) (ls0 := [some (2, a0), some (0, a1)]) (by decide) rfl rfl ⟨show (none : Option FieldType) ≠ some .float by decide, show (none : Option FieldType) ≠ some .double by decide⟩ (Nat.le_of_ble_eq_true rfl) rfl ⟨Nat.le_refl _, Nat.le_refl _⟩ (show (3 : Nat) ≠ 9 by decide) (fun Γ => sX14_init a0 a1 td c x h rfl)
theorem miX5_206 : MIn RX5 206 yX14_init muX14_init 1 := ⟨lw_meth q706, rfl, q148, q704, q705, rfl, by decide +kernel, by decide⟩
theorem fqX13_7 : FP RX13 7 11 0 "<init>" := ⟨_, _, _, cf11, by decide, q698, Or.inr ⟨rfl, rfl, rfl⟩⟩
theorem fqX13_7t : fty 11 0 ≠ .boolean ∧ fty 11 0 ≠ .byte ∧ fty 11 0 ≠ .char ∧ fty 11 0 ≠ .short := by decide
abbrev muX13_init : MI := (cX13_init, RX13, 2, none, 2, "<init>")
noncomputable def fX13_init (a0 : Int) (a1 : Int) (td : TT) (c : CC) : Option CC :=
  gd ((0 : Int) ≤ a0) <|
   gd (168 ≤ a0 ∧ (tt td (Int.toNat a0)).1 = 11) <| bd (up2 c (Int.toNat a0) 0 a1) fun c_1 =>
   some c_1
theorem sX13_init {G : GG} {Γ : Cx} {r : Vv × Wd} {sz : Nat} {sl : Nat} (a0 : Int) (a1 : Int) (td : TT) (c : CC) : Sm (fX13_init a0 a1 td c) (fun x => r = ((3, 0), (sz, sl, tt td, cv x))) (WP G Γ muX13_init r 0 [some (2, a0), some (0, a1)] [] (sz, sl, tt td, cv c)) := by
  unfold fX13_init
  refine s_aload_n (pc := 0) dX13_init_0 rfl ?_
  refine s_objInitD (pc := 1) q697 q161 q162 (by decide) (Nat.le_of_ble_eq_true rfl) dX13_init_1 ?_
  refine s_aload_n (pc := 4) dX13_init_4 rfl ?_
  refine s_iload_n (pc := 5) dX13_init_5 rfl ?_
  refine s_putDM (pc := 6) fqX13_7 rfl fqX13_7t dX13_init_6 (fun c_1 => ?_)
  exact s_vret (pc := 9) dX13_init_9 rfl (fun h => h)
theorem kX13_init {G : GG} {sz : Nat} {sl : Nat} (a0 : Int) (a1 : Int) (td : TT) (c : CC) (x : CC) (h : fX13_init a0 a1 td c = some x) : Ct G yX13_init muX13_init [(2, a0), (0, a1)] (sz, sl, tt td, cv c) ((3, 0), (sz, sl, tt td, cv x)) :=
  Ct.of (n := 0) (ls0 := [some (2, a0), some (0, a1)]) (by decide) rfl rfl ⟨show (none : Option FieldType) ≠ some .float by decide, show (none : Option FieldType) ≠ some .double by decide⟩ (Nat.le_of_ble_eq_true rfl) rfl ⟨Nat.le_refl _, Nat.le_refl _⟩ (show (3 : Nat) ≠ 9 by decide) (fun Γ => sX13_init a0 a1 td c x h rfl)
theorem miX5_202 : MIn RX5 202 yX13_init muX13_init 1 := ⟨lw_meth q696, rfl, q147, q694, q695, rfl, by decide +kernel, by decide⟩
abbrev muX5_one [Inhabited OrcO] : MI := (cX5_one, RX5, 2, some (.object "HeldTongue$Sum"), 3 * oON + 23, "one")
noncomputable def fX5_one_j42 [Inhabited OrcO] (v0 : Int) (sz : Nat) (sl : Nat) (td : TT) (c : CC) : Option (ThrT ⊕ (Int × Nat × Nat × TT × CC)) :=
  gd (kK ≤ sz) <| bd (upT td sz (11, 1)) fun tq_20 => bd (zc c sz 11) fun c_21 =>
   gd ((0 : Int) ≤ v0 ∧ (tt tq_20 (Int.toNat v0)).1 = 4) <|
   gd ((0 : Int) ≤ ((sz : Nat) : Int)) <| cl (fX13_init (((sz : Nat) : Int)) (cv c_21 (Int.toNat v0) 6) tq_20 c_21) fun p_22 =>
   bd (((sz : Nat) : Int)) fun v1_23 =>
   gd ((0 : Int) ≤ v0 ∧ (tt tq_20 (Int.toNat v0)).1 = 4) <| cl (fX5_next v0 tq_20 p_22) fun p_24 =>
   some (.inr (v1_23, (sz + 1), (sl + 1), tq_20, p_24))
theorem sX5_one_j42 [Inhabited OrcO] {G : GG} {Γ : Cx} {r : Vv × Wd}  (v0 : Int) (sz : Nat) (sl : Nat) (td : TT) (c : CC) [hO : Nonempty (PLift (oOOK G))] : Sm (fX5_one_j42 v0 sz sl td c) (fun x => r = (Sum.elim te (fun v => ((2, v.1), (v.2.1, v.2.2.1, tt v.2.2.2.1, cv v.2.2.2.2))) x)) (WP G Γ muX5_one r 42 [some (2, v0), none] [] (sz, sl, tt td, cv c)) := by
  unfold fX5_one_j42
  refine s_newM (pc := 42) cf11 q692 q693 q147 dX5_one_42 (fun tq_20 c_21 => ?_)
  refine s_dup (pc := 45) (by decide : ¬ (2 : Nat) = 1) dX5_one_45 ?_
  refine s_aload_n (pc := 46) dX5_one_46 rfl ?_
  refine s_getD (pc := 47) flX5_57 rfl dX5_one_47 ?_
  refine s_callI3 (pc := 50) (as := [(0, cv c_21 (Int.toNat v0) 6)]) (st := [(2, ((sz : Nat) : Int))]) (rv := fun b => ((3, 0), (sz + 1, sl + 1, tt tq_20, cv b))) (st3 := fun b => [(2, ((sz : Nat) : Int))]) (w3 := fun b => (sz + 1, sl + 1, tt tq_20, cv b)) miX5_202 (fun b h => kX13_init (((sz : Nat) : Int)) (cv c_21 (Int.toNat v0) 6) tq_20 c_21 b h) rfl (by first | decide | exact Nat.le_trans (by decide) (Nat.le_add_left 23 _)) rfl (Nat.le_of_ble_eq_true rfl) (fun _ => Nat.le_of_ble_eq_true rfl) (fun _ => ⟨rfl, rfl⟩) dX5_one_50 (fun p_22 => ?_)
  refine s_astore_n (pc := 53) (lf := fun x => [some (2, v0), some (2, x)]) dX5_one_53 (fun _ => rfl) (Nat.le_of_ble_eq_true rfl) (fun v1_23 => ?_)
  refine s_aload_n (pc := 54) dX5_one_54 rfl ?_
  refine s_callVG (pc := 55) (ci := 4) (as := []) (st := []) (rv := fun b => ((3, 0), (sz + 1, sl + 1, tt tq_20, cv b))) (st3 := fun b => []) (w3 := fun b => (sz + 1, sl + 1, tt tq_20, cv b)) mvX5_92 (fun b h => kX5_next v0 tq_20 p_22 b h) rfl (by first | decide | exact Nat.le_trans (by decide) (Nat.le_add_left 23 _)) rfl rfl (Nat.le_of_ble_eq_true rfl) (fun _ => Nat.le_of_ble_eq_true rfl) (fun _ => ⟨rfl, rfl⟩) dX5_one_55 (fun p_24 => ?_)
  refine s_aload_n (pc := 58) dX5_one_58 rfl ?_
  exact s_aret (pc := 59) dX5_one_59 rfl ⟨rfl, by decide, by decide⟩ (fun h => h)
noncomputable def fX5_one_j36 [Inhabited OrcO] (v0 : Int) (sz : Nat) (sl : Nat) (td : TT) (c : CC) : Option (ThrT ⊕ (Int × Nat × Nat × TT × CC)) :=
  gd ((0 : Int) ≤ v0 ∧ (tt td (Int.toNat v0)).1 = 4) <| cl (fX5_wrong v0 5 sz sl td c) fun p_25 =>
   gd ((0 : Int) ≤ p_25.1) (some (.inl (p_25.1, p_25.2.1, p_25.2.2.1, p_25.2.2.2.1, p_25.2.2.2.2)))
theorem sX5_one_j36 [Inhabited OrcO] {G : GG} {Γ : Cx} {r : Vv × Wd}  (v0 : Int) (sz : Nat) (sl : Nat) (td : TT) (c : CC) [hO : Nonempty (PLift (oOOK G))] : Sm (fX5_one_j36 v0 sz sl td c) (fun x => r = (Sum.elim te (fun v => ((2, v.1), (v.2.1, v.2.2.1, tt v.2.2.2.1, cv v.2.2.2.2))) x)) (WP G Γ muX5_one r 36 [some (2, v0), none] [] (sz, sl, tt td, cv c)) := by
  unfold fX5_one_j36
  refine s_aload_n (pc := 36) dX5_one_36 rfl ?_
  refine s_iconst (pc := 37) dX5_one_37 ?_
  refine s_callVG (pc := 38) (ci := 4) (as := [(0, 5)]) (st := []) (rv := fun b => ((2, b.1), (b.2.1, b.2.2.1, tt b.2.2.2.1, cv b.2.2.2.2))) (st3 := fun b => [(2, b.1)]) (w3 := fun b => (b.2.1, b.2.2.1, tt b.2.2.2.1, cv b.2.2.2.2)) mvX5_88 (fun b h => kX5_wrong v0 5 sz sl td c b h) rfl (by first | decide | exact Nat.le_trans (by decide) (Nat.le_add_left 23 _)) rfl rfl (Nat.le_of_ble_eq_true rfl) (fun _ => Nat.le_of_ble_eq_true rfl) (fun _ => ⟨rfl, rfl⟩) dX5_one_38 (fun p_25 => ?_)
  exact s_throw (pc := 41) rfl (fun h => h) dX5_one_41
noncomputable def fX5_one [Inhabited OrcO] (a0 : Int) (sz : Nat) (sl : Nat) (td : TT) (c : CC) : Option (ThrT ⊕ (Int × Nat × Nat × TT × CC)) :=
  gd ((0 : Int) ≤ a0 ∧ (tt td (Int.toNat a0)).1 = 4) <|
   if cv c (Int.toNat a0) 6 < 0 then
  (gd ((0 : Int) ≤ a0 ∧ (tt td (Int.toNat a0)).1 = 4) <|
   if cv c (Int.toNat a0) 4 = 40 then
  (gd ((0 : Int) ≤ a0 ∧ (tt td (Int.toNat a0)).1 = 4) <| cl (fX5_opens a0 sz sl td c) (Sum.elim (fun e => some (.inl e)) fun p_2 =>
   gd ((0 : Int) ≤ a0 ∧ (tt p_2.2.2.1 (Int.toNat a0)).1 = 4) <| cl (fX5_sum a0 p_2.1 p_2.2.1 p_2.2.2.1 p_2.2.2.2) (Sum.elim (fun e => some (.inl e)) fun p_3 =>
   gd ((0 : Int) ≤ a0 ∧ (tt p_3.2.2.2.1 (Int.toNat a0)).1 = 4) <| cl (fX5_need a0 41 p_3.2.1 p_3.2.2.1 p_3.2.2.2.1 p_3.2.2.2.2) (Sum.elim (fun e => some (.inl e)) fun p_4 =>
   gd ((0 : Int) ≤ a0 ∧ (tt p_4.2.2.1 (Int.toNat a0)).1 = 4) <|
   gd (inR ((cv p_4.2.2.2 (Int.toNat a0) 7) - 1)) <|
   gd (168 ≤ a0 ∧ (tt p_4.2.2.1 (Int.toNat a0)).1 = 4) <| bd (up2 p_4.2.2.2 (Int.toNat a0) 7 ((cv p_4.2.2.2 (Int.toNat a0) 7) - 1)) fun c_5 =>
   some (.inr (p_3.1, p_4.1, p_4.2.1, p_4.2.2.1, c_5))))))
  else if cv c (Int.toNat a0) 4 = 45 then
  (gd ((0 : Int) ≤ a0 ∧ (tt td (Int.toNat a0)).1 = 4) <| cl (fX5_opens a0 sz sl td c) (Sum.elim (fun e => some (.inl e)) fun p_7 =>
   gd (kK ≤ p_7.1) <| bd (upT p_7.2.2.1 p_7.1 (13, 1)) fun tq_8 => bd (zc p_7.2.2.2 p_7.1 13) fun c_9 =>
   gd ((0 : Int) ≤ a0 ∧ (tt tq_8 (Int.toNat a0)).1 = 4) <| cl (oO a0 (p_7.1 + 1) (p_7.2.1 + 1) tq_8 c_9) (Sum.elim (fun e => some (.inl e)) fun p_10 =>
   gd ((0 : Int) ≤ ((p_7.1 : Nat) : Int)) <| cl (fX15_init (((p_7.1 : Nat) : Int)) p_10.1 p_10.2.2.2.1 p_10.2.2.2.2) fun p_11 =>
   bd (((p_7.1 : Nat) : Int)) fun v1_12 =>
   gd ((0 : Int) ≤ a0 ∧ (tt p_10.2.2.2.1 (Int.toNat a0)).1 = 4) <|
   gd (inR ((cv p_11 (Int.toNat a0) 7) - 1)) <|
   gd (168 ≤ a0 ∧ (tt p_10.2.2.2.1 (Int.toNat a0)).1 = 4) <| bd (up2 p_11 (Int.toNat a0) 7 ((cv p_11 (Int.toNat a0) 7) - 1)) fun c_13 =>
   some (.inr (v1_12, p_10.2.1, p_10.2.2.1, p_10.2.2.2.1, c_13)))))
  else if cv c (Int.toNat a0) 4 = 301 then
  (gd (kK ≤ sz) <| bd (upT td sz (12, 1)) fun tq_15 => bd (zc c sz 12) fun c_16 =>
   gd ((0 : Int) ≤ a0 ∧ (tt tq_15 (Int.toNat a0)).1 = 4) <| cl (fX5_number a0 0 9999 (sz + 1) (sl + 1) tq_15 c_16) (Sum.elim (fun e => some (.inl e)) fun p_17 =>
   gd ((0 : Int) ≤ ((sz : Nat) : Int)) <| cl (fX14_init (((sz : Nat) : Int)) p_17.1 p_17.2.2.2.1 p_17.2.2.2.2) fun p_18 =>
   some (.inr ((((sz : Nat) : Int)), p_17.2.1, p_17.2.2.1, p_17.2.2.2.1, p_18))))
  else (gd ((0 : Int) ≤ a0 ∧ (tt td (Int.toNat a0)).1 = 4) <| cl (fX5_wrong a0 1 sz sl td c) fun p_19 =>
   gd ((0 : Int) ≤ p_19.1) (some (.inl (p_19.1, p_19.2.1, p_19.2.2.1, p_19.2.2.2.1, p_19.2.2.2.2)))))
  else
  (gd ((0 : Int) ≤ a0 ∧ (tt td (Int.toNat a0)).1 = 4) <|
   if cv c (Int.toNat a0) 9 = 311 then
  (gd ((0 : Int) ≤ a0 ∧ (tt td (Int.toNat a0)).1 = 4) <|
   if (3 : Int) < cv c (Int.toNat a0) 6 then
  (fX5_one_j36 a0 sz sl td c)
  else
  (fX5_one_j42 a0 sz sl td c))
  else
  (gd ((0 : Int) ≤ a0 ∧ (tt td (Int.toNat a0)).1 = 4) <|
   if cv c (Int.toNat a0) 6 < 3 then
  (fX5_one_j36 a0 sz sl td c)
  else
  (fX5_one_j42 a0 sz sl td c)))
theorem sX5_one [Inhabited OrcO] {G : GG} {Γ : Cx} {r : Vv × Wd}  (a0 : Int) (sz : Nat) (sl : Nat) (td : TT) (c : CC) [hO : Nonempty (PLift (oOOK G))] : Sm (fX5_one a0 sz sl td c) (fun x => r = (Sum.elim te (fun v => ((2, v.1), (v.2.1, v.2.2.1, tt v.2.2.2.1, cv v.2.2.2.2))) x)) (WP G Γ muX5_one r 0 [some (2, a0), none] [] (sz, sl, tt td, cv c)) := by
  unfold fX5_one
  refine s_aload_n (pc := 0) dX5_one_0 rfl ?_
  refine s_getD (pc := 1) flX5_57 rfl dX5_one_1 ?_
  refine s_if_lt (pc := 4) (tgt := 60) dX5_one_4 rfl ?_ ?_
  · refine s_aload_n (pc := 60) dX5_one_60 rfl ?_
    refine s_getD (pc := 61) flX5_60 rfl dX5_one_61 ?_
    refine Sm.ite (fun hq_1 => ?_) (fun hq_1 => ?_)
    · refine s_lkp (pc := 64) (tgt := 116) (off := 52) dX5_one_64 (by decide) (by rw [hq_1]; decide) rfl ?_
      refine s_aload_n (pc := 116) dX5_one_116 rfl ?_
      refine s_callVE (pc := 117) (ci := 4) (as := []) (st := []) (rv := fun b => ((3, 0), (b.1, b.2.1, tt b.2.2.1, cv b.2.2.2))) (st3 := fun b => []) (w3 := fun b => (b.1, b.2.1, tt b.2.2.1, cv b.2.2.2)) mvX5_176 (fun b h => kX5_opens a0 sz sl td c b h) rfl (by first | decide | exact Nat.le_trans (by decide) (Nat.le_add_left 23 _)) rfl rfl (Nat.le_of_ble_eq_true rfl) (fun _ => Nat.le_of_ble_eq_true rfl) (fun _ => ⟨rfl, rfl⟩) dX5_one_117 (fun _ => Sm.some (fun h => h)) (fun p_2 => ?_)
      refine s_aload_n (pc := 120) dX5_one_120 rfl ?_
      refine s_callVE (pc := 121) (ci := 4) (as := []) (st := []) (rv := fun b => ((2, b.1), (b.2.1, b.2.2.1, tt b.2.2.2.1, cv b.2.2.2.2))) (st3 := fun b => [(2, b.1)]) (w3 := fun b => (b.2.1, b.2.2.1, tt b.2.2.2.1, cv b.2.2.2.2)) mvX5_152 (fun b h => kX5_sum a0 p_2.1 p_2.2.1 p_2.2.2.1 p_2.2.2.2 b h) rfl (Nat.le_refl _) rfl rfl (Nat.le_of_ble_eq_true rfl) (fun _ => Nat.le_of_ble_eq_true rfl) (fun _ => ⟨rfl, rfl⟩) dX5_one_121 (fun _ => Sm.some (fun h => h)) (fun p_3 => ?_)
      refine s_astore_nD (pc := 124) (ls' := [some (2, a0), some (2, p_3.1)]) dX5_one_124 rfl (Nat.le_of_ble_eq_true rfl) ?_
      refine s_aload_n (pc := 125) dX5_one_125 rfl ?_
      refine s_bipush (pc := 126) dX5_one_126 ?_
      refine s_callVE (pc := 128) (ci := 4) (as := [(0, 41)]) (st := []) (rv := fun b => ((3, 0), (b.1, b.2.1, tt b.2.2.1, cv b.2.2.2))) (st3 := fun b => []) (w3 := fun b => (b.1, b.2.1, tt b.2.2.1, cv b.2.2.2)) mvX5_98 (fun b h => kX5_need a0 41 p_3.2.1 p_3.2.2.1 p_3.2.2.2.1 p_3.2.2.2.2 b h) rfl (by first | decide | exact Nat.le_trans (by decide) (Nat.le_add_left 23 _)) rfl rfl (Nat.le_of_ble_eq_true rfl) (fun _ => Nat.le_of_ble_eq_true rfl) (fun _ => ⟨rfl, rfl⟩) dX5_one_128 (fun _ => Sm.some (fun h => h)) (fun p_4 => ?_)
      refine s_aload_n (pc := 131) dX5_one_131 rfl ?_
      refine s_dup (pc := 132) (by decide : ¬ (2 : Nat) = 1) dX5_one_132 ?_
      refine s_getD (pc := 133) flX5_95 rfl dX5_one_133 ?_
      refine s_iconst (pc := 136) dX5_one_136 ?_
      refine s_isub (pc := 137) dX5_one_137 ?_
      refine s_putDM (pc := 138) (fpX5_95 _) rfl fpX5_95t dX5_one_138 (fun c_5 => ?_)
      refine s_aload_n (pc := 141) dX5_one_141 rfl ?_
      exact s_aret (pc := 142) dX5_one_142 rfl ⟨rfl, by decide, by decide⟩ (fun h => h)
    refine Sm.ite (fun hq_6 => ?_) (fun hq_6 => ?_)
    · refine s_lkp (pc := 64) (tgt := 143) (off := 79) dX5_one_64 (by decide) (by rw [hq_6]; decide) rfl ?_
      refine s_aload_n (pc := 143) dX5_one_143 rfl ?_
      refine s_callVE (pc := 144) (ci := 4) (as := []) (st := []) (rv := fun b => ((3, 0), (b.1, b.2.1, tt b.2.2.1, cv b.2.2.2))) (st3 := fun b => []) (w3 := fun b => (b.1, b.2.1, tt b.2.2.1, cv b.2.2.2)) mvX5_176 (fun b h => kX5_opens a0 sz sl td c b h) rfl (by first | decide | exact Nat.le_trans (by decide) (Nat.le_add_left 23 _)) rfl rfl (Nat.le_of_ble_eq_true rfl) (fun _ => Nat.le_of_ble_eq_true rfl) (fun _ => ⟨rfl, rfl⟩) dX5_one_144 (fun _ => Sm.some (fun h => h)) (fun p_7 => ?_)
      refine s_newM (pc := 147) cf13 q716 q717 q149 dX5_one_147 (fun tq_8 c_9 => ?_)
      refine s_dup (pc := 150) (by decide : ¬ (2 : Nat) = 1) dX5_one_150 ?_
      refine s_aload_n (pc := 151) dX5_one_151 rfl ?_
      refine s_callVE (pc := 152) (ci := 4) (as := []) (st := [(2, ((p_7.1 : Nat) : Int)), (2, ((p_7.1 : Nat) : Int))]) (rv := fun b => ((2, b.1), (b.2.1, b.2.2.1, tt b.2.2.2.1, cv b.2.2.2.2))) (st3 := fun b => [(2, b.1), (2, ((p_7.1 : Nat) : Int)), (2, ((p_7.1 : Nat) : Int))]) (w3 := fun b => (b.2.1, b.2.2.1, tt b.2.2.2.1, cv b.2.2.2.2)) (mvoX5_197 (3 * oON + 20)) (fun b h => hO.elim (fun q => q.down a0 (p_7.1 + 1) (p_7.2.1 + 1) tq_8 c_9 b h)) rfl (Nat.le_succ_of_le (Nat.le_succ _)) rfl rfl (Nat.le_of_ble_eq_true rfl) (fun _ => Nat.le_of_ble_eq_true rfl) (fun _ => ⟨rfl, rfl⟩) dX5_one_152 (fun _ => Sm.some (fun h => h)) (fun p_10 => ?_)
      refine s_callI3 (pc := 155) (as := [(2, p_10.1)]) (st := [(2, ((p_7.1 : Nat) : Int))]) (rv := fun b => ((3, 0), (p_10.2.1, p_10.2.2.1, tt p_10.2.2.2.1, cv b))) (st3 := fun b => [(2, ((p_7.1 : Nat) : Int))]) (w3 := fun b => (p_10.2.1, p_10.2.2.1, tt p_10.2.2.2.1, cv b)) miX5_209 (fun b h => kX15_init (((p_7.1 : Nat) : Int)) p_10.1 p_10.2.2.2.1 p_10.2.2.2.2 b h) rfl (by first | decide | exact Nat.le_trans (by decide) (Nat.le_add_left 23 _)) rfl (Nat.le_of_ble_eq_true rfl) (fun _ => Nat.le_of_ble_eq_true rfl) (fun _ => ⟨rfl, rfl⟩) dX5_one_155 (fun p_11 => ?_)
      refine s_astore_n (pc := 158) (lf := fun x => [some (2, a0), some (2, x)]) dX5_one_158 (fun _ => rfl) (Nat.le_of_ble_eq_true rfl) (fun v1_12 => ?_)
      refine s_aload_n (pc := 159) dX5_one_159 rfl ?_
      refine s_dup (pc := 160) (by decide : ¬ (2 : Nat) = 1) dX5_one_160 ?_
      refine s_getD (pc := 161) flX5_95 rfl dX5_one_161 ?_
      refine s_iconst (pc := 164) dX5_one_164 ?_
      refine s_isub (pc := 165) dX5_one_165 ?_
      refine s_putDM (pc := 166) (fpX5_95 _) rfl fpX5_95t dX5_one_166 (fun c_13 => ?_)
      refine s_aload_n (pc := 169) dX5_one_169 rfl ?_
      exact s_aret (pc := 170) dX5_one_170 rfl ⟨rfl, by decide, by decide⟩ (fun h => h)
    refine Sm.ite (fun hq_14 => ?_) (fun hq_14 => ?_)
    · refine s_lkp (pc := 64) (tgt := 100) (off := 36) dX5_one_64 (by decide) (by rw [hq_14]; decide) rfl ?_
      refine s_newM (pc := 100) cf12 q702 q703 q148 dX5_one_100 (fun tq_15 c_16 => ?_)
      refine s_dup (pc := 103) (by decide : ¬ (2 : Nat) = 1) dX5_one_103 ?_
      refine s_aload_n (pc := 104) dX5_one_104 rfl ?_
      refine s_iconst (pc := 105) dX5_one_105 ?_
      refine s_sipush (pc := 106) dX5_one_106 ?_
      refine s_callVE (pc := 109) (ci := 4) (as := [(0, 0), (0, 9999)]) (st := [(2, ((sz : Nat) : Int)), (2, ((sz : Nat) : Int))]) (rv := fun b => ((0, b.1), (b.2.1, b.2.2.1, tt b.2.2.2.1, cv b.2.2.2.2))) (st3 := fun b => [(0, b.1), (2, ((sz : Nat) : Int)), (2, ((sz : Nat) : Int))]) (w3 := fun b => (b.2.1, b.2.2.1, tt b.2.2.2.1, cv b.2.2.2.2)) mvX5_102 (fun b h => kX5_number a0 0 9999 (sz + 1) (sl + 1) tq_15 c_16 b h) rfl (by first | decide | exact Nat.le_trans (by decide) (Nat.le_add_left 23 _)) rfl rfl (Nat.le_of_ble_eq_true rfl) (fun _ => Nat.le_of_ble_eq_true rfl) (fun _ => ⟨rfl, rfl⟩) dX5_one_109 (fun _ => Sm.some (fun h => h)) (fun p_17 => ?_)
      refine s_callI3 (pc := 112) (as := [(0, p_17.1)]) (st := [(2, ((sz : Nat) : Int))]) (rv := fun b => ((3, 0), (p_17.2.1, p_17.2.2.1, tt p_17.2.2.2.1, cv b))) (st3 := fun b => [(2, ((sz : Nat) : Int))]) (w3 := fun b => (p_17.2.1, p_17.2.2.1, tt p_17.2.2.2.1, cv b)) miX5_206 (fun b h => kX14_init (((sz : Nat) : Int)) p_17.1 p_17.2.2.2.1 p_17.2.2.2.2 b h) rfl (by first | decide | exact Nat.le_trans (by decide) (Nat.le_add_left 23 _)) rfl (Nat.le_of_ble_eq_true rfl) (fun _ => Nat.le_of_ble_eq_true rfl) (fun _ => ⟨rfl, rfl⟩) dX5_one_112 (fun p_18 => ?_)
      exact s_aret (pc := 115) dX5_one_115 rfl ⟨rfl, by decide, by decide⟩ (fun h => h)
    refine s_lkp (pc := 64) (tgt := 171) (off := 107) dX5_one_64 (by decide) (by simp [Op.lookupswitch.offset_cons, Op.lookupswitch.offset_nil, Ne.symm hq_1, Ne.symm hq_6, Ne.symm hq_14]) rfl ?_
    refine s_aload_n (pc := 171) dX5_one_171 rfl ?_
    refine s_iconst (pc := 172) dX5_one_172 ?_
    refine s_callVG (pc := 173) (ci := 4) (as := [(0, 1)]) (st := []) (rv := fun b => ((2, b.1), (b.2.1, b.2.2.1, tt b.2.2.2.1, cv b.2.2.2.2))) (st3 := fun b => [(2, b.1)]) (w3 := fun b => (b.2.1, b.2.2.1, tt b.2.2.2.1, cv b.2.2.2.2)) mvX5_88 (fun b h => kX5_wrong a0 1 sz sl td c b h) rfl (by first | decide | exact Nat.le_trans (by decide) (Nat.le_add_left 23 _)) rfl rfl (Nat.le_of_ble_eq_true rfl) (fun _ => Nat.le_of_ble_eq_true rfl) (fun _ => ⟨rfl, rfl⟩) dX5_one_173 (fun p_19 => ?_)
    exact s_throw (pc := 176) rfl (fun h => h) dX5_one_176
  refine s_aload_n (pc := 7) dX5_one_7 rfl ?_
  refine s_getD (pc := 8) flX5_141 rfl dX5_one_8 ?_
  refine s_sipush (pc := 11) dX5_one_11 ?_
  refine s_icmp_ne (pc := 14) (tgt := 28) dX5_one_14 rfl ?_ ?_
  · refine s_aload_n (pc := 28) dX5_one_28 rfl ?_
    refine s_getD (pc := 29) flX5_57 rfl dX5_one_29 ?_
    refine s_iconst (pc := 32) dX5_one_32 ?_
    refine s_icmp_ge (pc := 33) (tgt := 42) dX5_one_33 rfl ?_ ?_
    · exact sX5_one_j42 a0 sz sl td c
    exact sX5_one_j36 a0 sz sl td c
  refine s_aload_n (pc := 17) dX5_one_17 rfl ?_
  refine s_getD (pc := 18) flX5_57 rfl dX5_one_18 ?_
  refine s_iconst (pc := 21) dX5_one_21 ?_
  refine s_icmp_le (pc := 22) (tgt := 42) dX5_one_22 rfl ?_ ?_
  · exact sX5_one_j42 a0 sz sl td c
  refine s_goto (pc := 25) (tgt := 36) dX5_one_25 rfl ?_
  exact sX5_one_j36 a0 sz sl td c
theorem kX5_one [Inhabited OrcO] {G : GG}  (a0 : Int) (sz : Nat) (sl : Nat) (td : TT) (c : CC) [hO : Nonempty (PLift (oOOK G))] (x : (ThrT ⊕ (Int × Nat × Nat × TT × CC))) (h : fX5_one a0 sz sl td c = some x) : CtE G yX5_one muX5_one [(2, a0)] (sz, sl, tt td, cv c) (Sum.elim te (fun v => ((2, v.1), (v.2.1, v.2.2.1, tt v.2.2.2.1, cv v.2.2.2.2))) x) :=
  CtE.of (n := 1) (ls0 := [some (2, a0), none]) (by decide) rfl rfl ⟨show (some (.object "HeldTongue$Sum") : Option FieldType) ≠ some .float by decide, show (some (.object "HeldTongue$Sum") : Option FieldType) ≠ some .double by decide⟩ (Nat.le_of_ble_eq_true rfl) rfl (fun Γ => sX5_one a0 sz sl td c x h rfl)
noncomputable def fOne : Nat → Int → Nat → Nat → TT → CC → Option (ThrT ⊕ (Int × Nat × Nat × TT × CC))
  | 0, _, _, _, _, _ => none
  | n + 1, z, sz, sl, td, c => @fX5_one ⟨((fOne n, n) : OrcO)⟩ z sz sl td c
theorem kOne {G : GG} (n : Nat) (z : Int) (sz sl : Nat) (td : TT) (c : CC) (b : ThrT ⊕ (Int × Nat × Nat × TT × CC)) (h : fOne n z sz sl td c = some b) : CtE G yX5_one (muOne (3 * n + 20)) [(2, z)] (sz, sl, tt td, cv c) (Sum.elim te rvR b) := by
  induction n generalizing z sz sl td c b with
  | zero => unfold fOne at h; cases h
  | succ n ih =>
    unfold fOne at h
    have e : 3 * (n + 1) + 20 = 3 * n + 23 := by omega
    rw [e]
    exact @kX5_one ⟨((fOne n, n) : OrcO)⟩ G z sz sl td c ⟨⟨ih⟩⟩ b h
theorem mvX5_152_o : MV RX5 152 RX5 yX5_sum (@muX5_sum ⟨((fOne 10, 10) : OrcO)⟩) 0 := ⟨lw_V q680 q682 qs13 q130 q683, by decide +kernel, Nat.le_of_ble_eq_true rfl⟩
abbrev muX5_isCompare : MI := (cX5_isCompare, RX5, 1, some .boolean, 1, "isCompare")
noncomputable def fX5_isCompare (a0 : Int) (td : TT) (c : CC) : Option Int :=
  gd ((0 : Int) ≤ a0 ∧ (tt td (Int.toNat a0)).1 = 4) <|
   if cv c (Int.toNat a0) 4 = 60 then
  (gd ((0 : Int) ≤ 1 ∧ (1 : Int) < 2) (some 1))
  else
  (gd ((0 : Int) ≤ a0 ∧ (tt td (Int.toNat a0)).1 = 4) <|
   if cv c (Int.toNat a0) 4 = 62 then
  (gd ((0 : Int) ≤ 1 ∧ (1 : Int) < 2) (some 1))
  else
  (gd ((0 : Int) ≤ a0 ∧ (tt td (Int.toNat a0)).1 = 4) <|
   if cv c (Int.toNat a0) 4 = 61 then
  (gd ((0 : Int) ≤ 1 ∧ (1 : Int) < 2) (some 1))
  else
  (gd ((0 : Int) ≤ a0 ∧ (tt td (Int.toNat a0)).1 = 4) <|
   if cv c (Int.toNat a0) 4 = 35 then
  (gd ((0 : Int) ≤ 1 ∧ (1 : Int) < 2) (some 1))
  else
  (gd ((0 : Int) ≤ a0 ∧ (tt td (Int.toNat a0)).1 = 4) <|
   if cv c (Int.toNat a0) 4 = 304 then
  (gd ((0 : Int) ≤ 1 ∧ (1 : Int) < 2) (some 1))
  else
  (gd ((0 : Int) ≤ a0 ∧ (tt td (Int.toNat a0)).1 = 4) <|
   if cv c (Int.toNat a0) 4 = 305 then
  (gd ((0 : Int) ≤ 1 ∧ (1 : Int) < 2) (some 1))
  else
  (gd ((0 : Int) ≤ 0 ∧ (0 : Int) < 2) (some 0)))))))
theorem sX5_isCompare {G : GG} {Γ : Cx} {r : Vv × Wd} {sz : Nat} {sl : Nat} (a0 : Int) (td : TT) (c : CC) : Sm (fX5_isCompare a0 td c) (fun x => r = ((0, x), (sz, sl, tt td, cv c))) (WP G Γ muX5_isCompare r 0 [some (2, a0)] [] (sz, sl, tt td, cv c)) := by
  unfold fX5_isCompare
  refine s_aload_n (pc := 0) dX5_isCompare_0 rfl ?_
  refine s_getD (pc := 1) flX5_60 rfl dX5_isCompare_1 ?_
  refine s_bipush (pc := 4) dX5_isCompare_4 ?_
  refine s_icmp_eq (pc := 6) (tgt := 56) dX5_isCompare_6 rfl ?_ ?_
  · refine s_iconst (pc := 56) dX5_isCompare_56 ?_
    refine s_goto (pc := 57) (tgt := 61) dX5_isCompare_57 rfl ?_
    exact s_zret (pc := 61) dX5_isCompare_61 rfl (fun h => h)
  refine s_aload_n (pc := 9) dX5_isCompare_9 rfl ?_
  refine s_getD (pc := 10) flX5_60 rfl dX5_isCompare_10 ?_
  refine s_bipush (pc := 13) dX5_isCompare_13 ?_
  refine s_icmp_eq (pc := 15) (tgt := 56) dX5_isCompare_15 rfl ?_ ?_
  · refine s_iconst (pc := 56) dX5_isCompare_56 ?_
    refine s_goto (pc := 57) (tgt := 61) dX5_isCompare_57 rfl ?_
    exact s_zret (pc := 61) dX5_isCompare_61 rfl (fun h => h)
  refine s_aload_n (pc := 18) dX5_isCompare_18 rfl ?_
  refine s_getD (pc := 19) flX5_60 rfl dX5_isCompare_19 ?_
  refine s_bipush (pc := 22) dX5_isCompare_22 ?_
  refine s_icmp_eq (pc := 24) (tgt := 56) dX5_isCompare_24 rfl ?_ ?_
  · refine s_iconst (pc := 56) dX5_isCompare_56 ?_
    refine s_goto (pc := 57) (tgt := 61) dX5_isCompare_57 rfl ?_
    exact s_zret (pc := 61) dX5_isCompare_61 rfl (fun h => h)
  refine s_aload_n (pc := 27) dX5_isCompare_27 rfl ?_
  refine s_getD (pc := 28) flX5_60 rfl dX5_isCompare_28 ?_
  refine s_bipush (pc := 31) dX5_isCompare_31 ?_
  refine s_icmp_eq (pc := 33) (tgt := 56) dX5_isCompare_33 rfl ?_ ?_
  · refine s_iconst (pc := 56) dX5_isCompare_56 ?_
    refine s_goto (pc := 57) (tgt := 61) dX5_isCompare_57 rfl ?_
    exact s_zret (pc := 61) dX5_isCompare_61 rfl (fun h => h)
  refine s_aload_n (pc := 36) dX5_isCompare_36 rfl ?_
  refine s_getD (pc := 37) flX5_60 rfl dX5_isCompare_37 ?_
  refine s_sipush (pc := 40) dX5_isCompare_40 ?_
  refine s_icmp_eq (pc := 43) (tgt := 56) dX5_isCompare_43 rfl ?_ ?_
  · refine s_iconst (pc := 56) dX5_isCompare_56 ?_
    refine s_goto (pc := 57) (tgt := 61) dX5_isCompare_57 rfl ?_
    exact s_zret (pc := 61) dX5_isCompare_61 rfl (fun h => h)
  refine s_aload_n (pc := 46) dX5_isCompare_46 rfl ?_
  refine s_getD (pc := 47) flX5_60 rfl dX5_isCompare_47 ?_
  refine s_sipush (pc := 50) dX5_isCompare_50 ?_
  refine s_icmp_ne (pc := 53) (tgt := 60) dX5_isCompare_53 rfl ?_ ?_
  · refine s_iconst (pc := 60) dX5_isCompare_60 ?_
    exact s_zret (pc := 61) dX5_isCompare_61 rfl (fun h => h)
  refine s_iconst (pc := 56) dX5_isCompare_56 ?_
  refine s_goto (pc := 57) (tgt := 61) dX5_isCompare_57 rfl ?_
  exact s_zret (pc := 61) dX5_isCompare_61 rfl (fun h => h)
theorem kX5_isCompare {G : GG} {sz : Nat} {sl : Nat} (a0 : Int) (td : TT) (c : CC) (x : Int) (h : fX5_isCompare a0 td c = some x) : Ct G yX5_isCompare muX5_isCompare [(2, a0)] (sz, sl, tt td, cv c) ((0, x), (sz, sl, tt td, cv c)) :=
  Ct.of (n := 0) (ls0 := [some (2, a0)]) (by decide) rfl rfl ⟨show (some .boolean : Option FieldType) ≠ some .float by decide, show (some .boolean : Option FieldType) ≠ some .double by decide⟩ (Nat.le_of_ble_eq_true rfl) rfl ⟨Nat.le_refl _, Nat.le_refl _⟩ (show (0 : Nat) ≠ 9 by decide) (fun Γ => sX5_isCompare a0 td c x h rfl)
theorem mvX5_183 : MV RX5 183 RX5 yX5_isCompare muX5_isCompare 0 := ⟨lw_V q764 q766 qs20 q130 q767, by decide +kernel, Nat.le_of_ble_eq_true rfl⟩
theorem fqX18_7 : FP RX18 7 16 0 "<init>" := ⟨_, _, _, cf16, by decide, q774, Or.inr ⟨rfl, rfl, rfl⟩⟩
theorem fqX18_7t : fty 16 0 ≠ .boolean ∧ fty 16 0 ≠ .byte ∧ fty 16 0 ≠ .char ∧ fty 16 0 ≠ .short := by decide
theorem fqX18_13 : FP RX18 13 16 1 "<init>" := ⟨_, _, _, cf16, by decide, q775, Or.inr ⟨rfl, rfl, rfl⟩⟩
theorem fqX18_13t : fty 16 1 ≠ .boolean ∧ fty 16 1 ≠ .byte ∧ fty 16 1 ≠ .char ∧ fty 16 1 ≠ .short := by decide
theorem fqX18_17 : FP RX18 17 16 2 "<init>" := ⟨_, _, _, cf16, by decide, q776, Or.inr ⟨rfl, rfl, rfl⟩⟩
theorem fqX18_17t : fty 16 2 ≠ .boolean ∧ fty 16 2 ≠ .byte ∧ fty 16 2 ≠ .char ∧ fty 16 2 ≠ .short := by decide
abbrev muX18_init : MI := (cX18_init, RX18, 4, none, 2, "<init>")
noncomputable def fX18_init (a0 : Int) (a1 : Int) (a2 : Int) (a3 : Int) (td : TT) (c : CC) : Option CC :=
  gd ((0 : Int) ≤ a0) <|
   gd (168 ≤ a0 ∧ (tt td (Int.toNat a0)).1 = 16) <| bd (up2 c (Int.toNat a0) 0 a1) fun c_1 =>
   gd (168 ≤ a0 ∧ (tt td (Int.toNat a0)).1 = 16) <| bd (up2 c_1 (Int.toNat a0) 1 a2) fun c_2 =>
   gd (168 ≤ a0 ∧ (tt td (Int.toNat a0)).1 = 16) <| bd (up2 c_2 (Int.toNat a0) 2 a3) fun c_3 =>
   some c_3
theorem sX18_init {G : GG} {Γ : Cx} {r : Vv × Wd} {sz : Nat} {sl : Nat} (a0 : Int) (a1 : Int) (a2 : Int) (a3 : Int) (td : TT) (c : CC) : Sm (fX18_init a0 a1 a2 a3 td c) (fun x => r = ((3, 0), (sz, sl, tt td, cv x))) (WP G Γ muX18_init r 0 [some (2, a0), some (0, a1), some (2, a2), some (2, a3)] [] (sz, sl, tt td, cv c)) := by
  unfold fX18_init
  refine s_aload_n (pc := 0) dX18_init_0 rfl ?_
  refine s_objInitD (pc := 1) q773 q161 q162 (by decide) (Nat.le_of_ble_eq_true rfl) dX18_init_1 ?_
  refine s_aload_n (pc := 4) dX18_init_4 rfl ?_
  refine s_iload_n (pc := 5) dX18_init_5 rfl ?_
  refine s_putDM (pc := 6) fqX18_7 rfl fqX18_7t dX18_init_6 (fun c_1 => ?_)
  refine s_aload_n (pc := 9) dX18_init_9 rfl ?_
  refine s_aload_n (pc := 10) dX18_init_10 rfl ?_
  refine s_putDM (pc := 11) fqX18_13 rfl fqX18_13t dX18_init_11 (fun c_2 => ?_)
  refine s_aload_n (pc := 14) dX18_init_14 rfl ?_
  refine s_aload_n (pc := 15) dX18_init_15 rfl ?_
  refine s_putDM (pc := 16) fqX18_17 rfl fqX18_17t dX18_init_16 (fun c_3 => ?_)
  exact s_vret (pc := 19) dX18_init_19 rfl (fun h => h)
theorem kX18_init {G : GG} {sz : Nat} {sl : Nat} (a0 : Int) (a1 : Int) (a2 : Int) (a3 : Int) (td : TT) (c : CC) (x : CC) (h : fX18_init a0 a1 a2 a3 td c = some x) : Ct G yX18_init muX18_init [(2, a0), (0, a1), (2, a2), (2, a3)] (sz, sl, tt td, cv c) ((3, 0), (sz, sl, tt td, cv x)) :=
  Ct.of (n := 0) (ls0 := [some (2, a0), some (0, a1), some (2, a2), some (2, a3)]) (by decide) rfl rfl ⟨show (none : Option FieldType) ≠ some .float by decide, show (none : Option FieldType) ≠ some .double by decide⟩ (Nat.le_of_ble_eq_true rfl) rfl ⟨Nat.le_refl _, Nat.le_refl _⟩ (show (3 : Nat) ≠ 9 by decide) (fun Γ => sX18_init a0 a1 a2 a3 td c x h rfl)
theorem miX5_188 : MIn RX5 188 yX18_init muX18_init 3 := ⟨lw_meth q772, rfl, q152, q770, q771, rfl, by decide +kernel, by decide⟩
theorem mvoX5_173 (d : Nat) : MV RX5 173 RX5 yX5_ask (muAsk d) 0 := ⟨lw_V q750 q752 qs19 q130 q753, by decide +kernel, Nat.le_of_ble_eq_true rfl⟩
theorem fqX17_7 : FP RX17 7 15 0 "<init>" := ⟨_, _, _, cf15, by decide, q760, Or.inr ⟨rfl, rfl, rfl⟩⟩
theorem fqX17_7t : fty 15 0 ≠ .boolean ∧ fty 15 0 ≠ .byte ∧ fty 15 0 ≠ .char ∧ fty 15 0 ≠ .short := by decide
abbrev muX17_init : MI := (cX17_init, RX17, 2, none, 2, "<init>")
noncomputable def fX17_init (a0 : Int) (a1 : Int) (td : TT) (c : CC) : Option CC :=
  gd ((0 : Int) ≤ a0) <|
   gd (168 ≤ a0 ∧ (tt td (Int.toNat a0)).1 = 15) <| bd (up2 c (Int.toNat a0) 0 a1) fun c_1 =>
   some c_1
theorem sX17_init {G : GG} {Γ : Cx} {r : Vv × Wd} {sz : Nat} {sl : Nat} (a0 : Int) (a1 : Int) (td : TT) (c : CC) : Sm (fX17_init a0 a1 td c) (fun x => r = ((3, 0), (sz, sl, tt td, cv x))) (WP G Γ muX17_init r 0 [some (2, a0), some (2, a1)] [] (sz, sl, tt td, cv c)) := by
  unfold fX17_init
  refine s_aload_n (pc := 0) dX17_init_0 rfl ?_
  refine s_objInitD (pc := 1) q759 q161 q162 (by decide) (Nat.le_of_ble_eq_true rfl) dX17_init_1 ?_
  refine s_aload_n (pc := 4) dX17_init_4 rfl ?_
  refine s_aload_n (pc := 5) dX17_init_5 rfl ?_
  refine s_putDM (pc := 6) fqX17_7 rfl fqX17_7t dX17_init_6 (fun c_1 => ?_)
  exact s_vret (pc := 9) dX17_init_9 rfl (fun h => h)
theorem kX17_init {G : GG} {sz : Nat} {sl : Nat} (a0 : Int) (a1 : Int) (td : TT) (c : CC) (x : CC) (h : fX17_init a0 a1 td c = some x) : Ct G yX17_init muX17_init [(2, a0), (2, a1)] (sz, sl, tt td, cv c) ((3, 0), (sz, sl, tt td, cv x)) :=
  Ct.of (n := 0) (ls0 := [some (2, a0), some (2, a1)]) (by decide) rfl rfl ⟨show (none : Option FieldType) ≠ some .float by decide, show (none : Option FieldType) ≠ some .double by decide⟩ (Nat.le_of_ble_eq_true rfl) rfl ⟨Nat.le_refl _, Nat.le_refl _⟩ (show (3 : Nat) ≠ 9 by decide) (fun Γ => sX17_init a0 a1 td c x h rfl)
theorem miX5_181 : MIn RX5 181 yX17_init muX17_init 1 := ⟨lw_meth q758, rfl, q151, q756, q757, rfl, by decide +kernel, by decide⟩
abbrev muX5_ask [Inhabited OrcA] : MI := (cX5_ask, RX5, 3, some (.object "HeldTongue$Ask"), 1 * oAN + 61, "ask")
noncomputable def fX5_ask [Inhabited OrcA] (a0 : Int) (sz : Nat) (sl : Nat) (td : TT) (c : CC) : Option (ThrT ⊕ (Int × Nat × Nat × TT × CC)) :=
  gd ((0 : Int) ≤ a0 ∧ (tt td (Int.toNat a0)).1 = 4) <|
   if cv c (Int.toNat a0) 4 = 315 then
  (gd ((0 : Int) ≤ a0 ∧ (tt td (Int.toNat a0)).1 = 4) <| cl (fX5_opens a0 sz sl td c) (Sum.elim (fun e => some (.inl e)) fun p_10 =>
   gd (kK ≤ p_10.1) <| bd (upT p_10.2.2.1 p_10.1 (15, 1)) fun tq_11 => bd (zc p_10.2.2.2 p_10.1 15) fun c_12 =>
   gd ((0 : Int) ≤ a0 ∧ (tt tq_11 (Int.toNat a0)).1 = 4) <| cl (oA a0 (p_10.1 + 1) (p_10.2.1 + 1) tq_11 c_12) (Sum.elim (fun e => some (.inl e)) fun p_13 =>
   gd ((0 : Int) ≤ ((p_10.1 : Nat) : Int)) <| cl (fX17_init (((p_10.1 : Nat) : Int)) p_13.1 p_13.2.2.2.1 p_13.2.2.2.2) fun p_14 =>
   bd (((p_10.1 : Nat) : Int)) fun v1_15 =>
   gd ((0 : Int) ≤ a0 ∧ (tt p_13.2.2.2.1 (Int.toNat a0)).1 = 4) <|
   gd (inR ((cv p_14 (Int.toNat a0) 7) - 1)) <|
   gd (168 ≤ a0 ∧ (tt p_13.2.2.2.1 (Int.toNat a0)).1 = 4) <| bd (up2 p_14 (Int.toNat a0) 7 ((cv p_14 (Int.toNat a0) 7) - 1)) fun c_16 =>
   some (.inr (v1_15, p_13.2.1, p_13.2.2.1, p_13.2.2.2.1, c_16)))))
  else
  (gd ((0 : Int) ≤ a0 ∧ (tt td (Int.toNat a0)).1 = 4) <| cl (@fX5_sum ⟨((fOne 10, 10) : OrcO)⟩ a0 sz sl td c) (Sum.elim (fun e => some (.inl e)) fun p_1 =>
   gd ((0 : Int) ≤ a0 ∧ (tt p_1.2.2.2.1 (Int.toNat a0)).1 = 4) <| cl (fX5_isCompare a0 p_1.2.2.2.1 p_1.2.2.2.2) fun p_2 =>
   if p_2 = 0 then
  (gd ((0 : Int) ≤ a0 ∧ (tt p_1.2.2.2.1 (Int.toNat a0)).1 = 4) <| cl (fX5_wrong a0 1 p_1.2.1 p_1.2.2.1 p_1.2.2.2.1 p_1.2.2.2.2) fun p_9 =>
   gd ((0 : Int) ≤ p_9.1) (some (.inl (p_9.1, p_9.2.1, p_9.2.2.1, p_9.2.2.2.1, p_9.2.2.2.2))))
  else
  (gd ((0 : Int) ≤ a0 ∧ (tt p_1.2.2.2.1 (Int.toNat a0)).1 = 4) <|
   bd (cv p_1.2.2.2.2 (Int.toNat a0) 4) fun v2_3 =>
   gd ((0 : Int) ≤ a0 ∧ (tt p_1.2.2.2.1 (Int.toNat a0)).1 = 4) <| cl (fX5_next a0 p_1.2.2.2.1 p_1.2.2.2.2) fun p_4 =>
   gd (kK ≤ p_1.2.1) <| bd (upT p_1.2.2.2.1 p_1.2.1 (16, 3)) fun tq_5 => bd (zc p_4 p_1.2.1 16) fun c_6 =>
   gd ((0 : Int) ≤ a0 ∧ (tt tq_5 (Int.toNat a0)).1 = 4) <| cl (@fX5_sum ⟨((fOne 10, 10) : OrcO)⟩ a0 (p_1.2.1 + 1) (p_1.2.2.1 + 3) tq_5 c_6) (Sum.elim (fun e => some (.inl e)) fun p_7 =>
   gd ((0 : Int) ≤ ((p_1.2.1 : Nat) : Int)) <| cl (fX18_init (((p_1.2.1 : Nat) : Int)) v2_3 p_1.1 p_7.1 p_7.2.2.2.1 p_7.2.2.2.2) fun p_8 =>
   some (.inr ((((p_1.2.1 : Nat) : Int)), p_7.2.1, p_7.2.2.1, p_7.2.2.2.1, p_8))))))
theorem sX5_ask [Inhabited OrcA] {G : GG} {Γ : Cx} {r : Vv × Wd}  (a0 : Int) (sz : Nat) (sl : Nat) (td : TT) (c : CC) [hO : Nonempty (PLift (oAOK G))] : Sm (fX5_ask a0 sz sl td c) (fun x => r = (Sum.elim te (fun v => ((2, v.1), (v.2.1, v.2.2.1, tt v.2.2.2.1, cv v.2.2.2.2))) x)) (WP G Γ muX5_ask r 0 [some (2, a0), none, none] [] (sz, sl, tt td, cv c)) := by
  unfold fX5_ask
  refine s_aload_n (pc := 0) dX5_ask_0 rfl ?_
  refine s_getD (pc := 1) flX5_60 rfl dX5_ask_1 ?_
  refine s_sipush (pc := 4) dX5_ask_4 ?_
  refine s_icmp_ne (pc := 7) (tgt := 38) dX5_ask_7 rfl ?_ ?_
  · refine s_aload_n (pc := 38) dX5_ask_38 rfl ?_
    refine s_callVE (pc := 39) (ci := 4) (as := []) (st := []) (rv := fun b => ((2, b.1), (b.2.1, b.2.2.1, tt b.2.2.2.1, cv b.2.2.2.2))) (st3 := fun b => [(2, b.1)]) (w3 := fun b => (b.2.1, b.2.2.1, tt b.2.2.2.1, cv b.2.2.2.2)) mvX5_152_o (fun b h => @kX5_sum ⟨((fOne 10, 10) : OrcO)⟩ G a0 sz sl td c ⟨⟨kOne 10⟩⟩ b h) rfl (by first | decide | exact Nat.le_trans (by decide) (Nat.le_add_left 61 _)) rfl rfl (Nat.le_of_ble_eq_true rfl) (fun _ => Nat.le_of_ble_eq_true rfl) (fun _ => ⟨rfl, rfl⟩) dX5_ask_39 (fun _ => Sm.some (fun h => h)) (fun p_1 => ?_)
    refine s_astore_nD (pc := 42) (ls' := [some (2, a0), some (2, p_1.1), none]) dX5_ask_42 rfl (Nat.le_of_ble_eq_true rfl) ?_
    refine s_aload_n (pc := 43) dX5_ask_43 rfl ?_
    refine s_callVG (pc := 44) (ci := 4) (as := []) (st := []) (rv := fun b => ((0, b), (p_1.2.1, p_1.2.2.1, tt p_1.2.2.2.1, cv p_1.2.2.2.2))) (st3 := fun b => [(0, b)]) (w3 := fun b => (p_1.2.1, p_1.2.2.1, tt p_1.2.2.2.1, cv p_1.2.2.2.2)) mvX5_183 (fun b h => kX5_isCompare a0 p_1.2.2.2.1 p_1.2.2.2.2 b h) rfl (by first | decide | exact Nat.le_trans (by decide) (Nat.le_add_left 61 _)) rfl rfl (Nat.le_of_ble_eq_true rfl) (fun _ => Nat.le_of_ble_eq_true rfl) (fun _ => ⟨rfl, rfl⟩) dX5_ask_44 (fun p_2 => ?_)
    refine s_if_ne (pc := 47) (tgt := 56) dX5_ask_47 rfl ?_ ?_
    · refine s_aload_n (pc := 56) dX5_ask_56 rfl ?_
      refine s_getD (pc := 57) flX5_60 rfl dX5_ask_57 ?_
      refine s_istore_n (pc := 60) (lf := fun x => [some (2, a0), some (2, p_1.1), some (0, x)]) dX5_ask_60 (fun _ => rfl) (Nat.le_of_ble_eq_true rfl) (fun v2_3 => ?_)
      refine s_aload_n (pc := 61) dX5_ask_61 rfl ?_
      refine s_callVG (pc := 62) (ci := 4) (as := []) (st := []) (rv := fun b => ((3, 0), (p_1.2.1, p_1.2.2.1, tt p_1.2.2.2.1, cv b))) (st3 := fun b => []) (w3 := fun b => (p_1.2.1, p_1.2.2.1, tt p_1.2.2.2.1, cv b)) mvX5_92 (fun b h => kX5_next a0 p_1.2.2.2.1 p_1.2.2.2.2 b h) rfl (by first | decide | exact Nat.le_trans (by decide) (Nat.le_add_left 61 _)) rfl rfl (Nat.le_of_ble_eq_true rfl) (fun _ => Nat.le_of_ble_eq_true rfl) (fun _ => ⟨rfl, rfl⟩) dX5_ask_62 (fun p_4 => ?_)
      refine s_newM (pc := 65) cf16 q768 q769 q152 dX5_ask_65 (fun tq_5 c_6 => ?_)
      refine s_dup (pc := 68) (by decide : ¬ (2 : Nat) = 1) dX5_ask_68 ?_
      refine s_iload_n (pc := 69) dX5_ask_69 rfl ?_
      refine s_aload_n (pc := 70) dX5_ask_70 rfl ?_
      refine s_aload_n (pc := 71) dX5_ask_71 rfl ?_
      refine s_callVE (pc := 72) (ci := 4) (as := []) (st := [(2, p_1.1), (0, v2_3), (2, ((p_1.2.1 : Nat) : Int)), (2, ((p_1.2.1 : Nat) : Int))]) (rv := fun b => ((2, b.1), (b.2.1, b.2.2.1, tt b.2.2.2.1, cv b.2.2.2.2))) (st3 := fun b => [(2, b.1), (2, p_1.1), (0, v2_3), (2, ((p_1.2.1 : Nat) : Int)), (2, ((p_1.2.1 : Nat) : Int))]) (w3 := fun b => (b.2.1, b.2.2.1, tt b.2.2.2.1, cv b.2.2.2.2)) mvX5_152_o (fun b h => @kX5_sum ⟨((fOne 10, 10) : OrcO)⟩ G a0 (p_1.2.1 + 1) (p_1.2.2.1 + 3) tq_5 c_6 ⟨⟨kOne 10⟩⟩ b h) rfl (by first | decide | exact Nat.le_trans (by decide) (Nat.le_add_left 61 _)) rfl rfl (Nat.le_of_ble_eq_true rfl) (fun _ => Nat.le_of_ble_eq_true rfl) (fun _ => ⟨rfl, rfl⟩) dX5_ask_72 (fun _ => Sm.some (fun h => h)) (fun p_7 => ?_)
      refine s_callI3 (pc := 75) (as := [(0, v2_3), (2, p_1.1), (2, p_7.1)]) (st := [(2, ((p_1.2.1 : Nat) : Int))]) (rv := fun b => ((3, 0), (p_7.2.1, p_7.2.2.1, tt p_7.2.2.2.1, cv b))) (st3 := fun b => [(2, ((p_1.2.1 : Nat) : Int))]) (w3 := fun b => (p_7.2.1, p_7.2.2.1, tt p_7.2.2.2.1, cv b)) miX5_188 (fun b h => kX18_init (((p_1.2.1 : Nat) : Int)) v2_3 p_1.1 p_7.1 p_7.2.2.2.1 p_7.2.2.2.2 b h) rfl (by first | decide | exact Nat.le_trans (by decide) (Nat.le_add_left 61 _)) rfl (Nat.le_of_ble_eq_true rfl) (fun _ => Nat.le_of_ble_eq_true rfl) (fun _ => ⟨rfl, rfl⟩) dX5_ask_75 (fun p_8 => ?_)
      exact s_aret (pc := 78) dX5_ask_78 rfl ⟨rfl, by decide, by decide⟩ (fun h => h)
    refine s_aload_n (pc := 50) dX5_ask_50 rfl ?_
    refine s_iconst (pc := 51) dX5_ask_51 ?_
    refine s_callVG (pc := 52) (ci := 4) (as := [(0, 1)]) (st := []) (rv := fun b => ((2, b.1), (b.2.1, b.2.2.1, tt b.2.2.2.1, cv b.2.2.2.2))) (st3 := fun b => [(2, b.1)]) (w3 := fun b => (b.2.1, b.2.2.1, tt b.2.2.2.1, cv b.2.2.2.2)) mvX5_88 (fun b h => kX5_wrong a0 1 p_1.2.1 p_1.2.2.1 p_1.2.2.2.1 p_1.2.2.2.2 b h) rfl (by first | decide | exact Nat.le_trans (by decide) (Nat.le_add_left 61 _)) rfl rfl (Nat.le_of_ble_eq_true rfl) (fun _ => Nat.le_of_ble_eq_true rfl) (fun _ => ⟨rfl, rfl⟩) dX5_ask_52 (fun p_9 => ?_)
    exact s_throw (pc := 55) rfl (fun h => h) dX5_ask_55
  refine s_aload_n (pc := 10) dX5_ask_10 rfl ?_
  refine s_callVE (pc := 11) (ci := 4) (as := []) (st := []) (rv := fun b => ((3, 0), (b.1, b.2.1, tt b.2.2.1, cv b.2.2.2))) (st3 := fun b => []) (w3 := fun b => (b.1, b.2.1, tt b.2.2.1, cv b.2.2.2)) mvX5_176 (fun b h => kX5_opens a0 sz sl td c b h) rfl (by first | decide | exact Nat.le_trans (by decide) (Nat.le_add_left 61 _)) rfl rfl (Nat.le_of_ble_eq_true rfl) (fun _ => Nat.le_of_ble_eq_true rfl) (fun _ => ⟨rfl, rfl⟩) dX5_ask_11 (fun _ => Sm.some (fun h => h)) (fun p_10 => ?_)
  refine s_newM (pc := 14) cf15 q754 q755 q151 dX5_ask_14 (fun tq_11 c_12 => ?_)
  refine s_dup (pc := 17) (by decide : ¬ (2 : Nat) = 1) dX5_ask_17 ?_
  refine s_aload_n (pc := 18) dX5_ask_18 rfl ?_
  refine s_callVE (pc := 19) (ci := 4) (as := []) (st := [(2, ((p_10.1 : Nat) : Int)), (2, ((p_10.1 : Nat) : Int))]) (rv := fun b => ((2, b.1), (b.2.1, b.2.2.1, tt b.2.2.2.1, cv b.2.2.2.2))) (st3 := fun b => [(2, b.1), (2, ((p_10.1 : Nat) : Int)), (2, ((p_10.1 : Nat) : Int))]) (w3 := fun b => (b.2.1, b.2.2.1, tt b.2.2.2.1, cv b.2.2.2.2)) (mvoX5_173 (1 * oAN + 60)) (fun b h => hO.elim (fun q => q.down a0 (p_10.1 + 1) (p_10.2.1 + 1) tq_11 c_12 b h)) rfl (Nat.le_refl _) rfl rfl (Nat.le_of_ble_eq_true rfl) (fun _ => Nat.le_of_ble_eq_true rfl) (fun _ => ⟨rfl, rfl⟩) dX5_ask_19 (fun _ => Sm.some (fun h => h)) (fun p_13 => ?_)
  refine s_callI3 (pc := 22) (as := [(2, p_13.1)]) (st := [(2, ((p_10.1 : Nat) : Int))]) (rv := fun b => ((3, 0), (p_13.2.1, p_13.2.2.1, tt p_13.2.2.2.1, cv b))) (st3 := fun b => [(2, ((p_10.1 : Nat) : Int))]) (w3 := fun b => (p_13.2.1, p_13.2.2.1, tt p_13.2.2.2.1, cv b)) miX5_181 (fun b h => kX17_init (((p_10.1 : Nat) : Int)) p_13.1 p_13.2.2.2.1 p_13.2.2.2.2 b h) rfl (by first | decide | exact Nat.le_trans (by decide) (Nat.le_add_left 61 _)) rfl (Nat.le_of_ble_eq_true rfl) (fun _ => Nat.le_of_ble_eq_true rfl) (fun _ => ⟨rfl, rfl⟩) dX5_ask_22 (fun p_14 => ?_)
  refine s_astore_n (pc := 25) (lf := fun x => [some (2, a0), some (2, x), none]) dX5_ask_25 (fun _ => rfl) (Nat.le_of_ble_eq_true rfl) (fun v1_15 => ?_)
  refine s_aload_n (pc := 26) dX5_ask_26 rfl ?_
  refine s_dup (pc := 27) (by decide : ¬ (2 : Nat) = 1) dX5_ask_27 ?_
  refine s_getD (pc := 28) flX5_95 rfl dX5_ask_28 ?_
  refine s_iconst (pc := 31) dX5_ask_31 ?_
  refine s_isub (pc := 32) dX5_ask_32 ?_
  refine s_putDM (pc := 33) (fpX5_95 _) rfl fpX5_95t dX5_ask_33 (fun c_16 => ?_)
  refine s_aload_n (pc := 36) dX5_ask_36 rfl ?_
  exact s_aret (pc := 37) dX5_ask_37 rfl ⟨rfl, by decide, by decide⟩ (fun h => h)
theorem kX5_ask [Inhabited OrcA] {G : GG}  (a0 : Int) (sz : Nat) (sl : Nat) (td : TT) (c : CC) [hO : Nonempty (PLift (oAOK G))] (x : (ThrT ⊕ (Int × Nat × Nat × TT × CC))) (h : fX5_ask a0 sz sl td c = some x) : CtE G yX5_ask muX5_ask [(2, a0)] (sz, sl, tt td, cv c) (Sum.elim te (fun v => ((2, v.1), (v.2.1, v.2.2.1, tt v.2.2.2.1, cv v.2.2.2.2))) x) :=
  CtE.of (n := 2) (ls0 := [some (2, a0), none, none]) (by decide) rfl rfl ⟨show (some (.object "HeldTongue$Ask") : Option FieldType) ≠ some .float by decide, show (some (.object "HeldTongue$Ask") : Option FieldType) ≠ some .double by decide⟩ (Nat.le_of_ble_eq_true rfl) rfl (fun Γ => sX5_ask a0 sz sl td c x h rfl)
noncomputable def fAskR : Nat → Int → Nat → Nat → TT → CC → Option (ThrT ⊕ (Int × Nat × Nat × TT × CC))
  | 0, _, _, _, _, _ => none
  | n + 1, z, sz, sl, td, c => @fX5_ask ⟨((fAskR n, n) : OrcA)⟩ z sz sl td c
theorem kAskR {G : GG} (n : Nat) (z : Int) (sz sl : Nat) (td : TT) (c : CC) (b : ThrT ⊕ (Int × Nat × Nat × TT × CC)) (h : fAskR n z sz sl td c = some b) : CtE G yX5_ask (muAsk (1 * n + 60)) [(2, z)] (sz, sl, tt td, cv c) (Sum.elim te rvR b) := by
  induction n generalizing z sz sl td c b with
  | zero => unfold fAskR at h; cases h
  | succ n ih =>
    unfold fAskR at h
    have e : 1 * (n + 1) + 60 = 1 * n + 61 := by omega
    rw [e]
    exact @kX5_ask ⟨((fAskR n, n) : OrcA)⟩ G z sz sl td c ⟨⟨ih⟩⟩ b h
theorem mvX5_173_o : MV RX5 173 RX5 yX5_ask (@muX5_ask ⟨((fAskR 10, 10) : OrcA)⟩) 0 := ⟨lw_V q750 q752 qs19 q130 q753, by decide +kernel, Nat.le_of_ble_eq_true rfl⟩
theorem fqX19_7 : FP RX19 7 17 0 "<init>" := ⟨_, _, _, cf17, by decide, q790, Or.inr ⟨rfl, rfl, rfl⟩⟩
theorem fqX19_13 : FP RX19 13 17 1 "<init>" := ⟨_, _, _, cf17, by decide, q791, Or.inr ⟨rfl, rfl, rfl⟩⟩
theorem fqX19_13t : fty 17 1 ≠ .boolean ∧ fty 17 1 ≠ .byte ∧ fty 17 1 ≠ .char ∧ fty 17 1 ≠ .short := by decide
theorem fqX19_17 : FP RX19 17 17 2 "<init>" := ⟨_, _, _, cf17, by decide, q792, Or.inr ⟨rfl, rfl, rfl⟩⟩
theorem fqX19_17t : fty 17 2 ≠ .boolean ∧ fty 17 2 ≠ .byte ∧ fty 17 2 ≠ .char ∧ fty 17 2 ≠ .short := by decide
abbrev muX19_init : MI := (cX19_init, RX19, 4, none, 2, "<init>")
noncomputable def fX19_init (a0 : Int) (a1 : Int) (a2 : Int) (a3 : Int) (td : TT) (c : CC) : Option CC :=
  gd ((0 : Int) ≤ a0) <|
   gd (168 ≤ a0 ∧ (tt td (Int.toNat a0)).1 = 17 ∧ (0 : Int) ≤ a1 ∧ a1 < 2) <| bd (up2 c (Int.toNat a0) 0 a1) fun c_1 =>
   gd (168 ≤ a0 ∧ (tt td (Int.toNat a0)).1 = 17) <| bd (up2 c_1 (Int.toNat a0) 1 a2) fun c_2 =>
   gd (168 ≤ a0 ∧ (tt td (Int.toNat a0)).1 = 17) <| bd (up2 c_2 (Int.toNat a0) 2 a3) fun c_3 =>
   some c_3
theorem sX19_init {G : GG} {Γ : Cx} {r : Vv × Wd} {sz : Nat} {sl : Nat} (a0 : Int) (a1 : Int) (a2 : Int) (a3 : Int) (td : TT) (c : CC) : Sm (fX19_init a0 a1 a2 a3 td c) (fun x => r = ((3, 0), (sz, sl, tt td, cv x))) (WP G Γ muX19_init r 0 [some (2, a0), some (0, a1), some (2, a2), some (2, a3)] [] (sz, sl, tt td, cv c)) := by
  unfold fX19_init
  refine s_aload_n (pc := 0) dX19_init_0 rfl ?_
  refine s_objInitD (pc := 1) q789 q161 q162 (by decide) (Nat.le_of_ble_eq_true rfl) dX19_init_1 ?_
  refine s_aload_n (pc := 4) dX19_init_4 rfl ?_
  refine s_iload_n (pc := 5) dX19_init_5 rfl ?_
  refine s_putDZM (pc := 6) fqX19_7 rfl dX19_init_6 (fun c_1 => ?_)
  refine s_aload_n (pc := 9) dX19_init_9 rfl ?_
  refine s_aload_n (pc := 10) dX19_init_10 rfl ?_
  refine s_putDM (pc := 11) fqX19_13 rfl fqX19_13t dX19_init_11 (fun c_2 => ?_)
  refine s_aload_n (pc := 14) dX19_init_14 rfl ?_
  refine s_aload_n (pc := 15) dX19_init_15 rfl ?_
  refine s_putDM (pc := 16) fqX19_17 rfl fqX19_17t dX19_init_16 (fun c_3 => ?_)
  exact s_vret (pc := 19) dX19_init_19 rfl (fun h => h)
theorem kX19_init {G : GG} {sz : Nat} {sl : Nat} (a0 : Int) (a1 : Int) (a2 : Int) (a3 : Int) (td : TT) (c : CC) (x : CC) (h : fX19_init a0 a1 a2 a3 td c = some x) : Ct G yX19_init muX19_init [(2, a0), (0, a1), (2, a2), (2, a3)] (sz, sl, tt td, cv c) ((3, 0), (sz, sl, tt td, cv x)) :=
  Ct.of (n := 0) (ls0 := [some (2, a0), some (0, a1), some (2, a2), some (2, a3)]) (by decide) rfl rfl ⟨show (none : Option FieldType) ≠ some .float by decide, show (none : Option FieldType) ≠ some .double by decide⟩ (Nat.le_of_ble_eq_true rfl) rfl ⟨Nat.le_refl _, Nat.le_refl _⟩ (show (3 : Nat) ≠ 9 by decide) (fun Γ => sX19_init a0 a1 a2 a3 td c x h rfl)
theorem miX5_170 : MIn RX5 170 yX19_init muX19_init 3 := ⟨lw_meth q788, rfl, q153, q786, q787, rfl, by decide +kernel, by decide⟩
abbrev muX5_both : MI := (cX5_both, RX5, 2, some (.object "HeldTongue$Ask"), 72, "both")
abbrev gX5_both_l5 (G : GG) (Γ : Cx) (r : Vv × Wd) (sz sl : Nat) (td : TT) (c : CC) (v0 : Int) : (Int × Nat × Nat × TT × CC) → Prop := fun s => WP G Γ muX5_both r 5 [some (2, v0), some (2, s.1)] [] (s.2.1, s.2.2.1, tt s.2.2.2.1, cv s.2.2.2.2)
abbrev eX5_both_l5 (G : GG) (Γ : Cx) (r : Vv × Wd) (sz sl : Nat) (td : TT) (c : CC) (v0 : Int) : ((ThrT) ⊕ (Int × Nat × Nat × TT × CC)) → Prop := (Sum.elim (fun s => r = te s) (fun s => WP G Γ muX5_both r 36 [none, some (2, s.1)] [] (s.2.1, s.2.2.1, tt s.2.2.2.1, cv s.2.2.2.2)))
noncomputable def fX5_both_l5 (v0 : Int) (v1 : Int) (sz : Nat) (sl : Nat) (td : TT) (c : CC) : Option ((Int × Nat × Nat × TT × CC) ⊕ ((ThrT) ⊕ (Int × Nat × Nat × TT × CC))) :=
  gd ((0 : Int) ≤ v0 ∧ (tt td (Int.toNat v0)).1 = 4) <|
   if cv c (Int.toNat v0) 4 = 314 then
  (gd ((0 : Int) ≤ v0 ∧ (tt td (Int.toNat v0)).1 = 4) <| cl (fX5_next v0 td c) fun p_2 =>
   gd (kK ≤ sz) <| bd (upT td sz (17, 3)) fun tq_3 => bd (zc p_2 sz 17) fun c_4 =>
   gd ((0 : Int) ≤ v0 ∧ (tt tq_3 (Int.toNat v0)).1 = 4) <| cl (@fX5_ask ⟨((fAskR 10, 10) : OrcA)⟩ v0 (sz + 1) (sl + 3) tq_3 c_4) (Sum.elim (fun e => some (.inr (.inl e))) fun p_5 =>
   gd ((0 : Int) ≤ ((sz : Nat) : Int)) <| cl (fX19_init (((sz : Nat) : Int)) 0 v1 p_5.1 p_5.2.2.2.1 p_5.2.2.2.2) fun p_6 =>
   bd (((sz : Nat) : Int)) fun v1_7 =>
   some (.inl (v1_7, p_5.2.1, p_5.2.2.1, p_5.2.2.2.1, p_6))))
  else
  (some (.inr (.inr (v1, sz, sl, td, c))))
theorem sX5_both_l5 {G : GG} {Γ : Cx} {r : Vv × Wd}  (v0 : Int) (v1 : Int) (sz : Nat) (sl : Nat) (td : TT) (c : CC) : Sm (fX5_both_l5 v0 v1 sz sl td c) (fun x => Sum.elim (gX5_both_l5 G Γ r sz sl td c v0) (eX5_both_l5 G Γ r sz sl td c v0) x) (gX5_both_l5 G Γ r sz sl td c v0 (v1, sz, sl, td, c)) := by
  show Sm _ _ (WP G Γ muX5_both r 5 [some (2, v0), some (2, v1)] [] (sz, sl, tt td, cv c))
  unfold fX5_both_l5
  refine s_aload_n (pc := 5) dX5_both_5 rfl ?_
  refine s_getD (pc := 6) flX5_60 rfl dX5_both_6 ?_
  refine s_sipush (pc := 9) dX5_both_9 ?_
  refine s_icmp_ne (pc := 12) (tgt := 36) dX5_both_12 rfl ?_ ?_
  · refine s_wk [false, true] (ls' := [none, some (2, v1)]) rfl ?_
    exact Sm.some (fun h => h)
  refine s_aload_n (pc := 15) dX5_both_15 rfl ?_
  refine s_callVG (pc := 16) (ci := 4) (as := []) (st := []) (rv := fun b => ((3, 0), (sz, sl, tt td, cv b))) (st3 := fun b => []) (w3 := fun b => (sz, sl, tt td, cv b)) mvX5_92 (fun b h => kX5_next v0 td c b h) rfl (by decide) rfl rfl (Nat.le_of_ble_eq_true rfl) (fun _ => Nat.le_of_ble_eq_true rfl) (fun _ => ⟨rfl, rfl⟩) dX5_both_16 (fun p_2 => ?_)
  refine s_newM (pc := 19) cf17 q784 q785 q153 dX5_both_19 (fun tq_3 c_4 => ?_)
  refine s_dup (pc := 22) (by decide : ¬ (2 : Nat) = 1) dX5_both_22 ?_
  refine s_iconst (pc := 23) dX5_both_23 ?_
  refine s_aload_n (pc := 24) dX5_both_24 rfl ?_
  refine s_aload_n (pc := 25) dX5_both_25 rfl ?_
  refine s_callVE (pc := 26) (ci := 4) (as := []) (st := [(2, v1), (0, 0), (2, ((sz : Nat) : Int)), (2, ((sz : Nat) : Int))]) (rv := fun b => ((2, b.1), (b.2.1, b.2.2.1, tt b.2.2.2.1, cv b.2.2.2.2))) (st3 := fun b => [(2, b.1), (2, v1), (0, 0), (2, ((sz : Nat) : Int)), (2, ((sz : Nat) : Int))]) (w3 := fun b => (b.2.1, b.2.2.1, tt b.2.2.2.1, cv b.2.2.2.2)) mvX5_173_o (fun b h => @kX5_ask ⟨((fAskR 10, 10) : OrcA)⟩ G v0 (sz + 1) (sl + 3) tq_3 c_4 ⟨⟨kAskR 10⟩⟩ b h) rfl (by decide) rfl rfl (Nat.le_of_ble_eq_true rfl) (fun _ => Nat.le_of_ble_eq_true rfl) (fun _ => ⟨rfl, rfl⟩) dX5_both_26 (fun _ => Sm.some (fun h => h)) (fun p_5 => ?_)
  refine s_callI3 (pc := 29) (as := [(0, 0), (2, v1), (2, p_5.1)]) (st := [(2, ((sz : Nat) : Int))]) (rv := fun b => ((3, 0), (p_5.2.1, p_5.2.2.1, tt p_5.2.2.2.1, cv b))) (st3 := fun b => [(2, ((sz : Nat) : Int))]) (w3 := fun b => (p_5.2.1, p_5.2.2.1, tt p_5.2.2.2.1, cv b)) miX5_170 (fun b h => kX19_init (((sz : Nat) : Int)) 0 v1 p_5.1 p_5.2.2.2.1 p_5.2.2.2.2 b h) rfl (by decide) rfl (Nat.le_of_ble_eq_true rfl) (fun _ => Nat.le_of_ble_eq_true rfl) (fun _ => ⟨rfl, rfl⟩) dX5_both_29 (fun p_6 => ?_)
  refine s_astore_n (pc := 32) (lf := fun x => [some (2, v0), some (2, x)]) dX5_both_32 (fun _ => rfl) (Nat.le_of_ble_eq_true rfl) (fun v1_7 => ?_)
  refine s_goto (pc := 33) (tgt := 5) dX5_both_33 rfl ?_
  exact Sm.some (fun h => h)
noncomputable def fX5_both (a0 : Int) (sz : Nat) (sl : Nat) (td : TT) (c : CC) : Option (ThrT ⊕ (Int × Nat × Nat × TT × CC)) :=
  gd ((0 : Int) ≤ a0 ∧ (tt td (Int.toNat a0)).1 = 4) <| cl (@fX5_ask ⟨((fAskR 10, 10) : OrcA)⟩ a0 sz sl td c) (Sum.elim (fun e => some (.inl e)) fun p_1 =>
   cl (wh (fun s => fX5_both_l5 a0 s.1 s.2.1 s.2.2.1 s.2.2.2.1 s.2.2.2.2) (p_1.1, p_1.2.1, p_1.2.2.1, p_1.2.2.2.1, p_1.2.2.2.2)) (Sum.elim (fun e_8 => some (.inl e_8)) (fun e_9 =>
  some (.inr (e_9.1, e_9.2.1, e_9.2.2.1, e_9.2.2.2.1, e_9.2.2.2.2)))))
theorem sX5_both {G : GG} {Γ : Cx} {r : Vv × Wd}  (a0 : Int) (sz : Nat) (sl : Nat) (td : TT) (c : CC) : Sm (fX5_both a0 sz sl td c) (fun x => r = (Sum.elim te (fun v => ((2, v.1), (v.2.1, v.2.2.1, tt v.2.2.2.1, cv v.2.2.2.2))) x)) (WP G Γ muX5_both r 0 [some (2, a0), none] [] (sz, sl, tt td, cv c)) := by
  unfold fX5_both
  refine s_aload_n (pc := 0) dX5_both_0 rfl ?_
  refine s_callVE (pc := 1) (ci := 4) (as := []) (st := []) (rv := fun b => ((2, b.1), (b.2.1, b.2.2.1, tt b.2.2.2.1, cv b.2.2.2.2))) (st3 := fun b => [(2, b.1)]) (w3 := fun b => (b.2.1, b.2.2.1, tt b.2.2.2.1, cv b.2.2.2.2)) mvX5_173_o (fun b h => @kX5_ask ⟨((fAskR 10, 10) : OrcA)⟩ G a0 sz sl td c ⟨⟨kAskR 10⟩⟩ b h) rfl (by decide) rfl rfl (Nat.le_of_ble_eq_true rfl) (fun _ => Nat.le_of_ble_eq_true rfl) (fun _ => ⟨rfl, rfl⟩) dX5_both_1 (fun _ => Sm.some (fun h => h)) (fun p_1 => ?_)
  refine s_astore_nD (pc := 4) (ls' := [some (2, a0), some (2, p_1.1)]) dX5_both_4 rfl (Nat.le_of_ble_eq_true rfl) ?_
  refine s_loop (g := gX5_both_l5 G Γ r p_1.2.1 p_1.2.2.1 p_1.2.2.2.1 p_1.2.2.2.2 a0) (Ex := eX5_both_l5 G Γ r p_1.2.1 p_1.2.2.1 p_1.2.2.2.1 p_1.2.2.2.2 a0) (s0 := (p_1.1, p_1.2.1, p_1.2.2.1, p_1.2.2.2.1, p_1.2.2.2.2)) (fun s => sX5_both_l5 a0 s.1 s.2.1 s.2.2.1 s.2.2.2.1 s.2.2.2.2) ?_
  refine s_elim ?_ ?_
  · intro e_8
    exact Sm.some (fun h => h)
  intro e_9
  show Sm _ _ (WP G Γ muX5_both r 36 [none, some (2, e_9.1)] [] (e_9.2.1, e_9.2.2.1, tt e_9.2.2.2.1, cv e_9.2.2.2.2))
  refine s_aload_n (pc := 36) dX5_both_36 rfl ?_
  exact s_aret (pc := 37) dX5_both_37 rfl ⟨rfl, by decide, by decide⟩ (fun h => h)
theorem kX5_both {G : GG}  (a0 : Int) (sz : Nat) (sl : Nat) (td : TT) (c : CC) (x : (ThrT ⊕ (Int × Nat × Nat × TT × CC))) (h : fX5_both a0 sz sl td c = some x) : CtE G yX5_both muX5_both [(2, a0)] (sz, sl, tt td, cv c) (Sum.elim te (fun v => ((2, v.1), (v.2.1, v.2.2.1, tt v.2.2.2.1, cv v.2.2.2.2))) x) :=
  CtE.of (n := 1) (ls0 := [some (2, a0), none]) (by decide) rfl rfl ⟨show (some (.object "HeldTongue$Ask") : Option FieldType) ≠ some .float by decide, show (some (.object "HeldTongue$Ask") : Option FieldType) ≠ some .double by decide⟩ (Nat.le_of_ble_eq_true rfl) rfl (fun Γ => sX5_both a0 sz sl td c x h rfl)
theorem mvX5_165 : MV RX5 165 RX5 yX5_both muX5_both 0 := ⟨lw_V q746 q748 qs18 q130 q749, by decide +kernel, Nat.le_of_ble_eq_true rfl⟩
abbrev muX5_either : MI := (cX5_either, RX5, 2, some (.object "HeldTongue$Ask"), 73, "either")
abbrev gX5_either_l5 (G : GG) (Γ : Cx) (r : Vv × Wd) (sz sl : Nat) (td : TT) (c : CC) (v0 : Int) : (Int × Nat × Nat × TT × CC) → Prop := fun s => WP G Γ muX5_either r 5 [some (2, v0), some (2, s.1)] [] (s.2.1, s.2.2.1, tt s.2.2.2.1, cv s.2.2.2.2)
abbrev eX5_either_l5 (G : GG) (Γ : Cx) (r : Vv × Wd) (sz sl : Nat) (td : TT) (c : CC) (v0 : Int) : ((ThrT) ⊕ (Int × Nat × Nat × TT × CC)) → Prop := (Sum.elim (fun s => r = te s) (fun s => WP G Γ muX5_either r 36 [none, some (2, s.1)] [] (s.2.1, s.2.2.1, tt s.2.2.2.1, cv s.2.2.2.2)))
noncomputable def fX5_either_l5 (v0 : Int) (v1 : Int) (sz : Nat) (sl : Nat) (td : TT) (c : CC) : Option ((Int × Nat × Nat × TT × CC) ⊕ ((ThrT) ⊕ (Int × Nat × Nat × TT × CC))) :=
  gd ((0 : Int) ≤ v0 ∧ (tt td (Int.toNat v0)).1 = 4) <|
   if cv c (Int.toNat v0) 4 = 313 then
  (gd ((0 : Int) ≤ v0 ∧ (tt td (Int.toNat v0)).1 = 4) <| cl (fX5_next v0 td c) fun p_2 =>
   gd (kK ≤ sz) <| bd (upT td sz (17, 3)) fun tq_3 => bd (zc p_2 sz 17) fun c_4 =>
   gd ((0 : Int) ≤ v0 ∧ (tt tq_3 (Int.toNat v0)).1 = 4) <| cl (fX5_both v0 (sz + 1) (sl + 3) tq_3 c_4) (Sum.elim (fun e => some (.inr (.inl e))) fun p_5 =>
   gd ((0 : Int) ≤ ((sz : Nat) : Int)) <| cl (fX19_init (((sz : Nat) : Int)) 1 v1 p_5.1 p_5.2.2.2.1 p_5.2.2.2.2) fun p_6 =>
   bd (((sz : Nat) : Int)) fun v1_7 =>
   some (.inl (v1_7, p_5.2.1, p_5.2.2.1, p_5.2.2.2.1, p_6))))
  else
  (some (.inr (.inr (v1, sz, sl, td, c))))
theorem sX5_either_l5 {G : GG} {Γ : Cx} {r : Vv × Wd}  (v0 : Int) (v1 : Int) (sz : Nat) (sl : Nat) (td : TT) (c : CC) : Sm (fX5_either_l5 v0 v1 sz sl td c) (fun x => Sum.elim (gX5_either_l5 G Γ r sz sl td c v0) (eX5_either_l5 G Γ r sz sl td c v0) x) (gX5_either_l5 G Γ r sz sl td c v0 (v1, sz, sl, td, c)) := by
  show Sm _ _ (WP G Γ muX5_either r 5 [some (2, v0), some (2, v1)] [] (sz, sl, tt td, cv c))
  unfold fX5_either_l5
  refine s_aload_n (pc := 5) dX5_either_5 rfl ?_
  refine s_getD (pc := 6) flX5_60 rfl dX5_either_6 ?_
  refine s_sipush (pc := 9) dX5_either_9 ?_
  refine s_icmp_ne (pc := 12) (tgt := 36) dX5_either_12 rfl ?_ ?_
  · refine s_wk [false, true] (ls' := [none, some (2, v1)]) rfl ?_
    exact Sm.some (fun h => h)
  refine s_aload_n (pc := 15) dX5_either_15 rfl ?_
  refine s_callVG (pc := 16) (ci := 4) (as := []) (st := []) (rv := fun b => ((3, 0), (sz, sl, tt td, cv b))) (st3 := fun b => []) (w3 := fun b => (sz, sl, tt td, cv b)) mvX5_92 (fun b h => kX5_next v0 td c b h) rfl (by decide) rfl rfl (Nat.le_of_ble_eq_true rfl) (fun _ => Nat.le_of_ble_eq_true rfl) (fun _ => ⟨rfl, rfl⟩) dX5_either_16 (fun p_2 => ?_)
  refine s_newM (pc := 19) cf17 q784 q785 q153 dX5_either_19 (fun tq_3 c_4 => ?_)
  refine s_dup (pc := 22) (by decide : ¬ (2 : Nat) = 1) dX5_either_22 ?_
  refine s_iconst (pc := 23) dX5_either_23 ?_
  refine s_aload_n (pc := 24) dX5_either_24 rfl ?_
  refine s_aload_n (pc := 25) dX5_either_25 rfl ?_
  refine s_callVE (pc := 26) (ci := 4) (as := []) (st := [(2, v1), (0, 1), (2, ((sz : Nat) : Int)), (2, ((sz : Nat) : Int))]) (rv := fun b => ((2, b.1), (b.2.1, b.2.2.1, tt b.2.2.2.1, cv b.2.2.2.2))) (st3 := fun b => [(2, b.1), (2, v1), (0, 1), (2, ((sz : Nat) : Int)), (2, ((sz : Nat) : Int))]) (w3 := fun b => (b.2.1, b.2.2.1, tt b.2.2.2.1, cv b.2.2.2.2)) mvX5_165 (fun b h => kX5_both v0 (sz + 1) (sl + 3) tq_3 c_4 b h) rfl (by decide) rfl rfl (Nat.le_of_ble_eq_true rfl) (fun _ => Nat.le_of_ble_eq_true rfl) (fun _ => ⟨rfl, rfl⟩) dX5_either_26 (fun _ => Sm.some (fun h => h)) (fun p_5 => ?_)
  refine s_callI3 (pc := 29) (as := [(0, 1), (2, v1), (2, p_5.1)]) (st := [(2, ((sz : Nat) : Int))]) (rv := fun b => ((3, 0), (p_5.2.1, p_5.2.2.1, tt p_5.2.2.2.1, cv b))) (st3 := fun b => [(2, ((sz : Nat) : Int))]) (w3 := fun b => (p_5.2.1, p_5.2.2.1, tt p_5.2.2.2.1, cv b)) miX5_170 (fun b h => kX19_init (((sz : Nat) : Int)) 1 v1 p_5.1 p_5.2.2.2.1 p_5.2.2.2.2 b h) rfl (by decide) rfl (Nat.le_of_ble_eq_true rfl) (fun _ => Nat.le_of_ble_eq_true rfl) (fun _ => ⟨rfl, rfl⟩) dX5_either_29 (fun p_6 => ?_)
  refine s_astore_n (pc := 32) (lf := fun x => [some (2, v0), some (2, x)]) dX5_either_32 (fun _ => rfl) (Nat.le_of_ble_eq_true rfl) (fun v1_7 => ?_)
  refine s_goto (pc := 33) (tgt := 5) dX5_either_33 rfl ?_
  exact Sm.some (fun h => h)
noncomputable def fX5_either (a0 : Int) (sz : Nat) (sl : Nat) (td : TT) (c : CC) : Option (ThrT ⊕ (Int × Nat × Nat × TT × CC)) :=
  gd ((0 : Int) ≤ a0 ∧ (tt td (Int.toNat a0)).1 = 4) <| cl (fX5_both a0 sz sl td c) (Sum.elim (fun e => some (.inl e)) fun p_1 =>
   cl (wh (fun s => fX5_either_l5 a0 s.1 s.2.1 s.2.2.1 s.2.2.2.1 s.2.2.2.2) (p_1.1, p_1.2.1, p_1.2.2.1, p_1.2.2.2.1, p_1.2.2.2.2)) (Sum.elim (fun e_8 => some (.inl e_8)) (fun e_9 =>
  some (.inr (e_9.1, e_9.2.1, e_9.2.2.1, e_9.2.2.2.1, e_9.2.2.2.2)))))
theorem sX5_either {G : GG} {Γ : Cx} {r : Vv × Wd}  (a0 : Int) (sz : Nat) (sl : Nat) (td : TT) (c : CC) : Sm (fX5_either a0 sz sl td c) (fun x => r = (Sum.elim te (fun v => ((2, v.1), (v.2.1, v.2.2.1, tt v.2.2.2.1, cv v.2.2.2.2))) x)) (WP G Γ muX5_either r 0 [some (2, a0), none] [] (sz, sl, tt td, cv c)) := by
  unfold fX5_either
  refine s_aload_n (pc := 0) dX5_either_0 rfl ?_
  refine s_callVE (pc := 1) (ci := 4) (as := []) (st := []) (rv := fun b => ((2, b.1), (b.2.1, b.2.2.1, tt b.2.2.2.1, cv b.2.2.2.2))) (st3 := fun b => [(2, b.1)]) (w3 := fun b => (b.2.1, b.2.2.1, tt b.2.2.2.1, cv b.2.2.2.2)) mvX5_165 (fun b h => kX5_both a0 sz sl td c b h) rfl (by decide) rfl rfl (Nat.le_of_ble_eq_true rfl) (fun _ => Nat.le_of_ble_eq_true rfl) (fun _ => ⟨rfl, rfl⟩) dX5_either_1 (fun _ => Sm.some (fun h => h)) (fun p_1 => ?_)
  refine s_astore_nD (pc := 4) (ls' := [some (2, a0), some (2, p_1.1)]) dX5_either_4 rfl (Nat.le_of_ble_eq_true rfl) ?_
  refine s_loop (g := gX5_either_l5 G Γ r p_1.2.1 p_1.2.2.1 p_1.2.2.2.1 p_1.2.2.2.2 a0) (Ex := eX5_either_l5 G Γ r p_1.2.1 p_1.2.2.1 p_1.2.2.2.1 p_1.2.2.2.2 a0) (s0 := (p_1.1, p_1.2.1, p_1.2.2.1, p_1.2.2.2.1, p_1.2.2.2.2)) (fun s => sX5_either_l5 a0 s.1 s.2.1 s.2.2.1 s.2.2.2.1 s.2.2.2.2) ?_
  refine s_elim ?_ ?_
  · intro e_8
    exact Sm.some (fun h => h)
  intro e_9
  show Sm _ _ (WP G Γ muX5_either r 36 [none, some (2, e_9.1)] [] (e_9.2.1, e_9.2.2.1, tt e_9.2.2.2.1, cv e_9.2.2.2.2))
  refine s_aload_n (pc := 36) dX5_either_36 rfl ?_
  exact s_aret (pc := 37) dX5_either_37 rfl ⟨rfl, by decide, by decide⟩ (fun h => h)
theorem kX5_either {G : GG}  (a0 : Int) (sz : Nat) (sl : Nat) (td : TT) (c : CC) (x : (ThrT ⊕ (Int × Nat × Nat × TT × CC))) (h : fX5_either a0 sz sl td c = some x) : CtE G yX5_either muX5_either [(2, a0)] (sz, sl, tt td, cv c) (Sum.elim te (fun v => ((2, v.1), (v.2.1, v.2.2.1, tt v.2.2.2.1, cv v.2.2.2.2))) x) :=
  CtE.of (n := 1) (ls0 := [some (2, a0), none]) (by decide) rfl rfl ⟨show (some (.object "HeldTongue$Ask") : Option FieldType) ≠ some .float by decide, show (some (.object "HeldTongue$Ask") : Option FieldType) ≠ some .double by decide⟩ (Nat.le_of_ble_eq_true rfl) rfl (fun Γ => sX5_either a0 sz sl td c x h rfl)
theorem mvX5_156 : MV RX5 156 RX5 yX5_either muX5_either 0 := ⟨lw_V q742 q744 qs17 q130 q745, by decide +kernel, Nat.le_of_ble_eq_true rfl⟩
theorem flX1_17 : FL RX1 17 1 1 := ⟨_, _, _, cf1, by decide, q176⟩
theorem mcX1_21 : MCopy RX1 21 := ⟨q677, q679, q678, q146⟩
theorem castA : ∀ ci, 15 ≤ ci → ci ≤ 17 → ∃ C, (kCl[ci]?.map (fun q => q.1)) = some C ∧ PP (va_Nw (Cond.castable C "HeldTongue$Ask")) := by
  intro ci h1 h2
  rcases (by omega : ci = 15 ∨ ci = 16 ∨ ci = 17) with e | e | e <;> subst e
  · exact ⟨_, rfl, PP.nwC q1133⟩
  · exact ⟨_, rfl, PP.nwC q1125⟩
  · exact ⟨_, rfl, PP.nwC q1117⟩
abbrev muX1_drop : MI := (cX1_drop, RX1, 3, none, 2, "drop")
noncomputable def fX1_drop (a0 : Int) (a1 : Int) (sz : Nat) (sl : Nat) (td : TT) (c : CC) : Option (Nat × Nat × TT × CC) :=
  gd ((0 : Int) ≤ a0 ∧ (tt td (Int.toNat a0)).1 = 1) <|
   gd ((0 : Int) ≤ cv c (Int.toNat a0) 1 ∧ (tt td (Int.toNat (cv c (Int.toNat a0) 1))).1 = 56 ∧ (tt td (Int.toNat (cv c (Int.toNat a0) 1))).2 < 2147483648) <|
   gd (inR ((((tt td (Int.toNat (cv c (Int.toNat a0) 1))).2 : Int)) + 1)) <|
   gd (kK ≤ sz ∧ (0 : Int) ≤ (((tt td (Int.toNat (cv c (Int.toNat a0) 1))).2 : Int)) + 1 ∧ (((tt td (Int.toNat (cv c (Int.toNat a0) 1))).2 : Int)) + 1 ≤ 100000) <| bd (upT td sz (50 + 6, Int.toNat ((((tt td (Int.toNat (cv c (Int.toNat a0) 1))).2 : Int)) + 1))) fun tq_1 => bd (zc c sz (50 + 6)) fun c_2 =>
   bd (((sz : Nat) : Int)) fun v2_3 =>
   gd ((0 : Int) ≤ a0 ∧ (tt tq_1 (Int.toNat a0)).1 = 1) <|
   gd ((0 : Int) ≤ a0 ∧ (tt tq_1 (Int.toNat a0)).1 = 1) <|
   gd ((0 : Int) ≤ cv c_2 (Int.toNat a0) 1 ∧ (tt tq_1 (Int.toNat (cv c_2 (Int.toNat a0) 1))).1 = 56 ∧ (tt tq_1 (Int.toNat (cv c_2 (Int.toNat a0) 1))).2 < 2147483648) <|
   gd (((168 ≤ cv c_2 (Int.toNat a0) 1 ∧ (tt tq_1 (Int.toNat (cv c_2 (Int.toNat a0) 1))).1 = 50 + 6 ∧ 168 ≤ v2_3 ∧ (tt tq_1 (Int.toNat v2_3)).1 = 50 + 6) ∧ ((0 : Int) ≤ 0 ∧ (0 : Int) ≤ 0 ∧ (0 : Int) ≤ ((tt tq_1 (Int.toNat (cv c_2 (Int.toNat a0) 1))).2 : Int)) ∧ (0 : Int) + ((tt tq_1 (Int.toNat (cv c_2 (Int.toNat a0) 1))).2 : Int) ≤ ((tt tq_1 (Int.toNat (cv c_2 (Int.toNat a0) 1))).2 : Int) ∧ (0 : Int) + ((tt tq_1 (Int.toNat (cv c_2 (Int.toNat a0) 1))).2 : Int) ≤ ((tt tq_1 (Int.toNat v2_3)).2 : Int)) ∧ (∀ i : Nat, i < Int.toNat (((tt tq_1 (Int.toNat (cv c_2 (Int.toNat a0) 1))).2 : Int)) → 0 ≤ c_2 (Int.toNat (cv c_2 (Int.toNat a0) 1)) (Int.toNat 0 + i) ∧ 15 ≤ (tt tq_1 (Int.toNat (c_2 (Int.toNat (cv c_2 (Int.toNat a0) 1)) (Int.toNat 0 + i)))).1 ∧ (tt tq_1 (Int.toNat (c_2 (Int.toNat (cv c_2 (Int.toNat a0) 1)) (Int.toNat 0 + i)))).1 ≤ 17)) <| bd (cpy c_2 (Int.toNat (cv c_2 (Int.toNat a0) 1)) (Int.toNat v2_3) (Int.toNat 0) (Int.toNat 0) (Int.toNat (((tt tq_1 (Int.toNat (cv c_2 (Int.toNat a0) 1))).2 : Int)))) fun c_5 =>
   gd ((0 : Int) ≤ a0 ∧ (tt tq_1 (Int.toNat a0)).1 = 1) <|
   gd ((0 : Int) ≤ cv c_5 (Int.toNat a0) 1 ∧ (tt tq_1 (Int.toNat (cv c_5 (Int.toNat a0) 1))).1 = 56 ∧ (tt tq_1 (Int.toNat (cv c_5 (Int.toNat a0) 1))).2 < 2147483648) <|
   gd (168 ≤ v2_3 ∧ (tt tq_1 (Int.toNat v2_3)).1 = 50 + 6 ∧ (0 : Int) ≤ ((tt tq_1 (Int.toNat (cv c_5 (Int.toNat a0) 1))).2 : Int) ∧ ((tt tq_1 (Int.toNat (cv c_5 (Int.toNat a0) 1))).2 : Int) < ((tt tq_1 (Int.toNat v2_3)).2 : Int) ∧ (0 : Int) ≤ a1 ∧ 15 ≤ (tt tq_1 (Int.toNat a1)).1 ∧ (tt tq_1 (Int.toNat a1)).1 ≤ 17) <| bd (up2 c_5 (Int.toNat v2_3) (Int.toNat (((tt tq_1 (Int.toNat (cv c_5 (Int.toNat a0) 1))).2 : Int))) a1) fun c_6 =>
   gd (168 ≤ a0 ∧ (tt tq_1 (Int.toNat a0)).1 = 1) <| bd (up2 c_6 (Int.toNat a0) 1 v2_3) fun c_7 =>
   some ((sz + 1), (sl + Int.toNat ((((tt td (Int.toNat (cv c (Int.toNat a0) 1))).2 : Int)) + 1)), tq_1, c_7)
theorem sX1_drop {G : GG} {Γ : Cx} {r : Vv × Wd}  (a0 : Int) (a1 : Int) (sz : Nat) (sl : Nat) (td : TT) (c : CC) : Sm (fX1_drop a0 a1 sz sl td c) (fun x => r = ((3, 0), (x.1, x.2.1, tt x.2.2.1, cv x.2.2.2))) (WP G Γ muX1_drop r 0 [some (2, a0), some (2, a1), none] [] (sz, sl, tt td, cv c)) := by
  unfold fX1_drop
  refine s_aload_n (pc := 0) dX1_drop_0 rfl ?_
  refine s_getD (pc := 1) flX1_17 rfl dX1_drop_1 ?_
  refine s_alenD (pc := 4) (q := 6) (by decide) dX1_drop_4 ?_
  refine s_iconst (pc := 5) dX1_drop_5 ?_
  refine s_iadd (pc := 6) dX1_drop_6 ?_
  refine s_anewM (pc := 7) (q := 6) (by decide) rfl q172 (PP.aov q173) dX1_drop_7 (fun tq_1 c_2 => ?_)
  refine s_astore_n (pc := 10) (lf := fun x => [some (2, a0), some (2, a1), some (2, x)]) dX1_drop_10 (fun _ => rfl) (Nat.le_of_ble_eq_true rfl) (fun v2_3 => ?_)
  refine s_aload_n (pc := 11) dX1_drop_11 rfl ?_
  refine s_getD (pc := 12) flX1_17 rfl dX1_drop_12 ?_
  refine s_iconst (pc := 15) dX1_drop_15 ?_
  refine s_aload_n (pc := 16) dX1_drop_16 rfl ?_
  refine s_iconst (pc := 17) dX1_drop_17 ?_
  refine s_aload_n (pc := 18) dX1_drop_18 rfl ?_
  refine s_getD (pc := 19) flX1_17 rfl dX1_drop_19 ?_
  refine s_alenD (pc := 22) (q := 6) (by decide) dX1_drop_22 ?_
  refine s_copyRD (pc := 23) (q := 6) (lo := 15) (hi := 17) mcX1_21 (by decide) rfl castA (by decide) (Nat.le_of_ble_eq_true rfl) dX1_drop_23 (fun c_5 => ?_)
  refine s_aload_n (pc := 26) dX1_drop_26 rfl ?_
  refine s_aload_n (pc := 27) dX1_drop_27 rfl ?_
  refine s_getD (pc := 28) flX1_17 rfl dX1_drop_28 ?_
  refine s_alenD (pc := 31) (q := 6) (by decide) dX1_drop_31 ?_
  refine s_aload_n (pc := 32) dX1_drop_32 rfl ?_
  refine s_aastRDM (pc := 33) (q := 6) (lo := 15) (hi := 17) (by decide) rfl castA dX1_drop_33 (fun c_6 => ?_)
  refine s_aload_n (pc := 34) dX1_drop_34 rfl ?_
  refine s_aload_n (pc := 35) dX1_drop_35 rfl ?_
  refine s_putDM (pc := 36) (fpX1_17 _) rfl fpX1_17t dX1_drop_36 (fun c_7 => ?_)
  exact s_vret (pc := 39) dX1_drop_39 rfl (fun h => h)
theorem kX1_drop {G : GG}  (a0 : Int) (a1 : Int) (sz : Nat) (sl : Nat) (td : TT) (c : CC) (x : (Nat × Nat × TT × CC)) (h : fX1_drop a0 a1 sz sl td c = some x) : Ct G yX1_drop muX1_drop [(2, a0), (2, a1)] (sz, sl, tt td, cv c) ((3, 0), (x.1, x.2.1, tt x.2.2.1, cv x.2.2.2)) :=
  Ct.of (n := 1) (ls0 := [some (2, a0), some (2, a1), none]) (by decide) rfl rfl ⟨show (none : Option FieldType) ≠ some .float by decide, show (none : Option FieldType) ≠ some .double by decide⟩ (Nat.le_of_ble_eq_true rfl) rfl (sX1_drop (G := G) (Γ := cx0) a0 a1 sz sl td c x h rfl).1 (show (3 : Nat) ≠ 9 by decide) (fun Γ => sX1_drop a0 a1 sz sl td c x h rfl)
theorem mvX5_160 : MV RX5 160 RX1 yX1_drop muX1_drop 1 := ⟨lw_V q800 q801 q802 q126 q803, by decide +kernel, Nat.le_of_ble_eq_true rfl⟩
theorem fnpX5_137 : FLN RX5 137 1 2 := ⟨_, _, _, _, cf1, by decide, PP.nwF q178, rfl⟩
theorem fnpX5_137t : fty 1 2 ≠ .boolean ∧ fty 1 2 ≠ .byte ∧ fty 1 2 ≠ .char ∧ fty 1 2 ≠ .short := by decide
theorem mvX5_144 : MV RX5 144 RX5 yX5_sense muX5_sense 0 := ⟨lw_V q562 q564 qs9 q130 q565, by decide +kernel, Nat.le_of_ble_eq_true rfl⟩
theorem flX1_9 : FL RX1 9 1 0 := ⟨_, _, _, cf1, by decide, q174⟩
theorem castS : ∀ ci, 6 ≤ ci → ci ≤ 10 → ∃ C, (kCl[ci]?.map (fun q => q.1)) = some C ∧ PP (va_Nw (Cond.castable C RX7)) := by
  intro ci h1 h2
  rcases (by omega : ci = 6 ∨ ci = 7 ∨ ci = 8 ∨ ci = 9 ∨ ci = 10) with e | e | e | e | e <;> subst e
  · exact ⟨_, rfl, PP.nwC q1948⟩
  · exact ⟨_, rfl, PP.nwC q1949⟩
  · exact ⟨_, rfl, PP.nwC q1950⟩
  · exact ⟨_, rfl, PP.nwC q1951⟩
  · exact ⟨_, rfl, PP.nwC q1952⟩
abbrev muX1_add : MI := (cX1_add, RX1, 3, none, 2, "add")
noncomputable def fX1_add (a0 : Int) (a1 : Int) (sz : Nat) (sl : Nat) (td : TT) (c : CC) : Option (Nat × Nat × TT × CC) :=
  gd ((0 : Int) ≤ a0 ∧ (tt td (Int.toNat a0)).1 = 1) <|
   gd ((0 : Int) ≤ cv c (Int.toNat a0) 0 ∧ (tt td (Int.toNat (cv c (Int.toNat a0) 0))).1 = 55 ∧ (tt td (Int.toNat (cv c (Int.toNat a0) 0))).2 < 2147483648) <|
   gd (inR ((((tt td (Int.toNat (cv c (Int.toNat a0) 0))).2 : Int)) + 1)) <|
   gd (kK ≤ sz ∧ (0 : Int) ≤ (((tt td (Int.toNat (cv c (Int.toNat a0) 0))).2 : Int)) + 1 ∧ (((tt td (Int.toNat (cv c (Int.toNat a0) 0))).2 : Int)) + 1 ≤ 100000) <| bd (upT td sz (50 + 5, Int.toNat ((((tt td (Int.toNat (cv c (Int.toNat a0) 0))).2 : Int)) + 1))) fun tq_1 => bd (zc c sz (50 + 5)) fun c_2 =>
   bd (((sz : Nat) : Int)) fun v2_3 =>
   gd ((0 : Int) ≤ a0 ∧ (tt tq_1 (Int.toNat a0)).1 = 1) <|
   gd ((0 : Int) ≤ a0 ∧ (tt tq_1 (Int.toNat a0)).1 = 1) <|
   gd ((0 : Int) ≤ cv c_2 (Int.toNat a0) 0 ∧ (tt tq_1 (Int.toNat (cv c_2 (Int.toNat a0) 0))).1 = 55 ∧ (tt tq_1 (Int.toNat (cv c_2 (Int.toNat a0) 0))).2 < 2147483648) <|
   gd (((168 ≤ cv c_2 (Int.toNat a0) 0 ∧ (tt tq_1 (Int.toNat (cv c_2 (Int.toNat a0) 0))).1 = 50 + 5 ∧ 168 ≤ v2_3 ∧ (tt tq_1 (Int.toNat v2_3)).1 = 50 + 5) ∧ ((0 : Int) ≤ 0 ∧ (0 : Int) ≤ 0 ∧ (0 : Int) ≤ ((tt tq_1 (Int.toNat (cv c_2 (Int.toNat a0) 0))).2 : Int)) ∧ (0 : Int) + ((tt tq_1 (Int.toNat (cv c_2 (Int.toNat a0) 0))).2 : Int) ≤ ((tt tq_1 (Int.toNat (cv c_2 (Int.toNat a0) 0))).2 : Int) ∧ (0 : Int) + ((tt tq_1 (Int.toNat (cv c_2 (Int.toNat a0) 0))).2 : Int) ≤ ((tt tq_1 (Int.toNat v2_3)).2 : Int)) ∧ (∀ i : Nat, i < Int.toNat (((tt tq_1 (Int.toNat (cv c_2 (Int.toNat a0) 0))).2 : Int)) → 0 ≤ c_2 (Int.toNat (cv c_2 (Int.toNat a0) 0)) (Int.toNat 0 + i) ∧ 6 ≤ (tt tq_1 (Int.toNat (c_2 (Int.toNat (cv c_2 (Int.toNat a0) 0)) (Int.toNat 0 + i)))).1 ∧ (tt tq_1 (Int.toNat (c_2 (Int.toNat (cv c_2 (Int.toNat a0) 0)) (Int.toNat 0 + i)))).1 ≤ 10)) <| bd (cpy c_2 (Int.toNat (cv c_2 (Int.toNat a0) 0)) (Int.toNat v2_3) (Int.toNat 0) (Int.toNat 0) (Int.toNat (((tt tq_1 (Int.toNat (cv c_2 (Int.toNat a0) 0))).2 : Int)))) fun c_5 =>
   gd ((0 : Int) ≤ a0 ∧ (tt tq_1 (Int.toNat a0)).1 = 1) <|
   gd ((0 : Int) ≤ cv c_5 (Int.toNat a0) 0 ∧ (tt tq_1 (Int.toNat (cv c_5 (Int.toNat a0) 0))).1 = 55 ∧ (tt tq_1 (Int.toNat (cv c_5 (Int.toNat a0) 0))).2 < 2147483648) <|
   gd (168 ≤ v2_3 ∧ (tt tq_1 (Int.toNat v2_3)).1 = 50 + 5 ∧ (0 : Int) ≤ ((tt tq_1 (Int.toNat (cv c_5 (Int.toNat a0) 0))).2 : Int) ∧ ((tt tq_1 (Int.toNat (cv c_5 (Int.toNat a0) 0))).2 : Int) < ((tt tq_1 (Int.toNat v2_3)).2 : Int) ∧ (0 : Int) ≤ a1 ∧ 6 ≤ (tt tq_1 (Int.toNat a1)).1 ∧ (tt tq_1 (Int.toNat a1)).1 ≤ 10) <| bd (up2 c_5 (Int.toNat v2_3) (Int.toNat (((tt tq_1 (Int.toNat (cv c_5 (Int.toNat a0) 0))).2 : Int))) a1) fun c_6 =>
   gd (168 ≤ a0 ∧ (tt tq_1 (Int.toNat a0)).1 = 1) <| bd (up2 c_6 (Int.toNat a0) 0 v2_3) fun c_7 =>
   some ((sz + 1), (sl + Int.toNat ((((tt td (Int.toNat (cv c (Int.toNat a0) 0))).2 : Int)) + 1)), tq_1, c_7)
theorem sX1_add {G : GG} {Γ : Cx} {r : Vv × Wd}  (a0 : Int) (a1 : Int) (sz : Nat) (sl : Nat) (td : TT) (c : CC) : Sm (fX1_add a0 a1 sz sl td c) (fun x => r = ((3, 0), (x.1, x.2.1, tt x.2.2.1, cv x.2.2.2))) (WP G Γ muX1_add r 0 [some (2, a0), some (2, a1), none] [] (sz, sl, tt td, cv c)) := by
  unfold fX1_add
  refine s_aload_n (pc := 0) dX1_add_0 rfl ?_
  refine s_getD (pc := 1) flX1_9 rfl dX1_add_1 ?_
  refine s_alenD (pc := 4) (q := 5) (by decide) dX1_add_4 ?_
  refine s_iconst (pc := 5) dX1_add_5 ?_
  refine s_iadd (pc := 6) dX1_add_6 ?_
  refine s_anewM (pc := 7) (q := 5) (by decide) rfl q170 (PP.aov q171) dX1_add_7 (fun tq_1 c_2 => ?_)
  refine s_astore_n (pc := 10) (lf := fun x => [some (2, a0), some (2, a1), some (2, x)]) dX1_add_10 (fun _ => rfl) (Nat.le_of_ble_eq_true rfl) (fun v2_3 => ?_)
  refine s_aload_n (pc := 11) dX1_add_11 rfl ?_
  refine s_getD (pc := 12) flX1_9 rfl dX1_add_12 ?_
  refine s_iconst (pc := 15) dX1_add_15 ?_
  refine s_aload_n (pc := 16) dX1_add_16 rfl ?_
  refine s_iconst (pc := 17) dX1_add_17 ?_
  refine s_aload_n (pc := 18) dX1_add_18 rfl ?_
  refine s_getD (pc := 19) flX1_9 rfl dX1_add_19 ?_
  refine s_alenD (pc := 22) (q := 5) (by decide) dX1_add_22 ?_
  refine s_copyRD (pc := 23) (q := 5) (lo := 6) (hi := 10) mcX1_21 (by decide) rfl castS (by decide) (Nat.le_of_ble_eq_true rfl) dX1_add_23 (fun c_5 => ?_)
  refine s_aload_n (pc := 26) dX1_add_26 rfl ?_
  refine s_aload_n (pc := 27) dX1_add_27 rfl ?_
  refine s_getD (pc := 28) flX1_9 rfl dX1_add_28 ?_
  refine s_alenD (pc := 31) (q := 5) (by decide) dX1_add_31 ?_
  refine s_aload_n (pc := 32) dX1_add_32 rfl ?_
  refine s_aastRDM (pc := 33) (q := 5) (lo := 6) (hi := 10) (by decide) rfl castS dX1_add_33 (fun c_6 => ?_)
  refine s_aload_n (pc := 34) dX1_add_34 rfl ?_
  refine s_aload_n (pc := 35) dX1_add_35 rfl ?_
  refine s_putDM (pc := 36) (fpX1_9 _) rfl fpX1_9t dX1_add_36 (fun c_7 => ?_)
  exact s_vret (pc := 39) dX1_add_39 rfl (fun h => h)
theorem kX1_add {G : GG}  (a0 : Int) (a1 : Int) (sz : Nat) (sl : Nat) (td : TT) (c : CC) (x : (Nat × Nat × TT × CC)) (h : fX1_add a0 a1 sz sl td c = some x) : Ct G yX1_add muX1_add [(2, a0), (2, a1)] (sz, sl, tt td, cv c) ((3, 0), (x.1, x.2.1, tt x.2.2.1, cv x.2.2.2)) :=
  Ct.of (n := 1) (ls0 := [some (2, a0), some (2, a1), none]) (by decide) rfl rfl ⟨show (none : Option FieldType) ≠ some .float by decide, show (none : Option FieldType) ≠ some .double by decide⟩ (Nat.le_of_ble_eq_true rfl) rfl (sX1_add (G := G) (Γ := cx0) a0 a1 sz sl td c x h rfl).1 (show (3 : Nat) ≠ 9 by decide) (fun Γ => sX1_add a0 a1 sz sl td c x h rfl)
theorem mvX5_148 : MV RX5 148 RX1 yX1_add muX1_add 1 := ⟨lw_V q673 q674 q675 q126 q676, by decide +kernel, Nat.le_of_ble_eq_true rfl⟩
theorem fnX5_137 : FLNf RX5 137 1 2 := ⟨_, _, _, _, cf1, by decide, PP.nwF q178⟩
theorem fnpX5_164 : FLN RX5 164 1 3 := ⟨_, _, _, _, cf1, by decide, PP.nwF q180, rfl⟩
theorem fnpX5_164t : fty 1 3 ≠ .boolean ∧ fty 1 3 ≠ .byte ∧ fty 1 3 ≠ .char ∧ fty 1 3 ≠ .short := by decide
abbrev muX5_read : MI := (cX5_read, RX5, 2, some (.object "HeldTongue$Lexicon"), 74, "read")
noncomputable def fX5_read_j155 (v0 : Int) (v1 : Int) (sz : Nat) (sl : Nat) (td : TT) (c : CC) : Option ((Nat × Nat × TT × CC) ⊕ ((ThrT) ⊕ (Nat × Nat × TT × CC) ⊕ (Nat × Nat × TT × CC) ⊕ (Nat × Nat × TT × CC) ⊕ (Nat × Nat × TT × CC))) :=
  gd ((0 : Int) ≤ v0 ∧ (tt td (Int.toNat v0)).1 = 4) <| cl (fX5_need v0 59 sz sl td c) (Sum.elim (fun e => some (.inr (.inl e))) fun p_12 =>
   some (.inl (p_12.1, p_12.2.1, p_12.2.2.1, p_12.2.2.2)))
abbrev gX5_read_l12 (G : GG) (Γ : Cx) (r : Vv × Wd) (sz sl : Nat) (td : TT) (c : CC) (v0 : Int) (v1 : Int) : (Nat × Nat × TT × CC) → Prop := fun s => WP G Γ muX5_read r 12 [some (2, v0), some (2, v1)] [] (s.1, s.2.1, tt s.2.2.1, cv s.2.2.2)
abbrev eX5_read_l12 (G : GG) (Γ : Cx) (r : Vv × Wd) (sz sl : Nat) (td : TT) (c : CC) (v0 : Int) (v1 : Int) : ((ThrT) ⊕ (Nat × Nat × TT × CC) ⊕ (Nat × Nat × TT × CC) ⊕ (Nat × Nat × TT × CC) ⊕ (Nat × Nat × TT × CC)) → Prop := (Sum.elim (fun s => r = te s) (Sum.elim (fun s => WP G Γ muX5_read r 38 [some (2, v0), none] [] (s.1, s.2.1, tt s.2.2.1, cv s.2.2.2)) (Sum.elim (fun s => WP G Γ muX5_read r 61 [some (2, v0), none] [] (s.1, s.2.1, tt s.2.2.1, cv s.2.2.2)) (Sum.elim (fun s => WP G Γ muX5_read r 76 [some (2, v0), none] [] (s.1, s.2.1, tt s.2.2.1, cv s.2.2.2)) (fun s => WP G Γ muX5_read r 164 [some (2, v0), some (2, v1)] [] (s.1, s.2.1, tt s.2.2.1, cv s.2.2.2))))))
theorem sX5_read_j155 {G : GG} {Γ : Cx} {r : Vv × Wd}  (v0 : Int) (v1 : Int) (sz : Nat) (sl : Nat) (td : TT) (c : CC) : Sm (fX5_read_j155 v0 v1 sz sl td c) (fun x => Sum.elim (gX5_read_l12 G Γ r sz sl td c v0 v1) (eX5_read_l12 G Γ r sz sl td c v0 v1) x) (WP G Γ muX5_read r 155 [some (2, v0), some (2, v1)] [] (sz, sl, tt td, cv c)) := by
  unfold fX5_read_j155
  refine s_aload_n (pc := 155) dX5_read_155 rfl ?_
  refine s_bipush (pc := 156) dX5_read_156 ?_
  refine s_callVE (pc := 158) (ci := 4) (as := [(0, 59)]) (st := []) (rv := fun b => ((3, 0), (b.1, b.2.1, tt b.2.2.1, cv b.2.2.2))) (st3 := fun b => []) (w3 := fun b => (b.1, b.2.1, tt b.2.2.1, cv b.2.2.2)) mvX5_98 (fun b h => kX5_need v0 59 sz sl td c b h) rfl (by decide) rfl rfl (Nat.le_of_ble_eq_true rfl) (fun _ => Nat.le_of_ble_eq_true rfl) (fun _ => ⟨rfl, rfl⟩) dX5_read_158 (fun _ => Sm.some (fun h => h)) (fun p_12 => ?_)
  refine s_goto (pc := 161) (tgt := 12) dX5_read_161 rfl ?_
  exact Sm.some (fun h => h)
noncomputable def fX5_read_j67 (v0 : Int) (v1 : Int) (sz : Nat) (sl : Nat) (td : TT) (c : CC) : Option ((Nat × Nat × TT × CC) ⊕ ((ThrT) ⊕ (Nat × Nat × TT × CC) ⊕ (Nat × Nat × TT × CC) ⊕ (Nat × Nat × TT × CC) ⊕ (Nat × Nat × TT × CC))) :=
  gd ((0 : Int) ≤ v0 ∧ (tt td (Int.toNat v0)).1 = 4) <|
   if cv c (Int.toNat v0) 8 = 24 then
  (some (.inr (.inr (.inr (.inr (.inl (sz, sl, td, c)))))))
  else
  (gd ((0 : Int) ≤ v0 ∧ (tt td (Int.toNat v0)).1 = 4) <|
   gd (inR ((cv c (Int.toNat v0) 8) + 1)) <|
   gd (168 ≤ v0 ∧ (tt td (Int.toNat v0)).1 = 4) <| bd (up2 c (Int.toNat v0) 8 ((cv c (Int.toNat v0) 8) + 1)) fun c_7 =>
   gd ((0 : Int) ≤ v0 ∧ (tt td (Int.toNat v0)).1 = 4) <|
   gd (168 ≤ v0 ∧ (tt td (Int.toNat v0)).1 = 4) <| bd (up2 c_7 (Int.toNat v0) 9 (cv c_7 (Int.toNat v0) 4)) fun c_8 =>
   gd ((0 : Int) ≤ v0 ∧ (tt td (Int.toNat v0)).1 = 4) <| cl (fX5_next v0 td c_8) fun p_9 =>
   gd ((0 : Int) ≤ v0 ∧ (tt td (Int.toNat v0)).1 = 4) <|
   if cv p_9 (Int.toNat v0) 9 = 310 then
  (gd ((0 : Int) ≤ v0 ∧ (tt td (Int.toNat v0)).1 = 4) <| cl (fX5_sense v0 sz sl td p_9) (Sum.elim (fun e => some (.inr (.inl e))) fun p_15 =>
   gd ((0 : Int) ≤ v1 ∧ (tt p_15.2.2.2.1 (Int.toNat v1)).1 = 1) <| cl (fX1_add v1 p_15.1 p_15.2.1 p_15.2.2.1 p_15.2.2.2.1 p_15.2.2.2.2) fun p_16 =>
   fX5_read_j155 v0 v1 p_16.1 p_16.2.1 p_16.2.2.1 p_16.2.2.2))
  else
  (gd ((0 : Int) ≤ v0 ∧ (tt td (Int.toNat v0)).1 = 4) <|
   if cv p_9 (Int.toNat v0) 9 = 311 then
  (gd ((0 : Int) ≤ v0 ∧ (tt td (Int.toNat v0)).1 = 4) <| cl (@fX5_sum ⟨((fOne 10, 10) : OrcO)⟩ v0 sz sl td p_9) (Sum.elim (fun e => some (.inr (.inl e))) fun p_13 =>
   gd (168 ≤ v1 ∧ (tt p_13.2.2.2.1 (Int.toNat v1)).1 = 1) <| bd (up2 p_13.2.2.2.2 (Int.toNat v1) 2 p_13.1) fun c_14 =>
   fX5_read_j155 v0 v1 p_13.2.1 p_13.2.2.1 p_13.2.2.2.1 c_14))
  else
  (gd ((0 : Int) ≤ v0 ∧ (tt td (Int.toNat v0)).1 = 4) <| cl (fX5_either v0 sz sl td p_9) (Sum.elim (fun e => some (.inr (.inl e))) fun p_10 =>
   gd ((0 : Int) ≤ v1 ∧ (tt p_10.2.2.2.1 (Int.toNat v1)).1 = 1) <| cl (fX1_drop v1 p_10.1 p_10.2.1 p_10.2.2.1 p_10.2.2.2.1 p_10.2.2.2.2) fun p_11 =>
   fX5_read_j155 v0 v1 p_11.1 p_11.2.1 p_11.2.2.1 p_11.2.2.2))))
theorem sX5_read_j67 {G : GG} {Γ : Cx} {r : Vv × Wd}  (v0 : Int) (v1 : Int) (sz : Nat) (sl : Nat) (td : TT) (c : CC) : Sm (fX5_read_j67 v0 v1 sz sl td c) (fun x => Sum.elim (gX5_read_l12 G Γ r sz sl td c v0 v1) (eX5_read_l12 G Γ r sz sl td c v0 v1) x) (WP G Γ muX5_read r 67 [some (2, v0), some (2, v1)] [] (sz, sl, tt td, cv c)) := by
  unfold fX5_read_j67
  refine s_aload_n (pc := 67) dX5_read_67 rfl ?_
  refine s_getD (pc := 68) flX5_107 rfl dX5_read_68 ?_
  refine s_bipush (pc := 71) dX5_read_71 ?_
  refine s_icmp_ne (pc := 73) (tgt := 83) dX5_read_73 rfl ?_ ?_
  · refine s_aload_n (pc := 83) dX5_read_83 rfl ?_
    refine s_dup (pc := 84) (by decide : ¬ (2 : Nat) = 1) dX5_read_84 ?_
    refine s_getD (pc := 85) flX5_107 rfl dX5_read_85 ?_
    refine s_iconst (pc := 88) dX5_read_88 ?_
    refine s_iadd (pc := 89) dX5_read_89 ?_
    refine s_putDM (pc := 90) (fpX5_107 _) rfl fpX5_107t dX5_read_90 (fun c_7 => ?_)
    refine s_aload_n (pc := 93) dX5_read_93 rfl ?_
    refine s_aload_n (pc := 94) dX5_read_94 rfl ?_
    refine s_getD (pc := 95) flX5_60 rfl dX5_read_95 ?_
    refine s_putDM (pc := 98) (fpX5_141 _) rfl fpX5_141t dX5_read_98 (fun c_8 => ?_)
    refine s_aload_n (pc := 101) dX5_read_101 rfl ?_
    refine s_callVG (pc := 102) (ci := 4) (as := []) (st := []) (rv := fun b => ((3, 0), (sz, sl, tt td, cv b))) (st3 := fun b => []) (w3 := fun b => (sz, sl, tt td, cv b)) mvX5_92 (fun b h => kX5_next v0 td c_8 b h) rfl (by decide) rfl rfl (Nat.le_of_ble_eq_true rfl) (fun _ => Nat.le_of_ble_eq_true rfl) (fun _ => ⟨rfl, rfl⟩) dX5_read_102 (fun p_9 => ?_)
    refine s_aload_n (pc := 105) dX5_read_105 rfl ?_
    refine s_getD (pc := 106) flX5_141 rfl dX5_read_106 ?_
    refine s_sipush (pc := 109) dX5_read_109 ?_
    refine s_icmp_ne (pc := 112) (tgt := 126) dX5_read_112 rfl ?_ ?_
    · refine s_aload_n (pc := 126) dX5_read_126 rfl ?_
      refine s_getD (pc := 127) flX5_141 rfl dX5_read_127 ?_
      refine s_sipush (pc := 130) dX5_read_130 ?_
      refine s_icmp_ne (pc := 133) (tgt := 147) dX5_read_133 rfl ?_ ?_
      · refine s_aload_n (pc := 147) dX5_read_147 rfl ?_
        refine s_aload_n (pc := 148) dX5_read_148 rfl ?_
        refine s_callVE (pc := 149) (ci := 4) (as := []) (st := [(2, v1)]) (rv := fun b => ((2, b.1), (b.2.1, b.2.2.1, tt b.2.2.2.1, cv b.2.2.2.2))) (st3 := fun b => [(2, b.1), (2, v1)]) (w3 := fun b => (b.2.1, b.2.2.1, tt b.2.2.2.1, cv b.2.2.2.2)) mvX5_156 (fun b h => kX5_either v0 sz sl td p_9 b h) rfl (by decide) rfl rfl (Nat.le_of_ble_eq_true rfl) (fun _ => Nat.le_of_ble_eq_true rfl) (fun _ => ⟨rfl, rfl⟩) dX5_read_149 (fun _ => Sm.some (fun h => h)) (fun p_10 => ?_)
        refine s_callVG (pc := 152) (ci := 1) (as := [(2, p_10.1)]) (st := []) (rv := fun b => ((3, 0), (b.1, b.2.1, tt b.2.2.1, cv b.2.2.2))) (st3 := fun b => []) (w3 := fun b => (b.1, b.2.1, tt b.2.2.1, cv b.2.2.2)) mvX5_160 (fun b h => kX1_drop v1 p_10.1 p_10.2.1 p_10.2.2.1 p_10.2.2.2.1 p_10.2.2.2.2 b h) rfl (by decide) rfl rfl (Nat.le_of_ble_eq_true rfl) (fun _ => Nat.le_of_ble_eq_true rfl) (fun _ => ⟨rfl, rfl⟩) dX5_read_152 (fun p_11 => ?_)
        exact sX5_read_j155 v0 v1 p_11.1 p_11.2.1 p_11.2.2.1 p_11.2.2.2
      refine s_aload_n (pc := 136) dX5_read_136 rfl ?_
      refine s_aload_n (pc := 137) dX5_read_137 rfl ?_
      refine s_callVE (pc := 138) (ci := 4) (as := []) (st := [(2, v1)]) (rv := fun b => ((2, b.1), (b.2.1, b.2.2.1, tt b.2.2.2.1, cv b.2.2.2.2))) (st3 := fun b => [(2, b.1), (2, v1)]) (w3 := fun b => (b.2.1, b.2.2.1, tt b.2.2.2.1, cv b.2.2.2.2)) mvX5_152_o (fun b h => @kX5_sum ⟨((fOne 10, 10) : OrcO)⟩ G v0 sz sl td p_9 ⟨⟨kOne 10⟩⟩ b h) rfl (by decide) rfl rfl (Nat.le_of_ble_eq_true rfl) (fun _ => Nat.le_of_ble_eq_true rfl) (fun _ => ⟨rfl, rfl⟩) dX5_read_138 (fun _ => Sm.some (fun h => h)) (fun p_13 => ?_)
      refine s_putDNM (pc := 141) fnpX5_137 rfl fnpX5_137t dX5_read_141 (fun c_14 => ?_)
      refine s_goto (pc := 144) (tgt := 155) dX5_read_144 rfl ?_
      exact sX5_read_j155 v0 v1 p_13.2.1 p_13.2.2.1 p_13.2.2.2.1 c_14
    refine s_aload_n (pc := 115) dX5_read_115 rfl ?_
    refine s_aload_n (pc := 116) dX5_read_116 rfl ?_
    refine s_callVE (pc := 117) (ci := 4) (as := []) (st := [(2, v1)]) (rv := fun b => ((2, b.1), (b.2.1, b.2.2.1, tt b.2.2.2.1, cv b.2.2.2.2))) (st3 := fun b => [(2, b.1), (2, v1)]) (w3 := fun b => (b.2.1, b.2.2.1, tt b.2.2.2.1, cv b.2.2.2.2)) mvX5_144 (fun b h => kX5_sense v0 sz sl td p_9 b h) rfl (by decide) rfl rfl (Nat.le_of_ble_eq_true rfl) (fun _ => Nat.le_of_ble_eq_true rfl) (fun _ => ⟨rfl, rfl⟩) dX5_read_117 (fun _ => Sm.some (fun h => h)) (fun p_15 => ?_)
    refine s_callVG (pc := 120) (ci := 1) (as := [(2, p_15.1)]) (st := []) (rv := fun b => ((3, 0), (b.1, b.2.1, tt b.2.2.1, cv b.2.2.2))) (st3 := fun b => []) (w3 := fun b => (b.1, b.2.1, tt b.2.2.1, cv b.2.2.2)) mvX5_148 (fun b h => kX1_add v1 p_15.1 p_15.2.1 p_15.2.2.1 p_15.2.2.2.1 p_15.2.2.2.2 b h) rfl (by decide) rfl rfl (Nat.le_of_ble_eq_true rfl) (fun _ => Nat.le_of_ble_eq_true rfl) (fun _ => ⟨rfl, rfl⟩) dX5_read_120 (fun p_16 => ?_)
    refine s_goto (pc := 123) (tgt := 155) dX5_read_123 rfl ?_
    exact sX5_read_j155 v0 v1 p_16.1 p_16.2.1 p_16.2.2.1 p_16.2.2.2
  refine s_wk [true, false] (ls' := [some (2, v0), none]) rfl ?_
  exact Sm.some (fun h => h)
noncomputable def fX5_read_l12 (v0 : Int) (v1 : Int) (sz : Nat) (sl : Nat) (td : TT) (c : CC) : Option ((Nat × Nat × TT × CC) ⊕ ((ThrT) ⊕ (Nat × Nat × TT × CC) ⊕ (Nat × Nat × TT × CC) ⊕ (Nat × Nat × TT × CC) ⊕ (Nat × Nat × TT × CC))) :=
  gd ((0 : Int) ≤ v0 ∧ (tt td (Int.toNat v0)).1 = 4) <|
   if cv c (Int.toNat v0) 4 = 300 then
  (some (.inr (.inr (.inr (.inr (.inr (sz, sl, td, c)))))))
  else
  (gd ((0 : Int) ≤ v0 ∧ (tt td (Int.toNat v0)).1 = 4) <|
   cl (fX0_in (cv c (Int.toNat v0) 4) 310 312 ) fun p_6 =>
   if p_6 = 0 then
  (some (.inr (.inr (.inl (sz, sl, td, c)))))
  else
  (gd ((0 : Int) ≤ v0 ∧ (tt td (Int.toNat v0)).1 = 4) <|
   if cv c (Int.toNat v0) 4 = 311 then
  (gd ((0 : Int) ≤ v1 ∧ (tt td (Int.toNat v1)).1 = 1) <|
   if cv c (Int.toNat v1) 2 < 0 then
  (fX5_read_j67 v0 v1 sz sl td c)
  else
  (some (.inr (.inr (.inr (.inl (sz, sl, td, c)))))))
  else
  (fX5_read_j67 v0 v1 sz sl td c)))
theorem sX5_read_l12 {G : GG} {Γ : Cx} {r : Vv × Wd}  (v0 : Int) (v1 : Int) (sz : Nat) (sl : Nat) (td : TT) (c : CC) : Sm (fX5_read_l12 v0 v1 sz sl td c) (fun x => Sum.elim (gX5_read_l12 G Γ r sz sl td c v0 v1) (eX5_read_l12 G Γ r sz sl td c v0 v1) x) (gX5_read_l12 G Γ r sz sl td c v0 v1 (sz, sl, td, c)) := by
  show Sm _ _ (WP G Γ muX5_read r 12 [some (2, v0), some (2, v1)] [] (sz, sl, tt td, cv c))
  unfold fX5_read_l12
  refine s_aload_n (pc := 12) dX5_read_12 rfl ?_
  refine s_getD (pc := 13) flX5_60 rfl dX5_read_13 ?_
  refine s_sipush (pc := 16) dX5_read_16 ?_
  refine s_icmp_eq (pc := 19) (tgt := 164) dX5_read_19 rfl ?_ ?_
  · exact Sm.some (fun h => h)
  refine s_aload_n (pc := 22) dX5_read_22 rfl ?_
  refine s_getD (pc := 23) flX5_60 rfl dX5_read_23 ?_
  refine s_sipush (pc := 26) dX5_read_26 ?_
  refine s_sipush (pc := 29) dX5_read_29 ?_
  refine s_callSN3 (pc := 32) (as := [(0, cv c (Int.toNat v0) 4), (0, 310), (0, 312)]) (st := []) (rv := fun b => ((0, b), (sz, sl, tt td, cv c))) (st3 := fun b => [(0, b)]) (w3 := fun b => (sz, sl, tt td, cv c)) msnX5_26 (fun b h => kX0_in (cv c (Int.toNat v0) 4) 310 312 c b h) rfl (by decide) rfl (Nat.le_of_ble_eq_true rfl) (fun _ => Nat.le_of_ble_eq_true rfl) (fun _ => ⟨rfl, rfl⟩) dX5_read_32 (fun p_6 => ?_)
  refine s_if_ne (pc := 35) (tgt := 44) dX5_read_35 rfl ?_ ?_
  · refine s_aload_n (pc := 44) dX5_read_44 rfl ?_
    refine s_getD (pc := 45) flX5_60 rfl dX5_read_45 ?_
    refine s_sipush (pc := 48) dX5_read_48 ?_
    refine s_icmp_ne (pc := 51) (tgt := 67) dX5_read_51 rfl ?_ ?_
    · exact sX5_read_j67 v0 v1 sz sl td c
    refine s_aload_n (pc := 54) dX5_read_54 rfl ?_
    refine s_getDN (pc := 55) fnX5_137 rfl dX5_read_55 ?_
    refine s_ifnull (pc := 58) (tgt := 67) dX5_read_58 rfl ?_ ?_
    · exact sX5_read_j67 v0 v1 sz sl td c
    refine s_wk [true, false] (ls' := [some (2, v0), none]) rfl ?_
    exact Sm.some (fun h => h)
  refine s_wk [true, false] (ls' := [some (2, v0), none]) rfl ?_
  exact Sm.some (fun h => h)
noncomputable def fX5_read (a0 : Int) (sz : Nat) (sl : Nat) (td : TT) (c : CC) : Option (ThrT ⊕ (Int × Nat × Nat × TT × CC)) :=
  gd (kK ≤ sz) <| bd (upT td sz (1, 4)) fun tq_1 => bd (zc c sz 1) fun c_2 =>
   gd ((0 : Int) ≤ ((sz : Nat) : Int)) <| cl (fX1_init (((sz : Nat) : Int)) (sz + 1) (sl + 4) tq_1 c_2) fun p_3 =>
   bd (((sz : Nat) : Int)) fun v1_4 =>
   gd ((0 : Int) ≤ a0 ∧ (tt p_3.2.2.1 (Int.toNat a0)).1 = 4) <| cl (fX5_next a0 p_3.2.2.1 p_3.2.2.2) fun p_5 =>
   cl (wh (fun s => fX5_read_l12 a0 v1_4  s.1 s.2.1 s.2.2.1 s.2.2.2) (p_3.1, p_3.2.1, p_3.2.2.1, p_5)) (Sum.elim (fun e_17 => some (.inl e_17)) (Sum.elim (fun e_18 =>
  gd ((0 : Int) ≤ a0 ∧ (tt e_18.2.2.1 (Int.toNat a0)).1 = 4) <| cl (fX5_wrong a0 1 e_18.1 e_18.2.1 e_18.2.2.1 e_18.2.2.2) fun p_19 =>
   gd ((0 : Int) ≤ p_19.1) (some (.inl (p_19.1, p_19.2.1, p_19.2.2.1, p_19.2.2.2.1, p_19.2.2.2.2)))) (Sum.elim (fun e_20 =>
  gd ((0 : Int) ≤ a0 ∧ (tt e_20.2.2.1 (Int.toNat a0)).1 = 4) <| cl (fX5_wrong a0 4 e_20.1 e_20.2.1 e_20.2.2.1 e_20.2.2.2) fun p_21 =>
   gd ((0 : Int) ≤ p_21.1) (some (.inl (p_21.1, p_21.2.1, p_21.2.2.1, p_21.2.2.2.1, p_21.2.2.2.2)))) (Sum.elim (fun e_22 =>
  gd ((0 : Int) ≤ a0 ∧ (tt e_22.2.2.1 (Int.toNat a0)).1 = 4) <| cl (fX5_wrong a0 6 e_22.1 e_22.2.1 e_22.2.2.1 e_22.2.2.2) fun p_23 =>
   gd ((0 : Int) ≤ p_23.1) (some (.inl (p_23.1, p_23.2.1, p_23.2.2.1, p_23.2.2.2.1, p_23.2.2.2.2)))) (fun e_24 =>
  gd ((0 : Int) ≤ a0 ∧ (tt e_24.2.2.1 (Int.toNat a0)).1 = 4) <|
   gd (168 ≤ v1_4 ∧ (tt e_24.2.2.1 (Int.toNat v1_4)).1 = 1) <| bd (up2 e_24.2.2.2 (Int.toNat v1_4) 3 (cv e_24.2.2.2 (Int.toNat a0) 8)) fun c_25 =>
   some (.inr (v1_4, e_24.1, e_24.2.1, e_24.2.2.1, c_25)))))))
theorem sX5_read {G : GG} {Γ : Cx} {r : Vv × Wd}  (a0 : Int) (sz : Nat) (sl : Nat) (td : TT) (c : CC) : Sm (fX5_read a0 sz sl td c) (fun x => r = (Sum.elim te (fun v => ((2, v.1), (v.2.1, v.2.2.1, tt v.2.2.2.1, cv v.2.2.2.2))) x)) (WP G Γ muX5_read r 0 [some (2, a0), none] [] (sz, sl, tt td, cv c)) := by
  unfold fX5_read
  refine s_newM (pc := 0) cf1 q400 q165 q126 dX5_read_0 (fun tq_1 c_2 => ?_)
  refine s_dup (pc := 3) (by decide : ¬ (2 : Nat) = 1) dX5_read_3 ?_
  refine s_callIN3 (pc := 4) (as := []) (st := [(2, ((sz : Nat) : Int))]) (rv := fun b => ((3, 0), (b.1, b.2.1, tt b.2.2.1, cv b.2.2.2))) (st3 := fun b => [(2, ((sz : Nat) : Int))]) (w3 := fun b => (b.1, b.2.1, tt b.2.2.1, cv b.2.2.2)) minX5_136 (fun b h => kX1_init (((sz : Nat) : Int)) (sz + 1) (sl + 4) tq_1 c_2 b h) rfl (by decide) rfl (Nat.le_of_ble_eq_true rfl) (fun _ => Nat.le_of_ble_eq_true rfl) (fun _ => ⟨rfl, rfl⟩) dX5_read_4 (fun p_3 => ?_)
  refine s_astore_n (pc := 7) (lf := fun x => [some (2, a0), some (2, x)]) dX5_read_7 (fun _ => rfl) (Nat.le_of_ble_eq_true rfl) (fun v1_4 => ?_)
  refine s_aload_n (pc := 8) dX5_read_8 rfl ?_
  refine s_callVG (pc := 9) (ci := 4) (as := []) (st := []) (rv := fun b => ((3, 0), (p_3.1, p_3.2.1, tt p_3.2.2.1, cv b))) (st3 := fun b => []) (w3 := fun b => (p_3.1, p_3.2.1, tt p_3.2.2.1, cv b)) mvX5_92 (fun b h => kX5_next a0 p_3.2.2.1 p_3.2.2.2 b h) rfl (by decide) rfl rfl (Nat.le_of_ble_eq_true rfl) (fun _ => Nat.le_of_ble_eq_true rfl) (fun _ => ⟨rfl, rfl⟩) dX5_read_9 (fun p_5 => ?_)
  refine s_loop (g := gX5_read_l12 G Γ r p_3.1 p_3.2.1 p_3.2.2.1 p_5 a0 v1_4) (Ex := eX5_read_l12 G Γ r p_3.1 p_3.2.1 p_3.2.2.1 p_5 a0 v1_4) (s0 := (p_3.1, p_3.2.1, p_3.2.2.1, p_5)) (fun s => sX5_read_l12 a0 v1_4  s.1 s.2.1 s.2.2.1 s.2.2.2) ?_
  refine s_elim ?_ ?_
  · intro e_17
    exact Sm.some (fun h => h)
  refine s_elim ?_ ?_
  · intro e_18
    show Sm _ _ (WP G Γ muX5_read r 38 [some (2, a0), none] [] (e_18.1, e_18.2.1, tt e_18.2.2.1, cv e_18.2.2.2))
    refine s_aload_n (pc := 38) dX5_read_38 rfl ?_
    refine s_iconst (pc := 39) dX5_read_39 ?_
    refine s_callVG (pc := 40) (ci := 4) (as := [(0, 1)]) (st := []) (rv := fun b => ((2, b.1), (b.2.1, b.2.2.1, tt b.2.2.2.1, cv b.2.2.2.2))) (st3 := fun b => [(2, b.1)]) (w3 := fun b => (b.2.1, b.2.2.1, tt b.2.2.2.1, cv b.2.2.2.2)) mvX5_88 (fun b h => kX5_wrong a0 1 e_18.1 e_18.2.1 e_18.2.2.1 e_18.2.2.2 b h) rfl (by decide) rfl rfl (Nat.le_of_ble_eq_true rfl) (fun _ => Nat.le_of_ble_eq_true rfl) (fun _ => ⟨rfl, rfl⟩) dX5_read_40 (fun p_19 => ?_)
    exact s_throw (pc := 43) rfl (fun h => h) dX5_read_43
  refine s_elim ?_ ?_
  · intro e_20
    show Sm _ _ (WP G Γ muX5_read r 61 [some (2, a0), none] [] (e_20.1, e_20.2.1, tt e_20.2.2.1, cv e_20.2.2.2))
    refine s_aload_n (pc := 61) dX5_read_61 rfl ?_
    refine s_iconst (pc := 62) dX5_read_62 ?_
    refine s_callVG (pc := 63) (ci := 4) (as := [(0, 4)]) (st := []) (rv := fun b => ((2, b.1), (b.2.1, b.2.2.1, tt b.2.2.2.1, cv b.2.2.2.2))) (st3 := fun b => [(2, b.1)]) (w3 := fun b => (b.2.1, b.2.2.1, tt b.2.2.2.1, cv b.2.2.2.2)) mvX5_88 (fun b h => kX5_wrong a0 4 e_20.1 e_20.2.1 e_20.2.2.1 e_20.2.2.2 b h) rfl (by decide) rfl rfl (Nat.le_of_ble_eq_true rfl) (fun _ => Nat.le_of_ble_eq_true rfl) (fun _ => ⟨rfl, rfl⟩) dX5_read_63 (fun p_21 => ?_)
    exact s_throw (pc := 66) rfl (fun h => h) dX5_read_66
  refine s_elim ?_ ?_
  · intro e_22
    show Sm _ _ (WP G Γ muX5_read r 76 [some (2, a0), none] [] (e_22.1, e_22.2.1, tt e_22.2.2.1, cv e_22.2.2.2))
    refine s_aload_n (pc := 76) dX5_read_76 rfl ?_
    refine s_bipush (pc := 77) dX5_read_77 ?_
    refine s_callVG (pc := 79) (ci := 4) (as := [(0, 6)]) (st := []) (rv := fun b => ((2, b.1), (b.2.1, b.2.2.1, tt b.2.2.2.1, cv b.2.2.2.2))) (st3 := fun b => [(2, b.1)]) (w3 := fun b => (b.2.1, b.2.2.1, tt b.2.2.2.1, cv b.2.2.2.2)) mvX5_88 (fun b h => kX5_wrong a0 6 e_22.1 e_22.2.1 e_22.2.2.1 e_22.2.2.2 b h) rfl (by decide) rfl rfl (Nat.le_of_ble_eq_true rfl) (fun _ => Nat.le_of_ble_eq_true rfl) (fun _ => ⟨rfl, rfl⟩) dX5_read_79 (fun p_23 => ?_)
    exact s_throw (pc := 82) rfl (fun h => h) dX5_read_82
  intro e_24
  show Sm _ _ (WP G Γ muX5_read r 164 [some (2, a0), some (2, v1_4)] [] (e_24.1, e_24.2.1, tt e_24.2.2.1, cv e_24.2.2.2))
  refine s_aload_n (pc := 164) dX5_read_164 rfl ?_
  refine s_aload_n (pc := 165) dX5_read_165 rfl ?_
  refine s_getD (pc := 166) flX5_107 rfl dX5_read_166 ?_
  refine s_putDNM (pc := 169) fnpX5_164 rfl fnpX5_164t dX5_read_169 (fun c_25 => ?_)
  refine s_aload_n (pc := 172) dX5_read_172 rfl ?_
  exact s_aret (pc := 173) dX5_read_173 rfl ⟨rfl, by decide, by decide⟩ (fun h => h)
theorem kX5_read {G : GG}  (a0 : Int) (sz : Nat) (sl : Nat) (td : TT) (c : CC) (x : (ThrT ⊕ (Int × Nat × Nat × TT × CC))) (h : fX5_read a0 sz sl td c = some x) : CtE G yX5_read muX5_read [(2, a0)] (sz, sl, tt td, cv c) (Sum.elim te (fun v => ((2, v.1), (v.2.1, v.2.2.1, tt v.2.2.2.1, cv v.2.2.2.2))) x) :=
  CtE.of (n := 1) (ls0 := [some (2, a0), none]) (by decide) rfl rfl ⟨show (some (.object "HeldTongue$Lexicon") : Option FieldType) ≠ some .float by decide, show (some (.object "HeldTongue$Lexicon") : Option FieldType) ≠ some .double by decide⟩ (Nat.le_of_ble_eq_true rfl) rfl (fun Γ => sX5_read a0 sz sl td c x h rfl)
