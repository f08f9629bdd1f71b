/-! LAYER 1x: Throwable's maker: two references that nothing is known of go into fields, and null over them -/
section Exc
theorem rawPut {p : Program} {l : Launch} {e : Env} {R : Room} {s : State} {m : MethodId} {args : Array Value} {below : List Frame} {meth : Method} {c : Code} {H : Heap} {locs : List Loc} {cells slots : Nat} {Q : State → Prop} {cc : ByteArray} {pc : Nat} {lsa : Array Slot} {rest : List Value} {G : GG} {a i idx : Nat} {V : Nat → Value} {v : Value}
    (hx : p.tables.exec = Jvm.exec) (hb : c.code = cc) (hown : s.vm.findClass RJ5 = some m.cls) (hts : ∀ w ∈ lw_all, w.before args s = true) (hK : Kn G s) (ha : kO ≤ a) (hi : i < 4) (hq : Cond.fieldLink RJ5 idx (TX6 i).1 (TX6 i).2.1 (TX6 i).2.2.1 ∈ lw_all) (hv : RfN v) (hL : ∀ q ∈ locs, G.2.2.2.size ≤ q.base) (hO : t_OB (G.2.1 a) (G.1.1 5) 8 (G.1.2 5) H V) (hd : decode cc pc = .ok (.putfield idx, 3))
    (kk : ∀ (H' : Heap) (locs' : List Loc), (∀ q ∈ locs', G.2.2.2.size ≤ q.base) → t_OB (G.2.1 a) (G.1.1 5) 8 (G.1.2 5) H' (updV V i v) → H'.size = H.size → (∀ q, q ≠ G.2.1 a → H'[q]? = H[q]?) → W p l e R s m args below meth c H' locs' cells slots Q (F0 m (pc + 3) lsa rest)) :
    W p l e R s m args below meth c H locs cells slots Q (F0 m pc lsa (v :: .ref (G.2.1 a) :: rest)) := by
  obtain ⟨cell, g1, g2, g3, g4⟩ := hO
  obtain ⟨hS, hfc, kC, hkC, hkind⟩ := hK.2.2.1 5 _ cf5.1
  have hi8 : i < 8 := by omega
  obtain ⟨cf, kf, fi, f, hfi, hsl⟩ := hS i hi8
  have hst := (u_facts hfc hkC (u_lays hts cf5.2.1 hi8) hfi).1
  have hap : ∀ x y, x < 8 → y < 8 → x ≠ y → (G.1.2 5) x ≠ (G.1.2 5) y := by
    intro x y hx' hy' hne
    obtain ⟨_, _, _, fa, hia, ea⟩ := hS x hx'
    obtain ⟨_, _, _, fb, hib, eb⟩ := hS y hy'
    rw [← ea, ← eb]
    refine u_apart (u_lays hts cf5.2.1 hx') (u_lays hts cf5.2.1 hy') hia hib ?_
    rw [(State.fieldFound?_type hia (cf5.2.2.1 x hx')).1, (State.fieldFound?_type hib (cf5.2.2.1 y hy')).1]
    exact cf5.2.2.2.1 x hx' y hy' hne
  have hfin : (TX6 i).2.2.2 = false := (by decide : ∀ i : Fin 4, (TX6 i.val).2.2.2 = false) ⟨i, hi⟩
  have href : (∀ z, rok (fty 5 i) z) ∧ ∀ ad z, vof ad (fty 5 i) z = rfv ad z := by
    rcases (by omega : i = 0 ∨ i = 1 ∨ i = 2 ∨ i = 3) with e | e | e | e <;> subst e <;> exact ⟨fun _ => trivial, fun _ _ => rfl⟩
  have hnf : narrow (fty 5 i) v = v ∧ fits (fty 5 i) v = true := by
    rcases hv with e | ⟨b, e⟩
    · have := rok_fits (ad := fun _ => 0) (z := -1) (fty_nf cf5 hi8) (href.1 _)
      rw [href.2] at this; rw [e]; exact this
    · have := rok_fits (ad := fun _ => b) (z := 0) (fty_nf cf5 hi8) (href.1 _)
      rw [href.2] at this; rw [e]; exact this
  have hlay := hts _ (cf5.2.1 _ (u_in_lay hi8))
  unfold u_lay at hlay
  rw [if_neg (by rw [hfin]; decide)] at hlay
  have h6 := u_store hfc hkC hkind hlay hfi (cf5.2.2.1 i hi8) hnf.1 hnf.2
  refine W.putK hx hb (f := f) ⟨hown, hts _ hq, ⟨_, _, _, hfi⟩, hst⟩ (by rw [g2]; exact h6) g1 g3 (by rw [hsl]; exact k2_hasslot (g4 i hi8)) rfl rfl hd fun H' f1 f2 f3 => ?_
  refine kk H' _ ?_ ⟨_, f1, g2, g3, by rw [hsl]; intro k hk; exact t_set g4 hap hi8 v k hk⟩ f2 f3
  intro q hq'
  rcases List.mem_append.mp hq' with h3 | h3
  · exact hL q h3
  · rw [List.mem_singleton.mp h3]; exact hK.2.1 a ha
variable {G : GG} {Γ : Cx} {μ : MI} {r : Vv × Wd} {pc : Nat} {ls : List (Option Vv)} {st : List Vv} {sz sl : Nat} {td : TT} {c : CC} {w : Wd}
variable {X : Type} {k : Option X} {post : X → Prop}
abbrev muJ5i : MI := (cJ5_init_2, RJ5, 5, none, 2, "<init>")
theorem w_thrMid {a : Nat} {t : TT} {c1 : CC} (ha : kO ≤ a) (ht : t a = (5, 8)) (h0 : c1 a 1 = -1 ∧ c1 a 2 = -1 ∧ c1 a 3 = -1) (h : WP G Γ muJ5i r 60 [some (2, (a : Int)), some (2, -1), some (2, -1), some (0, 0), some (0, 0)] [] (sz, sl, t, up2 c1 a 0 (-1))) : WP G Γ muJ5i r 9 [some (2, (a : Int)), some (2, -1), some (2, -1), some (0, 0), some (0, 0)] [] (sz, sl, t, c1) := by
  obtain ⟨p, l, e, R, s, m, args, below, meth, cd, Q, z0, s0⟩ := Γ
  refine ⟨h.1, fun hX h1 h2 hz0 hs0 H locs lsa hH hL hl => ?_⟩
  obtain ⟨hx, hb, hml, hown, hts, hK, hnm, -⟩ := id hX
  have l0 : lsa[0]? = some (.val (rfv G.2.1 (a : Int))) := hl.2.2 0 (2, (a : Int)) rfl
  rw [rfv_nat] at l0
  have l1 : lsa[1]? = some (.val .null) := hl.2.2 1 (2, -1) rfl
  have l2 : lsa[2]? = some (.val .null) := hl.2.2 2 (2, -1) rfl
  have l3 : lsa[3]? = some (.val (.int (i32 0))) := hl.2.2 3 (0, 0) rfl
  have l4 : lsa[4]? = some (.val (.int (i32 0))) := hl.2.2 4 (0, 0) rfl
  have hcell := (hH.1 a).1 (by show (t a).1 < 50; rw [ht]; decide)
  have hcell : objOK G H a 5 8 (c1 a) := by
    have q : objOK G H a (t a).1 (t a).2 (c1 a) := hcell
    rw [ht] at q; exact q
  obtain ⟨⟨q, e1, e2, hO⟩, e4⟩ := hcell
  have eq : q = (RX6, TX6, 8) := Option.some.inj (e1.symm.trans cf5.1)
  subst eq
  obtain ⟨v1, r1, cf, kf, fi, f, ad1, cell1, k1, k2, k3, k4, k5, k6, k7, k8⟩ := hK.sx.2.2.2.2.2.2.2.1
  obtain ⟨v2, r2, cg, kg, gi, g, ad2, cell2, j1, j2, j3, j4, j5, j6, j7, j8⟩ := hK.sx.2.2.2.2.2.2.2.2
  have hne : ∀ {q : Nat} {cl : Cell}, G.2.2.2[q]? = some cl → q ≠ G.2.1 a := fun {q cl} hq e => by
    have h5 := (Array.getElem?_eq_some_iff.mp hq).1
    have h6 := hK.2.1 a ha
    omega
  have hnull : RfN Value.null := Or.inl rfl
  show W p l e R s m args below meth cd H locs _ _ Q (F0 m 9 lsa [])
  refine lv_aload_n hx hb dJ5_init_2_9 rfl l0 ?_
  refine W.gets hx hb hown (hts _ q516) k1 k2 k3 k4 (oldAt hH k5) (fun e => by rw [e] at k6; cases k6) k7 rfl dJ5_init_2_10 ?_
  refine rawPut (i := 1) hx hb hown hts hK ha (by decide) q548 r1 hL hO dJ5_init_2_13 fun H1 L1 hL1 hO1 z1 o1 => ?_
  refine lv_aload_n hx hb dJ5_init_2_16 rfl l0 ?_
  refine W.gets hx hb hown (hts _ q518) j1 j2 j3 j4 (by rw [o1 _ (hne j5)]; exact oldAt hH j5) (fun e => by rw [e] at j6; cases j6) j7 rfl dJ5_init_2_17 ?_
  refine rawPut (i := 2) hx hb hown hts hK ha (by decide) q549 r2 hL1 hO1 dJ5_init_2_20 fun H2 L2 hL2 hO2 z2 o2 => ?_
  refine lv_iload hx hb dJ5_init_2_23 l4 ?_
  refine lv_if_eq hx hb (tgt := 36) dJ5_init_2_25 rfl (fun _ => ?_) (fun e => absurd rfl e)
  refine lv_aload_n hx hb dJ5_init_2_36 rfl l0 ?_
  refine lv_null hx hb dJ5_init_2_37 ?_
  refine rawPut (i := 1) hx hb hown hts hK ha (by decide) q548 hnull hL2 hO2 dJ5_init_2_38 fun H3 L3 hL3 hO3 z3 o3 => ?_
  refine lv_aload_n hx hb dJ5_init_2_41 rfl l0 ?_
  refine lv_aload_nN hx hb dJ5_init_2_42 rfl l1 ?_
  refine rawPut (i := 3) hx hb hown hts hK ha (by decide) q546 hnull hL3 hO3 dJ5_init_2_43 fun H4 L4 hL4 hO4 z4 o4 => ?_
  refine lv_aload_n hx hb dJ5_init_2_46 rfl l0 ?_
  refine lv_aload_nN hx hb dJ5_init_2_47 rfl l2 ?_
  refine rawPut (i := 0) hx hb hown hts hK ha (by decide) q547 hnull hL4 hO4 dJ5_init_2_48 fun H5 L5 hL5 hO5 z5 o5 => ?_
  refine lv_iload_n hx hb dJ5_init_2_51 rfl l3 ?_
  refine lv_if_ne hx hb (tgt := 60) dJ5_init_2_52 rfl (fun e => absurd rfl e) (fun _ => ?_)
  refine lv_aload_n hx hb dJ5_init_2_55 rfl l0 ?_
  refine lv_null hx hb dJ5_init_2_56 ?_
  refine rawPut (i := 2) hx hb hown hts hK ha (by decide) q549 hnull hL5 hO5 dJ5_init_2_57 fun H6 L6 hL6 hO6 z6 o6 => ?_
  have hH6 : HeapOK G (sz, sl, t, up2 c1 a 0 (-1)) H6 := by
    refine hH.upd hK.1 (hK.2.1 a ha) (by omega) (fun q hq => by rw [o6 q hq, o5 q hq, o4 q hq, o3 q hq, o2 q hq, o1 q hq]) ?_
    rw [ht]
    refine ⟨fun _ => ⟨⟨_, cf5.1, rfl, ?_⟩, fun j hj => ?_⟩, fun h3 _ => absurd h3 (by decide)⟩
    · obtain ⟨cell, b1, b2, b3, b4⟩ := hO6
      refine ⟨cell, b1, b2, b3, fun j hj => ?_⟩
      rw [b4 j hj]
      congr 1
      show _ = vof G.2.1 (fty 5 j) (up2 c1 a 0 (-1) a j)
      rcases (by omega : j = 0 ∨ j = 1 ∨ j = 2 ∨ j = 3 ∨ 4 ≤ j) with e | e | e | e | e
      · subst e
        rw [up2_self]; rfl
      · subst e
        rw [up2_ne (fun q : a = a ∧ 1 = 0 => absurd q.2 (by decide)), h0.1]; rfl
      · subst e
        rw [up2_ne (fun q : a = a ∧ 2 = 0 => absurd q.2 (by decide)), h0.2.1]; rfl
      · subst e
        rw [up2_ne (fun q : a = a ∧ 3 = 0 => absurd q.2 (by decide)), h0.2.2]; rfl
      · rw [up2_ne (fun q : a = a ∧ j = 0 => by omega)]
        simp only [updV]
        rw [if_neg (by omega), if_neg (by omega), if_neg (by omega), if_neg (by omega), if_neg (by omega), if_neg (by omega)]
    · by_cases hj0 : j = 0
      · subst hj0
        rw [up2_self]; trivial
      · rw [up2_ne (fun q => hj0 q.2)]; exact e4 j hj
  exact h.2 hX h1 h2 hz0 hs0 H6 L6 lsa hH6 hL6 hl
theorem fpJ5_7 (nm : String) : FP RJ5 7 5 0 nm := ⟨_, _, _, cf5, by decide, q547, Or.inl rfl⟩
abbrev muJ6i : MI := (cJ6_init, RJ6, 5, none, 3, "<init>")
abbrev muJ7i : MI := (cJ7_init, RJ7, 5, none, 4, "<init>")
abbrev lsE (a : Nat) : List (Option Vv) := [some (2, (a : Int)), some (2, -1), some (2, -1), some (0, 0), some (0, 0)]
theorem kThr {a : Nat} {t : TT} {c0 : CC} (ha : kO ≤ a) (ht : t a = (5, 8)) (h0 : c0 a 0 = -1) (h1 : c0 a 1 = -1 ∧ c0 a 2 = -1 ∧ c0 a 3 = -1) : Ct G yJ5_init_2 muJ5i [(2, (a : Int)), (2, -1), (2, -1), (0, 0), (0, 0)] (sz, sl, t, c0) ((3, 0), (sz, sl, t, c0)) := by
  refine Ct.of (n := 0) (ls0 := lsE a) (by decide) rfl rfl ⟨show (none : Option FieldType) ≠ some .float by decide, show (none : Option FieldType) ≠ some .double by decide⟩ (Nat.le_of_ble_eq_true rfl) rfl ⟨Nat.le_refl _, Nat.le_refl _⟩ (show (3 : Nat) ≠ 9 by decide) (fun Γ => ?_)
  have body : Sm (some ()) (fun _ => True) (WP G Γ muJ5i ((3, 0), (sz, sl, t, c0)) 0 (lsE a) [] (sz, sl, t, c0)) := by
    refine s_aload_n (pc := 0) dJ5_init_2_0 rfl ?_
    refine s_objInit (pc := 1) (a := a) q515 q161 q162 rfl (by decide) (Nat.le_of_ble_eq_true rfl) dJ5_init_2_1 ?_
    refine s_aload_n (pc := 4) dJ5_init_2_4 rfl ?_
    refine s_aload_n (pc := 5) dJ5_init_2_5 rfl ?_
    refine s_put (pc := 6) (a := a) (fpJ5_7 _) ht rfl ha rfl rfl (by decide) dJ5_init_2_6 ?_
    refine Sm.some (fun _ => w_thrMid ha ht ⟨?_, ?_, ?_⟩ ?_)
    · rw [up2_ne (fun q => absurd q.2 (by decide))]; exact h1.1
    · rw [up2_ne (fun q => absurd q.2 (by decide))]; exact h1.2.1
    · rw [up2_ne (fun q => absurd q.2 (by decide))]; exact h1.2.2
    · have e : up2 (up2 c0 a 0 (a : Int)) a 0 (-1) = c0 := by
        funext b j
        by_cases hb : b = a ∧ j = 0
        · rw [hb.1, hb.2, up2_self, h0]
        · rw [up2_ne hb, up2_ne hb]
      rw [e]
      exact w_ret (v := (3, 0)) rfl rfl dJ5_init_2_60 (fun _ => rfl) (Nat.le_refl _) (fun _ => trivial)
  exact body () rfl trivial
theorem miJ6 : MIn RJ6 16 yJ5_init_2 muJ5i 4 := ⟨lw_meth q540, rfl, q136, q538, q539, rfl, by decide +kernel, by decide⟩
theorem miJ7 : MIn RJ7 16 yJ6_init muJ6i 4 := ⟨lw_meth q537, rfl, q137, q535, q536, rfl, by decide +kernel, by decide⟩
theorem miX6e : MIn RX6 1 yJ7_init muJ7i 4 := ⟨lw_meth q534, rfl, q138, q532, q533, rfl, by decide +kernel, by decide⟩
theorem kExc6 {a : Nat} {t : TT} {c0 : CC} (ha : kO ≤ a) (ht : t a = (5, 8)) (h0 : c0 a 0 = -1) (h1 : c0 a 1 = -1 ∧ c0 a 2 = -1 ∧ c0 a 3 = -1) : Ct G yJ6_init muJ6i [(2, (a : Int)), (2, -1), (2, -1), (0, 0), (0, 0)] (sz, sl, t, c0) ((3, 0), (sz, sl, t, c0)) := by
  refine Ct.of (n := 0) (ls0 := lsE a) (by decide) rfl rfl ⟨show (none : Option FieldType) ≠ some .float by decide, show (none : Option FieldType) ≠ some .double by decide⟩ (Nat.le_of_ble_eq_true rfl) rfl ⟨Nat.le_refl _, Nat.le_refl _⟩ (show (3 : Nat) ≠ 9 by decide) (fun Γ => ?_)
  have body : Sm (some ()) (fun _ => True) (WP G Γ muJ6i ((3, 0), (sz, sl, t, c0)) 0 (lsE a) [] (sz, sl, t, c0)) := by
    refine s_aload_n (pc := 0) dJ6_init_0 rfl ?_
    refine s_aload_n (pc := 1) dJ6_init_1 rfl ?_
    refine s_aload_n (pc := 2) dJ6_init_2 rfl ?_
    refine s_iload_n (pc := 3) dJ6_init_3 rfl ?_
    refine s_iload (pc := 4) dJ6_init_4 rfl ?_
    refine Sm.some (fun _ => w_callI (pc := 6) (as := [(2, -1), (2, -1), (0, 0), (0, 0)]) (st := []) (r' := ((3, 0), (sz, sl, t, c0))) miJ6 (by decide) rfl rfl (Nat.le_of_ble_eq_true rfl) (by show (3 : Nat) ≤ 3; decide) (kThr ha ht h0 h1) dJ6_init_6 ?_)
    exact w_ret (v := (3, 0)) rfl rfl dJ6_init_9 (fun _ => rfl) (Nat.le_refl _) (fun _ => trivial)
  exact body () rfl trivial
theorem kExc7 {a : Nat} {t : TT} {c0 : CC} (ha : kO ≤ a) (ht : t a = (5, 8)) (h0 : c0 a 0 = -1) (h1 : c0 a 1 = -1 ∧ c0 a 2 = -1 ∧ c0 a 3 = -1) : Ct G yJ7_init muJ7i [(2, (a : Int)), (2, -1), (2, -1), (0, 0), (0, 0)] (sz, sl, t, c0) ((3, 0), (sz, sl, t, c0)) := by
  refine Ct.of (n := 0) (ls0 := lsE a) (by decide) rfl rfl ⟨show (none : Option FieldType) ≠ some .float by decide, show (none : Option FieldType) ≠ some .double by decide⟩ (Nat.le_of_ble_eq_true rfl) rfl ⟨Nat.le_refl _, Nat.le_refl _⟩ (show (3 : Nat) ≠ 9 by decide) (fun Γ => ?_)
  have body : Sm (some ()) (fun _ => True) (WP G Γ muJ7i ((3, 0), (sz, sl, t, c0)) 0 (lsE a) [] (sz, sl, t, c0)) := by
    refine s_aload_n (pc := 0) dJ7_init_0 rfl ?_
    refine s_aload_n (pc := 1) dJ7_init_1 rfl ?_
    refine s_aload_n (pc := 2) dJ7_init_2 rfl ?_
    refine s_iload_n (pc := 3) dJ7_init_3 rfl ?_
    refine s_iload (pc := 4) dJ7_init_4 rfl ?_
    refine Sm.some (fun _ => w_callI (pc := 6) (as := [(2, -1), (2, -1), (0, 0), (0, 0)]) (st := []) (r' := ((3, 0), (sz, sl, t, c0))) miJ7 (by decide) rfl rfl (Nat.le_of_ble_eq_true rfl) (by show (3 : Nat) ≤ 3; decide) (kExc6 ha ht h0 h1) dJ7_init_6 ?_)
    exact w_ret (v := (3, 0)) rfl rfl dJ7_init_9 (fun _ => rfl) (Nat.le_refl _) (fun _ => trivial)
  exact body () rfl trivial
theorem s_excInit {z : Int} (hμ : μ.2.1 = RX6) (hdd : 5 ≤ μ.2.2.2.2.1) (hroom : (st.map (fun v : Vv => if v.1 = 1 then 2 else 1)).sum ≤ 8) (hd : decode μ.1 pc = .ok (.invokespecial 1, 3)) (h : Sm k post (WP G Γ μ r (pc + 3) ls st (sz, sl, tt td, cv c))) : Sm (gd (168 ≤ z ∧ tt td z.toNat = (5, 8) ∧ c z.toNat 0 = -1 ∧ c z.toNat 1 = -1 ∧ c z.toNat 2 = -1 ∧ c z.toNat 3 = -1) k) post (WP G Γ μ r pc ls ((0, 0) :: (0, 0) :: (2, -1) :: (2, -1) :: (2, z) :: st) (sz, sl, tt td, cv c)) :=
  h.gd (fun hR hw => by
    obtain ⟨b1, b2, b3⟩ := big_nat hR.1
    obtain ⟨-, h1, h2, h3, h4, h5⟩ := hR
    obtain ⟨a, rfl⟩ : ∃ a : Nat, z = (a : Int) := ⟨z.toNat, dyn_z b2⟩
    simp only [Int.toNat_natCast] at b1 b3 h1 h2 h3 h4 h5
    have hM : MIn μ.2.1 1 yJ7_init muJ7i 4 := by rw [hμ]; exact miX6e
    exact w_callI (as := [(2, -1), (2, -1), (0, 0), (0, 0)]) (r' := ((3, 0), (sz, sl, tt td, cv c))) hM (by show 4 + 1 ≤ _; exact hdd) rfl rfl hroom (by show (3 : Nat) ≤ 3; decide) (kExc7 b3 h1 (by rw [cv_dyn b1]; exact h2) ⟨by rw [cv_dyn b1]; exact h3, by rw [cv_dyn b1]; exact h4, by rw [cv_dyn b1]; exact h5⟩) hd hw)
end Exc
