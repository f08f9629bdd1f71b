/-! LAYER 1q: more rules over the layout: calls with the stack spelled out, rows of ways and held, references into fixed arrays -/
theorem ways_row : ∀ a : Nat, 58 ≤ a → a ≤ 88 → T0.getD a (99, 0) = (51, 24) := by
  intro a h1 h2
  obtain ⟨k, rfl⟩ : ∃ k : Fin 31, a = 58 + k.val := ⟨⟨a - 58, by omega⟩, by simp only; omega⟩
  exact (by decide +kernel : ∀ k : Fin 31, T0.getD (58 + k.val) (99, 0) = (51, 24)) k
theorem held_row : ∀ a : Nat, 93 ≤ a → a ≤ 98 → T0.getD a (99, 0) = (50, 24) := by
  intro a h1 h2
  obtain ⟨k, rfl⟩ : ∃ k : Fin 6, a = 93 + k.val := ⟨⟨a - 93, by omega⟩, by simp only; omega⟩
  exact (by decide +kernel : ∀ k : Fin 6, T0.getD (93 + k.val) (99, 0) = (50, 24)) k
theorem tt_fix {td : TT} {a : Nat} (h1 : 43 ≤ a) (h2 : a < 168) : tt td a = T0.getD a (99, 0) := if_pos ⟨h1, h2⟩
theorem sref_rows {a : Nat} (h : (58 ≤ a ∧ a ≤ 88) ∨ (93 ≤ a ∧ a ≤ 98)) (i : Nat) : sref a i = none := by
  unfold sref
  rw [if_neg (by omega), if_neg (by omega), if_neg (by omega), if_neg (by omega), if_neg (by omega), if_neg (by omega)]
def ushrI (a b : Int) : Int := ((i32 a).toUInt32 >>> ((i32 b).toUInt32 &&& Int32.toUInt32 31)).toInt32.toInt
section Over2
variable {G : GG} {Γ : Cx} {μ μy : MI} {r : Vv × Wd} {pc : Nat} {ls ls' : List (Option Vv)} {st st' : List Vv} {sz sl : Nat} {td : TT} {c : CC} {w : Wd} {x y : MethodName} {t : TT} {c0 : CC}
variable {X B : Type} {k k1 k2 : Option X} {post : X → Prop}
theorem s_iushr {a b : Int} (hd : decode μ.1 pc = .ok (.iushr, 1)) (h : Sm k post (WP G Γ μ r (pc + 1) ls ((0, ushrI a b) :: st) w)) : Sm k post (WP G Γ μ r pc ls ((0, b) :: (0, a) :: st) w) :=
  h.map (WP.pure (fun h2 _ => okc (oki (toInt_inR _)) (okt (okt h2))) (fun p l e R s m args below meth c Q cells slots H locs lsa hx hb _ _ _ _ kk => lv_iushr hx hb hd rfl (by have kk : W p l e R s m args below meth c H locs cells slots Q (F0 m (pc + 1) lsa (.int (i32 (ushrI a b)) :: st.map (dv G.2.1))) := kk; unfold ushrI at kk; rw [i32_of] at kk; exact kk)))
theorem s_lastW {z i v : Int} {kk : CC → Option X} (hd : decode μ.1 pc = .ok (.lastore, 1)) (h : ∀ c1, Sm (kk c1) post (WP G Γ μ r (pc + 1) ls st (sz, sl, tt td, cv c1))) : Sm (gd (58 ≤ z ∧ z ≤ 88 ∧ 0 ≤ i ∧ i < 24) (bd (up2 c z.toNat i.toNat v) kk)) post (WP G Γ μ r pc ls ((1, v) :: (0, i) :: (2, z) :: st) (sz, sl, tt td, cv c)) := by
  intro x0 hx0 hp
  by_cases hR : 58 ≤ z ∧ z ≤ 88 ∧ 0 ≤ i ∧ i < 24
  · rw [gd_pos hR] at hx0
    have h1 : 58 ≤ z.toNat ∧ z.toNat ≤ 88 := by omega
    refine s_last (n := 24) (by rw [tt_fix (by omega) (by omega)]; exact ways_row _ h1.1 h1.2) (dyn_z (by omega)) (by show 43 ≤ z.toNat; omega) (cv_up (sref_rows (Or.inl h1) _)) hd (h _) x0 ?_ hp
    rw [gd_pos (by omega)]
    exact hx0
  · rw [gd_neg hR] at hx0; cases hx0
theorem s_iastH {z i v : Int} {kk : CC → Option X} (hd : decode μ.1 pc = .ok (.iastore, 1)) (h : ∀ c1, Sm (kk c1) post (WP G Γ μ r (pc + 1) ls st (sz, sl, tt td, cv c1))) : Sm (gd (93 ≤ z ∧ z ≤ 98 ∧ 0 ≤ i ∧ i < 24) (bd (up2 c z.toNat i.toNat v) kk)) post (WP G Γ μ r pc ls ((0, v) :: (0, i) :: (2, z) :: st) (sz, sl, tt td, cv c)) := by
  intro x0 hx0 hp
  by_cases hR : 93 ≤ z ∧ z ≤ 98 ∧ 0 ≤ i ∧ i < 24
  · rw [gd_pos hR] at hx0
    have h1 : 93 ≤ z.toNat ∧ z.toNat ≤ 98 := by omega
    refine s_iast (n := 24) (by rw [tt_fix (by omega) (by omega)]; exact held_row _ h1.1 h1.2) (dyn_z (by omega)) (by show 43 ≤ z.toNat; omega) (cv_up (sref_rows (Or.inr h1) _)) hd (h _) x0 ?_ hp
    rw [gd_pos (by omega)]
    exact hx0
  · rw [gd_neg hR] at hx0; cases hx0
/-- an element of a fixed array of references -/
theorem s_aaldM {a n q : Nat} {z i : Int} (hq : q < 10) (hty : (aty q).isReference = true ∧ tgF (aty q) = 2) (ht : tt td a = (50 + q, n)) (hz : z = (a : Int)) (hd : decode μ.1 pc = .ok (.aaload, 1)) (h : Sm k post (WP G Γ μ r (pc + 1) ls ((2, cv c a i.toNat) :: st) (sz, sl, tt td, cv c))) : Sm (gd (0 ≤ i ∧ i < (n : Int)) k) post (WP G Γ μ r pc ls ((0, i) :: (2, z) :: st) (sz, sl, tt td, cv c)) := by
  refine h.gd (fun hR h => ?_)
  obtain ⟨p, l, e, R, s, m, args, below, meth, cd, Q, z0, s0⟩ := Γ
  subst hz
  refine ⟨h.1, fun hC h1 h2 hz0 hs0 H locs lsa hH hL hl => ?_⟩
  obtain ⟨hx, hb, hml, hown, hts, hK, -⟩ := id hC
  obtain ⟨-, e1, e2⟩ := hH.arr ht hq
  have hA := (hK.2.2.2.1 q (aty q) (kAr_at q hq)).1
  have hi : inR i := okh h2
  have hk := h.2 hC h1 (okc (okr _) (okt (okt h2))) hz0 hs0 H locs lsa hH hL hl
  show W p l e R s m args below meth cd H locs _ _ Q (F0 m pc lsa (.int (i32 i) :: rfv G.2.1 (a : Int) :: st.map (dv G.2.1)))
  rw [rfv_nat]
  refine W.aald (v := dv G.2.1 (2, cv c a i.toNat)) hx hb e1 (hA n _) hty.1 (fun q => by cases q) (by rw [arrV_size]; exact i32_inn hi hR) ?_ rfl rfl hd hk
  rw [i32_clamp hi hR.1, arrV_read _ _ (by omega)]
  refine congrArg some ?_
  show vof G.2.1 (aty q) (cv c a i.toNat) = _
  rw [vof_dv, hty.2]
/-- a reference into an array of references: null -/
theorem s_aastNM {a q n : Nat} {z i : Int} {kk : CC → Option X} (hq : q < 10) (hty : (∃ E, aty q = .object E) ∨ ∃ E, aty q = .array E) (ht : tt td a = (50 + q, n)) (hz : z = (a : Int)) (ha : kO ≤ a) (hs : ∀ j, sref a j = none) (hd : decode μ.1 pc = .ok (.aastore, 1)) (h : ∀ c1, Sm (kk c1) post (WP G Γ μ r (pc + 1) ls st (sz, sl, tt td, cv c1))) : Sm (gd (0 ≤ i ∧ i < (n : Int)) (bd (up2 c a i.toNat (-1)) kk)) post (WP G Γ μ r pc ls ((2, -1) :: (0, i) :: (2, z) :: st) (sz, sl, tt td, cv c)) :=
  Sm.gd (fun hR hw => w_aastN hq hty ht hz ha hR (by decide) (cv_up (hs _)) hd hw) (Sm.bd (h _))
/-- a sense into an array of senses -/
theorem s_aastSM {a n : Nat} {z i v : Int} {kk : CC → Option X} (hca : ∀ ci, 6 ≤ ci → ci ≤ 10 → ∃ C, (kCl[ci]?.map (fun q => q.1)) = some C ∧ PP (va_Nw (Cond.castable C RX7))) (ht : tt td a = (55, n)) (hz : z = (a : Int)) (ha : kO ≤ a) (hs : ∀ j, sref a j = none) (hd : decode μ.1 pc = .ok (.aastore, 1)) (h : ∀ c1, Sm (kk c1) post (WP G Γ μ r (pc + 1) ls st (sz, sl, tt td, cv c1))) : Sm (gd (0 ≤ i ∧ i < (n : Int) ∧ 0 ≤ v ∧ 6 ≤ (tt td v.toNat).1 ∧ (tt td v.toNat).1 ≤ 10) (bd (up2 c a i.toNat v) kk)) post (WP G Γ μ r pc ls ((2, v) :: (0, i) :: (2, z) :: st) (sz, sl, tt td, cv c)) :=
  Sm.gd (fun hR hw => by
    obtain ⟨C, e1, e2⟩ := hca _ hR.2.2.2.1 hR.2.2.2.2
    exact w_aastO (q := 5) (by decide) rfl ht hz ha ⟨hR.1, hR.2.1⟩ (dyn_z hR.2.2.1) (dyn_t rfl) e1 (Or.inl e2) (cv_up (hs _)) hd hw) (Sm.bd (h _))
theorem s_callVD {idx ci n : Nat} {C : String} {z : Int} {as : List Vv} {o : Option B} {kk : B → Option X} {rv : B → Vv × Wd} {st2 : List Vv} {st3 : B → List Vv} {w3 : B → Wd} (hM : MV μ.2.1 idx C y μy n) (hC : ∀ b, o = some b → Ct G y μy ((2, z) :: as) w (rv b)) (hst : as.reverse ++ (2, z) :: st = st2) (hdd : μy.2.2.2.2.1 + 1 ≤ μ.2.2.2.2.1) (hcl : (kCl[ci]?.map (fun q => q.1)) = some C) (hn : as.length = n) (hroom : (st.map (fun v : Vv => if v.1 = 1 then 2 else 1)).sum ≤ 8) (hrt : ∀ b, (rv b).1.1 ≤ 3) (h3 : ∀ b, rst (rv b).1 st = st3 b ∧ (rv b).2 = w3 b)
    (hd : decode μ.1 pc = .ok (.invokevirtual idx, 3)) (h : ∀ b, Sm (kk b) post (WP G Γ μ r (pc + 3) ls (st3 b) (w3 b))) : Sm (gd (0 ≤ z ∧ (w.2.2.1 z.toNat).1 = ci) (cl o kk)) post (WP G Γ μ r pc ls st2 w) := by
  intro x0 hx0 hp
  by_cases hR : 0 ≤ z ∧ (w.2.2.1 z.toNat).1 = ci
  · rw [gd_pos hR] at hx0
    exact s_callV3 hM hC hst hdd (dyn_t hR.2) hcl (dyn_z hR.1) hn hroom hrt h3 hd h x0 hx0 hp
  · rw [gd_neg hR] at hx0; cases hx0
theorem s_callSN3 {idx n : Nat} {as : List Vv} {o : Option B} {kk : B → Option X} {rv : B → Vv × Wd} {st2 : List Vv} {st3 : B → List Vv} {w3 : B → Wd} (hM : MSN μ.2.1 idx y μy n) (hC : ∀ b, o = some b → Ct G y μy as w (rv b)) (hst : as.reverse ++ st = st2) (hdd : μy.2.2.2.2.1 + 1 ≤ μ.2.2.2.2.1) (hn : as.length = n) (hroom : (st.map (fun v : Vv => if v.1 = 1 then 2 else 1)).sum ≤ 8) (hrt : ∀ b, (rv b).1.1 ≤ 3) (h3 : ∀ b, rst (rv b).1 st = st3 b ∧ (rv b).2 = w3 b)
    (hd : decode μ.1 pc = .ok (.invokestatic idx, 3)) (h : ∀ b, Sm (kk b) post (WP G Γ μ r (pc + 3) ls (st3 b) (w3 b))) : Sm (cl o kk) post (WP G Γ μ r pc ls st2 w) := by
  subst hst
  exact Sm.cl (fun b ho => (h b).map (fun hw => w_callSN hM hdd hn hroom (hrt b) (hC b ho) hd (by rw [(h3 b).1, (h3 b).2]; exact hw)))
theorem s_callI3 {idx n : Nat} {z : Int} {as : List Vv} {o : Option B} {kk : B → Option X} {rv : B → Vv × Wd} {st2 : List Vv} {st3 : B → List Vv} {w3 : B → Wd} (hM : MIn μ.2.1 idx y μy n) (hC : ∀ b, o = some b → Ct G y μy ((2, z) :: as) w (rv b)) (hst : as.reverse ++ (2, z) :: st = st2) (hdd : μy.2.2.2.2.1 + 1 ≤ μ.2.2.2.2.1) (hn : as.length = n) (hroom : (st.map (fun v : Vv => if v.1 = 1 then 2 else 1)).sum ≤ 8) (hrt : ∀ b, (rv b).1.1 ≤ 3) (h3 : ∀ b, rst (rv b).1 st = st3 b ∧ (rv b).2 = w3 b)
    (hd : decode μ.1 pc = .ok (.invokespecial idx, 3)) (h : ∀ b, Sm (kk b) post (WP G Γ μ r (pc + 3) ls (st3 b) (w3 b))) : Sm (gd (0 ≤ z) (cl o kk)) post (WP G Γ μ r pc ls st2 w) := by
  subst hst
  intro x0 hx0 hp
  by_cases hR : 0 ≤ z
  · rw [gd_pos hR] at hx0
    exact Sm.cl (fun b ho => (h b).map (fun hw => w_callI hM hdd (dyn_z hR) hn hroom (hrt b) (hC b ho) hd (by rw [(h3 b).1, (h3 b).2]; exact hw))) x0 hx0 hp
  · rw [gd_neg hR] at hx0; cases hx0
theorem s_callIN3 {idx n : Nat} {z : Int} {as : List Vv} {o : Option B} {kk : B → Option X} {rv : B → Vv × Wd} {st2 : List Vv} {st3 : B → List Vv} {w3 : B → Wd} (hM : MInN μ.2.1 idx y μy n) (hC : ∀ b, o = some b → Ct G y μy ((2, z) :: as) w (rv b)) (hst : as.reverse ++ (2, z) :: st = st2) (hdd : μy.2.2.2.2.1 + 1 ≤ μ.2.2.2.2.1) (hn : as.length = n) (hroom : (st.map (fun v : Vv => if v.1 = 1 then 2 else 1)).sum ≤ 8) (hrt : ∀ b, (rv b).1.1 ≤ 3) (h3 : ∀ b, rst (rv b).1 st = st3 b ∧ (rv b).2 = w3 b)
    (hd : decode μ.1 pc = .ok (.invokespecial idx, 3)) (h : ∀ b, Sm (kk b) post (WP G Γ μ r (pc + 3) ls (st3 b) (w3 b))) : Sm (gd (0 ≤ z) (cl o kk)) post (WP G Γ μ r pc ls st2 w) := by
  subst hst
  intro x0 hx0 hp
  by_cases hR : 0 ≤ z
  · rw [gd_pos hR] at hx0
    exact Sm.cl (fun b ho => (h b).map (fun hw => w_callIN hM hdd (dyn_z hR) hn hroom (hrt b) (hC b ho) hd (by rw [(h3 b).1, (h3 b).2]; exact hw))) x0 hx0 hp
  · rw [gd_neg hR] at hx0; cases hx0
/-- a call in a method that may throw: the callee's answer may be a thrown object (kind 9), which goes on up -/
theorem s_callVT {idx ci n : Nat} {C : String} {z : Int} {as : List Vv} {o : Option B} {kk : B → Option X} {rv : B → Vv × Wd} {ex : B → X} {st2 : List Vv} {st3 : B → List Vv} {w3 : B → Wd} {isT : B → Prop} [DecidablePred isT] (hM : MV μ.2.1 idx C y μy n) (hC : ∀ b, o = some b → ¬ isT b → Ct G y μy ((2, z) :: as) w (rv b)) (hT : ∀ b, o = some b → isT b → CtX G y μy ((2, z) :: as) w (rv b)) (hst : as.reverse ++ (2, z) :: st = st2) (hdd : μy.2.2.2.2.1 + 1 ≤ μ.2.2.2.2.1) (hcl : (kCl[ci]?.map (fun q => q.1)) = some C) (hn : as.length = n) (hroom : (st.map (fun v : Vv => if v.1 = 1 then 2 else 1)).sum ≤ 8) (hrt : ∀ b, ¬ isT b → (rv b).1.1 ≤ 3) (hrt9 : ∀ b, isT b → (rv b).1.1 = 9) (hex : ∀ b, isT b → post (ex b) → r = rv b) (h3 : ∀ b, ¬ isT b → rst (rv b).1 st = st3 b ∧ (rv b).2 = w3 b)
    (hd : decode μ.1 pc = .ok (.invokevirtual idx, 3)) (h : ∀ b, Sm (kk b) post (WP G Γ μ r (pc + 3) ls (st3 b) (w3 b))) : Sm (gd (0 ≤ z ∧ (w.2.2.1 z.toNat).1 = ci) (cl o fun b => if isT b then some (ex b) else kk b)) post (WP G Γ μ r pc ls st2 w) := by
  subst hst
  intro x0 hx0 hp
  by_cases hR : 0 ≤ z ∧ (w.2.2.1 z.toNat).1 = ci
  · rw [gd_pos hR] at hx0
    refine Sm.cl (fun b ho => Sm.ite (fun hb => Sm.some (fun hq => ?_)) (fun hb => (h b).map (fun hw => ?_))) x0 hx0 hp
    · have e := hex b hb hq
      subst e
      exact w_callVT hM hdd (dyn_t hR.2) hcl (dyn_z hR.1) hn hroom (hrt9 b hb) (hT b ho hb) hd
    · exact w_callV hM hdd (dyn_t hR.2) hcl (dyn_z hR.1) hn hroom (hrt b hb) (hC b ho hb) hd (by rw [(h3 b hb).1, (h3 b hb).2]; exact hw)
  · rw [gd_neg hR] at hx0; cases hx0
theorem s_getNL {idx ci i a N tg : Nat} {z v : Int} (hf : FLNf μ.2.1 idx ci i) (ht : t a = (ci, N)) (hz : z = (a : Int)) (hv : c0 a i = v) (htg : tgF (fty ci i) = tg) (hd : decode μ.1 pc = .ok (.getfield idx, 3)) (h : Sm k post (WP G Γ μ r (pc + 3) ls ((tg, v) :: st) (sz, sl, t, c0))) : Sm k post (WP G Γ μ r pc ls ((2, z) :: st) (sz, sl, t, c0)) :=
  h.map (w_getN hf ht hz hv htg hd)
theorem s_astoreD {i : Nat} {z : Int} (hd : decode μ.1 pc = .ok (.astore i, 2)) (hls : stoL ls i (2, z) = ls') (hi : i < μ.2.2.1) (h : Sm k post (WP G Γ μ r (pc + 2) ls' st w)) : Sm k post (WP G Γ μ r pc ls ((2, z) :: st) w) :=
  h.map (WP.store (fun _ _ _ => trivial) hls (fun p l e R s m args below meth c Q cells slots H locs lsa hx hb hl kk => by
    have key : ∀ ls' : Array Slot, lv_has ls' μ.2.2.1 ((i, rfv G.2.1 z) :: (lvl G.2.1 0 ls).filter (fun q => !(q.1 == i) && !(q.1 + 1 == i && q.2.category == 2))) → lvOK G.2.1 ls' μ.2.2.1 (stoL ls i (2, z)) := fun ls' h' => lvOK.sto1 (v := (2, z)) (tg2 z) h'
    show W p l e R s m args below meth c H locs cells slots Q (F0 m pc lsa (rfv G.2.1 z :: st.map (dv G.2.1)))
    rcases rfv_cases G.2.1 z with q | ⟨x, q⟩
    · rw [q] at key ⊢; exact lv_astoreN hx hb hd hl.has hi rfl (fun ls' h' => kk ls' (key ls' h'))
    · rw [q] at key ⊢; exact lv_astore hx hb hd hl.has hi rfl (fun ls' h' => kk ls' (key ls' h'))))
theorem s_astore_nD {i : Fin 4} {z : Int} (hd : decode μ.1 pc = .ok (.astore_n i, 1)) (hls : stoL ls (i : Nat) (2, z) = ls') (hi : (i : Nat) < μ.2.2.1) (h : Sm k post (WP G Γ μ r (pc + 1) ls' st w)) : Sm k post (WP G Γ μ r pc ls ((2, z) :: st) w) :=
  h.map (WP.store (fun _ _ _ => trivial) hls (fun p l e R s m args below meth c Q cells slots H locs lsa hx hb hl kk => by
    have key : ∀ ls' : Array Slot, lv_has ls' μ.2.2.1 (((i : Nat), rfv G.2.1 z) :: (lvl G.2.1 0 ls).filter (fun q => !(q.1 == (i : Nat)) && !(q.1 + 1 == (i : Nat) && q.2.category == 2))) → lvOK G.2.1 ls' μ.2.2.1 (stoL ls (i : Nat) (2, z)) := fun ls' h' => lvOK.sto1 (v := (2, z)) (tg2 z) h'
    show W p l e R s m args below meth c H locs cells slots Q (F0 m pc lsa (rfv G.2.1 z :: st.map (dv G.2.1)))
    rcases rfv_cases G.2.1 z with q | ⟨x, q⟩
    · rw [q] at key ⊢; exact lv_astore_nN hx hb hd rfl hl.has hi rfl (fun ls' h' => kk ls' (key ls' h'))
    · rw [q] at key ⊢; exact lv_astore_n hx hb hd rfl hl.has hi rfl (fun ls' h' => kk ls' (key ls' h'))))
end Over2
