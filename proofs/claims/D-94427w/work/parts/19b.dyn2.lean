/-! LAYER 1i: references that are not numerals: fields, arrays; fields of a nest mate; arrays of references -/
theorem PP.nwF {a : String} {i : Nat} {b n d h : String} (hm : Cond.fieldLinkNest a i b n d h ∈ lw_tbl) : PP (va_Nw (Cond.fieldLinkNest a i b n d h)) :=
  ⟨fun s U hW hz => va_Nw.warmF hW hz, fun U g mk a hz => va_Nw.same rfl (u := U) rfl hz, fun s0 b0 ht _ => va_Nw.of rfl (ht _ hm)⟩
theorem PP.nwM {a : String} {i : Nat} {x : MethodName} {h : String} (hm : Cond.methodLinkNest a i x h ∈ lw_tbl) : PP (va_Nw (Cond.methodLinkNest a i x h)) :=
  ⟨fun s U hW hz => va_Nw.warmM hW hz, fun U g mk a hz => va_Nw.same rfl (u := U) rfl hz, fun s0 b0 ht _ => va_Nw.of rfl (ht _ hm)⟩
theorem PP.nwC {C T : String} (hm : Cond.castable C T ∈ lw_tbl) : PP (va_Nw (Cond.castable C T)) :=
  ⟨fun s U hW hz => va_Nw.warmC hW hz, fun U g mk a hz => va_Nw.same rfl (u := U) rfl hz, fun s0 b0 ht _ => va_Nw.of rfl (ht _ hm)⟩
theorem PP.nwD {x : MethodName} (hm : Cond.declares x ∈ lw_tbl) : PP (va_Nw (Cond.declares x)) :=
  ⟨fun s U hW hz => va_Nw.warmD hW hz, fun U g mk a hz => va_Nw.same rfl (u := U) rfl hz, fun s0 b0 ht _ => va_Nw.of rfl (ht _ hm)⟩
theorem PP.ao {C : String} (hm : Cond.arrayOver (.object C) ∈ lw_tbl) : PP (va_AO C) :=
  ⟨fun s U hW hz => va_AO.moved hW.alike hz, fun U g mk a hz => va_AO.moved (u := U) (Vm.Alike.refl U.vm) hz, fun s0 b0 ht _ => va_AO.of (ht _ hm)⟩
theorem PP.fw {C : String} {x y : MethodName} (hx : x.cls ≠ "java/lang/invoke/MethodHandle" ∧ x.cls ≠ "java/lang/invoke/VarHandle") (h1 : Cond.declares x ∈ lw_tbl) (h2 : Cond.interfaceMethod x.cls x.cls x.name x.desc ∈ lw_tbl) (h3 : Cond.publicMethod y ∈ lw_tbl) (h4 : Cond.unhidden C x.name x.desc ∈ lw_tbl) (h5 : Cond.castable C x.cls ∈ lw_tbl) : PP (va_Fw C x y) :=
  ⟨fun s U hW hz => va_Fw.moved hx hW.alike hz, fun U g mk a hz => va_Fw.moved hx (u := U) (Vm.Alike.refl U.vm) hz, fun s0 b0 ht _ => va_Fw.of (ht _ h1) (ht _ h2) (ht _ h3) (ht _ h4) (ht _ h5)⟩
/-- a nest mate's field by its pool entry -/
def FLN (own : String) (idx ci i : Nat) : Prop := ∃ (C : String) (T : u_T) (N : Nat) (host : String), CF ci C T N ∧ i < N ∧ PP (va_Nw (Cond.fieldLinkNest own idx (T i).1 (T i).2.1 (T i).2.2.1 host)) ∧ (T i).2.2.2 = false
def FLNf (own : String) (idx ci i : Nat) : Prop := ∃ (C : String) (T : u_T) (N : Nat) (host : String), CF ci C T N ∧ i < N ∧ PP (va_Nw (Cond.fieldLinkNest own idx (T i).1 (T i).2.1 (T i).2.2.1 host))
theorem FLN.f {own : String} {idx ci i : Nat} (h : FLN own idx ci i) : FLNf own idx ci i := by
  obtain ⟨C, T, N, host, a, b, c, -⟩ := h
  exact ⟨C, T, N, host, a, b, c⟩
section DynR
variable {G : GG} {Γ : Cx} {μ : MI} {r : Vv × Wd} {pc : Nat} {ls ls' : List (Option Vv)} {st st' : List Vv} {sz sl : Nat} {t : TT} {c0 c1 : CC}
variable {X : Type} {k k1 k2 : Option X} {post : X → Prop}
theorem w_getN {idx ci i a N tg : Nat} {z v : Int} (hf : FLNf μ.2.1 idx ci i) (ht : t a = (ci, N)) (hz : z = (a : Int)) (hv : c0 a i = v) (htg : tgF (fty ci i) = tg) (hd : decode μ.1 pc = .ok (.getfield idx, 3)) (h : WP G Γ μ r (pc + 3) ls ((tg, v) :: st) (sz, sl, t, c0)) : WP G Γ μ r pc ls ((2, z) :: st) (sz, sl, t, c0) := by
  obtain ⟨C, T, N', host, hcf, hi, hq⟩ := hf
  obtain ⟨p, l, e, R, s, m, args, below, meth, c, Q, z0, s0⟩ := Γ
  subst hv; subst htg; subst hz
  refine ⟨h.1, fun hC h1 h2 hz0 hs0 H locs lsa hH hL hl => ?_⟩
  obtain ⟨hx, hb, hml, hown, hts, hK, -⟩ := id hC
  have hcell := (hH.1 a).1 (by show (t a).1 < 50; rw [ht]; exact hcf.2.2.2.2)
  have hcell : objOK G H a ci N (c0 a) := by
    have q : objOK G H a (t a).1 (t a).2 (c0 a) := hcell
    rw [ht] at q; exact q
  obtain ⟨⟨q, e1, e2, cell, g1, g2, g3, g4⟩, e4⟩ := hcell
  have eq : q = (C, T, N') := Option.some.inj (e1.symm.trans hcf.1)
  subst eq
  have eN : N' = N := e2
  subst eN
  obtain ⟨hS, hfc, kC, hkC, hkind⟩ := hK.2.2.1 ci _ hcf.1
  obtain ⟨cf, kf, fi, f, hfi, hsl⟩ := hS i hi
  have hk := h.2 hC h1 (okc (rok_okv (e4 i hi)) (okt h2)) hz0 hs0 H locs lsa hH hL hl
  have hnw : va_Nw (Cond.fieldLinkNest μ.2.1 idx (T i).1 (T i).2.1 (T i).2.2.1 host) s := hK.2.2.2.2.2 _ hq
  show W p l e R s m args below meth c H locs _ _ Q (F0 m pc lsa (rfv G.2.1 (a : Int) :: st.map (dv G.2.1)))
  rw [rfv_nat]
  refine va_Wgetf hx hb hown (va_Nw.use rfl hnw) hfi (u_facts hfc hkC (u_lays hts hcf.2.1 hi) hfi).1 g1 (by rw [g3]; exact fun h => by cases h) (v := dv G.2.1 (tgF (fty ci i), c0 a i)) ?_ rfl rfl hd hk
  rw [hsl, g4 i hi]
  exact congrArg some (vof_dv _ _ _)
theorem w_putN {idx ci i a N tg : Nat} {z v : Int} (hf : FLN μ.2.1 idx ci i) (ht : t a = (ci, N)) (hz : z = (a : Int)) (ha : kO ≤ a) (hc : up2 c0 a i v = c1) (htg : tgF (fty ci i) = tg) (hr : okv (tg, v) → rok (fty ci i) v) (hd : decode μ.1 pc = .ok (.putfield idx, 3)) (h : WP G Γ μ r (pc + 3) ls st (sz, sl, t, c1)) : WP G Γ μ r pc ls ((tg, v) :: (2, z) :: st) (sz, sl, t, c0) := by
  obtain ⟨C, T, N', host, hcf, hi, hq, hfin⟩ := hf
  obtain ⟨p, l, e, R, s, m, args, below, meth, c, Q, z0, s0⟩ := Γ
  subst hc; subst htg; subst hz
  refine ⟨h.1, fun hC h1 h2 hz0 hs0 H locs lsa hH hL hl => ?_⟩
  obtain ⟨hx, hb, hml, hown, hts, hK, hnm, -⟩ := id hC
  have hcell := (hH.1 a).1 (by show (t a).1 < 50; rw [ht]; exact hcf.2.2.2.2)
  have hcell : objOK G H a ci N (c0 a) := by
    have q : objOK G H a (t a).1 (t a).2 (c0 a) := hcell
    rw [ht] at q; exact q
  obtain ⟨⟨q, e1, e2, cell, g1, g2, g3, g4⟩, e4⟩ := hcell
  have eq : q = (C, T, N') := Option.some.inj (e1.symm.trans hcf.1)
  subst eq
  have eN : N' = N := e2
  subst eN
  obtain ⟨hS, hfc, kC, hkC, hkind⟩ := hK.2.2.1 ci _ hcf.1
  obtain ⟨cf, kf, fi, f, hfi, hsl⟩ := hS i hi
  have hrok : rok (fty ci i) v := hr (okh h2)
  obtain ⟨hn, hfit⟩ := rok_fits (ad := G.2.1) (fty_nf hcf hi) hrok
  have hst := (u_facts hfc hkC (u_lays hts hcf.2.1 hi) hfi).1
  have hnw : va_Nw (Cond.fieldLinkNest μ.2.1 idx (T i).1 (T i).2.1 (T i).2.2.1 host) s := hK.2.2.2.2.2 _ hq
  have hap : ∀ x y, x < N' → y < N' → x ≠ y → (G.1.2 ci) x ≠ (G.1.2 ci) y := by
    intro x y hx' hy' hne
    obtain ⟨_, _, _, fa, hia, ea⟩ := hS x hx'
    obtain ⟨_, _, _, fb, hib, eb⟩ := hS y hy'
    rw [← ea, ← eb]
    refine u_apart (u_lays hts hcf.2.1 hx') (u_lays hts hcf.2.1 hy') hia hib ?_
    rw [(State.fieldFound?_type hia (hcf.2.2.1 x hx')).1, (State.fieldFound?_type hib (hcf.2.2.1 y hy')).1]
    exact hcf.2.2.2.1 x hx' y hy' hne
  have hend : ∀ (H' : Heap), H'[G.2.1 a]? = some (cell.setSlot f.slot (vof G.2.1 (fty ci i) v)) → H'.size = H.size → (∀ q, q ≠ G.2.1 a → H'[q]? = H[q]?) → HeapOK G (sz, sl, t, up2 c0 a i v) H' := by
    intro H' f1 f2 f3
    refine hH.upd hK.1 (hK.2.1 a ha) f2 f3 ?_
    rw [ht]
    refine ⟨fun _ => ⟨⟨_, hcf.1, rfl, cell.setSlot f.slot (vof G.2.1 (fty ci i) v), f1, g2, g3, ?_⟩, fun k hk => ?_⟩, fun h3 _ => absurd h3 (by have := hcf.2.2.2.2; show ¬ 50 ≤ ci; omega)⟩
    · rw [hsl]
      intro k hk
      have hh := t_set g4 hap hi (vof G.2.1 (fty ci i) v) k hk
      rw [hh]
      by_cases hki : k = i
      · subst hki
        simp only [updV, if_pos, up2_self]
      · simp only [updV, if_neg hki, up2_ne (fun q : a = a ∧ k = i => hki q.2)]
    · by_cases hki : k = i
      · subst hki
        rw [up2_self]; exact hrok
      · rw [up2_ne (fun q => hki q.2)]; exact e4 k hk
  have hlocs : ∀ q ∈ locs ++ [⟨G.2.1 a, f.slot⟩], G.2.2.2.size ≤ q.base := by
    intro q hq'
    rcases List.mem_append.mp hq' with h3 | h3
    · exact hL q h3
    · rw [List.mem_singleton.mp h3]; exact hK.2.1 a ha
  show W p l e R s m args below meth c H locs _ _ Q (F0 m pc lsa (dv G.2.1 (tgF (fty ci i), v) :: rfv G.2.1 (a : Int) :: st.map (dv G.2.1)))
  rw [rfv_nat, ← vof_dv]
  have hlay := hts _ (hcf.2.1 _ (u_in_lay hi))
  unfold u_lay at hlay
  rw [if_neg (by rw [hfin]; decide)] at hlay
  have h6 := u_store hfc hkC hkind hlay hfi (hcf.2.2.1 i hi) hn hfit
  refine va_WputK hx hb (f := f) hown (va_Nw.use rfl hnw) hfi hst (by rw [g2]; exact h6) g1 g3 (by rw [hsl]; exact k2_hasslot (g4 i hi)) rfl rfl hd fun H' f1 f2 f3 => ?_
  exact h.2 hC h1 (okt (okt h2)) hz0 hs0 H' _ lsa (hend H' f1 f2 f3) hlocs hl
/-- the object at a reference, by its kind -/
theorem dyn_t {z : Int} {ci : Nat} (h : (t z.toNat).1 = ci) : t z.toNat = (ci, (t z.toNat).2) := by rw [← h]
theorem dyn_z {z : Int} (h : 0 ≤ z) : z = (z.toNat : Int) := (Int.toNat_of_nonneg h).symm
theorem s_getD {idx ci i tg : Nat} {z : Int} (hf : FL μ.2.1 idx ci i) (htg : tgF (fty ci i) = tg) (hd : decode μ.1 pc = .ok (.getfield idx, 3)) (h : Sm k post (WP G Γ μ r (pc + 3) ls ((tg, c0 z.toNat i) :: st) (sz, sl, t, c0))) : Sm (gd (0 ≤ z ∧ (t z.toNat).1 = ci) k) post (WP G Γ μ r pc ls ((2, z) :: st) (sz, sl, t, c0)) :=
  h.gd (fun hR => w_get hf (dyn_t hR.2) (dyn_z hR.1) rfl htg hd)
theorem s_getDN {idx ci i tg : Nat} {z : Int} (hf : FLNf μ.2.1 idx ci i) (htg : tgF (fty ci i) = tg) (hd : decode μ.1 pc = .ok (.getfield idx, 3)) (h : Sm k post (WP G Γ μ r (pc + 3) ls ((tg, c0 z.toNat i) :: st) (sz, sl, t, c0))) : Sm (gd (0 ≤ z ∧ (t z.toNat).1 = ci) k) post (WP G Γ μ r pc ls ((2, z) :: st) (sz, sl, t, c0)) :=
  h.gd (fun hR => w_getN hf (dyn_t hR.2) (dyn_z hR.1) rfl htg hd)
/-- a field of Sense, whatever kind of sense it is -/
theorem s_getS {idx i : Nat} {z : Int} (hf : ∀ ci, 6 ≤ ci → ci ≤ 10 → FL μ.2.1 idx ci i ∧ tgF (fty ci i) = 0) (hd : decode μ.1 pc = .ok (.getfield idx, 3)) (h : Sm k post (WP G Γ μ r (pc + 3) ls ((0, c0 z.toNat i) :: st) (sz, sl, t, c0))) : Sm (gd (0 ≤ z ∧ 6 ≤ (t z.toNat).1 ∧ (t z.toNat).1 ≤ 10) k) post (WP G Γ μ r pc ls ((2, z) :: st) (sz, sl, t, c0)) :=
  h.gd (fun hR => w_get (hf _ hR.2.1 hR.2.2).1 (dyn_t rfl) (dyn_z hR.1) rfl (hf _ hR.2.1 hR.2.2).2 hd)
theorem s_alenD {q : Nat} {z : Int} (hq : q < 10) (hd : decode μ.1 pc = .ok (.arraylength, 1)) (h : Sm k post (WP G Γ μ r (pc + 1) ls ((0, ((t z.toNat).2 : Int)) :: st) (sz, sl, t, c0))) : Sm (gd (0 ≤ z ∧ (t z.toNat).1 = 50 + q ∧ (t z.toNat).2 < 2147483648) k) post (WP G Γ μ r pc ls ((2, z) :: st) (sz, sl, t, c0)) := by
  intro x hx hp
  by_cases hR : 0 ≤ z ∧ (t z.toNat).1 = 50 + q ∧ (t z.toNat).2 < 2147483648
  · rw [gd_pos hR] at hx
    exact s_alen (dyn_t hR.2.1) hq (dyn_z hR.1) hR.2.2 hd h x hx hp
  · rw [gd_neg hR] at hx; cases hx
end DynR
section DynA
variable {G : GG} {Γ : Cx} {μ : MI} {r : Vv × Wd} {pc : Nat} {ls ls' : List (Option Vv)} {st st' : List Vv} {sz sl : Nat} {t : TT} {c0 c1 : CC}
variable {X : Type} {k k1 k2 : Option X} {post : X → Prop}
theorem s_ialdD {z i : Int} (hd : decode μ.1 pc = .ok (.iaload, 1)) (h : Sm k post (WP G Γ μ r (pc + 1) ls ((0, c0 z.toNat i.toNat) :: st) (sz, sl, t, c0))) : Sm (gd (0 ≤ z ∧ (t z.toNat).1 = 50 ∧ 0 ≤ i ∧ i < ((t z.toNat).2 : Int)) k) post (WP G Γ μ r pc ls ((0, i) :: (2, z) :: st) (sz, sl, t, c0)) := by
  intro x hx hp
  by_cases hR : 0 ≤ z ∧ (t z.toNat).1 = 50 ∧ 0 ≤ i ∧ i < ((t z.toNat).2 : Int)
  · rw [gd_pos hR] at hx
    refine s_iald (dyn_t hR.2.1) (dyn_z hR.1) hd h x ?_ hp
    rw [gd_pos hR.2.2]
    exact hx
  · rw [gd_neg hR] at hx; cases hx
theorem s_laldD {z i : Int} (hd : decode μ.1 pc = .ok (.laload, 1)) (h : Sm k post (WP G Γ μ r (pc + 1) ls ((1, c0 z.toNat i.toNat) :: st) (sz, sl, t, c0))) : Sm (gd (0 ≤ z ∧ (t z.toNat).1 = 51 ∧ 0 ≤ i ∧ i < ((t z.toNat).2 : Int)) k) post (WP G Γ μ r pc ls ((0, i) :: (2, z) :: st) (sz, sl, t, c0)) := by
  intro x hx hp
  by_cases hR : 0 ≤ z ∧ (t z.toNat).1 = 51 ∧ 0 ≤ i ∧ i < ((t z.toNat).2 : Int)
  · rw [gd_pos hR] at hx
    refine s_lald (dyn_t hR.2.1) (dyn_z hR.1) hd h x ?_ hp
    rw [gd_pos hR.2.2]
    exact hx
  · rw [gd_neg hR] at hx; cases hx
theorem s_baldD {z i : Int} (hd : decode μ.1 pc = .ok (.baload, 1)) (h : Sm k post (WP G Γ μ r (pc + 1) ls ((0, c0 z.toNat i.toNat) :: st) (sz, sl, t, c0))) : Sm (gd (0 ≤ z ∧ (t z.toNat).1 = 52 ∧ 0 ≤ i ∧ i < ((t z.toNat).2 : Int)) k) post (WP G Γ μ r pc ls ((0, i) :: (2, z) :: st) (sz, sl, t, c0)) := by
  intro x hx hp
  by_cases hR : 0 ≤ z ∧ (t z.toNat).1 = 52 ∧ 0 ≤ i ∧ i < ((t z.toNat).2 : Int)
  · rw [gd_pos hR] at hx
    refine s_bald (dyn_t hR.2.1) (dyn_z hR.1) hd h x ?_ hp
    rw [gd_pos hR.2.2]
    exact hx
  · rw [gd_neg hR] at hx; cases hx
theorem s_zaldD {z i : Int} (hd : decode μ.1 pc = .ok (.baload, 1)) (h : Sm k post (WP G Γ μ r (pc + 1) ls ((0, c0 z.toNat i.toNat) :: st) (sz, sl, t, c0))) : Sm (gd (0 ≤ z ∧ (t z.toNat).1 = 53 ∧ 0 ≤ i ∧ i < ((t z.toNat).2 : Int)) k) post (WP G Γ μ r pc ls ((0, i) :: (2, z) :: st) (sz, sl, t, c0)) := by
  intro x hx hp
  by_cases hR : 0 ≤ z ∧ (t z.toNat).1 = 53 ∧ 0 ≤ i ∧ i < ((t z.toNat).2 : Int)
  · rw [gd_pos hR] at hx
    refine s_zald (dyn_t hR.2.1) (dyn_z hR.1) hd h x ?_ hp
    rw [gd_pos hR.2.2]
    exact hx
  · rw [gd_neg hR] at hx; cases hx
theorem s_aald4D {z i : Int} (hd : decode μ.1 pc = .ok (.aaload, 1)) (h : Sm k post (WP G Γ μ r (pc + 1) ls ((2, c0 z.toNat i.toNat) :: st) (sz, sl, t, c0))) : Sm (gd (0 ≤ z ∧ (t z.toNat).1 = 54 ∧ 0 ≤ i ∧ i < ((t z.toNat).2 : Int)) k) post (WP G Γ μ r pc ls ((0, i) :: (2, z) :: st) (sz, sl, t, c0)) := by
  intro x hx hp
  by_cases hR : 0 ≤ z ∧ (t z.toNat).1 = 54 ∧ 0 ≤ i ∧ i < ((t z.toNat).2 : Int)
  · rw [gd_pos hR] at hx
    refine s_aald4 (dyn_t hR.2.1) (dyn_z hR.1) hd h x ?_ hp
    rw [gd_pos hR.2.2]
    exact hx
  · rw [gd_neg hR] at hx; cases hx
theorem s_aald5D {z i : Int} (hd : decode μ.1 pc = .ok (.aaload, 1)) (h : Sm k post (WP G Γ μ r (pc + 1) ls ((2, c0 z.toNat i.toNat) :: st) (sz, sl, t, c0))) : Sm (gd (0 ≤ z ∧ (t z.toNat).1 = 55 ∧ 0 ≤ i ∧ i < ((t z.toNat).2 : Int)) k) post (WP G Γ μ r pc ls ((0, i) :: (2, z) :: st) (sz, sl, t, c0)) := by
  intro x hx hp
  by_cases hR : 0 ≤ z ∧ (t z.toNat).1 = 55 ∧ 0 ≤ i ∧ i < ((t z.toNat).2 : Int)
  · rw [gd_pos hR] at hx
    refine s_aald5 (dyn_t hR.2.1) (dyn_z hR.1) hd h x ?_ hp
    rw [gd_pos hR.2.2]
    exact hx
  · rw [gd_neg hR] at hx; cases hx
theorem s_aald6D {z i : Int} (hd : decode μ.1 pc = .ok (.aaload, 1)) (h : Sm k post (WP G Γ μ r (pc + 1) ls ((2, c0 z.toNat i.toNat) :: st) (sz, sl, t, c0))) : Sm (gd (0 ≤ z ∧ (t z.toNat).1 = 56 ∧ 0 ≤ i ∧ i < ((t z.toNat).2 : Int)) k) post (WP G Γ μ r pc ls ((0, i) :: (2, z) :: st) (sz, sl, t, c0)) := by
  intro x hx hp
  by_cases hR : 0 ≤ z ∧ (t z.toNat).1 = 56 ∧ 0 ≤ i ∧ i < ((t z.toNat).2 : Int)
  · rw [gd_pos hR] at hx
    refine s_aald6 (dyn_t hR.2.1) (dyn_z hR.1) hd h x ?_ hp
    rw [gd_pos hR.2.2]
    exact hx
  · rw [gd_neg hR] at hx; cases hx
theorem s_aald7D {z i : Int} (hd : decode μ.1 pc = .ok (.aaload, 1)) (h : Sm k post (WP G Γ μ r (pc + 1) ls ((2, c0 z.toNat i.toNat) :: st) (sz, sl, t, c0))) : Sm (gd (0 ≤ z ∧ (t z.toNat).1 = 57 ∧ 0 ≤ i ∧ i < ((t z.toNat).2 : Int)) k) post (WP G Γ μ r pc ls ((0, i) :: (2, z) :: st) (sz, sl, t, c0)) := by
  intro x hx hp
  by_cases hR : 0 ≤ z ∧ (t z.toNat).1 = 57 ∧ 0 ≤ i ∧ i < ((t z.toNat).2 : Int)
  · rw [gd_pos hR] at hx
    refine s_aald7 (dyn_t hR.2.1) (dyn_z hR.1) hd h x ?_ hp
    rw [gd_pos hR.2.2]
    exact hx
  · rw [gd_neg hR] at hx; cases hx
theorem s_aald8D {z i : Int} (hd : decode μ.1 pc = .ok (.aaload, 1)) (h : Sm k post (WP G Γ μ r (pc + 1) ls ((2, c0 z.toNat i.toNat) :: st) (sz, sl, t, c0))) : Sm (gd (0 ≤ z ∧ (t z.toNat).1 = 58 ∧ 0 ≤ i ∧ i < ((t z.toNat).2 : Int)) k) post (WP G Γ μ r pc ls ((0, i) :: (2, z) :: st) (sz, sl, t, c0)) := by
  intro x hx hp
  by_cases hR : 0 ≤ z ∧ (t z.toNat).1 = 58 ∧ 0 ≤ i ∧ i < ((t z.toNat).2 : Int)
  · rw [gd_pos hR] at hx
    refine s_aald8 (dyn_t hR.2.1) (dyn_z hR.1) hd h x ?_ hp
    rw [gd_pos hR.2.2]
    exact hx
  · rw [gd_neg hR] at hx; cases hx
theorem s_aald9D {z i : Int} (hd : decode μ.1 pc = .ok (.aaload, 1)) (h : Sm k post (WP G Γ μ r (pc + 1) ls ((2, c0 z.toNat i.toNat) :: st) (sz, sl, t, c0))) : Sm (gd (0 ≤ z ∧ (t z.toNat).1 = 59 ∧ 0 ≤ i ∧ i < ((t z.toNat).2 : Int)) k) post (WP G Γ μ r pc ls ((0, i) :: (2, z) :: st) (sz, sl, t, c0)) := by
  intro x hx hp
  by_cases hR : 0 ≤ z ∧ (t z.toNat).1 = 59 ∧ 0 ≤ i ∧ i < ((t z.toNat).2 : Int)
  · rw [gd_pos hR] at hx
    refine s_aald9 (dyn_t hR.2.1) (dyn_z hR.1) hd h x ?_ hp
    rw [gd_pos hR.2.2]
    exact hx
  · rw [gd_neg hR] at hx; cases hx
end DynA
