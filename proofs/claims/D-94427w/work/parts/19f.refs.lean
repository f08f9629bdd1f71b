/-! LAYER 1m: arrays of references: made, written; casts -/
theorem PP.aov {ty : FieldType} (hm : Cond.arrayOver ty ∈ lw_tbl) : PP (fun U => (Cond.arrayOver ty).before #[] U = true) :=
  ⟨fun s U hW hz => by
    have h1 := Cond.arrayOver_setVmC (args := #[]) (s := s) hW.alike ty
    have h2 : (Cond.arrayOver ty).before #[] (s.setVm U.vm) = true := h1.trans hz
    exact h2, fun U g mk a hz => hz, fun s0 b ht _ => ht _ hm⟩
theorem arr_null {G : GG} {H H1 : Heap} {sz k n : Nat} {cA : ClassId} (hk : k < 10) (hty : dz (aty k) = -1) (had : G.2.1 sz = H.size) (hcA : cA = G.2.2.1 k) (hH1 : H.push ({ cls := cA, slots := Array.replicate n .null, vm := .none } : Cell) = H1) : cellOK G H1 sz (50 + k, n) (dfl (50 + k)) := by
  refine arr_born hk ?_
  have e0 : defaultValue (aty k) = .null := by
    have := dz_vof G.2.1 (aty k) (aty_nf k hk)
    rw [hty] at this
    rw [← this]
    cases h : aty k <;> rw [h] at hty <;> first | rfl | exact absurd hty (by decide)
  rw [had, ← hH1, Array.getElem?_push_size, ← hcA, e0, ← arrV_new]
section RefR
variable {G : GG} {Γ : Cx} {μ : MI} {r : Vv × Wd} {pc : Nat} {ls ls' : List (Option Vv)} {st st' : List Vv} {sz sl : Nat} {t : TT} {c0 c1 : CC}
variable {X : Type} {k k1 k2 : Option X} {post : X → Prop}
theorem w_anew {n : Int} {idx q : Nat} {C : String} (hn : 0 ≤ n ∧ n ≤ 100000) (hq : q < 10) (hty : aty q = .object C) (hl1 : Cond.classLink μ.2.1 idx C ∈ lw_all) (hao : PP (fun U => (Cond.arrayOver (.object C)).before #[] U = true)) (hd : decode μ.1 pc = .ok (.anewarray idx, 3))
    (h : WP G Γ μ r (pc + 3) ls ((2, (sz : Int)) :: st) (sz + 1, sl + n.toNat, upT t sz (50 + q, n.toNat), zc c0 sz (50 + q))) : WP G Γ μ r pc ls ((0, n) :: st) (sz, sl, t, c0) := by
  obtain ⟨p, l, e, R, s, m, args, below, meth, c, Q, z0, s0⟩ := Γ
  have hm := h.1
  have hm1 : sz + 1 ≤ r.2.1 := hm.1
  have hm2 : sl + n.toNat ≤ r.2.2.1 := hm.2
  refine ⟨⟨by show sz ≤ r.2.1; omega, by show sl ≤ r.2.2.1; omega⟩, fun hC h1 h2 hz0 hs0 H locs lsa hH hL hl => ?_⟩
  obtain ⟨hx, hb, hml, hown, hts, hK, hnm, ⟨hR1, hR2, hR3, hR4⟩, -⟩ := id hC
  have hz0 : z0 ≤ sz := hz0
  have hs0 : s0 ≤ sl := hs0
  have hin : inR n := okh h2
  have had : G.2.1 sz = H.size := by have := hH.2.1 0; simpa using this
  have hov : (Cond.arrayOver (.object C)).before #[] s = true := hK.2.2.2.2.2 _ hao
  show W p l e R s m args below meth c H locs (sz - z0) (sl - s0) Q (F0 m pc lsa (.int (i32 n) :: st.map (dv G.2.1)))
  refine W.anew hx hb hown (hts _ hl1) hov rfl hd rfl (fun q => by have := (i32_lt hin (show inR 0 by decide)).mp q; omega) (by
    rw [i32_clamp hin hn.1]
    omega) (by omega) (by rw [i32_clamp hin hn.1]; omega) (fun cA kA comp f1 f2 f3 f4 => ?_)
  rw [i32_clamp hin hn.1]
  have hcA : cA = G.2.2.1 q := by
    have h5 := (hK.2.2.2.1 q (aty q) (kAr_at q hq)).2
    rw [hty] at h5
    obtain ⟨_, _, _, _, _, h6⟩ := h5
    exact Option.some.inj (f1.symm.trans h6)
  generalize hH1 : H.push ({ cls := cA, slots := Array.replicate n.toNat .null, vm := .none } : Cell) = H1
  have z1 : H1.size = H.size + 1 := by rw [← hH1, Array.size_push]
  have o1 : ∀ q, q < H.size → H1[q]? = H[q]? := fun q hq => by rw [← hH1, Array.getElem?_push_lt hq, Array.getElem?_eq_getElem hq]
  have hH' : HeapOK G (sz + 1, sl + n.toNat, upT t sz (50 + q, n.toNat), zc c0 sz (50 + q)) H1 := hH.new z1 o1 (arr_null hq (by rw [hty]; rfl) had hcA hH1)
  have hk := h.2 hC h1 (okc (okr _) (okt h2)) (show z0 ≤ sz + 1 by omega) (show s0 ≤ sl + n.toNat by omega) H1 locs lsa hH' hL hl
  have hk : W p l e R s m args below meth c H1 locs (sz + 1 - z0) (sl + n.toNat - s0) Q (F0 m (pc + 3) lsa (rfv G.2.1 (sz : Int) :: st.map (dv G.2.1))) := hk
  rw [rfv_nat, had] at hk
  exact W.cs (by omega) (by omega) hk
theorem w_anewA {n : Int} {idx q : Nat} {ty : FieldType} (hn : 0 ≤ n ∧ n ≤ 100000) (hq : q < 10) (hty : aty q = .array ty) (hl1 : Cond.classLink μ.2.1 idx (FieldType.array ty).toString ∈ lw_all) (hao : PP (fun U => (Cond.arrayOver (.array ty)).before #[] U = true)) (hd : decode μ.1 pc = .ok (.anewarray idx, 3))
    (h : WP G Γ μ r (pc + 3) ls ((2, (sz : Int)) :: st) (sz + 1, sl + n.toNat, upT t sz (50 + q, n.toNat), zc c0 sz (50 + q))) : WP G Γ μ r pc ls ((0, n) :: st) (sz, sl, t, c0) := by
  obtain ⟨p, l, e, R, s, m, args, below, meth, c, Q, z0, s0⟩ := Γ
  have hm := h.1
  have hm1 : sz + 1 ≤ r.2.1 := hm.1
  have hm2 : sl + n.toNat ≤ r.2.2.1 := hm.2
  refine ⟨⟨by show sz ≤ r.2.1; omega, by show sl ≤ r.2.2.1; omega⟩, fun hC h1 h2 hz0 hs0 H locs lsa hH hL hl => ?_⟩
  obtain ⟨hx, hb, hml, hown, hts, hK, hnm, ⟨hR1, hR2, hR3, hR4⟩, -⟩ := id hC
  have hz0 : z0 ≤ sz := hz0
  have hs0 : s0 ≤ sl := hs0
  have hin : inR n := okh h2
  have had : G.2.1 sz = H.size := by have := hH.2.1 0; simpa using this
  have hov : (Cond.arrayOver (.array ty)).before #[] s = true := hK.2.2.2.2.2 _ hao
  show W p l e R s m args below meth c H locs (sz - z0) (sl - s0) Q (F0 m pc lsa (.int (i32 n) :: st.map (dv G.2.1)))
  refine W.anewA hx hb hown (hts _ hl1) hov rfl hd rfl (fun q => by have := (i32_lt hin (show inR 0 by decide)).mp q; omega) (by
    rw [i32_clamp hin hn.1]
    omega) (by omega) (by rw [i32_clamp hin hn.1]; omega) (fun cA kA comp f1 f2 f3 f4 => ?_)
  rw [i32_clamp hin hn.1]
  have hcA : cA = G.2.2.1 q := by
    have h5 := (hK.2.2.2.1 q (aty q) (kAr_at q hq)).2
    rw [hty] at h5
    have h6 : s.vm.findClass ("[" ++ (FieldType.array ty).toString) = some (G.2.2.1 q) := h5
    exact Option.some.inj (f1.symm.trans h6)
  generalize hH1 : H.push ({ cls := cA, slots := Array.replicate n.toNat .null, vm := .none } : Cell) = H1
  have z1 : H1.size = H.size + 1 := by rw [← hH1, Array.size_push]
  have o1 : ∀ q, q < H.size → H1[q]? = H[q]? := fun q hq => by rw [← hH1, Array.getElem?_push_lt hq, Array.getElem?_eq_getElem hq]
  have hH' : HeapOK G (sz + 1, sl + n.toNat, upT t sz (50 + q, n.toNat), zc c0 sz (50 + q)) H1 := hH.new z1 o1 (arr_null hq (by rw [hty]; rfl) had hcA hH1)
  have hk := h.2 hC h1 (okc (okr _) (okt h2)) (show z0 ≤ sz + 1 by omega) (show s0 ≤ sl + n.toNat by omega) H1 locs lsa hH' hL hl
  have hk : W p l e R s m args below meth c H1 locs (sz + 1 - z0) (sl + n.toNat - s0) Q (F0 m (pc + 3) lsa (rfv G.2.1 (sz : Int) :: st.map (dv G.2.1))) := hk
  rw [rfv_nat, had] at hk
  exact W.cs (by omega) (by omega) hk
theorem locs1 {a i : Nat} {s : State} {locs : List Loc} (hK : Kn G s) (ha : kO ≤ a) (hL : ∀ q ∈ locs, G.2.2.2.size ≤ q.base) : ∀ q ∈ locs ++ [⟨G.2.1 a, i⟩], G.2.2.2.size ≤ q.base := by
  intro q hq'
  rcases List.mem_append.mp hq' with h3 | h3
  · exact hL q h3
  · rw [List.mem_singleton.mp h3]; exact hK.2.1 a ha
/-- an object into an array of a kind that it can be cast to -/
theorem w_aastO {a q n b ci N : Nat} {z i v : Int} {C E : String} (hq : q < 10) (hty : aty q = .object E) (ht : t a = (50 + q, n)) (hz : z = (a : Int)) (ha : kO ≤ a) (hi : 0 ≤ i ∧ i < (n : Int)) (hv : v = (b : Int)) (htb : t b = (ci, N)) (hcl : (kCl[ci]?.map (fun q => q.1)) = some C) (hca : PP (va_Nw (Cond.castable C E)) ∨ C = E) (hc : up2 c0 a i.toNat v = c1) (hd : decode μ.1 pc = .ok (.aastore, 1)) (h : WP G Γ μ r (pc + 1) ls st (sz, sl, t, c1)) : WP G Γ μ r pc ls ((2, v) :: (0, i) :: (2, z) :: st) (sz, sl, t, c0) := by
  obtain ⟨p, l, e, R, s, m, args, below, meth, c, Q, z0, s0⟩ := Γ
  subst hz; subst hc; subst hv
  refine ⟨h.1, fun hC h1 h2 hz0 hs0 H locs lsa hH hL hl => ?_⟩
  obtain ⟨hx, hb, hml, hown, hts, hK, -⟩ := id hC
  obtain ⟨-, e1, e2⟩ := hH.arr ht hq
  have hinr : inR i := ok2 h2
  have hRA := (hK.2.2.2.1 q (aty q) (kAr_at q hq)).2
  rw [hty] at hRA
  obtain ⟨kA, comp, y1, y2, y3, -⟩ := hRA
  obtain ⟨kE, hkE, -⟩ := Vm.findClass_spec y3
  obtain ⟨cellV, g1, g3, g2⟩ := recvOK (w := (sz, sl, t, c0)) hK hH htb hcl
  have f3 : s.vm.assignable cellV.cls comp = true := by
    rcases hca with hca | hca
    · have hcaN : va_Nw (Cond.castable C E) s := hK.2.2.2.2.2 _ hca
      obtain ⟨cc0, t1, f1, f2, f3⟩ := Cond.castable_spec (va_Nw.use (A := args) rfl hcaN)
      cases y3.symm.trans f2
      have hcc0 : cc0 = cellV.cls := Option.some.inj (f1.symm.trans g2)
      subst hcc0
      exact f3
    · subst hca
      cases y3.symm.trans g2
      show Vm.assignableAux s.vm (255 + 1) cellV.cls cellV.cls = true
      unfold Vm.assignableAux
      simp
  obtain ⟨kC, hkC, -⟩ := Vm.findClass_spec g2
  show W p l e R s m args below meth c H locs _ _ Q (F0 m pc lsa (rfv G.2.1 (b : Int) :: .int (i32 i) :: rfv G.2.1 (a : Int) :: st.map (dv G.2.1)))
  rw [rfv_nat, rfv_nat]
  refine W.aast hx hb e1 (fun q h => by cases h) (fun h => by cases h) y1 y2 rfl hkE ⟨fun q => by have := (i32_lt hinr (show inR 0 by decide)).mp q; omega, by rw [arrV_size, i32_clamp hinr hi.1]; omega⟩ g1 (fun q h => by rw [h] at g3; cases g3) hkC f3 rfl rfl hd fun H' w1 w2 w3 => ?_
  refine h.2 hC h1 (okt (okt (okt h2))) hz0 hs0 H' _ lsa (hH.aset (q := q) hK.1 (hK.2.1 a ha) ht hq (by rw [hty]; trivial) w2 w3 ?_) (locs1 hK ha hL) hl
  rw [w1, i32_clamp hinr hi.1, hty]
  show some ((arrV _ _ _).setSlot _ (Value.ref _)) = some ((arrV _ _ _).setSlot _ (rfv G.2.1 (b : Int)))
  rw [rfv_nat]
end RefR
