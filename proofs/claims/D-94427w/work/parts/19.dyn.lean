/-! LAYER 1h: new cells; references that are not numerals -/
def upT (t : TT) (a : Nat) (p : Nat × Nat) : TT := fun b => if b = a then p else t b
def dz (ty : FieldType) : Int := match ty with
  | .object _ => -1
  | .array _ => -1
  | _ => 0
def dfl (code i : Nat) : Int := if code < 50 then dz (fty code i) else dz (aty (code - 50))
def zc (c : CC) (a code : Nat) : CC := fun b i => if b = a then dfl code i else c b i
theorem upT_self (t : TT) (a : Nat) (p : Nat × Nat) : upT t a p a = p := if_pos rfl
theorem upT_ne {t : TT} {a b : Nat} {p : Nat × Nat} (h : b ≠ a) : upT t a p b = t b := if_neg h
theorem zc_self (c : CC) (a code : Nat) : zc c a code a = dfl code := by
  funext i
  exact if_pos rfl
theorem zc_ne {c : CC} {a b code : Nat} (h : b ≠ a) : zc c a code b = c b := by
  funext i
  exact if_neg h
theorem dz_vof (ad : Nat → Nat) (ty : FieldType) (hf : ty ≠ .float ∧ ty ≠ .double) : vof ad ty (dz ty) = defaultValue ty := by
  cases ty <;> first | rfl | exact absurd rfl hf.1 | exact absurd rfl hf.2
theorem dz_rok (ty : FieldType) : rok ty (dz ty) := by
  cases ty <;> simp only [rok, dz] <;> first | trivial | decide
theorem HeapOK.lt {G : GG} {sz sl : Nat} {t : TT} {c : CC} {H : Heap} (h : HeapOK G (sz, sl, t, c) H) {b : Nat} (hb : (t b).1 < 99) : b < sz ∧ G.2.1 b < H.size := by
  have h1 : b < sz := by
    rcases Nat.lt_or_ge b sz with q | q
    · exact q
    · have := h.2.2.1 b q
      have e : t b = (99, 0) := this
      rw [e] at hb
      exact absurd hb (by decide)
  refine ⟨h1, ?_⟩
  by_cases h5 : (t b).1 < 50
  · obtain ⟨⟨q, -, -, cell, g1, -⟩, -⟩ := (h.1 b).1 h5
    exact (Array.getElem?_eq_some_iff.mp g1).1
  · obtain ⟨-, e1, -⟩ := (h.1 b).2 (Nat.le_of_not_lt h5) hb
    exact (Array.getElem?_eq_some_iff.mp e1).1
theorem HeapOK.new {G : GG} {sz sl n code : Nat} {t : TT} {c : CC} {H H' : Heap} (h : HeapOK G (sz, sl, t, c) H) (hs : H'.size = H.size + 1) (ho : ∀ q, q < H.size → H'[q]? = H[q]?) (hc : cellOK G H' sz (code, n) (dfl code)) : HeapOK G (sz + 1, sl + n, upT t sz (code, n), zc c sz code) H' := by
  refine ⟨fun b => ?_, fun j => ?_, fun b hb => ?_, by rw [hs]; exact Nat.le_succ_of_le h.2.2.2.1, fun q hq => (ho q (Nat.lt_of_lt_of_le hq h.2.2.2.1)).trans (h.2.2.2.2 q hq)⟩
  · by_cases hb : b = sz
    · subst hb
      show cellOK G H' b (upT t b (code, n) b) (zc c b code b)
      rw [upT_self, zc_self]
      exact hc
    · show cellOK G H' b (upT t sz (code, n) b) (zc c sz code b)
      rw [upT_ne hb, zc_ne hb]
      have hcell := h.1 b
      refine ⟨fun h1 => ?_, fun h1 h2 => ?_⟩
      · have hlt := (h.lt (b := b) (by have : (t b).1 < 50 := h1; omega)).2
        obtain ⟨⟨q, e1, e2, e3⟩, e4⟩ := hcell.1 h1
        exact ⟨⟨q, e1, e2, e3.kept (ho _ hlt)⟩, e4⟩
      · have hlt := (h.lt (b := b) h2).2
        obtain ⟨e0, e1, e2⟩ := hcell.2 h1 h2
        exact ⟨e0, (ho _ hlt).trans e1, e2⟩
  · show G.2.1 (sz + 1 + j) = H'.size + j
    have := h.2.1 (1 + j)
    have e : G.2.1 (sz + (1 + j)) = H.size + (1 + j) := this
    rw [hs, Nat.add_assoc, e, Nat.add_assoc]
  · have hb : sz + 1 ≤ b := hb
    show upT t sz (code, n) b = (99, 0)
    rw [upT_ne (by omega)]
    exact h.2.2.1 b (show sz ≤ b by omega)
theorem aty_nf (k : Nat) (h : k < 10) : aty k ≠ .float ∧ aty k ≠ .double := (by decide +kernel : ∀ k : Fin 10, aty k.val ≠ .float ∧ aty k.val ≠ .double) ⟨k, h⟩
theorem kAr_at (q : Nat) (hq : q < 10) : kAr[q]? = some (aty q) := (by decide +kernel : ∀ q : Fin 10, kAr[q.val]? = some (aty q.val)) ⟨q, hq⟩
theorem arr_born {G : GG} {H' : Heap} {sz k n : Nat} (hk : k < 10) (e1 : H'[G.2.1 sz]? = some (arrV (G.2.2.1 k) n (fun _ => defaultValue (aty k)))) : cellOK G H' sz (50 + k, n) (dfl (50 + k)) := by
  refine ⟨fun h => absurd h (by show ¬ 50 + k < 50; omega), fun _ _ => ?_⟩
  have e : 50 + k - 50 = k := by omega
  show arrOK G H' sz (50 + k - 50) n (dfl (50 + k))
  have ed : ∀ j, dfl (50 + k) j = dz (aty k) := by
    intro j
    unfold dfl
    rw [if_neg (by omega), e]
  rw [e]
  refine ⟨hk, ?_, fun j hj => by rw [ed]; exact dz_rok _⟩
  rw [e1]
  congr 2
  funext j
  rw [ed, dz_vof _ _ (aty_nf k hk)]
section NewR
variable {G : GG} {Γ : Cx} {μ : MI} {r : Vv × Wd} {pc : Nat} {ls ls' : List (Option Vv)} {st st' : List Vv} {sz sl : Nat} {t : TT} {c0 c1 : CC}
variable {X : Type} {k k1 k2 : Option X} {post : X → Prop}
theorem w_newa {n : Int} {at0 : ArrayType} {q : Nat} (hn : 0 ≤ n ∧ n ≤ 100000) (hq : q < 10) (hty : newarray.typeOf at0 = aty q) (hw : Cond.arrayClass (newarray.typeOf at0) ∈ lw_all) (hb8 : componentBytes (newarray.typeOf at0) ≤ 8) (hRA : ∀ U cA, va_RA U cA (aty q) → U.vm.findClass ("[" ++ (aty q).toString) = some cA) (hd : decode μ.1 pc = .ok (.newarray at0, 2))
    (h : WP G Γ μ r (pc + 2) ls ((2, (sz : Int)) :: st) (sz + 1, sl + n.toNat, upT t sz (50 + q, n.toNat), zc c0 sz (50 + q))) : WP G Γ μ r pc ls ((0, n) :: st) (sz, sl, t, c0) := by
  obtain ⟨p, l, e, R, s, m, args, below, meth, c, Q, z0, s0⟩ := Γ
  have hm := h.1
  have hm1 : sz + 1 ≤ r.2.1 := hm.1
  have hm2 : sl + n.toNat ≤ r.2.2.1 := hm.2
  refine ⟨⟨by show sz ≤ r.2.1; omega, by show sl ≤ r.2.2.1; omega⟩, fun hC h1 h2 hz0 hs0 H locs lsa hH hL hl => ?_⟩
  obtain ⟨hx, hb, hml, hown, hts, hK, hnm, ⟨hR1, hR2, hR3, hR4⟩, -⟩ := id hC
  have hz0 : z0 ≤ sz := hz0
  have hs0 : s0 ≤ sl := hs0
  have hin : inR n := okh h2
  have had : G.2.1 sz = H.size := by have := hH.2.1 0; simpa using this
  show W p l e R s m args below meth c H locs (sz - z0) (sl - s0) Q (F0 m pc lsa (.int (i32 n) :: st.map (dv G.2.1)))
  refine W.newa hx hb (hts _ hw) rfl hd rfl (fun q => by have := (i32_lt hin (show inR 0 by decide)).mp q; omega) (by
    rw [i32_clamp hin hn.1]
    have : n.toNat * componentBytes (newarray.typeOf at0) ≤ 100000 * 8 := Nat.mul_le_mul (by omega) hb8
    omega) (by omega) (by rw [i32_clamp hin hn.1]; omega) (fun cA kA comp f1 f2 f3 => ?_)
  rw [i32_clamp hin hn.1]
  have hcA : cA = G.2.2.1 q := by
    have h5 := hRA s _ (hK.2.2.2.1 q (aty q) (kAr_at q hq)).2
    rw [← hty] at h5
    exact Option.some.inj (f1.symm.trans h5)
  generalize hH1 : H.push ({ cls := cA, slots := Array.replicate n.toNat (defaultValue (newarray.typeOf at0)), vm := .none } : Cell) = H1
  have z1 : H1.size = H.size + 1 := by rw [← hH1, Array.size_push]
  have o1 : ∀ q, q < H.size → H1[q]? = H[q]? := fun q hq => by rw [← hH1, Array.getElem?_push_lt hq, Array.getElem?_eq_getElem hq]
  have e1 : H1[G.2.1 sz]? = some (arrV (G.2.2.1 q) n.toNat (fun _ => defaultValue (aty q))) := by
    rw [had, ← hH1, Array.getElem?_push_size, ← hcA, ← hty, ← arrV_new]
  have hH' : HeapOK G (sz + 1, sl + n.toNat, upT t sz (50 + q, n.toNat), zc c0 sz (50 + q)) H1 := hH.new z1 o1 (arr_born hq e1)
  have hk := h.2 hC h1 (okc (okr _) (okt h2)) (show z0 ≤ sz + 1 by omega) (show s0 ≤ sl + n.toNat by omega) H1 locs lsa hH' hL hl
  have hk : W p l e R s m args below meth c H1 locs (sz + 1 - z0) (sl + n.toNat - s0) Q (F0 m (pc + 2) lsa (rfv G.2.1 (sz : Int) :: st.map (dv G.2.1))) := hk
  rw [rfv_nat, had] at hk
  exact W.cs (by omega) (by omega) hk
theorem w_new {ci N idx : Nat} {C : String} {T : u_T} (hcf : CF ci C T N) (hl1 : Cond.classLink μ.2.1 idx C ∈ lw_all) (hl2 : Cond.instantiable C N ∈ lw_all) (hl3 : Cond.initialized C ∈ lw_all) (hd : decode μ.1 pc = .ok (.new idx, 3))
    (h : WP G Γ μ r (pc + 3) ls ((2, (sz : Int)) :: st) (sz + 1, sl + N, upT t sz (ci, N), zc c0 sz ci)) : WP G Γ μ r pc ls st (sz, sl, t, c0) := by
  obtain ⟨p, l, e, R, s, m, args, below, meth, c, Q, z0, s0⟩ := Γ
  have hm := h.1
  have hm1 : sz + 1 ≤ r.2.1 := hm.1
  have hm2 : sl + N ≤ r.2.2.1 := hm.2
  refine ⟨⟨by show sz ≤ r.2.1; omega, by show sl ≤ r.2.2.1; omega⟩, fun hC h1 h2 hz0 hs0 H locs lsa hH hL hl => ?_⟩
  obtain ⟨hx, hb, hml, hown, hts, hK, hnm, ⟨hR1, hR2, hR3, hR4⟩, -⟩ := id hC
  have hz0 : z0 ≤ sz := hz0
  have hs0 : s0 ≤ sl := hs0
  have had : G.2.1 sz = H.size := by have := hH.2.1 0; simpa using this
  have hKn := hK.2.2.1 ci _ hcf.1
  show W p l e R s m args below meth c H locs (sz - z0) (sl - s0) Q (F0 m pc lsa (st.map (dv G.2.1)))
  refine W.newcK hx hb hown (hts _ hl1) (hts _ hl2) (hts _ hl3) rfl hd (by omega) (by omega) hKn.2.1 rfl fun H1 kC hkC e1 z1 o1 => ?_
  have hb := u_born (fty ci) hts hcf.2.1 hKn hkC e1 hcf.2.2.1
  have hcell : cellOK G H1 sz (ci, N) (dfl ci) := by
    have h50 := hcf.2.2.2.2
    have ed : ∀ j, dfl ci j = dz (fty ci j) := by
      intro j
      unfold dfl
      rw [if_pos h50]
    refine ⟨fun _ => ⟨⟨_, hcf.1, rfl, ?_⟩, fun k hk => by rw [ed]; exact dz_rok _⟩, fun h => absurd h (by show ¬ 50 ≤ ci; omega)⟩
    rw [had]
    exact hb.to (fun k hk => by rw [ed, dz_vof _ _ (fty_nf hcf hk)])
  have hH' : HeapOK G (sz + 1, sl + N, upT t sz (ci, N), zc c0 sz ci) H1 := hH.new z1 o1 hcell
  have hk := h.2 hC h1 (okc (okr _) h2) (show z0 ≤ sz + 1 by omega) (show s0 ≤ sl + N by omega) H1 locs lsa hH' hL hl
  have hk : W p l e R s m args below meth c H1 locs (sz + 1 - z0) (sl + N - s0) Q (F0 m (pc + 3) lsa (rfv G.2.1 (sz : Int) :: st.map (dv G.2.1))) := hk
  rw [rfv_nat, had] at hk
  exact W.cs (by omega) (by omega) hk
end NewR
