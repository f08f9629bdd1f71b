/-! LAYER 1e: fields, arrays -/
def up2 (c : CC) (a i : Nat) (v : Int) : CC := fun b j => if b = a ∧ j = i then v else c b j
theorem up2_self (c : CC) (a i : Nat) (v : Int) : up2 c a i v a i = v := if_pos ⟨rfl, rfl⟩
theorem up2_ne {c : CC} {a i b j : Nat} {v : Int} (h : ¬ (b = a ∧ j = i)) : up2 c a i v b j = c b j := if_neg h
theorem up2_off {c : CC} {a i b : Nat} {v : Int} (h : b ≠ a) : up2 c a i v b = c b := by
  funext j
  exact if_neg (fun q => h q.1)
theorem HeapOK.upd {G : GG} {sz sl : Nat} {t : TT} {c : CC} {H H' : Heap} {a i : Nat} {v : Int} (h : HeapOK G (sz, sl, t, c) H) (hinj : ∀ a b, G.2.2.2.size ≤ G.2.1 a → G.2.1 a = G.2.1 b → a = b) (hB : G.2.2.2.size ≤ G.2.1 a) (hs : H'.size = H.size) (ho : ∀ q, q ≠ G.2.1 a → H'[q]? = H[q]?)
    (hc : cellOK G H' a (t a) (up2 c a i v a)) : HeapOK G (sz, sl, t, up2 c a i v) H' := by
  refine ⟨fun b => ?_, fun j => by rw [hs]; exact h.2.1 j, h.2.2.1, by rw [hs]; exact h.2.2.2.1, fun q hq => (ho q (by omega)).trans (h.2.2.2.2 q hq)⟩
  by_cases hb : b = a
  · subst hb; exact hc
  · have hq : H'[G.2.1 b]? = H[G.2.1 b]? := ho _ (fun q => hb (hinj _ _ hB q.symm).symm)
    have hcell := h.1 b
    show cellOK G H' b (t b) (up2 c a i v b)
    rw [up2_off hb]
    refine ⟨fun h1 => ?_, fun h1 h2 => ?_⟩
    · obtain ⟨⟨q, e1, e2, e3⟩, e4⟩ := hcell.1 h1
      exact ⟨⟨q, e1, e2, e3.kept hq⟩, e4⟩
    · obtain ⟨e0, e1, e2⟩ := hcell.2 h1 h2
      exact ⟨e0, hq.trans e1, e2⟩
def CF (ci : Nat) (C : String) (T : u_T) (N : Nat) : Prop := kCl[ci]? = some (C, T, N) ∧ (∀ w ∈ u_ws C T N, w ∈ lw_all) ∧ (∀ j, j < N → parseFieldDescriptor (T j).2.2.1 = some (fty ci j)) ∧ (∀ a, a < N → ∀ b, b < N → a ≠ b → (T a).2.1 ≠ (T b).2.1) ∧ ci < 50
/-- a field by its pool entry: of class ci the field i -/
def FL (own : String) (idx ci i : Nat) : Prop := ∃ (C : String) (T : u_T) (N : Nat), CF ci C T N ∧ i < N ∧ Cond.fieldLink own idx (T i).1 (T i).2.1 (T i).2.2.1 ∈ lw_all
/-- it may be written: it isn't final, or this is its own maker -/
def FP (own : String) (idx ci i : Nat) (nm : String) : Prop := ∃ (C : String) (T : u_T) (N : Nat), CF ci C T N ∧ i < N ∧ Cond.fieldLink own idx (T i).1 (T i).2.1 (T i).2.2.1 ∈ lw_all ∧ ((T i).2.2.2 = false ∨ ((T i).2.2.2 = true ∧ (T i).1 = own ∧ nm = "<init>"))
theorem cf0 : CF 0 RX0 TX0 41 := ⟨rfl, in_X0, tyX0_ok, nmX0, by decide⟩
theorem cf1 : CF 1 RX1 TX1 4 := ⟨rfl, in_X1, tyX1_ok, nmX1, by decide⟩
theorem cf2 : CF 2 RX3 TX3 1 := ⟨rfl, in_X3, tyX3_ok, nmX3, by decide⟩
theorem cf3 : CF 3 RX4 TX4 83 := ⟨rfl, in_X4, tyX4_ok, nmX4, by decide⟩
theorem cf4 : CF 4 RX5 TX5 10 := ⟨rfl, in_X5, tyX5_ok, nmX5, by decide⟩
theorem cf5 : CF 5 RX6 TX6 8 := ⟨rfl, in_X6, tyX6_ok, nmX6, by decide⟩
theorem cf6 : CF 6 RX8 TX8 5 := ⟨rfl, in_X8, tyX8_ok, nmX8, by decide⟩
theorem cf7 : CF 7 RX9 TX9 7 := ⟨rfl, in_X9, tyX9_ok, nmX9, by decide⟩
theorem cf8 : CF 8 RX10 TX10 5 := ⟨rfl, in_X10, tyX10_ok, nmX10, by decide⟩
theorem cf9 : CF 9 RX11 TX11 6 := ⟨rfl, in_X11, tyX11_ok, nmX11, by decide⟩
theorem cf10 : CF 10 RX12 TX12 5 := ⟨rfl, in_X12, tyX12_ok, nmX12, by decide⟩
theorem cf11 : CF 11 RX13 TX13 1 := ⟨rfl, in_X13, tyX13_ok, nmX13, by decide⟩
theorem cf12 : CF 12 RX14 TX14 1 := ⟨rfl, in_X14, tyX14_ok, nmX14, by decide⟩
theorem cf13 : CF 13 RX15 TX15 1 := ⟨rfl, in_X15, tyX15_ok, nmX15, by decide⟩
theorem cf14 : CF 14 RX16 TX16 3 := ⟨rfl, in_X16, tyX16_ok, nmX16, by decide⟩
theorem cf15 : CF 15 RX17 TX17 1 := ⟨rfl, in_X17, tyX17_ok, nmX17, by decide⟩
theorem cf16 : CF 16 RX18 TX18 3 := ⟨rfl, in_X18, tyX18_ok, nmX18, by decide⟩
theorem cf17 : CF 17 RX19 TX19 3 := ⟨rfl, in_X19, tyX19_ok, nmX19, by decide⟩
theorem rfv_nat (ad : Nat → Nat) (a : Nat) : rfv ad (a : Int) = .ref (ad a) := by
  unfold rfv
  rw [if_neg (by omega)]
  simp
theorem okv_rok {ty : FieldType} {z : Int} (h : okv (tgF ty, z)) (hb : ty ≠ .boolean ∧ ty ≠ .byte ∧ ty ≠ .char ∧ ty ≠ .short) : rok ty z := by
  obtain ⟨h1, h2, h3, h4⟩ := hb
  cases ty <;> first | exact absurd rfl h1 | exact absurd rfl h2 | exact absurd rfl h3 | exact absurd rfl h4 | exact h | trivial
theorem i32_ge (a : Int) (z : Int) (ha : inR a) (hz : inR z) (h : z ≤ a) : i32 z ≤ i32 a := (i32_le hz ha).mpr h
theorem rok_fits {ad : Nat → Nat} {ty : FieldType} {z : Int} (hf : ty ≠ .float ∧ ty ≠ .double) (h : rok ty z) : narrow ty (vof ad ty z) = vof ad ty z ∧ fits ty (vof ad ty z) = true := by
  obtain ⟨hf1, hf2⟩ := hf
  cases ty with
  | int => exact ⟨rfl, rfl⟩
  | long => exact ⟨rfl, rfl⟩
  | float => exact absurd rfl hf1
  | double => exact absurd rfl hf2
  | object n => simp only [vof, rfv]; split <;> exact ⟨rfl, rfl⟩
  | array n => simp only [vof, rfv]; split <;> exact ⟨rfl, rfl⟩
  | boolean =>
    have h1 : z = 0 ∨ z = 1 := by have := h.1; have := h.2; omega
    rcases h1 with rfl | rfl <;> exact ⟨rfl, rfl⟩
  | byte =>
    obtain ⟨k, rfl⟩ : ∃ k : Fin 256, z = (k.val : Int) - 128 := ⟨⟨(z + 128).toNat, by have := h.1; have := h.2; omega⟩, by have := h.1; have := h.2; simp only; omega⟩
    revert k
    intro k _
    exact ⟨(by decide +kernel : ∀ k : Fin 256, narrow .byte (.int (i32 ((k.val : Int) - 128))) = .int (i32 ((k.val : Int) - 128))) k, (by decide +kernel : ∀ k : Fin 256, fits .byte (.int (i32 ((k.val : Int) - 128))) = true) k⟩
  | char =>
    have hz : inR z := ⟨by have := h.1; omega, by have := h.2; omega⟩
    obtain ⟨n, hn, rfl⟩ : ∃ n : Nat, n < 65536 ∧ z = (n : Int) := ⟨z.toNat, by have := h.1; have := h.2; omega, by have := h.1; omega⟩
    have e : i32 (n : Int) = nI n := rfl
    show narrow .char (.int (i32 n)) = .int (i32 n) ∧ fits .char (.int (i32 n)) = true
    rw [e]
    exact pk_charN hn
  | short =>
    have hz : inR z := ⟨by have := h.1; omega, by have := h.2; omega⟩
    have e : (i32 z).toInt16.toInt32 = i32 z := by
      rw [← i32_of ((i32 z).toInt16.toInt32), Int16.toInt_toInt32, Int32.toInt_toInt16, i32_toInt hz]
      congr 1
      exact Int.bmod_eq_of_le (by have := h.1; omega) (by have := h.2; omega)
    show narrow .short (.int (i32 z)) = .int (i32 z) ∧ fits .short (.int (i32 z)) = true
    rw [← e]
    exact ⟨pk_ns _, pk_fs _⟩
theorem fty_nf {ci : Nat} {C : String} {T : u_T} {N i : Nat} (h : CF ci C T N) (hi : i < N) : fty ci i ≠ .float ∧ fty ci i ≠ .double := by
  obtain ⟨h1, -⟩ := h
  have hlt : ci < 18 := (List.getElem?_eq_some_iff.mp h1).1
  have hN : N = (kCl.getD ci ("", fun _ => ("", "", "", false), 0)).2.2 := by simp [List.getD, h1]
  subst hN
  exact (by decide +kernel : ∀ ci : Fin 18, ∀ i : Fin 83, i.val < (kCl.getD ci.val ("", fun _ => ("", "", "", false), 0)).2.2 → fty ci.val i.val ≠ .float ∧ fty ci.val i.val ≠ .double) ⟨ci, hlt⟩ ⟨i, Nat.lt_of_lt_of_le hi ((by decide +kernel : ∀ ci : Fin 18, (kCl.getD ci.val ("", fun _ => ("", "", "", false), 0)).2.2 ≤ 83) ⟨ci, hlt⟩)⟩ hi
section HeapR
variable {G : GG} {Γ : Cx} {μ : MI} {r : Vv × Wd} {pc : Nat} {ls ls' : List (Option Vv)} {st st' : List Vv} {sz sl : Nat} {t : TT} {c0 c1 : CC}
variable {X : Type} {k k1 k2 : Option X} {post : X → Prop}
theorem w_get {idx ci i a N tg : Nat} {z v : Int} (hf : FL μ.2.1 idx ci i) (ht : t a = (ci, N)) (hz : z = (a : Int)) (hv : c0 a i = v) (htg : tgF (fty ci i) = tg) (hd : decode μ.1 pc = .ok (.getfield idx, 3)) (h : WP G Γ μ r (pc + 3) ls ((tg, v) :: st) (sz, sl, t, c0)) : WP G Γ μ r pc ls ((2, z) :: st) (sz, sl, t, c0) := by
  obtain ⟨C, T, N', hcf, hi, hq⟩ := hf
  obtain ⟨p, l, e, R, s, m, args, below, meth, c, Q, z0, s0⟩ := Γ
  subst hv; subst htg; subst hz
  refine ⟨h.1, fun hC h1 h2 hz0 hs0 H locs lsa hH hL hl => ?_⟩
  obtain ⟨hx, hb, hml, hown, hts, hK, -⟩ := id hC
  have hcell := (hH.1 a).1 (by show (t a).1 < 50; rw [ht]; exact hcf.2.2.2.2)
  have hcell : objOK G H a ci N (c0 a) := by
    have q : objOK G H a (t a).1 (t a).2 (c0 a) := hcell
    rw [ht] at q; exact q
  obtain ⟨⟨q, e1, e2, cell, g1, g2, g3, g4⟩, e4⟩ := hcell
  have eq : q = (C, T, N') := Option.some.inj (e1.symm.trans hcf.1)
  subst eq
  have eN : N' = N := e2
  subst eN
  obtain ⟨hS, hfc, kC, hkC, hkind⟩ := hK.2.2.1 ci _ hcf.1
  obtain ⟨cf, kf, fi, f, hfi, hsl⟩ := hS i hi
  have hk := h.2 hC h1 (okc (rok_okv (e4 i hi)) (okt h2)) hz0 hs0 H locs lsa hH hL hl
  show W p l e R s m args below meth c H locs _ _ Q (F0 m pc lsa (rfv G.2.1 (a : Int) :: st.map (dv G.2.1)))
  rw [rfv_nat]
  refine W.getf hx hb hown (hts _ hq) hfi (u_facts hfc hkC (u_lays hts hcf.2.1 hi) hfi).1 g1 (by rw [g3]; exact fun h => by cases h) (v := dv G.2.1 (tgF (fty ci i), c0 a i)) ?_ rfl rfl hd hk
  rw [hsl, g4 i hi]
  exact congrArg some (vof_dv _ _ _)
theorem s_get {idx ci i a N tg : Nat} {z v : Int} (hf : FL μ.2.1 idx ci i) (ht : t a = (ci, N)) (hz : z = (a : Int)) (hv : c0 a i = v) (htg : tgF (fty ci i) = tg) (hd : decode μ.1 pc = .ok (.getfield idx, 3)) (h : Sm k post (WP G Γ μ r (pc + 3) ls ((tg, v) :: st) (sz, sl, t, c0))) : Sm k post (WP G Γ μ r pc ls ((2, z) :: st) (sz, sl, t, c0)) :=
  h.map (w_get hf ht hz hv htg hd)
theorem w_put {idx ci i a N tg : Nat} {z v : Int} (hf : FP μ.2.1 idx ci i μ.2.2.2.2.2) (ht : t a = (ci, N)) (hz : z = (a : Int)) (ha : kO ≤ a) (hc : up2 c0 a i v = c1) (htg : tgF (fty ci i) = tg) (hr : okv (tg, v) → rok (fty ci i) v) (hd : decode μ.1 pc = .ok (.putfield idx, 3)) (h : WP G Γ μ r (pc + 3) ls st (sz, sl, t, c1)) : WP G Γ μ r pc ls ((tg, v) :: (2, z) :: st) (sz, sl, t, c0) := by
  obtain ⟨C, T, N', hcf, hi, hq, hfin⟩ := hf
  obtain ⟨p, l, e, R, s, m, args, below, meth, c, Q, z0, s0⟩ := Γ
  subst hc; subst htg; subst hz
  refine ⟨h.1, fun hC h1 h2 hz0 hs0 H locs lsa hH hL hl => ?_⟩
  obtain ⟨hx, hb, hml, hown, hts, hK, hnm, -⟩ := id hC
  have hcell := (hH.1 a).1 (by show (t a).1 < 50; rw [ht]; exact hcf.2.2.2.2)
  have hcell : objOK G H a ci N (c0 a) := by
    have q : objOK G H a (t a).1 (t a).2 (c0 a) := hcell
    rw [ht] at q; exact q
  obtain ⟨⟨q, e1, e2, cell, g1, g2, g3, g4⟩, e4⟩ := hcell
  have eq : q = (C, T, N') := Option.some.inj (e1.symm.trans hcf.1)
  subst eq
  have eN : N' = N := e2
  subst eN
  obtain ⟨hS, hfc, kC, hkC, hkind⟩ := hK.2.2.1 ci _ hcf.1
  obtain ⟨cf, kf, fi, f, hfi, hsl⟩ := hS i hi
  have hrok : rok (fty ci i) v := hr (okh h2)
  obtain ⟨hn, hfit⟩ := rok_fits (ad := G.2.1) (fty_nf hcf hi) hrok
  have hst := (u_facts hfc hkC (u_lays hts hcf.2.1 hi) hfi).1
  have hap : ∀ x y, x < N' → y < N' → x ≠ y → (G.1.2 ci) x ≠ (G.1.2 ci) y := by
    intro x y hx' hy' hne
    obtain ⟨_, _, _, fa, hia, ea⟩ := hS x hx'
    obtain ⟨_, _, _, fb, hib, eb⟩ := hS y hy'
    rw [← ea, ← eb]
    refine u_apart (u_lays hts hcf.2.1 hx') (u_lays hts hcf.2.1 hy') hia hib ?_
    rw [(State.fieldFound?_type hia (hcf.2.2.1 x hx')).1, (State.fieldFound?_type hib (hcf.2.2.1 y hy')).1]
    exact hcf.2.2.2.1 x hx' y hy' hne
  have hend : ∀ (H' : Heap), H'[G.2.1 a]? = some (cell.setSlot f.slot (vof G.2.1 (fty ci i) v)) → H'.size = H.size → (∀ q, q ≠ G.2.1 a → H'[q]? = H[q]?) → HeapOK G (sz, sl, t, up2 c0 a i v) H' := by
    intro H' f1 f2 f3
    refine hH.upd hK.1 (hK.2.1 a ha) f2 f3 ?_
    rw [ht]
    refine ⟨fun _ => ⟨⟨_, hcf.1, rfl, cell.setSlot f.slot (vof G.2.1 (fty ci i) v), f1, g2, g3, ?_⟩, fun k hk => ?_⟩, fun h3 _ => absurd h3 (by have := hcf.2.2.2.2; show ¬ 50 ≤ ci; omega)⟩
    · rw [hsl]
      intro k hk
      have hh := t_set g4 hap hi (vof G.2.1 (fty ci i) v) k hk
      rw [hh]
      by_cases hki : k = i
      · subst hki
        simp only [updV, if_pos, up2_self]
      · simp only [updV, if_neg hki, up2_ne (fun q : a = a ∧ k = i => hki q.2)]
    · by_cases hki : k = i
      · subst hki
        rw [up2_self]; exact hrok
      · rw [up2_ne (fun q => hki q.2)]; exact e4 k hk
  have hlocs : ∀ q ∈ locs ++ [⟨G.2.1 a, f.slot⟩], G.2.2.2.size ≤ q.base := by
    intro q hq'
    rcases List.mem_append.mp hq' with h3 | h3
    · exact hL q h3
    · rw [List.mem_singleton.mp h3]; exact hK.2.1 a ha
  show W p l e R s m args below meth c H locs _ _ Q (F0 m pc lsa (dv G.2.1 (tgF (fty ci i), v) :: rfv G.2.1 (a : Int) :: st.map (dv G.2.1)))
  rw [rfv_nat, ← vof_dv]
  rcases hfin with hfin | ⟨hfin, hdecl, hini⟩
  · have hlay := hts _ (hcf.2.1 _ (u_in_lay hi))
    unfold u_lay at hlay
    rw [if_neg (by rw [hfin]; decide)] at hlay
    have h6 := u_store hfc hkC hkind hlay hfi (hcf.2.2.1 i hi) hn hfit
    refine W.putK hx hb (f := f) ⟨hown, hts _ hq, ⟨_, _, _, hfi⟩, hst⟩ (by rw [g2]; exact h6) g1 g3 (by rw [hsl]; exact k2_hasslot (g4 i hi)) rfl rfl hd fun H' f1 f2 f3 => ?_
    exact h.2 hC h1 (okt (okt h2)) hz0 hs0 H' _ lsa (hend H' f1 f2 f3) hlocs hl
  · have hlay := hts _ (hcf.2.1 _ (u_in_lay hi))
    unfold u_lay at hlay
    rw [if_pos hfin] at hlay
    have hcf' : m.cls = cf := by
      obtain ⟨_, _, c', _, _, _, -, -, hf', -, -, -, hown2, -⟩ := Cond.laysFinal_spec hlay
      have e1 : c' = cf := by have := hfi.symm.trans hf'; simp at this; exact this.1.symm
      rw [hdecl] at hown2
      rw [← e1]; exact Option.some.inj (hown.symm.trans hown2)
    have h6 := u_fits hfc hkC hkind (Or.inr hlay) hfi (hcf.2.2.1 i hi) hn hfit
    refine W.putFinK hx hb hown (hts _ hq) hfi hst hcf' (hnm.trans hini) (by rw [g2]; exact h6) g1 g3 (by rw [hsl]; exact k2_hasslot (g4 i hi)) rfl rfl hd fun H' f1 f2 f3 => ?_
    exact h.2 hC h1 (okt (okt h2)) hz0 hs0 H' _ lsa (hend H' f1 f2 f3) hlocs hl
theorem s_put {idx ci i a N tg : Nat} {z v : Int} (hf : FP μ.2.1 idx ci i μ.2.2.2.2.2) (ht : t a = (ci, N)) (hz : z = (a : Int)) (ha : kO ≤ a) (hc : up2 c0 a i v = c1) (htg : tgF (fty ci i) = tg) (hr : fty ci i ≠ .boolean ∧ fty ci i ≠ .byte ∧ fty ci i ≠ .char ∧ fty ci i ≠ .short) (hd : decode μ.1 pc = .ok (.putfield idx, 3)) (h : Sm k post (WP G Γ μ r (pc + 3) ls st (sz, sl, t, c1))) : Sm k post (WP G Γ μ r pc ls ((tg, v) :: (2, z) :: st) (sz, sl, t, c0)) :=
  h.map (w_put hf ht hz ha hc htg (fun q => okv_rok (by rw [htg]; exact q) hr) hd)
theorem s_putZ {idx ci i a N : Nat} {z v : Int} (hf : FP μ.2.1 idx ci i μ.2.2.2.2.2) (ht : t a = (ci, N)) (hz : z = (a : Int)) (ha : kO ≤ a) (hc : up2 c0 a i v = c1) (htg : fty ci i = .boolean) (hd : decode μ.1 pc = .ok (.putfield idx, 3)) (h : Sm k post (WP G Γ μ r (pc + 3) ls st (sz, sl, t, c1))) : Sm (gd (0 ≤ v ∧ v < 2) k) post (WP G Γ μ r pc ls ((0, v) :: (2, z) :: st) (sz, sl, t, c0)) :=
  h.gd (fun hR => w_put hf ht hz ha hc (by rw [htg]; rfl) (fun _ => by rw [htg]; exact hR) hd)
end HeapR
