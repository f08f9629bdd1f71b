/-! LAYER 1f: arrays -/
theorem i32_clamp {i : Int} (h : inR i) (h0 : 0 ≤ i) : (i32 i).toNatClampNeg = i.toNat := by
  show (i32 i).toInt.toNat = i.toNat
  rw [i32_toInt h]
theorem i32_inn {i : Int} {n : Nat} (h : inR i) (h0 : 0 ≤ i ∧ i < (n : Int)) : ¬ (i32 i < 0 ∨ n ≤ (i32 i).toNatClampNeg) := by
  rw [i32_clamp h h0.1]
  intro q
  rcases q with q | q
  · have := (i32_lt h (show inR 0 by decide)).mp q
    omega
  · omega
theorem HeapOK.arr {G : GG} {sz sl : Nat} {t : TT} {c : CC} {H : Heap} {a q n : Nat} (h : HeapOK G (sz, sl, t, c) H) (ht : t a = (50 + q, n)) (hq : q < 10) : arrOK G H a q n (c a) := by
  have h1 := (h.1 a).2 (by show 50 ≤ (t a).1; rw [ht]; exact Nat.le_add_right _ _) (by show (t a).1 < 99; rw [ht]; show 50 + q < 99; omega)
  have h1 : arrOK G H a ((t a).1 - 50) (t a).2 (c a) := h1
  rw [ht] at h1
  have e : 50 + q - 50 = q := by omega
  have h1 : arrOK G H a (50 + q - 50) n (c a) := h1
  rw [e] at h1
  exact h1
theorem HeapOK.aset {G : GG} {sz sl : Nat} {t : TT} {c : CC} {H H' : Heap} {a q n i : Nat} {v : Int} (h : HeapOK G (sz, sl, t, c) H) (hinj : ∀ a b, G.2.2.2.size ≤ G.2.1 a → G.2.1 a = G.2.1 b → a = b) (hB : G.2.2.2.size ≤ G.2.1 a) (ht : t a = (50 + q, n)) (hq : q < 10) (hv : rok (aty q) v) (hs : H'.size = H.size) (ho : ∀ q, q ≠ G.2.1 a → H'[q]? = H[q]?)
    (hc : H'[G.2.1 a]? = some ((arrV (G.2.2.1 q) n (fun j => vof G.2.1 (aty q) (c a j))).setSlot i (vof G.2.1 (aty q) v))) : HeapOK G (sz, sl, t, up2 c a i v) H' := by
  obtain ⟨h0, h1, h2⟩ := h.arr ht hq
  refine h.upd hinj hB hs ho ?_
  rw [ht]
  refine ⟨fun h3 => absurd h3 (by show ¬ 50 + q < 50; omega), fun _ _ => ?_⟩
  have e : 50 + q - 50 = q := by omega
  show arrOK G H' a (50 + q - 50) n _
  rw [e]
  refine ⟨h0, ?_, fun j hj => ?_⟩
  · rw [hc, arrV_store]
    congr 2
    funext j
    by_cases hj : j = i
    · subst hj
      simp only [updV, if_pos, up2_self]
    · simp only [updV, if_neg hj, up2_ne (fun q : a = a ∧ j = i => hj q.2)]
  · by_cases hj2 : j = i
    · subst hj2
      rw [up2_self]; exact hv
    · rw [up2_ne (fun q => hj2 q.2)]; exact h2 j hj
section ArrR
variable {G : GG} {Γ : Cx} {μ : MI} {r : Vv × Wd} {pc : Nat} {ls ls' : List (Option Vv)} {st st' : List Vv} {sz sl : Nat} {t : TT} {c0 c1 : CC}
variable {X : Type} {k k1 k2 : Option X} {post : X → Prop}
theorem s_alen {a q n : Nat} {z : Int} (ht : t a = (50 + q, n)) (hq : q < 10) (hz : z = (a : Int)) (hn : n < 2147483648) (hd : decode μ.1 pc = .ok (.arraylength, 1)) (h : Sm k post (WP G Γ μ r (pc + 1) ls ((0, (n : Int)) :: st) (sz, sl, t, c0))) : Sm k post (WP G Γ μ r pc ls ((2, z) :: st) (sz, sl, t, c0)) := by
  refine h.map (fun h => ?_)
  obtain ⟨p, l, e, R, s, m, args, below, meth, c, Q, z0, s0⟩ := Γ
  subst hz
  refine ⟨h.1, fun hC h1 h2 hz0 hs0 H locs lsa hH hL hl => ?_⟩
  obtain ⟨hx, hb, hml, hown, hts, hK, -⟩ := id hC
  obtain ⟨-, e1, e2⟩ := hH.arr ht hq
  have hA := (hK.2.2.2.1 q (aty q) (by unfold aty; exact (by decide +kernel : ∀ q : Fin 10, kAr[q.val]? = some (kAr.getD q.val .int)) ⟨q, hq⟩)).1
  have hk := h.2 hC h1 (okc (oki (show inR (n : Int) from ⟨by omega, by omega⟩)) (okt h2)) hz0 hs0 H locs lsa hH hL hl
  show W p l e R s m args below meth c H locs _ _ Q (F0 m pc lsa (rfv G.2.1 (a : Int) :: st.map (dv G.2.1)))
  rw [rfv_nat]
  exact W.alen (n := i32 (n : Int)) hx hb e1 (hA n _) (by rw [arrV_size]; rfl) rfl rfl hd hk
theorem s_iald {a n : Nat} {z i : Int} (ht : t a = (50, n)) (hz : z = (a : Int)) (hd : decode μ.1 pc = .ok (.iaload, 1)) (h : Sm k post (WP G Γ μ r (pc + 1) ls ((0, c0 a i.toNat) :: st) (sz, sl, t, c0))) : Sm (gd (0 ≤ i ∧ i < (n : Int)) k) post (WP G Γ μ r pc ls ((0, i) :: (2, z) :: st) (sz, sl, t, c0)) := by
  refine h.gd (fun hR h => ?_)
  obtain ⟨p, l, e, R, s, m, args, below, meth, c, Q, z0, s0⟩ := Γ
  subst hz
  refine ⟨h.1, fun hC h1 h2 hz0 hs0 H locs lsa hH hL hl => ?_⟩
  obtain ⟨hx, hb, hml, hown, hts, hK, -⟩ := id hC
  obtain ⟨-, e1, e2⟩ := hH.arr (q := 0) ht (by decide)
  have hA := (hK.2.2.2.1 0 .int rfl).1
  have hi : inR i := okh h2
  have hk := h.2 hC h1 (okc (rok_okv (ty := .int) (e2 i.toNat (by omega))) (okt (okt h2))) hz0 hs0 H locs lsa hH hL hl
  show W p l e R s m args below meth c H locs _ _ Q (F0 m pc lsa (.int (i32 i) :: rfv G.2.1 (a : Int) :: st.map (dv G.2.1)))
  rw [rfv_nat]
  refine W.iald (v := dv G.2.1 (0, c0 a i.toNat)) hx hb e1 (hA n _) (fun q => by cases q) (by rw [arrV_size]; exact i32_inn hi hR) ?_ rfl rfl hd hk
  rw [i32_clamp hi hR.1, arrV_read _ _ (by omega)]
  exact congrArg some (vof_dv G.2.1 .int _)
theorem s_lald {a n : Nat} {z i : Int} (ht : t a = (51, n)) (hz : z = (a : Int)) (hd : decode μ.1 pc = .ok (.laload, 1)) (h : Sm k post (WP G Γ μ r (pc + 1) ls ((1, c0 a i.toNat) :: st) (sz, sl, t, c0))) : Sm (gd (0 ≤ i ∧ i < (n : Int)) k) post (WP G Γ μ r pc ls ((0, i) :: (2, z) :: st) (sz, sl, t, c0)) := by
  refine h.gd (fun hR h => ?_)
  obtain ⟨p, l, e, R, s, m, args, below, meth, c, Q, z0, s0⟩ := Γ
  subst hz
  refine ⟨h.1, fun hC h1 h2 hz0 hs0 H locs lsa hH hL hl => ?_⟩
  obtain ⟨hx, hb, hml, hown, hts, hK, -⟩ := id hC
  obtain ⟨-, e1, e2⟩ := hH.arr (q := 1) ht (by decide)
  have hA := (hK.2.2.2.1 1 .long rfl).1
  have hi : inR i := okh h2
  have hk := h.2 hC h1 (okc (rok_okv (ty := .long) (e2 i.toNat (by omega))) (okt (okt h2))) hz0 hs0 H locs lsa hH hL hl
  show W p l e R s m args below meth c H locs _ _ Q (F0 m pc lsa (.int (i32 i) :: rfv G.2.1 (a : Int) :: st.map (dv G.2.1)))
  rw [rfv_nat]
  refine W.lald (v := dv G.2.1 (1, c0 a i.toNat)) hx hb e1 (hA n _) (fun q => by cases q) (by rw [arrV_size]; exact i32_inn hi hR) ?_ rfl rfl hd hk
  rw [i32_clamp hi hR.1, arrV_read _ _ (by omega)]
  exact congrArg some (vof_dv G.2.1 .long _)
theorem s_bald {a n : Nat} {z i : Int} (ht : t a = (52, n)) (hz : z = (a : Int)) (hd : decode μ.1 pc = .ok (.baload, 1)) (h : Sm k post (WP G Γ μ r (pc + 1) ls ((0, c0 a i.toNat) :: st) (sz, sl, t, c0))) : Sm (gd (0 ≤ i ∧ i < (n : Int)) k) post (WP G Γ μ r pc ls ((0, i) :: (2, z) :: st) (sz, sl, t, c0)) := by
  refine h.gd (fun hR h => ?_)
  obtain ⟨p, l, e, R, s, m, args, below, meth, c, Q, z0, s0⟩ := Γ
  subst hz
  refine ⟨h.1, fun hC h1 h2 hz0 hs0 H locs lsa hH hL hl => ?_⟩
  obtain ⟨hx, hb, hml, hown, hts, hK, -⟩ := id hC
  obtain ⟨-, e1, e2⟩ := hH.arr (q := 2) ht (by decide)
  have hA := (hK.2.2.2.1 2 .byte rfl).1
  have hi : inR i := okh h2
  have hk := h.2 hC h1 (okc (rok_okv (ty := .byte) (e2 i.toNat (by omega))) (okt (okt h2))) hz0 hs0 H locs lsa hH hL hl
  show W p l e R s m args below meth c H locs _ _ Q (F0 m pc lsa (.int (i32 i) :: rfv G.2.1 (a : Int) :: st.map (dv G.2.1)))
  rw [rfv_nat]
  refine W.bald (v := dv G.2.1 (0, c0 a i.toNat)) hx hb e1 (hA n _) (fun q => by cases q) (by rw [arrV_size]; exact i32_inn hi hR) ?_ rfl rfl hd hk
  rw [i32_clamp hi hR.1, arrV_read _ _ (by omega)]
  exact congrArg some (vof_dv G.2.1 .byte _)
theorem s_zald {a n : Nat} {z i : Int} (ht : t a = (53, n)) (hz : z = (a : Int)) (hd : decode μ.1 pc = .ok (.baload, 1)) (h : Sm k post (WP G Γ μ r (pc + 1) ls ((0, c0 a i.toNat) :: st) (sz, sl, t, c0))) : Sm (gd (0 ≤ i ∧ i < (n : Int)) k) post (WP G Γ μ r pc ls ((0, i) :: (2, z) :: st) (sz, sl, t, c0)) := by
  refine h.gd (fun hR h => ?_)
  obtain ⟨p, l, e, R, s, m, args, below, meth, c, Q, z0, s0⟩ := Γ
  subst hz
  refine ⟨h.1, fun hC h1 h2 hz0 hs0 H locs lsa hH hL hl => ?_⟩
  obtain ⟨hx, hb, hml, hown, hts, hK, -⟩ := id hC
  obtain ⟨-, e1, e2⟩ := hH.arr (q := 3) ht (by decide)
  have hA := (hK.2.2.2.1 3 .boolean rfl).1
  have hi : inR i := okh h2
  have hk := h.2 hC h1 (okc (rok_okv (ty := .boolean) (e2 i.toNat (by omega))) (okt (okt h2))) hz0 hs0 H locs lsa hH hL hl
  show W p l e R s m args below meth c H locs _ _ Q (F0 m pc lsa (.int (i32 i) :: rfv G.2.1 (a : Int) :: st.map (dv G.2.1)))
  rw [rfv_nat]
  refine W.zald (v := dv G.2.1 (0, c0 a i.toNat)) hx hb e1 (hA n _) (fun q => by cases q) (by rw [arrV_size]; exact i32_inn hi hR) ?_ rfl rfl hd hk
  rw [i32_clamp hi hR.1, arrV_read _ _ (by omega)]
  exact congrArg some (vof_dv G.2.1 .boolean _)
theorem s_aald4 {a n : Nat} {z i : Int} (ht : t a = (54, n)) (hz : z = (a : Int)) (hd : decode μ.1 pc = .ok (.aaload, 1)) (h : Sm k post (WP G Γ μ r (pc + 1) ls ((2, c0 a i.toNat) :: st) (sz, sl, t, c0))) : Sm (gd (0 ≤ i ∧ i < (n : Int)) k) post (WP G Γ μ r pc ls ((0, i) :: (2, z) :: st) (sz, sl, t, c0)) := by
  refine h.gd (fun hR h => ?_)
  obtain ⟨p, l, e, R, s, m, args, below, meth, c, Q, z0, s0⟩ := Γ
  subst hz
  refine ⟨h.1, fun hC h1 h2 hz0 hs0 H locs lsa hH hL hl => ?_⟩
  obtain ⟨hx, hb, hml, hown, hts, hK, -⟩ := id hC
  obtain ⟨-, e1, e2⟩ := hH.arr (q := 4) ht (by decide)
  have hA := (hK.2.2.2.1 4 (.object RX1) rfl).1
  have hi : inR i := okh h2
  have hk := h.2 hC h1 (okc (rok_okv (ty := (.object RX1)) (e2 i.toNat (by omega))) (okt (okt h2))) hz0 hs0 H locs lsa hH hL hl
  show W p l e R s m args below meth c H locs _ _ Q (F0 m pc lsa (.int (i32 i) :: rfv G.2.1 (a : Int) :: st.map (dv G.2.1)))
  rw [rfv_nat]
  refine W.aald (v := dv G.2.1 (2, c0 a i.toNat)) hx hb e1 (hA n _) rfl (fun q => by cases q) (by rw [arrV_size]; exact i32_inn hi hR) ?_ rfl rfl hd hk
  rw [i32_clamp hi hR.1, arrV_read _ _ (by omega)]
  exact congrArg some (vof_dv G.2.1 (.object RX1) _)
theorem s_aald5 {a n : Nat} {z i : Int} (ht : t a = (55, n)) (hz : z = (a : Int)) (hd : decode μ.1 pc = .ok (.aaload, 1)) (h : Sm k post (WP G Γ μ r (pc + 1) ls ((2, c0 a i.toNat) :: st) (sz, sl, t, c0))) : Sm (gd (0 ≤ i ∧ i < (n : Int)) k) post (WP G Γ μ r pc ls ((0, i) :: (2, z) :: st) (sz, sl, t, c0)) := by
  refine h.gd (fun hR h => ?_)
  obtain ⟨p, l, e, R, s, m, args, below, meth, c, Q, z0, s0⟩ := Γ
  subst hz
  refine ⟨h.1, fun hC h1 h2 hz0 hs0 H locs lsa hH hL hl => ?_⟩
  obtain ⟨hx, hb, hml, hown, hts, hK, -⟩ := id hC
  obtain ⟨-, e1, e2⟩ := hH.arr (q := 5) ht (by decide)
  have hA := (hK.2.2.2.1 5 (.object RX7) rfl).1
  have hi : inR i := okh h2
  have hk := h.2 hC h1 (okc (rok_okv (ty := (.object RX7)) (e2 i.toNat (by omega))) (okt (okt h2))) hz0 hs0 H locs lsa hH hL hl
  show W p l e R s m args below meth c H locs _ _ Q (F0 m pc lsa (.int (i32 i) :: rfv G.2.1 (a : Int) :: st.map (dv G.2.1)))
  rw [rfv_nat]
  refine W.aald (v := dv G.2.1 (2, c0 a i.toNat)) hx hb e1 (hA n _) rfl (fun q => by cases q) (by rw [arrV_size]; exact i32_inn hi hR) ?_ rfl rfl hd hk
  rw [i32_clamp hi hR.1, arrV_read _ _ (by omega)]
  exact congrArg some (vof_dv G.2.1 (.object RX7) _)
theorem s_aald6 {a n : Nat} {z i : Int} (ht : t a = (56, n)) (hz : z = (a : Int)) (hd : decode μ.1 pc = .ok (.aaload, 1)) (h : Sm k post (WP G Γ μ r (pc + 1) ls ((2, c0 a i.toNat) :: st) (sz, sl, t, c0))) : Sm (gd (0 ≤ i ∧ i < (n : Int)) k) post (WP G Γ μ r pc ls ((0, i) :: (2, z) :: st) (sz, sl, t, c0)) := by
  refine h.gd (fun hR h => ?_)
  obtain ⟨p, l, e, R, s, m, args, below, meth, c, Q, z0, s0⟩ := Γ
  subst hz
  refine ⟨h.1, fun hC h1 h2 hz0 hs0 H locs lsa hH hL hl => ?_⟩
  obtain ⟨hx, hb, hml, hown, hts, hK, -⟩ := id hC
  obtain ⟨-, e1, e2⟩ := hH.arr (q := 6) ht (by decide)
  have hA := (hK.2.2.2.1 6 (.object "HeldTongue$Ask") rfl).1
  have hi : inR i := okh h2
  have hk := h.2 hC h1 (okc (rok_okv (ty := (.object "HeldTongue$Ask")) (e2 i.toNat (by omega))) (okt (okt h2))) hz0 hs0 H locs lsa hH hL hl
  show W p l e R s m args below meth c H locs _ _ Q (F0 m pc lsa (.int (i32 i) :: rfv G.2.1 (a : Int) :: st.map (dv G.2.1)))
  rw [rfv_nat]
  refine W.aald (v := dv G.2.1 (2, c0 a i.toNat)) hx hb e1 (hA n _) rfl (fun q => by cases q) (by rw [arrV_size]; exact i32_inn hi hR) ?_ rfl rfl hd hk
  rw [i32_clamp hi hR.1, arrV_read _ _ (by omega)]
  exact congrArg some (vof_dv G.2.1 (.object "HeldTongue$Ask") _)
theorem s_aald7 {a n : Nat} {z i : Int} (ht : t a = (57, n)) (hz : z = (a : Int)) (hd : decode μ.1 pc = .ok (.aaload, 1)) (h : Sm k post (WP G Γ μ r (pc + 1) ls ((2, c0 a i.toNat) :: st) (sz, sl, t, c0))) : Sm (gd (0 ≤ i ∧ i < (n : Int)) k) post (WP G Γ μ r pc ls ((0, i) :: (2, z) :: st) (sz, sl, t, c0)) := by
  refine h.gd (fun hR h => ?_)
  obtain ⟨p, l, e, R, s, m, args, below, meth, c, Q, z0, s0⟩ := Γ
  subst hz
  refine ⟨h.1, fun hC h1 h2 hz0 hs0 H locs lsa hH hL hl => ?_⟩
  obtain ⟨hx, hb, hml, hown, hts, hK, -⟩ := id hC
  obtain ⟨-, e1, e2⟩ := hH.arr (q := 7) ht (by decide)
  have hA := (hK.2.2.2.1 7 (.array .int) rfl).1
  have hi : inR i := okh h2
  have hk := h.2 hC h1 (okc (rok_okv (ty := (.array .int)) (e2 i.toNat (by omega))) (okt (okt h2))) hz0 hs0 H locs lsa hH hL hl
  show W p l e R s m args below meth c H locs _ _ Q (F0 m pc lsa (.int (i32 i) :: rfv G.2.1 (a : Int) :: st.map (dv G.2.1)))
  rw [rfv_nat]
  refine W.aald (v := dv G.2.1 (2, c0 a i.toNat)) hx hb e1 (hA n _) rfl (fun q => by cases q) (by rw [arrV_size]; exact i32_inn hi hR) ?_ rfl rfl hd hk
  rw [i32_clamp hi hR.1, arrV_read _ _ (by omega)]
  exact congrArg some (vof_dv G.2.1 (.array .int) _)
theorem s_aald8 {a n : Nat} {z i : Int} (ht : t a = (58, n)) (hz : z = (a : Int)) (hd : decode μ.1 pc = .ok (.aaload, 1)) (h : Sm k post (WP G Γ μ r (pc + 1) ls ((2, c0 a i.toNat) :: st) (sz, sl, t, c0))) : Sm (gd (0 ≤ i ∧ i < (n : Int)) k) post (WP G Γ μ r pc ls ((0, i) :: (2, z) :: st) (sz, sl, t, c0)) := by
  refine h.gd (fun hR h => ?_)
  obtain ⟨p, l, e, R, s, m, args, below, meth, c, Q, z0, s0⟩ := Γ
  subst hz
  refine ⟨h.1, fun hC h1 h2 hz0 hs0 H locs lsa hH hL hl => ?_⟩
  obtain ⟨hx, hb, hml, hown, hts, hK, -⟩ := id hC
  obtain ⟨-, e1, e2⟩ := hH.arr (q := 8) ht (by decide)
  have hA := (hK.2.2.2.1 8 (.array .long) rfl).1
  have hi : inR i := okh h2
  have hk := h.2 hC h1 (okc (rok_okv (ty := (.array .long)) (e2 i.toNat (by omega))) (okt (okt h2))) hz0 hs0 H locs lsa hH hL hl
  show W p l e R s m args below meth c H locs _ _ Q (F0 m pc lsa (.int (i32 i) :: rfv G.2.1 (a : Int) :: st.map (dv G.2.1)))
  rw [rfv_nat]
  refine W.aald (v := dv G.2.1 (2, c0 a i.toNat)) hx hb e1 (hA n _) rfl (fun q => by cases q) (by rw [arrV_size]; exact i32_inn hi hR) ?_ rfl rfl hd hk
  rw [i32_clamp hi hR.1, arrV_read _ _ (by omega)]
  exact congrArg some (vof_dv G.2.1 (.array .long) _)
theorem s_aald9 {a n : Nat} {z i : Int} (ht : t a = (59, n)) (hz : z = (a : Int)) (hd : decode μ.1 pc = .ok (.aaload, 1)) (h : Sm k post (WP G Γ μ r (pc + 1) ls ((2, c0 a i.toNat) :: st) (sz, sl, t, c0))) : Sm (gd (0 ≤ i ∧ i < (n : Int)) k) post (WP G Γ μ r pc ls ((0, i) :: (2, z) :: st) (sz, sl, t, c0)) := by
  refine h.gd (fun hR h => ?_)
  obtain ⟨p, l, e, R, s, m, args, below, meth, c, Q, z0, s0⟩ := Γ
  subst hz
  refine ⟨h.1, fun hC h1 h2 hz0 hs0 H locs lsa hH hL hl => ?_⟩
  obtain ⟨hx, hb, hml, hown, hts, hK, -⟩ := id hC
  obtain ⟨-, e1, e2⟩ := hH.arr (q := 9) ht (by decide)
  have hA := (hK.2.2.2.1 9 (.object RJ0) rfl).1
  have hi : inR i := okh h2
  have hk := h.2 hC h1 (okc (rok_okv (ty := (.object RJ0)) (e2 i.toNat (by omega))) (okt (okt h2))) hz0 hs0 H locs lsa hH hL hl
  show W p l e R s m args below meth c H locs _ _ Q (F0 m pc lsa (.int (i32 i) :: rfv G.2.1 (a : Int) :: st.map (dv G.2.1)))
  rw [rfv_nat]
  refine W.aald (v := dv G.2.1 (2, c0 a i.toNat)) hx hb e1 (hA n _) rfl (fun q => by cases q) (by rw [arrV_size]; exact i32_inn hi hR) ?_ rfl rfl hd hk
  rw [i32_clamp hi hR.1, arrV_read _ _ (by omega)]
  exact congrArg some (vof_dv G.2.1 (.object RJ0) _)
theorem s_iast {a n : Nat} {z i v : Int} (ht : t a = (50, n)) (hz : z = (a : Int)) (ha : kO ≤ a) (hc : up2 c0 a i.toNat v = c1) (hd : decode μ.1 pc = .ok (.iastore, 1)) (h : Sm k post (WP G Γ μ r (pc + 1) ls st (sz, sl, t, c1))) : Sm (gd (0 ≤ i ∧ i < (n : Int)) k) post (WP G Γ μ r pc ls ((0, v) :: (0, i) :: (2, z) :: st) (sz, sl, t, c0)) := by
  refine h.gd (fun hR h => ?_)
  obtain ⟨p, l, e, R, s, m, args, below, meth, c, Q, z0, s0⟩ := Γ
  subst hz; subst hc
  refine ⟨h.1, fun hC h1 h2 hz0 hs0 H locs lsa hH hL hl => ?_⟩
  obtain ⟨hx, hb, hml, hown, hts, hK, -⟩ := id hC
  obtain ⟨-, e1, e2⟩ := hH.arr (q := 0) ht (by decide)
  have hA := (hK.2.2.2.1 0 .int rfl).1
  have hi : inR i := ok2 h2
  have hv : rok .int v := okh h2
  show W p l e R s m args below meth c H locs _ _ Q (F0 m pc lsa (dv G.2.1 (0, v) :: .int (i32 i) :: rfv G.2.1 (a : Int) :: st.map (dv G.2.1)))
  rw [rfv_nat]
  refine W.iast hx hb e1 (hA n _) (fun q => by cases q) (by rw [arrV_size]; exact i32_inn hi ⟨hR.1, hR.2⟩) rfl rfl hd (fun H' f1 f2 f3 => ?_)
  refine h.2 hC h1 (okt (okt (okt h2))) hz0 hs0 H' _ lsa (hH.aset (q := 0) hK.1 (hK.2.1 a ha) ht (by decide) hv f2 f3 ?_) ?_ hl
  · rw [f1, i32_clamp hi hR.1]
    rfl
  · intro q hq'
    rcases List.mem_append.mp hq' with h3 | h3
    · exact hL q h3
    · rw [List.mem_singleton.mp h3]; exact hK.2.1 a ha
theorem s_last {a n : Nat} {z i v : Int} (ht : t a = (51, n)) (hz : z = (a : Int)) (ha : kO ≤ a) (hc : up2 c0 a i.toNat v = c1) (hd : decode μ.1 pc = .ok (.lastore, 1)) (h : Sm k post (WP G Γ μ r (pc + 1) ls st (sz, sl, t, c1))) : Sm (gd (0 ≤ i ∧ i < (n : Int)) k) post (WP G Γ μ r pc ls ((1, v) :: (0, i) :: (2, z) :: st) (sz, sl, t, c0)) := by
  refine h.gd (fun hR h => ?_)
  obtain ⟨p, l, e, R, s, m, args, below, meth, c, Q, z0, s0⟩ := Γ
  subst hz; subst hc
  refine ⟨h.1, fun hC h1 h2 hz0 hs0 H locs lsa hH hL hl => ?_⟩
  obtain ⟨hx, hb, hml, hown, hts, hK, -⟩ := id hC
  obtain ⟨-, e1, e2⟩ := hH.arr (q := 1) ht (by decide)
  have hA := (hK.2.2.2.1 1 .long rfl).1
  have hi : inR i := ok2 h2
  have hv : rok .long v := okh h2
  show W p l e R s m args below meth c H locs _ _ Q (F0 m pc lsa (dv G.2.1 (1, v) :: .int (i32 i) :: rfv G.2.1 (a : Int) :: st.map (dv G.2.1)))
  rw [rfv_nat]
  refine W.last hx hb e1 (hA n _) (fun q => by cases q) (by rw [arrV_size]; exact i32_inn hi ⟨hR.1, hR.2⟩) rfl rfl hd (fun H' f1 f2 f3 => ?_)
  refine h.2 hC h1 (okt (okt (okt h2))) hz0 hs0 H' _ lsa (hH.aset (q := 1) hK.1 (hK.2.1 a ha) ht (by decide) hv f2 f3 ?_) ?_ hl
  · rw [f1, i32_clamp hi hR.1]
    rfl
  · intro q hq'
    rcases List.mem_append.mp hq' with h3 | h3
    · exact hL q h3
    · rw [List.mem_singleton.mp h3]; exact hK.2.1 a ha
theorem s_bast {a n : Nat} {z i v : Int} (ht : t a = (52, n)) (hz : z = (a : Int)) (ha : kO ≤ a) (hc : up2 c0 a i.toNat v = c1) (hd : decode μ.1 pc = .ok (.bastore, 1)) (h : Sm k post (WP G Γ μ r (pc + 1) ls st (sz, sl, t, c1))) : Sm (gd (0 ≤ i ∧ i < (n : Int) ∧ -128 ≤ v ∧ v < 128) k) post (WP G Γ μ r pc ls ((0, v) :: (0, i) :: (2, z) :: st) (sz, sl, t, c0)) := by
  refine h.gd (fun hR h => ?_)
  obtain ⟨p, l, e, R, s, m, args, below, meth, c, Q, z0, s0⟩ := Γ
  subst hz; subst hc
  refine ⟨h.1, fun hC h1 h2 hz0 hs0 H locs lsa hH hL hl => ?_⟩
  obtain ⟨hx, hb, hml, hown, hts, hK, -⟩ := id hC
  obtain ⟨-, e1, e2⟩ := hH.arr (q := 2) ht (by decide)
  have hA := (hK.2.2.2.1 2 .byte rfl).1
  have hi : inR i := ok2 h2
  have hv : rok .byte v := hR.2.2
  show W p l e R s m args below meth c H locs _ _ Q (F0 m pc lsa (dv G.2.1 (0, v) :: .int (i32 i) :: rfv G.2.1 (a : Int) :: st.map (dv G.2.1)))
  rw [rfv_nat]
  refine W.bast hx hb e1 (hA n _) (fun q => by cases q) (by rw [arrV_size]; exact i32_inn hi ⟨hR.1, hR.2.1⟩) rfl rfl hd (fun H' f1 f2 f3 => ?_)
  refine h.2 hC h1 (okt (okt (okt h2))) hz0 hs0 H' _ lsa (hH.aset (q := 2) hK.1 (hK.2.1 a ha) ht (by decide) hv f2 f3 ?_) ?_ hl
  · rw [f1, i32_clamp hi hR.1]
    exact congrArg (fun x => some ((arrV (G.2.2.1 2) n (fun j => vof G.2.1 .byte (c0 a j))).setSlot i.toNat x)) (rok_fits (ad := G.2.1) (ty := .byte) ⟨by decide, by decide⟩ hv).1
    
  · intro q hq'
    rcases List.mem_append.mp hq' with h3 | h3
    · exact hL q h3
    · rw [List.mem_singleton.mp h3]; exact hK.2.1 a ha
theorem s_zast {a n : Nat} {z i v : Int} (ht : t a = (53, n)) (hz : z = (a : Int)) (ha : kO ≤ a) (hc : up2 c0 a i.toNat v = c1) (hd : decode μ.1 pc = .ok (.bastore, 1)) (h : Sm k post (WP G Γ μ r (pc + 1) ls st (sz, sl, t, c1))) : Sm (gd (0 ≤ i ∧ i < (n : Int) ∧ 0 ≤ v ∧ v < 2) k) post (WP G Γ μ r pc ls ((0, v) :: (0, i) :: (2, z) :: st) (sz, sl, t, c0)) := by
  refine h.gd (fun hR h => ?_)
  obtain ⟨p, l, e, R, s, m, args, below, meth, c, Q, z0, s0⟩ := Γ
  subst hz; subst hc
  refine ⟨h.1, fun hC h1 h2 hz0 hs0 H locs lsa hH hL hl => ?_⟩
  obtain ⟨hx, hb, hml, hown, hts, hK, -⟩ := id hC
  obtain ⟨-, e1, e2⟩ := hH.arr (q := 3) ht (by decide)
  have hA := (hK.2.2.2.1 3 .boolean rfl).1
  have hi : inR i := ok2 h2
  have hv : rok .boolean v := hR.2.2
  show W p l e R s m args below meth c H locs _ _ Q (F0 m pc lsa (dv G.2.1 (0, v) :: .int (i32 i) :: rfv G.2.1 (a : Int) :: st.map (dv G.2.1)))
  rw [rfv_nat]
  refine W.zast hx hb e1 (hA n _) (fun q => by cases q) (by rw [arrV_size]; exact i32_inn hi ⟨hR.1, hR.2.1⟩) rfl rfl hd (fun H' f1 f2 f3 => ?_)
  refine h.2 hC h1 (okt (okt (okt h2))) hz0 hs0 H' _ lsa (hH.aset (q := 3) hK.1 (hK.2.1 a ha) ht (by decide) hv f2 f3 ?_) ?_ hl
  · rw [f1, i32_clamp hi hR.1]
    exact congrArg (fun x => some ((arrV (G.2.2.1 3) n (fun j => vof G.2.1 .boolean (c0 a j))).setSlot i.toNat x)) (rok_fits (ad := G.2.1) (ty := .boolean) ⟨by decide, by decide⟩ hv).1
    
  · intro q hq'
    rcases List.mem_append.mp hq' with h3 | h3
    · exact hL q h3
    · rw [List.mem_singleton.mp h3]; exact hK.2.1 a ha
end ArrR
