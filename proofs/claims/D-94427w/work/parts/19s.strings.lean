/-! LAYER 1t: what lies in the heap from the start: reads of it -/
def sLen (a : Nat) : Nat := sLens.getD (a - 3) 0
def sCh (a i : Nat) : Int := ((sByt.getD (a - 3) []).getD i 0).toInt
theorem sCh_at (i j : Nat) : Value.int ((sByt.getD i []).getD j 0) = .int (i32 (sCh (3 + i) j)) := by
  unfold sCh i32
  rw [show 3 + i - 3 = i by omega]
  congr 1
  exact (Int32.ofInt_toInt _).symm
theorem sCh_small : ∀ i, i < 20 → ∀ j, j < sLens.getD i 0 → 97 ≤ sCh (3 + i) j ∧ sCh (3 + i) j ≤ 122 := by decide +kernel
theorem sLen_small : ∀ i, i < 20 → sLens.getD i 0 ≤ 6 := by decide +kernel
section Old
variable {G : GG} {Γ : Cx} {μ μy : MI} {r : Vv × Wd} {pc : Nat} {ls : List (Option Vv)} {st : List Vv} {sz sl : Nat} {td : TT} {c : CC} {w : Wd} {y : MethodName}
variable {X B : Type} {k : Option X} {post : X → Prop}
theorem oldAt {H : Heap} (hH : HeapOK G w H) {a : Nat} {cell : Cell} (h : G.2.2.2[a]? = some cell) : H[a]? = some cell := by
  rw [hH.2.2.2.2 a (Array.getElem?_eq_some_iff.mp h).1]; exact h
theorem Kn.sx {s : State} (h : Kn G s) : SX G s := h.2.2.2.2.1.2.2
theorem w_gets {idx : Nat} {C n d : String} {tv : Vv} (hok : okv tv) (hZ : ∀ U, SX G U → va_Z C n d (dv G.2.1 tv) (oldQ G) U G.2.2.2) (hl : Cond.fieldLink μ.2.1 idx C n d ∈ lw_all) (hd : decode μ.1 pc = .ok (.getstatic idx, 3)) (h : WP G Γ μ r (pc + 3) ls (tv :: st) w) : WP G Γ μ r pc ls st w := by
  obtain ⟨p, l, e, R, s, m, args, below, meth, c, Q, z0, s0⟩ := Γ
  refine ⟨h.1, fun hX h1 h2 hz0 hs0 H locs lsa hH hL hl' => ?_⟩
  obtain ⟨hx, hb, hml, hown, hts, hK, hnm, -⟩ := id hX
  obtain ⟨cf, kf, fi, f, a, cell, g1, g2, g3, g4, g5, g6, g7, g8⟩ := hZ s hK.sx
  exact W.gets hx hb hown (hts _ hl) g1 g2 g3 g4 (oldAt hH g5) (fun e => by rw [e] at g6; cases g6) g7 rfl hd (h.2 hX h1 (okc hok h2) hz0 hs0 H locs lsa hH hL hl')
theorem s_getst1 (hμ : μ.2.1 = RX5) (hd : decode μ.1 pc = .ok (.getstatic 46, 3)) (h : Sm k post (WP G Γ μ r (pc + 3) ls ((2, 1) :: st) w)) : Sm k post (WP G Γ μ r pc ls st w) :=
  h.map (w_gets (tv := (2, 1)) (okr _) (fun U hS => hS.1) (by rw [hμ]; exact q419) hd)
theorem s_getst2 (hμ : μ.2.1 = RX5) (hd : decode μ.1 pc = .ok (.getstatic 54, 3)) (h : Sm k post (WP G Γ μ r (pc + 3) ls ((2, 2) :: st) w)) : Sm k post (WP G Γ μ r pc ls st w) :=
  h.map (w_gets (tv := (2, 2)) (okr _) (fun U hS => hS.2.1) (by rw [hμ]; exact q473) hd)
/-- COMPACT_STRINGS -/
theorem s_getCS (hμ : μ.2.1 = "java/lang/String") (hd : decode μ.1 pc = .ok (.getstatic 38, 3)) (h : Sm k post (WP G Γ μ r (pc + 3) ls ((0, 1) :: st) w)) : Sm k post (WP G Γ μ r pc ls st w) :=
  h.map (w_gets (tv := (0, 1)) (by show inR 1; decide) (fun U hS => hS.2.2.2.2.2.1) (by rw [hμ]; exact q433) hd)
/-- the length of an array that was there -/
theorem w_alenO {a N : Nat} {ty : FieldType} {f : Nat → Value} (hN : N < 1000) (hT : ∀ U, SX G U → va_T ty (G.2.1 a) N f (oldQ G) U G.2.2.2) (hd : decode μ.1 pc = .ok (.arraylength, 1)) (h : WP G Γ μ r (pc + 1) ls ((0, (N : Int)) :: st) w) : WP G Γ μ r pc ls ((2, (a : Int)) :: st) w := by
  obtain ⟨p, l, e, R, s, m, args, below, meth, c, Q, z0, s0⟩ := Γ
  refine ⟨h.1, fun hX h1 h2 hz0 hs0 H locs lsa hH hL hl' => ?_⟩
  obtain ⟨hx, hb, hml, hown, hts, hK, hnm, -⟩ := id hX
  obtain ⟨cell, g1, g2, g3, g4, g5, g6, g7⟩ := hT s hK.sx
  show W p l e R s m args below meth c H locs _ _ Q (F0 m pc lsa (rfv G.2.1 (a : Int) :: st.map (dv G.2.1)))
  rw [rfv_nat]
  have hk := h.2 hX h1 (okc (show okv (0, (N : Int)) from (show inR (N : Int) by unfold inR; omega)) (okt h2)) hz0 hs0 H locs lsa hH hL hl'
  have e1 : (0, (N : Int)) = ((0, ((N : Nat) : Int)) : Vv) := rfl
  exact W.alen (n := Int32.ofNat N) hx hb (oldAt hH g1) g2 g5 rfl rfl hd hk
theorem s_alenH1 (hd : decode μ.1 pc = .ok (.arraylength, 1)) (h : Sm k post (WP G Γ μ r (pc + 1) ls ((0, 13) :: st) w)) : Sm k post (WP G Γ μ r pc ls ((2, 1) :: st) w) :=
  h.map (w_alenO (a := 1) (N := 13) (by decide) (fun U hS => hS.2.2.1) hd)
theorem s_alenH2 (hd : decode μ.1 pc = .ok (.arraylength, 1)) (h : Sm k post (WP G Γ μ r (pc + 1) ls ((0, 7) :: st) w)) : Sm k post (WP G Γ μ r pc ls ((2, 2) :: st) w) :=
  h.map (w_alenO (a := 2) (N := 7) (by decide) (fun U hS => hS.2.2.2.1) hd)
theorem s_alenB {z : Int} (hd : decode μ.1 pc = .ok (.arraylength, 1)) (h : Sm k post (WP G Γ μ r (pc + 1) ls ((0, (sLen (z.toNat - 20) : Int)) :: st) w)) : Sm (gd (23 ≤ z ∧ z ≤ 42) k) post (WP G Γ μ r pc ls ((2, z) :: st) w) := by
  intro x0 hx0 hp
  by_cases hR : 23 ≤ z ∧ z ≤ 42
  · rw [gd_pos hR] at hx0
    obtain ⟨i, rfl⟩ : ∃ i : Nat, z = ((23 + i : Nat) : Int) := ⟨z.toNat - 23, by omega⟩
    have hi : i < 20 := by omega
    have := h x0 hx0 hp
    rw [show sLen (((23 + i : Nat) : Int).toNat - 20) = sLens.getD i 0 by unfold sLen; congr 1; omega] at this
    exact w_alenO (a := 23 + i) (by have := sLen_small i hi; omega) (fun U hS => (hS.2.2.2.2.1.1 i hi).2.2.2) hd this
  · rw [gd_neg hR] at hx0; cases hx0
/-- an entry of an array of references that was there -/
theorem w_aaldO {a N : Nat} {C : String} {g : Nat → Nat} {i : Int} (hT : ∀ U, SX G U → va_T (.object C) (G.2.1 a) N (fun j => .ref (G.2.1 (g j))) (oldQ G) U G.2.2.2) (hR : 0 ≤ i ∧ i < (N : Int)) (hd : decode μ.1 pc = .ok (.aaload, 1)) (h : WP G Γ μ r (pc + 1) ls ((2, (g i.toNat : Int)) :: st) w) : WP G Γ μ r pc ls ((0, i) :: (2, (a : Int)) :: st) w := by
  obtain ⟨p, l, e, R, s, m, args, below, meth, c, Q, z0, s0⟩ := Γ
  refine ⟨h.1, fun hX h1 h2 hz0 hs0 H locs lsa hH hL hl' => ?_⟩
  obtain ⟨hx, hb, hml, hown, hts, hK, hnm, -⟩ := id hX
  obtain ⟨cell, g1, g2, g3, g4, g5, g6, g7⟩ := hT s hK.sx
  have hi : inR i := okh h2
  have hk := h.2 hX h1 (okc (okr _) (okt (okt h2))) hz0 hs0 H locs lsa hH hL hl'
  show W p l e R s m args below meth c H locs _ _ Q (F0 m pc lsa (.int (i32 i) :: rfv G.2.1 (a : Int) :: st.map (dv G.2.1)))
  rw [rfv_nat]
  have hk : W p l e R s m args below meth c H locs _ _ Q (F0 m (pc + 1) lsa (rfv G.2.1 (g i.toNat : Int) :: st.map (dv G.2.1))) := hk
  rw [rfv_nat] at hk
  refine W.aald (v := .ref (G.2.1 (g i.toNat))) hx hb (oldAt hH g1) g2 rfl g3 (i32_inn hi ⟨hR.1, by omega⟩) ?_ rfl rfl hd hk
  rw [i32_clamp hi hR.1, g6 _ (by omega)]
theorem s_aaldH1 {i : Int} (hd : decode μ.1 pc = .ok (.aaload, 1)) (h : Sm k post (WP G Γ μ r (pc + 1) ls ((2, i + 3) :: st) w)) : Sm (gd (0 ≤ i ∧ i < 13) k) post (WP G Γ μ r pc ls ((0, i) :: (2, 1) :: st) w) :=
  h.gd (fun hR hw => w_aaldO (a := 1) (N := 13) (g := fun j => 3 + j) (fun U hS => hS.2.2.1) hR hd (by
    rw [show (((fun j => 3 + j) i.toNat : Nat) : Int) = i + 3 by show ((3 + i.toNat : Nat) : Int) = i + 3; omega]; exact hw))
theorem s_aaldH2 {i : Int} (hd : decode μ.1 pc = .ok (.aaload, 1)) (h : Sm k post (WP G Γ μ r (pc + 1) ls ((2, i + 16) :: st) w)) : Sm (gd (0 ≤ i ∧ i < 7) k) post (WP G Γ μ r pc ls ((0, i) :: (2, 2) :: st) w) :=
  h.gd (fun hR hw => w_aaldO (a := 2) (N := 7) (g := fun j => 16 + j) (fun U hS => hS.2.2.2.1) hR hd (by
    rw [show (((fun j => 16 + j) i.toNat : Nat) : Int) = i + 16 by show ((16 + i.toNat : Nat) : Int) = i + 16; omega]; exact hw))
/-- a byte of a word -/
theorem s_baldB {z i : Int} (hd : decode μ.1 pc = .ok (.baload, 1)) (h : Sm k post (WP G Γ μ r (pc + 1) ls ((0, sCh (z.toNat - 20) i.toNat) :: st) w)) : Sm (gd ((23 ≤ z ∧ z ≤ 42) ∧ 0 ≤ i ∧ i < (sLen (z.toNat - 20) : Int)) k) post (WP G Γ μ r pc ls ((0, i) :: (2, z) :: st) w) := by
  intro x0 hx0 hp
  by_cases hR : (23 ≤ z ∧ z ≤ 42) ∧ 0 ≤ i ∧ i < (sLen (z.toNat - 20) : Int)
  · rw [gd_pos hR] at hx0
    obtain ⟨q, rfl⟩ : ∃ q : Nat, z = ((23 + q : Nat) : Int) := ⟨z.toNat - 23, by omega⟩
    have hq : q < 20 := by omega
    have e0 : ((23 + q : Nat) : Int).toNat - 20 = 3 + q := by omega
    have h := h x0 hx0 hp
    rw [e0] at h hR
    have hlen : sLen (3 + q) = sLens.getD q 0 := by unfold sLen; congr 1; omega
    obtain ⟨-, hR2⟩ := hR
    rw [hlen] at hR2
    have hsm := sCh_small q hq i.toNat (by omega)
    obtain ⟨p, l, e, R, s, m, args, below, meth, c, Q, z0, s0⟩ := Γ
    refine ⟨h.1, fun hX h1 h2 hz0 hs0 H locs lsa hH hL hl' => ?_⟩
    obtain ⟨hx, hb, hml, hown, hts, hK, hnm, -⟩ := id hX
    obtain ⟨cell, g1, g2, g3, g4, g5, g6, g7⟩ := (hK.sx.2.2.2.2.1.1 q hq).2.2.2
    have hi : inR i := okh h2
    have hk := h.2 hX h1 (okc (show okv (0, sCh (3 + q) i.toNat) from (show inR _ by unfold inR; omega)) (okt (okt h2))) hz0 hs0 H locs lsa hH hL hl'
    show W p l e R s m args below meth c H locs _ _ Q (F0 m pc lsa (.int (i32 i) :: rfv G.2.1 ((23 + q : Nat) : Int) :: st.map (dv G.2.1)))
    rw [rfv_nat]
    refine W.bald (v := dv G.2.1 (0, sCh (3 + q) i.toNat)) hx hb (oldAt hH g1) g2 g3 (i32_inn hi ⟨hR2.1, by omega⟩) ?_ rfl rfl hd hk
    rw [i32_clamp hi hR2.1, g6 _ (by omega)]
    exact congrArg some (sCh_at q i.toNat)
  · rw [gd_neg hR] at hx0; cases hx0
/-- a String's own fields -/
theorem w_getfO {idx q : Nat} {n d : String} {tv : Vv} (hok : okv tv) (hT : ∀ U, SX G U → va_OF "java/lang/String" n d (dv G.2.1 tv) (G.2.1 q) (oldQ G) U G.2.2.2) (hl : Cond.fieldLink μ.2.1 idx "java/lang/String" n d ∈ lw_all) (hd : decode μ.1 pc = .ok (.getfield idx, 3)) (h : WP G Γ μ r (pc + 3) ls (tv :: st) w) : WP G Γ μ r pc ls ((2, (q : Int)) :: st) w := by
  obtain ⟨p, l, e, R, s, m, args, below, meth, c, Q, z0, s0⟩ := Γ
  refine ⟨h.1, fun hX h1 h2 hz0 hs0 H locs lsa hH hL hl' => ?_⟩
  obtain ⟨hx, hb, hml, hown, hts, hK, hnm, -⟩ := id hX
  obtain ⟨cf, kk, fi, f, cell, g1, g2, g3, g4, g5, g6⟩ := hT s hK.sx
  have hk := h.2 hX h1 (okc hok (okt h2)) hz0 hs0 H locs lsa hH hL hl'
  show W p l e R s m args below meth c H locs _ _ Q (F0 m pc lsa (rfv G.2.1 (q : Int) :: st.map (dv G.2.1)))
  rw [rfv_nat]
  exact W.getf hx hb hown (hts _ hl) g1 g2 (oldAt hH g3) g4 (v := dv G.2.1 tv) g5 rfl rfl hd hk
theorem strIx {z : Int} (hR : 3 ≤ z ∧ z ≤ 22) : ∃ i : Nat, z = ((3 + i : Nat) : Int) ∧ i < 20 := ⟨z.toNat - 3, by omega, by omega⟩
theorem s_getSV {z : Int} (hμ : μ.2.1 = "java/lang/String") (hd : decode μ.1 pc = .ok (.getfield 9, 3)) (h : Sm k post (WP G Γ μ r (pc + 3) ls ((2, z + 20) :: st) w)) : Sm (gd (3 ≤ z ∧ z ≤ 22) k) post (WP G Γ μ r pc ls ((2, z) :: st) w) :=
  h.gd (fun hR hw => by
    obtain ⟨i, rfl, hi⟩ := strIx hR
    refine w_getfO (q := 3 + i) (tv := (2, ((23 + i : Nat) : Int))) (okr _) (fun U hS => ?_) (by rw [hμ]; exact q1953) hd ?_
    · have := (hS.2.2.2.2.1.1 i hi).2.2.1
      rw [show dv G.2.1 (2, ((23 + i : Nat) : Int)) = .ref (G.2.1 (23 + i)) from rfv_nat _ _]
      exact this
    · rw [show ((23 + i : Nat) : Int) = ((3 + i : Nat) : Int) + 20 by omega]
      exact hw)
theorem s_getSC {z : Int} (hμ : μ.2.1 = "java/lang/String") (hd : decode μ.1 pc = .ok (.getfield 15, 3)) (h : Sm k post (WP G Γ μ r (pc + 3) ls ((0, 0) :: st) w)) : Sm (gd (3 ≤ z ∧ z ≤ 22) k) post (WP G Γ μ r pc ls ((2, z) :: st) w) :=
  h.gd (fun hR hw => by
    obtain ⟨i, rfl, hi⟩ := strIx hR
    exact w_getfO (q := 3 + i) (tv := (0, 0)) (by show inR 0; decide) (fun U hS => (hS.2.2.2.2.1.1 i hi).2.1) (by rw [hμ]; exact q1954) hd hw)
end Old
