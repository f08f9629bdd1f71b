/-! LAYER 1n: null into an array, an array into an array, casts, copies of int arrays -/
def cpy (c : CC) (a0 a sp dp n : Nat) : CC := fun b j => if b = a ∧ dp ≤ j ∧ j < dp + n then c a0 (sp + (j - dp)) else c b j
theorem cpy_off {c : CC} {a0 a sp dp n b : Nat} (h : b ≠ a) : cpy c a0 a sp dp n b = c b := by
  funext j
  exact if_neg (fun q => h q.1)
theorem cpy_at (c : CC) (a0 a sp dp n : Nat) : cpy c a0 a sp dp n a = va_cpy (c a0) (c a) sp dp n := by
  funext j
  unfold cpy va_cpy
  by_cases h : dp ≤ j ∧ j < dp + n
  · rw [if_pos ⟨rfl, h⟩, if_pos h]
  · rw [if_neg (fun q => h q.2), if_neg h]
theorem HeapOK.cell {G : GG} {sz sl : Nat} {t : TT} {c c' : CC} {H H' : Heap} {a : Nat} (h : HeapOK G (sz, sl, t, c) H) (hinj : ∀ a b, G.2.2.2.size ≤ G.2.1 a → G.2.1 a = G.2.1 b → a = b) (hB : G.2.2.2.size ≤ G.2.1 a) (hs : H'.size = H.size) (ho : ∀ q, q ≠ G.2.1 a → H'[q]? = H[q]?) (hoff : ∀ b, b ≠ a → c' b = c b)
    (hc : cellOK G H' a (t a) (c' a)) : HeapOK G (sz, sl, t, c') H' := by
  refine ⟨fun b => ?_, fun j => by rw [hs]; exact h.2.1 j, h.2.2.1, by rw [hs]; exact h.2.2.2.1, fun q hq => (ho q (by omega)).trans (h.2.2.2.2 q hq)⟩
  by_cases hb : b = a
  · subst hb; exact hc
  · have hq : H'[G.2.1 b]? = H[G.2.1 b]? := ho _ (fun q => hb (hinj _ _ hB q.symm).symm)
    have hcell := h.1 b
    show cellOK G H' b (t b) (c' b)
    rw [hoff b hb]
    refine ⟨fun h1 => ?_, fun h1 h2 => ?_⟩
    · obtain ⟨⟨q, e1, e2, e3⟩, e4⟩ := hcell.1 h1
      exact ⟨⟨q, e1, e2, e3.kept hq⟩, e4⟩
    · obtain ⟨e0, e1, e2⟩ := hcell.2 h1 h2
      exact ⟨e0, hq.trans e1, e2⟩
theorem asg_self (vm : Vm) (c : ClassId) : vm.assignable c c = true := by
  show Vm.assignableAux vm (255 + 1) c c = true
  unfold Vm.assignableAux
  simp
theorem fitsNull {T : State} {cell : Cell} {ty : FieldType} {j : Nat} (h : T.isArrayOf cell ty) (hty : (∃ E, ty = .object E) ∨ ∃ E, ty = .array E) : T.fitsSlot cell.cls cell.vm j .null = true := by
  obtain ⟨hobj, k, hk, comp, hkind⟩ := h
  rcases hty with ⟨E, rfl⟩ | ⟨E, rfl⟩
  · cases hvm : cell.vm <;> first | exact absurd hvm (hobj _) | simp [State.fitsSlot, State.slotType?, hk, hkind, fits]
  · cases hvm : cell.vm <;> first | exact absurd hvm (hobj _) | simp [State.fitsSlot, State.slotType?, hk, hkind, fits]
section Ref2
variable {G : GG} {Γ : Cx} {μ : MI} {r : Vv × Wd} {pc : Nat} {ls ls' : List (Option Vv)} {st st' : List Vv} {sz sl : Nat} {t : TT} {c0 c1 : CC}
variable {X : Type} {k k1 k2 : Option X} {post : X → Prop}
theorem w_aastN {a q n : Nat} {z i v : Int} (hq : q < 10) (hty : (∃ E, aty q = .object E) ∨ ∃ E, aty q = .array E) (ht : t a = (50 + q, n)) (hz : z = (a : Int)) (ha : kO ≤ a) (hi : 0 ≤ i ∧ i < (n : Int)) (hv : v < 0) (hc : up2 c0 a i.toNat v = c1) (hd : decode μ.1 pc = .ok (.aastore, 1)) (h : WP G Γ μ r (pc + 1) ls st (sz, sl, t, c1)) : WP G Γ μ r pc ls ((2, v) :: (0, i) :: (2, z) :: st) (sz, sl, t, c0) := by
  obtain ⟨p, l, e, R, s, m, args, below, meth, c, Q, z0, s0⟩ := Γ
  subst hz; subst hc
  refine ⟨h.1, fun hC h1 h2 hz0 hs0 H locs lsa hH hL hl => ?_⟩
  obtain ⟨hx, hb, hml, hown, hts, hK, -⟩ := id hC
  obtain ⟨-, e1, e2⟩ := hH.arr ht hq
  have hinr : inR i := ok2 h2
  have harr := (hK.2.2.2.1 q (aty q) (kAr_at q hq)).1 n (fun j => vof G.2.1 (aty q) (c0 a j))
  have hin : ¬ (i32 i < 0 ∨ (arrV (G.2.2.1 q) n (fun j => vof G.2.1 (aty q) (c0 a j))).slots.size ≤ (i32 i).toNatClampNeg) := by rw [arrV_size]; exact i32_inn hinr hi
  have hnull : vof G.2.1 (aty q) v = .null := by
    rcases hty with ⟨E, hE⟩ | ⟨E, hE⟩ <;> rw [hE] <;> exact if_pos hv
  have hrok : rok (aty q) v := by
    rcases hty with ⟨E, hE⟩ | ⟨E, hE⟩ <;> rw [hE] <;> trivial
  have hnn : rfv G.2.1 v = .null := if_pos hv
  show W p l e R s m args below meth c H locs _ _ Q (F0 m pc lsa (rfv G.2.1 v :: .int (i32 i) :: rfv G.2.1 (a : Int) :: st.map (dv G.2.1)))
  rw [rfv_nat, hnn]
  intro T hT X
  have hT' : T.heap[G.2.1 a]? = some (arrV (G.2.2.1 q) n (fun j => vof G.2.1 (aty q) (c0 a j))) := by rw [hT]; exact e1
  have hTa := State.isArrayOf_alike X.warmed.alike harr
  have hfit : T.fitsSlot (arrV (G.2.2.1 q) n (fun j => vof G.2.1 (aty q) (c0 a j))).cls (arrV (G.2.2.1 q) n (fun j => vof G.2.1 (aty q) (c0 a j))).vm (i32 i).toNatClampNeg .null = true := fitsNull hTa hty
  have hlt : G.2.1 a < T.heap.size := (Array.getElem?_eq_some_iff.mp hT').1
  have X' := X.stored hT' (i32 i).toNatClampNeg .null
  have hH' : HeapOK G (sz, sl, t, up2 c0 a i.toNat v) (T.setCell (G.2.1 a) ((arrV (G.2.2.1 q) n (fun j => vof G.2.1 (aty q) (c0 a j))).setSlot (i32 i).toNatClampNeg .null)).heap := by
    refine hH.aset (q := q) hK.1 (hK.2.1 a ha) ht hq hrok (by rw [size_setCell, hT]) (fun q hq => by rw [heapAt_setCell_ne _ (Ne.symm hq), hT]) ?_
    rw [heapAt_setCell_self _ hlt, i32_clamp hinr hi.1, hnull]
  obtain ⟨t', a1, b1⟩ := h.2 hC h1 (okt (okt (okt h2))) hz0 hs0 _ _ lsa hH' (locs1 (i := (i32 i).toNatClampNeg) hK ha hL) hl _ rfl X'
  refine ⟨t', ?_, b1⟩
  jvm_step X.here [hx, hb, hd]
  refine aastore.wp_of_null (c := arrV (G.2.2.1 q) n (fun j => vof G.2.1 (aty q) (c0 a j))) (t := aty q) X.here.top rfl hT' hTa hin (fun h => by cases h) (Nat.not_le.mp fun q => hin (Or.inr q)) hfit ?_
  intro acts
  rw [afterInstr_ok]
  exact a1
/-- an int array into an array of int arrays -/
theorem w_aastA {a n b N : Nat} {z i v : Int} (ht : t a = (57, n)) (hz : z = (a : Int)) (ha : kO ≤ a) (hi : 0 ≤ i ∧ i < (n : Int)) (hv : v = (b : Int)) (htb : t b = (50, N)) (hc : up2 c0 a i.toNat v = c1) (hd : decode μ.1 pc = .ok (.aastore, 1)) (h : WP G Γ μ r (pc + 1) ls st (sz, sl, t, c1)) : WP G Γ μ r pc ls ((2, v) :: (0, i) :: (2, z) :: st) (sz, sl, t, c0) := by
  obtain ⟨p, l, e, R, s, m, args, below, meth, c, Q, z0, s0⟩ := Γ
  subst hz; subst hc; subst hv
  refine ⟨h.1, fun hC h1 h2 hz0 hs0 H locs lsa hH hL hl => ?_⟩
  obtain ⟨hx, hb, hml, hown, hts, hK, -⟩ := id hC
  obtain ⟨-, e1, e2⟩ := hH.arr (q := 7) ht (by decide)
  obtain ⟨-, f1, f2⟩ := hH.arr (q := 0) htb (by decide)
  have hinr : inR i := ok2 h2
  obtain ⟨⟨kA, y1, y2⟩, -⟩ := hK.2.2.2.2.1
  obtain ⟨-, kv, hkv, -, -⟩ := (hK.2.2.2.1 0 .int rfl).1 N (fun j => vof G.2.1 (aty 0) (c0 b j))
  show W p l e R s m args below meth c H locs _ _ Q (F0 m pc lsa (rfv G.2.1 (b : Int) :: .int (i32 i) :: rfv G.2.1 (a : Int) :: st.map (dv G.2.1)))
  rw [rfv_nat, rfv_nat]
  refine W.aast hx hb e1 (fun q h => by cases h) (fun h => by cases h) y1 y2 rfl hkv ⟨fun q => by have := (i32_lt hinr (show inR 0 by decide)).mp q; omega, by rw [arrV_size, i32_clamp hinr hi.1]; omega⟩ f1 (fun q h => by cases h) hkv (asg_self _ _) rfl rfl hd fun H' w1 w2 w3 => ?_
  refine h.2 hC h1 (okt (okt (okt h2))) hz0 hs0 H' _ lsa (hH.aset (q := 7) hK.1 (hK.2.1 a ha) ht (by decide) trivial w2 w3 ?_) (locs1 hK ha hL) hl
  rw [w1, i32_clamp hinr hi.1]
  show some ((arrV _ _ _).setSlot _ (Value.ref _)) = some ((arrV _ _ _).setSlot _ (rfv G.2.1 (b : Int)))
  rw [rfv_nat]
/-- a cast that holds -/
theorem w_cast {a ci N idx : Nat} {z : Int} {C E : String} (hl1 : Cond.classLink μ.2.1 idx E ∈ lw_all) (hca : PP (va_Nw (Cond.castable C E))) (ht : t a = (ci, N)) (hcl : (kCl[ci]?.map (fun q => q.1)) = some C) (hz : z = (a : Int)) (hd : decode μ.1 pc = .ok (.checkcast idx, 3)) (h : WP G Γ μ r (pc + 3) ls ((2, z) :: st) (sz, sl, t, c0)) : WP G Γ μ r pc ls ((2, z) :: st) (sz, sl, t, c0) := by
  obtain ⟨p, l, e, R, s, m, args, below, meth, c, Q, z0, s0⟩ := Γ
  subst hz
  refine ⟨h.1, fun hC h1 h2 hz0 hs0 H locs lsa hH hL hl => ?_⟩
  obtain ⟨hx, hb, hml, hown, hts, hK, -⟩ := id hC
  have hk := h.2 hC h1 h2 hz0 hs0 H locs lsa hH hL hl
  have hk : W p l e R s m args below meth c H locs _ _ Q (F0 m (pc + 3) lsa (rfv G.2.1 (a : Int) :: st.map (dv G.2.1))) := hk
  show W p l e R s m args below meth c H locs _ _ Q (F0 m pc lsa (rfv G.2.1 (a : Int) :: st.map (dv G.2.1)))
  rw [rfv_nat] at hk ⊢
  exact va_castY hx hb hown (hts _ hl1) (hK.2.2.2.2.2 _ hca) (recvOK (w := (sz, sl, t, c0)) hK hH ht hcl) hd hk
end Ref2
