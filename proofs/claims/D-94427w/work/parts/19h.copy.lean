/-! LAYER 1o: System.arraycopy -/
theorem i32_nn {z : Int} (h : inR z) (h0 : 0 ≤ z) : ¬ i32 z < 0 := fun q => by have := (i32_lt h (show inR 0 by decide)).mp q; omega
section CopyR
variable {G : GG} {Γ : Cx} {μ : MI} {r : Vv × Wd} {pc : Nat} {ls ls' : List (Option Vv)} {st st' : List Vv} {sz sl : Nat} {t : TT} {c0 c1 : CC}
variable {X : Type} {k k1 k2 : Option X} {post : X → Prop}
def MCopy (own : String) (idx : Nat) : Prop := Cond.methodLink own idx arraycopyName ∈ lw_all ∧ Cond.native arraycopyName ∈ lw_all ∧ Cond.static arraycopyName ∈ lw_all ∧ Cond.initialized "java/lang/System" ∈ lw_all
/-- what arraycopy asks of a value that goes into an array of references -/
def elemOK (G : GG) (t : TT) (q : Nat) (z : Int) : Prop := z < 0 ∨ ∃ (b ci N : Nat) (C E : String), z = (b : Int) ∧ t b = (ci, N) ∧ (kCl[ci]?.map (fun q => q.1)) = some C ∧ aty q = .object E ∧ PP (va_Nw (Cond.castable C E))
theorem w_copy {idx a0 a q n0 n1 : Nat} {z0' z1 sp dp n : Int} (hM : MCopy μ.2.1 idx) (hq : q < 10) (hq0 : q = 0 ∨ ((∃ E, aty q = .object E) ∧ ∀ i : Nat, i < n.toNat → elemOK G t q (c0 a0 (sp.toNat + i)))) (ht0 : t a0 = (50 + q, n0)) (ht1 : t a = (50 + q, n1)) (hz0 : z0' = (a0 : Int)) (hz1 : z1 = (a : Int)) (ha : kO ≤ a) (hR : (0 ≤ sp ∧ 0 ≤ dp ∧ 0 ≤ n) ∧ sp + n ≤ (n0 : Int) ∧ dp + n ≤ (n1 : Int)) (hdd : 1 ≤ μ.2.2.2.2.1) (hroom : (st.map (fun v : Vv => if v.1 = 1 then 2 else 1)).sum ≤ 8) (hd : decode μ.1 pc = .ok (.invokestatic idx, 3))
    (h : WP G Γ μ r (pc + 3) ls st (sz, sl, t, cpy c0 a0 a sp.toNat dp.toNat n.toNat)) : WP G Γ μ r pc ls ((0, n) :: (0, dp) :: (2, z1) :: (0, sp) :: (2, z0') :: st) (sz, sl, t, c0) := by
  obtain ⟨p, l, e, R, s, m, args, below, meth, c, Q, zz, ss⟩ := Γ
  subst hz0; subst hz1
  refine ⟨h.1, fun hC h1 h2 hzz hss H locs lsa hH hL hl => ?_⟩
  obtain ⟨hx, hb, hml, hown, hts, hK, hnm, ⟨hR1, hR2, hR3, hR4⟩, -⟩ := id hC
  obtain ⟨⟨g0, g1, g2⟩, g3, g4⟩ := hR
  have in1 : inR n := okh h2
  have in2 : inR dp := ok2 h2
  have in3 : inR sp := ok2 (okt (okt h2))
  obtain ⟨-, e1, e2⟩ := hH.arr ht0 hq
  obtain ⟨-, f1, f2⟩ := hH.arr ht1 hq
  have hA := (hK.2.2.2.1 q (aty q) (kAr_at q hq)).1
  obtain ⟨-, k0, hk0, cm0, hkk0⟩ := hA n0 (fun j => vof G.2.1 (aty q) (c0 a0 j))
  obtain ⟨-, k1, hk1, cm1, hkk1⟩ := hA n1 (fun j => vof G.2.1 (aty q) (c0 a j))
  show W p l e R s m args below meth c H locs _ _ Q (F0 m pc lsa (.int (i32 n) :: .int (i32 dp) :: rfv G.2.1 (a : Int) :: .int (i32 sp) :: rfv G.2.1 (a0 : Int) :: st.map (dv G.2.1)))
  rw [rfv_nat, rfv_nat]
  intro T hT X
  have hsum := catsum G.2.1 st hroom
  have hgd : ∀ i, i < n.toNat → (arrV (G.2.2.1 q) n0 (fun j => vof G.2.1 (aty q) (c0 a0 j))).slots.getD (sp.toNat + i) .null = vof G.2.1 (aty q) (c0 a0 (sp.toNat + i)) := by
    intro i hi
    rw [Array.getD_eq_getD_getElem?, arrV_read _ _ (by omega)]
    rfl
  obtain ⟨vm', X', step⟩ := X.arraycopy hx hown (hts _ hM.1) (hts _ hM.2.1) (hts _ hM.2.2.1) (hts _ hM.2.2.2) (src := G.2.1 a0) (dst := G.2.1 a) (cs := arrV (G.2.2.1 q) n0 (fun j => vof G.2.1 (aty q) (c0 a0 j))) (cd := arrV (G.2.2.1 q) n1 (fun j => vof G.2.1 (aty q) (c0 a j))) (srcPos := i32 sp) (destPos := i32 dp) (n := i32 n) (by rw [hT]; exact e1) (by rw [hT]; exact f1)
    (fun _ h => by cases h) (fun _ h => by cases h) (fun h => by cases h) (fun h => by cases h) hk0 hk1 hkk0 hkk1 (by simp) (i32_nn in3 g0) (i32_nn in2 g1) (i32_nn in1 g2)
    (by rw [i32_toInt in3, i32_toInt in1, arrV_size]; omega)
    (by rw [i32_toInt in2, i32_toInt in1, arrV_size]; omega)
    (fun vm₁ hal i hi => by
      rw [i32_clamp in1 g2] at hi
      rw [i32_clamp in3 g0, hgd i hi]
      rcases hq0 with hq0 | ⟨⟨E, hE⟩, hel⟩
      · subst hq0
        exact ⟨rfl, trivial⟩
      · have hfit := (rok_fits (ad := G.2.1) (aty_nf q hq) (e2 (sp.toNat + i) (by omega))).2
        refine ⟨hfit, ?_⟩
        rcases hel i hi with hneg | ⟨b, ci, N, C, E', hz, htb, hcl, hE', hca⟩
        · have e3 : vof G.2.1 (aty q) (c0 a0 (sp.toNat + i)) = .null := by rw [hE]; exact if_pos hneg
          rw [e3]
          exact trivial
        · have e3 : vof G.2.1 (aty q) (c0 a0 (sp.toNat + i)) = .ref (G.2.1 b) := by
            rw [hE, hz]
            exact rfv_nat G.2.1 b
          rw [e3]
          obtain ⟨cellV, v1, v3, v2⟩ := recvOK (w := (sz, sl, t, c0)) hK hH htb hcl
          have hRA := (hK.2.2.2.1 q (aty q) (kAr_at q hq)).2
          rw [hE'] at hRA
          obtain ⟨kA, comp, y1, y2, y3, -⟩ := hRA
          have hk1' : s.vm.classes[G.2.2.1 q]? = some k1 := hk1
          cases hk1'.symm.trans y1
          rw [hkk1] at y2
          have hcomp : cm1 = comp := by injection y2
          subst hcomp
          have hcaN : va_Nw (Cond.castable C E') s := hK.2.2.2.2.2 _ hca
          obtain ⟨cc0, t1, w1, w2, w3⟩ := Cond.castable_spec (va_Nw.use (A := args) rfl hcaN)
          cases y3.symm.trans w2
          have hcc0 : cc0 = cellV.cls := Option.some.inj (w1.symm.trans v2)
          subst hcc0
          obtain ⟨kC, hkC, -⟩ := Vm.findClass_spec v2
          obtain ⟨kE, hkE, -⟩ := Vm.findClass_spec y3
          obtain ⟨kC', hkC', -⟩ := hal.2.2 _ _ hkC
          obtain ⟨kE', hkE', -⟩ := hal.2.2 _ _ hkE
          refine ⟨cellV, (show T.heap[G.2.1 b]? = some cellV by rw [hT]; exact v1), (fun q h => by rw [h] at v3; cases v3), ⟨kC', hkC'⟩, ⟨kE', hkE'⟩, ?_⟩
          show vm₁.assignable _ _ = true
          rw [hal.assignable]
          exact w3)
    (g := F0 m pc lsa (.int (i32 n) :: .int (i32 dp) :: .ref (G.2.1 a) :: .int (i32 sp) :: .ref (G.2.1 a0) :: st.map (dv G.2.1))) rfl (by show lsa.size = c.maxLocals; rw [hml]; exact hl.1) (rest := st.map (dv G.2.1)) rfl (by rw [hb]; exact hd) (Nat.le_trans hdd hR1) (by
      have e4 : nativeFrameWords "java/lang/System" "arraycopy" 5 + 11 ≤ 48 := by decide +kernel
      show 2 * 0 + _ + _ ≤ _
      omega)
  have e5 : copied (arrV (G.2.2.1 q) n0 (fun j => vof G.2.1 (aty q) (c0 a0 j))) (arrV (G.2.2.1 q) n1 (fun j => vof G.2.1 (aty q) (c0 a j))) (i32 sp) (i32 dp) (i32 n) = arrV (G.2.2.1 q) n1 (fun j => vof G.2.1 (aty q) (va_cpy (c0 a0) (c0 a) sp.toNat dp.toNat n.toNat j)) := by
    have := va_copied (fun z => vof G.2.1 (aty q) z) (G.2.2.1 q) (G.2.2.1 q) (n0 := n0) (n1 := n1) (sp := sp.toNat) (dp := dp.toNat) (n := n.toNat) (c0 a0) (c0 a) (by omega)
    rw [← this]
    unfold copied
    rw [i32_clamp in3 g0, i32_clamp in2 g1, i32_clamp in1 g2]
  rw [e5] at X' step
  have hlt : G.2.1 a < T.heap.size := by rw [hT]; exact (Array.getElem?_eq_some_iff.mp f1).1
  have hH' : HeapOK G (sz, sl, t, cpy c0 a0 a sp.toNat dp.toNat n.toNat) ((T.setVm vm').setCell (G.2.1 a) (arrV (G.2.2.1 q) n1 (fun j => vof G.2.1 (aty q) (va_cpy (c0 a0) (c0 a) sp.toNat dp.toNat n.toNat j)))).heap := by
    refine hH.cell (a := a) hK.1 (hK.2.1 a ha) (by rw [size_setCell, ← hT]; rfl) (fun q hq => by rw [heapAt_setCell_ne _ (Ne.symm hq), ← hT]; rfl) (fun b hb => cpy_off hb) ?_
    rw [ht1]
    refine ⟨fun h3 => absurd h3 (by show ¬ 50 + q < 50; omega), fun _ _ => ?_⟩
    have e6 : 50 + q - 50 = q := by omega
    show arrOK G _ a (50 + q - 50) n1 _
    rw [e6, cpy_at]
    refine ⟨hq, heapAt_setCell_self _ hlt, fun j hj => ?_⟩
    unfold va_cpy
    split
    · exact e2 _ (by omega)
    · exact f2 j hj
  obtain ⟨t', a1, b1⟩ := h.2 hC h1 (okt (okt (okt (okt (okt h2))))) hzz hss _ _ lsa hH' (fun q hq => by
    rcases List.mem_append.mp hq with h | h
    · exact hL q h
    · obtain ⟨z, -, hz⟩ := List.mem_map.mp h
      rw [← hz]
      exact hK.2.1 a ha) hl _ rfl X'
  exact ⟨t', step t' a1, b1⟩
end CopyR
