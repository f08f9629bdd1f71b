/-! LAYER 1o: checkcast to the object's own kind -/
section CastS
variable {G : GG} {Γ : Cx} {μ : MI} {r : Vv × Wd} {pc : Nat} {ls : List (Option Vv)} {st : List Vv} {w : Wd} {X : Type} {k : Option X} {post : X → Prop}
theorem w_castS {a ci N idx : Nat} {z : Int} {C : String} {T : u_T} {N0 : Nat} (hl1 : Cond.classLink μ.2.1 idx C ∈ lw_all) (ht : w.2.2.1 a = (ci, N)) (hcl : kCl[ci]? = some (C, T, N0)) (hz : z = (a : Int)) (hd : decode μ.1 pc = .ok (.checkcast idx, 3)) (h : WP G Γ μ r (pc + 3) ls ((2, z) :: st) w) : WP G Γ μ r pc ls ((2, z) :: st) w := by
  obtain ⟨p, l, e, R, s, m, args, below, meth, c, Q, z0, s0⟩ := Γ
  subst hz
  refine ⟨h.1, fun hC h1 h2 hz0 hs0 H locs lsa hH hL hl => ?_⟩
  obtain ⟨hx, hb, hml, hown, hts, hK, -⟩ := id hC
  have hk := h.2 hC h1 h2 hz0 hs0 H locs lsa hH hL hl
  have hk : W p l e R s m args below meth c H locs _ _ Q (F0 m (pc + 3) lsa (rfv G.2.1 (a : Int) :: st.map (dv G.2.1))) := hk
  show W p l e R s m args below meth c H locs _ _ Q (F0 m pc lsa (rfv G.2.1 (a : Int) :: st.map (dv G.2.1)))
  rw [rfv_nat] at hk ⊢
  exact va_castS hx hb hown (hts _ hl1) (hK.2.2.1 ci _ hcl).2 (recvOK hK hH ht (by rw [hcl]; rfl)) hd hk
theorem s_castD {idx ci sz sl : Nat} {td : TT} {c : CC} {q : String × u_T × Nat} {z : Int} (hl1 : Cond.classLink μ.2.1 idx q.1 ∈ lw_all) (hcl : kCl[ci]? = some q) (hd : decode μ.1 pc = .ok (.checkcast idx, 3)) (h : Sm k post (WP G Γ μ r (pc + 3) ls ((2, z) :: st) (sz, sl, tt td, cv c))) : Sm (gd (0 ≤ z ∧ (tt td z.toNat).1 = ci) k) post (WP G Γ μ r pc ls ((2, z) :: st) (sz, sl, tt td, cv c)) := by
  intro x0 hx0 hp
  by_cases hR : 0 ≤ z ∧ (tt td z.toNat).1 = ci
  · rw [gd_pos hR] at hx0
    obtain ⟨C, T, N0⟩ := q
    exact w_castS (w := (sz, sl, tt td, cv c)) hl1 (dyn_t hR.2) hcl (dyn_z hR.1) hd (h x0 hx0 hp)
  · rw [gd_neg hR] at hx0; cases hx0
end CastS
