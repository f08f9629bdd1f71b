/-! LAYER 1l: a call of the method above -/
section SuperC
variable {G : GG} {Γ : Cx} {μ μy : MI} {r : Vv × Wd} {pc : Nat} {ls ls' : List (Option Vv)} {st : List Vv} {w : Wd} {x y : MethodName}
variable {X B : Type} {k k1 k2 : Option X} {post : X → Prop}
def MSU (own : String) (idx : Nat) (y : MethodName) (μ : MI) (n : Nat) : Prop := GoodIn lw_all (va_wsSU own idx y (ws_ y μ.1 μ.2.2.1 μ.2.2.2.1)) ∧ (y.name ≠ "<init>" ∧ (parseMethodDescriptor y.desc).map (fun d => d.parameters.length) = some n) ∧ μ.2.2.1 ≤ 45
theorem w_callSU {idx a ci N n : Nat} {C : String} {T : u_T} {N0 : Nat} {z : Int} {as : List Vv} {r' : Vv × Wd} (hM : MSU μ.2.1 idx y μy n) (hdd : μy.2.2.2.2.1 + 1 ≤ μ.2.2.2.2.1) (ht : w.2.2.1 a = (ci, N)) (hcl : kCl[ci]? = some (C, T, N0)) (hz : z = (a : Int)) (hn : as.length = n) (hroom : (st.map (fun v : Vv => if v.1 = 1 then 2 else 1)).sum ≤ 8) (hrt : r'.1.1 ≤ 3)
    (hC : Ct G y μy ((2, z) :: as) w r') (hd : decode μ.1 pc = .ok (.invokespecial idx, 3)) (h : WP G Γ μ r (pc + 3) ls (rst r'.1 st) r'.2) : WP G Γ μ r pc ls (as.reverse ++ (2, z) :: st) w := by
  subst hz
  obtain ⟨hG, hdd2, h45⟩ := hM
  refine w_callX (a := (Value.ref (G.2.1 a) :: as.map (dv G.2.1)).toArray) hC.1 hrt (fun v hv => List.mem_append_right _ (List.mem_cons_of_mem _ hv)) (fun p l e R s m args below meth c H locs lsa cells slots S hK hR1 hR2 hH h2 hls hf => ?_) h
  have hMet := hC.2 l
  rw [stmap]
  exact va_runSU (As := as.map (dv G.2.1)) (rest := st.map (dv G.2.1)) (hK.2.2.1 ci _ hcl).2 S hMet (va_cwSU (R := R) n S.2.2.2.2 hG rfl rfl rfl hdd2 ⟨Nat.le_trans hdd hR1, by show 8 + (μy.2.2.1 + 11) + 64 * μy.2.2.2.2.1 ≤ R.locals; omega⟩)
    ⟨PcA.blind _, recvOK hK hH ht (by rw [hcl]; rfl), fun U hU hW => ⟨by rw [asmap], asok h2, by rw [hU]; exact hH, hK.warm hW⟩⟩ rfl (by rw [List.length_map]; exact hn) hls rfl (lv_room (catsum G.2.1 st hroom)) hd hf
theorem s_callSUD {idx n : Nat} {ci : Nat} {q : String × u_T × Nat} {z : Int} {as : List Vv} {o : Option B} {kk : B → Option X} {rv : B → Vv × Wd} {st2 : List Vv} {st3 : B → List Vv} {w3 : B → Wd} (hM : MSU μ.2.1 idx y μy n) (hC : ∀ b, o = some b → Ct G y μy ((2, z) :: as) w (rv b)) (hst : as.reverse ++ (2, z) :: st = st2) (hdd : μy.2.2.2.2.1 + 1 ≤ μ.2.2.2.2.1) (hcl : kCl[ci]? = some q) (hn : as.length = n) (hroom : (st.map (fun v : Vv => if v.1 = 1 then 2 else 1)).sum ≤ 8) (hrt : ∀ b, (rv b).1.1 ≤ 3) (h3 : ∀ b, rst (rv b).1 st = st3 b ∧ (rv b).2 = w3 b)
    (hd : decode μ.1 pc = .ok (.invokespecial idx, 3)) (h : ∀ b, Sm (kk b) post (WP G Γ μ r (pc + 3) ls (st3 b) (w3 b))) : Sm (gd (0 ≤ z ∧ (w.2.2.1 z.toNat).1 = ci) (cl o kk)) post (WP G Γ μ r pc ls st2 w) := by
  intro x0 hx0 hp
  by_cases hR : 0 ≤ z ∧ (w.2.2.1 z.toNat).1 = ci
  · rw [gd_pos hR] at hx0
    subst hst
    obtain ⟨C, T, N0⟩ := q
    exact Sm.cl (fun b ho => (h b).map (fun hw => w_callSU hM hdd (dyn_t hR.2) hcl (dyn_z hR.1) hn hroom (hrt b) (hC b ho) hd (by rw [(h3 b).1, (h3 b).2]; exact hw))) x0 hx0 hp
  · rw [gd_neg hR] at hx0; cases hx0
end SuperC
