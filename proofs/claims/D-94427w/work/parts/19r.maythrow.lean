/-! LAYER 1s: methods that may throw -/
abbrev ThrT : Type := Int × Nat × Nat × TT × CC
/-- what a throw leaves -/
def te (e : ThrT) : Vv × Wd := ((9, e.1), (e.2.1, e.2.2.1, tt e.2.2.2.1, cv e.2.2.2.2))
def CtE (G : GG) (y : MethodName) (μ : MI) (as : List Vv) (w : Wd) (r : Vv × Wd) : Prop := (r.1.1 = 9 → CtX G y μ as w r) ∧ (r.1.1 ≠ 9 → Ct G y μ as w r)
theorem CtE.of {G : GG} {y : MethodName} {μ : MI} {as : List Vv} {w : Wd} {r : Vv × Wd} {n : Nat} {ls0 : List (Option Vv)} (hy : plainName y.cls = true) (hcls : y.cls = μ.2.1) (hnm : y.name = μ.2.2.2.2.2) (hf : μ.2.2.2.1 ≠ some .float ∧ μ.2.2.2.1 ≠ some .double) (hlen : (as.map (fun v => if v.1 = 1 then 2 else 1)).sum ≤ μ.2.2.1) (hls : argL as ++ List.replicate n none = ls0)
    (body : ∀ Γ, WP G Γ μ r 0 ls0 [] w) : CtE G y μ as w r :=
  ⟨fun h9 => CtX.of hy hcls hnm hf hlen hls (body cx0).1 h9 body, fun h9 => Ct.of hy hcls hnm hf hlen hls (body cx0).1 h9 body⟩
section MayT
variable {G : GG} {Γ : Cx} {μ μy : MI} {r : Vv × Wd} {pc : Nat} {ls ls' : List (Option Vv)} {st st' : List Vv} {sz sl : Nat} {td : TT} {c : CC} {w : Wd} {x y : MethodName}
variable {X B : Type} {k k1 k2 : Option X} {post : X → Prop}
theorem s_throw {z : Int} {e : ThrT} {xx : X} (he : e = (z, sz, sl, td, c)) (hr : post xx → r = te e) (hd : decode μ.1 pc = .ok (.athrow, 1)) : Sm (gd (0 ≤ z) (some xx)) post (WP G Γ μ r pc ls ((2, z) :: st) (sz, sl, tt td, cv c)) := by
  intro x0 hx0 hp
  by_cases hR : 0 ≤ z
  · rw [gd_pos hR] at hx0
    cases hx0
    have h := hr hp
    subst he
    exact w_athrow (dyn_z hR) h hd
  · rw [gd_neg hR] at hx0; cases hx0
/-- a call that may throw -/
theorem s_callVE {idx ci n : Nat} {C : String} {z : Int} {as : List Vv} {o : Option (ThrT ⊕ B)} {kt : ThrT → Option X} {kk : B → Option X} {rv : B → Vv × Wd} {st2 : List Vv} {st3 : B → List Vv} {w3 : B → Wd} (hM : MV μ.2.1 idx C y μy n) (hC : ∀ b, o = some b → CtE G y μy ((2, z) :: as) (sz, sl, tt td, cv c) (Sum.elim te rv b)) (hst : as.reverse ++ (2, z) :: st = st2) (hdd : μy.2.2.2.2.1 + 1 ≤ μ.2.2.2.2.1) (hcl : (kCl[ci]?.map (fun q => q.1)) = some C) (hn : as.length = n) (hroom : (st.map (fun v : Vv => if v.1 = 1 then 2 else 1)).sum ≤ 8) (hrt : ∀ b, (rv b).1.1 ≤ 3) (h3 : ∀ b, rst (rv b).1 st = st3 b ∧ (rv b).2 = w3 b)
    (hd : decode μ.1 pc = .ok (.invokevirtual idx, 3)) (ht : ∀ e, Sm (kt e) post (r = te e)) (h : ∀ b, Sm (kk b) post (WP G Γ μ r (pc + 3) ls (st3 b) (w3 b))) : Sm (gd (0 ≤ z ∧ (tt td z.toNat).1 = ci) (cl o (Sum.elim kt kk))) post (WP G Γ μ r pc ls st2 (sz, sl, tt td, cv c)) := by
  subst hst
  intro x0 hx0 hp
  by_cases hR : 0 ≤ z ∧ (tt td z.toNat).1 = ci
  · rw [gd_pos hR] at hx0
    refine Sm.cl (fun b ho => ?_) x0 hx0 hp
    cases b with
    | inl e =>
      refine (ht e).map (fun hr => ?_)
      have h1 := hC _ ho
      subst hr
      exact w_callVT hM hdd (dyn_t hR.2) hcl (dyn_z hR.1) hn hroom rfl (h1.1 rfl) hd
    | inr b =>
      refine (h b).map (fun hw => ?_)
      have h1 := (hC _ ho).2 (by show (rv b).1.1 ≠ 9; have := hrt b; omega)
      rw [← (h3 b).1, ← (h3 b).2] at hw
      exact w_callV hM hdd (dyn_t hR.2) hcl (dyn_z hR.1) hn hroom (hrt b) h1 hd hw
  · rw [gd_neg hR] at hx0; cases hx0
theorem s_callVG {idx ci n : Nat} {C : String} {z : Int} {as : List Vv} {o : Option B} {kk : B → Option X} {rv : B → Vv × Wd} {st2 : List Vv} {st3 : B → List Vv} {w3 : B → Wd} (hM : MV μ.2.1 idx C y μy n) (hC : ∀ b, o = some b → Ct G y μy ((2, z) :: as) (sz, sl, tt td, cv c) (rv b)) (hst : as.reverse ++ (2, z) :: st = st2) (hdd : μy.2.2.2.2.1 + 1 ≤ μ.2.2.2.2.1) (hcl : (kCl[ci]?.map (fun q => q.1)) = some C) (hn : as.length = n) (hroom : (st.map (fun v : Vv => if v.1 = 1 then 2 else 1)).sum ≤ 8) (hrt : ∀ b, (rv b).1.1 ≤ 3) (h3 : ∀ b, rst (rv b).1 st = st3 b ∧ (rv b).2 = w3 b)
    (hd : decode μ.1 pc = .ok (.invokevirtual idx, 3)) (h : ∀ b, Sm (kk b) post (WP G Γ μ r (pc + 3) ls (st3 b) (w3 b))) : Sm (gd (0 ≤ z ∧ (tt td z.toNat).1 = ci) (cl o kk)) post (WP G Γ μ r pc ls st2 (sz, sl, tt td, cv c)) :=
  s_callVD (w := (sz, sl, tt td, cv c)) hM hC hst hdd hcl hn hroom hrt h3 hd h
end MayT
/-! oracles for the reader's recursion -/
abbrev OrcT : Type := (Int → Nat → Nat → TT → CC → Option (ThrT ⊕ (Int × Nat × Nat × TT × CC))) × Nat
def rvR (b : Int × Nat × Nat × TT × CC) : Vv × Wd := ((2, b.1), (b.2.1, b.2.2.1, tt b.2.2.2.1, cv b.2.2.2.2))
def OrcO : Type := OrcT
def oO [o : Inhabited OrcO] (z : Int) (sz sl : Nat) (td : TT) (c : CC) : Option (ThrT ⊕ (Int × Nat × Nat × TT × CC)) := o.default.1 z sz sl td c
def oON [o : Inhabited OrcO] : Nat := o.default.2
abbrev muOne (d : Nat) : MI := (cX5_one, RX5, 2, some (.object "HeldTongue$Sum"), d, "one")
def oOOK [Inhabited OrcO] (G : GG) : Prop := ∀ (z : Int) (sz sl : Nat) (td : TT) (c : CC) (b : ThrT ⊕ (Int × Nat × Nat × TT × CC)), oO z sz sl td c = some b → CtE G yX5_one (muOne (3 * oON + 20)) [(2, z)] (sz, sl, tt td, cv c) (Sum.elim te rvR b)
def OrcA : Type := OrcT
def oA [o : Inhabited OrcA] (z : Int) (sz sl : Nat) (td : TT) (c : CC) : Option (ThrT ⊕ (Int × Nat × Nat × TT × CC)) := o.default.1 z sz sl td c
def oAN [o : Inhabited OrcA] : Nat := o.default.2
abbrev muAsk (d : Nat) : MI := (cX5_ask, RX5, 3, some (.object "HeldTongue$Ask"), d, "ask")
def oAOK [Inhabited OrcA] (G : GG) : Prop := ∀ (z : Int) (sz sl : Nat) (td : TT) (c : CC) (b : ThrT ⊕ (Int × Nat × Nat × TT × CC)), oA z sz sl td c = some b → CtE G yX5_ask (muAsk (1 * oAN + 60)) [(2, z)] (sz, sl, tt td, cv c) (Sum.elim te rvR b)
