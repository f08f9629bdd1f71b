/-! LAYER 1m: calls through an interface, with an oracle -/
theorem lw_F {own : String} {idx : Nat} {C : String} {x y : MethodName} {b : ByteArray} {L : Nat} {r : Option FieldType} (h1 : Cond.methodLink own idx x ∈ lw_all) (h3 : Cond.selects C x y ∈ lw_all) (h4 : Cond.instanceMethod y ∈ lw_all) (h5 : Cond.initialized y.cls ∈ lw_all) (h6 : Cond.code y b L r ∈ lw_all) : GoodIn lw_all (va_wsF own idx C x y (ws_ y b L r)) := by
  refine lw_app ?_ (lw_meth h6)
  intro w hw
  simp only [List.mem_cons, List.not_mem_nil, or_false] at hw
  rcases hw with e | e | e | e
  · rw [e]; exact h1
  · rw [e]; exact h3
  · rw [e]; exact h4
  · rw [e]; exact h5
/-- what an oracle's answer stands for: a call through the interface ends so -/
def IfC (K : Nat → MethodName → MI → Prop) (G : GG) (D : Nat) (w : Wd) (v : Int) (tg : Nat) (z b : Int) : Prop := ∃ (a ci N : Nat) (y : MethodName) (μ : MI), w.2.2.1 a = (ci, N) ∧ z = (a : Int) ∧ K ci y μ ∧ μ.2.2.2.2.1 ≤ D + 4 ∧ Ct G y μ [(2, z), (2, v)] w ((tg, b), w)
section IfaceC
variable {G : GG} {Γ : Cx} {μ : MI} {r : Vv × Wd} {pc : Nat} {ls : List (Option Vv)} {st : List Vv} {w : Wd} {x : MethodName}
variable {X : Type} {post : X → Prop}
theorem s_callFO {K : Nat → MethodName → MI → Prop} {D idx cnt tg : Nat} {z v : Int} {o : Option Int} {kk : Int → Option X} (hV : ∀ b, o = some b → IfC K G D w v tg z b) (hK : ∀ ci y μy, K ci y μy → ∃ q, kCl[ci]? = some q ∧ MF μ.2.1 idx q.1 x y μy 1) (hD : D + 5 ≤ μ.2.2.2.2.1) (htg : tg ≤ 2)
    (hroom : (st.map (fun v : Vv => if v.1 = 1 then 2 else 1)).sum ≤ 8) (hd : decode μ.1 pc = .ok (.invokeinterface idx cnt, 5)) (h : ∀ b, Sm (kk b) post (WP G Γ μ r (pc + 5) ls ((tg, b) :: st) w)) : Sm (cl o kk) post (WP G Γ μ r pc ls ((2, v) :: (2, z) :: st) w) := by
  refine Sm.cl (fun b ho => ?_)
  obtain ⟨a, ci, N, y, μy, e1, e3, e4, e5, e7⟩ := hV b ho
  obtain ⟨⟨C, T, N0⟩, e2, e6⟩ := hK ci y μy e4
  refine (h b).map (fun hw => ?_)
  refine w_callF (as := [(2, v)]) (r' := ((tg, b), w)) e6 (by omega) e1 e2 e3 rfl hroom (by show tg ≤ 3; omega) e7 hd ?_
  have : rst (tg, b) st = (tg, b) :: st := by unfold rst; rw [if_neg (by show ¬ tg = 3; omega)]
  rw [this]
  exact hw
end IfaceC
/-- an oracle for the calls through an interface: its answers, its depth -/
def Orc : Type := (Int → Option Int) × Nat
def oF [o : Inhabited Orc] (z : Int) : Option Int := o.default.1 z
def oD [o : Inhabited Orc] : Nat := o.default.2
def oOK [Inhabited Orc] (K : Nat → MethodName → MI → Prop) (tg D : Nat) (G : GG) (w : Wd) : Prop := ∀ z b, oF z = some b → IfC K G D w 48 tg z b
