/-! calls, with the stack and the world behind them spelled out -/
section Call3
variable {G : GG} {Γ : Cx} {μ μy : MI} {r : Vv × Wd} {pc : Nat} {ls ls' : List (Option Vv)} {st st' : List Vv} {w : Wd} {y : MethodName}
variable {X B : Type} {k k1 k2 : Option X} {post : X → Prop}
theorem s_callV3 {idx a ci N n : Nat} {C : String} {z : Int} {as : List Vv} {o : Option B} {kk : B → Option X} {rv : B → Vv × Wd} {st2 : List Vv} {st3 : B → List Vv} {w3 : B → Wd} (hM : MV μ.2.1 idx C y μy n) (hC : ∀ b, o = some b → Ct G y μy ((2, z) :: as) w (rv b)) (hst : as.reverse ++ (2, z) :: st = st2) (hdd : μy.2.2.2.2.1 + 1 ≤ μ.2.2.2.2.1) (ht : w.2.2.1 a = (ci, N)) (hcl : (kCl[ci]?.map (fun q => q.1)) = some C) (hz : z = (a : Int)) (hn : as.length = n) (hroom : (st.map (fun v : Vv => if v.1 = 1 then 2 else 1)).sum ≤ 8) (hrt : ∀ b, (rv b).1.1 ≤ 3) (h3 : ∀ b, rst (rv b).1 st = st3 b ∧ (rv b).2 = w3 b)
    (hd : decode μ.1 pc = .ok (.invokevirtual idx, 3)) (h : ∀ b, Sm (kk b) post (WP G Γ μ r (pc + 3) ls (st3 b) (w3 b))) : Sm (cl o kk) post (WP G Γ μ r pc ls st2 w) :=
  s_callV hM hC hst hdd ht hcl hz hn hroom hrt hd (fun b => by rw [(h3 b).1, (h3 b).2]; exact h b)
theorem s_callS3 {idx n : Nat} {as : List Vv} {o : Option B} {kk : B → Option X} {rv : B → Vv × Wd} {st2 : List Vv} {st3 : B → List Vv} {w3 : B → Wd} (hM : MS μ.2.1 idx y μy n) (hC : ∀ b, o = some b → Ct G y μy as w (rv b)) (hst : as.reverse ++ st = st2) (hdd : μy.2.2.2.2.1 + 1 ≤ μ.2.2.2.2.1) (hn : as.length = n) (hroom : (st.map (fun v : Vv => if v.1 = 1 then 2 else 1)).sum ≤ 8) (hrt : ∀ b, (rv b).1.1 ≤ 3) (h3 : ∀ b, rst (rv b).1 st = st3 b ∧ (rv b).2 = w3 b)
    (hd : decode μ.1 pc = .ok (.invokestatic idx, 3)) (h : ∀ b, Sm (kk b) post (WP G Γ μ r (pc + 3) ls (st3 b) (w3 b))) : Sm (cl o kk) post (WP G Γ μ r pc ls st2 w) :=
  s_callS hM hC hst hdd hn hroom hrt hd (fun b => by rw [(h3 b).1, (h3 b).2]; exact h b)
end Call3
