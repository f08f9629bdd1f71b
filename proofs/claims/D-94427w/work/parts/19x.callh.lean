/-! LAYER 1y: a call of a method that has a handler -/
def MVH (own : String) (idx : Nat) (C : String) (y : MethodName) (μ : MI) (n : Nat) : Prop := (Cond.methodLink own idx y ∈ lw_all ∧ Cond.instanceMethod y ∈ lw_all ∧ Cond.selects C y y ∈ lw_all ∧ Cond.initialized y.cls ∈ lw_all ∧ Cond.codeWith y μ.1 μ.2.2.1 μ.2.2.2.1 hhT ∈ lw_all) ∧ (y.cls ≠ "java/lang/invoke/MethodHandle" ∧ y.cls ≠ "java/lang/invoke/VarHandle" ∧ (parseMethodDescriptor y.desc).map (fun d => d.parameters.length) = some n) ∧ μ.2.2.1 ≤ 45
section CallH
variable {G : GG} {Γ : Cx} {μ μy : MI} {r : Vv × Wd} {pc : Nat} {ls ls' : List (Option Vv)} {st st2 : List Vv} {w : Wd} {x y : MethodName}
variable {X B : Type} {k k1 k2 : Option X} {post : X → Prop}
theorem w_callVH {idx a ci N n : Nat} {C : String} {z : Int} {as : List Vv} {r' : Vv × Wd} (hM : MVH μ.2.1 idx C y μy n) (hdd : μy.2.2.2.2.1 + 1 ≤ μ.2.2.2.2.1) (ht : w.2.2.1 a = (ci, N)) (hcl : (kCl[ci]?.map (fun q => q.1)) = some C) (hz : z = (a : Int)) (hn : as.length = n) (hroom : (st.map (fun v : Vv => if v.1 = 1 then 2 else 1)).sum ≤ 8) (hrt : r'.1.1 ≤ 3)
    (hC : CtH G y μy ((2, z) :: as) w r') (hd : decode μ.1 pc = .ok (.invokevirtual idx, 3)) (h : WP G Γ μ r (pc + 3) ls (rst r'.1 st) r'.2) : WP G Γ μ r pc ls (as.reverse ++ (2, z) :: st) w := by
  subst hz
  obtain ⟨⟨w1, w2, w3, w4, w5⟩, ⟨y1, y2, y3⟩, h45⟩ := hM
  refine w_callX (d := 3) (a := (Value.ref (G.2.1 a) :: as.map (dv G.2.1)).toArray) hC.1 hrt (fun v hv => List.mem_append_right _ (List.mem_cons_of_mem _ hv)) (fun p l e R s m args below meth c H locs lsa cells slots S hK hR1 hR2 hH h2 hls hf => ?_) h
  obtain ⟨hx, hb, hml, ho, hts⟩ := S
  obtain ⟨cellB, hcB, hoB, hclB⟩ := recvOK hK hH ht hcl
  have hG : GoodIn lw_all (wsH y μy) := lw_good (by
    intro w hw
    rcases List.mem_cons.mp hw with e | e
    · rw [e]; exact w5
    · exact e)
  have hbk : Back l R p e below s args y 3 8 (PreOf R (r'.2.1 - w.1) (r'.2.2.1 - w.2.1) (PcA G ((2, (a : Int)) :: as) w)) (PostOf (QcA G r') (r'.2.1 - w.1) (r'.2.2.1 - w.2.1) (fun q => G.2.2.2.size ≤ q)) :=
    va_backW (hh := hhT) (bytes := μy.1) (maxL := μy.2.2.1) (ret := μy.2.2.2.1) (hC.2 l) (PcA.blind _) rfl rfl (by show μy.2.2.2.2.1 + 1 ≤ R.frames; omega) (by show 8 + (μy.2.2.1 + 11) + 64 * μy.2.2.2.2.1 ≤ R.locals; omega) (pay_in hts hG) List.mem_cons_self
      (fun a' U hW => word_at hW (Or.inl (by first | rfl | simp [Cond.onTables, Cond.keeps, Cond.steady])) (hts _ w4))
  rw [stmap]
  intro T hT X
  subst hT
  obtain ⟨mk, methM, hnamed, hmethM, hstM, habM⟩ := Cond.instanceMethod_spec (hts _ w2)
  obtain ⟨m9, methM', cM, hn9, hmethM', -, -, -, -, -, -, hsigM⟩ := Cond.codeWith_spec (hts _ w5)
  cases hnamed.symm.trans hn9
  cases hmethM.symm.trans hmethM'
  obtain ⟨c2, r2, m2, q1, q2, q3, q4, kP, hkP, hkPi⟩ := Cond.selects_spec (hts _ w3)
  cases hclB.symm.trans q1
  cases (State.methodFound?_of_named hnamed ⟨y1, y2⟩).symm.trans q2
  cases hnamed.symm.trans q3
  have hselP : selectMethod e.platform s.vm cellB.cls mk = .method mk := by rw [Launch.admits_selectMethod X.admits]; exact q4
  have hlen : as.length = methM.sig.parameters.length := by
    rw [hsigM] at y3
    exact hn.trans (Option.some.inj y3).symm
  obtain ⟨vm₁, X₁, hstep₁⟩ := X.invokevirtual hx ho (hts _ w1) hnamed hmethM hstM hkP hkPi ⟨y1, y2⟩ (a := G.2.1 a) (cell := cellB) hcB
    (fun z h => by rw [h] at hoB; cases hoB) hselP hmethM habM hkP hkPi (g := F0 m pc lsa ((as.map (dv G.2.1)).reverse ++ .ref (G.2.1 a) :: st.map (dv G.2.1))) rfl (argsL := as.map (dv G.2.1)) (rest := st.map (dv G.2.1)) (by rw [List.length_map]; exact hlen) rfl (by rw [hb]; exact hd)
  obtain ⟨v', ⟨U', l2, c2, s2⟩, X', ⟨g', mk', t, L, e1, e2, hq, h1, hL, h2', h3⟩, hst⟩ := hbk m meth c ⟨T.setVm vm₁, locs, cells, slots⟩ (F0 m pc lsa (st.map (dv G.2.1))) (.invokevirtual idx) mk (Value.ref (G.2.1 a) :: as.map (dv G.2.1)).toArray X₁ rfl (hls.trans hml.symm) (by rw [hb]; exact hd) (lv_room (m := m) (pc := pc) (ls := lsa) (catsum G.2.1 st hroom)) (X₁.named hnamed)
    ⟨hf.1, hf.2, by rw [asmap], asok h2, hH, hK.warm X₁.warmed⟩
  dsimp only [Pt.U, Pt.locs, Pt.cells, Pt.slots] at X' e1 e2 h1 h2' h3 hst
  subst h1; subst h2'; subst h3
  exact ⟨v', (T.setVm vm₁).calling g' mk' _, t, U', L, rfl, X', hL, e1, e2, hq, fun target h => hstep₁ _ (fun acts => by rw [doInvoke_state]; exact hst.trans h)⟩
theorem s_callVH {idx a ci N n : Nat} {C : String} {z : Int} {as : List Vv} {o : Option B} {kk : B → Option X} {rv : B → Vv × Wd} {st2 : List Vv} {st3 : B → List Vv} {w3 : B → Wd} (hM : MVH μ.2.1 idx C y μy n) (hC : ∀ b, o = some b → CtH G y μy ((2, z) :: as) w (rv b)) (hst : as.reverse ++ (2, z) :: st = st2) (hdd : μy.2.2.2.2.1 + 1 ≤ μ.2.2.2.2.1) (ht : w.2.2.1 a = (ci, N)) (hcl : (kCl[ci]?.map (fun q => q.1)) = some C) (hz : z = (a : Int)) (hn : as.length = n) (hroom : (st.map (fun v : Vv => if v.1 = 1 then 2 else 1)).sum ≤ 8) (hrt : ∀ b, (rv b).1.1 ≤ 3) (h3 : ∀ b, rst (rv b).1 st = st3 b ∧ (rv b).2 = w3 b)
    (hd : decode μ.1 pc = .ok (.invokevirtual idx, 3)) (h : ∀ b, Sm (kk b) post (WP G Γ μ r (pc + 3) ls (st3 b) (w3 b))) : Sm (cl o kk) post (WP G Γ μ r pc ls st2 w) := by
  subst hst
  exact Sm.cl (fun b ho => (h b).map (fun hw => w_callVH hM hdd ht hcl hz hn hroom (hrt b) (hC b ho) hd (by rw [(h3 b).1, (h3 b).2]; exact hw)))
end CallH
