/-! LAYER 1l: a callee that throws: the exception stands at the caller's frame -/
theorem backT {l : Launch} {R : Room} {p : Program} {e : Env} {below : List Frame} {s : State} {sargs : Array Value} {y : MethodName} {len W : Nat} {ws : List Cond} {rm : Room} {Pc : Array Value → State → Prop} {Qc : Array Value → State → Outcome → State → Prop} {mc ms : Nat} {free : Addr → Prop} {bytes : ByteArray} {maxL : Nat} {ret : Option FieldType}
    (hM : MetT l y ws rm Pc Qc mc ms free) (hblind : FrameBlind Pc) (hrc : rm.cells = mc) (hrs : rm.slots = ms)
    (hframes : rm.frames + 1 ≤ R.frames) (hlocals : W + (maxL + 11) + rm.locals ≤ R.locals)
    (hws : ∀ w ∈ ws, ∀ a' U, s.WarmedH U.vm → w.before a' U = true) (hcode : Cond.code y bytes maxL ret ∈ ws) (hinit : ∀ a' U, s.WarmedH U.vm → (Cond.initialized y.cls).before a' U = true)
    {m : MethodId} {meth : Method} {c : Code} {U : State} {Ls : List Loc} {c0 s0 : Nat} {g : JFrame} {ig : Instr} {mk : MethodId} {a : Array Value}
    (X : Stand p l e R s m sargs below meth c U Ls c0 s0) (hg : g.method = m) (hsize : g.locals.size = c.maxLocals) (hdg : decode c.code g.pc = .ok (ig, len)) (hW : 2 * g.monitorRoom + (g.stack.map fun v => v.category).sum ≤ W) (hn : U.methodNamed? y = some mk) (hp : c0 + mc ≤ R.cells ∧ s0 + ms ≤ R.slots ∧ Pc a U) :
    ∃ (x : Addr) (T' t : State) (L : List Loc), Stand p l e R s m sargs below meth c T' (Ls ++ L) (c0 + mc) (s0 + ms) ∧ T'.heap = t.heap ∧ (∀ q ∈ L, free q.base) ∧ Qc a (U.calling g mk a) (.threw x) t ∧ Steps p.tables e below (doInvoke e (U.setTop g) [] mk a).1 ((T'.setTop g).pushFrame (.throwing x)) := by
  obtain ⟨methY, cY, hmY, hcY, -, hlY, -, -, -, -⟩ := Cond.code_spec hn (hws _ hcode a U X.warmed)
  obtain ⟨kY, hkY, -⟩ := className_of_methodNamed hn
  have hinitY : kY.init = .initialized := Cond.initialized_spec (findClass_of_methodNamed hn) hkY (hinit a U X.warmed)
  have h : At U g.method c below := by rw [hg]; exact X.here
  have happ : (headSpec ws rm).appliesLoose y e.platform (U.calling g mk a) = true :=
    Spec.appliesLoose_calling (g := g) h hdg hn hkY hinitY
      (X.room_calling (g := g) (R' := (headSpec ws rm).room) hsize hmY hcY hframes (by rw [hlY]; show _ + _ + rm.locals ≤ _; omega) (by show c0 + rm.cells ≤ R.cells; rw [hrc]; exact hp.1) (by show s0 + rm.slots ≤ R.slots; rw [hrs]; exact hp.2.1)) (atoms_intro fun w hw => hws w hw _ _ X.warmed)
  obtain ⟨mid, hmid⟩ := h.above
  have hfr : (U.setTop g).frames = (.java g :: mid) ++ below := by rw [State.frames_setTop' g h.top, hmid]; rfl
  obtain ⟨o, s₂, hsteps, -, hend, hq, L, ⟨⟨x, ho⟩, hW₂, hsame⟩, hL⟩ := Steps.callFree hM p X.admits X.cas X.clock (acts := []) hfr happ (hblind _ _ _ _ hp.2.2) trivial
  subst ho
  rw [State.frames_setTop' g h.top] at hend
  have hend : Ended s₂ (.java g :: below) (.threw x) := by
    rw [← X.tail]
    exact hend
  obtain ⟨T', X', -, hB, ht⟩ := X.outOfThrown hg (mk := mk) (a := a) (t := s₂) (x := x) hend hW₂ hsame
  have hheap : T'.heap = s₂.heap := by
    rw [ht]; exact (throwing_heap T' g x).symm
  exact ⟨x, T', s₂, L, X', hheap, hL, hq, by rw [← ht]; exact hsteps⟩
section ThrR
variable {G : GG} {Γ : Cx} {μ μy : MI} {r : Vv × Wd} {pc : Nat} {ls ls' : List (Option Vv)} {st st2 : List Vv} {w : Wd} {x y : MethodName}
variable {X B : Type} {k k1 k2 : Option X} {post : X → Prop}
/-- a call that throws, in a method without handlers -/
theorem w_callVT {idx a ci N n : Nat} {C : String} {z : Int} {as : List Vv} (hM : MV μ.2.1 idx C y μy n) (hdd : μy.2.2.2.2.1 + 1 ≤ μ.2.2.2.2.1) (ht : w.2.2.1 a = (ci, N)) (hcl : (kCl[ci]?.map (fun q => q.1)) = some C) (hz : z = (a : Int)) (hn : as.length = n) (hroom : (st.map (fun v : Vv => if v.1 = 1 then 2 else 1)).sum ≤ 8) (h9 : r.1.1 = 9)
    (hC : CtX G y μy ((2, z) :: as) w r) (hd : decode μ.1 pc = .ok (.invokevirtual idx, 3)) : WP G Γ μ r pc ls (as.reverse ++ (2, z) :: st) w := by
  obtain ⟨p, l, e, R, s, m, args, below, meth, c, Q, z0, s0⟩ := Γ
  subst hz
  refine ⟨hC.1, fun hX h1 h2 hz0 hs0 H locs lsa hH hL hl => ?_⟩
  obtain ⟨hx, hb, hml, hown, hts, hK, hnm, ⟨hR1, hR2, hR3, hR4⟩, -, hThr⟩ := id hX
  have hm1 := hC.1.1
  have hm2 := hC.1.2
  have h45 := hM.2.2
  have hMet := hC.2 l
  obtain ⟨cellB, hcB, hoB, hclB⟩ := recvOK hK hH ht hcl
  have cw := cwV (R := R) (rm := rmA μy.2.2.2.2.1 w r) n hts hM.1 rfl rfl rfl hM.2.1 ⟨Nat.le_trans hdd hR1, by
      show 8 + (μy.2.2.1 + 11) + 64 * μy.2.2.2.2.1 ≤ R.locals
      omega⟩
  obtain ⟨⟨hrc, hrs, hfr, hlo, hws, hcw, hcode, hini, hy, hlen, hlk⟩, hinst, hsel⟩ := cw
  rw [stmap]
  intro T hT X
  subst hT
  obtain ⟨mk, methM, hnamed, hmethM, hstM, habM⟩ := Cond.instanceMethod_spec hinst
  obtain ⟨methM', cM, hmethM', -, -, -, -, -, -, hsigM⟩ := Cond.code_spec hnamed hcode
  cases hmethM.symm.trans hmethM'
  obtain ⟨c2, r2, m2, q1, q2, q3, q4, kP, hkP, hkPi⟩ := Cond.selects_spec hsel
  cases hclB.symm.trans q1
  cases (State.methodFound?_of_named hnamed hy).symm.trans q2
  cases hnamed.symm.trans q3
  have hselP : selectMethod e.platform s.vm cellB.cls mk = .method mk := by rw [Launch.admits_selectMethod X.admits]; exact q4
  obtain ⟨vm₁, X₁, hstep₁⟩ := X.invokevirtual hx hown hlk hnamed hmethM hstM hkP hkPi hy (a := G.2.1 a) (cell := cellB) hcB
    (fun z h => by rw [h] at hoB; cases hoB) hselP hmethM habM hkP hkPi (g := F0 m pc lsa ((as.map (dv G.2.1)).reverse ++ .ref (G.2.1 a) :: st.map (dv G.2.1))) rfl (argsL := as.map (dv G.2.1)) (rest := st.map (dv G.2.1)) (by rw [List.length_map]; exact hn.trans (hlen _ hsigM)) rfl (by rw [hb]; exact hd)
  obtain ⟨x, T', t, L, X', hheap, hL', ⟨ho, hok, hHr⟩, hsteps⟩ := backT (len := 3) (W := 8) (a := (Value.ref (G.2.1 a) :: as.map (dv G.2.1)).toArray) (ig := .invokevirtual idx) (mk := mk) (g := F0 m pc lsa (st.map (dv G.2.1))) hMet (PcA.blind _) rfl rfl hfr hlo hws hcw (fun a' U hW => word_at hW (Or.inl (by first | rfl | simp [Cond.onTables, Cond.keeps, Cond.steady])) hini) X₁ rfl (by show lsa.size = c.maxLocals; rw [hml]; exact hl.1) (by rw [hb]; exact hd) (lv_room (catsum G.2.1 st hroom)) (X₁.named hnamed)
    ⟨by omega, by omega, by rw [asmap], asok h2, hH, hK.warm X₁.warmed⟩
  rw [outc9 G.2.1 h9] at ho
  have hxe : x = G.2.1 r.1.2.toNat := by cases ho; rfl
  subst hxe
  have X2 : Stand p l e R s m args below meth c T' (locs ++ L) (r.2.1 - z0) (r.2.2.1 - s0) := by
    have e1 : w.1 - z0 + (r.2.1 - w.1) = r.2.1 - z0 := by omega
    have e2 : w.2.1 - s0 + (r.2.2.1 - w.2.1) = r.2.2.1 - s0 := by omega
    rw [e1, e2] at X'
    exact X'
  obtain ⟨t2, st2, hq2⟩ := hThr T' (locs ++ L) (F0 m pc lsa (st.map (dv G.2.1))) (by rw [hheap]; exact hHr) (fun q hq => by
    rcases List.mem_append.mp hq with h | h
    · exact hL q h
    · exact hL' q h) h9 rfl rfl rfl X2
  exact ⟨t2, hstep₁ _ (fun acts => by rw [doInvoke_state]; exact hsteps.trans st2), hq2⟩
/-- throw -/
theorem w_athrow {a : Nat} {z : Int} (hz : z = (a : Int)) (hr : r = ((9, z), w)) (hd : decode μ.1 pc = .ok (.athrow, 1)) : WP G Γ μ r pc ls ((2, z) :: st) w := by
  obtain ⟨p, l, e, R, s, m, args, below, meth, c, Q, z0, s0⟩ := Γ
  subst hz; subst hr
  refine ⟨⟨Nat.le_refl _, Nat.le_refl _⟩, fun hX h1 h2 hz0 hs0 H locs lsa hH hL hl => ?_⟩
  obtain ⟨hx, hb, hml, hown, hts, hK, hnm, -, -, hThr⟩ := id hX
  show W p l e R s m args below meth c H locs _ _ Q (F0 m pc lsa (rfv G.2.1 (a : Int) :: st.map (dv G.2.1)))
  rw [rfv_nat]
  intro T hT X
  subst hT
  obtain ⟨t2, st2, hq2⟩ := hThr T locs (F0 m pc lsa (st.map (dv G.2.1))) hH hL rfl rfl rfl rfl X
  have e1 : G.2.1 ((9, (a : Int)) : Vv).2.toNat = G.2.1 a := by simp
  refine ⟨t2, ?_, hq2⟩
  have st2 : Steps p.tables e below ((T.setTop (F0 m pc lsa (st.map (dv G.2.1)))).pushFrame (.throwing (G.2.1 a))) t2 := by
    have h := st2
    rw [show G.2.1 (((9, (a : Int)) : Vv), w).1.2.toNat = G.2.1 a from e1] at h
    exact h
  jvm_step X.here [X.here.top, hx, hb, hd, athrow.wp_sem]
  exact st2
end ThrR
