/-! LAYER 1n: a callee walked in place (no word on its kind being ready is asked) -/
section Dflt
theorem stepsInto {l : Launch} {R : Room} {p : Program} {e : Env} {below : List Frame} {s : State} {sargs : Array Value} {m : MethodId} {meth : Method} {c : Code} {U : State} {Ls : List Loc} {c0 s0 : Nat}
    (X : Stand p l e R s m sargs below meth c U Ls c0 s0) {g : JFrame} (hg : g.method = m) (hsize : g.locals.size = c.maxLocals) {ig : Instr} {len : Nat} (hdg : decode c.code g.pc = .ok (ig, len)) (hW : 2 * g.monitorRoom + (g.stack.map fun v => v.category).sum ≤ 8)
    {y : MethodName} {mk : MethodId} {a : Array Value} {cc : ByteArray} {maxL : Nat} {ret : Option FieldType} (hn : U.methodNamed? y = some mk) (hcode : (Cond.code y cc maxL ret).before a U = true) (hy : plainName y.cls = true)
    {rm : Room} (hfr : rm.frames + 1 ≤ R.frames) (hlo : 8 + (maxL + 11) + rm.locals ≤ R.locals) (hc : c0 + rm.cells ≤ R.cells) (hs : s0 + rm.slots ≤ R.slots) {Q : State → Prop}
    (body : ∀ (methY : Method) (cY : Code) (s₁ : State), methY.sig.returnType = ret → methY.locks = false → cY.code = cc → cY.maxLocals = maxL → s₁.heap = (U.calling g mk a).heap →
      Stand p l e rm (U.calling g mk a) mk a (U.setTop g).frames methY cY s₁ [] 0 0 → ∃ t, Steps p.tables e (U.setTop g).frames (s₁.setTop (entryFrame mk a maxL)) t ∧ Q t) :
    ∃ t, Steps p.tables e below (doInvoke e (U.setTop g) [] mk a).1 t ∧ Q t := by
  have h : At U g.method c below := by rw [hg]; exact X.here
  obtain ⟨methY, cY, hmY, hcY, hbY, hlY, hrY, hkY, -, -⟩ := Cond.code_spec hn hcode
  have hen := doInvoke_enter (e := e) (g := g) h.top (args := a) [] hmY hcY hkY (X.notFull hsize (by omega) (by rw [hlY]; omega))
  rw [hen, hlY]
  have hfc : (U.calling g mk a).frames = .invoking mk a :: (U.setTop g).frames := by
    rw [State.frames_calling h.top g mk a, State.frames_setTop' g h.top]
  have hcur := State.cur_lt_of_frames hfc
  have hs1 : (U.setTop g).pushFrame (.java (entryFrame mk a maxL)) = (U.calling g mk a).setFrames (.java (entryFrame mk a maxL) :: (U.setTop g).frames) := by
    rw [State.calling, State.pushFrame, State.pushFrame, State.setFrames_setFrames]
  have hf1 : ((U.calling g mk a).setFrames (.java (entryFrame mk a maxL) :: (U.setTop g).frames)).frames = .java (entryFrame mk a maxL) :: (U.setTop g).frames := State.frames_setFrames _ hcur
  have ht1 := State.topJava?_of_frames hf1
  rw [hs1]
  have hroom := X.room_calling (g := g) (args' := a) (R' := rm) hsize hmY hcY hfr (by rw [hlY]; omega) hc hs
  have hcd : (U.calling g mk a).code? g.method = some c := by
    have := h.code
    rw [State.code?_eq] at this ⊢
    simpa [State.calling, State.pushFrame, State.setFrames] using this
  obtain ⟨th, hth, -⟩ := State.frames_cons hfc
  have hplain : ((U.calling g mk a).setFrames (.java (entryFrame mk a maxL) :: (U.setTop g).frames)).plainMethod mk := by
    refine State.plainMethod.of_name ?_
    intro k hk
    obtain ⟨k', hk', hn'⟩ := className_of_methodNamed hn
    cases (show U.vm.classes[mk.cls]? = some k from hk).symm.trans hk'
    rw [hn']; exact hy
  have hAt : At ((U.calling g mk a).setFrames (.java (entryFrame mk a maxL) :: (U.setTop g).frames)) mk cY (U.setTop g).frames :=
    ⟨by rw [ht1]; rfl, ⟨[], by rw [hf1]; rfl⟩, h.running, by simpa [State.calling] using h.runnable, by simpa [State.calling] using h.alone, by rw [State.code?_eq]; simp [State.setFrames, State.calling, State.pushFrame, hmY, hcY], hplain⟩
  obtain ⟨t, h1, h2⟩ := body methY cY ((U.calling g mk a).setFrames (.java (entryFrame mk a maxL) :: (U.setTop g).frames)) hrY hkY hbY hlY rfl
    ⟨X.admits, X.cas, X.clock, hfc, hroom, by rw [State.frames_setTop' g h.top]; simp [State.hears, hcd, hdg, Except.toOption], hmY, hcY, hAt, by rw [hf1]; rfl, State.WarmedH.refl _, by rw [State.stackLimits_setFrames], by rw [State.stackBytes_setFrames], (State.sameButNew.refl _ hth).setFrames _ hcur⟩
  obtain ⟨mid, hmid⟩ := h.above
  have hfr2 : (U.setTop g).frames = (.java g :: mid) ++ below := by rw [State.frames_setTop' g h.top, hmid]; rfl
  have key : ∀ fs : List Frame, fs = (.java g :: mid) ++ below → ∀ x z : State, Steps p.tables e fs x z → Steps p.tables e below x z := by
    intro fs hfs x z hst
    subst hfs
    obtain ⟨n, a1, b1⟩ := hst
    exact ⟨n, a1, fun k hk => (b1 k hk).weaken⟩
  exact ⟨t, key _ hfr2 _ _ h1, h2⟩
end Dflt
