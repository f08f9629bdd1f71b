/-! LAYER 1u: a handler of the method's own -/
abbrev eW : ExceptionTableEntry := { startPc := 32, endPc := 55, handlerPc := 58, catchType := 146 }
section Ctch
variable {p : Program} {l : Launch} {e : Env} {R : Room} {s : State} {m : MethodId} {args : Array Value} {below : List Frame} {meth : Method} {c : Code} {T : State} {locs : List Loc} {cells slots : Nat}
/-- the thrown object is taken by the only entry of the table, its kind resolved here for the first time or not -/
theorem caughtHere (X : Stand p l e R s m args below meth c T locs cells slots) (a : Addr) {g : JFrame} (hg : g.method = m) (hown : s.vm.findClass RX0 = some m.cls) (htab : c.exceptionTable.toList = [eW]) (hpc : 32 ≤ g.pc ∧ g.pc < 55)
    (hlink : (Cond.classLink RX0 146 RX6).before args s = true) {cell : Cell} (hcell : T.heap[a]? = some cell) (hobj : cell.vm.isStatics = false) (hcls : s.vm.findClass RX6 = some cell.cls) (hfit : s.vm.assignable cell.cls cell.cls = true) :
    ∃ vm', Stand p l e R s m args below meth c (T.setVm vm') locs cells slots ∧ ∀ target, Steps p.tables e below ((T.setVm vm').setTop { g with pc := 58, stack := [.ref a] }) target → Steps p.tables e below ((T.setTop g).pushFrame (.throwing a)) target := by
  obtain ⟨cT, hcT, hcl⟩ := Cond.classLink_spec hown hlink e.platform (by rw [X.admits.platform])
  cases hcls.symm.trans hcT
  obtain ⟨dk, _, _, kt, hd, _, _, _, _, hkt, _, hopen⟩ := hcl.here
  have hW' : s.WarmedH (T.vm.noted m.cls 146 (.cls cell.cls)) := X.warmed.noted hd hopen (State.rightAt_cls hcl)
  refine ⟨_, X.noted hW', fun target hrest => ?_⟩
  subst hg
  have h : At T g.method c below := X.here
  have hlk := X.warmed.classLinks hcl
  obtain ⟨ha, ht⟩ := (resolveClass_links e.toSetting hlk).op (op := VmOp.resolveClass g.method.cls 146) rfl
  obtain ⟨k1, hk1, -⟩ := hW'.alike.2.2 _ _ hkt
  have hfit' : (T.vm.noted g.method.cls 146 (.cls cell.cls)).assignable cell.cls cell.cls = true := by rw [hW'.alike.assignable]; exact hfit
  have hst : ∀ k, cell.vm ≠ .statics k := fun k q => by rw [q] at hobj; cases hobj
  have e1 : ((T.setTop g).pushFrame (.throwing a)).vm = T.vm := by simp [State.pushFrame, State.setFrames, State.setTop, State.modifyTopJava]
  have e2 : ((T.setTop g).pushFrame (.throwing a)).heap = T.heap := by simp [State.pushFrame, State.setFrames, State.setTop, State.modifyTopJava]
  have hm' : ((T.setTop g).pushFrame (.throwing a)).vm.method? g.method = some meth := by rw [e1, X.warmed.alike.method?]; exact X.method
  have hfind : ∀ (Q : Handler → Pre) (E : CtlPost) (d : Bool) (acts : List Action), wp (findHandler g a) Q E e d acts ((T.setTop g).pushFrame (.throwing a)) ↔ Q (.found 58) d acts (((T.setTop g).pushFrame (.throwing a)).setVm (T.vm.noted g.method.cls 146 (.cls cell.cls))) := by
    intro Q E d acts
    rw [W.findHandler_eq hm' X.code, htab]
    have hcov : (decide (eW.startPc ≤ g.pc) && decide (g.pc < eW.endPc)) = true := by simp [hpc.1, hpc.2]
    rw [← e1] at ha ht hk1 hfit' ⊢
    rw [← e2] at hcell
    simp [findHandler.go, hcov, ha, ht, hcell, hst, hk1, hfit', VmOp.dirties, VmOp.acts]
  obtain ⟨hgo, hw⟩ := h.throwing a
  refine Steps.head hgo hw ?_
  have hstep : (stepThrowing e ((T.setTop g).pushFrame (.throwing a)) a (.java g :: T.frames.tail)).Is ((((T.setTop g).pushFrame (.throwing a)).setVm (T.vm.noted g.method.cls 146 (.cls cell.cls))).setFrames (.java { g with pc := 58, stack := [.ref a] } :: T.frames.tail)) [] := by
    simp only [stepThrowing, searchFrame, vmDo]
    generalize hr : Sem.go _ e false [] ((T.setTop g).pushFrame (.throwing a)) = res
    obtain ⟨as, rfl, hz⟩ := Sem.eq_ok_of hr (a := Handler.found 58) (s' := ((T.setTop g).pushFrame (.throwing a)).setVm (T.vm.noted g.method.cls 146 (.cls cell.cls))) (acts' := []) (by simp [hfind _ _ _ _])
    exact ⟨rfl, hz⟩
  rw [stepThread_throwing (frames_entered h.top _), hstep.1]
  obtain ⟨g₀, hg0⟩ := Option.isSome_iff_exists.mp h.top
  obtain ⟨r, hr⟩ := State.topJava?_eq_some.mp hg0
  have hr' : (T.setVm (T.vm.noted g.method.cls 146 (.cls cell.cls))).frames = .java g₀ :: r := hr
  rw [State.setTop_of_frames _ hr'] at hrest
  have e3 : (((T.setTop g).pushFrame (.throwing a)).setVm (T.vm.noted g.method.cls 146 (.cls cell.cls))).setFrames (.java { g with pc := 58, stack := [.ref a] } :: T.frames.tail) = (T.setVm (T.vm.noted g.method.cls 146 (.cls cell.cls))).setFrames (.java { g with pc := 58, stack := [.ref a] } :: r) := by
    rw [hr, List.tail_cons, State.setTop_of_frames _ hr, State.pushFrame, State.setFrames_setFrames]
    show ((T.setVm (T.vm.noted g.method.cls 146 (.cls cell.cls))).setFrames _).setFrames _ = _
    rw [State.setFrames_setFrames]
  rw [e3]
  exact hrest
end Ctch
