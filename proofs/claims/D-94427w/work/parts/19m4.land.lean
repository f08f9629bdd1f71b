/-! LAYER 1n2b: a virtual call that lands in an interface's own method -/
section Land
theorem anyBare (vm : Vm) (f : Class → Bool) (hf : ∀ k : Class, f k.bare = f k) (c : ClassId) : (vm.bare.classes[c]?).any f = (vm.classes[c]?).any f := by
  rw [Vm.classes_bare]
  cases vm.classes[c]? with
  | none => rfl
  | some k => exact hf k
theorem heldLike {vm vm' : Vm} (h : vm.Alike vm') (c : ClassId) (name desc : String) : Jvm.held vm' c name desc = Jvm.held vm c name desc := by
  have a1 : superinterfaceMethods vm' = superinterfaceMethods vm := (superinterfaceMethods_bare vm').symm.trans ((congrArg superinterfaceMethods h.bare_eq).trans (superinterfaceMethods_bare vm))
  have a2 : maximallySpecific vm' = maximallySpecific vm := (maximallySpecific_bare vm').symm.trans ((congrArg maximallySpecific h.bare_eq).trans (maximallySpecific_bare vm))
  have a3 : ∀ (f : Class → Bool), (∀ k : Class, f k.bare = f k) → ∀ c : ClassId, (vm'.classes[c]?).any f = (vm.classes[c]?).any f := fun f hf c => by rw [← anyBare vm' f hf, h.bare_eq, anyBare vm f hf]
  have b1 := a3 (fun k => k.isInterface) (fun _ => rfl)
  have b2 := a3 (fun k => k.methods.any fun m => !m.isAbstract && !m.isStatic) (fun _ => rfl)
  have b3 := fun g : ClassId → Bool => a3 (fun k => k.interfaces.any g) (fun _ => rfl)
  unfold Jvm.held
  simp only [h.superclasses41, h.declaredIn, h.superinterfaces, h.method?, a1, a2, b1, b2, b3]
def nearGood (vm : Vm) (c : ClassId) (name desc : String) (m : MethodId) : Bool := match nearestHeld vm c name desc with
  | some (_, .default d) => decide (d = m)
  | some (_, .thrower _) => false
  | _ => true
theorem landSpec {args : Array Value} {U : State} {C : String} {x y : MethodName} (h : (Cond.landsInDefault C x y).before args U = true) :
    ∃ c r m rm, U.vm.findClass C = some c ∧ U.methodFound? x.cls x.name x.desc = some r ∧ U.methodNamed? y = some m ∧ U.vm.method? r = some rm ∧ selectMethod {} U.vm c r = .method m ∧ (U.vm.classes[m.cls]?).any (·.isInterface) = true ∧ nearGood U.vm c rm.name rm.desc m = true := by
  simp only [Cond.before, Cond.holds, Cond.value] at h
  rcases h1 : U.vm.findClass C with _ | c
  · simp [h1] at h
  rcases h2 : U.methodFound? x.cls x.name x.desc with _ | r
  · simp [h1, h2] at h
  rcases h3 : U.methodNamed? y with _ | m
  · simp [h1, h2, h3] at h
  rcases h4 : U.vm.method? r with _ | rm
  · simp [h1, h2, h3, h4] at h
  simp only [h1, h2, h3, h4, Option.map_some, beq_iff_eq, Option.some.injEq] at h
  refine ⟨c, r, m, rm, rfl, rfl, rfl, h4, ?_⟩
  cases h5 : selectMethod {} U.vm c r with
  | method m' =>
    simp only [h5, Bool.and_eq_true, decide_eq_true_eq] at h
    obtain ⟨⟨⟨⟨e1, e2⟩, -⟩, -⟩, e3⟩ := h
    subst e1
    exact ⟨rfl, e2, e3⟩
  | _ => simp [h5] at h
theorem landLike {args args' : Array Value} {s : State} {U : State} (h : s.vm.Alike U.vm) {C : String} {x y : MethodName} (hb : (Cond.landsInDefault C x y).before args s = true) : (Cond.landsInDefault C x y).before args' U = true := by
  have b1 : ∀ c : ClassId, (U.vm.classes[c]?).any (fun k => k.isInterface) = (s.vm.classes[c]?).any (fun k => k.isInterface) := fun c => by rw [← anyBare U.vm _ (fun _ => rfl), h.bare_eq, anyBare s.vm _ (fun _ => rfl)]
  have e0 : (Cond.landsInDefault C x y).before args' (s.setVm U.vm) = (Cond.landsInDefault C x y).before args s := by
    simp only [Cond.before, Cond.holds, Cond.value, State.vm_setVm, h.findClass, State.methodFound?_setVm h, State.methodNamed?_setVm h, h.selectMethod, h.method?, h.superclasses41, h.declaredIn, nearestHeld, heldLike h, b1]
  exact e0.trans hb
end Land
