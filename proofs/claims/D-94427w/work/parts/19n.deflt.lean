/-! LAYER 1n3: Two.bound, a default method of Sum -/
section Deflt
def dfAt : List Bool → Cond → Cond
  | [], c => c
  | false :: p, .and a _ => dfAt p a
  | true :: p, .and _ b => dfAt p b
  | _ :: _, c => c
theorem dfAt_spec {args : Array Value} {s : State} : ∀ (p : List Bool) (c : Cond), c.before args s = true → (dfAt p c).before args s = true := by
  intro p
  induction p with
  | nil => intro c h; exact h
  | cons b p ih =>
    intro c h
    cases c with
    | and x y =>
      rw [Cond.before_and, Bool.and_eq_true] at h
      cases b
      · exact ih x h.1
      · exact ih y h.2
    | _ => cases b <;> exact h
abbrev xTB : MethodName := { cls := "HeldTongue$Two", name := "bound", desc := "(J)J" }
abbrev ySB : MethodName := { cls := "HeldTongue$Sum", name := "bound", desc := "(J)J" }
def DfW (U : State) : Prop := (Cond.methodLink "HeldTongue$Two" 26 xTB).before #[] U = true ∧ (Cond.sameMethod "HeldTongue$Two" "HeldTongue$Sum" "bound" "(J)J").before #[] U = true ∧ (Cond.landsInDefault "HeldTongue$Two" xTB ySB).before #[] U = true
theorem PP.df : PP DfW := by
  refine ⟨fun s U hW h => ⟨word_at hW (Or.inl rfl) h.1, word_at hW (Or.inl rfl) h.2.1, landLike hW.alike h.2.2⟩, fun U g mk a h => ⟨va_tabs rfl (u := U) rfl h.1, va_tabs rfl (u := U) rfl h.2.1, h.2.2⟩, fun s0 b ht hn => ?_⟩
  have h1 := dfAt_spec [true, false, false, false, false, false, false, false, false, false] _ hn
  have h2 := dfAt_spec [true, false, false, false, false, false, false, false, false, true, false] _ hn
  have h3 := dfAt_spec [true, true, true, true, true, true, true, true, false, true] _ hn
  have h1 : (Cond.methodLink "HeldTongue$Two" 26 xTB).before #[Value.ref b] s0 = true := h1
  have h2 : (Cond.sameMethod "HeldTongue$Two" "HeldTongue$Sum" "bound" "(J)J").before #[Value.ref b] s0 = true := h2
  have h3 : (Cond.landsInDefault "HeldTongue$Two" xTB ySB).before #[Value.ref b] s0 = true := h3
  exact ⟨va_tabs rfl (u := s0) rfl h1, va_tabs rfl (u := s0) rfl h2, h3⟩
/-- a contract that asks no word on the callee's kind being ready -/
def Ct2 (G : GG) (y : MethodName) (μ : MI) (as : List Vv) (w : Wd) (r : Vv × Wd) : Prop :=
  (w.1 ≤ r.2.1 ∧ w.2.1 ≤ r.2.2.1) ∧ ∀ l : Launch, Met2 l y (ws_ y μ.1 μ.2.2.1 μ.2.2.2.1) (rmA μ.2.2.2.2.1 w r) (PcA G as w) (QcA G r) (r.2.1 - w.1) (r.2.2.1 - w.2.1) (fun q => G.2.2.2.size ≤ q) μ.1 μ.2.2.1 μ.2.2.2.1
theorem Ct2.of {G : GG} {y : MethodName} {μ : MI} {as : List Vv} {w : Wd} {r : Vv × Wd} {n : Nat} {ls0 : List (Option Vv)} (hcls : y.cls = μ.2.1) (hnm : y.name = μ.2.2.2.2.2) (hf : μ.2.2.2.1 ≠ some .float ∧ μ.2.2.2.1 ≠ some .double) (hlen : (as.map (fun v => if v.1 = 1 then 2 else 1)).sum ≤ μ.2.2.1) (hls : argL as ++ List.replicate n none = ls0)
    (hm : w.1 ≤ r.2.1 ∧ w.2.1 ≤ r.2.2.1) (h9 : r.1.1 ≠ 9) (body : ∀ Γ, WP G Γ μ r 0 ls0 [] w) : Ct2 G y μ as w r := by
  refine ⟨hm, fun l => ?_⟩
  intro p e s m args below meth c s₁ hexec hnamed hret0 hlk hbytes hml hws hv hheap X
  obtain ⟨rfl, hok, hH, hK⟩ := hv
  have hts : ∀ w ∈ lw_all, w.before _ s = true := fun w h => hws w (List.mem_cons_of_mem _ h)
  have hown : s.vm.findClass μ.2.1 = some m.cls := hcls ▸ findClass_of_methodNamed hnamed
  have hin : meth.name = μ.2.2.2.2.2 := ((name_of_methodNamed hnamed X.method).1).trans hnm
  have hsl : (lg_sl (as.map (dv G.2.1))).length ≤ μ.2.2.1 := Nat.le_trans (Nat.le_of_eq (lgsl_len G.2.1 as)) hlen
  have hl := lv_entry (as.map (dv G.2.1)) (n := μ.2.2.1) hsl
  rw [lg_entry_eq]
  generalize (lg_sl (as.map (dv G.2.1)) ++ List.replicate (μ.2.2.1 - (lg_sl (as.map (dv G.2.1))).length) Slot.unset).toArray = lsa at hl ⊢
  have hlv : lvOK G.2.1 lsa μ.2.2.1 ls0 := by
    refine ⟨hl.1, hl.2.1, fun i v hi => ?_⟩
    rw [← hls] at hi
    have := (argL_mem (ad := G.2.1) as n 0 i v hi).1
    rw [Nat.zero_add] at this
    exact hl.2.2 _ this
  have hcx : CxU G p l e (rmA μ.2.2.2.2.1 w r) s m (as.map (dv G.2.1)).toArray below meth c (MQ below (QcA G r) (as.map (dv G.2.1)).toArray s (r.2.1 - w.1) (r.2.2.1 - w.2.1) (fun q => G.2.2.2.size ≤ q)) w.1 w.2.1 μ r := by
    refine ⟨hexec, hbytes, hml, hown, hts, hK, hin, ⟨Nat.le_refl _, Nat.le_refl _, Nat.le_refl _, Nat.le_refl _⟩, ?_, fun T locs g _ _ q => absurd q h9⟩
    intro H locs lsa pc hHr hL hok2 hret hd
    have hq : ∀ (o : Outcome) (t : State), o = outc G.2.1 r.1 → t.heap = H → QcA G r (as.map (dv G.2.1)).toArray s o t := fun o t ho ht => ⟨ho, hok2, by rw [ht]; exact hHr⟩
    rcases retOK_cases hret hf with ⟨e1, e2⟩ | ⟨e1, e2⟩ | ⟨ty, e1, e2, e3, e4⟩ | ⟨ty, e1, e2, e3⟩
    · have hr1 : meth.sig.returnType = none := hret0.trans e1
      obtain ⟨⟨tg, z⟩, wr⟩ := r
      have e2 : tg = 3 := e2
      subst e2
      exact W.vret hexec hbytes hr1 (fun t ht hW => hq _ t rfl ht) (fun q hq' => hL q hq') hd
    · have hr1 : meth.sig.returnType = some .long := hret0.trans e1
      obtain ⟨⟨tg, z⟩, wr⟩ := r
      have e2 : tg = 1 := e2
      subst e2
      exact W.lret hexec hbytes hr1 (fun t ht hW => hq _ t rfl ht) (fun q hq' => hL q hq') hd
    · have hr1 : meth.sig.returnType = some ty := hret0.trans e1
      obtain ⟨⟨tg, z⟩, wr⟩ := r
      have e2 : tg = 0 := e2
      subst e2
      have hn : narrow ty (.int (i32 z)) = .int (i32 z) := by
        have h5 := (rok_fits (ad := G.2.1) (ty := ty) (z := z) ⟨fun q => by subst q; exact hf.1 e1, fun q => by subst q; exact hf.2 e1⟩ e4).1
        have h6 : vof G.2.1 ty z = .int (i32 z) := by rw [vof_dv, e3]; rfl
        rw [h6] at h5; exact h5
      exact W.zret hexec hbytes hr1 hn (fun t ht hW => hq _ t rfl ht) (fun q hq' => hL q hq') hd
    · have hr1 : meth.sig.returnType = some ty := hret0.trans e1
      obtain ⟨⟨tg, z⟩, wr⟩ := r
      have e2 : tg = 2 := e2
      subst e2
      exact W.aret hexec hbytes hr1 e3 (rfv_cases G.2.1 z) (fun t ht hW => hq _ t rfl ht) (fun q hq' => hL q hq') hd
  have hb := (body (p, l, e, rmA μ.2.2.2.2.1 w r, s, m, (as.map (dv G.2.1)).toArray, below, meth, c, _, w.1, w.2.1)).2 hcx
    (fun k v hk => by rw [← hls] at hk; exact hok v (argL_mem (ad := G.2.1) as n 0 k v hk).2) (fun v hv => by cases hv) (Nat.le_refl _) (Nat.le_refl _) s.heap [] lsa hH (fun q hq => by cases hq) hlv
  rw [Nat.sub_self, Nat.sub_self] at hb
  exact hb s₁ hheap X
theorem dfSel {Q : Selection → Pre} {E : CtlPost} {e : Env} {d : Bool} {acts : List Action} {s : State} {c : ClassId} {r m : MethodId} {rm mm : Method} {km : Class} (h1 : selectMethod e.platform s.vm c r = .method m) (h2 : s.vm.method? r = some rm) (h3 : s.vm.method? m = some mm) (h4 : s.vm.classes[m.cls]? = some km) (h5 : km.isInterface = true) (h6 : nearGood s.vm c rm.name rm.desc m = true) :
    wp (invokeinterface.selectVirtual c r) Q E e d acts s ↔ Q (.method m) d acts s := by
  unfold nearGood at h6
  cases hp : e.platform.privateHidesDefault with
  | false => simp [invokeinterface.selectVirtual, h2, selectFor_method h1 h3, h4, h5, hp]
  | true =>
    split at h6
    · rename_i k d' hn
      have : d' = m := of_decide_eq_true h6
      subst this
      simp [invokeinterface.selectVirtual, h2, selectFor_method h1 h3, h4, h5, hp, hn]
    · cases h6
    · rename_i hn1 hn2
      simp only [invokeinterface.selectVirtual, h2, selectFor_method h1 h3, h4, h5, hp, W.theMethod, wp_bind', W.theClass, Option.some.injEq, exists_eq_left', wp_pure', W.ite, Bool.not_true, Bool.false_eq_true, if_false]
      cases hn : nearestHeld s.vm c rm.name rm.desc with
      | none => simp [hp, hn]
      | some q =>
        obtain ⟨k, hd⟩ := q
        cases hd with
        | nothing => simp [hp, hn]
        | default d' => exact absurd hn (hn1 k d')
        | thrower b => exact absurd hn (hn2 k b)
theorem dfVirt {Q : Unit → Pre} {E : CtlPost} {e : Env} {d : Bool} {acts : List Action} {s : State} {f : JFrame} {index a : Nat} {r m : MethodId} {c' : ClassId} {k k' : Class} {rm mm : Method} {args rest : List Value} {cell : Cell}
    (hs : s.topJava?.isSome) (hnamed : namesResolved s.vm f.method.cls index c') (hk' : s.vm.classes[c']? = some k') (hcl : k'.isInterface = false) (hr : s.vm.methodReady f.method.cls index r)
    (hk : s.vm.classes[r.cls]? = some k) (hrm : s.vm.method? r = some rm) (hpoly : signaturePolymorphic k rm = false) (hstatic : rm.isStatic = false)
    (hlen : args.length = rm.sig.parameters.length) (hstack : f.stack = args.reverse ++ .ref a :: rest) (hcell : s.heap[a]? = some cell) (hobj : ∀ c, cell.vm ≠ .statics c)
    (hsel : ∀ {Q' : Selection → Pre} {E' : CtlPost} {d' : Bool} {acts' : List Action} (f' : JFrame), wp (invokeinterface.selectVirtual cell.cls r) Q' E' e d' acts' (s.setTop f') ↔ Q' (.method m) d' acts' (s.setTop f')) (hm : s.vm.method? m = some mm) (habs : mm.isAbstract = false) :
    wp (invokevirtual.sem index) Q E e d acts (s.setTop f) ↔ E (.invoke m (.ref a :: args).toArray) acts (s.setTop { f with stack := rest }) := by
  obtain ⟨kc, cf, ci, n, h1, h2, h3, h4⟩ := hnamed
  have hpre : ∀ {Q' : ClassId → Pre}, wp (Jvm.refClassAt index) Q' E e d acts (s.setTop f) ↔ Q' c' d acts (s.setTop f) := by
    intro Q'
    rcases h3 with h3 | h3 <;> simp [Jvm.refClassAt, Jvm.constantAt, State.method?_setTop f hs, h1, h2, h3, W.resolveClassAt_ready (State.method?_setTop f hs) h4]
  simp only [invokevirtual.sem, wp_bind', hpre, W.theClass, State.vm_setTop, hk', Option.some.injEq, exists_eq_left', W.ite, hcl, Bool.false_eq_true, if_false, wp_pure', W.resolveMethodAt_ready (State.method?_setTop f hs) hr]
  simp only [W.theMethod, State.vm_setTop, hrm, Option.some.injEq, exists_eq_left', Seam.isPolymorphic, wp_bind', W.theClass, hk, wp_pure', hpoly, W.ite, Bool.false_eq_true, if_false, hstatic, Jvm.popArgs, ← hlen, popN_top hs hstack]
  simp [hs, hcell, hobj, hsel, hm, habs]
theorem dfGo {p : Program} {l : Launch} {e : Env} {R : Room} {s : State} {m : MethodId} {args : Array Value} {below : List Frame} {meth : Method} {c : Code} {T : State} {locs : List Loc} {cells slots : Nat}
    (X : Stand p l e R s m args below meth c T locs cells slots) (hx : p.tables.exec = Jvm.exec) (hown : s.vm.findClass "HeldTongue$Two" = some m.cls) (D : ∀ U : State, s.WarmedH U.vm → DfW U) (hdecl : (Cond.declares ySB).before args s = true) (hinst : (Cond.instanceMethod ySB).before args s = true)
    {a : Addr} {cell : Cell} (hcell : T.heap[a]? = some cell) (hobj : cell.vm.isStatics = false) (hcls : s.vm.findClass "HeldTongue$Two" = some cell.cls) {g : JFrame} (hg : g.method = m) {argsL rest : List Value} (hlen : ∀ sig, parseMethodDescriptor ySB.desc = some sig → argsL.length = sig.parameters.length) (hstack : g.stack = argsL.reverse ++ .ref a :: rest) (hdg : decode c.code g.pc = .ok (.invokevirtual 26, 3)) :
    ∃ (vm' : Vm) (mk : MethodId), s.methodNamed? ySB = some mk ∧ Stand p l e R s m args below meth c (T.setVm vm') locs cells slots ∧ ∀ target, (∀ acts, Steps p.tables e below (doInvoke e ((T.setVm vm').setTop { g with stack := rest }) acts mk (.ref a :: argsL).toArray).1 target) → Steps p.tables e below (T.setTop g) target := by
  have D0 := D s (State.WarmedH.refl _)
  obtain ⟨r0, r, hn, hrm, hstR, hsigR⟩ := Cond.declares_spec hdecl
  obtain ⟨cn, ck, r1, hcn, hck, hni, hf, hn1⟩ := Cond.sameMethod_found D0.2.1
  cases (show s.methodNamed? ySB = some r1 from hn1).symm.trans hn
  obtain ⟨mk, methM, hnamed, hmethM, -, habM⟩ := Cond.instanceMethod_spec hinst
  obtain ⟨ci, hl, hright⟩ := Cond.methodLink_specUp hown hcn hck hni hf D0.1 e.platform (by rw [X.admits.platform]) (by rw [X.admits.platform])
  have hE : s.MethodEntryUp e T.vm m.cls 26 cn r0 ci := State.methodEntryUp X.warmed hl hright
  have like := hE.warmed.alike
  obtain ⟨c2, r2, m2, rm2, q1, q2, q3, q4, q5, q6, q7⟩ := landSpec (D (T.setVm (T.vm.calledUp m.cls ci 26 cn r0)) hE.warmed).2.2
  have q1 : (T.vm.calledUp m.cls ci 26 cn r0).findClass "HeldTongue$Two" = some c2 := q1
  have q4 : (T.vm.calledUp m.cls ci 26 cn r0).method? r2 = some rm2 := q4
  have e1 : cell.cls = c2 := by rw [like.findClass, hcls] at q1; exact Option.some.inj q1
  have e2 : r2 = r0 := by
    have h := State.methodFound?_setVm (s := s) like "HeldTongue$Two" "bound" "(J)J"
    have h5 : (s.setVm (T.vm.calledUp m.cls ci 26 cn r0)).methodFound? "HeldTongue$Two" "bound" "(J)J" = some r2 := q2
    rw [h, hf] at h5
    exact (Option.some.inj h5).symm
  have e3 : m2 = mk := by
    have h := State.methodNamed?_setVm (s := s) like (x := ySB)
    have h5 : (s.setVm (T.vm.calledUp m.cls ci 26 cn r0)).methodNamed? ySB = some m2 := q3
    rw [h, hnamed] at h5
    exact (Option.some.inj h5).symm
  subst e1; subst e2; subst e3
  obtain ⟨km, hkm, hki⟩ : ∃ km, (T.vm.calledUp m.cls ci 26 cn r2).classes[m2.cls]? = some km ∧ km.isInterface = true := by
    have q6 : ((T.vm.calledUp m.cls ci 26 cn r2).classes[m2.cls]?).any (fun k => k.isInterface) = true := q6
    cases hk : (T.vm.calledUp m.cls ci 26 cn r2).classes[m2.cls]? with
    | none => rw [hk] at q6; cases q6
    | some km => rw [hk] at q6; exact ⟨km, rfl, q6⟩
  obtain ⟨kr, hkr, hnr⟩ := className_of_methodNamed hn
  obtain ⟨dk, cfile, nt, _, _, _, _, _, hd, hcf, hcp, -⟩ := hl.here
  obtain ⟨dk₂, hdk₂, hres⟩ := hE.classReady
  obtain ⟨dk₃, hdk₃, hed⟩ := like.2.2 _ _ hd
  cases hdk₂.symm.trans hdk₃
  obtain ⟨kr₂, hkr₂, her⟩ := like.2.2 _ _ hkr
  obtain ⟨ck₂, hck₂, hec⟩ := like.2.2 _ _ hck
  have hrm2 : (T.vm.calledUp m.cls ci 26 cn r2).method? r2 = some r := by rw [like.method?]; exact hrm
  have hmm : (T.vm.calledUp m.cls ci 26 cn r2).method? m2 = some methM := by rw [like.method?]; exact hmethM
  cases q4.symm.trans hrm2
  refine ⟨_, m2, hnamed, X.noted hE.warmed, fun target hrest => ?_⟩
  subst hg
  jvm_step X.here [hx, hdg, invokevirtual.wp_coldUp (e := e) (s := T) (s₀ := s) (f := g) X.here.top X.warmed hE hd hcf (Or.inl hcp) hck hni]
  refine (dfVirt (e := e) (s := T.setVm (T.vm.calledUp g.method.cls ci 26 cn r2)) (f := g) (r := r2) (m := m2) (c' := cn) (k := kr₂) (k' := ck₂) (rm := r) (mm := methM) (a := a) (args := argsL) (rest := rest) (cell := cell)
      X.here.top ⟨dk₂, cfile, ci, nt, hdk₂, by rw [hed]; exact hcf, Or.inl hcp, dk₂, hdk₂, hres⟩ hck₂ (by rw [hec]; exact hni) hE.ready hkr₂ hrm2
      (by rw [her]; show signaturePolymorphic kr r = false; simp [signaturePolymorphic, hnr]) hstR (hlen _ hsigR) hstack hcell (fun z h => by rw [h] at hobj; cases hobj)
      (fun f' => dfSel (s := (T.setVm (T.vm.calledUp g.method.cls ci 26 cn r2)).setTop f') (by rw [Launch.admits_selectMethod X.admits]; exact q5) hrm2 hmm hkm hki q7) hmm habM).mpr ?_
  exact hrest
variable {G : GG} {Γ : Cx} {μ μy : MI} {r : Vv × Wd} {pc : Nat} {ls : List (Option Vv)} {st : List Vv} {w : Wd} {X : Type} {post : X → Prop}
theorem w_callDF {a N : Nat} {v : Int} {r' : Vv × Wd} (hμ : μ.2.1 = "HeldTongue$Two") (hy : μy = (cX20_bound, RX20, 3, some .long, 1, "bound")) (hdd : μy.2.2.2.2.1 + 1 ≤ μ.2.2.2.2.1) (ht : w.2.2.1 a = (14, N)) (hroom : (st.map (fun v : Vv => if v.1 = 1 then 2 else 1)).sum ≤ 8) (hrt : r'.1.1 ≤ 3)
    (hC : Ct2 G yX20_bound μy [(2, (a : Int)), (1, v)] w r') (hd : decode μ.1 pc = .ok (.invokevirtual 26, 3)) (h : WP G Γ μ r (pc + 3) ls (rst r'.1 st) r'.2) : WP G Γ μ r pc ls ((1, v) :: (2, (a : Int)) :: st) w := by
  refine w_callX (d := 3) (a := (([(2, (a : Int)), (1, v)] : List Vv).map (dv G.2.1)).toArray) hC.1 hrt (fun v hv => List.mem_cons_of_mem _ (List.mem_cons_of_mem _ hv)) (fun p l e R s m args below meth c H locs lsa cells slots S hK hR1 hR2 hH h2 hls hf => ?_) h
  obtain ⟨hx, hb, hml, ho, hts⟩ := S
  obtain ⟨cellB, hcB, hoB, hclB⟩ := recvOK (C := "HeldTongue$Two") hK hH ht rfl
  obtain ⟨d1, d2, d3⟩ := hK.2.2.2.2.2 _ PP.df
  have hG : GoodIn lw_all (ws_ yX20_bound μy.1 μy.2.2.1 μy.2.2.2.1) := by subst hy; exact lw_meth q1039
  have hbk : Back l R p e below s args yX20_bound 3 8 (PreOf R (r'.2.1 - w.1) (r'.2.2.1 - w.2.1) (PcA G [(2, (a : Int)), (1, v)] w)) (PostOf (QcA G r') (r'.2.1 - w.1) (r'.2.2.1 - w.2.1) (fun q => G.2.2.2.size ≤ q)) :=
    back2 (hC.2 l) hx (by decide) (PcA.blind _) rfl rfl (by show μy.2.2.2.2.1 + 1 ≤ R.frames; omega) (by subst hy; show 8 + (3 + 11) + 64 * 1 ≤ R.locals; simp only at hdd; omega) (pay_in hts hG) List.mem_cons_self
  rw [hμ] at ho
  have hA : (Value.ref (G.2.1 a) :: [dv G.2.1 (1, v)]).toArray = (([(2, (a : Int)), (1, v)] : List Vv).map (dv G.2.1)).toArray := by
    show _ = (rfv G.2.1 (a : Int) :: [dv G.2.1 (1, v)]).toArray
    rw [rfv_nat]
  intro T hT X
  obtain ⟨vm₁, mk, hnm, X₁, hstep₁⟩ := dfGo X hx ho (fun U hW => PP.df.1 s U hW (hK.2.2.2.2.2 _ PP.df)) (va_Nw.use rfl (hK.2.2.2.2.2 _ (PP.nwD q1035))) (hts _ q1037) (by rw [hT]; exact hcB) hoB hclB
    (g := F0 m pc lsa (((1, v) :: (2, (a : Int)) :: st : List Vv).map (dv G.2.1))) rfl (argsL := [dv G.2.1 (1, v)]) (rest := st.map (dv G.2.1)) (fun sig hs => by
      have h5 : (parseMethodDescriptor ySB.desc).map (fun d => d.parameters.length) = some 1 := by decide +kernel
      rw [hs] at h5
      exact (Option.some.inj h5).symm) (by
      show dv G.2.1 (1, v) :: rfv G.2.1 (a : Int) :: st.map (dv G.2.1) = _
      rw [rfv_nat]; rfl) (by rw [hb]; exact hd)
  obtain ⟨v', ⟨U', l2, c2, s2⟩, X', ⟨g', mk', t, L, e1, e2, hq, h1, hL, h2', h3⟩, hst⟩ := hbk m meth c ⟨T.setVm vm₁, locs, cells, slots⟩ (F0 m pc lsa (st.map (dv G.2.1))) (.invokevirtual 26) mk (Value.ref (G.2.1 a) :: [dv G.2.1 (1, v)]).toArray X₁ rfl (hls.trans hml.symm) (by rw [hb]; exact hd) (lv_room (m := m) (pc := pc) (ls := lsa) (catsum G.2.1 st hroom)) (X₁.named hnm)
    ⟨hf.1, hf.2, hA, okc (okr _) (okc (h2 _ List.mem_cons_self) (fun _ h => by cases h)), by show HeapOK G w T.heap; rw [hT]; exact hH, hK.warm X₁.warmed⟩
  dsimp only [Pt.U, Pt.locs, Pt.cells, Pt.slots] at X' e1 e2 h1 h2' h3 hst
  subst h1; subst h2'; subst h3
  rw [hA] at hq
  exact ⟨v', (T.setVm vm₁).calling g' mk' _, t, U', L, hT, X', hL, e1, e2, hq, fun target h => hstep₁ _ (fun acts => by rw [doInvoke_state]; exact hst.trans h)⟩
theorem s_callDF {z v : Int} {o : Option Int} {kk : Int → Option X} (hμ : μ.2.1 = "HeldTongue$Two") (hy : μy = (cX20_bound, RX20, 3, some .long, 1, "bound")) (hC : ∀ b, o = some b → Ct2 G yX20_bound μy [(2, z), (1, v)] w ((1, b), w)) (hdd : μy.2.2.2.2.1 + 1 ≤ μ.2.2.2.2.1) (hroom : (st.map (fun v : Vv => if v.1 = 1 then 2 else 1)).sum ≤ 8) (hd : decode μ.1 pc = .ok (.invokevirtual 26, 3)) (h : ∀ b, Sm (kk b) post (WP G Γ μ r (pc + 3) ls ((1, b) :: st) w)) : Sm (gd (0 ≤ z ∧ (w.2.2.1 z.toNat).1 = 14) (cl o kk)) post (WP G Γ μ r pc ls ((1, v) :: (2, z) :: st) w) := by
  intro x hx hp
  by_cases hg : 0 ≤ z ∧ (w.2.2.1 z.toNat).1 = 14
  · rw [gd_pos hg] at hx
    obtain ⟨a, rfl⟩ : ∃ a : Nat, z = (a : Int) := ⟨z.toNat, by omega⟩
    have ha : w.2.2.1 a = (14, (w.2.2.1 a).2) := by
      have := hg.2
      rw [Int.toNat_natCast] at this
      exact Prod.ext this rfl
    exact Sm.cl (fun b ho => (h b).map (fun hw => w_callDF hμ hy hdd ha hroom (by show (1 : Nat) ≤ 3; decide) (hC b ho) hd hw)) x hx hp
  · rw [gd_neg hg] at hx; cases hx
end Deflt
