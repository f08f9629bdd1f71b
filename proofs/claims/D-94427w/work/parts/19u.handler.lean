/-! LAYER 1v: text, a method with a handler of its own -/
abbrev hhT : List (Nat × Nat × Nat × Nat) := [(32, 55, 58, 146)]
def TabOK (Γ : Cx) : Prop := Γ.2.2.2.2.2.2.2.2.2.1.exceptionTable.toList = [eW]
def cxT : Cx := (.bare "" "" "", { maxFrames := 0, maxStackSlots := 0, maxCells := 0, maxSlots := 0, classes := [] }, { classPath := fun _ => none }, {}, default, default, #[], [], default, ⟨0, 0, ⟨#[]⟩, #[eW], #[]⟩, fun _ => True, 0, 0)
theorem cxT_ok : TabOK cxT := rfl
abbrev wsH (y : MethodName) (μ : MI) : List Cond := Cond.codeWith y μ.1 μ.2.2.1 μ.2.2.2.1 hhT :: lw_all
def CtH (G : GG) (y : MethodName) (μ : MI) (as : List Vv) (w : Wd) (r : Vv × Wd) : Prop :=
  (w.1 ≤ r.2.1 ∧ w.2.1 ≤ r.2.2.1) ∧ ∀ l : Launch, Met l y (wsH y μ) (rmA μ.2.2.2.2.1 w r) (PcA G as w) (QcA G r) (r.2.1 - w.1) (r.2.2.1 - w.2.1) (fun q => G.2.2.2.size ≤ q)
theorem CtH.of {G : GG} {y : MethodName} {μ : MI} {as : List Vv} {w : Wd} {r : Vv × Wd} {n : Nat} {ls0 : List (Option Vv)} (hy : plainName y.cls = true) (hcls : y.cls = μ.2.1) (hnm : y.name = μ.2.2.2.2.2) (hf : μ.2.2.2.1 ≠ some .float ∧ μ.2.2.2.1 ≠ some .double) (hlen : (as.map (fun v => if v.1 = 1 then 2 else 1)).sum ≤ μ.2.2.1) (hls : argL as ++ List.replicate n none = ls0)
    (hm : w.1 ≤ r.2.1 ∧ w.2.1 ≤ r.2.2.1) (h9 : r.1.1 ≠ 9) (body : ∀ Γ, TabOK Γ → WP G Γ μ r 0 ls0 [] w) : CtH G y μ as w r := by
  refine ⟨hm, fun l => ?_⟩
  refine va_MetW (cc := μ.1) (maxL := μ.2.2.1) (ret := μ.2.2.2.1) (hh := hhT) hy rfl ?_
  intro p e s m args below meth c s₁ B hml hv
  obtain ⟨rfl, hok, hH, hK⟩ := hv
  have hts := atoms_spec (ws := wsH y μ) B.pre
  have htab : c.exceptionTable.toList = [eW] := by
    obtain ⟨m9, meth9, c9, k1, k2, k3, k4, k5, k6, -⟩ := Cond.codeWith_spec (hts _ List.mem_cons_self)
    cases k1.symm.trans B.named
    cases k2.symm.trans B.method
    cases k3.symm.trans (Stand.of_body B).code
    revert k6
    cases c.exceptionTable.toList with
    | nil => intro k6; cases k6
    | cons x xs =>
      intro k6
      cases xs with
      | nil =>
        obtain ⟨x1, x2, x3, x4⟩ := x
        simp only [List.map_cons, List.map_nil, List.cons.injEq, Prod.mk.injEq, and_true] at k6
        obtain ⟨rfl, rfl, rfl, rfl⟩ := k6
        rfl
      | cons y ys => simp at k6
  have hts : ∀ w ∈ lw_all, w.before _ s = true := fun w h => hts w (List.mem_cons_of_mem _ h)
  have hown : s.vm.findClass μ.2.1 = some m.cls := hcls ▸ findClass_of_methodNamed B.named
  have hlocks := B.notSynchronized
  have hin : meth.name = μ.2.2.2.2.2 := ((name_of_methodNamed B.named B.method).1).trans hnm
  have hsl : (lg_sl (as.map (dv G.2.1))).length ≤ μ.2.2.1 := Nat.le_trans (Nat.le_of_eq (lgsl_len G.2.1 as)) hlen
  have hl := lv_entry (as.map (dv G.2.1)) (n := μ.2.2.1) hsl
  rw [lg_entry_eq]
  generalize (lg_sl (as.map (dv G.2.1)) ++ List.replicate (μ.2.2.1 - (lg_sl (as.map (dv G.2.1))).length) Slot.unset).toArray = lsa at hl ⊢
  have hlv : lvOK G.2.1 lsa μ.2.2.1 ls0 := by
    refine ⟨hl.1, hl.2.1, fun i v hi => ?_⟩
    rw [← hls] at hi
    have := (argL_mem (ad := G.2.1) as n 0 i v hi).1
    rw [Nat.zero_add] at this
    exact hl.2.2 _ this
  have hcx : CxU G p l e (headSpec (wsH y μ) (rmA μ.2.2.2.2.1 w r)).room s m (as.map (dv G.2.1)).toArray below meth c (MQ below (QcA G r) (as.map (dv G.2.1)).toArray s (r.2.1 - w.1) (r.2.2.1 - w.2.1) (fun q => G.2.2.2.size ≤ q)) w.1 w.2.1 μ r := by
    refine ⟨B.exec, B.bytes, hml, hown, hts, hK, hin, ⟨Nat.le_refl _, Nat.le_refl _, Nat.le_refl _, Nat.le_refl _⟩, ?_, fun T locs g _ _ q => absurd q h9⟩
    intro H locs lsa pc hHr hL hok2 hret hd
    have hq : ∀ (o : Outcome) (t : State), o = outc G.2.1 r.1 → t.heap = H → QcA G r (as.map (dv G.2.1)).toArray s o t := fun o t ho ht => ⟨ho, hok2, by rw [ht]; exact hHr⟩
    rcases retOK_cases hret hf with ⟨e1, e2⟩ | ⟨e1, e2⟩ | ⟨ty, e1, e2, e3, e4⟩ | ⟨ty, e1, e2, e3⟩
    · have hr1 : meth.sig.returnType = none := B.returns.trans e1
      obtain ⟨⟨tg, z⟩, wr⟩ := r
      have e2 : tg = 3 := e2
      subst e2
      exact W.vret B.exec B.bytes hr1 (fun t ht hW => hq _ t rfl ht) (fun q hq' => hL q hq') hd
    · have hr1 : meth.sig.returnType = some .long := B.returns.trans e1
      obtain ⟨⟨tg, z⟩, wr⟩ := r
      have e2 : tg = 1 := e2
      subst e2
      exact W.lret B.exec B.bytes hr1 (fun t ht hW => hq _ t rfl ht) (fun q hq' => hL q hq') hd
    · have hr1 : meth.sig.returnType = some ty := B.returns.trans e1
      obtain ⟨⟨tg, z⟩, wr⟩ := r
      have e2 : tg = 0 := e2
      subst e2
      have hn : narrow ty (.int (i32 z)) = .int (i32 z) := by
        have h5 := (rok_fits (ad := G.2.1) (ty := ty) (z := z) ⟨fun q => by subst q; exact hf.1 e1, fun q => by subst q; exact hf.2 e1⟩ e4).1
        have h6 : vof G.2.1 ty z = .int (i32 z) := by rw [vof_dv, e3]; rfl
        rw [h6] at h5; exact h5
      exact W.zret B.exec B.bytes hr1 hn (fun t ht hW => hq _ t rfl ht) (fun q hq' => hL q hq') hd
    · have hr1 : meth.sig.returnType = some ty := B.returns.trans e1
      obtain ⟨⟨tg, z⟩, wr⟩ := r
      have e2 : tg = 2 := e2
      subst e2
      exact W.aret B.exec B.bytes hr1 e3 (rfv_cases G.2.1 z) (fun t ht hW => hq _ t rfl ht) (fun q hq' => hL q hq') hd
  have hb := (body (p, l, e, (headSpec (wsH y μ) (rmA μ.2.2.2.2.1 w r)).room, s, m, (as.map (dv G.2.1)).toArray, below, meth, c, _, w.1, w.2.1) htab).2 hcx
    (fun k v hk => by rw [← hls] at hk; exact hok v (argL_mem (ad := G.2.1) as n 0 k v hk).2) (fun v hv => by cases hv) (Nat.le_refl _) (Nat.le_refl _) s.heap [] lsa hH (fun q hq => by cases hq) hlv
  rw [Nat.sub_self, Nat.sub_self] at hb
  exact hb
section HndR
variable {G : GG} {Γ : Cx} {μ μy : MI} {r : Vv × Wd} {pc : Nat} {ls ls' : List (Option Vv)} {st st2 : List Vv} {w : Wd} {x y : MethodName} {sz sl : Nat} {td : TT} {c : CC}
variable {X B : Type} {k k1 k2 : Option X} {post : X → Prop}
theorem w_callVTc {idx a ci N n : Nat} {C : String} {z e9 : Int} {w9 : Wd} {as : List Vv} (hTab : TabOK Γ) (hμ : μ.2.1 = RX0) (hpc : 32 ≤ pc ∧ pc < 55) (hM : MV μ.2.1 idx C y μy n) (hdd : μy.2.2.2.2.1 + 1 ≤ μ.2.2.2.2.1) (ht : w.2.2.1 a = (ci, N)) (hcl : (kCl[ci]?.map (fun q => q.1)) = some C) (hz : z = (a : Int)) (hn : as.length = n) (hroom : (st.map (fun v : Vv => if v.1 = 1 then 2 else 1)).sum ≤ 8) (hC : CtX G y μy ((2, z) :: as) w ((9, e9), w9)) (he : 0 ≤ e9 ∧ (w9.2.2.1 e9.toNat).1 = 5) (hd : decode μ.1 pc = .ok (.invokevirtual idx, 3)) (h : WP G Γ μ r 58 ls [(2, e9)] w9) : WP G Γ μ r pc ls (as.reverse ++ (2, z) :: st) w := by
  obtain ⟨p, l, e, R, s, m, args, below, meth, c, Q, z0, s0⟩ := Γ
  subst hz
  refine ⟨⟨Nat.le_trans hC.1.1 h.1.1, Nat.le_trans hC.1.2 h.1.2⟩, fun hX h1 h2 hz0 hs0 H locs lsa hH hL hl => ?_⟩
  obtain ⟨hx, hb, hml, hown, hts, hK, hnm, ⟨hR1, hR2, hR3, hR4⟩, -, -⟩ := id hX
  have hm1 : w.1 ≤ w9.1 := hC.1.1
  have hm2 : w.2.1 ≤ w9.2.1 := hC.1.2
  have hm3 : w9.1 ≤ r.2.1 := h.1.1
  have hm4 : w9.2.1 ≤ r.2.2.1 := h.1.2
  have h45 := hM.2.2
  have hMet := hC.2 l
  obtain ⟨cellB, hcB, hoB, hclB⟩ := recvOK hK hH ht hcl
  have cw := cwV (R := R) (rm := rmA μy.2.2.2.2.1 w ((9, e9), w9)) n hts hM.1 rfl rfl rfl hM.2.1 ⟨Nat.le_trans hdd hR1, by
      show 8 + (μy.2.2.1 + 11) + 64 * μy.2.2.2.2.1 ≤ R.locals
      omega⟩
  obtain ⟨⟨hrc, hrs, hfr, hlo, hws, hcw, hcode, hini, hy, hlen, hlk⟩, hinst, hsel⟩ := cw
  rw [stmap]
  intro T hT X
  subst hT
  obtain ⟨mk, methM, hnamed, hmethM, hstM, habM⟩ := Cond.instanceMethod_spec hinst
  obtain ⟨methM', cM, hmethM', -, -, -, -, -, -, hsigM⟩ := Cond.code_spec hnamed hcode
  cases hmethM.symm.trans hmethM'
  obtain ⟨c2, r2, m2, q1, q2, q3, q4, kP, hkP, hkPi⟩ := Cond.selects_spec hsel
  cases hclB.symm.trans q1
  cases (State.methodFound?_of_named hnamed hy).symm.trans q2
  cases hnamed.symm.trans q3
  have hselP : selectMethod e.platform s.vm cellB.cls mk = .method mk := by rw [Launch.admits_selectMethod X.admits]; exact q4
  obtain ⟨vm₁, X₁, hstep₁⟩ := X.invokevirtual hx hown hlk hnamed hmethM hstM hkP hkPi hy (a := G.2.1 a) (cell := cellB) hcB
    (fun z h => by rw [h] at hoB; cases hoB) hselP hmethM habM hkP hkPi (g := F0 m pc lsa ((as.map (dv G.2.1)).reverse ++ .ref (G.2.1 a) :: st.map (dv G.2.1))) rfl (argsL := as.map (dv G.2.1)) (rest := st.map (dv G.2.1)) (by rw [List.length_map]; exact hn.trans (hlen _ hsigM)) rfl (by rw [hb]; exact hd)
  obtain ⟨x, T', t, L, X', hheap, hL', ⟨ho, hok, hHr⟩, hsteps⟩ := backT (len := 3) (W := 8) (a := (Value.ref (G.2.1 a) :: as.map (dv G.2.1)).toArray) (ig := .invokevirtual idx) (mk := mk) (g := F0 m pc lsa (st.map (dv G.2.1))) hMet (PcA.blind _) rfl rfl hfr hlo hws hcw (fun a' U hW => word_at hW (Or.inl (by first | rfl | simp [Cond.onTables, Cond.keeps, Cond.steady])) hini) X₁ rfl (by show lsa.size = c.maxLocals; rw [hml]; exact hl.1) (by rw [hb]; exact hd) (lv_room (catsum G.2.1 st hroom)) (X₁.named hnamed)
    ⟨by show w.1 - z0 + (w9.1 - w.1) ≤ R.cells; omega, by show w.2.1 - s0 + (w9.2.1 - w.2.1) ≤ R.slots; omega, by rw [asmap], asok h2, hH, hK.warm X₁.warmed⟩
  have hxe : x = G.2.1 e9.toNat := by cases ho; rfl
  subst hxe
  have hHr : HeapOK G w9 T'.heap := by rw [hheap]; exact hHr
  have X2 : Stand p l e R s m args below meth c T' (locs ++ L) (w9.1 - z0) (w9.2.1 - s0) := by
    have e1 : w.1 - z0 + (w9.1 - w.1) = w9.1 - z0 := by omega
    have e2 : w.2.1 - s0 + (w9.2.1 - w.2.1) = w9.2.1 - s0 := by omega
    have X' : Stand p l e R s m args below meth c T' (locs ++ L) (w.1 - z0 + (w9.1 - w.1)) (w.2.1 - s0 + (w9.2.1 - w.2.1)) := X'
    rw [e1, e2] at X'
    exact X'
  obtain ⟨cell9, hc9, ho9, hcl9⟩ := recvOK (a := e9.toNat) (ci := 5) (N := (w9.2.2.1 e9.toNat).2) (C := RX6) hK hHr (Prod.ext he.2 rfl) rfl
  obtain ⟨c8, t8, k1, k2, k3⟩ := Cond.castable_spec (va_Nw.use (A := args) rfl (hK.2.2.2.2.2 _ (PP.nwC q492)))
  cases (show s.vm.findClass RX6 = some c8 from k1).symm.trans hcl9
  cases (show s.vm.findClass RX6 = some t8 from k2).symm.trans hcl9
  obtain ⟨vm', X3, hst3⟩ := caughtHere X2 (G.2.1 e9.toNat) (g := F0 m pc lsa (st.map (dv G.2.1))) rfl (by rw [← hμ]; exact hown) hTab hpc (hts _ q358) hc9 ho9 hcl9 k3
  have hk := h.2 hX h1 (fun v hv => by rw [List.mem_singleton.mp hv]; exact okr _) (Nat.le_trans hz0 hm1) (Nat.le_trans hs0 hm2) T'.heap (locs ++ L) lsa hHr (fun q hq => by
    rcases List.mem_append.mp hq with h | h
    · exact hL q h
    · exact hL' q h) hl
  obtain ⟨t2, a1, b1⟩ := hk (T'.setVm vm') rfl X3
  have e9 : rfv G.2.1 e9 = .ref (G.2.1 e9.toNat) := by
    have := rfv_nat G.2.1 e9.toNat
    rw [Int.toNat_of_nonneg he.1] at this
    exact this
  have a1 : Steps p.tables e below ((T'.setVm vm').setTop (F0 m 58 lsa [rfv G.2.1 _])) t2 := a1
  rw [e9] at a1
  exact ⟨t2, hstep₁ _ (fun acts => by rw [doInvoke_state]; exact hsteps.trans (hst3 _ a1)), b1⟩
theorem s_callVEC {idx ci n : Nat} {C : String} {z : Int} {as : List Vv} {o : Option (ThrT ⊕ B)} {kt : ThrT → Option X} {kk : B → Option X} {rv : B → Vv × Wd} {st2 : List Vv} {st3 : B → List Vv} {w3 : B → Wd} (hTab : TabOK Γ) (hμ : μ.2.1 = RX0) (hpc : 32 ≤ pc ∧ pc < 55) (hM : MV μ.2.1 idx C y μy n) (hC : ∀ b, o = some b → CtE G y μy ((2, z) :: as) (sz, sl, tt td, cv c) (Sum.elim te rv b)) (hst : as.reverse ++ (2, z) :: st = st2) (hdd : μy.2.2.2.2.1 + 1 ≤ μ.2.2.2.2.1) (hcl : (kCl[ci]?.map (fun q => q.1)) = some C) (hn : as.length = n) (hroom : (st.map (fun v : Vv => if v.1 = 1 then 2 else 1)).sum ≤ 8) (hrt : ∀ b, (rv b).1.1 ≤ 3) (h3 : ∀ b, rst (rv b).1 st = st3 b ∧ (rv b).2 = w3 b)
    (hd : decode μ.1 pc = .ok (.invokevirtual idx, 3)) (ht : ∀ e : ThrT, Sm (kt e) post (WP G Γ μ r 58 ls [(2, e.1)] (e.2.1, e.2.2.1, tt e.2.2.2.1, cv e.2.2.2.2))) (h : ∀ b, Sm (kk b) post (WP G Γ μ r (pc + 3) ls (st3 b) (w3 b))) : Sm (gd (0 ≤ z ∧ (tt td z.toNat).1 = ci) (cl o (Sum.elim (fun e => gd (0 ≤ e.1 ∧ (tt e.2.2.2.1 e.1.toNat).1 = 5) (kt e)) kk))) post (WP G Γ μ r pc ls st2 (sz, sl, tt td, cv c)) := by
  subst hst
  intro x0 hx0 hp
  by_cases hR : 0 ≤ z ∧ (tt td z.toNat).1 = ci
  · rw [gd_pos hR] at hx0
    refine Sm.cl (fun b ho => ?_) x0 hx0 hp
    cases b with
    | inl e =>
      intro x1 hx1 hp1
      have hx1 : gd (0 ≤ e.1 ∧ (tt e.2.2.2.1 e.1.toNat).1 = 5) (kt e) = some x1 := hx1
      by_cases hE : 0 ≤ e.1 ∧ (tt e.2.2.2.1 e.1.toNat).1 = 5
      · rw [gd_pos hE] at hx1
        exact w_callVTc hTab hμ hpc hM hdd (dyn_t hR.2) hcl (dyn_z hR.1) hn hroom ((hC _ ho).1 rfl) hE hd (ht e x1 hx1 hp1)
      · rw [gd_neg hE] at hx1; cases hx1
    | inr b =>
      refine (h b).map (fun hw => ?_)
      have h1 := (hC _ ho).2 (by show (rv b).1.1 ≠ 9; have := hrt b; omega)
      rw [← (h3 b).1, ← (h3 b).2] at hw
      exact w_callV hM hdd (dyn_t hR.2) hcl (dyn_z hR.1) hn hroom (hrt b) h1 hd hw
  · rw [gd_neg hR] at hx0; cases hx0
/-- a lexicon into the fixed array of them -/
theorem s_aastLM {a n : Nat} {z i v : Int} {kk : CC → Option X} (ht : tt td a = (54, n)) (hz : z = (a : Int)) (ha : kO ≤ a) (hs : ∀ j, sref a j = none) (hd : decode μ.1 pc = .ok (.aastore, 1)) (h : ∀ c1, Sm (kk c1) post (WP G Γ μ r (pc + 1) ls st (sz, sl, tt td, cv c1))) : Sm (gd (0 ≤ i ∧ i < (n : Int) ∧ 0 ≤ v ∧ (tt td v.toNat).1 = 1) (bd (up2 c a i.toNat v) kk)) post (WP G Γ μ r pc ls ((2, v) :: (0, i) :: (2, z) :: st) (sz, sl, tt td, cv c)) :=
  Sm.gd (fun hR hw => w_aastO (q := 4) (ci := 1) (by decide) rfl ht hz ha ⟨hR.1, hR.2.1⟩ (dyn_z hR.2.2.1) (dyn_t hR.2.2.2) rfl (Or.inr rfl) (cv_up (hs _)) hd hw) (Sm.bd (h _))
end HndR
