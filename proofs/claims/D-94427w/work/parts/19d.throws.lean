/-! LAYER 1k: methods that end by throwing -/
/-- the end of a method that threw -/
def FrameT (st : State) (o : Outcome) (t : State) (L : List Loc) (mc ms : Nat) : Prop := (∃ x, o = .threw x) ∧ st.WarmedH t.vm ∧ st.sameButNew ({ t with vm := st.vm } : State) L mc ms
def MetT (l : Launch) (y : MethodName) (ws : List Cond) (rm : Room) (Pc : Array Value → State → Prop) (Qc : Array Value → State → Outcome → State → Prop) (mc ms : Nat) (free : Addr → Prop) : Prop :=
  MetFree l y (headSpec ws rm) Pc (fun _ _ _ _ _ => True) (fun a st o t => Qc a st o t ∧ ∃ L, FrameT st o t L mc ms ∧ ∀ q ∈ L, free q.base)
/-- THE CONTRACT of a throwing end: r.1 = (9, the thrown object) -/
def CtX (G : GG) (y : MethodName) (μ : MI) (as : List Vv) (w : Wd) (r : Vv × Wd) : Prop :=
  (w.1 ≤ r.2.1 ∧ w.2.1 ≤ r.2.2.1) ∧ ∀ l : Launch, MetT l y (ws_ y μ.1 μ.2.2.1 μ.2.2.2.1) (rmA μ.2.2.2.2.1 w r) (PcA G as w) (QcA G r) (r.2.1 - w.1) (r.2.2.1 - w.2.1) (fun q => G.2.2.2.size ≤ q)
theorem outc9 (ad : Nat → Nat) {v : Vv} (h : v.1 = 9) : outc ad v = .threw (ad v.2.toNat) := by
  obtain ⟨tg, z⟩ := v
  have h : tg = 9 := h
  subst h
  rfl
theorem CtX.of {G : GG} {y : MethodName} {μ : MI} {as : List Vv} {w : Wd} {r : Vv × Wd} {n : Nat} {ls0 : List (Option Vv)} (hy : plainName y.cls = true) (hcls : y.cls = μ.2.1) (hnm : y.name = μ.2.2.2.2.2) (hf : μ.2.2.2.1 ≠ some .float ∧ μ.2.2.2.1 ≠ some .double) (hlen : (as.map (fun v => if v.1 = 1 then 2 else 1)).sum ≤ μ.2.2.1) (hls : argL as ++ List.replicate n none = ls0)
    (hm : w.1 ≤ r.2.1 ∧ w.2.1 ≤ r.2.2.1) (h9 : r.1.1 = 9) (body : ∀ Γ, WP G Γ μ r 0 ls0 [] w) : CtX G y μ as w r := by
  refine ⟨hm, fun l => ?_⟩
  refine MetFree.of_bodyS (code := μ.1) (maxLocals := μ.2.2.1) (ret := μ.2.2.2.1) hy ?_ ?_
  · intro args s m h hn
    obtain ⟨meth, c, h1, h2, h3, h4, h5, h6, -, -⟩ := Cond.code_spec hn (atoms_spec (ws := ws_ y μ.1 μ.2.2.1 μ.2.2.2.1) h _ List.mem_cons_self)
    exact ⟨meth, c, h1, h2, h3, h4, h5, h6⟩
  intro p e s m args below meth c s₁ B hml hv _
  obtain ⟨rfl, hok, hH, hK⟩ := hv
  have hts1 := atoms_spec (ws := ws_ y μ.1 μ.2.2.1 μ.2.2.2.1) B.pre
  have hts : ∀ w ∈ lw_all, w.before _ s = true := fun w h => hts1 w (List.mem_cons_of_mem _ h)
  have hown : s.vm.findClass μ.2.1 = some m.cls := hcls ▸ findClass_of_methodNamed B.named
  have hlocks := B.notSynchronized
  have hin : meth.name = μ.2.2.2.2.2 := ((name_of_methodNamed B.named B.method).1).trans hnm
  have hemp : c.exceptionTable.isEmpty = true := B.noHandlers (hts1 _ List.mem_cons_self)
  have hsl : (lg_sl (as.map (dv G.2.1))).length ≤ μ.2.2.1 := Nat.le_trans (Nat.le_of_eq (lgsl_len G.2.1 as)) hlen
  have hl := lv_entry (as.map (dv G.2.1)) (n := μ.2.2.1) hsl
  generalize hlsa : (lg_sl (as.map (dv G.2.1)) ++ List.replicate (μ.2.2.1 - (lg_sl (as.map (dv G.2.1))).length) Slot.unset).toArray = lsa at hl
  have hlv : lvOK G.2.1 lsa μ.2.2.1 ls0 := by
    refine ⟨hl.1, hl.2.1, fun i v hi => ?_⟩
    rw [← hls] at hi
    have := (argL_mem (ad := G.2.1) as n 0 i v hi).1
    rw [Nat.zero_add] at this
    exact hl.2.2 _ this
  have hh0 : s₁.heap = s.heap := by rw [B.state]; rfl
  have hcx : CxU G p l e (headSpec (ws_ y μ.1 μ.2.2.1 μ.2.2.2.1) (rmA μ.2.2.2.2.1 w r)).room s m (as.map (dv G.2.1)).toArray below meth c (fun t => ∃ o, t.status = .running ∧ Ended t below o ∧ QcA G r (as.map (dv G.2.1)).toArray s o t ∧ ∃ L, FrameT s o t L (r.2.1 - w.1) (r.2.2.1 - w.2.1) ∧ ∀ q ∈ L, G.2.2.2.size ≤ q.base) w.1 w.2.1 μ r := by
    refine ⟨B.exec, B.bytes, hml, hown, hts, hK, hin, ⟨Nat.le_refl _, Nat.le_refl _, Nat.le_refl _, Nat.le_refl _⟩, ?_, ?_⟩
    · intro H locs lsa pc hHr hL hok2 hret hd
      exfalso
      unfold retOK at hret
      split at hret
      · rw [h9] at hret; exact absurd hret (by decide)
      · have h3 := hret.1
        rw [h9] at h3
        revert h3
        rename_i ty _
        cases ty <;> (intro h3; simp [tgF] at h3)
    · intro T locs g hHr hL _ hg hlk hen X
      obtain ⟨hwalk, hrun, hend, hW, hsame⟩ := X.leaveThrown (G.2.1 r.1.2.toNat) hg hlk hen (fun x hx => by
        have : c.exceptionTable.toList = [] := by simpa using hemp
        rw [this] at hx; cases hx)
      refine ⟨_, hwalk, _, hrun, hend, ⟨(outc9 G.2.1 h9).symm, ?_, hHr⟩, locs, ⟨⟨_, rfl⟩, hW, hsame⟩, hL⟩
      obtain ⟨⟨tg, z⟩, wr⟩ := r
      have h9 : tg = 9 := h9
      subst h9
      trivial
  have hb := (body (p, l, e, (headSpec (ws_ y μ.1 μ.2.2.1 μ.2.2.2.1) (rmA μ.2.2.2.2.1 w r)).room, s, m, (as.map (dv G.2.1)).toArray, below, meth, c, _, w.1, w.2.1)).2 hcx
    (fun k v hk => by rw [← hls] at hk; exact hok v (argL_mem (ad := G.2.1) as n 0 k v hk).2) (fun v hv => by cases hv) (Nat.le_refl _) (Nat.le_refl _) s.heap [] lsa hH (fun q hq => by cases hq) hlv
  rw [Nat.sub_self, Nat.sub_self] at hb
  obtain ⟨t, a1, o, b1, b2, b3⟩ := hb s₁ hh0 (Stand.of_body B)
  rw [lg_entry_eq, hlsa]
  exact ⟨t, o, a1, b1, b2, ⟨b3.1, b3.2⟩⟩
