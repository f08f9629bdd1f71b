/-! LAYER 1j: calls of every kind -/
def RunK (d : Nat) (p : Program) (l : Launch) (e : Env) (R : Room) (s : State) (m : MethodId) (args : Array Value) (below : List Frame) (meth : Method) (c : Code) (H : Heap) (locs : List Loc) (cells slots mc ms : Nat) (g : JFrame) (rest : List Value) (Qa : State → Outcome → State → Prop) (free : Addr → Prop) : Prop :=
  ∀ T : State, T.heap = H → Stand p l e R s m args below meth c T locs cells slots → ∃ (v : Option Value) (st₀ t T' : State) (L : List Loc), st₀.heap = H ∧ Stand p l e R s m args below meth c T' (locs ++ L) (cells + mc) (slots + ms) ∧ (∀ q ∈ L, free q.base) ∧ T'.heap = t.heap ∧ T'.vm = t.vm ∧ Qa st₀ (.returned v) t ∧
    Goes p e below T g T' { g with pc := g.pc + d, stack := v.toList ++ rest }
section Calls2
variable {G : GG} {Γ : Cx} {μ μy : MI} {r : Vv × Wd} {pc : Nat} {ls ls' : List (Option Vv)} {st st2 : List Vv} {w : Wd} {x y : MethodName}
variable {X B : Type} {k k1 k2 : Option X} {post : X → Prop}
theorem W_callK {d : Nat} {p : Program} {l : Launch} {e : Env} {R : Room} {s : State} {m : MethodId} {args : Array Value} {below : List Frame} {meth : Method} {c : Code} {H : Heap} {locs : List Loc} {cells slots mc ms : Nat} {Q : State → Prop} {lsa : Array Slot} {rest st0 : List Value} {a : Array Value} {r' : Vv × Wd}
    (hr : RunK d p l e R s m args below meth c H locs cells slots mc ms (F0 m pc lsa st0) rest (QcA G r' a) (fun q => G.2.2.2.size ≤ q)) (hL : ∀ q ∈ locs, G.2.2.2.size ≤ q.base)
    (kk : ∀ (H1 : Heap) (locs1 : List Loc), HeapOK G r'.2 H1 → okv r'.1 → (∀ q ∈ locs1, G.2.2.2.size ≤ q.base) → W p l e R s m args below meth c H1 locs1 (cells + mc) (slots + ms) Q (F0 m (pc + d) lsa (retSt G.2.1 r'.1 ++ rest))) : W p l e R s m args below meth c H locs cells slots Q (F0 m pc lsa st0) := by
  intro T hT X
  obtain ⟨v, st₀, t, T', L, h0, X', hL', e1, e2, ⟨ho, hok, hH⟩, st⟩ := hr T hT X
  have hv : v.toList = retSt G.2.1 r'.1 := by
    obtain ⟨⟨tg, z⟩, wr⟩ := r'
    match tg, ho with
    | 0, ho => cases ho; rfl
    | 1, ho => cases ho; rfl
    | 2, ho => cases ho; rfl
    | 3, ho => cases ho; rfl
    | n + 4, ho => cases ho
  obtain ⟨t2, a1, b1⟩ := kk T'.heap (locs ++ L) (by rw [e1]; exact hH) hok (fun q hq => by
    rcases List.mem_append.mp hq with h | h
    · exact hL q h
    · exact hL' q h) T' rfl X'
  rw [← hv] at a1
  exact ⟨t2, st t2 a1, b1⟩
theorem w_callX {d : Nat} {r' : Vv × Wd} {a : Array Value} (hm : w.1 ≤ r'.2.1 ∧ w.2.1 ≤ r'.2.2.1) (hrt : r'.1.1 ≤ 3) (hsub : ∀ v ∈ st, v ∈ st2)
    (run : ∀ (p : Program) (l : Launch) (e : Env) (R : Room) (s : State) (m : MethodId) (args : Array Value) (below : List Frame) (meth : Method) (c : Code) (H : Heap) (locs : List Loc) (lsa : Array Slot) (cells slots : Nat), CallFix p m c μ.1 μ.2.2.1 s args lw_all μ.2.1 → Kn G s → μ.2.2.2.2.1 ≤ R.frames → 64 * μ.2.2.2.2.1 ≤ R.locals → HeapOK G w H → (∀ v ∈ st2, okv v) → lsa.size = μ.2.2.1 → cells + (r'.2.1 - w.1) ≤ R.cells ∧ slots + (r'.2.2.1 - w.2.1) ≤ R.slots →
      RunK d p l e R s m args below meth c H locs cells slots (r'.2.1 - w.1) (r'.2.2.1 - w.2.1) (F0 m pc lsa (st2.map (dv G.2.1))) (st.map (dv G.2.1)) (QcA G r' a) (fun q => G.2.2.2.size ≤ q))
    (h : WP G Γ μ r (pc + d) ls (rst r'.1 st) r'.2) : WP G Γ μ r pc ls st2 w := by
  obtain ⟨p, l, e, R, s, m, args, below, meth, c, Q, z0, s0⟩ := Γ
  refine ⟨⟨Nat.le_trans hm.1 h.1.1, Nat.le_trans hm.2 h.1.2⟩, fun hX h1 h2 hz0 hs0 H locs lsa hH hL hl => ?_⟩
  obtain ⟨hx, hb, hml, hown, hts, hK, hnm, ⟨hR1, hR2, hR3, hR4⟩, -⟩ := id hX
  have hm1 := hm.1
  have hm2 := hm.2
  have hm3 := h.1.1
  have hm4 := h.1.2
  refine W_callK (r' := r') (run p l e R s m args below meth c H locs lsa (w.1 - z0) (w.2.1 - s0) ⟨hx, hb, hml, hown, hts⟩ hK hR1 hR2 hH h2 hl.1 ⟨by omega, by omega⟩) hL (fun H1 locs1 hH1 hok1 hL1 => ?_)
  rw [retSt_rst G.2.1 hrt]
  refine W.cs (cells' := r'.2.1 - z0) (slots' := r'.2.2.1 - s0) (by omega) (by omega) ?_
  exact h.2 hX h1 (rst_ok hok1 (fun v hv => h2 v (hsub v hv))) (Nat.le_trans hz0 hm1) (Nat.le_trans hs0 hm2) H1 locs1 lsa hH1 hL1 hl
theorem asok {as st : List Vv} {z : Int} (h : ∀ v ∈ as.reverse ++ (2, z) :: st, okv v) : ∀ x ∈ ((2, z) : Vv) :: as, okv x := okc (okr _) (fun x hx' => h x (List.mem_append_left _ (List.mem_reverse.mpr hx')))
theorem asmap (ad : Nat → Nat) (a : Nat) (as : List Vv) : (((2, (a : Int)) :: as).map (dv ad)) = Value.ref (ad a) :: as.map (dv ad) := by
  show rfv ad (a : Int) :: as.map (dv ad) = _
  rw [rfv_nat]
theorem stmap (ad : Nat → Nat) (a : Nat) (as st : List Vv) : (as.reverse ++ (2, (a : Int)) :: st).map (dv ad) = (as.map (dv ad)).reverse ++ .ref (ad a) :: st.map (dv ad) := by
  rw [rmap]
  show _ ++ (rfv ad (a : Int) :: _) = _
  rw [rfv_nat]
theorem recvOK {ci N a : Nat} {C : String} {s : State} {H : Heap} (hK : Kn G s) (hH : HeapOK G w H) (ht : w.2.2.1 a = (ci, N)) (hcl : (kCl[ci]?.map (fun q => q.1)) = some C) : ∃ cell : Cell, H[G.2.1 a]? = some cell ∧ cell.vm.isStatics = false ∧ s.vm.findClass C = some cell.cls := by
  cases hk : kCl[ci]? with
  | none => rw [hk] at hcl; cases hcl
  | some q =>
    rw [hk] at hcl
    have hq : q.1 = C := Option.some.inj hcl
    have hlt : ci < 50 := by have := (List.getElem?_eq_some_iff.mp hk).1; simp at this; omega
    have ho := (hH.1 a).1 (by rw [ht]; exact hlt)
    rw [ht] at ho
    obtain ⟨⟨q', e1, e2, cell, g1, g2, g3, g4⟩, -⟩ := ho
    obtain ⟨-, hfc, -⟩ := hK.2.2.1 ci q hk
    exact ⟨cell, g1, by rw [g3]; rfl, by rw [← hq, hfc, g2]⟩
/-- constructors -/
def MIn (own : String) (idx : Nat) (y : MethodName) (μ : MI) (n : Nat) : Prop := GoodIn lw_all (ws_ y μ.1 μ.2.2.1 none) ∧ μ.2.2.2.1 = none ∧ Cond.initialized y.cls ∈ lw_all ∧ Cond.methodLink own idx y ∈ lw_all ∧ Cond.instanceMethod y ∈ lw_all ∧ y.name = "<init>" ∧ (y.cls ≠ "java/lang/invoke/MethodHandle" ∧ y.cls ≠ "java/lang/invoke/VarHandle" ∧ (parseMethodDescriptor y.desc).map (fun d => d.parameters.length) = some n) ∧ μ.2.2.1 ≤ 45
theorem w_callI {idx a n : Nat} {z : Int} {as : List Vv} {r' : Vv × Wd} (hM : MIn μ.2.1 idx y μy n) (hdd : μy.2.2.2.2.1 + 1 ≤ μ.2.2.2.2.1) (hz : z = (a : Int)) (hn : as.length = n) (hroom : (st.map (fun v : Vv => if v.1 = 1 then 2 else 1)).sum ≤ 8) (hrt : r'.1.1 ≤ 3)
    (hC : Ct G y μy ((2, z) :: as) w r') (hd : decode μ.1 pc = .ok (.invokespecial idx, 3)) (h : WP G Γ μ r (pc + 3) ls (rst r'.1 st) r'.2) : WP G Γ μ r pc ls (as.reverse ++ (2, z) :: st) w := by
  subst hz
  obtain ⟨hG, hret, hini, hlk, hinst, hnm, hdd2, h45⟩ := hM
  refine w_callX (a := (Value.ref (G.2.1 a) :: as.map (dv G.2.1)).toArray) hC.1 hrt (fun v hv => List.mem_append_right _ (List.mem_cons_of_mem _ hv)) (fun p l e R s m args below meth c H locs lsa cells slots S hK hR1 hR2 hH h2 hls hf => ?_) h
  have hMet := hC.2 l
  rw [hret] at hMet
  rw [stmap]
  exact va_runI (As := as.map (dv G.2.1)) (rest := st.map (dv G.2.1)) S hMet (cwI (R := R) n S.2.2.2.2 hG rfl rfl rfl (S.2.2.2.2 _ hini) (S.2.2.2.2 _ hlk) (S.2.2.2.2 _ hinst) hnm hdd2 ⟨Nat.le_trans hdd hR1, by show 8 + (μy.2.2.1 + 11) + 64 * μy.2.2.2.2.1 ≤ R.locals; omega⟩)
    ⟨PcA.blind _, fun U hU hW => ⟨by rw [asmap], asok h2, by rw [hU]; exact hH, hK.warm hW⟩⟩ rfl (by rw [List.length_map]; exact hn) hls rfl (lv_room (catsum G.2.1 st hroom)) hd hf
def MInN (own : String) (idx : Nat) (y : MethodName) (μ : MI) (n : Nat) : Prop := ∃ host : String, GoodIn lw_all (ws_ y μ.1 μ.2.2.1 none) ∧ μ.2.2.2.1 = none ∧ Cond.initialized y.cls ∈ lw_all ∧ PP (va_Nw (Cond.methodLinkNest own idx y host)) ∧ Cond.instanceMethod y ∈ lw_all ∧ y.name = "<init>" ∧ (y.cls ≠ "java/lang/invoke/MethodHandle" ∧ y.cls ≠ "java/lang/invoke/VarHandle" ∧ (parseMethodDescriptor y.desc).map (fun d => d.parameters.length) = some n) ∧ μ.2.2.1 ≤ 45
theorem w_callIN {idx a n : Nat} {z : Int} {as : List Vv} {r' : Vv × Wd} (hM : MInN μ.2.1 idx y μy n) (hdd : μy.2.2.2.2.1 + 1 ≤ μ.2.2.2.2.1) (hz : z = (a : Int)) (hn : as.length = n) (hroom : (st.map (fun v : Vv => if v.1 = 1 then 2 else 1)).sum ≤ 8) (hrt : r'.1.1 ≤ 3)
    (hC : Ct G y μy ((2, z) :: as) w r') (hd : decode μ.1 pc = .ok (.invokespecial idx, 3)) (h : WP G Γ μ r (pc + 3) ls (rst r'.1 st) r'.2) : WP G Γ μ r pc ls (as.reverse ++ (2, z) :: st) w := by
  subst hz
  obtain ⟨host, hG, hret, hini, hlk, hinst, hnm, hdd2, h45⟩ := hM
  refine w_callX (a := (Value.ref (G.2.1 a) :: as.map (dv G.2.1)).toArray) hC.1 hrt (fun v hv => List.mem_append_right _ (List.mem_cons_of_mem _ hv)) (fun p l e R s m args below meth c H locs lsa cells slots S hK hR1 hR2 hH h2 hls hf => ?_) h
  have hMet := hC.2 l
  rw [hret] at hMet
  rw [stmap]
  exact va_runIN (host := host) (As := as.map (dv G.2.1)) (rest := st.map (dv G.2.1)) S hMet ⟨va_cnB (R := R) n S.2.2.2.2 hG rfl rfl rfl (hK.2.2.2.2.2 _ hlk) (S.2.2.2.2 _ hini) hdd2 ⟨Nat.le_trans hdd hR1, by show 8 + (μy.2.2.1 + 11) + 64 * μy.2.2.2.2.1 ≤ R.locals; omega⟩, hnm, S.2.2.2.2 _ hinst⟩
    ⟨PcA.blind _, fun U hU hW => ⟨by rw [asmap], asok h2, by rw [hU]; exact hH, hK.warm hW⟩⟩ rfl (by rw [List.length_map]; exact hn) hls rfl (lv_room (catsum G.2.1 st hroom)) hd hf
def MSN (own : String) (idx : Nat) (y : MethodName) (μ : MI) (n : Nat) : Prop := ∃ host : String, GoodIn lw_all (ws_ y μ.1 μ.2.2.1 μ.2.2.2.1) ∧ Cond.initialized y.cls ∈ lw_all ∧ PP (va_Nw (Cond.methodLinkNest own idx y host)) ∧ Cond.static y ∈ lw_all ∧ (y.cls ≠ "java/lang/invoke/MethodHandle" ∧ y.cls ≠ "java/lang/invoke/VarHandle" ∧ (parseMethodDescriptor y.desc).map (fun d => d.parameters.length) = some n) ∧ μ.2.2.1 ≤ 45
theorem w_callSN {idx n : Nat} {as : List Vv} {r' : Vv × Wd} (hM : MSN μ.2.1 idx y μy n) (hdd : μy.2.2.2.2.1 + 1 ≤ μ.2.2.2.2.1) (hn : as.length = n) (hroom : (st.map (fun v : Vv => if v.1 = 1 then 2 else 1)).sum ≤ 8) (hrt : r'.1.1 ≤ 3)
    (hC : Ct G y μy as w r') (hd : decode μ.1 pc = .ok (.invokestatic idx, 3)) (h : WP G Γ μ r (pc + 3) ls (rst r'.1 st) r'.2) : WP G Γ μ r pc ls (as.reverse ++ st) w := by
  obtain ⟨host, hG, hini, hlk, hstat, hdd2, h45⟩ := hM
  refine w_callX (a := (as.map (dv G.2.1)).toArray) hC.1 hrt (fun v hv => List.mem_append_right _ hv) (fun p l e R s m args below meth c H locs lsa cells slots S hK hR1 hR2 hH h2 hls hf => ?_) h
  have hMet := hC.2 l
  rw [rmap]
  exact va_runSN (host := host) (As := as.map (dv G.2.1)) (rest := st.map (dv G.2.1)) S hMet ⟨va_cnB (R := R) n S.2.2.2.2 hG rfl rfl rfl (hK.2.2.2.2.2 _ hlk) (S.2.2.2.2 _ hini) hdd2 ⟨Nat.le_trans hdd hR1, by show 8 + (μy.2.2.1 + 11) + 64 * μy.2.2.2.2.1 ≤ R.locals; omega⟩, S.2.2.2.2 _ hstat, trivial⟩
    ⟨PcA.blind _, fun U hU hW => ⟨rfl, fun x hx' => h2 x (List.mem_append_left _ (List.mem_reverse.mpr hx')), by rw [hU]; exact hH, hK.warm hW⟩⟩ rfl (by rw [List.length_map]; exact hn) hls rfl (lv_room (catsum G.2.1 st hroom)) hd hf
/-- a call by a name of a class above: what runs is y of the receiver's own kind C -/
def MU (own : String) (idx : Nat) (C : String) (x y : MethodName) (μ : MI) (n : Nat) : Prop := ∃ owner : String, ∀ (R : Room) (s : State) (args : Array Value) (rm : Room), (∀ w ∈ lw_all, w.before args s = true) → (∀ P, PP P → P s) → rm.frames + 1 ≤ R.frames ∧ 8 + (μ.2.2.1 + 11) + rm.locals ≤ R.locals → va_CU R s args own C owner idx x y μ.1 μ.2.2.1 μ.2.2.2.1 (ws_ y μ.1 μ.2.2.1 μ.2.2.2.1) rm rm.cells rm.slots n
theorem w_callU {idx a ci N n : Nat} {C : String} {z : Int} {as : List Vv} {r' : Vv × Wd} (hM : MU μ.2.1 idx C x y μy n) (h45 : μy.2.2.1 ≤ 45) (hdd : μy.2.2.2.2.1 + 1 ≤ μ.2.2.2.2.1) (ht : w.2.2.1 a = (ci, N)) (hcl : (kCl[ci]?.map (fun q => q.1)) = some C) (hz : z = (a : Int)) (hn : as.length = n) (hroom : (st.map (fun v : Vv => if v.1 = 1 then 2 else 1)).sum ≤ 8) (hrt : r'.1.1 ≤ 3)
    (hC : Ct G y μy ((2, z) :: as) w r') (hd : decode μ.1 pc = .ok (.invokevirtual idx, 3)) (h : WP G Γ μ r (pc + 3) ls (rst r'.1 st) r'.2) : WP G Γ μ r pc ls (as.reverse ++ (2, z) :: st) w := by
  subst hz
  obtain ⟨owner, hM⟩ := hM
  refine w_callX (a := (Value.ref (G.2.1 a) :: as.map (dv G.2.1)).toArray) hC.1 hrt (fun v hv => List.mem_append_right _ (List.mem_cons_of_mem _ hv)) (fun p l e R s m args below meth c H locs lsa cells slots S hK hR1 hR2 hH h2 hls hf => ?_) h
  have hMet := hC.2 l
  rw [stmap]
  exact va_runU (As := as.map (dv G.2.1)) (rest := st.map (dv G.2.1)) S hMet (hM R s args (rmA μy.2.2.2.2.1 w r') S.2.2.2.2 hK.2.2.2.2.2 ⟨Nat.le_trans hdd hR1, by show 8 + (μy.2.2.1 + 11) + 64 * μy.2.2.2.2.1 ≤ R.locals; omega⟩)
    ⟨PcA.blind _, recvOK hK hH ht hcl, fun U hU hW => ⟨by rw [asmap], asok h2, by rw [hU]; exact hH, hK.warm hW⟩⟩ rfl (by rw [List.length_map]; exact hn) hls rfl (lv_room (catsum G.2.1 st hroom)) hd hf
/-- a call through an interface -/
def MF (own : String) (idx : Nat) (C : String) (x y : MethodName) (μ : MI) (n : Nat) : Prop := GoodIn lw_all (va_wsF own idx C x y (ws_ y μ.1 μ.2.2.1 μ.2.2.2.1)) ∧ PP (va_Fw C x y) ∧ (x.cls ≠ "java/lang/invoke/MethodHandle" ∧ x.cls ≠ "java/lang/invoke/VarHandle" ∧ (parseMethodDescriptor x.desc).map (fun d => d.parameters.length) = some n) ∧ μ.2.2.1 ≤ 45
theorem w_callF {idx a ci N n cnt : Nat} {C : String} {T : u_T} {N0 : Nat} {z : Int} {as : List Vv} {r' : Vv × Wd} (hM : MF μ.2.1 idx C x y μy n) (hdd : μy.2.2.2.2.1 + 1 ≤ μ.2.2.2.2.1) (ht : w.2.2.1 a = (ci, N)) (hcl : kCl[ci]? = some (C, T, N0)) (hz : z = (a : Int)) (hn : as.length = n) (hroom : (st.map (fun v : Vv => if v.1 = 1 then 2 else 1)).sum ≤ 8) (hrt : r'.1.1 ≤ 3)
    (hC : Ct G y μy ((2, z) :: as) w r') (hd : decode μ.1 pc = .ok (.invokeinterface idx cnt, 5)) (h : WP G Γ μ r (pc + 5) ls (rst r'.1 st) r'.2) : WP G Γ μ r pc ls (as.reverse ++ (2, z) :: st) w := by
  subst hz
  obtain ⟨hG, hF, hdd2, h45⟩ := hM
  refine w_callX (a := (Value.ref (G.2.1 a) :: as.map (dv G.2.1)).toArray) hC.1 hrt (fun v hv => List.mem_append_right _ (List.mem_cons_of_mem _ hv)) (fun p l e R s m args below meth c H locs lsa cells slots S hK hR1 hR2 hH h2 hls hf => ?_) h
  have hMet := hC.2 l
  rw [stmap]
  exact va_runF (As := as.map (dv G.2.1)) (rest := st.map (dv G.2.1)) (hK.2.2.1 ci _ hcl).2 S hMet (va_cwF (R := R) n S.2.2.2.2 hG rfl rfl rfl (hK.2.2.2.2.2 _ hF) hdd2 ⟨Nat.le_trans hdd hR1, by show 8 + (μy.2.2.1 + 11) + 64 * μy.2.2.2.2.1 ≤ R.locals; omega⟩)
    ⟨PcA.blind _, recvOK hK hH ht (by rw [hcl]; rfl), fun U hU hW => ⟨by rw [asmap], asok h2, by rw [hU]; exact hH, hK.warm hW⟩⟩ rfl (by rw [List.length_map]; exact hn) hls rfl (lv_room (catsum G.2.1 st hroom)) hd hf
/-- Object's own maker -/
theorem s_objInit {idx a : Nat} {z : Int} (h1 : Cond.methodLink μ.2.1 idx Lib.objectInit ∈ lw_all) (h2 : Cond.instanceMethod Lib.objectInit ∈ lw_all) (h3 : Cond.code Lib.objectInit ⟨#[0xb1]⟩ 1 none ∈ lw_all) (hz : z = (a : Int)) (hdd : 1 ≤ μ.2.2.2.2.1) (hroom : (st.map (fun v : Vv => if v.1 = 1 then 2 else 1)).sum ≤ 8) (hd : decode μ.1 pc = .ok (.invokespecial idx, 3)) (h : Sm k post (WP G Γ μ r (pc + 3) ls st w)) : Sm k post (WP G Γ μ r pc ls ((2, z) :: st) w) := by
  refine h.map (fun h => ?_)
  obtain ⟨p, l, e, R, s, m, args, below, meth, c, Q, z0, s0⟩ := Γ
  subst hz
  refine ⟨h.1, fun hX h4 h5 hz0 hs0 H locs lsa hH hL hl => ?_⟩
  obtain ⟨hx, hb, hml, hown, hts, hK, hnm, ⟨hR1, hR2, hR3, hR4⟩, -⟩ := id hX
  show W p l e R s m args below meth c H locs _ _ Q (F0 m pc lsa (rfv G.2.1 (a : Int) :: st.map (dv G.2.1)))
  rw [rfv_nat]
  refine W.objInit hx hb hown (hts _ h1) (hts _ h2) (hts _ h3) rfl (by rw [hml]; exact hl.1) rfl hd (Nat.le_trans hdd hR1) ?_ (h.2 hX h4 (okt h5) hz0 hs0 H locs lsa hH hL hl)
  have := lv_room (m := m) (pc := pc) (ls := lsa) (rest := rfv G.2.1 (a : Int) :: st.map (dv G.2.1)) (catsum G.2.1 st hroom)
  rw [rfv_nat] at this
  show 2 * 0 + ((st.map (dv G.2.1)).map fun v => v.category).sum + 12 ≤ R.locals
  have h6 := catsum G.2.1 st hroom
  omega
end Calls2
