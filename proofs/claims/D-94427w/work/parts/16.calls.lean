/-! LAYER 1g: contracts, calls, returns, loops -/
def outc (ad : Nat → Nat) (v : Vv) : Outcome := match v.1 with
  | 0 => .returned (some (dv ad v))
  | 1 => .returned (some (dv ad v))
  | 2 => .returned (some (dv ad v))
  | 3 => .returned none
  | _ => .threw (ad v.2.toNat)
def PcA (G : GG) (as : List Vv) (w : Wd) : Array Value → State → Prop := fun v U => v = (as.map (dv G.2.1)).toArray ∧ (∀ x ∈ as, okv x) ∧ HeapOK G w U.heap ∧ Kn G U
def QcA (G : GG) (r : Vv × Wd) : Array Value → State → Outcome → State → Prop := fun _ _ o t => o = outc G.2.1 r.1 ∧ okv r.1 ∧ HeapOK G r.2 t.heap
def rmA (d : Nat) (w : Wd) (r : Vv × Wd) : Room := { frames := d, cells := r.2.1 - w.1, slots := r.2.2.1 - w.2.1, locals := 64 * d }
/-- THE CONTRACT: y, called with as in the world w, answers r.1 and leaves the world r.2 -/
def Ct (G : GG) (y : MethodName) (μ : MI) (as : List Vv) (w : Wd) (r : Vv × Wd) : Prop :=
  (w.1 ≤ r.2.1 ∧ w.2.1 ≤ r.2.2.1) ∧ ∀ l : Launch, Met l y (ws_ y μ.1 μ.2.2.1 μ.2.2.2.1) (rmA μ.2.2.2.2.1 w r) (PcA G as w) (QcA G r) (r.2.1 - w.1) (r.2.2.1 - w.2.1) (fun q => G.2.2.2.size ≤ q)
def argL : List Vv → List (Option Vv)
  | [] => []
  | v :: vs => if v.1 = 1 then some v :: none :: argL vs else some v :: argL vs
theorem argL_mem {ad : Nat → Nat} : ∀ (vs : List Vv) (n j k : Nat) (v : Vv), (argL vs ++ List.replicate n none)[k]? = some (some v) → (j + k, dv ad v) ∈ lv_args j (vs.map (dv ad)) ∧ v ∈ vs := by
  intro vs
  induction vs with
  | nil =>
    intro n j k v h
    simp only [argL, List.nil_append, List.getElem?_replicate] at h
    split at h <;> simp at h
  | cons u vs ih =>
    intro n j k v h
    simp only [argL] at h
    have hc := dv_cat ad u
    by_cases hu : u.1 = 1
    · rw [if_pos hu] at h hc
      match k with
      | 0 =>
        simp only [List.cons_append, List.getElem?_cons_zero, Option.some.injEq] at h
        subst h
        exact ⟨by simp [lv_args], List.mem_cons_self⟩
      | 1 => simp at h
      | k + 2 =>
        simp only [List.cons_append, List.getElem?_cons_succ] at h
        obtain ⟨h1, h2⟩ := ih n (j + 2) k v h
        refine ⟨?_, List.mem_cons_of_mem _ h2⟩
        simp only [List.map_cons, lv_args, hc, if_true]
        have e : j + 2 + k = j + (k + 2) := by omega
        rw [e] at h1
        exact List.mem_cons_of_mem _ h1
    · rw [if_neg hu] at h hc
      match k with
      | 0 =>
        simp only [List.cons_append, List.getElem?_cons_zero, Option.some.injEq] at h
        subst h
        exact ⟨by simp [lv_args], List.mem_cons_self⟩
      | k + 1 =>
        simp only [List.cons_append, List.getElem?_cons_succ] at h
        obtain ⟨h1, h2⟩ := ih n (j + 1) k v h
        refine ⟨?_, List.mem_cons_of_mem _ h2⟩
        simp only [List.map_cons, lv_args, hc]
        have e : j + 1 + k = j + (k + 1) := by omega
        rw [e] at h1
        exact List.mem_cons_of_mem _ h1
theorem retOK_cases {ret : Option FieldType} {v : Vv} (h : retOK ret v) (hf : ret ≠ some .float ∧ ret ≠ some .double) : (ret = none ∧ v.1 = 3) ∨ (ret = some .long ∧ v.1 = 1) ∨ (∃ ty, ret = some ty ∧ v.1 = 0 ∧ tgF ty = 0 ∧ rok ty v.2) ∨ (∃ ty, ret = some ty ∧ v.1 = 2 ∧ ((∃ n, ty = .object n) ∨ ∃ t, ty = .array t)) := by
  cases ret with
  | none => exact Or.inl ⟨rfl, h⟩
  | some ty =>
    obtain ⟨h1, h2⟩ := h
    cases ty with
    | long => exact Or.inr (Or.inl ⟨rfl, h1⟩)
    | object n => exact Or.inr (Or.inr (Or.inr ⟨_, rfl, h1, Or.inl ⟨n, rfl⟩⟩))
    | array t => exact Or.inr (Or.inr (Or.inr ⟨_, rfl, h1, Or.inr ⟨t, rfl⟩⟩))
    | float => exact absurd rfl hf.1
    | double => exact absurd rfl hf.2
    | int => exact Or.inr (Or.inr (Or.inl ⟨_, rfl, h1, rfl, h2⟩))
    | byte => exact Or.inr (Or.inr (Or.inl ⟨_, rfl, h1, rfl, h2⟩))
    | boolean => exact Or.inr (Or.inr (Or.inl ⟨_, rfl, h1, rfl, h2⟩))
    | char => exact Or.inr (Or.inr (Or.inl ⟨_, rfl, h1, rfl, h2⟩))
    | short => exact Or.inr (Or.inr (Or.inl ⟨_, rfl, h1, rfl, h2⟩))
theorem lgsl_len (ad : Nat → Nat) (as : List Vv) : (lg_sl (as.map (dv ad))).length = (as.map (fun v : Vv => if v.1 = 1 then 2 else 1)).sum := by
  induction as with
  | nil => rfl
  | cons v vs ih =>
    have hc := dv_cat ad v
    simp only [lg_sl, List.map_cons, List.flatMap_cons, List.length_append, List.sum_cons] at ih ⊢
    rw [ih, hc]
    by_cases hv1 : v.1 = 1 <;> simp [hv1]
theorem Ct.of {G : GG} {y : MethodName} {μ : MI} {as : List Vv} {w : Wd} {r : Vv × Wd} {n : Nat} {ls0 : List (Option Vv)} (hy : plainName y.cls = true) (hcls : y.cls = μ.2.1) (hnm : y.name = μ.2.2.2.2.2) (hf : μ.2.2.2.1 ≠ some .float ∧ μ.2.2.2.1 ≠ some .double) (hlen : (as.map (fun v => if v.1 = 1 then 2 else 1)).sum ≤ μ.2.2.1) (hls : argL as ++ List.replicate n none = ls0)
    (hm : w.1 ≤ r.2.1 ∧ w.2.1 ≤ r.2.2.1) (h9 : r.1.1 ≠ 9) (body : ∀ Γ, WP G Γ μ r 0 ls0 [] w) : Ct G y μ as w r := by
  refine ⟨hm, fun l => ?_⟩
  refine Met.ofW (cc := μ.1) (maxL := μ.2.2.1) (ret := μ.2.2.2.1) hy rfl ?_
  intro p e s m args below meth c s₁ B hml hv
  obtain ⟨rfl, hok, hH, hK⟩ := hv
  have hts := atoms_spec (ws := ws_ y μ.1 μ.2.2.1 μ.2.2.2.1) B.pre
  have hts : ∀ w ∈ lw_all, w.before _ s = true := fun w h => hts w (List.mem_cons_of_mem _ h)
  have hown : s.vm.findClass μ.2.1 = some m.cls := hcls ▸ findClass_of_methodNamed B.named
  have hlocks := B.notSynchronized
  have hin : meth.name = μ.2.2.2.2.2 := ((name_of_methodNamed B.named B.method).1).trans hnm
  have hsl : (lg_sl (as.map (dv G.2.1))).length ≤ μ.2.2.1 := Nat.le_trans (Nat.le_of_eq (lgsl_len G.2.1 as)) hlen
  have hl := lv_entry (as.map (dv G.2.1)) (n := μ.2.2.1) hsl
  rw [lg_entry_eq]
  generalize (lg_sl (as.map (dv G.2.1)) ++ List.replicate (μ.2.2.1 - (lg_sl (as.map (dv G.2.1))).length) Slot.unset).toArray = lsa at hl ⊢
  have hlv : lvOK G.2.1 lsa μ.2.2.1 ls0 := by
    refine ⟨hl.1, hl.2.1, fun i v hi => ?_⟩
    rw [← hls] at hi
    have := (argL_mem (ad := G.2.1) as n 0 i v hi).1
    rw [Nat.zero_add] at this
    exact hl.2.2 _ this
  have hcx : CxU G p l e (headSpec (ws_ y μ.1 μ.2.2.1 μ.2.2.2.1) (rmA μ.2.2.2.2.1 w r)).room s m (as.map (dv G.2.1)).toArray below meth c (MQ below (QcA G r) (as.map (dv G.2.1)).toArray s (r.2.1 - w.1) (r.2.2.1 - w.2.1) (fun q => G.2.2.2.size ≤ q)) w.1 w.2.1 μ r := by
    refine ⟨B.exec, B.bytes, hml, hown, hts, hK, hin, ⟨Nat.le_refl _, Nat.le_refl _, Nat.le_refl _, Nat.le_refl _⟩, ?_, fun T locs g _ _ q => absurd q h9⟩
    intro H locs lsa pc hHr hL hok2 hret hd
    have hq : ∀ (o : Outcome) (t : State), o = outc G.2.1 r.1 → t.heap = H → QcA G r (as.map (dv G.2.1)).toArray s o t := fun o t ho ht => ⟨ho, hok2, by rw [ht]; exact hHr⟩
    rcases retOK_cases hret hf with ⟨e1, e2⟩ | ⟨e1, e2⟩ | ⟨ty, e1, e2, e3, e4⟩ | ⟨ty, e1, e2, e3⟩
    · have hr1 : meth.sig.returnType = none := B.returns.trans e1
      obtain ⟨⟨tg, z⟩, wr⟩ := r
      have e2 : tg = 3 := e2
      subst e2
      exact W.vret B.exec B.bytes hr1 (fun t ht hW => hq _ t rfl ht) (fun q hq' => hL q hq') hd
    · have hr1 : meth.sig.returnType = some .long := B.returns.trans e1
      obtain ⟨⟨tg, z⟩, wr⟩ := r
      have e2 : tg = 1 := e2
      subst e2
      exact W.lret B.exec B.bytes hr1 (fun t ht hW => hq _ t rfl ht) (fun q hq' => hL q hq') hd
    · have hr1 : meth.sig.returnType = some ty := B.returns.trans e1
      obtain ⟨⟨tg, z⟩, wr⟩ := r
      have e2 : tg = 0 := e2
      subst e2
      have hn : narrow ty (.int (i32 z)) = .int (i32 z) := by
        have h5 := (rok_fits (ad := G.2.1) (ty := ty) (z := z) ⟨fun q => by subst q; exact hf.1 e1, fun q => by subst q; exact hf.2 e1⟩ e4).1
        have h6 : vof G.2.1 ty z = .int (i32 z) := by rw [vof_dv, e3]; rfl
        rw [h6] at h5; exact h5
      exact W.zret B.exec B.bytes hr1 hn (fun t ht hW => hq _ t rfl ht) (fun q hq' => hL q hq') hd
    · have hr1 : meth.sig.returnType = some ty := B.returns.trans e1
      obtain ⟨⟨tg, z⟩, wr⟩ := r
      have e2 : tg = 2 := e2
      subst e2
      exact W.aret B.exec B.bytes hr1 e3 (rfv_cases G.2.1 z) (fun t ht hW => hq _ t rfl ht) (fun q hq' => hL q hq') hd
  have hb := (body (p, l, e, (headSpec (ws_ y μ.1 μ.2.2.1 μ.2.2.2.1) (rmA μ.2.2.2.2.1 w r)).room, s, m, (as.map (dv G.2.1)).toArray, below, meth, c, _, w.1, w.2.1)).2 hcx
    (fun k v hk => by rw [← hls] at hk; exact hok v (argL_mem (ad := G.2.1) as n 0 k v hk).2) (fun v hv => by cases hv) (Nat.le_refl _) (Nat.le_refl _) s.heap [] lsa hH (fun q hq => by cases hq) hlv
  rw [Nat.sub_self, Nat.sub_self] at hb
  exact hb
section CallR
variable {G : GG} {Γ : Cx} {μ μy : MI} {r : Vv × Wd} {pc : Nat} {ls ls' : List (Option Vv)} {st st' : List Vv} {w : Wd} {y : MethodName}
variable {X B : Type} {k k1 k2 : Option X} {post : X → Prop}
def MV (own : String) (idx : Nat) (C : String) (y : MethodName) (μ : MI) (n : Nat) : Prop := GoodIn lw_all (wsV own idx C y (ws_ y μ.1 μ.2.2.1 μ.2.2.2.1)) ∧ (y.cls = C ∧ y.cls ≠ "java/lang/invoke/MethodHandle" ∧ y.cls ≠ "java/lang/invoke/VarHandle" ∧ (parseMethodDescriptor y.desc).map (fun d => d.parameters.length) = some n) ∧ μ.2.2.1 ≤ 45
def MS (own : String) (idx : Nat) (y : MethodName) (μ : MI) (n : Nat) : Prop := GoodIn lw_all (va_wsS own idx y (ws_ y μ.1 μ.2.2.1 μ.2.2.2.1)) ∧ (y.cls ≠ "java/lang/invoke/MethodHandle" ∧ y.cls ≠ "java/lang/invoke/VarHandle" ∧ (parseMethodDescriptor y.desc).map (fun d => d.parameters.length) = some n) ∧ μ.2.2.1 ≤ 45
theorem PcA.blind (as : List Vv) : FrameBlind (PcA G as w) := fun a U g mk h => ⟨h.1, h.2.1, h.2.2.1, h.2.2.2.call⟩
theorem rmap (ad : Nat → Nat) (as : List Vv) (st : List Vv) : (as.reverse ++ st).map (dv ad) = (as.map (dv ad)).reverse ++ st.map (dv ad) := by simp
theorem catsum (ad : Nat → Nat) (st : List Vv) (h : (st.map (fun v : Vv => if v.1 = 1 then 2 else 1)).sum ≤ 8) : ((st.map (dv ad)).map fun v => v.category).sum ≤ 8 := by
  have e : ((st.map (dv ad)).map fun v => v.category) = st.map (fun v : Vv => if v.1 = 1 then 2 else 1) := by
    rw [List.map_map]
    congr 1
    funext v
    exact dv_cat ad v
  rw [e]; exact h
theorem W_call {p : Program} {l : Launch} {e : Env} {R : Room} {s : State} {m : MethodId} {args : Array Value} {below : List Frame} {meth : Method} {c : Code} {H : Heap} {locs : List Loc} {cells slots mc ms : Nat} {Q : State → Prop} {lsa : Array Slot} {rest st0 : List Value} {a : Array Value} {r' : Vv × Wd}
    (hr : va_Run p l e R s m args below meth c H locs cells slots mc ms (F0 m pc lsa st0) rest (QcA G r' a) (fun q => G.2.2.2.size ≤ q)) (hL : ∀ q ∈ locs, G.2.2.2.size ≤ q.base)
    (kk : ∀ (H1 : Heap) (locs1 : List Loc), HeapOK G r'.2 H1 → okv r'.1 → (∀ q ∈ locs1, G.2.2.2.size ≤ q.base) → W p l e R s m args below meth c H1 locs1 (cells + mc) (slots + ms) Q (F0 m (pc + 3) lsa (retSt G.2.1 r'.1 ++ rest))) : W p l e R s m args below meth c H locs cells slots Q (F0 m pc lsa st0) := by
  intro T hT X
  obtain ⟨v, st₀, t, T', L, h0, X', hL', e1, e2, ⟨ho, hok, hH⟩, st⟩ := hr T hT X
  have hv : v.toList = retSt G.2.1 r'.1 := by
    obtain ⟨⟨tg, z⟩, wr⟩ := r'
    match tg, ho with
    | 0, ho => cases ho; rfl
    | 1, ho => cases ho; rfl
    | 2, ho => cases ho; rfl
    | 3, ho => cases ho; rfl
    | n + 4, ho => cases ho
  obtain ⟨t2, a1, b1⟩ := kk T'.heap (locs ++ L) (by rw [e1]; exact hH) hok (fun q hq => by
    rcases List.mem_append.mp hq with h | h
    · exact hL q h
    · exact hL' q h) T' rfl X'
  rw [← hv] at a1
  exact ⟨t2, st t2 a1, b1⟩
/-- the answer's place on the stack -/
def rst (v : Vv) (st : List Vv) : List Vv := if v.1 = 3 then st else v :: st
theorem retSt_rst (ad : Nat → Nat) {v : Vv} (hv : v.1 ≤ 3) (st : List Vv) : retSt ad v ++ st.map (dv ad) = (rst v st).map (dv ad) := by
  obtain ⟨tg, z⟩ := v
  match tg, hv with
  | 0, _ => rfl
  | 1, _ => rfl
  | 2, _ => rfl
  | 3, _ => rfl
theorem rst_ok {v : Vv} {st : List Vv} (hv : okv v) (h : ∀ u ∈ st, okv u) : ∀ u ∈ rst v st, okv u := by
  unfold rst
  split
  · exact h
  · exact okc hv h
theorem w_callV {idx a ci N n : Nat} {C : String} {z : Int} {as : List Vv} {r' : Vv × Wd} (hM : MV μ.2.1 idx C y μy n) (hdd : μy.2.2.2.2.1 + 1 ≤ μ.2.2.2.2.1) (ht : w.2.2.1 a = (ci, N)) (hcl : (kCl[ci]?.map (fun q => q.1)) = some C) (hz : z = (a : Int)) (hn : as.length = n) (hroom : (st.map (fun v : Vv => if v.1 = 1 then 2 else 1)).sum ≤ 8) (hrt : r'.1.1 ≤ 3)
    (hC : Ct G y μy ((2, z) :: as) w r') (hd : decode μ.1 pc = .ok (.invokevirtual idx, 3)) (h : WP G Γ μ r (pc + 3) ls (rst r'.1 st) r'.2) : WP G Γ μ r pc ls (as.reverse ++ (2, z) :: st) w := by
  obtain ⟨p, l, e, R, s, m, args, below, meth, c, Q, z0, s0⟩ := Γ
  subst hz
  refine ⟨⟨Nat.le_trans hC.1.1 h.1.1, Nat.le_trans hC.1.2 h.1.2⟩, fun hX h1 h2 hz0 hs0 H locs lsa hH hL hl => ?_⟩
  obtain ⟨hx, hb, hml, hown, hts, hK, hnm, ⟨hR1, hR2, hR3, hR4⟩, -⟩ := id hX
  have hm1 := hC.1.1
  have hm2 := hC.1.2
  have hm3 := h.1.1
  have hm4 := h.1.2
  have hcell : ∃ cell : Cell, H[G.2.1 a]? = some cell ∧ cell.vm.isStatics = false ∧ s.vm.findClass C = some cell.cls := by
    cases hk : kCl[ci]? with
    | none => rw [hk] at hcl; cases hcl
    | some q =>
      rw [hk] at hcl
      have hq : q.1 = C := Option.some.inj hcl
      have hlt : ci < 50 := by have := (List.getElem?_eq_some_iff.mp hk).1; simp at this; omega
      have ho := (hH.1 a).1 (by rw [ht]; exact hlt)
      rw [ht] at ho
      obtain ⟨⟨q', e1, e2, cell, g1, g2, g3, g4⟩, -⟩ := ho
      obtain ⟨-, hfc, -⟩ := hK.2.2.1 ci q hk
      exact ⟨cell, g1, by rw [g3]; rfl, by rw [← hq, hfc, g2]⟩
  have hokA : ∀ x ∈ ((2, (a : Int)) : Vv) :: as, okv x := okc (okr _) (fun x hx' => h2 x (List.mem_append_left _ (List.mem_reverse.mpr hx')))
  have hokS : ∀ x ∈ st, okv x := fun x hx' => h2 x (List.mem_append_right _ (List.mem_cons_of_mem _ hx'))
  have eA : (((2, (a : Int)) :: as).map (dv G.2.1)) = Value.ref (G.2.1 a) :: as.map (dv G.2.1) := by
    show rfv G.2.1 (a : Int) :: as.map (dv G.2.1) = _
    rw [rfv_nat]
  have hMet := hC.2 l
  rw [show (as.reverse ++ (2, (a : Int)) :: st).map (dv G.2.1) = (as.map (dv G.2.1)).reverse ++ .ref (G.2.1 a) :: st.map (dv G.2.1) by
    rw [rmap]; show _ ++ (rfv G.2.1 (a : Int) :: _) = _; rw [rfv_nat]]
  have run := va_runV (H := H) (locs := locs) (cells := w.1 - z0) (slots := w.2.1 - s0) (e := e) (below := below) (meth := meth) (As := as.map (dv G.2.1)) (rest := st.map (dv G.2.1)) (g := F0 m pc lsa ((as.map (dv G.2.1)).reverse ++ .ref (G.2.1 a) :: st.map (dv G.2.1)))
    ⟨hx, hb, hml, hown, hts⟩ hMet (cwV (R := R) n hts hM.1 rfl rfl rfl hM.2.1 ⟨Nat.le_trans hdd hR1, by
      have h45 := hM.2.2
      show 8 + (μy.2.2.1 + 11) + 64 * μy.2.2.2.2.1 ≤ R.locals
      omega⟩)
    ⟨PcA.blind _, hcell, fun U hU hW => ⟨by rw [eA], hokA, by rw [hU]; exact hH, hK.warm hW⟩⟩ rfl (by rw [List.length_map]; exact hn) hl.1 rfl (lv_room (catsum G.2.1 st hroom)) hd ⟨by omega, by omega⟩
  refine W_call (r' := r') run hL (fun H1 locs1 hH1 hok1 hL1 => ?_)
  rw [retSt_rst G.2.1 hrt]
  refine W.cs (cells' := r'.2.1 - z0) (slots' := r'.2.2.1 - s0) (by omega) (by omega) ?_
  exact h.2 hX h1 (rst_ok hok1 hokS) (Nat.le_trans hz0 hm1) (Nat.le_trans hs0 hm2) H1 locs1 lsa hH1 hL1 hl
theorem w_callS {idx n : Nat} {as : List Vv} {r' : Vv × Wd} (hM : MS μ.2.1 idx y μy n) (hdd : μy.2.2.2.2.1 + 1 ≤ μ.2.2.2.2.1) (hn : as.length = n) (hroom : (st.map (fun v : Vv => if v.1 = 1 then 2 else 1)).sum ≤ 8) (hrt : r'.1.1 ≤ 3)
    (hC : Ct G y μy as w r') (hd : decode μ.1 pc = .ok (.invokestatic idx, 3)) (h : WP G Γ μ r (pc + 3) ls (rst r'.1 st) r'.2) : WP G Γ μ r pc ls (as.reverse ++ st) w := by
  obtain ⟨p, l, e, R, s, m, args, below, meth, c, Q, z0, s0⟩ := Γ
  refine ⟨⟨Nat.le_trans hC.1.1 h.1.1, Nat.le_trans hC.1.2 h.1.2⟩, fun hX h1 h2 hz0 hs0 H locs lsa hH hL hl => ?_⟩
  obtain ⟨hx, hb, hml, hown, hts, hK, hnm, ⟨hR1, hR2, hR3, hR4⟩, -⟩ := id hX
  have hm1 := hC.1.1
  have hm2 := hC.1.2
  have hm3 := h.1.1
  have hm4 := h.1.2
  have hokA : ∀ x ∈ as, okv x := fun x hx' => h2 x (List.mem_append_left _ (List.mem_reverse.mpr hx'))
  have hokS : ∀ x ∈ st, okv x := fun x hx' => h2 x (List.mem_append_right _ hx')
  have hMet := hC.2 l
  rw [rmap]
  have run := va_runS (H := H) (locs := locs) (cells := w.1 - z0) (slots := w.2.1 - s0) (e := e) (below := below) (meth := meth) (As := as.map (dv G.2.1)) (rest := st.map (dv G.2.1)) (g := F0 m pc lsa ((as.map (dv G.2.1)).reverse ++ st.map (dv G.2.1)))
    ⟨hx, hb, hml, hown, hts⟩ hMet (va_cwS (R := R) n hts hM.1 rfl rfl rfl hM.2.1 ⟨Nat.le_trans hdd hR1, by
      have h45 := hM.2.2
      show 8 + (μy.2.2.1 + 11) + 64 * μy.2.2.2.2.1 ≤ R.locals
      omega⟩)
    ⟨PcA.blind _, fun U hU hW => ⟨rfl, hokA, by rw [hU]; exact hH, hK.warm hW⟩⟩ rfl (by rw [List.length_map]; exact hn) hl.1 rfl (lv_room (catsum G.2.1 st hroom)) hd ⟨by omega, by omega⟩
  refine W_call (r' := r') run hL (fun H1 locs1 hH1 hok1 hL1 => ?_)
  rw [retSt_rst G.2.1 hrt]
  refine W.cs (cells' := r'.2.1 - z0) (slots' := r'.2.2.1 - s0) (by omega) (by omega) ?_
  exact h.2 hX h1 (rst_ok hok1 hokS) (Nat.le_trans hz0 hm1) (Nat.le_trans hs0 hm2) H1 locs1 lsa hH1 hL1 hl
/-- a call in a body: the function's value, then the rest -/
theorem s_callV {idx a ci N n : Nat} {C : String} {z : Int} {as : List Vv} {o : Option B} {kk : B → Option X} {rv : B → Vv × Wd} {st2 : List Vv} (hM : MV μ.2.1 idx C y μy n) (hC : ∀ b, o = some b → Ct G y μy ((2, z) :: as) w (rv b)) (hst : as.reverse ++ (2, z) :: st = st2) (hdd : μy.2.2.2.2.1 + 1 ≤ μ.2.2.2.2.1) (ht : w.2.2.1 a = (ci, N)) (hcl : (kCl[ci]?.map (fun q => q.1)) = some C) (hz : z = (a : Int)) (hn : as.length = n) (hroom : (st.map (fun v : Vv => if v.1 = 1 then 2 else 1)).sum ≤ 8) (hrt : ∀ b, (rv b).1.1 ≤ 3)
    (hd : decode μ.1 pc = .ok (.invokevirtual idx, 3)) (h : ∀ b, Sm (kk b) post (WP G Γ μ r (pc + 3) ls (rst (rv b).1 st) (rv b).2)) : Sm (cl o kk) post (WP G Γ μ r pc ls st2 w) := by
  subst hst
  exact Sm.cl (fun b ho => (h b).map (w_callV hM hdd ht hcl hz hn hroom (hrt b) (hC b ho) hd))
theorem s_callS {idx n : Nat} {as : List Vv} {o : Option B} {kk : B → Option X} {rv : B → Vv × Wd} {st2 : List Vv} (hM : MS μ.2.1 idx y μy n) (hC : ∀ b, o = some b → Ct G y μy as w (rv b)) (hst : as.reverse ++ st = st2) (hdd : μy.2.2.2.2.1 + 1 ≤ μ.2.2.2.2.1) (hn : as.length = n) (hroom : (st.map (fun v : Vv => if v.1 = 1 then 2 else 1)).sum ≤ 8) (hrt : ∀ b, (rv b).1.1 ≤ 3)
    (hd : decode μ.1 pc = .ok (.invokestatic idx, 3)) (h : ∀ b, Sm (kk b) post (WP G Γ μ r (pc + 3) ls (rst (rv b).1 st) (rv b).2)) : Sm (cl o kk) post (WP G Γ μ r pc ls st2 w) := by
  subst hst
  exact Sm.cl (fun b ho => (h b).map (w_callS hM hdd hn hroom (hrt b) (hC b ho) hd))
/-- the method's end -/
theorem w_ret {v : Vv} {st1 : List Vv} (hst : (if v.1 = 3 then [] else [v]) = st1) (hr : r = (v, w)) (hd : decode μ.1 pc = .ok (retI v.1, 1)) (hok : okv v → retOK μ.2.2.2.1 v) (hv : v.1 ≤ 3) (hv3 : v.1 = 3 → okv v) : WP G Γ μ r pc ls st1 w := by
  obtain ⟨p, l, e, R, s, m, args, below, meth, c, Q, z0, s0⟩ := Γ
  subst hr; subst hst
  refine ⟨⟨Nat.le_refl _, Nat.le_refl _⟩, fun hX h1 h2 hz0 hs0 H locs lsa hH hL hl => ?_⟩
  have hokv : okv v := by
    by_cases h3 : v.1 = 3
    · exact hv3 h3
    · rw [if_neg h3] at h2; exact h2 v List.mem_cons_self
  have := hX.2.2.2.2.2.2.2.2.1 H locs lsa pc hH hL hokv (hok hokv) hd
  have e2 : (if v.1 = 3 then [] else [v]).map (dv G.2.1) = retSt G.2.1 v := by
    have := retSt_rst G.2.1 hv []
    simp only [List.map_nil, List.append_nil, rst] at this
    rw [this]
  rw [e2]
  exact this
theorem s_iret {x : X} {z : Int} (hd : decode μ.1 pc = .ok (.ireturn, 1)) (hμ : μ.2.2.2.1 = some .int) (hr : post x → r = ((0, z), w)) : Sm (some x) post (WP G Γ μ r pc ls [(0, z)] w) :=
  Sm.some (fun hp => w_ret (v := (0, z)) rfl (hr hp) hd (fun q => by rw [hμ]; exact ⟨rfl, q⟩) (Nat.zero_le _) (fun q => absurd q (show ¬ (0 : Nat) = 3 by decide)))
theorem s_zret {x : X} {z : Int} (hd : decode μ.1 pc = .ok (.ireturn, 1)) (hμ : μ.2.2.2.1 = some .boolean) (hr : post x → r = ((0, z), w)) : Sm (gd (0 ≤ z ∧ z < 2) (some x)) post (WP G Γ μ r pc ls [(0, z)] w) := by
  intro y hy hp
  by_cases hR : 0 ≤ z ∧ z < 2
  · rw [gd_pos hR] at hy
    cases hy
    exact w_ret (v := (0, z)) rfl (hr hp) hd (fun q => by rw [hμ]; exact ⟨rfl, hR⟩) (Nat.zero_le _) (fun q => absurd q (show ¬ (0 : Nat) = 3 by decide))
  · rw [gd_neg hR] at hy; cases hy
theorem s_lret {x : X} {z : Int} (hd : decode μ.1 pc = .ok (.lreturn, 1)) (hμ : μ.2.2.2.1 = some .long) (hr : post x → r = ((1, z), w)) : Sm (some x) post (WP G Γ μ r pc ls [(1, z)] w) :=
  Sm.some (fun hp => w_ret (v := (1, z)) rfl (hr hp) hd (fun q => by rw [hμ]; exact ⟨rfl, q⟩) (by show (1 : Nat) ≤ 3; decide) (fun q => absurd q (show ¬ (1 : Nat) = 3 by decide)))
theorem s_aret {x : X} {z : Int} {ty : FieldType} (hd : decode μ.1 pc = .ok (.areturn, 1)) (hμ : μ.2.2.2.1 = some ty) (hty : tgF ty = 2 ∧ ty ≠ .float ∧ ty ≠ .double) (hr : post x → r = ((2, z), w)) : Sm (some x) post (WP G Γ μ r pc ls [(2, z)] w) :=
  Sm.some (fun hp => w_ret (v := (2, z)) rfl (hr hp) hd (fun q => by
    rw [hμ]
    refine ⟨hty.1.symm, ?_⟩
    cases ty <;> first | trivial | exact absurd hty.1 (by decide)) (by show (2 : Nat) ≤ 3; decide) (fun q => absurd q (show ¬ (2 : Nat) = 3 by decide)))
theorem s_vret {x : X} (hd : decode μ.1 pc = .ok (.return_, 1)) (hμ : μ.2.2.2.1 = none) (hr : post x → r = ((3, 0), w)) : Sm (some x) post (WP G Γ μ r pc ls [] w) :=
  Sm.some (fun hp => w_ret (v := (3, 0)) rfl (hr hp) hd (fun q => by rw [hμ]; rfl) (Nat.le_refl _) (fun _ => trivial))
end CallR
/-! loops -/
def loopN {S E : Type} (body : S → Option (S ⊕ E)) : Nat → S → Option E
  | 0, _ => none
  | n + 1, s => match body s with
    | none => none
    | some (.inl s') => loopN body n s'
    | some (.inr e) => some e
theorem loopN_det {S E : Type} {body : S → Option (S ⊕ E)} : ∀ (n m : Nat) (s : S) (e e' : E), loopN body n s = some e → loopN body m s = some e' → e = e' := by
  intro n
  induction n with
  | zero => intro m s e e' h; cases h
  | succ n ih =>
    intro m s e e' h h'
    cases m with
    | zero => cases h'
    | succ m =>
      simp only [loopN] at h h'
      cases hb : body s with
      | none => rw [hb] at h; cases h
      | some x =>
        rw [hb] at h h'
        cases x with
        | inl s' => exact ih m s' e e' h h'
        | inr q => cases h; cases h'; rfl
/-- a loop's value: where some number of rounds comes to an end -/
noncomputable def wh {S E : Type} (body : S → Option (S ⊕ E)) (s : S) : Option E :=
  match Classical.propDecidable (∃ (e : E) (n : Nat), loopN body n s = some e) with
  | isTrue h => some (Classical.choose h)
  | isFalse _ => none
theorem wh_some {S E : Type} {body : S → Option (S ⊕ E)} {s : S} {e : E} : wh body s = some e ↔ ∃ n, loopN body n s = some e := by
  unfold wh
  split
  · rename_i h _
    have hs := Classical.choose_spec h
    constructor
    · intro q
      have q := Option.some.inj q
      rw [← q]; exact hs
    · intro ⟨n, hn⟩
      obtain ⟨m, hm⟩ := hs
      rw [loopN_det m n s _ _ hm hn]
  · rename_i h _
    constructor
    · intro q; cases q
    · intro ⟨n, hn⟩; exact absurd ⟨e, n, hn⟩ h
theorem wh_eq {S E : Type} (body : S → Option (S ⊕ E)) (s : S) : wh body s = match body s with
    | none => none
    | some (.inl s') => wh body s'
    | some (.inr e) => some e := by
  have key : ∀ e : E, wh body s = some e ↔ (match body s with
    | none => none
    | some (.inl s') => wh body s'
    | some (.inr e) => some e) = some e := by
    intro e
    rw [wh_some]
    constructor
    · intro ⟨n, hn⟩
      cases n with
      | zero => cases hn
      | succ n =>
        simp only [loopN] at hn
        cases hb : body s with
        | none => rw [hb] at hn; cases hn
        | some x =>
          rw [hb] at hn
          cases x with
          | inl s' => exact wh_some.mpr ⟨n, hn⟩
          | inr q => exact hn
    · intro h
      cases hb : body s with
      | none => rw [hb] at h; cases h
      | some x =>
        rw [hb] at h
        cases x with
        | inl s' =>
          obtain ⟨n, hn⟩ := wh_some.mp h
          exact ⟨n + 1, by simp only [loopN, hb]; exact hn⟩
        | inr q => exact ⟨1, by simp only [loopN, hb]; exact h⟩
  cases h1 : wh body s with
  | some e => exact ((key e).mp h1).symm
  | none =>
    cases h2 : (match body s with
    | none => none
    | some (.inl s') => wh body s'
    | some (.inr e) => some e) with
    | none => rfl
    | some e => rw [(key e).mpr h2] at h1; cases h1
theorem s_loop {S E X : Type} {body : S → Option (S ⊕ E)} {kk : E → Option X} {post : X → Prop} {g : S → Prop} {Ex : E → Prop} {s0 : S} (hb : ∀ s, Sm (body s) (fun x => Sum.elim g Ex x) (g s)) (hk : ∀ e, Sm (kk e) post (Ex e)) : Sm (cl (wh body s0) kk) post (g s0) := by
  refine Sm.cl (fun e he => ?_)
  intro x hx hp
  have hE := hk e x hx hp
  obtain ⟨n, hn⟩ := wh_some.mp he
  clear he hx hp
  revert s0
  induction n with
  | zero => intro s0 hn; cases hn
  | succ n ih =>
    intro s0 hn
    simp only [loopN] at hn
    cases hbs : body s0 with
    | none => rw [hbs] at hn; cases hn
    | some y =>
      rw [hbs] at hn
      cases y with
      | inl s' => exact hb s0 _ hbs (ih hn)
      | inr q => cases hn; exact hb s0 _ hbs hE
