/-! LAYER 1y: an array of arrays -/
/-- the state once the outer array and i of the inner ones are made -/
def muS (T : State) (cA cB : ClassId) (n k : Nat) (v : Value) : Nat → State
  | 0 => T.pushCell { cls := cA, slots := Array.replicate n .null, vm := .none }
  | i + 1 => match ((muS T cA cB n k v i).pushCell { cls := cB, slots := Array.replicate k v, vm := .none }).heap[T.heap.size]? with
    | some x => ((muS T cA cB n k v i).pushCell { cls := cB, slots := Array.replicate k v, vm := .none }).setCell T.heap.size (x.setSlot i (.ref (muS T cA cB n k v i).heap.size))
    | none => (muS T cA cB n k v i).pushCell { cls := cB, slots := Array.replicate k v, vm := .none }
/-- what is known of it -/
theorem muS_ok (T : State) (cA cB : ClassId) (n k : Nat) (v : Value) : ∀ i, (muS T cA cB n k v i).heap.size = T.heap.size + 1 + i ∧ (muS T cA cB n k v i).vm = T.vm ∧ (muS T cA cB n k v i).slotsUsed = T.slotsUsed + n + i * k ∧
    ∃ x : Cell, (muS T cA cB n k v i).heap[T.heap.size]? = some x ∧ x.cls = cA ∧ x.vm = .none ∧ x.slots.size = n := by
  intro i
  induction i with
  | zero => exact ⟨by simp [muS], rfl, by simp [muS], _, State.heap_pushCell_size _ _, rfl, rfl, by simp⟩
  | succ i ih =>
    obtain ⟨h1, h2, h3, x, h4, h5, h6, h7⟩ := ih
    have hx : ((muS T cA cB n k v i).pushCell { cls := cB, slots := Array.replicate k v, vm := .none }).heap[T.heap.size]? = some x := by
      have hlt : T.heap.size < (muS T cA cB n k v i).heap.size := by rw [h1]; omega
      rw [State.heap_pushCell_of_lt (h := hlt)]; exact h4
    unfold muS
    rw [hx]
    refine ⟨by simp [State.setCell, h1]; omega, by simp [h2], ?_, _, State.heap_setCell_self hx, h5, h6, by simp [Cell.setSlot, h7]⟩
    simp [h3, Nat.succ_mul]
    omega
theorem muS_next {T : State} {cA cB : ClassId} {n k : Nat} {v : Value} {i : Nat} {x : Cell} (h : ((muS T cA cB n k v i).pushCell { cls := cB, slots := Array.replicate k v, vm := .none }).heap[T.heap.size]? = some x) :
    muS T cA cB n k v (i + 1) = ((muS T cA cB n k v i).pushCell { cls := cB, slots := Array.replicate k v, vm := .none }).setCell T.heap.size (x.setSlot i (.ref (muS T cA cB n k v i).heap.size)) := by
  rw [muS, h]
theorem muS_top (T : State) (f : JFrame) (cA cB : ClassId) (n k : Nat) (v : Value) : ∀ i, muS (T.setTop f) cA cB n k v i = (muS T cA cB n k v i).setTop f := by
  intro i
  induction i with
  | zero => rfl
  | succ i ih =>
    obtain ⟨h1, -, -, x, h4, -⟩ := muS_ok T cA cB n k v i
    have hx : ((muS T cA cB n k v i).pushCell { cls := cB, slots := Array.replicate k v, vm := .none }).heap[T.heap.size]? = some x := by
      have hlt : T.heap.size < (muS T cA cB n k v i).heap.size := by rw [h1]; omega
      rw [State.heap_pushCell_of_lt (h := hlt)]; exact h4
    rw [muS_next hx, muS_next (x := x) (by rw [ih]; exact hx), ih]
    rfl
/-- the same of heaps alone -/
def muH (H : Heap) (cA cB : ClassId) (n k : Nat) (v : Value) : Nat → Heap
  | 0 => H.push { cls := cA, slots := Array.replicate n .null, vm := .none }
  | i + 1 => match ((muH H cA cB n k v i).push { cls := cB, slots := Array.replicate k v, vm := .none })[H.size]? with
    | some x => ((muH H cA cB n k v i).push { cls := cB, slots := Array.replicate k v, vm := .none }).setIfInBounds H.size (x.setSlot i (.ref (muH H cA cB n k v i).size))
    | none => (muH H cA cB n k v i).push { cls := cB, slots := Array.replicate k v, vm := .none }
theorem muS_heap (T : State) (cA cB : ClassId) (n k : Nat) (v : Value) : ∀ i, (muS T cA cB n k v i).heap = muH T.heap cA cB n k v i := by
  intro i
  induction i with
  | zero => rfl
  | succ i ih =>
    obtain ⟨h1, -, -, x, h4, -⟩ := muS_ok T cA cB n k v i
    have hx : ((muS T cA cB n k v i).pushCell { cls := cB, slots := Array.replicate k v, vm := .none }).heap[T.heap.size]? = some x := by
      have hlt : T.heap.size < (muS T cA cB n k v i).heap.size := by rw [h1]; omega
      rw [State.heap_pushCell_of_lt (h := hlt)]; exact h4
    have hx2 : ((muH T.heap cA cB n k v i).push { cls := cB, slots := Array.replicate k v, vm := .none })[T.heap.size]? = some x := by rw [← ih]; exact hx
    rw [muS_next hx, muH, hx2, ← ih]
    rfl
theorem muS_stand {p : Program} {l : Launch} {e : Env} {R : Room} {s : State} {m : MethodId} {args : Array Value} {below : List Frame} {meth : Method} {c : Code} {T : State} {locs : List Loc} {cells slots : Nat} (X : Stand p l e R s m args below meth c T locs cells slots) (cA cB : ClassId) (n k : Nat) (v : Value) :
    ∀ i, Stand p l e R s m args below meth c (muS T cA cB n k v i) (locs ++ (List.range i).map (fun j => ⟨T.heap.size, j⟩)) (cells + 1 + i) (slots + n + i * k) := by
  intro i
  induction i with
  | zero =>
    have h := X.pushed { cls := cA, slots := Array.replicate n .null, vm := .none }
    simp only [Array.size_replicate] at h
    simpa [muS] using h
  | succ i ih =>
    obtain ⟨h1, -, -, x, h4, -⟩ := muS_ok T cA cB n k v i
    have hx : ((muS T cA cB n k v i).pushCell { cls := cB, slots := Array.replicate k v, vm := .none }).heap[T.heap.size]? = some x := by
      have hlt : T.heap.size < (muS T cA cB n k v i).heap.size := by rw [h1]; omega
      rw [State.heap_pushCell_of_lt (h := hlt)]; exact h4
    have h := (ih.pushed { cls := cB, slots := Array.replicate k v, vm := .none }).stored hx i (.ref (muS T cA cB n k v i).heap.size)
    simp only [Array.size_replicate] at h
    rw [muS_next hx, List.range_succ, List.map_append, ← List.append_assoc, Nat.succ_mul, ← Nat.add_assoc (slots + n)]
    exact h
theorem mu_fits {t : FieldType} (h : t.isReference = true) (v : Value) (hv : v = .null ∨ ∃ a, v = .ref a) : fits t v = true := by
  rcases hv with rfl | ⟨a, rfl⟩ <;> cases t <;> first | rfl | cases h
theorem mu_new {E : CtlPost} {e : Env} {d : Bool} {acts : List Action} {s : State} {c comp : ClassId} {k : Class} {ty : FieldType} {len : Nat} {v : Value} (hk : s.vm.classes[c]? = some k) (hkind : k.kind = .array comp ty) (hl : ¬ len > e.platform.arrayLengthLimit) (hh : ¬ len * componentBytes ty > e.platform.maxHeapBytes) (hf : fits ty v = true) (hd : v.isDefault = true)
    (h1 : s.heap.size < e.platform.maxCells) (h2 : s.slotsUsed + len ≤ e.platform.maxSlots) {Q : Addr → Pre} (hq : Q s.heap.size d acts (s.pushCell { cls := c, slots := Array.replicate len v, vm := .none })) : wp (Jvm.newArray c len v) Q E e d acts s := by
  have ha : allocActs (Array.replicate len v) s.heap.size acts = acts := by
    unfold allocActs
    rw [if_pos (by rw [Array.all_replicate]; split <;> simp [hd])]
  have hs : ∀ i x, (Array.replicate len v)[i]? = some x → s.fitsSlot c .none i x = true := by
    intro i x hx
    rw [Array.getElem?_replicate] at hx
    split at hx
    · cases hx; simp [State.fitsSlot, State.slotType?, hk, hkind, hf]
    · cases hx
  simp only [Jvm.newArray, Jvm.arrayFits, wp_bind', W.ask, W.ite, hl, if_false, wp_pure', W.theClass, hk, hkind, hh, W.alloc, W.stop, Option.some.injEq, exists_eq_left', Array.size_replicate, ha]
  rw [if_neg (by omega)]
  exact ⟨h1, h2, hs, hq⟩
theorem mu_make {E : CtlPost} {e : Env} {d : Bool} {acts : List Action} {s : State} {cA cB cC : ClassId} {kA kB : Class} {t0 ty : FieldType} {n m : Int32} (hkA : s.vm.classes[cA]? = some kA) (hA : kA.kind = .array cB t0) (ht0 : t0.isReference = true) (hkB : s.vm.classes[cB]? = some kB) (hB : kB.kind = .array cC ty) (hn : ¬ n < 0) (hm : ¬ m < 0)
    (l1 : ¬ n.toNatClampNeg > e.platform.arrayLengthLimit) (b1 : ¬ n.toNatClampNeg * componentBytes t0 > e.platform.maxHeapBytes) (l2 : ¬ m.toNatClampNeg > e.platform.arrayLengthLimit) (b2 : ¬ m.toNatClampNeg * componentBytes ty > e.platform.maxHeapBytes) (hf : fits ty (defaultValue ty) = true) (hd : (defaultValue ty).isDefault = true)
    (hc : s.heap.size + 1 + n.toNatClampNeg ≤ e.platform.maxCells) (hs : s.slotsUsed + n.toNatClampNeg + n.toNatClampNeg * m.toNatClampNeg ≤ e.platform.maxSlots) {Q : Addr → Pre} (hq : ∀ d' acts', Q s.heap.size d' acts' (muS s cA cB n.toNatClampNeg m.toNatClampNeg (defaultValue ty) n.toNatClampNeg)) :
    wp (multianewarray.make cA [n, m]) Q E e d acts s := by
  have hfind : ([m].find? (· < 0)) = none := by simp [hm]
  rw [multianewarray.make]
  simp only [wp_bind', W.ite, hn, if_false, wp_pure', W.theClass, hkA, hA, Option.some.injEq, exists_eq_left']
  refine mu_new hkA hA l1 b1 (mu_fits ht0 _ (Or.inl rfl)) rfl (by omega) (by have := Nat.zero_le (n.toNatClampNeg * m.toNatClampNeg); omega) ?_
  simp only [hfind]
  rw [ite_self, wp_bind', Std.Legacy.Range.forIn_eq_forIn_range', show ([:n.toNatClampNeg] : Std.Legacy.Range).size = n.toNatClampNeg by simp [Std.Legacy.Range.size]]
  show wp (forIn (List.range' 0 n.toNatClampNeg 1) PUnit.unit _) _ E e d acts _
  generalize hN : n.toNatClampNeg = N at *
  generalize hM : m.toNatClampNeg = M at *
  refine wp_forIn_inv (fun rest s' => ∃ i, i ≤ N ∧ rest = List.range' i (N - i) ∧ s' = muS s cA cB N M (defaultValue ty) i) _ _ ⟨0, Nat.zero_le _, rfl, rfl⟩ ?_ ?_
  · rintro x rest s' d' acts' Q' ⟨i, hi, hl, rfl⟩ hnext
    have hlt : i < N := by
      by_cases h : i < N
      · exact h
      · rw [show N - i = 0 by omega] at hl; cases hl
    rw [show N - i = (N - (i + 1)) + 1 by omega, List.range'_succ] at hl
    obtain ⟨rfl, hr⟩ := List.cons.inj hl
    obtain ⟨f1, f2, f3, y, f4, f5, f6, f7⟩ := muS_ok s cA cB N M (defaultValue ty) x
    have hmul : x * M + M ≤ N * M := by
      have := Nat.mul_le_mul_right M (show x + 1 ≤ N from hlt)
      rw [Nat.succ_mul] at this
      exact this
    have hy : ((muS s cA cB N M (defaultValue ty) x).pushCell { cls := cB, slots := Array.replicate M (defaultValue ty), vm := .none }).heap[s.heap.size]? = some y := by
      have hlt : s.heap.size < (muS s cA cB N M (defaultValue ty) x).heap.size := by rw [f1]; omega
      rw [State.heap_pushCell_of_lt (h := hlt)]; exact f4
    simp only [wp_bind']
    rw [multianewarray.make]
    simp only [wp_bind', W.ite, hm, if_false, wp_pure', W.theClass, f2, hkB, hB, Option.some.injEq, exists_eq_left', hM]
    refine mu_new (by rw [f2]; exact hkB) hB l2 b2 hf hd (by rw [f1]; omega) (by rw [f3]; omega) ?_
    simp only [wp_bind', W.writeLoc, wp_pure']
    refine ⟨y, hy, by rw [f6]; simp, by rw [f7]; exact hlt, ?_, hnext _ _ _ ⟨x + 1, hlt, hr, (muS_next hy).symm⟩⟩
    rw [f5, f6]
    simp [State.fitsSlot, State.slotType?, f2, hkA, hA, mu_fits ht0 _ (Or.inr ⟨_, rfl⟩)]
  · rintro s' d' acts' ⟨i, hi, hl, rfl⟩
    have hiN : i = N := by
      by_cases h : i < N
      · rw [show N - i = (N - (i + 1)) + 1 by omega, List.range'_succ] at hl; cases hl
      · omega
    subst hiN
    simp only [wp_pure']
    exact hq _ _
theorem W_multi {p : Program} {l : Launch} {e : Env} {R : Room} {s : State} {m : MethodId} {args : Array Value} {below : List Frame} {meth : Method} {c : Code} {H : Heap} {locs : List Loc} {cells slots : Nat} {Q : State → Prop} {cc : ByteArray} (hexec : p.tables.exec = Jvm.exec) (hb : c.code = cc) {own : String} {index : Nat} {ty : FieldType} (hown : s.vm.findClass own = some m.cls) (hclink : (Cond.classLink own index ("[" ++ (FieldType.array ty).toString)).before args s = true) (hover : (Cond.arrayOver (.array ty)).before args s = true) (harr : (Cond.arrayClass ty).before args s = true)
    {g : JFrame} (hg : g.method = m) (hdg : decode cc g.pc = .ok (.multianewarray index 2, 4)) {n k : Int32} {rest : List Value} (hstack : g.stack = .int k :: .int n :: rest) (hn : ¬ n < 0) (hk : ¬ k < 0) (hb1 : n.toNatClampNeg * 4 ≤ 536870912) (hb2 : k.toNatClampNeg * componentBytes ty ≤ 536870912) (hb3 : k.toNatClampNeg ≤ 536870912) (hf : fits ty (defaultValue ty) = true) (hd : (defaultValue ty).isDefault = true)
    (hcells : cells + (1 + n.toNatClampNeg) ≤ R.cells) (hslots : slots + (n.toNatClampNeg + n.toNatClampNeg * k.toNatClampNeg) ≤ R.slots)
    (kk : ∀ cA cB : ClassId, s.vm.findClass ("[" ++ (FieldType.array ty).toString) = some cA → s.vm.findClass (FieldType.array ty).toString = some cB →
      W p l e R s m args below meth c (muH H cA cB n.toNatClampNeg k.toNatClampNeg (defaultValue ty) n.toNatClampNeg) (locs ++ (List.range n.toNatClampNeg).map (fun j => ⟨H.size, j⟩)) (cells + 1 + n.toNatClampNeg) (slots + n.toNatClampNeg + n.toNatClampNeg * k.toNatClampNeg) Q { g with pc := g.pc + 4, stack := .ref H.size :: rest }) : W p l e R s m args below meth c H locs cells slots Q g := by
  intro T hT X
  subst hT; subst hb; subst hg
  have hpl : e.platform.magicAccessors = ({} : Platform).magicAccessors := by rw [X.admits.platform]
  obtain ⟨cB, cA, kA, hcB, -, hkA, hA, hcA⟩ := arrayOverA_spec hover
  obtain ⟨cB', kB, cC, hcB', hkB, hB⟩ := Cond.arrayClass_spec harr
  have eB : cB' = cB := Option.some.inj (hcB'.symm.trans hcB)
  subst eB
  obtain ⟨c0, hc0, hcl⟩ := Cond.classLink_spec hown hclink e.platform hpl
  cases hcA.symm.trans hc0
  obtain ⟨hg1, hw1, hr1⟩ := State.classEntry (e := e) X.warmed hcl
  generalize T.vm.noted g.method.cls index (.cls cA) = vm1 at hg1 hw1 hr1
  have hal : s.vm.Alike vm1 := hw1.alike
  obtain ⟨kA1, hkA1, eA⟩ := hal.2.2 _ _ hkA
  obtain ⟨kB1, hkB1, eB⟩ := hal.2.2 _ _ hkB
  have hA1 : kA1.kind = .array cB' (.array ty) := by rw [eA]; exact hA
  have hB1 : kB1.kind = .array cC ty := by rw [eB]; exact hB
  have X1 := X.noted hw1
  obtain ⟨q1, q2⟩ := X.roomAbove hcells hslots
  have XF := muS_stand X1 cA cB' n.toNatClampNeg k.toNatClampNeg (defaultValue ty) n.toNatClampNeg
  obtain ⟨t', a1, b1⟩ := kk cA cB' hcA hcB (muS (T.setVm vm1) cA cB' n.toNatClampNeg k.toNatClampNeg (defaultValue ty) n.toNatClampNeg) (muS_heap _ _ _ _ _ _ _) XF
  refine ⟨t', ?_, b1⟩
  have l1 : ¬ n.toNatClampNeg > e.platform.arrayLengthLimit := by rw [Launch.admits_arrayLengthLimit X.admits]; omega
  have h1 : ¬ n.toNatClampNeg * componentBytes (.array ty) > e.platform.maxHeapBytes := by
    rw [Launch.admits_maxHeapBytes X.admits]; show ¬ n.toNatClampNeg * 4 > 536870912; omega
  have l2 : ¬ k.toNatClampNeg > e.platform.arrayLengthLimit := by rw [Launch.admits_arrayLengthLimit X.admits]; omega
  have h2 : ¬ k.toNatClampNeg * componentBytes ty > e.platform.maxHeapBytes := by rw [Launch.admits_maxHeapBytes X.admits]; omega
  jvm_step X.here [hexec, hdg]
  simp only [multianewarray.sem, wp_bind', W.resolveClassAt_links (State.method?_setTop g X.here.top) hg1]
  rw [W.popN, if_neg (by decide)]
  refine ⟨g, State.topJava?_setTop' (s := T.setVm vm1) g X.here.top, [.int n, .int k], rest, rfl, hstack, ?_⟩
  simp only [List.mapM_cons, List.mapM_nil, wp_bind', wp_pure']
  refine mu_make (kA := kA1) (kB := kB1) (cB := cB') (cC := cC) (t0 := .array ty) (ty := ty) hkA1 hA1 rfl hkB1 hB1 hn hk l1 h1 l2 h2 hf hd (by show T.heap.size + 1 + _ ≤ _; omega) (by show T.slotsUsed + _ + _ ≤ _; omega) (fun d' acts' => ?_)
  have eS : ((T.setTop g).setVm vm1).setTop { g with stack := rest } = (T.setVm vm1).setTop { g with stack := rest } := by
    show ((T.setVm vm1).setTop g).setTop _ = _
    rw [State.setTop_setTop]
  rw [eS, muS_top]
  simp only [wp_bind', W.mark, W.pushRef, State.topJava?_setTop' _ XF.here.top, Option.some.injEq, exists_eq_left', State.setTop_setTop, State.heap_setTop]
  intro acts
  simp [jvm, XF.here.top]
  exact a1
def muT (t : TT) (K q q2 n k : Nat) : Nat → TT
  | 0 => upT t K (50 + q, n)
  | i + 1 => upT (muT t K q q2 n k i) (K + 1 + i) (50 + q2, k)
def muC (c : CC) (K q q2 : Nat) : Nat → CC
  | 0 => zc c K (50 + q)
  | i + 1 => up2 (zc (muC c K q q2 i) (K + 1 + i) (50 + q2)) K i ((K + 1 + i : Nat) : Int)
theorem muT_K (t : TT) (K q q2 n k : Nat) : ∀ i, muT t K q q2 n k i K = (50 + q, n) := by
  intro i
  induction i with
  | zero => exact upT_self _ _ _
  | succ i ih =>
    show upT (muT t K q q2 n k i) (K + 1 + i) (50 + q2, k) K = _
    rw [upT_ne (by omega)]
    exact ih
theorem muH_ok {G : GG} {sz sl : Nat} {t : TT} {c0 : CC} {H : Heap} {n k q q2 : Nat} (hH : HeapOK G (sz, sl, t, c0) H) (hinj : ∀ a b, G.2.2.2.size ≤ G.2.1 a → G.2.1 a = G.2.1 b → a = b) (hB : G.2.2.2.size ≤ G.2.1 sz) (hq : q < 10) (hq2 : q2 < 10) (hz : dz (aty q) = -1) (hr : ∀ v, rok (aty q) v) (hvo : ∀ v, vof G.2.1 (aty q) v = rfv G.2.1 v) :
    ∀ i, HeapOK G (sz + 1 + i, sl + n + i * k, muT t sz q q2 n k i, muC c0 sz q q2 i) (muH H (G.2.2.1 q) (G.2.2.1 q2) n k (defaultValue (aty q2)) i) ∧ (muH H (G.2.2.1 q) (G.2.2.1 q2) n k (defaultValue (aty q2)) i).size = H.size + 1 + i := by
  have had : G.2.1 sz = H.size := by have := hH.2.1 0; simpa using this
  intro i
  induction i with
  | zero =>
    generalize hH1 : H.push ({ cls := G.2.2.1 q, slots := Array.replicate n .null, vm := .none } : Cell) = H1
    have z1 : H1.size = H.size + 1 := by rw [← hH1, Array.size_push]
    have o1 : ∀ q, q < H.size → H1[q]? = H[q]? := fun q hq => by rw [← hH1, Array.getElem?_push_lt hq, Array.getElem?_eq_getElem hq]
    have hN := hH.new z1 o1 (arr_null hq hz had rfl hH1)
    refine ⟨?_, ?_⟩
    · show HeapOK G (sz + 1 + 0, sl + n + 0 * k, upT t sz (50 + q, n), zc c0 sz (50 + q)) (H.push _)
      rw [hH1, Nat.zero_mul, Nat.add_zero, Nat.add_zero]
      exact hN
    · show (H.push _).size = _
      rw [hH1, z1]
  | succ i ih =>
    obtain ⟨ih1, ih2⟩ := ih
    generalize hA : muH H (G.2.2.1 q) (G.2.2.1 q2) n k (defaultValue (aty q2)) i = A at ih1 ih2
    have had2 : G.2.1 (sz + 1 + i) = A.size := by have := ih1.2.1 0; simpa using this
    generalize hH1 : A.push ({ cls := G.2.2.1 q2, slots := Array.replicate k (defaultValue (aty q2)), vm := .none } : Cell) = H1
    have z1 : H1.size = A.size + 1 := by rw [← hH1, Array.size_push]
    have o1 : ∀ q, q < A.size → H1[q]? = A[q]? := fun q hq => by rw [← hH1, Array.getElem?_push_lt hq, Array.getElem?_eq_getElem hq]
    have e1 : H1[G.2.1 (sz + 1 + i)]? = some (arrV (G.2.2.1 q2) k (fun _ => defaultValue (aty q2))) := by
      rw [had2, ← hH1, Array.getElem?_push_size, ← arrV_new]
    have hN := ih1.new z1 o1 (arr_born hq2 e1)
    have hty : upT (muT t sz q q2 n k i) (sz + 1 + i) (50 + q2, k) sz = (50 + q, n) := by rw [upT_ne (by omega)]; exact muT_K t sz q q2 n k i
    have hx := (hN.arr (a := sz) (q := q) (n := n) hty hq).2.1
    rw [had] at hx
    have hsz : H.size < H1.size := by omega
    have hfin : muH H (G.2.2.1 q) (G.2.2.1 q2) n k (defaultValue (aty q2)) (i + 1) = H1.setIfInBounds H.size ((arrV (G.2.2.1 q) n (fun j => vof G.2.1 (aty q) (zc (muC c0 sz q q2 i) (sz + 1 + i) (50 + q2) sz j))).setSlot i (.ref A.size)) := by
      rw [muH, hA, hH1, hx]
    rw [hfin]
    refine ⟨?_, by rw [Array.size_setIfInBounds, z1, ih2]; omega⟩
    have := hN.aset (H' := H1.setIfInBounds H.size ((arrV (G.2.2.1 q) n (fun j => vof G.2.1 (aty q) (zc (muC c0 sz q q2 i) (sz + 1 + i) (50 + q2) sz j))).setSlot i (.ref A.size))) (a := sz) (q := q) (n := n) (i := i) (v := ((sz + 1 + i : Nat) : Int)) hinj hB hty hq (hr _) (by rw [Array.size_setIfInBounds]) (fun b hb => by rw [had] at hb; rw [Array.getElem?_setIfInBounds, if_neg (fun h => hb h.symm)]) (by
      rw [had, Array.getElem?_setIfInBounds, if_pos rfl, if_pos hsz, hvo, rfv_nat, had2])
    rw [show sl + n + (i + 1) * k = sl + n + i * k + k by rw [Nat.succ_mul]; omega]
    exact this
section Multi
variable {G : GG} {Γ : Cx} {μ : MI} {r : Vv × Wd} {pc : Nat} {ls : List (Option Vv)} {st : List Vv} {sz sl : Nat} {t : TT} {c0 : CC}
theorem w_multi {n k : Int} {idx q q2 : Nat} {ty : FieldType} (hn : 0 ≤ n ∧ n ≤ 1000) (hk : 0 ≤ k ∧ k ≤ 1000) (hq : q < 10) (hq2 : q2 < 10) (hty : aty q = .array ty) (hty2 : aty q2 = ty) (hl1 : Cond.classLink μ.2.1 idx ("[" ++ (FieldType.array ty).toString) ∈ lw_all) (hao : PP (fun U => (Cond.arrayOver (.array ty)).before #[] U = true)) (haw : Cond.arrayClass ty ∈ lw_all) (hb8 : componentBytes ty ≤ 8) (hf : fits ty (defaultValue ty) = true) (hdd : (defaultValue ty).isDefault = true) (hRA : ∀ U cA, va_RA U cA (aty q2) → U.vm.findClass ("[" ++ (aty q2).toString) = some cA) (hstr : (FieldType.array ty).toString = "[" ++ ty.toString) (hsz : kO ≤ sz) (hd : decode μ.1 pc = .ok (.multianewarray idx 2, 4))
    (h : WP G Γ μ r (pc + 4) ls ((2, (sz : Int)) :: st) (sz + 1 + n.toNat, sl + n.toNat + n.toNat * k.toNat, muT t sz q q2 n.toNat k.toNat n.toNat, muC c0 sz q q2 n.toNat)) : WP G Γ μ r pc ls ((0, k) :: (0, n) :: st) (sz, sl, t, c0) := by
  obtain ⟨p, l, e, R, s, m, args, below, meth, c, Q, z0, s0⟩ := Γ
  have hm := h.1
  have hm1 : sz + 1 + n.toNat ≤ r.2.1 := hm.1
  have hm2 : sl + n.toNat + n.toNat * k.toNat ≤ r.2.2.1 := hm.2
  have hnn := Nat.zero_le (n.toNat * k.toNat)
  refine ⟨⟨by show sz ≤ r.2.1; omega, by show sl ≤ r.2.2.1; omega⟩, fun hC h1 h2 hz0 hs0 H locs lsa hH hL hl => ?_⟩
  obtain ⟨hx, hb, hml, hown, hts, hK, hnm, ⟨hR1, hR2, hR3, hR4⟩, -⟩ := id hC
  have hz0 : z0 ≤ sz := hz0
  have hs0 : s0 ≤ sl := hs0
  have hik : inR k := okh h2
  have hin : inR n := okh (okt h2)
  have had : G.2.1 sz = H.size := by have := hH.2.1 0; simpa using this
  have hov : (Cond.arrayOver (.array ty)).before #[] s = true := hK.2.2.2.2.2 _ hao
  show W p l e R s m args below meth c H locs (sz - z0) (sl - s0) Q (F0 m pc lsa (.int (i32 k) :: .int (i32 n) :: st.map (dv G.2.1)))
  refine W_multi hx hb hown (hts _ hl1) hov (hts _ haw) rfl hd rfl (fun q => by have := (i32_lt hin (show inR 0 by decide)).mp q; omega) (fun q => by have := (i32_lt hik (show inR 0 by decide)).mp q; omega) (by rw [i32_clamp hin hn.1]; omega) (by
    rw [i32_clamp hik hk.1]
    have : k.toNat * componentBytes ty ≤ 1000 * 8 := Nat.mul_le_mul (by omega) hb8
    omega) (by rw [i32_clamp hik hk.1]; omega) hf hdd (by rw [i32_clamp hin hn.1]; omega) (by rw [i32_clamp hin hn.1, i32_clamp hik hk.1]; omega) (fun cA cB f1 f2 => ?_)
  rw [i32_clamp hin hn.1, i32_clamp hik hk.1]
  have hcA : cA = G.2.2.1 q := by
    have h5 := (hK.2.2.2.1 q (aty q) (kAr_at q hq)).2
    rw [hty] at h5
    have h6 : s.vm.findClass ("[" ++ (FieldType.array ty).toString) = some (G.2.2.1 q) := h5
    exact Option.some.inj (f1.symm.trans h6)
  have hcB : cB = G.2.2.1 q2 := by
    have h5 := hRA s _ (hK.2.2.2.1 q2 (aty q2) (kAr_at q2 hq2)).2
    rw [hty2, ← hstr] at h5
    exact Option.some.inj (f2.symm.trans h5)
  subst hcA hcB
  obtain ⟨hH', -⟩ := muH_ok (n := n.toNat) (k := k.toNat) (q2 := q2) hH hK.1 (hK.2.1 sz hsz) hq hq2 (by rw [hty]; rfl) (fun v => by rw [hty]; trivial) (fun v => by rw [hty]; rfl) n.toNat
  rw [hty2] at hH'
  have hk' := h.2 hC h1 (okc (okr _) (okt (okt h2))) (show z0 ≤ sz + 1 + n.toNat by omega) (show s0 ≤ sl + n.toNat + n.toNat * k.toNat by omega) _ (locs ++ (List.range n.toNat).map (fun j => ⟨H.size, j⟩)) lsa hH' (fun b hb' => by
    rcases List.mem_append.mp hb' with h3 | h3
    · exact hL b h3
    · obtain ⟨j, -, rfl⟩ := List.mem_map.mp h3
      exact hH.2.2.2.1) hl
  have hk' : W p l e R s m args below meth c _ _ (sz + 1 + n.toNat - z0) (sl + n.toNat + n.toNat * k.toNat - s0) Q (F0 m (pc + 4) lsa (rfv G.2.1 (sz : Int) :: st.map (dv G.2.1))) := hk'
  rw [rfv_nat, had] at hk'
  exact W.cs (by omega) (by omega) hk'
theorem muT_B {td : TT} {K q q2 n k : Nat} (h0 : tt td K = (50 + q, n)) : ∀ i, (∀ j, j < i → tt td (K + 1 + j) = (50 + q2, k)) → muT (tB td K) K q q2 n k i = tB td (K + 1 + i) := by
  intro i
  induction i with
  | zero => intro _; exact tB_step h0
  | succ i ih =>
    intro h
    show upT (muT (tB td K) K q q2 n k i) (K + 1 + i) (50 + q2, k) = _
    rw [ih (fun j hj => h j (by omega))]
    exact tB_step (h i (by omega))
theorem s_multiB {X : Type} {post : X → Prop} {K : Nat} {td : TT} {c : CC} {n k : Int} {idx q q2 : Nat} {ty : FieldType} {kk : CC → Option X} (ht : tt td K = (50 + q, n.toNat)) (hts : ∀ j, j < n.toNat → tt td (K + 1 + j) = (50 + q2, k.toNat)) (hn : 0 ≤ n ∧ n ≤ 1000) (hk : 0 ≤ k ∧ k ≤ 1000) (hq : q < 10) (hq2 : q2 < 10) (hty : aty q = .array ty) (hty2 : aty q2 = ty) (hl1 : Cond.classLink μ.2.1 idx ("[" ++ (FieldType.array ty).toString) ∈ lw_all) (hao : PP (fun U => (Cond.arrayOver (.array ty)).before #[] U = true)) (haw : Cond.arrayClass ty ∈ lw_all) (hb8 : componentBytes ty ≤ 8) (hf : fits ty (defaultValue ty) = true) (hdd : (defaultValue ty).isDefault = true) (hRA : ∀ U cA, va_RA U cA (aty q2) → U.vm.findClass ("[" ++ (aty q2).toString) = some cA) (hstr : (FieldType.array ty).toString = "[" ++ ty.toString) (hsz : kO ≤ K) (hd : decode μ.1 pc = .ok (.multianewarray idx 2, 4))
    (h : ∀ c1, Sm (kk c1) post (WP G Γ μ r (pc + 4) ls ((2, (K : Int)) :: st) (K + 1 + n.toNat, sl + n.toNat + n.toNat * k.toNat, tB td (K + 1 + n.toNat), c1))) : Sm (bd (muC c K q q2 n.toNat) kk) post (WP G Γ μ r pc ls ((0, k) :: (0, n) :: st) (K, sl, tB td K, c)) :=
  Sm.bd ((h _).map (fun hw => w_multi hn hk hq hq2 hty hty2 hl1 hao haw hb8 hf hdd hRA hstr hsz hd (by rw [muT_B ht n.toNat hts]; exact hw)))
end Multi
