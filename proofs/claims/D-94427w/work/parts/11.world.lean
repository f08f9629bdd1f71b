/-! LAYER 1b: classes, cells, the judgement WP, its plain rules -/
/-- the classes whose objects are looked at: 0 HeldTongue, 1 Lexicon, 2 Moment, 3 HeldTongueModel, 4 Reader, 5 Wrong, 6 Name, 7 Pair, 8 Gather, 9 Cross, 10 Change, 11 Word, 12 Constant, 13 Minus, 14 Two, 15 Not, 16 Compare, 17 Both -/
abbrev kCl : List vw_C := [(RX0, TX0, 41), (RX1, TX1, 4), (RX3, TX3, 1), (RX4, TX4, 83), (RX5, TX5, 10), (RX6, TX6, 8), (RX8, TX8, 5), (RX9, TX9, 7), (RX10, TX10, 5), (RX11, TX11, 6), (RX12, TX12, 5), (RX13, TX13, 1), (RX14, TX14, 1), (RX15, TX15, 1), (RX16, TX16, 3), (RX17, TX17, 1), (RX18, TX18, 3), (RX19, TX19, 3)]
abbrev kTy : List (Nat → FieldType) := [tyX0, tyX1, tyX3, tyX4, tyX5, tyX6, tyX8, tyX9, tyX10, tyX11, tyX12, tyX13, tyX14, tyX15, tyX16, tyX17, tyX18, tyX19]
def fty (ci k : Nat) : FieldType := (kTy.getD ci (fun _ => .int)) k
/-- array classes: 50 + place -/
abbrev kAr : List FieldType := [.int, .long, .byte, .boolean, .object RX1, .object RX7, .object "HeldTongue$Ask", .array .int, .array .long, .object RJ0]
def aty (k : Nat) : FieldType := kAr.getD k .int
/-- a slot's value by its type -/
def vof (ad : Nat → Nat) (ty : FieldType) (z : Int) : Value := match ty with
  | .int | .byte | .boolean | .char | .short => .int (i32 z)
  | .long => .long (i64 z)
  | _ => rfv ad z
def rok (ty : FieldType) (z : Int) : Prop := match ty with
  | .int => inR z
  | .byte => -128 ≤ z ∧ z < 128
  | .boolean => 0 ≤ z ∧ z < 2
  | .char => 0 ≤ z ∧ z < 65536
  | .short => -32768 ≤ z ∧ z < 32768
  | .long => inL z
  | _ => True
def tgF (ty : FieldType) : Nat := match ty with
  | .int | .byte | .boolean | .char | .short => 0
  | .long => 1
  | _ => 2
theorem vof_dv (ad : Nat → Nat) (ty : FieldType) (z : Int) : vof ad ty z = dv ad (tgF ty, z) := by cases ty <;> rfl
theorem rok_okv {ty : FieldType} {z : Int} (h : rok ty z) : okv (tgF ty, z) := by
  cases ty <;> simp only [rok, okv, tgF, inR] at h ⊢ <;> first | trivial | omega | exact h
/-- what the start gives and no step takes away -/
def PP (P : State → Prop) : Prop := (∀ s U : State, s.WarmedH U.vm → P s → P U) ∧ (∀ (U : State) (g : JFrame) (mk : MethodId) (a : Array Value), P U → P (U.calling g mk a)) ∧ ∀ (s0 : State) (b : Addr), (∀ w ∈ lw_tbl, w.before #[Value.ref b] s0 = true) → (Jvm.Cond.and given_1 narrow_1).before #[Value.ref b] s0 = true → P s0
/-- how many cells were there before the law began -/
abbrev kO : Nat := 43
/-! what lies in the heap from the start and no step changes: the reader's words, some statics -/
def oldQ (G : GG) : Nat → Prop := fun q => G.2.2.2.size ≤ q
def sLens : List Nat := [4, 5, 4, 2, 3, 3, 4, 4, 4, 6, 5, 2, 5, 3, 5, 4, 4, 6, 3, 5]
def sByt : List (List Int32) := [[119, 111, 114, 100], [119, 101, 105, 103, 104], [100, 114, 111, 112], [111, 114], [97, 110, 100], [110, 111, 116], [110, 97, 109, 101], [106, 111, 105, 110], [116, 117, 114, 110], [103, 97, 116, 104, 101, 114], [99, 114, 111, 115, 115], [97, 115], [109, 97, 107, 101, 115], [115, 117, 109], [108, 101, 97, 115, 116], [109, 97, 110, 121], [107, 105, 110, 100], [119, 101, 105, 103, 104, 116], [97, 103, 101], [112, 108, 97, 99, 101]]
def RfN (v : Value) : Prop := v = .null ∨ ∃ a, v = .ref a
def SX (G : GG) (U : State) : Prop :=
  va_Z "HeldTongue$Reader" "HEADS" "[Ljava/lang/String;" (.ref (G.2.1 1)) (oldQ G) U G.2.2.2 ∧ va_Z "HeldTongue$Reader" "CALLED" "[Ljava/lang/String;" (.ref (G.2.1 2)) (oldQ G) U G.2.2.2 ∧
  va_T (.object "java/lang/String") (G.2.1 1) 13 (fun j => .ref (G.2.1 (3 + j))) (oldQ G) U G.2.2.2 ∧ va_T (.object "java/lang/String") (G.2.1 2) 7 (fun j => .ref (G.2.1 (16 + j))) (oldQ G) U G.2.2.2 ∧
  vk_S 20 sLens sByt (fun i => G.2.1 (3 + i)) (fun i => G.2.1 (23 + i)) (oldQ G) U G.2.2.2 ∧ va_Z "java/lang/String" "COMPACT_STRINGS" "Z" (.int 1) (oldQ G) U G.2.2.2 ∧
  (∃ v, RfN v ∧ va_Z "jdk/internal/util/Preconditions" "SIOOBE_FORMATTER" "Ljava/util/function/BiFunction;" v (oldQ G) U G.2.2.2) ∧
  (∃ v, RfN v ∧ va_Z "java/lang/Throwable" "UNASSIGNED_STACK" "[Ljava/lang/StackTraceElement;" v (oldQ G) U G.2.2.2) ∧ ∃ v, RfN v ∧ va_Z "java/lang/Throwable" "SUPPRESSED_SENTINEL" "Ljava/util/List;" v (oldQ G) U G.2.2.2
theorem SX.moved {G : GG} {u U : State} (h : u.vm.Alike U.vm) (hS : SX G u) : SX G U := by
  obtain ⟨h1, h2, h3, h4, h5, h6, ⟨v7, r7, h7⟩, ⟨v8, r8, h8⟩, ⟨v9, r9, h9⟩⟩ := hS
  exact ⟨h1.moved h, h2.moved h, h3.moved h, h4.moved h, h5.moved h, h6.moved h, ⟨v7, r7, h7.moved h⟩, ⟨v8, r8, h8.moved h⟩, ⟨v9, r9, h9.moved h⟩⟩
/-- arrays of arrays: the component's number -/
def AA (G : GG) (U : State) : Prop := (∃ kA, U.vm.classes[G.2.2.1 7]? = some kA ∧ kA.kind = .array (G.2.2.1 0) (.array .int)) ∧ (∃ kA, U.vm.classes[G.2.2.1 8]? = some kA ∧ kA.kind = .array (G.2.2.1 1) (.array .long)) ∧ SX G U
theorem AA.moved {G : GG} {u U : State} (hvm : u.vm.Alike U.vm) (h : AA G u) : AA G U := by
  obtain ⟨⟨k1, e1, e2⟩, ⟨k2, e3, e4⟩, hS⟩ := h
  obtain ⟨k1', q1, q2⟩ := hvm.2.2 _ _ e1
  obtain ⟨k2', q3, q4⟩ := hvm.2.2 _ _ e3
  exact ⟨⟨k1', q1, by rw [q2]; exact e2⟩, ⟨k2', q3, by rw [q4]; exact e4⟩, hS.moved hvm⟩
def Kn (G : GG) (U : State) : Prop :=
  (∀ a b, G.2.2.2.size ≤ G.2.1 a → G.2.1 a = G.2.1 b → a = b) ∧ (∀ a, kO ≤ a → G.2.2.2.size ≤ G.2.1 a) ∧
  (∀ (ci : Nat) (q : vw_C), kCl[ci]? = some q → u_Kn U q.1 q.2.1 q.2.2 (G.1.1 ci) (G.1.2 ci)) ∧
  (∀ (k : Nat) (ty : FieldType), kAr[k]? = some ty → ArrOfT U (G.2.2.1 k) ty ∧ va_RA U (G.2.2.1 k) ty) ∧
  AA G U ∧ ∀ P, PP P → P U
theorem Kn.warm {G : GG} {s U : State} (hW : s.WarmedH U.vm) (h : Kn G s) : Kn G U := by
  obtain ⟨h1, h2, h3, h4, h6, h5⟩ := h
  exact ⟨h1, h2, fun ci q hq => u_Kn_moved hW.alike (h3 ci q hq), fun k ty hk => ⟨arrOfT_moved hW.alike (h4 k ty hk).1, (h4 k ty hk).2.moved hW.alike⟩, h6.moved hW.alike, fun P hP => hP.1 s U hW (h5 P hP)⟩
theorem Kn.call {G : GG} {U : State} {g : JFrame} {mk : MethodId} {a : Array Value} (h : Kn G U) : Kn G (U.calling g mk a) := by
  obtain ⟨h1, h2, h3, h4, h6, h5⟩ := h
  have e : U.vm.Alike (U.calling g mk a).vm := Vm.Alike.refl U.vm
  exact ⟨h1, h2, fun ci q hq => u_Kn_moved e (h3 ci q hq), fun k ty hk => ⟨arrOfT_moved e (h4 k ty hk).1, (h4 k ty hk).2.moved e⟩, h6.moved e, fun P hP => hP.2.1 U g mk a (h5 P hP)⟩
def objOK (G : GG) (H : Heap) (a ci n : Nat) (f : Nat → Int) : Prop :=
  (∃ q, kCl[ci]? = some q ∧ q.2.2 = n ∧ t_OB (G.2.1 a) (G.1.1 ci) q.2.2 (G.1.2 ci) H (fun k => vof G.2.1 (fty ci k) (f k))) ∧ ∀ k, k < n → rok (fty ci k) (f k)
def arrOK (G : GG) (H : Heap) (a k n : Nat) (f : Nat → Int) : Prop :=
  k < 10 ∧ H[G.2.1 a]? = some (arrV (G.2.2.1 k) n (fun j => vof G.2.1 (aty k) (f j))) ∧ ∀ j, j < n → rok (aty k) (f j)
def cellOK (G : GG) (H : Heap) (a : Nat) (t : Nat × Nat) (f : Nat → Int) : Prop :=
  (t.1 < 50 → objOK G H a t.1 t.2 f) ∧ (50 ≤ t.1 → t.1 < 99 → arrOK G H a (t.1 - 50) t.2 f)
def HeapOK (G : GG) (w : Wd) (H : Heap) : Prop :=
  (∀ a, cellOK G H a (w.2.2.1 a) (w.2.2.2 a)) ∧ (∀ j, G.2.1 (w.1 + j) = H.size + j) ∧ (∀ a, w.1 ≤ a → w.2.2.1 a = (99, 0)) ∧ G.2.2.2.size ≤ H.size ∧ ∀ q, q < G.2.2.2.size → H[q]? = G.2.2.2[q]?
/-- a method: its code, whose it is, locals, answer, depth, name -/
abbrev MI : Type := ByteArray × String × Nat × Option FieldType × Nat × String
abbrev Cx : Type := Program × Launch × Env × Room × State × MethodId × Array Value × List Frame × Method × Code × (State → Prop) × Nat × Nat
def retI (t : Nat) : Instr := match t with
  | 0 => .ireturn
  | 1 => .lreturn
  | 2 => .areturn
  | _ => .return_
def retSt (ad : Nat → Nat) (v : Vv) : List Value := match v.1 with
  | 0 => [dv ad v]
  | 1 => [dv ad v]
  | 2 => [dv ad v]
  | _ => []
/-- an answer is of the method's kind -/
def retOK (ret : Option FieldType) (v : Vv) : Prop := match ret with
  | none => v.1 = 3
  | some ty => v.1 = tgF ty ∧ rok ty v.2
def CxU (G : GG) (p : Program) (l : Launch) (e : Env) (R : Room) (s : State) (m : MethodId) (args : Array Value) (below : List Frame) (meth : Method) (c : Code) (Q : State → Prop) (z0 s0 : Nat) (μ : MI) (r : Vv × Wd) : Prop :=
  p.tables.exec = Jvm.exec ∧ c.code = μ.1 ∧ c.maxLocals = μ.2.2.1 ∧ s.vm.findClass μ.2.1 = some m.cls ∧ (∀ w ∈ lw_all, w.before args s = true) ∧ Kn G s ∧ meth.name = μ.2.2.2.2.2 ∧
  (μ.2.2.2.2.1 ≤ R.frames ∧ 64 * μ.2.2.2.2.1 ≤ R.locals ∧ r.2.1 - z0 ≤ R.cells ∧ r.2.2.1 - s0 ≤ R.slots) ∧
  (∀ (H : Heap) (locs : List Loc) (lsa : Array Slot) (pc : Nat), HeapOK G r.2 H → (∀ q ∈ locs, G.2.2.2.size ≤ q.base) → okv r.1 → retOK μ.2.2.2.1 r.1 → decode μ.1 pc = .ok (retI r.1.1, 1) → W p l e R s m args below meth c H locs (r.2.1 - z0) (r.2.2.1 - s0) Q (F0 m pc lsa (retSt G.2.1 r.1))) ∧
  (∀ (T : State) (locs : List Loc) (g : JFrame), HeapOK G r.2 T.heap → (∀ q ∈ locs, G.2.2.2.size ≤ q.base) → r.1.1 = 9 → g.method = m → g.locked = none → g.entered = [] → Stand p l e R s m args below meth c T locs (r.2.1 - z0) (r.2.2.1 - s0) → ∃ t, Steps p.tables e below ((T.setTop g).pushFrame (.throwing (G.2.1 r.1.2.toNat))) t ∧ Q t)
def WP (G : GG) (Γ : Cx) (μ : MI) (r : Vv × Wd) (pc : Nat) (ls : List (Option Vv)) (st : List Vv) (w : Wd) : Prop :=
  (w.1 ≤ r.2.1 ∧ w.2.1 ≤ r.2.2.1) ∧
  match Γ with
  | (p, l, e, R, s, m, args, below, meth, c, Q, z0, s0) =>
    CxU G p l e R s m args below meth c Q z0 s0 μ r → (∀ (k : Nat) (v : Vv), ls[k]? = some (some v) → okv v) → (∀ v ∈ st, okv v) → z0 ≤ w.1 → s0 ≤ w.2.1 →
    ∀ (H : Heap) (locs : List Loc) (lsa : Array Slot), HeapOK G w H → (∀ q ∈ locs, G.2.2.2.size ≤ q.base) → lvOK G.2.1 lsa μ.2.2.1 ls →
    W p l e R s m args below meth c H locs (w.1 - z0) (w.2.1 - s0) Q (F0 m pc lsa (st.map (dv G.2.1)))
/-- a body that answers, and what then holds -/
def Sm {X : Type} (k : Option X) (post : X → Prop) (g : Prop) : Prop := ∀ x, k = some x → post x → g
def gd {X : Type} (P : Prop) [Decidable P] (k : Option X) : Option X := if P then k else none
def bd {B X : Type} (b : B) (k : B → Option X) : Option X := k b
def cl {B X : Type} (o : Option B) (k : B → Option X) : Option X := match o with
  | some b => k b
  | none => none
theorem gd_pos {X : Type} {P : Prop} [Decidable P] {k : Option X} (h : P) : gd P k = k := if_pos h
theorem gd_neg {X : Type} {P : Prop} [Decidable P] {k : Option X} (h : ¬ P) : gd P k = none := if_neg h
theorem cl_some {B X : Type} {b : B} {k : B → Option X} : cl (some b) k = k b := rfl
theorem cl_none {B X : Type} {k : B → Option X} : cl none k = none := rfl
section SmR
variable {X B : Type} {k k1 k2 : Option X} {post : X → Prop} {g g' : Prop}
theorem Sm.map (f : g' → g) (h : Sm k post g') : Sm k post g := fun x hx hp => f (h x hx hp)
theorem Sm.gd {P : Prop} [Decidable P] (f : P → g' → g) (h : Sm k post g') : Sm (gd P k) post g := by
  intro x hx hp
  by_cases hP : P
  · rw [gd_pos hP] at hx
    exact f hP (h x hx hp)
  · rw [gd_neg hP] at hx; cases hx
theorem Sm.bd {b : B} {kk : B → Option X} (h : Sm (kk b) post g) : Sm (bd b kk) post g := h
theorem Sm.ite {P : Prop} [Decidable P] (h1 : P → Sm k1 post g) (h2 : ¬ P → Sm k2 post g) : Sm (if P then k1 else k2) post g := by
  intro x hx hp
  by_cases hP : P
  · rw [if_pos hP] at hx; exact h1 hP x hx hp
  · rw [if_neg hP] at hx; exact h2 hP x hx hp
theorem Sm.cl {o : Option B} {kk : B → Option X} (h : ∀ b, o = some b → Sm (kk b) post g) : Sm (cl o kk) post g := by
  intro x hx hp
  cases ho : o with
  | none => rw [ho] at hx; cases hx
  | some b => rw [ho] at hx; exact h b ho x hx hp
theorem Sm.some {x : X} (h : post x → g) : Sm (some x) post g := fun y hy hp => by cases hy; exact h hp
theorem Sm.none : Sm (Option.none : Option X) post g := fun y hy _ => by cases hy
end SmR
section WPR
variable {G : GG} {Γ : Cx} {μ : MI} {r : Vv × Wd} {pc : Nat} {ls ls' : List (Option Vv)} {st st' : List Vv} {w w' : Wd}
/-- a row that touches the stack alone -/
theorem WP.pure {pc' : Nat} (hok : (∀ v ∈ st, okv v) → (∀ (k : Nat) (v : Vv), ls[k]? = some (some v) → okv v) → ∀ v ∈ st', okv v)
    (f : ∀ (p : Program) (l : Launch) (e : Env) (R : Room) (s : State) (m : MethodId) (args : Array Value) (below : List Frame) (meth : Method) (c : Code) (Q : State → Prop) (cells slots : Nat) (H : Heap) (locs : List Loc) (lsa : Array Slot), p.tables.exec = Jvm.exec → c.code = μ.1 → (∀ v ∈ st, okv v) → lvOK G.2.1 lsa μ.2.2.1 ls → s.vm.findClass μ.2.1 = some m.cls → (∀ w ∈ lw_all, w.before args s = true) →
      W p l e R s m args below meth c H locs cells slots Q (F0 m pc' lsa (st'.map (dv G.2.1))) → W p l e R s m args below meth c H locs cells slots Q (F0 m pc lsa (st.map (dv G.2.1))))
    (h : WP G Γ μ r pc' ls st' w) : WP G Γ μ r pc ls st w := by
  obtain ⟨p, l, e, R, s, m, args, below, meth, c, Q, z0, s0⟩ := Γ
  refine ⟨h.1, fun hC h1 h2 hz hs H locs lsa hH hL hl => ?_⟩
  exact f p l e R s m args below meth c Q _ _ H locs lsa hC.1 hC.2.1 h2 hl hC.2.2.2.1 hC.2.2.2.2.1 (h.2 hC h1 (hok h2 h1) hz hs H locs lsa hH hL hl)
theorem WP.two {P : Prop} {pc1 pc2 : Nat} {st1 st2 : List Vv} (hP : P ∨ ¬ P) (hok1 : (∀ v ∈ st, okv v) → ∀ v ∈ st1, okv v) (hok2 : (∀ v ∈ st, okv v) → ∀ v ∈ st2, okv v)
    (f : ∀ (p : Program) (l : Launch) (e : Env) (R : Room) (s : State) (m : MethodId) (args : Array Value) (below : List Frame) (meth : Method) (c : Code) (Q : State → Prop) (cells slots : Nat) (H : Heap) (locs : List Loc) (lsa : Array Slot), p.tables.exec = Jvm.exec → c.code = μ.1 → (∀ v ∈ st, okv v) →
      (P → W p l e R s m args below meth c H locs cells slots Q (F0 m pc1 lsa (st1.map (dv G.2.1)))) → (¬ P → W p l e R s m args below meth c H locs cells slots Q (F0 m pc2 lsa (st2.map (dv G.2.1)))) → W p l e R s m args below meth c H locs cells slots Q (F0 m pc lsa (st.map (dv G.2.1))))
    (h1 : P → WP G Γ μ r pc1 ls st1 w) (h2 : ¬ P → WP G Γ μ r pc2 ls st2 w) : WP G Γ μ r pc ls st w := by
  obtain ⟨p, l, e, R, s, m, args, below, meth, c, Q, z0, s0⟩ := Γ
  refine ⟨hP.elim (fun q => (h1 q).1) (fun q => (h2 q).1), fun hC h3 h4 hz hs H locs lsa hH hL hl => ?_⟩
  exact f p l e R s m args below meth c Q _ _ H locs lsa hC.1 hC.2.1 h4 (fun q => (h1 q).2 hC h3 (hok1 h4) hz hs H locs lsa hH hL hl) (fun q => (h2 q).2 hC h3 (hok2 h4) hz hs H locs lsa hH hL hl)
/-- fewer locals -/
theorem WP.weak (hs : ∀ (k : Nat) (v : Vv), ls'[k]? = some (some v) → ls[k]? = some (some v)) (h : WP G Γ μ r pc ls' st w) : WP G Γ μ r pc ls st w := by
  obtain ⟨p, l, e, R, s, m, args, below, meth, c, Q, z0, s0⟩ := Γ
  refine ⟨h.1, fun hC h1 h2 hz hs' H locs lsa hH hL hl => ?_⟩
  exact h.2 hC (fun k v hk => h1 k v (hs k v hk)) h2 hz hs' H locs lsa hH hL ⟨hl.1, hl.2.1, fun i v hi => hl.2.2 i v (hs i v hi)⟩
/-- the values at hand are in range -/
theorem WP.ok (h : (∀ (k : Nat) (v : Vv), ls[k]? = some (some v) → okv v) → (∀ v ∈ st, okv v) → WP G Γ μ r pc ls st w) (hm : w.1 ≤ r.2.1 ∧ w.2.1 ≤ r.2.2.1) : WP G Γ μ r pc ls st w := by
  obtain ⟨p, l, e, R, s, m, args, below, meth, c, Q, z0, s0⟩ := Γ
  exact ⟨hm, fun hC h1 h2 => (h h1 h2).2 hC h1 h2⟩
end WPR
