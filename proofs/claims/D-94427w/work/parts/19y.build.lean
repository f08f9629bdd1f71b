/-! LAYER 1z: while the two objects are being made: the cells below k are as the layout says -/
def tB (td : TT) (k : Nat) : TT := fun a => if a < k then tt td a else td a
theorem tB_at {td : TT} {k a : Nat} (h : a < k) : tB td k a = tt td a := if_pos h
theorem tB_step {td : TT} {k : Nat} {p : Nat × Nat} (h : tt td k = p) : upT (tB td k) k p = tB td (k + 1) := by
  funext b
  unfold upT tB
  by_cases hb : b = k
  · rw [if_pos hb, if_pos (by omega), hb, h]
  · rw [if_neg hb]
    by_cases hl : b < k
    · rw [if_pos hl, if_pos (by omega)]
    · rw [if_neg hl, if_neg (by omega)]
theorem tB_end {td : TT} : tB td 168 = tt td := by
  funext b
  unfold tB
  by_cases hb : b < 168
  · rw [if_pos hb]
  · rw [if_neg hb]
    unfold tt
    rw [if_neg (by show ¬ (43 ≤ b ∧ b < 168); omega)]
theorem tB_0 {td : TT} : tB td 43 = td := by
  funext b
  unfold tB
  by_cases hb : b < 43
  · rw [if_pos hb]
    unfold tt
    rw [if_neg (by omega)]
  · rw [if_neg hb]
theorem cv_self {c : CC} (h : ∀ a i v, sref a i = some v → c a i = v) : cv c = c := by
  funext a i
  unfold cv
  cases hs : sref a i with
  | none => rfl
  | some v => exact (h a i v hs).symm
section Build
variable {G : GG} {Γ : Cx} {μ : MI} {r : Vv × Wd} {pc : Nat} {ls : List (Option Vv)} {st : List Vv} {K sl : Nat} {td : TT} {c : CC}
variable {X : Type} {k : Option X} {post : X → Prop}
theorem s_newB {ci N idx : Nat} {C : String} {T : u_T} {kk : CC → Option X} (ht : tt td K = (ci, N)) (hcf : CF ci C T N) (hl1 : Cond.classLink μ.2.1 idx C ∈ lw_all) (hl2 : Cond.instantiable C N ∈ lw_all) (hl3 : Cond.initialized C ∈ lw_all) (hd : decode μ.1 pc = .ok (.new idx, 3))
    (h : ∀ c1, Sm (kk c1) post (WP G Γ μ r (pc + 3) ls ((2, (K : Int)) :: st) (K + 1, sl + N, tB td (K + 1), c1))) : Sm (bd (zc c K ci) kk) post (WP G Γ μ r pc ls st (K, sl, tB td K, c)) :=
  Sm.bd ((h _).map (fun hw => w_new hcf hl1 hl2 hl3 hd (by rw [tB_step ht]; exact hw)))
theorem s_newaB {n : Int} {at0 : ArrayType} {q : Nat} {kk : CC → Option X} (ht : tt td K = (50 + q, n.toNat)) (hn : 0 ≤ n ∧ n ≤ 100000) (hq : q < 10) (hty : newarray.typeOf at0 = aty q) (hw : Cond.arrayClass (newarray.typeOf at0) ∈ lw_all) (hb8 : componentBytes (newarray.typeOf at0) ≤ 8) (hRA : ∀ U cA, va_RA U cA (aty q) → U.vm.findClass ("[" ++ (aty q).toString) = some cA) (hd : decode μ.1 pc = .ok (.newarray at0, 2))
    (h : ∀ c1, Sm (kk c1) post (WP G Γ μ r (pc + 2) ls ((2, (K : Int)) :: st) (K + 1, sl + n.toNat, tB td (K + 1), c1))) : Sm (bd (zc c K (50 + q)) kk) post (WP G Γ μ r pc ls ((0, n) :: st) (K, sl, tB td K, c)) :=
  Sm.bd ((h _).map (fun hw' => w_newa hn hq hty hw hb8 hRA hd (by rw [tB_step ht]; exact hw')))
theorem s_anewB {n : Int} {idx q : Nat} {C : String} {kk : CC → Option X} (ht : tt td K = (50 + q, n.toNat)) (hn : 0 ≤ n ∧ n ≤ 100000) (hq : q < 10) (hty : aty q = .object C) (hl1 : Cond.classLink μ.2.1 idx C ∈ lw_all) (hao : PP (fun U => (Cond.arrayOver (.object C)).before #[] U = true)) (hd : decode μ.1 pc = .ok (.anewarray idx, 3))
    (h : ∀ c1, Sm (kk c1) post (WP G Γ μ r (pc + 3) ls ((2, (K : Int)) :: st) (K + 1, sl + n.toNat, tB td (K + 1), c1))) : Sm (bd (zc c K (50 + q)) kk) post (WP G Γ μ r pc ls ((0, n) :: st) (K, sl, tB td K, c)) :=
  Sm.bd ((h _).map (fun hw' => w_anew hn hq hty hl1 hao hd (by rw [tB_step ht]; exact hw')))
theorem s_anewAB {n : Int} {idx q : Nat} {ty : FieldType} {kk : CC → Option X} (ht : tt td K = (50 + q, n.toNat)) (hn : 0 ≤ n ∧ n ≤ 100000) (hq : q < 10) (hty : aty q = .array ty) (hl1 : Cond.classLink μ.2.1 idx (FieldType.array ty).toString ∈ lw_all) (hao : PP (fun U => (Cond.arrayOver (.array ty)).before #[] U = true)) (hd : decode μ.1 pc = .ok (.anewarray idx, 3))
    (h : ∀ c1, Sm (kk c1) post (WP G Γ μ r (pc + 3) ls ((2, (K : Int)) :: st) (K + 1, sl + n.toNat, tB td (K + 1), c1))) : Sm (bd (zc c K (50 + q)) kk) post (WP G Γ μ r pc ls ((0, n) :: st) (K, sl, tB td K, c)) :=
  Sm.bd ((h _).map (fun hw' => w_anewA hn hq hty hl1 hao hd (by rw [tB_step ht]; exact hw')))
/-- a put into an object that has been made -/
theorem s_putB {idx ci i a N tg : Nat} {z v : Int} {kk : CC → Option X} (ha : 43 ≤ a ∧ a < K) (ht : tt td a = (ci, N)) (hf : FP μ.2.1 idx ci i μ.2.2.2.2.2) (hz : z = (a : Int)) (htg : tgF (fty ci i) = tg) (hr : fty ci i ≠ .boolean ∧ fty ci i ≠ .byte ∧ fty ci i ≠ .char ∧ fty ci i ≠ .short) (hd : decode μ.1 pc = .ok (.putfield idx, 3)) (h : ∀ c1, Sm (kk c1) post (WP G Γ μ r (pc + 3) ls st (K, sl, tB td K, c1))) : Sm (bd (up2 c a i v) kk) post (WP G Γ μ r pc ls ((tg, v) :: (2, z) :: st) (K, sl, tB td K, c)) :=
  Sm.bd (s_put hf (by rw [tB_at ha.2]; exact ht) hz ha.1 rfl htg hr hd (h _))
/-- a store into an int array that has been made -/
theorem s_iastB {a n : Nat} {z i v : Int} {kk : CC → Option X} (ha : 43 ≤ a ∧ a < K) (ht : tt td a = (50, n)) (hz : z = (a : Int)) (hi : 0 ≤ i ∧ i < (n : Int)) (hd : decode μ.1 pc = .ok (.iastore, 1)) (h : ∀ c1, Sm (kk c1) post (WP G Γ μ r (pc + 1) ls st (K, sl, tB td K, c1))) : Sm (bd (up2 c a i.toNat v) kk) post (WP G Γ μ r pc ls ((0, v) :: (0, i) :: (2, z) :: st) (K, sl, tB td K, c)) := by
  refine Sm.bd ?_
  intro x0 hx0 hp
  refine s_iast (k := some x0) (post := fun _ => True) (by rw [tB_at ha.2]; exact ht) hz ha.1 rfl hd (fun _ _ _ => h _ x0 hx0 hp) x0 ?_ trivial
  rw [gd_pos hi]
end Build
