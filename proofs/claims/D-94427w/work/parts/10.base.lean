/-! LAYER 1a: the abstract world over Int, locals, the judgement WP -/
abbrev Vv : Type := Nat × Int
abbrev CC : Type := Nat → Nat → Int
abbrev TT : Type := Nat → Nat × Nat
/-- a world: how many cells, how many slots were made, types and lengths, contents -/
abbrev Wd : Type := Nat × Nat × TT × CC
/-- the run's givens: classes and slots, addresses, array classes, the heap at the law's start -/
abbrev GG : Type := va_G × (Nat → Nat) × (Nat → ClassId) × Heap
def i32 (z : Int) : Int32 := Int32.ofInt z
def i64 (z : Int) : Int64 := Int64.ofInt z
abbrev inR (z : Int) : Prop := -2147483648 ≤ z ∧ z < 2147483648
abbrev inL (z : Int) : Prop := -9223372036854775808 ≤ z ∧ z < 9223372036854775808
def rfv (ad : Nat → Nat) (z : Int) : Value := if z < 0 then .null else .ref (ad z.toNat)
def dv (ad : Nat → Nat) (v : Vv) : Value := match v.1 with
  | 0 => .int (i32 v.2)
  | 1 => .long (i64 v.2)
  | _ => rfv ad v.2
def okv (v : Vv) : Prop := match v.1 with
  | 0 => inR v.2
  | 1 => inL v.2
  | _ => True
theorem i32_toInt {z : Int} (h : inR z) : (i32 z).toInt = z := Int32.toInt_ofInt_of_le (by simpa using h.1) (by simpa using h.2)
theorem i64_toInt {z : Int} (h : inL z) : (i64 z).toInt = z := Int64.toInt_ofInt_of_le (by simpa using h.1) (by simpa using h.2)
theorem i32_add (a b : Int) : i32 a + i32 b = i32 (a + b) := (Int32.ofInt_add a b).symm
theorem i32_sub (a b : Int) : i32 a - i32 b = i32 (a - b) := (Int32.ofInt_sub a b).symm
theorem i32_mul (a b : Int) : i32 a * i32 b = i32 (a * b) := (Int32.ofInt_mul a b).symm
theorem i32_neg (a : Int) : - i32 a = i32 (-a) := (Int32.ofInt_neg a).symm
theorem i64_add (a b : Int) : i64 a + i64 b = i64 (a + b) := (Int64.ofInt_add a b).symm
theorem i64_sub (a b : Int) : i64 a - i64 b = i64 (a - b) := (Int64.ofInt_sub a b).symm
theorem i64_mul (a b : Int) : i64 a * i64 b = i64 (a * b) := (Int64.ofInt_mul a b).symm
theorem i64_neg (a : Int) : - i64 a = i64 (-a) := (Int64.ofInt_neg a).symm
theorem i32_of (x : Int32) : i32 x.toInt = x := Int32.ofInt_toInt x
theorem i64_of (x : Int64) : i64 x.toInt = x := Int64.ofInt_toInt x
theorem i32_lt {a b : Int} (ha : inR a) (hb : inR b) : i32 a < i32 b ↔ a < b := by rw [Int32.lt_iff_toInt_lt, i32_toInt ha, i32_toInt hb]
theorem i32_le {a b : Int} (ha : inR a) (hb : inR b) : i32 a ≤ i32 b ↔ a ≤ b := by rw [Int32.le_iff_toInt_le, i32_toInt ha, i32_toInt hb]
theorem i32_eq {a b : Int} (ha : inR a) (hb : inR b) : i32 a = i32 b ↔ a = b := ⟨fun h => by rw [← i32_toInt ha, h, i32_toInt hb], fun h => by rw [h]⟩
theorem i64_lt {a b : Int} (ha : inL a) (hb : inL b) : i64 a < i64 b ↔ a < b := by rw [Int64.lt_iff_toInt_lt, i64_toInt ha, i64_toInt hb]
theorem i64_eq {a b : Int} (ha : inL a) (hb : inL b) : i64 a = i64 b ↔ a = b := ⟨fun h => by rw [← i64_toInt ha, h, i64_toInt hb], fun h => by rw [h]⟩
theorem i32_0 : i32 0 = 0 := rfl
/-- store into a local: positional; a long drops its neighbour -/
def isLg (o : Option Vv) : Bool := match o with
  | some v => v.1 == 1
  | none => false
def stoGo (i : Nat) (v : Vv) : Nat → List (Option Vv) → List (Option Vv)
  | _, [] => []
  | j, o :: l => (if j = i then some v else if (j + 1 == i && isLg o) = true then none else if (v.1 == 1 && j == i + 1) = true then none else o) :: stoGo i v (j + 1) l
abbrev stoL (ls : List (Option Vv)) (i : Nat) (v : Vv) : List (Option Vv) := stoGo i v 0 ls
theorem stoGo_get (i : Nat) (v : Vv) : ∀ (ls : List (Option Vv)) (j k : Nat) (u : Vv), (stoGo i v j ls)[k]? = some (some u) → (j + k = i ∧ u = v) ∨ (j + k ≠ i ∧ ls[k]? = some (some u) ∧ ¬ (j + k + 1 = i ∧ u.1 = 1) ∧ ¬ (v.1 = 1 ∧ j + k = i + 1)) := by
  intro ls
  induction ls with
  | nil => intro j k u h; simp [stoGo] at h
  | cons o l ih =>
    intro j k u h
    cases k with
    | zero =>
      simp only [stoGo, List.getElem?_cons_zero, Option.some.injEq] at h
      by_cases h1 : j = i
      · rw [if_pos h1] at h
        left; exact ⟨by omega, (Option.some.inj h).symm⟩
      · rw [if_neg h1] at h
        right
        by_cases h2 : (j + 1 == i && isLg o) = true
        · rw [if_pos h2] at h; cases h
        · rw [if_neg h2] at h
          by_cases h3 : (v.1 == 1 && j == i + 1) = true
          · rw [if_pos h3] at h; cases h
          · rw [if_neg h3] at h
            subst h
            refine ⟨by omega, by simp, fun q => h2 ?_, fun q => h3 ?_⟩
            · have : j + 1 = i := by omega
              simp [isLg, this, q.2]
            · have : j = i + 1 := by omega
              simp [q.1, this]
    | succ k =>
      simp only [stoGo, List.getElem?_cons_succ] at h
      rcases ih (j + 1) k u h with ⟨h1, h2⟩ | ⟨h1, h2, h3, h4⟩
      · left; exact ⟨by omega, h2⟩
      · right
        refine ⟨by omega, by simpa using h2, fun q => h3 ⟨by omega, q.2⟩, fun q => h4 ⟨q.1, by omega⟩⟩
def lvOK (ad : Nat → Nat) (lsa : Array Slot) (nL : Nat) (ls : List (Option Vv)) : Prop := lsa.size = nL ∧ lv_wf lsa ∧ ∀ (i : Nat) (v : Vv), ls[i]? = some (some v) → lsa[i]? = some (.val (dv ad v))
def lvl (ad : Nat → Nat) : Nat → List (Option Vv) → List (Nat × Value)
  | _, [] => []
  | j, o :: l => match o with
    | some v => (j, dv ad v) :: lvl ad (j + 1) l
    | none => lvl ad (j + 1) l
theorem lvl_mem {ad : Nat → Nat} : ∀ (ls : List (Option Vv)) (j k : Nat) (v : Vv), ls[k]? = some (some v) → (j + k, dv ad v) ∈ lvl ad j ls := by
  intro ls
  induction ls with
  | nil => intro j k v h; simp at h
  | cons o l ih =>
    intro j k v h
    cases k with
    | zero =>
      simp only [List.getElem?_cons_zero, Option.some.injEq] at h
      subst h
      simp [lvl]
    | succ k =>
      simp only [List.getElem?_cons_succ] at h
      have h1 := ih (j + 1) k v h
      have e : j + 1 + k = j + (k + 1) := by omega
      rw [e] at h1
      cases o with
      | none => simpa [lvl] using h1
      | some u => simp only [lvl]; exact List.mem_cons_of_mem _ h1
theorem lvl_of {ad : Nat → Nat} : ∀ (ls : List (Option Vv)) (j : Nat) (q : Nat × Value), q ∈ lvl ad j ls → ∃ (k : Nat) (v : Vv), ls[k]? = some (some v) ∧ q = (j + k, dv ad v) := by
  intro ls
  induction ls with
  | nil => intro j q h; simp [lvl] at h
  | cons o l ih =>
    intro j q h
    cases o with
    | none =>
      simp only [lvl] at h
      obtain ⟨k, v, h1, h2⟩ := ih (j + 1) q h
      exact ⟨k + 1, v, by simpa using h1, by rw [h2]; congr 1; omega⟩
    | some u =>
      simp only [lvl] at h
      rcases List.mem_cons.mp h with h | h
      · exact ⟨0, u, by simp, by simpa using h⟩
      · obtain ⟨k, v, h1, h2⟩ := ih (j + 1) q h
        exact ⟨k + 1, v, by simpa using h1, by rw [h2]; congr 1; omega⟩
theorem dv_cat (ad : Nat → Nat) (v : Vv) : (dv ad v).category = if v.1 = 1 then 2 else 1 := by
  obtain ⟨t, z⟩ := v
  match t with
  | 0 => rfl
  | 1 => rfl
  | n + 2 =>
    have : n + 2 ≠ 1 := by omega
    simp only [dv, rfv, this, if_false]
    split <;> rfl
theorem lvOK.has {ad : Nat → Nat} {lsa : Array Slot} {nL : Nat} {ls : List (Option Vv)} (h : lvOK ad lsa nL ls) : lv_has lsa nL (lvl ad 0 ls) := by
  refine ⟨h.1, h.2.1, fun q hq => ?_⟩
  obtain ⟨k, v, h1, rfl⟩ := lvl_of ls 0 q hq
  simpa using h.2.2 k v h1
theorem lvOK.sto1 {ad : Nat → Nat} {lsa : Array Slot} {nL : Nat} {ls : List (Option Vv)} {i : Nat} {v : Vv} (hv : v.1 ≠ 1) (h : lv_has lsa nL ((i, dv ad v) :: (lvl ad 0 ls).filter (fun q => !(q.1 == i) && !(q.1 + 1 == i && q.2.category == 2)))) : lvOK ad lsa nL (stoL ls i v) := by
  refine ⟨h.1, h.2.1, fun k u hk => ?_⟩
  rcases stoGo_get i v ls 0 k u hk with ⟨h1, h2⟩ | ⟨h1, h2, h3, h4⟩
  · subst h2
    have : k = i := by omega
    subst this
    exact h.2.2 (k, dv ad u) List.mem_cons_self
  · refine h.2.2 (k, dv ad u) (List.mem_cons_of_mem _ (List.mem_filter.mpr ⟨by simpa using lvl_mem (ad := ad) ls 0 k u h2, ?_⟩))
    have e1 : ¬ k = i := by omega
    by_cases e2 : k + 1 = i
    · have e3 : ¬ u.1 = 1 := fun q => h3 ⟨by omega, q⟩
      simp [e1, dv_cat, e3]
    · simp [e1, e2]
theorem lvOK.sto2 {ad : Nat → Nat} {lsa : Array Slot} {nL : Nat} {ls : List (Option Vv)} {i : Nat} {v : Vv} (hv : v.1 = 1) (h : lv_has lsa nL ((i, dv ad v) :: (lvl ad 0 ls).filter (fun q => !(q.1 == i) && (!(q.1 == i + 1) && !(q.1 + 1 == i && q.2.category == 2))))) : lvOK ad lsa nL (stoL ls i v) := by
  refine ⟨h.1, h.2.1, fun k u hk => ?_⟩
  rcases stoGo_get i v ls 0 k u hk with ⟨h1, h2⟩ | ⟨h1, h2, h3, h4⟩
  · subst h2
    have : k = i := by omega
    subst this
    exact h.2.2 (k, dv ad u) List.mem_cons_self
  · refine h.2.2 (k, dv ad u) (List.mem_cons_of_mem _ (List.mem_filter.mpr ⟨by simpa using lvl_mem (ad := ad) ls 0 k u h2, ?_⟩))
    have e1 : ¬ k = i := by omega
    have e4 : ¬ k = i + 1 := fun q => h4 ⟨hv, by omega⟩
    by_cases e2 : k + 1 = i
    · have e3 : ¬ u.1 = 1 := fun q => h3 ⟨by omega, q⟩
      simp [e1, e4, dv_cat, e3]
    · simp [e1, e2, e4]
theorem sto_ok {ls : List (Option Vv)} {i : Nat} {v : Vv} (h : ∀ (k : Nat) (u : Vv), ls[k]? = some (some u) → okv u) (hv : okv v) : ∀ (k : Nat) (u : Vv), (stoL ls i v)[k]? = some (some u) → okv u := by
  intro k u hk
  rcases stoGo_get i v ls 0 k u hk with ⟨h1, h2⟩ | ⟨h1, h2, h3, h4⟩
  · rw [h2]; exact hv
  · exact h k u h2
