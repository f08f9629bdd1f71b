/-! LAYER 1q: allocation, copies and stores at cells that are not fixed -/
def cx0 : Cx := (.bare "" "" "", { maxFrames := 0, maxStackSlots := 0, maxCells := 0, maxSlots := 0, classes := [] }, { classPath := fun _ => none }, {}, default, default, #[], [], default, ⟨0, 0, ⟨#[]⟩, #[], #[]⟩, fun _ => True, 0, 0)
theorem cv_cpy {c : CC} {a0 a sp dp n : Nat} (h0 : ∀ j, sref a0 j = none) (h1 : ∀ j, sref a j = none) : cpy (cv c) a0 a sp dp n = cv (cpy c a0 a sp dp n) := by
  funext b j
  unfold cpy
  by_cases hb : b = a ∧ dp ≤ j ∧ j < dp + n
  · rw [if_pos hb]
    unfold cv
    rw [h0, hb.1, h1]
    show _ = if a = a ∧ dp ≤ j ∧ j < dp + n then c a0 (sp + (j - dp)) else c a j
    rw [if_pos ⟨rfl, hb.2⟩]
  · rw [if_neg hb]
    unfold cv
    split
    · rfl
    · exact (if_neg hb).symm
section Over3
variable {G : GG} {Γ : Cx} {μ μy : MI} {r : Vv × Wd} {pc : Nat} {ls ls' : List (Option Vv)} {st st' : List Vv} {sz sl : Nat} {td : TT} {c : CC} {w : Wd} {x y : MethodName}
variable {X B : Type} {k k1 k2 : Option X} {post : X → Prop}
/-- a store into a boolean array that is not one of the fixed ones -/
theorem s_zastDM {z i v : Int} {kk : CC → Option X} (hd : decode μ.1 pc = .ok (.bastore, 1)) (h : ∀ c1, Sm (kk c1) post (WP G Γ μ r (pc + 1) ls st (sz, sl, tt td, cv c1))) : Sm (gd (168 ≤ z ∧ (tt td z.toNat).1 = 53 ∧ 0 ≤ i ∧ i < ((tt td z.toNat).2 : Int) ∧ 0 ≤ v ∧ v < 2) (bd (up2 c z.toNat i.toNat v) kk)) post (WP G Γ μ r pc ls ((0, v) :: (0, i) :: (2, z) :: st) (sz, sl, tt td, cv c)) := by
  intro x0 hx0 hp
  by_cases hR : 168 ≤ z ∧ (tt td z.toNat).1 = 53 ∧ 0 ≤ i ∧ i < ((tt td z.toNat).2 : Int) ∧ 0 ≤ v ∧ v < 2
  · rw [gd_pos hR] at hx0
    obtain ⟨b1, b2, b3⟩ := big_nat hR.1
    refine s_zast (dyn_t hR.2.1) (dyn_z b2) b3 (cv_up (sref_big b1 _)) hd (h _) x0 ?_ hp
    rw [gd_pos hR.2.2]
    exact hx0
  · rw [gd_neg hR] at hx0; cases hx0
/-- an int array into a fixed array of them -/
theorem s_aastAM {a n : Nat} {z i v : Int} {kk : CC → Option X} (ht : tt td a = (57, n)) (hz : z = (a : Int)) (ha : kO ≤ a) (hs : ∀ j, sref a j = none) (hd : decode μ.1 pc = .ok (.aastore, 1)) (h : ∀ c1, Sm (kk c1) post (WP G Γ μ r (pc + 1) ls st (sz, sl, tt td, cv c1))) : Sm (gd (0 ≤ i ∧ i < (n : Int) ∧ 0 ≤ v ∧ (tt td v.toNat).1 = 50) (bd (up2 c a i.toNat v) kk)) post (WP G Γ μ r pc ls ((2, v) :: (0, i) :: (2, z) :: st) (sz, sl, tt td, cv c)) :=
  Sm.gd (fun hR hw => w_aastA ht hz ha ⟨hR.1, hR.2.1⟩ (dyn_z hR.2.2.1) (dyn_t hR.2.2.2) (cv_up (hs _)) hd hw) (Sm.bd (h _))
/-- an int array into an array of them that is not fixed -/
theorem s_aastADM {z i v : Int} {kk : CC → Option X} (hd : decode μ.1 pc = .ok (.aastore, 1)) (h : ∀ c1, Sm (kk c1) post (WP G Γ μ r (pc + 1) ls st (sz, sl, tt td, cv c1))) : Sm (gd (168 ≤ z ∧ (tt td z.toNat).1 = 57 ∧ 0 ≤ i ∧ i < ((tt td z.toNat).2 : Int) ∧ 0 ≤ v ∧ (tt td v.toNat).1 = 50) (bd (up2 c z.toNat i.toNat v) kk)) post (WP G Γ μ r pc ls ((2, v) :: (0, i) :: (2, z) :: st) (sz, sl, tt td, cv c)) :=
  Sm.gd (fun hR hw => by
    obtain ⟨b1, b2, b3⟩ := big_nat hR.1
    exact w_aastA (dyn_t hR.2.1) (dyn_z b2) b3 ⟨hR.2.2.1, hR.2.2.2.1⟩ (dyn_z hR.2.2.2.2.1) (dyn_t hR.2.2.2.2.2) (cv_up (sref_big b1 _)) hd hw) (Sm.bd (h _))
/-- an object into an array of objects that is not fixed -/
theorem s_aastRDM {z i v : Int} {q lo hi : Nat} {E : String} {kk : CC → Option X} (hq : q < 10) (hE : aty q = .object E) (hca : ∀ ci, lo ≤ ci → ci ≤ hi → ∃ C, (kCl[ci]?.map (fun q => q.1)) = some C ∧ PP (va_Nw (Cond.castable C E))) (hd : decode μ.1 pc = .ok (.aastore, 1)) (h : ∀ c1, Sm (kk c1) post (WP G Γ μ r (pc + 1) ls st (sz, sl, tt td, cv c1))) : Sm (gd (168 ≤ z ∧ (tt td z.toNat).1 = 50 + q ∧ 0 ≤ i ∧ i < ((tt td z.toNat).2 : Int) ∧ 0 ≤ v ∧ lo ≤ (tt td v.toNat).1 ∧ (tt td v.toNat).1 ≤ hi) (bd (up2 c z.toNat i.toNat v) kk)) post (WP G Γ μ r pc ls ((2, v) :: (0, i) :: (2, z) :: st) (sz, sl, tt td, cv c)) :=
  Sm.gd (fun hR hw => by
    obtain ⟨b1, b2, b3⟩ := big_nat hR.1
    obtain ⟨C, e1, e2⟩ := hca _ hR.2.2.2.2.2.1 hR.2.2.2.2.2.2
    exact w_aastO hq hE (dyn_t hR.2.1) (dyn_z b2) b3 ⟨hR.2.2.1, hR.2.2.2.1⟩ (dyn_z hR.2.2.2.2.1) (dyn_t rfl) e1 (Or.inl e2) (cv_up (sref_big b1 _)) hd hw) (Sm.bd (h _))
/-- a copy between two fixed int arrays -/
theorem s_copyL {idx a0 a n0 n1 : Nat} {z0' z1 sp dp n : Int} {kk : CC → Option X} (hM : MCopy μ.2.1 idx) (ht0 : tt td a0 = (50, n0)) (ht1 : tt td a = (50, n1)) (hz0 : z0' = (a0 : Int)) (hz1 : z1 = (a : Int)) (ha : kO ≤ a) (hs0 : ∀ j, sref a0 j = none) (hs1 : ∀ j, sref a j = none) (hdd : 1 ≤ μ.2.2.2.2.1) (hroom : (st.map (fun v : Vv => if v.1 = 1 then 2 else 1)).sum ≤ 8) (hd : decode μ.1 pc = .ok (.invokestatic idx, 3))
    (h : ∀ c1, Sm (kk c1) post (WP G Γ μ r (pc + 3) ls st (sz, sl, tt td, cv c1))) : Sm (gd ((0 ≤ sp ∧ 0 ≤ dp ∧ 0 ≤ n) ∧ sp + n ≤ (n0 : Int) ∧ dp + n ≤ (n1 : Int)) (bd (cpy c a0 a sp.toNat dp.toNat n.toNat) kk)) post (WP G Γ μ r pc ls ((0, n) :: (0, dp) :: (2, z1) :: (0, sp) :: (2, z0') :: st) (sz, sl, tt td, cv c)) :=
  Sm.gd (fun hR hw => by
    refine w_copy (q := 0) hM (by decide) (Or.inl rfl) ht0 ht1 hz0 hz1 ha hR hdd hroom hd ?_
    rw [cv_cpy hs0 hs1]
    exact hw) (Sm.bd (h _))
/-- a copy between two int arrays that are not fixed -/
theorem s_copyD {idx : Nat} {z0' z1 sp dp n : Int} {kk : CC → Option X} (hM : MCopy μ.2.1 idx) (hdd : 1 ≤ μ.2.2.2.2.1) (hroom : (st.map (fun v : Vv => if v.1 = 1 then 2 else 1)).sum ≤ 8) (hd : decode μ.1 pc = .ok (.invokestatic idx, 3))
    (h : ∀ c1, Sm (kk c1) post (WP G Γ μ r (pc + 3) ls st (sz, sl, tt td, cv c1))) : Sm (gd ((168 ≤ z0' ∧ (tt td z0'.toNat).1 = 50 ∧ 168 ≤ z1 ∧ (tt td z1.toNat).1 = 50) ∧ (0 ≤ sp ∧ 0 ≤ dp ∧ 0 ≤ n) ∧ sp + n ≤ ((tt td z0'.toNat).2 : Int) ∧ dp + n ≤ ((tt td z1.toNat).2 : Int)) (bd (cpy c z0'.toNat z1.toNat sp.toNat dp.toNat n.toNat) kk)) post (WP G Γ μ r pc ls ((0, n) :: (0, dp) :: (2, z1) :: (0, sp) :: (2, z0') :: st) (sz, sl, tt td, cv c)) :=
  Sm.gd (fun hR hw => by
    obtain ⟨b1, b2, b3⟩ := big_nat hR.1.1
    obtain ⟨d1, d2, d3⟩ := big_nat hR.1.2.2.1
    refine w_copy (q := 0) hM (by decide) (Or.inl rfl) (dyn_t hR.1.2.1) (dyn_t hR.1.2.2.2) (dyn_z b2) (dyn_z d2) d3 hR.2 hdd hroom hd ?_
    rw [cv_cpy (sref_big b1) (sref_big d1)]
    exact hw) (Sm.bd (h _))
/-- a copy between two arrays of objects that are not fixed -/
theorem s_copyRD {idx q lo hi : Nat} {E : String} {z0' z1 sp dp n : Int} {kk : CC → Option X} (hM : MCopy μ.2.1 idx) (hq : q < 10) (hE : aty q = .object E) (hca : ∀ ci, lo ≤ ci → ci ≤ hi → ∃ C, (kCl[ci]?.map (fun q => q.1)) = some C ∧ PP (va_Nw (Cond.castable C E))) (hdd : 1 ≤ μ.2.2.2.2.1) (hroom : (st.map (fun v : Vv => if v.1 = 1 then 2 else 1)).sum ≤ 8) (hd : decode μ.1 pc = .ok (.invokestatic idx, 3))
    (h : ∀ c1, Sm (kk c1) post (WP G Γ μ r (pc + 3) ls st (sz, sl, tt td, cv c1))) [Decidable (∀ i : Nat, i < n.toNat → 0 ≤ c z0'.toNat (sp.toNat + i) ∧ lo ≤ (tt td (c z0'.toNat (sp.toNat + i)).toNat).1 ∧ (tt td (c z0'.toNat (sp.toNat + i)).toNat).1 ≤ hi)] : Sm (gd (((168 ≤ z0' ∧ (tt td z0'.toNat).1 = 50 + q ∧ 168 ≤ z1 ∧ (tt td z1.toNat).1 = 50 + q) ∧ (0 ≤ sp ∧ 0 ≤ dp ∧ 0 ≤ n) ∧ sp + n ≤ ((tt td z0'.toNat).2 : Int) ∧ dp + n ≤ ((tt td z1.toNat).2 : Int)) ∧ (∀ i : Nat, i < n.toNat → 0 ≤ c z0'.toNat (sp.toNat + i) ∧ lo ≤ (tt td (c z0'.toNat (sp.toNat + i)).toNat).1 ∧ (tt td (c z0'.toNat (sp.toNat + i)).toNat).1 ≤ hi)) (bd (cpy c z0'.toNat z1.toNat sp.toNat dp.toNat n.toNat) kk)) post (WP G Γ μ r pc ls ((0, n) :: (0, dp) :: (2, z1) :: (0, sp) :: (2, z0') :: st) (sz, sl, tt td, cv c)) :=
  Sm.gd (fun hR hw => by
    obtain ⟨b1, b2, b3⟩ := big_nat hR.1.1.1
    obtain ⟨d1, d2, d3⟩ := big_nat hR.1.1.2.2.1
    refine w_copy hM hq (Or.inr ⟨⟨E, hE⟩, fun i hi => ?_⟩) (dyn_t hR.1.1.2.1) (dyn_t hR.1.1.2.2.2) (dyn_z b2) (dyn_z d2) d3 hR.1.2 hdd hroom hd ?_
    · rw [cv_dyn b1]
      obtain ⟨q1, q2, q3⟩ := hR.2 i hi
      obtain ⟨C, e1, e2⟩ := hca _ q2 q3
      exact Or.inr ⟨_, _, _, C, E, dyn_z q1, dyn_t rfl, e1, hE, e2⟩
    · rw [cv_cpy (sref_big b1) (sref_big d1)]
      exact hw) (Sm.bd (h _))
/-- Object's own maker, of any receiver -/
theorem s_objInitD {idx : Nat} {z : Int} (h1 : Cond.methodLink μ.2.1 idx Lib.objectInit ∈ lw_all) (h2 : Cond.instanceMethod Lib.objectInit ∈ lw_all) (h3 : Cond.code Lib.objectInit ⟨#[0xb1]⟩ 1 none ∈ lw_all) (hdd : 1 ≤ μ.2.2.2.2.1) (hroom : (st.map (fun v : Vv => if v.1 = 1 then 2 else 1)).sum ≤ 8) (hd : decode μ.1 pc = .ok (.invokespecial idx, 3)) (h : Sm k post (WP G Γ μ r (pc + 3) ls st w)) : Sm (gd (0 ≤ z) k) post (WP G Γ μ r pc ls ((2, z) :: st) w) := by
  intro x0 hx0 hp
  by_cases hR : 0 ≤ z
  · rw [gd_pos hR] at hx0
    exact s_objInit h1 h2 h3 (dyn_z hR) hdd hroom hd h x0 hx0 hp
  · rw [gd_neg hR] at hx0; cases hx0
/-- a sense's own fields, set by the maker of the kind above -/
theorem s_putSM {idx i : Nat} {z v : Int} {kk : CC → Option X} (hf : ∀ ci, 6 ≤ ci → ci ≤ 10 → FP μ.2.1 idx ci i μ.2.2.2.2.2 ∧ tgF (fty ci i) = 0 ∧ (fty ci i ≠ .boolean ∧ fty ci i ≠ .byte ∧ fty ci i ≠ .char ∧ fty ci i ≠ .short)) (hd : decode μ.1 pc = .ok (.putfield idx, 3)) (h : ∀ c1, Sm (kk c1) post (WP G Γ μ r (pc + 3) ls st (sz, sl, tt td, cv c1))) : Sm (gd (168 ≤ z ∧ 6 ≤ (tt td z.toNat).1 ∧ (tt td z.toNat).1 ≤ 10) (bd (up2 c z.toNat i v) kk)) post (WP G Γ μ r pc ls ((0, v) :: (2, z) :: st) (sz, sl, tt td, cv c)) := by
  intro x0 hx0 hp
  by_cases hR : 168 ≤ z ∧ 6 ≤ (tt td z.toNat).1 ∧ (tt td z.toNat).1 ≤ 10
  · rw [gd_pos hR] at hx0
    obtain ⟨b1, b2, b3⟩ := big_nat hR.1
    obtain ⟨f1, f2, f3⟩ := hf _ hR.2.1 hR.2.2
    exact s_put f1 (dyn_t rfl) (dyn_z b2) b3 (cv_up (sref_big b1 _)) f2 f3 hd (h _) x0 hx0 hp
  · rw [gd_neg hR] at hx0; cases hx0
/-- a put into a nest mate's object that is not one of the fixed ones -/
theorem s_putDNM {idx ci i tg : Nat} {z v : Int} {kk : CC → Option X} (hf : FLN μ.2.1 idx ci i) (htg : tgF (fty ci i) = tg) (hr : fty ci i ≠ .boolean ∧ fty ci i ≠ .byte ∧ fty ci i ≠ .char ∧ fty ci i ≠ .short) (hd : decode μ.1 pc = .ok (.putfield idx, 3)) (h : ∀ c1, Sm (kk c1) post (WP G Γ μ r (pc + 3) ls st (sz, sl, tt td, cv c1))) : Sm (gd (168 ≤ z ∧ (tt td z.toNat).1 = ci) (bd (up2 c z.toNat i v) kk)) post (WP G Γ μ r pc ls ((tg, v) :: (2, z) :: st) (sz, sl, tt td, cv c)) :=
  Sm.gd (fun hR hw => by
    obtain ⟨b1, b2, b3⟩ := big_nat hR.1
    exact w_putN hf (dyn_t hR.2) (dyn_z b2) b3 (cv_up (sref_big b1 _)) htg (fun q => okv_rok (by rw [htg]; exact q) hr) hd hw) (Sm.bd (h _))
end Over3
