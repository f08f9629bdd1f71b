/-! LAYER 1p: the rules over the fixed layout (tt, cv) -/
theorem sref_big {a : Nat} (h : kK ≤ a) (i : Nat) : sref a i = none := by
  have h : 168 ≤ a := h
  unfold sref
  rw [if_neg (by omega), if_neg (by omega), if_neg (by omega), if_neg (by omega), if_neg (by omega), if_neg (by omega)]
theorem tt_upT {td : TT} {a : Nat} {p : Nat × Nat} (h : kK ≤ a) : upT (tt td) a p = tt (upT td a p) := by
  have h : 168 ≤ a := h
  funext b
  unfold upT tt
  by_cases hb : b = a
  · rw [if_pos hb, if_neg (by show ¬ (43 ≤ b ∧ b < 168); omega)]
    exact (if_pos hb).symm
  · rw [if_neg hb]
    congr 1
    exact (if_neg hb).symm
theorem cv_zc {c : CC} {a code : Nat} (h : kK ≤ a) : zc (cv c) a code = cv (zc c a code) := by
  funext b i
  by_cases hb : b = a
  · subst hb
    simp only [zc, if_true, cv, sref_big h]
  · simp only [zc, if_neg hb, cv]
theorem cv_dyn {c : CC} {a : Nat} (h : kK ≤ a) (i : Nat) : cv c a i = c a i := by
  unfold cv
  rw [sref_big h]
theorem tt_dyn {td : TT} {a : Nat} (h : kK ≤ a) : tt td a = td a := by
  have h : 168 ≤ a := h
  unfold tt
  rw [if_neg (by show ¬ (43 ≤ a ∧ a < 168); omega)]
section OverR
variable {G : GG} {Γ : Cx} {μ μy : MI} {r : Vv × Wd} {pc : Nat} {ls ls' : List (Option Vv)} {st st' : List Vv} {sz sl : Nat} {td : TT} {c : CC} {w : Wd} {x y : MethodName}
variable {X B : Type} {k k1 k2 : Option X} {post : X → Prop}
theorem s_newM {ci N idx : Nat} {C : String} {T : u_T} {kk : TT → CC → Option X} (hcf : CF ci C T N) (hl1 : Cond.classLink μ.2.1 idx C ∈ lw_all) (hl2 : Cond.instantiable C N ∈ lw_all) (hl3 : Cond.initialized C ∈ lw_all) (hd : decode μ.1 pc = .ok (.new idx, 3))
    (h : ∀ td1 c1, Sm (kk td1 c1) post (WP G Γ μ r (pc + 3) ls ((2, (sz : Int)) :: st) (sz + 1, sl + N, tt td1, cv c1))) : Sm (gd (kK ≤ sz) (bd (upT td sz (ci, N)) fun td1 => bd (zc c sz ci) fun c1 => kk td1 c1)) post (WP G Γ μ r pc ls st (sz, sl, tt td, cv c)) := by
  intro x0 hx0 hp
  by_cases hR : kK ≤ sz
  · rw [gd_pos hR] at hx0
    refine w_new hcf hl1 hl2 hl3 hd ?_
    rw [tt_upT hR, cv_zc hR]
    exact h _ _ x0 hx0 hp
  · rw [gd_neg hR] at hx0; cases hx0
theorem s_newaM {n : Int} {at0 : ArrayType} {q : Nat} {kk : TT → CC → Option X} (hq : q < 10) (hty : newarray.typeOf at0 = aty q) (hw : Cond.arrayClass (newarray.typeOf at0) ∈ lw_all) (hb8 : componentBytes (newarray.typeOf at0) ≤ 8) (hRA : ∀ U cA, va_RA U cA (aty q) → U.vm.findClass ("[" ++ (aty q).toString) = some cA) (hd : decode μ.1 pc = .ok (.newarray at0, 2))
    (h : ∀ td1 c1, Sm (kk td1 c1) post (WP G Γ μ r (pc + 2) ls ((2, (sz : Int)) :: st) (sz + 1, sl + n.toNat, tt td1, cv c1))) : Sm (gd (kK ≤ sz ∧ 0 ≤ n ∧ n ≤ 100000) (bd (upT td sz (50 + q, n.toNat)) fun td1 => bd (zc c sz (50 + q)) fun c1 => kk td1 c1)) post (WP G Γ μ r pc ls ((0, n) :: st) (sz, sl, tt td, cv c)) := by
  intro x0 hx0 hp
  by_cases hR : kK ≤ sz ∧ 0 ≤ n ∧ n ≤ 100000
  · rw [gd_pos hR] at hx0
    refine w_newa hR.2 hq hty hw hb8 hRA hd ?_
    rw [tt_upT hR.1, cv_zc hR.1]
    exact h _ _ x0 hx0 hp
  · rw [gd_neg hR] at hx0; cases hx0
theorem s_anewM {n : Int} {idx q : Nat} {C : String} {kk : TT → CC → Option X} (hq : q < 10) (hty : aty q = .object C) (hl1 : Cond.classLink μ.2.1 idx C ∈ lw_all) (hao : PP (fun U => (Cond.arrayOver (.object C)).before #[] U = true)) (hd : decode μ.1 pc = .ok (.anewarray idx, 3))
    (h : ∀ td1 c1, Sm (kk td1 c1) post (WP G Γ μ r (pc + 3) ls ((2, (sz : Int)) :: st) (sz + 1, sl + n.toNat, tt td1, cv c1))) : Sm (gd (kK ≤ sz ∧ 0 ≤ n ∧ n ≤ 100000) (bd (upT td sz (50 + q, n.toNat)) fun td1 => bd (zc c sz (50 + q)) fun c1 => kk td1 c1)) post (WP G Γ μ r pc ls ((0, n) :: st) (sz, sl, tt td, cv c)) := by
  intro x0 hx0 hp
  by_cases hR : kK ≤ sz ∧ 0 ≤ n ∧ n ≤ 100000
  · rw [gd_pos hR] at hx0
    refine w_anew hR.2 hq hty hl1 hao hd ?_
    rw [tt_upT hR.1, cv_zc hR.1]
    exact h _ _ x0 hx0 hp
  · rw [gd_neg hR] at hx0; cases hx0
theorem s_anewAM {n : Int} {idx q : Nat} {ty : FieldType} {kk : TT → CC → Option X} (hq : q < 10) (hty : aty q = .array ty) (hl1 : Cond.classLink μ.2.1 idx (FieldType.array ty).toString ∈ lw_all) (hao : PP (fun U => (Cond.arrayOver (.array ty)).before #[] U = true)) (hd : decode μ.1 pc = .ok (.anewarray idx, 3))
    (h : ∀ td1 c1, Sm (kk td1 c1) post (WP G Γ μ r (pc + 3) ls ((2, (sz : Int)) :: st) (sz + 1, sl + n.toNat, tt td1, cv c1))) : Sm (gd (kK ≤ sz ∧ 0 ≤ n ∧ n ≤ 100000) (bd (upT td sz (50 + q, n.toNat)) fun td1 => bd (zc c sz (50 + q)) fun c1 => kk td1 c1)) post (WP G Γ μ r pc ls ((0, n) :: st) (sz, sl, tt td, cv c)) := by
  intro x0 hx0 hp
  by_cases hR : kK ≤ sz ∧ 0 ≤ n ∧ n ≤ 100000
  · rw [gd_pos hR] at hx0
    refine w_anewA hR.2 hq hty hl1 hao hd ?_
    rw [tt_upT hR.1, cv_zc hR.1]
    exact h _ _ x0 hx0 hp
  · rw [gd_neg hR] at hx0; cases hx0
theorem big_nat {z : Int} (h : 168 ≤ z) : kK ≤ z.toNat ∧ 0 ≤ z ∧ kO ≤ z.toNat := ⟨by show 168 ≤ z.toNat; omega, by omega, by show 43 ≤ z.toNat; omega⟩
/-- a store into an int array that is not one of the fixed ones -/
theorem s_iastDM {z i v : Int} {kk : CC → Option X} (hd : decode μ.1 pc = .ok (.iastore, 1)) (h : ∀ c1, Sm (kk c1) post (WP G Γ μ r (pc + 1) ls st (sz, sl, tt td, cv c1))) : Sm (gd (168 ≤ z ∧ (tt td z.toNat).1 = 50 ∧ 0 ≤ i ∧ i < ((tt td z.toNat).2 : Int)) (bd (up2 c z.toNat i.toNat v) kk)) post (WP G Γ μ r pc ls ((0, v) :: (0, i) :: (2, z) :: st) (sz, sl, tt td, cv c)) := by
  intro x0 hx0 hp
  by_cases hR : 168 ≤ z ∧ (tt td z.toNat).1 = 50 ∧ 0 ≤ i ∧ i < ((tt td z.toNat).2 : Int)
  · rw [gd_pos hR] at hx0
    obtain ⟨b1, b2, b3⟩ := big_nat hR.1
    refine s_iast (dyn_t hR.2.1) (dyn_z b2) b3 (cv_up (sref_big b1 _)) hd (h _) x0 ?_ hp
    rw [gd_pos hR.2.2]
    exact hx0
  · rw [gd_neg hR] at hx0; cases hx0
/-- a put into an object that is not one of the fixed ones -/
theorem s_putDM {idx ci i tg : Nat} {z v : Int} {kk : CC → Option X} (hf : FP μ.2.1 idx ci i μ.2.2.2.2.2) (htg : tgF (fty ci i) = tg) (hr : fty ci i ≠ .boolean ∧ fty ci i ≠ .byte ∧ fty ci i ≠ .char ∧ fty ci i ≠ .short) (hd : decode μ.1 pc = .ok (.putfield idx, 3)) (h : ∀ c1, Sm (kk c1) post (WP G Γ μ r (pc + 3) ls st (sz, sl, tt td, cv c1))) : Sm (gd (168 ≤ z ∧ (tt td z.toNat).1 = ci) (bd (up2 c z.toNat i v) kk)) post (WP G Γ μ r pc ls ((tg, v) :: (2, z) :: st) (sz, sl, tt td, cv c)) := by
  intro x0 hx0 hp
  by_cases hR : 168 ≤ z ∧ (tt td z.toNat).1 = ci
  · rw [gd_pos hR] at hx0
    obtain ⟨b1, b2, b3⟩ := big_nat hR.1
    exact s_put hf (dyn_t hR.2) (dyn_z b2) b3 (cv_up (sref_big b1 _)) htg hr hd (h _) x0 hx0 hp
  · rw [gd_neg hR] at hx0; cases hx0
theorem s_putDZM {idx ci i : Nat} {z v : Int} {kk : CC → Option X} (hf : FP μ.2.1 idx ci i μ.2.2.2.2.2) (htg : fty ci i = .boolean) (hd : decode μ.1 pc = .ok (.putfield idx, 3)) (h : ∀ c1, Sm (kk c1) post (WP G Γ μ r (pc + 3) ls st (sz, sl, tt td, cv c1))) : Sm (gd (168 ≤ z ∧ (tt td z.toNat).1 = ci ∧ 0 ≤ v ∧ v < 2) (bd (up2 c z.toNat i v) kk)) post (WP G Γ μ r pc ls ((0, v) :: (2, z) :: st) (sz, sl, tt td, cv c)) := by
  intro x0 hx0 hp
  by_cases hR : 168 ≤ z ∧ (tt td z.toNat).1 = ci ∧ 0 ≤ v ∧ v < 2
  · rw [gd_pos hR] at hx0
    obtain ⟨b1, b2, b3⟩ := big_nat hR.1
    refine s_putZ hf (dyn_t hR.2.1) (dyn_z b2) b3 (cv_up (sref_big b1 _)) htg hd (h _) x0 ?_ hp
    rw [gd_pos hR.2.2]
    exact hx0
  · rw [gd_neg hR] at hx0; cases hx0
/-- a call by the name of a class above, of whatever kind the receiver is: what the dispatch says -/
theorem s_callU {idx n : Nat} {z : Int} {as : List Vv} {o : Option B} {kk : B → Option X} {rv : B → Vv × Wd} {st2 : List Vv} {st3 : B → List Vv} {w3 : B → Wd} (hst : as.reverse ++ (2, z) :: st = st2) (hn : as.length = n)
    (hV : ∀ b, o = some b → ∃ (a ci N : Nat) (C : String) (y : MethodName) (μy : MI), w.2.2.1 a = (ci, N) ∧ (kCl[ci]?.map (fun q => q.1)) = some C ∧ z = (a : Int) ∧ MU μ.2.1 idx C x y μy n ∧ μy.2.2.1 ≤ 45 ∧ μy.2.2.2.2.1 + 1 ≤ μ.2.2.2.2.1 ∧ Ct G y μy ((2, z) :: as) w (rv b))
    (hroom : (st.map (fun v : Vv => if v.1 = 1 then 2 else 1)).sum ≤ 8) (hrt : ∀ b, (rv b).1.1 ≤ 3) (h3 : ∀ b, rst (rv b).1 st = st3 b ∧ (rv b).2 = w3 b)
    (hd : decode μ.1 pc = .ok (.invokevirtual idx, 3)) (h : ∀ b, Sm (kk b) post (WP G Γ μ r (pc + 3) ls (st3 b) (w3 b))) : Sm (cl o kk) post (WP G Γ μ r pc ls st2 w) := by
  subst hst
  refine Sm.cl (fun b ho => ?_)
  obtain ⟨a, ci, N, C, y, μy, e1, e2, e3, e4, e5, e6, e7⟩ := hV b ho
  exact (h b).map (fun hw => w_callU e4 e5 e6 e1 e2 e3 hn hroom (hrt b) e7 hd (by rw [(h3 b).1, (h3 b).2]; exact hw))
end OverR
