/-! LAYER 1k: Math and links through a superclass -/
theorem lw_U {own : String} {idx : Nat} {C ow : String} {x y : MethodName} {b : ByteArray} {L : Nat} {r : Option FieldType} (h1 : Cond.methodLink own idx x ∈ lw_all) (h2 : Cond.sameMethod x.cls ow x.name x.desc ∈ lw_all) (h3 : Cond.selects C x y ∈ lw_all) (h4 : Cond.instanceMethod y ∈ lw_all) (h5 : Cond.initialized y.cls ∈ lw_all) (h6 : Cond.code y b L r ∈ lw_all) : GoodIn lw_all (va_wsU own idx C ow x y (ws_ y b L r)) := by
  refine lw_app ?_ (lw_meth h6)
  intro w hw
  simp only [List.mem_cons, List.not_mem_nil, or_false] at hw
  rcases hw with e | e | e | e | e
  · rw [e]; exact h1
  · rw [e]; exact h2
  · rw [e]; exact h3
  · rw [e]; exact h4
  · rw [e]; exact h5
theorem lw_O {own : String} {idx : Nat} {C ow : String} {x y : MethodName} {b : ByteArray} {L : Nat} {r : Option FieldType} (h1 : Cond.methodLink own idx x ∈ lw_all) (h2 : Cond.sameMethod x.cls ow x.name x.desc ∈ lw_all) (h0 : Cond.instanceMethod ⟨ow, x.name, x.desc⟩ ∈ lw_all) (h3 : Cond.selects C x y ∈ lw_all) (h4 : Cond.instanceMethod y ∈ lw_all) (h5 : Cond.initialized y.cls ∈ lw_all) (h6 : Cond.code y b L r ∈ lw_all) : GoodIn lw_all (va_wsO own idx C ow x y (ws_ y b L r)) := by
  refine lw_app ?_ (lw_meth h6)
  intro w hw
  simp only [List.mem_cons, List.not_mem_nil, or_false] at hw
  rcases hw with e | e | e | e | e | e
  · rw [e]; exact h1
  · rw [e]; exact h2
  · rw [e]; exact h0
  · rw [e]; exact h3
  · rw [e]; exact h4
  · rw [e]; exact h5
theorem lw_SU {own : String} {idx : Nat} {y : MethodName} {b : ByteArray} {L : Nat} {r : Option FieldType} (h1 : Cond.methodLink own idx y ∈ lw_all) (h2 : Cond.sameMethod y.cls y.cls y.name y.desc ∈ lw_all) (h3 : Cond.superclass own y.cls ∈ lw_all) (h4 : Cond.instanceMethod y ∈ lw_all) (h5 : Cond.initialized y.cls ∈ lw_all) (h6 : Cond.code y b L r ∈ lw_all) : GoodIn lw_all (va_wsSU own idx y (ws_ y b L r)) := by
  refine lw_app ?_ (lw_meth h6)
  intro w hw
  simp only [List.mem_cons, List.not_mem_nil, or_false] at hw
  rcases hw with e | e | e | e | e
  · rw [e]; exact h1
  · rw [e]; exact h2
  · rw [e]; exact h3
  · rw [e]; exact h4
  · rw [e]; exact h5
section Mth
variable {G : GG} {Γ : Cx} {μ : MI} {r : Vv × Wd} {pc : Nat} {ls : List (Option Vv)} {st : List Vv} {w : Wd} {X : Type} {k : Option X} {post : X → Prop} {a b : Int} {idx : Nat}
theorem s_imin (hq : Cond.methodLink μ.2.1 idx ({ cls := "java/lang/Math", name := "min", desc := "(II)I" } : Jvm.MethodName) ∈ lw_all) (hd : decode μ.1 pc = .ok (.invokestatic idx, 3)) (hdd : 1 ≤ μ.2.2.2.2.1) (hroom : (st.map (fun v : Vv => if v.1 = 1 then 2 else 1)).sum ≤ 8) (h : Sm k post (WP G Γ μ r (pc + 3) ls ((0, min a b) :: st) w)) : Sm k post (WP G Γ μ r pc ls ((0, b) :: (0, a) :: st) w) := by
  have em : min a b = (if b < a then b else a) := by split <;> omega
  rw [em] at h
  refine h.map (fun h => ?_)
  obtain ⟨p, l, e, R, s, m, args, below, meth, c, Q, z0, s0⟩ := Γ
  refine ⟨h.1, fun hX h1 h2 hz0 hs0 H locs lsa hH hL hl => ?_⟩
  obtain ⟨hx, hb, hml, hown, hts, hK, hnm, ⟨hR1, hR2, hR3, hR4⟩, -⟩ := id hX
  have ob := okh h2
  have oa := ok2 h2
  have hm3 := h.1.1
  have hm4 := h.1.2
  have hrs := catsum G.2.1 st hroom
  have okr : okv (0, if b < a then b else a) := by
    by_cases hc : b < a
    · rw [if_pos hc]; exact ob
    · rw [if_neg hc]; exact oa
  have kk := h.2 hX h1 (okc okr (okt (okt h2))) hz0 hs0 H locs lsa hH hL hl
  refine va_mmin hx hb (hml.trans hl.1.symm) hown (hts _ hq) (hts _ q481) (hts _ q135) (hts _ q482) (by omega) (by omega) (by omega) (by omega) hd ?_
  have ee : (if i32 b < i32 a then i32 b else i32 a) = i32 (if b < a then b else a) := by
    by_cases hc : b < a
    · rw [if_pos hc, if_pos ((i32_lt ob oa).mpr hc)]
    · rw [if_neg hc, if_neg (fun z => hc ((i32_lt ob oa).mp z))]
  rw [ee]
  exact kk
theorem s_imax (hq : Cond.methodLink μ.2.1 idx ({ cls := "java/lang/Math", name := "max", desc := "(II)I" } : Jvm.MethodName) ∈ lw_all) (hd : decode μ.1 pc = .ok (.invokestatic idx, 3)) (hdd : 1 ≤ μ.2.2.2.2.1) (hroom : (st.map (fun v : Vv => if v.1 = 1 then 2 else 1)).sum ≤ 8) (h : Sm k post (WP G Γ μ r (pc + 3) ls ((0, max a b) :: st) w)) : Sm k post (WP G Γ μ r pc ls ((0, b) :: (0, a) :: st) w) := by
  have em : max a b = (if a < b then b else a) := by split <;> omega
  rw [em] at h
  refine h.map (fun h => ?_)
  obtain ⟨p, l, e, R, s, m, args, below, meth, c, Q, z0, s0⟩ := Γ
  refine ⟨h.1, fun hX h1 h2 hz0 hs0 H locs lsa hH hL hl => ?_⟩
  obtain ⟨hx, hb, hml, hown, hts, hK, hnm, ⟨hR1, hR2, hR3, hR4⟩, -⟩ := id hX
  have ob := okh h2
  have oa := ok2 h2
  have hm3 := h.1.1
  have hm4 := h.1.2
  have hrs := catsum G.2.1 st hroom
  have okr : okv (0, if a < b then b else a) := by
    by_cases hc : a < b
    · rw [if_pos hc]; exact ob
    · rw [if_neg hc]; exact oa
  have kk := h.2 hX h1 (okc okr (okt (okt h2))) hz0 hs0 H locs lsa hH hL hl
  refine va_mmax hx hb (hml.trans hl.1.symm) hown (hts _ hq) (hts _ q976) (hts _ q135) (hts _ q977) (by omega) (by omega) (by omega) (by omega) hd ?_
  have ee : (if i32 a < i32 b then i32 b else i32 a) = i32 (if a < b then b else a) := by
    by_cases hc : a < b
    · rw [if_pos hc, if_pos ((i32_lt oa ob).mpr hc)]
    · rw [if_neg hc, if_neg (fun z => hc ((i32_lt oa ob).mp z))]
  rw [ee]
  exact kk
theorem s_lmin (hq : Cond.methodLink μ.2.1 idx ({ cls := "java/lang/Math", name := "min", desc := "(JJ)J" } : Jvm.MethodName) ∈ lw_all) (hd : decode μ.1 pc = .ok (.invokestatic idx, 3)) (hdd : 1 ≤ μ.2.2.2.2.1) (hroom : (st.map (fun v : Vv => if v.1 = 1 then 2 else 1)).sum ≤ 8) (h : Sm k post (WP G Γ μ r (pc + 3) ls ((1, min a b) :: st) w)) : Sm k post (WP G Γ μ r pc ls ((1, b) :: (1, a) :: st) w) := by
  have em : min a b = (if b < a then b else a) := by split <;> omega
  rw [em] at h
  refine h.map (fun h => ?_)
  obtain ⟨p, l, e, R, s, m, args, below, meth, c, Q, z0, s0⟩ := Γ
  refine ⟨h.1, fun hX h1 h2 hz0 hs0 H locs lsa hH hL hl => ?_⟩
  obtain ⟨hx, hb, hml, hown, hts, hK, hnm, ⟨hR1, hR2, hR3, hR4⟩, -⟩ := id hX
  have ob := okh h2
  have oa := ok2 h2
  have hm3 := h.1.1
  have hm4 := h.1.2
  have hrs := catsum G.2.1 st hroom
  have okr : okv (1, if b < a then b else a) := by
    by_cases hc : b < a
    · rw [if_pos hc]; exact ob
    · rw [if_neg hc]; exact oa
  have kk := h.2 hX h1 (okc okr (okt (okt h2))) hz0 hs0 H locs lsa hH hL hl
  refine va_mmin_long hx hb (hml.trans hl.1.symm) hown (hts _ hq) (hts _ q930) (hts _ q135) (hts _ q931) (by omega) (by omega) (by omega) (by omega) hd ?_
  have ee : (if i64 b < i64 a then i64 b else i64 a) = i64 (if b < a then b else a) := by
    by_cases hc : b < a
    · rw [if_pos hc, if_pos ((i64_lt ob oa).mpr hc)]
    · rw [if_neg hc, if_neg (fun z => hc ((i64_lt ob oa).mp z))]
  rw [ee]
  exact kk
theorem s_lmax (hq : Cond.methodLink μ.2.1 idx ({ cls := "java/lang/Math", name := "max", desc := "(JJ)J" } : Jvm.MethodName) ∈ lw_all) (hd : decode μ.1 pc = .ok (.invokestatic idx, 3)) (hdd : 1 ≤ μ.2.2.2.2.1) (hroom : (st.map (fun v : Vv => if v.1 = 1 then 2 else 1)).sum ≤ 8) (h : Sm k post (WP G Γ μ r (pc + 3) ls ((1, max a b) :: st) w)) : Sm k post (WP G Γ μ r pc ls ((1, b) :: (1, a) :: st) w) := by
  have em : max a b = (if b < a then a else b) := by split <;> omega
  rw [em] at h
  refine h.map (fun h => ?_)
  obtain ⟨p, l, e, R, s, m, args, below, meth, c, Q, z0, s0⟩ := Γ
  refine ⟨h.1, fun hX h1 h2 hz0 hs0 H locs lsa hH hL hl => ?_⟩
  obtain ⟨hx, hb, hml, hown, hts, hK, hnm, ⟨hR1, hR2, hR3, hR4⟩, -⟩ := id hX
  have ob := okh h2
  have oa := ok2 h2
  have hm3 := h.1.1
  have hm4 := h.1.2
  have hrs := catsum G.2.1 st hroom
  have okr : okv (1, if b < a then a else b) := by
    by_cases hc : b < a
    · rw [if_pos hc]; exact oa
    · rw [if_neg hc]; exact ob
  have kk := h.2 hX h1 (okc okr (okt (okt h2))) hz0 hs0 H locs lsa hH hL hl
  refine va_mmax_long hx hb (hml.trans hl.1.symm) hown (hts _ hq) (hts _ q1043) (hts _ q135) (hts _ q1044) (by omega) (by omega) (by omega) (by omega) hd ?_
  have ee : (if i64 b < i64 a then i64 a else i64 b) = i64 (if b < a then a else b) := by
    by_cases hc : b < a
    · rw [if_pos hc, if_pos ((i64_lt ob oa).mpr hc)]
    · rw [if_neg hc, if_neg (fun z => hc ((i64_lt ob oa).mp z))]
  rw [ee]
  exact kk
end Mth
