/-! LAYER 1w: the JDK's String, its walks' own rules -/
theorem RfN.cat {v : Value} (h : RfN v) : v.category = 1 := by
  rcases h with rfl | ⟨a, rfl⟩ <;> rfl
theorem preMet {l : Launch} {i n : Int32} {v : Value} {H : Heap} {free : Addr → Prop} (hv : RfN v) (h0 : ¬ i < 0) (hn : i < n) : Met l yJ2_checkIndex (ws_ yJ2_checkIndex cJ2_checkIndex 3 (some .int)) { frames := 0, cells := 0, slots := 0, locals := 0 } (fun a U => a = [Value.int i, .int n, v].toArray ∧ U.heap = H) (fun _ _ o t => o = .returned (some (.int i)) ∧ t.heap = H) 0 0 free := by
  refine Met.ofW (cc := cJ2_checkIndex) (maxL := 3) (ret := some .int) (by decide) rfl ?_
  intro p e s m args below meth c s₁ B hml hv'
  obtain ⟨rfl, hH⟩ := hv'
  rw [lg_entry_eq]
  have hl := lv_entry [.int i, .int n, v] (n := 3) (by rcases hv with rfl | ⟨a, rfl⟩ <;> exact Nat.le_refl _)
  generalize (lg_sl [.int i, .int n, v] ++ List.replicate (3 - (lg_sl [.int i, .int n, v]).length) Slot.unset).toArray = lsa at hl ⊢
  have g0 := hl.2.2 (0, .int i) (by simp [lv_args])
  have g1 := hl.2.2 (1, .int n) (by simp [lv_args, Value.category])
  refine lv_iload_n B.exec B.bytes dJ2_checkIndex_0 rfl g0 ?_
  refine lv_if_lt B.exec B.bytes (tgt := 9) dJ2_checkIndex_1 rfl (fun e => absurd e h0) (fun _ => ?_)
  refine lv_iload_n B.exec B.bytes dJ2_checkIndex_4 rfl g0 ?_
  refine lv_iload_n B.exec B.bytes dJ2_checkIndex_5 rfl g1 ?_
  refine lv_icmp_lt B.exec B.bytes (tgt := 16) dJ2_checkIndex_6 rfl (fun _ => ?_) (fun e => absurd hn e)
  refine lv_iload_n B.exec B.bytes dJ2_checkIndex_16 rfl g0 ?_
  exact W.zret B.exec B.bytes B.returns rfl (fun t ht hW => ⟨rfl, ht.trans hH⟩) (fun q hq => by cases hq) dJ2_checkIndex_17
def c16 (a : Int) : Int := (((i32 a).toUInt32 % 65536).toInt32).toInt
section Jdk
variable {G : GG} {Γ : Cx} {μ μy : MI} {r : Vv × Wd} {pc : Nat} {ls : List (Option Vv)} {st : List Vv} {sz sl : Nat} {td : TT} {c : CC} {w : Wd} {y : MethodName}
variable {X B : Type} {k : Option X} {post : X → Prop}
theorem w_preCheck {i n : Int} (hR : 0 ≤ i ∧ i < n) (hμ : μ.2.1 = "java/lang/String") (hdd : 1 ≤ μ.2.2.2.2.1) (hroom : (st.map (fun v : Vv => if v.1 = 1 then 2 else 1)).sum ≤ 8) (hd1 : decode μ.1 pc = .ok (.getstatic 1053, 3)) (hd2 : decode μ.1 (pc + 3) = .ok (.invokestatic 1059, 3)) (h : WP G Γ μ r (pc + 6) ls ((0, i) :: st) w) : WP G Γ μ r pc ls ((0, n) :: (0, i) :: st) w := by
  obtain ⟨p, l, e, R, s, m, args, below, meth, c, Q, z0, s0⟩ := Γ
  refine ⟨h.1, fun hX h1 h2 hz0 hs0 H locs lsa hH hL hl => ?_⟩
  obtain ⟨hx, hb, hml, hown, hts, hK, hnm, ⟨hR1, hR2, hR3, hR4⟩, -⟩ := id hX
  obtain ⟨v, hv, cf, kf, fi, f, a, cell, g1, g2, g3, g4, g5, g6, g7, g8⟩ := hK.sx.2.2.2.2.2.2.1
  have hin : inR n := okh h2
  have hii : inR i := ok2 h2
  have hm3 := h.1.1
  have hm4 := h.1.2
  show W p l e R s m args below meth c H locs _ _ Q (F0 m pc lsa (.int (i32 n) :: .int (i32 i) :: st.map (dv G.2.1)))
  refine W.gets hx hb hown (hts _ (by rw [hμ]; exact q449)) g1 g2 g3 g4 (oldAt hH g5) (fun e => by rw [e] at g6; cases g6) g7 rfl hd1 ?_
  have run := va_runS (H := H) (locs := locs) (cells := w.1 - z0) (slots := w.2.1 - s0) (e := e) (below := below) (meth := meth) (As := [.int (i32 i), .int (i32 n), v]) (rest := st.map (dv G.2.1)) (g := F0 m (pc + 3) lsa (v :: .int (i32 n) :: .int (i32 i) :: st.map (dv G.2.1)))
    ⟨hx, hb, hml, hown, hts⟩ (preMet (l := l) (i := i32 i) (n := i32 n) (v := v) (H := H) (free := fun q => G.2.2.2.size ≤ q) hv (fun q => by have := (i32_lt hii (show inR 0 by decide)).mp q; omega) ((i32_lt hii hin).mpr hR.2))
    (va_cwS (R := R) (own := μ.2.1) (index := 1059) 3 hts (lw_S (by rw [hμ]; exact q451) q452 q133 q453) rfl rfl rfl (by decide +kernel) ⟨by show 0 + 1 ≤ R.frames; omega, by
      show 8 + (3 + 11) + 0 ≤ R.locals
      omega⟩)
    ⟨fun a U g mk h => ⟨h.1, h.2⟩, fun U hU hW => ⟨rfl, hU⟩⟩ rfl rfl hl.1 rfl (lv_room (catsum G.2.1 st hroom)) hd2 ⟨by omega, by omega⟩
  intro T hT X
  obtain ⟨v', st₀, t, T', L, k0, X', hL', e1, e2, ⟨ho, hH'⟩, hgo⟩ := run T hT X
  cases ho
  obtain ⟨t2, a1, b1⟩ := h.2 hX h1 (okt h2) hz0 hs0 T'.heap (locs ++ L) lsa (by rw [e1, hH']; exact hH) (fun q hq => by
    rcases List.mem_append.mp hq with h | h
    · exact hL q h
    · exact hL' q h) hl T' rfl X'
  exact ⟨t2, hgo t2 a1, b1⟩
theorem s_preCheck {i n : Int} (hμ : μ.2.1 = "java/lang/String") (hdd : 1 ≤ μ.2.2.2.2.1) (hroom : (st.map (fun v : Vv => if v.1 = 1 then 2 else 1)).sum ≤ 8) (hd1 : decode μ.1 pc = .ok (.getstatic 1053, 3)) (hd2 : decode μ.1 (pc + 3) = .ok (.invokestatic 1059, 3)) (h : Sm k post (WP G Γ μ r (pc + 6) ls ((0, i) :: st) w)) : Sm (gd (0 ≤ i ∧ i < n) k) post (WP G Γ μ r pc ls ((0, n) :: (0, i) :: st) w) :=
  h.gd (fun hR hw => w_preCheck hR hμ hdd hroom hd1 hd2 hw)
/-- a call on a word of the reader's -/
theorem w_callVO {idx i n : Nat} {as : List Vv} {r' : Vv × Wd} (hM : MV μ.2.1 idx "java/lang/String" y μy n) (hdd : μy.2.2.2.2.1 + 1 ≤ μ.2.2.2.2.1) (hi : i < 20) (hn : as.length = n) (hroom : (st.map (fun v : Vv => if v.1 = 1 then 2 else 1)).sum ≤ 8) (hrt : r'.1.1 ≤ 3)
    (hC : Ct G y μy ((2, ((3 + i : Nat) : Int)) :: as) w r') (hd : decode μ.1 pc = .ok (.invokevirtual idx, 3)) (h : WP G Γ μ r (pc + 3) ls (rst r'.1 st) r'.2) : WP G Γ μ r pc ls (as.reverse ++ (2, ((3 + i : Nat) : Int)) :: st) w := by
  refine w_callX (d := 3) (a := (Value.ref (G.2.1 (3 + i)) :: as.map (dv G.2.1)).toArray) hC.1 hrt (fun v hv => List.mem_append_right _ (List.mem_cons_of_mem _ hv)) (fun p l e R s m args below meth c H locs lsa cells slots S hK hR1 hR2 hH h2 hls hf => ?_) h
  have hMet := hC.2 l
  rw [stmap]
  obtain ⟨cell, g1, g2, g3, -⟩ := (hK.sx.2.2.2.2.1.1 i hi).1
  exact va_runV (As := as.map (dv G.2.1)) (rest := st.map (dv G.2.1)) S hMet (cwV (R := R) n S.2.2.2.2 hM.1 rfl rfl rfl hM.2.1 ⟨Nat.le_trans hdd hR1, by
      have h45 := hM.2.2
      show 8 + (μy.2.2.1 + 11) + 64 * μy.2.2.2.2.1 ≤ R.locals
      omega⟩)
    ⟨PcA.blind _, ⟨cell, oldAt hH g1, g2, g3⟩, fun U hU hW => ⟨by rw [asmap], asok h2, by rw [hU]; exact hH, hK.warm hW⟩⟩ rfl (by rw [List.length_map]; exact hn) hls rfl (lv_room (catsum G.2.1 st hroom)) hd hf
theorem s_callVO {idx n : Nat} {z : Int} {as : List Vv} {o : Option B} {kk : B → Option X} {rv : B → Vv × Wd} {st2 : List Vv} {st3 : B → List Vv} {w3 : B → Wd} (hM : MV μ.2.1 idx "java/lang/String" y μy n) (hC : ∀ b, o = some b → Ct G y μy ((2, z) :: as) w (rv b)) (hst : as.reverse ++ (2, z) :: st = st2) (hdd : μy.2.2.2.2.1 + 1 ≤ μ.2.2.2.2.1) (hn : as.length = n) (hroom : (st.map (fun v : Vv => if v.1 = 1 then 2 else 1)).sum ≤ 8) (hrt : ∀ b, (rv b).1.1 ≤ 3) (h3 : ∀ b, rst (rv b).1 st = st3 b ∧ (rv b).2 = w3 b)
    (hd : decode μ.1 pc = .ok (.invokevirtual idx, 3)) (h : ∀ b, Sm (kk b) post (WP G Γ μ r (pc + 3) ls (st3 b) (w3 b))) : Sm (gd (3 ≤ z ∧ z ≤ 22) (cl o kk)) post (WP G Γ μ r pc ls st2 w) := by
  subst hst
  intro x0 hx0 hp
  by_cases hR : 3 ≤ z ∧ z ≤ 22
  · rw [gd_pos hR] at hx0
    obtain ⟨i, rfl, hi⟩ := strIx hR
    exact Sm.cl (fun b ho => (h b).map (fun hw => w_callVO hM hdd hi hn hroom (hrt b) (hC b ho) hd (by rw [(h3 b).1, (h3 b).2]; exact hw))) x0 hx0 hp
  · rw [gd_neg hR] at hx0; cases hx0
theorem s_i2c {a : Int} (hd : decode μ.1 pc = .ok (.i2c, 1)) (h : Sm k post (WP G Γ μ r (pc + 1) ls ((0, c16 a) :: st) w)) : Sm k post (WP G Γ μ r pc ls ((0, a) :: st) w) :=
  h.map (WP.pure (fun h2 _ => okc (oki (toInt_inR _)) (okt h2)) (fun p l e R s m args below meth c Q cells slots H locs lsa hx hb _ _ _ _ kk => lv_i2c hx hb hd rfl (by have kk : W p l e R s m args below meth c H locs cells slots Q (F0 m (pc + 1) lsa (.int (i32 (c16 a)) :: st.map (dv G.2.1))) := kk; unfold c16 at kk; rw [i32_of] at kk; exact kk)))
/-- answers of a narrow kind -/
theorem s_cret {x : X} {z : Int} (hd : decode μ.1 pc = .ok (.ireturn, 1)) (hμ : μ.2.2.2.1 = some .char) (hr : post x → r = ((0, z), w)) : Sm (gd (0 ≤ z ∧ z < 65536) (some x)) post (WP G Γ μ r pc ls [(0, z)] w) := by
  intro y hy hp
  by_cases hR : 0 ≤ z ∧ z < 65536
  · rw [gd_pos hR] at hy
    cases hy
    exact w_ret (v := (0, z)) rfl (hr hp) hd (fun q => by rw [hμ]; exact ⟨rfl, hR⟩) (Nat.zero_le _) (fun q => absurd q (show ¬ (0 : Nat) = 3 by decide))
  · rw [gd_neg hR] at hy; cases hy
theorem s_bret {x : X} {z : Int} (hd : decode μ.1 pc = .ok (.ireturn, 1)) (hμ : μ.2.2.2.1 = some .byte) (hr : post x → r = ((0, z), w)) : Sm (gd (-128 ≤ z ∧ z < 128) (some x)) post (WP G Γ μ r pc ls [(0, z)] w) := by
  intro y hy hp
  by_cases hR : -128 ≤ z ∧ z < 128
  · rw [gd_pos hR] at hy
    cases hy
    exact w_ret (v := (0, z)) rfl (hr hp) hd (fun q => by rw [hμ]; exact ⟨rfl, hR⟩) (Nat.zero_le _) (fun q => absurd q (show ¬ (0 : Nat) = 3 by decide))
  · rw [gd_neg hR] at hy; cases hy
end Jdk
