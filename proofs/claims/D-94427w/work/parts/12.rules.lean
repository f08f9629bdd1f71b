/-! LAYER 1c: plain rules, an opcode each -/
section Rules
variable {G : GG} {Γ : Cx} {μ : MI} {r : Vv × Wd} {pc : Nat} {ls ls' : List (Option Vv)} {st st' : List Vv} {w w' : Wd}
variable {X : Type} {k k1 k2 : Option X} {post : X → Prop}
theorem okc {v : Vv} {st : List Vv} (hv : okv v) (h : ∀ u ∈ st, okv u) : ∀ u ∈ v :: st, okv u := by
  intro u hu
  rcases List.mem_cons.mp hu with rfl | hu
  · exact hv
  · exact h u hu
theorem okt {v : Vv} {st : List Vv} (h : ∀ u ∈ v :: st, okv u) : ∀ u ∈ st, okv u := fun u hu => h u (List.mem_cons_of_mem _ hu)
theorem okh {v : Vv} {st : List Vv} (h : ∀ u ∈ v :: st, okv u) : okv v := h v List.mem_cons_self
theorem ok2 {v v2 : Vv} {st : List Vv} (h : ∀ u ∈ v :: v2 :: st, okv u) : okv v2 := okh (okt h)
theorem tg0 (z : Int) : ((0, z) : Vv).1 ≠ 1 := Nat.zero_ne_one
theorem tg2 (z : Int) : ((2, z) : Vv).1 ≠ 1 := fun h => absurd h (by decide : ¬ (2 : Nat) = 1)
theorem oki {z : Int} (h : inR z) : okv (0, z) := h
theorem okl {z : Int} (h : inL z) : okv (1, z) := h
theorem okr (z : Int) : okv (2, z) := trivial
theorem s_const {n : Nat} {z : Int} (hz : inR z) (f : ∀ (p : Program) (l : Launch) (e : Env) (R : Room) (s : State) (m : MethodId) (args : Array Value) (below : List Frame) (meth : Method) (c : Code) (Q : State → Prop) (cells slots : Nat) (H : Heap) (locs : List Loc) (lsa : Array Slot) (rest : List Value), p.tables.exec = Jvm.exec → c.code = μ.1 → W p l e R s m args below meth c H locs cells slots Q (F0 m (pc + n) lsa (.int (i32 z) :: rest)) → W p l e R s m args below meth c H locs cells slots Q (F0 m pc lsa rest))
    (h : Sm k post (WP G Γ μ r (pc + n) ls ((0, z) :: st) w)) : Sm k post (WP G Γ μ r pc ls st w) :=
  h.map (WP.pure (fun h2 _ => okc (oki hz) h2) (fun p l e R s m args below meth c Q cells slots H locs lsa hx hb _ _ _ _ kk => f p l e R s m args below meth c Q cells slots H locs lsa _ hx hb kk))
theorem s_iconst {z : Int} (hd : decode μ.1 pc = .ok (.iconst z, 1)) (h : Sm k post (WP G Γ μ r (pc + 1) ls ((0, z) :: st) w)) (hz : inR z := by decide) : Sm k post (WP G Γ μ r pc ls st w) :=
  s_const hz (fun p l e R s m args below meth c Q cells slots H locs lsa rest hx hb kk => lv_iconst hx hb hd rfl kk) h
theorem s_bipush {z : Int} (hd : decode μ.1 pc = .ok (.bipush z, 2)) (h : Sm k post (WP G Γ μ r (pc + 2) ls ((0, z) :: st) w)) (hz : inR z := by decide) (he : (Int8.ofInt z).toInt32 = i32 z := by decide) : Sm k post (WP G Γ μ r pc ls st w) :=
  s_const hz (fun p l e R s m args below meth c Q cells slots H locs lsa rest hx hb kk => lv_bipush hx hb hd he kk) h
theorem s_sipush {z : Int} (hd : decode μ.1 pc = .ok (.sipush z, 3)) (h : Sm k post (WP G Γ μ r (pc + 3) ls ((0, z) :: st) w)) (hz : inR z := by decide) (he : (Int16.ofInt z).toInt32 = i32 z := by decide) : Sm k post (WP G Γ μ r pc ls st w) :=
  s_const hz (fun p l e R s m args below meth c Q cells slots H locs lsa rest hx hb kk => lv_sipush hx hb hd he kk) h
theorem s_ldc {z : Int} {index : Nat} (hq : Cond.constant μ.2.1 index (i32 z) ∈ lw_all) (hd : decode μ.1 pc = .ok (.ldc index, 2)) (h : Sm k post (WP G Γ μ r (pc + 2) ls ((0, z) :: st) w)) (hz : inR z := by decide) : Sm k post (WP G Γ μ r pc ls st w) :=
  h.map (WP.pure (fun h2 _ => okc (oki hz) h2) (fun p l e R s m args below meth c Q cells slots H locs lsa hx hb _ _ hown hts kk => lv_ldc hx hb hown (hts _ hq) hd kk))
theorem s_ldcw {z : Int} {index : Nat} (hq : Cond.constant μ.2.1 index (i32 z) ∈ lw_all) (hd : decode μ.1 pc = .ok (.ldc_w index, 3)) (h : Sm k post (WP G Γ μ r (pc + 3) ls ((0, z) :: st) w)) (hz : inR z := by decide) : Sm k post (WP G Γ μ r pc ls st w) :=
  h.map (WP.pure (fun h2 _ => okc (oki hz) h2) (fun p l e R s m args below meth c Q cells slots H locs lsa hx hb _ _ hown hts kk => lv_ldcw hx hb hown (hts _ hq) hd kk))
theorem s_ldc2 {z : Int} {index : Nat} (hq : Cond.constantLong μ.2.1 index (i64 z) ∈ lw_all) (hd : decode μ.1 pc = .ok (.ldc2_w index, 3)) (h : Sm k post (WP G Γ μ r (pc + 3) ls ((1, z) :: st) w)) (hz : inL z := by decide) : Sm k post (WP G Γ μ r pc ls st w) :=
  h.map (WP.pure (fun h2 _ => okc (okl hz) h2) (fun p l e R s m args below meth c Q cells slots H locs lsa hx hb _ _ hown hts kk => lv_ldc2 hx hb hown (hts _ hq) hd kk))
theorem s_lconst0 (hd : decode μ.1 pc = .ok (.lconst 0, 1)) (h : Sm k post (WP G Γ μ r (pc + 1) ls ((1, 0) :: st) w)) : Sm k post (WP G Γ μ r pc ls st w) :=
  h.map (WP.pure (fun h2 _ => okc (okl (show inL 0 by decide)) h2) (fun p l e R s m args below meth c Q cells slots H locs lsa hx hb _ _ _ _ kk => lv_lconst hx hb hd rfl kk))
theorem s_lconst1 (hd : decode μ.1 pc = .ok (.lconst 1, 1)) (h : Sm k post (WP G Γ μ r (pc + 1) ls ((1, 1) :: st) w)) : Sm k post (WP G Γ μ r pc ls st w) :=
  h.map (WP.pure (fun h2 _ => okc (okl (show inL 1 by decide)) h2) (fun p l e R s m args below meth c Q cells slots H locs lsa hx hb _ _ _ _ kk => lv_lconst hx hb hd rfl kk))
theorem s_null (hd : decode μ.1 pc = .ok (.aconst_null, 1)) (h : Sm k post (WP G Γ μ r (pc + 1) ls ((2, -1) :: st) w)) : Sm k post (WP G Γ μ r pc ls st w) :=
  h.map (WP.pure (fun h2 _ => okc (okr (-1)) h2) (fun p l e R s m args below meth c Q cells slots H locs lsa hx hb _ _ _ _ kk => lv_null hx hb hd kk))
theorem s_iload_n {i : Fin 4} {z : Int} (hd : decode μ.1 pc = .ok (.iload_n i, 1)) (hl : ls[(i : Nat)]? = some (some (0, z))) (h : Sm k post (WP G Γ μ r (pc + 1) ls ((0, z) :: st) w)) : Sm k post (WP G Γ μ r pc ls st w) :=
  h.map (WP.pure (fun h2 h1 => okc (h1 _ _ hl) h2) (fun p l e R s m args below meth c Q cells slots H locs lsa hx hb _ hlv _ _ kk => lv_iload_n hx hb hd rfl (hlv.2.2 _ _ hl) kk))
theorem s_iload {i : Nat} {z : Int} (hd : decode μ.1 pc = .ok (.iload i, 2)) (hl : ls[i]? = some (some (0, z))) (h : Sm k post (WP G Γ μ r (pc + 2) ls ((0, z) :: st) w)) : Sm k post (WP G Γ μ r pc ls st w) :=
  h.map (WP.pure (fun h2 h1 => okc (h1 _ _ hl) h2) (fun p l e R s m args below meth c Q cells slots H locs lsa hx hb _ hlv _ _ kk => lv_iload hx hb hd (hlv.2.2 _ _ hl) kk))
theorem s_lload_n {i : Fin 4} {z : Int} (hd : decode μ.1 pc = .ok (.lload_n i, 1)) (hl : ls[(i : Nat)]? = some (some (1, z))) (h : Sm k post (WP G Γ μ r (pc + 1) ls ((1, z) :: st) w)) : Sm k post (WP G Γ μ r pc ls st w) :=
  h.map (WP.pure (fun h2 h1 => okc (h1 _ _ hl) h2) (fun p l e R s m args below meth c Q cells slots H locs lsa hx hb _ hlv _ _ kk => lv_lload_n hx hb hd rfl (hlv.2.2 _ _ hl) kk))
theorem s_lload {i : Nat} {z : Int} (hd : decode μ.1 pc = .ok (.lload i, 2)) (hl : ls[i]? = some (some (1, z))) (h : Sm k post (WP G Γ μ r (pc + 2) ls ((1, z) :: st) w)) : Sm k post (WP G Γ μ r pc ls st w) :=
  h.map (WP.pure (fun h2 h1 => okc (h1 _ _ hl) h2) (fun p l e R s m args below meth c Q cells slots H locs lsa hx hb _ hlv _ _ kk => lv_lload hx hb hd (hlv.2.2 _ _ hl) kk))
theorem rfv_cases (ad : Nat → Nat) (z : Int) : rfv ad z = .null ∨ ∃ x, rfv ad z = .ref x := by
  unfold rfv
  split
  · exact Or.inl rfl
  · exact Or.inr ⟨_, rfl⟩
theorem s_aload_n {i : Fin 4} {z : Int} (hd : decode μ.1 pc = .ok (.aload_n i, 1)) (hl : ls[(i : Nat)]? = some (some (2, z))) (h : Sm k post (WP G Γ μ r (pc + 1) ls ((2, z) :: st) w)) : Sm k post (WP G Γ μ r pc ls st w) :=
  h.map (WP.pure (fun h2 h1 => okc (h1 _ _ hl) h2) (fun p l e R s m args below meth c Q cells slots H locs lsa hx hb _ hlv _ _ kk => by
    have hv := hlv.2.2 _ _ hl
    have kk : W p l e R s m args below meth c H locs cells slots Q (F0 m (pc + 1) lsa (rfv G.2.1 z :: st.map (dv G.2.1))) := kk
    have hv : lsa[(i : Nat)]? = some (.val (rfv G.2.1 z)) := hv
    rcases rfv_cases G.2.1 z with q | ⟨x, q⟩
    · rw [q] at hv kk; exact lv_aload_nN hx hb hd rfl hv kk
    · rw [q] at hv kk; exact lv_aload_n hx hb hd rfl hv kk))
theorem s_aload {i : Nat} {z : Int} (hd : decode μ.1 pc = .ok (.aload i, 2)) (hl : ls[i]? = some (some (2, z))) (h : Sm k post (WP G Γ μ r (pc + 2) ls ((2, z) :: st) w)) : Sm k post (WP G Γ μ r pc ls st w) :=
  h.map (WP.pure (fun h2 h1 => okc (h1 _ _ hl) h2) (fun p l e R s m args below meth c Q cells slots H locs lsa hx hb _ hlv _ _ kk => by
    have hv := hlv.2.2 _ _ hl
    have kk : W p l e R s m args below meth c H locs cells slots Q (F0 m (pc + 2) lsa (rfv G.2.1 z :: st.map (dv G.2.1))) := kk
    have hv : lsa[i]? = some (.val (rfv G.2.1 z)) := hv
    rcases rfv_cases G.2.1 z with q | ⟨x, q⟩
    · rw [q] at hv kk; exact lv_aloadN hx hb hd hv kk
    · rw [q] at hv kk; exact lv_aload hx hb hd hv kk))
/-- stores: the function's body names the value -/
theorem WP.store {pc' i : Nat} {v : Vv} (hst : ∀ u ∈ v :: st, okv u → True) (hls : stoL ls i v = ls')
    (f : ∀ (p : Program) (l : Launch) (e : Env) (R : Room) (s : State) (m : MethodId) (args : Array Value) (below : List Frame) (meth : Method) (c : Code) (Q : State → Prop) (cells slots : Nat) (H : Heap) (locs : List Loc) (lsa : Array Slot), p.tables.exec = Jvm.exec → c.code = μ.1 → lvOK G.2.1 lsa μ.2.2.1 ls →
      (∀ lsa' : Array Slot, lvOK G.2.1 lsa' μ.2.2.1 (stoL ls i v) → W p l e R s m args below meth c H locs cells slots Q (F0 m pc' lsa' (st.map (dv G.2.1)))) → W p l e R s m args below meth c H locs cells slots Q (F0 m pc lsa (dv G.2.1 v :: st.map (dv G.2.1))))
    (h : WP G Γ μ r pc' ls' st w) : WP G Γ μ r pc ls (v :: st) w := by
  subst hls
  obtain ⟨p, l, e, R, s, m, args, below, meth, c, Q, z0, s0⟩ := Γ
  refine ⟨h.1, fun hC h1 h2 hz hs H locs lsa hH hL hl => ?_⟩
  exact f p l e R s m args below meth c Q _ _ H locs lsa hC.1 hC.2.1 hl (fun lsa' hl' => h.2 hC (sto_ok h1 (okh h2)) (okt h2) hz hs H locs lsa' hH hL hl')
theorem s_istore {i : Nat} {z : Int} {kk : Int → Option X} {lf : Int → List (Option Vv)} (hd : decode μ.1 pc = .ok (.istore i, 2)) (hls : ∀ x, stoL ls i (0, x) = lf x) (hi : i < μ.2.2.1) (h : ∀ x, Sm (kk x) post (WP G Γ μ r (pc + 2) (lf x) st w)) : Sm (bd z kk) post (WP G Γ μ r pc ls ((0, z) :: st) w) :=
  Sm.bd ((h z).map (WP.store (fun _ _ _ => trivial) (hls z) (fun p l e R s m args below meth c Q cells slots H locs lsa hx hb hl kk => lv_istore hx hb hd hl.has hi rfl (fun ls' h' => kk ls' (lvOK.sto1 (v := (0, z)) (tg0 z) h')))))
theorem s_istore_n {i : Fin 4} {z : Int} {kk : Int → Option X} {lf : Int → List (Option Vv)} (hd : decode μ.1 pc = .ok (.istore_n i, 1)) (hls : ∀ x, stoL ls (i : Nat) (0, x) = lf x) (hi : (i : Nat) < μ.2.2.1) (h : ∀ x, Sm (kk x) post (WP G Γ μ r (pc + 1) (lf x) st w)) : Sm (bd z kk) post (WP G Γ μ r pc ls ((0, z) :: st) w) :=
  Sm.bd ((h z).map (WP.store (fun _ _ _ => trivial) (hls z) (fun p l e R s m args below meth c Q cells slots H locs lsa hx hb hl kk => lv_istore_n hx hb hd rfl hl.has hi rfl (fun ls' h' => kk ls' (lvOK.sto1 (v := (0, z)) (tg0 z) h')))))
theorem s_lstore {i : Nat} {z : Int} {kk : Int → Option X} {lf : Int → List (Option Vv)} (hd : decode μ.1 pc = .ok (.lstore i, 2)) (hls : ∀ x, stoL ls i (1, x) = lf x) (hi : i + 1 < μ.2.2.1) (h : ∀ x, Sm (kk x) post (WP G Γ μ r (pc + 2) (lf x) st w)) : Sm (bd z kk) post (WP G Γ μ r pc ls ((1, z) :: st) w) :=
  Sm.bd ((h z).map (WP.store (fun _ _ _ => trivial) (hls z) (fun p l e R s m args below meth c Q cells slots H locs lsa hx hb hl kk => lv_lstore hx hb hd hl.has hi rfl (fun ls' h' => kk ls' (lvOK.sto2 (v := (1, z)) rfl h')))))
theorem s_lstore_n {i : Fin 4} {z : Int} {kk : Int → Option X} {lf : Int → List (Option Vv)} (hd : decode μ.1 pc = .ok (.lstore_n i, 1)) (hls : ∀ x, stoL ls (i : Nat) (1, x) = lf x) (hi : (i : Nat) + 1 < μ.2.2.1) (h : ∀ x, Sm (kk x) post (WP G Γ μ r (pc + 1) (lf x) st w)) : Sm (bd z kk) post (WP G Γ μ r pc ls ((1, z) :: st) w) :=
  Sm.bd ((h z).map (WP.store (fun _ _ _ => trivial) (hls z) (fun p l e R s m args below meth c Q cells slots H locs lsa hx hb hl kk => lv_lstore_n hx hb hd rfl hl.has hi rfl (fun ls' h' => kk ls' (lvOK.sto2 (v := (1, z)) rfl h')))))
theorem s_astore {i : Nat} {z : Int} {kk : Int → Option X} {lf : Int → List (Option Vv)} (hd : decode μ.1 pc = .ok (.astore i, 2)) (hls : ∀ x, stoL ls i (2, x) = lf x) (hi : i < μ.2.2.1) (h : ∀ x, Sm (kk x) post (WP G Γ μ r (pc + 2) (lf x) st w)) : Sm (bd z kk) post (WP G Γ μ r pc ls ((2, z) :: st) w) :=
  Sm.bd ((h z).map (WP.store (fun _ _ _ => trivial) (hls z) (fun p l e R s m args below meth c Q cells slots H locs lsa hx hb hl kk => by
    have key : ∀ ls' : Array Slot, lv_has ls' μ.2.2.1 ((i, rfv G.2.1 z) :: (lvl G.2.1 0 ls).filter (fun q => !(q.1 == i) && !(q.1 + 1 == i && q.2.category == 2))) → lvOK G.2.1 ls' μ.2.2.1 (stoL ls i (2, z)) := fun ls' h' => lvOK.sto1 (v := (2, z)) (tg2 z) h'
    show W p l e R s m args below meth c H locs cells slots Q (F0 m pc lsa (rfv G.2.1 z :: st.map (dv G.2.1)))
    rcases rfv_cases G.2.1 z with q | ⟨x, q⟩
    · rw [q] at key ⊢; exact lv_astoreN hx hb hd hl.has hi rfl (fun ls' h' => kk ls' (key ls' h'))
    · rw [q] at key ⊢; exact lv_astore hx hb hd hl.has hi rfl (fun ls' h' => kk ls' (key ls' h')))))
theorem s_astore_n {i : Fin 4} {z : Int} {kk : Int → Option X} {lf : Int → List (Option Vv)} (hd : decode μ.1 pc = .ok (.astore_n i, 1)) (hls : ∀ x, stoL ls (i : Nat) (2, x) = lf x) (hi : (i : Nat) < μ.2.2.1) (h : ∀ x, Sm (kk x) post (WP G Γ μ r (pc + 1) (lf x) st w)) : Sm (bd z kk) post (WP G Γ μ r pc ls ((2, z) :: st) w) :=
  Sm.bd ((h z).map (WP.store (fun _ _ _ => trivial) (hls z) (fun p l e R s m args below meth c Q cells slots H locs lsa hx hb hl kk => by
    have key : ∀ ls' : Array Slot, lv_has ls' μ.2.2.1 (((i : Nat), rfv G.2.1 z) :: (lvl G.2.1 0 ls).filter (fun q => !(q.1 == (i : Nat)) && !(q.1 + 1 == (i : Nat) && q.2.category == 2))) → lvOK G.2.1 ls' μ.2.2.1 (stoL ls (i : Nat) (2, z)) := fun ls' h' => lvOK.sto1 (v := (2, z)) (tg2 z) h'
    show W p l e R s m args below meth c H locs cells slots Q (F0 m pc lsa (rfv G.2.1 z :: st.map (dv G.2.1)))
    rcases rfv_cases G.2.1 z with q | ⟨x, q⟩
    · rw [q] at key ⊢; exact lv_astore_nN hx hb hd rfl hl.has hi rfl (fun ls' h' => kk ls' (key ls' h'))
    · rw [q] at key ⊢; exact lv_astore_n hx hb hd rfl hl.has hi rfl (fun ls' h' => kk ls' (key ls' h')))))
theorem s_iinc {i : Nat} {n z : Int} {kk : Int → Option X} {lf : Int → List (Option Vv)} (hd : decode μ.1 pc = .ok (.iinc i n, 3)) (hl0 : ls[i]? = some (some (0, z))) (hls : ∀ x, stoL ls i (0, x) = lf x) (hi : i < μ.2.2.1) (h : ∀ x, Sm (kk x) post (WP G Γ μ r (pc + 3) (lf x) st w)) : Sm (gd (inR (z + n)) (bd (z + n) kk)) post (WP G Γ μ r pc ls st w) := by
  refine Sm.gd (g' := WP G Γ μ r (pc + 3) (lf (z + n)) st w) ?_ (Sm.bd (h (z + n)))
  intro hR hW
  rw [← hls] at hW
  obtain ⟨p, l, e, R, s, m, args, below, meth, c, Q, z0, s0⟩ := Γ
  refine ⟨hW.1, fun hC h1 h2 hz hs H locs lsa hH hL hl => ?_⟩
  have hm := lvl_mem (ad := G.2.1) ls 0 i (0, z) hl0
  rw [Nat.zero_add] at hm
  obtain ⟨q, hq⟩ := List.getElem?_of_mem hm
  exact lv_iinc hC.1 hC.2.1 hd hl.has hq (v := i32 (z + n)) (i32_add z n) hi rfl (fun ls' h' => hW.2 hC (sto_ok h1 hR) h2 hz hs H locs ls' hH hL (lvOK.sto1 (v := (0, z + n)) (tg0 _) h'))
end Rules
