/-! LAYER 1d: arithmetic, branches, switches, the stack -/
def andI (a b : Int) : Int := (i32 a &&& i32 b).toInt
def orI (a b : Int) : Int := (i32 a ||| i32 b).toInt
def xorI (a b : Int) : Int := (i32 a ^^^ i32 b).toInt
def shlI (a b : Int) : Int := (i32 a <<< (i32 b &&& 31)).toInt
def shrI (a b : Int) : Int := (i32 a >>> (i32 b &&& 31)).toInt
def b8 (a : Int) : Int := ((i32 a).toInt8.toInt32).toInt
theorem toInt_inR (x : Int32) : inR x.toInt := ⟨by have := Int32.le_toInt x; simpa using this, by have := Int32.toInt_lt x; simpa using this⟩
theorem i32_bmod (z : Int) : i32 (z.bmod (2 ^ 32)) = i32 z := by
  have h := Int32.toInt_ofInt (n := z)
  rw [show Int32.size = 2 ^ 32 from rfl] at h
  unfold i32
  rw [← h, Int32.ofInt_toInt]
theorem i64_bmod (z : Int) : i64 (z.bmod (2 ^ 64)) = i64 z := by
  have h := Int64.toInt_ofInt (n := z)
  rw [show Int64.size = 2 ^ 64 from rfl] at h
  unfold i64
  rw [← h, Int64.ofInt_toInt]
theorem i32_div {a b : Int} (ha : inR a) (hb : inR b) : i32 a / i32 b = i32 (a.tdiv b) := by
  rw [← i32_of (i32 a / i32 b), Int32.toInt_div, i32_toInt ha, i32_toInt hb]
  exact i32_bmod _
theorem i64_div {a b : Int} (ha : inL a) (hb : inL b) : i64 a / i64 b = i64 (a.tdiv b) := by
  rw [← i64_of (i64 a / i64 b), Int64.toInt_div, i64_toInt ha, i64_toInt hb]
  exact i64_bmod _
theorem i32_rem {a b : Int} (ha : inR a) (hb : inR b) : i32 a - i32 a / i32 b * i32 b = i32 (a.tmod b) := by
  rw [i32_div ha hb, i32_mul, i32_sub]
  congr 1
  have := Int.mul_tdiv_add_tmod a b
  rw [Int.mul_comm] at this
  omega
theorem i64_rem {a b : Int} (ha : inL a) (hb : inL b) : i64 a - i64 a / i64 b * i64 b = i64 (a.tmod b) := by
  rw [i64_div ha hb, i64_mul, i64_sub]
  congr 1
  have := Int.mul_tdiv_add_tmod a b
  rw [Int.mul_comm] at this
  omega
theorem i2l_i {z : Int} (h : inR z) : (i32 z).toInt64 = i64 z := by
  rw [← i64_of (i32 z).toInt64, Int32.toInt_toInt64, i32_toInt h]
theorem l2i_i {z : Int} (h : inL z) : (i64 z).toInt32 = i32 z := by
  rw [← i32_of (i64 z).toInt32, Int64.toInt_toInt32, i64_toInt h]
  exact i32_bmod _
theorem i32_ne0 {z : Int} (h : inR z) (h0 : z ≠ 0) : ¬ i32 z = 0 := fun q => h0 ((i32_eq h (by decide)).mp (q.trans i32_0.symm))
theorem i64_0 : i64 0 = 0 := rfl
theorem i64_ne0 {z : Int} (h : inL z) (h0 : z ≠ 0) : ¬ i64 z = 0 := fun q => h0 ((i64_eq h (by decide)).mp (q.trans i64_0.symm))
section Arith
variable {G : GG} {Γ : Cx} {μ : MI} {r : Vv × Wd} {pc : Nat} {ls ls' : List (Option Vv)} {st st' : List Vv} {w w' : Wd}
variable {X : Type} {k k1 k2 : Option X} {post : X → Prop} {a b : Int}
theorem s_iadd (hd : decode μ.1 pc = .ok (.iadd, 1)) (h : Sm k post (WP G Γ μ r (pc + 1) ls ((0, a + b) :: st) w)) : Sm (gd (inR (a + b)) k) post (WP G Γ μ r pc ls ((0, b) :: (0, a) :: st) w) :=
  h.gd (fun hR => WP.pure (fun h2 _ => okc (oki hR) (okt (okt h2))) (fun p l e R s m args below meth c Q cells slots H locs lsa hx hb _ _ _ _ kk => lv_iadd hx hb hd (by rw [i32_add]; exact kk)))
theorem s_isub (hd : decode μ.1 pc = .ok (.isub, 1)) (h : Sm k post (WP G Γ μ r (pc + 1) ls ((0, a - b) :: st) w)) : Sm (gd (inR (a - b)) k) post (WP G Γ μ r pc ls ((0, b) :: (0, a) :: st) w) :=
  h.gd (fun hR => WP.pure (fun h2 _ => okc (oki hR) (okt (okt h2))) (fun p l e R s m args below meth c Q cells slots H locs lsa hx hb _ _ _ _ kk => lv_isub hx hb hd (by rw [i32_sub]; exact kk)))
theorem s_imul (hd : decode μ.1 pc = .ok (.imul, 1)) (h : Sm k post (WP G Γ μ r (pc + 1) ls ((0, a * b) :: st) w)) : Sm (gd (inR (a * b)) k) post (WP G Γ μ r pc ls ((0, b) :: (0, a) :: st) w) :=
  h.gd (fun hR => WP.pure (fun h2 _ => okc (oki hR) (okt (okt h2))) (fun p l e R s m args below meth c Q cells slots H locs lsa hx hb _ _ _ _ kk => lv_imul hx hb hd (by rw [i32_mul]; exact kk)))
theorem s_ladd (hd : decode μ.1 pc = .ok (.ladd, 1)) (h : Sm k post (WP G Γ μ r (pc + 1) ls ((1, a + b) :: st) w)) : Sm (gd (inL (a + b)) k) post (WP G Γ μ r pc ls ((1, b) :: (1, a) :: st) w) :=
  h.gd (fun hR => WP.pure (fun h2 _ => okc (okl hR) (okt (okt h2))) (fun p l e R s m args below meth c Q cells slots H locs lsa hx hb _ _ _ _ kk => lv_ladd hx hb hd (by rw [i64_add]; exact kk)))
theorem s_lsub (hd : decode μ.1 pc = .ok (.lsub, 1)) (h : Sm k post (WP G Γ μ r (pc + 1) ls ((1, a - b) :: st) w)) : Sm (gd (inL (a - b)) k) post (WP G Γ μ r pc ls ((1, b) :: (1, a) :: st) w) :=
  h.gd (fun hR => WP.pure (fun h2 _ => okc (okl hR) (okt (okt h2))) (fun p l e R s m args below meth c Q cells slots H locs lsa hx hb _ _ _ _ kk => lv_lsub hx hb hd (by rw [i64_sub]; exact kk)))
theorem s_lmul (hd : decode μ.1 pc = .ok (.lmul, 1)) (h : Sm k post (WP G Γ μ r (pc + 1) ls ((1, a * b) :: st) w)) : Sm (gd (inL (a * b)) k) post (WP G Γ μ r pc ls ((1, b) :: (1, a) :: st) w) :=
  h.gd (fun hR => WP.pure (fun h2 _ => okc (okl hR) (okt (okt h2))) (fun p l e R s m args below meth c Q cells slots H locs lsa hx hb _ _ _ _ kk => lv_lmul hx hb hd (by rw [i64_mul]; exact kk)))
theorem s_idiv (hd : decode μ.1 pc = .ok (.idiv, 1)) (h : Sm k post (WP G Γ μ r (pc + 1) ls ((0, a.tdiv b) :: st) w)) : Sm (gd (b ≠ 0 ∧ inR (a.tdiv b)) k) post (WP G Γ μ r pc ls ((0, b) :: (0, a) :: st) w) :=
  h.gd (fun hR => WP.pure (fun h2 _ => okc (oki hR.2) (okt (okt h2))) (fun p l e R s m args below meth c Q cells slots H locs lsa hx hb h2 _ _ _ kk => lv_idiv hx hb hd (i32_ne0 (okh h2) hR.1) (by rw [i32_div (ok2 h2) (okh h2)]; exact kk)))
theorem s_irem (hd : decode μ.1 pc = .ok (.irem, 1)) (h : Sm k post (WP G Γ μ r (pc + 1) ls ((0, a.tmod b) :: st) w)) : Sm (gd (b ≠ 0 ∧ inR (a.tmod b)) k) post (WP G Γ μ r pc ls ((0, b) :: (0, a) :: st) w) :=
  h.gd (fun hR => WP.pure (fun h2 _ => okc (oki hR.2) (okt (okt h2))) (fun p l e R s m args below meth c Q cells slots H locs lsa hx hb h2 _ _ _ kk => lv_irem hx hb hd (i32_ne0 (okh h2) hR.1) (by rw [i32_rem (ok2 h2) (okh h2)]; exact kk)))
theorem s_ldiv (hd : decode μ.1 pc = .ok (.ldiv, 1)) (h : Sm k post (WP G Γ μ r (pc + 1) ls ((1, a.tdiv b) :: st) w)) : Sm (gd (b ≠ 0 ∧ inL (a.tdiv b)) k) post (WP G Γ μ r pc ls ((1, b) :: (1, a) :: st) w) :=
  h.gd (fun hR => WP.pure (fun h2 _ => okc (okl hR.2) (okt (okt h2))) (fun p l e R s m args below meth c Q cells slots H locs lsa hx hb h2 _ _ _ kk => lv_ldiv hx hb hd (i64_ne0 (okh h2) hR.1) (by rw [i64_div (ok2 h2) (okh h2)]; exact kk)))
theorem s_lrem (hd : decode μ.1 pc = .ok (.lrem, 1)) (h : Sm k post (WP G Γ μ r (pc + 1) ls ((1, a.tmod b) :: st) w)) : Sm (gd (b ≠ 0 ∧ inL (a.tmod b)) k) post (WP G Γ μ r pc ls ((1, b) :: (1, a) :: st) w) :=
  h.gd (fun hR => WP.pure (fun h2 _ => okc (okl hR.2) (okt (okt h2))) (fun p l e R s m args below meth c Q cells slots H locs lsa hx hb h2 _ _ _ kk => lv_lrem hx hb hd (i64_ne0 (okh h2) hR.1) (by rw [i64_rem (ok2 h2) (okh h2)]; exact kk)))
theorem s_lneg (hd : decode μ.1 pc = .ok (.lneg, 1)) (h : Sm k post (WP G Γ μ r (pc + 1) ls ((1, -a) :: st) w)) : Sm (gd (inL (-a)) k) post (WP G Γ μ r pc ls ((1, a) :: st) w) :=
  h.gd (fun hR => WP.pure (fun h2 _ => okc (okl hR) (okt h2)) (fun p l e R s m args below meth c Q cells slots H locs lsa hx hb _ _ _ _ kk => lv_lneg hx hb hd (by rw [i64_neg]; exact kk)))
theorem s_iand (hd : decode μ.1 pc = .ok (.iand, 1)) (h : Sm k post (WP G Γ μ r (pc + 1) ls ((0, andI a b) :: st) w)) : Sm k post (WP G Γ μ r pc ls ((0, b) :: (0, a) :: st) w) :=
  h.map (WP.pure (fun h2 _ => okc (oki (toInt_inR _)) (okt (okt h2))) (fun p l e R s m args below meth c Q cells slots H locs lsa hx hb _ _ _ _ kk => lv_iand hx hb hd (by have kk : W p l e R s m args below meth c H locs cells slots Q (F0 m (pc + 1) lsa (.int (i32 (andI a b)) :: st.map (dv G.2.1))) := kk; unfold andI at kk; rw [i32_of] at kk; exact kk)))
theorem s_ior (hd : decode μ.1 pc = .ok (.ior, 1)) (h : Sm k post (WP G Γ μ r (pc + 1) ls ((0, orI a b) :: st) w)) : Sm k post (WP G Γ μ r pc ls ((0, b) :: (0, a) :: st) w) :=
  h.map (WP.pure (fun h2 _ => okc (oki (toInt_inR _)) (okt (okt h2))) (fun p l e R s m args below meth c Q cells slots H locs lsa hx hb _ _ _ _ kk => lv_ior hx hb hd (by have kk : W p l e R s m args below meth c H locs cells slots Q (F0 m (pc + 1) lsa (.int (i32 (orI a b)) :: st.map (dv G.2.1))) := kk; unfold orI at kk; rw [i32_of] at kk; exact kk)))
theorem s_ixor (hd : decode μ.1 pc = .ok (.ixor, 1)) (h : Sm k post (WP G Γ μ r (pc + 1) ls ((0, xorI a b) :: st) w)) : Sm k post (WP G Γ μ r pc ls ((0, b) :: (0, a) :: st) w) :=
  h.map (WP.pure (fun h2 _ => okc (oki (toInt_inR _)) (okt (okt h2))) (fun p l e R s m args below meth c Q cells slots H locs lsa hx hb _ _ _ _ kk => lv_ixor hx hb hd (by have kk : W p l e R s m args below meth c H locs cells slots Q (F0 m (pc + 1) lsa (.int (i32 (xorI a b)) :: st.map (dv G.2.1))) := kk; unfold xorI at kk; rw [i32_of] at kk; exact kk)))
theorem s_ishl (hd : decode μ.1 pc = .ok (.ishl, 1)) (h : Sm k post (WP G Γ μ r (pc + 1) ls ((0, shlI a b) :: st) w)) : Sm k post (WP G Γ μ r pc ls ((0, b) :: (0, a) :: st) w) :=
  h.map (WP.pure (fun h2 _ => okc (oki (toInt_inR _)) (okt (okt h2))) (fun p l e R s m args below meth c Q cells slots H locs lsa hx hb _ _ _ _ kk => lv_ishl hx hb hd (by have kk : W p l e R s m args below meth c H locs cells slots Q (F0 m (pc + 1) lsa (.int (i32 (shlI a b)) :: st.map (dv G.2.1))) := kk; unfold shlI at kk; rw [i32_of] at kk; exact kk)))
theorem s_ishr (hd : decode μ.1 pc = .ok (.ishr, 1)) (h : Sm k post (WP G Γ μ r (pc + 1) ls ((0, shrI a b) :: st) w)) : Sm k post (WP G Γ μ r pc ls ((0, b) :: (0, a) :: st) w) :=
  h.map (WP.pure (fun h2 _ => okc (oki (toInt_inR _)) (okt (okt h2))) (fun p l e R s m args below meth c Q cells slots H locs lsa hx hb _ _ _ _ kk => lv_ishr hx hb hd (by have kk : W p l e R s m args below meth c H locs cells slots Q (F0 m (pc + 1) lsa (.int (i32 (shrI a b)) :: st.map (dv G.2.1))) := kk; unfold shrI at kk; rw [i32_of] at kk; exact kk)))
theorem s_i2b (hd : decode μ.1 pc = .ok (.i2b, 1)) (h : Sm k post (WP G Γ μ r (pc + 1) ls ((0, b8 a) :: st) w)) : Sm k post (WP G Γ μ r pc ls ((0, a) :: st) w) :=
  h.map (WP.pure (fun h2 _ => okc (oki (toInt_inR _)) (okt h2)) (fun p l e R s m args below meth c Q cells slots H locs lsa hx hb _ _ _ _ kk => lv_i2b hx hb hd rfl (by have kk : W p l e R s m args below meth c H locs cells slots Q (F0 m (pc + 1) lsa (.int (i32 (b8 a)) :: st.map (dv G.2.1))) := kk; unfold b8 at kk; rw [i32_of] at kk; exact kk)))
theorem s_i2l (hd : decode μ.1 pc = .ok (.i2l, 1)) (h : Sm k post (WP G Γ μ r (pc + 1) ls ((1, a) :: st) w)) : Sm k post (WP G Γ μ r pc ls ((0, a) :: st) w) :=
  h.map (WP.pure (fun h2 _ => okc (okl (by have q : inR a := okh h2; unfold inL; unfold inR at q; omega)) (okt h2)) (fun p l e R s m args below meth c Q cells slots H locs lsa hx hb h2 _ _ _ kk => lv_i2l hx hb hd (i2l_i (okh h2)) kk))
theorem s_l2i (hd : decode μ.1 pc = .ok (.l2i, 1)) (h : Sm k post (WP G Γ μ r (pc + 1) ls ((0, a) :: st) w)) : Sm (gd (inR a) k) post (WP G Γ μ r pc ls ((1, a) :: st) w) :=
  h.gd (fun hR => WP.pure (fun h2 _ => okc (oki hR) (okt h2)) (fun p l e R s m args below meth c Q cells slots H locs lsa hx hb h2 _ _ _ kk => lv_l2i hx hb hd (l2i_i (okh h2)) kk))
theorem c1i (ad : Nat → Nat) (z : Int) : (dv ad (0, z)).category = 1 := rfl
theorem c1r (ad : Nat → Nat) (z : Int) : (dv ad (2, z)).category = 1 := by rw [dv_cat]; rfl
theorem c1v (ad : Nat → Nat) {v : Vv} (h : v.1 ≠ 1) : (dv ad v).category = 1 := by rw [dv_cat, if_neg h]
theorem s_dup {v : Vv} (hv : v.1 ≠ 1) (hd : decode μ.1 pc = .ok (.dup, 1)) (h : Sm k post (WP G Γ μ r (pc + 1) ls (v :: v :: st) w)) : Sm k post (WP G Γ μ r pc ls (v :: st) w) :=
  h.map (WP.pure (fun h2 _ => okc (okh h2) h2) (fun p l e R s m args below meth c Q cells slots H locs lsa hx hb _ _ _ _ kk => lv_dup hx hb hd (c1v _ hv) kk))
theorem s_pop {v : Vv} (hv : v.1 ≠ 1) (hd : decode μ.1 pc = .ok (.pop, 1)) (h : Sm k post (WP G Γ μ r (pc + 1) ls st w)) : Sm k post (WP G Γ μ r pc ls (v :: st) w) :=
  h.map (WP.pure (fun h2 _ => okt h2) (fun p l e R s m args below meth c Q cells slots H locs lsa hx hb _ _ _ _ kk => lv_pop hx hb hd (c1v _ hv) kk))
theorem s_dup_x1 {v u : Vv} (hv : v.1 ≠ 1) (hu : u.1 ≠ 1) (hd : decode μ.1 pc = .ok (.dup_x1, 1)) (h : Sm k post (WP G Γ μ r (pc + 1) ls (v :: u :: v :: st) w)) : Sm k post (WP G Γ μ r pc ls (v :: u :: st) w) :=
  h.map (WP.pure (fun h2 _ => okc (okh h2) (okc (ok2 h2) (okc (okh h2) (okt (okt h2))))) (fun p l e R s m args below meth c Q cells slots H locs lsa hx hb _ _ _ _ kk => lv_dup_x1 hx hb hd (c1v _ hv) (c1v _ hu) kk))
theorem s_dup2 {v u : Vv} (hv : v.1 ≠ 1) (hu : u.1 ≠ 1) (hd : decode μ.1 pc = .ok (.dup2, 1)) (h : Sm k post (WP G Γ μ r (pc + 1) ls (v :: u :: v :: u :: st) w)) : Sm k post (WP G Γ μ r pc ls (v :: u :: st) w) :=
  h.map (WP.pure (fun h2 _ => okc (okh h2) (okc (ok2 h2) h2)) (fun p l e R s m args below meth c Q cells slots H locs lsa hx hb _ _ _ _ kk => lv_dup2_11 hx hb hd (c1v _ hv) (c1v _ hu) kk))
theorem s_goto {tgt : Nat} {off : Int} (hd : decode μ.1 pc = .ok (.goto off, 3)) (ht : (pc : Int) + off = (tgt : Int)) (h : Sm k post (WP G Γ μ r tgt ls st w)) : Sm k post (WP G Γ μ r pc ls st w) :=
  h.map (WP.pure (fun h2 _ => h2) (fun p l e R s m args below meth c Q cells slots H locs lsa hx hb _ _ _ _ kk => lv_goto hx hb hd ht kk))
theorem nlt_of {a b : Int} (ha : inR a) (hb : inR b) (h : i32 b ≤ i32 a) : ¬ a < b := by rw [i32_le hb ha] at h; omega
theorem lt_of {a b : Int} (ha : inR a) (hb : inR b) (h : ¬ i32 b ≤ i32 a) : a < b := by rw [i32_le hb ha] at h; omega
theorem s_icmp_lt {tgt : Nat} {off : Int} (hd : decode μ.1 pc = .ok (.if_icmp .lt off, 3)) (ht : (pc : Int) + off = (tgt : Int)) (h1 : Sm k1 post (WP G Γ μ r tgt ls st w)) (h2 : Sm k2 post (WP G Γ μ r (pc + 3) ls st w)) : Sm (if a < b then k1 else k2) post (WP G Γ μ r pc ls ((0, b) :: (0, a) :: st) w) :=
  Sm.ite (fun hP => h1.map (WP.pure (fun h2 _ => okt (okt h2)) (fun p l e R s m args below meth c Q cells slots H locs lsa hx hb h2 _ _ _ kk => lv_icmp_lt hx hb hd ht (fun e => kk) (fun e => absurd hP (fun q => e ((i32_lt (ok2 h2) (okh h2)).mpr q)))))) (fun hP => h2.map (WP.pure (fun h2 _ => okt (okt h2)) (fun p l e R s m args below meth c Q cells slots H locs lsa hx hb h2 _ _ _ kk => lv_icmp_lt hx hb hd ht (fun e => absurd ((i32_lt (ok2 h2) (okh h2)).mp e) hP) (fun e => kk))))
theorem s_icmp_ge {tgt : Nat} {off : Int} (hd : decode μ.1 pc = .ok (.if_icmp .ge off, 3)) (ht : (pc : Int) + off = (tgt : Int)) (h1 : Sm k2 post (WP G Γ μ r tgt ls st w)) (h2 : Sm k1 post (WP G Γ μ r (pc + 3) ls st w)) : Sm (if a < b then k1 else k2) post (WP G Γ μ r pc ls ((0, b) :: (0, a) :: st) w) :=
  Sm.ite (fun hP => h2.map (WP.pure (fun h2 _ => okt (okt h2)) (fun p l e R s m args below meth c Q cells slots H locs lsa hx hb h2 _ _ _ kk => lv_icmp_ge hx hb hd ht (fun e => absurd hP (nlt_of (ok2 h2) (okh h2) e)) (fun e => kk)))) (fun hP => h1.map (WP.pure (fun h2 _ => okt (okt h2)) (fun p l e R s m args below meth c Q cells slots H locs lsa hx hb h2 _ _ _ kk => lv_icmp_ge hx hb hd ht (fun e => kk) (fun e => absurd (lt_of (ok2 h2) (okh h2) e) hP))))
theorem s_icmp_gt {tgt : Nat} {off : Int} (hd : decode μ.1 pc = .ok (.if_icmp .gt off, 3)) (ht : (pc : Int) + off = (tgt : Int)) (h1 : Sm k1 post (WP G Γ μ r tgt ls st w)) (h2 : Sm k2 post (WP G Γ μ r (pc + 3) ls st w)) : Sm (if b < a then k1 else k2) post (WP G Γ μ r pc ls ((0, b) :: (0, a) :: st) w) :=
  Sm.ite (fun hP => h1.map (WP.pure (fun h2 _ => okt (okt h2)) (fun p l e R s m args below meth c Q cells slots H locs lsa hx hb h2 _ _ _ kk => lv_icmp_gt hx hb hd ht (fun e => kk) (fun e => absurd hP (fun q => e ((i32_lt (okh h2) (ok2 h2)).mpr q)))))) (fun hP => h2.map (WP.pure (fun h2 _ => okt (okt h2)) (fun p l e R s m args below meth c Q cells slots H locs lsa hx hb h2 _ _ _ kk => lv_icmp_gt hx hb hd ht (fun e => absurd ((i32_lt (okh h2) (ok2 h2)).mp e) hP) (fun e => kk))))
theorem s_icmp_le {tgt : Nat} {off : Int} (hd : decode μ.1 pc = .ok (.if_icmp .le off, 3)) (ht : (pc : Int) + off = (tgt : Int)) (h1 : Sm k2 post (WP G Γ μ r tgt ls st w)) (h2 : Sm k1 post (WP G Γ μ r (pc + 3) ls st w)) : Sm (if b < a then k1 else k2) post (WP G Γ μ r pc ls ((0, b) :: (0, a) :: st) w) :=
  Sm.ite (fun hP => h2.map (WP.pure (fun h2 _ => okt (okt h2)) (fun p l e R s m args below meth c Q cells slots H locs lsa hx hb h2 _ _ _ kk => lv_icmp_le hx hb hd ht (fun e => absurd hP (nlt_of (okh h2) (ok2 h2) e)) (fun e => kk)))) (fun hP => h1.map (WP.pure (fun h2 _ => okt (okt h2)) (fun p l e R s m args below meth c Q cells slots H locs lsa hx hb h2 _ _ _ kk => lv_icmp_le hx hb hd ht (fun e => kk) (fun e => absurd (lt_of (okh h2) (ok2 h2) e) hP))))
theorem s_icmp_eq {tgt : Nat} {off : Int} (hd : decode μ.1 pc = .ok (.if_icmp .eq off, 3)) (ht : (pc : Int) + off = (tgt : Int)) (h1 : Sm k1 post (WP G Γ μ r tgt ls st w)) (h2 : Sm k2 post (WP G Γ μ r (pc + 3) ls st w)) : Sm (if a = b then k1 else k2) post (WP G Γ μ r pc ls ((0, b) :: (0, a) :: st) w) :=
  Sm.ite (fun hP => h1.map (WP.pure (fun h2 _ => okt (okt h2)) (fun p l e R s m args below meth c Q cells slots H locs lsa hx hb h2 _ _ _ kk => lv_icmp_eq hx hb hd ht (fun e => kk) (fun e => absurd hP (fun q => e ((i32_eq (ok2 h2) (okh h2)).mpr q)))))) (fun hP => h2.map (WP.pure (fun h2 _ => okt (okt h2)) (fun p l e R s m args below meth c Q cells slots H locs lsa hx hb h2 _ _ _ kk => lv_icmp_eq hx hb hd ht (fun e => absurd ((i32_eq (ok2 h2) (okh h2)).mp e) hP) (fun e => kk))))
theorem s_icmp_ne {tgt : Nat} {off : Int} (hd : decode μ.1 pc = .ok (.if_icmp .ne off, 3)) (ht : (pc : Int) + off = (tgt : Int)) (h1 : Sm k2 post (WP G Γ μ r tgt ls st w)) (h2 : Sm k1 post (WP G Γ μ r (pc + 3) ls st w)) : Sm (if a = b then k1 else k2) post (WP G Γ μ r pc ls ((0, b) :: (0, a) :: st) w) :=
  Sm.ite (fun hP => h2.map (WP.pure (fun h2 _ => okt (okt h2)) (fun p l e R s m args below meth c Q cells slots H locs lsa hx hb h2 _ _ _ kk => lv_icmp_ne hx hb hd ht (fun e => absurd hP (fun q => e ((i32_eq (ok2 h2) (okh h2)).mpr q))) (fun e => kk)))) (fun hP => h1.map (WP.pure (fun h2 _ => okt (okt h2)) (fun p l e R s m args below meth c Q cells slots H locs lsa hx hb h2 _ _ _ kk => lv_icmp_ne hx hb hd ht (fun e => kk) (fun e => absurd ((i32_eq (ok2 h2) (okh h2)).mp e) hP))))
theorem s_if_lt {tgt : Nat} {off : Int} (hd : decode μ.1 pc = .ok (.ifCond .lt off, 3)) (ht : (pc : Int) + off = (tgt : Int)) (h1 : Sm k1 post (WP G Γ μ r tgt ls st w)) (h2 : Sm k2 post (WP G Γ μ r (pc + 3) ls st w)) : Sm (if a < 0 then k1 else k2) post (WP G Γ μ r pc ls ((0, a) :: st) w) :=
  Sm.ite (fun hP => h1.map (WP.pure (fun h2 _ => okt h2) (fun p l e R s m args below meth c Q cells slots H locs lsa hx hb h2 _ _ _ kk => lv_if_lt hx hb hd ht (fun e => kk) (fun e => absurd hP (fun q => e ((i32_lt (okh h2) (show inR 0 by decide)).mpr q)))))) (fun hP => h2.map (WP.pure (fun h2 _ => okt h2) (fun p l e R s m args below meth c Q cells slots H locs lsa hx hb h2 _ _ _ kk => lv_if_lt hx hb hd ht (fun e => absurd ((i32_lt (okh h2) (show inR 0 by decide)).mp e) hP) (fun e => kk))))
theorem s_if_ge {tgt : Nat} {off : Int} (hd : decode μ.1 pc = .ok (.ifCond .ge off, 3)) (ht : (pc : Int) + off = (tgt : Int)) (h1 : Sm k2 post (WP G Γ μ r tgt ls st w)) (h2 : Sm k1 post (WP G Γ μ r (pc + 3) ls st w)) : Sm (if a < 0 then k1 else k2) post (WP G Γ μ r pc ls ((0, a) :: st) w) :=
  Sm.ite (fun hP => h2.map (WP.pure (fun h2 _ => okt h2) (fun p l e R s m args below meth c Q cells slots H locs lsa hx hb h2 _ _ _ kk => lv_if_ge hx hb hd ht (fun e => absurd hP (nlt_of (okh h2) (show inR 0 by decide) e)) (fun e => kk)))) (fun hP => h1.map (WP.pure (fun h2 _ => okt h2) (fun p l e R s m args below meth c Q cells slots H locs lsa hx hb h2 _ _ _ kk => lv_if_ge hx hb hd ht (fun e => kk) (fun e => absurd (lt_of (okh h2) (show inR 0 by decide) e) hP))))
theorem s_if_gt {tgt : Nat} {off : Int} (hd : decode μ.1 pc = .ok (.ifCond .gt off, 3)) (ht : (pc : Int) + off = (tgt : Int)) (h1 : Sm k1 post (WP G Γ μ r tgt ls st w)) (h2 : Sm k2 post (WP G Γ μ r (pc + 3) ls st w)) : Sm (if 0 < a then k1 else k2) post (WP G Γ μ r pc ls ((0, a) :: st) w) :=
  Sm.ite (fun hP => h1.map (WP.pure (fun h2 _ => okt h2) (fun p l e R s m args below meth c Q cells slots H locs lsa hx hb h2 _ _ _ kk => lv_if_gt hx hb hd ht (fun e => kk) (fun e => absurd hP (fun q => e ((i32_lt (show inR 0 by decide) (okh h2)).mpr q)))))) (fun hP => h2.map (WP.pure (fun h2 _ => okt h2) (fun p l e R s m args below meth c Q cells slots H locs lsa hx hb h2 _ _ _ kk => lv_if_gt hx hb hd ht (fun e => absurd ((i32_lt (show inR 0 by decide) (okh h2)).mp e) hP) (fun e => kk))))
theorem s_if_le {tgt : Nat} {off : Int} (hd : decode μ.1 pc = .ok (.ifCond .le off, 3)) (ht : (pc : Int) + off = (tgt : Int)) (h1 : Sm k2 post (WP G Γ μ r tgt ls st w)) (h2 : Sm k1 post (WP G Γ μ r (pc + 3) ls st w)) : Sm (if 0 < a then k1 else k2) post (WP G Γ μ r pc ls ((0, a) :: st) w) :=
  Sm.ite (fun hP => h2.map (WP.pure (fun h2 _ => okt h2) (fun p l e R s m args below meth c Q cells slots H locs lsa hx hb h2 _ _ _ kk => lv_if_le hx hb hd ht (fun e => absurd hP (nlt_of (show inR 0 by decide) (okh h2) e)) (fun e => kk)))) (fun hP => h1.map (WP.pure (fun h2 _ => okt h2) (fun p l e R s m args below meth c Q cells slots H locs lsa hx hb h2 _ _ _ kk => lv_if_le hx hb hd ht (fun e => kk) (fun e => absurd (lt_of (show inR 0 by decide) (okh h2) e) hP))))
theorem s_if_eq {tgt : Nat} {off : Int} (hd : decode μ.1 pc = .ok (.ifCond .eq off, 3)) (ht : (pc : Int) + off = (tgt : Int)) (h1 : Sm k1 post (WP G Γ μ r tgt ls st w)) (h2 : Sm k2 post (WP G Γ μ r (pc + 3) ls st w)) : Sm (if a = 0 then k1 else k2) post (WP G Γ μ r pc ls ((0, a) :: st) w) :=
  Sm.ite (fun hP => h1.map (WP.pure (fun h2 _ => okt h2) (fun p l e R s m args below meth c Q cells slots H locs lsa hx hb h2 _ _ _ kk => lv_if_eq hx hb hd ht (fun e => kk) (fun e => absurd hP (fun q => e ((i32_eq (okh h2) (show inR 0 by decide)).mpr q)))))) (fun hP => h2.map (WP.pure (fun h2 _ => okt h2) (fun p l e R s m args below meth c Q cells slots H locs lsa hx hb h2 _ _ _ kk => lv_if_eq hx hb hd ht (fun e => absurd ((i32_eq (okh h2) (show inR 0 by decide)).mp e) hP) (fun e => kk))))
theorem s_if_ne {tgt : Nat} {off : Int} (hd : decode μ.1 pc = .ok (.ifCond .ne off, 3)) (ht : (pc : Int) + off = (tgt : Int)) (h1 : Sm k2 post (WP G Γ μ r tgt ls st w)) (h2 : Sm k1 post (WP G Γ μ r (pc + 3) ls st w)) : Sm (if a = 0 then k1 else k2) post (WP G Γ μ r pc ls ((0, a) :: st) w) :=
  Sm.ite (fun hP => h2.map (WP.pure (fun h2 _ => okt h2) (fun p l e R s m args below meth c Q cells slots H locs lsa hx hb h2 _ _ _ kk => lv_if_ne hx hb hd ht (fun e => absurd hP (fun q => e ((i32_eq (okh h2) (show inR 0 by decide)).mpr q))) (fun e => kk)))) (fun hP => h1.map (WP.pure (fun h2 _ => okt h2) (fun p l e R s m args below meth c Q cells slots H locs lsa hx hb h2 _ _ _ kk => lv_if_ne hx hb hd ht (fun e => kk) (fun e => absurd ((i32_eq (okh h2) (show inR 0 by decide)).mp e) hP))))
def cmpI (a b : Int) : Int := if b < a then 1 else if a = b then 0 else -1
theorem cmpI_ok (a b : Int) : inR (cmpI a b) := by unfold cmpI; split; decide; split <;> decide
theorem lg_cmpI {a b : Int} (ha : inL a) (hb : inL b) : lg_cmp (i64 a) (i64 b) = i32 (cmpI a b) := by
  unfold lg_cmp cmpI
  by_cases h : b < a
  · rw [if_pos h, if_pos (show i64 a > i64 b from (i64_lt hb ha).mpr h)]; rfl
  · rw [if_neg h, if_neg (fun q => h ((i64_lt hb ha).mp q))]
    by_cases h2 : a = b
    · rw [if_pos h2, if_pos ((i64_eq ha hb).mpr h2)]; rfl
    · rw [if_neg h2, if_neg (fun q => h2 ((i64_eq ha hb).mp q))]; rfl
theorem w_lcmp (hd : decode μ.1 pc = .ok (.lcmp, 1)) (h : WP G Γ μ r (pc + 1) ls ((0, cmpI a b) :: st) w) : WP G Γ μ r pc ls ((1, b) :: (1, a) :: st) w :=
  WP.pure (fun h2 _ => okc (oki (cmpI_ok a b)) (okt (okt h2))) (fun p l e R s m args below meth c Q cells slots H locs lsa hx hb h2 _ _ _ kk => W.lcmp hx hb hd (by rw [lg_cmpI (ok2 h2) (okh h2)]; exact kk)) h
theorem cmpI_lt (a b : Int) : cmpI a b < 0 ↔ a < b := by unfold cmpI; split; omega; split <;> omega
theorem cmpI_gt (a b : Int) : 0 < cmpI a b ↔ b < a := by unfold cmpI; split; omega; split <;> omega
theorem cmpI_eq (a b : Int) : cmpI a b = 0 ↔ a = b := by unfold cmpI; split; omega; split <;> omega
theorem Sm.iff {P P' : Prop} [Decidable P] [Decidable P'] {g : Prop} (e : P ↔ P') (h : Sm (if P then k1 else k2) post g) : Sm (if P' then k1 else k2) post g := by
  intro x hx hp
  refine h x ?_ hp
  by_cases q : P
  · rw [if_pos q]; rw [if_pos (e.mp q)] at hx; exact hx
  · rw [if_neg q]; rw [if_neg (fun z => q (e.mpr z))] at hx; exact hx
theorem s_lcmp_lt {tgt : Nat} {off : Int} (hd0 : decode μ.1 pc = .ok (.lcmp, 1)) (hd : decode μ.1 (pc + 1) = .ok (.ifCond .lt off, 3)) (ht : ((pc + 1 : Nat) : Int) + off = (tgt : Int)) (h1 : Sm k1 post (WP G Γ μ r tgt ls st w)) (h2 : Sm k2 post (WP G Γ μ r (pc + 4) ls st w)) : Sm (if a < b then k1 else k2) post (WP G Γ μ r pc ls ((1, b) :: (1, a) :: st) w) :=
  (Sm.iff (cmpI_lt a b) (s_if_lt hd ht h1 h2)).map (w_lcmp hd0)
theorem s_lcmp_ge {tgt : Nat} {off : Int} (hd0 : decode μ.1 pc = .ok (.lcmp, 1)) (hd : decode μ.1 (pc + 1) = .ok (.ifCond .ge off, 3)) (ht : ((pc + 1 : Nat) : Int) + off = (tgt : Int)) (h1 : Sm k2 post (WP G Γ μ r tgt ls st w)) (h2 : Sm k1 post (WP G Γ μ r (pc + 4) ls st w)) : Sm (if a < b then k1 else k2) post (WP G Γ μ r pc ls ((1, b) :: (1, a) :: st) w) :=
  (Sm.iff (cmpI_lt a b) (s_if_ge hd ht h1 h2)).map (w_lcmp hd0)
theorem s_lcmp_gt {tgt : Nat} {off : Int} (hd0 : decode μ.1 pc = .ok (.lcmp, 1)) (hd : decode μ.1 (pc + 1) = .ok (.ifCond .gt off, 3)) (ht : ((pc + 1 : Nat) : Int) + off = (tgt : Int)) (h1 : Sm k1 post (WP G Γ μ r tgt ls st w)) (h2 : Sm k2 post (WP G Γ μ r (pc + 4) ls st w)) : Sm (if b < a then k1 else k2) post (WP G Γ μ r pc ls ((1, b) :: (1, a) :: st) w) :=
  (Sm.iff (cmpI_gt a b) (s_if_gt hd ht h1 h2)).map (w_lcmp hd0)
theorem s_lcmp_le {tgt : Nat} {off : Int} (hd0 : decode μ.1 pc = .ok (.lcmp, 1)) (hd : decode μ.1 (pc + 1) = .ok (.ifCond .le off, 3)) (ht : ((pc + 1 : Nat) : Int) + off = (tgt : Int)) (h1 : Sm k2 post (WP G Γ μ r tgt ls st w)) (h2 : Sm k1 post (WP G Γ μ r (pc + 4) ls st w)) : Sm (if b < a then k1 else k2) post (WP G Γ μ r pc ls ((1, b) :: (1, a) :: st) w) :=
  (Sm.iff (cmpI_gt a b) (s_if_le hd ht h1 h2)).map (w_lcmp hd0)
theorem s_lcmp_eq {tgt : Nat} {off : Int} (hd0 : decode μ.1 pc = .ok (.lcmp, 1)) (hd : decode μ.1 (pc + 1) = .ok (.ifCond .eq off, 3)) (ht : ((pc + 1 : Nat) : Int) + off = (tgt : Int)) (h1 : Sm k1 post (WP G Γ μ r tgt ls st w)) (h2 : Sm k2 post (WP G Γ μ r (pc + 4) ls st w)) : Sm (if a = b then k1 else k2) post (WP G Γ μ r pc ls ((1, b) :: (1, a) :: st) w) :=
  (Sm.iff (cmpI_eq a b) (s_if_eq hd ht h1 h2)).map (w_lcmp hd0)
theorem s_lcmp_ne {tgt : Nat} {off : Int} (hd0 : decode μ.1 pc = .ok (.lcmp, 1)) (hd : decode μ.1 (pc + 1) = .ok (.ifCond .ne off, 3)) (ht : ((pc + 1 : Nat) : Int) + off = (tgt : Int)) (h1 : Sm k2 post (WP G Γ μ r tgt ls st w)) (h2 : Sm k1 post (WP G Γ μ r (pc + 4) ls st w)) : Sm (if a = b then k1 else k2) post (WP G Γ μ r pc ls ((1, b) :: (1, a) :: st) w) :=
  (Sm.iff (cmpI_eq a b) (s_if_ne hd ht h1 h2)).map (w_lcmp hd0)
theorem s_tblIn {dflt lo hi : Int} {offs : Array Int} {len tgt : Nat} {off : Int} (hd : decode μ.1 pc = .ok (.tableswitch dflt lo hi offs, len)) (v : Int) (ha : a = v) (h1 : lo ≤ v ∧ v ≤ hi) (ho : offs[(v - lo).toNat]? = some off) (ht : (pc : Int) + off = (tgt : Int)) (h : Sm k post (WP G Γ μ r tgt ls st w)) : Sm k post (WP G Γ μ r pc ls ((0, a) :: st) w) := by
  subst ha
  exact h.map (WP.pure (fun h2 _ => okt h2) (fun p l e R s m args below meth c Q cells slots H locs lsa hx hb h2 _ _ _ kk => lv_tableIn hx hb hd (by rw [i32_toInt (okh h2)]; omega) (by rw [i32_toInt (okh h2)]; omega) (by rw [i32_toInt (okh h2)]; exact ho) ht kk))
theorem s_tblOut {dflt lo hi : Int} {offs : Array Int} {len tgt : Nat} (hd : decode μ.1 pc = .ok (.tableswitch dflt lo hi offs, len)) (h1 : a < lo ∨ hi < a) (ht : (pc : Int) + dflt = (tgt : Int)) (h : Sm k post (WP G Γ μ r tgt ls st w)) : Sm k post (WP G Γ μ r pc ls ((0, a) :: st) w) :=
  h.map (WP.pure (fun h2 _ => okt h2) (fun p l e R s m args below meth c Q cells slots H locs lsa hx hb h2 _ _ _ kk => lv_tableOut hx hb hd (by rw [i32_toInt (okh h2)]; exact h1) ht kk))
theorem s_lkp {dflt : Int} {ps : Array (Int × Int)} {len tgt : Nat} {off : Int} (hd : decode μ.1 pc = .ok (.lookupswitch dflt ps, len)) (hp : (ps.toList.zip (ps.toList.drop 1)).all (fun (a, next) => a.1 < next.1) = true) (ho : Op.lookupswitch.offset ps.toList dflt a = off) (ht : (pc : Int) + off = (tgt : Int)) (h : Sm k post (WP G Γ μ r tgt ls st w)) : Sm k post (WP G Γ μ r pc ls ((0, a) :: st) w) :=
  h.map (WP.pure (fun h2 _ => okt h2) (fun p l e R s m args below meth c Q cells slots H locs lsa hx hb h2 _ _ _ kk => lv_lookup hx hb hd hp (by rw [i32_toInt (okh h2)]; exact ho) ht kk))
theorem s_ifnull {tgt : Nat} {off : Int} (hd : decode μ.1 pc = .ok (.ifnull off, 3)) (ht : (pc : Int) + off = (tgt : Int)) (h1 : Sm k1 post (WP G Γ μ r tgt ls st w)) (h2 : Sm k2 post (WP G Γ μ r (pc + 3) ls st w)) : Sm (if a < 0 then k1 else k2) post (WP G Γ μ r pc ls ((2, a) :: st) w) :=
  Sm.ite (fun hP => h1.map (WP.pure (fun h2 _ => okt h2) (fun p l e R s m args below meth c Q cells slots H locs lsa hx hb h2 _ _ _ kk => by
    have eN : dv G.2.1 (2, a) = .null := if_pos hP
    show W p l e R s m args below meth c H locs cells slots Q (F0 m pc lsa (dv G.2.1 (2, a) :: st.map (dv G.2.1)))
    rw [eN]; exact lv_ifnullN hx hb hd ht kk))) (fun hP => h2.map (WP.pure (fun h2 _ => okt h2) (fun p l e R s m args below meth c Q cells slots H locs lsa hx hb h2 _ _ _ kk => by
    have eN : dv G.2.1 (2, a) = .ref (G.2.1 a.toNat) := if_neg hP
    show W p l e R s m args below meth c H locs cells slots Q (F0 m pc lsa (dv G.2.1 (2, a) :: st.map (dv G.2.1)))
    rw [eN]; exact lv_ifnull hx hb hd kk)))
theorem s_ifnonnull {tgt : Nat} {off : Int} (hd : decode μ.1 pc = .ok (.ifnonnull off, 3)) (ht : (pc : Int) + off = (tgt : Int)) (h1 : Sm k2 post (WP G Γ μ r tgt ls st w)) (h2 : Sm k1 post (WP G Γ μ r (pc + 3) ls st w)) : Sm (if a < 0 then k1 else k2) post (WP G Γ μ r pc ls ((2, a) :: st) w) :=
  Sm.ite (fun hP => h2.map (WP.pure (fun h2 _ => okt h2) (fun p l e R s m args below meth c Q cells slots H locs lsa hx hb h2 _ _ _ kk => by
    have eN : dv G.2.1 (2, a) = .null := if_pos hP
    show W p l e R s m args below meth c H locs cells slots Q (F0 m pc lsa (dv G.2.1 (2, a) :: st.map (dv G.2.1)))
    rw [eN]; exact lv_ifnonnullN hx hb hd kk))) (fun hP => h1.map (WP.pure (fun h2 _ => okt h2) (fun p l e R s m args below meth c Q cells slots H locs lsa hx hb h2 _ _ _ kk => by
    have eN : dv G.2.1 (2, a) = .ref (G.2.1 a.toNat) := if_neg hP
    show W p l e R s m args below meth c H locs cells slots Q (F0 m pc lsa (dv G.2.1 (2, a) :: st.map (dv G.2.1)))
    rw [eN]; exact lv_ifnonnull hx hb hd ht kk)))
end Arith
