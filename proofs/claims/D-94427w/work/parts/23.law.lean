/-! LAYER 2: the law, by gen/mk_law.py -/
set_option maxRecDepth 100000
abbrev RL : String := "HeldTongueLaw"
/-- the script that was there -/
def ScrS (G : GG) (Γ : Cx) (N : Nat) (scr : Nat → Int) : Prop := N ≤ 384 ∧ ∃ xs : Nat → Int32, va_X (G.2.1 0) N xs Γ.2.2.2.2.1 G.2.2.2 ∧ ∀ j, scr j = (xs j).toInt
theorem toInt_in (x : Int32) : inR x.toInt := ⟨by have := x.le_toInt; simpa using this, by have := x.toInt_lt; simpa using this⟩
section Law
variable {G : GG} {Γ : Cx} {μ : MI} {r : Vv × Wd} {pc : Nat} {ls : List (Option Vv)} {st : List Vv} {w : Wd} {N : Nat} {scr : Nat → Int}
variable {X : Type} {k : Option X} {post : X → Prop}
theorem w_alenS (hS : ScrS G Γ N scr) (hd : decode μ.1 pc = .ok (.arraylength, 1)) (h : WP G Γ μ r (pc + 1) ls ((0, (N : Int)) :: st) w) : WP G Γ μ r pc ls ((2, 0) :: st) w := by
  obtain ⟨p, l, e, R, s, m, args, below, meth, c, Q, z0, s0⟩ := Γ
  obtain ⟨hN, xs, ⟨cell, g1, g2, g3, g4, g5⟩, -⟩ := hS
  refine ⟨h.1, fun hX h1 h2 hz0 hs0 H locs lsa hH hL hl' => ?_⟩
  obtain ⟨hx, hb, hml, hown, hts, hK, hnm, -⟩ := id hX
  show W p l e R s m args below meth c H locs _ _ Q (F0 m pc lsa (rfv G.2.1 ((0 : Nat) : Int) :: st.map (dv G.2.1)))
  rw [rfv_nat]
  have hk := h.2 hX h1 (okc (show okv (0, (N : Int)) from (show inR (N : Int) by unfold inR; omega)) (okt h2)) hz0 hs0 H locs lsa hH hL hl'
  exact W.alen (n := Int32.ofNat N) hx hb (oldAt hH g1) g2 (by rw [g4]) rfl rfl hd hk
theorem w_ialdS {i : Int} (hS : ScrS G Γ N scr) (hR : 0 ≤ i ∧ i < (N : Int)) (hd : decode μ.1 pc = .ok (.iaload, 1)) (h : WP G Γ μ r (pc + 1) ls ((0, scr i.toNat) :: st) w) : WP G Γ μ r pc ls ((0, i) :: (2, 0) :: st) w := by
  obtain ⟨p, l, e, R, s, m, args, below, meth, c, Q, z0, s0⟩ := Γ
  obtain ⟨hN, xs, ⟨cell, g1, g2, g3, g4, g5⟩, hxs⟩ := hS
  refine ⟨h.1, fun hX h1 h2 hz0 hs0 H locs lsa hH hL hl' => ?_⟩
  obtain ⟨hx, hb, hml, hown, hts, hK, hnm, -⟩ := id hX
  have hi : inR i := okh h2
  show W p l e R s m args below meth c H locs _ _ Q (F0 m pc lsa (.int (i32 i) :: rfv G.2.1 ((0 : Nat) : Int) :: st.map (dv G.2.1)))
  rw [rfv_nat]
  have hk := h.2 hX h1 (okc (show okv (0, scr i.toNat) from (show inR (scr i.toNat) by rw [hxs]; exact toInt_in _)) (okt (okt h2))) hz0 hs0 H locs lsa hH hL hl'
  refine W.iald (v := dv G.2.1 (0, scr i.toNat)) hx hb (oldAt hH g1) g2 g3 (i32_inn hi ⟨hR.1, by rw [g4]; omega⟩) ?_ rfl rfl hd hk
  rw [i32_clamp hi hR.1, g5 _ (by omega)]
  show some (Value.int (xs i.toNat)) = some (Value.int (i32 (scr i.toNat)))
  rw [hxs, i32_of]
theorem s_alenS (hS : ScrS G Γ N scr) (hd : decode μ.1 pc = .ok (.arraylength, 1)) (h : Sm k post (WP G Γ μ r (pc + 1) ls ((0, (N : Int)) :: st) w)) : Sm k post (WP G Γ μ r pc ls ((2, 0) :: st) w) := h.map (w_alenS hS hd)
theorem s_ialdS {i : Int} (hS : ScrS G Γ N scr) (hd : decode μ.1 pc = .ok (.iaload, 1)) (h : Sm k post (WP G Γ μ r (pc + 1) ls ((0, scr i.toNat) :: st) w)) : Sm (gd (0 ≤ i ∧ i < (N : Int)) k) post (WP G Γ μ r pc ls ((0, i) :: (2, 0) :: st) w) := h.gd (fun hR hw => w_ialdS hS hR hd hw)
end Law
abbrev LSt : Type := Int × Nat × Nat × TT × CC
abbrev muL (nm : String) : MI := (cL_law, RL, 4, some .boolean, 1312, nm)
def gL (G : GG) (Γ : Cx) (nm : String) (r : Vv × Wd) (s : LSt) : Prop := WP G Γ (muL nm) r 18 [some (2, 0), some (2, 43), some (2, 111), some (0, s.1)] [] (s.2.1, s.2.2.1, tt s.2.2.2.1, cv s.2.2.2.2)
def eL (r : Vv × Wd) (e : LSt) : Prop := r = ((0, e.1), (e.2.1, e.2.2.1, tt e.2.2.2.1, cv e.2.2.2.2))
theorem mvL_13 : MV RL 13 RX0 yX0_feed muX0_feed 5 := ⟨lw_V q339 q340 q341 q125 q342, by decide +kernel, Nat.le_of_ble_eq_true rfl⟩
theorem mvL_17 : MV RL 17 RX4 yX4_feed muX4_feed 5 := ⟨lw_V q1494 q1495 q1496 q129 q1497, by decide +kernel, Nat.le_of_ble_eq_true rfl⟩
theorem mvL_18 : MV RL 18 RX0 yX0_end muX0_end 1 := ⟨lw_V q347 q348 q349 q125 q350, by decide +kernel, Nat.le_of_ble_eq_true rfl⟩
theorem mvL_22 : MV RL 22 RX4 yX4_end muX4_end 1 := ⟨lw_V q1502 q1503 q1504 q129 q1505, by decide +kernel, Nat.le_of_ble_eq_true rfl⟩
theorem mvL_23 : MVH RL 23 RX0 yX0_text muX0_text 0 := ⟨⟨q354, q355, q356, q125, q357⟩, by decide +kernel, Nat.le_of_ble_eq_true rfl⟩
theorem mvL_27 : MV RL 27 RX4 yX4_text muX4_text 0 := ⟨lw_V q1509 q1510 q1511 q129 q1512, by decide +kernel, Nat.le_of_ble_eq_true rfl⟩
theorem mvL_28 : MV RL 28 RX0 yX0_fault muX0_fault 1 := ⟨lw_V q804 q805 q806 q125 q807, by decide +kernel, Nat.le_of_ble_eq_true rfl⟩
theorem mvL_31 : MV RL 31 RX4 yX4_fault muX4_fault 1 := ⟨lw_V q1639 q1640 q1641 q129 q1642, by decide +kernel, Nat.le_of_ble_eq_true rfl⟩
theorem mvL_32 : MV RL 32 RX0 yX0_by muX0_by 1 := ⟨lw_V q808 q809 q810 q125 q811, by decide +kernel, Nat.le_of_ble_eq_true rfl⟩
theorem mvL_36 : MV RL 36 RX4 yX4_by muX4_by 1 := ⟨lw_V q1643 q1644 q1645 q129 q1646, by decide +kernel, Nat.le_of_ble_eq_true rfl⟩
theorem mvL_37 : MV RL 37 RX0 yX0_say muX0_say 1 := ⟨lw_V q812 q813 q814 q125 q815, by decide +kernel, Nat.le_of_ble_eq_true rfl⟩
theorem mvL_40 : MV RL 40 RX4 yX4_say muX4_say 1 := ⟨lw_V q1647 q1648 q1649 q129 q1650, by decide +kernel, Nat.le_of_ble_eq_true rfl⟩
theorem mvL_41 : MV RL 41 RX0 yX0_unsay muX0_unsay 1 := ⟨lw_V q816 q817 q818 q125 q819, by decide +kernel, Nat.le_of_ble_eq_true rfl⟩
theorem mvL_44 : MV RL 44 RX4 yX4_unsay muX4_unsay 1 := ⟨lw_V q1651 q1652 q1653 q129 q1654, by decide +kernel, Nat.le_of_ble_eq_true rfl⟩
theorem mvL_45 : MV RL 45 RX0 yX0_word muX0_word 1 := ⟨lw_V q820 q821 q822 q125 q823, by decide +kernel, Nat.le_of_ble_eq_true rfl⟩
theorem mvL_48 : MV RL 48 RX4 yX4_word muX4_word 1 := ⟨lw_V q1655 q1656 q1657 q129 q1658, by decide +kernel, Nat.le_of_ble_eq_true rfl⟩
theorem mvL_49 : MV RL 49 RX0 yX0_count muX0_count 1 := ⟨lw_V q824 q825 q826 q125 q827, by decide +kernel, Nat.le_of_ble_eq_true rfl⟩
theorem mvL_52 : MV RL 52 RX4 yX4_count muX4_count 1 := ⟨lw_V q1659 q1660 q1661 q129 q1662, by decide +kernel, Nat.le_of_ble_eq_true rfl⟩
theorem mvL_53 : MV RL 53 RX0 yX0_sense muX0_sense 2 := ⟨lw_V q932 q933 q934 q125 q935, by decide +kernel, Nat.le_of_ble_eq_true rfl⟩
theorem mvL_57 : MV RL 57 RX4 yX4_sense muX4_sense 2 := ⟨lw_V q1723 q1724 q1725 q129 q1726, by decide +kernel, Nat.le_of_ble_eq_true rfl⟩
theorem mvL_58 : MV RL 58 RX0 yX0_taken muX0_taken 2 := ⟨lw_V q955 q956 q957 q125 q958, by decide +kernel, Nat.le_of_ble_eq_true rfl⟩
theorem mvL_61 : MV RL 61 RX4 yX4_taken muX4_taken 2 := ⟨lw_V q1749 q1750 q1751 q129 q1752, by decide +kernel, Nat.le_of_ble_eq_true rfl⟩
theorem mvL_62 : MV RL 62 RX0 yX0_span muX0_span 2 := ⟨lw_V q920 q921 q922 q125 q923, by decide +kernel, Nat.le_of_ble_eq_true rfl⟩
theorem mvL_65 : MV RL 65 RX4 yX4_span muX4_span 2 := ⟨lw_V q1753 q1754 q1755 q129 q1756, by decide +kernel, Nat.le_of_ble_eq_true rfl⟩
theorem mvL_66 : MV RL 66 RX0 yX0_open muX0_open 0 := ⟨lw_V q959 q960 q961 q125 q962, by decide +kernel, Nat.le_of_ble_eq_true rfl⟩
theorem mvL_69 : MV RL 69 RX4 yX4_open muX4_open 0 := ⟨lw_V q1757 q1758 q1759 q129 q1760, by decide +kernel, Nat.le_of_ble_eq_true rfl⟩
theorem mvL_70 : MV RL 70 RX0 yX0_most muX0_most 1 := ⟨lw_V q963 q964 q965 q125 q966, by decide +kernel, Nat.le_of_ble_eq_true rfl⟩
theorem mvL_73 : MV RL 73 RX4 yX4_most muX4_most 1 := ⟨lw_V q1761 q1762 q1763 q129 q1764, by decide +kernel, Nat.le_of_ble_eq_true rfl⟩
theorem mvL_74 : MV RL 74 RX0 yX0_weight muX0_weight 2 := ⟨lw_V q983 q984 q985 q125 q986, by decide +kernel, Nat.le_of_ble_eq_true rfl⟩
theorem mvL_77 : MV RL 77 RX4 yX4_weight muX4_weight 2 := ⟨lw_V q1820 q1821 q1822 q129 q1823, by decide +kernel, Nat.le_of_ble_eq_true rfl⟩
theorem mvL_78 : MV RL 78 RX0 yX0_same muX0_same 2 := ⟨lw_V q1071 q1072 q1073 q125 q1074, by decide +kernel, Nat.le_of_ble_eq_true rfl⟩
theorem mvL_82 : MV RL 82 RX4 yX4_same muX4_same 2 := ⟨lw_V q1824 q1825 q1826 q129 q1827, by decide +kernel, Nat.le_of_ble_eq_true rfl⟩
theorem mvL_83 : MV RL 83 RX0 yX0_kin muX0_kin 1 := ⟨lw_V q1083 q1084 q1085 q125 q1086, by decide +kernel, Nat.le_of_ble_eq_true rfl⟩
theorem mvL_86 : MV RL 86 RX4 yX4_kin muX4_kin 1 := ⟨lw_V q1828 q1829 q1830 q129 q1831, by decide +kernel, Nat.le_of_ble_eq_true rfl⟩
theorem mvL_87 : MV RL 87 RX0 yX0_meant muX0_meant 0 := ⟨lw_V q1088 q1089 q1090 q125 q1091, by decide +kernel, Nat.le_of_ble_eq_true rfl⟩
theorem mvL_90 : MV RL 90 RX4 yX4_meant muX4_meant 0 := ⟨lw_V q1833 q1834 q1835 q129 q1836, by decide +kernel, Nat.le_of_ble_eq_true rfl⟩
theorem mvL_91 : MV RL 91 RX0 yX0_hear muX0_hear 4 := ⟨lw_V q1093 q1094 q1095 q125 q1096, by decide +kernel, Nat.le_of_ble_eq_true rfl⟩
theorem mvL_95 : MV RL 95 RX4 yX4_hear muX4_hear 4 := ⟨lw_V q1837 q1838 q1839 q129 q1840, by decide +kernel, Nat.le_of_ble_eq_true rfl⟩
theorem mvL_96 : MV RL 96 RX0 yX0_enough muX0_enough 2 := ⟨lw_V q1145 q1146 q1147 q125 q1148, by decide +kernel, Nat.le_of_ble_eq_true rfl⟩
theorem mvL_99 : MV RL 99 RX4 yX4_enough muX4_enough 2 := ⟨lw_V q1861 q1862 q1863 q129 q1864, by decide +kernel, Nat.le_of_ble_eq_true rfl⟩
theorem mvL_100 : MV RL 100 RX0 yX0_wordy muX0_wordy 2 := ⟨lw_V q1149 q1150 q1151 q125 q1152, by decide +kernel, Nat.le_of_ble_eq_true rfl⟩
theorem mvL_103 : MV RL 103 RX4 yX4_wordy muX4_wordy 2 := ⟨lw_V q1865 q1866 q1867 q129 q1868, by decide +kernel, Nat.le_of_ble_eq_true rfl⟩
theorem mvL_104 : MV RL 104 RX0 yX0_saying muX0_saying 3 := ⟨lw_V q1190 q1191 q1192 q125 q1193, by decide +kernel, Nat.le_of_ble_eq_true rfl⟩
theorem mvL_108 : MV RL 108 RX4 yX4_saying muX4_saying 3 := ⟨lw_V q1927 q1928 q1929 q129 q1930, by decide +kernel, Nat.le_of_ble_eq_true rfl⟩
theorem mvL_109 : MV RL 109 RX0 yX0_light muX0_light 1 := ⟨lw_V q1186 q1187 q1188 q125 q1189, by decide +kernel, Nat.le_of_ble_eq_true rfl⟩
theorem mvL_112 : MV RL 112 RX4 yX4_light muX4_light 1 := ⟨lw_V q1931 q1932 q1933 q129 q1934, by decide +kernel, Nat.le_of_ble_eq_true rfl⟩
theorem mvL_113 : MV RL 113 RX0 yX0_image muX0_image 0 := ⟨lw_V q1222 q1223 q1224 q125 q1225, by decide +kernel, Nat.le_of_ble_eq_true rfl⟩
theorem mvL_116 : MV RL 116 RX4 yX4_image muX4_image 0 := ⟨lw_V q1935 q1936 q1937 q129 q1938, by decide +kernel, Nat.le_of_ble_eq_true rfl⟩
theorem mvL_117 : MV RL 117 RX0 yX0_back muX0_back 0 := ⟨lw_V q1226 q1227 q1228 q125 q1229, by decide +kernel, Nat.le_of_ble_eq_true rfl⟩
theorem mvL_120 : MV RL 120 RX4 yX4_back muX4_back 0 := ⟨lw_V q1939 q1940 q1941 q129 q1942, by decide +kernel, Nat.le_of_ble_eq_true rfl⟩
theorem mvL_121 : MV RL 121 RX0 yX0_about muX0_about 1 := ⟨lw_V q1230 q1231 q1232 q125 q1233, by decide +kernel, Nat.le_of_ble_eq_true rfl⟩
theorem mvL_124 : MV RL 124 RX4 yX4_about muX4_about 1 := ⟨lw_V q1943 q1944 q1945 q129 q1946, by decide +kernel, Nat.le_of_ble_eq_true rfl⟩
noncomputable def fL_c0 (N : Nat) (scr : Nat → Int) (i : Int) (sz sl : Nat) (td : TT) (c : CC) : Option (LSt ⊕ LSt) :=
  gd (inR (i + 1)) <|
  gd ((0 : Int) ≤ i + 1 ∧ i + 1 < (N : Int)) <|
  gd (inR (i + 2)) <|
  gd ((0 : Int) ≤ i + 2 ∧ i + 2 < (N : Int)) <|
  gd (inR (i + 3)) <|
  gd ((0 : Int) ≤ i + 3 ∧ i + 3 < (N : Int)) <|
  gd (inR (i + 4)) <|
  gd ((0 : Int) ≤ i + 4 ∧ i + 4 < (N : Int)) <|
  gd (inR (i + 5)) <|
  gd ((0 : Int) ≤ i + 5 ∧ i + 5 < (N : Int)) <|
  cl (fX0_feed (scr (Int.toNat (i + 1))) (scr (Int.toNat (i + 2))) (scr (Int.toNat (i + 3))) (scr (Int.toNat (i + 4))) (scr (Int.toNat (i + 5))) c) fun p_1 =>
  gd (inR (i + 1)) <|
  gd ((0 : Int) ≤ i + 1 ∧ i + 1 < (N : Int)) <|
  gd (inR (i + 2)) <|
  gd ((0 : Int) ≤ i + 2 ∧ i + 2 < (N : Int)) <|
  gd (inR (i + 3)) <|
  gd ((0 : Int) ≤ i + 3 ∧ i + 3 < (N : Int)) <|
  gd (inR (i + 4)) <|
  gd ((0 : Int) ≤ i + 4 ∧ i + 4 < (N : Int)) <|
  gd (inR (i + 5)) <|
  gd ((0 : Int) ≤ i + 5 ∧ i + 5 < (N : Int)) <|
  cl (fX4_feed (scr (Int.toNat (i + 1))) (scr (Int.toNat (i + 2))) (scr (Int.toNat (i + 3))) (scr (Int.toNat (i + 4))) (scr (Int.toNat (i + 5))) p_1.2) fun p_2 =>
  if p_1.1 = p_2.1 then (gd (inR (i + 6)) <| bd (i + 6) fun v => some (.inl (v, sz, sl, td, p_2.2))) else (gd ((0 : Int) ≤ 0 ∧ (0 : Int) < 2) (some (.inr (0, sz, sl, td, p_2.2))))
theorem sL_c0 {G : GG} {Γ : Cx} {nm : String} {r : Vv × Wd} {N : Nat} {scr : Nat → Int} (hS : ScrS G Γ N scr) (i : Int) (sz sl : Nat) (td : TT) (c : CC) : Sm (fL_c0 N scr i sz sl td c) (fun x => Sum.elim (gL G Γ nm r) (eL r) x) (WP G Γ (muL nm) r 152 [some (2, 0), some (2, 43), some (2, 111), some (0, i)] [] (sz, sl, tt td, cv c)) := by
  unfold fL_c0
  refine s_aload_n (pc := 152) dL_law_152 rfl ?_
  refine s_aload_n (pc := 153) dL_law_153 rfl ?_
  refine s_iload_n (pc := 154) dL_law_154 rfl ?_
  refine s_iconst (pc := 155) dL_law_155 ?_
  refine s_iadd (pc := 156) dL_law_156 ?_
  refine s_ialdS (pc := 157) hS dL_law_157 ?_
  refine s_aload_n (pc := 158) dL_law_158 rfl ?_
  refine s_iload_n (pc := 159) dL_law_159 rfl ?_
  refine s_iconst (pc := 160) dL_law_160 ?_
  refine s_iadd (pc := 161) dL_law_161 ?_
  refine s_ialdS (pc := 162) hS dL_law_162 ?_
  refine s_aload_n (pc := 163) dL_law_163 rfl ?_
  refine s_iload_n (pc := 164) dL_law_164 rfl ?_
  refine s_iconst (pc := 165) dL_law_165 ?_
  refine s_iadd (pc := 166) dL_law_166 ?_
  refine s_ialdS (pc := 167) hS dL_law_167 ?_
  refine s_aload_n (pc := 168) dL_law_168 rfl ?_
  refine s_iload_n (pc := 169) dL_law_169 rfl ?_
  refine s_iconst (pc := 170) dL_law_170 ?_
  refine s_iadd (pc := 171) dL_law_171 ?_
  refine s_ialdS (pc := 172) hS dL_law_172 ?_
  refine s_aload_n (pc := 173) dL_law_173 rfl ?_
  refine s_iload_n (pc := 174) dL_law_174 rfl ?_
  refine s_iconst (pc := 175) dL_law_175 ?_
  refine s_iadd (pc := 176) dL_law_176 ?_
  refine s_ialdS (pc := 177) hS dL_law_177 ?_
  refine s_callV3 (pc := 178) (a := 43) (as := [(0, scr (Int.toNat (i + 1))), (0, scr (Int.toNat (i + 2))), (0, scr (Int.toNat (i + 3))), (0, scr (Int.toNat (i + 4))), (0, scr (Int.toNat (i + 5)))]) (st := []) (rv := fun b => ((0, b.1), (sz, sl, tt td, cv b.2))) (st3 := fun b => [(0, b.1)]) (w3 := fun b => (sz, sl, tt td, cv b.2)) mvL_13 (fun b h => kX0_feed (scr (Int.toNat (i + 1))) (scr (Int.toNat (i + 2))) (scr (Int.toNat (i + 3))) (scr (Int.toNat (i + 4))) (scr (Int.toNat (i + 5))) c b h) rfl (Nat.le_of_ble_eq_true rfl) (t_43 td) rfl rfl rfl (Nat.le_of_ble_eq_true rfl) (fun _ => Nat.le_of_ble_eq_true rfl) (fun _ => ⟨rfl, rfl⟩) dL_law_178 (fun p_1 => ?_)
  refine s_aload_n (pc := 181) dL_law_181 rfl ?_
  refine s_aload_n (pc := 182) dL_law_182 rfl ?_
  refine s_iload_n (pc := 183) dL_law_183 rfl ?_
  refine s_iconst (pc := 184) dL_law_184 ?_
  refine s_iadd (pc := 185) dL_law_185 ?_
  refine s_ialdS (pc := 186) hS dL_law_186 ?_
  refine s_aload_n (pc := 187) dL_law_187 rfl ?_
  refine s_iload_n (pc := 188) dL_law_188 rfl ?_
  refine s_iconst (pc := 189) dL_law_189 ?_
  refine s_iadd (pc := 190) dL_law_190 ?_
  refine s_ialdS (pc := 191) hS dL_law_191 ?_
  refine s_aload_n (pc := 192) dL_law_192 rfl ?_
  refine s_iload_n (pc := 193) dL_law_193 rfl ?_
  refine s_iconst (pc := 194) dL_law_194 ?_
  refine s_iadd (pc := 195) dL_law_195 ?_
  refine s_ialdS (pc := 196) hS dL_law_196 ?_
  refine s_aload_n (pc := 197) dL_law_197 rfl ?_
  refine s_iload_n (pc := 198) dL_law_198 rfl ?_
  refine s_iconst (pc := 199) dL_law_199 ?_
  refine s_iadd (pc := 200) dL_law_200 ?_
  refine s_ialdS (pc := 201) hS dL_law_201 ?_
  refine s_aload_n (pc := 202) dL_law_202 rfl ?_
  refine s_iload_n (pc := 203) dL_law_203 rfl ?_
  refine s_iconst (pc := 204) dL_law_204 ?_
  refine s_iadd (pc := 205) dL_law_205 ?_
  refine s_ialdS (pc := 206) hS dL_law_206 ?_
  refine s_callV3 (pc := 207) (a := 111) (as := [(0, scr (Int.toNat (i + 1))), (0, scr (Int.toNat (i + 2))), (0, scr (Int.toNat (i + 3))), (0, scr (Int.toNat (i + 4))), (0, scr (Int.toNat (i + 5)))]) (st := [(0, p_1.1)]) (rv := fun b => ((0, b.1), (sz, sl, tt td, cv b.2))) (st3 := fun b => [(0, b.1), (0, p_1.1)]) (w3 := fun b => (sz, sl, tt td, cv b.2)) mvL_17 (fun b h => kX4_feed (scr (Int.toNat (i + 1))) (scr (Int.toNat (i + 2))) (scr (Int.toNat (i + 3))) (scr (Int.toNat (i + 4))) (scr (Int.toNat (i + 5))) p_1.2 b h) rfl (Nat.le_of_ble_eq_true rfl) (t_111 td) rfl rfl rfl (Nat.le_of_ble_eq_true rfl) (fun _ => Nat.le_of_ble_eq_true rfl) (fun _ => ⟨rfl, rfl⟩) dL_law_207 (fun p_2 => ?_)
  refine s_icmp_eq (pc := 210) (tgt := 860) dL_law_210 rfl ?_ ?_
  · refine s_iinc (pc := 860) (lf := fun x => [some (2, 0), some (2, 43), some (2, 111), some (0, x)]) dL_law_860 rfl (fun _ => rfl) (Nat.le_of_ble_eq_true rfl) (fun v => ?_)
    refine s_goto (pc := 863) (tgt := 18) dL_law_863 rfl ?_
    exact Sm.some (fun h => h)
  · refine s_iconst (pc := 213) dL_law_213 ?_
    exact s_zret (pc := 214) dL_law_214 rfl (fun h => h)
noncomputable def fL_c1 (N : Nat) (scr : Nat → Int) (i : Int) (sz sl : Nat) (td : TT) (c : CC) : Option (LSt ⊕ LSt) :=
  gd (inR (i + 1)) <|
  gd ((0 : Int) ≤ i + 1 ∧ i + 1 < (N : Int)) <|
  cl (fX0_end (scr (Int.toNat (i + 1))) c) fun p_3 =>
  gd (inR (i + 1)) <|
  gd ((0 : Int) ≤ i + 1 ∧ i + 1 < (N : Int)) <|
  cl (fX4_end (scr (Int.toNat (i + 1))) p_3.2) fun p_4 =>
  if p_3.1 = p_4.1 then (gd (inR (i + 6)) <| bd (i + 6) fun v => some (.inl (v, sz, sl, td, p_4.2))) else (gd ((0 : Int) ≤ 0 ∧ (0 : Int) < 2) (some (.inr (0, sz, sl, td, p_4.2))))
theorem sL_c1 {G : GG} {Γ : Cx} {nm : String} {r : Vv × Wd} {N : Nat} {scr : Nat → Int} (hS : ScrS G Γ N scr) (i : Int) (sz sl : Nat) (td : TT) (c : CC) : Sm (fL_c1 N scr i sz sl td c) (fun x => Sum.elim (gL G Γ nm r) (eL r) x) (WP G Γ (muL nm) r 215 [some (2, 0), some (2, 43), some (2, 111), some (0, i)] [] (sz, sl, tt td, cv c)) := by
  unfold fL_c1
  refine s_aload_n (pc := 215) dL_law_215 rfl ?_
  refine s_aload_n (pc := 216) dL_law_216 rfl ?_
  refine s_iload_n (pc := 217) dL_law_217 rfl ?_
  refine s_iconst (pc := 218) dL_law_218 ?_
  refine s_iadd (pc := 219) dL_law_219 ?_
  refine s_ialdS (pc := 220) hS dL_law_220 ?_
  refine s_callV3 (pc := 221) (a := 43) (as := [(0, scr (Int.toNat (i + 1)))]) (st := []) (rv := fun b => ((0, b.1), (sz, sl, tt td, cv b.2))) (st3 := fun b => [(0, b.1)]) (w3 := fun b => (sz, sl, tt td, cv b.2)) mvL_18 (fun b h => kX0_end (scr (Int.toNat (i + 1))) c b h) rfl (Nat.le_of_ble_eq_true rfl) (t_43 td) rfl rfl rfl (Nat.le_of_ble_eq_true rfl) (fun _ => Nat.le_of_ble_eq_true rfl) (fun _ => ⟨rfl, rfl⟩) dL_law_221 (fun p_3 => ?_)
  refine s_aload_n (pc := 224) dL_law_224 rfl ?_
  refine s_aload_n (pc := 225) dL_law_225 rfl ?_
  refine s_iload_n (pc := 226) dL_law_226 rfl ?_
  refine s_iconst (pc := 227) dL_law_227 ?_
  refine s_iadd (pc := 228) dL_law_228 ?_
  refine s_ialdS (pc := 229) hS dL_law_229 ?_
  refine s_callV3 (pc := 230) (a := 111) (as := [(0, scr (Int.toNat (i + 1)))]) (st := [(0, p_3.1)]) (rv := fun b => ((0, b.1), (sz, sl, tt td, cv b.2))) (st3 := fun b => [(0, b.1), (0, p_3.1)]) (w3 := fun b => (sz, sl, tt td, cv b.2)) mvL_22 (fun b h => kX4_end (scr (Int.toNat (i + 1))) p_3.2 b h) rfl (Nat.le_of_ble_eq_true rfl) (t_111 td) rfl rfl rfl (Nat.le_of_ble_eq_true rfl) (fun _ => Nat.le_of_ble_eq_true rfl) (fun _ => ⟨rfl, rfl⟩) dL_law_230 (fun p_4 => ?_)
  refine s_icmp_eq (pc := 233) (tgt := 860) dL_law_233 rfl ?_ ?_
  · refine s_iinc (pc := 860) (lf := fun x => [some (2, 0), some (2, 43), some (2, 111), some (0, x)]) dL_law_860 rfl (fun _ => rfl) (Nat.le_of_ble_eq_true rfl) (fun v => ?_)
    refine s_goto (pc := 863) (tgt := 18) dL_law_863 rfl ?_
    exact Sm.some (fun h => h)
  · refine s_iconst (pc := 236) dL_law_236 ?_
    exact s_zret (pc := 237) dL_law_237 rfl (fun h => h)
noncomputable def fL_c2 (N : Nat) (scr : Nat → Int) (i : Int) (sz sl : Nat) (td : TT) (c : CC) : Option (LSt ⊕ LSt) :=
  cl (fX0_text  sz sl td c) fun p_5 =>
  cl (fX4_text  p_5.2.2.2.2) fun p_6 =>
  if p_5.1 = p_6.1 then (gd (inR (i + 6)) <| bd (i + 6) fun v => some (.inl (v, p_5.2.1, p_5.2.2.1, p_5.2.2.2.1, p_6.2))) else (gd ((0 : Int) ≤ 0 ∧ (0 : Int) < 2) (some (.inr (0, p_5.2.1, p_5.2.2.1, p_5.2.2.2.1, p_6.2))))
theorem sL_c2 {G : GG} {Γ : Cx} {nm : String} {r : Vv × Wd} {N : Nat} {scr : Nat → Int} (hS : ScrS G Γ N scr) (i : Int) (sz sl : Nat) (td : TT) (c : CC) : Sm (fL_c2 N scr i sz sl td c) (fun x => Sum.elim (gL G Γ nm r) (eL r) x) (WP G Γ (muL nm) r 238 [some (2, 0), some (2, 43), some (2, 111), some (0, i)] [] (sz, sl, tt td, cv c)) := by
  unfold fL_c2
  refine s_aload_n (pc := 238) dL_law_238 rfl ?_
  refine s_callVH (pc := 239) (a := 43) (as := []) (st := []) (rv := fun b => ((0, b.1), (b.2.1, b.2.2.1, tt b.2.2.2.1, cv b.2.2.2.2))) (st3 := fun b => [(0, b.1)]) (w3 := fun b => (b.2.1, b.2.2.1, tt b.2.2.2.1, cv b.2.2.2.2)) mvL_23 (fun b h => kX0_text  sz sl td c b h) rfl (Nat.le_of_ble_eq_true rfl) (t_43 td) rfl rfl rfl (Nat.le_of_ble_eq_true rfl) (fun _ => Nat.le_of_ble_eq_true rfl) (fun _ => ⟨rfl, rfl⟩) dL_law_239 (fun p_5 => ?_)
  refine s_aload_n (pc := 242) dL_law_242 rfl ?_
  refine s_callV3 (pc := 243) (a := 111) (as := []) (st := [(0, p_5.1)]) (rv := fun b => ((0, b.1), (p_5.2.1, p_5.2.2.1, tt p_5.2.2.2.1, cv b.2))) (st3 := fun b => [(0, b.1), (0, p_5.1)]) (w3 := fun b => (p_5.2.1, p_5.2.2.1, tt p_5.2.2.2.1, cv b.2)) mvL_27 (fun b h => kX4_text  p_5.2.2.2.2 b h) rfl (Nat.le_of_ble_eq_true rfl) (t_111 p_5.2.2.2.1) rfl rfl rfl (Nat.le_of_ble_eq_true rfl) (fun _ => Nat.le_of_ble_eq_true rfl) (fun _ => ⟨rfl, rfl⟩) dL_law_243 (fun p_6 => ?_)
  refine s_icmp_eq (pc := 246) (tgt := 860) dL_law_246 rfl ?_ ?_
  · refine s_iinc (pc := 860) (lf := fun x => [some (2, 0), some (2, 43), some (2, 111), some (0, x)]) dL_law_860 rfl (fun _ => rfl) (Nat.le_of_ble_eq_true rfl) (fun v => ?_)
    refine s_goto (pc := 863) (tgt := 18) dL_law_863 rfl ?_
    exact Sm.some (fun h => h)
  · refine s_iconst (pc := 249) dL_law_249 ?_
    exact s_zret (pc := 250) dL_law_250 rfl (fun h => h)
noncomputable def fL_c3 (N : Nat) (scr : Nat → Int) (i : Int) (sz sl : Nat) (td : TT) (c : CC) : Option (LSt ⊕ LSt) :=
  gd (inR (i + 1)) <|
  gd ((0 : Int) ≤ i + 1 ∧ i + 1 < (N : Int)) <|
  cl (fX0_fault (scr (Int.toNat (i + 1))) c) fun p_7 =>
  gd (inR (i + 1)) <|
  gd ((0 : Int) ≤ i + 1 ∧ i + 1 < (N : Int)) <|
  cl (fX4_fault (scr (Int.toNat (i + 1))) c) fun p_8 =>
  if p_7 = p_8 then (gd (inR (i + 6)) <| bd (i + 6) fun v => some (.inl (v, sz, sl, td, c))) else (gd ((0 : Int) ≤ 0 ∧ (0 : Int) < 2) (some (.inr (0, sz, sl, td, c))))
theorem sL_c3 {G : GG} {Γ : Cx} {nm : String} {r : Vv × Wd} {N : Nat} {scr : Nat → Int} (hS : ScrS G Γ N scr) (i : Int) (sz sl : Nat) (td : TT) (c : CC) : Sm (fL_c3 N scr i sz sl td c) (fun x => Sum.elim (gL G Γ nm r) (eL r) x) (WP G Γ (muL nm) r 251 [some (2, 0), some (2, 43), some (2, 111), some (0, i)] [] (sz, sl, tt td, cv c)) := by
  unfold fL_c3
  refine s_aload_n (pc := 251) dL_law_251 rfl ?_
  refine s_aload_n (pc := 252) dL_law_252 rfl ?_
  refine s_iload_n (pc := 253) dL_law_253 rfl ?_
  refine s_iconst (pc := 254) dL_law_254 ?_
  refine s_iadd (pc := 255) dL_law_255 ?_
  refine s_ialdS (pc := 256) hS dL_law_256 ?_
  refine s_callV3 (pc := 257) (a := 43) (as := [(0, scr (Int.toNat (i + 1)))]) (st := []) (rv := fun b => ((0, b), (sz, sl, tt td, cv c))) (st3 := fun b => [(0, b)]) (w3 := fun b => (sz, sl, tt td, cv c)) mvL_28 (fun b h => kX0_fault (scr (Int.toNat (i + 1))) c b h) rfl (Nat.le_of_ble_eq_true rfl) (t_43 td) rfl rfl rfl (Nat.le_of_ble_eq_true rfl) (fun _ => Nat.le_of_ble_eq_true rfl) (fun _ => ⟨rfl, rfl⟩) dL_law_257 (fun p_7 => ?_)
  refine s_aload_n (pc := 260) dL_law_260 rfl ?_
  refine s_aload_n (pc := 261) dL_law_261 rfl ?_
  refine s_iload_n (pc := 262) dL_law_262 rfl ?_
  refine s_iconst (pc := 263) dL_law_263 ?_
  refine s_iadd (pc := 264) dL_law_264 ?_
  refine s_ialdS (pc := 265) hS dL_law_265 ?_
  refine s_callV3 (pc := 266) (a := 111) (as := [(0, scr (Int.toNat (i + 1)))]) (st := [(0, p_7)]) (rv := fun b => ((0, b), (sz, sl, tt td, cv c))) (st3 := fun b => [(0, b), (0, p_7)]) (w3 := fun b => (sz, sl, tt td, cv c)) mvL_31 (fun b h => kX4_fault (scr (Int.toNat (i + 1))) c b h) rfl (Nat.le_of_ble_eq_true rfl) (t_111 td) rfl rfl rfl (Nat.le_of_ble_eq_true rfl) (fun _ => Nat.le_of_ble_eq_true rfl) (fun _ => ⟨rfl, rfl⟩) dL_law_266 (fun p_8 => ?_)
  refine s_icmp_eq (pc := 269) (tgt := 860) dL_law_269 rfl ?_ ?_
  · refine s_iinc (pc := 860) (lf := fun x => [some (2, 0), some (2, 43), some (2, 111), some (0, x)]) dL_law_860 rfl (fun _ => rfl) (Nat.le_of_ble_eq_true rfl) (fun v => ?_)
    refine s_goto (pc := 863) (tgt := 18) dL_law_863 rfl ?_
    exact Sm.some (fun h => h)
  · refine s_iconst (pc := 272) dL_law_272 ?_
    exact s_zret (pc := 273) dL_law_273 rfl (fun h => h)
noncomputable def fL_c4 (N : Nat) (scr : Nat → Int) (i : Int) (sz sl : Nat) (td : TT) (c : CC) : Option (LSt ⊕ LSt) :=
  gd (inR (i + 1)) <|
  gd ((0 : Int) ≤ i + 1 ∧ i + 1 < (N : Int)) <|
  cl (fX0_by (scr (Int.toNat (i + 1))) c) fun p_9 =>
  gd (inR (i + 1)) <|
  gd ((0 : Int) ≤ i + 1 ∧ i + 1 < (N : Int)) <|
  cl (fX4_by (scr (Int.toNat (i + 1))) p_9.2) fun p_10 =>
  if p_9.1 = p_10.1 then (gd (inR (i + 6)) <| bd (i + 6) fun v => some (.inl (v, sz, sl, td, p_10.2))) else (gd ((0 : Int) ≤ 0 ∧ (0 : Int) < 2) (some (.inr (0, sz, sl, td, p_10.2))))
theorem sL_c4 {G : GG} {Γ : Cx} {nm : String} {r : Vv × Wd} {N : Nat} {scr : Nat → Int} (hS : ScrS G Γ N scr) (i : Int) (sz sl : Nat) (td : TT) (c : CC) : Sm (fL_c4 N scr i sz sl td c) (fun x => Sum.elim (gL G Γ nm r) (eL r) x) (WP G Γ (muL nm) r 274 [some (2, 0), some (2, 43), some (2, 111), some (0, i)] [] (sz, sl, tt td, cv c)) := by
  unfold fL_c4
  refine s_aload_n (pc := 274) dL_law_274 rfl ?_
  refine s_aload_n (pc := 275) dL_law_275 rfl ?_
  refine s_iload_n (pc := 276) dL_law_276 rfl ?_
  refine s_iconst (pc := 277) dL_law_277 ?_
  refine s_iadd (pc := 278) dL_law_278 ?_
  refine s_ialdS (pc := 279) hS dL_law_279 ?_
  refine s_callV3 (pc := 280) (a := 43) (as := [(0, scr (Int.toNat (i + 1)))]) (st := []) (rv := fun b => ((0, b.1), (sz, sl, tt td, cv b.2))) (st3 := fun b => [(0, b.1)]) (w3 := fun b => (sz, sl, tt td, cv b.2)) mvL_32 (fun b h => kX0_by (scr (Int.toNat (i + 1))) c b h) rfl (Nat.le_of_ble_eq_true rfl) (t_43 td) rfl rfl rfl (Nat.le_of_ble_eq_true rfl) (fun _ => Nat.le_of_ble_eq_true rfl) (fun _ => ⟨rfl, rfl⟩) dL_law_280 (fun p_9 => ?_)
  refine s_aload_n (pc := 283) dL_law_283 rfl ?_
  refine s_aload_n (pc := 284) dL_law_284 rfl ?_
  refine s_iload_n (pc := 285) dL_law_285 rfl ?_
  refine s_iconst (pc := 286) dL_law_286 ?_
  refine s_iadd (pc := 287) dL_law_287 ?_
  refine s_ialdS (pc := 288) hS dL_law_288 ?_
  refine s_callV3 (pc := 289) (a := 111) (as := [(0, scr (Int.toNat (i + 1)))]) (st := [(0, p_9.1)]) (rv := fun b => ((0, b.1), (sz, sl, tt td, cv b.2))) (st3 := fun b => [(0, b.1), (0, p_9.1)]) (w3 := fun b => (sz, sl, tt td, cv b.2)) mvL_36 (fun b h => kX4_by (scr (Int.toNat (i + 1))) p_9.2 b h) rfl (Nat.le_of_ble_eq_true rfl) (t_111 td) rfl rfl rfl (Nat.le_of_ble_eq_true rfl) (fun _ => Nat.le_of_ble_eq_true rfl) (fun _ => ⟨rfl, rfl⟩) dL_law_289 (fun p_10 => ?_)
  refine s_icmp_eq (pc := 292) (tgt := 860) dL_law_292 rfl ?_ ?_
  · refine s_iinc (pc := 860) (lf := fun x => [some (2, 0), some (2, 43), some (2, 111), some (0, x)]) dL_law_860 rfl (fun _ => rfl) (Nat.le_of_ble_eq_true rfl) (fun v => ?_)
    refine s_goto (pc := 863) (tgt := 18) dL_law_863 rfl ?_
    exact Sm.some (fun h => h)
  · refine s_iconst (pc := 295) dL_law_295 ?_
    exact s_zret (pc := 296) dL_law_296 rfl (fun h => h)
noncomputable def fL_c5 (N : Nat) (scr : Nat → Int) (i : Int) (sz sl : Nat) (td : TT) (c : CC) : Option (LSt ⊕ LSt) :=
  gd (inR (i + 1)) <|
  gd ((0 : Int) ≤ i + 1 ∧ i + 1 < (N : Int)) <|
  cl (fX0_say (scr (Int.toNat (i + 1))) c) fun p_11 =>
  gd (inR (i + 1)) <|
  gd ((0 : Int) ≤ i + 1 ∧ i + 1 < (N : Int)) <|
  cl (fX4_say (scr (Int.toNat (i + 1))) p_11.2) fun p_12 =>
  if p_11.1 = p_12.1 then (gd (inR (i + 6)) <| bd (i + 6) fun v => some (.inl (v, sz, sl, td, p_12.2))) else (gd ((0 : Int) ≤ 0 ∧ (0 : Int) < 2) (some (.inr (0, sz, sl, td, p_12.2))))
theorem sL_c5 {G : GG} {Γ : Cx} {nm : String} {r : Vv × Wd} {N : Nat} {scr : Nat → Int} (hS : ScrS G Γ N scr) (i : Int) (sz sl : Nat) (td : TT) (c : CC) : Sm (fL_c5 N scr i sz sl td c) (fun x => Sum.elim (gL G Γ nm r) (eL r) x) (WP G Γ (muL nm) r 297 [some (2, 0), some (2, 43), some (2, 111), some (0, i)] [] (sz, sl, tt td, cv c)) := by
  unfold fL_c5
  refine s_aload_n (pc := 297) dL_law_297 rfl ?_
  refine s_aload_n (pc := 298) dL_law_298 rfl ?_
  refine s_iload_n (pc := 299) dL_law_299 rfl ?_
  refine s_iconst (pc := 300) dL_law_300 ?_
  refine s_iadd (pc := 301) dL_law_301 ?_
  refine s_ialdS (pc := 302) hS dL_law_302 ?_
  refine s_callV3 (pc := 303) (a := 43) (as := [(0, scr (Int.toNat (i + 1)))]) (st := []) (rv := fun b => ((0, b.1), (sz, sl, tt td, cv b.2))) (st3 := fun b => [(0, b.1)]) (w3 := fun b => (sz, sl, tt td, cv b.2)) mvL_37 (fun b h => kX0_say (scr (Int.toNat (i + 1))) c b h) rfl (Nat.le_of_ble_eq_true rfl) (t_43 td) rfl rfl rfl (Nat.le_of_ble_eq_true rfl) (fun _ => Nat.le_of_ble_eq_true rfl) (fun _ => ⟨rfl, rfl⟩) dL_law_303 (fun p_11 => ?_)
  refine s_aload_n (pc := 306) dL_law_306 rfl ?_
  refine s_aload_n (pc := 307) dL_law_307 rfl ?_
  refine s_iload_n (pc := 308) dL_law_308 rfl ?_
  refine s_iconst (pc := 309) dL_law_309 ?_
  refine s_iadd (pc := 310) dL_law_310 ?_
  refine s_ialdS (pc := 311) hS dL_law_311 ?_
  refine s_callV3 (pc := 312) (a := 111) (as := [(0, scr (Int.toNat (i + 1)))]) (st := [(0, p_11.1)]) (rv := fun b => ((0, b.1), (sz, sl, tt td, cv b.2))) (st3 := fun b => [(0, b.1), (0, p_11.1)]) (w3 := fun b => (sz, sl, tt td, cv b.2)) mvL_40 (fun b h => kX4_say (scr (Int.toNat (i + 1))) p_11.2 b h) rfl (Nat.le_of_ble_eq_true rfl) (t_111 td) rfl rfl rfl (Nat.le_of_ble_eq_true rfl) (fun _ => Nat.le_of_ble_eq_true rfl) (fun _ => ⟨rfl, rfl⟩) dL_law_312 (fun p_12 => ?_)
  refine s_icmp_eq (pc := 315) (tgt := 860) dL_law_315 rfl ?_ ?_
  · refine s_iinc (pc := 860) (lf := fun x => [some (2, 0), some (2, 43), some (2, 111), some (0, x)]) dL_law_860 rfl (fun _ => rfl) (Nat.le_of_ble_eq_true rfl) (fun v => ?_)
    refine s_goto (pc := 863) (tgt := 18) dL_law_863 rfl ?_
    exact Sm.some (fun h => h)
  · refine s_iconst (pc := 318) dL_law_318 ?_
    exact s_zret (pc := 319) dL_law_319 rfl (fun h => h)
noncomputable def fL_c6 (N : Nat) (scr : Nat → Int) (i : Int) (sz sl : Nat) (td : TT) (c : CC) : Option (LSt ⊕ LSt) :=
  gd (inR (i + 1)) <|
  gd ((0 : Int) ≤ i + 1 ∧ i + 1 < (N : Int)) <|
  cl (fX0_unsay (scr (Int.toNat (i + 1))) c) fun p_13 =>
  gd (inR (i + 1)) <|
  gd ((0 : Int) ≤ i + 1 ∧ i + 1 < (N : Int)) <|
  cl (fX4_unsay (scr (Int.toNat (i + 1))) p_13.2) fun p_14 =>
  if p_13.1 = p_14.1 then (gd (inR (i + 6)) <| bd (i + 6) fun v => some (.inl (v, sz, sl, td, p_14.2))) else (gd ((0 : Int) ≤ 0 ∧ (0 : Int) < 2) (some (.inr (0, sz, sl, td, p_14.2))))
theorem sL_c6 {G : GG} {Γ : Cx} {nm : String} {r : Vv × Wd} {N : Nat} {scr : Nat → Int} (hS : ScrS G Γ N scr) (i : Int) (sz sl : Nat) (td : TT) (c : CC) : Sm (fL_c6 N scr i sz sl td c) (fun x => Sum.elim (gL G Γ nm r) (eL r) x) (WP G Γ (muL nm) r 320 [some (2, 0), some (2, 43), some (2, 111), some (0, i)] [] (sz, sl, tt td, cv c)) := by
  unfold fL_c6
  refine s_aload_n (pc := 320) dL_law_320 rfl ?_
  refine s_aload_n (pc := 321) dL_law_321 rfl ?_
  refine s_iload_n (pc := 322) dL_law_322 rfl ?_
  refine s_iconst (pc := 323) dL_law_323 ?_
  refine s_iadd (pc := 324) dL_law_324 ?_
  refine s_ialdS (pc := 325) hS dL_law_325 ?_
  refine s_callV3 (pc := 326) (a := 43) (as := [(0, scr (Int.toNat (i + 1)))]) (st := []) (rv := fun b => ((0, b.1), (sz, sl, tt td, cv b.2))) (st3 := fun b => [(0, b.1)]) (w3 := fun b => (sz, sl, tt td, cv b.2)) mvL_41 (fun b h => kX0_unsay (scr (Int.toNat (i + 1))) c b h) rfl (Nat.le_of_ble_eq_true rfl) (t_43 td) rfl rfl rfl (Nat.le_of_ble_eq_true rfl) (fun _ => Nat.le_of_ble_eq_true rfl) (fun _ => ⟨rfl, rfl⟩) dL_law_326 (fun p_13 => ?_)
  refine s_aload_n (pc := 329) dL_law_329 rfl ?_
  refine s_aload_n (pc := 330) dL_law_330 rfl ?_
  refine s_iload_n (pc := 331) dL_law_331 rfl ?_
  refine s_iconst (pc := 332) dL_law_332 ?_
  refine s_iadd (pc := 333) dL_law_333 ?_
  refine s_ialdS (pc := 334) hS dL_law_334 ?_
  refine s_callV3 (pc := 335) (a := 111) (as := [(0, scr (Int.toNat (i + 1)))]) (st := [(0, p_13.1)]) (rv := fun b => ((0, b.1), (sz, sl, tt td, cv b.2))) (st3 := fun b => [(0, b.1), (0, p_13.1)]) (w3 := fun b => (sz, sl, tt td, cv b.2)) mvL_44 (fun b h => kX4_unsay (scr (Int.toNat (i + 1))) p_13.2 b h) rfl (Nat.le_of_ble_eq_true rfl) (t_111 td) rfl rfl rfl (Nat.le_of_ble_eq_true rfl) (fun _ => Nat.le_of_ble_eq_true rfl) (fun _ => ⟨rfl, rfl⟩) dL_law_335 (fun p_14 => ?_)
  refine s_icmp_eq (pc := 338) (tgt := 860) dL_law_338 rfl ?_ ?_
  · refine s_iinc (pc := 860) (lf := fun x => [some (2, 0), some (2, 43), some (2, 111), some (0, x)]) dL_law_860 rfl (fun _ => rfl) (Nat.le_of_ble_eq_true rfl) (fun v => ?_)
    refine s_goto (pc := 863) (tgt := 18) dL_law_863 rfl ?_
    exact Sm.some (fun h => h)
  · refine s_iconst (pc := 341) dL_law_341 ?_
    exact s_zret (pc := 342) dL_law_342 rfl (fun h => h)
noncomputable def fL_c7 (N : Nat) (scr : Nat → Int) (i : Int) (sz sl : Nat) (td : TT) (c : CC) : Option (LSt ⊕ LSt) :=
  gd (inR (i + 1)) <|
  gd ((0 : Int) ≤ i + 1 ∧ i + 1 < (N : Int)) <|
  cl (fX0_word (scr (Int.toNat (i + 1))) c) fun p_15 =>
  gd (inR (i + 1)) <|
  gd ((0 : Int) ≤ i + 1 ∧ i + 1 < (N : Int)) <|
  cl (fX4_word (scr (Int.toNat (i + 1))) c) fun p_16 =>
  if p_15 = p_16 then (gd (inR (i + 6)) <| bd (i + 6) fun v => some (.inl (v, sz, sl, td, c))) else (gd ((0 : Int) ≤ 0 ∧ (0 : Int) < 2) (some (.inr (0, sz, sl, td, c))))
theorem sL_c7 {G : GG} {Γ : Cx} {nm : String} {r : Vv × Wd} {N : Nat} {scr : Nat → Int} (hS : ScrS G Γ N scr) (i : Int) (sz sl : Nat) (td : TT) (c : CC) : Sm (fL_c7 N scr i sz sl td c) (fun x => Sum.elim (gL G Γ nm r) (eL r) x) (WP G Γ (muL nm) r 343 [some (2, 0), some (2, 43), some (2, 111), some (0, i)] [] (sz, sl, tt td, cv c)) := by
  unfold fL_c7
  refine s_aload_n (pc := 343) dL_law_343 rfl ?_
  refine s_aload_n (pc := 344) dL_law_344 rfl ?_
  refine s_iload_n (pc := 345) dL_law_345 rfl ?_
  refine s_iconst (pc := 346) dL_law_346 ?_
  refine s_iadd (pc := 347) dL_law_347 ?_
  refine s_ialdS (pc := 348) hS dL_law_348 ?_
  refine s_callV3 (pc := 349) (a := 43) (as := [(0, scr (Int.toNat (i + 1)))]) (st := []) (rv := fun b => ((0, b), (sz, sl, tt td, cv c))) (st3 := fun b => [(0, b)]) (w3 := fun b => (sz, sl, tt td, cv c)) mvL_45 (fun b h => kX0_word (scr (Int.toNat (i + 1))) c b h) rfl (Nat.le_of_ble_eq_true rfl) (t_43 td) rfl rfl rfl (Nat.le_of_ble_eq_true rfl) (fun _ => Nat.le_of_ble_eq_true rfl) (fun _ => ⟨rfl, rfl⟩) dL_law_349 (fun p_15 => ?_)
  refine s_aload_n (pc := 352) dL_law_352 rfl ?_
  refine s_aload_n (pc := 353) dL_law_353 rfl ?_
  refine s_iload_n (pc := 354) dL_law_354 rfl ?_
  refine s_iconst (pc := 355) dL_law_355 ?_
  refine s_iadd (pc := 356) dL_law_356 ?_
  refine s_ialdS (pc := 357) hS dL_law_357 ?_
  refine s_callV3 (pc := 358) (a := 111) (as := [(0, scr (Int.toNat (i + 1)))]) (st := [(0, p_15)]) (rv := fun b => ((0, b), (sz, sl, tt td, cv c))) (st3 := fun b => [(0, b), (0, p_15)]) (w3 := fun b => (sz, sl, tt td, cv c)) mvL_48 (fun b h => kX4_word (scr (Int.toNat (i + 1))) c b h) rfl (Nat.le_of_ble_eq_true rfl) (t_111 td) rfl rfl rfl (Nat.le_of_ble_eq_true rfl) (fun _ => Nat.le_of_ble_eq_true rfl) (fun _ => ⟨rfl, rfl⟩) dL_law_358 (fun p_16 => ?_)
  refine s_icmp_eq (pc := 361) (tgt := 860) dL_law_361 rfl ?_ ?_
  · refine s_iinc (pc := 860) (lf := fun x => [some (2, 0), some (2, 43), some (2, 111), some (0, x)]) dL_law_860 rfl (fun _ => rfl) (Nat.le_of_ble_eq_true rfl) (fun v => ?_)
    refine s_goto (pc := 863) (tgt := 18) dL_law_863 rfl ?_
    exact Sm.some (fun h => h)
  · refine s_iconst (pc := 364) dL_law_364 ?_
    exact s_zret (pc := 365) dL_law_365 rfl (fun h => h)
noncomputable def fL_c8 (N : Nat) (scr : Nat → Int) (i : Int) (sz sl : Nat) (td : TT) (c : CC) : Option (LSt ⊕ LSt) :=
  gd (inR (i + 1)) <|
  gd ((0 : Int) ≤ i + 1 ∧ i + 1 < (N : Int)) <|
  cl (fX0_count (scr (Int.toNat (i + 1))) td c) fun p_17 =>
  gd (inR (i + 1)) <|
  gd ((0 : Int) ≤ i + 1 ∧ i + 1 < (N : Int)) <|
  cl (fX4_count (scr (Int.toNat (i + 1))) p_17.2) fun p_18 =>
  if p_17.1 = p_18.1 then (gd (inR (i + 6)) <| bd (i + 6) fun v => some (.inl (v, sz, sl, td, p_18.2))) else (gd ((0 : Int) ≤ 0 ∧ (0 : Int) < 2) (some (.inr (0, sz, sl, td, p_18.2))))
theorem sL_c8 {G : GG} {Γ : Cx} {nm : String} {r : Vv × Wd} {N : Nat} {scr : Nat → Int} (hS : ScrS G Γ N scr) (i : Int) (sz sl : Nat) (td : TT) (c : CC) : Sm (fL_c8 N scr i sz sl td c) (fun x => Sum.elim (gL G Γ nm r) (eL r) x) (WP G Γ (muL nm) r 366 [some (2, 0), some (2, 43), some (2, 111), some (0, i)] [] (sz, sl, tt td, cv c)) := by
  unfold fL_c8
  refine s_aload_n (pc := 366) dL_law_366 rfl ?_
  refine s_aload_n (pc := 367) dL_law_367 rfl ?_
  refine s_iload_n (pc := 368) dL_law_368 rfl ?_
  refine s_iconst (pc := 369) dL_law_369 ?_
  refine s_iadd (pc := 370) dL_law_370 ?_
  refine s_ialdS (pc := 371) hS dL_law_371 ?_
  refine s_callV3 (pc := 372) (a := 43) (as := [(0, scr (Int.toNat (i + 1)))]) (st := []) (rv := fun b => ((0, b.1), (sz, sl, tt td, cv b.2))) (st3 := fun b => [(0, b.1)]) (w3 := fun b => (sz, sl, tt td, cv b.2)) mvL_49 (fun b h => kX0_count (scr (Int.toNat (i + 1))) td c b h) rfl (Nat.le_of_ble_eq_true rfl) (t_43 td) rfl rfl rfl (Nat.le_of_ble_eq_true rfl) (fun _ => Nat.le_of_ble_eq_true rfl) (fun _ => ⟨rfl, rfl⟩) dL_law_372 (fun p_17 => ?_)
  refine s_aload_n (pc := 375) dL_law_375 rfl ?_
  refine s_aload_n (pc := 376) dL_law_376 rfl ?_
  refine s_iload_n (pc := 377) dL_law_377 rfl ?_
  refine s_iconst (pc := 378) dL_law_378 ?_
  refine s_iadd (pc := 379) dL_law_379 ?_
  refine s_ialdS (pc := 380) hS dL_law_380 ?_
  refine s_callV3 (pc := 381) (a := 111) (as := [(0, scr (Int.toNat (i + 1)))]) (st := [(0, p_17.1)]) (rv := fun b => ((0, b.1), (sz, sl, tt td, cv b.2))) (st3 := fun b => [(0, b.1), (0, p_17.1)]) (w3 := fun b => (sz, sl, tt td, cv b.2)) mvL_52 (fun b h => kX4_count (scr (Int.toNat (i + 1))) p_17.2 b h) rfl (Nat.le_of_ble_eq_true rfl) (t_111 td) rfl rfl rfl (Nat.le_of_ble_eq_true rfl) (fun _ => Nat.le_of_ble_eq_true rfl) (fun _ => ⟨rfl, rfl⟩) dL_law_381 (fun p_18 => ?_)
  refine s_icmp_eq (pc := 384) (tgt := 860) dL_law_384 rfl ?_ ?_
  · refine s_iinc (pc := 860) (lf := fun x => [some (2, 0), some (2, 43), some (2, 111), some (0, x)]) dL_law_860 rfl (fun _ => rfl) (Nat.le_of_ble_eq_true rfl) (fun v => ?_)
    refine s_goto (pc := 863) (tgt := 18) dL_law_863 rfl ?_
    exact Sm.some (fun h => h)
  · refine s_iconst (pc := 387) dL_law_387 ?_
    exact s_zret (pc := 388) dL_law_388 rfl (fun h => h)
noncomputable def fL_c9 (N : Nat) (scr : Nat → Int) (i : Int) (sz sl : Nat) (td : TT) (c : CC) : Option (LSt ⊕ LSt) :=
  gd (inR (i + 1)) <|
  gd ((0 : Int) ≤ i + 1 ∧ i + 1 < (N : Int)) <|
  gd (inR (i + 2)) <|
  gd ((0 : Int) ≤ i + 2 ∧ i + 2 < (N : Int)) <|
  cl (fX0_sense (scr (Int.toNat (i + 1))) (scr (Int.toNat (i + 2))) td c) fun p_19 =>
  gd (inR (i + 1)) <|
  gd ((0 : Int) ≤ i + 1 ∧ i + 1 < (N : Int)) <|
  gd (inR (i + 2)) <|
  gd ((0 : Int) ≤ i + 2 ∧ i + 2 < (N : Int)) <|
  cl (fX4_sense (scr (Int.toNat (i + 1))) (scr (Int.toNat (i + 2))) p_19.2) fun p_20 =>
  if p_19.1 = p_20.1 then (gd (inR (i + 6)) <| bd (i + 6) fun v => some (.inl (v, sz, sl, td, p_20.2))) else (gd ((0 : Int) ≤ 0 ∧ (0 : Int) < 2) (some (.inr (0, sz, sl, td, p_20.2))))
theorem sL_c9 {G : GG} {Γ : Cx} {nm : String} {r : Vv × Wd} {N : Nat} {scr : Nat → Int} (hS : ScrS G Γ N scr) (i : Int) (sz sl : Nat) (td : TT) (c : CC) : Sm (fL_c9 N scr i sz sl td c) (fun x => Sum.elim (gL G Γ nm r) (eL r) x) (WP G Γ (muL nm) r 389 [some (2, 0), some (2, 43), some (2, 111), some (0, i)] [] (sz, sl, tt td, cv c)) := by
  unfold fL_c9
  refine s_aload_n (pc := 389) dL_law_389 rfl ?_
  refine s_aload_n (pc := 390) dL_law_390 rfl ?_
  refine s_iload_n (pc := 391) dL_law_391 rfl ?_
  refine s_iconst (pc := 392) dL_law_392 ?_
  refine s_iadd (pc := 393) dL_law_393 ?_
  refine s_ialdS (pc := 394) hS dL_law_394 ?_
  refine s_aload_n (pc := 395) dL_law_395 rfl ?_
  refine s_iload_n (pc := 396) dL_law_396 rfl ?_
  refine s_iconst (pc := 397) dL_law_397 ?_
  refine s_iadd (pc := 398) dL_law_398 ?_
  refine s_ialdS (pc := 399) hS dL_law_399 ?_
  refine s_callV3 (pc := 400) (a := 43) (as := [(0, scr (Int.toNat (i + 1))), (0, scr (Int.toNat (i + 2)))]) (st := []) (rv := fun b => ((0, b.1), (sz, sl, tt td, cv b.2))) (st3 := fun b => [(0, b.1)]) (w3 := fun b => (sz, sl, tt td, cv b.2)) mvL_53 (fun b h => kX0_sense (scr (Int.toNat (i + 1))) (scr (Int.toNat (i + 2))) td c b h) rfl (Nat.le_of_ble_eq_true rfl) (t_43 td) rfl rfl rfl (Nat.le_of_ble_eq_true rfl) (fun _ => Nat.le_of_ble_eq_true rfl) (fun _ => ⟨rfl, rfl⟩) dL_law_400 (fun p_19 => ?_)
  refine s_aload_n (pc := 403) dL_law_403 rfl ?_
  refine s_aload_n (pc := 404) dL_law_404 rfl ?_
  refine s_iload_n (pc := 405) dL_law_405 rfl ?_
  refine s_iconst (pc := 406) dL_law_406 ?_
  refine s_iadd (pc := 407) dL_law_407 ?_
  refine s_ialdS (pc := 408) hS dL_law_408 ?_
  refine s_aload_n (pc := 409) dL_law_409 rfl ?_
  refine s_iload_n (pc := 410) dL_law_410 rfl ?_
  refine s_iconst (pc := 411) dL_law_411 ?_
  refine s_iadd (pc := 412) dL_law_412 ?_
  refine s_ialdS (pc := 413) hS dL_law_413 ?_
  refine s_callV3 (pc := 414) (a := 111) (as := [(0, scr (Int.toNat (i + 1))), (0, scr (Int.toNat (i + 2)))]) (st := [(0, p_19.1)]) (rv := fun b => ((0, b.1), (sz, sl, tt td, cv b.2))) (st3 := fun b => [(0, b.1), (0, p_19.1)]) (w3 := fun b => (sz, sl, tt td, cv b.2)) mvL_57 (fun b h => kX4_sense (scr (Int.toNat (i + 1))) (scr (Int.toNat (i + 2))) p_19.2 b h) rfl (Nat.le_of_ble_eq_true rfl) (t_111 td) rfl rfl rfl (Nat.le_of_ble_eq_true rfl) (fun _ => Nat.le_of_ble_eq_true rfl) (fun _ => ⟨rfl, rfl⟩) dL_law_414 (fun p_20 => ?_)
  refine s_icmp_eq (pc := 417) (tgt := 860) dL_law_417 rfl ?_ ?_
  · refine s_iinc (pc := 860) (lf := fun x => [some (2, 0), some (2, 43), some (2, 111), some (0, x)]) dL_law_860 rfl (fun _ => rfl) (Nat.le_of_ble_eq_true rfl) (fun v => ?_)
    refine s_goto (pc := 863) (tgt := 18) dL_law_863 rfl ?_
    exact Sm.some (fun h => h)
  · refine s_iconst (pc := 420) dL_law_420 ?_
    exact s_zret (pc := 421) dL_law_421 rfl (fun h => h)
noncomputable def fL_c10 (N : Nat) (scr : Nat → Int) (i : Int) (sz sl : Nat) (td : TT) (c : CC) : Option (LSt ⊕ LSt) :=
  gd (inR (i + 1)) <|
  gd ((0 : Int) ≤ i + 1 ∧ i + 1 < (N : Int)) <|
  gd (inR (i + 2)) <|
  gd ((0 : Int) ≤ i + 2 ∧ i + 2 < (N : Int)) <|
  cl (fX0_taken (scr (Int.toNat (i + 1))) (scr (Int.toNat (i + 2))) td c) fun p_21 =>
  gd (inR (i + 1)) <|
  gd ((0 : Int) ≤ i + 1 ∧ i + 1 < (N : Int)) <|
  gd (inR (i + 2)) <|
  gd ((0 : Int) ≤ i + 2 ∧ i + 2 < (N : Int)) <|
  cl (fX4_taken (scr (Int.toNat (i + 1))) (scr (Int.toNat (i + 2))) p_21.2) fun p_22 =>
  if p_21.1 = p_22.1 then (gd (inR (i + 6)) <| bd (i + 6) fun v => some (.inl (v, sz, sl, td, p_22.2))) else (gd ((0 : Int) ≤ 0 ∧ (0 : Int) < 2) (some (.inr (0, sz, sl, td, p_22.2))))
theorem sL_c10 {G : GG} {Γ : Cx} {nm : String} {r : Vv × Wd} {N : Nat} {scr : Nat → Int} (hS : ScrS G Γ N scr) (i : Int) (sz sl : Nat) (td : TT) (c : CC) : Sm (fL_c10 N scr i sz sl td c) (fun x => Sum.elim (gL G Γ nm r) (eL r) x) (WP G Γ (muL nm) r 422 [some (2, 0), some (2, 43), some (2, 111), some (0, i)] [] (sz, sl, tt td, cv c)) := by
  unfold fL_c10
  refine s_aload_n (pc := 422) dL_law_422 rfl ?_
  refine s_aload_n (pc := 423) dL_law_423 rfl ?_
  refine s_iload_n (pc := 424) dL_law_424 rfl ?_
  refine s_iconst (pc := 425) dL_law_425 ?_
  refine s_iadd (pc := 426) dL_law_426 ?_
  refine s_ialdS (pc := 427) hS dL_law_427 ?_
  refine s_aload_n (pc := 428) dL_law_428 rfl ?_
  refine s_iload_n (pc := 429) dL_law_429 rfl ?_
  refine s_iconst (pc := 430) dL_law_430 ?_
  refine s_iadd (pc := 431) dL_law_431 ?_
  refine s_ialdS (pc := 432) hS dL_law_432 ?_
  refine s_callV3 (pc := 433) (a := 43) (as := [(0, scr (Int.toNat (i + 1))), (0, scr (Int.toNat (i + 2)))]) (st := []) (rv := fun b => ((0, b.1), (sz, sl, tt td, cv b.2))) (st3 := fun b => [(0, b.1)]) (w3 := fun b => (sz, sl, tt td, cv b.2)) mvL_58 (fun b h => kX0_taken (scr (Int.toNat (i + 1))) (scr (Int.toNat (i + 2))) td c b h) rfl (Nat.le_of_ble_eq_true rfl) (t_43 td) rfl rfl rfl (Nat.le_of_ble_eq_true rfl) (fun _ => Nat.le_of_ble_eq_true rfl) (fun _ => ⟨rfl, rfl⟩) dL_law_433 (fun p_21 => ?_)
  refine s_aload_n (pc := 436) dL_law_436 rfl ?_
  refine s_aload_n (pc := 437) dL_law_437 rfl ?_
  refine s_iload_n (pc := 438) dL_law_438 rfl ?_
  refine s_iconst (pc := 439) dL_law_439 ?_
  refine s_iadd (pc := 440) dL_law_440 ?_
  refine s_ialdS (pc := 441) hS dL_law_441 ?_
  refine s_aload_n (pc := 442) dL_law_442 rfl ?_
  refine s_iload_n (pc := 443) dL_law_443 rfl ?_
  refine s_iconst (pc := 444) dL_law_444 ?_
  refine s_iadd (pc := 445) dL_law_445 ?_
  refine s_ialdS (pc := 446) hS dL_law_446 ?_
  refine s_callV3 (pc := 447) (a := 111) (as := [(0, scr (Int.toNat (i + 1))), (0, scr (Int.toNat (i + 2)))]) (st := [(0, p_21.1)]) (rv := fun b => ((0, b.1), (sz, sl, tt td, cv b.2))) (st3 := fun b => [(0, b.1), (0, p_21.1)]) (w3 := fun b => (sz, sl, tt td, cv b.2)) mvL_61 (fun b h => kX4_taken (scr (Int.toNat (i + 1))) (scr (Int.toNat (i + 2))) p_21.2 b h) rfl (Nat.le_of_ble_eq_true rfl) (t_111 td) rfl rfl rfl (Nat.le_of_ble_eq_true rfl) (fun _ => Nat.le_of_ble_eq_true rfl) (fun _ => ⟨rfl, rfl⟩) dL_law_447 (fun p_22 => ?_)
  refine s_icmp_eq (pc := 450) (tgt := 860) dL_law_450 rfl ?_ ?_
  · refine s_iinc (pc := 860) (lf := fun x => [some (2, 0), some (2, 43), some (2, 111), some (0, x)]) dL_law_860 rfl (fun _ => rfl) (Nat.le_of_ble_eq_true rfl) (fun v => ?_)
    refine s_goto (pc := 863) (tgt := 18) dL_law_863 rfl ?_
    exact Sm.some (fun h => h)
  · refine s_iconst (pc := 453) dL_law_453 ?_
    exact s_zret (pc := 454) dL_law_454 rfl (fun h => h)
noncomputable def fL_c11 (N : Nat) (scr : Nat → Int) (i : Int) (sz sl : Nat) (td : TT) (c : CC) : Option (LSt ⊕ LSt) :=
  gd (inR (i + 1)) <|
  gd ((0 : Int) ≤ i + 1 ∧ i + 1 < (N : Int)) <|
  gd (inR (i + 2)) <|
  gd ((0 : Int) ≤ i + 2 ∧ i + 2 < (N : Int)) <|
  cl (fX0_span (scr (Int.toNat (i + 1))) (scr (Int.toNat (i + 2))) td c) fun p_23 =>
  gd (inR (i + 1)) <|
  gd ((0 : Int) ≤ i + 1 ∧ i + 1 < (N : Int)) <|
  gd (inR (i + 2)) <|
  gd ((0 : Int) ≤ i + 2 ∧ i + 2 < (N : Int)) <|
  cl (fX4_span (scr (Int.toNat (i + 1))) (scr (Int.toNat (i + 2))) p_23.2) fun p_24 =>
  if p_23.1 = p_24.1 then (gd (inR (i + 6)) <| bd (i + 6) fun v => some (.inl (v, sz, sl, td, p_24.2))) else (gd ((0 : Int) ≤ 0 ∧ (0 : Int) < 2) (some (.inr (0, sz, sl, td, p_24.2))))
theorem sL_c11 {G : GG} {Γ : Cx} {nm : String} {r : Vv × Wd} {N : Nat} {scr : Nat → Int} (hS : ScrS G Γ N scr) (i : Int) (sz sl : Nat) (td : TT) (c : CC) : Sm (fL_c11 N scr i sz sl td c) (fun x => Sum.elim (gL G Γ nm r) (eL r) x) (WP G Γ (muL nm) r 455 [some (2, 0), some (2, 43), some (2, 111), some (0, i)] [] (sz, sl, tt td, cv c)) := by
  unfold fL_c11
  refine s_aload_n (pc := 455) dL_law_455 rfl ?_
  refine s_aload_n (pc := 456) dL_law_456 rfl ?_
  refine s_iload_n (pc := 457) dL_law_457 rfl ?_
  refine s_iconst (pc := 458) dL_law_458 ?_
  refine s_iadd (pc := 459) dL_law_459 ?_
  refine s_ialdS (pc := 460) hS dL_law_460 ?_
  refine s_aload_n (pc := 461) dL_law_461 rfl ?_
  refine s_iload_n (pc := 462) dL_law_462 rfl ?_
  refine s_iconst (pc := 463) dL_law_463 ?_
  refine s_iadd (pc := 464) dL_law_464 ?_
  refine s_ialdS (pc := 465) hS dL_law_465 ?_
  refine s_callV3 (pc := 466) (a := 43) (as := [(0, scr (Int.toNat (i + 1))), (0, scr (Int.toNat (i + 2)))]) (st := []) (rv := fun b => ((0, b.1), (sz, sl, tt td, cv b.2))) (st3 := fun b => [(0, b.1)]) (w3 := fun b => (sz, sl, tt td, cv b.2)) mvL_62 (fun b h => kX0_span (scr (Int.toNat (i + 1))) (scr (Int.toNat (i + 2))) td c b h) rfl (Nat.le_of_ble_eq_true rfl) (t_43 td) rfl rfl rfl (Nat.le_of_ble_eq_true rfl) (fun _ => Nat.le_of_ble_eq_true rfl) (fun _ => ⟨rfl, rfl⟩) dL_law_466 (fun p_23 => ?_)
  refine s_aload_n (pc := 469) dL_law_469 rfl ?_
  refine s_aload_n (pc := 470) dL_law_470 rfl ?_
  refine s_iload_n (pc := 471) dL_law_471 rfl ?_
  refine s_iconst (pc := 472) dL_law_472 ?_
  refine s_iadd (pc := 473) dL_law_473 ?_
  refine s_ialdS (pc := 474) hS dL_law_474 ?_
  refine s_aload_n (pc := 475) dL_law_475 rfl ?_
  refine s_iload_n (pc := 476) dL_law_476 rfl ?_
  refine s_iconst (pc := 477) dL_law_477 ?_
  refine s_iadd (pc := 478) dL_law_478 ?_
  refine s_ialdS (pc := 479) hS dL_law_479 ?_
  refine s_callV3 (pc := 480) (a := 111) (as := [(0, scr (Int.toNat (i + 1))), (0, scr (Int.toNat (i + 2)))]) (st := [(0, p_23.1)]) (rv := fun b => ((0, b.1), (sz, sl, tt td, cv b.2))) (st3 := fun b => [(0, b.1), (0, p_23.1)]) (w3 := fun b => (sz, sl, tt td, cv b.2)) mvL_65 (fun b h => kX4_span (scr (Int.toNat (i + 1))) (scr (Int.toNat (i + 2))) p_23.2 b h) rfl (Nat.le_of_ble_eq_true rfl) (t_111 td) rfl rfl rfl (Nat.le_of_ble_eq_true rfl) (fun _ => Nat.le_of_ble_eq_true rfl) (fun _ => ⟨rfl, rfl⟩) dL_law_480 (fun p_24 => ?_)
  refine s_icmp_eq (pc := 483) (tgt := 860) dL_law_483 rfl ?_ ?_
  · refine s_iinc (pc := 860) (lf := fun x => [some (2, 0), some (2, 43), some (2, 111), some (0, x)]) dL_law_860 rfl (fun _ => rfl) (Nat.le_of_ble_eq_true rfl) (fun v => ?_)
    refine s_goto (pc := 863) (tgt := 18) dL_law_863 rfl ?_
    exact Sm.some (fun h => h)
  · refine s_iconst (pc := 486) dL_law_486 ?_
    exact s_zret (pc := 487) dL_law_487 rfl (fun h => h)
noncomputable def fL_c12 (N : Nat) (scr : Nat → Int) (i : Int) (sz sl : Nat) (td : TT) (c : CC) : Option (LSt ⊕ LSt) :=
  cl (fX0_open  td c) fun p_25 =>
  cl (fX4_open  p_25.2) fun p_26 =>
  if p_25.1 = p_26.1 then (gd (inR (i + 6)) <| bd (i + 6) fun v => some (.inl (v, sz, sl, td, p_26.2))) else (gd ((0 : Int) ≤ 0 ∧ (0 : Int) < 2) (some (.inr (0, sz, sl, td, p_26.2))))
theorem sL_c12 {G : GG} {Γ : Cx} {nm : String} {r : Vv × Wd} {N : Nat} {scr : Nat → Int} (hS : ScrS G Γ N scr) (i : Int) (sz sl : Nat) (td : TT) (c : CC) : Sm (fL_c12 N scr i sz sl td c) (fun x => Sum.elim (gL G Γ nm r) (eL r) x) (WP G Γ (muL nm) r 488 [some (2, 0), some (2, 43), some (2, 111), some (0, i)] [] (sz, sl, tt td, cv c)) := by
  unfold fL_c12
  refine s_aload_n (pc := 488) dL_law_488 rfl ?_
  refine s_callV3 (pc := 489) (a := 43) (as := []) (st := []) (rv := fun b => ((0, b.1), (sz, sl, tt td, cv b.2))) (st3 := fun b => [(0, b.1)]) (w3 := fun b => (sz, sl, tt td, cv b.2)) mvL_66 (fun b h => kX0_open  td c b h) rfl (Nat.le_of_ble_eq_true rfl) (t_43 td) rfl rfl rfl (Nat.le_of_ble_eq_true rfl) (fun _ => Nat.le_of_ble_eq_true rfl) (fun _ => ⟨rfl, rfl⟩) dL_law_489 (fun p_25 => ?_)
  refine s_aload_n (pc := 492) dL_law_492 rfl ?_
  refine s_callV3 (pc := 493) (a := 111) (as := []) (st := [(0, p_25.1)]) (rv := fun b => ((0, b.1), (sz, sl, tt td, cv b.2))) (st3 := fun b => [(0, b.1), (0, p_25.1)]) (w3 := fun b => (sz, sl, tt td, cv b.2)) mvL_69 (fun b h => kX4_open  p_25.2 b h) rfl (Nat.le_of_ble_eq_true rfl) (t_111 td) rfl rfl rfl (Nat.le_of_ble_eq_true rfl) (fun _ => Nat.le_of_ble_eq_true rfl) (fun _ => ⟨rfl, rfl⟩) dL_law_493 (fun p_26 => ?_)
  refine s_icmp_eq (pc := 496) (tgt := 860) dL_law_496 rfl ?_ ?_
  · refine s_iinc (pc := 860) (lf := fun x => [some (2, 0), some (2, 43), some (2, 111), some (0, x)]) dL_law_860 rfl (fun _ => rfl) (Nat.le_of_ble_eq_true rfl) (fun v => ?_)
    refine s_goto (pc := 863) (tgt := 18) dL_law_863 rfl ?_
    exact Sm.some (fun h => h)
  · refine s_iconst (pc := 499) dL_law_499 ?_
    exact s_zret (pc := 500) dL_law_500 rfl (fun h => h)
noncomputable def fL_c13 (N : Nat) (scr : Nat → Int) (i : Int) (sz sl : Nat) (td : TT) (c : CC) : Option (LSt ⊕ LSt) :=
  gd (inR (i + 1)) <|
  gd ((0 : Int) ≤ i + 1 ∧ i + 1 < (N : Int)) <|
  cl (fX0_most (scr (Int.toNat (i + 1))) td c) fun p_27 =>
  gd (inR (i + 1)) <|
  gd ((0 : Int) ≤ i + 1 ∧ i + 1 < (N : Int)) <|
  cl (fX4_most (scr (Int.toNat (i + 1))) p_27.2) fun p_28 =>
  if p_27.1 = p_28.1 then (gd (inR (i + 6)) <| bd (i + 6) fun v => some (.inl (v, sz, sl, td, p_28.2))) else (gd ((0 : Int) ≤ 0 ∧ (0 : Int) < 2) (some (.inr (0, sz, sl, td, p_28.2))))
theorem sL_c13 {G : GG} {Γ : Cx} {nm : String} {r : Vv × Wd} {N : Nat} {scr : Nat → Int} (hS : ScrS G Γ N scr) (i : Int) (sz sl : Nat) (td : TT) (c : CC) : Sm (fL_c13 N scr i sz sl td c) (fun x => Sum.elim (gL G Γ nm r) (eL r) x) (WP G Γ (muL nm) r 501 [some (2, 0), some (2, 43), some (2, 111), some (0, i)] [] (sz, sl, tt td, cv c)) := by
  unfold fL_c13
  refine s_aload_n (pc := 501) dL_law_501 rfl ?_
  refine s_aload_n (pc := 502) dL_law_502 rfl ?_
  refine s_iload_n (pc := 503) dL_law_503 rfl ?_
  refine s_iconst (pc := 504) dL_law_504 ?_
  refine s_iadd (pc := 505) dL_law_505 ?_
  refine s_ialdS (pc := 506) hS dL_law_506 ?_
  refine s_callV3 (pc := 507) (a := 43) (as := [(0, scr (Int.toNat (i + 1)))]) (st := []) (rv := fun b => ((0, b.1), (sz, sl, tt td, cv b.2))) (st3 := fun b => [(0, b.1)]) (w3 := fun b => (sz, sl, tt td, cv b.2)) mvL_70 (fun b h => kX0_most (scr (Int.toNat (i + 1))) td c b h) rfl (Nat.le_of_ble_eq_true rfl) (t_43 td) rfl rfl rfl (Nat.le_of_ble_eq_true rfl) (fun _ => Nat.le_of_ble_eq_true rfl) (fun _ => ⟨rfl, rfl⟩) dL_law_507 (fun p_27 => ?_)
  refine s_aload_n (pc := 510) dL_law_510 rfl ?_
  refine s_aload_n (pc := 511) dL_law_511 rfl ?_
  refine s_iload_n (pc := 512) dL_law_512 rfl ?_
  refine s_iconst (pc := 513) dL_law_513 ?_
  refine s_iadd (pc := 514) dL_law_514 ?_
  refine s_ialdS (pc := 515) hS dL_law_515 ?_
  refine s_callV3 (pc := 516) (a := 111) (as := [(0, scr (Int.toNat (i + 1)))]) (st := [(0, p_27.1)]) (rv := fun b => ((0, b.1), (sz, sl, tt td, cv b.2))) (st3 := fun b => [(0, b.1), (0, p_27.1)]) (w3 := fun b => (sz, sl, tt td, cv b.2)) mvL_73 (fun b h => kX4_most (scr (Int.toNat (i + 1))) p_27.2 b h) rfl (Nat.le_of_ble_eq_true rfl) (t_111 td) rfl rfl rfl (Nat.le_of_ble_eq_true rfl) (fun _ => Nat.le_of_ble_eq_true rfl) (fun _ => ⟨rfl, rfl⟩) dL_law_516 (fun p_28 => ?_)
  refine s_icmp_eq (pc := 519) (tgt := 860) dL_law_519 rfl ?_ ?_
  · refine s_iinc (pc := 860) (lf := fun x => [some (2, 0), some (2, 43), some (2, 111), some (0, x)]) dL_law_860 rfl (fun _ => rfl) (Nat.le_of_ble_eq_true rfl) (fun v => ?_)
    refine s_goto (pc := 863) (tgt := 18) dL_law_863 rfl ?_
    exact Sm.some (fun h => h)
  · refine s_iconst (pc := 522) dL_law_522 ?_
    exact s_zret (pc := 523) dL_law_523 rfl (fun h => h)
noncomputable def fL_c14 (N : Nat) (scr : Nat → Int) (i : Int) (sz sl : Nat) (td : TT) (c : CC) : Option (LSt ⊕ LSt) :=
  gd (inR (i + 1)) <|
  gd ((0 : Int) ≤ i + 1 ∧ i + 1 < (N : Int)) <|
  gd (inR (i + 2)) <|
  gd ((0 : Int) ≤ i + 2 ∧ i + 2 < (N : Int)) <|
  cl (fX0_weight (scr (Int.toNat (i + 1))) (scr (Int.toNat (i + 2))) td c) fun p_29 =>
  gd (inR (i + 1)) <|
  gd ((0 : Int) ≤ i + 1 ∧ i + 1 < (N : Int)) <|
  gd (inR (i + 2)) <|
  gd ((0 : Int) ≤ i + 2 ∧ i + 2 < (N : Int)) <|
  cl (fX4_weight (scr (Int.toNat (i + 1))) (scr (Int.toNat (i + 2))) p_29.2) fun p_30 =>
  if p_29.1 = p_30.1 then (gd (inR (i + 6)) <| bd (i + 6) fun v => some (.inl (v, sz, sl, td, p_30.2))) else (gd ((0 : Int) ≤ 0 ∧ (0 : Int) < 2) (some (.inr (0, sz, sl, td, p_30.2))))
theorem sL_c14 {G : GG} {Γ : Cx} {nm : String} {r : Vv × Wd} {N : Nat} {scr : Nat → Int} (hS : ScrS G Γ N scr) (i : Int) (sz sl : Nat) (td : TT) (c : CC) : Sm (fL_c14 N scr i sz sl td c) (fun x => Sum.elim (gL G Γ nm r) (eL r) x) (WP G Γ (muL nm) r 524 [some (2, 0), some (2, 43), some (2, 111), some (0, i)] [] (sz, sl, tt td, cv c)) := by
  unfold fL_c14
  refine s_aload_n (pc := 524) dL_law_524 rfl ?_
  refine s_aload_n (pc := 525) dL_law_525 rfl ?_
  refine s_iload_n (pc := 526) dL_law_526 rfl ?_
  refine s_iconst (pc := 527) dL_law_527 ?_
  refine s_iadd (pc := 528) dL_law_528 ?_
  refine s_ialdS (pc := 529) hS dL_law_529 ?_
  refine s_aload_n (pc := 530) dL_law_530 rfl ?_
  refine s_iload_n (pc := 531) dL_law_531 rfl ?_
  refine s_iconst (pc := 532) dL_law_532 ?_
  refine s_iadd (pc := 533) dL_law_533 ?_
  refine s_ialdS (pc := 534) hS dL_law_534 ?_
  refine s_callV3 (pc := 535) (a := 43) (as := [(0, scr (Int.toNat (i + 1))), (0, scr (Int.toNat (i + 2)))]) (st := []) (rv := fun b => ((0, b.1), (sz, sl, tt td, cv b.2))) (st3 := fun b => [(0, b.1)]) (w3 := fun b => (sz, sl, tt td, cv b.2)) mvL_74 (fun b h => kX0_weight (scr (Int.toNat (i + 1))) (scr (Int.toNat (i + 2))) td c b h) rfl (Nat.le_of_ble_eq_true rfl) (t_43 td) rfl rfl rfl (Nat.le_of_ble_eq_true rfl) (fun _ => Nat.le_of_ble_eq_true rfl) (fun _ => ⟨rfl, rfl⟩) dL_law_535 (fun p_29 => ?_)
  refine s_aload_n (pc := 538) dL_law_538 rfl ?_
  refine s_aload_n (pc := 539) dL_law_539 rfl ?_
  refine s_iload_n (pc := 540) dL_law_540 rfl ?_
  refine s_iconst (pc := 541) dL_law_541 ?_
  refine s_iadd (pc := 542) dL_law_542 ?_
  refine s_ialdS (pc := 543) hS dL_law_543 ?_
  refine s_aload_n (pc := 544) dL_law_544 rfl ?_
  refine s_iload_n (pc := 545) dL_law_545 rfl ?_
  refine s_iconst (pc := 546) dL_law_546 ?_
  refine s_iadd (pc := 547) dL_law_547 ?_
  refine s_ialdS (pc := 548) hS dL_law_548 ?_
  refine s_callV3 (pc := 549) (a := 111) (as := [(0, scr (Int.toNat (i + 1))), (0, scr (Int.toNat (i + 2)))]) (st := [(0, p_29.1)]) (rv := fun b => ((0, b.1), (sz, sl, tt td, cv b.2))) (st3 := fun b => [(0, b.1), (0, p_29.1)]) (w3 := fun b => (sz, sl, tt td, cv b.2)) mvL_77 (fun b h => kX4_weight (scr (Int.toNat (i + 1))) (scr (Int.toNat (i + 2))) p_29.2 b h) rfl (Nat.le_of_ble_eq_true rfl) (t_111 td) rfl rfl rfl (Nat.le_of_ble_eq_true rfl) (fun _ => Nat.le_of_ble_eq_true rfl) (fun _ => ⟨rfl, rfl⟩) dL_law_549 (fun p_30 => ?_)
  refine s_icmp_eq (pc := 552) (tgt := 860) dL_law_552 rfl ?_ ?_
  · refine s_iinc (pc := 860) (lf := fun x => [some (2, 0), some (2, 43), some (2, 111), some (0, x)]) dL_law_860 rfl (fun _ => rfl) (Nat.le_of_ble_eq_true rfl) (fun v => ?_)
    refine s_goto (pc := 863) (tgt := 18) dL_law_863 rfl ?_
    exact Sm.some (fun h => h)
  · refine s_iconst (pc := 555) dL_law_555 ?_
    exact s_zret (pc := 556) dL_law_556 rfl (fun h => h)
noncomputable def fL_c15 (N : Nat) (scr : Nat → Int) (i : Int) (sz sl : Nat) (td : TT) (c : CC) : Option (LSt ⊕ LSt) :=
  gd (inR (i + 1)) <|
  gd ((0 : Int) ≤ i + 1 ∧ i + 1 < (N : Int)) <|
  gd (inR (i + 2)) <|
  gd ((0 : Int) ≤ i + 2 ∧ i + 2 < (N : Int)) <|
  cl (fX0_same (scr (Int.toNat (i + 1))) (scr (Int.toNat (i + 2))) td c) fun p_31 =>
  gd (inR (i + 1)) <|
  gd ((0 : Int) ≤ i + 1 ∧ i + 1 < (N : Int)) <|
  gd (inR (i + 2)) <|
  gd ((0 : Int) ≤ i + 2 ∧ i + 2 < (N : Int)) <|
  cl (fX4_same (scr (Int.toNat (i + 1))) (scr (Int.toNat (i + 2))) p_31.2) fun p_32 =>
  if p_31.1 = p_32.1 then (gd (inR (i + 6)) <| bd (i + 6) fun v => some (.inl (v, sz, sl, td, p_32.2))) else (gd ((0 : Int) ≤ 0 ∧ (0 : Int) < 2) (some (.inr (0, sz, sl, td, p_32.2))))
theorem sL_c15 {G : GG} {Γ : Cx} {nm : String} {r : Vv × Wd} {N : Nat} {scr : Nat → Int} (hS : ScrS G Γ N scr) (i : Int) (sz sl : Nat) (td : TT) (c : CC) : Sm (fL_c15 N scr i sz sl td c) (fun x => Sum.elim (gL G Γ nm r) (eL r) x) (WP G Γ (muL nm) r 557 [some (2, 0), some (2, 43), some (2, 111), some (0, i)] [] (sz, sl, tt td, cv c)) := by
  unfold fL_c15
  refine s_aload_n (pc := 557) dL_law_557 rfl ?_
  refine s_aload_n (pc := 558) dL_law_558 rfl ?_
  refine s_iload_n (pc := 559) dL_law_559 rfl ?_
  refine s_iconst (pc := 560) dL_law_560 ?_
  refine s_iadd (pc := 561) dL_law_561 ?_
  refine s_ialdS (pc := 562) hS dL_law_562 ?_
  refine s_aload_n (pc := 563) dL_law_563 rfl ?_
  refine s_iload_n (pc := 564) dL_law_564 rfl ?_
  refine s_iconst (pc := 565) dL_law_565 ?_
  refine s_iadd (pc := 566) dL_law_566 ?_
  refine s_ialdS (pc := 567) hS dL_law_567 ?_
  refine s_callV3 (pc := 568) (a := 43) (as := [(0, scr (Int.toNat (i + 1))), (0, scr (Int.toNat (i + 2)))]) (st := []) (rv := fun b => ((0, b.1), (sz, sl, tt td, cv b.2))) (st3 := fun b => [(0, b.1)]) (w3 := fun b => (sz, sl, tt td, cv b.2)) mvL_78 (fun b h => kX0_same (scr (Int.toNat (i + 1))) (scr (Int.toNat (i + 2))) td c b h) rfl (Nat.le_of_ble_eq_true rfl) (t_43 td) rfl rfl rfl (Nat.le_of_ble_eq_true rfl) (fun _ => Nat.le_of_ble_eq_true rfl) (fun _ => ⟨rfl, rfl⟩) dL_law_568 (fun p_31 => ?_)
  refine s_aload_n (pc := 571) dL_law_571 rfl ?_
  refine s_aload_n (pc := 572) dL_law_572 rfl ?_
  refine s_iload_n (pc := 573) dL_law_573 rfl ?_
  refine s_iconst (pc := 574) dL_law_574 ?_
  refine s_iadd (pc := 575) dL_law_575 ?_
  refine s_ialdS (pc := 576) hS dL_law_576 ?_
  refine s_aload_n (pc := 577) dL_law_577 rfl ?_
  refine s_iload_n (pc := 578) dL_law_578 rfl ?_
  refine s_iconst (pc := 579) dL_law_579 ?_
  refine s_iadd (pc := 580) dL_law_580 ?_
  refine s_ialdS (pc := 581) hS dL_law_581 ?_
  refine s_callV3 (pc := 582) (a := 111) (as := [(0, scr (Int.toNat (i + 1))), (0, scr (Int.toNat (i + 2)))]) (st := [(0, p_31.1)]) (rv := fun b => ((0, b.1), (sz, sl, tt td, cv b.2))) (st3 := fun b => [(0, b.1), (0, p_31.1)]) (w3 := fun b => (sz, sl, tt td, cv b.2)) mvL_82 (fun b h => kX4_same (scr (Int.toNat (i + 1))) (scr (Int.toNat (i + 2))) p_31.2 b h) rfl (Nat.le_of_ble_eq_true rfl) (t_111 td) rfl rfl rfl (Nat.le_of_ble_eq_true rfl) (fun _ => Nat.le_of_ble_eq_true rfl) (fun _ => ⟨rfl, rfl⟩) dL_law_582 (fun p_32 => ?_)
  refine s_icmp_eq (pc := 585) (tgt := 860) dL_law_585 rfl ?_ ?_
  · refine s_iinc (pc := 860) (lf := fun x => [some (2, 0), some (2, 43), some (2, 111), some (0, x)]) dL_law_860 rfl (fun _ => rfl) (Nat.le_of_ble_eq_true rfl) (fun v => ?_)
    refine s_goto (pc := 863) (tgt := 18) dL_law_863 rfl ?_
    exact Sm.some (fun h => h)
  · refine s_iconst (pc := 588) dL_law_588 ?_
    exact s_zret (pc := 589) dL_law_589 rfl (fun h => h)
noncomputable def fL_c16 (N : Nat) (scr : Nat → Int) (i : Int) (sz sl : Nat) (td : TT) (c : CC) : Option (LSt ⊕ LSt) :=
  gd (inR (i + 1)) <|
  gd ((0 : Int) ≤ i + 1 ∧ i + 1 < (N : Int)) <|
  cl (fX0_kin (scr (Int.toNat (i + 1))) td c) fun p_33 =>
  gd (inR (i + 1)) <|
  gd ((0 : Int) ≤ i + 1 ∧ i + 1 < (N : Int)) <|
  cl (fX4_kin (scr (Int.toNat (i + 1))) p_33.2) fun p_34 =>
  if p_33.1 = p_34.1 then (gd (inR (i + 6)) <| bd (i + 6) fun v => some (.inl (v, sz, sl, td, p_34.2))) else (gd ((0 : Int) ≤ 0 ∧ (0 : Int) < 2) (some (.inr (0, sz, sl, td, p_34.2))))
theorem sL_c16 {G : GG} {Γ : Cx} {nm : String} {r : Vv × Wd} {N : Nat} {scr : Nat → Int} (hS : ScrS G Γ N scr) (i : Int) (sz sl : Nat) (td : TT) (c : CC) : Sm (fL_c16 N scr i sz sl td c) (fun x => Sum.elim (gL G Γ nm r) (eL r) x) (WP G Γ (muL nm) r 590 [some (2, 0), some (2, 43), some (2, 111), some (0, i)] [] (sz, sl, tt td, cv c)) := by
  unfold fL_c16
  refine s_aload_n (pc := 590) dL_law_590 rfl ?_
  refine s_aload_n (pc := 591) dL_law_591 rfl ?_
  refine s_iload_n (pc := 592) dL_law_592 rfl ?_
  refine s_iconst (pc := 593) dL_law_593 ?_
  refine s_iadd (pc := 594) dL_law_594 ?_
  refine s_ialdS (pc := 595) hS dL_law_595 ?_
  refine s_callV3 (pc := 596) (a := 43) (as := [(0, scr (Int.toNat (i + 1)))]) (st := []) (rv := fun b => ((0, b.1), (sz, sl, tt td, cv b.2))) (st3 := fun b => [(0, b.1)]) (w3 := fun b => (sz, sl, tt td, cv b.2)) mvL_83 (fun b h => kX0_kin (scr (Int.toNat (i + 1))) td c b h) rfl (Nat.le_of_ble_eq_true rfl) (t_43 td) rfl rfl rfl (Nat.le_of_ble_eq_true rfl) (fun _ => Nat.le_of_ble_eq_true rfl) (fun _ => ⟨rfl, rfl⟩) dL_law_596 (fun p_33 => ?_)
  refine s_aload_n (pc := 599) dL_law_599 rfl ?_
  refine s_aload_n (pc := 600) dL_law_600 rfl ?_
  refine s_iload_n (pc := 601) dL_law_601 rfl ?_
  refine s_iconst (pc := 602) dL_law_602 ?_
  refine s_iadd (pc := 603) dL_law_603 ?_
  refine s_ialdS (pc := 604) hS dL_law_604 ?_
  refine s_callV3 (pc := 605) (a := 111) (as := [(0, scr (Int.toNat (i + 1)))]) (st := [(0, p_33.1)]) (rv := fun b => ((0, b.1), (sz, sl, tt td, cv b.2))) (st3 := fun b => [(0, b.1), (0, p_33.1)]) (w3 := fun b => (sz, sl, tt td, cv b.2)) mvL_86 (fun b h => kX4_kin (scr (Int.toNat (i + 1))) p_33.2 b h) rfl (Nat.le_of_ble_eq_true rfl) (t_111 td) rfl rfl rfl (Nat.le_of_ble_eq_true rfl) (fun _ => Nat.le_of_ble_eq_true rfl) (fun _ => ⟨rfl, rfl⟩) dL_law_605 (fun p_34 => ?_)
  refine s_icmp_eq (pc := 608) (tgt := 860) dL_law_608 rfl ?_ ?_
  · refine s_iinc (pc := 860) (lf := fun x => [some (2, 0), some (2, 43), some (2, 111), some (0, x)]) dL_law_860 rfl (fun _ => rfl) (Nat.le_of_ble_eq_true rfl) (fun v => ?_)
    refine s_goto (pc := 863) (tgt := 18) dL_law_863 rfl ?_
    exact Sm.some (fun h => h)
  · refine s_iconst (pc := 611) dL_law_611 ?_
    exact s_zret (pc := 612) dL_law_612 rfl (fun h => h)
noncomputable def fL_c17 (N : Nat) (scr : Nat → Int) (i : Int) (sz sl : Nat) (td : TT) (c : CC) : Option (LSt ⊕ LSt) :=
  cl (fX0_meant  sz sl td c) fun p_35 =>
  cl (fX4_meant  p_35.2.2.2.2) fun p_36 =>
  if p_35.1 = p_36.1 then (gd (inR (i + 6)) <| bd (i + 6) fun v => some (.inl (v, p_35.2.1, p_35.2.2.1, p_35.2.2.2.1, p_36.2))) else (gd ((0 : Int) ≤ 0 ∧ (0 : Int) < 2) (some (.inr (0, p_35.2.1, p_35.2.2.1, p_35.2.2.2.1, p_36.2))))
theorem sL_c17 {G : GG} {Γ : Cx} {nm : String} {r : Vv × Wd} {N : Nat} {scr : Nat → Int} (hS : ScrS G Γ N scr) (i : Int) (sz sl : Nat) (td : TT) (c : CC) : Sm (fL_c17 N scr i sz sl td c) (fun x => Sum.elim (gL G Γ nm r) (eL r) x) (WP G Γ (muL nm) r 613 [some (2, 0), some (2, 43), some (2, 111), some (0, i)] [] (sz, sl, tt td, cv c)) := by
  unfold fL_c17
  refine s_aload_n (pc := 613) dL_law_613 rfl ?_
  refine s_callV3 (pc := 614) (a := 43) (as := []) (st := []) (rv := fun b => ((0, b.1), (b.2.1, b.2.2.1, tt b.2.2.2.1, cv b.2.2.2.2))) (st3 := fun b => [(0, b.1)]) (w3 := fun b => (b.2.1, b.2.2.1, tt b.2.2.2.1, cv b.2.2.2.2)) mvL_87 (fun b h => kX0_meant  sz sl td c b h) rfl (Nat.le_of_ble_eq_true rfl) (t_43 td) rfl rfl rfl (Nat.le_of_ble_eq_true rfl) (fun _ => Nat.le_of_ble_eq_true rfl) (fun _ => ⟨rfl, rfl⟩) dL_law_614 (fun p_35 => ?_)
  refine s_aload_n (pc := 617) dL_law_617 rfl ?_
  refine s_callV3 (pc := 618) (a := 111) (as := []) (st := [(0, p_35.1)]) (rv := fun b => ((0, b.1), (p_35.2.1, p_35.2.2.1, tt p_35.2.2.2.1, cv b.2))) (st3 := fun b => [(0, b.1), (0, p_35.1)]) (w3 := fun b => (p_35.2.1, p_35.2.2.1, tt p_35.2.2.2.1, cv b.2)) mvL_90 (fun b h => kX4_meant  p_35.2.2.2.2 b h) rfl (Nat.le_of_ble_eq_true rfl) (t_111 p_35.2.2.2.1) rfl rfl rfl (Nat.le_of_ble_eq_true rfl) (fun _ => Nat.le_of_ble_eq_true rfl) (fun _ => ⟨rfl, rfl⟩) dL_law_618 (fun p_36 => ?_)
  refine s_icmp_eq (pc := 621) (tgt := 860) dL_law_621 rfl ?_ ?_
  · refine s_iinc (pc := 860) (lf := fun x => [some (2, 0), some (2, 43), some (2, 111), some (0, x)]) dL_law_860 rfl (fun _ => rfl) (Nat.le_of_ble_eq_true rfl) (fun v => ?_)
    refine s_goto (pc := 863) (tgt := 18) dL_law_863 rfl ?_
    exact Sm.some (fun h => h)
  · refine s_iconst (pc := 624) dL_law_624 ?_
    exact s_zret (pc := 625) dL_law_625 rfl (fun h => h)
noncomputable def fL_c18 (N : Nat) (scr : Nat → Int) (i : Int) (sz sl : Nat) (td : TT) (c : CC) : Option (LSt ⊕ LSt) :=
  gd (inR (i + 1)) <|
  gd ((0 : Int) ≤ i + 1 ∧ i + 1 < (N : Int)) <|
  gd (inR (i + 2)) <|
  gd ((0 : Int) ≤ i + 2 ∧ i + 2 < (N : Int)) <|
  gd (inR (i + 3)) <|
  gd ((0 : Int) ≤ i + 3 ∧ i + 3 < (N : Int)) <|
  gd (inR (i + 4)) <|
  gd ((0 : Int) ≤ i + 4 ∧ i + 4 < (N : Int)) <|
  cl (fX0_hear (scr (Int.toNat (i + 1))) (scr (Int.toNat (i + 2))) (scr (Int.toNat (i + 3))) (scr (Int.toNat (i + 4))) td c) fun p_37 =>
  gd (inR (i + 1)) <|
  gd ((0 : Int) ≤ i + 1 ∧ i + 1 < (N : Int)) <|
  gd (inR (i + 2)) <|
  gd ((0 : Int) ≤ i + 2 ∧ i + 2 < (N : Int)) <|
  gd (inR (i + 3)) <|
  gd ((0 : Int) ≤ i + 3 ∧ i + 3 < (N : Int)) <|
  gd (inR (i + 4)) <|
  gd ((0 : Int) ≤ i + 4 ∧ i + 4 < (N : Int)) <|
  cl (fX4_hear (scr (Int.toNat (i + 1))) (scr (Int.toNat (i + 2))) (scr (Int.toNat (i + 3))) (scr (Int.toNat (i + 4))) p_37.2) fun p_38 =>
  if p_37.1 = p_38.1 then (gd (inR (i + 6)) <| bd (i + 6) fun v => some (.inl (v, sz, sl, td, p_38.2))) else (gd ((0 : Int) ≤ 0 ∧ (0 : Int) < 2) (some (.inr (0, sz, sl, td, p_38.2))))
theorem sL_c18 {G : GG} {Γ : Cx} {nm : String} {r : Vv × Wd} {N : Nat} {scr : Nat → Int} (hS : ScrS G Γ N scr) (i : Int) (sz sl : Nat) (td : TT) (c : CC) : Sm (fL_c18 N scr i sz sl td c) (fun x => Sum.elim (gL G Γ nm r) (eL r) x) (WP G Γ (muL nm) r 626 [some (2, 0), some (2, 43), some (2, 111), some (0, i)] [] (sz, sl, tt td, cv c)) := by
  unfold fL_c18
  refine s_aload_n (pc := 626) dL_law_626 rfl ?_
  refine s_aload_n (pc := 627) dL_law_627 rfl ?_
  refine s_iload_n (pc := 628) dL_law_628 rfl ?_
  refine s_iconst (pc := 629) dL_law_629 ?_
  refine s_iadd (pc := 630) dL_law_630 ?_
  refine s_ialdS (pc := 631) hS dL_law_631 ?_
  refine s_aload_n (pc := 632) dL_law_632 rfl ?_
  refine s_iload_n (pc := 633) dL_law_633 rfl ?_
  refine s_iconst (pc := 634) dL_law_634 ?_
  refine s_iadd (pc := 635) dL_law_635 ?_
  refine s_ialdS (pc := 636) hS dL_law_636 ?_
  refine s_aload_n (pc := 637) dL_law_637 rfl ?_
  refine s_iload_n (pc := 638) dL_law_638 rfl ?_
  refine s_iconst (pc := 639) dL_law_639 ?_
  refine s_iadd (pc := 640) dL_law_640 ?_
  refine s_ialdS (pc := 641) hS dL_law_641 ?_
  refine s_aload_n (pc := 642) dL_law_642 rfl ?_
  refine s_iload_n (pc := 643) dL_law_643 rfl ?_
  refine s_iconst (pc := 644) dL_law_644 ?_
  refine s_iadd (pc := 645) dL_law_645 ?_
  refine s_ialdS (pc := 646) hS dL_law_646 ?_
  refine s_callV3 (pc := 647) (a := 43) (as := [(0, scr (Int.toNat (i + 1))), (0, scr (Int.toNat (i + 2))), (0, scr (Int.toNat (i + 3))), (0, scr (Int.toNat (i + 4)))]) (st := []) (rv := fun b => ((0, b.1), (sz, sl, tt td, cv b.2))) (st3 := fun b => [(0, b.1)]) (w3 := fun b => (sz, sl, tt td, cv b.2)) mvL_91 (fun b h => kX0_hear (scr (Int.toNat (i + 1))) (scr (Int.toNat (i + 2))) (scr (Int.toNat (i + 3))) (scr (Int.toNat (i + 4))) td c b h) rfl (Nat.le_of_ble_eq_true rfl) (t_43 td) rfl rfl rfl (Nat.le_of_ble_eq_true rfl) (fun _ => Nat.le_of_ble_eq_true rfl) (fun _ => ⟨rfl, rfl⟩) dL_law_647 (fun p_37 => ?_)
  refine s_aload_n (pc := 650) dL_law_650 rfl ?_
  refine s_aload_n (pc := 651) dL_law_651 rfl ?_
  refine s_iload_n (pc := 652) dL_law_652 rfl ?_
  refine s_iconst (pc := 653) dL_law_653 ?_
  refine s_iadd (pc := 654) dL_law_654 ?_
  refine s_ialdS (pc := 655) hS dL_law_655 ?_
  refine s_aload_n (pc := 656) dL_law_656 rfl ?_
  refine s_iload_n (pc := 657) dL_law_657 rfl ?_
  refine s_iconst (pc := 658) dL_law_658 ?_
  refine s_iadd (pc := 659) dL_law_659 ?_
  refine s_ialdS (pc := 660) hS dL_law_660 ?_
  refine s_aload_n (pc := 661) dL_law_661 rfl ?_
  refine s_iload_n (pc := 662) dL_law_662 rfl ?_
  refine s_iconst (pc := 663) dL_law_663 ?_
  refine s_iadd (pc := 664) dL_law_664 ?_
  refine s_ialdS (pc := 665) hS dL_law_665 ?_
  refine s_aload_n (pc := 666) dL_law_666 rfl ?_
  refine s_iload_n (pc := 667) dL_law_667 rfl ?_
  refine s_iconst (pc := 668) dL_law_668 ?_
  refine s_iadd (pc := 669) dL_law_669 ?_
  refine s_ialdS (pc := 670) hS dL_law_670 ?_
  refine s_callV3 (pc := 671) (a := 111) (as := [(0, scr (Int.toNat (i + 1))), (0, scr (Int.toNat (i + 2))), (0, scr (Int.toNat (i + 3))), (0, scr (Int.toNat (i + 4)))]) (st := [(0, p_37.1)]) (rv := fun b => ((0, b.1), (sz, sl, tt td, cv b.2))) (st3 := fun b => [(0, b.1), (0, p_37.1)]) (w3 := fun b => (sz, sl, tt td, cv b.2)) mvL_95 (fun b h => kX4_hear (scr (Int.toNat (i + 1))) (scr (Int.toNat (i + 2))) (scr (Int.toNat (i + 3))) (scr (Int.toNat (i + 4))) p_37.2 b h) rfl (Nat.le_of_ble_eq_true rfl) (t_111 td) rfl rfl rfl (Nat.le_of_ble_eq_true rfl) (fun _ => Nat.le_of_ble_eq_true rfl) (fun _ => ⟨rfl, rfl⟩) dL_law_671 (fun p_38 => ?_)
  refine s_icmp_eq (pc := 674) (tgt := 860) dL_law_674 rfl ?_ ?_
  · refine s_iinc (pc := 860) (lf := fun x => [some (2, 0), some (2, 43), some (2, 111), some (0, x)]) dL_law_860 rfl (fun _ => rfl) (Nat.le_of_ble_eq_true rfl) (fun v => ?_)
    refine s_goto (pc := 863) (tgt := 18) dL_law_863 rfl ?_
    exact Sm.some (fun h => h)
  · refine s_iconst (pc := 677) dL_law_677 ?_
    exact s_zret (pc := 678) dL_law_678 rfl (fun h => h)
noncomputable def fL_c19 (N : Nat) (scr : Nat → Int) (i : Int) (sz sl : Nat) (td : TT) (c : CC) : Option (LSt ⊕ LSt) :=
  gd (inR (i + 1)) <|
  gd ((0 : Int) ≤ i + 1 ∧ i + 1 < (N : Int)) <|
  gd (inR (i + 2)) <|
  gd ((0 : Int) ≤ i + 2 ∧ i + 2 < (N : Int)) <|
  cl (fX0_enough (scr (Int.toNat (i + 1))) (scr (Int.toNat (i + 2))) td c) fun p_39 =>
  gd (inR (i + 1)) <|
  gd ((0 : Int) ≤ i + 1 ∧ i + 1 < (N : Int)) <|
  gd (inR (i + 2)) <|
  gd ((0 : Int) ≤ i + 2 ∧ i + 2 < (N : Int)) <|
  cl (fX4_enough (scr (Int.toNat (i + 1))) (scr (Int.toNat (i + 2))) p_39.2) fun p_40 =>
  if p_39.1 = p_40.1 then (gd (inR (i + 6)) <| bd (i + 6) fun v => some (.inl (v, sz, sl, td, p_40.2))) else (gd ((0 : Int) ≤ 0 ∧ (0 : Int) < 2) (some (.inr (0, sz, sl, td, p_40.2))))
theorem sL_c19 {G : GG} {Γ : Cx} {nm : String} {r : Vv × Wd} {N : Nat} {scr : Nat → Int} (hS : ScrS G Γ N scr) (i : Int) (sz sl : Nat) (td : TT) (c : CC) : Sm (fL_c19 N scr i sz sl td c) (fun x => Sum.elim (gL G Γ nm r) (eL r) x) (WP G Γ (muL nm) r 679 [some (2, 0), some (2, 43), some (2, 111), some (0, i)] [] (sz, sl, tt td, cv c)) := by
  unfold fL_c19
  refine s_aload_n (pc := 679) dL_law_679 rfl ?_
  refine s_aload_n (pc := 680) dL_law_680 rfl ?_
  refine s_iload_n (pc := 681) dL_law_681 rfl ?_
  refine s_iconst (pc := 682) dL_law_682 ?_
  refine s_iadd (pc := 683) dL_law_683 ?_
  refine s_ialdS (pc := 684) hS dL_law_684 ?_
  refine s_aload_n (pc := 685) dL_law_685 rfl ?_
  refine s_iload_n (pc := 686) dL_law_686 rfl ?_
  refine s_iconst (pc := 687) dL_law_687 ?_
  refine s_iadd (pc := 688) dL_law_688 ?_
  refine s_ialdS (pc := 689) hS dL_law_689 ?_
  refine s_callV3 (pc := 690) (a := 43) (as := [(0, scr (Int.toNat (i + 1))), (0, scr (Int.toNat (i + 2)))]) (st := []) (rv := fun b => ((0, b.1), (sz, sl, tt td, cv b.2))) (st3 := fun b => [(0, b.1)]) (w3 := fun b => (sz, sl, tt td, cv b.2)) mvL_96 (fun b h => kX0_enough (scr (Int.toNat (i + 1))) (scr (Int.toNat (i + 2))) td c b h) rfl (Nat.le_of_ble_eq_true rfl) (t_43 td) rfl rfl rfl (Nat.le_of_ble_eq_true rfl) (fun _ => Nat.le_of_ble_eq_true rfl) (fun _ => ⟨rfl, rfl⟩) dL_law_690 (fun p_39 => ?_)
  refine s_aload_n (pc := 693) dL_law_693 rfl ?_
  refine s_aload_n (pc := 694) dL_law_694 rfl ?_
  refine s_iload_n (pc := 695) dL_law_695 rfl ?_
  refine s_iconst (pc := 696) dL_law_696 ?_
  refine s_iadd (pc := 697) dL_law_697 ?_
  refine s_ialdS (pc := 698) hS dL_law_698 ?_
  refine s_aload_n (pc := 699) dL_law_699 rfl ?_
  refine s_iload_n (pc := 700) dL_law_700 rfl ?_
  refine s_iconst (pc := 701) dL_law_701 ?_
  refine s_iadd (pc := 702) dL_law_702 ?_
  refine s_ialdS (pc := 703) hS dL_law_703 ?_
  refine s_callV3 (pc := 704) (a := 111) (as := [(0, scr (Int.toNat (i + 1))), (0, scr (Int.toNat (i + 2)))]) (st := [(0, p_39.1)]) (rv := fun b => ((0, b.1), (sz, sl, tt td, cv b.2))) (st3 := fun b => [(0, b.1), (0, p_39.1)]) (w3 := fun b => (sz, sl, tt td, cv b.2)) mvL_99 (fun b h => kX4_enough (scr (Int.toNat (i + 1))) (scr (Int.toNat (i + 2))) p_39.2 b h) rfl (Nat.le_of_ble_eq_true rfl) (t_111 td) rfl rfl rfl (Nat.le_of_ble_eq_true rfl) (fun _ => Nat.le_of_ble_eq_true rfl) (fun _ => ⟨rfl, rfl⟩) dL_law_704 (fun p_40 => ?_)
  refine s_icmp_eq (pc := 707) (tgt := 860) dL_law_707 rfl ?_ ?_
  · refine s_iinc (pc := 860) (lf := fun x => [some (2, 0), some (2, 43), some (2, 111), some (0, x)]) dL_law_860 rfl (fun _ => rfl) (Nat.le_of_ble_eq_true rfl) (fun v => ?_)
    refine s_goto (pc := 863) (tgt := 18) dL_law_863 rfl ?_
    exact Sm.some (fun h => h)
  · refine s_iconst (pc := 710) dL_law_710 ?_
    exact s_zret (pc := 711) dL_law_711 rfl (fun h => h)
noncomputable def fL_c20 (N : Nat) (scr : Nat → Int) (i : Int) (sz sl : Nat) (td : TT) (c : CC) : Option (LSt ⊕ LSt) :=
  gd (inR (i + 1)) <|
  gd ((0 : Int) ≤ i + 1 ∧ i + 1 < (N : Int)) <|
  gd (inR (i + 2)) <|
  gd ((0 : Int) ≤ i + 2 ∧ i + 2 < (N : Int)) <|
  cl (fX0_wordy (scr (Int.toNat (i + 1))) (scr (Int.toNat (i + 2))) td c) fun p_41 =>
  gd (inR (i + 1)) <|
  gd ((0 : Int) ≤ i + 1 ∧ i + 1 < (N : Int)) <|
  gd (inR (i + 2)) <|
  gd ((0 : Int) ≤ i + 2 ∧ i + 2 < (N : Int)) <|
  cl (fX4_wordy (scr (Int.toNat (i + 1))) (scr (Int.toNat (i + 2))) p_41.2) fun p_42 =>
  if p_41.1 = p_42.1 then (gd (inR (i + 6)) <| bd (i + 6) fun v => some (.inl (v, sz, sl, td, p_42.2))) else (gd ((0 : Int) ≤ 0 ∧ (0 : Int) < 2) (some (.inr (0, sz, sl, td, p_42.2))))
theorem sL_c20 {G : GG} {Γ : Cx} {nm : String} {r : Vv × Wd} {N : Nat} {scr : Nat → Int} (hS : ScrS G Γ N scr) (i : Int) (sz sl : Nat) (td : TT) (c : CC) : Sm (fL_c20 N scr i sz sl td c) (fun x => Sum.elim (gL G Γ nm r) (eL r) x) (WP G Γ (muL nm) r 712 [some (2, 0), some (2, 43), some (2, 111), some (0, i)] [] (sz, sl, tt td, cv c)) := by
  unfold fL_c20
  refine s_aload_n (pc := 712) dL_law_712 rfl ?_
  refine s_aload_n (pc := 713) dL_law_713 rfl ?_
  refine s_iload_n (pc := 714) dL_law_714 rfl ?_
  refine s_iconst (pc := 715) dL_law_715 ?_
  refine s_iadd (pc := 716) dL_law_716 ?_
  refine s_ialdS (pc := 717) hS dL_law_717 ?_
  refine s_aload_n (pc := 718) dL_law_718 rfl ?_
  refine s_iload_n (pc := 719) dL_law_719 rfl ?_
  refine s_iconst (pc := 720) dL_law_720 ?_
  refine s_iadd (pc := 721) dL_law_721 ?_
  refine s_ialdS (pc := 722) hS dL_law_722 ?_
  refine s_callV3 (pc := 723) (a := 43) (as := [(0, scr (Int.toNat (i + 1))), (0, scr (Int.toNat (i + 2)))]) (st := []) (rv := fun b => ((0, b.1), (sz, sl, tt td, cv b.2))) (st3 := fun b => [(0, b.1)]) (w3 := fun b => (sz, sl, tt td, cv b.2)) mvL_100 (fun b h => kX0_wordy (scr (Int.toNat (i + 1))) (scr (Int.toNat (i + 2))) td c b h) rfl (Nat.le_of_ble_eq_true rfl) (t_43 td) rfl rfl rfl (Nat.le_of_ble_eq_true rfl) (fun _ => Nat.le_of_ble_eq_true rfl) (fun _ => ⟨rfl, rfl⟩) dL_law_723 (fun p_41 => ?_)
  refine s_aload_n (pc := 726) dL_law_726 rfl ?_
  refine s_aload_n (pc := 727) dL_law_727 rfl ?_
  refine s_iload_n (pc := 728) dL_law_728 rfl ?_
  refine s_iconst (pc := 729) dL_law_729 ?_
  refine s_iadd (pc := 730) dL_law_730 ?_
  refine s_ialdS (pc := 731) hS dL_law_731 ?_
  refine s_aload_n (pc := 732) dL_law_732 rfl ?_
  refine s_iload_n (pc := 733) dL_law_733 rfl ?_
  refine s_iconst (pc := 734) dL_law_734 ?_
  refine s_iadd (pc := 735) dL_law_735 ?_
  refine s_ialdS (pc := 736) hS dL_law_736 ?_
  refine s_callV3 (pc := 737) (a := 111) (as := [(0, scr (Int.toNat (i + 1))), (0, scr (Int.toNat (i + 2)))]) (st := [(0, p_41.1)]) (rv := fun b => ((0, b.1), (sz, sl, tt td, cv b.2))) (st3 := fun b => [(0, b.1), (0, p_41.1)]) (w3 := fun b => (sz, sl, tt td, cv b.2)) mvL_103 (fun b h => kX4_wordy (scr (Int.toNat (i + 1))) (scr (Int.toNat (i + 2))) p_41.2 b h) rfl (Nat.le_of_ble_eq_true rfl) (t_111 td) rfl rfl rfl (Nat.le_of_ble_eq_true rfl) (fun _ => Nat.le_of_ble_eq_true rfl) (fun _ => ⟨rfl, rfl⟩) dL_law_737 (fun p_42 => ?_)
  refine s_icmp_eq (pc := 740) (tgt := 860) dL_law_740 rfl ?_ ?_
  · refine s_iinc (pc := 860) (lf := fun x => [some (2, 0), some (2, 43), some (2, 111), some (0, x)]) dL_law_860 rfl (fun _ => rfl) (Nat.le_of_ble_eq_true rfl) (fun v => ?_)
    refine s_goto (pc := 863) (tgt := 18) dL_law_863 rfl ?_
    exact Sm.some (fun h => h)
  · refine s_iconst (pc := 743) dL_law_743 ?_
    exact s_zret (pc := 744) dL_law_744 rfl (fun h => h)
noncomputable def fL_c21 (N : Nat) (scr : Nat → Int) (i : Int) (sz sl : Nat) (td : TT) (c : CC) : Option (LSt ⊕ LSt) :=
  gd (inR (i + 1)) <|
  gd ((0 : Int) ≤ i + 1 ∧ i + 1 < (N : Int)) <|
  gd (inR (i + 2)) <|
  gd ((0 : Int) ≤ i + 2 ∧ i + 2 < (N : Int)) <|
  gd (inR (i + 3)) <|
  gd ((0 : Int) ≤ i + 3 ∧ i + 3 < (N : Int)) <|
  cl (fX0_saying (scr (Int.toNat (i + 1))) (scr (Int.toNat (i + 2))) (scr (Int.toNat (i + 3))) sz sl td c) fun p_43 =>
  gd (inR (i + 1)) <|
  gd ((0 : Int) ≤ i + 1 ∧ i + 1 < (N : Int)) <|
  gd (inR (i + 2)) <|
  gd ((0 : Int) ≤ i + 2 ∧ i + 2 < (N : Int)) <|
  gd (inR (i + 3)) <|
  gd ((0 : Int) ≤ i + 3 ∧ i + 3 < (N : Int)) <|
  cl (fX4_saying (scr (Int.toNat (i + 1))) (scr (Int.toNat (i + 2))) (scr (Int.toNat (i + 3))) p_43.2.2.2.2) fun p_44 =>
  if p_43.1 = p_44.1 then (gd (inR (i + 6)) <| bd (i + 6) fun v => some (.inl (v, p_43.2.1, p_43.2.2.1, p_43.2.2.2.1, p_44.2))) else (gd ((0 : Int) ≤ 0 ∧ (0 : Int) < 2) (some (.inr (0, p_43.2.1, p_43.2.2.1, p_43.2.2.2.1, p_44.2))))
theorem sL_c21 {G : GG} {Γ : Cx} {nm : String} {r : Vv × Wd} {N : Nat} {scr : Nat → Int} (hS : ScrS G Γ N scr) (i : Int) (sz sl : Nat) (td : TT) (c : CC) : Sm (fL_c21 N scr i sz sl td c) (fun x => Sum.elim (gL G Γ nm r) (eL r) x) (WP G Γ (muL nm) r 745 [some (2, 0), some (2, 43), some (2, 111), some (0, i)] [] (sz, sl, tt td, cv c)) := by
  unfold fL_c21
  refine s_aload_n (pc := 745) dL_law_745 rfl ?_
  refine s_aload_n (pc := 746) dL_law_746 rfl ?_
  refine s_iload_n (pc := 747) dL_law_747 rfl ?_
  refine s_iconst (pc := 748) dL_law_748 ?_
  refine s_iadd (pc := 749) dL_law_749 ?_
  refine s_ialdS (pc := 750) hS dL_law_750 ?_
  refine s_aload_n (pc := 751) dL_law_751 rfl ?_
  refine s_iload_n (pc := 752) dL_law_752 rfl ?_
  refine s_iconst (pc := 753) dL_law_753 ?_
  refine s_iadd (pc := 754) dL_law_754 ?_
  refine s_ialdS (pc := 755) hS dL_law_755 ?_
  refine s_aload_n (pc := 756) dL_law_756 rfl ?_
  refine s_iload_n (pc := 757) dL_law_757 rfl ?_
  refine s_iconst (pc := 758) dL_law_758 ?_
  refine s_iadd (pc := 759) dL_law_759 ?_
  refine s_ialdS (pc := 760) hS dL_law_760 ?_
  refine s_callV3 (pc := 761) (a := 43) (as := [(0, scr (Int.toNat (i + 1))), (0, scr (Int.toNat (i + 2))), (0, scr (Int.toNat (i + 3)))]) (st := []) (rv := fun b => ((0, b.1), (b.2.1, b.2.2.1, tt b.2.2.2.1, cv b.2.2.2.2))) (st3 := fun b => [(0, b.1)]) (w3 := fun b => (b.2.1, b.2.2.1, tt b.2.2.2.1, cv b.2.2.2.2)) mvL_104 (fun b h => kX0_saying (scr (Int.toNat (i + 1))) (scr (Int.toNat (i + 2))) (scr (Int.toNat (i + 3))) sz sl td c b h) rfl (Nat.le_of_ble_eq_true rfl) (t_43 td) rfl rfl rfl (Nat.le_of_ble_eq_true rfl) (fun _ => Nat.le_of_ble_eq_true rfl) (fun _ => ⟨rfl, rfl⟩) dL_law_761 (fun p_43 => ?_)
  refine s_aload_n (pc := 764) dL_law_764 rfl ?_
  refine s_aload_n (pc := 765) dL_law_765 rfl ?_
  refine s_iload_n (pc := 766) dL_law_766 rfl ?_
  refine s_iconst (pc := 767) dL_law_767 ?_
  refine s_iadd (pc := 768) dL_law_768 ?_
  refine s_ialdS (pc := 769) hS dL_law_769 ?_
  refine s_aload_n (pc := 770) dL_law_770 rfl ?_
  refine s_iload_n (pc := 771) dL_law_771 rfl ?_
  refine s_iconst (pc := 772) dL_law_772 ?_
  refine s_iadd (pc := 773) dL_law_773 ?_
  refine s_ialdS (pc := 774) hS dL_law_774 ?_
  refine s_aload_n (pc := 775) dL_law_775 rfl ?_
  refine s_iload_n (pc := 776) dL_law_776 rfl ?_
  refine s_iconst (pc := 777) dL_law_777 ?_
  refine s_iadd (pc := 778) dL_law_778 ?_
  refine s_ialdS (pc := 779) hS dL_law_779 ?_
  refine s_callV3 (pc := 780) (a := 111) (as := [(0, scr (Int.toNat (i + 1))), (0, scr (Int.toNat (i + 2))), (0, scr (Int.toNat (i + 3)))]) (st := [(0, p_43.1)]) (rv := fun b => ((0, b.1), (p_43.2.1, p_43.2.2.1, tt p_43.2.2.2.1, cv b.2))) (st3 := fun b => [(0, b.1), (0, p_43.1)]) (w3 := fun b => (p_43.2.1, p_43.2.2.1, tt p_43.2.2.2.1, cv b.2)) mvL_108 (fun b h => kX4_saying (scr (Int.toNat (i + 1))) (scr (Int.toNat (i + 2))) (scr (Int.toNat (i + 3))) p_43.2.2.2.2 b h) rfl (Nat.le_of_ble_eq_true rfl) (t_111 p_43.2.2.2.1) rfl rfl rfl (Nat.le_of_ble_eq_true rfl) (fun _ => Nat.le_of_ble_eq_true rfl) (fun _ => ⟨rfl, rfl⟩) dL_law_780 (fun p_44 => ?_)
  refine s_icmp_eq (pc := 783) (tgt := 860) dL_law_783 rfl ?_ ?_
  · refine s_iinc (pc := 860) (lf := fun x => [some (2, 0), some (2, 43), some (2, 111), some (0, x)]) dL_law_860 rfl (fun _ => rfl) (Nat.le_of_ble_eq_true rfl) (fun v => ?_)
    refine s_goto (pc := 863) (tgt := 18) dL_law_863 rfl ?_
    exact Sm.some (fun h => h)
  · refine s_iconst (pc := 786) dL_law_786 ?_
    exact s_zret (pc := 787) dL_law_787 rfl (fun h => h)
noncomputable def fL_c22 (N : Nat) (scr : Nat → Int) (i : Int) (sz sl : Nat) (td : TT) (c : CC) : Option (LSt ⊕ LSt) :=
  gd (inR (i + 1)) <|
  gd ((0 : Int) ≤ i + 1 ∧ i + 1 < (N : Int)) <|
  cl (fX0_light (scr (Int.toNat (i + 1))) td c) fun p_45 =>
  gd (inR (i + 1)) <|
  gd ((0 : Int) ≤ i + 1 ∧ i + 1 < (N : Int)) <|
  cl (fX4_light (scr (Int.toNat (i + 1))) p_45.2) fun p_46 =>
  if p_45.1 = p_46.1 then (gd (inR (i + 6)) <| bd (i + 6) fun v => some (.inl (v, sz, sl, td, p_46.2))) else (gd ((0 : Int) ≤ 0 ∧ (0 : Int) < 2) (some (.inr (0, sz, sl, td, p_46.2))))
theorem sL_c22 {G : GG} {Γ : Cx} {nm : String} {r : Vv × Wd} {N : Nat} {scr : Nat → Int} (hS : ScrS G Γ N scr) (i : Int) (sz sl : Nat) (td : TT) (c : CC) : Sm (fL_c22 N scr i sz sl td c) (fun x => Sum.elim (gL G Γ nm r) (eL r) x) (WP G Γ (muL nm) r 788 [some (2, 0), some (2, 43), some (2, 111), some (0, i)] [] (sz, sl, tt td, cv c)) := by
  unfold fL_c22
  refine s_aload_n (pc := 788) dL_law_788 rfl ?_
  refine s_aload_n (pc := 789) dL_law_789 rfl ?_
  refine s_iload_n (pc := 790) dL_law_790 rfl ?_
  refine s_iconst (pc := 791) dL_law_791 ?_
  refine s_iadd (pc := 792) dL_law_792 ?_
  refine s_ialdS (pc := 793) hS dL_law_793 ?_
  refine s_callV3 (pc := 794) (a := 43) (as := [(0, scr (Int.toNat (i + 1)))]) (st := []) (rv := fun b => ((0, b.1), (sz, sl, tt td, cv b.2))) (st3 := fun b => [(0, b.1)]) (w3 := fun b => (sz, sl, tt td, cv b.2)) mvL_109 (fun b h => kX0_light (scr (Int.toNat (i + 1))) td c b h) rfl (Nat.le_of_ble_eq_true rfl) (t_43 td) rfl rfl rfl (Nat.le_of_ble_eq_true rfl) (fun _ => Nat.le_of_ble_eq_true rfl) (fun _ => ⟨rfl, rfl⟩) dL_law_794 (fun p_45 => ?_)
  refine s_aload_n (pc := 797) dL_law_797 rfl ?_
  refine s_aload_n (pc := 798) dL_law_798 rfl ?_
  refine s_iload_n (pc := 799) dL_law_799 rfl ?_
  refine s_iconst (pc := 800) dL_law_800 ?_
  refine s_iadd (pc := 801) dL_law_801 ?_
  refine s_ialdS (pc := 802) hS dL_law_802 ?_
  refine s_callV3 (pc := 803) (a := 111) (as := [(0, scr (Int.toNat (i + 1)))]) (st := [(0, p_45.1)]) (rv := fun b => ((0, b.1), (sz, sl, tt td, cv b.2))) (st3 := fun b => [(0, b.1), (0, p_45.1)]) (w3 := fun b => (sz, sl, tt td, cv b.2)) mvL_112 (fun b h => kX4_light (scr (Int.toNat (i + 1))) p_45.2 b h) rfl (Nat.le_of_ble_eq_true rfl) (t_111 td) rfl rfl rfl (Nat.le_of_ble_eq_true rfl) (fun _ => Nat.le_of_ble_eq_true rfl) (fun _ => ⟨rfl, rfl⟩) dL_law_803 (fun p_46 => ?_)
  refine s_icmp_eq (pc := 806) (tgt := 860) dL_law_806 rfl ?_ ?_
  · refine s_iinc (pc := 860) (lf := fun x => [some (2, 0), some (2, 43), some (2, 111), some (0, x)]) dL_law_860 rfl (fun _ => rfl) (Nat.le_of_ble_eq_true rfl) (fun v => ?_)
    refine s_goto (pc := 863) (tgt := 18) dL_law_863 rfl ?_
    exact Sm.some (fun h => h)
  · refine s_iconst (pc := 809) dL_law_809 ?_
    exact s_zret (pc := 810) dL_law_810 rfl (fun h => h)
noncomputable def fL_c23 (N : Nat) (scr : Nat → Int) (i : Int) (sz sl : Nat) (td : TT) (c : CC) : Option (LSt ⊕ LSt) :=
  cl (fX0_image  c) fun p_47 =>
  cl (fX4_image  p_47.2) fun p_48 =>
  if p_47.1 = p_48.1 then (gd (inR (i + 6)) <| bd (i + 6) fun v => some (.inl (v, sz, sl, td, p_48.2))) else (gd ((0 : Int) ≤ 0 ∧ (0 : Int) < 2) (some (.inr (0, sz, sl, td, p_48.2))))
theorem sL_c23 {G : GG} {Γ : Cx} {nm : String} {r : Vv × Wd} {N : Nat} {scr : Nat → Int} (hS : ScrS G Γ N scr) (i : Int) (sz sl : Nat) (td : TT) (c : CC) : Sm (fL_c23 N scr i sz sl td c) (fun x => Sum.elim (gL G Γ nm r) (eL r) x) (WP G Γ (muL nm) r 811 [some (2, 0), some (2, 43), some (2, 111), some (0, i)] [] (sz, sl, tt td, cv c)) := by
  unfold fL_c23
  refine s_aload_n (pc := 811) dL_law_811 rfl ?_
  refine s_callV3 (pc := 812) (a := 43) (as := []) (st := []) (rv := fun b => ((0, b.1), (sz, sl, tt td, cv b.2))) (st3 := fun b => [(0, b.1)]) (w3 := fun b => (sz, sl, tt td, cv b.2)) mvL_113 (fun b h => kX0_image  c b h) rfl (Nat.le_of_ble_eq_true rfl) (t_43 td) rfl rfl rfl (Nat.le_of_ble_eq_true rfl) (fun _ => Nat.le_of_ble_eq_true rfl) (fun _ => ⟨rfl, rfl⟩) dL_law_812 (fun p_47 => ?_)
  refine s_aload_n (pc := 815) dL_law_815 rfl ?_
  refine s_callV3 (pc := 816) (a := 111) (as := []) (st := [(0, p_47.1)]) (rv := fun b => ((0, b.1), (sz, sl, tt td, cv b.2))) (st3 := fun b => [(0, b.1), (0, p_47.1)]) (w3 := fun b => (sz, sl, tt td, cv b.2)) mvL_116 (fun b h => kX4_image  p_47.2 b h) rfl (Nat.le_of_ble_eq_true rfl) (t_111 td) rfl rfl rfl (Nat.le_of_ble_eq_true rfl) (fun _ => Nat.le_of_ble_eq_true rfl) (fun _ => ⟨rfl, rfl⟩) dL_law_816 (fun p_48 => ?_)
  refine s_icmp_eq (pc := 819) (tgt := 860) dL_law_819 rfl ?_ ?_
  · refine s_iinc (pc := 860) (lf := fun x => [some (2, 0), some (2, 43), some (2, 111), some (0, x)]) dL_law_860 rfl (fun _ => rfl) (Nat.le_of_ble_eq_true rfl) (fun v => ?_)
    refine s_goto (pc := 863) (tgt := 18) dL_law_863 rfl ?_
    exact Sm.some (fun h => h)
  · refine s_iconst (pc := 822) dL_law_822 ?_
    exact s_zret (pc := 823) dL_law_823 rfl (fun h => h)
noncomputable def fL_c24 (N : Nat) (scr : Nat → Int) (i : Int) (sz sl : Nat) (td : TT) (c : CC) : Option (LSt ⊕ LSt) :=
  cl (fX0_back  c) fun p_49 =>
  cl (fX4_back  p_49.2) fun p_50 =>
  if p_49.1 = p_50.1 then (gd (inR (i + 6)) <| bd (i + 6) fun v => some (.inl (v, sz, sl, td, p_50.2))) else (gd ((0 : Int) ≤ 0 ∧ (0 : Int) < 2) (some (.inr (0, sz, sl, td, p_50.2))))
theorem sL_c24 {G : GG} {Γ : Cx} {nm : String} {r : Vv × Wd} {N : Nat} {scr : Nat → Int} (hS : ScrS G Γ N scr) (i : Int) (sz sl : Nat) (td : TT) (c : CC) : Sm (fL_c24 N scr i sz sl td c) (fun x => Sum.elim (gL G Γ nm r) (eL r) x) (WP G Γ (muL nm) r 824 [some (2, 0), some (2, 43), some (2, 111), some (0, i)] [] (sz, sl, tt td, cv c)) := by
  unfold fL_c24
  refine s_aload_n (pc := 824) dL_law_824 rfl ?_
  refine s_callV3 (pc := 825) (a := 43) (as := []) (st := []) (rv := fun b => ((0, b.1), (sz, sl, tt td, cv b.2))) (st3 := fun b => [(0, b.1)]) (w3 := fun b => (sz, sl, tt td, cv b.2)) mvL_117 (fun b h => kX0_back  c b h) rfl (Nat.le_of_ble_eq_true rfl) (t_43 td) rfl rfl rfl (Nat.le_of_ble_eq_true rfl) (fun _ => Nat.le_of_ble_eq_true rfl) (fun _ => ⟨rfl, rfl⟩) dL_law_825 (fun p_49 => ?_)
  refine s_aload_n (pc := 828) dL_law_828 rfl ?_
  refine s_callV3 (pc := 829) (a := 111) (as := []) (st := [(0, p_49.1)]) (rv := fun b => ((0, b.1), (sz, sl, tt td, cv b.2))) (st3 := fun b => [(0, b.1), (0, p_49.1)]) (w3 := fun b => (sz, sl, tt td, cv b.2)) mvL_120 (fun b h => kX4_back  p_49.2 b h) rfl (Nat.le_of_ble_eq_true rfl) (t_111 td) rfl rfl rfl (Nat.le_of_ble_eq_true rfl) (fun _ => Nat.le_of_ble_eq_true rfl) (fun _ => ⟨rfl, rfl⟩) dL_law_829 (fun p_50 => ?_)
  refine s_icmp_eq (pc := 832) (tgt := 860) dL_law_832 rfl ?_ ?_
  · refine s_iinc (pc := 860) (lf := fun x => [some (2, 0), some (2, 43), some (2, 111), some (0, x)]) dL_law_860 rfl (fun _ => rfl) (Nat.le_of_ble_eq_true rfl) (fun v => ?_)
    refine s_goto (pc := 863) (tgt := 18) dL_law_863 rfl ?_
    exact Sm.some (fun h => h)
  · refine s_iconst (pc := 835) dL_law_835 ?_
    exact s_zret (pc := 836) dL_law_836 rfl (fun h => h)
noncomputable def fL_c25 (N : Nat) (scr : Nat → Int) (i : Int) (sz sl : Nat) (td : TT) (c : CC) : Option (LSt ⊕ LSt) :=
  gd (inR (i + 1)) <|
  gd ((0 : Int) ≤ i + 1 ∧ i + 1 < (N : Int)) <|
  cl (fX0_about (scr (Int.toNat (i + 1))) td c) fun p_51 =>
  gd (inR (i + 1)) <|
  gd ((0 : Int) ≤ i + 1 ∧ i + 1 < (N : Int)) <|
  cl (fX4_about (scr (Int.toNat (i + 1))) c) fun p_52 =>
  if p_51 = p_52 then (gd (inR (i + 6)) <| bd (i + 6) fun v => some (.inl (v, sz, sl, td, c))) else (gd ((0 : Int) ≤ 0 ∧ (0 : Int) < 2) (some (.inr (0, sz, sl, td, c))))
theorem sL_c25 {G : GG} {Γ : Cx} {nm : String} {r : Vv × Wd} {N : Nat} {scr : Nat → Int} (hS : ScrS G Γ N scr) (i : Int) (sz sl : Nat) (td : TT) (c : CC) : Sm (fL_c25 N scr i sz sl td c) (fun x => Sum.elim (gL G Γ nm r) (eL r) x) (WP G Γ (muL nm) r 837 [some (2, 0), some (2, 43), some (2, 111), some (0, i)] [] (sz, sl, tt td, cv c)) := by
  unfold fL_c25
  refine s_aload_n (pc := 837) dL_law_837 rfl ?_
  refine s_aload_n (pc := 838) dL_law_838 rfl ?_
  refine s_iload_n (pc := 839) dL_law_839 rfl ?_
  refine s_iconst (pc := 840) dL_law_840 ?_
  refine s_iadd (pc := 841) dL_law_841 ?_
  refine s_ialdS (pc := 842) hS dL_law_842 ?_
  refine s_callV3 (pc := 843) (a := 43) (as := [(0, scr (Int.toNat (i + 1)))]) (st := []) (rv := fun b => ((0, b), (sz, sl, tt td, cv c))) (st3 := fun b => [(0, b)]) (w3 := fun b => (sz, sl, tt td, cv c)) mvL_121 (fun b h => kX0_about (scr (Int.toNat (i + 1))) td c b h) rfl (Nat.le_of_ble_eq_true rfl) (t_43 td) rfl rfl rfl (Nat.le_of_ble_eq_true rfl) (fun _ => Nat.le_of_ble_eq_true rfl) (fun _ => ⟨rfl, rfl⟩) dL_law_843 (fun p_51 => ?_)
  refine s_aload_n (pc := 846) dL_law_846 rfl ?_
  refine s_aload_n (pc := 847) dL_law_847 rfl ?_
  refine s_iload_n (pc := 848) dL_law_848 rfl ?_
  refine s_iconst (pc := 849) dL_law_849 ?_
  refine s_iadd (pc := 850) dL_law_850 ?_
  refine s_ialdS (pc := 851) hS dL_law_851 ?_
  refine s_callV3 (pc := 852) (a := 111) (as := [(0, scr (Int.toNat (i + 1)))]) (st := [(0, p_51)]) (rv := fun b => ((0, b), (sz, sl, tt td, cv c))) (st3 := fun b => [(0, b), (0, p_51)]) (w3 := fun b => (sz, sl, tt td, cv c)) mvL_124 (fun b h => kX4_about (scr (Int.toNat (i + 1))) c b h) rfl (Nat.le_of_ble_eq_true rfl) (t_111 td) rfl rfl rfl (Nat.le_of_ble_eq_true rfl) (fun _ => Nat.le_of_ble_eq_true rfl) (fun _ => ⟨rfl, rfl⟩) dL_law_852 (fun p_52 => ?_)
  refine s_icmp_eq (pc := 855) (tgt := 860) dL_law_855 rfl ?_ ?_
  · refine s_iinc (pc := 860) (lf := fun x => [some (2, 0), some (2, 43), some (2, 111), some (0, x)]) dL_law_860 rfl (fun _ => rfl) (Nat.le_of_ble_eq_true rfl) (fun v => ?_)
    refine s_goto (pc := 863) (tgt := 18) dL_law_863 rfl ?_
    exact Sm.some (fun h => h)
  · refine s_iconst (pc := 858) dL_law_858 ?_
    exact s_zret (pc := 859) dL_law_859 rfl (fun h => h)
noncomputable def fL_l18 (N : Nat) (scr : Nat → Int) (i : Int) (sz sl : Nat) (td : TT) (c : CC) : Option (LSt ⊕ LSt) :=
  gd (inR ((N : Int) - 6)) <| if (N : Int) - 6 < i then (gd ((0 : Int) ≤ 1 ∧ (1 : Int) < 2) (some (.inr (1, sz, sl, td, c)))) else gd ((0 : Int) ≤ i ∧ i < (N : Int)) <| if andI (scr (Int.toNat i)) 31 = 0 then (fL_c0 N scr i sz sl td c) else if andI (scr (Int.toNat i)) 31 = 1 then (fL_c1 N scr i sz sl td c) else if andI (scr (Int.toNat i)) 31 = 2 then (fL_c2 N scr i sz sl td c) else if andI (scr (Int.toNat i)) 31 = 3 then (fL_c3 N scr i sz sl td c) else if andI (scr (Int.toNat i)) 31 = 4 then (fL_c4 N scr i sz sl td c) else if andI (scr (Int.toNat i)) 31 = 5 then (fL_c5 N scr i sz sl td c) else if andI (scr (Int.toNat i)) 31 = 6 then (fL_c6 N scr i sz sl td c) else if andI (scr (Int.toNat i)) 31 = 7 then (fL_c7 N scr i sz sl td c) else if andI (scr (Int.toNat i)) 31 = 8 then (fL_c8 N scr i sz sl td c) else if andI (scr (Int.toNat i)) 31 = 9 then (fL_c9 N scr i sz sl td c) else if andI (scr (Int.toNat i)) 31 = 10 then (fL_c10 N scr i sz sl td c) else if andI (scr (Int.toNat i)) 31 = 11 then (fL_c11 N scr i sz sl td c) else if andI (scr (Int.toNat i)) 31 = 12 then (fL_c12 N scr i sz sl td c) else if andI (scr (Int.toNat i)) 31 = 13 then (fL_c13 N scr i sz sl td c) else if andI (scr (Int.toNat i)) 31 = 14 then (fL_c14 N scr i sz sl td c) else if andI (scr (Int.toNat i)) 31 = 15 then (fL_c15 N scr i sz sl td c) else if andI (scr (Int.toNat i)) 31 = 16 then (fL_c16 N scr i sz sl td c) else if andI (scr (Int.toNat i)) 31 = 17 then (fL_c17 N scr i sz sl td c) else if andI (scr (Int.toNat i)) 31 = 18 then (fL_c18 N scr i sz sl td c) else if andI (scr (Int.toNat i)) 31 = 19 then (fL_c19 N scr i sz sl td c) else if andI (scr (Int.toNat i)) 31 = 20 then (fL_c20 N scr i sz sl td c) else if andI (scr (Int.toNat i)) 31 = 21 then (fL_c21 N scr i sz sl td c) else if andI (scr (Int.toNat i)) 31 = 22 then (fL_c22 N scr i sz sl td c) else if andI (scr (Int.toNat i)) 31 = 23 then (fL_c23 N scr i sz sl td c) else if andI (scr (Int.toNat i)) 31 = 24 then (fL_c24 N scr i sz sl td c) else if andI (scr (Int.toNat i)) 31 = 25 then (fL_c25 N scr i sz sl td c) else (gd (inR (i + 6)) <| bd (i + 6) fun v => some (.inl (v, sz, sl, td, c)))
theorem and31 (x : Int) : 0 ≤ andI x 31 ∧ andI x 31 < 32 := by
  unfold andI
  have h : ∀ y : Int32, 0 ≤ (y &&& i32 31).toInt ∧ (y &&& i32 31).toInt < 32 := by
    intro y
    have h2 : (y &&& i32 31) = i32 ((y &&& i32 31).toInt) := (i32_of _).symm
    have h3 : ∀ v : BitVec 32, 0 ≤ (v &&& 31#32).toInt ∧ (v &&& 31#32).toInt < 32 := by
      intro v
      have : (v &&& 31#32).toNat < 32 := by
        rw [BitVec.toNat_and]
        exact Nat.lt_of_le_of_lt Nat.and_le_right (by decide)
      rw [BitVec.toInt_eq_toNat_of_lt (by omega)]
      omega
    exact h3 y.toBitVec
  exact h (i32 x)
theorem sL_l18 {G : GG} {Γ : Cx} {nm : String} {r : Vv × Wd} {N : Nat} {scr : Nat → Int} (hS : ScrS G Γ N scr) (s : LSt) : Sm (fL_l18 N scr s.1 s.2.1 s.2.2.1 s.2.2.2.1 s.2.2.2.2) (fun x => Sum.elim (gL G Γ nm r) (eL r) x) (gL G Γ nm r s) := by
  obtain ⟨i, sz, sl, td, c⟩ := s
  unfold fL_l18 gL
  refine s_iload_n (pc := 18) dL_law_18 rfl ?_
  refine s_aload_n (pc := 19) dL_law_19 rfl ?_
  refine s_alenS (pc := 20) hS dL_law_20 ?_
  refine s_bipush (pc := 21) dL_law_21 ?_
  refine s_isub (pc := 23) dL_law_23 ?_
  refine s_icmp_gt (pc := 24) (tgt := 866) dL_law_24 rfl ?_ ?_
  · refine s_iconst (pc := 866) dL_law_866 ?_
    exact s_zret (pc := 867) dL_law_867 rfl (fun h => h)
  refine s_aload_n (pc := 27) dL_law_27 rfl ?_
  refine s_iload_n (pc := 28) dL_law_28 rfl ?_
  refine s_ialdS (pc := 29) hS dL_law_29 ?_
  refine s_bipush (pc := 30) dL_law_30 ?_
  refine s_iand (pc := 32) dL_law_32 ?_
  refine Sm.ite (fun hq_0 => ?_) (fun hq_0 => ?_)
  · refine s_tblIn (pc := 33) (tgt := 152) dL_law_33 0 hq_0 (by decide) rfl rfl ?_
    exact sL_c0 hS i sz sl td c
  refine Sm.ite (fun hq_1 => ?_) (fun hq_1 => ?_)
  · refine s_tblIn (pc := 33) (tgt := 215) dL_law_33 1 hq_1 (by decide) rfl rfl ?_
    exact sL_c1 hS i sz sl td c
  refine Sm.ite (fun hq_2 => ?_) (fun hq_2 => ?_)
  · refine s_tblIn (pc := 33) (tgt := 238) dL_law_33 2 hq_2 (by decide) rfl rfl ?_
    exact sL_c2 hS i sz sl td c
  refine Sm.ite (fun hq_3 => ?_) (fun hq_3 => ?_)
  · refine s_tblIn (pc := 33) (tgt := 251) dL_law_33 3 hq_3 (by decide) rfl rfl ?_
    exact sL_c3 hS i sz sl td c
  refine Sm.ite (fun hq_4 => ?_) (fun hq_4 => ?_)
  · refine s_tblIn (pc := 33) (tgt := 274) dL_law_33 4 hq_4 (by decide) rfl rfl ?_
    exact sL_c4 hS i sz sl td c
  refine Sm.ite (fun hq_5 => ?_) (fun hq_5 => ?_)
  · refine s_tblIn (pc := 33) (tgt := 297) dL_law_33 5 hq_5 (by decide) rfl rfl ?_
    exact sL_c5 hS i sz sl td c
  refine Sm.ite (fun hq_6 => ?_) (fun hq_6 => ?_)
  · refine s_tblIn (pc := 33) (tgt := 320) dL_law_33 6 hq_6 (by decide) rfl rfl ?_
    exact sL_c6 hS i sz sl td c
  refine Sm.ite (fun hq_7 => ?_) (fun hq_7 => ?_)
  · refine s_tblIn (pc := 33) (tgt := 343) dL_law_33 7 hq_7 (by decide) rfl rfl ?_
    exact sL_c7 hS i sz sl td c
  refine Sm.ite (fun hq_8 => ?_) (fun hq_8 => ?_)
  · refine s_tblIn (pc := 33) (tgt := 366) dL_law_33 8 hq_8 (by decide) rfl rfl ?_
    exact sL_c8 hS i sz sl td c
  refine Sm.ite (fun hq_9 => ?_) (fun hq_9 => ?_)
  · refine s_tblIn (pc := 33) (tgt := 389) dL_law_33 9 hq_9 (by decide) rfl rfl ?_
    exact sL_c9 hS i sz sl td c
  refine Sm.ite (fun hq_10 => ?_) (fun hq_10 => ?_)
  · refine s_tblIn (pc := 33) (tgt := 422) dL_law_33 10 hq_10 (by decide) rfl rfl ?_
    exact sL_c10 hS i sz sl td c
  refine Sm.ite (fun hq_11 => ?_) (fun hq_11 => ?_)
  · refine s_tblIn (pc := 33) (tgt := 455) dL_law_33 11 hq_11 (by decide) rfl rfl ?_
    exact sL_c11 hS i sz sl td c
  refine Sm.ite (fun hq_12 => ?_) (fun hq_12 => ?_)
  · refine s_tblIn (pc := 33) (tgt := 488) dL_law_33 12 hq_12 (by decide) rfl rfl ?_
    exact sL_c12 hS i sz sl td c
  refine Sm.ite (fun hq_13 => ?_) (fun hq_13 => ?_)
  · refine s_tblIn (pc := 33) (tgt := 501) dL_law_33 13 hq_13 (by decide) rfl rfl ?_
    exact sL_c13 hS i sz sl td c
  refine Sm.ite (fun hq_14 => ?_) (fun hq_14 => ?_)
  · refine s_tblIn (pc := 33) (tgt := 524) dL_law_33 14 hq_14 (by decide) rfl rfl ?_
    exact sL_c14 hS i sz sl td c
  refine Sm.ite (fun hq_15 => ?_) (fun hq_15 => ?_)
  · refine s_tblIn (pc := 33) (tgt := 557) dL_law_33 15 hq_15 (by decide) rfl rfl ?_
    exact sL_c15 hS i sz sl td c
  refine Sm.ite (fun hq_16 => ?_) (fun hq_16 => ?_)
  · refine s_tblIn (pc := 33) (tgt := 590) dL_law_33 16 hq_16 (by decide) rfl rfl ?_
    exact sL_c16 hS i sz sl td c
  refine Sm.ite (fun hq_17 => ?_) (fun hq_17 => ?_)
  · refine s_tblIn (pc := 33) (tgt := 613) dL_law_33 17 hq_17 (by decide) rfl rfl ?_
    exact sL_c17 hS i sz sl td c
  refine Sm.ite (fun hq_18 => ?_) (fun hq_18 => ?_)
  · refine s_tblIn (pc := 33) (tgt := 626) dL_law_33 18 hq_18 (by decide) rfl rfl ?_
    exact sL_c18 hS i sz sl td c
  refine Sm.ite (fun hq_19 => ?_) (fun hq_19 => ?_)
  · refine s_tblIn (pc := 33) (tgt := 679) dL_law_33 19 hq_19 (by decide) rfl rfl ?_
    exact sL_c19 hS i sz sl td c
  refine Sm.ite (fun hq_20 => ?_) (fun hq_20 => ?_)
  · refine s_tblIn (pc := 33) (tgt := 712) dL_law_33 20 hq_20 (by decide) rfl rfl ?_
    exact sL_c20 hS i sz sl td c
  refine Sm.ite (fun hq_21 => ?_) (fun hq_21 => ?_)
  · refine s_tblIn (pc := 33) (tgt := 745) dL_law_33 21 hq_21 (by decide) rfl rfl ?_
    exact sL_c21 hS i sz sl td c
  refine Sm.ite (fun hq_22 => ?_) (fun hq_22 => ?_)
  · refine s_tblIn (pc := 33) (tgt := 788) dL_law_33 22 hq_22 (by decide) rfl rfl ?_
    exact sL_c22 hS i sz sl td c
  refine Sm.ite (fun hq_23 => ?_) (fun hq_23 => ?_)
  · refine s_tblIn (pc := 33) (tgt := 811) dL_law_33 23 hq_23 (by decide) rfl rfl ?_
    exact sL_c23 hS i sz sl td c
  refine Sm.ite (fun hq_24 => ?_) (fun hq_24 => ?_)
  · refine s_tblIn (pc := 33) (tgt := 824) dL_law_33 24 hq_24 (by decide) rfl rfl ?_
    exact sL_c24 hS i sz sl td c
  refine Sm.ite (fun hq_25 => ?_) (fun hq_25 => ?_)
  · refine s_tblIn (pc := 33) (tgt := 837) dL_law_33 25 hq_25 (by decide) rfl rfl ?_
    exact sL_c25 hS i sz sl td c
  refine s_tblOut (pc := 33) (tgt := 860) dL_law_33 (by have := and31 (scr (Int.toNat i)); omega) rfl ?_
  refine s_iinc (pc := 860) (lf := fun x => [some (2, 0), some (2, 43), some (2, 111), some (0, x)]) dL_law_860 rfl (fun _ => rfl) (Nat.le_of_ble_eq_true rfl) (fun v => ?_)
  refine s_goto (pc := 863) (tgt := 18) dL_law_863 rfl ?_
  exact Sm.some (fun h => h)
theorem miL_9 : MIn RL 9 yX0_init muX0_init 0 := ⟨lw_meth q159, rfl, q125, q157, q158, rfl, by decide +kernel, by decide⟩
theorem miL_12 : MIn RL 12 yX4_init muX4_init 0 := ⟨lw_meth q1238, rfl, q129, q1236, q1237, rfl, by decide +kernel, by decide⟩
abbrev slL (sl : Nat) : Nat := ((((((((((((((((((((((((((((((((((((((((((((((((((((((((((((((((((((((((((((((((((((((((sl + 41) + Int.toNat 6) + 4) + Int.toNat 0) + Int.toNat 0) + 1) + Int.toNat 7) + Int.toNat 24) + Int.toNat 24) + Int.toNat 300) + Int.toNat 16800) + Int.toNat 84000) + Int.toNat 7) + Int.toNat 31) + Int.toNat 31 + Int.toNat 31 * Int.toNat 24) + Int.toNat 24) + Int.toNat 24) + Int.toNat 2400) + Int.toNat 6 + Int.toNat 6 * Int.toNat 24) + Int.toNat 8000) + Int.toNat 8000) + Int.toNat 8001) + Int.toNat 16000) + Int.toNat 25) + Int.toNat 25) + Int.toNat 25) + Int.toNat 25) + Int.toNat 5) + Int.toNat 4800) + Int.toNat 32) + Int.toNat 4800) + 83) + Int.toNat 40) + Int.toNat 40) + Int.toNat 300) + Int.toNat 6) + Int.toNat 144) + Int.toNat 144) + Int.toNat 144) + Int.toNat 144) + Int.toNat 144) + Int.toNat 144) + Int.toNat 144) + Int.toNat 144) + Int.toNat 144) + Int.toNat 2400) + Int.toNat 2400) + Int.toNat 40) + Int.toNat 41) + Int.toNat 80) + Int.toNat 80) + Int.toNat 24) + Int.toNat 24) + Int.toNat 168) + Int.toNat 400) + Int.toNat 400) + Int.toNat 7) + Int.toNat 200) + Int.toNat 4608) + Int.toNat 27648) + Int.toNat 6) + Int.toNat 6) + Int.toNat 7) + Int.toNat 24) + Int.toNat 24) + Int.toNat 32) + Int.toNat 825) + Int.toNat 4608) + Int.toNat 27648) + Int.toNat 7300) + Int.toNat 7300) + Int.toNat 7300) + Int.toNat 7300) + Int.toNat 14600) + Int.toNat 6) + Int.toNat 26) + Int.toNat 26) + Int.toNat 26) + Int.toNat 26) + Int.toNat 24) + Int.toNat 7300) + Int.toNat 4992) + Int.toNat 4992) + Int.toNat 4992) + Int.toNat 6) + Int.toNat 128) + Int.toNat 100) + Int.toNat 100)
noncomputable def fL_law (N : Nat) (scr : Nat → Int) (sl : Nat) (td : TT) (c : CC) : Option LSt :=
  bd (zc c 43 0) fun c_1 => gd ((0 : Int) ≤ 43) <| cl (fX0_init c_1) fun c_2 => bd (zc c_2 111 3) fun c_3 => gd ((0 : Int) ≤ 111) <| cl (fX4_init c_3) fun c_4 =>
  cl (wh (fun s => fL_l18 N scr s.1 s.2.1 s.2.2.1 s.2.2.2.1 s.2.2.2.2) (0, 168, slL sl, td, c_4)) fun e => some e
theorem sL_law {G : GG} {Γ : Cx} {nm : String} {r : Vv × Wd} {N : Nat} {scr : Nat → Int} (hS : ScrS G Γ N scr) (sl : Nat) (td : TT) (c : CC) : Sm (fL_law N scr sl td c) (eL r) (WP G Γ (muL nm) r 0 [some (2, 0), none, none, none] [] (43, sl, tB td 43, c)) := by
  unfold fL_law
  refine s_newB (pc := 0) (K := 43) (t_43 _) cf0 q155 q156 q125 dL_law_0 (fun c_1 => ?_)
  refine s_dup (pc := 3) (by decide : ¬ (2 : Nat) = 1) dL_law_3 ?_
  refine s_callI3 (pc := 4) (as := []) (st := [(2, 43)]) (rv := fun b => ((3, 0), (111, (((((((((((((((((((((((((((((((sl + 41) + Int.toNat 6) + 4) + Int.toNat 0) + Int.toNat 0) + 1) + Int.toNat 7) + Int.toNat 24) + Int.toNat 24) + Int.toNat 300) + Int.toNat 16800) + Int.toNat 84000) + Int.toNat 7) + Int.toNat 31) + Int.toNat 31 + Int.toNat 31 * Int.toNat 24) + Int.toNat 24) + Int.toNat 24) + Int.toNat 2400) + Int.toNat 6 + Int.toNat 6 * Int.toNat 24) + Int.toNat 8000) + Int.toNat 8000) + Int.toNat 8001) + Int.toNat 16000) + Int.toNat 25) + Int.toNat 25) + Int.toNat 25) + Int.toNat 25) + Int.toNat 5) + Int.toNat 4800) + Int.toNat 32) + Int.toNat 4800), tB td 111, b))) (st3 := fun _ => [(2, 43)]) (w3 := fun b => (111, (((((((((((((((((((((((((((((((sl + 41) + Int.toNat 6) + 4) + Int.toNat 0) + Int.toNat 0) + 1) + Int.toNat 7) + Int.toNat 24) + Int.toNat 24) + Int.toNat 300) + Int.toNat 16800) + Int.toNat 84000) + Int.toNat 7) + Int.toNat 31) + Int.toNat 31 + Int.toNat 31 * Int.toNat 24) + Int.toNat 24) + Int.toNat 24) + Int.toNat 2400) + Int.toNat 6 + Int.toNat 6 * Int.toNat 24) + Int.toNat 8000) + Int.toNat 8000) + Int.toNat 8001) + Int.toNat 16000) + Int.toNat 25) + Int.toNat 25) + Int.toNat 25) + Int.toNat 25) + Int.toNat 5) + Int.toNat 4800) + Int.toNat 32) + Int.toNat 4800), tB td 111, b)) miL_9 (fun b h => kX0_init c_1 b h) rfl (Nat.le_of_ble_eq_true rfl) rfl (Nat.le_of_ble_eq_true rfl) (fun _ => Nat.le_of_ble_eq_true rfl) (fun _ => ⟨rfl, rfl⟩) dL_law_4 (fun c_2 => ?_)
  refine s_astore_nD (pc := 7) (ls' := [some (2, 0), some (2, 43), none, none]) dL_law_7 rfl (Nat.le_of_ble_eq_true rfl) ?_
  refine s_newB (pc := 8) (K := 111) (t_111 _) cf3 q1234 q1235 q129 dL_law_8 (fun c_3 => ?_)
  refine s_dup (pc := 11) (by decide : ¬ (2 : Nat) = 1) dL_law_11 ?_
  refine s_callI3 (pc := 12) (as := []) (st := [(2, 111)]) (rv := fun b => ((3, 0), (168, ((((((((((((((((((((((((((((((((((((((((((((((((((((((((((((((((((((((((((((((((((((((((sl + 41) + Int.toNat 6) + 4) + Int.toNat 0) + Int.toNat 0) + 1) + Int.toNat 7) + Int.toNat 24) + Int.toNat 24) + Int.toNat 300) + Int.toNat 16800) + Int.toNat 84000) + Int.toNat 7) + Int.toNat 31) + Int.toNat 31 + Int.toNat 31 * Int.toNat 24) + Int.toNat 24) + Int.toNat 24) + Int.toNat 2400) + Int.toNat 6 + Int.toNat 6 * Int.toNat 24) + Int.toNat 8000) + Int.toNat 8000) + Int.toNat 8001) + Int.toNat 16000) + Int.toNat 25) + Int.toNat 25) + Int.toNat 25) + Int.toNat 25) + Int.toNat 5) + Int.toNat 4800) + Int.toNat 32) + Int.toNat 4800) + 83) + Int.toNat 40) + Int.toNat 40) + Int.toNat 300) + Int.toNat 6) + Int.toNat 144) + Int.toNat 144) + Int.toNat 144) + Int.toNat 144) + Int.toNat 144) + Int.toNat 144) + Int.toNat 144) + Int.toNat 144) + Int.toNat 144) + Int.toNat 2400) + Int.toNat 2400) + Int.toNat 40) + Int.toNat 41) + Int.toNat 80) + Int.toNat 80) + Int.toNat 24) + Int.toNat 24) + Int.toNat 168) + Int.toNat 400) + Int.toNat 400) + Int.toNat 7) + Int.toNat 200) + Int.toNat 4608) + Int.toNat 27648) + Int.toNat 6) + Int.toNat 6) + Int.toNat 7) + Int.toNat 24) + Int.toNat 24) + Int.toNat 32) + Int.toNat 825) + Int.toNat 4608) + Int.toNat 27648) + Int.toNat 7300) + Int.toNat 7300) + Int.toNat 7300) + Int.toNat 7300) + Int.toNat 14600) + Int.toNat 6) + Int.toNat 26) + Int.toNat 26) + Int.toNat 26) + Int.toNat 26) + Int.toNat 24) + Int.toNat 7300) + Int.toNat 4992) + Int.toNat 4992) + Int.toNat 4992) + Int.toNat 6) + Int.toNat 128) + Int.toNat 100) + Int.toNat 100), tt td, cv b))) (st3 := fun _ => [(2, 111)]) (w3 := fun b => (168, ((((((((((((((((((((((((((((((((((((((((((((((((((((((((((((((((((((((((((((((((((((((((sl + 41) + Int.toNat 6) + 4) + Int.toNat 0) + Int.toNat 0) + 1) + Int.toNat 7) + Int.toNat 24) + Int.toNat 24) + Int.toNat 300) + Int.toNat 16800) + Int.toNat 84000) + Int.toNat 7) + Int.toNat 31) + Int.toNat 31 + Int.toNat 31 * Int.toNat 24) + Int.toNat 24) + Int.toNat 24) + Int.toNat 2400) + Int.toNat 6 + Int.toNat 6 * Int.toNat 24) + Int.toNat 8000) + Int.toNat 8000) + Int.toNat 8001) + Int.toNat 16000) + Int.toNat 25) + Int.toNat 25) + Int.toNat 25) + Int.toNat 25) + Int.toNat 5) + Int.toNat 4800) + Int.toNat 32) + Int.toNat 4800) + 83) + Int.toNat 40) + Int.toNat 40) + Int.toNat 300) + Int.toNat 6) + Int.toNat 144) + Int.toNat 144) + Int.toNat 144) + Int.toNat 144) + Int.toNat 144) + Int.toNat 144) + Int.toNat 144) + Int.toNat 144) + Int.toNat 144) + Int.toNat 2400) + Int.toNat 2400) + Int.toNat 40) + Int.toNat 41) + Int.toNat 80) + Int.toNat 80) + Int.toNat 24) + Int.toNat 24) + Int.toNat 168) + Int.toNat 400) + Int.toNat 400) + Int.toNat 7) + Int.toNat 200) + Int.toNat 4608) + Int.toNat 27648) + Int.toNat 6) + Int.toNat 6) + Int.toNat 7) + Int.toNat 24) + Int.toNat 24) + Int.toNat 32) + Int.toNat 825) + Int.toNat 4608) + Int.toNat 27648) + Int.toNat 7300) + Int.toNat 7300) + Int.toNat 7300) + Int.toNat 7300) + Int.toNat 14600) + Int.toNat 6) + Int.toNat 26) + Int.toNat 26) + Int.toNat 26) + Int.toNat 26) + Int.toNat 24) + Int.toNat 7300) + Int.toNat 4992) + Int.toNat 4992) + Int.toNat 4992) + Int.toNat 6) + Int.toNat 128) + Int.toNat 100) + Int.toNat 100), tt td, cv b)) miL_12 (fun b h => kX4_init c_3 b h) rfl (Nat.le_of_ble_eq_true rfl) rfl (Nat.le_of_ble_eq_true rfl) (fun _ => Nat.le_of_ble_eq_true rfl) (fun _ => ⟨rfl, rfl⟩) dL_law_12 (fun c_4 => ?_)
  refine s_astore_nD (pc := 15) (ls' := [some (2, 0), some (2, 43), some (2, 111), none]) dL_law_15 rfl (Nat.le_of_ble_eq_true rfl) ?_
  refine s_iconst (pc := 16) dL_law_16 ?_
  refine s_istore_nD (pc := 17) (ls' := [some (2, 0), some (2, 43), some (2, 111), some (0, 0)]) dL_law_17 rfl (Nat.le_of_ble_eq_true rfl) ?_
  exact s_loop (s0 := (0, 168, slL sl, td, c_4)) (g := gL G Γ nm r) (Ex := eL r) (fun s => sL_l18 hS s) (fun e => Sm.some (fun h => h))
