/-! THE LAYOUT: addresses of x's and m's cells (168 cells; x at 43, m at 111); by gen/layout.py -/
abbrev kK : Nat := 168
def T0 : List (Nat × Nat) := [(99, 0), (99, 0), (99, 0), (99, 0), (99, 0), (99, 0), (99, 0), (99, 0), (99, 0), (99, 0), (99, 0), (99, 0), (99, 0), (99, 0), (99, 0), (99, 0), (99, 0), (99, 0), (99, 0), (99, 0), (99, 0), (99, 0), (99, 0), (99, 0), (99, 0), (99, 0), (99, 0), (99, 0), (99, 0), (99, 0), (99, 0), (99, 0), (99, 0), (99, 0), (99, 0), (99, 0), (99, 0), (99, 0), (99, 0), (99, 0), (99, 0), (99, 0), (99, 0), (0, 41), (54, 6), (1, 4), (55, 0), (56, 0), (2, 1), (50, 7), (50, 24), (50, 24), (52, 300), (50, 16800), (50, 84000), (50, 7), (50, 31), (58, 31), (51, 24), (51, 24), (51, 24), (51, 24), (51, 24), (51, 24), (51, 24), (51, 24), (51, 24), (51, 24), (51, 24), (51, 24), (51, 24), (51, 24), (51, 24), (51, 24), (51, 24), (51, 24), (51, 24), (51, 24), (51, 24), (51, 24), (51, 24), (51, 24), (51, 24), (51, 24), (51, 24), (51, 24), (51, 24), (51, 24), (51, 24), (55, 24), (50, 24), (50, 2400), (57, 6), (50, 24), (50, 24), (50, 24), (50, 24), (50, 24), (50, 24), (50, 8000), (50, 8000), (50, 8001), (50, 16000), (50, 25), (50, 25), (50, 25), (50, 25), (50, 5), (50, 4800), (50, 32), (57, 4800), (3, 83), (50, 40), (50, 40), (52, 300), (50, 6), (50, 144), (50, 144), (50, 144), (50, 144), (50, 144), (50, 144), (50, 144), (50, 144), (50, 144), (50, 2400), (50, 2400), (50, 40), (50, 41), (50, 80), (50, 80), (50, 24), (50, 24), (50, 168), (50, 400), (50, 400), (50, 7), (51, 200), (51, 4608), (51, 27648), (51, 6), (51, 6), (51, 7), (50, 24), (50, 24), (50, 32), (51, 825), (50, 4608), (50, 27648), (50, 7300), (50, 7300), (50, 7300), (50, 7300), (50, 14600), (50, 6), (50, 26), (50, 26), (50, 26), (50, 26), (50, 24), (53, 7300), (50, 4992), (50, 4992), (50, 4992), (50, 6), (50, 128), (50, 100), (50, 100)]
def refX : List (Option Int) := [some 44, some 45, some 48, none, none, none, none, none, none, some 50, some 51, none, some 52, none, none, none, some 53, some 54, some 55, some 56, some 57, none, some 89, some 90, some 91, some 92, some 99, some 100, some 101, some 102, none, some 103, some 104, some 105, some 106, none, some 107, some 108, some 109, none, some 110]
def refL : List (Option Int) := [some 46, some 47, some (-1), some 0]
def refMo : List (Option Int) := [some 49]
def refM : List (Option Int) := [some 112, some 113, some 114, none, none, none, some 115, some 116, some 117, some 118, some 119, some 120, some 121, some 122, some 123, some 124, some 125, some 126, none, none, none, none, none, none, none, none, none, some 127, some 128, none, some 129, some 130, none, none, none, some 131, some 132, some 133, none, some 134, some 135, some 136, some 137, some 138, some 139, none, some 140, some 141, some 142, some 143, some 144, some 145, some 146, some 147, some 148, none, none, some 149, some 150, some 151, some 152, some 153, some 154, some 155, some 156, some 157, some 158, none, some 159, none, some 160, none, none, none, none, some 161, some 162, some 163, some 164, some 165, some 166, some 167, none]
def refW : List (Option Int) := [some 58, some 59, some 60, some 61, some 62, some 63, some 64, some 65, some 66, some 67, some 68, some 69, some 70, some 71, some 72, some 73, some 74, some 75, some 76, some 77, some 78, some 79, some 80, some 81, some 82, some 83, some 84, some 85, some 86, some 87, some 88]
def refH : List (Option Int) := [some 93, some 94, some 95, some 96, some 97, some 98]
/-- what a fixed slot holds: the arrays of x and m by their addresses -/
def sref (a i : Nat) : Option Int := if a = 43 then refX.getD i none else if a = 111 then refM.getD i none else if a = 45 then refL.getD i none else if a = 48 then refMo.getD i none else if a = 57 then refW.getD i none else if a = 92 then refH.getD i none else none
def tt (td : TT) : TT := fun a => if 43 ≤ a ∧ a < kK then T0.getD a (99, 0) else td a
def cv (c : CC) : CC := fun a i => match sref a i with
  | some z => z
  | none => c a i
theorem cv_up {c : CC} {a i : Nat} {v : Int} (h : sref a i = none) : up2 (cv c) a i v = cv (up2 c a i v) := by
  funext b j
  by_cases hb : b = a ∧ j = i
  · obtain ⟨rfl, rfl⟩ := hb
    rw [up2_self]
    simp only [cv, h, up2_self]
  · rw [up2_ne hb]
    unfold cv
    split
    · rfl
    · rw [up2_ne hb]
theorem kO_43 : kO ≤ 43 := Nat.le_of_ble_eq_true rfl
theorem t_43 (td : TT) : tt td 43 = (0, 41) := rfl
theorem kO_44 : kO ≤ 44 := Nat.le_of_ble_eq_true rfl
theorem t_44 (td : TT) : tt td 44 = (54, 6) := rfl
theorem r_44 (j : Nat) : sref 44 j = none := rfl
theorem kO_45 : kO ≤ 45 := Nat.le_of_ble_eq_true rfl
theorem t_45 (td : TT) : tt td 45 = (1, 4) := rfl
theorem kO_46 : kO ≤ 46 := Nat.le_of_ble_eq_true rfl
theorem t_46 (td : TT) : tt td 46 = (55, 0) := rfl
theorem r_46 (j : Nat) : sref 46 j = none := rfl
theorem kO_47 : kO ≤ 47 := Nat.le_of_ble_eq_true rfl
theorem t_47 (td : TT) : tt td 47 = (56, 0) := rfl
theorem r_47 (j : Nat) : sref 47 j = none := rfl
theorem kO_48 : kO ≤ 48 := Nat.le_of_ble_eq_true rfl
theorem t_48 (td : TT) : tt td 48 = (2, 1) := rfl
theorem kO_49 : kO ≤ 49 := Nat.le_of_ble_eq_true rfl
theorem t_49 (td : TT) : tt td 49 = (50, 7) := rfl
theorem r_49 (j : Nat) : sref 49 j = none := rfl
theorem kO_50 : kO ≤ 50 := Nat.le_of_ble_eq_true rfl
theorem t_50 (td : TT) : tt td 50 = (50, 24) := rfl
theorem r_50 (j : Nat) : sref 50 j = none := rfl
theorem kO_51 : kO ≤ 51 := Nat.le_of_ble_eq_true rfl
theorem t_51 (td : TT) : tt td 51 = (50, 24) := rfl
theorem r_51 (j : Nat) : sref 51 j = none := rfl
theorem kO_52 : kO ≤ 52 := Nat.le_of_ble_eq_true rfl
theorem t_52 (td : TT) : tt td 52 = (52, 300) := rfl
theorem r_52 (j : Nat) : sref 52 j = none := rfl
theorem kO_53 : kO ≤ 53 := Nat.le_of_ble_eq_true rfl
theorem t_53 (td : TT) : tt td 53 = (50, 16800) := rfl
theorem r_53 (j : Nat) : sref 53 j = none := rfl
theorem kO_54 : kO ≤ 54 := Nat.le_of_ble_eq_true rfl
theorem t_54 (td : TT) : tt td 54 = (50, 84000) := rfl
theorem r_54 (j : Nat) : sref 54 j = none := rfl
theorem kO_55 : kO ≤ 55 := Nat.le_of_ble_eq_true rfl
theorem t_55 (td : TT) : tt td 55 = (50, 7) := rfl
theorem r_55 (j : Nat) : sref 55 j = none := rfl
theorem kO_56 : kO ≤ 56 := Nat.le_of_ble_eq_true rfl
theorem t_56 (td : TT) : tt td 56 = (50, 31) := rfl
theorem r_56 (j : Nat) : sref 56 j = none := rfl
theorem kO_57 : kO ≤ 57 := Nat.le_of_ble_eq_true rfl
theorem t_57 (td : TT) : tt td 57 = (58, 31) := rfl
theorem kO_58 : kO ≤ 58 := Nat.le_of_ble_eq_true rfl
theorem t_58 (td : TT) : tt td 58 = (51, 24) := rfl
theorem r_58 (j : Nat) : sref 58 j = none := rfl
theorem kO_59 : kO ≤ 59 := Nat.le_of_ble_eq_true rfl
theorem t_59 (td : TT) : tt td 59 = (51, 24) := rfl
theorem r_59 (j : Nat) : sref 59 j = none := rfl
theorem kO_60 : kO ≤ 60 := Nat.le_of_ble_eq_true rfl
theorem t_60 (td : TT) : tt td 60 = (51, 24) := rfl
theorem r_60 (j : Nat) : sref 60 j = none := rfl
theorem kO_61 : kO ≤ 61 := Nat.le_of_ble_eq_true rfl
theorem t_61 (td : TT) : tt td 61 = (51, 24) := rfl
theorem r_61 (j : Nat) : sref 61 j = none := rfl
theorem kO_62 : kO ≤ 62 := Nat.le_of_ble_eq_true rfl
theorem t_62 (td : TT) : tt td 62 = (51, 24) := rfl
theorem r_62 (j : Nat) : sref 62 j = none := rfl
theorem kO_63 : kO ≤ 63 := Nat.le_of_ble_eq_true rfl
theorem t_63 (td : TT) : tt td 63 = (51, 24) := rfl
theorem r_63 (j : Nat) : sref 63 j = none := rfl
theorem kO_64 : kO ≤ 64 := Nat.le_of_ble_eq_true rfl
theorem t_64 (td : TT) : tt td 64 = (51, 24) := rfl
theorem r_64 (j : Nat) : sref 64 j = none := rfl
theorem kO_65 : kO ≤ 65 := Nat.le_of_ble_eq_true rfl
theorem t_65 (td : TT) : tt td 65 = (51, 24) := rfl
theorem r_65 (j : Nat) : sref 65 j = none := rfl
theorem kO_66 : kO ≤ 66 := Nat.le_of_ble_eq_true rfl
theorem t_66 (td : TT) : tt td 66 = (51, 24) := rfl
theorem r_66 (j : Nat) : sref 66 j = none := rfl
theorem kO_67 : kO ≤ 67 := Nat.le_of_ble_eq_true rfl
theorem t_67 (td : TT) : tt td 67 = (51, 24) := rfl
theorem r_67 (j : Nat) : sref 67 j = none := rfl
theorem kO_68 : kO ≤ 68 := Nat.le_of_ble_eq_true rfl
theorem t_68 (td : TT) : tt td 68 = (51, 24) := rfl
theorem r_68 (j : Nat) : sref 68 j = none := rfl
theorem kO_69 : kO ≤ 69 := Nat.le_of_ble_eq_true rfl
theorem t_69 (td : TT) : tt td 69 = (51, 24) := rfl
theorem r_69 (j : Nat) : sref 69 j = none := rfl
theorem kO_70 : kO ≤ 70 := Nat.le_of_ble_eq_true rfl
theorem t_70 (td : TT) : tt td 70 = (51, 24) := rfl
theorem r_70 (j : Nat) : sref 70 j = none := rfl
theorem kO_71 : kO ≤ 71 := Nat.le_of_ble_eq_true rfl
theorem t_71 (td : TT) : tt td 71 = (51, 24) := rfl
theorem r_71 (j : Nat) : sref 71 j = none := rfl
theorem kO_72 : kO ≤ 72 := Nat.le_of_ble_eq_true rfl
theorem t_72 (td : TT) : tt td 72 = (51, 24) := rfl
theorem r_72 (j : Nat) : sref 72 j = none := rfl
theorem kO_73 : kO ≤ 73 := Nat.le_of_ble_eq_true rfl
theorem t_73 (td : TT) : tt td 73 = (51, 24) := rfl
theorem r_73 (j : Nat) : sref 73 j = none := rfl
theorem kO_74 : kO ≤ 74 := Nat.le_of_ble_eq_true rfl
theorem t_74 (td : TT) : tt td 74 = (51, 24) := rfl
theorem r_74 (j : Nat) : sref 74 j = none := rfl
theorem kO_75 : kO ≤ 75 := Nat.le_of_ble_eq_true rfl
theorem t_75 (td : TT) : tt td 75 = (51, 24) := rfl
theorem r_75 (j : Nat) : sref 75 j = none := rfl
theorem kO_76 : kO ≤ 76 := Nat.le_of_ble_eq_true rfl
theorem t_76 (td : TT) : tt td 76 = (51, 24) := rfl
theorem r_76 (j : Nat) : sref 76 j = none := rfl
theorem kO_77 : kO ≤ 77 := Nat.le_of_ble_eq_true rfl
theorem t_77 (td : TT) : tt td 77 = (51, 24) := rfl
theorem r_77 (j : Nat) : sref 77 j = none := rfl
theorem kO_78 : kO ≤ 78 := Nat.le_of_ble_eq_true rfl
theorem t_78 (td : TT) : tt td 78 = (51, 24) := rfl
theorem r_78 (j : Nat) : sref 78 j = none := rfl
theorem kO_79 : kO ≤ 79 := Nat.le_of_ble_eq_true rfl
theorem t_79 (td : TT) : tt td 79 = (51, 24) := rfl
theorem r_79 (j : Nat) : sref 79 j = none := rfl
theorem kO_80 : kO ≤ 80 := Nat.le_of_ble_eq_true rfl
theorem t_80 (td : TT) : tt td 80 = (51, 24) := rfl
theorem r_80 (j : Nat) : sref 80 j = none := rfl
theorem kO_81 : kO ≤ 81 := Nat.le_of_ble_eq_true rfl
theorem t_81 (td : TT) : tt td 81 = (51, 24) := rfl
theorem r_81 (j : Nat) : sref 81 j = none := rfl
theorem kO_82 : kO ≤ 82 := Nat.le_of_ble_eq_true rfl
theorem t_82 (td : TT) : tt td 82 = (51, 24) := rfl
theorem r_82 (j : Nat) : sref 82 j = none := rfl
theorem kO_83 : kO ≤ 83 := Nat.le_of_ble_eq_true rfl
theorem t_83 (td : TT) : tt td 83 = (51, 24) := rfl
theorem r_83 (j : Nat) : sref 83 j = none := rfl
theorem kO_84 : kO ≤ 84 := Nat.le_of_ble_eq_true rfl
theorem t_84 (td : TT) : tt td 84 = (51, 24) := rfl
theorem r_84 (j : Nat) : sref 84 j = none := rfl
theorem kO_85 : kO ≤ 85 := Nat.le_of_ble_eq_true rfl
theorem t_85 (td : TT) : tt td 85 = (51, 24) := rfl
theorem r_85 (j : Nat) : sref 85 j = none := rfl
theorem kO_86 : kO ≤ 86 := Nat.le_of_ble_eq_true rfl
theorem t_86 (td : TT) : tt td 86 = (51, 24) := rfl
theorem r_86 (j : Nat) : sref 86 j = none := rfl
theorem kO_87 : kO ≤ 87 := Nat.le_of_ble_eq_true rfl
theorem t_87 (td : TT) : tt td 87 = (51, 24) := rfl
theorem r_87 (j : Nat) : sref 87 j = none := rfl
theorem kO_88 : kO ≤ 88 := Nat.le_of_ble_eq_true rfl
theorem t_88 (td : TT) : tt td 88 = (51, 24) := rfl
theorem r_88 (j : Nat) : sref 88 j = none := rfl
theorem kO_89 : kO ≤ 89 := Nat.le_of_ble_eq_true rfl
theorem t_89 (td : TT) : tt td 89 = (55, 24) := rfl
theorem r_89 (j : Nat) : sref 89 j = none := rfl
theorem kO_90 : kO ≤ 90 := Nat.le_of_ble_eq_true rfl
theorem t_90 (td : TT) : tt td 90 = (50, 24) := rfl
theorem r_90 (j : Nat) : sref 90 j = none := rfl
theorem kO_91 : kO ≤ 91 := Nat.le_of_ble_eq_true rfl
theorem t_91 (td : TT) : tt td 91 = (50, 2400) := rfl
theorem r_91 (j : Nat) : sref 91 j = none := rfl
theorem kO_92 : kO ≤ 92 := Nat.le_of_ble_eq_true rfl
theorem t_92 (td : TT) : tt td 92 = (57, 6) := rfl
theorem kO_93 : kO ≤ 93 := Nat.le_of_ble_eq_true rfl
theorem t_93 (td : TT) : tt td 93 = (50, 24) := rfl
theorem r_93 (j : Nat) : sref 93 j = none := rfl
theorem kO_94 : kO ≤ 94 := Nat.le_of_ble_eq_true rfl
theorem t_94 (td : TT) : tt td 94 = (50, 24) := rfl
theorem r_94 (j : Nat) : sref 94 j = none := rfl
theorem kO_95 : kO ≤ 95 := Nat.le_of_ble_eq_true rfl
theorem t_95 (td : TT) : tt td 95 = (50, 24) := rfl
theorem r_95 (j : Nat) : sref 95 j = none := rfl
theorem kO_96 : kO ≤ 96 := Nat.le_of_ble_eq_true rfl
theorem t_96 (td : TT) : tt td 96 = (50, 24) := rfl
theorem r_96 (j : Nat) : sref 96 j = none := rfl
theorem kO_97 : kO ≤ 97 := Nat.le_of_ble_eq_true rfl
theorem t_97 (td : TT) : tt td 97 = (50, 24) := rfl
theorem r_97 (j : Nat) : sref 97 j = none := rfl
theorem kO_98 : kO ≤ 98 := Nat.le_of_ble_eq_true rfl
theorem t_98 (td : TT) : tt td 98 = (50, 24) := rfl
theorem r_98 (j : Nat) : sref 98 j = none := rfl
theorem kO_99 : kO ≤ 99 := Nat.le_of_ble_eq_true rfl
theorem t_99 (td : TT) : tt td 99 = (50, 8000) := rfl
theorem r_99 (j : Nat) : sref 99 j = none := rfl
theorem kO_100 : kO ≤ 100 := Nat.le_of_ble_eq_true rfl
theorem t_100 (td : TT) : tt td 100 = (50, 8000) := rfl
theorem r_100 (j : Nat) : sref 100 j = none := rfl
theorem kO_101 : kO ≤ 101 := Nat.le_of_ble_eq_true rfl
theorem t_101 (td : TT) : tt td 101 = (50, 8001) := rfl
theorem r_101 (j : Nat) : sref 101 j = none := rfl
theorem kO_102 : kO ≤ 102 := Nat.le_of_ble_eq_true rfl
theorem t_102 (td : TT) : tt td 102 = (50, 16000) := rfl
theorem r_102 (j : Nat) : sref 102 j = none := rfl
theorem kO_103 : kO ≤ 103 := Nat.le_of_ble_eq_true rfl
theorem t_103 (td : TT) : tt td 103 = (50, 25) := rfl
theorem r_103 (j : Nat) : sref 103 j = none := rfl
theorem kO_104 : kO ≤ 104 := Nat.le_of_ble_eq_true rfl
theorem t_104 (td : TT) : tt td 104 = (50, 25) := rfl
theorem r_104 (j : Nat) : sref 104 j = none := rfl
theorem kO_105 : kO ≤ 105 := Nat.le_of_ble_eq_true rfl
theorem t_105 (td : TT) : tt td 105 = (50, 25) := rfl
theorem r_105 (j : Nat) : sref 105 j = none := rfl
theorem kO_106 : kO ≤ 106 := Nat.le_of_ble_eq_true rfl
theorem t_106 (td : TT) : tt td 106 = (50, 25) := rfl
theorem r_106 (j : Nat) : sref 106 j = none := rfl
theorem kO_107 : kO ≤ 107 := Nat.le_of_ble_eq_true rfl
theorem t_107 (td : TT) : tt td 107 = (50, 5) := rfl
theorem r_107 (j : Nat) : sref 107 j = none := rfl
theorem kO_108 : kO ≤ 108 := Nat.le_of_ble_eq_true rfl
theorem t_108 (td : TT) : tt td 108 = (50, 4800) := rfl
theorem r_108 (j : Nat) : sref 108 j = none := rfl
theorem kO_109 : kO ≤ 109 := Nat.le_of_ble_eq_true rfl
theorem t_109 (td : TT) : tt td 109 = (50, 32) := rfl
theorem r_109 (j : Nat) : sref 109 j = none := rfl
theorem kO_110 : kO ≤ 110 := Nat.le_of_ble_eq_true rfl
theorem t_110 (td : TT) : tt td 110 = (57, 4800) := rfl
theorem r_110 (j : Nat) : sref 110 j = none := rfl
theorem kO_111 : kO ≤ 111 := Nat.le_of_ble_eq_true rfl
theorem t_111 (td : TT) : tt td 111 = (3, 83) := rfl
theorem kO_112 : kO ≤ 112 := Nat.le_of_ble_eq_true rfl
theorem t_112 (td : TT) : tt td 112 = (50, 40) := rfl
theorem r_112 (j : Nat) : sref 112 j = none := rfl
theorem kO_113 : kO ≤ 113 := Nat.le_of_ble_eq_true rfl
theorem t_113 (td : TT) : tt td 113 = (50, 40) := rfl
theorem r_113 (j : Nat) : sref 113 j = none := rfl
theorem kO_114 : kO ≤ 114 := Nat.le_of_ble_eq_true rfl
theorem t_114 (td : TT) : tt td 114 = (52, 300) := rfl
theorem r_114 (j : Nat) : sref 114 j = none := rfl
theorem kO_115 : kO ≤ 115 := Nat.le_of_ble_eq_true rfl
theorem t_115 (td : TT) : tt td 115 = (50, 6) := rfl
theorem r_115 (j : Nat) : sref 115 j = none := rfl
theorem kO_116 : kO ≤ 116 := Nat.le_of_ble_eq_true rfl
theorem t_116 (td : TT) : tt td 116 = (50, 144) := rfl
theorem r_116 (j : Nat) : sref 116 j = none := rfl
theorem kO_117 : kO ≤ 117 := Nat.le_of_ble_eq_true rfl
theorem t_117 (td : TT) : tt td 117 = (50, 144) := rfl
theorem r_117 (j : Nat) : sref 117 j = none := rfl
theorem kO_118 : kO ≤ 118 := Nat.le_of_ble_eq_true rfl
theorem t_118 (td : TT) : tt td 118 = (50, 144) := rfl
theorem r_118 (j : Nat) : sref 118 j = none := rfl
theorem kO_119 : kO ≤ 119 := Nat.le_of_ble_eq_true rfl
theorem t_119 (td : TT) : tt td 119 = (50, 144) := rfl
theorem r_119 (j : Nat) : sref 119 j = none := rfl
theorem kO_120 : kO ≤ 120 := Nat.le_of_ble_eq_true rfl
theorem t_120 (td : TT) : tt td 120 = (50, 144) := rfl
theorem r_120 (j : Nat) : sref 120 j = none := rfl
theorem kO_121 : kO ≤ 121 := Nat.le_of_ble_eq_true rfl
theorem t_121 (td : TT) : tt td 121 = (50, 144) := rfl
theorem r_121 (j : Nat) : sref 121 j = none := rfl
theorem kO_122 : kO ≤ 122 := Nat.le_of_ble_eq_true rfl
theorem t_122 (td : TT) : tt td 122 = (50, 144) := rfl
theorem r_122 (j : Nat) : sref 122 j = none := rfl
theorem kO_123 : kO ≤ 123 := Nat.le_of_ble_eq_true rfl
theorem t_123 (td : TT) : tt td 123 = (50, 144) := rfl
theorem r_123 (j : Nat) : sref 123 j = none := rfl
theorem kO_124 : kO ≤ 124 := Nat.le_of_ble_eq_true rfl
theorem t_124 (td : TT) : tt td 124 = (50, 144) := rfl
theorem r_124 (j : Nat) : sref 124 j = none := rfl
theorem kO_125 : kO ≤ 125 := Nat.le_of_ble_eq_true rfl
theorem t_125 (td : TT) : tt td 125 = (50, 2400) := rfl
theorem r_125 (j : Nat) : sref 125 j = none := rfl
theorem kO_126 : kO ≤ 126 := Nat.le_of_ble_eq_true rfl
theorem t_126 (td : TT) : tt td 126 = (50, 2400) := rfl
theorem r_126 (j : Nat) : sref 126 j = none := rfl
theorem kO_127 : kO ≤ 127 := Nat.le_of_ble_eq_true rfl
theorem t_127 (td : TT) : tt td 127 = (50, 40) := rfl
theorem r_127 (j : Nat) : sref 127 j = none := rfl
theorem kO_128 : kO ≤ 128 := Nat.le_of_ble_eq_true rfl
theorem t_128 (td : TT) : tt td 128 = (50, 41) := rfl
theorem r_128 (j : Nat) : sref 128 j = none := rfl
theorem kO_129 : kO ≤ 129 := Nat.le_of_ble_eq_true rfl
theorem t_129 (td : TT) : tt td 129 = (50, 80) := rfl
theorem r_129 (j : Nat) : sref 129 j = none := rfl
theorem kO_130 : kO ≤ 130 := Nat.le_of_ble_eq_true rfl
theorem t_130 (td : TT) : tt td 130 = (50, 80) := rfl
theorem r_130 (j : Nat) : sref 130 j = none := rfl
theorem kO_131 : kO ≤ 131 := Nat.le_of_ble_eq_true rfl
theorem t_131 (td : TT) : tt td 131 = (50, 24) := rfl
theorem r_131 (j : Nat) : sref 131 j = none := rfl
theorem kO_132 : kO ≤ 132 := Nat.le_of_ble_eq_true rfl
theorem t_132 (td : TT) : tt td 132 = (50, 24) := rfl
theorem r_132 (j : Nat) : sref 132 j = none := rfl
theorem kO_133 : kO ≤ 133 := Nat.le_of_ble_eq_true rfl
theorem t_133 (td : TT) : tt td 133 = (50, 168) := rfl
theorem r_133 (j : Nat) : sref 133 j = none := rfl
theorem kO_134 : kO ≤ 134 := Nat.le_of_ble_eq_true rfl
theorem t_134 (td : TT) : tt td 134 = (50, 400) := rfl
theorem r_134 (j : Nat) : sref 134 j = none := rfl
theorem kO_135 : kO ≤ 135 := Nat.le_of_ble_eq_true rfl
theorem t_135 (td : TT) : tt td 135 = (50, 400) := rfl
theorem r_135 (j : Nat) : sref 135 j = none := rfl
theorem kO_136 : kO ≤ 136 := Nat.le_of_ble_eq_true rfl
theorem t_136 (td : TT) : tt td 136 = (50, 7) := rfl
theorem r_136 (j : Nat) : sref 136 j = none := rfl
theorem kO_137 : kO ≤ 137 := Nat.le_of_ble_eq_true rfl
theorem t_137 (td : TT) : tt td 137 = (51, 200) := rfl
theorem r_137 (j : Nat) : sref 137 j = none := rfl
theorem kO_138 : kO ≤ 138 := Nat.le_of_ble_eq_true rfl
theorem t_138 (td : TT) : tt td 138 = (51, 4608) := rfl
theorem r_138 (j : Nat) : sref 138 j = none := rfl
theorem kO_139 : kO ≤ 139 := Nat.le_of_ble_eq_true rfl
theorem t_139 (td : TT) : tt td 139 = (51, 27648) := rfl
theorem r_139 (j : Nat) : sref 139 j = none := rfl
theorem kO_140 : kO ≤ 140 := Nat.le_of_ble_eq_true rfl
theorem t_140 (td : TT) : tt td 140 = (51, 6) := rfl
theorem r_140 (j : Nat) : sref 140 j = none := rfl
theorem kO_141 : kO ≤ 141 := Nat.le_of_ble_eq_true rfl
theorem t_141 (td : TT) : tt td 141 = (51, 6) := rfl
theorem r_141 (j : Nat) : sref 141 j = none := rfl
theorem kO_142 : kO ≤ 142 := Nat.le_of_ble_eq_true rfl
theorem t_142 (td : TT) : tt td 142 = (51, 7) := rfl
theorem r_142 (j : Nat) : sref 142 j = none := rfl
theorem kO_143 : kO ≤ 143 := Nat.le_of_ble_eq_true rfl
theorem t_143 (td : TT) : tt td 143 = (50, 24) := rfl
theorem r_143 (j : Nat) : sref 143 j = none := rfl
theorem kO_144 : kO ≤ 144 := Nat.le_of_ble_eq_true rfl
theorem t_144 (td : TT) : tt td 144 = (50, 24) := rfl
theorem r_144 (j : Nat) : sref 144 j = none := rfl
theorem kO_145 : kO ≤ 145 := Nat.le_of_ble_eq_true rfl
theorem t_145 (td : TT) : tt td 145 = (50, 32) := rfl
theorem r_145 (j : Nat) : sref 145 j = none := rfl
theorem kO_146 : kO ≤ 146 := Nat.le_of_ble_eq_true rfl
theorem t_146 (td : TT) : tt td 146 = (51, 825) := rfl
theorem r_146 (j : Nat) : sref 146 j = none := rfl
theorem kO_147 : kO ≤ 147 := Nat.le_of_ble_eq_true rfl
theorem t_147 (td : TT) : tt td 147 = (50, 4608) := rfl
theorem r_147 (j : Nat) : sref 147 j = none := rfl
theorem kO_148 : kO ≤ 148 := Nat.le_of_ble_eq_true rfl
theorem t_148 (td : TT) : tt td 148 = (50, 27648) := rfl
theorem r_148 (j : Nat) : sref 148 j = none := rfl
theorem kO_149 : kO ≤ 149 := Nat.le_of_ble_eq_true rfl
theorem t_149 (td : TT) : tt td 149 = (50, 7300) := rfl
theorem r_149 (j : Nat) : sref 149 j = none := rfl
theorem kO_150 : kO ≤ 150 := Nat.le_of_ble_eq_true rfl
theorem t_150 (td : TT) : tt td 150 = (50, 7300) := rfl
theorem r_150 (j : Nat) : sref 150 j = none := rfl
theorem kO_151 : kO ≤ 151 := Nat.le_of_ble_eq_true rfl
theorem t_151 (td : TT) : tt td 151 = (50, 7300) := rfl
theorem r_151 (j : Nat) : sref 151 j = none := rfl
theorem kO_152 : kO ≤ 152 := Nat.le_of_ble_eq_true rfl
theorem t_152 (td : TT) : tt td 152 = (50, 7300) := rfl
theorem r_152 (j : Nat) : sref 152 j = none := rfl
theorem kO_153 : kO ≤ 153 := Nat.le_of_ble_eq_true rfl
theorem t_153 (td : TT) : tt td 153 = (50, 14600) := rfl
theorem r_153 (j : Nat) : sref 153 j = none := rfl
theorem kO_154 : kO ≤ 154 := Nat.le_of_ble_eq_true rfl
theorem t_154 (td : TT) : tt td 154 = (50, 6) := rfl
theorem r_154 (j : Nat) : sref 154 j = none := rfl
theorem kO_155 : kO ≤ 155 := Nat.le_of_ble_eq_true rfl
theorem t_155 (td : TT) : tt td 155 = (50, 26) := rfl
theorem r_155 (j : Nat) : sref 155 j = none := rfl
theorem kO_156 : kO ≤ 156 := Nat.le_of_ble_eq_true rfl
theorem t_156 (td : TT) : tt td 156 = (50, 26) := rfl
theorem r_156 (j : Nat) : sref 156 j = none := rfl
theorem kO_157 : kO ≤ 157 := Nat.le_of_ble_eq_true rfl
theorem t_157 (td : TT) : tt td 157 = (50, 26) := rfl
theorem r_157 (j : Nat) : sref 157 j = none := rfl
theorem kO_158 : kO ≤ 158 := Nat.le_of_ble_eq_true rfl
theorem t_158 (td : TT) : tt td 158 = (50, 26) := rfl
theorem r_158 (j : Nat) : sref 158 j = none := rfl
theorem kO_159 : kO ≤ 159 := Nat.le_of_ble_eq_true rfl
theorem t_159 (td : TT) : tt td 159 = (50, 24) := rfl
theorem r_159 (j : Nat) : sref 159 j = none := rfl
theorem kO_160 : kO ≤ 160 := Nat.le_of_ble_eq_true rfl
theorem t_160 (td : TT) : tt td 160 = (53, 7300) := rfl
theorem r_160 (j : Nat) : sref 160 j = none := rfl
theorem kO_161 : kO ≤ 161 := Nat.le_of_ble_eq_true rfl
theorem t_161 (td : TT) : tt td 161 = (50, 4992) := rfl
theorem r_161 (j : Nat) : sref 161 j = none := rfl
theorem kO_162 : kO ≤ 162 := Nat.le_of_ble_eq_true rfl
theorem t_162 (td : TT) : tt td 162 = (50, 4992) := rfl
theorem r_162 (j : Nat) : sref 162 j = none := rfl
theorem kO_163 : kO ≤ 163 := Nat.le_of_ble_eq_true rfl
theorem t_163 (td : TT) : tt td 163 = (50, 4992) := rfl
theorem r_163 (j : Nat) : sref 163 j = none := rfl
theorem kO_164 : kO ≤ 164 := Nat.le_of_ble_eq_true rfl
theorem t_164 (td : TT) : tt td 164 = (50, 6) := rfl
theorem r_164 (j : Nat) : sref 164 j = none := rfl
theorem kO_165 : kO ≤ 165 := Nat.le_of_ble_eq_true rfl
theorem t_165 (td : TT) : tt td 165 = (50, 128) := rfl
theorem r_165 (j : Nat) : sref 165 j = none := rfl
theorem kO_166 : kO ≤ 166 := Nat.le_of_ble_eq_true rfl
theorem t_166 (td : TT) : tt td 166 = (50, 100) := rfl
theorem r_166 (j : Nat) : sref 166 j = none := rfl
theorem kO_167 : kO ≤ 167 := Nat.le_of_ble_eq_true rfl
theorem t_167 (td : TT) : tt td 167 = (50, 100) := rfl
theorem r_167 (j : Nat) : sref 167 j = none := rfl
theorem g_43_0 (c : CC) : cv c 43 0 = 44 := rfl
theorem g_43_1 (c : CC) : cv c 43 1 = 45 := rfl
theorem g_43_2 (c : CC) : cv c 43 2 = 48 := rfl
theorem g_43_3 (c : CC) : cv c 43 3 = c 43 3 := rfl
theorem n_43_3 : sref 43 3 = none := rfl
theorem g_43_4 (c : CC) : cv c 43 4 = c 43 4 := rfl
theorem n_43_4 : sref 43 4 = none := rfl
theorem g_43_5 (c : CC) : cv c 43 5 = c 43 5 := rfl
theorem n_43_5 : sref 43 5 = none := rfl
theorem g_43_6 (c : CC) : cv c 43 6 = c 43 6 := rfl
theorem n_43_6 : sref 43 6 = none := rfl
theorem g_43_7 (c : CC) : cv c 43 7 = c 43 7 := rfl
theorem n_43_7 : sref 43 7 = none := rfl
theorem g_43_8 (c : CC) : cv c 43 8 = c 43 8 := rfl
theorem n_43_8 : sref 43 8 = none := rfl
theorem g_43_9 (c : CC) : cv c 43 9 = 50 := rfl
theorem g_43_10 (c : CC) : cv c 43 10 = 51 := rfl
theorem g_43_11 (c : CC) : cv c 43 11 = c 43 11 := rfl
theorem n_43_11 : sref 43 11 = none := rfl
theorem g_43_12 (c : CC) : cv c 43 12 = 52 := rfl
theorem g_43_13 (c : CC) : cv c 43 13 = c 43 13 := rfl
theorem n_43_13 : sref 43 13 = none := rfl
theorem g_43_14 (c : CC) : cv c 43 14 = c 43 14 := rfl
theorem n_43_14 : sref 43 14 = none := rfl
theorem g_43_15 (c : CC) : cv c 43 15 = c 43 15 := rfl
theorem n_43_15 : sref 43 15 = none := rfl
theorem g_43_16 (c : CC) : cv c 43 16 = 53 := rfl
theorem g_43_17 (c : CC) : cv c 43 17 = 54 := rfl
theorem g_43_18 (c : CC) : cv c 43 18 = 55 := rfl
theorem g_43_19 (c : CC) : cv c 43 19 = 56 := rfl
theorem g_43_20 (c : CC) : cv c 43 20 = 57 := rfl
theorem g_43_21 (c : CC) : cv c 43 21 = c 43 21 := rfl
theorem n_43_21 : sref 43 21 = none := rfl
theorem g_43_22 (c : CC) : cv c 43 22 = 89 := rfl
theorem g_43_23 (c : CC) : cv c 43 23 = 90 := rfl
theorem g_43_24 (c : CC) : cv c 43 24 = 91 := rfl
theorem g_43_25 (c : CC) : cv c 43 25 = 92 := rfl
theorem g_43_26 (c : CC) : cv c 43 26 = 99 := rfl
theorem g_43_27 (c : CC) : cv c 43 27 = 100 := rfl
theorem g_43_28 (c : CC) : cv c 43 28 = 101 := rfl
theorem g_43_29 (c : CC) : cv c 43 29 = 102 := rfl
theorem g_43_30 (c : CC) : cv c 43 30 = c 43 30 := rfl
theorem n_43_30 : sref 43 30 = none := rfl
theorem g_43_31 (c : CC) : cv c 43 31 = 103 := rfl
theorem g_43_32 (c : CC) : cv c 43 32 = 104 := rfl
theorem g_43_33 (c : CC) : cv c 43 33 = 105 := rfl
theorem g_43_34 (c : CC) : cv c 43 34 = 106 := rfl
theorem g_43_35 (c : CC) : cv c 43 35 = c 43 35 := rfl
theorem n_43_35 : sref 43 35 = none := rfl
theorem g_43_36 (c : CC) : cv c 43 36 = 107 := rfl
theorem g_43_37 (c : CC) : cv c 43 37 = 108 := rfl
theorem g_43_38 (c : CC) : cv c 43 38 = 109 := rfl
theorem g_43_39 (c : CC) : cv c 43 39 = c 43 39 := rfl
theorem n_43_39 : sref 43 39 = none := rfl
theorem g_43_40 (c : CC) : cv c 43 40 = 110 := rfl
theorem g_45_0 (c : CC) : cv c 45 0 = 46 := rfl
theorem g_45_1 (c : CC) : cv c 45 1 = 47 := rfl
theorem g_45_2 (c : CC) : cv c 45 2 = (-1) := rfl
theorem g_45_3 (c : CC) : cv c 45 3 = 0 := rfl
theorem g_48_0 (c : CC) : cv c 48 0 = 49 := rfl
theorem g_111_0 (c : CC) : cv c 111 0 = 112 := rfl
theorem g_111_1 (c : CC) : cv c 111 1 = 113 := rfl
theorem g_111_2 (c : CC) : cv c 111 2 = 114 := rfl
theorem g_111_3 (c : CC) : cv c 111 3 = c 111 3 := rfl
theorem n_111_3 : sref 111 3 = none := rfl
theorem g_111_4 (c : CC) : cv c 111 4 = c 111 4 := rfl
theorem n_111_4 : sref 111 4 = none := rfl
theorem g_111_5 (c : CC) : cv c 111 5 = c 111 5 := rfl
theorem n_111_5 : sref 111 5 = none := rfl
theorem g_111_6 (c : CC) : cv c 111 6 = 115 := rfl
theorem g_111_7 (c : CC) : cv c 111 7 = 116 := rfl
theorem g_111_8 (c : CC) : cv c 111 8 = 117 := rfl
theorem g_111_9 (c : CC) : cv c 111 9 = 118 := rfl
theorem g_111_10 (c : CC) : cv c 111 10 = 119 := rfl
theorem g_111_11 (c : CC) : cv c 111 11 = 120 := rfl
theorem g_111_12 (c : CC) : cv c 111 12 = 121 := rfl
theorem g_111_13 (c : CC) : cv c 111 13 = 122 := rfl
theorem g_111_14 (c : CC) : cv c 111 14 = 123 := rfl
theorem g_111_15 (c : CC) : cv c 111 15 = 124 := rfl
theorem g_111_16 (c : CC) : cv c 111 16 = 125 := rfl
theorem g_111_17 (c : CC) : cv c 111 17 = 126 := rfl
theorem g_111_18 (c : CC) : cv c 111 18 = c 111 18 := rfl
theorem n_111_18 : sref 111 18 = none := rfl
theorem g_111_19 (c : CC) : cv c 111 19 = c 111 19 := rfl
theorem n_111_19 : sref 111 19 = none := rfl
theorem g_111_20 (c : CC) : cv c 111 20 = c 111 20 := rfl
theorem n_111_20 : sref 111 20 = none := rfl
theorem g_111_21 (c : CC) : cv c 111 21 = c 111 21 := rfl
theorem n_111_21 : sref 111 21 = none := rfl
theorem g_111_22 (c : CC) : cv c 111 22 = c 111 22 := rfl
theorem n_111_22 : sref 111 22 = none := rfl
theorem g_111_23 (c : CC) : cv c 111 23 = c 111 23 := rfl
theorem n_111_23 : sref 111 23 = none := rfl
theorem g_111_24 (c : CC) : cv c 111 24 = c 111 24 := rfl
theorem n_111_24 : sref 111 24 = none := rfl
theorem g_111_25 (c : CC) : cv c 111 25 = c 111 25 := rfl
theorem n_111_25 : sref 111 25 = none := rfl
theorem g_111_26 (c : CC) : cv c 111 26 = c 111 26 := rfl
theorem n_111_26 : sref 111 26 = none := rfl
theorem g_111_27 (c : CC) : cv c 111 27 = 127 := rfl
theorem g_111_28 (c : CC) : cv c 111 28 = 128 := rfl
theorem g_111_29 (c : CC) : cv c 111 29 = c 111 29 := rfl
theorem n_111_29 : sref 111 29 = none := rfl
theorem g_111_30 (c : CC) : cv c 111 30 = 129 := rfl
theorem g_111_31 (c : CC) : cv c 111 31 = 130 := rfl
theorem g_111_32 (c : CC) : cv c 111 32 = c 111 32 := rfl
theorem n_111_32 : sref 111 32 = none := rfl
theorem g_111_33 (c : CC) : cv c 111 33 = c 111 33 := rfl
theorem n_111_33 : sref 111 33 = none := rfl
theorem g_111_34 (c : CC) : cv c 111 34 = c 111 34 := rfl
theorem n_111_34 : sref 111 34 = none := rfl
theorem g_111_35 (c : CC) : cv c 111 35 = 131 := rfl
theorem g_111_36 (c : CC) : cv c 111 36 = 132 := rfl
theorem g_111_37 (c : CC) : cv c 111 37 = 133 := rfl
theorem g_111_38 (c : CC) : cv c 111 38 = c 111 38 := rfl
theorem n_111_38 : sref 111 38 = none := rfl
theorem g_111_39 (c : CC) : cv c 111 39 = 134 := rfl
theorem g_111_40 (c : CC) : cv c 111 40 = 135 := rfl
theorem g_111_41 (c : CC) : cv c 111 41 = 136 := rfl
theorem g_111_42 (c : CC) : cv c 111 42 = 137 := rfl
theorem g_111_43 (c : CC) : cv c 111 43 = 138 := rfl
theorem g_111_44 (c : CC) : cv c 111 44 = 139 := rfl
theorem g_111_45 (c : CC) : cv c 111 45 = c 111 45 := rfl
theorem n_111_45 : sref 111 45 = none := rfl
theorem g_111_46 (c : CC) : cv c 111 46 = 140 := rfl
theorem g_111_47 (c : CC) : cv c 111 47 = 141 := rfl
theorem g_111_48 (c : CC) : cv c 111 48 = 142 := rfl
theorem g_111_49 (c : CC) : cv c 111 49 = 143 := rfl
theorem g_111_50 (c : CC) : cv c 111 50 = 144 := rfl
theorem g_111_51 (c : CC) : cv c 111 51 = 145 := rfl
theorem g_111_52 (c : CC) : cv c 111 52 = 146 := rfl
theorem g_111_53 (c : CC) : cv c 111 53 = 147 := rfl
theorem g_111_54 (c : CC) : cv c 111 54 = 148 := rfl
theorem g_111_55 (c : CC) : cv c 111 55 = c 111 55 := rfl
theorem n_111_55 : sref 111 55 = none := rfl
theorem g_111_56 (c : CC) : cv c 111 56 = c 111 56 := rfl
theorem n_111_56 : sref 111 56 = none := rfl
theorem g_111_57 (c : CC) : cv c 111 57 = 149 := rfl
theorem g_111_58 (c : CC) : cv c 111 58 = 150 := rfl
theorem g_111_59 (c : CC) : cv c 111 59 = 151 := rfl
theorem g_111_60 (c : CC) : cv c 111 60 = 152 := rfl
theorem g_111_61 (c : CC) : cv c 111 61 = 153 := rfl
theorem g_111_62 (c : CC) : cv c 111 62 = 154 := rfl
theorem g_111_63 (c : CC) : cv c 111 63 = 155 := rfl
theorem g_111_64 (c : CC) : cv c 111 64 = 156 := rfl
theorem g_111_65 (c : CC) : cv c 111 65 = 157 := rfl
theorem g_111_66 (c : CC) : cv c 111 66 = 158 := rfl
theorem g_111_67 (c : CC) : cv c 111 67 = c 111 67 := rfl
theorem n_111_67 : sref 111 67 = none := rfl
theorem g_111_68 (c : CC) : cv c 111 68 = 159 := rfl
theorem g_111_69 (c : CC) : cv c 111 69 = c 111 69 := rfl
theorem n_111_69 : sref 111 69 = none := rfl
theorem g_111_70 (c : CC) : cv c 111 70 = 160 := rfl
theorem g_111_71 (c : CC) : cv c 111 71 = c 111 71 := rfl
theorem n_111_71 : sref 111 71 = none := rfl
theorem g_111_72 (c : CC) : cv c 111 72 = c 111 72 := rfl
theorem n_111_72 : sref 111 72 = none := rfl
theorem g_111_73 (c : CC) : cv c 111 73 = c 111 73 := rfl
theorem n_111_73 : sref 111 73 = none := rfl
theorem g_111_74 (c : CC) : cv c 111 74 = c 111 74 := rfl
theorem n_111_74 : sref 111 74 = none := rfl
theorem g_111_75 (c : CC) : cv c 111 75 = 161 := rfl
theorem g_111_76 (c : CC) : cv c 111 76 = 162 := rfl
theorem g_111_77 (c : CC) : cv c 111 77 = 163 := rfl
theorem g_111_78 (c : CC) : cv c 111 78 = 164 := rfl
theorem g_111_79 (c : CC) : cv c 111 79 = 165 := rfl
theorem g_111_80 (c : CC) : cv c 111 80 = 166 := rfl
theorem g_111_81 (c : CC) : cv c 111 81 = 167 := rfl
theorem g_111_82 (c : CC) : cv c 111 82 = c 111 82 := rfl
theorem n_111_82 : sref 111 82 = none := rfl
def msk : List Bool → List (Option Vv) → List (Option Vv)
  | b :: bs, o :: l => (if b then o else none) :: msk bs l
  | _, _ => []
theorem msk_get : ∀ (bs : List Bool) (ls : List (Option Vv)) (k : Nat) (v : Vv), (msk bs ls)[k]? = some (some v) → ls[k]? = some (some v) := by
  intro bs
  induction bs with
  | nil => intro ls k v h; simp [msk] at h
  | cons b bs ih =>
    intro ls k v h
    cases ls with
    | nil => simp [msk] at h
    | cons o l =>
      cases k with
      | zero =>
        simp only [msk, List.getElem?_cons_zero, Option.some.injEq] at h ⊢
        cases b with
        | true => simpa using h
        | false => simp at h
      | succ k =>
        simp only [msk, List.getElem?_cons_succ] at h ⊢
        exact ih l k v h
section LayR
variable {G : GG} {Γ : Cx} {μ : MI} {r : Vv × Wd} {pc : Nat} {ls ls' : List (Option Vv)} {st st' : List Vv} {sz sl : Nat} {td : TT} {c : CC} {w : Wd} {t : TT} {c0 : CC}
variable {X : Type} {k k1 k2 : Option X} {post : X → Prop} {kk : CC → Option X}
theorem s_wk (bs : List Bool) (h0 : msk bs ls = ls') (h : Sm k post (WP G Γ μ r pc ls' st w)) : Sm k post (WP G Γ μ r pc ls st w) :=
  h.map (WP.weak (fun k v hk => msk_get bs ls k v (by rw [h0]; exact hk)))
theorem s_put1 {x : X} (h0 : post x → WP G Γ μ r pc ls st w) : Sm (some x) post (WP G Γ μ r pc ls st w) := Sm.some h0
theorem s_istoreD {i : Nat} {z : Int} (hd : decode μ.1 pc = .ok (.istore i, 2)) (hls : stoL ls i (0, z) = ls') (hi : i < μ.2.2.1) (h : Sm k post (WP G Γ μ r (pc + 2) ls' st w)) : Sm k post (WP G Γ μ r pc ls ((0, z) :: st) w) :=
  h.map (WP.store (fun _ _ _ => trivial) hls (fun p l e R s m args below meth c Q cells slots H locs lsa hx hb hl kk => lv_istore hx hb hd hl.has hi rfl (fun ls' h' => kk ls' (lvOK.sto1 (v := (0, z)) (tg0 z) h'))))
theorem s_istore_nD {i : Fin 4} {z : Int} (hd : decode μ.1 pc = .ok (.istore_n i, 1)) (hls : stoL ls (i : Nat) (0, z) = ls') (hi : (i : Nat) < μ.2.2.1) (h : Sm k post (WP G Γ μ r (pc + 1) ls' st w)) : Sm k post (WP G Γ μ r pc ls ((0, z) :: st) w) :=
  h.map (WP.store (fun _ _ _ => trivial) hls (fun p l e R s m args below meth c Q cells slots H locs lsa hx hb hl kk => lv_istore_n hx hb hd rfl hl.has hi rfl (fun ls' h' => kk ls' (lvOK.sto1 (v := (0, z)) (tg0 z) h'))))
theorem s_lstoreD {i : Nat} {z : Int} (hd : decode μ.1 pc = .ok (.lstore i, 2)) (hls : stoL ls i (1, z) = ls') (hi : i + 1 < μ.2.2.1) (h : Sm k post (WP G Γ μ r (pc + 2) ls' st w)) : Sm k post (WP G Γ μ r pc ls ((1, z) :: st) w) :=
  h.map (WP.store (fun _ _ _ => trivial) hls (fun p l e R s m args below meth c Q cells slots H locs lsa hx hb hl kk => lv_lstore hx hb hd hl.has hi rfl (fun ls' h' => kk ls' (lvOK.sto2 (v := (1, z)) rfl h'))))
theorem s_lstore_nD {i : Fin 4} {z : Int} (hd : decode μ.1 pc = .ok (.lstore_n i, 1)) (hls : stoL ls (i : Nat) (1, z) = ls') (hi : (i : Nat) + 1 < μ.2.2.1) (h : Sm k post (WP G Γ μ r (pc + 1) ls' st w)) : Sm k post (WP G Γ μ r pc ls ((1, z) :: st) w) :=
  h.map (WP.store (fun _ _ _ => trivial) hls (fun p l e R s m args below meth c Q cells slots H locs lsa hx hb hl kk => lv_lstore_n hx hb hd rfl hl.has hi rfl (fun ls' h' => kk ls' (lvOK.sto2 (v := (1, z)) rfl h'))))
theorem s_putM {idx ci i a N tg : Nat} {z v : Int} (hf : FP μ.2.1 idx ci i μ.2.2.2.2.2) (ht : tt td a = (ci, N)) (hz : z = (a : Int)) (ha : kO ≤ a) (hs : sref a i = none) (htg : tgF (fty ci i) = tg) (hr : fty ci i ≠ .boolean ∧ fty ci i ≠ .byte ∧ fty ci i ≠ .char ∧ fty ci i ≠ .short) (hd : decode μ.1 pc = .ok (.putfield idx, 3)) (h : ∀ c1, Sm (kk c1) post (WP G Γ μ r (pc + 3) ls st (sz, sl, tt td, cv c1))) : Sm (bd (up2 c a i v) kk) post (WP G Γ μ r pc ls ((tg, v) :: (2, z) :: st) (sz, sl, tt td, cv c)) :=
  Sm.bd (s_put hf ht hz ha (cv_up hs) htg hr hd (h _))
theorem s_putZM {idx ci i a N : Nat} {z v : Int} (hf : FP μ.2.1 idx ci i μ.2.2.2.2.2) (ht : tt td a = (ci, N)) (hz : z = (a : Int)) (ha : kO ≤ a) (hs : sref a i = none) (htg : fty ci i = .boolean) (hd : decode μ.1 pc = .ok (.putfield idx, 3)) (h : ∀ c1, Sm (kk c1) post (WP G Γ μ r (pc + 3) ls st (sz, sl, tt td, cv c1))) : Sm (gd (0 ≤ v ∧ v < 2) (bd (up2 c a i v) kk)) post (WP G Γ μ r pc ls ((0, v) :: (2, z) :: st) (sz, sl, tt td, cv c)) :=
  s_putZ hf ht hz ha (cv_up hs) htg hd (Sm.bd (h _))
theorem s_iastM {a n : Nat} {z i v : Int} (ht : tt td a = (50, n)) (hz : z = (a : Int)) (ha : kO ≤ a) (hs : ∀ j, sref a j = none) (hd : decode μ.1 pc = .ok (.iastore, 1)) (h : ∀ c1, Sm (kk c1) post (WP G Γ μ r (pc + 1) ls st (sz, sl, tt td, cv c1))) : Sm (gd (0 ≤ i ∧ i < (n : Int)) (bd (up2 c a i.toNat v) kk)) post (WP G Γ μ r pc ls ((0, v) :: (0, i) :: (2, z) :: st) (sz, sl, tt td, cv c)) :=
  s_iast ht hz ha (cv_up (hs _)) hd (Sm.bd (h _))
theorem s_iastML {a n : Nat} {z i v : Int} (j : Nat) (hj : i = (j : Int)) (hn : j < n) (ht : tt td a = (50, n)) (hz : z = (a : Int)) (ha : kO ≤ a) (hs : ∀ j, sref a j = none) (hd : decode μ.1 pc = .ok (.iastore, 1)) (h : ∀ c1, Sm (kk c1) post (WP G Γ μ r (pc + 1) ls st (sz, sl, tt td, cv c1))) : Sm (bd (up2 c a j v) kk) post (WP G Γ μ r pc ls ((0, v) :: (0, i) :: (2, z) :: st) (sz, sl, tt td, cv c)) := by
  have h3 := s_iastM (c := c) (v := v) (i := i) ht hz ha hs hd h
  rw [gd_pos (show 0 ≤ i ∧ i < (n : Int) by subst hj; omega)] at h3
  subst hj
  exact h3
theorem s_lastM {a n : Nat} {z i v : Int} (ht : tt td a = (51, n)) (hz : z = (a : Int)) (ha : kO ≤ a) (hs : ∀ j, sref a j = none) (hd : decode μ.1 pc = .ok (.lastore, 1)) (h : ∀ c1, Sm (kk c1) post (WP G Γ μ r (pc + 1) ls st (sz, sl, tt td, cv c1))) : Sm (gd (0 ≤ i ∧ i < (n : Int)) (bd (up2 c a i.toNat v) kk)) post (WP G Γ μ r pc ls ((1, v) :: (0, i) :: (2, z) :: st) (sz, sl, tt td, cv c)) :=
  s_last ht hz ha (cv_up (hs _)) hd (Sm.bd (h _))
theorem s_lastML {a n : Nat} {z i v : Int} (j : Nat) (hj : i = (j : Int)) (hn : j < n) (ht : tt td a = (51, n)) (hz : z = (a : Int)) (ha : kO ≤ a) (hs : ∀ j, sref a j = none) (hd : decode μ.1 pc = .ok (.lastore, 1)) (h : ∀ c1, Sm (kk c1) post (WP G Γ μ r (pc + 1) ls st (sz, sl, tt td, cv c1))) : Sm (bd (up2 c a j v) kk) post (WP G Γ μ r pc ls ((1, v) :: (0, i) :: (2, z) :: st) (sz, sl, tt td, cv c)) := by
  have h3 := s_lastM (c := c) (v := v) (i := i) ht hz ha hs hd h
  rw [gd_pos (show 0 ≤ i ∧ i < (n : Int) by subst hj; omega)] at h3
  subst hj
  exact h3
theorem s_bastM {a n : Nat} {z i v : Int} (ht : tt td a = (52, n)) (hz : z = (a : Int)) (ha : kO ≤ a) (hs : ∀ j, sref a j = none) (hd : decode μ.1 pc = .ok (.bastore, 1)) (h : ∀ c1, Sm (kk c1) post (WP G Γ μ r (pc + 1) ls st (sz, sl, tt td, cv c1))) : Sm (gd (0 ≤ i ∧ i < (n : Int) ∧ -128 ≤ v ∧ v < 128) (bd (up2 c a i.toNat v) kk)) post (WP G Γ μ r pc ls ((0, v) :: (0, i) :: (2, z) :: st) (sz, sl, tt td, cv c)) :=
  s_bast ht hz ha (cv_up (hs _)) hd (Sm.bd (h _))
theorem s_zastM {a n : Nat} {z i v : Int} (ht : tt td a = (53, n)) (hz : z = (a : Int)) (ha : kO ≤ a) (hs : ∀ j, sref a j = none) (hd : decode μ.1 pc = .ok (.bastore, 1)) (h : ∀ c1, Sm (kk c1) post (WP G Γ μ r (pc + 1) ls st (sz, sl, tt td, cv c1))) : Sm (gd (0 ≤ i ∧ i < (n : Int) ∧ 0 ≤ v ∧ v < 2) (bd (up2 c a i.toNat v) kk)) post (WP G Γ μ r pc ls ((0, v) :: (0, i) :: (2, z) :: st) (sz, sl, tt td, cv c)) :=
  s_zast ht hz ha (cv_up (hs _)) hd (Sm.bd (h _))
theorem s_ialdM {a n : Nat} {z i : Int} (ht : tt td a = (50, n)) (hz : z = (a : Int)) (hs : ∀ j, sref a j = none) (hd : decode μ.1 pc = .ok (.iaload, 1)) (h : Sm k post (WP G Γ μ r (pc + 1) ls ((0, c a i.toNat) :: st) (sz, sl, tt td, cv c))) : Sm (gd (0 ≤ i ∧ i < (n : Int)) k) post (WP G Γ μ r pc ls ((0, i) :: (2, z) :: st) (sz, sl, tt td, cv c)) :=
  s_iald ht hz hd (by rw [show cv c a i.toNat = c a i.toNat by simp only [cv, hs]]; exact h)
theorem s_ialdML {a n : Nat} {z i : Int} (j : Nat) (hj : i = (j : Int)) (hn : j < n) (ht : tt td a = (50, n)) (hz : z = (a : Int)) (hs : ∀ j, sref a j = none) (hd : decode μ.1 pc = .ok (.iaload, 1)) (h : Sm k post (WP G Γ μ r (pc + 1) ls ((0, c a j) :: st) (sz, sl, tt td, cv c))) : Sm k post (WP G Γ μ r pc ls ((0, i) :: (2, z) :: st) (sz, sl, tt td, cv c)) := by
  subst hj
  have h3 := s_ialdM (i := (j : Int)) ht hz hs hd h
  rw [gd_pos (show 0 ≤ (j : Int) ∧ (j : Int) < (n : Int) by omega)] at h3
  exact h3
theorem s_laldM {a n : Nat} {z i : Int} (ht : tt td a = (51, n)) (hz : z = (a : Int)) (hs : ∀ j, sref a j = none) (hd : decode μ.1 pc = .ok (.laload, 1)) (h : Sm k post (WP G Γ μ r (pc + 1) ls ((1, c a i.toNat) :: st) (sz, sl, tt td, cv c))) : Sm (gd (0 ≤ i ∧ i < (n : Int)) k) post (WP G Γ μ r pc ls ((0, i) :: (2, z) :: st) (sz, sl, tt td, cv c)) :=
  s_lald ht hz hd (by rw [show cv c a i.toNat = c a i.toNat by simp only [cv, hs]]; exact h)
theorem s_laldML {a n : Nat} {z i : Int} (j : Nat) (hj : i = (j : Int)) (hn : j < n) (ht : tt td a = (51, n)) (hz : z = (a : Int)) (hs : ∀ j, sref a j = none) (hd : decode μ.1 pc = .ok (.laload, 1)) (h : Sm k post (WP G Γ μ r (pc + 1) ls ((1, c a j) :: st) (sz, sl, tt td, cv c))) : Sm k post (WP G Γ μ r pc ls ((0, i) :: (2, z) :: st) (sz, sl, tt td, cv c)) := by
  subst hj
  have h3 := s_laldM (i := (j : Int)) ht hz hs hd h
  rw [gd_pos (show 0 ≤ (j : Int) ∧ (j : Int) < (n : Int) by omega)] at h3
  exact h3
theorem s_baldM {a n : Nat} {z i : Int} (ht : tt td a = (52, n)) (hz : z = (a : Int)) (hs : ∀ j, sref a j = none) (hd : decode μ.1 pc = .ok (.baload, 1)) (h : Sm k post (WP G Γ μ r (pc + 1) ls ((0, c a i.toNat) :: st) (sz, sl, tt td, cv c))) : Sm (gd (0 ≤ i ∧ i < (n : Int)) k) post (WP G Γ μ r pc ls ((0, i) :: (2, z) :: st) (sz, sl, tt td, cv c)) :=
  s_bald ht hz hd (by rw [show cv c a i.toNat = c a i.toNat by simp only [cv, hs]]; exact h)
theorem s_baldML {a n : Nat} {z i : Int} (j : Nat) (hj : i = (j : Int)) (hn : j < n) (ht : tt td a = (52, n)) (hz : z = (a : Int)) (hs : ∀ j, sref a j = none) (hd : decode μ.1 pc = .ok (.baload, 1)) (h : Sm k post (WP G Γ μ r (pc + 1) ls ((0, c a j) :: st) (sz, sl, tt td, cv c))) : Sm k post (WP G Γ μ r pc ls ((0, i) :: (2, z) :: st) (sz, sl, tt td, cv c)) := by
  subst hj
  have h3 := s_baldM (i := (j : Int)) ht hz hs hd h
  rw [gd_pos (show 0 ≤ (j : Int) ∧ (j : Int) < (n : Int) by omega)] at h3
  exact h3
theorem s_zaldM {a n : Nat} {z i : Int} (ht : tt td a = (53, n)) (hz : z = (a : Int)) (hs : ∀ j, sref a j = none) (hd : decode μ.1 pc = .ok (.baload, 1)) (h : Sm k post (WP G Γ μ r (pc + 1) ls ((0, c a i.toNat) :: st) (sz, sl, tt td, cv c))) : Sm (gd (0 ≤ i ∧ i < (n : Int)) k) post (WP G Γ μ r pc ls ((0, i) :: (2, z) :: st) (sz, sl, tt td, cv c)) :=
  s_zald ht hz hd (by rw [show cv c a i.toNat = c a i.toNat by simp only [cv, hs]]; exact h)
theorem s_zaldML {a n : Nat} {z i : Int} (j : Nat) (hj : i = (j : Int)) (hn : j < n) (ht : tt td a = (53, n)) (hz : z = (a : Int)) (hs : ∀ j, sref a j = none) (hd : decode μ.1 pc = .ok (.baload, 1)) (h : Sm k post (WP G Γ μ r (pc + 1) ls ((0, c a j) :: st) (sz, sl, tt td, cv c))) : Sm k post (WP G Γ μ r pc ls ((0, i) :: (2, z) :: st) (sz, sl, tt td, cv c)) := by
  subst hj
  have h3 := s_zaldM (i := (j : Int)) ht hz hs hd h
  rw [gd_pos (show 0 ≤ (j : Int) ∧ (j : Int) < (n : Int) by omega)] at h3
  exact h3
theorem s_elim {E1 E2 : Type} {f1 : E1 → Option X} {f2 : E2 → Option X} {p1 : E1 → Prop} {p2 : E2 → Prop} (h1 : ∀ e, Sm (f1 e) post (p1 e)) (h2 : ∀ e, Sm (f2 e) post (p2 e)) : ∀ e, Sm (Sum.elim f1 f2 e) post (Sum.elim p1 p2 e) := by
  intro e
  cases e with
  | inl e => exact h1 e
  | inr e => exact h2 e
end LayR
