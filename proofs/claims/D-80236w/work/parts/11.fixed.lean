/-! THE LIGHT WALK, 9: the fixed cells (what the two constructors and the law make), rows over planes, calls by what they give, the methods -/
def fx_sh : List (Nat × Nat) := [(10, 0), (11, 0), (1, 4000), (0, 1001), (0, 1001), (12, 0), (4, 12), (13, 0), (0, 17), (14, 0), (6, 44), (15, 0), (0, 16), (15, 0), (0, 16), (15, 0), (0, 16), (15, 0), (0, 16), (15, 0), (0, 16), (15, 0), (0, 16), (15, 0), (0, 16), (15, 0), (0, 16), (15, 0), (0, 16), (15, 0), (0, 16), (15, 0), (0, 16), (15, 0), (0, 16), (15, 0), (0, 16), (15, 0), (0, 16), (15, 0), (0, 16), (15, 0), (0, 16), (15, 0), (0, 16), (15, 0), (0, 16), (15, 0), (0, 16), (15, 0), (0, 16), (15, 0), (0, 16), (15, 0), (0, 16), (15, 0), (0, 16), (15, 0), (0, 16), (15, 0), (0, 16), (15, 0), (0, 16), (15, 0), (0, 16), (15, 0), (0, 16), (15, 0), (0, 16), (15, 0), (0, 16), (15, 0), (0, 16), (15, 0), (0, 16), (15, 0), (0, 16), (15, 0), (0, 16), (15, 0), (0, 16), (15, 0), (0, 16), (15, 0), (0, 16), (15, 0), (0, 16), (15, 0), (0, 16), (15, 0), (0, 16), (15, 0), (0, 16), (15, 0), (0, 16), (15, 0), (0, 16), (15, 0), (0, 16), (15, 0), (0, 16), (16, 0), (5, 1540), (0, 1540), (1, 1540), (0, 1540), (0, 1540), (0, 1540), (0, 24016), (2, 40), (0, 16), (1, 4000), (4, 12), (0, 40), (0, 40), (17, 0), (0, 4000), (3, 24), (0, 24), (0, 24), (0, 24), (0, 24), (3, 384), (0, 384), (0, 2002), (0, 2002), (0, 2002), (0, 2002), (0, 2002), (0, 2002), (3, 2002), (0, 2002), (0, 2), (0, 1100), (0, 3000), (0, 3000), (0, 1100), (0, 16), (0, 3000), (0, 16), (0, 3000), (0, 8000), (2, 500), (0, 1248), (2, 312), (0, 40), (0, 40), (0, 8), (0, 1540), (0, 1540), (0, 1540), (0, 1540), (0, 1540), (2, 1540), (0, 1540), (0, 1540), (0, 24032), (0, 4), (0, 3000), (3, 1)]
def fx_rf : List (Nat × Nat × Nat) := [(0, 0, 1), (0, 1, 5), (0, 2, 7), (0, 3, 9), (0, 4, 101), (0, 5, 111), (0, 8, 112), (0, 11, 113), (0, 12, 114), (1, 0, 2), (1, 2, 3), (1, 3, 4), (5, 0, 1), (5, 1, 6), (7, 0, 1), (7, 1, 6), (7, 4, 8), (9, 1, 10), (9, 2, 11), (10, 0, 13), (10, 1, 15), (10, 2, 17), (10, 3, 19), (10, 4, 21), (10, 5, 23), (10, 6, 25), (10, 7, 27), (10, 8, 29), (10, 9, 31), (10, 10, 33), (10, 11, 35), (10, 12, 37), (10, 13, 39), (10, 14, 41), (10, 15, 43), (10, 16, 45), (10, 17, 47), (10, 18, 49), (10, 19, 51), (10, 20, 53), (10, 21, 55), (10, 22, 57), (10, 23, 59), (10, 24, 61), (10, 25, 63), (10, 26, 65), (10, 27, 67), (10, 28, 69), (10, 29, 71), (10, 30, 73), (10, 31, 75), (10, 32, 77), (10, 33, 79), (10, 34, 81), (10, 35, 83), (10, 36, 85), (10, 37, 87), (10, 38, 89), (10, 39, 91), (10, 40, 93), (10, 41, 95), (10, 42, 97), (10, 43, 99), (11, 0, 12), (13, 0, 14), (15, 0, 16), (17, 0, 18), (19, 0, 20), (21, 0, 22), (23, 0, 24), (25, 0, 26), (27, 0, 28), (29, 0, 30), (31, 0, 32), (33, 0, 34), (35, 0, 36), (37, 0, 38), (39, 0, 40), (41, 0, 42), (43, 0, 44), (45, 0, 46), (47, 0, 48), (49, 0, 50), (51, 0, 52), (53, 0, 54), (55, 0, 56), (57, 0, 58), (59, 0, 60), (61, 0, 62), (63, 0, 64), (65, 0, 66), (67, 0, 68), (69, 0, 70), (71, 0, 72), (73, 0, 74), (75, 0, 76), (77, 0, 78), (79, 0, 80), (81, 0, 82), (83, 0, 84), (85, 0, 86), (87, 0, 88), (89, 0, 90), (91, 0, 92), (93, 0, 94), (95, 0, 96), (97, 0, 98), (99, 0, 100), (101, 0, 102), (101, 1, 103), (101, 2, 104), (101, 3, 105), (101, 5, 106), (101, 6, 107), (101, 8, 108), (101, 20, 109), (101, 22, 110), (115, 1, 116), (115, 11, 117), (115, 12, 118), (115, 13, 119), (115, 14, 120), (115, 15, 121), (115, 16, 122), (115, 17, 123), (115, 18, 124), (115, 19, 125), (115, 20, 126), (115, 21, 127), (115, 22, 128), (115, 23, 129), (115, 24, 130), (115, 25, 131), (115, 26, 132), (115, 31, 133), (115, 34, 134), (115, 35, 135), (115, 37, 136), (115, 39, 137), (115, 42, 138), (115, 43, 139), (115, 48, 140), (115, 49, 141), (115, 50, 142), (115, 51, 143), (115, 52, 144), (115, 53, 145), (115, 54, 146), (115, 56, 147), (115, 57, 148), (115, 58, 149), (115, 59, 150), (115, 60, 151), (115, 61, 152), (115, 62, 153), (115, 63, 154), (115, 64, 155), (115, 65, 156), (115, 66, 157), (115, 81, 158)]
def k_Fix (F : Frm) : Prop := (∀ (a : Nat) (t : Nat × Nat), fx_sh[a]? = some t → F.2.1 a = t) ∧ ∀ (i : Nat) (q : Nat × Nat × Nat), fx_rf[i]? = some q → F.2.2 q.1 q.2.1 = some q.2.2
theorem fs_0 {F : Frm} (hF : k_Fix F) : F.2.1 0 = (10, 0) := hF.1 0 _ rfl
theorem fs_1 {F : Frm} (hF : k_Fix F) : F.2.1 1 = (11, 0) := hF.1 1 _ rfl
theorem fs_2 {F : Frm} (hF : k_Fix F) : F.2.1 2 = (1, 4000) := hF.1 2 _ rfl
theorem fs_3 {F : Frm} (hF : k_Fix F) : F.2.1 3 = (0, 1001) := hF.1 3 _ rfl
theorem fs_4 {F : Frm} (hF : k_Fix F) : F.2.1 4 = (0, 1001) := hF.1 4 _ rfl
theorem fs_5 {F : Frm} (hF : k_Fix F) : F.2.1 5 = (12, 0) := hF.1 5 _ rfl
theorem fs_6 {F : Frm} (hF : k_Fix F) : F.2.1 6 = (4, 12) := hF.1 6 _ rfl
theorem fs_7 {F : Frm} (hF : k_Fix F) : F.2.1 7 = (13, 0) := hF.1 7 _ rfl
theorem fs_8 {F : Frm} (hF : k_Fix F) : F.2.1 8 = (0, 17) := hF.1 8 _ rfl
theorem fs_9 {F : Frm} (hF : k_Fix F) : F.2.1 9 = (14, 0) := hF.1 9 _ rfl
theorem fs_10 {F : Frm} (hF : k_Fix F) : F.2.1 10 = (6, 44) := hF.1 10 _ rfl
theorem fs_11 {F : Frm} (hF : k_Fix F) : F.2.1 11 = (15, 0) := hF.1 11 _ rfl
theorem fs_12 {F : Frm} (hF : k_Fix F) : F.2.1 12 = (0, 16) := hF.1 12 _ rfl
theorem fs_13 {F : Frm} (hF : k_Fix F) : F.2.1 13 = (15, 0) := hF.1 13 _ rfl
theorem fs_14 {F : Frm} (hF : k_Fix F) : F.2.1 14 = (0, 16) := hF.1 14 _ rfl
theorem fs_15 {F : Frm} (hF : k_Fix F) : F.2.1 15 = (15, 0) := hF.1 15 _ rfl
theorem fs_16 {F : Frm} (hF : k_Fix F) : F.2.1 16 = (0, 16) := hF.1 16 _ rfl
theorem fs_17 {F : Frm} (hF : k_Fix F) : F.2.1 17 = (15, 0) := hF.1 17 _ rfl
theorem fs_18 {F : Frm} (hF : k_Fix F) : F.2.1 18 = (0, 16) := hF.1 18 _ rfl
theorem fs_19 {F : Frm} (hF : k_Fix F) : F.2.1 19 = (15, 0) := hF.1 19 _ rfl
theorem fs_20 {F : Frm} (hF : k_Fix F) : F.2.1 20 = (0, 16) := hF.1 20 _ rfl
theorem fs_21 {F : Frm} (hF : k_Fix F) : F.2.1 21 = (15, 0) := hF.1 21 _ rfl
theorem fs_22 {F : Frm} (hF : k_Fix F) : F.2.1 22 = (0, 16) := hF.1 22 _ rfl
theorem fs_23 {F : Frm} (hF : k_Fix F) : F.2.1 23 = (15, 0) := hF.1 23 _ rfl
theorem fs_24 {F : Frm} (hF : k_Fix F) : F.2.1 24 = (0, 16) := hF.1 24 _ rfl
theorem fs_25 {F : Frm} (hF : k_Fix F) : F.2.1 25 = (15, 0) := hF.1 25 _ rfl
theorem fs_26 {F : Frm} (hF : k_Fix F) : F.2.1 26 = (0, 16) := hF.1 26 _ rfl
theorem fs_27 {F : Frm} (hF : k_Fix F) : F.2.1 27 = (15, 0) := hF.1 27 _ rfl
theorem fs_28 {F : Frm} (hF : k_Fix F) : F.2.1 28 = (0, 16) := hF.1 28 _ rfl
theorem fs_29 {F : Frm} (hF : k_Fix F) : F.2.1 29 = (15, 0) := hF.1 29 _ rfl
theorem fs_30 {F : Frm} (hF : k_Fix F) : F.2.1 30 = (0, 16) := hF.1 30 _ rfl
theorem fs_31 {F : Frm} (hF : k_Fix F) : F.2.1 31 = (15, 0) := hF.1 31 _ rfl
theorem fs_32 {F : Frm} (hF : k_Fix F) : F.2.1 32 = (0, 16) := hF.1 32 _ rfl
theorem fs_33 {F : Frm} (hF : k_Fix F) : F.2.1 33 = (15, 0) := hF.1 33 _ rfl
theorem fs_34 {F : Frm} (hF : k_Fix F) : F.2.1 34 = (0, 16) := hF.1 34 _ rfl
theorem fs_35 {F : Frm} (hF : k_Fix F) : F.2.1 35 = (15, 0) := hF.1 35 _ rfl
theorem fs_36 {F : Frm} (hF : k_Fix F) : F.2.1 36 = (0, 16) := hF.1 36 _ rfl
theorem fs_37 {F : Frm} (hF : k_Fix F) : F.2.1 37 = (15, 0) := hF.1 37 _ rfl
theorem fs_38 {F : Frm} (hF : k_Fix F) : F.2.1 38 = (0, 16) := hF.1 38 _ rfl
theorem fs_39 {F : Frm} (hF : k_Fix F) : F.2.1 39 = (15, 0) := hF.1 39 _ rfl
theorem fs_40 {F : Frm} (hF : k_Fix F) : F.2.1 40 = (0, 16) := hF.1 40 _ rfl
theorem fs_41 {F : Frm} (hF : k_Fix F) : F.2.1 41 = (15, 0) := hF.1 41 _ rfl
theorem fs_42 {F : Frm} (hF : k_Fix F) : F.2.1 42 = (0, 16) := hF.1 42 _ rfl
theorem fs_43 {F : Frm} (hF : k_Fix F) : F.2.1 43 = (15, 0) := hF.1 43 _ rfl
theorem fs_44 {F : Frm} (hF : k_Fix F) : F.2.1 44 = (0, 16) := hF.1 44 _ rfl
theorem fs_45 {F : Frm} (hF : k_Fix F) : F.2.1 45 = (15, 0) := hF.1 45 _ rfl
theorem fs_46 {F : Frm} (hF : k_Fix F) : F.2.1 46 = (0, 16) := hF.1 46 _ rfl
theorem fs_47 {F : Frm} (hF : k_Fix F) : F.2.1 47 = (15, 0) := hF.1 47 _ rfl
theorem fs_48 {F : Frm} (hF : k_Fix F) : F.2.1 48 = (0, 16) := hF.1 48 _ rfl
theorem fs_49 {F : Frm} (hF : k_Fix F) : F.2.1 49 = (15, 0) := hF.1 49 _ rfl
theorem fs_50 {F : Frm} (hF : k_Fix F) : F.2.1 50 = (0, 16) := hF.1 50 _ rfl
theorem fs_51 {F : Frm} (hF : k_Fix F) : F.2.1 51 = (15, 0) := hF.1 51 _ rfl
theorem fs_52 {F : Frm} (hF : k_Fix F) : F.2.1 52 = (0, 16) := hF.1 52 _ rfl
theorem fs_53 {F : Frm} (hF : k_Fix F) : F.2.1 53 = (15, 0) := hF.1 53 _ rfl
theorem fs_54 {F : Frm} (hF : k_Fix F) : F.2.1 54 = (0, 16) := hF.1 54 _ rfl
theorem fs_55 {F : Frm} (hF : k_Fix F) : F.2.1 55 = (15, 0) := hF.1 55 _ rfl
theorem fs_56 {F : Frm} (hF : k_Fix F) : F.2.1 56 = (0, 16) := hF.1 56 _ rfl
theorem fs_57 {F : Frm} (hF : k_Fix F) : F.2.1 57 = (15, 0) := hF.1 57 _ rfl
theorem fs_58 {F : Frm} (hF : k_Fix F) : F.2.1 58 = (0, 16) := hF.1 58 _ rfl
theorem fs_59 {F : Frm} (hF : k_Fix F) : F.2.1 59 = (15, 0) := hF.1 59 _ rfl
theorem fs_60 {F : Frm} (hF : k_Fix F) : F.2.1 60 = (0, 16) := hF.1 60 _ rfl
theorem fs_61 {F : Frm} (hF : k_Fix F) : F.2.1 61 = (15, 0) := hF.1 61 _ rfl
theorem fs_62 {F : Frm} (hF : k_Fix F) : F.2.1 62 = (0, 16) := hF.1 62 _ rfl
theorem fs_63 {F : Frm} (hF : k_Fix F) : F.2.1 63 = (15, 0) := hF.1 63 _ rfl
theorem fs_64 {F : Frm} (hF : k_Fix F) : F.2.1 64 = (0, 16) := hF.1 64 _ rfl
theorem fs_65 {F : Frm} (hF : k_Fix F) : F.2.1 65 = (15, 0) := hF.1 65 _ rfl
theorem fs_66 {F : Frm} (hF : k_Fix F) : F.2.1 66 = (0, 16) := hF.1 66 _ rfl
theorem fs_67 {F : Frm} (hF : k_Fix F) : F.2.1 67 = (15, 0) := hF.1 67 _ rfl
theorem fs_68 {F : Frm} (hF : k_Fix F) : F.2.1 68 = (0, 16) := hF.1 68 _ rfl
theorem fs_69 {F : Frm} (hF : k_Fix F) : F.2.1 69 = (15, 0) := hF.1 69 _ rfl
theorem fs_70 {F : Frm} (hF : k_Fix F) : F.2.1 70 = (0, 16) := hF.1 70 _ rfl
theorem fs_71 {F : Frm} (hF : k_Fix F) : F.2.1 71 = (15, 0) := hF.1 71 _ rfl
theorem fs_72 {F : Frm} (hF : k_Fix F) : F.2.1 72 = (0, 16) := hF.1 72 _ rfl
theorem fs_73 {F : Frm} (hF : k_Fix F) : F.2.1 73 = (15, 0) := hF.1 73 _ rfl
theorem fs_74 {F : Frm} (hF : k_Fix F) : F.2.1 74 = (0, 16) := hF.1 74 _ rfl
theorem fs_75 {F : Frm} (hF : k_Fix F) : F.2.1 75 = (15, 0) := hF.1 75 _ rfl
theorem fs_76 {F : Frm} (hF : k_Fix F) : F.2.1 76 = (0, 16) := hF.1 76 _ rfl
theorem fs_77 {F : Frm} (hF : k_Fix F) : F.2.1 77 = (15, 0) := hF.1 77 _ rfl
theorem fs_78 {F : Frm} (hF : k_Fix F) : F.2.1 78 = (0, 16) := hF.1 78 _ rfl
theorem fs_79 {F : Frm} (hF : k_Fix F) : F.2.1 79 = (15, 0) := hF.1 79 _ rfl
theorem fs_80 {F : Frm} (hF : k_Fix F) : F.2.1 80 = (0, 16) := hF.1 80 _ rfl
theorem fs_81 {F : Frm} (hF : k_Fix F) : F.2.1 81 = (15, 0) := hF.1 81 _ rfl
theorem fs_82 {F : Frm} (hF : k_Fix F) : F.2.1 82 = (0, 16) := hF.1 82 _ rfl
theorem fs_83 {F : Frm} (hF : k_Fix F) : F.2.1 83 = (15, 0) := hF.1 83 _ rfl
theorem fs_84 {F : Frm} (hF : k_Fix F) : F.2.1 84 = (0, 16) := hF.1 84 _ rfl
theorem fs_85 {F : Frm} (hF : k_Fix F) : F.2.1 85 = (15, 0) := hF.1 85 _ rfl
theorem fs_86 {F : Frm} (hF : k_Fix F) : F.2.1 86 = (0, 16) := hF.1 86 _ rfl
theorem fs_87 {F : Frm} (hF : k_Fix F) : F.2.1 87 = (15, 0) := hF.1 87 _ rfl
theorem fs_88 {F : Frm} (hF : k_Fix F) : F.2.1 88 = (0, 16) := hF.1 88 _ rfl
theorem fs_89 {F : Frm} (hF : k_Fix F) : F.2.1 89 = (15, 0) := hF.1 89 _ rfl
theorem fs_90 {F : Frm} (hF : k_Fix F) : F.2.1 90 = (0, 16) := hF.1 90 _ rfl
theorem fs_91 {F : Frm} (hF : k_Fix F) : F.2.1 91 = (15, 0) := hF.1 91 _ rfl
theorem fs_92 {F : Frm} (hF : k_Fix F) : F.2.1 92 = (0, 16) := hF.1 92 _ rfl
theorem fs_93 {F : Frm} (hF : k_Fix F) : F.2.1 93 = (15, 0) := hF.1 93 _ rfl
theorem fs_94 {F : Frm} (hF : k_Fix F) : F.2.1 94 = (0, 16) := hF.1 94 _ rfl
theorem fs_95 {F : Frm} (hF : k_Fix F) : F.2.1 95 = (15, 0) := hF.1 95 _ rfl
theorem fs_96 {F : Frm} (hF : k_Fix F) : F.2.1 96 = (0, 16) := hF.1 96 _ rfl
theorem fs_97 {F : Frm} (hF : k_Fix F) : F.2.1 97 = (15, 0) := hF.1 97 _ rfl
theorem fs_98 {F : Frm} (hF : k_Fix F) : F.2.1 98 = (0, 16) := hF.1 98 _ rfl
theorem fs_99 {F : Frm} (hF : k_Fix F) : F.2.1 99 = (15, 0) := hF.1 99 _ rfl
theorem fs_100 {F : Frm} (hF : k_Fix F) : F.2.1 100 = (0, 16) := hF.1 100 _ rfl
theorem fs_101 {F : Frm} (hF : k_Fix F) : F.2.1 101 = (16, 0) := hF.1 101 _ rfl
theorem fs_102 {F : Frm} (hF : k_Fix F) : F.2.1 102 = (5, 1540) := hF.1 102 _ rfl
theorem fs_103 {F : Frm} (hF : k_Fix F) : F.2.1 103 = (0, 1540) := hF.1 103 _ rfl
theorem fs_104 {F : Frm} (hF : k_Fix F) : F.2.1 104 = (1, 1540) := hF.1 104 _ rfl
theorem fs_105 {F : Frm} (hF : k_Fix F) : F.2.1 105 = (0, 1540) := hF.1 105 _ rfl
theorem fs_106 {F : Frm} (hF : k_Fix F) : F.2.1 106 = (0, 1540) := hF.1 106 _ rfl
theorem fs_107 {F : Frm} (hF : k_Fix F) : F.2.1 107 = (0, 1540) := hF.1 107 _ rfl
theorem fs_108 {F : Frm} (hF : k_Fix F) : F.2.1 108 = (0, 24016) := hF.1 108 _ rfl
theorem fs_109 {F : Frm} (hF : k_Fix F) : F.2.1 109 = (2, 40) := hF.1 109 _ rfl
theorem fs_110 {F : Frm} (hF : k_Fix F) : F.2.1 110 = (0, 16) := hF.1 110 _ rfl
theorem fs_111 {F : Frm} (hF : k_Fix F) : F.2.1 111 = (1, 4000) := hF.1 111 _ rfl
theorem fs_112 {F : Frm} (hF : k_Fix F) : F.2.1 112 = (4, 12) := hF.1 112 _ rfl
theorem fs_113 {F : Frm} (hF : k_Fix F) : F.2.1 113 = (0, 40) := hF.1 113 _ rfl
theorem fs_114 {F : Frm} (hF : k_Fix F) : F.2.1 114 = (0, 40) := hF.1 114 _ rfl
theorem fs_115 {F : Frm} (hF : k_Fix F) : F.2.1 115 = (17, 0) := hF.1 115 _ rfl
theorem fs_116 {F : Frm} (hF : k_Fix F) : F.2.1 116 = (0, 4000) := hF.1 116 _ rfl
theorem fs_117 {F : Frm} (hF : k_Fix F) : F.2.1 117 = (3, 24) := hF.1 117 _ rfl
theorem fs_118 {F : Frm} (hF : k_Fix F) : F.2.1 118 = (0, 24) := hF.1 118 _ rfl
theorem fs_119 {F : Frm} (hF : k_Fix F) : F.2.1 119 = (0, 24) := hF.1 119 _ rfl
theorem fs_120 {F : Frm} (hF : k_Fix F) : F.2.1 120 = (0, 24) := hF.1 120 _ rfl
theorem fs_121 {F : Frm} (hF : k_Fix F) : F.2.1 121 = (0, 24) := hF.1 121 _ rfl
theorem fs_122 {F : Frm} (hF : k_Fix F) : F.2.1 122 = (3, 384) := hF.1 122 _ rfl
theorem fs_123 {F : Frm} (hF : k_Fix F) : F.2.1 123 = (0, 384) := hF.1 123 _ rfl
theorem fs_124 {F : Frm} (hF : k_Fix F) : F.2.1 124 = (0, 2002) := hF.1 124 _ rfl
theorem fs_125 {F : Frm} (hF : k_Fix F) : F.2.1 125 = (0, 2002) := hF.1 125 _ rfl
theorem fs_126 {F : Frm} (hF : k_Fix F) : F.2.1 126 = (0, 2002) := hF.1 126 _ rfl
theorem fs_127 {F : Frm} (hF : k_Fix F) : F.2.1 127 = (0, 2002) := hF.1 127 _ rfl
theorem fs_128 {F : Frm} (hF : k_Fix F) : F.2.1 128 = (0, 2002) := hF.1 128 _ rfl
theorem fs_129 {F : Frm} (hF : k_Fix F) : F.2.1 129 = (0, 2002) := hF.1 129 _ rfl
theorem fs_130 {F : Frm} (hF : k_Fix F) : F.2.1 130 = (3, 2002) := hF.1 130 _ rfl
theorem fs_131 {F : Frm} (hF : k_Fix F) : F.2.1 131 = (0, 2002) := hF.1 131 _ rfl
theorem fs_132 {F : Frm} (hF : k_Fix F) : F.2.1 132 = (0, 2) := hF.1 132 _ rfl
theorem fs_133 {F : Frm} (hF : k_Fix F) : F.2.1 133 = (0, 1100) := hF.1 133 _ rfl
theorem fs_134 {F : Frm} (hF : k_Fix F) : F.2.1 134 = (0, 3000) := hF.1 134 _ rfl
theorem fs_135 {F : Frm} (hF : k_Fix F) : F.2.1 135 = (0, 3000) := hF.1 135 _ rfl
theorem fs_136 {F : Frm} (hF : k_Fix F) : F.2.1 136 = (0, 1100) := hF.1 136 _ rfl
theorem fs_137 {F : Frm} (hF : k_Fix F) : F.2.1 137 = (0, 16) := hF.1 137 _ rfl
theorem fs_138 {F : Frm} (hF : k_Fix F) : F.2.1 138 = (0, 3000) := hF.1 138 _ rfl
theorem fs_139 {F : Frm} (hF : k_Fix F) : F.2.1 139 = (0, 16) := hF.1 139 _ rfl
theorem fs_140 {F : Frm} (hF : k_Fix F) : F.2.1 140 = (0, 3000) := hF.1 140 _ rfl
theorem fs_141 {F : Frm} (hF : k_Fix F) : F.2.1 141 = (0, 8000) := hF.1 141 _ rfl
theorem fs_142 {F : Frm} (hF : k_Fix F) : F.2.1 142 = (2, 500) := hF.1 142 _ rfl
theorem fs_143 {F : Frm} (hF : k_Fix F) : F.2.1 143 = (0, 1248) := hF.1 143 _ rfl
theorem fs_144 {F : Frm} (hF : k_Fix F) : F.2.1 144 = (2, 312) := hF.1 144 _ rfl
theorem fs_145 {F : Frm} (hF : k_Fix F) : F.2.1 145 = (0, 40) := hF.1 145 _ rfl
theorem fs_146 {F : Frm} (hF : k_Fix F) : F.2.1 146 = (0, 40) := hF.1 146 _ rfl
theorem fs_147 {F : Frm} (hF : k_Fix F) : F.2.1 147 = (0, 8) := hF.1 147 _ rfl
theorem fs_148 {F : Frm} (hF : k_Fix F) : F.2.1 148 = (0, 1540) := hF.1 148 _ rfl
theorem fs_149 {F : Frm} (hF : k_Fix F) : F.2.1 149 = (0, 1540) := hF.1 149 _ rfl
theorem fs_150 {F : Frm} (hF : k_Fix F) : F.2.1 150 = (0, 1540) := hF.1 150 _ rfl
theorem fs_151 {F : Frm} (hF : k_Fix F) : F.2.1 151 = (0, 1540) := hF.1 151 _ rfl
theorem fs_152 {F : Frm} (hF : k_Fix F) : F.2.1 152 = (0, 1540) := hF.1 152 _ rfl
theorem fs_153 {F : Frm} (hF : k_Fix F) : F.2.1 153 = (2, 1540) := hF.1 153 _ rfl
theorem fs_154 {F : Frm} (hF : k_Fix F) : F.2.1 154 = (0, 1540) := hF.1 154 _ rfl
theorem fs_155 {F : Frm} (hF : k_Fix F) : F.2.1 155 = (0, 1540) := hF.1 155 _ rfl
theorem fs_156 {F : Frm} (hF : k_Fix F) : F.2.1 156 = (0, 24032) := hF.1 156 _ rfl
theorem fs_157 {F : Frm} (hF : k_Fix F) : F.2.1 157 = (0, 4) := hF.1 157 _ rfl
theorem fs_158 {F : Frm} (hF : k_Fix F) : F.2.1 158 = (0, 3000) := hF.1 158 _ rfl
theorem fs_159 {F : Frm} (hF : k_Fix F) : F.2.1 159 = (3, 1) := hF.1 159 _ rfl
theorem fr_0_0 {F : Frm} (hF : k_Fix F) : F.2.2 0 0 = some 1 := hF.2 0 _ rfl
theorem fr_0_1 {F : Frm} (hF : k_Fix F) : F.2.2 0 1 = some 5 := hF.2 1 _ rfl
theorem fr_0_2 {F : Frm} (hF : k_Fix F) : F.2.2 0 2 = some 7 := hF.2 2 _ rfl
theorem fr_0_3 {F : Frm} (hF : k_Fix F) : F.2.2 0 3 = some 9 := hF.2 3 _ rfl
theorem fr_0_4 {F : Frm} (hF : k_Fix F) : F.2.2 0 4 = some 101 := hF.2 4 _ rfl
theorem fr_0_5 {F : Frm} (hF : k_Fix F) : F.2.2 0 5 = some 111 := hF.2 5 _ rfl
theorem fr_0_8 {F : Frm} (hF : k_Fix F) : F.2.2 0 8 = some 112 := hF.2 6 _ rfl
theorem fr_0_11 {F : Frm} (hF : k_Fix F) : F.2.2 0 11 = some 113 := hF.2 7 _ rfl
theorem fr_0_12 {F : Frm} (hF : k_Fix F) : F.2.2 0 12 = some 114 := hF.2 8 _ rfl
theorem fr_1_0 {F : Frm} (hF : k_Fix F) : F.2.2 1 0 = some 2 := hF.2 9 _ rfl
theorem fr_1_2 {F : Frm} (hF : k_Fix F) : F.2.2 1 2 = some 3 := hF.2 10 _ rfl
theorem fr_1_3 {F : Frm} (hF : k_Fix F) : F.2.2 1 3 = some 4 := hF.2 11 _ rfl
theorem fr_5_0 {F : Frm} (hF : k_Fix F) : F.2.2 5 0 = some 1 := hF.2 12 _ rfl
theorem fr_5_1 {F : Frm} (hF : k_Fix F) : F.2.2 5 1 = some 6 := hF.2 13 _ rfl
theorem fr_7_0 {F : Frm} (hF : k_Fix F) : F.2.2 7 0 = some 1 := hF.2 14 _ rfl
theorem fr_7_1 {F : Frm} (hF : k_Fix F) : F.2.2 7 1 = some 6 := hF.2 15 _ rfl
theorem fr_7_4 {F : Frm} (hF : k_Fix F) : F.2.2 7 4 = some 8 := hF.2 16 _ rfl
theorem fr_9_1 {F : Frm} (hF : k_Fix F) : F.2.2 9 1 = some 10 := hF.2 17 _ rfl
theorem fr_9_2 {F : Frm} (hF : k_Fix F) : F.2.2 9 2 = some 11 := hF.2 18 _ rfl
theorem fr_10_0 {F : Frm} (hF : k_Fix F) : F.2.2 10 0 = some 13 := hF.2 19 _ rfl
theorem fr_10_1 {F : Frm} (hF : k_Fix F) : F.2.2 10 1 = some 15 := hF.2 20 _ rfl
theorem fr_10_2 {F : Frm} (hF : k_Fix F) : F.2.2 10 2 = some 17 := hF.2 21 _ rfl
theorem fr_10_3 {F : Frm} (hF : k_Fix F) : F.2.2 10 3 = some 19 := hF.2 22 _ rfl
theorem fr_10_4 {F : Frm} (hF : k_Fix F) : F.2.2 10 4 = some 21 := hF.2 23 _ rfl
theorem fr_10_5 {F : Frm} (hF : k_Fix F) : F.2.2 10 5 = some 23 := hF.2 24 _ rfl
theorem fr_10_6 {F : Frm} (hF : k_Fix F) : F.2.2 10 6 = some 25 := hF.2 25 _ rfl
theorem fr_10_7 {F : Frm} (hF : k_Fix F) : F.2.2 10 7 = some 27 := hF.2 26 _ rfl
theorem fr_10_8 {F : Frm} (hF : k_Fix F) : F.2.2 10 8 = some 29 := hF.2 27 _ rfl
theorem fr_10_9 {F : Frm} (hF : k_Fix F) : F.2.2 10 9 = some 31 := hF.2 28 _ rfl
theorem fr_10_10 {F : Frm} (hF : k_Fix F) : F.2.2 10 10 = some 33 := hF.2 29 _ rfl
theorem fr_10_11 {F : Frm} (hF : k_Fix F) : F.2.2 10 11 = some 35 := hF.2 30 _ rfl
theorem fr_10_12 {F : Frm} (hF : k_Fix F) : F.2.2 10 12 = some 37 := hF.2 31 _ rfl
theorem fr_10_13 {F : Frm} (hF : k_Fix F) : F.2.2 10 13 = some 39 := hF.2 32 _ rfl
theorem fr_10_14 {F : Frm} (hF : k_Fix F) : F.2.2 10 14 = some 41 := hF.2 33 _ rfl
theorem fr_10_15 {F : Frm} (hF : k_Fix F) : F.2.2 10 15 = some 43 := hF.2 34 _ rfl
theorem fr_10_16 {F : Frm} (hF : k_Fix F) : F.2.2 10 16 = some 45 := hF.2 35 _ rfl
theorem fr_10_17 {F : Frm} (hF : k_Fix F) : F.2.2 10 17 = some 47 := hF.2 36 _ rfl
theorem fr_10_18 {F : Frm} (hF : k_Fix F) : F.2.2 10 18 = some 49 := hF.2 37 _ rfl
theorem fr_10_19 {F : Frm} (hF : k_Fix F) : F.2.2 10 19 = some 51 := hF.2 38 _ rfl
theorem fr_10_20 {F : Frm} (hF : k_Fix F) : F.2.2 10 20 = some 53 := hF.2 39 _ rfl
theorem fr_10_21 {F : Frm} (hF : k_Fix F) : F.2.2 10 21 = some 55 := hF.2 40 _ rfl
theorem fr_10_22 {F : Frm} (hF : k_Fix F) : F.2.2 10 22 = some 57 := hF.2 41 _ rfl
theorem fr_10_23 {F : Frm} (hF : k_Fix F) : F.2.2 10 23 = some 59 := hF.2 42 _ rfl
theorem fr_10_24 {F : Frm} (hF : k_Fix F) : F.2.2 10 24 = some 61 := hF.2 43 _ rfl
theorem fr_10_25 {F : Frm} (hF : k_Fix F) : F.2.2 10 25 = some 63 := hF.2 44 _ rfl
theorem fr_10_26 {F : Frm} (hF : k_Fix F) : F.2.2 10 26 = some 65 := hF.2 45 _ rfl
theorem fr_10_27 {F : Frm} (hF : k_Fix F) : F.2.2 10 27 = some 67 := hF.2 46 _ rfl
theorem fr_10_28 {F : Frm} (hF : k_Fix F) : F.2.2 10 28 = some 69 := hF.2 47 _ rfl
theorem fr_10_29 {F : Frm} (hF : k_Fix F) : F.2.2 10 29 = some 71 := hF.2 48 _ rfl
theorem fr_10_30 {F : Frm} (hF : k_Fix F) : F.2.2 10 30 = some 73 := hF.2 49 _ rfl
theorem fr_10_31 {F : Frm} (hF : k_Fix F) : F.2.2 10 31 = some 75 := hF.2 50 _ rfl
theorem fr_10_32 {F : Frm} (hF : k_Fix F) : F.2.2 10 32 = some 77 := hF.2 51 _ rfl
theorem fr_10_33 {F : Frm} (hF : k_Fix F) : F.2.2 10 33 = some 79 := hF.2 52 _ rfl
theorem fr_10_34 {F : Frm} (hF : k_Fix F) : F.2.2 10 34 = some 81 := hF.2 53 _ rfl
theorem fr_10_35 {F : Frm} (hF : k_Fix F) : F.2.2 10 35 = some 83 := hF.2 54 _ rfl
theorem fr_10_36 {F : Frm} (hF : k_Fix F) : F.2.2 10 36 = some 85 := hF.2 55 _ rfl
theorem fr_10_37 {F : Frm} (hF : k_Fix F) : F.2.2 10 37 = some 87 := hF.2 56 _ rfl
theorem fr_10_38 {F : Frm} (hF : k_Fix F) : F.2.2 10 38 = some 89 := hF.2 57 _ rfl
theorem fr_10_39 {F : Frm} (hF : k_Fix F) : F.2.2 10 39 = some 91 := hF.2 58 _ rfl
theorem fr_10_40 {F : Frm} (hF : k_Fix F) : F.2.2 10 40 = some 93 := hF.2 59 _ rfl
theorem fr_10_41 {F : Frm} (hF : k_Fix F) : F.2.2 10 41 = some 95 := hF.2 60 _ rfl
theorem fr_10_42 {F : Frm} (hF : k_Fix F) : F.2.2 10 42 = some 97 := hF.2 61 _ rfl
theorem fr_10_43 {F : Frm} (hF : k_Fix F) : F.2.2 10 43 = some 99 := hF.2 62 _ rfl
theorem fr_11_0 {F : Frm} (hF : k_Fix F) : F.2.2 11 0 = some 12 := hF.2 63 _ rfl
theorem fr_13_0 {F : Frm} (hF : k_Fix F) : F.2.2 13 0 = some 14 := hF.2 64 _ rfl
theorem fr_15_0 {F : Frm} (hF : k_Fix F) : F.2.2 15 0 = some 16 := hF.2 65 _ rfl
theorem fr_17_0 {F : Frm} (hF : k_Fix F) : F.2.2 17 0 = some 18 := hF.2 66 _ rfl
theorem fr_19_0 {F : Frm} (hF : k_Fix F) : F.2.2 19 0 = some 20 := hF.2 67 _ rfl
theorem fr_21_0 {F : Frm} (hF : k_Fix F) : F.2.2 21 0 = some 22 := hF.2 68 _ rfl
theorem fr_23_0 {F : Frm} (hF : k_Fix F) : F.2.2 23 0 = some 24 := hF.2 69 _ rfl
theorem fr_25_0 {F : Frm} (hF : k_Fix F) : F.2.2 25 0 = some 26 := hF.2 70 _ rfl
theorem fr_27_0 {F : Frm} (hF : k_Fix F) : F.2.2 27 0 = some 28 := hF.2 71 _ rfl
theorem fr_29_0 {F : Frm} (hF : k_Fix F) : F.2.2 29 0 = some 30 := hF.2 72 _ rfl
theorem fr_31_0 {F : Frm} (hF : k_Fix F) : F.2.2 31 0 = some 32 := hF.2 73 _ rfl
theorem fr_33_0 {F : Frm} (hF : k_Fix F) : F.2.2 33 0 = some 34 := hF.2 74 _ rfl
theorem fr_35_0 {F : Frm} (hF : k_Fix F) : F.2.2 35 0 = some 36 := hF.2 75 _ rfl
theorem fr_37_0 {F : Frm} (hF : k_Fix F) : F.2.2 37 0 = some 38 := hF.2 76 _ rfl
theorem fr_39_0 {F : Frm} (hF : k_Fix F) : F.2.2 39 0 = some 40 := hF.2 77 _ rfl
theorem fr_41_0 {F : Frm} (hF : k_Fix F) : F.2.2 41 0 = some 42 := hF.2 78 _ rfl
theorem fr_43_0 {F : Frm} (hF : k_Fix F) : F.2.2 43 0 = some 44 := hF.2 79 _ rfl
theorem fr_45_0 {F : Frm} (hF : k_Fix F) : F.2.2 45 0 = some 46 := hF.2 80 _ rfl
theorem fr_47_0 {F : Frm} (hF : k_Fix F) : F.2.2 47 0 = some 48 := hF.2 81 _ rfl
theorem fr_49_0 {F : Frm} (hF : k_Fix F) : F.2.2 49 0 = some 50 := hF.2 82 _ rfl
theorem fr_51_0 {F : Frm} (hF : k_Fix F) : F.2.2 51 0 = some 52 := hF.2 83 _ rfl
theorem fr_53_0 {F : Frm} (hF : k_Fix F) : F.2.2 53 0 = some 54 := hF.2 84 _ rfl
theorem fr_55_0 {F : Frm} (hF : k_Fix F) : F.2.2 55 0 = some 56 := hF.2 85 _ rfl
theorem fr_57_0 {F : Frm} (hF : k_Fix F) : F.2.2 57 0 = some 58 := hF.2 86 _ rfl
theorem fr_59_0 {F : Frm} (hF : k_Fix F) : F.2.2 59 0 = some 60 := hF.2 87 _ rfl
theorem fr_61_0 {F : Frm} (hF : k_Fix F) : F.2.2 61 0 = some 62 := hF.2 88 _ rfl
theorem fr_63_0 {F : Frm} (hF : k_Fix F) : F.2.2 63 0 = some 64 := hF.2 89 _ rfl
theorem fr_65_0 {F : Frm} (hF : k_Fix F) : F.2.2 65 0 = some 66 := hF.2 90 _ rfl
theorem fr_67_0 {F : Frm} (hF : k_Fix F) : F.2.2 67 0 = some 68 := hF.2 91 _ rfl
theorem fr_69_0 {F : Frm} (hF : k_Fix F) : F.2.2 69 0 = some 70 := hF.2 92 _ rfl
theorem fr_71_0 {F : Frm} (hF : k_Fix F) : F.2.2 71 0 = some 72 := hF.2 93 _ rfl
theorem fr_73_0 {F : Frm} (hF : k_Fix F) : F.2.2 73 0 = some 74 := hF.2 94 _ rfl
theorem fr_75_0 {F : Frm} (hF : k_Fix F) : F.2.2 75 0 = some 76 := hF.2 95 _ rfl
theorem fr_77_0 {F : Frm} (hF : k_Fix F) : F.2.2 77 0 = some 78 := hF.2 96 _ rfl
theorem fr_79_0 {F : Frm} (hF : k_Fix F) : F.2.2 79 0 = some 80 := hF.2 97 _ rfl
theorem fr_81_0 {F : Frm} (hF : k_Fix F) : F.2.2 81 0 = some 82 := hF.2 98 _ rfl
theorem fr_83_0 {F : Frm} (hF : k_Fix F) : F.2.2 83 0 = some 84 := hF.2 99 _ rfl
theorem fr_85_0 {F : Frm} (hF : k_Fix F) : F.2.2 85 0 = some 86 := hF.2 100 _ rfl
theorem fr_87_0 {F : Frm} (hF : k_Fix F) : F.2.2 87 0 = some 88 := hF.2 101 _ rfl
theorem fr_89_0 {F : Frm} (hF : k_Fix F) : F.2.2 89 0 = some 90 := hF.2 102 _ rfl
theorem fr_91_0 {F : Frm} (hF : k_Fix F) : F.2.2 91 0 = some 92 := hF.2 103 _ rfl
theorem fr_93_0 {F : Frm} (hF : k_Fix F) : F.2.2 93 0 = some 94 := hF.2 104 _ rfl
theorem fr_95_0 {F : Frm} (hF : k_Fix F) : F.2.2 95 0 = some 96 := hF.2 105 _ rfl
theorem fr_97_0 {F : Frm} (hF : k_Fix F) : F.2.2 97 0 = some 98 := hF.2 106 _ rfl
theorem fr_99_0 {F : Frm} (hF : k_Fix F) : F.2.2 99 0 = some 100 := hF.2 107 _ rfl
theorem fr_101_0 {F : Frm} (hF : k_Fix F) : F.2.2 101 0 = some 102 := hF.2 108 _ rfl
theorem fr_101_1 {F : Frm} (hF : k_Fix F) : F.2.2 101 1 = some 103 := hF.2 109 _ rfl
theorem fr_101_2 {F : Frm} (hF : k_Fix F) : F.2.2 101 2 = some 104 := hF.2 110 _ rfl
theorem fr_101_3 {F : Frm} (hF : k_Fix F) : F.2.2 101 3 = some 105 := hF.2 111 _ rfl
theorem fr_101_5 {F : Frm} (hF : k_Fix F) : F.2.2 101 5 = some 106 := hF.2 112 _ rfl
theorem fr_101_6 {F : Frm} (hF : k_Fix F) : F.2.2 101 6 = some 107 := hF.2 113 _ rfl
theorem fr_101_8 {F : Frm} (hF : k_Fix F) : F.2.2 101 8 = some 108 := hF.2 114 _ rfl
theorem fr_101_20 {F : Frm} (hF : k_Fix F) : F.2.2 101 20 = some 109 := hF.2 115 _ rfl
theorem fr_101_22 {F : Frm} (hF : k_Fix F) : F.2.2 101 22 = some 110 := hF.2 116 _ rfl
theorem fr_115_1 {F : Frm} (hF : k_Fix F) : F.2.2 115 1 = some 116 := hF.2 117 _ rfl
theorem fr_115_11 {F : Frm} (hF : k_Fix F) : F.2.2 115 11 = some 117 := hF.2 118 _ rfl
theorem fr_115_12 {F : Frm} (hF : k_Fix F) : F.2.2 115 12 = some 118 := hF.2 119 _ rfl
theorem fr_115_13 {F : Frm} (hF : k_Fix F) : F.2.2 115 13 = some 119 := hF.2 120 _ rfl
theorem fr_115_14 {F : Frm} (hF : k_Fix F) : F.2.2 115 14 = some 120 := hF.2 121 _ rfl
theorem fr_115_15 {F : Frm} (hF : k_Fix F) : F.2.2 115 15 = some 121 := hF.2 122 _ rfl
theorem fr_115_16 {F : Frm} (hF : k_Fix F) : F.2.2 115 16 = some 122 := hF.2 123 _ rfl
theorem fr_115_17 {F : Frm} (hF : k_Fix F) : F.2.2 115 17 = some 123 := hF.2 124 _ rfl
theorem fr_115_18 {F : Frm} (hF : k_Fix F) : F.2.2 115 18 = some 124 := hF.2 125 _ rfl
theorem fr_115_19 {F : Frm} (hF : k_Fix F) : F.2.2 115 19 = some 125 := hF.2 126 _ rfl
theorem fr_115_20 {F : Frm} (hF : k_Fix F) : F.2.2 115 20 = some 126 := hF.2 127 _ rfl
theorem fr_115_21 {F : Frm} (hF : k_Fix F) : F.2.2 115 21 = some 127 := hF.2 128 _ rfl
theorem fr_115_22 {F : Frm} (hF : k_Fix F) : F.2.2 115 22 = some 128 := hF.2 129 _ rfl
theorem fr_115_23 {F : Frm} (hF : k_Fix F) : F.2.2 115 23 = some 129 := hF.2 130 _ rfl
theorem fr_115_24 {F : Frm} (hF : k_Fix F) : F.2.2 115 24 = some 130 := hF.2 131 _ rfl
theorem fr_115_25 {F : Frm} (hF : k_Fix F) : F.2.2 115 25 = some 131 := hF.2 132 _ rfl
theorem fr_115_26 {F : Frm} (hF : k_Fix F) : F.2.2 115 26 = some 132 := hF.2 133 _ rfl
theorem fr_115_31 {F : Frm} (hF : k_Fix F) : F.2.2 115 31 = some 133 := hF.2 134 _ rfl
theorem fr_115_34 {F : Frm} (hF : k_Fix F) : F.2.2 115 34 = some 134 := hF.2 135 _ rfl
theorem fr_115_35 {F : Frm} (hF : k_Fix F) : F.2.2 115 35 = some 135 := hF.2 136 _ rfl
theorem fr_115_37 {F : Frm} (hF : k_Fix F) : F.2.2 115 37 = some 136 := hF.2 137 _ rfl
theorem fr_115_39 {F : Frm} (hF : k_Fix F) : F.2.2 115 39 = some 137 := hF.2 138 _ rfl
theorem fr_115_42 {F : Frm} (hF : k_Fix F) : F.2.2 115 42 = some 138 := hF.2 139 _ rfl
theorem fr_115_43 {F : Frm} (hF : k_Fix F) : F.2.2 115 43 = some 139 := hF.2 140 _ rfl
theorem fr_115_48 {F : Frm} (hF : k_Fix F) : F.2.2 115 48 = some 140 := hF.2 141 _ rfl
theorem fr_115_49 {F : Frm} (hF : k_Fix F) : F.2.2 115 49 = some 141 := hF.2 142 _ rfl
theorem fr_115_50 {F : Frm} (hF : k_Fix F) : F.2.2 115 50 = some 142 := hF.2 143 _ rfl
theorem fr_115_51 {F : Frm} (hF : k_Fix F) : F.2.2 115 51 = some 143 := hF.2 144 _ rfl
theorem fr_115_52 {F : Frm} (hF : k_Fix F) : F.2.2 115 52 = some 144 := hF.2 145 _ rfl
theorem fr_115_53 {F : Frm} (hF : k_Fix F) : F.2.2 115 53 = some 145 := hF.2 146 _ rfl
theorem fr_115_54 {F : Frm} (hF : k_Fix F) : F.2.2 115 54 = some 146 := hF.2 147 _ rfl
theorem fr_115_56 {F : Frm} (hF : k_Fix F) : F.2.2 115 56 = some 147 := hF.2 148 _ rfl
theorem fr_115_57 {F : Frm} (hF : k_Fix F) : F.2.2 115 57 = some 148 := hF.2 149 _ rfl
theorem fr_115_58 {F : Frm} (hF : k_Fix F) : F.2.2 115 58 = some 149 := hF.2 150 _ rfl
theorem fr_115_59 {F : Frm} (hF : k_Fix F) : F.2.2 115 59 = some 150 := hF.2 151 _ rfl
theorem fr_115_60 {F : Frm} (hF : k_Fix F) : F.2.2 115 60 = some 151 := hF.2 152 _ rfl
theorem fr_115_61 {F : Frm} (hF : k_Fix F) : F.2.2 115 61 = some 152 := hF.2 153 _ rfl
theorem fr_115_62 {F : Frm} (hF : k_Fix F) : F.2.2 115 62 = some 153 := hF.2 154 _ rfl
theorem fr_115_63 {F : Frm} (hF : k_Fix F) : F.2.2 115 63 = some 154 := hF.2 155 _ rfl
theorem fr_115_64 {F : Frm} (hF : k_Fix F) : F.2.2 115 64 = some 155 := hF.2 156 _ rfl
theorem fr_115_65 {F : Frm} (hF : k_Fix F) : F.2.2 115 65 = some 156 := hF.2 157 _ rfl
theorem fr_115_66 {F : Frm} (hF : k_Fix F) : F.2.2 115 66 = some 157 := hF.2 158 _ rfl
theorem fr_115_81 {F : Frm} (hF : k_Fix F) : F.2.2 115 81 = some 158 := hF.2 159 _ rfl
abbrev ix (i : Int32) : Nat := i.toNatClampNeg
/-- a number that a boolean may be -/
def isB (x : Int32) : Prop := narrow .boolean (.int x) = .int x
theorem isB0 : isB 0 := rfl
theorem isB1 : isB 1 := rfl
theorem isB_fit {x : Int32} (h : isB x) : fits .boolean (.int x) = true := by
  unfold isB at h
  rw [← h]
  obtain ⟨j, hj, e⟩ := pk_andE x (m := 1) 1 (by decide)
  simp only [narrow, fits, e]
  rcases (show j = 0 ∨ j = 1 by omega) with rfl | rfl <;> decide
abbrev HI : Type := Nat → Nat → Int32
abbrev HL : Type := Nat → Nat → Int64
/-- ends of methods that leave the frame of memory as it is -/
def qv (F : Frm) (Q : HI → HL → Prop) : Out → Mem → Prop := fun o μ1 => ∃ h1 g1, o = .inl none ∧ μ1 = (F, h1, g1) ∧ Q h1 g1
def qi (F : Frm) (Q : Int32 → HI → HL → Prop) : Out → Mem → Prop := fun o μ1 => ∃ x h1 g1, o = .inl (some (.int x)) ∧ μ1 = (F, h1, g1) ∧ Q x h1 g1
def ql (F : Frm) (Q : Int64 → HI → HL → Prop) : Out → Mem → Prop := fun o μ1 => ∃ x h1 g1, o = .inl (some (.long x)) ∧ μ1 = (F, h1, g1) ∧ Q x h1 g1
def Sv (D : DE) (f : Nat) (M : MI) (av : List Value) (F : Frm) (h : HI) (g : HL) (Q : HI → HL → Prop) : Prop := Cl D f M av (F, h, g) (qv F Q)
def Si (D : DE) (f : Nat) (M : MI) (av : List Value) (F : Frm) (h : HI) (g : HL) (Q : Int32 → HI → HL → Prop) : Prop := Cl D f M av (F, h, g) (qi F Q)
def Sl (D : DE) (f : Nat) (M : MI) (av : List Value) (F : Frm) (h : HI) (g : HL) (Q : Int64 → HI → HL → Prop) : Prop := Cl D f M av (F, h, g) (ql F Q)
theorem Sv.mono {D : DE} {f : Nat} {M : MI} {av : List Value} {F : Frm} {h : HI} {g : HL} {Q Q1 : HI → HL → Prop} (k : Sv D f M av F h g Q) (hq : ∀ h1 g1, Q h1 g1 → Q1 h1 g1) : Sv D f M av F h g Q1 :=
  Cl.mono k fun o μ' ⟨h1, g1, e1, e2, e3⟩ => ⟨h1, g1, e1, e2, hq _ _ e3⟩
theorem Si.mono {D : DE} {f : Nat} {M : MI} {av : List Value} {F : Frm} {h : HI} {g : HL} {Q Q1 : Int32 → HI → HL → Prop} (k : Si D f M av F h g Q) (hq : ∀ x h1 g1, Q x h1 g1 → Q1 x h1 g1) : Si D f M av F h g Q1 :=
  Cl.mono k fun o μ' ⟨x, h1, g1, e1, e2, e3⟩ => ⟨x, h1, g1, e1, e2, hq _ _ _ e3⟩
theorem Sl.mono {D : DE} {f : Nat} {M : MI} {av : List Value} {F : Frm} {h : HI} {g : HL} {Q Q1 : Int64 → HI → HL → Prop} (k : Sl D f M av F h g Q) (hq : ∀ x h1 g1, Q x h1 g1 → Q1 x h1 g1) : Sl D f M av F h g Q1 :=
  Cl.mono k fun o μ' ⟨x, h1, g1, e1, e2, e3⟩ => ⟨x, h1, g1, e1, e2, hq _ _ _ e3⟩
section HR
variable {D : DE} {M M1 : MI} {f : Nat} {Q : Out → Mem → Prop} {pc : Nat} {l : List (Nat × Value)} {st rest av : List Value} {F : Frm} {h : HI} {g : HL} {a b ci n idx N : Nat} {C host : String} {T : u_T}
theorem H_geti (ck : k_CK ci C T N) (k : Nat) (hk : k < N) (hs : F.2.1 a = (10 + ci, n)) (h99 : ci ≠ 89) (hkd : k_kd (k_ty ci k) = 0) (q : Cond.fieldLink (mN M).cls idx (T k).1 (T k).2.1 (T k).2.2.1 ∈ lw_all) (d : decode (mC M) pc = .ok (.getfield idx, 3)) (kk : V D M f Q (pc + 3) l (.int (h a k) :: st) (F, h, g)) : V D M f Q pc l (.ref (ad D a) :: st) (F, h, g) := V_geti ck k hk hs h99 hkd q d kk
theorem H_getl (ck : k_CK ci C T N) (k : Nat) (hk : k < N) (hs : F.2.1 a = (10 + ci, n)) (h99 : ci ≠ 89) (hkd : k_kd (k_ty ci k) = 1) (q : Cond.fieldLink (mN M).cls idx (T k).1 (T k).2.1 (T k).2.2.1 ∈ lw_all) (d : decode (mC M) pc = .ok (.getfield idx, 3)) (kk : V D M f Q (pc + 3) l (.long (g a k) :: st) (F, h, g)) : V D M f Q pc l (.ref (ad D a) :: st) (F, h, g) := V_getl ck k hk hs h99 hkd q d kk
theorem H_getr (ck : k_CK ci C T N) (k : Nat) (hk : k < N) (hs : F.2.1 a = (10 + ci, n)) (h99 : ci ≠ 89) (hkd : k_kd (k_ty ci k) = 2) (hb : F.2.2 a k = some b) (q : Cond.fieldLink (mN M).cls idx (T k).1 (T k).2.1 (T k).2.2.1 ∈ lw_all) (d : decode (mC M) pc = .ok (.getfield idx, 3)) (kk : V D M f Q (pc + 3) l (.ref (ad D b) :: st) (F, h, g)) : V D M f Q pc l (.ref (ad D a) :: st) (F, h, g) := V_getr ck k hk hs h99 hkd q d hb kk
theorem H_getiN (ck : k_CK ci C T N) (k : Nat) (hk : k < N) (hs : F.2.1 a = (10 + ci, n)) (h99 : ci ≠ 89) (hkd : k_kd (k_ty ci k) = 0) (q : Cond.fieldLinkNest (mN M).cls idx (T k).1 (T k).2.1 (T k).2.2.1 host ∈ lw_tbl) (d : decode (mC M) pc = .ok (.getfield idx, 3)) (kk : V D M f Q (pc + 3) l (.int (h a k) :: st) (F, h, g)) : V D M f Q pc l (.ref (ad D a) :: st) (F, h, g) := V_getiN ck k hk hs h99 hkd q d kk
theorem H_getrN (ck : k_CK ci C T N) (k : Nat) (hk : k < N) (hs : F.2.1 a = (10 + ci, n)) (h99 : ci ≠ 89) (hkd : k_kd (k_ty ci k) = 2) (hb : F.2.2 a k = some b) (q : Cond.fieldLinkNest (mN M).cls idx (T k).1 (T k).2.1 (T k).2.2.1 host ∈ lw_tbl) (d : decode (mC M) pc = .ok (.getfield idx, 3)) (kk : V D M f Q (pc + 3) l (.ref (ad D b) :: st) (F, h, g)) : V D M f Q pc l (.ref (ad D a) :: st) (F, h, g) := V_getrN ck k hk hs h99 hkd q d hb kk
theorem H_puti {x : Int32} (ck : k_CK ci C T N) (k : Nat) (hk : k < N) (hs : F.2.1 a = (10 + ci, n)) (h99 : ci ≠ 89) (hkd : k_ty ci k = .int) (hfin : (T k).2.2.2 = false) (q : Cond.fieldLink (mN M).cls idx (T k).1 (T k).2.1 (T k).2.2.1 ∈ lw_all) (d : decode (mC M) pc = .ok (.putfield idx, 3)) (kk : ∀ h1, h1 = up2 h a k x → V D M f Q (pc + 3) l st (F, h1, g)) : V D M f Q pc l (.int x :: .ref (ad D a) :: st) (F, h, g) := V_puti ck k hk hs h99 (by rw [hkd]; rfl) hfin (by rw [hkd]; rfl) (by rw [hkd]; rfl) q d (kk _ rfl)
theorem H_putz {x : Int32} (ck : k_CK ci C T N) (k : Nat) (hk : k < N) (hs : F.2.1 a = (10 + ci, n)) (h99 : ci ≠ 89) (hkd : k_ty ci k = .boolean) (hx : isB x) (hfin : (T k).2.2.2 = false) (q : Cond.fieldLink (mN M).cls idx (T k).1 (T k).2.1 (T k).2.2.1 ∈ lw_all) (d : decode (mC M) pc = .ok (.putfield idx, 3)) (kk : ∀ h1, h1 = up2 h a k x → V D M f Q (pc + 3) l st (F, h1, g)) : V D M f Q pc l (.int x :: .ref (ad D a) :: st) (F, h, g) := V_puti ck k hk hs h99 (by rw [hkd]; rfl) hfin (by rw [hkd]; exact hx) (by rw [hkd]; exact isB_fit hx) q d (kk _ rfl)
theorem H_putl {x : Int64} (ck : k_CK ci C T N) (k : Nat) (hk : k < N) (hs : F.2.1 a = (10 + ci, n)) (h99 : ci ≠ 89) (hkd : k_ty ci k = .long) (hfin : (T k).2.2.2 = false) (q : Cond.fieldLink (mN M).cls idx (T k).1 (T k).2.1 (T k).2.2.1 ∈ lw_all) (d : decode (mC M) pc = .ok (.putfield idx, 3)) (kk : ∀ g1, g1 = up2 g a k x → V D M f Q (pc + 3) l st (F, h, g1)) : V D M f Q pc l (.long x :: .ref (ad D a) :: st) (F, h, g) := V_putl ck k hk hs h99 (by rw [hkd]; rfl) hfin (by rw [hkd]; rfl) (by rw [hkd]; rfl) q d (kk _ rfl)
theorem H_putiN {x : Int32} (ck : k_CK ci C T N) (k : Nat) (hk : k < N) (hs : F.2.1 a = (10 + ci, n)) (h99 : ci ≠ 89) (hkd : k_ty ci k = .int) (hfin : (T k).2.2.2 = false) (q : Cond.fieldLinkNest (mN M).cls idx (T k).1 (T k).2.1 (T k).2.2.1 host ∈ lw_tbl) (d : decode (mC M) pc = .ok (.putfield idx, 3)) (kk : ∀ h1, h1 = up2 h a k x → V D M f Q (pc + 3) l st (F, h1, g)) : V D M f Q pc l (.int x :: .ref (ad D a) :: st) (F, h, g) := V_putiN ck k hk hs h99 (by rw [hkd]; rfl) hfin (by rw [hkd]; rfl) (by rw [hkd]; rfl) q d (kk _ rfl)
theorem H_putzN {x : Int32} (ck : k_CK ci C T N) (k : Nat) (hk : k < N) (hs : F.2.1 a = (10 + ci, n)) (h99 : ci ≠ 89) (hkd : k_ty ci k = .boolean) (hx : isB x) (hfin : (T k).2.2.2 = false) (q : Cond.fieldLinkNest (mN M).cls idx (T k).1 (T k).2.1 (T k).2.2.1 host ∈ lw_tbl) (d : decode (mC M) pc = .ok (.putfield idx, 3)) (kk : ∀ h1, h1 = up2 h a k x → V D M f Q (pc + 3) l st (F, h1, g)) : V D M f Q pc l (.int x :: .ref (ad D a) :: st) (F, h, g) := V_putiN ck k hk hs h99 (by rw [hkd]; rfl) hfin (by rw [hkd]; exact hx) (by rw [hkd]; exact isB_fit hx) q d (kk _ rfl)
theorem H_iald {i : Int32} (hs : F.2.1 a = (0, n)) (hin : vp_in i n) (d : decode (mC M) pc = .ok (.iaload, 1)) (kk : V D M f Q (pc + 1) l (.int (h a (ix i)) :: st) (F, h, g)) : V D M f Q pc l (.int i :: .ref (ad D a) :: st) (F, h, g) := V_iald hs hin d kk
theorem H_bald {i : Int32} (hs : F.2.1 a = (1, n)) (hin : vp_in i n) (d : decode (mC M) pc = .ok (.baload, 1)) (kk : V D M f Q (pc + 1) l (.int (h a (ix i)) :: st) (F, h, g)) : V D M f Q pc l (.int i :: .ref (ad D a) :: st) (F, h, g) := V_bald hs hin d kk
theorem H_zald {i : Int32} (hs : F.2.1 a = (2, n)) (hin : vp_in i n) (d : decode (mC M) pc = .ok (.baload, 1)) (kk : V D M f Q (pc + 1) l (.int (h a (ix i)) :: st) (F, h, g)) : V D M f Q pc l (.int i :: .ref (ad D a) :: st) (F, h, g) := V_zald hs hin d kk
theorem H_lald {i : Int32} (hs : F.2.1 a = (3, n)) (hin : vp_in i n) (d : decode (mC M) pc = .ok (.laload, 1)) (kk : V D M f Q (pc + 1) l (.long (g a (ix i)) :: st) (F, h, g)) : V D M f Q pc l (.int i :: .ref (ad D a) :: st) (F, h, g) := V_lald hs hin d kk
theorem H_aald {i : Int32} {t : Nat} {E : String} (hs : F.2.1 a = (t, n)) (ht1 : 3 < t) (ht2 : t < 10) (ht : (k_tys D)[t]? = some (dA D t, .object E)) (hin : vp_in i n) (hb : F.2.2 a (ix i) = some b) (d : decode (mC M) pc = .ok (.aaload, 1)) (kk : V D M f Q (pc + 1) l (.ref (ad D b) :: st) (F, h, g)) : V D M f Q pc l (.int i :: .ref (ad D a) :: st) (F, h, g) := V_aald hs ht1 ht2 ht hin d hb kk
theorem H_iast {i x : Int32} (hs : F.2.1 a = (0, n)) (hin : vp_in i n) (d : decode (mC M) pc = .ok (.iastore, 1)) (kk : ∀ h1, h1 = up2 h a (ix i) x → V D M f Q (pc + 1) l st (F, h1, g)) : V D M f Q pc l (.int x :: .int i :: .ref (ad D a) :: st) (F, h, g) := V_iast hs hin d (kk _ rfl)
theorem H_bast {i x : Int32} (hs : F.2.1 a = (1, n)) (hin : vp_in i n) (d : decode (mC M) pc = .ok (.bastore, 1)) (kk : ∀ h1, h1 = up2 h a (ix i) x.toInt8.toInt32 → V D M f Q (pc + 1) l st (F, h1, g)) : V D M f Q pc l (.int x :: .int i :: .ref (ad D a) :: st) (F, h, g) := V_bast hs hin d (kk _ rfl)
theorem H_zast {i x : Int32} (hs : F.2.1 a = (2, n)) (hin : vp_in i n) (hx : isB x) (d : decode (mC M) pc = .ok (.bastore, 1)) (kk : ∀ h1, h1 = up2 h a (ix i) x → V D M f Q (pc + 1) l st (F, h1, g)) : V D M f Q pc l (.int x :: .int i :: .ref (ad D a) :: st) (F, h, g) := V_zast hs hin hx d (kk _ rfl)
theorem H_last {i : Int32} {x : Int64} (hs : F.2.1 a = (3, n)) (hin : vp_in i n) (d : decode (mC M) pc = .ok (.lastore, 1)) (kk : ∀ g1, g1 = up2 g a (ix i) x → V D M f Q (pc + 1) l st (F, h, g1)) : V D M f Q pc l (.long x :: .int i :: .ref (ad D a) :: st) (F, h, g) := V_last hs hin d (kk _ rfl)
theorem H_vret {Q : HI → HL → Prop} (hr : mR M = none) (d : decode (mC M) pc = .ok (.return_, 1)) (hq : Q h g) : V D M f (qv F Q) pc l [] (F, h, g) := V_vret hr d ⟨h, g, rfl, rfl, hq⟩
theorem H_iret {Q : Int32 → HI → HL → Prop} {x : Int32} (hr : mR M = some .int) (d : decode (mC M) pc = .ok (.ireturn, 1)) (hq : Q x h g) : V D M f (qi F Q) pc l [.int x] (F, h, g) := V_iret hr d ⟨x, h, g, rfl, rfl, hq⟩
theorem H_zret {Q : Int32 → HI → HL → Prop} {x : Int32} (hr : mR M = some .boolean) (hx : isB x) (d : decode (mC M) pc = .ok (.ireturn, 1)) (hq : Q x h g) : V D M f (qi F Q) pc l [.int x] (F, h, g) := V_zret hr hx d ⟨x, h, g, rfl, rfl, hq⟩
theorem H_lret {Q : Int64 → HI → HL → Prop} {x : Int64} (hr : mR M = some .long) (d : decode (mC M) pc = .ok (.lreturn, 1)) (hq : Q x h g) : V D M f (ql F Q) pc l [.long x] (F, h, g) := V_lret hr d ⟨x, h, g, rfl, rfl, hq⟩
theorem H_callv {Q1 : HI → HL → Prop} (hc : Sv D f M1 av F h g Q1) (hq : mW M1 ∈ lw_all) (hin : Cond.initialized (mN M1).cls ∈ lw_all) (hL : mL M1 ≤ 27) (hst : (rest.map fun v => v.category).sum ≤ 8) (res : k_RES D M (f + 1) pc l st (F, h, g) (mN M1) av rest) (kr : ∀ h1 g1, Q1 h1 g1 → V D M (f + 1) Q (pc + 3) l rest (F, h1, g1)) : V D M (f + 1) Q pc l st (F, h, g) :=
  V_call hc hq hin hL hst res (fun v μ1 ⟨h1, g1, e1, e2, e3⟩ => by cases e1; subst e2; exact kr h1 g1 e3) (fun a μ1 ⟨h1, g1, e1, _⟩ => by cases e1)
theorem H_calli {Q1 : Int32 → HI → HL → Prop} (hc : Si D f M1 av F h g Q1) (hq : mW M1 ∈ lw_all) (hin : Cond.initialized (mN M1).cls ∈ lw_all) (hL : mL M1 ≤ 27) (hst : (rest.map fun v => v.category).sum ≤ 8) (res : k_RES D M (f + 1) pc l st (F, h, g) (mN M1) av rest) (kr : ∀ x h1 g1, Q1 x h1 g1 → V D M (f + 1) Q (pc + 3) l (.int x :: rest) (F, h1, g1)) : V D M (f + 1) Q pc l st (F, h, g) :=
  V_call hc hq hin hL hst res (fun v μ1 ⟨x, h1, g1, e1, e2, e3⟩ => by cases e1; subst e2; exact kr x h1 g1 e3) (fun a μ1 ⟨x, h1, g1, e1, _⟩ => by cases e1)
theorem H_calll {Q1 : Int64 → HI → HL → Prop} (hc : Sl D f M1 av F h g Q1) (hq : mW M1 ∈ lw_all) (hin : Cond.initialized (mN M1).cls ∈ lw_all) (hL : mL M1 ≤ 27) (hst : (rest.map fun v => v.category).sum ≤ 8) (res : k_RES D M (f + 1) pc l st (F, h, g) (mN M1) av rest) (kr : ∀ x h1 g1, Q1 x h1 g1 → V D M (f + 1) Q (pc + 3) l (.long x :: rest) (F, h1, g1)) : V D M (f + 1) Q pc l st (F, h, g) :=
  V_call hc hq hin hL hst res (fun v μ1 ⟨x, h1, g1, e1, e2, e3⟩ => by cases e1; subst e2; exact kr x h1 g1 e3) (fun a μ1 ⟨x, h1, g1, e1, _⟩ => by cases e1)
end HR
abbrev mX1_init : MI := (yX1_init, cX1_init, 1, none, [])
theorem mqX1_init : mW mX1_init ∈ lw_all := q118
theorem mhX1_init : yX1_init.cls ≠ "java/lang/invoke/MethodHandle" ∧ yX1_init.cls ≠ "java/lang/invoke/VarHandle" := by decide +kernel
theorem mnX1_init : (parseMethodDescriptor yX1_init.desc).map (fun d => d.parameters.length) = some 0 := by decide +kernel
abbrev mX1_all : MI := (yX1_all, cX1_all, 1, (some FieldType.int), [])
theorem mqX1_all : mW mX1_all ∈ lw_all := q1260
theorem mhX1_all : yX1_all.cls ≠ "java/lang/invoke/MethodHandle" ∧ yX1_all.cls ≠ "java/lang/invoke/VarHandle" := by decide +kernel
theorem mnX1_all : (parseMethodDescriptor yX1_all.desc).map (fun d => d.parameters.length) = some 1 := by decide +kernel
abbrev mX1_asks : MI := (yX1_asks, cX1_asks, 5, (some FieldType.int), [])
theorem mqX1_asks : mW mX1_asks ∈ lw_all := q1282
theorem mhX1_asks : yX1_asks.cls ≠ "java/lang/invoke/MethodHandle" ∧ yX1_asks.cls ≠ "java/lang/invoke/VarHandle" := by decide +kernel
theorem mnX1_asks : (parseMethodDescriptor yX1_asks.desc).map (fun d => d.parameters.length) = some 3 := by decide +kernel
abbrev mX1_both : MI := (yX1_both, cX1_both, 3, (some FieldType.int), [])
theorem mqX1_both : mW mX1_both ∈ lw_all := q1224
theorem mhX1_both : yX1_both.cls ≠ "java/lang/invoke/MethodHandle" ∧ yX1_both.cls ≠ "java/lang/invoke/VarHandle" := by decide +kernel
theorem mnX1_both : (parseMethodDescriptor yX1_both.desc).map (fun d => d.parameters.length) = some 3 := by decide +kernel
abbrev mX1_check : MI := (yX1_check, cX1_check, 8, (some FieldType.int), [])
theorem mqX1_check : mW mX1_check ∈ lw_all := q1304
theorem mhX1_check : yX1_check.cls ≠ "java/lang/invoke/MethodHandle" ∧ yX1_check.cls ≠ "java/lang/invoke/VarHandle" := by decide +kernel
theorem mnX1_check : (parseMethodDescriptor yX1_check.desc).map (fun d => d.parameters.length) = some 0 := by decide +kernel
abbrev mX1_cut : MI := (yX1_cut, cX1_cut, 3, (some FieldType.int), [])
theorem mqX1_cut : mW mX1_cut ∈ lw_all := q1089
theorem mhX1_cut : yX1_cut.cls ≠ "java/lang/invoke/MethodHandle" ∧ yX1_cut.cls ≠ "java/lang/invoke/VarHandle" := by decide +kernel
theorem mnX1_cut : (parseMethodDescriptor yX1_cut.desc).map (fun d => d.parameters.length) = some 1 := by decide +kernel
abbrev mX1_dead : MI := (yX1_dead, cX1_dead, 3, (some FieldType.boolean), [])
theorem mqX1_dead : mW mX1_dead ∈ lw_all := q1271
theorem mhX1_dead : yX1_dead.cls ≠ "java/lang/invoke/MethodHandle" ∧ yX1_dead.cls ≠ "java/lang/invoke/VarHandle" := by decide +kernel
theorem mnX1_dead : (parseMethodDescriptor yX1_dead.desc).map (fun d => d.parameters.length) = some 2 := by decide +kernel
abbrev mX1_either : MI := (yX1_either, cX1_either, 3, (some FieldType.int), [])
theorem mqX1_either : mW mX1_either ∈ lw_all := q1245
theorem mhX1_either : yX1_either.cls ≠ "java/lang/invoke/MethodHandle" ∧ yX1_either.cls ≠ "java/lang/invoke/VarHandle" := by decide +kernel
theorem mnX1_either : (parseMethodDescriptor yX1_either.desc).map (fun d => d.parameters.length) = some 3 := by decide +kernel
abbrev mX1_feed : MI := (yX1_feed, cX1_feed, 6, (some FieldType.int), [])
theorem mqX1_feed : mW mX1_feed ∈ lw_all := q1064
theorem mhX1_feed : yX1_feed.cls ≠ "java/lang/invoke/MethodHandle" ∧ yX1_feed.cls ≠ "java/lang/invoke/VarHandle" := by decide +kernel
theorem mnX1_feed : (parseMethodDescriptor yX1_feed.desc).map (fun d => d.parameters.length) = some 5 := by decide +kernel
abbrev mX1_first : MI := (yX1_first, cX1_first, 2, (some FieldType.int), [])
theorem mqX1_first : mW mX1_first ∈ lw_all := q1216
theorem mhX1_first : yX1_first.cls ≠ "java/lang/invoke/MethodHandle" ∧ yX1_first.cls ≠ "java/lang/invoke/VarHandle" := by decide +kernel
theorem mnX1_first : (parseMethodDescriptor yX1_first.desc).map (fun d => d.parameters.length) = some 2 := by decide +kernel
abbrev mX1_fits : MI := (yX1_fits, cX1_fits, 1, none, [])
theorem mqX1_fits : mW mX1_fits ∈ lw_all := q1092
theorem mhX1_fits : yX1_fits.cls ≠ "java/lang/invoke/MethodHandle" ∧ yX1_fits.cls ≠ "java/lang/invoke/VarHandle" := by decide +kernel
theorem mnX1_fits : (parseMethodDescriptor yX1_fits.desc).map (fun d => d.parameters.length) = some 1 := by decide +kernel
abbrev mX1_function : MI := (yX1_function, cX1_function, 4, (some FieldType.int), [])
theorem mqX1_function : mW mX1_function ∈ lw_all := q1138
theorem mhX1_function : yX1_function.cls ≠ "java/lang/invoke/MethodHandle" ∧ yX1_function.cls ≠ "java/lang/invoke/VarHandle" := by decide +kernel
theorem mnX1_function : (parseMethodDescriptor yX1_function.desc).map (fun d => d.parameters.length) = some 2 := by decide +kernel
abbrev mX1_functionAt : MI := (yX1_functionAt, cX1_functionAt, 2, (some (FieldType.object "StrictProofs$Function")), [])
theorem mqX1_functionAt : mW mX1_functionAt ∈ lw_all := q1142
theorem mhX1_functionAt : yX1_functionAt.cls ≠ "java/lang/invoke/MethodHandle" ∧ yX1_functionAt.cls ≠ "java/lang/invoke/VarHandle" := by decide +kernel
theorem mnX1_functionAt : (parseMethodDescriptor yX1_functionAt.desc).map (fun d => d.parameters.length) = some 1 := by decide +kernel
abbrev mX1_input : MI := (yX1_input, cX1_input, 3, (some FieldType.int), [])
theorem mqX1_input : mW mX1_input ∈ lw_all := q1311
theorem mhX1_input : yX1_input.cls ≠ "java/lang/invoke/MethodHandle" ∧ yX1_input.cls ≠ "java/lang/invoke/VarHandle" := by decide +kernel
theorem mnX1_input : (parseMethodDescriptor yX1_input.desc).map (fun d => d.parameters.length) = some 2 := by decide +kernel
abbrev mX1_lay : MI := (yX1_lay, cX1_lay, 3, none, [])
theorem mqX1_lay : mW mX1_lay ∈ lw_all := q1081
theorem mhX1_lay : yX1_lay.cls ≠ "java/lang/invoke/MethodHandle" ∧ yX1_lay.cls ≠ "java/lang/invoke/VarHandle" := by decide +kernel
theorem mnX1_lay : (parseMethodDescriptor yX1_lay.desc).map (fun d => d.parameters.length) = some 1 := by decide +kernel
abbrev mX1_left : MI := (yX1_left, cX1_left, 1, (some FieldType.int), [])
theorem mqX1_left : mW mX1_left ∈ lw_all := q1006
theorem mhX1_left : yX1_left.cls ≠ "java/lang/invoke/MethodHandle" ∧ yX1_left.cls ≠ "java/lang/invoke/VarHandle" := by decide +kernel
theorem mnX1_left : (parseMethodDescriptor yX1_left.desc).map (fun d => d.parameters.length) = some 1 := by decide +kernel
abbrev mX1_lies : MI := (yX1_lies, cX1_lies, 1, none, [])
theorem mqX1_lies : mW mX1_lies ∈ lw_all := q1145
theorem mhX1_lies : yX1_lies.cls ≠ "java/lang/invoke/MethodHandle" ∧ yX1_lies.cls ≠ "java/lang/invoke/VarHandle" := by decide +kernel
theorem mnX1_lies : (parseMethodDescriptor yX1_lies.desc).map (fun d => d.parameters.length) = some 1 := by decide +kernel
abbrev mX1_may : MI := (yX1_may, cX1_may, 1, none, [])
theorem mqX1_may : mW mX1_may ∈ lw_all := q1067
theorem mhX1_may : yX1_may.cls ≠ "java/lang/invoke/MethodHandle" ∧ yX1_may.cls ≠ "java/lang/invoke/VarHandle" := by decide +kernel
theorem mnX1_may : (parseMethodDescriptor yX1_may.desc).map (fun d => d.parameters.length) = some 1 := by decide +kernel
abbrev mX1_needed : MI := (yX1_needed, cX1_needed, 2, (some FieldType.boolean), [])
theorem mqX1_needed : mW mX1_needed ∈ lw_all := q1451
theorem mhX1_needed : yX1_needed.cls ≠ "java/lang/invoke/MethodHandle" ∧ yX1_needed.cls ≠ "java/lang/invoke/VarHandle" := by decide +kernel
theorem mnX1_needed : (parseMethodDescriptor yX1_needed.desc).map (fun d => d.parameters.length) = some 1 := by decide +kernel
abbrev mX1_pairOf : MI := (yX1_pairOf, cX1_pairOf, 2, (some FieldType.int), [])
theorem mqX1_pairOf : mW mX1_pairOf ∈ lw_all := q762
theorem mhX1_pairOf : yX1_pairOf.cls ≠ "java/lang/invoke/MethodHandle" ∧ yX1_pairOf.cls ≠ "java/lang/invoke/VarHandle" := by decide +kernel
theorem mnX1_pairOf : (parseMethodDescriptor yX1_pairOf.desc).map (fun d => d.parameters.length) = some 2 := by decide +kernel
abbrev mX1_place : MI := (yX1_place, cX1_place, 1, (some FieldType.int), [])
theorem mqX1_place : mW mX1_place ∈ lw_all := q1056
theorem mhX1_place : yX1_place.cls ≠ "java/lang/invoke/MethodHandle" ∧ yX1_place.cls ≠ "java/lang/invoke/VarHandle" := by decide +kernel
theorem mnX1_place : (parseMethodDescriptor yX1_place.desc).map (fun d => d.parameters.length) = some 0 := by decide +kernel
abbrev mX1_plant : MI := (yX1_plant, cX1_plant, 8, (some FieldType.int), [])
theorem mqX1_plant : mW mX1_plant ∈ lw_all := q1297
theorem mhX1_plant : yX1_plant.cls ≠ "java/lang/invoke/MethodHandle" ∧ yX1_plant.cls ≠ "java/lang/invoke/VarHandle" := by decide +kernel
theorem mnX1_plant : (parseMethodDescriptor yX1_plant.desc).map (fun d => d.parameters.length) = some 4 := by decide +kernel
abbrev mX1_read : MI := (yX1_read, cX1_read, 3, (some FieldType.int), [])
theorem mqX1_read : mW mX1_read ∈ lw_all := q418
theorem mhX1_read : yX1_read.cls ≠ "java/lang/invoke/MethodHandle" ∧ yX1_read.cls ≠ "java/lang/invoke/VarHandle" := by decide +kernel
theorem mnX1_read : (parseMethodDescriptor yX1_read.desc).map (fun d => d.parameters.length) = some 0 := by decide +kernel
abbrev mX1_reads : MI := (yX1_reads, cX1_reads, 2, (some FieldType.boolean), [(0, 21, 24, 108)])
theorem mqX1_reads : mW mX1_reads ∈ lw_all := q425
theorem mhX1_reads : yX1_reads.cls ≠ "java/lang/invoke/MethodHandle" ∧ yX1_reads.cls ≠ "java/lang/invoke/VarHandle" := by decide +kernel
theorem mnX1_reads : (parseMethodDescriptor yX1_reads.desc).map (fun d => d.parameters.length) = some 0 := by decide +kernel
abbrev mX1_result : MI := (yX1_result, cX1_result, 3, (some FieldType.int), [])
theorem mqX1_result : mW mX1_result ∈ lw_all := q1440
theorem mhX1_result : yX1_result.cls ≠ "java/lang/invoke/MethodHandle" ∧ yX1_result.cls ≠ "java/lang/invoke/VarHandle" := by decide +kernel
theorem mnX1_result : (parseMethodDescriptor yX1_result.desc).map (fun d => d.parameters.length) = some 1 := by decide +kernel
abbrev mX1_right : MI := (yX1_right, cX1_right, 1, (some FieldType.int), [])
theorem mqX1_right : mW mX1_right ∈ lw_all := q1009
theorem mhX1_right : yX1_right.cls ≠ "java/lang/invoke/MethodHandle" ∧ yX1_right.cls ≠ "java/lang/invoke/VarHandle" := by decide +kernel
theorem mnX1_right : (parseMethodDescriptor yX1_right.desc).map (fun d => d.parameters.length) = some 1 := by decide +kernel
abbrev mX1_round : MI := (yX1_round, cX1_round, 8, (some FieldType.boolean), [])
theorem mqX1_round : mW mX1_round ∈ lw_all := q1176
theorem mhX1_round : yX1_round.cls ≠ "java/lang/invoke/MethodHandle" ∧ yX1_round.cls ≠ "java/lang/invoke/VarHandle" := by decide +kernel
theorem mnX1_round : (parseMethodDescriptor yX1_round.desc).map (fun d => d.parameters.length) = some 0 := by decide +kernel
abbrev mX1_rounds : MI := (yX1_rounds, cX1_rounds, 3, (some FieldType.int), [])
theorem mqX1_rounds : mW mX1_rounds ∈ lw_all := q1172
theorem mhX1_rounds : yX1_rounds.cls ≠ "java/lang/invoke/MethodHandle" ∧ yX1_rounds.cls ≠ "java/lang/invoke/VarHandle" := by decide +kernel
theorem mnX1_rounds : (parseMethodDescriptor yX1_rounds.desc).map (fun d => d.parameters.length) = some 0 := by decide +kernel
abbrev mX1_rowAt : MI := (yX1_rowAt, cX1_rowAt, 4, (some (FieldType.object "StrictProofs$Function")), [])
theorem mqX1_rowAt : mW mX1_rowAt ∈ lw_all := q1275
theorem mhX1_rowAt : yX1_rowAt.cls ≠ "java/lang/invoke/MethodHandle" ∧ yX1_rowAt.cls ≠ "java/lang/invoke/VarHandle" := by decide +kernel
theorem mnX1_rowAt : (parseMethodDescriptor yX1_rowAt.desc).map (fun d => d.parameters.length) = some 2 := by decide +kernel
abbrev mX1_rowOf : MI := (yX1_rowOf, cX1_rowOf, 3, (some FieldType.int), [])
theorem mqX1_rowOf : mW mX1_rowOf ∈ lw_all := q1263
theorem mhX1_rowOf : yX1_rowOf.cls ≠ "java/lang/invoke/MethodHandle" ∧ yX1_rowOf.cls ≠ "java/lang/invoke/VarHandle" := by decide +kernel
theorem mnX1_rowOf : (parseMethodDescriptor yX1_rowOf.desc).map (fun d => d.parameters.length) = some 3 := by decide +kernel
abbrev mX1_run : MI := (yX1_run, cX1_run, 5, (some FieldType.int), [])
theorem mqX1_run : mW mX1_run ∈ lw_all := q1318
theorem mhX1_run : yX1_run.cls ≠ "java/lang/invoke/MethodHandle" ∧ yX1_run.cls ≠ "java/lang/invoke/VarHandle" := by decide +kernel
theorem mnX1_run : (parseMethodDescriptor yX1_run.desc).map (fun d => d.parameters.length) = some 3 := by decide +kernel
abbrev mX1_second : MI := (yX1_second, cX1_second, 2, (some FieldType.int), [])
theorem mqX1_second : mW mX1_second ∈ lw_all := q1221
theorem mhX1_second : yX1_second.cls ≠ "java/lang/invoke/MethodHandle" ∧ yX1_second.cls ≠ "java/lang/invoke/VarHandle" := by decide +kernel
theorem mnX1_second : (parseMethodDescriptor yX1_second.desc).map (fun d => d.parameters.length) = some 2 := by decide +kernel
abbrev mX1_sizeOf : MI := (yX1_sizeOf, cX1_sizeOf, 1, (some FieldType.int), [])
theorem mqX1_sizeOf : mW mX1_sizeOf ∈ lw_all := q1163
theorem mhX1_sizeOf : yX1_sizeOf.cls ≠ "java/lang/invoke/MethodHandle" ∧ yX1_sizeOf.cls ≠ "java/lang/invoke/VarHandle" := by decide +kernel
theorem mnX1_sizeOf : (parseMethodDescriptor yX1_sizeOf.desc).map (fun d => d.parameters.length) = some 1 := by decide +kernel
abbrev mX1_strict : MI := (yX1_strict, cX1_strict, 3, (some FieldType.boolean), [])
theorem mqX1_strict : mW mX1_strict ∈ lw_all := q1289
theorem mhX1_strict : yX1_strict.cls ≠ "java/lang/invoke/MethodHandle" ∧ yX1_strict.cls ≠ "java/lang/invoke/VarHandle" := by decide +kernel
theorem mnX1_strict : (parseMethodDescriptor yX1_strict.desc).map (fun d => d.parameters.length) = some 2 := by decide +kernel
abbrev mX1_together : MI := (yX1_together, cX1_together, 3, (some FieldType.int), [])
theorem mqX1_together : mW mX1_together ∈ lw_all := q1211
theorem mhX1_together : yX1_together.cls ≠ "java/lang/invoke/MethodHandle" ∧ yX1_together.cls ≠ "java/lang/invoke/VarHandle" := by decide +kernel
theorem mnX1_together : (parseMethodDescriptor yX1_together.desc).map (fun d => d.parameters.length) = some 3 := by decide +kernel
abbrev mX1_told : MI := (yX1_told, cX1_told, 4, (some FieldType.int), [])
theorem mqX1_told : mW mX1_told ∈ lw_all := q1433
theorem mhX1_told : yX1_told.cls ≠ "java/lang/invoke/MethodHandle" ∧ yX1_told.cls ≠ "java/lang/invoke/VarHandle" := by decide +kernel
theorem mnX1_told : (parseMethodDescriptor yX1_told.desc).map (fun d => d.parameters.length) = some 1 := by decide +kernel
abbrev mX5_init : MI := (yX5_init, cX5_init, 2, none, [])
theorem mqX5_init : mW mX5_init ∈ lw_all := q230
theorem mhX5_init : yX5_init.cls ≠ "java/lang/invoke/MethodHandle" ∧ yX5_init.cls ≠ "java/lang/invoke/VarHandle" := by decide +kernel
theorem mnX5_init : (parseMethodDescriptor yX5_init.desc).map (fun d => d.parameters.length) = some 0 := by decide +kernel
abbrev mX5_of : MI := (yX5_of, cX5_of, 4, (some (FieldType.object "StrictProofs$Row")), [])
theorem mqX5_of : mW mX5_of ∈ lw_all := q1180
theorem mhX5_of : yX5_of.cls ≠ "java/lang/invoke/MethodHandle" ∧ yX5_of.cls ≠ "java/lang/invoke/VarHandle" := by decide +kernel
theorem mnX5_of : (parseMethodDescriptor yX5_of.desc).map (fun d => d.parameters.length) = some 2 := by decide +kernel
abbrev mX5_row : MI := (yX5_row, cX5_row, 2, (some (FieldType.object "StrictProofs$Row")), [])
theorem mqX5_row : mW mX5_row ∈ lw_all := q1238
theorem mhX5_row : yX5_row.cls ≠ "java/lang/invoke/MethodHandle" ∧ yX5_row.cls ≠ "java/lang/invoke/VarHandle" := by decide +kernel
theorem mnX5_row : (parseMethodDescriptor yX5_row.desc).map (fun d => d.parameters.length) = some 1 := by decide +kernel
abbrev mX17_init : MI := (yX17_init, cX17_init, 2, none, [])
theorem mqX17_init : mW mX17_init ∈ lw_all := q919
theorem mhX17_init : yX17_init.cls ≠ "java/lang/invoke/MethodHandle" ∧ yX17_init.cls ≠ "java/lang/invoke/VarHandle" := by decide +kernel
theorem mnX17_init : (parseMethodDescriptor yX17_init.desc).map (fun d => d.parameters.length) = some 1 := by decide +kernel
abbrev mX17_ask : MI := (yX17_ask, cX17_ask, 7, none, [])
theorem mqX17_ask : mW mX17_ask ∈ lw_all := q1190
theorem mhX17_ask : yX17_ask.cls ≠ "java/lang/invoke/MethodHandle" ∧ yX17_ask.cls ≠ "java/lang/invoke/VarHandle" := by decide +kernel
theorem mnX17_ask : (parseMethodDescriptor yX17_ask.desc).map (fun d => d.parameters.length) = some 4 := by decide +kernel
abbrev mX17_judge : MI := (yX17_judge, cX17_judge, 4, (some FieldType.int), [])
theorem mqX17_judge : mW mX17_judge ∈ lw_all := q987
theorem mhX17_judge : yX17_judge.cls ≠ "java/lang/invoke/MethodHandle" ∧ yX17_judge.cls ≠ "java/lang/invoke/VarHandle" := by decide +kernel
theorem mnX17_judge : (parseMethodDescriptor yX17_judge.desc).map (fun d => d.parameters.length) = some 2 := by decide +kernel
abbrev mX17_work : MI := (yX17_work, cX17_work, 5, (some FieldType.int), [])
theorem mqX17_work : mW mX17_work ∈ lw_all := q1352
theorem mhX17_work : yX17_work.cls ≠ "java/lang/invoke/MethodHandle" ∧ yX17_work.cls ≠ "java/lang/invoke/VarHandle" := by decide +kernel
theorem mnX17_work : (parseMethodDescriptor yX17_work.desc).map (fun d => d.parameters.length) = some 2 := by decide +kernel
abbrev mX12_init : MI := (yX12_init, cX12_init, 5, none, [])
theorem mqX12_init : mW mX12_init ∈ lw_all := q819
theorem mhX12_init : yX12_init.cls ≠ "java/lang/invoke/MethodHandle" ∧ yX12_init.cls ≠ "java/lang/invoke/VarHandle" := by decide +kernel
theorem mnX12_init : (parseMethodDescriptor yX12_init.desc).map (fun d => d.parameters.length) = some 4 := by decide +kernel
abbrev mX12_ask : MI := (yX12_ask, cX12_ask, 5, none, [])
theorem mqX12_ask : mW mX12_ask ∈ lw_all := q1193
theorem mhX12_ask : yX12_ask.cls ≠ "java/lang/invoke/MethodHandle" ∧ yX12_ask.cls ≠ "java/lang/invoke/VarHandle" := by decide +kernel
theorem mnX12_ask : (parseMethodDescriptor yX12_ask.desc).map (fun d => d.parameters.length) = some 4 := by decide +kernel
abbrev mX12_judge : MI := (yX12_judge, cX12_judge, 5, (some FieldType.int), [])
theorem mqX12_judge : mW mX12_judge ∈ lw_all := q1002
theorem mhX12_judge : yX12_judge.cls ≠ "java/lang/invoke/MethodHandle" ∧ yX12_judge.cls ≠ "java/lang/invoke/VarHandle" := by decide +kernel
theorem mnX12_judge : (parseMethodDescriptor yX12_judge.desc).map (fun d => d.parameters.length) = some 2 := by decide +kernel
abbrev mX12_work : MI := (yX12_work, cX12_work, 4, (some FieldType.int), [])
theorem mqX12_work : mW mX12_work ∈ lw_all := q1379
theorem mhX12_work : yX12_work.cls ≠ "java/lang/invoke/MethodHandle" ∧ yX12_work.cls ≠ "java/lang/invoke/VarHandle" := by decide +kernel
theorem mnX12_work : (parseMethodDescriptor yX12_work.desc).map (fun d => d.parameters.length) = some 2 := by decide +kernel
abbrev mX10_init : MI := (yX10_init, cX10_init, 2, none, [])
theorem mqX10_init : mW mX10_init ∈ lw_all := q782
theorem mhX10_init : yX10_init.cls ≠ "java/lang/invoke/MethodHandle" ∧ yX10_init.cls ≠ "java/lang/invoke/VarHandle" := by decide +kernel
theorem mnX10_init : (parseMethodDescriptor yX10_init.desc).map (fun d => d.parameters.length) = some 1 := by decide +kernel
abbrev mX10_alone : MI := (yX10_alone, cX10_alone, 1, (some FieldType.int), [])
theorem mqX10_alone : mW mX10_alone ∈ lw_all := q1375
theorem mhX10_alone : yX10_alone.cls ≠ "java/lang/invoke/MethodHandle" ∧ yX10_alone.cls ≠ "java/lang/invoke/VarHandle" := by decide +kernel
theorem mnX10_alone : (parseMethodDescriptor yX10_alone.desc).map (fun d => d.parameters.length) = some 0 := by decide +kernel
abbrev mX15_init : MI := (yX15_init, cX15_init, 3, none, [])
theorem mqX15_init : mW mX15_init ∈ lw_all := q887
theorem mhX15_init : yX15_init.cls ≠ "java/lang/invoke/MethodHandle" ∧ yX15_init.cls ≠ "java/lang/invoke/VarHandle" := by decide +kernel
theorem mnX15_init : (parseMethodDescriptor yX15_init.desc).map (fun d => d.parameters.length) = some 2 := by decide +kernel
abbrev mX15_ask : MI := (yX15_ask, cX15_ask, 5, none, [])
theorem mqX15_ask : mW mX15_ask ∈ lw_all := q1196
theorem mhX15_ask : yX15_ask.cls ≠ "java/lang/invoke/MethodHandle" ∧ yX15_ask.cls ≠ "java/lang/invoke/VarHandle" := by decide +kernel
theorem mnX15_ask : (parseMethodDescriptor yX15_ask.desc).map (fun d => d.parameters.length) = some 4 := by decide +kernel
abbrev mX15_judge : MI := (yX15_judge, cX15_judge, 3, (some FieldType.int), [])
theorem mqX15_judge : mW mX15_judge ∈ lw_all := q1017
theorem mhX15_judge : yX15_judge.cls ≠ "java/lang/invoke/MethodHandle" ∧ yX15_judge.cls ≠ "java/lang/invoke/VarHandle" := by decide +kernel
theorem mnX15_judge : (parseMethodDescriptor yX15_judge.desc).map (fun d => d.parameters.length) = some 2 := by decide +kernel
abbrev mX15_work : MI := (yX15_work, cX15_work, 3, (some FieldType.int), [])
theorem mqX15_work : mW mX15_work ∈ lw_all := q1383
theorem mhX15_work : yX15_work.cls ≠ "java/lang/invoke/MethodHandle" ∧ yX15_work.cls ≠ "java/lang/invoke/VarHandle" := by decide +kernel
theorem mnX15_work : (parseMethodDescriptor yX15_work.desc).map (fun d => d.parameters.length) = some 2 := by decide +kernel
abbrev mX9_init : MI := (yX9_init, cX9_init, 1, none, [])
theorem mqX9_init : mW mX9_init ∈ lw_all := q658
theorem mhX9_init : yX9_init.cls ≠ "java/lang/invoke/MethodHandle" ∧ yX9_init.cls ≠ "java/lang/invoke/VarHandle" := by decide +kernel
theorem mnX9_init : (parseMethodDescriptor yX9_init.desc).map (fun d => d.parameters.length) = some 0 := by decide +kernel
abbrev mX13_init : MI := (yX13_init, cX13_init, 5, none, [])
theorem mqX13_init : mW mX13_init ∈ lw_all := q841
theorem mhX13_init : yX13_init.cls ≠ "java/lang/invoke/MethodHandle" ∧ yX13_init.cls ≠ "java/lang/invoke/VarHandle" := by decide +kernel
theorem mnX13_init : (parseMethodDescriptor yX13_init.desc).map (fun d => d.parameters.length) = some 4 := by decide +kernel
abbrev mX13_ask : MI := (yX13_ask, cX13_ask, 7, none, [])
theorem mqX13_ask : mW mX13_ask ∈ lw_all := q1198
theorem mhX13_ask : yX13_ask.cls ≠ "java/lang/invoke/MethodHandle" ∧ yX13_ask.cls ≠ "java/lang/invoke/VarHandle" := by decide +kernel
theorem mnX13_ask : (parseMethodDescriptor yX13_ask.desc).map (fun d => d.parameters.length) = some 4 := by decide +kernel
abbrev mX13_judge : MI := (yX13_judge, cX13_judge, 4, (some FieldType.int), [])
theorem mqX13_judge : mW mX13_judge ∈ lw_all := q1020
theorem mhX13_judge : yX13_judge.cls ≠ "java/lang/invoke/MethodHandle" ∧ yX13_judge.cls ≠ "java/lang/invoke/VarHandle" := by decide +kernel
theorem mnX13_judge : (parseMethodDescriptor yX13_judge.desc).map (fun d => d.parameters.length) = some 2 := by decide +kernel
abbrev mX13_work : MI := (yX13_work, cX13_work, 4, (some FieldType.int), [])
theorem mqX13_work : mW mX13_work ∈ lw_all := q1387
theorem mhX13_work : yX13_work.cls ≠ "java/lang/invoke/MethodHandle" ∧ yX13_work.cls ≠ "java/lang/invoke/VarHandle" := by decide +kernel
theorem mnX13_work : (parseMethodDescriptor yX13_work.desc).map (fun d => d.parameters.length) = some 2 := by decide +kernel
abbrev mX4_init : MI := (yX4_init, cX4_init, 3, none, [])
theorem mqX4_init : mW mX4_init ∈ lw_all := q202
theorem mhX4_init : yX4_init.cls ≠ "java/lang/invoke/MethodHandle" ∧ yX4_init.cls ≠ "java/lang/invoke/VarHandle" := by decide +kernel
theorem mnX4_init : (parseMethodDescriptor yX4_init.desc).map (fun d => d.parameters.length) = some 2 := by decide +kernel
abbrev mX4_all : MI := (yX4_all, cX4_all, 4, none, [])
theorem mqX4_all : mW mX4_all ∈ lw_all := q973
theorem mhX4_all : yX4_all.cls ≠ "java/lang/invoke/MethodHandle" ∧ yX4_all.cls ≠ "java/lang/invoke/VarHandle" := by decide +kernel
theorem mnX4_all : (parseMethodDescriptor yX4_all.desc).map (fun d => d.parameters.length) = some 1 := by decide +kernel
abbrev mX4_close : MI := (yX4_close, cX4_close, 2, none, [])
theorem mqX4_close : mW mX4_close ∈ lw_all := q1014
theorem mhX4_close : yX4_close.cls ≠ "java/lang/invoke/MethodHandle" ∧ yX4_close.cls ≠ "java/lang/invoke/VarHandle" := by decide +kernel
theorem mnX4_close : (parseMethodDescriptor yX4_close.desc).map (fun d => d.parameters.length) = some 1 := by decide +kernel
abbrev mX4_find : MI := (yX4_find, cX4_find, 4, (some FieldType.int), [])
theorem mqX4_find : mW mX4_find ∈ lw_all := q1034
theorem mhX4_find : yX4_find.cls ≠ "java/lang/invoke/MethodHandle" ∧ yX4_find.cls ≠ "java/lang/invoke/VarHandle" := by decide +kernel
theorem mnX4_find : (parseMethodDescriptor yX4_find.desc).map (fun d => d.parameters.length) = some 1 := by decide +kernel
abbrev mX4_function : MI := (yX4_function, cX4_function, 4, (some (FieldType.object "StrictProofs$Function")), [])
theorem mqX4_function : mW mX4_function ∈ lw_all := q991
theorem mhX4_function : yX4_function.cls ≠ "java/lang/invoke/MethodHandle" ∧ yX4_function.cls ≠ "java/lang/invoke/VarHandle" := by decide +kernel
theorem mnX4_function : (parseMethodDescriptor yX4_function.desc).map (fun d => d.parameters.length) = some 1 := by decide +kernel
abbrev mX4_judge : MI := (yX4_judge, cX4_judge, 3, (some FieldType.int), [])
theorem mqX4_judge : mW mX4_judge ∈ lw_all := q981
theorem mhX4_judge : yX4_judge.cls ≠ "java/lang/invoke/MethodHandle" ∧ yX4_judge.cls ≠ "java/lang/invoke/VarHandle" := by decide +kernel
theorem mnX4_judge : (parseMethodDescriptor yX4_judge.desc).map (fun d => d.parameters.length) = some 2 := by decide +kernel
abbrev mX4_open : MI := (yX4_open, cX4_open, 2, none, [])
theorem mqX4_open : mW mX4_open ∈ lw_all := q977
theorem mhX4_open : yX4_open.cls ≠ "java/lang/invoke/MethodHandle" ∧ yX4_open.cls ≠ "java/lang/invoke/VarHandle" := by decide +kernel
theorem mnX4_open : (parseMethodDescriptor yX4_open.desc).map (fun d => d.parameters.length) = some 1 := by decide +kernel
abbrev mX4_want : MI := (yX4_want, cX4_want, 4, none, [])
theorem mqX4_want : mW mX4_want ∈ lw_all := q996
theorem mhX4_want : yX4_want.cls ≠ "java/lang/invoke/MethodHandle" ∧ yX4_want.cls ≠ "java/lang/invoke/VarHandle" := by decide +kernel
theorem mnX4_want : (parseMethodDescriptor yX4_want.desc).map (fun d => d.parameters.length) = some 3 := by decide +kernel
abbrev mX11_init : MI := (yX11_init, cX11_init, 5, none, [])
theorem mqX11_init : mW mX11_init ∈ lw_all := q779
theorem mhX11_init : yX11_init.cls ≠ "java/lang/invoke/MethodHandle" ∧ yX11_init.cls ≠ "java/lang/invoke/VarHandle" := by decide +kernel
theorem mnX11_init : (parseMethodDescriptor yX11_init.desc).map (fun d => d.parameters.length) = some 4 := by decide +kernel
abbrev mX11_ask : MI := (yX11_ask, cX11_ask, 5, none, [])
theorem mqX11_ask : mW mX11_ask ∈ lw_all := q1201
theorem mhX11_ask : yX11_ask.cls ≠ "java/lang/invoke/MethodHandle" ∧ yX11_ask.cls ≠ "java/lang/invoke/VarHandle" := by decide +kernel
theorem mnX11_ask : (parseMethodDescriptor yX11_ask.desc).map (fun d => d.parameters.length) = some 4 := by decide +kernel
abbrev mX11_judge : MI := (yX11_judge, cX11_judge, 4, (some FieldType.int), [])
theorem mqX11_judge : mW mX11_judge ∈ lw_all := q1024
theorem mhX11_judge : yX11_judge.cls ≠ "java/lang/invoke/MethodHandle" ∧ yX11_judge.cls ≠ "java/lang/invoke/VarHandle" := by decide +kernel
theorem mnX11_judge : (parseMethodDescriptor yX11_judge.desc).map (fun d => d.parameters.length) = some 2 := by decide +kernel
abbrev mX11_work : MI := (yX11_work, cX11_work, 3, (some FieldType.int), [])
theorem mqX11_work : mW mX11_work ∈ lw_all := q1391
theorem mhX11_work : yX11_work.cls ≠ "java/lang/invoke/MethodHandle" ∧ yX11_work.cls ≠ "java/lang/invoke/VarHandle" := by decide +kernel
theorem mnX11_work : (parseMethodDescriptor yX11_work.desc).map (fun d => d.parameters.length) = some 2 := by decide +kernel
abbrev mX7_init : MI := (yX7_init, cX7_init, 1, none, [])
theorem mqX7_init : mW mX7_init ∈ lw_all := q270
theorem mhX7_init : yX7_init.cls ≠ "java/lang/invoke/MethodHandle" ∧ yX7_init.cls ≠ "java/lang/invoke/VarHandle" := by decide +kernel
theorem mnX7_init : (parseMethodDescriptor yX7_init.desc).map (fun d => d.parameters.length) = some 0 := by decide +kernel
abbrev mX7_ask : MI := (yX7_ask, cX7_ask, 4, none, [])
theorem mqX7_ask : mW mX7_ask ∈ lw_all := q1419
theorem mhX7_ask : yX7_ask.cls ≠ "java/lang/invoke/MethodHandle" ∧ yX7_ask.cls ≠ "java/lang/invoke/VarHandle" := by decide +kernel
theorem mnX7_ask : (parseMethodDescriptor yX7_ask.desc).map (fun d => d.parameters.length) = some 3 := by decide +kernel
abbrev mX7_call : MI := (yX7_call, cX7_call, 1, (some FieldType.int), [])
theorem mqX7_call : mW mX7_call ∈ lw_all := q1356
theorem mhX7_call : yX7_call.cls ≠ "java/lang/invoke/MethodHandle" ∧ yX7_call.cls ≠ "java/lang/invoke/VarHandle" := by decide +kernel
theorem mnX7_call : (parseMethodDescriptor yX7_call.desc).map (fun d => d.parameters.length) = some 0 := by decide +kernel
abbrev mX7_ends : MI := (yX7_ends, cX7_ends, 2, none, [])
theorem mqX7_ends : mW mX7_ends ∈ lw_all := q1345
theorem mhX7_ends : yX7_ends.cls ≠ "java/lang/invoke/MethodHandle" ∧ yX7_ends.cls ≠ "java/lang/invoke/VarHandle" := by decide +kernel
theorem mnX7_ends : (parseMethodDescriptor yX7_ends.desc).map (fun d => d.parameters.length) = some 1 := by decide +kernel
abbrev mX7_fit : MI := (yX7_fit, cX7_fit, 7, (some FieldType.boolean), [])
theorem mqX7_fit : mW mX7_fit ∈ lw_all := q1322
theorem mhX7_fit : yX7_fit.cls ≠ "java/lang/invoke/MethodHandle" ∧ yX7_fit.cls ≠ "java/lang/invoke/VarHandle" := by decide +kernel
theorem mnX7_fit : (parseMethodDescriptor yX7_fit.desc).map (fun d => d.parameters.length) = some 3 := by decide +kernel
abbrev mX7_forget : MI := (yX7_forget, cX7_forget, 1, none, [])
theorem mqX7_forget : mW mX7_forget ∈ lw_all := q1052
theorem mhX7_forget : yX7_forget.cls ≠ "java/lang/invoke/MethodHandle" ∧ yX7_forget.cls ≠ "java/lang/invoke/VarHandle" := by decide +kernel
theorem mnX7_forget : (parseMethodDescriptor yX7_forget.desc).map (fun d => d.parameters.length) = some 0 := by decide +kernel
abbrev mX7_input : MI := (yX7_input, cX7_input, 7, (some FieldType.int), [])
theorem mqX7_input : mW mX7_input ∈ lw_all := q1333
theorem mhX7_input : yX7_input.cls ≠ "java/lang/invoke/MethodHandle" ∧ yX7_input.cls ≠ "java/lang/invoke/VarHandle" := by decide +kernel
theorem mnX7_input : (parseMethodDescriptor yX7_input.desc).map (fun d => d.parameters.length) = some 3 := by decide +kernel
abbrev mX7_need : MI := (yX7_need, cX7_need, 3, (some FieldType.int), [])
theorem mqX7_need : mW mX7_need ∈ lw_all := q1400
theorem mhX7_need : yX7_need.cls ≠ "java/lang/invoke/MethodHandle" ∧ yX7_need.cls ≠ "java/lang/invoke/VarHandle" := by decide +kernel
theorem mnX7_need : (parseMethodDescriptor yX7_need.desc).map (fun d => d.parameters.length) = some 1 := by decide +kernel
abbrev mX7_pair : MI := (yX7_pair, cX7_pair, 1, (some FieldType.int), [])
theorem mqX7_pair : mW mX7_pair ∈ lw_all := q1410
theorem mhX7_pair : yX7_pair.cls ≠ "java/lang/invoke/MethodHandle" ∧ yX7_pair.cls ≠ "java/lang/invoke/VarHandle" := by decide +kernel
theorem mnX7_pair : (parseMethodDescriptor yX7_pair.desc).map (fun d => d.parameters.length) = some 0 := by decide +kernel
abbrev mX7_part : MI := (yX7_part, cX7_part, 4, none, [])
theorem mqX7_part : mW mX7_part ∈ lw_all := q1424
theorem mhX7_part : yX7_part.cls ≠ "java/lang/invoke/MethodHandle" ∧ yX7_part.cls ≠ "java/lang/invoke/VarHandle" := by decide +kernel
theorem mnX7_part : (parseMethodDescriptor yX7_part.desc).map (fun d => d.parameters.length) = some 3 := by decide +kernel
abbrev mX7_put : MI := (yX7_put, cX7_put, 4, (some FieldType.int), [])
theorem mqX7_put : mW mX7_put ∈ lw_all := q1337
theorem mhX7_put : yX7_put.cls ≠ "java/lang/invoke/MethodHandle" ∧ yX7_put.cls ≠ "java/lang/invoke/VarHandle" := by decide +kernel
theorem mnX7_put : (parseMethodDescriptor yX7_put.desc).map (fun d => d.parameters.length) = some 3 := by decide +kernel
abbrev mX7_run : MI := (yX7_run, cX7_run, 7, (some FieldType.int), [])
theorem mqX7_run : mW mX7_run ∈ lw_all := q1328
theorem mhX7_run : yX7_run.cls ≠ "java/lang/invoke/MethodHandle" ∧ yX7_run.cls ≠ "java/lang/invoke/VarHandle" := by decide +kernel
theorem mnX7_run : (parseMethodDescriptor yX7_run.desc).map (fun d => d.parameters.length) = some 5 := by decide +kernel
abbrev mX7_thing : MI := (yX7_thing, cX7_thing, 3, (some FieldType.int), [])
theorem mqX7_thing : mW mX7_thing ∈ lw_all := q1360
theorem mhX7_thing : yX7_thing.cls ≠ "java/lang/invoke/MethodHandle" ∧ yX7_thing.cls ≠ "java/lang/invoke/VarHandle" := by decide +kernel
theorem mnX7_thing : (parseMethodDescriptor yX7_thing.desc).map (fun d => d.parameters.length) = some 2 := by decide +kernel
abbrev mX7_thingAt : MI := (yX7_thingAt, cX7_thingAt, 7, (some FieldType.int), [])
theorem mqX7_thingAt : mW mX7_thingAt ∈ lw_all := q1444
theorem mhX7_thingAt : yX7_thingAt.cls ≠ "java/lang/invoke/MethodHandle" ∧ yX7_thingAt.cls ≠ "java/lang/invoke/VarHandle" := by decide +kernel
theorem mnX7_thingAt : (parseMethodDescriptor yX7_thingAt.desc).map (fun d => d.parameters.length) = some 1 := by decide +kernel
abbrev mX7_work : MI := (yX7_work, cX7_work, 4, (some FieldType.int), [])
theorem mqX7_work : mW mX7_work ∈ lw_all := q1341
theorem mhX7_work : yX7_work.cls ≠ "java/lang/invoke/MethodHandle" ∧ yX7_work.cls ≠ "java/lang/invoke/VarHandle" := by decide +kernel
theorem mnX7_work : (parseMethodDescriptor yX7_work.desc).map (fun d => d.parameters.length) = some 2 := by decide +kernel
abbrev mX18_init : MI := (yX18_init, cX18_init, 2, none, [])
theorem mqX18_init : mW mX18_init ∈ lw_all := q944
theorem mhX18_init : yX18_init.cls ≠ "java/lang/invoke/MethodHandle" ∧ yX18_init.cls ≠ "java/lang/invoke/VarHandle" := by decide +kernel
theorem mnX18_init : (parseMethodDescriptor yX18_init.desc).map (fun d => d.parameters.length) = some 1 := by decide +kernel
abbrev mX18_alone : MI := (yX18_alone, cX18_alone, 1, (some FieldType.int), [])
theorem mqX18_alone : mW mX18_alone ∈ lw_all := q1371
theorem mhX18_alone : yX18_alone.cls ≠ "java/lang/invoke/MethodHandle" ∧ yX18_alone.cls ≠ "java/lang/invoke/VarHandle" := by decide +kernel
theorem mnX18_alone : (parseMethodDescriptor yX18_alone.desc).map (fun d => d.parameters.length) = some 0 := by decide +kernel
abbrev mX18_ask : MI := (yX18_ask, cX18_ask, 5, none, [])
theorem mqX18_ask : mW mX18_ask ∈ lw_all := q1204
theorem mhX18_ask : yX18_ask.cls ≠ "java/lang/invoke/MethodHandle" ∧ yX18_ask.cls ≠ "java/lang/invoke/VarHandle" := by decide +kernel
theorem mnX18_ask : (parseMethodDescriptor yX18_ask.desc).map (fun d => d.parameters.length) = some 4 := by decide +kernel
abbrev mX18_judge : MI := (yX18_judge, cX18_judge, 3, (some FieldType.int), [])
theorem mqX18_judge : mW mX18_judge ∈ lw_all := q1030
theorem mhX18_judge : yX18_judge.cls ≠ "java/lang/invoke/MethodHandle" ∧ yX18_judge.cls ≠ "java/lang/invoke/VarHandle" := by decide +kernel
theorem mnX18_judge : (parseMethodDescriptor yX18_judge.desc).map (fun d => d.parameters.length) = some 2 := by decide +kernel
abbrev mX18_work : MI := (yX18_work, cX18_work, 3, (some FieldType.int), [])
theorem mqX18_work : mW mX18_work ∈ lw_all := q1396
theorem mhX18_work : yX18_work.cls ≠ "java/lang/invoke/MethodHandle" ∧ yX18_work.cls ≠ "java/lang/invoke/VarHandle" := by decide +kernel
theorem mnX18_work : (parseMethodDescriptor yX18_work.desc).map (fun d => d.parameters.length) = some 2 := by decide +kernel
abbrev mX14_init : MI := (yX14_init, cX14_init, 3, none, [])
theorem mqX14_init : mW mX14_init ∈ lw_all := q875
theorem mhX14_init : yX14_init.cls ≠ "java/lang/invoke/MethodHandle" ∧ yX14_init.cls ≠ "java/lang/invoke/VarHandle" := by decide +kernel
theorem mnX14_init : (parseMethodDescriptor yX14_init.desc).map (fun d => d.parameters.length) = some 2 := by decide +kernel
abbrev mX14_ask : MI := (yX14_ask, cX14_ask, 5, none, [])
theorem mqX14_ask : mW mX14_ask ∈ lw_all := q1226
theorem mhX14_ask : yX14_ask.cls ≠ "java/lang/invoke/MethodHandle" ∧ yX14_ask.cls ≠ "java/lang/invoke/VarHandle" := by decide +kernel
theorem mnX14_ask : (parseMethodDescriptor yX14_ask.desc).map (fun d => d.parameters.length) = some 4 := by decide +kernel
abbrev mX14_judge : MI := (yX14_judge, cX14_judge, 3, (some FieldType.int), [])
theorem mqX14_judge : mW mX14_judge ∈ lw_all := q1037
theorem mhX14_judge : yX14_judge.cls ≠ "java/lang/invoke/MethodHandle" ∧ yX14_judge.cls ≠ "java/lang/invoke/VarHandle" := by decide +kernel
theorem mnX14_judge : (parseMethodDescriptor yX14_judge.desc).map (fun d => d.parameters.length) = some 2 := by decide +kernel
abbrev mX14_work : MI := (yX14_work, cX14_work, 3, (some FieldType.int), [])
theorem mqX14_work : mW mX14_work ∈ lw_all := q1403
theorem mhX14_work : yX14_work.cls ≠ "java/lang/invoke/MethodHandle" ∧ yX14_work.cls ≠ "java/lang/invoke/VarHandle" := by decide +kernel
theorem mnX14_work : (parseMethodDescriptor yX14_work.desc).map (fun d => d.parameters.length) = some 2 := by decide +kernel
abbrev mX16_init : MI := (yX16_init, cX16_init, 4, none, [])
theorem mqX16_init : mW mX16_init ∈ lw_all := q900
theorem mhX16_init : yX16_init.cls ≠ "java/lang/invoke/MethodHandle" ∧ yX16_init.cls ≠ "java/lang/invoke/VarHandle" := by decide +kernel
theorem mnX16_init : (parseMethodDescriptor yX16_init.desc).map (fun d => d.parameters.length) = some 3 := by decide +kernel
abbrev mX16_ask : MI := (yX16_ask, cX16_ask, 5, none, [])
theorem mqX16_ask : mW mX16_ask ∈ lw_all := q1228
theorem mhX16_ask : yX16_ask.cls ≠ "java/lang/invoke/MethodHandle" ∧ yX16_ask.cls ≠ "java/lang/invoke/VarHandle" := by decide +kernel
theorem mnX16_ask : (parseMethodDescriptor yX16_ask.desc).map (fun d => d.parameters.length) = some 4 := by decide +kernel
abbrev mX16_judge : MI := (yX16_judge, cX16_judge, 5, (some FieldType.int), [])
theorem mqX16_judge : mW mX16_judge ∈ lw_all := q1040
theorem mhX16_judge : yX16_judge.cls ≠ "java/lang/invoke/MethodHandle" ∧ yX16_judge.cls ≠ "java/lang/invoke/VarHandle" := by decide +kernel
theorem mnX16_judge : (parseMethodDescriptor yX16_judge.desc).map (fun d => d.parameters.length) = some 2 := by decide +kernel
abbrev mX16_work : MI := (yX16_work, cX16_work, 4, (some FieldType.int), [])
theorem mqX16_work : mW mX16_work ∈ lw_all := q1406
theorem mhX16_work : yX16_work.cls ≠ "java/lang/invoke/MethodHandle" ∧ yX16_work.cls ≠ "java/lang/invoke/VarHandle" := by decide +kernel
theorem mnX16_work : (parseMethodDescriptor yX16_work.desc).map (fun d => d.parameters.length) = some 2 := by decide +kernel
abbrev mX3_init : MI := (yX3_init, cX3_init, 2, none, [])
theorem mqX3_init : mW mX3_init ∈ lw_all := q176
theorem mhX3_init : yX3_init.cls ≠ "java/lang/invoke/MethodHandle" ∧ yX3_init.cls ≠ "java/lang/invoke/VarHandle" := by decide +kernel
theorem mnX3_init : (parseMethodDescriptor yX3_init.desc).map (fun d => d.parameters.length) = some 1 := by decide +kernel
abbrev mX3_argument : MI := (yX3_argument, cX3_argument, 3, none, [])
theorem mqX3_argument : mW mX3_argument ∈ lw_all := q939
theorem mhX3_argument : yX3_argument.cls ≠ "java/lang/invoke/MethodHandle" ∧ yX3_argument.cls ≠ "java/lang/invoke/VarHandle" := by decide +kernel
theorem mnX3_argument : (parseMethodDescriptor yX3_argument.desc).map (fun d => d.parameters.length) = some 1 := by decide +kernel
abbrev mX3_atom : MI := (yX3_atom, cX3_atom, 3, (some (FieldType.object "StrictProofs$Expression")), [])
theorem mqX3_atom : mW mX3_atom ∈ lw_all := q870
theorem mhX3_atom : yX3_atom.cls ≠ "java/lang/invoke/MethodHandle" ∧ yX3_atom.cls ≠ "java/lang/invoke/VarHandle" := by decide +kernel
theorem mnX3_atom : (parseMethodDescriptor yX3_atom.desc).map (fun d => d.parameters.length) = some 0 := by decide +kernel
abbrev mX3_begins : MI := (yX3_begins, cX3_begins, 1, (some FieldType.boolean), [])
theorem mqX3_begins : mW mX3_begins ∈ lw_all := q770
theorem mhX3_begins : yX3_begins.cls ≠ "java/lang/invoke/MethodHandle" ∧ yX3_begins.cls ≠ "java/lang/invoke/VarHandle" := by decide +kernel
theorem mnX3_begins : (parseMethodDescriptor yX3_begins.desc).map (fun d => d.parameters.length) = some 0 := by decide +kernel
abbrev mX3_brackets : MI := (yX3_brackets, cX3_brackets, 3, (some (FieldType.object "StrictProofs$Expression")), [])
theorem mqX3_brackets : mW mX3_brackets ∈ lw_all := q895
theorem mhX3_brackets : yX3_brackets.cls ≠ "java/lang/invoke/MethodHandle" ∧ yX3_brackets.cls ≠ "java/lang/invoke/VarHandle" := by decide +kernel
theorem mnX3_brackets : (parseMethodDescriptor yX3_brackets.desc).map (fun d => d.parameters.length) = some 1 := by decide +kernel
abbrev mX3_call : MI := (yX3_call, cX3_call, 3, (some (FieldType.object "StrictProofs$Expression")), [])
theorem mqX3_call : mW mX3_call ∈ lw_all := q914
theorem mhX3_call : yX3_call.cls ≠ "java/lang/invoke/MethodHandle" ∧ yX3_call.cls ≠ "java/lang/invoke/VarHandle" := by decide +kernel
theorem mnX3_call : (parseMethodDescriptor yX3_call.desc).map (fun d => d.parameters.length) = some 1 := by decide +kernel
abbrev mX3_compared : MI := (yX3_compared, cX3_compared, 3, (some (FieldType.object "StrictProofs$Expression")), [])
theorem mqX3_compared : mW mX3_compared ∈ lw_all := q858
theorem mhX3_compared : yX3_compared.cls ≠ "java/lang/invoke/MethodHandle" ∧ yX3_compared.cls ≠ "java/lang/invoke/VarHandle" := by decide +kernel
theorem mnX3_compared : (parseMethodDescriptor yX3_compared.desc).map (fun d => d.parameters.length) = some 0 := by decide +kernel
abbrev mX3_expression : MI := (yX3_expression, cX3_expression, 2, (some (FieldType.object "StrictProofs$Expression")), [])
theorem mqX3_expression : mW mX3_expression ∈ lw_all := q766
theorem mhX3_expression : yX3_expression.cls ≠ "java/lang/invoke/MethodHandle" ∧ yX3_expression.cls ≠ "java/lang/invoke/VarHandle" := by decide +kernel
theorem mnX3_expression : (parseMethodDescriptor yX3_expression.desc).map (fun d => d.parameters.length) = some 0 := by decide +kernel
abbrev mX3_function : MI := (yX3_function, cX3_function, 2, none, [])
theorem mqX3_function : mW mX3_function ∈ lw_all := q569
theorem mhX3_function : yX3_function.cls ≠ "java/lang/invoke/MethodHandle" ∧ yX3_function.cls ≠ "java/lang/invoke/VarHandle" := by decide +kernel
theorem mnX3_function : (parseMethodDescriptor yX3_function.desc).map (fun d => d.parameters.length) = some 0 := by decide +kernel
abbrev mX3_let : MI := (yX3_let, cX3_let, 4, (some (FieldType.object "StrictProofs$Expression")), [])
theorem mqX3_let : mW mX3_let ∈ lw_all := q774
theorem mhX3_let : yX3_let.cls ≠ "java/lang/invoke/MethodHandle" ∧ yX3_let.cls ≠ "java/lang/invoke/VarHandle" := by decide +kernel
theorem mnX3_let : (parseMethodDescriptor yX3_let.desc).map (fun d => d.parameters.length) = some 0 := by decide +kernel
abbrev mX3_name : MI := (yX3_name, cX3_name, 2, (some FieldType.int), [])
theorem mqX3_name : mW mX3_name ∈ lw_all := q722
theorem mhX3_name : yX3_name.cls ≠ "java/lang/invoke/MethodHandle" ∧ yX3_name.cls ≠ "java/lang/invoke/VarHandle" := by decide +kernel
theorem mnX3_name : (parseMethodDescriptor yX3_name.desc).map (fun d => d.parameters.length) = some 0 := by decide +kernel
abbrev mX3_ofCase : MI := (yX3_ofCase, cX3_ofCase, 5, (some (FieldType.object "StrictProofs$Expression")), [])
theorem mqX3_ofCase : mW mX3_ofCase ∈ lw_all := q814
theorem mhX3_ofCase : yX3_ofCase.cls ≠ "java/lang/invoke/MethodHandle" ∧ yX3_ofCase.cls ≠ "java/lang/invoke/VarHandle" := by decide +kernel
theorem mnX3_ofCase : (parseMethodDescriptor yX3_ofCase.desc).map (fun d => d.parameters.length) = some 0 := by decide +kernel
abbrev mX3_ofIf : MI := (yX3_ofIf, cX3_ofIf, 4, (some (FieldType.object "StrictProofs$Expression")), [])
theorem mqX3_ofIf : mW mX3_ofIf ∈ lw_all := q836
theorem mhX3_ofIf : yX3_ofIf.cls ≠ "java/lang/invoke/MethodHandle" ∧ yX3_ofIf.cls ≠ "java/lang/invoke/VarHandle" := by decide +kernel
theorem mnX3_ofIf : (parseMethodDescriptor yX3_ofIf.desc).map (fun d => d.parameters.length) = some 0 := by decide +kernel
abbrev mX3_param : MI := (yX3_param, cX3_param, 2, none, [])
theorem mqX3_param : mW mX3_param ∈ lw_all := q742
theorem mhX3_param : yX3_param.cls ≠ "java/lang/invoke/MethodHandle" ∧ yX3_param.cls ≠ "java/lang/invoke/VarHandle" := by decide +kernel
theorem mnX3_param : (parseMethodDescriptor yX3_param.desc).map (fun d => d.parameters.length) = some 0 := by decide +kernel
abbrev mX3_product : MI := (yX3_product, cX3_product, 2, (some (FieldType.object "StrictProofs$Expression")), [])
theorem mqX3_product : mW mX3_product ∈ lw_all := q866
theorem mhX3_product : yX3_product.cls ≠ "java/lang/invoke/MethodHandle" ∧ yX3_product.cls ≠ "java/lang/invoke/VarHandle" := by decide +kernel
theorem mnX3_product : (parseMethodDescriptor yX3_product.desc).map (fun d => d.parameters.length) = some 0 := by decide +kernel
abbrev mX3_program : MI := (yX3_program, cX3_program, 1, none, [])
theorem mqX3_program : mW mX3_program ∈ lw_all := q430
theorem mhX3_program : yX3_program.cls ≠ "java/lang/invoke/MethodHandle" ∧ yX3_program.cls ≠ "java/lang/invoke/VarHandle" := by decide +kernel
theorem mnX3_program : (parseMethodDescriptor yX3_program.desc).map (fun d => d.parameters.length) = some 0 := by decide +kernel
abbrev mX3_slot : MI := (yX3_slot, cX3_slot, 1, (some FieldType.int), [])
theorem mqX3_slot : mW mX3_slot ∈ lw_all := q746
theorem mhX3_slot : yX3_slot.cls ≠ "java/lang/invoke/MethodHandle" ∧ yX3_slot.cls ≠ "java/lang/invoke/VarHandle" := by decide +kernel
theorem mnX3_slot : (parseMethodDescriptor yX3_slot.desc).map (fun d => d.parameters.length) = some 0 := by decide +kernel
abbrev mX3_sum : MI := (yX3_sum, cX3_sum, 3, (some (FieldType.object "StrictProofs$Expression")), [])
theorem mqX3_sum : mW mX3_sum ∈ lw_all := q862
theorem mhX3_sum : yX3_sum.cls ≠ "java/lang/invoke/MethodHandle" ∧ yX3_sum.cls ≠ "java/lang/invoke/VarHandle" := by decide +kernel
theorem mnX3_sum : (parseMethodDescriptor yX3_sum.desc).map (fun d => d.parameters.length) = some 0 := by decide +kernel
abbrev mX3_type : MI := (yX3_type, cX3_type, 4, (some FieldType.int), [])
theorem mqX3_type : mW mX3_type ∈ lw_all := q750
theorem mhX3_type : yX3_type.cls ≠ "java/lang/invoke/MethodHandle" ∧ yX3_type.cls ≠ "java/lang/invoke/VarHandle" := by decide +kernel
theorem mnX3_type : (parseMethodDescriptor yX3_type.desc).map (fun d => d.parameters.length) = some 1 := by decide +kernel
abbrev mX6_init : MI := (yX6_init, cX6_init, 1, none, [])
theorem mqX6_init : mW mX6_init ∈ lw_all := q237
theorem mhX6_init : yX6_init.cls ≠ "java/lang/invoke/MethodHandle" ∧ yX6_init.cls ≠ "java/lang/invoke/VarHandle" := by decide +kernel
theorem mnX6_init : (parseMethodDescriptor yX6_init.desc).map (fun d => d.parameters.length) = some 0 := by decide +kernel
abbrev mX6_add : MI := (yX6_add, cX6_add, 4, none, [])
theorem mqX6_add : mW mX6_add ∈ lw_all := q1208
theorem mhX6_add : yX6_add.cls ≠ "java/lang/invoke/MethodHandle" ∧ yX6_add.cls ≠ "java/lang/invoke/VarHandle" := by decide +kernel
theorem mnX6_add : (parseMethodDescriptor yX6_add.desc).map (fun d => d.parameters.length) = some 3 := by decide +kernel
abbrev mX6_addEither : MI := (yX6_addEither, cX6_addEither, 6, none, [])
theorem mqX6_addEither : mW mX6_addEither ∈ lw_all := q1242
theorem mhX6_addEither : yX6_addEither.cls ≠ "java/lang/invoke/MethodHandle" ∧ yX6_addEither.cls ≠ "java/lang/invoke/VarHandle" := by decide +kernel
theorem mnX6_addEither : (parseMethodDescriptor yX6_addEither.desc).map (fun d => d.parameters.length) = some 4 := by decide +kernel
abbrev mX6_clear : MI := (yX6_clear, cX6_clear, 2, none, [])
theorem mqX6_clear : mW mX6_clear ∈ lw_all := q1184
theorem mhX6_clear : yX6_clear.cls ≠ "java/lang/invoke/MethodHandle" ∧ yX6_clear.cls ≠ "java/lang/invoke/VarHandle" := by decide +kernel
theorem mnX6_clear : (parseMethodDescriptor yX6_clear.desc).map (fun d => d.parameters.length) = some 0 := by decide +kernel
abbrev mX19_init : MI := (yX19_init, cX19_init, 4, none, [])
theorem mqX19_init : mW mX19_init ∈ lw_all := q956
theorem mhX19_init : yX19_init.cls ≠ "java/lang/invoke/MethodHandle" ∧ yX19_init.cls ≠ "java/lang/invoke/VarHandle" := by decide +kernel
theorem mnX19_init : (parseMethodDescriptor yX19_init.desc).map (fun d => d.parameters.length) = some 3 := by decide +kernel
abbrev mX19_ask : MI := (yX19_ask, cX19_ask, 5, none, [])
theorem mqX19_ask : mW mX19_ask ∈ lw_all := q1232
theorem mhX19_ask : yX19_ask.cls ≠ "java/lang/invoke/MethodHandle" ∧ yX19_ask.cls ≠ "java/lang/invoke/VarHandle" := by decide +kernel
theorem mnX19_ask : (parseMethodDescriptor yX19_ask.desc).map (fun d => d.parameters.length) = some 4 := by decide +kernel
abbrev mX19_judge : MI := (yX19_judge, cX19_judge, 3, (some FieldType.int), [])
theorem mqX19_judge : mW mX19_judge ∈ lw_all := q1047
theorem mhX19_judge : yX19_judge.cls ≠ "java/lang/invoke/MethodHandle" ∧ yX19_judge.cls ≠ "java/lang/invoke/VarHandle" := by decide +kernel
theorem mnX19_judge : (parseMethodDescriptor yX19_judge.desc).map (fun d => d.parameters.length) = some 2 := by decide +kernel
abbrev mX19_work : MI := (yX19_work, cX19_work, 5, (some FieldType.int), [])
theorem mqX19_work : mW mX19_work ∈ lw_all := q1414
theorem mhX19_work : yX19_work.cls ≠ "java/lang/invoke/MethodHandle" ∧ yX19_work.cls ≠ "java/lang/invoke/VarHandle" := by decide +kernel
theorem mnX19_work : (parseMethodDescriptor yX19_work.desc).map (fun d => d.parameters.length) = some 2 := by decide +kernel
abbrev mX2_init : MI := (yX2_init, cX2_init, 1, none, [])
theorem mqX2_init : mW mX2_init ∈ lw_all := q126
theorem mhX2_init : yX2_init.cls ≠ "java/lang/invoke/MethodHandle" ∧ yX2_init.cls ≠ "java/lang/invoke/VarHandle" := by decide +kernel
theorem mnX2_init : (parseMethodDescriptor yX2_init.desc).map (fun d => d.parameters.length) = some 0 := by decide +kernel
abbrev mX2_begin : MI := (yX2_begin, cX2_begin, 1, none, [])
theorem mqX2_begin : mW mX2_begin ∈ lw_all := q434
theorem mhX2_begin : yX2_begin.cls ≠ "java/lang/invoke/MethodHandle" ∧ yX2_begin.cls ≠ "java/lang/invoke/VarHandle" := by decide +kernel
theorem mnX2_begin : (parseMethodDescriptor yX2_begin.desc).map (fun d => d.parameters.length) = some 0 := by decide +kernel
abbrev mX2_byteAt : MI := (yX2_byteAt, cX2_byteAt, 2, (some FieldType.int), [])
theorem mqX2_byteAt : mW mX2_byteAt ∈ lw_all := q442
theorem mhX2_byteAt : yX2_byteAt.cls ≠ "java/lang/invoke/MethodHandle" ∧ yX2_byteAt.cls ≠ "java/lang/invoke/VarHandle" := by decide +kernel
theorem mnX2_byteAt : (parseMethodDescriptor yX2_byteAt.desc).map (fun d => d.parameters.length) = some 1 := by decide +kernel
abbrev mX2_isDigit : MI := (yX2_isDigit, cX2_isDigit, 1, (some FieldType.boolean), [])
theorem mqX2_isDigit : mW mX2_isDigit ∈ lw_all := q448
theorem mhX2_isDigit : yX2_isDigit.cls ≠ "java/lang/invoke/MethodHandle" ∧ yX2_isDigit.cls ≠ "java/lang/invoke/VarHandle" := by decide +kernel
theorem mnX2_isDigit : (parseMethodDescriptor yX2_isDigit.desc).map (fun d => d.parameters.length) = some 1 := by decide +kernel
abbrev mX2_isLetter : MI := (yX2_isLetter, cX2_isLetter, 1, (some FieldType.boolean), [])
theorem mqX2_isLetter : mW mX2_isLetter ∈ lw_all := q445
theorem mhX2_isLetter : yX2_isLetter.cls ≠ "java/lang/invoke/MethodHandle" ∧ yX2_isLetter.cls ≠ "java/lang/invoke/VarHandle" := by decide +kernel
theorem mnX2_isLetter : (parseMethodDescriptor yX2_isLetter.desc).map (fun d => d.parameters.length) = some 1 := by decide +kernel
abbrev mX2_isSign : MI := (yX2_isSign, cX2_isSign, 2, (some FieldType.boolean), [])
theorem mqX2_isSign : mW mX2_isSign ∈ lw_all := q735
theorem mhX2_isSign : yX2_isSign.cls ≠ "java/lang/invoke/MethodHandle" ∧ yX2_isSign.cls ≠ "java/lang/invoke/VarHandle" := by decide +kernel
theorem mnX2_isSign : (parseMethodDescriptor yX2_isSign.desc).map (fun d => d.parameters.length) = some 1 := by decide +kernel
abbrev mX2_isWord : MI := (yX2_isWord, cX2_isWord, 2, (some FieldType.boolean), [])
theorem mqX2_isWord : mW mX2_isWord ∈ lw_all := q754
theorem mhX2_isWord : yX2_isWord.cls ≠ "java/lang/invoke/MethodHandle" ∧ yX2_isWord.cls ≠ "java/lang/invoke/VarHandle" := by decide +kernel
theorem mnX2_isWord : (parseMethodDescriptor yX2_isWord.desc).map (fun d => d.parameters.length) = some 1 := by decide +kernel
abbrev mX2_next : MI := (yX2_next, cX2_next, 2, none, [])
theorem mqX2_next : mW mX2_next ∈ lw_all := q438
theorem mhX2_next : yX2_next.cls ≠ "java/lang/invoke/MethodHandle" ∧ yX2_next.cls ≠ "java/lang/invoke/VarHandle" := by decide +kernel
theorem mnX2_next : (parseMethodDescriptor yX2_next.desc).map (fun d => d.parameters.length) = some 0 := by decide +kernel
abbrev mX2_room : MI := (yX2_room, cX2_room, 1, none, [])
theorem mqX2_room : mW mX2_room ∈ lw_all := q726
theorem mhX2_room : yX2_room.cls ≠ "java/lang/invoke/MethodHandle" ∧ yX2_room.cls ≠ "java/lang/invoke/VarHandle" := by decide +kernel
theorem mnX2_room : (parseMethodDescriptor yX2_room.desc).map (fun d => d.parameters.length) = some 0 := by decide +kernel
abbrev mX2_same : MI := (yX2_same, cX2_same, 5, (some FieldType.boolean), [])
theorem mqX2_same : mW mX2_same ∈ lw_all := q653
theorem mhX2_same : yX2_same.cls ≠ "java/lang/invoke/MethodHandle" ∧ yX2_same.cls ≠ "java/lang/invoke/VarHandle" := by decide +kernel
theorem mnX2_same : (parseMethodDescriptor yX2_same.desc).map (fun d => d.parameters.length) = some 2 := by decide +kernel
abbrev mX2_sign : MI := (yX2_sign, cX2_sign, 2, none, [])
theorem mqX2_sign : mW mX2_sign ∈ lw_all := q731
theorem mhX2_sign : yX2_sign.cls ≠ "java/lang/invoke/MethodHandle" ∧ yX2_sign.cls ≠ "java/lang/invoke/VarHandle" := by decide +kernel
theorem mnX2_sign : (parseMethodDescriptor yX2_sign.desc).map (fun d => d.parameters.length) = some 1 := by decide +kernel
abbrev mX2_stands : MI := (yX2_stands, cX2_stands, 2, none, [])
theorem mqX2_stands : mW mX2_stands ∈ lw_all := q573
theorem mhX2_stands : yX2_stands.cls ≠ "java/lang/invoke/MethodHandle" ∧ yX2_stands.cls ≠ "java/lang/invoke/VarHandle" := by decide +kernel
theorem mnX2_stands : (parseMethodDescriptor yX2_stands.desc).map (fun d => d.parameters.length) = some 1 := by decide +kernel
abbrev mX2_token : MI := (yX2_token, cX2_token, 1, (some FieldType.int), [])
theorem mqX2_token : mW mX2_token ∈ lw_all := q649
theorem mhX2_token : yX2_token.cls ≠ "java/lang/invoke/MethodHandle" ∧ yX2_token.cls ≠ "java/lang/invoke/VarHandle" := by decide +kernel
theorem mnX2_token : (parseMethodDescriptor yX2_token.desc).map (fun d => d.parameters.length) = some 0 := by decide +kernel
abbrev mX2_want : MI := (yX2_want, cX2_want, 4, none, [])
theorem mqX2_want : mW mX2_want ∈ lw_all := q577
theorem mhX2_want : yX2_want.cls ≠ "java/lang/invoke/MethodHandle" ∧ yX2_want.cls ≠ "java/lang/invoke/VarHandle" := by decide +kernel
theorem mnX2_want : (parseMethodDescriptor yX2_want.desc).map (fun d => d.parameters.length) = some 3 := by decide +kernel
abbrev mX2_word : MI := (yX2_word, cX2_word, 4, none, [])
theorem mqX2_word : mW mX2_word ∈ lw_all := q452
theorem mhX2_word : yX2_word.cls ≠ "java/lang/invoke/MethodHandle" ∧ yX2_word.cls ≠ "java/lang/invoke/VarHandle" := by decide +kernel
theorem mnX2_word : (parseMethodDescriptor yX2_word.desc).map (fun d => d.parameters.length) = some 0 := by decide +kernel
abbrev mX2_word_2 : MI := (yX2_word_2, cX2_word_2, 2, none, [])
theorem mqX2_word_2 : mW mX2_word_2 ∈ lw_all := q758
theorem mhX2_word_2 : yX2_word_2.cls ≠ "java/lang/invoke/MethodHandle" ∧ yX2_word_2.cls ≠ "java/lang/invoke/VarHandle" := by decide +kernel
theorem mnX2_word_2 : (parseMethodDescriptor yX2_word_2.desc).map (fun d => d.parameters.length) = some 1 := by decide +kernel
abbrev mX2_wordOf : MI := (yX2_wordOf, cX2_wordOf, 7, (some FieldType.int), [])
theorem mqX2_wordOf : mW mX2_wordOf ∈ lw_all := q456
theorem mhX2_wordOf : yX2_wordOf.cls ≠ "java/lang/invoke/MethodHandle" ∧ yX2_wordOf.cls ≠ "java/lang/invoke/VarHandle" := by decide +kernel
theorem mnX2_wordOf : (parseMethodDescriptor yX2_wordOf.desc).map (fun d => d.parameters.length) = some 1 := by decide +kernel
abbrev mX0_asks : MI := (yX0_asks, cX0_asks, 6, (some FieldType.int), [(0, 12, 15, 13), (0, 12, 19, 25)])
theorem mqX0_asks : mW mX0_asks ∈ lw_all := q1278
theorem mhX0_asks : yX0_asks.cls ≠ "java/lang/invoke/MethodHandle" ∧ yX0_asks.cls ≠ "java/lang/invoke/VarHandle" := by decide +kernel
theorem mnX0_asks : (parseMethodDescriptor yX0_asks.desc).map (fun d => d.parameters.length) = some 5 := by decide +kernel
abbrev mX0_check : MI := (yX0_check, cX0_check, 3, (some FieldType.int), [(0, 8, 11, 13)])
theorem mqX0_check : mW mX0_check ∈ lw_all := q1300
theorem mhX0_check : yX0_check.cls ≠ "java/lang/invoke/MethodHandle" ∧ yX0_check.cls ≠ "java/lang/invoke/VarHandle" := by decide +kernel
theorem mnX0_check : (parseMethodDescriptor yX0_check.desc).map (fun d => d.parameters.length) = some 2 := by decide +kernel
abbrev mX0_cut : MI := (yX0_cut, cX0_cut, 4, (some FieldType.int), [(0, 9, 12, 19)])
theorem mqX0_cut : mW mX0_cut ∈ lw_all := q1084
theorem mhX0_cut : yX0_cut.cls ≠ "java/lang/invoke/MethodHandle" ∧ yX0_cut.cls ≠ "java/lang/invoke/VarHandle" := by decide +kernel
theorem mnX0_cut : (parseMethodDescriptor yX0_cut.desc).map (fun d => d.parameters.length) = some 3 := by decide +kernel
abbrev mX0_dead : MI := (yX0_dead, cX0_dead, 5, (some FieldType.int), [(0, 17, 20, 13), (0, 17, 24, 25)])
theorem mqX0_dead : mW mX0_dead ∈ lw_all := q1267
theorem mhX0_dead : yX0_dead.cls ≠ "java/lang/invoke/MethodHandle" ∧ yX0_dead.cls ≠ "java/lang/invoke/VarHandle" := by decide +kernel
theorem mnX0_dead : (parseMethodDescriptor yX0_dead.desc).map (fun d => d.parameters.length) = some 4 := by decide +kernel
abbrev mX0_feed : MI := (yX0_feed, cX0_feed, 8, (some FieldType.int), [(0, 16, 19, 13)])
theorem mqX0_feed : mW mX0_feed ∈ lw_all := q1059
theorem mhX0_feed : yX0_feed.cls ≠ "java/lang/invoke/MethodHandle" ∧ yX0_feed.cls ≠ "java/lang/invoke/VarHandle" := by decide +kernel
theorem mnX0_feed : (parseMethodDescriptor yX0_feed.desc).map (fun d => d.parameters.length) = some 7 := by decide +kernel
abbrev mX0_function : MI := (yX0_function, cX0_function, 5, (some FieldType.int), [(0, 10, 13, 25)])
theorem mqX0_function : mW mX0_function ∈ lw_all := q1110
theorem mhX0_function : yX0_function.cls ≠ "java/lang/invoke/MethodHandle" ∧ yX0_function.cls ≠ "java/lang/invoke/VarHandle" := by decide +kernel
theorem mnX0_function : (parseMethodDescriptor yX0_function.desc).map (fun d => d.parameters.length) = some 4 := by decide +kernel
abbrev mX0_input : MI := (yX0_input, cX0_input, 5, (some FieldType.int), [(0, 10, 13, 19), (0, 10, 17, 13)])
theorem mqX0_input : mW mX0_input ∈ lw_all := q1307
theorem mhX0_input : yX0_input.cls ≠ "java/lang/invoke/MethodHandle" ∧ yX0_input.cls ≠ "java/lang/invoke/VarHandle" := by decide +kernel
theorem mnX0_input : (parseMethodDescriptor yX0_input.desc).map (fun d => d.parameters.length) = some 4 := by decide +kernel
abbrev mX0_needed : MI := (yX0_needed, cX0_needed, 4, (some FieldType.int), [(0, 16, 19, 25)])
theorem mqX0_needed : mW mX0_needed ∈ lw_all := q1447
theorem mhX0_needed : yX0_needed.cls ≠ "java/lang/invoke/MethodHandle" ∧ yX0_needed.cls ≠ "java/lang/invoke/VarHandle" := by decide +kernel
theorem mnX0_needed : (parseMethodDescriptor yX0_needed.desc).map (fun d => d.parameters.length) = some 3 := by decide +kernel
abbrev mX0_plant : MI := (yX0_plant, cX0_plant, 7, (some FieldType.int), [(0, 14, 17, 13), (0, 14, 21, 25), (0, 14, 25, 19)])
theorem mqX0_plant : mW mX0_plant ∈ lw_all := q1293
theorem mhX0_plant : yX0_plant.cls ≠ "java/lang/invoke/MethodHandle" ∧ yX0_plant.cls ≠ "java/lang/invoke/VarHandle" := by decide +kernel
theorem mnX0_plant : (parseMethodDescriptor yX0_plant.desc).map (fun d => d.parameters.length) = some 6 := by decide +kernel
abbrev mX0_result : MI := (yX0_result, cX0_result, 4, (some FieldType.int), [(0, 9, 12, 25)])
theorem mqX0_result : mW mX0_result ∈ lw_all := q1436
theorem mhX0_result : yX0_result.cls ≠ "java/lang/invoke/MethodHandle" ∧ yX0_result.cls ≠ "java/lang/invoke/VarHandle" := by decide +kernel
theorem mnX0_result : (parseMethodDescriptor yX0_result.desc).map (fun d => d.parameters.length) = some 3 := by decide +kernel
abbrev mX0_rounds : MI := (yX0_rounds, cX0_rounds, 3, (some FieldType.int), [(0, 8, 11, 13)])
theorem mqX0_rounds : mW mX0_rounds ∈ lw_all := q1168
theorem mhX0_rounds : yX0_rounds.cls ≠ "java/lang/invoke/MethodHandle" ∧ yX0_rounds.cls ≠ "java/lang/invoke/VarHandle" := by decide +kernel
theorem mnX0_rounds : (parseMethodDescriptor yX0_rounds.desc).map (fun d => d.parameters.length) = some 2 := by decide +kernel
abbrev mX0_run : MI := (yX0_run, cX0_run, 6, (some FieldType.int), [(0, 12, 15, 13), (0, 12, 19, 25), (0, 12, 23, 19)])
theorem mqX0_run : mW mX0_run ∈ lw_all := q1314
theorem mhX0_run : yX0_run.cls ≠ "java/lang/invoke/MethodHandle" ∧ yX0_run.cls ≠ "java/lang/invoke/VarHandle" := by decide +kernel
theorem mnX0_run : (parseMethodDescriptor yX0_run.desc).map (fun d => d.parameters.length) = some 5 := by decide +kernel
abbrev mX0_strict : MI := (yX0_strict, cX0_strict, 5, (some FieldType.int), [(0, 17, 20, 13), (0, 17, 24, 25)])
theorem mqX0_strict : mW mX0_strict ∈ lw_all := q1285
theorem mhX0_strict : yX0_strict.cls ≠ "java/lang/invoke/MethodHandle" ∧ yX0_strict.cls ≠ "java/lang/invoke/VarHandle" := by decide +kernel
theorem mnX0_strict : (parseMethodDescriptor yX0_strict.desc).map (fun d => d.parameters.length) = some 4 := by decide +kernel
abbrev mX0_told : MI := (yX0_told, cX0_told, 4, (some FieldType.int), [(0, 9, 12, 25)])
theorem mqX0_told : mW mX0_told ∈ lw_all := q1429
theorem mhX0_told : yX0_told.cls ≠ "java/lang/invoke/MethodHandle" ∧ yX0_told.cls ≠ "java/lang/invoke/VarHandle" := by decide +kernel
theorem mnX0_told : (parseMethodDescriptor yX0_told.desc).map (fun d => d.parameters.length) = some 3 := by decide +kernel
abbrev mX8_init : MI := (yX8_init, cX8_init, 1, none, [])
theorem mqX8_init : mW mX8_init ∈ lw_all := q1456
theorem mhX8_init : yX8_init.cls ≠ "java/lang/invoke/MethodHandle" ∧ yX8_init.cls ≠ "java/lang/invoke/VarHandle" := by decide +kernel
theorem mnX8_init : (parseMethodDescriptor yX8_init.desc).map (fun d => d.parameters.length) = some 0 := by decide +kernel
abbrev mX8_all : MI := (yX8_all, cX8_all, 3, (some FieldType.int), [])
theorem mqX8_all : mW mX8_all ∈ lw_all := q1939
theorem mhX8_all : yX8_all.cls ≠ "java/lang/invoke/MethodHandle" ∧ yX8_all.cls ≠ "java/lang/invoke/VarHandle" := by decide +kernel
theorem mnX8_all : (parseMethodDescriptor yX8_all.desc).map (fun d => d.parameters.length) = some 2 := by decide +kernel
abbrev mX8_asking : MI := (yX8_asking, cX8_asking, 5, none, [])
theorem mqX8_asking : mW mX8_asking ∈ lw_all := q1894
theorem mhX8_asking : yX8_asking.cls ≠ "java/lang/invoke/MethodHandle" ∧ yX8_asking.cls ≠ "java/lang/invoke/VarHandle" := by decide +kernel
theorem mnX8_asking : (parseMethodDescriptor yX8_asking.desc).map (fun d => d.parameters.length) = some 4 := by decide +kernel
abbrev mX8_asks : MI := (yX8_asks, cX8_asks, 9, (some FieldType.boolean), [])
theorem mqX8_asks : mW mX8_asks ∈ lw_all := q1890
theorem mhX8_asks : yX8_asks.cls ≠ "java/lang/invoke/MethodHandle" ∧ yX8_asks.cls ≠ "java/lang/invoke/VarHandle" := by decide +kernel
theorem mnX8_asks : (parseMethodDescriptor yX8_asks.desc).map (fun d => d.parameters.length) = some 2 := by decide +kernel
abbrev mX8_asks_2 : MI := (yX8_asks_2, cX8_asks_2, 4, (some FieldType.int), [])
theorem mqX8_asks_2 : mW mX8_asks_2 ∈ lw_all := q1927
theorem mhX8_asks_2 : yX8_asks_2.cls ≠ "java/lang/invoke/MethodHandle" ∧ yX8_asks_2.cls ≠ "java/lang/invoke/VarHandle" := by decide +kernel
theorem mnX8_asks_2 : (parseMethodDescriptor yX8_asks_2.desc).map (fun d => d.parameters.length) = some 3 := by decide +kernel
abbrev mX8_begins : MI := (yX8_begins, cX8_begins, 1, (some FieldType.boolean), [])
theorem mqX8_begins : mW mX8_begins ∈ lw_all := q1801
theorem mhX8_begins : yX8_begins.cls ≠ "java/lang/invoke/MethodHandle" ∧ yX8_begins.cls ≠ "java/lang/invoke/VarHandle" := by decide +kernel
theorem mnX8_begins : (parseMethodDescriptor yX8_begins.desc).map (fun d => d.parameters.length) = some 0 := by decide +kernel
abbrev mX8_behind : MI := (yX8_behind, cX8_behind, 6, (some FieldType.int), [])
theorem mqX8_behind : mW mX8_behind ∈ lw_all := q1968
theorem mhX8_behind : yX8_behind.cls ≠ "java/lang/invoke/MethodHandle" ∧ yX8_behind.cls ≠ "java/lang/invoke/VarHandle" := by decide +kernel
theorem mnX8_behind : (parseMethodDescriptor yX8_behind.desc).map (fun d => d.parameters.length) = some 2 := by decide +kernel
abbrev mX8_called : MI := (yX8_called, cX8_called, 5, none, [])
theorem mqX8_called : mW mX8_called ∈ lw_all := q1997
theorem mhX8_called : yX8_called.cls ≠ "java/lang/invoke/MethodHandle" ∧ yX8_called.cls ≠ "java/lang/invoke/VarHandle" := by decide +kernel
theorem mnX8_called : (parseMethodDescriptor yX8_called.desc).map (fun d => d.parameters.length) = some 2 := by decide +kernel
abbrev mX8_check : MI := (yX8_check, cX8_check, 3, (some FieldType.int), [])
theorem mqX8_check : mW mX8_check ∈ lw_all := q1951
theorem mhX8_check : yX8_check.cls ≠ "java/lang/invoke/MethodHandle" ∧ yX8_check.cls ≠ "java/lang/invoke/VarHandle" := by decide +kernel
theorem mnX8_check : (parseMethodDescriptor yX8_check.desc).map (fun d => d.parameters.length) = some 0 := by decide +kernel
abbrev mX8_cut : MI := (yX8_cut, cX8_cut, 3, (some FieldType.int), [])
theorem mqX8_cut : mW mX8_cut ∈ lw_all := q1720
theorem mhX8_cut : yX8_cut.cls ≠ "java/lang/invoke/MethodHandle" ∧ yX8_cut.cls ≠ "java/lang/invoke/VarHandle" := by decide +kernel
theorem mnX8_cut : (parseMethodDescriptor yX8_cut.desc).map (fun d => d.parameters.length) = some 1 := by decide +kernel
abbrev mX8_dead : MI := (yX8_dead, cX8_dead, 3, (some FieldType.boolean), [])
theorem mqX8_dead : mW mX8_dead ∈ lw_all := q1919
theorem mhX8_dead : yX8_dead.cls ≠ "java/lang/invoke/MethodHandle" ∧ yX8_dead.cls ≠ "java/lang/invoke/VarHandle" := by decide +kernel
theorem mnX8_dead : (parseMethodDescriptor yX8_dead.desc).map (fun d => d.parameters.length) = some 2 := by decide +kernel
abbrev mX8_definition : MI := (yX8_definition, cX8_definition, 3, none, [])
theorem mqX8_definition : mW mX8_definition ∈ lw_all := q1758
theorem mhX8_definition : yX8_definition.cls ≠ "java/lang/invoke/MethodHandle" ∧ yX8_definition.cls ≠ "java/lang/invoke/VarHandle" := by decide +kernel
theorem mnX8_definition : (parseMethodDescriptor yX8_definition.desc).map (fun d => d.parameters.length) = some 0 := by decide +kernel
abbrev mX8_demand : MI := (yX8_demand, cX8_demand, 5, none, [])
theorem mqX8_demand : mW mX8_demand ∈ lw_all := q2005
theorem mhX8_demand : yX8_demand.cls ≠ "java/lang/invoke/MethodHandle" ∧ yX8_demand.cls ≠ "java/lang/invoke/VarHandle" := by decide +kernel
theorem mnX8_demand : (parseMethodDescriptor yX8_demand.desc).map (fun d => d.parameters.length) = some 2 := by decide +kernel
abbrev mX8_demands : MI := (yX8_demands, cX8_demands, 1, (some FieldType.int), [])
theorem mqX8_demands : mW mX8_demands ∈ lw_all := q1878
theorem mhX8_demands : yX8_demands.cls ≠ "java/lang/invoke/MethodHandle" ∧ yX8_demands.cls ≠ "java/lang/invoke/VarHandle" := by decide +kernel
theorem mnX8_demands : (parseMethodDescriptor yX8_demands.desc).map (fun d => d.parameters.length) = some 1 := by decide +kernel
abbrev mX8_feed : MI := (yX8_feed, cX8_feed, 8, (some FieldType.int), [])
theorem mqX8_feed : mW mX8_feed ∈ lw_all := q1716
theorem mhX8_feed : yX8_feed.cls ≠ "java/lang/invoke/MethodHandle" ∧ yX8_feed.cls ≠ "java/lang/invoke/VarHandle" := by decide +kernel
theorem mnX8_feed : (parseMethodDescriptor yX8_feed.desc).map (fun d => d.parameters.length) = some 5 := by decide +kernel
abbrev mX8_firstOf : MI := (yX8_firstOf, cX8_firstOf, 1, (some FieldType.int), [])
theorem mqX8_firstOf : mW mX8_firstOf ∈ lw_all := q1855
theorem mhX8_firstOf : yX8_firstOf.cls ≠ "java/lang/invoke/MethodHandle" ∧ yX8_firstOf.cls ≠ "java/lang/invoke/VarHandle" := by decide +kernel
theorem mnX8_firstOf : (parseMethodDescriptor yX8_firstOf.desc).map (fun d => d.parameters.length) = some 1 := by decide +kernel
abbrev mX8_function : MI := (yX8_function, cX8_function, 4, (some FieldType.int), [])
theorem mqX8_function : mW mX8_function ∈ lw_all := q1871
theorem mhX8_function : yX8_function.cls ≠ "java/lang/invoke/MethodHandle" ∧ yX8_function.cls ≠ "java/lang/invoke/VarHandle" := by decide +kernel
theorem mnX8_function : (parseMethodDescriptor yX8_function.desc).map (fun d => d.parameters.length) = some 2 := by decide +kernel
abbrev mX8_gives : MI := (yX8_gives, cX8_gives, 3, none, [])
theorem mqX8_gives : mW mX8_gives ∈ lw_all := q1985
theorem mhX8_gives : yX8_gives.cls ≠ "java/lang/invoke/MethodHandle" ∧ yX8_gives.cls ≠ "java/lang/invoke/VarHandle" := by decide +kernel
theorem mnX8_gives : (parseMethodDescriptor yX8_gives.desc).map (fun d => d.parameters.length) = some 2 := by decide +kernel
abbrev mX8_goes : MI := (yX8_goes, cX8_goes, 5, none, [])
theorem mqX8_goes : mW mX8_goes ∈ lw_all := q1977
theorem mhX8_goes : yX8_goes.cls ≠ "java/lang/invoke/MethodHandle" ∧ yX8_goes.cls ≠ "java/lang/invoke/VarHandle" := by decide +kernel
theorem mnX8_goes : (parseMethodDescriptor yX8_goes.desc).map (fun d => d.parameters.length) = some 0 := by decide +kernel
abbrev mX8_has : MI := (yX8_has, cX8_has, 4, (some FieldType.int), [])
theorem mqX8_has : mW mX8_has ∈ lw_all := q1935
theorem mhX8_has : yX8_has.cls ≠ "java/lang/invoke/MethodHandle" ∧ yX8_has.cls ≠ "java/lang/invoke/VarHandle" := by decide +kernel
theorem mnX8_has : (parseMethodDescriptor yX8_has.desc).map (fun d => d.parameters.length) = some 3 := by decide +kernel
abbrev mX8_input : MI := (yX8_input, cX8_input, 3, (some FieldType.int), [])
theorem mqX8_input : mW mX8_input ∈ lw_all := q1959
theorem mhX8_input : yX8_input.cls ≠ "java/lang/invoke/MethodHandle" ∧ yX8_input.cls ≠ "java/lang/invoke/VarHandle" := by decide +kernel
theorem mnX8_input : (parseMethodDescriptor yX8_input.desc).map (fun d => d.parameters.length) = some 2 := by decide +kernel
abbrev mX8_isDigit : MI := (yX8_isDigit, cX8_isDigit, 1, (some FieldType.boolean), [])
theorem mqX8_isDigit : mW mX8_isDigit ∈ lw_all := q1737
theorem mhX8_isDigit : yX8_isDigit.cls ≠ "java/lang/invoke/MethodHandle" ∧ yX8_isDigit.cls ≠ "java/lang/invoke/VarHandle" := by decide +kernel
theorem mnX8_isDigit : (parseMethodDescriptor yX8_isDigit.desc).map (fun d => d.parameters.length) = some 1 := by decide +kernel
abbrev mX8_isFn : MI := (yX8_isFn, cX8_isFn, 2, (some FieldType.boolean), [])
theorem mqX8_isFn : mW mX8_isFn ∈ lw_all := q1875
theorem mhX8_isFn : yX8_isFn.cls ≠ "java/lang/invoke/MethodHandle" ∧ yX8_isFn.cls ≠ "java/lang/invoke/VarHandle" := by decide +kernel
theorem mnX8_isFn : (parseMethodDescriptor yX8_isFn.desc).map (fun d => d.parameters.length) = some 1 := by decide +kernel
abbrev mX8_isParam : MI := (yX8_isParam, cX8_isParam, 5, (some FieldType.boolean), [])
theorem mqX8_isParam : mW mX8_isParam ∈ lw_all := q1774
theorem mhX8_isParam : yX8_isParam.cls ≠ "java/lang/invoke/MethodHandle" ∧ yX8_isParam.cls ≠ "java/lang/invoke/VarHandle" := by decide +kernel
theorem mnX8_isParam : (parseMethodDescriptor yX8_isParam.desc).map (fun d => d.parameters.length) = some 1 := by decide +kernel
abbrev mX8_isParamOf : MI := (yX8_isParamOf, cX8_isParamOf, 3, (some FieldType.boolean), [])
theorem mqX8_isParamOf : mW mX8_isParamOf ∈ lw_all := q1931
theorem mhX8_isParamOf : yX8_isParamOf.cls ≠ "java/lang/invoke/MethodHandle" ∧ yX8_isParamOf.cls ≠ "java/lang/invoke/VarHandle" := by decide +kernel
theorem mnX8_isParamOf : (parseMethodDescriptor yX8_isParamOf.desc).map (fun d => d.parameters.length) = some 2 := by decide +kernel
abbrev mX8_isRow : MI := (yX8_isRow, cX8_isRow, 1, (some FieldType.boolean), [])
theorem mqX8_isRow : mW mX8_isRow ∈ lw_all := q1734
theorem mhX8_isRow : yX8_isRow.cls ≠ "java/lang/invoke/MethodHandle" ∧ yX8_isRow.cls ≠ "java/lang/invoke/VarHandle" := by decide +kernel
theorem mnX8_isRow : (parseMethodDescriptor yX8_isRow.desc).map (fun d => d.parameters.length) = some 1 := by decide +kernel
abbrev mX8_isRowThere : MI := (yX8_isRowThere, cX8_isRowThere, 3, (some FieldType.boolean), [])
theorem mqX8_isRowThere : mW mX8_isRowThere ∈ lw_all := q1923
theorem mhX8_isRowThere : yX8_isRowThere.cls ≠ "java/lang/invoke/MethodHandle" ∧ yX8_isRowThere.cls ≠ "java/lang/invoke/VarHandle" := by decide +kernel
theorem mnX8_isRowThere : (parseMethodDescriptor yX8_isRowThere.desc).map (fun d => d.parameters.length) = some 2 := by decide +kernel
abbrev mX8_join : MI := (yX8_join, cX8_join, 8, none, [])
theorem mqX8_join : mW mX8_join ∈ lw_all := q1902
theorem mhX8_join : yX8_join.cls ≠ "java/lang/invoke/MethodHandle" ∧ yX8_join.cls ≠ "java/lang/invoke/VarHandle" := by decide +kernel
theorem mnX8_join : (parseMethodDescriptor yX8_join.desc).map (fun d => d.parameters.length) = some 2 := by decide +kernel
abbrev mX8_joined : MI := (yX8_joined, cX8_joined, 6, (some FieldType.int), [])
theorem mqX8_joined : mW mX8_joined ∈ lw_all := q1905
theorem mhX8_joined : yX8_joined.cls ≠ "java/lang/invoke/MethodHandle" ∧ yX8_joined.cls ≠ "java/lang/invoke/VarHandle" := by decide +kernel
theorem mnX8_joined : (parseMethodDescriptor yX8_joined.desc).map (fun d => d.parameters.length) = some 4 := by decide +kernel
abbrev mX8_judge : MI := (yX8_judge, cX8_judge, 4, none, [])
theorem mqX8_judge : mW mX8_judge ∈ lw_all := q1833
theorem mhX8_judge : yX8_judge.cls ≠ "java/lang/invoke/MethodHandle" ∧ yX8_judge.cls ≠ "java/lang/invoke/VarHandle" := by decide +kernel
theorem mnX8_judge : (parseMethodDescriptor yX8_judge.desc).map (fun d => d.parameters.length) = some 0 := by decide +kernel
abbrev mX8_judgeCall : MI := (yX8_judgeCall, cX8_judgeCall, 4, none, [])
theorem mqX8_judgeCall : mW mX8_judgeCall ∈ lw_all := q1849
theorem mhX8_judgeCall : yX8_judgeCall.cls ≠ "java/lang/invoke/MethodHandle" ∧ yX8_judgeCall.cls ≠ "java/lang/invoke/VarHandle" := by decide +kernel
theorem mnX8_judgeCall : (parseMethodDescriptor yX8_judgeCall.desc).map (fun d => d.parameters.length) = some 1 := by decide +kernel
abbrev mX8_last : MI := (yX8_last, cX8_last, 1, (some FieldType.int), [])
theorem mqX8_last : mW mX8_last ∈ lw_all := q1821
theorem mhX8_last : yX8_last.cls ≠ "java/lang/invoke/MethodHandle" ∧ yX8_last.cls ≠ "java/lang/invoke/VarHandle" := by decide +kernel
theorem mnX8_last : (parseMethodDescriptor yX8_last.desc).map (fun d => d.parameters.length) = some 0 := by decide +kernel
abbrev mX8_lay : MI := (yX8_lay, cX8_lay, 6, (some FieldType.int), [])
theorem mqX8_lay : mW mX8_lay ∈ lw_all := q1973
theorem mhX8_lay : yX8_lay.cls ≠ "java/lang/invoke/MethodHandle" ∧ yX8_lay.cls ≠ "java/lang/invoke/VarHandle" := by decide +kernel
theorem mnX8_lay : (parseMethodDescriptor yX8_lay.desc).map (fun d => d.parameters.length) = some 2 := by decide +kernel
abbrev mX8_make : MI := (yX8_make, cX8_make, 2, none, [])
theorem mqX8_make : mW mX8_make ∈ lw_all := q1817
theorem mhX8_make : yX8_make.cls ≠ "java/lang/invoke/MethodHandle" ∧ yX8_make.cls ≠ "java/lang/invoke/VarHandle" := by decide +kernel
theorem mnX8_make : (parseMethodDescriptor yX8_make.desc).map (fun d => d.parameters.length) = some 1 := by decide +kernel
abbrev mX8_meant : MI := (yX8_meant, cX8_meant, 4, (some FieldType.int), [])
theorem mqX8_meant : mW mX8_meant ∈ lw_all := q1845
theorem mhX8_meant : yX8_meant.cls ≠ "java/lang/invoke/MethodHandle" ∧ yX8_meant.cls ≠ "java/lang/invoke/VarHandle" := by decide +kernel
theorem mnX8_meant : (parseMethodDescriptor yX8_meant.desc).map (fun d => d.parameters.length) = some 1 := by decide +kernel
abbrev mX8_name : MI := (yX8_name, cX8_name, 3, (some FieldType.int), [])
theorem mqX8_name : mW mX8_name ∈ lw_all := q1770
theorem mhX8_name : yX8_name.cls ≠ "java/lang/invoke/MethodHandle" ∧ yX8_name.cls ≠ "java/lang/invoke/VarHandle" := by decide +kernel
theorem mnX8_name : (parseMethodDescriptor yX8_name.desc).map (fun d => d.parameters.length) = some 1 := by decide +kernel
abbrev mX8_nearBoth : MI := (yX8_nearBoth, cX8_nearBoth, 7, (some FieldType.int), [])
theorem mqX8_nearBoth : mW mX8_nearBoth ∈ lw_all := q1911
theorem mhX8_nearBoth : yX8_nearBoth.cls ≠ "java/lang/invoke/MethodHandle" ∧ yX8_nearBoth.cls ≠ "java/lang/invoke/VarHandle" := by decide +kernel
theorem mnX8_nearBoth : (parseMethodDescriptor yX8_nearBoth.desc).map (fun d => d.parameters.length) = some 3 := by decide +kernel
abbrev mX8_need : MI := (yX8_need, cX8_need, 2, none, [])
theorem mqX8_need : mW mX8_need ∈ lw_all := q1989
theorem mhX8_need : yX8_need.cls ≠ "java/lang/invoke/MethodHandle" ∧ yX8_need.cls ≠ "java/lang/invoke/VarHandle" := by decide +kernel
theorem mnX8_need : (parseMethodDescriptor yX8_need.desc).map (fun d => d.parameters.length) = some 1 := by decide +kernel
abbrev mX8_needed : MI := (yX8_needed, cX8_needed, 2, (some FieldType.boolean), [])
theorem mqX8_needed : mW mX8_needed ∈ lw_all := q2022
theorem mhX8_needed : yX8_needed.cls ≠ "java/lang/invoke/MethodHandle" ∧ yX8_needed.cls ≠ "java/lang/invoke/VarHandle" := by decide +kernel
theorem mnX8_needed : (parseMethodDescriptor yX8_needed.desc).map (fun d => d.parameters.length) = some 1 := by decide +kernel
abbrev mX8_next : MI := (yX8_next, cX8_next, 2, none, [])
theorem mqX8_next : mW mX8_next ∈ lw_all := q1731
theorem mhX8_next : yX8_next.cls ≠ "java/lang/invoke/MethodHandle" ∧ yX8_next.cls ≠ "java/lang/invoke/VarHandle" := by decide +kernel
theorem mnX8_next : (parseMethodDescriptor yX8_next.desc).map (fun d => d.parameters.length) = some 0 := by decide +kernel
abbrev mX8_node : MI := (yX8_node, cX8_node, 4, (some FieldType.int), [])
theorem mqX8_node : mW mX8_node ∈ lw_all := q1805
theorem mhX8_node : yX8_node.cls ≠ "java/lang/invoke/MethodHandle" ∧ yX8_node.cls ≠ "java/lang/invoke/VarHandle" := by decide +kernel
theorem mnX8_node : (parseMethodDescriptor yX8_node.desc).map (fun d => d.parameters.length) = some 2 := by decide +kernel
abbrev mX8_onArgument : MI := (yX8_onArgument, cX8_onArgument, 6, none, [])
theorem mqX8_onArgument : mW mX8_onArgument ∈ lw_all := q1915
theorem mhX8_onArgument : yX8_onArgument.cls ≠ "java/lang/invoke/MethodHandle" ∧ yX8_onArgument.cls ≠ "java/lang/invoke/VarHandle" := by decide +kernel
theorem mnX8_onArgument : (parseMethodDescriptor yX8_onArgument.desc).map (fun d => d.parameters.length) = some 3 := by decide +kernel
abbrev mX8_onAsk : MI := (yX8_onAsk, cX8_onAsk, 8, none, [])
theorem mqX8_onAsk : mW mX8_onAsk ∈ lw_all := q1898
theorem mhX8_onAsk : yX8_onAsk.cls ≠ "java/lang/invoke/MethodHandle" ∧ yX8_onAsk.cls ≠ "java/lang/invoke/VarHandle" := by decide +kernel
theorem mnX8_onAsk : (parseMethodDescriptor yX8_onAsk.desc).map (fun d => d.parameters.length) = some 3 := by decide +kernel
abbrev mX8_onAtom : MI := (yX8_onAtom, cX8_onAtom, 3, none, [])
theorem mqX8_onAtom : mW mX8_onAtom ∈ lw_all := q1813
theorem mhX8_onAtom : yX8_onAtom.cls ≠ "java/lang/invoke/MethodHandle" ∧ yX8_onAtom.cls ≠ "java/lang/invoke/VarHandle" := by decide +kernel
theorem mnX8_onAtom : (parseMethodDescriptor yX8_onAtom.desc).map (fun d => d.parameters.length) = some 0 := by decide +kernel
abbrev mX8_onCouple : MI := (yX8_onCouple, cX8_onCouple, 3, none, [])
theorem mqX8_onCouple : mW mX8_onCouple ∈ lw_all := q1829
theorem mhX8_onCouple : yX8_onCouple.cls ≠ "java/lang/invoke/MethodHandle" ∧ yX8_onCouple.cls ≠ "java/lang/invoke/VarHandle" := by decide +kernel
theorem mnX8_onCouple : (parseMethodDescriptor yX8_onCouple.desc).map (fun d => d.parameters.length) = some 1 := by decide +kernel
abbrev mX8_onE : MI := (yX8_onE, cX8_onE, 2, none, [])
theorem mqX8_onE : mW mX8_onE ∈ lw_all := q1797
theorem mhX8_onE : yX8_onE.cls ≠ "java/lang/invoke/MethodHandle" ∧ yX8_onE.cls ≠ "java/lang/invoke/VarHandle" := by decide +kernel
theorem mnX8_onE : (parseMethodDescriptor yX8_onE.desc).map (fun d => d.parameters.length) = some 0 := by decide +kernel
abbrev mX8_onJudge : MI := (yX8_onJudge, cX8_onJudge, 4, none, [])
theorem mqX8_onJudge : mW mX8_onJudge ∈ lw_all := q1841
theorem mhX8_onJudge : yX8_onJudge.cls ≠ "java/lang/invoke/MethodHandle" ∧ yX8_onJudge.cls ≠ "java/lang/invoke/VarHandle" := by decide +kernel
theorem mnX8_onJudge : (parseMethodDescriptor yX8_onJudge.desc).map (fun d => d.parameters.length) = some 2 := by decide +kernel
abbrev mX8_onRest : MI := (yX8_onRest, cX8_onRest, 6, none, [])
theorem mqX8_onRest : mW mX8_onRest ∈ lw_all := q1825
theorem mhX8_onRest : yX8_onRest.cls ≠ "java/lang/invoke/MethodHandle" ∧ yX8_onRest.cls ≠ "java/lang/invoke/VarHandle" := by decide +kernel
theorem mnX8_onRest : (parseMethodDescriptor yX8_onRest.desc).map (fun d => d.parameters.length) = some 2 := by decide +kernel
abbrev mX8_onShut : MI := (yX8_onShut, cX8_onShut, 5, none, [])
theorem mqX8_onShut : mW mX8_onShut ∈ lw_all := q1863
theorem mhX8_onShut : yX8_onShut.cls ≠ "java/lang/invoke/MethodHandle" ∧ yX8_onShut.cls ≠ "java/lang/invoke/VarHandle" := by decide +kernel
theorem mnX8_onShut : (parseMethodDescriptor yX8_onShut.desc).map (fun d => d.parameters.length) = some 2 := by decide +kernel
abbrev mX8_onSum : MI := (yX8_onSum, cX8_onSum, 6, none, [])
theorem mqX8_onSum : mW mX8_onSum ∈ lw_all := q1809
theorem mhX8_onSum : yX8_onSum.cls ≠ "java/lang/invoke/MethodHandle" ∧ yX8_onSum.cls ≠ "java/lang/invoke/VarHandle" := by decide +kernel
theorem mnX8_onSum : (parseMethodDescriptor yX8_onSum.desc).map (fun d => d.parameters.length) = some 2 := by decide +kernel
abbrev mX8_onType : MI := (yX8_onType, cX8_onType, 3, none, [])
theorem mqX8_onType : mW mX8_onType ∈ lw_all := q1790
theorem mhX8_onType : yX8_onType.cls ≠ "java/lang/invoke/MethodHandle" ∧ yX8_onType.cls ≠ "java/lang/invoke/VarHandle" := by decide +kernel
theorem mnX8_onType : (parseMethodDescriptor yX8_onType.desc).map (fun d => d.parameters.length) = some 2 := by decide +kernel
abbrev mX8_packed : MI := (yX8_packed, cX8_packed, 4, (some FieldType.long), [])
theorem mqX8_packed : mW mX8_packed ∈ lw_all := q1750
theorem mhX8_packed : yX8_packed.cls ≠ "java/lang/invoke/MethodHandle" ∧ yX8_packed.cls ≠ "java/lang/invoke/VarHandle" := by decide +kernel
theorem mnX8_packed : (parseMethodDescriptor yX8_packed.desc).map (fun d => d.parameters.length) = some 4 := by decide +kernel
abbrev mX8_pairOf : MI := (yX8_pairOf, cX8_pairOf, 2, (some FieldType.int), [])
theorem mqX8_pairOf : mW mX8_pairOf ∈ lw_all := q1793
theorem mhX8_pairOf : yX8_pairOf.cls ≠ "java/lang/invoke/MethodHandle" ∧ yX8_pairOf.cls ≠ "java/lang/invoke/VarHandle" := by decide +kernel
theorem mnX8_pairOf : (parseMethodDescriptor yX8_pairOf.desc).map (fun d => d.parameters.length) = some 2 := by decide +kernel
abbrev mX8_paired : MI := (yX8_paired, cX8_paired, 4, none, [])
theorem mqX8_paired : mW mX8_paired ∈ lw_all := q2001
theorem mhX8_paired : yX8_paired.cls ≠ "java/lang/invoke/MethodHandle" ∧ yX8_paired.cls ≠ "java/lang/invoke/VarHandle" := by decide +kernel
theorem mnX8_paired : (parseMethodDescriptor yX8_paired.desc).map (fun d => d.parameters.length) = some 2 := by decide +kernel
abbrev mX8_parse : MI := (yX8_parse, cX8_parse, 4, none, [])
theorem mqX8_parse : mW mX8_parse ∈ lw_all := q1782
theorem mhX8_parse : yX8_parse.cls ≠ "java/lang/invoke/MethodHandle" ∧ yX8_parse.cls ≠ "java/lang/invoke/VarHandle" := by decide +kernel
theorem mnX8_parse : (parseMethodDescriptor yX8_parse.desc).map (fun d => d.parameters.length) = some 1 := by decide +kernel
abbrev mX8_partBoth : MI := (yX8_partBoth, cX8_partBoth, 4, (some FieldType.int), [])
theorem mqX8_partBoth : mW mX8_partBoth ∈ lw_all := q1908
theorem mhX8_partBoth : yX8_partBoth.cls ≠ "java/lang/invoke/MethodHandle" ∧ yX8_partBoth.cls ≠ "java/lang/invoke/VarHandle" := by decide +kernel
theorem mnX8_partBoth : (parseMethodDescriptor yX8_partBoth.desc).map (fun d => d.parameters.length) = some 4 := by decide +kernel
abbrev mX8_parted : MI := (yX8_parted, cX8_parted, 4, (some FieldType.boolean), [])
theorem mqX8_parted : mW mX8_parted ∈ lw_all := q2018
theorem mhX8_parted : yX8_parted.cls ≠ "java/lang/invoke/MethodHandle" ∧ yX8_parted.cls ≠ "java/lang/invoke/VarHandle" := by decide +kernel
theorem mnX8_parted : (parseMethodDescriptor yX8_parted.desc).map (fun d => d.parameters.length) = some 2 := by decide +kernel
abbrev mX8_pass : MI := (yX8_pass, cX8_pass, 1, none, [])
theorem mqX8_pass : mW mX8_pass ∈ lw_all := q1762
theorem mhX8_pass : yX8_pass.cls ≠ "java/lang/invoke/MethodHandle" ∧ yX8_pass.cls ≠ "java/lang/invoke/VarHandle" := by decide +kernel
theorem mnX8_pass : (parseMethodDescriptor yX8_pass.desc).map (fun d => d.parameters.length) = some 0 := by decide +kernel
abbrev mX8_place : MI := (yX8_place, cX8_place, 1, (some FieldType.int), [])
theorem mqX8_place : mW mX8_place ∈ lw_all := q1867
theorem mhX8_place : yX8_place.cls ≠ "java/lang/invoke/MethodHandle" ∧ yX8_place.cls ≠ "java/lang/invoke/VarHandle" := by decide +kernel
theorem mnX8_place : (parseMethodDescriptor yX8_place.desc).map (fun d => d.parameters.length) = some 0 := by decide +kernel
abbrev mX8_plant : MI := (yX8_plant, cX8_plant, 8, (some FieldType.int), [])
theorem mqX8_plant : mW mX8_plant ∈ lw_all := q1947
theorem mhX8_plant : yX8_plant.cls ≠ "java/lang/invoke/MethodHandle" ∧ yX8_plant.cls ≠ "java/lang/invoke/VarHandle" := by decide +kernel
theorem mnX8_plant : (parseMethodDescriptor yX8_plant.desc).map (fun d => d.parameters.length) = some 4 := by decide +kernel
abbrev mX8_push : MI := (yX8_push, cX8_push, 3, none, [])
theorem mqX8_push : mW mX8_push ∈ lw_all := q1786
theorem mhX8_push : yX8_push.cls ≠ "java/lang/invoke/MethodHandle" ∧ yX8_push.cls ≠ "java/lang/invoke/VarHandle" := by decide +kernel
theorem mnX8_push : (parseMethodDescriptor yX8_push.desc).map (fun d => d.parameters.length) = some 2 := by decide +kernel
abbrev mX8_read : MI := (yX8_read, cX8_read, 1, (some FieldType.int), [])
theorem mqX8_read : mW mX8_read ∈ lw_all := q1727
theorem mhX8_read : yX8_read.cls ≠ "java/lang/invoke/MethodHandle" ∧ yX8_read.cls ≠ "java/lang/invoke/VarHandle" := by decide +kernel
theorem mnX8_read : (parseMethodDescriptor yX8_read.desc).map (fun d => d.parameters.length) = some 0 := by decide +kernel
abbrev mX8_renewed : MI := (yX8_renewed, cX8_renewed, 8, (some FieldType.boolean), [])
theorem mqX8_renewed : mW mX8_renewed ∈ lw_all := q1886
theorem mhX8_renewed : yX8_renewed.cls ≠ "java/lang/invoke/MethodHandle" ∧ yX8_renewed.cls ≠ "java/lang/invoke/VarHandle" := by decide +kernel
theorem mnX8_renewed : (parseMethodDescriptor yX8_renewed.desc).map (fun d => d.parameters.length) = some 2 := by decide +kernel
abbrev mX8_result : MI := (yX8_result, cX8_result, 3, (some FieldType.int), [])
theorem mqX8_result : mW mX8_result ∈ lw_all := q2014
theorem mhX8_result : yX8_result.cls ≠ "java/lang/invoke/MethodHandle" ∧ yX8_result.cls ≠ "java/lang/invoke/VarHandle" := by decide +kernel
theorem mnX8_result : (parseMethodDescriptor yX8_result.desc).map (fun d => d.parameters.length) = some 1 := by decide +kernel
abbrev mX8_rounds : MI := (yX8_rounds, cX8_rounds, 6, (some FieldType.int), [])
theorem mqX8_rounds : mW mX8_rounds ∈ lw_all := q1882
theorem mhX8_rounds : yX8_rounds.cls ≠ "java/lang/invoke/MethodHandle" ∧ yX8_rounds.cls ≠ "java/lang/invoke/VarHandle" := by decide +kernel
theorem mnX8_rounds : (parseMethodDescriptor yX8_rounds.desc).map (fun d => d.parameters.length) = some 0 := by decide +kernel
abbrev mX8_row : MI := (yX8_row, cX8_row, 8, none, [])
theorem mqX8_row : mW mX8_row ∈ lw_all := q1741
theorem mhX8_row : yX8_row.cls ≠ "java/lang/invoke/MethodHandle" ∧ yX8_row.cls ≠ "java/lang/invoke/VarHandle" := by decide +kernel
theorem mnX8_row : (parseMethodDescriptor yX8_row.desc).map (fun d => d.parameters.length) = some 0 := by decide +kernel
abbrev mX8_run : MI := (yX8_run, cX8_run, 7, (some FieldType.int), [])
theorem mqX8_run : mW mX8_run ∈ lw_all := q1964
theorem mhX8_run : yX8_run.cls ≠ "java/lang/invoke/MethodHandle" ∧ yX8_run.cls ≠ "java/lang/invoke/VarHandle" := by decide +kernel
theorem mnX8_run : (parseMethodDescriptor yX8_run.desc).map (fun d => d.parameters.length) = some 3 := by decide +kernel
abbrev mX8_secondOf : MI := (yX8_secondOf, cX8_secondOf, 1, (some FieldType.int), [])
theorem mqX8_secondOf : mW mX8_secondOf ∈ lw_all := q1852
theorem mhX8_secondOf : yX8_secondOf.cls ≠ "java/lang/invoke/MethodHandle" ∧ yX8_secondOf.cls ≠ "java/lang/invoke/VarHandle" := by decide +kernel
theorem mnX8_secondOf : (parseMethodDescriptor yX8_secondOf.desc).map (fun d => d.parameters.length) = some 1 := by decide +kernel
abbrev mX8_stop : MI := (yX8_stop, cX8_stop, 3, none, [])
theorem mqX8_stop : mW mX8_stop ∈ lw_all := q1754
theorem mhX8_stop : yX8_stop.cls ≠ "java/lang/invoke/MethodHandle" ∧ yX8_stop.cls ≠ "java/lang/invoke/VarHandle" := by decide +kernel
theorem mnX8_stop : (parseMethodDescriptor yX8_stop.desc).map (fun d => d.parameters.length) = some 2 := by decide +kernel
abbrev mX8_strict : MI := (yX8_strict, cX8_strict, 3, (some FieldType.boolean), [])
theorem mqX8_strict : mW mX8_strict ∈ lw_all := q1943
theorem mhX8_strict : yX8_strict.cls ≠ "java/lang/invoke/MethodHandle" ∧ yX8_strict.cls ≠ "java/lang/invoke/VarHandle" := by decide +kernel
theorem mnX8_strict : (parseMethodDescriptor yX8_strict.desc).map (fun d => d.parameters.length) = some 2 := by decide +kernel
abbrev mX8_task : MI := (yX8_task, cX8_task, 4, none, [])
theorem mqX8_task : mW mX8_task ∈ lw_all := q1837
theorem mhX8_task : yX8_task.cls ≠ "java/lang/invoke/MethodHandle" ∧ yX8_task.cls ≠ "java/lang/invoke/VarHandle" := by decide +kernel
theorem mnX8_task : (parseMethodDescriptor yX8_task.desc).map (fun d => d.parameters.length) = some 3 := by decide +kernel
abbrev mX8_tells : MI := (yX8_tells, cX8_tells, 3, none, [])
theorem mqX8_tells : mW mX8_tells ∈ lw_all := q1859
theorem mhX8_tells : yX8_tells.cls ≠ "java/lang/invoke/MethodHandle" ∧ yX8_tells.cls ≠ "java/lang/invoke/VarHandle" := by decide +kernel
theorem mnX8_tells : (parseMethodDescriptor yX8_tells.desc).map (fun d => d.parameters.length) = some 2 := by decide +kernel
abbrev mX8_tellsTooMuch : MI := (yX8_tellsTooMuch, cX8_tellsTooMuch, 7, (some FieldType.boolean), [])
theorem mqX8_tellsTooMuch : mW mX8_tellsTooMuch ∈ lw_all := q1955
theorem mhX8_tellsTooMuch : yX8_tellsTooMuch.cls ≠ "java/lang/invoke/MethodHandle" ∧ yX8_tellsTooMuch.cls ≠ "java/lang/invoke/VarHandle" := by decide +kernel
theorem mnX8_tellsTooMuch : (parseMethodDescriptor yX8_tellsTooMuch.desc).map (fun d => d.parameters.length) = some 2 := by decide +kernel
abbrev mX8_thing : MI := (yX8_thing, cX8_thing, 4, (some FieldType.int), [])
theorem mqX8_thing : mW mX8_thing ∈ lw_all := q1993
theorem mhX8_thing : yX8_thing.cls ≠ "java/lang/invoke/MethodHandle" ∧ yX8_thing.cls ≠ "java/lang/invoke/VarHandle" := by decide +kernel
theorem mnX8_thing : (parseMethodDescriptor yX8_thing.desc).map (fun d => d.parameters.length) = some 2 := by decide +kernel
abbrev mX8_thrown : MI := (yX8_thrown, cX8_thrown, 1, (some FieldType.int), [])
theorem mqX8_thrown : mW mX8_thrown ∈ lw_all := q1712
theorem mhX8_thrown : yX8_thrown.cls ≠ "java/lang/invoke/MethodHandle" ∧ yX8_thrown.cls ≠ "java/lang/invoke/VarHandle" := by decide +kernel
theorem mnX8_thrown : (parseMethodDescriptor yX8_thrown.desc).map (fun d => d.parameters.length) = some 0 := by decide +kernel
abbrev mX8_told : MI := (yX8_told, cX8_told, 4, (some FieldType.int), [])
theorem mqX8_told : mW mX8_told ∈ lw_all := q2009
theorem mhX8_told : yX8_told.cls ≠ "java/lang/invoke/MethodHandle" ∧ yX8_told.cls ≠ "java/lang/invoke/VarHandle" := by decide +kernel
theorem mnX8_told : (parseMethodDescriptor yX8_told.desc).map (fun d => d.parameters.length) = some 1 := by decide +kernel
abbrev mX8_type : MI := (yX8_type, cX8_type, 1, (some FieldType.int), [])
theorem mqX8_type : mW mX8_type ∈ lw_all := q1778
theorem mhX8_type : yX8_type.cls ≠ "java/lang/invoke/MethodHandle" ∧ yX8_type.cls ≠ "java/lang/invoke/VarHandle" := by decide +kernel
theorem mnX8_type : (parseMethodDescriptor yX8_type.desc).map (fun d => d.parameters.length) = some 0 := by decide +kernel
abbrev mX8_want : MI := (yX8_want, cX8_want, 2, none, [])
theorem mqX8_want : mW mX8_want ∈ lw_all := q1766
theorem mhX8_want : yX8_want.cls ≠ "java/lang/invoke/MethodHandle" ∧ yX8_want.cls ≠ "java/lang/invoke/VarHandle" := by decide +kernel
theorem mnX8_want : (parseMethodDescriptor yX8_want.desc).map (fun d => d.parameters.length) = some 1 := by decide +kernel
abbrev mX8_within : MI := (yX8_within, cX8_within, 6, (some FieldType.boolean), [])
theorem mqX8_within : mW mX8_within ∈ lw_all := q1723
theorem mhX8_within : yX8_within.cls ≠ "java/lang/invoke/MethodHandle" ∧ yX8_within.cls ≠ "java/lang/invoke/VarHandle" := by decide +kernel
theorem mnX8_within : (parseMethodDescriptor yX8_within.desc).map (fun d => d.parameters.length) = some 3 := by decide +kernel
abbrev mX8_wordOf : MI := (yX8_wordOf, cX8_wordOf, 2, (some FieldType.int), [])
theorem mqX8_wordOf : mW mX8_wordOf ∈ lw_all := q1747
theorem mhX8_wordOf : yX8_wordOf.cls ≠ "java/lang/invoke/MethodHandle" ∧ yX8_wordOf.cls ≠ "java/lang/invoke/VarHandle" := by decide +kernel
theorem mnX8_wordOf : (parseMethodDescriptor yX8_wordOf.desc).map (fun d => d.parameters.length) = some 1 := by decide +kernel
abbrev mX8_work : MI := (yX8_work, cX8_work, 3, none, [])
theorem mqX8_work : mW mX8_work ∈ lw_all := q1981
theorem mhX8_work : yX8_work.cls ≠ "java/lang/invoke/MethodHandle" ∧ yX8_work.cls ≠ "java/lang/invoke/VarHandle" := by decide +kernel
theorem mnX8_work : (parseMethodDescriptor yX8_work.desc).map (fun d => d.parameters.length) = some 2 := by decide +kernel
abbrev mJ12_init : MI := (yJ12_init, cJ12_init, 2, none, [])
theorem mqJ12_init : mW mJ12_init ∈ lw_all := q1114
theorem mhJ12_init : yJ12_init.cls ≠ "java/lang/invoke/MethodHandle" ∧ yJ12_init.cls ≠ "java/lang/invoke/VarHandle" := by decide +kernel
theorem mnJ12_init : (parseMethodDescriptor yJ12_init.desc).map (fun d => d.parameters.length) = some 1 := by decide +kernel
abbrev mJ10_highSurrogate : MI := (yJ10_highSurrogate, cJ10_highSurrogate, 1, (some FieldType.char), [])
theorem mqJ10_highSurrogate : mW mJ10_highSurrogate ∈ lw_all := q560
theorem mhJ10_highSurrogate : yJ10_highSurrogate.cls ≠ "java/lang/invoke/MethodHandle" ∧ yJ10_highSurrogate.cls ≠ "java/lang/invoke/VarHandle" := by decide +kernel
theorem mnJ10_highSurrogate : (parseMethodDescriptor yJ10_highSurrogate.desc).map (fun d => d.parameters.length) = some 1 := by decide +kernel
abbrev mJ10_isValidCodePoint : MI := (yJ10_isValidCodePoint, cJ10_isValidCodePoint, 2, (some FieldType.boolean), [])
theorem mqJ10_isValidCodePoint : mW mJ10_isValidCodePoint ∈ lw_all := q557
theorem mhJ10_isValidCodePoint : yJ10_isValidCodePoint.cls ≠ "java/lang/invoke/MethodHandle" ∧ yJ10_isValidCodePoint.cls ≠ "java/lang/invoke/VarHandle" := by decide +kernel
theorem mnJ10_isValidCodePoint : (parseMethodDescriptor yJ10_isValidCodePoint.desc).map (fun d => d.parameters.length) = some 1 := by decide +kernel
abbrev mJ10_lowSurrogate : MI := (yJ10_lowSurrogate, cJ10_lowSurrogate, 1, (some FieldType.char), [])
theorem mqJ10_lowSurrogate : mW mJ10_lowSurrogate ∈ lw_all := q564
theorem mhJ10_lowSurrogate : yJ10_lowSurrogate.cls ≠ "java/lang/invoke/MethodHandle" ∧ yJ10_lowSurrogate.cls ≠ "java/lang/invoke/VarHandle" := by decide +kernel
theorem mnJ10_lowSurrogate : (parseMethodDescriptor yJ10_lowSurrogate.desc).map (fun d => d.parameters.length) = some 1 := by decide +kernel
abbrev mJ1_init_2 : MI := (yJ1_init_2, cJ1_init_2, 1, none, [])
theorem mqJ1_init_2 : mW mJ1_init_2 ∈ lw_all := q1076
theorem mhJ1_init_2 : yJ1_init_2.cls ≠ "java/lang/invoke/MethodHandle" ∧ yJ1_init_2.cls ≠ "java/lang/invoke/VarHandle" := by decide +kernel
theorem mnJ1_init_2 : (parseMethodDescriptor yJ1_init_2.desc).map (fun d => d.parameters.length) = some 0 := by decide +kernel
abbrev mJ1_init : MI := (yJ1_init, cJ1_init, 2, none, [])
theorem mqJ1_init : mW mJ1_init ∈ lw_all := q629
theorem mhJ1_init : yJ1_init.cls ≠ "java/lang/invoke/MethodHandle" ∧ yJ1_init.cls ≠ "java/lang/invoke/VarHandle" := by decide +kernel
theorem mnJ1_init : (parseMethodDescriptor yJ1_init.desc).map (fun d => d.parameters.length) = some 1 := by decide +kernel
abbrev mJ4_init : MI := (yJ4_init, cJ4_init, 1, none, [])
theorem mqJ4_init : mW mJ4_init ∈ lw_all := q1104
theorem mhJ4_init : yJ4_init.cls ≠ "java/lang/invoke/MethodHandle" ∧ yJ4_init.cls ≠ "java/lang/invoke/VarHandle" := by decide +kernel
theorem mnJ4_init : (parseMethodDescriptor yJ4_init.desc).map (fun d => d.parameters.length) = some 0 := by decide +kernel
abbrev mJ3_init_2 : MI := (yJ3_init_2, cJ3_init_2, 1, none, [])
theorem mqJ3_init_2 : mW mJ3_init_2 ∈ lw_all := q1070
theorem mhJ3_init_2 : yJ3_init_2.cls ≠ "java/lang/invoke/MethodHandle" ∧ yJ3_init_2.cls ≠ "java/lang/invoke/VarHandle" := by decide +kernel
theorem mnJ3_init_2 : (parseMethodDescriptor yJ3_init_2.desc).map (fun d => d.parameters.length) = some 0 := by decide +kernel
abbrev mJ3_init : MI := (yJ3_init, cJ3_init, 2, none, [])
theorem mqJ3_init : mW mJ3_init ∈ lw_all := q623
theorem mhJ3_init : yJ3_init.cls ≠ "java/lang/invoke/MethodHandle" ∧ yJ3_init.cls ≠ "java/lang/invoke/VarHandle" := by decide +kernel
theorem mnJ3_init : (parseMethodDescriptor yJ3_init.desc).map (fun d => d.parameters.length) = some 1 := by decide +kernel
abbrev mJ11_init_2 : MI := (yJ11_init_2, cJ11_init_2, 1, none, [])
theorem mqJ11_init_2 : mW mJ11_init_2 ∈ lw_all := q1157
theorem mhJ11_init_2 : yJ11_init_2.cls ≠ "java/lang/invoke/MethodHandle" ∧ yJ11_init_2.cls ≠ "java/lang/invoke/VarHandle" := by decide +kernel
theorem mnJ11_init_2 : (parseMethodDescriptor yJ11_init_2.desc).map (fun d => d.parameters.length) = some 0 := by decide +kernel
abbrev mJ11_init : MI := (yJ11_init, cJ11_init, 2, none, [])
theorem mqJ11_init : mW mJ11_init ∈ lw_all := q1117
theorem mhJ11_init : yJ11_init.cls ≠ "java/lang/invoke/MethodHandle" ∧ yJ11_init.cls ≠ "java/lang/invoke/VarHandle" := by decide +kernel
theorem mnJ11_init : (parseMethodDescriptor yJ11_init.desc).map (fun d => d.parameters.length) = some 1 := by decide +kernel
abbrev mJ9_max : MI := (yJ9_max, cJ9_max, 2, (some FieldType.int), [])
theorem mqJ9_max : mW mJ9_max ∈ lw_all := q524
theorem mhJ9_max : yJ9_max.cls ≠ "java/lang/invoke/MethodHandle" ∧ yJ9_max.cls ≠ "java/lang/invoke/VarHandle" := by decide +kernel
theorem mnJ9_max : (parseMethodDescriptor yJ9_max.desc).map (fun d => d.parameters.length) = some 2 := by decide +kernel
abbrev mJ9_min : MI := (yJ9_min, cJ9_min, 2, (some FieldType.int), [])
theorem mqJ9_min : mW mJ9_min ∈ lw_all := q527
theorem mhJ9_min : yJ9_min.cls ≠ "java/lang/invoke/MethodHandle" ∧ yJ9_min.cls ≠ "java/lang/invoke/VarHandle" := by decide +kernel
theorem mnJ9_min : (parseMethodDescriptor yJ9_min.desc).map (fun d => d.parameters.length) = some 2 := by decide +kernel
abbrev mJ13_init : MI := (yJ13_init, cJ13_init, 1, none, [])
theorem mqJ13_init : mW mJ13_init ∈ lw_all := q121
theorem mhJ13_init : yJ13_init.cls ≠ "java/lang/invoke/MethodHandle" ∧ yJ13_init.cls ≠ "java/lang/invoke/VarHandle" := by decide +kernel
theorem mnJ13_init : (parseMethodDescriptor yJ13_init.desc).map (fun d => d.parameters.length) = some 0 := by decide +kernel
abbrev mJ2_init_2 : MI := (yJ2_init_2, cJ2_init_2, 1, none, [])
theorem mqJ2_init_2 : mW mJ2_init_2 ∈ lw_all := q1073
theorem mhJ2_init_2 : yJ2_init_2.cls ≠ "java/lang/invoke/MethodHandle" ∧ yJ2_init_2.cls ≠ "java/lang/invoke/VarHandle" := by decide +kernel
theorem mnJ2_init_2 : (parseMethodDescriptor yJ2_init_2.desc).map (fun d => d.parameters.length) = some 0 := by decide +kernel
abbrev mJ2_init : MI := (yJ2_init, cJ2_init, 2, none, [])
theorem mqJ2_init : mW mJ2_init ∈ lw_all := q626
theorem mhJ2_init : yJ2_init.cls ≠ "java/lang/invoke/MethodHandle" ∧ yJ2_init.cls ≠ "java/lang/invoke/VarHandle" := by decide +kernel
theorem mnJ2_init : (parseMethodDescriptor yJ2_init.desc).map (fun d => d.parameters.length) = some 1 := by decide +kernel
abbrev mJ5_charAt : MI := (yJ5_charAt, cJ5_charAt, 2, (some FieldType.char), [])
theorem mqJ5_charAt : mW mJ5_charAt ∈ lw_all := q471
theorem mhJ5_charAt : yJ5_charAt.cls ≠ "java/lang/invoke/MethodHandle" ∧ yJ5_charAt.cls ≠ "java/lang/invoke/VarHandle" := by decide +kernel
theorem mnJ5_charAt : (parseMethodDescriptor yJ5_charAt.desc).map (fun d => d.parameters.length) = some 1 := by decide +kernel
abbrev mJ5_checkBoundsBeginEnd : MI := (yJ5_checkBoundsBeginEnd, cJ5_checkBoundsBeginEnd, 3, none, [])
theorem mqJ5_checkBoundsBeginEnd : mW mJ5_checkBoundsBeginEnd ∈ lw_all := q545
theorem mhJ5_checkBoundsBeginEnd : yJ5_checkBoundsBeginEnd.cls ≠ "java/lang/invoke/MethodHandle" ∧ yJ5_checkBoundsBeginEnd.cls ≠ "java/lang/invoke/VarHandle" := by decide +kernel
theorem mnJ5_checkBoundsBeginEnd : (parseMethodDescriptor yJ5_checkBoundsBeginEnd.desc).map (fun d => d.parameters.length) = some 3 := by decide +kernel
abbrev mJ5_checkIndex : MI := (yJ5_checkIndex, cJ5_checkIndex, 2, none, [])
theorem mqJ5_checkIndex : mW mJ5_checkIndex ∈ lw_all := q481
theorem mhJ5_checkIndex : yJ5_checkIndex.cls ≠ "java/lang/invoke/MethodHandle" ∧ yJ5_checkIndex.cls ≠ "java/lang/invoke/VarHandle" := by decide +kernel
theorem mnJ5_checkIndex : (parseMethodDescriptor yJ5_checkIndex.desc).map (fun d => d.parameters.length) = some 2 := by decide +kernel
abbrev mJ5_coder : MI := (yJ5_coder, cJ5_coder, 1, (some FieldType.byte), [])
theorem mqJ5_coder : mW mJ5_coder ∈ lw_all := q465
theorem mhJ5_coder : yJ5_coder.cls ≠ "java/lang/invoke/MethodHandle" ∧ yJ5_coder.cls ≠ "java/lang/invoke/VarHandle" := by decide +kernel
theorem mnJ5_coder : (parseMethodDescriptor yJ5_coder.desc).map (fun d => d.parameters.length) = some 0 := by decide +kernel
abbrev mJ5_indexOf : MI := (yJ5_indexOf, cJ5_indexOf, 2, (some FieldType.int), [])
theorem mqJ5_indexOf : mW mJ5_indexOf ∈ lw_all := q510
theorem mhJ5_indexOf : yJ5_indexOf.cls ≠ "java/lang/invoke/MethodHandle" ∧ yJ5_indexOf.cls ≠ "java/lang/invoke/VarHandle" := by decide +kernel
theorem mnJ5_indexOf : (parseMethodDescriptor yJ5_indexOf.desc).map (fun d => d.parameters.length) = some 1 := by decide +kernel
abbrev mJ5_indexOf_2 : MI := (yJ5_indexOf_2, cJ5_indexOf_2, 3, (some FieldType.int), [])
theorem mqJ5_indexOf_2 : mW mJ5_indexOf_2 ∈ lw_all := q514
theorem mhJ5_indexOf_2 : yJ5_indexOf_2.cls ≠ "java/lang/invoke/MethodHandle" ∧ yJ5_indexOf_2.cls ≠ "java/lang/invoke/VarHandle" := by decide +kernel
theorem mnJ5_indexOf_2 : (parseMethodDescriptor yJ5_indexOf_2.desc).map (fun d => d.parameters.length) = some 2 := by decide +kernel
abbrev mJ5_isLatin1 : MI := (yJ5_isLatin1, cJ5_isLatin1, 1, (some FieldType.boolean), [])
theorem mqJ5_isLatin1 : mW mJ5_isLatin1 ∈ lw_all := q475
theorem mhJ5_isLatin1 : yJ5_isLatin1.cls ≠ "java/lang/invoke/MethodHandle" ∧ yJ5_isLatin1.cls ≠ "java/lang/invoke/VarHandle" := by decide +kernel
theorem mnJ5_isLatin1 : (parseMethodDescriptor yJ5_isLatin1.desc).map (fun d => d.parameters.length) = some 0 := by decide +kernel
abbrev mJ5_length : MI := (yJ5_length, cJ5_length, 1, (some FieldType.int), [])
theorem mqJ5_length : mW mJ5_length ∈ lw_all := q461
theorem mhJ5_length : yJ5_length.cls ≠ "java/lang/invoke/MethodHandle" ∧ yJ5_length.cls ≠ "java/lang/invoke/VarHandle" := by decide +kernel
theorem mnJ5_length : (parseMethodDescriptor yJ5_length.desc).map (fun d => d.parameters.length) = some 0 := by decide +kernel
abbrev mJ6_canEncode : MI := (yJ6_canEncode, cJ6_canEncode, 1, (some FieldType.boolean), [])
theorem mqJ6_canEncode : mW mJ6_canEncode ∈ lw_all := q521
theorem mhJ6_canEncode : yJ6_canEncode.cls ≠ "java/lang/invoke/MethodHandle" ∧ yJ6_canEncode.cls ≠ "java/lang/invoke/VarHandle" := by decide +kernel
theorem mnJ6_canEncode : (parseMethodDescriptor yJ6_canEncode.desc).map (fun d => d.parameters.length) = some 1 := by decide +kernel
abbrev mJ6_charAt : MI := (yJ6_charAt, cJ6_charAt, 2, (some FieldType.char), [])
theorem mqJ6_charAt : mW mJ6_charAt ∈ lw_all := q478
theorem mhJ6_charAt : yJ6_charAt.cls ≠ "java/lang/invoke/MethodHandle" ∧ yJ6_charAt.cls ≠ "java/lang/invoke/VarHandle" := by decide +kernel
theorem mnJ6_charAt : (parseMethodDescriptor yJ6_charAt.desc).map (fun d => d.parameters.length) = some 2 := by decide +kernel
abbrev mJ6_indexOf : MI := (yJ6_indexOf, cJ6_indexOf, 4, (some FieldType.int), [])
theorem mqJ6_indexOf : mW mJ6_indexOf ∈ lw_all := q518
theorem mhJ6_indexOf : yJ6_indexOf.cls ≠ "java/lang/invoke/MethodHandle" ∧ yJ6_indexOf.cls ≠ "java/lang/invoke/VarHandle" := by decide +kernel
theorem mnJ6_indexOf : (parseMethodDescriptor yJ6_indexOf.desc).map (fun d => d.parameters.length) = some 4 := by decide +kernel
abbrev mJ6_indexOfChar : MI := (yJ6_indexOfChar, cJ6_indexOfChar, 6, (some FieldType.int), [])
theorem mqJ6_indexOfChar : mW mJ6_indexOfChar ∈ lw_all := q530
theorem mhJ6_indexOfChar : yJ6_indexOfChar.cls ≠ "java/lang/invoke/MethodHandle" ∧ yJ6_indexOfChar.cls ≠ "java/lang/invoke/VarHandle" := by decide +kernel
theorem mnJ6_indexOfChar : (parseMethodDescriptor yJ6_indexOfChar.desc).map (fun d => d.parameters.length) = some 4 := by decide +kernel
abbrev mJ8_charAt : MI := (yJ8_charAt, cJ8_charAt, 2, (some FieldType.char), [])
theorem mqJ8_charAt : mW mJ8_charAt ∈ lw_all := q489
theorem mhJ8_charAt : yJ8_charAt.cls ≠ "java/lang/invoke/MethodHandle" ∧ yJ8_charAt.cls ≠ "java/lang/invoke/VarHandle" := by decide +kernel
theorem mnJ8_charAt : (parseMethodDescriptor yJ8_charAt.desc).map (fun d => d.parameters.length) = some 2 := by decide +kernel
abbrev mJ8_checkBoundsBeginEnd : MI := (yJ8_checkBoundsBeginEnd, cJ8_checkBoundsBeginEnd, 3, none, [])
theorem mqJ8_checkBoundsBeginEnd : mW mJ8_checkBoundsBeginEnd ∈ lw_all := q542
theorem mhJ8_checkBoundsBeginEnd : yJ8_checkBoundsBeginEnd.cls ≠ "java/lang/invoke/MethodHandle" ∧ yJ8_checkBoundsBeginEnd.cls ≠ "java/lang/invoke/VarHandle" := by decide +kernel
theorem mnJ8_checkBoundsBeginEnd : (parseMethodDescriptor yJ8_checkBoundsBeginEnd.desc).map (fun d => d.parameters.length) = some 3 := by decide +kernel
abbrev mJ8_checkIndex : MI := (yJ8_checkIndex, cJ8_checkIndex, 2, none, [])
theorem mqJ8_checkIndex : mW mJ8_checkIndex ∈ lw_all := q492
theorem mhJ8_checkIndex : yJ8_checkIndex.cls ≠ "java/lang/invoke/MethodHandle" ∧ yJ8_checkIndex.cls ≠ "java/lang/invoke/VarHandle" := by decide +kernel
theorem mnJ8_checkIndex : (parseMethodDescriptor yJ8_checkIndex.desc).map (fun d => d.parameters.length) = some 2 := by decide +kernel
abbrev mJ8_getChar : MI := (yJ8_getChar, cJ8_getChar, 2, (some FieldType.char), [])
theorem mqJ8_getChar : mW mJ8_getChar ∈ lw_all := q499
theorem mhJ8_getChar : yJ8_getChar.cls ≠ "java/lang/invoke/MethodHandle" ∧ yJ8_getChar.cls ≠ "java/lang/invoke/VarHandle" := by decide +kernel
theorem mnJ8_getChar : (parseMethodDescriptor yJ8_getChar.desc).map (fun d => d.parameters.length) = some 2 := by decide +kernel
abbrev mJ8_indexOf : MI := (yJ8_indexOf, cJ8_indexOf, 4, (some FieldType.int), [])
theorem mqJ8_indexOf : mW mJ8_indexOf ∈ lw_all := q533
theorem mhJ8_indexOf : yJ8_indexOf.cls ≠ "java/lang/invoke/MethodHandle" ∧ yJ8_indexOf.cls ≠ "java/lang/invoke/VarHandle" := by decide +kernel
theorem mnJ8_indexOf : (parseMethodDescriptor yJ8_indexOf.desc).map (fun d => d.parameters.length) = some 4 := by decide +kernel
abbrev mJ8_indexOfChar : MI := (yJ8_indexOfChar, cJ8_indexOfChar, 4, (some FieldType.int), [])
theorem mqJ8_indexOfChar : mW mJ8_indexOfChar ∈ lw_all := q539
theorem mhJ8_indexOfChar : yJ8_indexOfChar.cls ≠ "java/lang/invoke/MethodHandle" ∧ yJ8_indexOfChar.cls ≠ "java/lang/invoke/VarHandle" := by decide +kernel
theorem mnJ8_indexOfChar : (parseMethodDescriptor yJ8_indexOfChar.desc).map (fun d => d.parameters.length) = some 4 := by decide +kernel
abbrev mJ8_indexOfCharUnsafe : MI := (yJ8_indexOfCharUnsafe, cJ8_indexOfCharUnsafe, 5, (some FieldType.int), [])
theorem mqJ8_indexOfCharUnsafe : mW mJ8_indexOfCharUnsafe ∈ lw_all := q551
theorem mhJ8_indexOfCharUnsafe : yJ8_indexOfCharUnsafe.cls ≠ "java/lang/invoke/MethodHandle" ∧ yJ8_indexOfCharUnsafe.cls ≠ "java/lang/invoke/VarHandle" := by decide +kernel
theorem mnJ8_indexOfCharUnsafe : (parseMethodDescriptor yJ8_indexOfCharUnsafe.desc).map (fun d => d.parameters.length) = some 4 := by decide +kernel
abbrev mJ8_indexOfSupplementary : MI := (yJ8_indexOfSupplementary, cJ8_indexOfSupplementary, 7, (some FieldType.int), [])
theorem mqJ8_indexOfSupplementary : mW mJ8_indexOfSupplementary ∈ lw_all := q554
theorem mhJ8_indexOfSupplementary : yJ8_indexOfSupplementary.cls ≠ "java/lang/invoke/MethodHandle" ∧ yJ8_indexOfSupplementary.cls ≠ "java/lang/invoke/VarHandle" := by decide +kernel
theorem mnJ8_indexOfSupplementary : (parseMethodDescriptor yJ8_indexOfSupplementary.desc).map (fun d => d.parameters.length) = some 4 := by decide +kernel
abbrev mJ8_length : MI := (yJ8_length, cJ8_length, 1, (some FieldType.int), [])
theorem mqJ8_length : mW mJ8_length ∈ lw_all := q495
theorem mhJ8_length : yJ8_length.cls ≠ "java/lang/invoke/MethodHandle" ∧ yJ8_length.cls ≠ "java/lang/invoke/VarHandle" := by decide +kernel
theorem mnJ8_length : (parseMethodDescriptor yJ8_length.desc).map (fun d => d.parameters.length) = some 1 := by decide +kernel
abbrev mJ0_init : MI := (yJ0_init, cJ0_init, 1, none, [])
theorem mqJ0_init : mW mJ0_init ∈ lw_all := q602
theorem mhJ0_init : yJ0_init.cls ≠ "java/lang/invoke/MethodHandle" ∧ yJ0_init.cls ≠ "java/lang/invoke/VarHandle" := by decide +kernel
theorem mnJ0_init : (parseMethodDescriptor yJ0_init.desc).map (fun d => d.parameters.length) = some 0 := by decide +kernel
abbrev mJ0_init_2 : MI := (yJ0_init_2, cJ0_init_2, 2, none, [])
theorem mqJ0_init_2 : mW mJ0_init_2 ∈ lw_all := q632
theorem mhJ0_init_2 : yJ0_init_2.cls ≠ "java/lang/invoke/MethodHandle" ∧ yJ0_init_2.cls ≠ "java/lang/invoke/VarHandle" := by decide +kernel
theorem mnJ0_init_2 : (parseMethodDescriptor yJ0_init_2.desc).map (fun d => d.parameters.length) = some 1 := by decide +kernel
abbrev mJ7_checkFromToIndex : MI := (yJ7_checkFromToIndex, cJ7_checkFromToIndex, 4, (some FieldType.int), [])
theorem mqJ7_checkFromToIndex : mW mJ7_checkFromToIndex ∈ lw_all := q548
theorem mhJ7_checkFromToIndex : yJ7_checkFromToIndex.cls ≠ "java/lang/invoke/MethodHandle" ∧ yJ7_checkFromToIndex.cls ≠ "java/lang/invoke/VarHandle" := by decide +kernel
theorem mnJ7_checkFromToIndex : (parseMethodDescriptor yJ7_checkFromToIndex.desc).map (fun d => d.parameters.length) = some 4 := by decide +kernel
abbrev mJ7_checkIndex : MI := (yJ7_checkIndex, cJ7_checkIndex, 3, (some FieldType.int), [])
theorem mqJ7_checkIndex : mW mJ7_checkIndex ∈ lw_all := q486
theorem mhJ7_checkIndex : yJ7_checkIndex.cls ≠ "java/lang/invoke/MethodHandle" ∧ yJ7_checkIndex.cls ≠ "java/lang/invoke/VarHandle" := by decide +kernel
theorem mnJ7_checkIndex : (parseMethodDescriptor yJ7_checkIndex.desc).map (fun d => d.parameters.length) = some 3 := by decide +kernel
