/-! THE CELLS THAT ARE THERE ALL THROUGH: x = 68 with its arrays, m = 116 with its arrays; by program -/
def tgL : List (Nat × Nat × Nat) := [(1, 106, 0), (68, 0, 0), (69, 102, 600), (70, 1, 0), (71, 107, 17), (72, 108, 10), (73, 100, 26), (74, 104, 26), (75, 109, 6), (76, 104, 120), (77, 104, 4), (78, 109, 8), (79, 104, 12), (80, 104, 12), (81, 104, 12), (82, 102, 6000), (83, 102, 6000), (84, 102, 6000), (85, 2, 0), (86, 2, 0), (87, 2, 0), (88, 2, 0), (89, 2, 0), (90, 2, 0), (91, 2, 0), (92, 2, 0), (93, 2, 0), (94, 2, 0), (95, 2, 0), (96, 2, 0), (97, 2, 0), (98, 2, 0), (99, 2, 0), (100, 2, 0), (101, 2, 0), (102, 3, 0), (103, 3, 0), (104, 3, 0), (105, 3, 0), (106, 3, 0), (107, 3, 0), (108, 3, 0), (109, 3, 0), (110, 3, 0), (111, 3, 0), (112, 3, 0), (113, 3, 0), (114, 3, 0), (115, 3, 0), (116, 4, 0), (117, 102, 600), (118, 102, 12000), (119, 104, 1600), (120, 104, 1600), (121, 100, 10), (122, 100, 10), (123, 104, 10), (124, 104, 16000), (125, 104, 16000), (126, 104, 10), (127, 104, 400), (128, 104, 400), (129, 104, 400), (130, 104, 400), (131, 104, 400), (132, 104, 400), (133, 104, 400), (134, 104, 26), (135, 104, 14), (136, 104, 16), (137, 104, 16), (138, 105, 192), (139, 104, 4), (140, 104, 120), (141, 104, 16), (142, 104, 12), (143, 104, 12), (144, 105, 12)]
def rfL : List (Nat × Nat × Nat) := [(68, 0, 69), (68, 8, 70), (68, 11, 71), (68, 12, 72), (68, 13, 73), (68, 14, 74), (68, 15, 75), (68, 16, 76), (68, 17, 77), (68, 18, 78), (68, 25, 79), (68, 26, 80), (68, 27, 81), (68, 33, 82), (68, 34, 83), (68, 38, 84), (71, 0, 85), (71, 1, 86), (71, 2, 87), (71, 3, 88), (71, 4, 89), (71, 5, 90), (71, 6, 91), (71, 7, 92), (71, 8, 93), (71, 9, 94), (71, 10, 95), (71, 11, 96), (71, 12, 97), (71, 13, 98), (71, 14, 99), (71, 15, 100), (71, 16, 101), (75, 0, 102), (75, 1, 103), (75, 2, 104), (75, 3, 105), (75, 4, 106), (75, 5, 107), (78, 0, 108), (78, 1, 109), (78, 2, 110), (78, 3, 111), (78, 4, 112), (78, 5, 113), (78, 6, 114), (78, 7, 115), (116, 0, 117), (116, 2, 118), (116, 9, 119), (116, 10, 120), (116, 22, 121), (116, 23, 122), (116, 24, 123), (116, 25, 124), (116, 26, 125), (116, 27, 126), (116, 28, 127), (116, 29, 128), (116, 30, 129), (116, 31, 130), (116, 32, 131), (116, 33, 132), (116, 34, 133), (116, 36, 134), (116, 37, 135), (116, 39, 136), (116, 40, 137), (116, 41, 138), (116, 42, 139), (116, 43, 140), (116, 48, 141), (116, 60, 142), (116, 61, 143), (116, 65, 144)]
/-- the texts: a string and its bytes -/
def sxL : List (Nat × List Nat) := [(10, [115, 101, 116]), (12, [119, 104, 105, 108, 101]), (14, [119, 104, 101, 110]), (16, [108, 101, 116]), (18, [117, 110, 108, 101, 116]), (20, [112, 117, 115, 104]), (22, [112, 111, 112]), (24, [110, 101, 119]), (26, [101, 110, 100]), (28, [99, 97, 108, 108]), (30, [117, 110, 99, 97, 108, 108]), (32, [105, 102]), (34, [102, 114, 111, 109]), (36, [101, 108, 115, 101]), (38, [102, 105]), (40, [108, 111, 111, 112]), (42, [117, 110, 116, 105, 108]), (44, [105, 110, 116]), (46, [108, 111, 110, 103]), (48, [115, 104, 111, 114, 116]), (50, [98, 121, 116, 101]), (52, [99, 104, 97, 114]), (54, [43, 61]), (56, [45, 61]), (58, [94, 61]), (60, [60, 60]), (62, [62, 62]), (64, [60, 62]), (66, [108, 101, 116, 32, 117, 110, 108, 101, 116, 32, 112, 117, 115, 104, 32, 112, 111, 112, 32, 110, 101, 119, 32, 101, 110, 100, 32, 99, 97, 108, 108, 32, 117, 110, 99, 97, 108, 108, 32, 105, 102, 32, 101, 108, 115, 101, 32, 102, 105, 32, 102, 114, 111, 109, 32, 108, 111, 111, 112, 32, 117, 110, 116, 105, 108, 32, 115, 101, 116, 32, 119, 104, 105, 108, 101, 32, 119, 104, 101, 110, 32, 105, 110, 116, 32, 108, 111, 110, 103, 32, 115, 104, 111, 114, 116, 32, 98, 121, 116, 101, 32, 99, 104, 97, 114, 32])]
def Ss (h : hp) (a : Nat) (bs : List Nat) : Prop := hT h a = (45, 0) ∧ hR h a 0 = some (a + 1) ∧ hI h a 1 = 0 ∧ hT h (a + 1) = (110, bs.length) ∧ ∀ j, j < bs.length → hI h (a + 1) j = (bs.getD j 0 : Nat)
def St (h : hp) : Prop := 145 ≤ hN h ∧ (∀ p ∈ tgL, hT h p.1 = p.2) ∧ (∀ p ∈ rfL, hR h p.1 p.2.1 = some p.2.2) ∧ (∀ p ∈ sxL, Ss h p.1 p.2) ∧ ∀ k, k < 17 → hI h (85 + k) 6 = (k : Nat)
theorem stt_1 {h : hp} (hS : St h) : hT h 1 = (106, 0) := hS.2.1 (1, 106, 0) (by simp [tgL])
theorem stt_68 {h : hp} (hS : St h) : hT h 68 = (0, 0) := hS.2.1 (68, 0, 0) (by simp [tgL])
theorem stt_69 {h : hp} (hS : St h) : hT h 69 = (102, 600) := hS.2.1 (69, 102, 600) (by simp [tgL])
theorem stt_70 {h : hp} (hS : St h) : hT h 70 = (1, 0) := hS.2.1 (70, 1, 0) (by simp [tgL])
theorem stt_71 {h : hp} (hS : St h) : hT h 71 = (107, 17) := hS.2.1 (71, 107, 17) (by simp [tgL])
theorem stt_72 {h : hp} (hS : St h) : hT h 72 = (108, 10) := hS.2.1 (72, 108, 10) (by simp [tgL])
theorem stt_73 {h : hp} (hS : St h) : hT h 73 = (100, 26) := hS.2.1 (73, 100, 26) (by simp [tgL])
theorem stt_74 {h : hp} (hS : St h) : hT h 74 = (104, 26) := hS.2.1 (74, 104, 26) (by simp [tgL])
theorem stt_75 {h : hp} (hS : St h) : hT h 75 = (109, 6) := hS.2.1 (75, 109, 6) (by simp [tgL])
theorem stt_76 {h : hp} (hS : St h) : hT h 76 = (104, 120) := hS.2.1 (76, 104, 120) (by simp [tgL])
theorem stt_77 {h : hp} (hS : St h) : hT h 77 = (104, 4) := hS.2.1 (77, 104, 4) (by simp [tgL])
theorem stt_78 {h : hp} (hS : St h) : hT h 78 = (109, 8) := hS.2.1 (78, 109, 8) (by simp [tgL])
theorem stt_79 {h : hp} (hS : St h) : hT h 79 = (104, 12) := hS.2.1 (79, 104, 12) (by simp [tgL])
theorem stt_80 {h : hp} (hS : St h) : hT h 80 = (104, 12) := hS.2.1 (80, 104, 12) (by simp [tgL])
theorem stt_81 {h : hp} (hS : St h) : hT h 81 = (104, 12) := hS.2.1 (81, 104, 12) (by simp [tgL])
theorem stt_82 {h : hp} (hS : St h) : hT h 82 = (102, 6000) := hS.2.1 (82, 102, 6000) (by simp [tgL])
theorem stt_83 {h : hp} (hS : St h) : hT h 83 = (102, 6000) := hS.2.1 (83, 102, 6000) (by simp [tgL])
theorem stt_84 {h : hp} (hS : St h) : hT h 84 = (102, 6000) := hS.2.1 (84, 102, 6000) (by simp [tgL])
theorem stt_85 {h : hp} (hS : St h) : hT h 85 = (2, 0) := hS.2.1 (85, 2, 0) (by simp [tgL])
theorem stt_86 {h : hp} (hS : St h) : hT h 86 = (2, 0) := hS.2.1 (86, 2, 0) (by simp [tgL])
theorem stt_87 {h : hp} (hS : St h) : hT h 87 = (2, 0) := hS.2.1 (87, 2, 0) (by simp [tgL])
theorem stt_88 {h : hp} (hS : St h) : hT h 88 = (2, 0) := hS.2.1 (88, 2, 0) (by simp [tgL])
theorem stt_89 {h : hp} (hS : St h) : hT h 89 = (2, 0) := hS.2.1 (89, 2, 0) (by simp [tgL])
theorem stt_90 {h : hp} (hS : St h) : hT h 90 = (2, 0) := hS.2.1 (90, 2, 0) (by simp [tgL])
theorem stt_91 {h : hp} (hS : St h) : hT h 91 = (2, 0) := hS.2.1 (91, 2, 0) (by simp [tgL])
theorem stt_92 {h : hp} (hS : St h) : hT h 92 = (2, 0) := hS.2.1 (92, 2, 0) (by simp [tgL])
theorem stt_93 {h : hp} (hS : St h) : hT h 93 = (2, 0) := hS.2.1 (93, 2, 0) (by simp [tgL])
theorem stt_94 {h : hp} (hS : St h) : hT h 94 = (2, 0) := hS.2.1 (94, 2, 0) (by simp [tgL])
theorem stt_95 {h : hp} (hS : St h) : hT h 95 = (2, 0) := hS.2.1 (95, 2, 0) (by simp [tgL])
theorem stt_96 {h : hp} (hS : St h) : hT h 96 = (2, 0) := hS.2.1 (96, 2, 0) (by simp [tgL])
theorem stt_97 {h : hp} (hS : St h) : hT h 97 = (2, 0) := hS.2.1 (97, 2, 0) (by simp [tgL])
theorem stt_98 {h : hp} (hS : St h) : hT h 98 = (2, 0) := hS.2.1 (98, 2, 0) (by simp [tgL])
theorem stt_99 {h : hp} (hS : St h) : hT h 99 = (2, 0) := hS.2.1 (99, 2, 0) (by simp [tgL])
theorem stt_100 {h : hp} (hS : St h) : hT h 100 = (2, 0) := hS.2.1 (100, 2, 0) (by simp [tgL])
theorem stt_101 {h : hp} (hS : St h) : hT h 101 = (2, 0) := hS.2.1 (101, 2, 0) (by simp [tgL])
theorem stt_102 {h : hp} (hS : St h) : hT h 102 = (3, 0) := hS.2.1 (102, 3, 0) (by simp [tgL])
theorem stt_103 {h : hp} (hS : St h) : hT h 103 = (3, 0) := hS.2.1 (103, 3, 0) (by simp [tgL])
theorem stt_104 {h : hp} (hS : St h) : hT h 104 = (3, 0) := hS.2.1 (104, 3, 0) (by simp [tgL])
theorem stt_105 {h : hp} (hS : St h) : hT h 105 = (3, 0) := hS.2.1 (105, 3, 0) (by simp [tgL])
theorem stt_106 {h : hp} (hS : St h) : hT h 106 = (3, 0) := hS.2.1 (106, 3, 0) (by simp [tgL])
theorem stt_107 {h : hp} (hS : St h) : hT h 107 = (3, 0) := hS.2.1 (107, 3, 0) (by simp [tgL])
theorem stt_108 {h : hp} (hS : St h) : hT h 108 = (3, 0) := hS.2.1 (108, 3, 0) (by simp [tgL])
theorem stt_109 {h : hp} (hS : St h) : hT h 109 = (3, 0) := hS.2.1 (109, 3, 0) (by simp [tgL])
theorem stt_110 {h : hp} (hS : St h) : hT h 110 = (3, 0) := hS.2.1 (110, 3, 0) (by simp [tgL])
theorem stt_111 {h : hp} (hS : St h) : hT h 111 = (3, 0) := hS.2.1 (111, 3, 0) (by simp [tgL])
theorem stt_112 {h : hp} (hS : St h) : hT h 112 = (3, 0) := hS.2.1 (112, 3, 0) (by simp [tgL])
theorem stt_113 {h : hp} (hS : St h) : hT h 113 = (3, 0) := hS.2.1 (113, 3, 0) (by simp [tgL])
theorem stt_114 {h : hp} (hS : St h) : hT h 114 = (3, 0) := hS.2.1 (114, 3, 0) (by simp [tgL])
theorem stt_115 {h : hp} (hS : St h) : hT h 115 = (3, 0) := hS.2.1 (115, 3, 0) (by simp [tgL])
theorem stt_116 {h : hp} (hS : St h) : hT h 116 = (4, 0) := hS.2.1 (116, 4, 0) (by simp [tgL])
theorem stt_117 {h : hp} (hS : St h) : hT h 117 = (102, 600) := hS.2.1 (117, 102, 600) (by simp [tgL])
theorem stt_118 {h : hp} (hS : St h) : hT h 118 = (102, 12000) := hS.2.1 (118, 102, 12000) (by simp [tgL])
theorem stt_119 {h : hp} (hS : St h) : hT h 119 = (104, 1600) := hS.2.1 (119, 104, 1600) (by simp [tgL])
theorem stt_120 {h : hp} (hS : St h) : hT h 120 = (104, 1600) := hS.2.1 (120, 104, 1600) (by simp [tgL])
theorem stt_121 {h : hp} (hS : St h) : hT h 121 = (100, 10) := hS.2.1 (121, 100, 10) (by simp [tgL])
theorem stt_122 {h : hp} (hS : St h) : hT h 122 = (100, 10) := hS.2.1 (122, 100, 10) (by simp [tgL])
theorem stt_123 {h : hp} (hS : St h) : hT h 123 = (104, 10) := hS.2.1 (123, 104, 10) (by simp [tgL])
theorem stt_124 {h : hp} (hS : St h) : hT h 124 = (104, 16000) := hS.2.1 (124, 104, 16000) (by simp [tgL])
theorem stt_125 {h : hp} (hS : St h) : hT h 125 = (104, 16000) := hS.2.1 (125, 104, 16000) (by simp [tgL])
theorem stt_126 {h : hp} (hS : St h) : hT h 126 = (104, 10) := hS.2.1 (126, 104, 10) (by simp [tgL])
theorem stt_127 {h : hp} (hS : St h) : hT h 127 = (104, 400) := hS.2.1 (127, 104, 400) (by simp [tgL])
theorem stt_128 {h : hp} (hS : St h) : hT h 128 = (104, 400) := hS.2.1 (128, 104, 400) (by simp [tgL])
theorem stt_129 {h : hp} (hS : St h) : hT h 129 = (104, 400) := hS.2.1 (129, 104, 400) (by simp [tgL])
theorem stt_130 {h : hp} (hS : St h) : hT h 130 = (104, 400) := hS.2.1 (130, 104, 400) (by simp [tgL])
theorem stt_131 {h : hp} (hS : St h) : hT h 131 = (104, 400) := hS.2.1 (131, 104, 400) (by simp [tgL])
theorem stt_132 {h : hp} (hS : St h) : hT h 132 = (104, 400) := hS.2.1 (132, 104, 400) (by simp [tgL])
theorem stt_133 {h : hp} (hS : St h) : hT h 133 = (104, 400) := hS.2.1 (133, 104, 400) (by simp [tgL])
theorem stt_134 {h : hp} (hS : St h) : hT h 134 = (104, 26) := hS.2.1 (134, 104, 26) (by simp [tgL])
theorem stt_135 {h : hp} (hS : St h) : hT h 135 = (104, 14) := hS.2.1 (135, 104, 14) (by simp [tgL])
theorem stt_136 {h : hp} (hS : St h) : hT h 136 = (104, 16) := hS.2.1 (136, 104, 16) (by simp [tgL])
theorem stt_137 {h : hp} (hS : St h) : hT h 137 = (104, 16) := hS.2.1 (137, 104, 16) (by simp [tgL])
theorem stt_138 {h : hp} (hS : St h) : hT h 138 = (105, 192) := hS.2.1 (138, 105, 192) (by simp [tgL])
theorem stt_139 {h : hp} (hS : St h) : hT h 139 = (104, 4) := hS.2.1 (139, 104, 4) (by simp [tgL])
theorem stt_140 {h : hp} (hS : St h) : hT h 140 = (104, 120) := hS.2.1 (140, 104, 120) (by simp [tgL])
theorem stt_141 {h : hp} (hS : St h) : hT h 141 = (104, 16) := hS.2.1 (141, 104, 16) (by simp [tgL])
theorem stt_142 {h : hp} (hS : St h) : hT h 142 = (104, 12) := hS.2.1 (142, 104, 12) (by simp [tgL])
theorem stt_143 {h : hp} (hS : St h) : hT h 143 = (104, 12) := hS.2.1 (143, 104, 12) (by simp [tgL])
theorem stt_144 {h : hp} (hS : St h) : hT h 144 = (105, 12) := hS.2.1 (144, 105, 12) (by simp [tgL])
theorem str_68_0 {h : hp} (hS : St h) : hR h 68 0 = some 69 := hS.2.2.1 (68, 0, 69) (by simp [rfL])
theorem str_68_8 {h : hp} (hS : St h) : hR h 68 8 = some 70 := hS.2.2.1 (68, 8, 70) (by simp [rfL])
theorem str_68_11 {h : hp} (hS : St h) : hR h 68 11 = some 71 := hS.2.2.1 (68, 11, 71) (by simp [rfL])
theorem str_68_12 {h : hp} (hS : St h) : hR h 68 12 = some 72 := hS.2.2.1 (68, 12, 72) (by simp [rfL])
theorem str_68_13 {h : hp} (hS : St h) : hR h 68 13 = some 73 := hS.2.2.1 (68, 13, 73) (by simp [rfL])
theorem str_68_14 {h : hp} (hS : St h) : hR h 68 14 = some 74 := hS.2.2.1 (68, 14, 74) (by simp [rfL])
theorem str_68_15 {h : hp} (hS : St h) : hR h 68 15 = some 75 := hS.2.2.1 (68, 15, 75) (by simp [rfL])
theorem str_68_16 {h : hp} (hS : St h) : hR h 68 16 = some 76 := hS.2.2.1 (68, 16, 76) (by simp [rfL])
theorem str_68_17 {h : hp} (hS : St h) : hR h 68 17 = some 77 := hS.2.2.1 (68, 17, 77) (by simp [rfL])
theorem str_68_18 {h : hp} (hS : St h) : hR h 68 18 = some 78 := hS.2.2.1 (68, 18, 78) (by simp [rfL])
theorem str_68_25 {h : hp} (hS : St h) : hR h 68 25 = some 79 := hS.2.2.1 (68, 25, 79) (by simp [rfL])
theorem str_68_26 {h : hp} (hS : St h) : hR h 68 26 = some 80 := hS.2.2.1 (68, 26, 80) (by simp [rfL])
theorem str_68_27 {h : hp} (hS : St h) : hR h 68 27 = some 81 := hS.2.2.1 (68, 27, 81) (by simp [rfL])
theorem str_68_33 {h : hp} (hS : St h) : hR h 68 33 = some 82 := hS.2.2.1 (68, 33, 82) (by simp [rfL])
theorem str_68_34 {h : hp} (hS : St h) : hR h 68 34 = some 83 := hS.2.2.1 (68, 34, 83) (by simp [rfL])
theorem str_68_38 {h : hp} (hS : St h) : hR h 68 38 = some 84 := hS.2.2.1 (68, 38, 84) (by simp [rfL])
theorem str_71_0 {h : hp} (hS : St h) : hR h 71 0 = some 85 := hS.2.2.1 (71, 0, 85) (by simp [rfL])
theorem str_71_1 {h : hp} (hS : St h) : hR h 71 1 = some 86 := hS.2.2.1 (71, 1, 86) (by simp [rfL])
theorem str_71_2 {h : hp} (hS : St h) : hR h 71 2 = some 87 := hS.2.2.1 (71, 2, 87) (by simp [rfL])
theorem str_71_3 {h : hp} (hS : St h) : hR h 71 3 = some 88 := hS.2.2.1 (71, 3, 88) (by simp [rfL])
theorem str_71_4 {h : hp} (hS : St h) : hR h 71 4 = some 89 := hS.2.2.1 (71, 4, 89) (by simp [rfL])
theorem str_71_5 {h : hp} (hS : St h) : hR h 71 5 = some 90 := hS.2.2.1 (71, 5, 90) (by simp [rfL])
theorem str_71_6 {h : hp} (hS : St h) : hR h 71 6 = some 91 := hS.2.2.1 (71, 6, 91) (by simp [rfL])
theorem str_71_7 {h : hp} (hS : St h) : hR h 71 7 = some 92 := hS.2.2.1 (71, 7, 92) (by simp [rfL])
theorem str_71_8 {h : hp} (hS : St h) : hR h 71 8 = some 93 := hS.2.2.1 (71, 8, 93) (by simp [rfL])
theorem str_71_9 {h : hp} (hS : St h) : hR h 71 9 = some 94 := hS.2.2.1 (71, 9, 94) (by simp [rfL])
theorem str_71_10 {h : hp} (hS : St h) : hR h 71 10 = some 95 := hS.2.2.1 (71, 10, 95) (by simp [rfL])
theorem str_71_11 {h : hp} (hS : St h) : hR h 71 11 = some 96 := hS.2.2.1 (71, 11, 96) (by simp [rfL])
theorem str_71_12 {h : hp} (hS : St h) : hR h 71 12 = some 97 := hS.2.2.1 (71, 12, 97) (by simp [rfL])
theorem str_71_13 {h : hp} (hS : St h) : hR h 71 13 = some 98 := hS.2.2.1 (71, 13, 98) (by simp [rfL])
theorem str_71_14 {h : hp} (hS : St h) : hR h 71 14 = some 99 := hS.2.2.1 (71, 14, 99) (by simp [rfL])
theorem str_71_15 {h : hp} (hS : St h) : hR h 71 15 = some 100 := hS.2.2.1 (71, 15, 100) (by simp [rfL])
theorem str_71_16 {h : hp} (hS : St h) : hR h 71 16 = some 101 := hS.2.2.1 (71, 16, 101) (by simp [rfL])
theorem str_75_0 {h : hp} (hS : St h) : hR h 75 0 = some 102 := hS.2.2.1 (75, 0, 102) (by simp [rfL])
theorem str_75_1 {h : hp} (hS : St h) : hR h 75 1 = some 103 := hS.2.2.1 (75, 1, 103) (by simp [rfL])
theorem str_75_2 {h : hp} (hS : St h) : hR h 75 2 = some 104 := hS.2.2.1 (75, 2, 104) (by simp [rfL])
theorem str_75_3 {h : hp} (hS : St h) : hR h 75 3 = some 105 := hS.2.2.1 (75, 3, 105) (by simp [rfL])
theorem str_75_4 {h : hp} (hS : St h) : hR h 75 4 = some 106 := hS.2.2.1 (75, 4, 106) (by simp [rfL])
theorem str_75_5 {h : hp} (hS : St h) : hR h 75 5 = some 107 := hS.2.2.1 (75, 5, 107) (by simp [rfL])
theorem str_78_0 {h : hp} (hS : St h) : hR h 78 0 = some 108 := hS.2.2.1 (78, 0, 108) (by simp [rfL])
theorem str_78_1 {h : hp} (hS : St h) : hR h 78 1 = some 109 := hS.2.2.1 (78, 1, 109) (by simp [rfL])
theorem str_78_2 {h : hp} (hS : St h) : hR h 78 2 = some 110 := hS.2.2.1 (78, 2, 110) (by simp [rfL])
theorem str_78_3 {h : hp} (hS : St h) : hR h 78 3 = some 111 := hS.2.2.1 (78, 3, 111) (by simp [rfL])
theorem str_78_4 {h : hp} (hS : St h) : hR h 78 4 = some 112 := hS.2.2.1 (78, 4, 112) (by simp [rfL])
theorem str_78_5 {h : hp} (hS : St h) : hR h 78 5 = some 113 := hS.2.2.1 (78, 5, 113) (by simp [rfL])
theorem str_78_6 {h : hp} (hS : St h) : hR h 78 6 = some 114 := hS.2.2.1 (78, 6, 114) (by simp [rfL])
theorem str_78_7 {h : hp} (hS : St h) : hR h 78 7 = some 115 := hS.2.2.1 (78, 7, 115) (by simp [rfL])
theorem str_116_0 {h : hp} (hS : St h) : hR h 116 0 = some 117 := hS.2.2.1 (116, 0, 117) (by simp [rfL])
theorem str_116_2 {h : hp} (hS : St h) : hR h 116 2 = some 118 := hS.2.2.1 (116, 2, 118) (by simp [rfL])
theorem str_116_9 {h : hp} (hS : St h) : hR h 116 9 = some 119 := hS.2.2.1 (116, 9, 119) (by simp [rfL])
theorem str_116_10 {h : hp} (hS : St h) : hR h 116 10 = some 120 := hS.2.2.1 (116, 10, 120) (by simp [rfL])
theorem str_116_22 {h : hp} (hS : St h) : hR h 116 22 = some 121 := hS.2.2.1 (116, 22, 121) (by simp [rfL])
theorem str_116_23 {h : hp} (hS : St h) : hR h 116 23 = some 122 := hS.2.2.1 (116, 23, 122) (by simp [rfL])
theorem str_116_24 {h : hp} (hS : St h) : hR h 116 24 = some 123 := hS.2.2.1 (116, 24, 123) (by simp [rfL])
theorem str_116_25 {h : hp} (hS : St h) : hR h 116 25 = some 124 := hS.2.2.1 (116, 25, 124) (by simp [rfL])
theorem str_116_26 {h : hp} (hS : St h) : hR h 116 26 = some 125 := hS.2.2.1 (116, 26, 125) (by simp [rfL])
theorem str_116_27 {h : hp} (hS : St h) : hR h 116 27 = some 126 := hS.2.2.1 (116, 27, 126) (by simp [rfL])
theorem str_116_28 {h : hp} (hS : St h) : hR h 116 28 = some 127 := hS.2.2.1 (116, 28, 127) (by simp [rfL])
theorem str_116_29 {h : hp} (hS : St h) : hR h 116 29 = some 128 := hS.2.2.1 (116, 29, 128) (by simp [rfL])
theorem str_116_30 {h : hp} (hS : St h) : hR h 116 30 = some 129 := hS.2.2.1 (116, 30, 129) (by simp [rfL])
theorem str_116_31 {h : hp} (hS : St h) : hR h 116 31 = some 130 := hS.2.2.1 (116, 31, 130) (by simp [rfL])
theorem str_116_32 {h : hp} (hS : St h) : hR h 116 32 = some 131 := hS.2.2.1 (116, 32, 131) (by simp [rfL])
theorem str_116_33 {h : hp} (hS : St h) : hR h 116 33 = some 132 := hS.2.2.1 (116, 33, 132) (by simp [rfL])
theorem str_116_34 {h : hp} (hS : St h) : hR h 116 34 = some 133 := hS.2.2.1 (116, 34, 133) (by simp [rfL])
theorem str_116_36 {h : hp} (hS : St h) : hR h 116 36 = some 134 := hS.2.2.1 (116, 36, 134) (by simp [rfL])
theorem str_116_37 {h : hp} (hS : St h) : hR h 116 37 = some 135 := hS.2.2.1 (116, 37, 135) (by simp [rfL])
theorem str_116_39 {h : hp} (hS : St h) : hR h 116 39 = some 136 := hS.2.2.1 (116, 39, 136) (by simp [rfL])
theorem str_116_40 {h : hp} (hS : St h) : hR h 116 40 = some 137 := hS.2.2.1 (116, 40, 137) (by simp [rfL])
theorem str_116_41 {h : hp} (hS : St h) : hR h 116 41 = some 138 := hS.2.2.1 (116, 41, 138) (by simp [rfL])
theorem str_116_42 {h : hp} (hS : St h) : hR h 116 42 = some 139 := hS.2.2.1 (116, 42, 139) (by simp [rfL])
theorem str_116_43 {h : hp} (hS : St h) : hR h 116 43 = some 140 := hS.2.2.1 (116, 43, 140) (by simp [rfL])
theorem str_116_48 {h : hp} (hS : St h) : hR h 116 48 = some 141 := hS.2.2.1 (116, 48, 141) (by simp [rfL])
theorem str_116_60 {h : hp} (hS : St h) : hR h 116 60 = some 142 := hS.2.2.1 (116, 60, 142) (by simp [rfL])
theorem str_116_61 {h : hp} (hS : St h) : hR h 116 61 = some 143 := hS.2.2.1 (116, 61, 143) (by simp [rfL])
theorem str_116_65 {h : hp} (hS : St h) : hR h 116 65 = some 144 := hS.2.2.1 (116, 65, 144) (by simp [rfL])
theorem sts_10 {h : hp} (hS : St h) : Ss h 10 [115, 101, 116] := hS.2.2.2.1 (10, [115, 101, 116]) (by simp [sxL])
theorem sts_12 {h : hp} (hS : St h) : Ss h 12 [119, 104, 105, 108, 101] := hS.2.2.2.1 (12, [119, 104, 105, 108, 101]) (by simp [sxL])
theorem sts_14 {h : hp} (hS : St h) : Ss h 14 [119, 104, 101, 110] := hS.2.2.2.1 (14, [119, 104, 101, 110]) (by simp [sxL])
theorem sts_16 {h : hp} (hS : St h) : Ss h 16 [108, 101, 116] := hS.2.2.2.1 (16, [108, 101, 116]) (by simp [sxL])
theorem sts_18 {h : hp} (hS : St h) : Ss h 18 [117, 110, 108, 101, 116] := hS.2.2.2.1 (18, [117, 110, 108, 101, 116]) (by simp [sxL])
theorem sts_20 {h : hp} (hS : St h) : Ss h 20 [112, 117, 115, 104] := hS.2.2.2.1 (20, [112, 117, 115, 104]) (by simp [sxL])
theorem sts_22 {h : hp} (hS : St h) : Ss h 22 [112, 111, 112] := hS.2.2.2.1 (22, [112, 111, 112]) (by simp [sxL])
theorem sts_24 {h : hp} (hS : St h) : Ss h 24 [110, 101, 119] := hS.2.2.2.1 (24, [110, 101, 119]) (by simp [sxL])
theorem sts_26 {h : hp} (hS : St h) : Ss h 26 [101, 110, 100] := hS.2.2.2.1 (26, [101, 110, 100]) (by simp [sxL])
theorem sts_28 {h : hp} (hS : St h) : Ss h 28 [99, 97, 108, 108] := hS.2.2.2.1 (28, [99, 97, 108, 108]) (by simp [sxL])
theorem sts_30 {h : hp} (hS : St h) : Ss h 30 [117, 110, 99, 97, 108, 108] := hS.2.2.2.1 (30, [117, 110, 99, 97, 108, 108]) (by simp [sxL])
theorem sts_32 {h : hp} (hS : St h) : Ss h 32 [105, 102] := hS.2.2.2.1 (32, [105, 102]) (by simp [sxL])
theorem sts_34 {h : hp} (hS : St h) : Ss h 34 [102, 114, 111, 109] := hS.2.2.2.1 (34, [102, 114, 111, 109]) (by simp [sxL])
theorem sts_36 {h : hp} (hS : St h) : Ss h 36 [101, 108, 115, 101] := hS.2.2.2.1 (36, [101, 108, 115, 101]) (by simp [sxL])
theorem sts_38 {h : hp} (hS : St h) : Ss h 38 [102, 105] := hS.2.2.2.1 (38, [102, 105]) (by simp [sxL])
theorem sts_40 {h : hp} (hS : St h) : Ss h 40 [108, 111, 111, 112] := hS.2.2.2.1 (40, [108, 111, 111, 112]) (by simp [sxL])
theorem sts_42 {h : hp} (hS : St h) : Ss h 42 [117, 110, 116, 105, 108] := hS.2.2.2.1 (42, [117, 110, 116, 105, 108]) (by simp [sxL])
theorem sts_44 {h : hp} (hS : St h) : Ss h 44 [105, 110, 116] := hS.2.2.2.1 (44, [105, 110, 116]) (by simp [sxL])
theorem sts_46 {h : hp} (hS : St h) : Ss h 46 [108, 111, 110, 103] := hS.2.2.2.1 (46, [108, 111, 110, 103]) (by simp [sxL])
theorem sts_48 {h : hp} (hS : St h) : Ss h 48 [115, 104, 111, 114, 116] := hS.2.2.2.1 (48, [115, 104, 111, 114, 116]) (by simp [sxL])
theorem sts_50 {h : hp} (hS : St h) : Ss h 50 [98, 121, 116, 101] := hS.2.2.2.1 (50, [98, 121, 116, 101]) (by simp [sxL])
theorem sts_52 {h : hp} (hS : St h) : Ss h 52 [99, 104, 97, 114] := hS.2.2.2.1 (52, [99, 104, 97, 114]) (by simp [sxL])
theorem sts_54 {h : hp} (hS : St h) : Ss h 54 [43, 61] := hS.2.2.2.1 (54, [43, 61]) (by simp [sxL])
theorem sts_56 {h : hp} (hS : St h) : Ss h 56 [45, 61] := hS.2.2.2.1 (56, [45, 61]) (by simp [sxL])
theorem sts_58 {h : hp} (hS : St h) : Ss h 58 [94, 61] := hS.2.2.2.1 (58, [94, 61]) (by simp [sxL])
theorem sts_60 {h : hp} (hS : St h) : Ss h 60 [60, 60] := hS.2.2.2.1 (60, [60, 60]) (by simp [sxL])
theorem sts_62 {h : hp} (hS : St h) : Ss h 62 [62, 62] := hS.2.2.2.1 (62, [62, 62]) (by simp [sxL])
theorem sts_64 {h : hp} (hS : St h) : Ss h 64 [60, 62] := hS.2.2.2.1 (64, [60, 62]) (by simp [sxL])
theorem sts_66 {h : hp} (hS : St h) : Ss h 66 [108, 101, 116, 32, 117, 110, 108, 101, 116, 32, 112, 117, 115, 104, 32, 112, 111, 112, 32, 110, 101, 119, 32, 101, 110, 100, 32, 99, 97, 108, 108, 32, 117, 110, 99, 97, 108, 108, 32, 105, 102, 32, 101, 108, 115, 101, 32, 102, 105, 32, 102, 114, 111, 109, 32, 108, 111, 111, 112, 32, 117, 110, 116, 105, 108, 32, 115, 101, 116, 32, 119, 104, 105, 108, 101, 32, 119, 104, 101, 110, 32, 105, 110, 116, 32, 108, 111, 110, 103, 32, 115, 104, 111, 114, 116, 32, 98, 121, 116, 101, 32, 99, 104, 97, 114, 32] := hS.2.2.2.1 (66, [108, 101, 116, 32, 117, 110, 108, 101, 116, 32, 112, 117, 115, 104, 32, 112, 111, 112, 32, 110, 101, 119, 32, 101, 110, 100, 32, 99, 97, 108, 108, 32, 117, 110, 99, 97, 108, 108, 32, 105, 102, 32, 101, 108, 115, 101, 32, 102, 105, 32, 102, 114, 111, 109, 32, 108, 111, 111, 112, 32, 117, 110, 116, 105, 108, 32, 115, 101, 116, 32, 119, 104, 105, 108, 101, 32, 119, 104, 101, 110, 32, 105, 110, 116, 32, 108, 111, 110, 103, 32, 115, 104, 111, 114, 116, 32, 98, 121, 116, 101, 32, 99, 104, 97, 114, 32]) (by simp [sxL])
theorem stt_10 {h : hp} (hS : St h) : hT h 10 = (45, 0) := (sts_10 hS).1
theorem stt_11 {h : hp} (hS : St h) : hT h 11 = (110, 3) := (sts_10 hS).2.2.2.1
theorem str_10_0 {h : hp} (hS : St h) : hR h 10 0 = some 11 := (sts_10 hS).2.1
theorem stt_12 {h : hp} (hS : St h) : hT h 12 = (45, 0) := (sts_12 hS).1
theorem stt_13 {h : hp} (hS : St h) : hT h 13 = (110, 5) := (sts_12 hS).2.2.2.1
theorem str_12_0 {h : hp} (hS : St h) : hR h 12 0 = some 13 := (sts_12 hS).2.1
theorem stt_14 {h : hp} (hS : St h) : hT h 14 = (45, 0) := (sts_14 hS).1
theorem stt_15 {h : hp} (hS : St h) : hT h 15 = (110, 4) := (sts_14 hS).2.2.2.1
theorem str_14_0 {h : hp} (hS : St h) : hR h 14 0 = some 15 := (sts_14 hS).2.1
theorem stt_16 {h : hp} (hS : St h) : hT h 16 = (45, 0) := (sts_16 hS).1
theorem stt_17 {h : hp} (hS : St h) : hT h 17 = (110, 3) := (sts_16 hS).2.2.2.1
theorem str_16_0 {h : hp} (hS : St h) : hR h 16 0 = some 17 := (sts_16 hS).2.1
theorem stt_18 {h : hp} (hS : St h) : hT h 18 = (45, 0) := (sts_18 hS).1
theorem stt_19 {h : hp} (hS : St h) : hT h 19 = (110, 5) := (sts_18 hS).2.2.2.1
theorem str_18_0 {h : hp} (hS : St h) : hR h 18 0 = some 19 := (sts_18 hS).2.1
theorem stt_20 {h : hp} (hS : St h) : hT h 20 = (45, 0) := (sts_20 hS).1
theorem stt_21 {h : hp} (hS : St h) : hT h 21 = (110, 4) := (sts_20 hS).2.2.2.1
theorem str_20_0 {h : hp} (hS : St h) : hR h 20 0 = some 21 := (sts_20 hS).2.1
theorem stt_22 {h : hp} (hS : St h) : hT h 22 = (45, 0) := (sts_22 hS).1
theorem stt_23 {h : hp} (hS : St h) : hT h 23 = (110, 3) := (sts_22 hS).2.2.2.1
theorem str_22_0 {h : hp} (hS : St h) : hR h 22 0 = some 23 := (sts_22 hS).2.1
theorem stt_24 {h : hp} (hS : St h) : hT h 24 = (45, 0) := (sts_24 hS).1
theorem stt_25 {h : hp} (hS : St h) : hT h 25 = (110, 3) := (sts_24 hS).2.2.2.1
theorem str_24_0 {h : hp} (hS : St h) : hR h 24 0 = some 25 := (sts_24 hS).2.1
theorem stt_26 {h : hp} (hS : St h) : hT h 26 = (45, 0) := (sts_26 hS).1
theorem stt_27 {h : hp} (hS : St h) : hT h 27 = (110, 3) := (sts_26 hS).2.2.2.1
theorem str_26_0 {h : hp} (hS : St h) : hR h 26 0 = some 27 := (sts_26 hS).2.1
theorem stt_28 {h : hp} (hS : St h) : hT h 28 = (45, 0) := (sts_28 hS).1
theorem stt_29 {h : hp} (hS : St h) : hT h 29 = (110, 4) := (sts_28 hS).2.2.2.1
theorem str_28_0 {h : hp} (hS : St h) : hR h 28 0 = some 29 := (sts_28 hS).2.1
theorem stt_30 {h : hp} (hS : St h) : hT h 30 = (45, 0) := (sts_30 hS).1
theorem stt_31 {h : hp} (hS : St h) : hT h 31 = (110, 6) := (sts_30 hS).2.2.2.1
theorem str_30_0 {h : hp} (hS : St h) : hR h 30 0 = some 31 := (sts_30 hS).2.1
theorem stt_32 {h : hp} (hS : St h) : hT h 32 = (45, 0) := (sts_32 hS).1
theorem stt_33 {h : hp} (hS : St h) : hT h 33 = (110, 2) := (sts_32 hS).2.2.2.1
theorem str_32_0 {h : hp} (hS : St h) : hR h 32 0 = some 33 := (sts_32 hS).2.1
theorem stt_34 {h : hp} (hS : St h) : hT h 34 = (45, 0) := (sts_34 hS).1
theorem stt_35 {h : hp} (hS : St h) : hT h 35 = (110, 4) := (sts_34 hS).2.2.2.1
theorem str_34_0 {h : hp} (hS : St h) : hR h 34 0 = some 35 := (sts_34 hS).2.1
theorem stt_36 {h : hp} (hS : St h) : hT h 36 = (45, 0) := (sts_36 hS).1
theorem stt_37 {h : hp} (hS : St h) : hT h 37 = (110, 4) := (sts_36 hS).2.2.2.1
theorem str_36_0 {h : hp} (hS : St h) : hR h 36 0 = some 37 := (sts_36 hS).2.1
theorem stt_38 {h : hp} (hS : St h) : hT h 38 = (45, 0) := (sts_38 hS).1
theorem stt_39 {h : hp} (hS : St h) : hT h 39 = (110, 2) := (sts_38 hS).2.2.2.1
theorem str_38_0 {h : hp} (hS : St h) : hR h 38 0 = some 39 := (sts_38 hS).2.1
theorem stt_40 {h : hp} (hS : St h) : hT h 40 = (45, 0) := (sts_40 hS).1
theorem stt_41 {h : hp} (hS : St h) : hT h 41 = (110, 4) := (sts_40 hS).2.2.2.1
theorem str_40_0 {h : hp} (hS : St h) : hR h 40 0 = some 41 := (sts_40 hS).2.1
theorem stt_42 {h : hp} (hS : St h) : hT h 42 = (45, 0) := (sts_42 hS).1
theorem stt_43 {h : hp} (hS : St h) : hT h 43 = (110, 5) := (sts_42 hS).2.2.2.1
theorem str_42_0 {h : hp} (hS : St h) : hR h 42 0 = some 43 := (sts_42 hS).2.1
theorem stt_44 {h : hp} (hS : St h) : hT h 44 = (45, 0) := (sts_44 hS).1
theorem stt_45 {h : hp} (hS : St h) : hT h 45 = (110, 3) := (sts_44 hS).2.2.2.1
theorem str_44_0 {h : hp} (hS : St h) : hR h 44 0 = some 45 := (sts_44 hS).2.1
theorem stt_46 {h : hp} (hS : St h) : hT h 46 = (45, 0) := (sts_46 hS).1
theorem stt_47 {h : hp} (hS : St h) : hT h 47 = (110, 4) := (sts_46 hS).2.2.2.1
theorem str_46_0 {h : hp} (hS : St h) : hR h 46 0 = some 47 := (sts_46 hS).2.1
theorem stt_48 {h : hp} (hS : St h) : hT h 48 = (45, 0) := (sts_48 hS).1
theorem stt_49 {h : hp} (hS : St h) : hT h 49 = (110, 5) := (sts_48 hS).2.2.2.1
theorem str_48_0 {h : hp} (hS : St h) : hR h 48 0 = some 49 := (sts_48 hS).2.1
theorem stt_50 {h : hp} (hS : St h) : hT h 50 = (45, 0) := (sts_50 hS).1
theorem stt_51 {h : hp} (hS : St h) : hT h 51 = (110, 4) := (sts_50 hS).2.2.2.1
theorem str_50_0 {h : hp} (hS : St h) : hR h 50 0 = some 51 := (sts_50 hS).2.1
theorem stt_52 {h : hp} (hS : St h) : hT h 52 = (45, 0) := (sts_52 hS).1
theorem stt_53 {h : hp} (hS : St h) : hT h 53 = (110, 4) := (sts_52 hS).2.2.2.1
theorem str_52_0 {h : hp} (hS : St h) : hR h 52 0 = some 53 := (sts_52 hS).2.1
theorem stt_54 {h : hp} (hS : St h) : hT h 54 = (45, 0) := (sts_54 hS).1
theorem stt_55 {h : hp} (hS : St h) : hT h 55 = (110, 2) := (sts_54 hS).2.2.2.1
theorem str_54_0 {h : hp} (hS : St h) : hR h 54 0 = some 55 := (sts_54 hS).2.1
theorem stt_56 {h : hp} (hS : St h) : hT h 56 = (45, 0) := (sts_56 hS).1
theorem stt_57 {h : hp} (hS : St h) : hT h 57 = (110, 2) := (sts_56 hS).2.2.2.1
theorem str_56_0 {h : hp} (hS : St h) : hR h 56 0 = some 57 := (sts_56 hS).2.1
theorem stt_58 {h : hp} (hS : St h) : hT h 58 = (45, 0) := (sts_58 hS).1
theorem stt_59 {h : hp} (hS : St h) : hT h 59 = (110, 2) := (sts_58 hS).2.2.2.1
theorem str_58_0 {h : hp} (hS : St h) : hR h 58 0 = some 59 := (sts_58 hS).2.1
theorem stt_60 {h : hp} (hS : St h) : hT h 60 = (45, 0) := (sts_60 hS).1
theorem stt_61 {h : hp} (hS : St h) : hT h 61 = (110, 2) := (sts_60 hS).2.2.2.1
theorem str_60_0 {h : hp} (hS : St h) : hR h 60 0 = some 61 := (sts_60 hS).2.1
theorem stt_62 {h : hp} (hS : St h) : hT h 62 = (45, 0) := (sts_62 hS).1
theorem stt_63 {h : hp} (hS : St h) : hT h 63 = (110, 2) := (sts_62 hS).2.2.2.1
theorem str_62_0 {h : hp} (hS : St h) : hR h 62 0 = some 63 := (sts_62 hS).2.1
theorem stt_64 {h : hp} (hS : St h) : hT h 64 = (45, 0) := (sts_64 hS).1
theorem stt_65 {h : hp} (hS : St h) : hT h 65 = (110, 2) := (sts_64 hS).2.2.2.1
theorem str_64_0 {h : hp} (hS : St h) : hR h 64 0 = some 65 := (sts_64 hS).2.1
theorem stt_66 {h : hp} (hS : St h) : hT h 66 = (45, 0) := (sts_66 hS).1
theorem stt_67 {h : hp} (hS : St h) : hT h 67 = (110, 106) := (sts_66 hS).2.2.2.1
theorem str_66_0 {h : hp} (hS : St h) : hR h 66 0 = some 67 := (sts_66 hS).2.1
