set_option maxRecDepth 100000
theorem ic_m1 : Int32.ofInt (-1) = (-1 : Int32) := by decide
theorem ic_0 : Int32.ofInt 0 = (0 : Int32) := by decide
theorem ic_1 : Int32.ofInt 1 = (1 : Int32) := by decide
theorem ic_2 : Int32.ofInt 2 = (2 : Int32) := by decide
theorem ic_3 : Int32.ofInt 3 = (3 : Int32) := by decide
theorem ic_4 : Int32.ofInt 4 = (4 : Int32) := by decide
theorem ic_5 : Int32.ofInt 5 = (5 : Int32) := by decide
theorem bp_m2 : (Int8.ofInt (-2)).toInt32 = (-2 : Int32) := by decide
theorem bp_6 : (Int8.ofInt 6).toInt32 = (6 : Int32) := by decide
theorem bp_7 : (Int8.ofInt 7).toInt32 = (7 : Int32) := by decide
theorem bp_8 : (Int8.ofInt 8).toInt32 = (8 : Int32) := by decide
theorem bp_9 : (Int8.ofInt 9).toInt32 = (9 : Int32) := by decide
theorem bp_10 : (Int8.ofInt 10).toInt32 = (10 : Int32) := by decide
theorem bp_11 : (Int8.ofInt 11).toInt32 = (11 : Int32) := by decide
theorem bp_12 : (Int8.ofInt 12).toInt32 = (12 : Int32) := by decide
theorem bp_13 : (Int8.ofInt 13).toInt32 = (13 : Int32) := by decide
theorem bp_14 : (Int8.ofInt 14).toInt32 = (14 : Int32) := by decide
theorem bp_15 : (Int8.ofInt 15).toInt32 = (15 : Int32) := by decide
theorem bp_16 : (Int8.ofInt 16).toInt32 = (16 : Int32) := by decide
theorem bp_17 : (Int8.ofInt 17).toInt32 = (17 : Int32) := by decide
theorem bp_18 : (Int8.ofInt 18).toInt32 = (18 : Int32) := by decide
theorem bp_19 : (Int8.ofInt 19).toInt32 = (19 : Int32) := by decide
theorem bp_20 : (Int8.ofInt 20).toInt32 = (20 : Int32) := by decide
theorem bp_21 : (Int8.ofInt 21).toInt32 = (21 : Int32) := by decide
theorem bp_22 : (Int8.ofInt 22).toInt32 = (22 : Int32) := by decide
theorem bp_23 : (Int8.ofInt 23).toInt32 = (23 : Int32) := by decide
theorem bp_24 : (Int8.ofInt 24).toInt32 = (24 : Int32) := by decide
theorem bp_25 : (Int8.ofInt 25).toInt32 = (25 : Int32) := by decide
theorem bp_26 : (Int8.ofInt 26).toInt32 = (26 : Int32) := by decide
theorem bp_27 : (Int8.ofInt 27).toInt32 = (27 : Int32) := by decide
theorem bp_28 : (Int8.ofInt 28).toInt32 = (28 : Int32) := by decide
theorem bp_29 : (Int8.ofInt 29).toInt32 = (29 : Int32) := by decide
theorem bp_30 : (Int8.ofInt 30).toInt32 = (30 : Int32) := by decide
theorem bp_31 : (Int8.ofInt 31).toInt32 = (31 : Int32) := by decide
theorem bp_32 : (Int8.ofInt 32).toInt32 = (32 : Int32) := by decide
theorem bp_33 : (Int8.ofInt 33).toInt32 = (33 : Int32) := by decide
theorem bp_34 : (Int8.ofInt 34).toInt32 = (34 : Int32) := by decide
theorem bp_35 : (Int8.ofInt 35).toInt32 = (35 : Int32) := by decide
theorem bp_36 : (Int8.ofInt 36).toInt32 = (36 : Int32) := by decide
theorem bp_37 : (Int8.ofInt 37).toInt32 = (37 : Int32) := by decide
theorem bp_38 : (Int8.ofInt 38).toInt32 = (38 : Int32) := by decide
theorem bp_39 : (Int8.ofInt 39).toInt32 = (39 : Int32) := by decide
theorem bp_40 : (Int8.ofInt 40).toInt32 = (40 : Int32) := by decide
theorem bp_41 : (Int8.ofInt 41).toInt32 = (41 : Int32) := by decide
theorem bp_42 : (Int8.ofInt 42).toInt32 = (42 : Int32) := by decide
theorem bp_43 : (Int8.ofInt 43).toInt32 = (43 : Int32) := by decide
theorem bp_44 : (Int8.ofInt 44).toInt32 = (44 : Int32) := by decide
theorem bp_45 : (Int8.ofInt 45).toInt32 = (45 : Int32) := by decide
theorem bp_46 : (Int8.ofInt 46).toInt32 = (46 : Int32) := by decide
theorem bp_47 : (Int8.ofInt 47).toInt32 = (47 : Int32) := by decide
theorem bp_48 : (Int8.ofInt 48).toInt32 = (48 : Int32) := by decide
theorem bp_49 : (Int8.ofInt 49).toInt32 = (49 : Int32) := by decide
theorem bp_50 : (Int8.ofInt 50).toInt32 = (50 : Int32) := by decide
theorem bp_51 : (Int8.ofInt 51).toInt32 = (51 : Int32) := by decide
theorem bp_52 : (Int8.ofInt 52).toInt32 = (52 : Int32) := by decide
theorem bp_53 : (Int8.ofInt 53).toInt32 = (53 : Int32) := by decide
theorem bp_54 : (Int8.ofInt 54).toInt32 = (54 : Int32) := by decide
theorem bp_55 : (Int8.ofInt 55).toInt32 = (55 : Int32) := by decide
theorem bp_56 : (Int8.ofInt 56).toInt32 = (56 : Int32) := by decide
theorem bp_57 : (Int8.ofInt 57).toInt32 = (57 : Int32) := by decide
theorem bp_58 : (Int8.ofInt 58).toInt32 = (58 : Int32) := by decide
theorem bp_59 : (Int8.ofInt 59).toInt32 = (59 : Int32) := by decide
theorem bp_60 : (Int8.ofInt 60).toInt32 = (60 : Int32) := by decide
theorem bp_61 : (Int8.ofInt 61).toInt32 = (61 : Int32) := by decide
theorem bp_62 : (Int8.ofInt 62).toInt32 = (62 : Int32) := by decide
theorem bp_63 : (Int8.ofInt 63).toInt32 = (63 : Int32) := by decide
theorem bp_64 : (Int8.ofInt 64).toInt32 = (64 : Int32) := by decide
theorem bp_65 : (Int8.ofInt 65).toInt32 = (65 : Int32) := by decide
theorem bp_66 : (Int8.ofInt 66).toInt32 = (66 : Int32) := by decide
theorem bp_67 : (Int8.ofInt 67).toInt32 = (67 : Int32) := by decide
theorem bp_68 : (Int8.ofInt 68).toInt32 = (68 : Int32) := by decide
theorem bp_69 : (Int8.ofInt 69).toInt32 = (69 : Int32) := by decide
theorem bp_70 : (Int8.ofInt 70).toInt32 = (70 : Int32) := by decide
theorem bp_71 : (Int8.ofInt 71).toInt32 = (71 : Int32) := by decide
theorem bp_72 : (Int8.ofInt 72).toInt32 = (72 : Int32) := by decide
theorem bp_73 : (Int8.ofInt 73).toInt32 = (73 : Int32) := by decide
theorem bp_74 : (Int8.ofInt 74).toInt32 = (74 : Int32) := by decide
theorem bp_75 : (Int8.ofInt 75).toInt32 = (75 : Int32) := by decide
theorem bp_76 : (Int8.ofInt 76).toInt32 = (76 : Int32) := by decide
theorem bp_77 : (Int8.ofInt 77).toInt32 = (77 : Int32) := by decide
theorem bp_78 : (Int8.ofInt 78).toInt32 = (78 : Int32) := by decide
theorem bp_79 : (Int8.ofInt 79).toInt32 = (79 : Int32) := by decide
theorem bp_80 : (Int8.ofInt 80).toInt32 = (80 : Int32) := by decide
theorem bp_81 : (Int8.ofInt 81).toInt32 = (81 : Int32) := by decide
theorem bp_82 : (Int8.ofInt 82).toInt32 = (82 : Int32) := by decide
theorem bp_83 : (Int8.ofInt 83).toInt32 = (83 : Int32) := by decide
theorem bp_84 : (Int8.ofInt 84).toInt32 = (84 : Int32) := by decide
theorem bp_85 : (Int8.ofInt 85).toInt32 = (85 : Int32) := by decide
theorem bp_86 : (Int8.ofInt 86).toInt32 = (86 : Int32) := by decide
theorem bp_87 : (Int8.ofInt 87).toInt32 = (87 : Int32) := by decide
theorem bp_88 : (Int8.ofInt 88).toInt32 = (88 : Int32) := by decide
theorem bp_89 : (Int8.ofInt 89).toInt32 = (89 : Int32) := by decide
theorem bp_90 : (Int8.ofInt 90).toInt32 = (90 : Int32) := by decide
theorem bp_91 : (Int8.ofInt 91).toInt32 = (91 : Int32) := by decide
theorem bp_92 : (Int8.ofInt 92).toInt32 = (92 : Int32) := by decide
theorem bp_93 : (Int8.ofInt 93).toInt32 = (93 : Int32) := by decide
theorem bp_94 : (Int8.ofInt 94).toInt32 = (94 : Int32) := by decide
theorem bp_95 : (Int8.ofInt 95).toInt32 = (95 : Int32) := by decide
theorem bp_96 : (Int8.ofInt 96).toInt32 = (96 : Int32) := by decide
theorem bp_97 : (Int8.ofInt 97).toInt32 = (97 : Int32) := by decide
theorem bp_98 : (Int8.ofInt 98).toInt32 = (98 : Int32) := by decide
theorem bp_99 : (Int8.ofInt 99).toInt32 = (99 : Int32) := by decide
theorem bp_100 : (Int8.ofInt 100).toInt32 = (100 : Int32) := by decide
theorem bp_101 : (Int8.ofInt 101).toInt32 = (101 : Int32) := by decide
theorem bp_102 : (Int8.ofInt 102).toInt32 = (102 : Int32) := by decide
theorem bp_103 : (Int8.ofInt 103).toInt32 = (103 : Int32) := by decide
theorem bp_104 : (Int8.ofInt 104).toInt32 = (104 : Int32) := by decide
theorem bp_105 : (Int8.ofInt 105).toInt32 = (105 : Int32) := by decide
theorem bp_106 : (Int8.ofInt 106).toInt32 = (106 : Int32) := by decide
theorem bp_107 : (Int8.ofInt 107).toInt32 = (107 : Int32) := by decide
theorem bp_108 : (Int8.ofInt 108).toInt32 = (108 : Int32) := by decide
theorem bp_109 : (Int8.ofInt 109).toInt32 = (109 : Int32) := by decide
theorem bp_110 : (Int8.ofInt 110).toInt32 = (110 : Int32) := by decide
theorem bp_111 : (Int8.ofInt 111).toInt32 = (111 : Int32) := by decide
theorem bp_112 : (Int8.ofInt 112).toInt32 = (112 : Int32) := by decide
theorem bp_113 : (Int8.ofInt 113).toInt32 = (113 : Int32) := by decide
theorem bp_114 : (Int8.ofInt 114).toInt32 = (114 : Int32) := by decide
theorem bp_115 : (Int8.ofInt 115).toInt32 = (115 : Int32) := by decide
theorem bp_116 : (Int8.ofInt 116).toInt32 = (116 : Int32) := by decide
theorem bp_117 : (Int8.ofInt 117).toInt32 = (117 : Int32) := by decide
theorem bp_118 : (Int8.ofInt 118).toInt32 = (118 : Int32) := by decide
theorem bp_119 : (Int8.ofInt 119).toInt32 = (119 : Int32) := by decide
theorem bp_121 : (Int8.ofInt 121).toInt32 = (121 : Int32) := by decide
theorem bp_122 : (Int8.ofInt 122).toInt32 = (122 : Int32) := by decide
theorem sp_m9999 : (Int16.ofInt (-9999)).toInt32 = (-9999 : Int32) := by decide
theorem sp_128 : (Int16.ofInt 128).toInt32 = (128 : Int32) := by decide
theorem sp_132 : (Int16.ofInt 132).toInt32 = (132 : Int32) := by decide
theorem sp_255 : (Int16.ofInt 255).toInt32 = (255 : Int32) := by decide
theorem sp_256 : (Int16.ofInt 256).toInt32 = (256 : Int32) := by decide
theorem sp_257 : (Int16.ofInt 257).toInt32 = (257 : Int32) := by decide
theorem sp_258 : (Int16.ofInt 258).toInt32 = (258 : Int32) := by decide
theorem sp_264 : (Int16.ofInt 264).toInt32 = (264 : Int32) := by decide
theorem sp_313 : (Int16.ofInt 313).toInt32 = (313 : Int32) := by decide
theorem sp_900 : (Int16.ofInt 900).toInt32 = (900 : Int32) := by decide
theorem sp_999 : (Int16.ofInt 999).toInt32 = (999 : Int32) := by decide
theorem sp_1023 : (Int16.ofInt 1023).toInt32 = (1023 : Int32) := by decide
theorem sp_1461 : (Int16.ofInt 1461).toInt32 = (1461 : Int32) := by decide
theorem sp_9999 : (Int16.ofInt 9999).toInt32 = (9999 : Int32) := by decide
theorem sp_19999 : (Int16.ofInt 19999).toInt32 = (19999 : Int32) := by decide
theorem sp_20000 : (Int16.ofInt 20000).toInt32 = (20000 : Int32) := by decide
theorem tn_0 : (0 : Int32).toNatClampNeg = 0 := by decide
theorem tn_1 : (1 : Int32).toNatClampNeg = 1 := by decide
theorem tn_2 : (2 : Int32).toNatClampNeg = 2 := by decide
theorem tn_3 : (3 : Int32).toNatClampNeg = 3 := by decide
theorem tn_4 : (4 : Int32).toNatClampNeg = 4 := by decide
theorem tn_5 : (5 : Int32).toNatClampNeg = 5 := by decide
theorem tn_6 : (6 : Int32).toNatClampNeg = 6 := by decide
theorem tn_7 : (7 : Int32).toNatClampNeg = 7 := by decide
theorem tn_8 : (8 : Int32).toNatClampNeg = 8 := by decide
theorem tn_9 : (9 : Int32).toNatClampNeg = 9 := by decide
theorem tn_10 : (10 : Int32).toNatClampNeg = 10 := by decide
theorem tn_11 : (11 : Int32).toNatClampNeg = 11 := by decide
theorem tn_12 : (12 : Int32).toNatClampNeg = 12 := by decide
theorem tn_13 : (13 : Int32).toNatClampNeg = 13 := by decide
theorem tn_14 : (14 : Int32).toNatClampNeg = 14 := by decide
theorem tn_15 : (15 : Int32).toNatClampNeg = 15 := by decide
theorem tn_16 : (16 : Int32).toNatClampNeg = 16 := by decide
theorem tn_17 : (17 : Int32).toNatClampNeg = 17 := by decide
theorem tn_18 : (18 : Int32).toNatClampNeg = 18 := by decide
theorem tn_19 : (19 : Int32).toNatClampNeg = 19 := by decide
theorem tn_20 : (20 : Int32).toNatClampNeg = 20 := by decide
theorem tn_21 : (21 : Int32).toNatClampNeg = 21 := by decide
theorem tn_22 : (22 : Int32).toNatClampNeg = 22 := by decide
theorem tn_23 : (23 : Int32).toNatClampNeg = 23 := by decide
theorem tn_24 : (24 : Int32).toNatClampNeg = 24 := by decide
theorem tn_25 : (25 : Int32).toNatClampNeg = 25 := by decide
theorem tn_26 : (26 : Int32).toNatClampNeg = 26 := by decide
theorem tn_27 : (27 : Int32).toNatClampNeg = 27 := by decide
theorem tn_28 : (28 : Int32).toNatClampNeg = 28 := by decide
theorem tn_29 : (29 : Int32).toNatClampNeg = 29 := by decide
theorem tn_30 : (30 : Int32).toNatClampNeg = 30 := by decide
theorem tn_31 : (31 : Int32).toNatClampNeg = 31 := by decide
theorem tn_32 : (32 : Int32).toNatClampNeg = 32 := by decide
theorem tn_33 : (33 : Int32).toNatClampNeg = 33 := by decide
theorem tn_34 : (34 : Int32).toNatClampNeg = 34 := by decide
theorem tn_35 : (35 : Int32).toNatClampNeg = 35 := by decide
theorem tn_36 : (36 : Int32).toNatClampNeg = 36 := by decide
theorem tn_37 : (37 : Int32).toNatClampNeg = 37 := by decide
theorem tn_38 : (38 : Int32).toNatClampNeg = 38 := by decide
theorem tn_39 : (39 : Int32).toNatClampNeg = 39 := by decide
theorem tn_40 : (40 : Int32).toNatClampNeg = 40 := by decide
theorem tn_41 : (41 : Int32).toNatClampNeg = 41 := by decide
theorem tn_42 : (42 : Int32).toNatClampNeg = 42 := by decide
theorem tn_43 : (43 : Int32).toNatClampNeg = 43 := by decide
theorem tn_44 : (44 : Int32).toNatClampNeg = 44 := by decide
theorem tn_45 : (45 : Int32).toNatClampNeg = 45 := by decide
theorem tn_46 : (46 : Int32).toNatClampNeg = 46 := by decide
theorem tn_47 : (47 : Int32).toNatClampNeg = 47 := by decide
theorem tn_48 : (48 : Int32).toNatClampNeg = 48 := by decide
theorem tn_49 : (49 : Int32).toNatClampNeg = 49 := by decide
theorem tn_50 : (50 : Int32).toNatClampNeg = 50 := by decide
theorem tn_51 : (51 : Int32).toNatClampNeg = 51 := by decide
theorem tn_52 : (52 : Int32).toNatClampNeg = 52 := by decide
theorem tn_53 : (53 : Int32).toNatClampNeg = 53 := by decide
theorem tn_54 : (54 : Int32).toNatClampNeg = 54 := by decide
theorem tn_55 : (55 : Int32).toNatClampNeg = 55 := by decide
theorem tn_56 : (56 : Int32).toNatClampNeg = 56 := by decide
theorem tn_57 : (57 : Int32).toNatClampNeg = 57 := by decide
theorem tn_58 : (58 : Int32).toNatClampNeg = 58 := by decide
theorem tn_59 : (59 : Int32).toNatClampNeg = 59 := by decide
theorem tn_60 : (60 : Int32).toNatClampNeg = 60 := by decide
theorem tn_61 : (61 : Int32).toNatClampNeg = 61 := by decide
theorem tn_62 : (62 : Int32).toNatClampNeg = 62 := by decide
theorem tn_63 : (63 : Int32).toNatClampNeg = 63 := by decide
theorem tn_64 : (64 : Int32).toNatClampNeg = 64 := by decide
theorem tn_65 : (65 : Int32).toNatClampNeg = 65 := by decide
theorem tn_66 : (66 : Int32).toNatClampNeg = 66 := by decide
theorem tn_67 : (67 : Int32).toNatClampNeg = 67 := by decide
theorem tn_68 : (68 : Int32).toNatClampNeg = 68 := by decide
theorem tn_69 : (69 : Int32).toNatClampNeg = 69 := by decide
theorem tn_70 : (70 : Int32).toNatClampNeg = 70 := by decide
theorem tn_71 : (71 : Int32).toNatClampNeg = 71 := by decide
theorem tn_72 : (72 : Int32).toNatClampNeg = 72 := by decide
theorem tn_73 : (73 : Int32).toNatClampNeg = 73 := by decide
theorem tn_74 : (74 : Int32).toNatClampNeg = 74 := by decide
theorem tn_75 : (75 : Int32).toNatClampNeg = 75 := by decide
theorem tn_76 : (76 : Int32).toNatClampNeg = 76 := by decide
theorem tn_77 : (77 : Int32).toNatClampNeg = 77 := by decide
theorem tn_78 : (78 : Int32).toNatClampNeg = 78 := by decide
theorem tn_79 : (79 : Int32).toNatClampNeg = 79 := by decide
theorem tn_80 : (80 : Int32).toNatClampNeg = 80 := by decide
theorem tn_81 : (81 : Int32).toNatClampNeg = 81 := by decide
theorem tn_82 : (82 : Int32).toNatClampNeg = 82 := by decide
theorem tn_83 : (83 : Int32).toNatClampNeg = 83 := by decide
theorem tn_84 : (84 : Int32).toNatClampNeg = 84 := by decide
theorem tn_85 : (85 : Int32).toNatClampNeg = 85 := by decide
theorem tn_86 : (86 : Int32).toNatClampNeg = 86 := by decide
theorem tn_87 : (87 : Int32).toNatClampNeg = 87 := by decide
theorem tn_88 : (88 : Int32).toNatClampNeg = 88 := by decide
theorem tn_89 : (89 : Int32).toNatClampNeg = 89 := by decide
theorem tn_90 : (90 : Int32).toNatClampNeg = 90 := by decide
theorem tn_91 : (91 : Int32).toNatClampNeg = 91 := by decide
theorem tn_92 : (92 : Int32).toNatClampNeg = 92 := by decide
theorem tn_93 : (93 : Int32).toNatClampNeg = 93 := by decide
theorem tn_94 : (94 : Int32).toNatClampNeg = 94 := by decide
theorem tn_95 : (95 : Int32).toNatClampNeg = 95 := by decide
theorem tn_96 : (96 : Int32).toNatClampNeg = 96 := by decide
theorem tn_97 : (97 : Int32).toNatClampNeg = 97 := by decide
theorem tn_98 : (98 : Int32).toNatClampNeg = 98 := by decide
theorem tn_99 : (99 : Int32).toNatClampNeg = 99 := by decide
theorem tn_100 : (100 : Int32).toNatClampNeg = 100 := by decide
theorem tn_101 : (101 : Int32).toNatClampNeg = 101 := by decide
theorem tn_102 : (102 : Int32).toNatClampNeg = 102 := by decide
theorem tn_103 : (103 : Int32).toNatClampNeg = 103 := by decide
theorem tn_104 : (104 : Int32).toNatClampNeg = 104 := by decide
theorem tn_105 : (105 : Int32).toNatClampNeg = 105 := by decide
theorem tn_106 : (106 : Int32).toNatClampNeg = 106 := by decide
theorem tn_107 : (107 : Int32).toNatClampNeg = 107 := by decide
theorem tn_108 : (108 : Int32).toNatClampNeg = 108 := by decide
theorem tn_109 : (109 : Int32).toNatClampNeg = 109 := by decide
theorem tn_110 : (110 : Int32).toNatClampNeg = 110 := by decide
theorem tn_111 : (111 : Int32).toNatClampNeg = 111 := by decide
theorem tn_112 : (112 : Int32).toNatClampNeg = 112 := by decide
theorem tn_113 : (113 : Int32).toNatClampNeg = 113 := by decide
theorem tn_114 : (114 : Int32).toNatClampNeg = 114 := by decide
theorem tn_115 : (115 : Int32).toNatClampNeg = 115 := by decide
theorem tn_116 : (116 : Int32).toNatClampNeg = 116 := by decide
theorem tn_117 : (117 : Int32).toNatClampNeg = 117 := by decide
theorem tn_118 : (118 : Int32).toNatClampNeg = 118 := by decide
theorem tn_119 : (119 : Int32).toNatClampNeg = 119 := by decide
theorem tn_120 : (120 : Int32).toNatClampNeg = 120 := by decide
theorem tn_121 : (121 : Int32).toNatClampNeg = 121 := by decide
theorem tn_122 : (122 : Int32).toNatClampNeg = 122 := by decide
theorem tn_123 : (123 : Int32).toNatClampNeg = 123 := by decide
theorem tn_124 : (124 : Int32).toNatClampNeg = 124 := by decide
theorem tn_125 : (125 : Int32).toNatClampNeg = 125 := by decide
theorem tn_126 : (126 : Int32).toNatClampNeg = 126 := by decide
theorem tn_127 : (127 : Int32).toNatClampNeg = 127 := by decide
theorem tn_128 : (128 : Int32).toNatClampNeg = 128 := by decide
theorem tn_129 : (129 : Int32).toNatClampNeg = 129 := by decide
theorem tn_130 : (130 : Int32).toNatClampNeg = 130 := by decide
theorem tn_131 : (131 : Int32).toNatClampNeg = 131 := by decide
theorem tn_132 : (132 : Int32).toNatClampNeg = 132 := by decide
theorem ti_m9999 : (-9999 : Int32).toInt = -9999 := by decide
theorem ti_m2 : (-2 : Int32).toInt = -2 := by decide
theorem ti_m1 : (-1 : Int32).toInt = -1 := by decide
theorem ti_0 : (0 : Int32).toInt = 0 := by decide
theorem ti_1 : (1 : Int32).toInt = 1 := by decide
theorem ti_2 : (2 : Int32).toInt = 2 := by decide
theorem ti_3 : (3 : Int32).toInt = 3 := by decide
theorem ti_4 : (4 : Int32).toInt = 4 := by decide
theorem ti_5 : (5 : Int32).toInt = 5 := by decide
theorem ti_6 : (6 : Int32).toInt = 6 := by decide
theorem ti_7 : (7 : Int32).toInt = 7 := by decide
theorem ti_8 : (8 : Int32).toInt = 8 := by decide
theorem ti_9 : (9 : Int32).toInt = 9 := by decide
theorem ti_10 : (10 : Int32).toInt = 10 := by decide
theorem ti_11 : (11 : Int32).toInt = 11 := by decide
theorem ti_12 : (12 : Int32).toInt = 12 := by decide
theorem ti_13 : (13 : Int32).toInt = 13 := by decide
theorem ti_14 : (14 : Int32).toInt = 14 := by decide
theorem ti_15 : (15 : Int32).toInt = 15 := by decide
theorem ti_16 : (16 : Int32).toInt = 16 := by decide
theorem ti_17 : (17 : Int32).toInt = 17 := by decide
theorem ti_18 : (18 : Int32).toInt = 18 := by decide
theorem ti_19 : (19 : Int32).toInt = 19 := by decide
theorem ti_20 : (20 : Int32).toInt = 20 := by decide
theorem ti_21 : (21 : Int32).toInt = 21 := by decide
theorem ti_22 : (22 : Int32).toInt = 22 := by decide
theorem ti_23 : (23 : Int32).toInt = 23 := by decide
theorem ti_24 : (24 : Int32).toInt = 24 := by decide
theorem ti_25 : (25 : Int32).toInt = 25 := by decide
theorem ti_26 : (26 : Int32).toInt = 26 := by decide
theorem ti_27 : (27 : Int32).toInt = 27 := by decide
theorem ti_28 : (28 : Int32).toInt = 28 := by decide
theorem ti_29 : (29 : Int32).toInt = 29 := by decide
theorem ti_30 : (30 : Int32).toInt = 30 := by decide
theorem ti_31 : (31 : Int32).toInt = 31 := by decide
theorem ti_32 : (32 : Int32).toInt = 32 := by decide
theorem ti_33 : (33 : Int32).toInt = 33 := by decide
theorem ti_34 : (34 : Int32).toInt = 34 := by decide
theorem ti_35 : (35 : Int32).toInt = 35 := by decide
theorem ti_36 : (36 : Int32).toInt = 36 := by decide
theorem ti_37 : (37 : Int32).toInt = 37 := by decide
theorem ti_38 : (38 : Int32).toInt = 38 := by decide
theorem ti_39 : (39 : Int32).toInt = 39 := by decide
theorem ti_40 : (40 : Int32).toInt = 40 := by decide
theorem ti_41 : (41 : Int32).toInt = 41 := by decide
theorem ti_42 : (42 : Int32).toInt = 42 := by decide
theorem ti_43 : (43 : Int32).toInt = 43 := by decide
theorem ti_44 : (44 : Int32).toInt = 44 := by decide
theorem ti_45 : (45 : Int32).toInt = 45 := by decide
theorem ti_46 : (46 : Int32).toInt = 46 := by decide
theorem ti_47 : (47 : Int32).toInt = 47 := by decide
theorem ti_48 : (48 : Int32).toInt = 48 := by decide
theorem ti_49 : (49 : Int32).toInt = 49 := by decide
theorem ti_50 : (50 : Int32).toInt = 50 := by decide
theorem ti_51 : (51 : Int32).toInt = 51 := by decide
theorem ti_52 : (52 : Int32).toInt = 52 := by decide
theorem ti_53 : (53 : Int32).toInt = 53 := by decide
theorem ti_54 : (54 : Int32).toInt = 54 := by decide
theorem ti_55 : (55 : Int32).toInt = 55 := by decide
theorem ti_56 : (56 : Int32).toInt = 56 := by decide
theorem ti_57 : (57 : Int32).toInt = 57 := by decide
theorem ti_58 : (58 : Int32).toInt = 58 := by decide
theorem ti_59 : (59 : Int32).toInt = 59 := by decide
theorem ti_60 : (60 : Int32).toInt = 60 := by decide
theorem ti_61 : (61 : Int32).toInt = 61 := by decide
theorem ti_62 : (62 : Int32).toInt = 62 := by decide
theorem ti_63 : (63 : Int32).toInt = 63 := by decide
theorem ti_64 : (64 : Int32).toInt = 64 := by decide
theorem ti_65 : (65 : Int32).toInt = 65 := by decide
theorem ti_66 : (66 : Int32).toInt = 66 := by decide
theorem ti_67 : (67 : Int32).toInt = 67 := by decide
theorem ti_68 : (68 : Int32).toInt = 68 := by decide
theorem ti_69 : (69 : Int32).toInt = 69 := by decide
theorem ti_70 : (70 : Int32).toInt = 70 := by decide
theorem ti_71 : (71 : Int32).toInt = 71 := by decide
theorem ti_72 : (72 : Int32).toInt = 72 := by decide
theorem ti_73 : (73 : Int32).toInt = 73 := by decide
theorem ti_74 : (74 : Int32).toInt = 74 := by decide
theorem ti_75 : (75 : Int32).toInt = 75 := by decide
theorem ti_76 : (76 : Int32).toInt = 76 := by decide
theorem ti_77 : (77 : Int32).toInt = 77 := by decide
theorem ti_78 : (78 : Int32).toInt = 78 := by decide
theorem ti_79 : (79 : Int32).toInt = 79 := by decide
theorem ti_80 : (80 : Int32).toInt = 80 := by decide
theorem ti_81 : (81 : Int32).toInt = 81 := by decide
theorem ti_82 : (82 : Int32).toInt = 82 := by decide
theorem ti_83 : (83 : Int32).toInt = 83 := by decide
theorem ti_84 : (84 : Int32).toInt = 84 := by decide
theorem ti_85 : (85 : Int32).toInt = 85 := by decide
theorem ti_86 : (86 : Int32).toInt = 86 := by decide
theorem ti_87 : (87 : Int32).toInt = 87 := by decide
theorem ti_88 : (88 : Int32).toInt = 88 := by decide
theorem ti_89 : (89 : Int32).toInt = 89 := by decide
theorem ti_90 : (90 : Int32).toInt = 90 := by decide
theorem ti_91 : (91 : Int32).toInt = 91 := by decide
theorem ti_92 : (92 : Int32).toInt = 92 := by decide
theorem ti_93 : (93 : Int32).toInt = 93 := by decide
theorem ti_94 : (94 : Int32).toInt = 94 := by decide
theorem ti_95 : (95 : Int32).toInt = 95 := by decide
theorem ti_96 : (96 : Int32).toInt = 96 := by decide
theorem ti_97 : (97 : Int32).toInt = 97 := by decide
theorem ti_98 : (98 : Int32).toInt = 98 := by decide
theorem ti_99 : (99 : Int32).toInt = 99 := by decide
theorem ti_100 : (100 : Int32).toInt = 100 := by decide
theorem ti_101 : (101 : Int32).toInt = 101 := by decide
theorem ti_102 : (102 : Int32).toInt = 102 := by decide
theorem ti_103 : (103 : Int32).toInt = 103 := by decide
theorem ti_104 : (104 : Int32).toInt = 104 := by decide
theorem ti_105 : (105 : Int32).toInt = 105 := by decide
theorem ti_106 : (106 : Int32).toInt = 106 := by decide
theorem ti_107 : (107 : Int32).toInt = 107 := by decide
theorem ti_108 : (108 : Int32).toInt = 108 := by decide
theorem ti_109 : (109 : Int32).toInt = 109 := by decide
theorem ti_110 : (110 : Int32).toInt = 110 := by decide
theorem ti_111 : (111 : Int32).toInt = 111 := by decide
theorem ti_112 : (112 : Int32).toInt = 112 := by decide
theorem ti_113 : (113 : Int32).toInt = 113 := by decide
theorem ti_114 : (114 : Int32).toInt = 114 := by decide
theorem ti_115 : (115 : Int32).toInt = 115 := by decide
theorem ti_116 : (116 : Int32).toInt = 116 := by decide
theorem ti_117 : (117 : Int32).toInt = 117 := by decide
theorem ti_118 : (118 : Int32).toInt = 118 := by decide
theorem ti_119 : (119 : Int32).toInt = 119 := by decide
theorem ti_121 : (121 : Int32).toInt = 121 := by decide
theorem ti_122 : (122 : Int32).toInt = 122 := by decide
theorem ti_128 : (128 : Int32).toInt = 128 := by decide
theorem ti_132 : (132 : Int32).toInt = 132 := by decide
theorem ti_255 : (255 : Int32).toInt = 255 := by decide
theorem ti_256 : (256 : Int32).toInt = 256 := by decide
theorem ti_257 : (257 : Int32).toInt = 257 := by decide
theorem ti_258 : (258 : Int32).toInt = 258 := by decide
theorem ti_264 : (264 : Int32).toInt = 264 := by decide
theorem ti_313 : (313 : Int32).toInt = 313 := by decide
theorem ti_900 : (900 : Int32).toInt = 900 := by decide
theorem ti_999 : (999 : Int32).toInt = 999 := by decide
theorem ti_1023 : (1023 : Int32).toInt = 1023 := by decide
theorem ti_1461 : (1461 : Int32).toInt = 1461 := by decide
theorem ti_9999 : (9999 : Int32).toInt = 9999 := by decide
theorem ti_19999 : (19999 : Int32).toInt = 19999 := by decide
theorem ti_20000 : (20000 : Int32).toInt = 20000 := by decide
theorem lc_0 : Int64.ofNat (((0 : Fin 2) : Fin 2) : Nat) = (0 : Int64) := rfl
theorem lc_1 : Int64.ofNat (((1 : Fin 2) : Fin 2) : Nat) = (1 : Int64) := rfl
theorem isB0 : (0 : Int32) = 0 ∨ (0 : Int32) = 1 := Or.inl rfl
theorem isB1 : (1 : Int32) = 0 ∨ (1 : Int32) = 1 := Or.inr rfl
theorem vin_of {i : Int32} {k n : Nat} (h0 : ¬ i < 0) (h : i.toNatClampNeg = k) (hk : Nat.ble n k = false) : vp_in i n := fun q => q.elim h0 (fun z => by rw [h] at z; rw [Nat.ble_eq_true_of_le z] at hk; cases hk)
