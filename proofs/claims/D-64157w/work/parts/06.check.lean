/-! where the words stand that an instruction links by, printed by gcheck.py -/
def mp_0 : List (Nat × List Nat) := []
def mp_1 : List (Nat × List Nat) := [(0, [93]), (3, [95, 96, 97, 98, 99, 100]), (6, [102])]
def mp_2 : List (Nat × List Nat) := [(1, [111, 88]), (4, [112]), (14, [121]), (19, [122]), (30, [121]), (35, [122])]
def mp_3 : List (Nat × List Nat) := [(3, [108, 109])]
def mp_4 : List (Nat × List Nat) := [(1, [151, 88])]
def mp_5 : List (Nat × List Nat) := [(1, [148, 149]), (6, [156])]
def mp_6 : List (Nat × List Nat) := [(1, [145, 146]), (5, [152]), (8, [154])]
def mp_7 : List (Nat × List Nat) := [(1, [171, 88]), (9, [172])]
def mp_8 : List (Nat × List Nat) := []
def mp_9 : List (Nat × List Nat) := []
def mp_10 : List (Nat × List Nat) := [(1, [87, 88]), (5, [90, 91, 53]), (8, [198]), (12, [103, 104, 55]), (16, [105, 106]), (19, [199]), (25, [136]), (28, [200]), (33, [202]), (39, [138]), (42, [203]), (46, [103, 104, 55]), (50, [105, 106]), (53, [205]), (57, [140, 141, 60]), (61, [142, 143]), (64, [207]), (68, [166, 167, 61]), (72, [168, 169]), (75, [211]), (84, [190, 191, 62]), (87, [193, 194, 62]), (90, [196]), (98, [190, 191, 62]), (101, [193, 194, 62]), (104, [197])]
def mp_11 : List (Nat × List Nat) := [(1, [1106, 88]), (9, [1111]), (17, [1113]), (25, [1114]), (34, [1115]), (42, [1116]), (50, [1117]), (55, [1118]), (63, [1120]), (71, [1121]), (80, [1122]), (89, [1123]), (98, [1125]), (106, [1127]), (114, [1133]), (122, [1134]), (149, [1108]), (174, [1109])]
def mp_12 : List (Nat × List Nat) := [(1, [125])]
def mp_13 : List (Nat × List Nat) := [(1, [427, 423, 134, 422])]
def mp_14 : List (Nat × List Nat) := [(3, [286, 194, 62]), (14, [287])]
def mp_15 : List (Nat × List Nat) := [(1, [121]), (8, [122]), (24, [122]), (29, [283, 284, 69]), (36, [291]), (54, [122])]
def mp_16 : List (Nat × List Nat) := [(7, [295, 296, 97, 98, 297, 298]), (10, [299]), (25, [300, 191, 62]), (28, [301, 303, 302, 71])]
def mp_17 : List (Nat × List Nat) := [(1, [121]), (6, [122]), (19, [121]), (24, [279, 280, 281, 1381]), (28, [122]), (32, [292, 293, 70]), (35, [121])]
def mp_18 : List (Nat × List Nat) := [(0, [112]), (7, [122])]
def mp_19 : List (Nat × List Nat) := []
def mp_20 : List (Nat × List Nat) := [(2, [125]), (7, [275, 276, 277, 1380]), (11, [304, 307, 305]), (18, [774, 775, 72]), (25, [121]), (30, [125]), (36, [125]), (46, [304, 307, 305]), (57, [121]), (62, [125]), (68, [125])]
def mp_21 : List (Nat × List Nat) := [(2, [771, 1389, 134, 772])]
def mp_22 : List (Nat × List Nat) := [(12, [741, 440, 67]), (21, [199]), (24, [595, 1387, 425]), (32, [752, 753, 68]), (41, [199]), (45, [767, 769, 768]), (50, [199]), (53, [595, 1387, 425])]
def mp_23 : List (Nat × List Nat) := [(4, [737, 739, 738])]
def mp_24 : List (Nat × List Nat) := [(18, [1110]), (31, [1107]), (35, [1107]), (44, [1111]), (48, [1110]), (55, [1110]), (60, [1110]), (64, [1110])]
def mp_25 : List (Nat × List Nat) := [(1, [1107])]
def mp_26 : List (Nat × List Nat) := [(15, [275, 276, 277, 1380]), (19, [125]), (27, [304, 307, 305]), (34, [121]), (38, [125]), (49, [121]), (53, [125]), (64, [125]), (73, [123]), (78, [125])]
def mp_27 : List (Nat × List Nat) := [(2, [253, 1377, 134, 254])]
def mp_28 : List (Nat × List Nat) := [(1, [199]), (5, [249, 251, 250])]
def mp_29 : List (Nat × List Nat) := [(2, [1107]), (7, [1110])]
def mp_30 : List (Nat × List Nat) := []
def mp_31 : List (Nat × List Nat) := [(2, [321]), (5, [607, 608, 73])]
def mp_32 : List (Nat × List Nat) := [(1, [122]), (6, [121]), (11, [125]), (18, [603, 191, 62]), (26, [604, 605, 56])]
def mp_33 : List (Nat × List Nat) := [(2, [600, 1388, 134, 601])]
def mp_34 : List (Nat × List Nat) := [(4, [741, 440, 67])]
def mp_35 : List (Nat × List Nat) := [(1, [806, 88]), (9, [809]), (16, [813])]
def mp_36 : List (Nat × List Nat) := [(0, [343]), (7, [527])]
def mp_37 : List (Nat × List Nat) := [(0, [343]), (7, [527])]
def mp_38 : List (Nat × List Nat) := [(1, [526]), (6, [339, 341, 340])]
def mp_39 : List (Nat × List Nat) := []
def mp_40 : List (Nat × List Nat) := []
def mp_41 : List (Nat × List Nat) := [(1, [845, 846, 72]), (11, [848, 194, 62]), (18, [849, 191, 62]), (33, [850, 851, 72])]
def mp_42 : List (Nat × List Nat) := [(1, [837, 839, 838]), (8, [526]), (14, [841, 337, 336]), (17, [842, 843, 72]), (24, [526]), (30, [841, 337, 336])]
def mp_43 : List (Nat × List Nat) := [(3, [833, 835, 834])]
def mp_44 : List (Nat × List Nat) := []
def mp_45 : List (Nat × List Nat) := [(17, [199]), (22, [596, 598, 597]), (31, [199]), (36, [596, 598, 597]), (45, [199]), (53, [596, 598, 597]), (83, [799, 800, 51]), (87, [814]), (92, [815]), (98, [815])]
def mp_46 : List (Nat × List Nat) := [(1, [807]), (5, [807]), (12, [811]), (16, [811]), (32, [811]), (43, [809]), (49, [809])]
def mp_47 : List (Nat × List Nat) := [(1, [201]), (18, [199]), (24, [596, 598, 597]), (37, [799, 800, 51]), (41, [200]), (45, [201]), (52, [136, 802, 78]), (56, [803, 804]), (63, [200]), (67, [201]), (73, [200]), (77, [201]), (86, [199]), (90, [596, 598, 597]), (93, [829, 831, 830]), (96, [808]), (101, [812]), (106, [815]), (121, [199]), (126, [596, 598, 597]), (129, [879, 880, 51]), (136, [812]), (149, [799, 800, 51]), (153, [810]), (158, [812]), (164, [812]), (168, [199]), (176, [596, 598, 597]), (184, [808]), (191, [812]), (205, [199]), (210, [596, 598, 597]), (223, [799, 800, 51]), (233, [815]), (245, [799, 800, 51]), (255, [882, 11, 884]), (267, [199]), (272, [596, 598, 597]), (285, [799, 800, 51]), (297, [201]), (304, [200]), (311, [886, 888, 887]), (322, [799, 800, 51]), (333, [201]), (338, [201])]
def mp_48 : List (Nat × List Nat) := [(3, [795, 10, 797])]
def mp_49 : List (Nat × List Nat) := [(1, [201]), (7, [202]), (17, [199]), (20, [595, 1387, 425]), (32, [199]), (35, [595, 1387, 425]), (42, [199]), (47, [596, 598, 597]), (65, [791, 9, 793]), (77, [202]), (84, [202]), (92, [202]), (107, [202]), (119, [201]), (122, [741, 440, 67]), (131, [890, 247, 246]), (135, [201])]
def mp_50 : List (Nat × List Nat) := [(4, [787, 789, 788])]
def mp_51 : List (Nat × List Nat) := []
def mp_52 : List (Nat × List Nat) := []
def mp_53 : List (Nat × List Nat) := [(24, [1111]), (48, [1117]), (53, [1112]), (75, [1111]), (130, [1116]), (134, [1112])]
def mp_54 : List (Nat × List Nat) := [(4, [1112]), (11, [1113]), (17, [1113]), (21, [1112]), (29, [1114]), (35, [1114]), (39, [1112]), (56, [1114]), (60, [1112]), (72, [1115]), (83, [1115]), (89, [1112])]
def mp_55 : List (Nat × List Nat) := [(1, [1112]), (19, [1111]), (24, [1216, 21, 1218]), (31, [1111]), (60, [1111]), (66, [1220, 22, 1222]), (79, [1115]), (85, [1112]), (92, [1111]), (120, [1111]), (137, [1224, 23, 1226]), (146, [1113]), (150, [1112]), (155, [1111]), (160, [1216, 21, 1218]), (165, [1114]), (169, [1112]), (175, [1228, 24, 1230]), (185, [1112]), (190, [1112])]
def mp_56 : List (Nat × List Nat) := [(1, [1112]), (7, [1118]), (21, [1110]), (30, [1110]), (37, [1111]), (52, [1212, 20, 1214]), (64, [1118]), (71, [1118]), (79, [1118]), (98, [1118]), (113, [1107]), (117, [1107]), (125, [1112]), (132, [1110]), (136, [1112])]
def mp_57 : List (Nat × List Nat) := [(1, [202])]
def mp_58 : List (Nat × List Nat) := [(2, [1107]), (6, [1118])]
def mp_59 : List (Nat × List Nat) := [(1, [121])]
def mp_60 : List (Nat × List Nat) := []
def mp_61 : List (Nat × List Nat) := [(49, [391]), (62, [393]), (78, [391]), (97, [393])]
def mp_62 : List (Nat × List Nat) := [(1, [125]), (7, [385, 386, 76]), (14, [275, 276, 277, 1380]), (18, [304, 307, 305]), (27, [121]), (30, [388, 389, 76]), (41, [121]), (50, [125])]
def mp_63 : List (Nat × List Nat) := [(2, [382, 1385, 134, 383])]
def mp_64 : List (Nat × List Nat) := [(9, [482, 104, 55]), (13, [483, 106]), (17, [484, 380, 379]), (27, [484, 380, 379]), (30, [487, 405, 404])]
def mp_65 : List (Nat × List Nat) := [(2, [436, 437, 70]), (24, [300, 191, 62]), (27, [301, 303, 302, 71])]
def mp_66 : List (Nat × List Nat) := [(13, [433, 434, 70]), (18, [295, 296, 97, 98, 297, 298]), (21, [299])]
def mp_67 : List (Nat × List Nat) := [(1, [415, 88]), (5, [416, 419, 417]), (10, [421, 423, 422, 424, 425]), (16, [429, 307, 305]), (24, [527]), (32, [430, 431, 70]), (35, [526]), (41, [343]), (48, [124]), (62, [526]), (67, [526]), (75, [527]), (81, [527]), (91, [430, 431, 70]), (94, [526])]
def mp_68 : List (Nat × List Nat) := [(3, [412, 413])]
def mp_69 : List (Nat × List Nat) := [(0, [407, 408, 56]), (5, [409, 410])]
def mp_70 : List (Nat × List Nat) := [(3, [910, 605, 56])]
def mp_71 : List (Nat × List Nat) := [(1, [837, 839, 838]), (8, [526]), (12, [907, 908, 72]), (17, [526])]
def mp_72 : List (Nat × List Nat) := []
def mp_73 : List (Nat × List Nat) := [(1, [879, 880, 51]), (8, [917, 918, 51])]
def mp_74 : List (Nat × List Nat) := []
def mp_75 : List (Nat × List Nat) := [(6, [902, 337, 336]), (18, [903, 905, 904]), (23, [914, 915, 51]), (30, [920, 921, 51]), (45, [829, 831, 830])]
def mp_76 : List (Nat × List Nat) := [(1, [928, 88]), (9, [931]), (17, [933]), (22, [929])]
def mp_77 : List (Nat × List Nat) := []
def mp_78 : List (Nat × List Nat) := [(3, [321]), (6, [323, 324, 73])]
def mp_79 : List (Nat × List Nat) := [(1, [415, 88]), (6, [526]), (11, [527])]
def mp_80 : List (Nat × List Nat) := [(7, [962, 408, 56]), (16, [963, 431, 70]), (20, [964, 965])]
def mp_81 : List (Nat × List Nat) := [(1, [841, 337, 336]), (8, [957, 319, 56]), (28, [837, 839, 838]), (35, [526]), (41, [958, 959, 72]), (48, [526])]
def mp_82 : List (Nat × List Nat) := [(13, [993, 303, 302, 71])]
def mp_83 : List (Nat × List Nat) := [(1, [935]), (5, [931]), (14, [931]), (17, [990, 991, 80]), (20, [931]), (25, [933]), (28, [990, 991, 80]), (31, [933]), (35, [931]), (39, [935]), (46, [933]), (51, [935]), (57, [935])]
def mp_84 : List (Nat × List Nat) := [(1, [172]), (6, [173]), (12, [173])]
def mp_85 : List (Nat × List Nat) := [(26, [807])]
def mp_86 : List (Nat × List Nat) := [(1, [917, 918, 51])]
def mp_87 : List (Nat × List Nat) := [(9, [201]), (16, [200]), (27, [812]), (32, [902, 337, 336]), (43, [812]), (47, [902, 337, 336]), (50, [1002, 1004, 1003]), (70, [812]), (86, [903, 905, 904]), (93, [1006, 1007, 51]), (98, [810]), (118, [879, 880, 51]), (144, [812]), (149, [812]), (157, [812]), (162, [812]), (170, [808]), (175, [808])]
def mp_88 : List (Nat × List Nat) := [(1, [914, 915, 51]), (7, [1012]), (11, [1006, 1007, 51]), (20, [920, 921, 51]), (26, [1012]), (43, [1014]), (49, [829, 831, 830])]
def mp_89 : List (Nat × List Nat) := [(1, [902, 337, 336]), (21, [902, 337, 336]), (32, [903, 905, 904]), (35, [917, 918, 51]), (56, [981, 983, 982, 985, 987, 988, 986, 984, 995, 712, 997, 996, 994]), (65, [981, 983, 982, 985, 987, 988, 986, 984, 995, 712, 997, 996, 994]), (76, [902, 337, 336]), (90, [903, 905, 904]), (93, [917, 918, 51]), (106, [981, 983, 982, 985, 987, 988, 986, 984, 995, 712, 997, 996, 994]), (117, [998, 14, 1000]), (131, [903, 905, 904]), (134, [1009, 1010, 51]), (141, [981, 983, 982, 985, 987, 988, 986, 984, 995, 712, 997, 996, 994]), (158, [815]), (167, [814]), (177, [981, 983, 982, 985, 987, 988, 986, 984, 995, 712, 997, 996, 994]), (201, [812])]
def mp_90 : List (Nat × List Nat) := [(4, [981, 983, 982, 985, 987, 988, 986, 984, 995, 712, 997, 996, 994]), (15, [902, 337, 336]), (25, [903, 905, 904]), (28, [1009, 1010, 51]), (35, [981, 983, 982, 985, 987, 988, 986, 984, 995, 712, 997, 996, 994])]
def mp_91 : List (Nat × List Nat) := [(4, [902, 337, 336]), (12, [903, 905, 904]), (22, [914, 915, 51]), (31, [902, 337, 336]), (40, [903, 905, 904]), (43, [914, 915, 51]), (60, [953, 955, 954]), (65, [976, 13, 978]), (73, [920, 921, 51]), (82, [902, 337, 336]), (91, [903, 905, 904]), (94, [920, 921, 51]), (111, [953, 955, 954]), (116, [1016, 15, 1018]), (122, [902, 337, 336]), (131, [903, 905, 904]), (142, [903, 905, 904]), (155, [981, 983, 982, 985, 987, 988, 986, 984, 995, 712, 997, 996, 994]), (180, [1009, 1010, 51]), (184, [981, 983, 982, 985, 987, 988, 986, 984, 995, 712, 997, 996, 994])]
def mp_92 : List (Nat × List Nat) := [(1, [199]), (4, [898, 405, 404]), (14, [198]), (22, [899, 900, 51]), (33, [799, 800, 51]), (37, [204]), (45, [752, 753, 68]), (53, [138, 924, 80]), (58, [198]), (63, [925, 926]), (68, [930]), (71, [619]), (80, [949, 12, 951]), (84, [203]), (89, [204]), (95, [204]), (102, [206]), (106, [890, 247, 246]), (110, [204])]
def mp_93 : List (Nat × List Nat) := [(4, [894, 896, 895])]
def mp_94 : List (Nat × List Nat) := []
def mp_95 : List (Nat × List Nat) := [(2, [1220, 22, 1222]), (10, [1244, 26, 1246])]
def mp_96 : List (Nat × List Nat) := []
def mp_97 : List (Nat × List Nat) := []
def mp_98 : List (Nat × List Nat) := [(1, [1122]), (8, [1119]), (13, [1121]), (17, [1119]), (25, [1123]), (32, [1119]), (37, [1121]), (41, [1119]), (49, [1121]), (53, [1119])]
def mp_99 : List (Nat × List Nat) := []
def mp_100 : List (Nat × List Nat) := [(2, [1244, 26, 1246])]
def mp_101 : List (Nat × List Nat) := [(1, [1114]), (19, [1113]), (30, [1272, 33, 1274]), (59, [1111]), (72, [1276, 34, 1278]), (76, [1115]), (103, [1220, 22, 1222])]
def mp_102 : List (Nat × List Nat) := [(197, [1252, 28, 1254])]
def mp_103 : List (Nat × List Nat) := [(28, [1111]), (34, [1244, 26, 1246]), (60, [1264, 31, 1266]), (67, [1264, 31, 1266]), (85, [1111]), (91, [1244, 26, 1246]), (102, [1264, 31, 1266]), (114, [1112]), (126, [1114]), (133, [1114]), (143, [1114]), (150, [1114]), (160, [1113]), (167, [1113]), (196, [1268, 32, 1270]), (226, [1111]), (232, [1276, 34, 1278]), (235, [1280, 35, 1282]), (240, [1264, 31, 1266]), (255, [1116]), (266, [1117]), (279, [1264, 31, 1266]), (291, [1114])]
def mp_104 : List (Nat × List Nat) := [(17, [1280, 35, 1282])]
def mp_105 : List (Nat × List Nat) := [(4, [1110]), (15, [1111]), (23, [1240, 25, 1242]), (31, [1110]), (39, [1111]), (44, [1240, 25, 1242]), (59, [1260, 30, 1262]), (67, [1248, 27, 1250]), (77, [1264, 31, 1266]), (86, [1284, 36, 1286]), (90, [1264, 31, 1266]), (95, [1110]), (103, [1111]), (108, [1248, 27, 1250]), (117, [1111]), (125, [1284, 36, 1286]), (129, [1264, 31, 1266]), (140, [1110]), (147, [1111]), (158, [1111]), (172, [1264, 31, 1266]), (191, [1252, 28, 1254]), (195, [1264, 31, 1266])]
def mp_106 : List (Nat × List Nat) := [(19, [1110]), (26, [1111]), (40, [1240, 25, 1242]), (49, [1248, 27, 1250]), (65, [1252, 28, 1254]), (93, [1119]), (106, [1107]), (110, [1107]), (119, [1120]), (123, [1119]), (129, [1121]), (133, [1119]), (144, [1256, 29, 1258]), (149, [1119]), (154, [1119]), (159, [1110]), (163, [1119])]
def mp_107 : List (Nat × List Nat) := [(6, [204]), (12, [1034, 1035, 74]), (21, [203])]
def mp_108 : List (Nat × List Nat) := [(2, [1030, 16, 1032]), (5, [936])]
def mp_109 : List (Nat × List Nat) := [(4, [1026, 1028, 1027])]
def mp_110 : List (Nat × List Nat) := [(6, [1119])]
def mp_111 : List (Nat × List Nat) := [(3, [1292, 37, 1294]), (14, [1107]), (18, [1107]), (25, [1121])]
def mp_112 : List (Nat × List Nat) := [(2, [1030, 16, 1032]), (12, [936]), (18, [1034, 1035, 74]), (27, [932]), (35, [934])]
def mp_113 : List (Nat × List Nat) := [(5, [1052, 1054, 1053])]
def mp_114 : List (Nat × List Nat) := [(3, [1292, 37, 1294]), (15, [1121]), (20, [1292, 37, 1294]), (40, [1107]), (44, [1107]), (51, [1122]), (65, [1123])]
def mp_115 : List (Nat × List Nat) := [(4, [935]), (11, [931])]
def mp_116 : List (Nat × List Nat) := [(4, [935]), (11, [931])]
def mp_117 : List (Nat × List Nat) := [(6, [1012]), (13, [1012]), (41, [1014]), (48, [1014]), (60, [903, 905, 904])]
def mp_118 : List (Nat × List Nat) := [(1, [1070, 1071, 51])]
def mp_119 : List (Nat × List Nat) := [(9, [201]), (16, [200]), (27, [815]), (43, [815]), (50, [1002, 1004, 1003]), (70, [815]), (82, [932]), (92, [814]), (121, [815]), (126, [815]), (134, [815]), (139, [815]), (147, [808]), (152, [808])]
def mp_120 : List (Nat × List Nat) := [(1, [205]), (9, [879, 880, 51]), (24, [767, 769, 768])]
def mp_121 : List (Nat × List Nat) := [(10, [932]), (43, [932]), (68, [932]), (74, [1067, 1068, 51]), (83, [205]), (87, [932]), (96, [1067, 1068, 51]), (99, [767, 769, 768]), (137, [932]), (186, [1073, 18, 1075]), (202, [812]), (224, [1070, 1071, 51]), (232, [810]), (258, [1077, 19, 1079]), (265, [879, 880, 51]), (298, [815])]
def mp_122 : List (Nat × List Nat) := [(2, [1030, 16, 1032]), (7, [205]), (11, [249, 251, 250]), (18, [936]), (26, [629, 631, 630]), (42, [205]), (47, [767, 769, 768]), (60, [633, 635, 634]), (69, [1063, 17, 1065]), (76, [205]), (79, [595, 1387, 425])]
def mp_123 : List (Nat × List Nat) := [(4, [1059, 1061, 1060])]
def mp_124 : List (Nat × List Nat) := [(1, [1135]), (9, [1220, 22, 1222]), (22, [1125]), (26, [1124]), (45, [1124]), (50, [1124]), (59, [1135]), (71, [1135]), (74, [1135])]
def mp_125 : List (Nat × List Nat) := [(10, [1284, 36, 1286])]
def mp_126 : List (Nat × List Nat) := [(1, [1116]), (19, [1113]), (30, [1272, 33, 1274]), (59, [1122]), (68, [1117])]
def mp_127 : List (Nat × List Nat) := [(11, [1280, 35, 1282]), (43, [1252, 28, 1254])]
def mp_128 : List (Nat × List Nat) := [(9, [1112]), (21, [1116]), (28, [1116]), (38, [1116]), (45, [1116]), (55, [1113]), (62, [1113]), (89, [1320, 42, 1322]), (118, [1122]), (123, [1324, 43, 1326]), (126, [1304, 38, 1306]), (139, [1114]), (150, [1115]), (162, [1304, 38, 1306]), (173, [1116])]
def mp_129 : List (Nat × List Nat) := [(8, [1122]), (26, [1135]), (39, [1122]), (65, [1122]), (71, [1312, 40, 1314]), (82, [1122]), (88, [1312, 40, 1314]), (93, [1304, 38, 1306]), (132, [1122]), (164, [1135]), (176, [1135]), (187, [1316, 41, 1318])]
def mp_130 : List (Nat × List Nat) := [(3, [1292, 37, 1294]), (14, [1107]), (18, [1107]), (28, [1124]), (39, [1121]), (52, [1122]), (63, [1304, 38, 1306]), (82, [1122]), (101, [1308, 39, 1310]), (111, [1124])]
def mp_131 : List (Nat × List Nat) := [(6, [205]), (9, [595, 1387, 425]), (21, [205]), (25, [596, 598, 597])]
def mp_132 : List (Nat × List Nat) := [(2, [1107]), (11, [1124]), (23, [1125])]
def mp_133 : List (Nat × List Nat) := [(5, [210]), (13, [209]), (18, [209]), (23, [210])]
def mp_134 : List (Nat × List Nat) := [(1, [641]), (16, [643])]
def mp_135 : List (Nat × List Nat) := [(1, [155])]
def mp_136 : List (Nat × List Nat) := [(1, [694]), (7, [696]), (32, [300, 191, 62]), (35, [301, 303, 302, 71])]
def mp_137 : List (Nat × List Nat) := [(3, [673, 1395, 1394, 674, 690]), (6, [691, 692, 70])]
def mp_138 : List (Nat × List Nat) := [(1, [154]), (11, [154]), (14, [152]), (27, [669, 284, 69]), (33, [154]), (37, [670, 671, 70]), (41, [154]), (49, [697, 194, 62]), (52, [698]), (56, [154])]
def mp_139 : List (Nat × List Nat) := [(2, [155]), (7, [665, 7, 667])]
def mp_140 : List (Nat × List Nat) := [(7, [661, 6, 663]), (19, [155])]
def mp_141 : List (Nat × List Nat) := [(2, [157, 158]), (7, [157, 158]), (13, [154]), (17, [155]), (20, [657, 5, 659])]
def mp_142 : List (Nat × List Nat) := [(3, [706, 608, 73])]
def mp_143 : List (Nat × List Nat) := [(1, [154])]
def mp_144 : List (Nat × List Nat) := [(2, [155]), (5, [703, 704, 81]), (11, [707, 709, 708])]
def mp_145 : List (Nat × List Nat) := [(2, [207]), (5, [649, 651, 650]), (12, [207]), (15, [166, 167, 61]), (19, [168, 169]), (22, [653, 655, 654]), (27, [207]), (31, [699, 701, 700]), (34, [166]), (40, [174])]
def mp_146 : List (Nat × List Nat) := [(10, [629, 631, 630]), (18, [936]), (27, [633, 635, 634]), (39, [174]), (47, [174]), (76, [930]), (89, [637, 639, 638]), (99, [645, 4, 647]), (108, [176]), (112, [196]), (127, [190, 191, 62]), (139, [711, 713, 712]), (156, [932]), (163, [711, 713, 712]), (175, [629, 631, 630])]
def mp_147 : List (Nat × List Nat) := [(1, [930]), (4, [719]), (18, [208]), (35, [197]), (41, [210]), (59, [621, 2, 623]), (64, [210]), (68, [210]), (80, [210]), (84, [208]), (96, [207]), (101, [699, 701, 700]), (104, [166]), (111, [210]), (115, [197]), (128, [621, 2, 623]), (134, [209]), (137, [177]), (144, [210]), (150, [210]), (153, [178]), (163, [196]), (168, [174]), (179, [176]), (182, [176]), (198, [207]), (202, [208]), (205, [699, 701, 700]), (208, [166]), (215, [937]), (220, [208])]
def mp_148 : List (Nat × List Nat) := [(1, [206]), (10, [206]), (15, [208]), (20, [209]), (25, [210]), (32, [204]), (39, [203]), (44, [930]), (47, [619]), (55, [621, 2, 623]), (63, [203]), (70, [203]), (76, [208]), (79, [625, 3, 627]), (82, [715, 8, 717])]
def mp_149 : List (Nat × List Nat) := [(1, [615, 1, 617]), (5, [208]), (16, [207]), (20, [208]), (25, [699, 701, 700]), (28, [166]), (31, [177])]
def mp_150 : List (Nat × List Nat) := []
def mp_151 : List (Nat × List Nat) := [(1, [1129]), (5, [1109]), (15, [1128]), (20, [1128]), (25, [1129]), (29, [1134]), (38, [1134]), (45, [1128]), (50, [1129]), (56, [1120]), (66, [1108]), (70, [1126]), (87, [1126]), (94, [1128]), (98, [1131]), (105, [1129]), (109, [1132]), (116, [1133]), (124, [1127]), (139, [1128]), (142, [1130]), (147, [1129]), (152, [1129]), (157, [1126])]
def mp_152 : List (Nat × List Nat) := [(8, [1120]), (14, [1344, 46, 1346]), (17, [1352, 48, 1354]), (22, [1126])]
def mp_153 : List (Nat × List Nat) := [(4, [1126]), (17, [1121]), (44, [1122]), (67, [1108]), (72, [1120]), (78, [1344, 46, 1346]), (85, [1126]), (100, [1126]), (114, [1126]), (131, [1348, 47, 1350]), (141, [1126]), (148, [1127]), (152, [1126]), (159, [1126]), (164, [1126]), (175, [1126]), (184, [1127]), (188, [1126]), (192, [1122]), (201, [1126]), (206, [1126]), (226, [1348, 47, 1350]), (242, [1126]), (252, [1348, 47, 1350])]
def mp_154 : List (Nat × List Nat) := [(2, [1128]), (7, [1129]), (12, [1130]), (17, [1131]), (22, [1132]), (34, [1133]), (50, [1119]), (57, [1134]), (64, [1120]), (75, [1129]), (82, [1128]), (91, [1128]), (94, [1128]), (99, [1129]), (106, [1120]), (118, [1340, 45, 1342]), (133, [1129]), (140, [1109]), (146, [1129]), (173, [1128]), (180, [1128]), (185, [1128]), (195, [1129]), (204, [1129]), (210, [1340, 45, 1342])]
def mp_155 : List (Nat × List Nat) := [(2, [1107]), (8, [1336, 44, 1338]), (12, [1130])]
def mp_156 : List (Nat × List Nat) := [(2, [175]), (10, [175]), (14, [173]), (26, [172]), (31, [175])]
def mp_157 : List (Nat × List Nat) := [(7, [1088, 613, 612]), (19, [197]), (31, [196]), (37, [1034, 1035, 74]), (47, [197]), (56, [211]), (60, [174]), (63, [103, 104, 55]), (67, [105, 106]), (76, [1089, 380, 379]), (79, [898, 405, 404]), (84, [211]), (87, [1016, 15, 1018]), (91, [211]), (95, [196]), (99, [211]), (102, [174]), (106, [176]), (110, [211]), (114, [1090, 1092, 1091]), (124, [208]), (131, [207]), (136, [699, 701, 700]), (139, [166]), (146, [177]), (155, [178]), (165, [1090, 1092, 1091])]
def mp_158 : List (Nat × List Nat) := [(7, [1084, 1086, 1085])]
def mp_159 : List (Nat × List Nat) := [(1, [1108]), (14, [1133]), (23, [1284, 36, 1286]), (39, [1133])]
def mp_160 : List (Nat × List Nat) := [(3, [1336, 44, 1338]), (14, [1130]), (26, [1109]), (38, [1108]), (49, [1107]), (53, [1107]), (63, [1109]), (73, [1360, 49, 1362]), (77, [1133])]
def mp_161 : List (Nat × List Nat) := [(2, [1030, 16, 1032]), (7, [615, 1, 617]), (11, [937]), (22, [937]), (25, [177]), (32, [937]), (35, [178])]
def mp_162 : List (Nat × List Nat) := [(4, [1097, 1099, 1098])]
def mp_163 : List (Nat × List Nat) := [(3, [1292, 37, 1294]), (14, [1107]), (18, [1107]), (29, [1336, 44, 1338]), (33, [1134])]
def mp_164 : List (Nat × List Nat) := [(1, [615, 1, 617]), (10, [204]), (21, [203]), (26, [930]), (29, [719]), (36, [203]), (41, [937])]
def mp_165 : List (Nat × List Nat) := [(2, [1107]), (8, [1336, 44, 1338]), (17, [1119]), (28, [1120]), (38, [1134])]
def mp_166 : List (Nat × List Nat) := [(2, [204]), (7, [206])]
def mp_167 : List (Nat × List Nat) := [(2, [1107]), (7, [1119])]
def mp_168 : List (Nat × List Nat) := [(0, [82, 83, 51]), (6, [729, 730, 50]), (11, [729, 730, 50]), (14, [84, 85]), (18, [1101, 1102, 63]), (24, [729, 730, 50]), (29, [729, 730, 50]), (32, [1103, 1104]), (137, [732, 733, 50]), (150, [1200, 1202, 1201]), (156, [1196, 1198, 1197]), (187, [245, 247, 246]), (191, [1204, 1206, 1205]), (213, [784, 785, 50]), (233, [1208, 1210, 1209]), (239, [1196, 1198, 1197]), (270, [587, 589, 588]), (274, [1232, 1234, 1233]), (290, [891, 892, 50]), (302, [1236, 1238, 1237]), (308, [1196, 1198, 1197]), (346, [1020, 1021, 50]), (358, [1288, 1290, 1289]), (364, [1196, 1198, 1197]), (408, [1049, 1050, 50]), (426, [1296, 1298, 1297]), (432, [1196, 1198, 1197]), (470, [1056, 1057, 50]), (482, [1300, 1302, 1301]), (488, [1196, 1198, 1197]), (525, [591, 593, 592]), (535, [1328, 1330, 1329]), (544, [611, 613, 612]), (548, [1332, 1334, 1333]), (576, [1081, 1082, 50]), (600, [1356, 1358, 1357]), (606, [1196, 1198, 1197]), (644, [1094, 1095, 50]), (656, [1364, 1366, 1365]), (662, [1196, 1198, 1197]), (699, [721, 723, 722]), (709, [1368, 1370, 1369]), (718, [725, 727, 726]), (722, [1372, 1374, 1373])]
def mj_pl (y : Nat) : List (Nat × List Nat) := ([mp_0, mp_1, mp_2, mp_3, mp_4, mp_5, mp_6, mp_7, mp_8, mp_9, mp_10, mp_11, mp_12, mp_13, mp_14, mp_15, mp_16, mp_17, mp_18, mp_19, mp_20, mp_21, mp_22, mp_23, mp_24, mp_25, mp_26, mp_27, mp_28, mp_29, mp_30, mp_31, mp_32, mp_33, mp_34, mp_35, mp_36, mp_37, mp_38, mp_39, mp_40, mp_41, mp_42, mp_43, mp_44, mp_45, mp_46, mp_47, mp_48, mp_49, mp_50, mp_51, mp_52, mp_53, mp_54, mp_55, mp_56, mp_57, mp_58, mp_59, mp_60, mp_61, mp_62, mp_63, mp_64, mp_65, mp_66, mp_67, mp_68, mp_69, mp_70, mp_71, mp_72, mp_73, mp_74, mp_75, mp_76, mp_77, mp_78, mp_79, mp_80, mp_81, mp_82, mp_83, mp_84, mp_85, mp_86, mp_87, mp_88, mp_89, mp_90, mp_91, mp_92, mp_93, mp_94, mp_95, mp_96, mp_97, mp_98, mp_99, mp_100, mp_101, mp_102, mp_103, mp_104, mp_105, mp_106, mp_107, mp_108, mp_109, mp_110, mp_111, mp_112, mp_113, mp_114, mp_115, mp_116, mp_117, mp_118, mp_119, mp_120, mp_121, mp_122, mp_123, mp_124, mp_125, mp_126, mp_127, mp_128, mp_129, mp_130, mp_131, mp_132, mp_133, mp_134, mp_135, mp_136, mp_137, mp_138, mp_139, mp_140, mp_141, mp_142, mp_143, mp_144, mp_145, mp_146, mp_147, mp_148, mp_149, mp_150, mp_151, mp_152, mp_153, mp_154, mp_155, mp_156, mp_157, mp_158, mp_159, mp_160, mp_161, mp_162, mp_163, mp_164, mp_165, mp_166, mp_167, mp_168] : List (List (Nat × List Nat))).getD y []
def mj_pq (pc : Nat) : List (Nat × List Nat) → List Nat
  | [] => []
  | (a, l) :: r => bif Nat.beq a pc then l else mj_pq pc r
def mj_cp0 (y : Nat) : Nat := ([731, 92, 110, 107, 150, 147, 144, 170, 192, 195, 86, 1105, 428, 426, 285, 282, 294, 278, 308, 776, 773, 770, 740, 734, 1203, 1199, 255, 252, 248, 1207, 609, 606, 602, 599, 801, 805, 840, 342, 338, 847, 852, 844, 836, 832, 881, 885, 889, 798, 794, 790, 786, 1219, 1223, 1227, 1231, 1215, 1211, 590, 1235, 420, 387, 390, 384, 381, 438, 435, 432, 414, 411, 406, 909, 906, 919, 916, 922, 901, 927, 325, 320, 966, 960, 956, 992, 989, 714, 1005, 1008, 1001, 1011, 979, 1019, 952, 897, 893, 1247, 1243, 1251, 1255, 1267, 1275, 1279, 1271, 1283, 1263, 1287, 1259, 1239, 1033, 1029, 1022, 1295, 1291, 1055, 1051, 1299, 632, 636, 1072, 1069, 1076, 1080, 1066, 1062, 1058, 1307, 1315, 1323, 1327, 1319, 1311, 1303, 594, 1331, 624, 640, 652, 693, 672, 668, 664, 660, 656, 705, 710, 702, 648, 628, 718, 618, 614, 1347, 1355, 1351, 1343, 1339, 1335, 1093, 1087, 1083, 1363, 1359, 1100, 1096, 1367, 724, 1371, 728, 1375, 0] : List Nat).getD y 0
/-- the instruction as the class file has it -/
def mj_rl (pc : Nat) (i : Instr) (n j : Nat) : Instr := match i with
  | .dload k => if n = pc + 1 then .iconst k else if n = pc + 2 then .bipush k else .sipush k
  | .dstore k => if n = pc + 1 then .iconst (- (k : Int)) else if n = pc + 2 then .bipush (- (k : Int)) else .sipush (- (k : Int))
  | .multianewarray k c => .iinc k c
  | .ifCond c _ => .ifCond c ((j : Int) - pc)
  | .if_icmp c _ => .if_icmp c ((j : Int) - pc)
  | .if_acmp c _ => .if_acmp c ((j : Int) - pc)
  | .ifnull _ => .ifnull ((j : Int) - pc)
  | .ifnonnull _ => .ifnonnull ((j : Int) - pc)
  | .goto _ => .goto ((j : Int) - pc)
  | .tableswitch d lo hi offs => .tableswitch (d - pc) lo hi (offs.toList.map (fun x => x - (pc : Int))).toArray
  | .lookupswitch d ps => .lookupswitch (d - pc) (ps.toList.map (fun q => (q.1, q.2 - (pc : Int)))).toArray
  | .getfield _ => .getfield j
  | .fload _ => .getfield j
  | .putfield _ => .putfield j
  | .lstore _ => .putfield j
  | .fstore _ => .putfield j
  | .getstatic _ => .getstatic j
  | .new _ => .new j
  | .jsr _ => .new j
  | .anewarray _ => .anewarray j
  | .checkcast _ => .checkcast j
  | .ldc _ => .ldc j
  | .invokestatic _ => .invokestatic j
  | .invokespecial _ => .invokespecial j
  | .invokevirtual _ => .invokevirtual j
  | .invokeinterface _ c => .invokeinterface j c
  | i => i
def mj_dec (y pc : Nat) (i : Instr) (n j : Nat) : Bool := decide (pc < n) && decide (decode (mj_by y) pc = .ok (mj_rl pc i n j, n - pc))
def mj_ck1 (y : Nat) : Bool := (List.range (mj_sz y)).all fun pc => match mj_ins y pc with
  | none => true
  | some (i, n, j, _) => mj_dec y pc i n j
def mj_w (p : Nat) (w : Cond) : Bool := decide (lw_tbl[p]? = some w) && mj_mv w
theorem mj_w_ok {p : Nat} {w : Cond} (h : mj_w p w = true) : w ∈ lw_tbl ∧ mj_mv w = true := by
  simp only [mj_w, Bool.and_eq_true, decide_eq_true_eq] at h
  exact ⟨List.mem_of_getElem? h.1, h.2⟩
def mj_stn (q : Nat) : String × String × String := ([("java/lang/String", "COMPACT_STRINGS", "Z"), ("DotBook", "LETTERS", "[I"), ("DotBook", "MARK_CELLS", "[I"), ("DotBook$Kind", "$VALUES", "[LDotBook$Kind;"), ("DotBook$Kind", "PARAGRAPH", "LDotBook$Kind;"), ("DotBook$Kind", "HEADING", "LDotBook$Kind;"), ("DotBook$Kind", "ITEM", "LDotBook$Kind;"), ("DotBook$Kind", "BREAK", "LDotBook$Kind;"), ("java/util/ArrayList", "DEFAULTCAPACITY_EMPTY_ELEMENTDATA", "[Ljava/lang/Object;"), ("java/lang/Integer", "DigitTens", "[B"), ("java/lang/Integer", "DigitOnes", "[B"), ("jdk/internal/util/Preconditions", "SIOOBE_FORMATTER", "Ljava/util/function/BiFunction;")] : List (String × String × String)).getD q ("", "", "")
def mj_AN : Nat → String
  | 20 => "DotBook$Kind" | 21 => "DotBook$Rule" | 22 => "DotBook$Block" | 23 => "java/lang/Object" | _ => ""
def mj_KN : Nat → String
  | 20 => "[LDotBook$Kind;" | 17 => "[B" | 4 => "DotBook$Line" | _ => ""
/-- the class of a receiver by its tag -/
def mj_RN (t : Nat) : String := if t = 11 then "DotBook$Kind" else mj_CN t
def mj_nOI : MethodName := ⟨"java/lang/Object", "<init>", "()V"⟩
def mj_nCL : MethodName := ⟨"java/lang/Object", "clone", "()Ljava/lang/Object;"⟩
def mj_nGC : MethodName := ⟨"java/lang/Object", "getClass", "()Ljava/lang/Class;"⟩
def mj_nCP : MethodName := ⟨"java/lang/System", "arraycopy", "(Ljava/lang/Object;ILjava/lang/Object;II)V"⟩
def mj_nPU : MethodName := ⟨"DotBook$Sink", "put", "(II)V"⟩
def mj_flk (own : String) (j t k : Nat) (ps : List Nat) : Bool :=
  mj_w (ps.getD 0 0) (.fieldLink own j (mj_F t k).1 (mj_F t k).2.1 (mj_F t k).2.2.1) ||
  (mj_w (ps.getD 0 0) (.fieldLinkNest own j (mj_F t k).1 (mj_F t k).2.1 (mj_F t k).2.2.1 "DotBook") ||
  (mj_w (ps.getD 0 0) (.fieldLink own j "java/util/ArrayList" (mj_F t k).2.1 (mj_F t k).2.2.1) && mj_w (ps.getD 1 0) (.sameField "java/util/ArrayList" (mj_F t k).1 (mj_F t k).2.1 (mj_F t k).2.2.1)))
def mj_flkF (y : Nat) (own : String) (j t k : Nat) (ps : List Nat) : Bool := mj_flk own j t k ps && (((mj_F t k).2.2.2 == false) || (mj_w (ps.getD 0 0) (.fieldLink own j (mj_F t k).1 (mj_F t k).2.1 (mj_F t k).2.2.1) && ((mj_mn y).name == "<init>" && (mj_F t k).1 == own)))
def mj_npar (z n : Nat) : Bool := match parseMethodDescriptor (mj_mn z).desc with
  | some d => d.parameters.length == n
  | none => false
def mj_notMH (c : String) : Bool := !(c == "java/lang/invoke/MethodHandle") && !(c == "java/lang/invoke/VarHandle")
/-- what an instruction links by stands in the tables -/
def mj_lok (y pc : Nat) (i : Instr) (j k : Nat) (ps : List Nat) : Bool := let own := (mj_mn y).cls; match i with
  | .getfield t => decide (t < 11) && (decide (k < mj_nf t) && ((mj_rf t k == false) && mj_flk own j t k ps))
  | .fload t => decide (t < 11) && (decide (k < mj_nf t) && ((mj_rf t k == true) && mj_flk own j t k ps))
  | .putfield t => decide (t < 11) && (decide (k < mj_nf t) && ((mj_ty t k == .int) && mj_flkF y own j t k ps))
  | .lstore t => decide (t < 11) && (decide (k < mj_nf t) && (((mj_ty t k == .boolean) || (mj_ty t k == .byte)) && mj_flkF y own j t k ps))
  | .fstore t => decide (t < 11) && (decide (k < mj_nf t) && ((mj_rf t k == true) && mj_flkF y own j t k ps))
  | .getstatic q => decide (q < 12) && mj_w (ps.getD 0 0) (.fieldLink own j (mj_stn q).1 (mj_stn q).2.1 (mj_stn q).2.2)
  | .new t => decide (t < 8) && (mj_w (ps.getD 0 0) (.classLink own j (mj_CN t)) && (mj_w (ps.getD 1 0) (.instantiable (mj_CN t) (mj_nf t)) && mj_w (ps.getD 2 0) (.initialized (mj_CN t))))
  | .jsr q => (own == "DotBook") && (decide (8 ≤ q.toNat / 65536 ∧ q.toNat / 65536 ≤ 10) && (mj_w (ps.getD 0 0) (.classLink own j (mj_CN (q.toNat / 65536))) && (mj_w (ps.getD 1 0) (.instantiable (mj_CN (q.toNat / 65536)) 6) && (mj_w (ps.getD 2 0) (.initialized (mj_CN (q.toNat / 65536))) &&
      (decide (decode (mj_by y) (pc + 3) = .ok (.dup, 1)) && (decide (decode (mj_by y) (pc + 4) = .ok (.invokespecial (q.toNat % 65536), 3)) && (decide (decode (mj_by y) (pc + 7) = .ok (.athrow, 1)) && ((mj_hi y == []) && (match q.toNat / 65536 with | 8 => q.toNat % 65536 == 112 | 9 => q.toNat % 65536 == 119 | _ => q.toNat % 65536 == 233)))))))))
  | .anewarray t => decide (20 ≤ t ∧ t ≤ 23) && mj_w (ps.getD 0 0) (.classLink own j (mj_AN t))
  | .checkcast t => decide (t = 20 ∨ t = 17 ∨ t = 4) && mj_w (ps.getD 0 0) (.classLink own j (mj_KN t))
  | .ldc q => match q with
    | 0 => (own == "DotBook") && (j == 137)
    | 1 => (own == "DotBook") && (j == 27)
    | 2 => mj_w (ps.getD 0 0) (.classLink own j "[Ljava/lang/Object;")
    | 3 => mj_w (ps.getD 0 0) (.constant own j (nI 2147483647))
    | 4 => mj_w (ps.getD 0 0) (.constant own j (nI 2147483639))
    | _ => false
  | .invokestatic z => if z = 900 then mj_w (ps.getD 0 0) (.methodLink own j mj_nCP) && (mj_w (ps.getD 1 0) (.native mj_nCP) && (mj_w (ps.getD 2 0) (.static mj_nCP) && mj_w (ps.getD 3 0) (.initialized "java/lang/System")))
    else decide (z < mj_NM) && (mj_w (ps.getD 0 0) (.methodLink own j (mj_mn z)) && (mj_w (ps.getD 1 0) (.static (mj_mn z)) && (mj_w (ps.getD 2 0) (.initialized (mj_mn z).cls) && (mj_npar z (mj_na z) && mj_notMH (mj_mn z).cls))))
  | .invokespecial z => if z = 903 then mj_w (ps.getD 0 0) (.methodLink own j mj_nOI) && mj_w (ps.getD 1 0) (.instanceMethod mj_nOI)
    else decide (z < mj_NM) && (mj_npar z (mj_na z - 1) && (decide (0 < mj_na z) && (mj_notMH (mj_mn z).cls && (if (mj_mn z).name = "<init>" then (mj_w (ps.getD 0 0) (.methodLink own j (mj_mn z)) || mj_w (ps.getD 0 0) (.methodLinkNest own j (mj_mn z) "DotBook")) && (mj_w (ps.getD 1 0) (.instanceMethod (mj_mn z)) && (mj_rt z == none))
      else mj_w (ps.getD 0 0) (.methodLink own j (mj_mn z)) && (mj_w (ps.getD 1 0) (.sameMethod (mj_mn z).cls (mj_mn z).cls (mj_mn z).name (mj_mn z).desc) && (mj_w (ps.getD 2 0) (.superclass own (mj_mn z).cls) && (mj_w (ps.getD 3 0) (.instanceMethod (mj_mn z)) && decide (mj_rg z < 11))))))))
  | .invokevirtual z => if z = 901 then (let ad := if own = "DotBook$Kind" then "[LDotBook$Kind;" else "[B"; mj_w (ps.getD 0 0) (.methodLink own j ⟨ad, "clone", "()Ljava/lang/Object;"⟩) && (mj_w (ps.getD 1 0) (.sameMethod ad "java/lang/Object" "clone" "()Ljava/lang/Object;") && (mj_w (ps.getD 2 0) (.native mj_nCL) && (mj_w (ps.getD 3 0) (.instanceMethod mj_nCL) && (mj_w (ps.getD 4 0) (.selects ad ⟨ad, "clone", "()Ljava/lang/Object;"⟩ mj_nCL) && mj_w (ps.getD 5 0) (.castable ad "java/lang/Cloneable"))))))
    else if z = 902 then mj_w (ps.getD 0 0) (.methodLink own j mj_nGC) && (mj_w (ps.getD 1 0) (.declares mj_nGC) && (mj_w (ps.getD 2 0) (.selects "[Ljava/lang/Object;" mj_nGC mj_nGC) && (mj_w (ps.getD 3 0) (.instanceMethod mj_nGC) && mj_w (ps.getD 4 0) (.native mj_nGC))))
    else decide (z < mj_NM) && (mj_npar z (mj_na z - 1) && (decide (0 < mj_na z) && (mj_notMH (mj_mn z).cls && (decide (mj_rg z < 12) && (
      (mj_w (ps.getD 0 0) (.methodLink own j (mj_mn z)) && (mj_w (ps.getD 1 0) (.selects (mj_RN (mj_rg z)) (mj_mn z) (mj_mn z)) && mj_w (ps.getD 2 0) (.instanceMethod (mj_mn z)))) ||
      ((mj_w (ps.getD 0 0) (.methodLink own j (mj_mn z)) && (mj_w (ps.getD 1 0) (.privateMethod (mj_mn z)) && (mj_w (ps.getD 2 0) (.instanceMethod (mj_mn z)) && mj_w (ps.getD 3 0) (.sameMethod (mj_mn z).cls (mj_mn z).cls (mj_mn z).name (mj_mn z).desc)))) ||
      (mj_w (ps.getD 0 0) (.methodLink own j ⟨"java/lang/AbstractStringBuilder", (mj_mn z).name, (mj_mn z).desc⟩) && (mj_w (ps.getD 1 0) (.sameMethod "java/lang/AbstractStringBuilder" "java/lang/AbstractStringBuilder" (mj_mn z).name (mj_mn z).desc) && (mj_w (ps.getD 2 0) (.instanceMethod ⟨"java/lang/AbstractStringBuilder", (mj_mn z).name, (mj_mn z).desc⟩) && (mj_w (ps.getD 3 0) (.selects (mj_RN (mj_rg z)) ⟨"java/lang/AbstractStringBuilder", (mj_mn z).name, (mj_mn z).desc⟩ (mj_mn z)) && mj_w (ps.getD 4 0) (.instanceMethod (mj_mn z))))))))))))
  | .invokeinterface _ _ => mj_w (ps.getD 0 0) (.methodLink own j mj_nPU) && (mj_w (ps.getD 1 0) (.declares mj_nPU) && (mj_w (ps.getD 2 0) (.interfaceMethod "DotBook$Sink" "DotBook$Sink" "put" "(II)V") &&
      (mj_w (ps.getD 3 0) (.selects "DotBook$Block" mj_nPU (mj_mn mj_yB)) && (mj_w (ps.getD 4 0) (.instanceMethod (mj_mn mj_yB)) && (mj_w (ps.getD 5 0) (.publicMethod (mj_mn mj_yB)) && (mj_w (ps.getD 6 0) (.unhidden "DotBook$Block" "put" "(II)V") && (mj_w (ps.getD 7 0) (.castable "DotBook$Block" "DotBook$Sink") &&
      (mj_w (ps.getD 8 0) (.selects "DotBook$Line" mj_nPU (mj_mn mj_yL)) && (mj_w (ps.getD 9 0) (.instanceMethod (mj_mn mj_yL)) && (mj_w (ps.getD 10 0) (.publicMethod (mj_mn mj_yL)) && (mj_w (ps.getD 11 0) (.unhidden "DotBook$Line" "put" "(II)V") && mj_w (ps.getD 12 0) (.castable "DotBook$Line" "DotBook$Sink"))))))))))))
  | _ => true
def mj_ck2 (y : Nat) : Bool := (List.range (mj_sz y)).all fun pc => match mj_ins y pc with
  | none => true
  | some (i, _, j, k) => mj_lok y pc i j k (mj_pq pc (mj_pl y))
def mj_ck1r (y a n : Nat) : Bool := (List.range n).all fun q => match mj_ins y (a + q) with
  | none => true
  | some (i, m, j, _) => mj_dec y (a + q) i m j
theorem mj_ck1_of {y n : Nat} (h0 : mj_ck1r y 0 n = true) (h1 : mj_ck1r y n (mj_sz y - n) = true) : mj_ck1 y = true := by
  refine List.all_eq_true.mpr (fun pc hp => ?_)
  have hp := List.mem_range.mp hp
  rcases Nat.lt_or_ge pc n with q | q
  · have := List.all_eq_true.mp h0 pc (List.mem_range.mpr q)
    simpa using this
  · have := List.all_eq_true.mp h1 (pc - n) (List.mem_range.mpr (by omega))
    simpa [Nat.add_sub_cancel' q] using this
theorem mj_ck1r_app {y a n m : Nat} (h0 : mj_ck1r y a n = true) (h1 : mj_ck1r y (a + n) m = true) : mj_ck1r y a (n + m) = true := by
  refine List.all_eq_true.mpr (fun pc hp => ?_)
  have hp := List.mem_range.mp hp
  rcases Nat.lt_or_ge pc n with q | q
  · exact List.all_eq_true.mp h0 pc (List.mem_range.mpr q)
  · have := List.all_eq_true.mp h1 (pc - n) (List.mem_range.mpr (by omega))
    rw [Nat.add_assoc, Nat.add_sub_cancel' q] at this
    exact this
