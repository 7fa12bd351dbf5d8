/-! LINKS: what an entry of a class's pool comes to (printed by gen/links.py) -/
set_option maxRecDepth 100000
/-- a field: its place, the classes that have it, its type, whether it is final -/
def hv_frs : List (List (Nat × (Nat × List Nat × FieldType × Bool))) := [
  [],
  [(48, (0, [0], .array (.object "HallOfClaims$Plain"), true)), (57, (1, [0], .object "HallOfClaims$Hall", true)), (61, (2, [0], .object "HallOfClaims$Hall", true)), (64, (3, [0], .object "HallOfClaims$Hall", true)), (70, (4, [0], .object "HallOfClaims$Frame", true)), (79, (5, [0], .object "HallOfClaims$Labels", true)), (86, (6, [0], .object "HallOfClaims$Shelf", true)), (93, (7, [0], .object "HallOfClaims$Game", true)), (97, (9, [0], .array .byte, true)), (101, (11, [0], .array .char, true)), (105, (13, [0], .array .int, true)), (112, (14, [0], .array (.object "HallOfClaims$Tally"), true)), (119, (15, [0], .object "java/util/TreeMap", true)), (128, (12, [0], .int, false)), (138, (1, [20], .int, false)), (141, (0, [20], .int, true)), (154, (0, [22, 23, 24, 25, 26], .int, true)), (166, (0, [7], .int, false)), (183, (1, [7], .int, false)), (196, (3, [7], .array (.object "HallOfClaims$Plain"), true)), (201, (4, [7], .array .int, true)), (206, (2, [7], .int, false)), (209, (5, [7], .array .int, true)), (212, (6, [7], .array .int, true)), (215, (7, [7], .array .int, true)), (225, (4, [8], .array .int, true)), (228, (5, [8], .array .int, true)), (237, (9, [8], .int, false)), (240, (8, [8], .array .int, true)), (250, (1, [12], .object "java/util/TreeSet", true)), (289, (2, [17], .array .long, true)), (293, (1, [17], .array .int, true)), (299, (10, [8], .int, false)), (315, (10, [0], .int, false)), (318, (0, [8], .object "HallOfClaims$Hall", false)), (356, (0, [18], .int, false)), (359, (1, [18], .int, false)), (360, (2, [18], .int, false)), (506, (8, [0], .boolean, false))],
  [],
  [],
  [],
  [],
  [],
  [],
  [(9, (2, [7], .int, false)), (17, (3, [7], .array (.object "HallOfClaims$Plain"), true)), (21, (4, [7], .array .int, true)), (25, (5, [7], .array .int, true)), (28, (6, [7], .array .int, true)), (31, (7, [7], .array .int, true)), (34, (0, [7], .int, false)), (37, (1, [7], .int, false))],
  [(9, (2, [8], .array .int, true)), (15, (3, [8], .array .int, true)), (18, (4, [8], .array .int, true)), (21, (5, [8], .array .int, true)), (26, (6, [8], .array (.object "HallOfClaims$Waiting"), true)), (33, (7, [8], .object "java/util/PriorityQueue", true)), (37, (8, [8], .array .int, true)), (43, (0, [8], .object "HallOfClaims$Hall", false)), (47, (1, [7], .int, false)), (53, (1, [8], .int, false)), (54, (0, [7], .int, false)), (62, (2, [7], .int, false)), (75, (10, [8], .int, false)), (78, (11, [8], .int, false)), (84, (4, [7], .array .int, true)), (87, (1, [10], .int, false)), (97, (9, [8], .int, false)), (111, (0, [10], .int, true))],
  [(17, (0, [9], .array (.object "java/lang/Object"), false)), (21, (2, [9], .object "java/util/Comparator", true)), (58, (1, [9], .int, false)), (93, (3, [9], .int, false))],
  [],
  [],
  [(7, (0, [10], .int, true)), (13, (1, [10], .int, false))],
  [(9, (1, [11], .array .int, true)), (15, (2, [11], .array .int, true)), (18, (0, [11], .object "HallOfClaims$Frame", true)), (22, (3, [11], .int, false)), (34, (5, [8], .array .int, true)), (53, (0, [8], .object "HallOfClaims$Hall", false)), (57, (0, [7], .int, false)), (62, (1, [8], .int, false))],
  [(11, (0, [12], .array (.object "HallOfClaims$Found"), true)), (25, (1, [12], .object "java/util/TreeSet", true)), (50, (1, [8], .int, false)), (60, (3, [11], .int, false)), (63, (2, [11], .array .int, true)), (94, (0, [16], .int, false))],
  [(7, (0, [16], .int, false))],
  [(7, (0, [13], .object "java/util/NavigableMap", false))],
  [(7, (4, [15], .int, false)), (13, (5, [15], .int, false)), (16, (2, [15], .object "java/util/Comparator", true)), (58, (1, [27], .object "java/lang/Object", false)), (101, (3, [15], .object "java/util/TreeMap$Entry", false)), (105, (0, [27], .object "java/lang/Object", false)), (111, (2, [27], .object "java/util/TreeMap$Entry", false)), (114, (3, [27], .object "java/util/TreeMap$Entry", false)), (124, (4, [27], .object "java/util/TreeMap$Entry", false)), (188, (6, [15], .object "java/util/TreeMap$EntrySet", false)), (191, (7, [15], .object "java/util/TreeMap$KeySet", false)), (290, (5, [27], .boolean, false))],
  [],
  [],
  [(7, (0, [16], .int, false))],
  [(9, (1, [17], .array .int, true)), (15, (2, [17], .array .long, true)), (19, (0, [17], .object "HallOfClaims$Frame", false)), (23, (0, [8], .object "HallOfClaims$Hall", false)), (29, (0, [7], .int, false)), (39, (1, [8], .int, false)), (49, (5, [8], .array .int, true))],
  [(7, (0, [18], .int, false)), (13, (1, [18], .int, false)), (16, (2, [18], .int, false))],
  [(9, (0, [33], .array .int, true)), (13, (1, [33], .array .int, true)), (16, (2, [33], .array .int, true)), (19, (4, [33], .array .int, true)), (22, (5, [33], .array .int, true)), (25, (7, [33], .array .int, true)), (28, (9, [33], .array .int, true)), (31, (10, [33], .array .int, true)), (34, (11, [33], .array .int, true)), (37, (12, [33], .array .int, true)), (40, (15, [33], .array .int, true)), (43, (17, [33], .array .boolean, true)), (47, (18, [33], .array .boolean, true)), (50, (21, [33], .array .int, true)), (53, (22, [33], .array .long, true)), (79, (13, [33], .int, false)), (83, (14, [33], .int, false)), (89, (16, [33], .int, false)), (130, (8, [33], .int, false)), (133, (20, [33], .boolean, false)), (137, (19, [33], .int, false)), (269, (6, [33], .int, false)), (296, (23, [33], .int, false)), (308, (3, [33], .boolean, false))],
  [(7, (1, [19], .int, true))],
  [],
  [(1, (2, [20], .object "HallOfClaims", true)), (13, (12, [0], .int, false)), (19, (0, [20], .int, true)), (22, (1, [20], .int, false)), (25, (11, [0], .array .char, true))],
  [(7, (1, [21], .int, true))],
  [(3, (4, [22], .object "HallOfClaims", true)), (15, (1, [22], .int, true)), (19, (2, [22], .int, true)), (22, (3, [22], .int, true)), (25, (0, [0], .array (.object "HallOfClaims$Plain"), true))],
  [(7, (0, [22, 23, 24, 25, 26], .int, true))],
  [(9, (1, [23], .int, true)), (15, (2, [7], .int, false))],
  [(3, (4, [24], .object "HallOfClaims", true)), (15, (1, [24], .int, true)), (19, (2, [24], .int, true)), (22, (3, [24], .int, true)), (25, (0, [7], .int, false)), (30, (3, [7], .array (.object "HallOfClaims$Plain"), true)), (34, (0, [0], .array (.object "HallOfClaims$Plain"), true)), (35, (4, [7], .array .int, true))],
  [(7, (1, [25], .int, true)), (13, (1, [7], .int, false)), (18, (0, [7], .int, false))],
  [(9, (1, [26], .array .int, true)), (15, (2, [26], .array .boolean, true)), (19, (3, [26], .int, false)), (23, (0, [7], .int, false)), (28, (7, [7], .array .int, true)), (30, (6, [7], .array .int, true))],
  [(205, (0, [30], .int, true))],
  [(1, (0, [31], .object "java/util/TreeMap", true))],
  [(7, (0, [28], .object "java/util/NavigableMap", true))],
  [(9, (5, [27], .boolean, false)), (15, (0, [27], .object "java/lang/Object", false)), (19, (1, [27], .object "java/lang/Object", false)), (22, (4, [27], .object "java/util/TreeMap$Entry", false))],
  [],
  [(13, (0, [27], .object "java/lang/Object", false))],
  [(1, (3, [29, 32], .object "java/util/TreeMap", true)), (13, (5, [15], .int, false)), (19, (2, [29, 32], .int, false)), (22, (1, [29, 32], .object "java/util/TreeMap$Entry", false)), (26, (0, [29, 32], .object "java/util/TreeMap$Entry", false))],
  [],
  []]
def hv_fr (o i : Nat) : Option ((Nat × List Nat × FieldType × Bool)) := (hv_frs.getD o []).lookup i
def hv_nws : List (List (Nat × Nat)) := [
  [(7, 0), (10, 33)],
  [(1, 19), (21, 1), (26, 2), (29, 3), (32, 4), (35, 5), (38, 6), (52, 7), (67, 8), (74, 11), (83, 12), (90, 17), (109, 18), (116, 15), (123, 20), (152, 21)],
  [],
  [],
  [],
  [],
  [],
  [],
  [],
  [(24, 10), (30, 9)],
  [],
  [],
  [],
  [],
  [],
  [(9, 16), (17, 13), (19, 14)],
  [],
  [(13, 15)],
  [(59, 27), (222, 28), (242, 31), (269, 29)],
  [],
  [],
  [],
  [],
  [],
  [],
  [],
  [],
  [(29, 21), (68, 22), (73, 23), (85, 24), (88, 25), (94, 26)],
  [],
  [],
  [],
  [],
  [],
  [],
  [],
  [],
  [(13, 32)],
  [],
  [],
  [],
  [],
  [],
  [],
  []]
def hv_nw (o i : Nat) : Option (Nat) := (hv_nws.getD o []).lookup i
def hv_ans : List (List (Nat × Nat)) := [
  [],
  [(38, 5), (109, 9), (132, 10)],
  [],
  [],
  [],
  [],
  [],
  [],
  [(15, 5)],
  [(24, 6)],
  [(15, 7)],
  [],
  [],
  [],
  [],
  [(9, 8)],
  [],
  [],
  [],
  [],
  [],
  [],
  [],
  [],
  [],
  [],
  [],
  [],
  [],
  [],
  [],
  [],
  [],
  [],
  [],
  [],
  [],
  [],
  [],
  [],
  [],
  [],
  [],
  []]
def hv_an (o i : Nat) : Option (Nat) := (hv_ans.getD o []).lookup i
def hv_ccs : List (List (Nat × List Nat)) := [
  [],
  [(109, [18]), (338, [30]), (390, [27])],
  [],
  [],
  [],
  [],
  [],
  [],
  [],
  [(24, [10])],
  [(144, [10, 30])],
  [],
  [],
  [(8, [10])],
  [],
  [(9, [16])],
  [(8, [16])],
  [],
  [(99, [10, 30])],
  [],
  [],
  [],
  [],
  [],
  [],
  [],
  [],
  [],
  [],
  [],
  [],
  [],
  [],
  [],
  [],
  [(1, [30])],
  [],
  [(13, [15]), (19, [])],
  [],
  [],
  [],
  [],
  [],
  []]
def hv_cc (o i : Nat) : Option (List Nat) := (hv_ccs.getD o []).lookup i
def hv_ios : List (List (Nat × (List Nat × List Nat))) := [
  [],
  [],
  [],
  [],
  [],
  [(11, ([3], [1, 2, 4, 5, 6]))],
  [],
  [],
  [],
  [],
  [],
  [],
  [],
  [],
  [],
  [],
  [],
  [],
  [],
  [],
  [],
  [],
  [],
  [],
  [],
  [],
  [],
  [],
  [],
  [],
  [],
  [],
  [],
  [],
  [],
  [],
  [],
  [(13, ([15], []))],
  [],
  [],
  [],
  [],
  [],
  []]
def hv_io (o i : Nat) : Option ((List Nat × List Nat)) := (hv_ios.getD o []).lookup i
def hv_gss : List (List (Nat × Value)) := [
  [],
  [],
  [],
  [],
  [],
  [],
  [],
  [],
  [],
  [],
  [],
  [],
  [],
  [],
  [],
  [],
  [],
  [(65, .ref 257)],
  [],
  [],
  [],
  [],
  [],
  [],
  [],
  [],
  [],
  [],
  [],
  [],
  [],
  [],
  [],
  [],
  [],
  [(191, .int 127), (195, .ref 258)],
  [],
  [],
  [],
  [],
  [],
  [],
  [],
  []]
def hv_gs (o i : Nat) : Option (Value) := (hv_gss.getD o []).lookup i
def hv_kss : List (List (Nat × Value)) := [
  [],
  [(190, .long (9)), (204, .long (3)), (401, .long (20)), (403, .int (1664525)), (404, .int (1013904223)), (405, .int (2147483647)), (427, .long (255)), (510, .long (2)), (516, .long (4000000000000000000)), (527, .long (11)), (529, .long (16))],
  [],
  [],
  [],
  [],
  [],
  [],
  [],
  [],
  [],
  [],
  [],
  [],
  [],
  [],
  [],
  [],
  [],
  [],
  [],
  [],
  [(68, .long (1000000007))],
  [],
  [(143, .long (48)), (145, .long (57)), (151, .long (97)), (153, .long (122)), (198, .long (255)), (206, .long (5)), (208, .long (9)), (214, .long (3)), (245, .long (1000000007)), (247, .long (-1)), (259, .long (4000000000000000000)), (261, .long (2)), (263, .long (20)), (299, .int (1664525)), (300, .int (1013904223)), (301, .int (2147483647)), (314, .long (11)), (316, .long (16))],
  [],
  [],
  [(42, .long (48)), (44, .long (57)), (50, .long (97)), (52, .long (122))],
  [],
  [],
  [],
  [],
  [],
  [],
  [],
  [],
  [],
  [],
  [],
  [],
  [],
  [],
  [],
  []]
def hv_ks (o i : Nat) : Option (Value) := (hv_kss.getD o []).lookup i
/-- a call: 0 of one method; 1 by the receiver's class; 2 Object.<init>; 3 RuntimeException.<init>; 4 arraycopy -/
def hv_mls : List (List (Nat × (Nat × List (Nat × Nat)))) := [
  [(9, (0, [(0, 1)])), (12, (0, [(0, 28)])), (13, (1, [(0, 29)])), (17, (1, [(33, 227)])), (18, (1, [(0, 230)])), (22, (1, [(33, 231)])), (23, (1, [(0, 250)])), (27, (1, [(33, 251)])), (28, (1, [(0, 252)])), (31, (1, [(33, 253)])), (32, (1, [(0, 254)])), (35, (1, [(33, 255)])), (36, (1, [(0, 256)])), (40, (1, [(33, 257)])), (41, (1, [(0, 259)])), (44, (1, [(33, 260)])), (45, (1, [(0, 261)])), (48, (1, [(33, 262)])), (49, (1, [(0, 263)])), (52, (1, [(33, 264)])), (53, (1, [(0, 270)])), (56, (1, [(33, 271)])), (57, (1, [(0, 275)])), (60, (1, [(33, 276)])), (61, (1, [(0, 277)])), (64, (1, [(33, 278)])), (65, (1, [(0, 292)])), (68, (1, [(33, 293)])), (69, (1, [(0, 294)])), (72, (1, [(33, 295)])), (73, (1, [(0, 296)])), (76, (1, [(33, 297)])), (77, (1, [(0, 303)])), (80, (1, [(33, 304)])), (81, (1, [(0, 305)])), (84, (1, [(33, 306)])), (85, (1, [(0, 308)])), (88, (1, [(33, 309)])), (89, (1, [(0, 310)])), (92, (1, [(33, 311)])), (93, (1, [(0, 313)])), (97, (1, [(33, 317)])), (98, (1, [(0, 319)])), (101, (1, [(33, 320)])), (102, (1, [(0, 322)])), (105, (1, [(33, 323)])), (106, (1, [(0, 324)])), (109, (1, [(33, 325)])), (110, (1, [(0, 329)])), (113, (1, [(33, 330)])), (114, (1, [(0, 331)])), (117, (1, [(33, 332)])), (118, (1, [(0, 337)])), (121, (1, [(33, 338)])), (122, (1, [(0, 341)])), (125, (1, [(33, 342)])), (126, (1, [(0, 343)])), (129, (1, [(33, 344)])), (130, (1, [(0, 345)])), (133, (1, [(33, 347)]))],
  [(3, (0, [(0, 36)])), (9, (0, [(0, 35)])), (13, (0, [(0, 44)])), (17, (0, [(0, 316)])), (23, (0, [(0, 3)])), (28, (0, [(0, 5)])), (31, (0, [(0, 6)])), (34, (0, [(0, 7)])), (37, (0, [(0, 8)])), (40, (0, [(0, 4)])), (41, (2, [])), (44, (0, [(0, 2)])), (54, (0, [(0, 9)])), (69, (0, [(0, 10)])), (76, (0, [(0, 16)])), (85, (0, [(0, 17)])), (92, (0, [(0, 25)])), (111, (0, [(0, 26)])), (118, (0, [(0, 27)])), (125, (0, [(0, 39)])), (134, (1, [(20, 40)])), (144, (1, [(7, 59)])), (148, (1, [(22, 60), (24, 62), (23, 63), (26, 64), (25, 65)])), (157, (0, [(0, 46)])), (158, (1, [(8, 93)])), (162, (1, [(8, 99)])), (169, (0, [(0, 70)])), (173, (0, [(0, 67)])), (176, (1, [(7, 61)])), (180, (1, [(0, 69)])), (186, (0, [(0, 71)])), (192, (0, [(0, 34)])), (197, (1, [(6, 73), (5, 74), (4, 75), (3, 76), (2, 77), (1, 78)])), (218, (1, [(7, 82)])), (222, (1, [(7, 92)])), (231, (1, [(0, 98)])), (234, (1, [(8, 121)])), (243, (1, [(12, 125)])), (246, (1, [(0, 124)])), (254, (1, [(13, 117)])), (258, (1, [(12, 161)])), (260, (0, [(0, 177)])), (263, (1, [(12, 178)])), (266, (1, [(13, 179)])), (270, (1, [(12, 181)])), (273, (1, [(8, 129)])), (277, (0, [(0, 139)])), (280, (1, [(0, 184)])), (283, (1, [(17, 185)])), (286, (0, [(0, 188)])), (296, (1, [(17, 187)])), (301, (1, [(0, 195)])), (305, (1, [(0, 196)])), (309, (1, [(8, 200)])), (312, (1, [(0, 199)])), (321, (1, [(0, 202)])), (325, (1, [(0, 207)])), (328, (1, [(0, 206)])), (331, (1, [(0, 205)])), (334, (1, [(15, 127)])), (337, (0, [(0, 211)])), (343, (1, [(15, 212)])), (347, (1, [(15, 115)])), (348, (1, [(18, 214)])), (352, (1, [(15, 133)])), (363, (0, [(0, 189)])), (368, (1, [(0, 210)])), (371, (1, [(15, 215)])), (375, (1, [(31, 217), (28, 165), (13, 162)])), (381, (1, [(32, 170), (29, 170)])), (386, (1, [(32, 171), (29, 175)])), (392, (1, [(27, 219)])), (395, (1, [(27, 220)])), (398, (1, [(30, 221)])), (406, (1, [(0, 32)])), (410, (1, [(0, 96)])), (413, (1, [(0, 193)])), (416, (1, [(0, 31)])), (421, (1, [(21, 224), (19, 225)])), (424, (1, [(0, 226)])), (429, (1, [(0, 33)])), (432, (1, [(0, 38)])), (435, (1, [(0, 66)])), (439, (1, [(0, 68)])), (442, (1, [(0, 72)])), (445, (1, [(0, 79)])), (449, (1, [(0, 80)])), (452, (1, [(0, 81)])), (455, (1, [(0, 97)])), (458, (1, [(0, 122)])), (461, (1, [(0, 123)])), (464, (1, [(0, 176)])), (467, (1, [(0, 182)])), (470, (1, [(0, 183)])), (473, (1, [(0, 192)])), (476, (1, [(0, 194)])), (479, (1, [(0, 197)])), (482, (1, [(0, 198)])), (485, (1, [(0, 201)])), (488, (1, [(0, 203)])), (491, (1, [(0, 204)])), (494, (1, [(0, 208)])), (497, (1, [(0, 209)])), (500, (1, [(0, 222)])), (503, (1, [(0, 223)])), (512, (1, [(0, 315)])), (518, (1, [(0, 30)])), (521, (1, [(0, 314)])), (524, (1, [(7, 346)]))],
  [(1, (0, [(0, 4)])), (7, (1, [(1, 86), (4, 86)]))],
  [(1, (2, []))],
  [(1, (0, [(0, 4)])), (7, (1, [(2, 89), (3, 89)]))],
  [(1, (0, [(0, 5)])), (7, (1, [(3, 91)]))],
  [(1, (0, [(0, 3)]))],
  [(1, (0, [(0, 4)]))],
  [(3, (2, [])), (40, (4, [])), (46, (0, [(0, 71)])), (50, (1, [(6, 84), (5, 84), (4, 85), (3, 84), (2, 84), (1, 84)])), (54, (1, [(6, 86), (5, 87), (4, 88), (3, 86), (2, 86), (1, 88)])), (57, (1, [(6, 89), (5, 89), (4, 89), (3, 90), (2, 91), (1, 89)])), (61, (1, [(7, 83)])), (62, (0, [(0, 139)]))],
  [(3, (2, [])), (32, (0, [(0, 11)])), (40, (0, [(0, 15)])), (57, (1, [(7, 82)])), (60, (1, [(7, 92)])), (65, (0, [(0, 71)])), (69, (1, [(8, 94)])), (72, (1, [(8, 95)])), (81, (0, [(0, 102)])), (90, (1, [(9, 103)])), (94, (1, [(9, 100)])), (100, (1, [(8, 101)])), (103, (1, [(9, 112)])), (107, (1, [(9, 118)])), (114, (1, [(8, 120)])), (117, (1, [(8, 128)])), (121, (1, [(8, 130)])), (124, (1, [(8, 158)])), (127, (1, [(8, 200)]))],
  [(3, (0, [(0, 12)])), (7, (0, [(0, 13)])), (89, (1, [(9, 104)])), (100, (1, [(9, 105)])), (125, (0, [(0, 119)])), (140, (0, [(0, 106)])), (146, (1, [(10, 107), (30, 110)]))],
  [(1, (0, [(0, 14)]))],
  [(1, (2, [])), (7, (1, [(9, 113), (31, 114), (28, 116), (13, 117)]))],
  [(1, (2, [])), (16, (0, [(0, 109)])), (22, (1, [(10, 108)]))],
  [(3, (2, [])), (26, (1, [(11, 152)])), (30, (0, [(0, 71)])), (39, (0, [(0, 102)])), (42, (1, [(11, 155)])), (46, (1, [(11, 154)])), (49, (1, [(11, 153)])), (65, (1, [(8, 160)]))],
  [(3, (2, [])), (21, (0, [(0, 18)])), (22, (0, [(0, 19)])), (29, (0, [(0, 24)])), (30, (1, [(13, 126)])), (33, (1, [(8, 128)])), (39, (1, [(8, 129)])), (42, (1, [(16, 131)])), (46, (1, [(13, 132)])), (54, (1, [(11, 151)])), (67, (0, [(0, 156)])), (71, (1, [(11, 157)])), (74, (1, [(8, 158)])), (77, (1, [(11, 159)])), (80, (1, [(13, 162)])), (84, (1, [(32, 170), (29, 170)])), (90, (1, [(32, 171), (29, 175)]))],
  [(1, (2, [])), (13, (0, [(0, 139)])), (19, (0, [(0, 109)])), (25, (1, [(14, 138)]))],
  [(1, (0, [(0, 23)])), (16, (0, [(0, 22)])), (19, (0, [(0, 20)])), (34, (1, [(15, 163)])), (40, (1, [(28, 165), (13, 162)])), (53, (1, [(15, 115)])), (57, (1, [(15, 180)])), (69, (1, [(15, 133)])), (77, (1, [(15, 127)]))],
  [(1, (0, [(0, 21)])), (50, (1, [(15, 213)])), (54, (1, [(15, 167)])), (95, (0, [(0, 141)])), (107, (1, [(10, 107), (30, 110)])), (117, (1, [(14, 137)])), (123, (1, [(15, 136)])), (127, (1, [(15, 134)])), (135, (1, [(15, 135)])), (139, (1, [(15, 142)])), (167, (0, [(0, 140)])), (170, (1, [(15, 143)])), (224, (0, [(0, 164)])), (244, (0, [(0, 216)])), (271, (0, [(0, 168)])), (294, (0, [(0, 144)])), (297, (0, [(0, 145)])), (300, (0, [(0, 146)])), (303, (0, [(0, 147)])), (307, (0, [(0, 148)])), (311, (1, [(15, 149)])), (314, (1, [(15, 150)]))],
  [(1, (2, [])), (19, (1, [(15, 115)]))],
  [(1, (0, [(0, 14)]))],
  [(1, (2, []))],
  [(3, (2, [])), (35, (0, [(0, 71)])), (42, (0, [(0, 102)])), (45, (1, [(17, 186)])), (52, (1, [(17, 187)])), (56, (0, [(0, 188)])), (59, (0, [(0, 189)])), (64, (1, [(17, 190)])), (70, (0, [(0, 191)]))],
  [(1, (2, []))],
  [(1, (2, [])), (57, (0, [(0, 228)])), (61, (0, [(0, 267)])), (65, (0, [(0, 241)])), (69, (1, [(33, 266)])), (73, (1, [(33, 269)])), (76, (1, [(33, 268)])), (86, (1, [(33, 265)])), (92, (1, [(33, 273)])), (96, (1, [(33, 282)])), (100, (1, [(33, 281)])), (103, (1, [(33, 285)])), (106, (1, [(33, 284)])), (109, (1, [(33, 283)])), (112, (1, [(33, 286)])), (115, (1, [(33, 288)])), (119, (1, [(33, 280)])), (123, (1, [(33, 287)])), (127, (0, [(0, 291)])), (140, (1, [(33, 234)])), (147, (1, [(33, 235)])), (155, (0, [(0, 238)])), (158, (0, [(0, 239)])), (161, (1, [(33, 236)])), (164, (1, [(33, 237)])), (167, (1, [(33, 245)])), (170, (1, [(33, 243)])), (173, (1, [(33, 244)])), (177, (1, [(33, 246)])), (180, (1, [(33, 247)])), (183, (1, [(33, 233)])), (186, (1, [(33, 240)])), (189, (1, [(33, 242)])), (192, (1, [(33, 248)])), (195, (1, [(33, 249)])), (200, (1, [(33, 229)])), (203, (1, [(33, 232)])), (210, (1, [(33, 258)])), (216, (1, [(33, 272)])), (219, (1, [(33, 274)])), (222, (1, [(33, 279)])), (225, (1, [(33, 289)])), (228, (1, [(33, 290)])), (231, (1, [(33, 301)])), (235, (1, [(33, 300)])), (238, (1, [(33, 299)])), (241, (1, [(33, 302)])), (249, (1, [(33, 298)])), (252, (1, [(33, 307)])), (255, (1, [(33, 312)])), (265, (0, [(0, 318)])), (272, (1, [(33, 321)])), (275, (1, [(33, 327)])), (278, (1, [(33, 328)])), (281, (1, [(33, 326)])), (284, (1, [(33, 334)])), (287, (1, [(33, 333)])), (290, (1, [(33, 335)])), (293, (1, [(33, 336)])), (302, (1, [(33, 340)])), (305, (1, [(33, 339)])), (311, (1, [(33, 348)]))],
  [(1, (0, [(0, 37)]))],
  [(1, (3, []))],
  [(7, (2, [])), (31, (0, [(0, 46)])), (34, (1, [(20, 42)])), (38, (1, [(20, 45)])), (46, (0, [(0, 44)])), (54, (1, [(20, 51)])), (58, (1, [(20, 41)])), (62, (1, [(20, 58)])), (65, (1, [(20, 43)])), (70, (0, [(0, 47)])), (75, (0, [(0, 49)])), (78, (1, [(20, 50)])), (81, (1, [(20, 52)])), (87, (0, [(0, 53)])), (90, (0, [(0, 54)])), (91, (1, [(20, 55)])), (96, (0, [(0, 56)])), (97, (1, [(26, 57)]))],
  [(1, (0, [(0, 37)]))],
  [(9, (0, [(0, 48)])), (29, (1, [(7, 61)]))],
  [(1, (2, []))],
  [(3, (0, [(0, 48)]))],
  [(9, (0, [(0, 48)]))],
  [(1, (0, [(0, 48)]))],
  [(3, (0, [(0, 48)]))],
  [(259, (0, [(0, 109)])), (284, (1, [(30, 111)]))],
  [(7, (0, [(0, 23)])), (15, (1, [(15, 167)])), (21, (0, [(0, 218)])), (48, (1, [(15, 115)]))],
  [(1, (0, [(0, 23)])), (15, (1, [(15, 166)]))],
  [(3, (2, []))],
  [],
  [(1, (0, [(0, 169)])), (7, (1, [(29, 173)]))],
  [(7, (2, [])), (35, (0, [(0, 174)]))],
  [(1, (0, [(0, 169)])), (7, (1, [(32, 173)])), (13, (1, [(32, 172)]))],
  []]
def hv_ml (o i : Nat) : Option ((Nat × List (Nat × Nat))) := (hv_mls.getD o []).lookup i
def hv_inis : List Bool := [false, true, false, true, true, true, true, true, true, true, true, true, true, true, true, true, true, true, true, true, true, true, true, true, true, true, true, true, true, false, false, false, false, false, false, false, true, true, false, true, false, false, false, false, false, false, true, true, true, true, false, false, false, true, true, false, true, false, false, false, false, false, false, false, false, false, false, false, false, false, false, false, false, false, false, false, false, false, false, false, false, false, false, false, false, false, false, false, false, false, false, false, false, false, false, false, false, false, false, false, false, false, false, false, false, false, false, false, false, false, false, false, false, false, false, false, false, false, false, false, false, false, false, false, false, false, false, false, false, false, false, false, false, false, false, false, false, false, false, false, true, false, false, false, false, false, false, false, false, false, false, false, false, false, false, false, false, false, false, false, false, false, false, false, true, false, false, false, true, true, false, false, false, false, false, false, false, false, false, false, false, false, false, false, false, false, false, false, false, false, false, false, false, false, false, false, false, false, false, false, false, false, false, false, false, false, false, false, false, false, false, false, false, false, false, false, true, false, true, false, false, false, false, false, false, false, false, false, false, false, false, false, false, false, false, false, false, false, false, false, false, false, false, false, false, false, false, false, false, false, false, false, false, false, false, false, false, false, false, false, false, false, false, false, false, false, false, false, false, false, false, false, false, false, false, false, false, false, false, false, false, false, false, false, false, false, false, false, false, false, false, false, false, false, false, false, false, false, false, false, false, false, false, false, false, false, false, false, false, false, false, false, false, false, false, false, false, false, false, false, false, false, false, false, false, false, false, false, false, false, false, false, false, false, false, false, false, false, false, false, false, false, false, false, false, false, false, false, false]
def hv_ini (m : Nat) : Bool := hv_inis.getD m false
def hv_hhs : List (Nat × List (Nat × Nat × Nat)) := [(30, [(0, 9, 10)]), (314, [(0, 27, 28)])]
def hv_aoks : List (Nat × List Nat) := [(5, [1, 2, 3, 4, 5, 6]), (6, [10]), (7, [10]), (8, [16]), (9, [18]), (10, [22, 23, 24, 25, 26])]
/-- the fields of a new object -/
def hv_dfs : List (List Value) := [[.null, .null, .null, .null, .null, .null, .null, .null, .int 0, .null, .int 0, .null, .int 0, .null, .null, .null],
  [],
  [],
  [],
  [],
  [],
  [],
  [.int 0, .int 0, .int 0, .null, .null, .null, .null, .null],
  [.null, .int 0, .null, .null, .null, .null, .null, .null, .null, .int 0, .int 0, .int 0],
  [.null, .int 0, .null, .int 0],
  [.int 0, .int 0],
  [.null, .null, .null, .int 0],
  [.null, .null],
  [.null],
  [],
  [.null, .null, .null, .null, .int 0, .int 0, .null, .null, .null],
  [.int 0],
  [.null, .null, .null],
  [.int 0, .int 0, .int 0],
  [.null, .int 0],
  [.int 0, .int 0, .null],
  [.null, .int 0],
  [.int 0, .int 0, .int 0, .int 0, .null],
  [.int 0, .int 0],
  [.int 0, .int 0, .int 0, .int 0, .null],
  [.int 0, .int 0],
  [.int 0, .null, .null, .int 0],
  [.null, .null, .null, .null, .null, .int 0],
  [.null],
  [.null, .null, .int 0, .null],
  [.int 0],
  [.null],
  [.null, .null, .int 0, .null],
  [.null, .null, .null, .int 0, .null, .null, .int 0, .null, .int 0, .null, .null, .null, .null, .int 0, .int 0, .null, .int 0, .null, .null, .int 0, .int 0, .null, .null, .int 0]]
def hv_df (c : Nat) : List Value := hv_dfs.getD c []
/-! THE ABSTRACT MACHINE, its heap, calls, runs -/
set_option maxRecDepth 100000
def hv_go (pc : Nat) (L : hv_L) (st : List Value) (h : hv_H) : Option hv_O := some (.inl ((pc, L, st), h))
def hv_isB (e : va_E) : Bool := match e with
  | .inl _ => true
  | _ => false
/-- a cell that was made here: neither none nor one of the start's -/
def hv_isN (e : va_E) : Bool := match e with
  | .inr (c, _) => decide (c < 34) && !(c == 30)
  | .inl (t, _) => decide (t < 11)
def hv_vN (f : Nat → va_E) (v : Value) : Bool := match v with
  | .null => true
  | .ref a => hv_isN (f a)
  | _ => false
def hv_ato (ty : ArrayType) : Nat := match ty with
  | .int => 0
  | .long => 1
  | .byte => 2
  | .char => 3
  | .boolean => 4
  | _ => 1000
def hv_zero (t n : Nat) : va_E := if t = 1 then .inl (t, n, .inr (.inl (fun _ => 0))) else if t < 5 then .inl (t, n, .inl (fun _ => 0)) else .inl (t, n, .inr (.inr (.inr (.inr (fun _ => none)))))
def hv_aok (t c : Nat) : Bool := ((hv_aoks.lookup t).getD []).contains c
def hv_alloc (h : hv_H) (e : va_E) (sz : Nat) : hv_H := (h.1 + 1, h.2.1 + sz, va_up h.2.2 h.1 e)
def hv_put (h : hv_H) (a : Nat) (e : va_E) : hv_H := (h.1, h.2.1, va_up h.2.2 a e)
def hv_gf (q : Option (Nat × List Nat × FieldType × Bool)) (pc : Nat) (L : hv_L) (st : List Value) (h : hv_H) : Option hv_O := match q with
  | none => none
  | some (k, cs, _, _) => match st with
    | .ref a :: r => if cs.contains (hv_cls (h.2.2 a)) = true then hv_go pc L (hv_fv (h.2.2 a) k :: r) h else none
    | _ => none
def hv_pfd (q : Option (Nat × List Nat × FieldType × Bool)) (ini : Bool) (pc : Nat) (L : hv_L) (st : List Value) (h : hv_H) : Option hv_O := match q with
  | none => none
  | some (k, cs, ty, fin) => match st with
    | v :: .ref a :: r => if (!fin || ini) = true then (if cs.contains (hv_cls (h.2.2 a)) = true ∧ fits ty v = true then hv_go pc L r (hv_put h a (hv_pf (h.2.2 a) k v)) else none) else none
    | _ => none
def hv_ldI (t1 t2 : Nat) (pc : Nat) (L : hv_L) (st : List Value) (h : hv_H) : Option hv_O := match st with
  | .int i :: .ref a :: r => if hv_isI (h.2.2 a) = true ∧ (hv_tag (h.2.2 a) = t1 ∨ hv_tag (h.2.2 a) = t2) ∧ ¬ (i < 0 ∨ hv_len (h.2.2 a) ≤ i.toNatClampNeg) then hv_go pc L (.int (hv_ai (h.2.2 a) i.toNatClampNeg) :: r) h else none
  | _ => none
def hv_ldJ (pc : Nat) (L : hv_L) (st : List Value) (h : hv_H) : Option hv_O := match st with
  | .int i :: .ref a :: r => if hv_isJ (h.2.2 a) = true ∧ hv_tag (h.2.2 a) = 1 ∧ ¬ (i < 0 ∨ hv_len (h.2.2 a) ≤ i.toNatClampNeg) then hv_go pc L (.long (hv_aj (h.2.2 a) i.toNatClampNeg) :: r) h else none
  | _ => none
def hv_ldA (pc : Nat) (L : hv_L) (st : List Value) (h : hv_H) : Option hv_O := match st with
  | .int i :: .ref a :: r => if hv_isA (h.2.2 a) = true ∧ ((5 ≤ hv_tag (h.2.2 a) ∧ hv_tag (h.2.2 a) < 11) ∨ hv_tag (h.2.2 a) = 21) ∧ ¬ (i < 0 ∨ hv_len (h.2.2 a) ≤ i.toNatClampNeg) then hv_go pc L (va_rf (hv_aa (h.2.2 a) i.toNatClampNeg) :: r) h else none
  | _ => none
def hv_stI (pc : Nat) (L : hv_L) (st : List Value) (h : hv_H) : Option hv_O := match st with
  | .int x :: .int i :: .ref a :: r => if hv_isI (h.2.2 a) = true ∧ hv_tag (h.2.2 a) = 0 ∧ ¬ (i < 0 ∨ hv_len (h.2.2 a) ≤ i.toNatClampNeg) then hv_go pc L r (hv_put h a (hv_si (h.2.2 a) i.toNatClampNeg x)) else none
  | _ => none
def hv_stC (pc : Nat) (L : hv_L) (st : List Value) (h : hv_H) : Option hv_O := match st with
  | .int x :: .int i :: .ref a :: r => if hv_isI (h.2.2 a) = true ∧ hv_tag (h.2.2 a) = 3 ∧ ¬ (i < 0 ∨ hv_len (h.2.2 a) ≤ i.toNatClampNeg) then hv_go pc L r (hv_put h a (hv_si (h.2.2 a) i.toNatClampNeg (vp_nar .char x))) else none
  | _ => none
def hv_stB (pc : Nat) (L : hv_L) (st : List Value) (h : hv_H) : Option hv_O := match st with
  | .int x :: .int i :: .ref a :: r => if hv_isI (h.2.2 a) = true ∧ (hv_tag (h.2.2 a) = 2 ∨ hv_tag (h.2.2 a) = 4) ∧ ¬ (i < 0 ∨ hv_len (h.2.2 a) ≤ i.toNatClampNeg) then hv_go pc L r (hv_put h a (hv_si (h.2.2 a) i.toNatClampNeg (vp_nar (if hv_tag (h.2.2 a) = 2 then .byte else .boolean) x))) else none
  | _ => none
def hv_stJ (pc : Nat) (L : hv_L) (st : List Value) (h : hv_H) : Option hv_O := match st with
  | .long x :: .int i :: .ref a :: r => if hv_isJ (h.2.2 a) = true ∧ hv_tag (h.2.2 a) = 1 ∧ ¬ (i < 0 ∨ hv_len (h.2.2 a) ≤ i.toNatClampNeg) then hv_go pc L r (hv_put h a (hv_sj (h.2.2 a) i.toNatClampNeg x)) else none
  | _ => none
def hv_stA (pc : Nat) (L : hv_L) (st : List Value) (h : hv_H) : Option hv_O := match st with
  | v :: .int i :: .ref a :: r => if hv_isA (h.2.2 a) = true ∧ (5 ≤ hv_tag (h.2.2 a) ∧ hv_tag (h.2.2 a) < 11) ∧ ¬ (i < 0 ∨ hv_len (h.2.2 a) ≤ i.toNatClampNeg) then (match v with
      | .null => hv_go pc L r (hv_put h a (hv_sa (h.2.2 a) i.toNatClampNeg none))
      | .ref b => if hv_aok (hv_tag (h.2.2 a)) (hv_cls (h.2.2 b)) = true then hv_go pc L r (hv_put h a (hv_sa (h.2.2 a) i.toNatClampNeg (some b))) else none
      | _ => none) else none
  | _ => none
def hv_alen (pc : Nat) (L : hv_L) (st : List Value) (h : hv_H) : Option hv_O := match st with
  | .ref a :: r => if hv_isB (h.2.2 a) = true then hv_go pc L (.int (Int32.ofNat (hv_len (h.2.2 a))) :: r) h else none
  | _ => none
def hv_new (q : Option Nat) (pc : Nat) (L : hv_L) (st : List Value) (h : hv_H) : Option hv_O := match q with
  | none => none
  | some c => hv_go pc L (.ref h.1 :: st) (hv_alloc h (.inr (c, hv_df c)) (hv_sz c))
def hv_newa (t : Nat) (pc : Nat) (L : hv_L) (st : List Value) (h : hv_H) : Option hv_O := match st with
  | .int x :: r => if t < 11 ∧ ¬ x < 0 ∧ x.toNatClampNeg ≤ 65536 then hv_go pc L (.ref h.1 :: r) (hv_alloc h (hv_zero t x.toNatClampNeg) x.toNatClampNeg) else none
  | _ => none
def hv_cast (q : Option (List Nat)) (pc : Nat) (L : hv_L) (st : List Value) (h : hv_H) : Option hv_O := match q with
  | none => none
  | some cs => match st with
    | .null :: r => hv_go pc L (.null :: r) h
    | .ref a :: r => if cs.contains (hv_cls (h.2.2 a)) = true then hv_go pc L (.ref a :: r) h else none
    | _ => none
def hv_inst (q : Option (List Nat × List Nat)) (pc : Nat) (L : hv_L) (st : List Value) (h : hv_H) : Option hv_O := match q with
  | none => none
  | some (ys, ns) => match st with
    | .ref a :: r => if ys.contains (hv_cls (h.2.2 a)) = true then hv_go pc L (.int 1 :: r) h else if ns.contains (hv_cls (h.2.2 a)) = true then hv_go pc L (.int 0 :: r) h else none
    | _ => none
def hv_kst (q : Option Value) (pc : Nat) (L : hv_L) (st : List Value) (h : hv_H) : Option hv_O := match q with
  | none => none
  | some v => hv_go pc L (v :: st) h
def hv_acm (c : ACond) (t pc : Nat) (L : hv_L) (st : List Value) (h : hv_H) : Option hv_O := match st with
  | w :: v :: r => if hv_vN h.2.2 v = true ∧ hv_vN h.2.2 w = true then (match c with
      | .eq => if v = w then hv_go t L r h else hv_go pc L r h
      | .ne => if ¬ v = w then hv_go t L r h else hv_go pc L r h) else none
  | _ => none
/-- the elements of an array of Plains are Plains -/
def hv_els (f : Nat → va_E) (e : va_E) (n : Nat) : Bool := (List.range n).all (fun i => match hv_aa e i with
  | none => true
  | some y => hv_aok 5 (hv_cls (f y)))
/-- System.arraycopy, from front to front -/
def hv_cpy (d : Nat) (pc : Nat) (L : hv_L) (st : List Value) (h : hv_H) : Option hv_O := match st with
  | [.int n, .int dp, .ref b, .int sp, .ref a] => if (sp = 0 ∧ dp = 0 ∧ 1 ≤ d) ∧ ¬ n < 0 ∧ n.toNatClampNeg ≤ hv_len (h.2.2 a) ∧ n.toNatClampNeg ≤ hv_len (h.2.2 b) ∧ hv_tag (h.2.2 a) = hv_tag (h.2.2 b) ∧ ((hv_isI (h.2.2 a) = true ∧ hv_isI (h.2.2 b) = true ∧ hv_tag (h.2.2 a) = 0) ∨ (hv_isA (h.2.2 a) = true ∧ hv_isA (h.2.2 b) = true ∧ hv_tag (h.2.2 a) = 5 ∧ hv_els h.2.2 (h.2.2 a) n.toNatClampNeg = true)) then hv_go pc L [] (hv_put h b (hv_cp (h.2.2 a) (h.2.2 b) n.toNatClampNeg)) else none
  | _ => none
def hv_cal (m : Nat) (pc : Nat) (st : List Value) (h : hv_H) : Option hv_O := match hv_pop (hv_np m) st with
  | none => none
  | some (as, r) => if hv_fit8 r = true then some (.inr (.inr (.inl (m, as, pc, r, h)))) else none
/-- a constructor's or a static call -/
def hv_cl0 (d : Nat) (q : Option (Nat × List (Nat × Nat))) (pc : Nat) (L : hv_L) (st : List Value) (h : hv_H) : Option hv_O := match q with
  | some (0, (_, m) :: _) => hv_cal m pc st h
  | some (4, _) => hv_cpy d pc L st h
  | _ => none
/-- a call by the receiver -/
def hv_dis (ts : List (Nat × Nat)) (pc : Nat) (st : List Value) (h : hv_H) : Option hv_O := match hv_pop (hv_np ((ts.headD (0, 0)).2)) st with
  | some (.ref a :: as, r) => match ts.lookup (hv_cls (h.2.2 a)) with
    | some m => if hv_np m = hv_np ((ts.headD (0, 0)).2) then (if hv_fit8 r = true then some (.inr (.inr (.inl (m, .ref a :: as, pc, r, h)))) else none) else none
    | none => none
  | _ => none
def hv_cl1 (q : Option (Nat × List (Nat × Nat))) (pc : Nat) (st : List Value) (h : hv_H) : Option hv_O := match q with
  | some (1, ts) => hv_dis ts pc st h
  | _ => none
def hv_cl2 (d : Nat) (q : Option (Nat × List (Nat × Nat))) (pc : Nat) (L : hv_L) (st : List Value) (h : hv_H) : Option hv_O := match q with
  | some (0, (_, m) :: _) => match hv_pop (hv_np m) st with
    | some (.ref a :: as, r) => if hv_fit8 r = true then some (.inr (.inr (.inl (m, .ref a :: as, pc, r, h)))) else none
    | _ => none
  | some (1, ts) => hv_dis ts pc st h
  | some (2, _) => match st with
    | .ref a :: r => if 1 ≤ d ∧ hv_fit8 r = true then hv_go pc L r h else none
    | _ => none
  | some (3, _) => match st with
    | [.ref a] => if 8 ≤ d ∧ (hv_cls (h.2.2 a) = 19 ∨ hv_cls (h.2.2 a) = 21) ∧ hv_fv (h.2.2 a) 0 = .null then hv_go pc L [] h else none
    | _ => none
  | _ => none
def hv_heap (d m : Nat) (I : Instr) (len pc : Nat) (L : hv_L) (st : List Value) (h : hv_H) : Option hv_O := match I with
  | .getfield i => hv_gf (hv_fr (hv_ow m) i) (pc + len) L st h
  | .putfield i => hv_pfd (hv_fr (hv_ow m) i) (hv_ini m) (pc + len) L st h
  | .iaload => hv_ldI 0 20 (pc + len) L st h
  | .baload => hv_ldI 2 4 (pc + len) L st h
  | .caload => hv_ldI 3 3 (pc + len) L st h
  | .laload => hv_ldJ (pc + len) L st h
  | .aaload => hv_ldA (pc + len) L st h
  | .iastore => hv_stI (pc + len) L st h
  | .bastore => hv_stB (pc + len) L st h
  | .castore => hv_stC (pc + len) L st h
  | .lastore => hv_stJ (pc + len) L st h
  | .aastore => hv_stA (pc + len) L st h
  | .arraylength => hv_alen (pc + len) L st h
  | .new i => hv_new (hv_nw (hv_ow m) i) (pc + len) L st h
  | .newarray ty => hv_newa (hv_ato ty) (pc + len) L st h
  | .anewarray i => match hv_an (hv_ow m) i with
    | some t => hv_newa t (pc + len) L st h
    | none => none
  | .checkcast i => hv_cast (hv_cc (hv_ow m) i) (pc + len) L st h
  | .instanceof i => hv_inst (hv_io (hv_ow m) i) (pc + len) L st h
  | .getstatic i => hv_kst (hv_gs (hv_ow m) i) (pc + len) L st h
  | .ldc i => hv_kst (hv_ks (hv_ow m) i) (pc + len) L st h
  | .ldc_w i => hv_kst (hv_ks (hv_ow m) i) (pc + len) L st h
  | .ldc2_w i => hv_kst (hv_ks (hv_ow m) i) (pc + len) L st h
  | .if_acmp c off => if hv_tok pc off = true then hv_acm c (hv_tgt pc off) (pc + len) L st h else none
  | .invokestatic i => hv_cl0 d (hv_ml (hv_ow m) i) (pc + len) L st h
  | .invokespecial i => hv_cl2 d (hv_ml (hv_ow m) i) (pc + len) L st h
  | .invokevirtual i => hv_cl1 (hv_ml (hv_ow m) i) (pc + len) st h
  | .invokeinterface i _ => hv_cl1 (hv_ml (hv_ow m) i) (pc + len) st h
  | .ireturn => match st with
    | [.int v] => match hv_rt m with
      | some ty => if narrow ty (.int v) = .int v then some (.inr (.inl (some (.int v), h))) else none
      | none => none
    | _ => none
  | .lreturn => match st with
    | [.long v] => match hv_rt m with
      | some .long => some (.inr (.inl (some (.long v), h)))
      | _ => none
    | _ => none
  | .areturn => match st with
    | [v] => match hv_rt m with
      | some (.object _) => if hv_isR v = true then some (.inr (.inl (some v, h))) else none
      | _ => none
    | _ => none
  | .return_ => match st with
    | [] => match hv_rt m with
      | none => some (.inr (.inl (none, h)))
      | _ => none
    | _ => none
  | .athrow => match st with
    | .ref q :: _ => some (.inr (.inr (.inr (q, h))))
    | _ => none
  | _ => none
def hv_sel (o : Option hv_S) (q : Option hv_O) (h : hv_H) : Option hv_O := match o with
  | some S => some (.inl (S, h))
  | none => q
def hv_step (d m : Nat) (I : Instr) (len pc : Nat) (L : hv_L) (st : List Value) (h : hv_H) : Option hv_O := hv_sel (hv_pure I len pc L st) (hv_heap d m I len pc L st h) h
def hv_at (d m pc : Nat) (L : hv_L) (st : List Value) (h : hv_H) : Option hv_O := if L.length = hv_mL m then (match (hv_cd m).lookup pc with
  | some (I, len) => hv_step d m I len pc L st h
  | none => none) else none
/-- where a throw is caught in a method -/
def hv_hd (m pc : Nat) : Option Nat := (((hv_hhs.lookup m).getD []).find? (fun e => decide (e.1 ≤ pc) && decide (pc < e.2.1))).map (fun e => e.2.2)
def hv_xc (q : Nat) (h : hv_H) : Bool := hv_cls (h.2.2 q) == 19 || hv_cls (h.2.2 q) == 21
def hv_exec : Nat → Nat → Nat → Nat → hv_L → List Value → hv_H → Option hv_R
  | 0, _, _, _, _, _, _ => none
  | k + 1, d, m, pc, L, st, h => match hv_at d m pc L st h with
    | none => none
    | some (.inl ((pc', L', st'), h')) => hv_exec k d m pc' L' st' h'
    | some (.inr (.inl (v, h'))) => some (.inl v, h')
    | some (.inr (.inr (.inl (m', as, pc', st', h')))) => match d with
      | 0 => none
      | d' + 1 => match hv_exec k d' m' 0 (hv_ent (hv_mL m') as) [] h' with
        | none => none
        | some (.inl v, h2) => hv_exec k (d' + 1) m pc' L (v.toList ++ st') h2
        | some (.inr q, h2) => if hv_xc q h2 = true then (match hv_hd m pc with
          | some t => hv_exec k (d' + 1) m t L [.ref q] h2
          | none => some (.inr q, h2)) else none
    | some (.inr (.inr (.inr (q, h')))) => if hv_xc q h' = true then (match hv_hd m pc with
      | some t => hv_exec k d m t L [.ref q] h'
      | none => some (.inr q, h')) else none
theorem hv_exec_mono : ∀ (k d m pc : Nat) (L : hv_L) (st : List Value) (h : hv_H) (r : hv_R), hv_exec k d m pc L st h = some r → hv_exec (k + 1) d m pc L st h = some r := by
  intro k
  induction k with
  | zero => intro d m pc L st h r e; cases e
  | succ k ih =>
    intro d m pc L st h r e
    rw [hv_exec] at e ⊢
    cases ha : hv_at d m pc L st h with
    | none => rw [ha] at e; cases e
    | some o =>
      rw [ha] at e
      match o, e with
      | .inl ((pc', L', st'), h'), e => exact ih _ _ _ _ _ _ _ e
      | .inr (.inl (v, h')), e => exact e
      | .inr (.inr (.inl (m', as, pc', st', h'))), e =>
        dsimp only at e ⊢
        cases d with
        | zero => cases e
        | succ d' =>
          dsimp only at e ⊢
          cases hc : hv_exec k d' m' 0 (hv_ent (hv_mL m') as) [] h' with
          | none => rw [hc] at e; cases e
          | some r1 =>
            rw [hc] at e
            rw [ih _ _ _ _ _ _ _ hc]
            match r1, e with
            | (.inl v, h2), e => exact ih _ _ _ _ _ _ _ e
            | (.inr q, h2), e =>
              dsimp only at e ⊢
              split at e
              · rename_i hx
                rw [if_pos hx]
                cases hh : hv_hd m pc with
                | none => rw [hh] at e; exact e
                | some t => rw [hh] at e; exact ih _ _ _ _ _ _ _ e
              · cases e
      | .inr (.inr (.inr (q, h'))), e =>
        dsimp only at e ⊢
        split at e
        · rename_i hx
          rw [if_pos hx]
          cases hh : hv_hd m pc with
          | none => rw [hh] at e; exact e
          | some t => rw [hh] at e; exact ih _ _ _ _ _ _ _ e
        · cases e
theorem hv_exec_le {k k' d m pc : Nat} {L : hv_L} {st : List Value} {h : hv_H} {r : hv_R} (hk : k ≤ k') (e : hv_exec k d m pc L st h = some r) : hv_exec k' d m pc L st h = some r := by
  induction hk with
  | refl => exact e
  | step _ ih => exact hv_exec_mono _ _ _ _ _ _ _ _ ih
theorem hv_exec_det {k k' d m pc : Nat} {L : hv_L} {st : List Value} {h : hv_H} {r r' : hv_R} (e : hv_exec k d m pc L st h = some r) (e' : hv_exec k' d m pc L st h = some r') : r = r' := by
  rcases Nat.le_total k k' with hk | hk
  · exact Option.some.inj ((hv_exec_le hk e).symm.trans e')
  · exact Option.some.inj (e.symm.trans (hv_exec_le hk e'))
noncomputable def hv_run (d m pc : Nat) (L : hv_L) (st : List Value) (h : hv_H) : Option hv_R := @dite _ (∃ r k, hv_exec k d m pc L st h = some r) (Classical.propDecidable _) (fun hx => some hx.choose) (fun _ => none)
theorem hv_run_iff {d m pc : Nat} {L : hv_L} {st : List Value} {h : hv_H} {r : hv_R} : hv_run d m pc L st h = some r ↔ ∃ k, hv_exec k d m pc L st h = some r := by
  unfold hv_run
  constructor
  · intro e
    split at e
    · rename_i hx
      cases e
      exact hx.choose_spec
    · cases e
  · rintro ⟨k, e⟩
    have hx : ∃ r k, hv_exec k d m pc L st h = some r := ⟨r, k, e⟩
    rw [dif_pos hx]
    obtain ⟨k', e'⟩ := hx.choose_spec
    rw [hv_exec_det e' e]
noncomputable def hv_th (d m pc : Nat) (L : hv_L) (q : Nat) (h : hv_H) : Option hv_R := if hv_xc q h = true then (match hv_hd m pc with
  | some t => hv_run d m t L [.ref q] h
  | none => some (.inr q, h)) else none
/-- behind a call: pc is the call's place, pc' the next one -/
noncomputable def hv_co (d m pc pc' : Nat) (L : hv_L) (st : List Value) (r : Option hv_R) : Option hv_R := match r with
  | none => none
  | some (.inl v, h) => hv_run d m pc' L (v.toList ++ st) h
  | some (.inr q, h) => hv_th d m pc L q h
noncomputable def hv_nx (d m pc : Nat) (L : hv_L) (o : Option hv_O) : Option hv_R := match o with
  | none => none
  | some (.inl ((pc', L', st'), h')) => hv_run d m pc' L' st' h'
  | some (.inr (.inl (v, h'))) => some (.inl v, h')
  | some (.inr (.inr (.inl (m', as, pc', st', h')))) => match d with
    | 0 => none
    | d' + 1 => hv_co (d' + 1) m pc pc' L st' (hv_run d' m' 0 (hv_ent (hv_mL m') as) [] h')
  | some (.inr (.inr (.inr (q, h')))) => hv_th d m pc L q h'
theorem hv_opt {α : Type} {x y : Option α} (h1 : ∀ r, x = some r → y = some r) (h2 : ∀ r, y = some r → x = some r) : x = y := by
  cases x with
  | none =>
    cases y with
    | none => rfl
    | some r => exact absurd (h2 r rfl) (fun z => by cases z)
  | some r => exact (h1 r rfl).symm
theorem hv_th_iff {d m pc : Nat} {L : hv_L} {q : Nat} {h : hv_H} {r : hv_R} : hv_th d m pc L q h = some r ↔ ∃ k, (if hv_xc q h = true then (match hv_hd m pc with
    | some t => hv_exec k d m t L [.ref q] h
    | none => some (.inr q, h)) else none) = some r := by
  unfold hv_th
  split
  · cases hv_hd m pc with
    | none => exact ⟨fun e => ⟨0, e⟩, fun ⟨_, e⟩ => e⟩
    | some t => exact hv_run_iff
  · exact ⟨fun e => (by cases e), fun ⟨_, e⟩ => (by cases e)⟩
theorem hv_run_eq (d m pc : Nat) (L : hv_L) (st : List Value) (h : hv_H) : hv_run d m pc L st h = hv_nx d m pc L (hv_at d m pc L st h) := by
  apply hv_opt
  · intro r e
    obtain ⟨k, e⟩ := hv_run_iff.mp e
    cases k with
    | zero => cases e
    | succ k =>
      rw [hv_exec] at e
      cases ha : hv_at d m pc L st h with
      | none => rw [ha] at e; cases e
      | some o =>
        rw [ha] at e
        match o, e with
        | .inl ((pc', L', st'), h'), e => exact hv_run_iff.mpr ⟨k, e⟩
        | .inr (.inl (v, h')), e => exact e
        | .inr (.inr (.inl (m', as, pc', st', h'))), e =>
          dsimp only at e
          unfold hv_nx
          dsimp only
          cases d with
          | zero => cases e
          | succ d' =>
            dsimp only at e ⊢
            cases hc : hv_exec k d' m' 0 (hv_ent (hv_mL m') as) [] h' with
            | none => rw [hc] at e; cases e
            | some r1 =>
              rw [hc] at e
              rw [hv_run_iff.mpr ⟨k, hc⟩]
              match r1, e with
              | (.inl v, h2), e => exact hv_run_iff.mpr ⟨k, e⟩
              | (.inr q, h2), e => exact hv_th_iff.mpr ⟨k, e⟩
        | .inr (.inr (.inr (q, h'))), e => exact hv_th_iff.mpr ⟨k, e⟩
  · intro r e
    cases ha : hv_at d m pc L st h with
    | none => rw [ha] at e; cases e
    | some o =>
      rw [ha] at e
      match o, ha, e with
      | .inl ((pc', L', st'), h'), ha, e =>
        obtain ⟨k, e⟩ := hv_run_iff.mp e
        exact hv_run_iff.mpr ⟨k + 1, by rw [hv_exec, ha]; exact e⟩
      | .inr (.inl (v, h')), ha, e => exact hv_run_iff.mpr ⟨1, by rw [hv_exec, ha]; exact e⟩
      | .inr (.inr (.inl (m', as, pc', st', h'))), ha, e =>
        unfold hv_nx at e
        dsimp only at e
        cases d with
        | zero => cases e
        | succ d' =>
          dsimp only at e
          cases hc : hv_run d' m' 0 (hv_ent (hv_mL m') as) [] h' with
          | none => rw [hc] at e; cases e
          | some r1 =>
            rw [hc] at e
            obtain ⟨k1, h1⟩ := hv_run_iff.mp hc
            match r1, h1, e with
            | (.inl v, h2), h1, e =>
              obtain ⟨k2, h3⟩ := hv_run_iff.mp e
              refine hv_run_iff.mpr ⟨max k1 k2 + 1, ?_⟩
              rw [hv_exec, ha]
              dsimp only
              rw [hv_exec_le (Nat.le_max_left k1 k2) h1]
              exact hv_exec_le (Nat.le_max_right k1 k2) h3
            | (.inr q, h2), h1, e =>
              obtain ⟨k2, h3⟩ := hv_th_iff.mp e
              refine hv_run_iff.mpr ⟨max k1 k2 + 1, ?_⟩
              rw [hv_exec, ha]
              dsimp only
              rw [hv_exec_le (Nat.le_max_left k1 k2) h1]
              dsimp only
              split at h3
              · rename_i hx
                rw [if_pos hx]
                cases hh : hv_hd m pc with
                | none => rw [hh] at h3; exact h3
                | some t => rw [hh] at h3; exact hv_exec_le (Nat.le_max_right k1 k2) h3
              · cases h3
      | .inr (.inr (.inr (q, h'))), ha, e =>
        obtain ⟨k, e⟩ := hv_th_iff.mp e
        exact hv_run_iff.mpr ⟨k + 1, by rw [hv_exec, ha]; exact e⟩
/-! RULES' BASE: from what an instruction comes to, a rewrite rule -/
set_option maxRecDepth 100000
def hv_okI (t1 t2 : Nat) (e : va_E) (i : Int32) : Prop := hv_isI e = true ∧ (hv_tag e = t1 ∨ hv_tag e = t2) ∧ ¬ (i < 0 ∨ hv_len e ≤ i.toNatClampNeg)
def hv_okJ (e : va_E) (i : Int32) : Prop := hv_isJ e = true ∧ hv_tag e = 1 ∧ ¬ (i < 0 ∨ hv_len e ≤ i.toNatClampNeg)
def hv_okA (e : va_E) (i : Int32) : Prop := hv_isA e = true ∧ ((5 ≤ hv_tag e ∧ hv_tag e < 11) ∨ hv_tag e = 21) ∧ ¬ (i < 0 ∨ hv_len e ≤ i.toNatClampNeg)
def hv_okSI (t : Nat) (e : va_E) (i : Int32) : Prop := hv_isI e = true ∧ hv_tag e = t ∧ ¬ (i < 0 ∨ hv_len e ≤ i.toNatClampNeg)
def hv_okSA (e : va_E) (i : Int32) : Prop := hv_isA e = true ∧ (5 ≤ hv_tag e ∧ hv_tag e < 11) ∧ ¬ (i < 0 ∨ hv_len e ≤ i.toNatClampNeg)
def hv_okC (f : Nat → va_E) (a b : Nat) (k : Int32) : Prop := ¬ k < 0 ∧ k.toNatClampNeg ≤ hv_len (f a) ∧ k.toNatClampNeg ≤ hv_len (f b) ∧ hv_tag (f a) = hv_tag (f b) ∧ ((hv_isI (f a) = true ∧ hv_isI (f b) = true ∧ hv_tag (f a) = 0) ∨ (hv_isA (f a) = true ∧ hv_isA (f b) = true ∧ hv_tag (f a) = 5 ∧ hv_els f (f a) k.toNatClampNeg = true))
/-- what a method of kind boolean may answer; what a field of that kind holds -/
def hv_nbv (v : Int32) : Prop := narrow .boolean (.int v) = .int v
def hv_fbv (v : Int32) : Prop := fits .boolean (.int v) = true
def hv_nak (k : Int32) : Prop := ¬ k < 0 ∧ k.toNatClampNeg ≤ 65536
section
variable {d m pc pc' t : Nat} {L L' L2 : hv_L} {st st' s2 : List Value} {h h' : hv_H}
theorem hv_rN (e : hv_at d m pc L st h = some (.inl ((pc', L', st'), h'))) : hv_run d m pc L st h = hv_run d m pc' L' st' h' := by rw [hv_run_eq, e]; rfl
theorem hv_rR {v : Option Value} (e : hv_at d m pc L st h = some (.inr (.inl (v, h')))) : hv_run d m pc L st h = some (.inl v, h') := by rw [hv_run_eq, e]; rfl
theorem hv_rI {c : Prop} {inst : Decidable c} {v : Option Value} (hc : c) (e : hv_at d m pc L st h = @ite _ c inst (some (.inr (.inl (v, h')))) none) : hv_run d m pc L st h = some (.inl v, h') := by rw [hv_run_eq, e, if_pos hc]; rfl
theorem hv_rB {c : Prop} {inst : Decidable c} {q : Option hv_O} (e : hv_at d m pc L st h = hv_sel (@ite _ c inst (some (t, L', st')) (some (pc', L2, s2))) q h) : hv_run d m pc L st h = @ite _ c inst (hv_run d m t L' st' h) (hv_run d m pc' L2 s2 h) := by
  rw [hv_run_eq, e]
  by_cases z : c
  · rw [if_pos z, if_pos z]; rfl
  · rw [if_neg z, if_neg z]; rfl
theorem hv_rD {c : Prop} {inst : Decidable c} {q : Option hv_O} (hc : ¬ c) (e : hv_at d m pc L st h = hv_sel (@ite _ c inst none (some (pc', L', st'))) q h) : hv_run d m pc L st h = hv_run d m pc' L' st' h := by rw [hv_run_eq, e, if_neg hc]; rfl
theorem hv_rW {c : Prop} {inst : Decidable c} {q : Option hv_O} {o : Option hv_S} (hc : c) (e : hv_at d m pc L st h = hv_sel (@ite _ c inst (some (pc', L', st')) o) q h) : hv_run d m pc L st h = hv_run d m pc' L' st' h := by rw [hv_run_eq, e, if_pos hc]; rfl
theorem hv_rL {c : Prop} {inst : Decidable c} (hc : c) (e : hv_at d m pc L st h = @ite _ c inst (hv_go pc' L' st' h') none) : hv_run d m pc L st h = hv_run d m pc' L' st' h' := by rw [hv_run_eq, e, if_pos hc]; rfl
theorem hv_rS {c c2 : Prop} {inst : Decidable c} {inst2 : Decidable c2} (hc : c) (hb : c2) (e : hv_at d m pc L st h = @ite _ c inst (@ite _ c2 inst2 (hv_go pc' L' st' h') none) none) : hv_run d m pc L st h = hv_run d m pc' L' st' h' := by rw [hv_run_eq, e, if_pos hc, if_pos hb]; rfl
theorem hv_rM {c c2 : Prop} {inst : Decidable c} {inst2 : Decidable c2} {q : Option hv_O} (hn : ¬ c) (hc : c2) (e : hv_at d m pc L st h = @ite _ c inst q (@ite _ c2 inst2 (hv_go pc' L' st' h') none)) : hv_run d m pc L st h = hv_run d m pc' L' st' h' := by rw [hv_run_eq, e, if_neg hn, if_pos hc]; rfl
theorem hv_rY {c : Prop} {inst : Decidable c} {q : Option hv_O} (hc : c) (e : hv_at d m pc L st h = @ite _ c inst (hv_go pc' L' st' h') q) : hv_run d m pc L st h = hv_run d m pc' L' st' h' := by rw [hv_run_eq, e, if_pos hc]; rfl
theorem hv_rE {c c2 : Prop} {inst : Decidable c} {inst2 : Decidable c2} (hc : c) (e : hv_at d m pc L st h = @ite _ c inst (@ite _ c2 inst2 (hv_go t L' st' h) (hv_go pc' L2 s2 h)) none) : hv_run d m pc L st h = @ite _ c2 inst2 (hv_run d m t L' st' h) (hv_run d m pc' L2 s2 h) := by
  rw [hv_run_eq, e, if_pos hc]
  by_cases z : c2
  · rw [if_pos z, if_pos z]; rfl
  · rw [if_neg z, if_neg z]; rfl
theorem hv_rV {x : Int32} {dflt o : Int} {ps : Array (Int × Int)} {q : Option hv_O} (ho : Op.lookupswitch.offset ps.toList dflt x.toInt = o) (e : hv_at d m pc L (.int x :: st) h = hv_sel (hv_lsw dflt ps pc L (.int x :: st)) q h)
    (hs : (ps.toList.zip (ps.toList.drop 1)).all (fun (a, next) => a.1 < next.1) = true) (ht : hv_tok pc o = true) (hp : hv_tgt pc o = pc') : hv_run d m pc L (.int x :: st) h = hv_run d m pc' L st h := by
  rw [hv_run_eq, e]
  unfold hv_lsw
  dsimp only
  rw [if_pos hs, ho, if_pos ht, hp]
  rfl
theorem hv_rC {m' : Nat} {as : List Value} {ent : hv_L} (e : hv_at (d + 1) m pc L st h = some (.inr (.inr (.inl (m', as, pc', st', h'))))) (he : hv_ent (hv_mL m') as = ent) : hv_run (d + 1) m pc L st h = hv_co (d + 1) m pc pc' L st' (hv_run d m' 0 ent [] h') := by rw [hv_run_eq, e, ← he]; rfl
theorem hv_rC1 {ts : List (Nat × Nat)} {c m' a : Nat} {as : List Value} {ent : hv_L} (hc : hv_cls (h.2.2 a) = c) (e : hv_at (d + 1) m pc L st h = hv_dis ts pc' st h) (hp : hv_pop (hv_np ((ts.headD (0, 0)).2)) st = some (.ref a :: as, st')) (hl : ts.lookup c = some m') (hn : hv_np m' = hv_np ((ts.headD (0, 0)).2)) (hf : hv_fit8 st' = true) (he : hv_ent (hv_mL m') (.ref a :: as) = ent) : hv_run (d + 1) m pc L st h = hv_co (d + 1) m pc pc' L st' (hv_run d m' 0 ent [] h) := by
  rw [hv_run_eq, e, ← he]
  unfold hv_dis
  try dsimp only
  rw [hp]
  try dsimp only
  rw [hc, hl]
  try dsimp only
  rw [if_pos hn, if_pos hf]
  rfl
theorem hv_rT {q : Nat} (e : hv_at d m pc L st h = some (.inr (.inr (.inr (q, h'))))) : hv_run d m pc L st h = hv_th d m pc L q h' := by rw [hv_run_eq, e]; rfl
end
