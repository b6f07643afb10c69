set_option maxRecDepth 100000
noncomputable def cX2_init : xC := [(0, i_aload 0 1),
  (1, i_oi 4),
  (4, i_vret)]
theorem eX2_init_0 {ev : xV} {x : Nat} {st : List Value} {h : xH} : exF ev cX2_init 0 ([some (.ref x)], []) st h = exF ev cX2_init 1 ([some (.ref x)], []) (.ref x :: st) h := exF_j (i := (i_aload 0 1)) rfl rfl
theorem eX2_init_1 {ev : xV} {v0 : Option Value} {a : Nat} (hx : 64 ≤ a) {h : xH} : exF ev cX2_init 1 ([v0], []) [.ref a] h = exF ev cX2_init 4 ([v0], []) [] h := exF_j (i := (i_oi 4)) rfl (if_pos ⟨hx, rfl⟩)
theorem eX2_init_4 {ev : xV} {v0 : Option Value} {h : xH} : exF ev cX2_init 4 ([v0], []) [] h = some (.inl none, h) := exF_r (i := (i_vret)) rfl rfl
noncomputable def cX2_begin : xC := [(0, i_aload 0 1),
  (1, i_aload 1 2),
  (2, i_putfr 1 0 5),
  (5, i_aload 0 6),
  (6, i_iload 2 7),
  (7, i_putfi 1 1 10),
  (10, i_aload 0 11),
  (11, i_const (.int (nI 0)) 12),
  (12, i_putfi 1 2 15),
  (15, i_aload 0 16),
  (16, i_const (.int (nI 0)) 17),
  (17, i_putfi 1 6 20),
  (20, i_aload 0 21),
  (21, i_cvv 1 195 0 24),
  (24, i_vret)]
theorem eX2_begin_0 {ev : xV} {v1 v2 : Option Value} {x : Nat} {st : List Value} {h : xH} : exF ev cX2_begin 0 ([some (.ref x), v1, v2], []) st h = exF ev cX2_begin 1 ([some (.ref x), v1, v2], []) (.ref x :: st) h := exF_j (i := (i_aload 0 1)) rfl rfl
theorem eX2_begin_1 {ev : xV} {v0 v2 : Option Value} {x : Nat} {st : List Value} {h : xH} : exF ev cX2_begin 1 ([v0, some (.ref x), v2], []) st h = exF ev cX2_begin 2 ([v0, some (.ref x), v2], []) (.ref x :: st) h := exF_j (i := (i_aload 1 2)) rfl rfl
theorem eX2_begin_1n {ev : xV} {v0 v2 : Option Value} {st : List Value} {h : xH} : exF ev cX2_begin 1 ([v0, some .null, v2], []) st h = exF ev cX2_begin 2 ([v0, some .null, v2], []) (.null :: st) h := exF_j (i := (i_aload 1 2)) rfl rfl
theorem eX2_begin_2 {ev : xV} {v0 v1 v2 : Option Value} {x a : Nat} {st : List Value} {h : xH} : exF ev cX2_begin 2 ([v0, v1, v2], []) (.ref x :: .ref a :: st) h = xO (xpf h a 1 0 (.ref x)) (fun h => exF ev cX2_begin 5 ([v0, v1, v2], []) st h) := exF_o (i := (i_putfr 1 0 5)) rfl rfl
theorem eX2_begin_2n {ev : xV} {v0 v1 v2 : Option Value} {a : Nat} {st : List Value} {h : xH} : exF ev cX2_begin 2 ([v0, v1, v2], []) (.null :: .ref a :: st) h = xO (xpf h a 1 0 .null) (fun h => exF ev cX2_begin 5 ([v0, v1, v2], []) st h) := exF_o (i := (i_putfr 1 0 5)) rfl rfl
theorem eX2_begin_5 {ev : xV} {v1 v2 : Option Value} {x : Nat} {st : List Value} {h : xH} : exF ev cX2_begin 5 ([some (.ref x), v1, v2], []) st h = exF ev cX2_begin 6 ([some (.ref x), v1, v2], []) (.ref x :: st) h := exF_j (i := (i_aload 0 6)) rfl rfl
theorem eX2_begin_6 {ev : xV} {v0 v1 : Option Value} {x : Int32} {st : List Value} {h : xH} : exF ev cX2_begin 6 ([v0, v1, some (.int x)], []) st h = exF ev cX2_begin 7 ([v0, v1, some (.int x)], []) (.int x :: st) h := exF_j (i := (i_iload 2 7)) rfl rfl
theorem eX2_begin_7 {ev : xV} {v0 v1 v2 : Option Value} {x : Int32} {a : Nat} {st : List Value} {h : xH} : exF ev cX2_begin 7 ([v0, v1, v2], []) (.int x :: .ref a :: st) h = xO (xpf h a 1 1 (.int x)) (fun h => exF ev cX2_begin 10 ([v0, v1, v2], []) st h) := exF_o (i := (i_putfi 1 1 10)) rfl rfl
theorem eX2_begin_10 {ev : xV} {v1 v2 : Option Value} {x : Nat} {st : List Value} {h : xH} : exF ev cX2_begin 10 ([some (.ref x), v1, v2], []) st h = exF ev cX2_begin 11 ([some (.ref x), v1, v2], []) (.ref x :: st) h := exF_j (i := (i_aload 0 11)) rfl rfl
theorem eX2_begin_11 {ev : xV} {v0 v1 v2 : Option Value} {st : List Value} {h : xH} : exF ev cX2_begin 11 ([v0, v1, v2], []) st h = exF ev cX2_begin 12 ([v0, v1, v2], []) (.int (nI 0) :: st) h := exF_j (i := (i_const (.int (nI 0)) 12)) rfl rfl
theorem eX2_begin_12 {ev : xV} {v0 v1 v2 : Option Value} {x : Int32} {a : Nat} {st : List Value} {h : xH} : exF ev cX2_begin 12 ([v0, v1, v2], []) (.int x :: .ref a :: st) h = xO (xpf h a 1 2 (.int x)) (fun h => exF ev cX2_begin 15 ([v0, v1, v2], []) st h) := exF_o (i := (i_putfi 1 2 15)) rfl rfl
theorem eX2_begin_15 {ev : xV} {v1 v2 : Option Value} {x : Nat} {st : List Value} {h : xH} : exF ev cX2_begin 15 ([some (.ref x), v1, v2], []) st h = exF ev cX2_begin 16 ([some (.ref x), v1, v2], []) (.ref x :: st) h := exF_j (i := (i_aload 0 16)) rfl rfl
theorem eX2_begin_16 {ev : xV} {v0 v1 v2 : Option Value} {st : List Value} {h : xH} : exF ev cX2_begin 16 ([v0, v1, v2], []) st h = exF ev cX2_begin 17 ([v0, v1, v2], []) (.int (nI 0) :: st) h := exF_j (i := (i_const (.int (nI 0)) 17)) rfl rfl
theorem eX2_begin_17 {ev : xV} {v0 v1 v2 : Option Value} {x : Int32} {a : Nat} {st : List Value} {h : xH} : exF ev cX2_begin 17 ([v0, v1, v2], []) (.int x :: .ref a :: st) h = xO (xpf h a 1 6 (.int x)) (fun h => exF ev cX2_begin 20 ([v0, v1, v2], []) st h) := exF_o (i := (i_putfi 1 6 20)) rfl rfl
theorem eX2_begin_20 {ev : xV} {v1 v2 : Option Value} {x : Nat} {st : List Value} {h : xH} : exF ev cX2_begin 20 ([some (.ref x), v1, v2], []) st h = exF ev cX2_begin 21 ([some (.ref x), v1, v2], []) (.ref x :: st) h := exF_j (i := (i_aload 0 21)) rfl rfl
theorem eX2_begin_21 {ev : xV} {v0 v1 v2 : Option Value} {a : Nat} {h : xH} : exF ev cX2_begin 21 ([v0, v1, v2], []) [.ref a] h = xO (xck h a 1) (fun _ => xBv (ev 195 [.ref a] h) (fun h => exF ev cX2_begin 24 ([v0, v1, v2], []) [] h)) := exF_cdv (i := (i_cvv 1 195 0 24)) rfl rfl
theorem eX2_begin_24 {ev : xV} {v0 v1 v2 : Option Value} {h : xH} : exF ev cX2_begin 24 ([v0, v1, v2], []) [] h = some (.inl none, h) := exF_r (i := (i_vret)) rfl rfl
noncomputable def cX2_next : xC := [(0, i_aload 0 1),
  (1, i_getf 1 2 4),
  (4, i_aload 0 5),
  (5, i_getf 1 1 8),
  (8, i_if2 (fun x y => y ≤ x) 52 11),
  (11, i_aload 0 12),
  (12, i_getf 1 0 15),
  (15, i_aload 0 16),
  (16, i_getf 1 2 19),
  (19, i_ai 1 20),
  (20, i_const (.int (nI 10)) 22),
  (22, i_if2 (fun x y => x = y) 39 25),
  (25, i_aload 0 26),
  (26, i_getf 1 0 29),
  (29, i_aload 0 30),
  (30, i_getf 1 2 33),
  (33, i_ai 1 34),
  (34, i_const (.int (nI 32)) 36),
  (36, i_if2 (fun x y => ¬ x = y) 52 39),
  (39, i_aload 0 40),
  (40, i_dup 41),
  (41, i_getf 1 2 44),
  (44, i_const (.int (nI 1)) 45),
  (45, i_ii (fun x y => x + y) 46),
  (46, i_putfi 1 2 49),
  (49, i_goto 0),
  (52, i_aload 0 53),
  (53, i_aload 0 54),
  (54, i_getf 1 2 57),
  (57, i_putfi 1 4 60),
  (60, i_aload 0 61),
  (61, i_getf 1 2 64),
  (64, i_aload 0 65),
  (65, i_getf 1 1 68),
  (68, i_if2 (fun x y => ¬ x = y) 79 71),
  (71, i_aload 0 72),
  (72, i_const (.int (nI 0)) 73),
  (73, i_putfi 1 3 76),
  (76, i_goto 296),
  (79, i_aload 0 80),
  (80, i_aload 0 81),
  (81, i_getf 1 2 84),
  (84, i_cv 1 196 1 87),
  (87, i_cs 197 1 90),
  (90, i_if1 (fun x => x = 0) 146 93),
  (93, i_aload 0 94),
  (94, i_aload 0 95),
  (95, i_getf 1 2 98),
  (98, i_cv 1 196 1 101),
  (101, i_cs 197 1 104),
  (104, i_if1 (fun x => x = 0) 120 107),
  (107, i_aload 0 108),
  (108, i_dup 109),
  (109, i_getf 1 2 112),
  (112, i_const (.int (nI 1)) 113),
  (113, i_ii (fun x y => x + y) 114),
  (114, i_putfi 1 2 117),
  (117, i_goto 93),
  (120, i_aload 0 121),
  (121, i_aload 0 122),
  (122, i_getf 1 2 125),
  (125, i_aload 0 126),
  (126, i_getf 1 4 129),
  (129, i_ii (fun x y => x - y) 130),
  (130, i_const (.int (nI 8)) 132),
  (132, i_if2 (fun x y => x ≤ y) 139 135),
  (135, i_const (.int (nI 4)) 136),
  (136, i_goto 140),
  (139, i_const (.int (nI 1)) 140),
  (140, i_putfi 1 3 143),
  (143, i_goto 296),
  (146, i_aload 0 147),
  (147, i_aload 0 148),
  (148, i_getf 1 2 151),
  (151, i_cv 1 196 1 154),
  (154, i_cs 198 1 157),
  (157, i_if1 (fun x => x = 0) 260 160),
  (160, i_aload 0 161),
  (161, i_const (.int (nI 0)) 162),
  (162, i_putfi 1 5 165),
  (165, i_aload 0 166),
  (166, i_aload 0 167),
  (167, i_getf 1 2 170),
  (170, i_cv 1 196 1 173),
  (173, i_cs 198 1 176),
  (176, i_if1 (fun x => x = 0) 235 179),
  (179, i_aload 0 180),
  (180, i_aload 0 181),
  (181, i_getf 1 2 184),
  (184, i_aload 0 185),
  (185, i_getf 1 4 188),
  (188, i_ii (fun x y => x - y) 189),
  (189, i_const (.int (nI 4)) 190),
  (190, i_if2 (fun x y => y ≤ x) 215 193),
  (193, i_const (.int (nI 10)) 195),
  (195, i_aload 0 196),
  (196, i_getf 1 5 199),
  (199, i_ii (fun x y => x * y) 200),
  (200, i_aload 0 201),
  (201, i_aload 0 202),
  (202, i_getf 1 2 205),
  (205, i_cv 1 196 1 208),
  (208, i_ii (fun x y => x + y) 209),
  (209, i_const (.int (nI 48)) 211),
  (211, i_ii (fun x y => x - y) 212),
  (212, i_goto 219),
  (215, i_aload 0 216),
  (216, i_getf 1 5 219),
  (219, i_putfi 1 5 222),
  (222, i_aload 0 223),
  (223, i_dup 224),
  (224, i_getf 1 2 227),
  (227, i_const (.int (nI 1)) 228),
  (228, i_ii (fun x y => x + y) 229),
  (229, i_putfi 1 2 232),
  (232, i_goto 165),
  (235, i_aload 0 236),
  (236, i_aload 0 237),
  (237, i_getf 1 2 240),
  (240, i_aload 0 241),
  (241, i_getf 1 4 244),
  (244, i_ii (fun x y => x - y) 245),
  (245, i_const (.int (nI 4)) 246),
  (246, i_if2 (fun x y => x ≤ y) 253 249),
  (249, i_const (.int (nI 4)) 250),
  (250, i_goto 254),
  (253, i_const (.int (nI 2)) 254),
  (254, i_putfi 1 3 257),
  (257, i_goto 296),
  (260, i_aload 0 261),
  (261, i_const (.ref 2) 263),
  (263, i_aload 0 264),
  (264, i_aload 0 265),
  (265, i_getf 1 2 268),
  (268, i_cv 1 196 1 271),
  (271, i_i1 (fun x => (x.toUInt32 % 65536).toInt32) 272),
  (272, i_cv 22 43 1 275),
  (275, i_if1 (fun x => x < 0) 282 278),
  (278, i_const (.int (nI 3)) 279),
  (279, i_goto 283),
  (282, i_const (.int (nI 4)) 283),
  (283, i_putfi 1 3 286),
  (286, i_aload 0 287),
  (287, i_dup 288),
  (288, i_getf 1 2 291),
  (291, i_const (.int (nI 1)) 292),
  (292, i_ii (fun x y => x + y) 293),
  (293, i_putfi 1 2 296),
  (296, i_vret)]
theorem eX2_next_0 {ev : xV} {x : Nat} {st : List Value} {h : xH} : exF ev cX2_next 0 ([some (.ref x)], []) st h = exF ev cX2_next 1 ([some (.ref x)], []) (.ref x :: st) h := exF_j (i := (i_aload 0 1)) rfl rfl
theorem eX2_next_1 {ev : xV} {v0 : Option Value} {a : Nat} {st : List Value} {h : xH} : exF ev cX2_next 1 ([v0], []) (.ref a :: st) h = xO (xgf h a 1 2) (fun v => exF ev cX2_next 4 ([v0], []) (v :: st) h) := exF_o (i := (i_getf 1 2 4)) rfl rfl
theorem eX2_next_4 {ev : xV} {x : Nat} {st : List Value} {h : xH} : exF ev cX2_next 4 ([some (.ref x)], []) st h = exF ev cX2_next 5 ([some (.ref x)], []) (.ref x :: st) h := exF_j (i := (i_aload 0 5)) rfl rfl
theorem eX2_next_5 {ev : xV} {v0 : Option Value} {a : Nat} {st : List Value} {h : xH} : exF ev cX2_next 5 ([v0], []) (.ref a :: st) h = xO (xgf h a 1 1) (fun v => exF ev cX2_next 8 ([v0], []) (v :: st) h) := exF_o (i := (i_getf 1 1 8)) rfl rfl
theorem eX2_next_8 {ev : xV} {v0 : Option Value} {x y : Int32} {st : List Value} {h : xH} : exF ev cX2_next 8 ([v0], []) (.int y :: .int x :: st) h = if y ≤ x then exF ev cX2_next 52 ([v0], []) st h else exF ev cX2_next 11 ([v0], []) st h := exF_b (i := (i_if2 (fun x y => y ≤ x) 52 11)) rfl rfl
theorem eX2_next_11 {ev : xV} {x : Nat} {st : List Value} {h : xH} : exF ev cX2_next 11 ([some (.ref x)], []) st h = exF ev cX2_next 12 ([some (.ref x)], []) (.ref x :: st) h := exF_j (i := (i_aload 0 12)) rfl rfl
theorem eX2_next_12 {ev : xV} {v0 : Option Value} {a : Nat} {st : List Value} {h : xH} : exF ev cX2_next 12 ([v0], []) (.ref a :: st) h = xO (xgf h a 1 0) (fun v => exF ev cX2_next 15 ([v0], []) (v :: st) h) := exF_o (i := (i_getf 1 0 15)) rfl rfl
theorem eX2_next_15 {ev : xV} {x : Nat} {st : List Value} {h : xH} : exF ev cX2_next 15 ([some (.ref x)], []) st h = exF ev cX2_next 16 ([some (.ref x)], []) (.ref x :: st) h := exF_j (i := (i_aload 0 16)) rfl rfl
theorem eX2_next_16 {ev : xV} {v0 : Option Value} {a : Nat} {st : List Value} {h : xH} : exF ev cX2_next 16 ([v0], []) (.ref a :: st) h = xO (xgf h a 1 2) (fun v => exF ev cX2_next 19 ([v0], []) (v :: st) h) := exF_o (i := (i_getf 1 2 19)) rfl rfl
theorem eX2_next_19 {ev : xV} {v0 : Option Value} {i : Int32} {a : Nat} {st : List Value} {h : xH} : exF ev cX2_next 19 ([v0], []) (.int i :: .ref a :: st) h = xO (xai h 1 a i) (fun v => exF ev cX2_next 20 ([v0], []) (.int v :: st) h) := exF_o (i := (i_ai 1 20)) rfl rfl
theorem eX2_next_20 {ev : xV} {v0 : Option Value} {st : List Value} {h : xH} : exF ev cX2_next 20 ([v0], []) st h = exF ev cX2_next 22 ([v0], []) (.int (nI 10) :: st) h := exF_j (i := (i_const (.int (nI 10)) 22)) rfl rfl
theorem eX2_next_22 {ev : xV} {v0 : Option Value} {x y : Int32} {st : List Value} {h : xH} : exF ev cX2_next 22 ([v0], []) (.int y :: .int x :: st) h = if x = y then exF ev cX2_next 39 ([v0], []) st h else exF ev cX2_next 25 ([v0], []) st h := exF_b (i := (i_if2 (fun x y => x = y) 39 25)) rfl rfl
theorem eX2_next_25 {ev : xV} {x : Nat} {st : List Value} {h : xH} : exF ev cX2_next 25 ([some (.ref x)], []) st h = exF ev cX2_next 26 ([some (.ref x)], []) (.ref x :: st) h := exF_j (i := (i_aload 0 26)) rfl rfl
theorem eX2_next_26 {ev : xV} {v0 : Option Value} {a : Nat} {st : List Value} {h : xH} : exF ev cX2_next 26 ([v0], []) (.ref a :: st) h = xO (xgf h a 1 0) (fun v => exF ev cX2_next 29 ([v0], []) (v :: st) h) := exF_o (i := (i_getf 1 0 29)) rfl rfl
theorem eX2_next_29 {ev : xV} {x : Nat} {st : List Value} {h : xH} : exF ev cX2_next 29 ([some (.ref x)], []) st h = exF ev cX2_next 30 ([some (.ref x)], []) (.ref x :: st) h := exF_j (i := (i_aload 0 30)) rfl rfl
theorem eX2_next_30 {ev : xV} {v0 : Option Value} {a : Nat} {st : List Value} {h : xH} : exF ev cX2_next 30 ([v0], []) (.ref a :: st) h = xO (xgf h a 1 2) (fun v => exF ev cX2_next 33 ([v0], []) (v :: st) h) := exF_o (i := (i_getf 1 2 33)) rfl rfl
theorem eX2_next_33 {ev : xV} {v0 : Option Value} {i : Int32} {a : Nat} {st : List Value} {h : xH} : exF ev cX2_next 33 ([v0], []) (.int i :: .ref a :: st) h = xO (xai h 1 a i) (fun v => exF ev cX2_next 34 ([v0], []) (.int v :: st) h) := exF_o (i := (i_ai 1 34)) rfl rfl
theorem eX2_next_34 {ev : xV} {v0 : Option Value} {st : List Value} {h : xH} : exF ev cX2_next 34 ([v0], []) st h = exF ev cX2_next 36 ([v0], []) (.int (nI 32) :: st) h := exF_j (i := (i_const (.int (nI 32)) 36)) rfl rfl
theorem eX2_next_36 {ev : xV} {v0 : Option Value} {x y : Int32} {st : List Value} {h : xH} : exF ev cX2_next 36 ([v0], []) (.int y :: .int x :: st) h = if ¬ x = y then exF ev cX2_next 52 ([v0], []) st h else exF ev cX2_next 39 ([v0], []) st h := exF_b (i := (i_if2 (fun x y => ¬ x = y) 52 39)) rfl rfl
theorem eX2_next_39 {ev : xV} {x : Nat} {st : List Value} {h : xH} : exF ev cX2_next 39 ([some (.ref x)], []) st h = exF ev cX2_next 40 ([some (.ref x)], []) (.ref x :: st) h := exF_j (i := (i_aload 0 40)) rfl rfl
theorem eX2_next_40 {ev : xV} {v0 : Option Value} {x : Nat} {st : List Value} {h : xH} : exF ev cX2_next 40 ([v0], []) (.ref x :: st) h = exF ev cX2_next 41 ([v0], []) (.ref x :: .ref x :: st) h := exF_j (i := (i_dup 41)) rfl rfl
theorem eX2_next_41 {ev : xV} {v0 : Option Value} {a : Nat} {st : List Value} {h : xH} : exF ev cX2_next 41 ([v0], []) (.ref a :: st) h = xO (xgf h a 1 2) (fun v => exF ev cX2_next 44 ([v0], []) (v :: st) h) := exF_o (i := (i_getf 1 2 44)) rfl rfl
theorem eX2_next_44 {ev : xV} {v0 : Option Value} {st : List Value} {h : xH} : exF ev cX2_next 44 ([v0], []) st h = exF ev cX2_next 45 ([v0], []) (.int (nI 1) :: st) h := exF_j (i := (i_const (.int (nI 1)) 45)) rfl rfl
theorem eX2_next_45 {ev : xV} {v0 : Option Value} {x y : Int32} {st : List Value} {h : xH} : exF ev cX2_next 45 ([v0], []) (.int y :: .int x :: st) h = exF ev cX2_next 46 ([v0], []) (.int (x + y) :: st) h := exF_j (i := (i_ii (fun x y => x + y) 46)) rfl rfl
theorem eX2_next_46 {ev : xV} {v0 : Option Value} {x : Int32} {a : Nat} {st : List Value} {h : xH} : exF ev cX2_next 46 ([v0], []) (.int x :: .ref a :: st) h = xO (xpf h a 1 2 (.int x)) (fun h => exF ev cX2_next 49 ([v0], []) st h) := exF_o (i := (i_putfi 1 2 49)) rfl rfl
theorem eX2_next_49 {ev : xV} {v0 : Option Value} {st : List Value} {h : xH} : exF ev cX2_next 49 ([v0], []) st h = exF ev cX2_next 0 ([v0], []) st h := exF_j (i := (i_goto 0)) rfl rfl
theorem eX2_next_52 {ev : xV} {x : Nat} {st : List Value} {h : xH} : exF ev cX2_next 52 ([some (.ref x)], []) st h = exF ev cX2_next 53 ([some (.ref x)], []) (.ref x :: st) h := exF_j (i := (i_aload 0 53)) rfl rfl
theorem eX2_next_53 {ev : xV} {x : Nat} {st : List Value} {h : xH} : exF ev cX2_next 53 ([some (.ref x)], []) st h = exF ev cX2_next 54 ([some (.ref x)], []) (.ref x :: st) h := exF_j (i := (i_aload 0 54)) rfl rfl
theorem eX2_next_54 {ev : xV} {v0 : Option Value} {a : Nat} {st : List Value} {h : xH} : exF ev cX2_next 54 ([v0], []) (.ref a :: st) h = xO (xgf h a 1 2) (fun v => exF ev cX2_next 57 ([v0], []) (v :: st) h) := exF_o (i := (i_getf 1 2 57)) rfl rfl
theorem eX2_next_57 {ev : xV} {v0 : Option Value} {x : Int32} {a : Nat} {st : List Value} {h : xH} : exF ev cX2_next 57 ([v0], []) (.int x :: .ref a :: st) h = xO (xpf h a 1 4 (.int x)) (fun h => exF ev cX2_next 60 ([v0], []) st h) := exF_o (i := (i_putfi 1 4 60)) rfl rfl
theorem eX2_next_60 {ev : xV} {x : Nat} {st : List Value} {h : xH} : exF ev cX2_next 60 ([some (.ref x)], []) st h = exF ev cX2_next 61 ([some (.ref x)], []) (.ref x :: st) h := exF_j (i := (i_aload 0 61)) rfl rfl
theorem eX2_next_61 {ev : xV} {v0 : Option Value} {a : Nat} {st : List Value} {h : xH} : exF ev cX2_next 61 ([v0], []) (.ref a :: st) h = xO (xgf h a 1 2) (fun v => exF ev cX2_next 64 ([v0], []) (v :: st) h) := exF_o (i := (i_getf 1 2 64)) rfl rfl
theorem eX2_next_64 {ev : xV} {x : Nat} {st : List Value} {h : xH} : exF ev cX2_next 64 ([some (.ref x)], []) st h = exF ev cX2_next 65 ([some (.ref x)], []) (.ref x :: st) h := exF_j (i := (i_aload 0 65)) rfl rfl
theorem eX2_next_65 {ev : xV} {v0 : Option Value} {a : Nat} {st : List Value} {h : xH} : exF ev cX2_next 65 ([v0], []) (.ref a :: st) h = xO (xgf h a 1 1) (fun v => exF ev cX2_next 68 ([v0], []) (v :: st) h) := exF_o (i := (i_getf 1 1 68)) rfl rfl
theorem eX2_next_68 {ev : xV} {v0 : Option Value} {x y : Int32} {st : List Value} {h : xH} : exF ev cX2_next 68 ([v0], []) (.int y :: .int x :: st) h = if ¬ x = y then exF ev cX2_next 79 ([v0], []) st h else exF ev cX2_next 71 ([v0], []) st h := exF_b (i := (i_if2 (fun x y => ¬ x = y) 79 71)) rfl rfl
theorem eX2_next_71 {ev : xV} {x : Nat} {st : List Value} {h : xH} : exF ev cX2_next 71 ([some (.ref x)], []) st h = exF ev cX2_next 72 ([some (.ref x)], []) (.ref x :: st) h := exF_j (i := (i_aload 0 72)) rfl rfl
theorem eX2_next_72 {ev : xV} {v0 : Option Value} {st : List Value} {h : xH} : exF ev cX2_next 72 ([v0], []) st h = exF ev cX2_next 73 ([v0], []) (.int (nI 0) :: st) h := exF_j (i := (i_const (.int (nI 0)) 73)) rfl rfl
theorem eX2_next_73 {ev : xV} {v0 : Option Value} {x : Int32} {a : Nat} {st : List Value} {h : xH} : exF ev cX2_next 73 ([v0], []) (.int x :: .ref a :: st) h = xO (xpf h a 1 3 (.int x)) (fun h => exF ev cX2_next 76 ([v0], []) st h) := exF_o (i := (i_putfi 1 3 76)) rfl rfl
theorem eX2_next_76 {ev : xV} {v0 : Option Value} {st : List Value} {h : xH} : exF ev cX2_next 76 ([v0], []) st h = exF ev cX2_next 296 ([v0], []) st h := exF_j (i := (i_goto 296)) rfl rfl
theorem eX2_next_79 {ev : xV} {x : Nat} {st : List Value} {h : xH} : exF ev cX2_next 79 ([some (.ref x)], []) st h = exF ev cX2_next 80 ([some (.ref x)], []) (.ref x :: st) h := exF_j (i := (i_aload 0 80)) rfl rfl
theorem eX2_next_80 {ev : xV} {x : Nat} {st : List Value} {h : xH} : exF ev cX2_next 80 ([some (.ref x)], []) st h = exF ev cX2_next 81 ([some (.ref x)], []) (.ref x :: st) h := exF_j (i := (i_aload 0 81)) rfl rfl
theorem eX2_next_81 {ev : xV} {v0 : Option Value} {a : Nat} {st : List Value} {h : xH} : exF ev cX2_next 81 ([v0], []) (.ref a :: st) h = xO (xgf h a 1 2) (fun v => exF ev cX2_next 84 ([v0], []) (v :: st) h) := exF_o (i := (i_getf 1 2 84)) rfl rfl
theorem eX2_next_84 {ev : xV} {v0 : Option Value} {a0 : Value} {a : Nat} {h : xH} : exF ev cX2_next 84 ([v0], []) [a0, .ref a] h = xO (xck h a 1) (fun _ => xB (ev 196 [.ref a, a0] h) (fun v h => exF ev cX2_next 87 ([v0], []) [v] h)) := exF_cd (i := (i_cv 1 196 1 87)) rfl rfl
theorem eX2_next_87 {ev : xV} {v0 : Option Value} {a0 : Value} {h : xH} : exF ev cX2_next 87 ([v0], []) [a0] h = xB (ev 197 [a0] h) (fun v h => exF ev cX2_next 90 ([v0], []) [v] h) := exF_c (i := (i_cs 197 1 90)) rfl rfl
theorem eX2_next_90 {ev : xV} {v0 : Option Value} {x : Int32} {st : List Value} {h : xH} : exF ev cX2_next 90 ([v0], []) (.int x :: st) h = if x = 0 then exF ev cX2_next 146 ([v0], []) st h else exF ev cX2_next 93 ([v0], []) st h := exF_b (i := (i_if1 (fun x => x = 0) 146 93)) rfl rfl
theorem eX2_next_93 {ev : xV} {x : Nat} {st : List Value} {h : xH} : exF ev cX2_next 93 ([some (.ref x)], []) st h = exF ev cX2_next 94 ([some (.ref x)], []) (.ref x :: st) h := exF_j (i := (i_aload 0 94)) rfl rfl
theorem eX2_next_94 {ev : xV} {x : Nat} {st : List Value} {h : xH} : exF ev cX2_next 94 ([some (.ref x)], []) st h = exF ev cX2_next 95 ([some (.ref x)], []) (.ref x :: st) h := exF_j (i := (i_aload 0 95)) rfl rfl
theorem eX2_next_95 {ev : xV} {v0 : Option Value} {a : Nat} {st : List Value} {h : xH} : exF ev cX2_next 95 ([v0], []) (.ref a :: st) h = xO (xgf h a 1 2) (fun v => exF ev cX2_next 98 ([v0], []) (v :: st) h) := exF_o (i := (i_getf 1 2 98)) rfl rfl
theorem eX2_next_98 {ev : xV} {v0 : Option Value} {a0 : Value} {a : Nat} {h : xH} : exF ev cX2_next 98 ([v0], []) [a0, .ref a] h = xO (xck h a 1) (fun _ => xB (ev 196 [.ref a, a0] h) (fun v h => exF ev cX2_next 101 ([v0], []) [v] h)) := exF_cd (i := (i_cv 1 196 1 101)) rfl rfl
theorem eX2_next_101 {ev : xV} {v0 : Option Value} {a0 : Value} {h : xH} : exF ev cX2_next 101 ([v0], []) [a0] h = xB (ev 197 [a0] h) (fun v h => exF ev cX2_next 104 ([v0], []) [v] h) := exF_c (i := (i_cs 197 1 104)) rfl rfl
theorem eX2_next_104 {ev : xV} {v0 : Option Value} {x : Int32} {st : List Value} {h : xH} : exF ev cX2_next 104 ([v0], []) (.int x :: st) h = if x = 0 then exF ev cX2_next 120 ([v0], []) st h else exF ev cX2_next 107 ([v0], []) st h := exF_b (i := (i_if1 (fun x => x = 0) 120 107)) rfl rfl
theorem eX2_next_107 {ev : xV} {x : Nat} {st : List Value} {h : xH} : exF ev cX2_next 107 ([some (.ref x)], []) st h = exF ev cX2_next 108 ([some (.ref x)], []) (.ref x :: st) h := exF_j (i := (i_aload 0 108)) rfl rfl
theorem eX2_next_108 {ev : xV} {v0 : Option Value} {x : Nat} {st : List Value} {h : xH} : exF ev cX2_next 108 ([v0], []) (.ref x :: st) h = exF ev cX2_next 109 ([v0], []) (.ref x :: .ref x :: st) h := exF_j (i := (i_dup 109)) rfl rfl
theorem eX2_next_109 {ev : xV} {v0 : Option Value} {a : Nat} {st : List Value} {h : xH} : exF ev cX2_next 109 ([v0], []) (.ref a :: st) h = xO (xgf h a 1 2) (fun v => exF ev cX2_next 112 ([v0], []) (v :: st) h) := exF_o (i := (i_getf 1 2 112)) rfl rfl
theorem eX2_next_112 {ev : xV} {v0 : Option Value} {st : List Value} {h : xH} : exF ev cX2_next 112 ([v0], []) st h = exF ev cX2_next 113 ([v0], []) (.int (nI 1) :: st) h := exF_j (i := (i_const (.int (nI 1)) 113)) rfl rfl
theorem eX2_next_113 {ev : xV} {v0 : Option Value} {x y : Int32} {st : List Value} {h : xH} : exF ev cX2_next 113 ([v0], []) (.int y :: .int x :: st) h = exF ev cX2_next 114 ([v0], []) (.int (x + y) :: st) h := exF_j (i := (i_ii (fun x y => x + y) 114)) rfl rfl
theorem eX2_next_114 {ev : xV} {v0 : Option Value} {x : Int32} {a : Nat} {st : List Value} {h : xH} : exF ev cX2_next 114 ([v0], []) (.int x :: .ref a :: st) h = xO (xpf h a 1 2 (.int x)) (fun h => exF ev cX2_next 117 ([v0], []) st h) := exF_o (i := (i_putfi 1 2 117)) rfl rfl
theorem eX2_next_117 {ev : xV} {v0 : Option Value} {st : List Value} {h : xH} : exF ev cX2_next 117 ([v0], []) st h = exF ev cX2_next 93 ([v0], []) st h := exF_j (i := (i_goto 93)) rfl rfl
theorem eX2_next_120 {ev : xV} {x : Nat} {st : List Value} {h : xH} : exF ev cX2_next 120 ([some (.ref x)], []) st h = exF ev cX2_next 121 ([some (.ref x)], []) (.ref x :: st) h := exF_j (i := (i_aload 0 121)) rfl rfl
theorem eX2_next_121 {ev : xV} {x : Nat} {st : List Value} {h : xH} : exF ev cX2_next 121 ([some (.ref x)], []) st h = exF ev cX2_next 122 ([some (.ref x)], []) (.ref x :: st) h := exF_j (i := (i_aload 0 122)) rfl rfl
theorem eX2_next_122 {ev : xV} {v0 : Option Value} {a : Nat} {st : List Value} {h : xH} : exF ev cX2_next 122 ([v0], []) (.ref a :: st) h = xO (xgf h a 1 2) (fun v => exF ev cX2_next 125 ([v0], []) (v :: st) h) := exF_o (i := (i_getf 1 2 125)) rfl rfl
theorem eX2_next_125 {ev : xV} {x : Nat} {st : List Value} {h : xH} : exF ev cX2_next 125 ([some (.ref x)], []) st h = exF ev cX2_next 126 ([some (.ref x)], []) (.ref x :: st) h := exF_j (i := (i_aload 0 126)) rfl rfl
theorem eX2_next_126 {ev : xV} {v0 : Option Value} {a : Nat} {st : List Value} {h : xH} : exF ev cX2_next 126 ([v0], []) (.ref a :: st) h = xO (xgf h a 1 4) (fun v => exF ev cX2_next 129 ([v0], []) (v :: st) h) := exF_o (i := (i_getf 1 4 129)) rfl rfl
theorem eX2_next_129 {ev : xV} {v0 : Option Value} {x y : Int32} {st : List Value} {h : xH} : exF ev cX2_next 129 ([v0], []) (.int y :: .int x :: st) h = exF ev cX2_next 130 ([v0], []) (.int (x - y) :: st) h := exF_j (i := (i_ii (fun x y => x - y) 130)) rfl rfl
theorem eX2_next_130 {ev : xV} {v0 : Option Value} {st : List Value} {h : xH} : exF ev cX2_next 130 ([v0], []) st h = exF ev cX2_next 132 ([v0], []) (.int (nI 8) :: st) h := exF_j (i := (i_const (.int (nI 8)) 132)) rfl rfl
theorem eX2_next_132 {ev : xV} {v0 : Option Value} {x y : Int32} {st : List Value} {h : xH} : exF ev cX2_next 132 ([v0], []) (.int y :: .int x :: st) h = if x ≤ y then exF ev cX2_next 139 ([v0], []) st h else exF ev cX2_next 135 ([v0], []) st h := exF_b (i := (i_if2 (fun x y => x ≤ y) 139 135)) rfl rfl
theorem eX2_next_135 {ev : xV} {v0 : Option Value} {st : List Value} {h : xH} : exF ev cX2_next 135 ([v0], []) st h = exF ev cX2_next 136 ([v0], []) (.int (nI 4) :: st) h := exF_j (i := (i_const (.int (nI 4)) 136)) rfl rfl
theorem eX2_next_136 {ev : xV} {v0 : Option Value} {st : List Value} {h : xH} : exF ev cX2_next 136 ([v0], []) st h = exF ev cX2_next 140 ([v0], []) st h := exF_j (i := (i_goto 140)) rfl rfl
theorem eX2_next_139 {ev : xV} {v0 : Option Value} {st : List Value} {h : xH} : exF ev cX2_next 139 ([v0], []) st h = exF ev cX2_next 140 ([v0], []) (.int (nI 1) :: st) h := exF_j (i := (i_const (.int (nI 1)) 140)) rfl rfl
theorem eX2_next_140 {ev : xV} {v0 : Option Value} {x : Int32} {a : Nat} {st : List Value} {h : xH} : exF ev cX2_next 140 ([v0], []) (.int x :: .ref a :: st) h = xO (xpf h a 1 3 (.int x)) (fun h => exF ev cX2_next 143 ([v0], []) st h) := exF_o (i := (i_putfi 1 3 143)) rfl rfl
theorem eX2_next_143 {ev : xV} {v0 : Option Value} {st : List Value} {h : xH} : exF ev cX2_next 143 ([v0], []) st h = exF ev cX2_next 296 ([v0], []) st h := exF_j (i := (i_goto 296)) rfl rfl
theorem eX2_next_146 {ev : xV} {x : Nat} {st : List Value} {h : xH} : exF ev cX2_next 146 ([some (.ref x)], []) st h = exF ev cX2_next 147 ([some (.ref x)], []) (.ref x :: st) h := exF_j (i := (i_aload 0 147)) rfl rfl
theorem eX2_next_147 {ev : xV} {x : Nat} {st : List Value} {h : xH} : exF ev cX2_next 147 ([some (.ref x)], []) st h = exF ev cX2_next 148 ([some (.ref x)], []) (.ref x :: st) h := exF_j (i := (i_aload 0 148)) rfl rfl
theorem eX2_next_148 {ev : xV} {v0 : Option Value} {a : Nat} {st : List Value} {h : xH} : exF ev cX2_next 148 ([v0], []) (.ref a :: st) h = xO (xgf h a 1 2) (fun v => exF ev cX2_next 151 ([v0], []) (v :: st) h) := exF_o (i := (i_getf 1 2 151)) rfl rfl
theorem eX2_next_151 {ev : xV} {v0 : Option Value} {a0 : Value} {a : Nat} {h : xH} : exF ev cX2_next 151 ([v0], []) [a0, .ref a] h = xO (xck h a 1) (fun _ => xB (ev 196 [.ref a, a0] h) (fun v h => exF ev cX2_next 154 ([v0], []) [v] h)) := exF_cd (i := (i_cv 1 196 1 154)) rfl rfl
theorem eX2_next_154 {ev : xV} {v0 : Option Value} {a0 : Value} {h : xH} : exF ev cX2_next 154 ([v0], []) [a0] h = xB (ev 198 [a0] h) (fun v h => exF ev cX2_next 157 ([v0], []) [v] h) := exF_c (i := (i_cs 198 1 157)) rfl rfl
theorem eX2_next_157 {ev : xV} {v0 : Option Value} {x : Int32} {st : List Value} {h : xH} : exF ev cX2_next 157 ([v0], []) (.int x :: st) h = if x = 0 then exF ev cX2_next 260 ([v0], []) st h else exF ev cX2_next 160 ([v0], []) st h := exF_b (i := (i_if1 (fun x => x = 0) 260 160)) rfl rfl
theorem eX2_next_160 {ev : xV} {x : Nat} {st : List Value} {h : xH} : exF ev cX2_next 160 ([some (.ref x)], []) st h = exF ev cX2_next 161 ([some (.ref x)], []) (.ref x :: st) h := exF_j (i := (i_aload 0 161)) rfl rfl
theorem eX2_next_161 {ev : xV} {v0 : Option Value} {st : List Value} {h : xH} : exF ev cX2_next 161 ([v0], []) st h = exF ev cX2_next 162 ([v0], []) (.int (nI 0) :: st) h := exF_j (i := (i_const (.int (nI 0)) 162)) rfl rfl
theorem eX2_next_162 {ev : xV} {v0 : Option Value} {x : Int32} {a : Nat} {st : List Value} {h : xH} : exF ev cX2_next 162 ([v0], []) (.int x :: .ref a :: st) h = xO (xpf h a 1 5 (.int x)) (fun h => exF ev cX2_next 165 ([v0], []) st h) := exF_o (i := (i_putfi 1 5 165)) rfl rfl
theorem eX2_next_165 {ev : xV} {x : Nat} {st : List Value} {h : xH} : exF ev cX2_next 165 ([some (.ref x)], []) st h = exF ev cX2_next 166 ([some (.ref x)], []) (.ref x :: st) h := exF_j (i := (i_aload 0 166)) rfl rfl
theorem eX2_next_166 {ev : xV} {x : Nat} {st : List Value} {h : xH} : exF ev cX2_next 166 ([some (.ref x)], []) st h = exF ev cX2_next 167 ([some (.ref x)], []) (.ref x :: st) h := exF_j (i := (i_aload 0 167)) rfl rfl
theorem eX2_next_167 {ev : xV} {v0 : Option Value} {a : Nat} {st : List Value} {h : xH} : exF ev cX2_next 167 ([v0], []) (.ref a :: st) h = xO (xgf h a 1 2) (fun v => exF ev cX2_next 170 ([v0], []) (v :: st) h) := exF_o (i := (i_getf 1 2 170)) rfl rfl
theorem eX2_next_170 {ev : xV} {v0 : Option Value} {a0 : Value} {a : Nat} {h : xH} : exF ev cX2_next 170 ([v0], []) [a0, .ref a] h = xO (xck h a 1) (fun _ => xB (ev 196 [.ref a, a0] h) (fun v h => exF ev cX2_next 173 ([v0], []) [v] h)) := exF_cd (i := (i_cv 1 196 1 173)) rfl rfl
theorem eX2_next_173 {ev : xV} {v0 : Option Value} {a0 : Value} {h : xH} : exF ev cX2_next 173 ([v0], []) [a0] h = xB (ev 198 [a0] h) (fun v h => exF ev cX2_next 176 ([v0], []) [v] h) := exF_c (i := (i_cs 198 1 176)) rfl rfl
theorem eX2_next_176 {ev : xV} {v0 : Option Value} {x : Int32} {st : List Value} {h : xH} : exF ev cX2_next 176 ([v0], []) (.int x :: st) h = if x = 0 then exF ev cX2_next 235 ([v0], []) st h else exF ev cX2_next 179 ([v0], []) st h := exF_b (i := (i_if1 (fun x => x = 0) 235 179)) rfl rfl
theorem eX2_next_179 {ev : xV} {x : Nat} {st : List Value} {h : xH} : exF ev cX2_next 179 ([some (.ref x)], []) st h = exF ev cX2_next 180 ([some (.ref x)], []) (.ref x :: st) h := exF_j (i := (i_aload 0 180)) rfl rfl
theorem eX2_next_180 {ev : xV} {x : Nat} {st : List Value} {h : xH} : exF ev cX2_next 180 ([some (.ref x)], []) st h = exF ev cX2_next 181 ([some (.ref x)], []) (.ref x :: st) h := exF_j (i := (i_aload 0 181)) rfl rfl
theorem eX2_next_181 {ev : xV} {v0 : Option Value} {a : Nat} {st : List Value} {h : xH} : exF ev cX2_next 181 ([v0], []) (.ref a :: st) h = xO (xgf h a 1 2) (fun v => exF ev cX2_next 184 ([v0], []) (v :: st) h) := exF_o (i := (i_getf 1 2 184)) rfl rfl
theorem eX2_next_184 {ev : xV} {x : Nat} {st : List Value} {h : xH} : exF ev cX2_next 184 ([some (.ref x)], []) st h = exF ev cX2_next 185 ([some (.ref x)], []) (.ref x :: st) h := exF_j (i := (i_aload 0 185)) rfl rfl
theorem eX2_next_185 {ev : xV} {v0 : Option Value} {a : Nat} {st : List Value} {h : xH} : exF ev cX2_next 185 ([v0], []) (.ref a :: st) h = xO (xgf h a 1 4) (fun v => exF ev cX2_next 188 ([v0], []) (v :: st) h) := exF_o (i := (i_getf 1 4 188)) rfl rfl
theorem eX2_next_188 {ev : xV} {v0 : Option Value} {x y : Int32} {st : List Value} {h : xH} : exF ev cX2_next 188 ([v0], []) (.int y :: .int x :: st) h = exF ev cX2_next 189 ([v0], []) (.int (x - y) :: st) h := exF_j (i := (i_ii (fun x y => x - y) 189)) rfl rfl
theorem eX2_next_189 {ev : xV} {v0 : Option Value} {st : List Value} {h : xH} : exF ev cX2_next 189 ([v0], []) st h = exF ev cX2_next 190 ([v0], []) (.int (nI 4) :: st) h := exF_j (i := (i_const (.int (nI 4)) 190)) rfl rfl
theorem eX2_next_190 {ev : xV} {v0 : Option Value} {x y : Int32} {st : List Value} {h : xH} : exF ev cX2_next 190 ([v0], []) (.int y :: .int x :: st) h = if y ≤ x then exF ev cX2_next 215 ([v0], []) st h else exF ev cX2_next 193 ([v0], []) st h := exF_b (i := (i_if2 (fun x y => y ≤ x) 215 193)) rfl rfl
theorem eX2_next_193 {ev : xV} {v0 : Option Value} {st : List Value} {h : xH} : exF ev cX2_next 193 ([v0], []) st h = exF ev cX2_next 195 ([v0], []) (.int (nI 10) :: st) h := exF_j (i := (i_const (.int (nI 10)) 195)) rfl rfl
theorem eX2_next_195 {ev : xV} {x : Nat} {st : List Value} {h : xH} : exF ev cX2_next 195 ([some (.ref x)], []) st h = exF ev cX2_next 196 ([some (.ref x)], []) (.ref x :: st) h := exF_j (i := (i_aload 0 196)) rfl rfl
theorem eX2_next_196 {ev : xV} {v0 : Option Value} {a : Nat} {st : List Value} {h : xH} : exF ev cX2_next 196 ([v0], []) (.ref a :: st) h = xO (xgf h a 1 5) (fun v => exF ev cX2_next 199 ([v0], []) (v :: st) h) := exF_o (i := (i_getf 1 5 199)) rfl rfl
theorem eX2_next_199 {ev : xV} {v0 : Option Value} {x y : Int32} {st : List Value} {h : xH} : exF ev cX2_next 199 ([v0], []) (.int y :: .int x :: st) h = exF ev cX2_next 200 ([v0], []) (.int (x * y) :: st) h := exF_j (i := (i_ii (fun x y => x * y) 200)) rfl rfl
theorem eX2_next_200 {ev : xV} {x : Nat} {st : List Value} {h : xH} : exF ev cX2_next 200 ([some (.ref x)], []) st h = exF ev cX2_next 201 ([some (.ref x)], []) (.ref x :: st) h := exF_j (i := (i_aload 0 201)) rfl rfl
theorem eX2_next_201 {ev : xV} {x : Nat} {st : List Value} {h : xH} : exF ev cX2_next 201 ([some (.ref x)], []) st h = exF ev cX2_next 202 ([some (.ref x)], []) (.ref x :: st) h := exF_j (i := (i_aload 0 202)) rfl rfl
theorem eX2_next_202 {ev : xV} {v0 : Option Value} {a : Nat} {st : List Value} {h : xH} : exF ev cX2_next 202 ([v0], []) (.ref a :: st) h = xO (xgf h a 1 2) (fun v => exF ev cX2_next 205 ([v0], []) (v :: st) h) := exF_o (i := (i_getf 1 2 205)) rfl rfl
theorem eX2_next_205 {ev : xV} {v0 : Option Value} {a0 : Value} {r0 : Value} {r1 : Value} {a : Nat} {h : xH} : exF ev cX2_next 205 ([v0], []) [a0, .ref a, r0, r1] h = xO (xck h a 1) (fun _ => xB (ev 196 [.ref a, a0] h) (fun v h => exF ev cX2_next 208 ([v0], []) [v, r0, r1] h)) := exF_cd (i := (i_cv 1 196 1 208)) rfl rfl
theorem eX2_next_208 {ev : xV} {v0 : Option Value} {x y : Int32} {st : List Value} {h : xH} : exF ev cX2_next 208 ([v0], []) (.int y :: .int x :: st) h = exF ev cX2_next 209 ([v0], []) (.int (x + y) :: st) h := exF_j (i := (i_ii (fun x y => x + y) 209)) rfl rfl
theorem eX2_next_209 {ev : xV} {v0 : Option Value} {st : List Value} {h : xH} : exF ev cX2_next 209 ([v0], []) st h = exF ev cX2_next 211 ([v0], []) (.int (nI 48) :: st) h := exF_j (i := (i_const (.int (nI 48)) 211)) rfl rfl
theorem eX2_next_211 {ev : xV} {v0 : Option Value} {x y : Int32} {st : List Value} {h : xH} : exF ev cX2_next 211 ([v0], []) (.int y :: .int x :: st) h = exF ev cX2_next 212 ([v0], []) (.int (x - y) :: st) h := exF_j (i := (i_ii (fun x y => x - y) 212)) rfl rfl
theorem eX2_next_212 {ev : xV} {v0 : Option Value} {st : List Value} {h : xH} : exF ev cX2_next 212 ([v0], []) st h = exF ev cX2_next 219 ([v0], []) st h := exF_j (i := (i_goto 219)) rfl rfl
theorem eX2_next_215 {ev : xV} {x : Nat} {st : List Value} {h : xH} : exF ev cX2_next 215 ([some (.ref x)], []) st h = exF ev cX2_next 216 ([some (.ref x)], []) (.ref x :: st) h := exF_j (i := (i_aload 0 216)) rfl rfl
theorem eX2_next_216 {ev : xV} {v0 : Option Value} {a : Nat} {st : List Value} {h : xH} : exF ev cX2_next 216 ([v0], []) (.ref a :: st) h = xO (xgf h a 1 5) (fun v => exF ev cX2_next 219 ([v0], []) (v :: st) h) := exF_o (i := (i_getf 1 5 219)) rfl rfl
theorem eX2_next_219 {ev : xV} {v0 : Option Value} {x : Int32} {a : Nat} {st : List Value} {h : xH} : exF ev cX2_next 219 ([v0], []) (.int x :: .ref a :: st) h = xO (xpf h a 1 5 (.int x)) (fun h => exF ev cX2_next 222 ([v0], []) st h) := exF_o (i := (i_putfi 1 5 222)) rfl rfl
theorem eX2_next_222 {ev : xV} {x : Nat} {st : List Value} {h : xH} : exF ev cX2_next 222 ([some (.ref x)], []) st h = exF ev cX2_next 223 ([some (.ref x)], []) (.ref x :: st) h := exF_j (i := (i_aload 0 223)) rfl rfl
theorem eX2_next_223 {ev : xV} {v0 : Option Value} {x : Nat} {st : List Value} {h : xH} : exF ev cX2_next 223 ([v0], []) (.ref x :: st) h = exF ev cX2_next 224 ([v0], []) (.ref x :: .ref x :: st) h := exF_j (i := (i_dup 224)) rfl rfl
theorem eX2_next_224 {ev : xV} {v0 : Option Value} {a : Nat} {st : List Value} {h : xH} : exF ev cX2_next 224 ([v0], []) (.ref a :: st) h = xO (xgf h a 1 2) (fun v => exF ev cX2_next 227 ([v0], []) (v :: st) h) := exF_o (i := (i_getf 1 2 227)) rfl rfl
theorem eX2_next_227 {ev : xV} {v0 : Option Value} {st : List Value} {h : xH} : exF ev cX2_next 227 ([v0], []) st h = exF ev cX2_next 228 ([v0], []) (.int (nI 1) :: st) h := exF_j (i := (i_const (.int (nI 1)) 228)) rfl rfl
theorem eX2_next_228 {ev : xV} {v0 : Option Value} {x y : Int32} {st : List Value} {h : xH} : exF ev cX2_next 228 ([v0], []) (.int y :: .int x :: st) h = exF ev cX2_next 229 ([v0], []) (.int (x + y) :: st) h := exF_j (i := (i_ii (fun x y => x + y) 229)) rfl rfl
theorem eX2_next_229 {ev : xV} {v0 : Option Value} {x : Int32} {a : Nat} {st : List Value} {h : xH} : exF ev cX2_next 229 ([v0], []) (.int x :: .ref a :: st) h = xO (xpf h a 1 2 (.int x)) (fun h => exF ev cX2_next 232 ([v0], []) st h) := exF_o (i := (i_putfi 1 2 232)) rfl rfl
theorem eX2_next_232 {ev : xV} {v0 : Option Value} {st : List Value} {h : xH} : exF ev cX2_next 232 ([v0], []) st h = exF ev cX2_next 165 ([v0], []) st h := exF_j (i := (i_goto 165)) rfl rfl
theorem eX2_next_235 {ev : xV} {x : Nat} {st : List Value} {h : xH} : exF ev cX2_next 235 ([some (.ref x)], []) st h = exF ev cX2_next 236 ([some (.ref x)], []) (.ref x :: st) h := exF_j (i := (i_aload 0 236)) rfl rfl
theorem eX2_next_236 {ev : xV} {x : Nat} {st : List Value} {h : xH} : exF ev cX2_next 236 ([some (.ref x)], []) st h = exF ev cX2_next 237 ([some (.ref x)], []) (.ref x :: st) h := exF_j (i := (i_aload 0 237)) rfl rfl
theorem eX2_next_237 {ev : xV} {v0 : Option Value} {a : Nat} {st : List Value} {h : xH} : exF ev cX2_next 237 ([v0], []) (.ref a :: st) h = xO (xgf h a 1 2) (fun v => exF ev cX2_next 240 ([v0], []) (v :: st) h) := exF_o (i := (i_getf 1 2 240)) rfl rfl
theorem eX2_next_240 {ev : xV} {x : Nat} {st : List Value} {h : xH} : exF ev cX2_next 240 ([some (.ref x)], []) st h = exF ev cX2_next 241 ([some (.ref x)], []) (.ref x :: st) h := exF_j (i := (i_aload 0 241)) rfl rfl
theorem eX2_next_241 {ev : xV} {v0 : Option Value} {a : Nat} {st : List Value} {h : xH} : exF ev cX2_next 241 ([v0], []) (.ref a :: st) h = xO (xgf h a 1 4) (fun v => exF ev cX2_next 244 ([v0], []) (v :: st) h) := exF_o (i := (i_getf 1 4 244)) rfl rfl
theorem eX2_next_244 {ev : xV} {v0 : Option Value} {x y : Int32} {st : List Value} {h : xH} : exF ev cX2_next 244 ([v0], []) (.int y :: .int x :: st) h = exF ev cX2_next 245 ([v0], []) (.int (x - y) :: st) h := exF_j (i := (i_ii (fun x y => x - y) 245)) rfl rfl
theorem eX2_next_245 {ev : xV} {v0 : Option Value} {st : List Value} {h : xH} : exF ev cX2_next 245 ([v0], []) st h = exF ev cX2_next 246 ([v0], []) (.int (nI 4) :: st) h := exF_j (i := (i_const (.int (nI 4)) 246)) rfl rfl
theorem eX2_next_246 {ev : xV} {v0 : Option Value} {x y : Int32} {st : List Value} {h : xH} : exF ev cX2_next 246 ([v0], []) (.int y :: .int x :: st) h = if x ≤ y then exF ev cX2_next 253 ([v0], []) st h else exF ev cX2_next 249 ([v0], []) st h := exF_b (i := (i_if2 (fun x y => x ≤ y) 253 249)) rfl rfl
theorem eX2_next_249 {ev : xV} {v0 : Option Value} {st : List Value} {h : xH} : exF ev cX2_next 249 ([v0], []) st h = exF ev cX2_next 250 ([v0], []) (.int (nI 4) :: st) h := exF_j (i := (i_const (.int (nI 4)) 250)) rfl rfl
theorem eX2_next_250 {ev : xV} {v0 : Option Value} {st : List Value} {h : xH} : exF ev cX2_next 250 ([v0], []) st h = exF ev cX2_next 254 ([v0], []) st h := exF_j (i := (i_goto 254)) rfl rfl
theorem eX2_next_253 {ev : xV} {v0 : Option Value} {st : List Value} {h : xH} : exF ev cX2_next 253 ([v0], []) st h = exF ev cX2_next 254 ([v0], []) (.int (nI 2) :: st) h := exF_j (i := (i_const (.int (nI 2)) 254)) rfl rfl
theorem eX2_next_254 {ev : xV} {v0 : Option Value} {x : Int32} {a : Nat} {st : List Value} {h : xH} : exF ev cX2_next 254 ([v0], []) (.int x :: .ref a :: st) h = xO (xpf h a 1 3 (.int x)) (fun h => exF ev cX2_next 257 ([v0], []) st h) := exF_o (i := (i_putfi 1 3 257)) rfl rfl
theorem eX2_next_257 {ev : xV} {v0 : Option Value} {st : List Value} {h : xH} : exF ev cX2_next 257 ([v0], []) st h = exF ev cX2_next 296 ([v0], []) st h := exF_j (i := (i_goto 296)) rfl rfl
theorem eX2_next_260 {ev : xV} {x : Nat} {st : List Value} {h : xH} : exF ev cX2_next 260 ([some (.ref x)], []) st h = exF ev cX2_next 261 ([some (.ref x)], []) (.ref x :: st) h := exF_j (i := (i_aload 0 261)) rfl rfl
theorem eX2_next_261 {ev : xV} {v0 : Option Value} {st : List Value} {h : xH} : exF ev cX2_next 261 ([v0], []) st h = exF ev cX2_next 263 ([v0], []) (.ref 2 :: st) h := exF_j (i := (i_const (.ref 2) 263)) rfl rfl
theorem eX2_next_263 {ev : xV} {x : Nat} {st : List Value} {h : xH} : exF ev cX2_next 263 ([some (.ref x)], []) st h = exF ev cX2_next 264 ([some (.ref x)], []) (.ref x :: st) h := exF_j (i := (i_aload 0 264)) rfl rfl
theorem eX2_next_264 {ev : xV} {x : Nat} {st : List Value} {h : xH} : exF ev cX2_next 264 ([some (.ref x)], []) st h = exF ev cX2_next 265 ([some (.ref x)], []) (.ref x :: st) h := exF_j (i := (i_aload 0 265)) rfl rfl
theorem eX2_next_265 {ev : xV} {v0 : Option Value} {a : Nat} {st : List Value} {h : xH} : exF ev cX2_next 265 ([v0], []) (.ref a :: st) h = xO (xgf h a 1 2) (fun v => exF ev cX2_next 268 ([v0], []) (v :: st) h) := exF_o (i := (i_getf 1 2 268)) rfl rfl
theorem eX2_next_268 {ev : xV} {v0 : Option Value} {a0 : Value} {r0 : Value} {r1 : Value} {a : Nat} {h : xH} : exF ev cX2_next 268 ([v0], []) [a0, .ref a, r0, r1] h = xO (xck h a 1) (fun _ => xB (ev 196 [.ref a, a0] h) (fun v h => exF ev cX2_next 271 ([v0], []) [v, r0, r1] h)) := exF_cd (i := (i_cv 1 196 1 271)) rfl rfl
theorem eX2_next_271 {ev : xV} {v0 : Option Value} {x : Int32} {st : List Value} {h : xH} : exF ev cX2_next 271 ([v0], []) (.int x :: st) h = exF ev cX2_next 272 ([v0], []) (.int ((x.toUInt32 % 65536).toInt32) :: st) h := exF_j (i := (i_i1 (fun x => (x.toUInt32 % 65536).toInt32) 272)) rfl rfl
theorem eX2_next_272 {ev : xV} {v0 : Option Value} {a0 : Value} {r0 : Value} {a : Nat} {h : xH} : exF ev cX2_next 272 ([v0], []) [a0, .ref a, r0] h = xO (xck h a 22) (fun _ => xB (ev 43 [.ref a, a0] h) (fun v h => exF ev cX2_next 275 ([v0], []) [v, r0] h)) := exF_cd (i := (i_cv 22 43 1 275)) rfl rfl
theorem eX2_next_275 {ev : xV} {v0 : Option Value} {x : Int32} {st : List Value} {h : xH} : exF ev cX2_next 275 ([v0], []) (.int x :: st) h = if x < 0 then exF ev cX2_next 282 ([v0], []) st h else exF ev cX2_next 278 ([v0], []) st h := exF_b (i := (i_if1 (fun x => x < 0) 282 278)) rfl rfl
theorem eX2_next_278 {ev : xV} {v0 : Option Value} {st : List Value} {h : xH} : exF ev cX2_next 278 ([v0], []) st h = exF ev cX2_next 279 ([v0], []) (.int (nI 3) :: st) h := exF_j (i := (i_const (.int (nI 3)) 279)) rfl rfl
theorem eX2_next_279 {ev : xV} {v0 : Option Value} {st : List Value} {h : xH} : exF ev cX2_next 279 ([v0], []) st h = exF ev cX2_next 283 ([v0], []) st h := exF_j (i := (i_goto 283)) rfl rfl
theorem eX2_next_282 {ev : xV} {v0 : Option Value} {st : List Value} {h : xH} : exF ev cX2_next 282 ([v0], []) st h = exF ev cX2_next 283 ([v0], []) (.int (nI 4) :: st) h := exF_j (i := (i_const (.int (nI 4)) 283)) rfl rfl
theorem eX2_next_283 {ev : xV} {v0 : Option Value} {x : Int32} {a : Nat} {st : List Value} {h : xH} : exF ev cX2_next 283 ([v0], []) (.int x :: .ref a :: st) h = xO (xpf h a 1 3 (.int x)) (fun h => exF ev cX2_next 286 ([v0], []) st h) := exF_o (i := (i_putfi 1 3 286)) rfl rfl
theorem eX2_next_286 {ev : xV} {x : Nat} {st : List Value} {h : xH} : exF ev cX2_next 286 ([some (.ref x)], []) st h = exF ev cX2_next 287 ([some (.ref x)], []) (.ref x :: st) h := exF_j (i := (i_aload 0 287)) rfl rfl
theorem eX2_next_287 {ev : xV} {v0 : Option Value} {x : Nat} {st : List Value} {h : xH} : exF ev cX2_next 287 ([v0], []) (.ref x :: st) h = exF ev cX2_next 288 ([v0], []) (.ref x :: .ref x :: st) h := exF_j (i := (i_dup 288)) rfl rfl
theorem eX2_next_288 {ev : xV} {v0 : Option Value} {a : Nat} {st : List Value} {h : xH} : exF ev cX2_next 288 ([v0], []) (.ref a :: st) h = xO (xgf h a 1 2) (fun v => exF ev cX2_next 291 ([v0], []) (v :: st) h) := exF_o (i := (i_getf 1 2 291)) rfl rfl
theorem eX2_next_291 {ev : xV} {v0 : Option Value} {st : List Value} {h : xH} : exF ev cX2_next 291 ([v0], []) st h = exF ev cX2_next 292 ([v0], []) (.int (nI 1) :: st) h := exF_j (i := (i_const (.int (nI 1)) 292)) rfl rfl
theorem eX2_next_292 {ev : xV} {v0 : Option Value} {x y : Int32} {st : List Value} {h : xH} : exF ev cX2_next 292 ([v0], []) (.int y :: .int x :: st) h = exF ev cX2_next 293 ([v0], []) (.int (x + y) :: st) h := exF_j (i := (i_ii (fun x y => x + y) 293)) rfl rfl
theorem eX2_next_293 {ev : xV} {v0 : Option Value} {x : Int32} {a : Nat} {st : List Value} {h : xH} : exF ev cX2_next 293 ([v0], []) (.int x :: .ref a :: st) h = xO (xpf h a 1 2 (.int x)) (fun h => exF ev cX2_next 296 ([v0], []) st h) := exF_o (i := (i_putfi 1 2 296)) rfl rfl
theorem eX2_next_296 {ev : xV} {v0 : Option Value} {h : xH} : exF ev cX2_next 296 ([v0], []) [] h = some (.inl none, h) := exF_r (i := (i_vret)) rfl rfl
noncomputable def cX2_at : xC := [(0, i_iload 1 1),
  (1, i_aload 0 2),
  (2, i_getf 1 1 5),
  (5, i_if2 (fun x y => y ≤ x) 17 8),
  (8, i_aload 0 9),
  (9, i_getf 1 0 12),
  (12, i_iload 1 13),
  (13, i_ai 1 14),
  (14, i_goto 18),
  (17, i_const (.int (nI 0)) 18),
  (18, i_iret)]
theorem eX2_at_0 {ev : xV} {v0 : Option Value} {x : Int32} {st : List Value} {h : xH} : exF ev cX2_at 0 ([v0, some (.int x)], []) st h = exF ev cX2_at 1 ([v0, some (.int x)], []) (.int x :: st) h := exF_j (i := (i_iload 1 1)) rfl rfl
theorem eX2_at_1 {ev : xV} {v1 : Option Value} {x : Nat} {st : List Value} {h : xH} : exF ev cX2_at 1 ([some (.ref x), v1], []) st h = exF ev cX2_at 2 ([some (.ref x), v1], []) (.ref x :: st) h := exF_j (i := (i_aload 0 2)) rfl rfl
theorem eX2_at_2 {ev : xV} {v0 v1 : Option Value} {a : Nat} {st : List Value} {h : xH} : exF ev cX2_at 2 ([v0, v1], []) (.ref a :: st) h = xO (xgf h a 1 1) (fun v => exF ev cX2_at 5 ([v0, v1], []) (v :: st) h) := exF_o (i := (i_getf 1 1 5)) rfl rfl
theorem eX2_at_5 {ev : xV} {v0 v1 : Option Value} {x y : Int32} {st : List Value} {h : xH} : exF ev cX2_at 5 ([v0, v1], []) (.int y :: .int x :: st) h = if y ≤ x then exF ev cX2_at 17 ([v0, v1], []) st h else exF ev cX2_at 8 ([v0, v1], []) st h := exF_b (i := (i_if2 (fun x y => y ≤ x) 17 8)) rfl rfl
theorem eX2_at_8 {ev : xV} {v1 : Option Value} {x : Nat} {st : List Value} {h : xH} : exF ev cX2_at 8 ([some (.ref x), v1], []) st h = exF ev cX2_at 9 ([some (.ref x), v1], []) (.ref x :: st) h := exF_j (i := (i_aload 0 9)) rfl rfl
theorem eX2_at_9 {ev : xV} {v0 v1 : Option Value} {a : Nat} {st : List Value} {h : xH} : exF ev cX2_at 9 ([v0, v1], []) (.ref a :: st) h = xO (xgf h a 1 0) (fun v => exF ev cX2_at 12 ([v0, v1], []) (v :: st) h) := exF_o (i := (i_getf 1 0 12)) rfl rfl
theorem eX2_at_12 {ev : xV} {v0 : Option Value} {x : Int32} {st : List Value} {h : xH} : exF ev cX2_at 12 ([v0, some (.int x)], []) st h = exF ev cX2_at 13 ([v0, some (.int x)], []) (.int x :: st) h := exF_j (i := (i_iload 1 13)) rfl rfl
theorem eX2_at_13 {ev : xV} {v0 v1 : Option Value} {i : Int32} {a : Nat} {st : List Value} {h : xH} : exF ev cX2_at 13 ([v0, v1], []) (.int i :: .ref a :: st) h = xO (xai h 1 a i) (fun v => exF ev cX2_at 14 ([v0, v1], []) (.int v :: st) h) := exF_o (i := (i_ai 1 14)) rfl rfl
theorem eX2_at_14 {ev : xV} {v0 v1 : Option Value} {st : List Value} {h : xH} : exF ev cX2_at 14 ([v0, v1], []) st h = exF ev cX2_at 18 ([v0, v1], []) st h := exF_j (i := (i_goto 18)) rfl rfl
theorem eX2_at_17 {ev : xV} {v0 v1 : Option Value} {st : List Value} {h : xH} : exF ev cX2_at 17 ([v0, v1], []) st h = exF ev cX2_at 18 ([v0, v1], []) (.int (nI 0) :: st) h := exF_j (i := (i_const (.int (nI 0)) 18)) rfl rfl
theorem eX2_at_18 {ev : xV} {v0 v1 : Option Value} {x : Int32} {h : xH} : exF ev cX2_at 18 ([v0, v1], []) [.int x] h = some (.inl (some (.int x)), h) := exF_r (i := (i_iret)) rfl rfl
noncomputable def cX2_isLetter : xC := [(0, i_iload 0 1),
  (1, i_const (.int (nI 97)) 3),
  (3, i_if2 (fun x y => x < y) 16 6),
  (6, i_iload 0 7),
  (7, i_const (.int (nI 122)) 9),
  (9, i_if2 (fun x y => y < x) 16 12),
  (12, i_const (.int (nI 1)) 13),
  (13, i_goto 17),
  (16, i_const (.int (nI 0)) 17),
  (17, i_zret)]
theorem eX2_isLetter_0 {ev : xV} {x : Int32} {st : List Value} {h : xH} : exF ev cX2_isLetter 0 ([some (.int x)], []) st h = exF ev cX2_isLetter 1 ([some (.int x)], []) (.int x :: st) h := exF_j (i := (i_iload 0 1)) rfl rfl
theorem eX2_isLetter_1 {ev : xV} {v0 : Option Value} {st : List Value} {h : xH} : exF ev cX2_isLetter 1 ([v0], []) st h = exF ev cX2_isLetter 3 ([v0], []) (.int (nI 97) :: st) h := exF_j (i := (i_const (.int (nI 97)) 3)) rfl rfl
theorem eX2_isLetter_3 {ev : xV} {v0 : Option Value} {x y : Int32} {st : List Value} {h : xH} : exF ev cX2_isLetter 3 ([v0], []) (.int y :: .int x :: st) h = if x < y then exF ev cX2_isLetter 16 ([v0], []) st h else exF ev cX2_isLetter 6 ([v0], []) st h := exF_b (i := (i_if2 (fun x y => x < y) 16 6)) rfl rfl
theorem eX2_isLetter_6 {ev : xV} {x : Int32} {st : List Value} {h : xH} : exF ev cX2_isLetter 6 ([some (.int x)], []) st h = exF ev cX2_isLetter 7 ([some (.int x)], []) (.int x :: st) h := exF_j (i := (i_iload 0 7)) rfl rfl
theorem eX2_isLetter_7 {ev : xV} {v0 : Option Value} {st : List Value} {h : xH} : exF ev cX2_isLetter 7 ([v0], []) st h = exF ev cX2_isLetter 9 ([v0], []) (.int (nI 122) :: st) h := exF_j (i := (i_const (.int (nI 122)) 9)) rfl rfl
theorem eX2_isLetter_9 {ev : xV} {v0 : Option Value} {x y : Int32} {st : List Value} {h : xH} : exF ev cX2_isLetter 9 ([v0], []) (.int y :: .int x :: st) h = if y < x then exF ev cX2_isLetter 16 ([v0], []) st h else exF ev cX2_isLetter 12 ([v0], []) st h := exF_b (i := (i_if2 (fun x y => y < x) 16 12)) rfl rfl
theorem eX2_isLetter_12 {ev : xV} {v0 : Option Value} {st : List Value} {h : xH} : exF ev cX2_isLetter 12 ([v0], []) st h = exF ev cX2_isLetter 13 ([v0], []) (.int (nI 1) :: st) h := exF_j (i := (i_const (.int (nI 1)) 13)) rfl rfl
theorem eX2_isLetter_13 {ev : xV} {v0 : Option Value} {st : List Value} {h : xH} : exF ev cX2_isLetter 13 ([v0], []) st h = exF ev cX2_isLetter 17 ([v0], []) st h := exF_j (i := (i_goto 17)) rfl rfl
theorem eX2_isLetter_16 {ev : xV} {v0 : Option Value} {st : List Value} {h : xH} : exF ev cX2_isLetter 16 ([v0], []) st h = exF ev cX2_isLetter 17 ([v0], []) (.int (nI 0) :: st) h := exF_j (i := (i_const (.int (nI 0)) 17)) rfl rfl
theorem eX2_isLetter_17 {ev : xV} {v0 : Option Value} {x : Int32} {h : xH} : exF ev cX2_isLetter 17 ([v0], []) [.int x] h = if x = nI 0 ∨ x = nI 1 then some (.inl (some (.int x)), h) else none := exF_z (i := (i_zret)) rfl rfl
theorem eX2_isLetter_17b0 {ev : xV} {v0 : Option Value} {h : xH} : exF ev cX2_isLetter 17 ([v0], []) [.int (nI 0)] h = some (.inl (some (.int (nI 0))), h) := exF_r (i := (i_zret)) rfl i_zret_0
theorem eX2_isLetter_17b1 {ev : xV} {v0 : Option Value} {h : xH} : exF ev cX2_isLetter 17 ([v0], []) [.int (nI 1)] h = some (.inl (some (.int (nI 1))), h) := exF_r (i := (i_zret)) rfl i_zret_1
theorem eX2_isLetter_17b {ev : xV} {v0 : Option Value} {b : Bool} {h : xH} : exF ev cX2_isLetter 17 ([v0], []) [.int (bI b)] h = some (.inl (some (.int (bI b))), h) := exF_r (i := (i_zret)) rfl (i_zret_b b)
noncomputable def cX2_isDigit : xC := [(0, i_iload 0 1),
  (1, i_const (.int (nI 48)) 3),
  (3, i_if2 (fun x y => x < y) 16 6),
  (6, i_iload 0 7),
  (7, i_const (.int (nI 57)) 9),
  (9, i_if2 (fun x y => y < x) 16 12),
  (12, i_const (.int (nI 1)) 13),
  (13, i_goto 17),
  (16, i_const (.int (nI 0)) 17),
  (17, i_zret)]
theorem eX2_isDigit_0 {ev : xV} {x : Int32} {st : List Value} {h : xH} : exF ev cX2_isDigit 0 ([some (.int x)], []) st h = exF ev cX2_isDigit 1 ([some (.int x)], []) (.int x :: st) h := exF_j (i := (i_iload 0 1)) rfl rfl
theorem eX2_isDigit_1 {ev : xV} {v0 : Option Value} {st : List Value} {h : xH} : exF ev cX2_isDigit 1 ([v0], []) st h = exF ev cX2_isDigit 3 ([v0], []) (.int (nI 48) :: st) h := exF_j (i := (i_const (.int (nI 48)) 3)) rfl rfl
theorem eX2_isDigit_3 {ev : xV} {v0 : Option Value} {x y : Int32} {st : List Value} {h : xH} : exF ev cX2_isDigit 3 ([v0], []) (.int y :: .int x :: st) h = if x < y then exF ev cX2_isDigit 16 ([v0], []) st h else exF ev cX2_isDigit 6 ([v0], []) st h := exF_b (i := (i_if2 (fun x y => x < y) 16 6)) rfl rfl
theorem eX2_isDigit_6 {ev : xV} {x : Int32} {st : List Value} {h : xH} : exF ev cX2_isDigit 6 ([some (.int x)], []) st h = exF ev cX2_isDigit 7 ([some (.int x)], []) (.int x :: st) h := exF_j (i := (i_iload 0 7)) rfl rfl
theorem eX2_isDigit_7 {ev : xV} {v0 : Option Value} {st : List Value} {h : xH} : exF ev cX2_isDigit 7 ([v0], []) st h = exF ev cX2_isDigit 9 ([v0], []) (.int (nI 57) :: st) h := exF_j (i := (i_const (.int (nI 57)) 9)) rfl rfl
theorem eX2_isDigit_9 {ev : xV} {v0 : Option Value} {x y : Int32} {st : List Value} {h : xH} : exF ev cX2_isDigit 9 ([v0], []) (.int y :: .int x :: st) h = if y < x then exF ev cX2_isDigit 16 ([v0], []) st h else exF ev cX2_isDigit 12 ([v0], []) st h := exF_b (i := (i_if2 (fun x y => y < x) 16 12)) rfl rfl
theorem eX2_isDigit_12 {ev : xV} {v0 : Option Value} {st : List Value} {h : xH} : exF ev cX2_isDigit 12 ([v0], []) st h = exF ev cX2_isDigit 13 ([v0], []) (.int (nI 1) :: st) h := exF_j (i := (i_const (.int (nI 1)) 13)) rfl rfl
theorem eX2_isDigit_13 {ev : xV} {v0 : Option Value} {st : List Value} {h : xH} : exF ev cX2_isDigit 13 ([v0], []) st h = exF ev cX2_isDigit 17 ([v0], []) st h := exF_j (i := (i_goto 17)) rfl rfl
theorem eX2_isDigit_16 {ev : xV} {v0 : Option Value} {st : List Value} {h : xH} : exF ev cX2_isDigit 16 ([v0], []) st h = exF ev cX2_isDigit 17 ([v0], []) (.int (nI 0) :: st) h := exF_j (i := (i_const (.int (nI 0)) 17)) rfl rfl
theorem eX2_isDigit_17 {ev : xV} {v0 : Option Value} {x : Int32} {h : xH} : exF ev cX2_isDigit 17 ([v0], []) [.int x] h = if x = nI 0 ∨ x = nI 1 then some (.inl (some (.int x)), h) else none := exF_z (i := (i_zret)) rfl rfl
theorem eX2_isDigit_17b0 {ev : xV} {v0 : Option Value} {h : xH} : exF ev cX2_isDigit 17 ([v0], []) [.int (nI 0)] h = some (.inl (some (.int (nI 0))), h) := exF_r (i := (i_zret)) rfl i_zret_0
theorem eX2_isDigit_17b1 {ev : xV} {v0 : Option Value} {h : xH} : exF ev cX2_isDigit 17 ([v0], []) [.int (nI 1)] h = some (.inl (some (.int (nI 1))), h) := exF_r (i := (i_zret)) rfl i_zret_1
theorem eX2_isDigit_17b {ev : xV} {v0 : Option Value} {b : Bool} {h : xH} : exF ev cX2_isDigit 17 ([v0], []) [.int (bI b)] h = some (.inl (some (.int (bI b))), h) := exF_r (i := (i_zret)) rfl (i_zret_b b)
noncomputable def cX2_house : xC := [(0, i_aload 0 1),
  (1, i_new 2 7 zX3 4),
  (4, i_dup 5),
  (5, i_ci [2] 232 0 8),
  (8, i_putfr 1 7 11),
  (11, i_aload 0 12),
  (12, i_getf 1 3 15),
  (15, i_if1 (fun x => x = 0) 103 18),
  (18, i_aload 0 19),
  (19, i_const (.ref 4) 21),
  (21, i_cv 1 200 1 24),
  (24, i_istore 1 25),
  (25, i_iload 1 26),
  (26, i_if1 (fun x => 0 ≤ x) 35 29),
  (29, i_aload 0 30),
  (30, i_const (.int (nI 1)) 31),
  (31, i_cv 1 201 1 34),
  (34, i_throw [5]),
  (35, i_iload 1 36),
  (36, i_const (.int (nI 3)) 37),
  (37, i_if2 (fun x y => ¬ x = y) 50 40),
  (40, i_aload 0 41),
  (41, i_getf 1 7 44),
  (44, i_getf 2 5 47),
  (47, i_if1 (fun x => 0 < x) 65 50),
  (50, i_iload 1 51),
  (51, i_const (.int (nI 4)) 52),
  (52, i_if2 (fun x y => ¬ x = y) 71 55),
  (55, i_aload 0 56),
  (56, i_getf 1 7 59),
  (59, i_getf 2 6 62),
  (62, i_ifnull 71 65),
  (65, i_aload 0 66),
  (66, i_const (.int (nI 3)) 67),
  (67, i_cv 1 201 1 70),
  (70, i_throw [5]),
  (71, i_aload 0 72),
  (72, i_iload 1 73),
  (73, i_cv 1 202 1 76),
  (76, i_if1 (fun x => x = 0) 85 79),
  (79, i_aload 0 80),
  (80, i_const (.int (nI 5)) 81),
  (81, i_cv 1 201 1 84),
  (84, i_throw [5]),
  (85, i_aload 0 86),
  (86, i_cvv 1 195 0 89),
  (89, i_aload 0 90),
  (90, i_iload 1 91),
  (91, i_cvv 1 203 1 94),
  (94, i_aload 0 95),
  (95, i_const (.int (nI 59)) 97),
  (97, i_cvv 1 220 1 100),
  (100, i_goto 11),
  (103, i_aload 0 104),
  (104, i_getf 1 7 107),
  (107, i_aret)]
theorem eX2_house_0 {ev : xV} {v1 : Option Value} {x : Nat} {st : List Value} {h : xH} : exF ev cX2_house 0 ([some (.ref x), v1], []) st h = exF ev cX2_house 1 ([some (.ref x), v1], []) (.ref x :: st) h := exF_j (i := (i_aload 0 1)) rfl rfl
theorem eX2_house_1 {ev : xV} {v0 v1 : Option Value} {st : List Value} {h : xH} : exF ev cX2_house 1 ([v0, v1], []) st h = exF ev cX2_house 4 ([v0, v1], []) (.ref h.2.1 :: st) (xnew h (.inr (2, zX3)) 7) := exF_j (i := (i_new 2 7 zX3 4)) rfl rfl
theorem eX2_house_4 {ev : xV} {v0 v1 : Option Value} {x : Nat} {st : List Value} {h : xH} : exF ev cX2_house 4 ([v0, v1], []) (.ref x :: st) h = exF ev cX2_house 5 ([v0, v1], []) (.ref x :: .ref x :: st) h := exF_j (i := (i_dup 5)) rfl rfl
theorem eX2_house_5 {ev : xV} {v0 v1 : Option Value} {r0 : Value} {r1 : Value} {a : Nat} {h : xH} : exF ev cX2_house 5 ([v0, v1], []) [.ref a, r0, r1] h = xO (xckc h [2] a) (fun _ => xBv (ev 232 [.ref a] h) (fun h => exF ev cX2_house 8 ([v0, v1], []) [r0, r1] h)) := exF_cdv (i := (i_ci [2] 232 0 8)) rfl rfl
theorem eX2_house_8 {ev : xV} {v0 v1 : Option Value} {x a : Nat} {st : List Value} {h : xH} : exF ev cX2_house 8 ([v0, v1], []) (.ref x :: .ref a :: st) h = xO (xpf h a 1 7 (.ref x)) (fun h => exF ev cX2_house 11 ([v0, v1], []) st h) := exF_o (i := (i_putfr 1 7 11)) rfl rfl
theorem eX2_house_8n {ev : xV} {v0 v1 : Option Value} {a : Nat} {st : List Value} {h : xH} : exF ev cX2_house 8 ([v0, v1], []) (.null :: .ref a :: st) h = xO (xpf h a 1 7 .null) (fun h => exF ev cX2_house 11 ([v0, v1], []) st h) := exF_o (i := (i_putfr 1 7 11)) rfl rfl
theorem eX2_house_11 {ev : xV} {v1 : Option Value} {x : Nat} {st : List Value} {h : xH} : exF ev cX2_house 11 ([some (.ref x), v1], []) st h = exF ev cX2_house 12 ([some (.ref x), v1], []) (.ref x :: st) h := exF_j (i := (i_aload 0 12)) rfl rfl
theorem eX2_house_12 {ev : xV} {v0 v1 : Option Value} {a : Nat} {st : List Value} {h : xH} : exF ev cX2_house 12 ([v0, v1], []) (.ref a :: st) h = xO (xgf h a 1 3) (fun v => exF ev cX2_house 15 ([v0, v1], []) (v :: st) h) := exF_o (i := (i_getf 1 3 15)) rfl rfl
theorem eX2_house_15 {ev : xV} {v0 v1 : Option Value} {x : Int32} {st : List Value} {h : xH} : exF ev cX2_house 15 ([v0, v1], []) (.int x :: st) h = if x = 0 then exF ev cX2_house 103 ([v0, v1], []) st h else exF ev cX2_house 18 ([v0, v1], []) st h := exF_b (i := (i_if1 (fun x => x = 0) 103 18)) rfl rfl
theorem eX2_house_18 {ev : xV} {v1 : Option Value} {x : Nat} {st : List Value} {h : xH} : exF ev cX2_house 18 ([some (.ref x), v1], []) st h = exF ev cX2_house 19 ([some (.ref x), v1], []) (.ref x :: st) h := exF_j (i := (i_aload 0 19)) rfl rfl
theorem eX2_house_19 {ev : xV} {v0 v1 : Option Value} {st : List Value} {h : xH} : exF ev cX2_house 19 ([v0, v1], []) st h = exF ev cX2_house 21 ([v0, v1], []) (.ref 4 :: st) h := exF_j (i := (i_const (.ref 4) 21)) rfl rfl
theorem eX2_house_21 {ev : xV} {v0 v1 : Option Value} {a0 : Value} {a : Nat} {h : xH} : exF ev cX2_house 21 ([v0, v1], []) [a0, .ref a] h = xO (xck h a 1) (fun _ => xB (ev 200 [.ref a, a0] h) (fun v h => exF ev cX2_house 24 ([v0, v1], []) [v] h)) := exF_cd (i := (i_cv 1 200 1 24)) rfl rfl
theorem eX2_house_24 {ev : xV} {v0 v1 : Option Value} {x : Int32} {st : List Value} {h : xH} : exF ev cX2_house 24 ([v0, v1], []) (.int x :: st) h = exF ev cX2_house 25 ([v0, some (.int x)], []) st h := exF_j (i := (i_istore 1 25)) rfl rfl
theorem eX2_house_25 {ev : xV} {v0 : Option Value} {x : Int32} {st : List Value} {h : xH} : exF ev cX2_house 25 ([v0, some (.int x)], []) st h = exF ev cX2_house 26 ([v0, some (.int x)], []) (.int x :: st) h := exF_j (i := (i_iload 1 26)) rfl rfl
theorem eX2_house_26 {ev : xV} {v0 v1 : Option Value} {x : Int32} {st : List Value} {h : xH} : exF ev cX2_house 26 ([v0, v1], []) (.int x :: st) h = if 0 ≤ x then exF ev cX2_house 35 ([v0, v1], []) st h else exF ev cX2_house 29 ([v0, v1], []) st h := exF_b (i := (i_if1 (fun x => 0 ≤ x) 35 29)) rfl rfl
theorem eX2_house_29 {ev : xV} {v1 : Option Value} {x : Nat} {st : List Value} {h : xH} : exF ev cX2_house 29 ([some (.ref x), v1], []) st h = exF ev cX2_house 30 ([some (.ref x), v1], []) (.ref x :: st) h := exF_j (i := (i_aload 0 30)) rfl rfl
theorem eX2_house_30 {ev : xV} {v0 v1 : Option Value} {st : List Value} {h : xH} : exF ev cX2_house 30 ([v0, v1], []) st h = exF ev cX2_house 31 ([v0, v1], []) (.int (nI 1) :: st) h := exF_j (i := (i_const (.int (nI 1)) 31)) rfl rfl
theorem eX2_house_31 {ev : xV} {v0 v1 : Option Value} {a0 : Value} {a : Nat} {h : xH} : exF ev cX2_house 31 ([v0, v1], []) [a0, .ref a] h = xO (xck h a 1) (fun _ => xB (ev 201 [.ref a, a0] h) (fun v h => exF ev cX2_house 34 ([v0, v1], []) [v] h)) := exF_cd (i := (i_cv 1 201 1 34)) rfl rfl
theorem eX2_house_34 {ev : xV} {v0 v1 : Option Value} {a : Nat} {st : List Value} {h : xH} : exF ev cX2_house 34 ([v0, v1], []) (.ref a :: st) h = xO (xckc h [5] a) (fun _ => some (.inr a, h)) := exF_t (i := (i_throw [5])) rfl rfl
theorem eX2_house_35 {ev : xV} {v0 : Option Value} {x : Int32} {st : List Value} {h : xH} : exF ev cX2_house 35 ([v0, some (.int x)], []) st h = exF ev cX2_house 36 ([v0, some (.int x)], []) (.int x :: st) h := exF_j (i := (i_iload 1 36)) rfl rfl
theorem eX2_house_36 {ev : xV} {v0 v1 : Option Value} {st : List Value} {h : xH} : exF ev cX2_house 36 ([v0, v1], []) st h = exF ev cX2_house 37 ([v0, v1], []) (.int (nI 3) :: st) h := exF_j (i := (i_const (.int (nI 3)) 37)) rfl rfl
theorem eX2_house_37 {ev : xV} {v0 v1 : Option Value} {x y : Int32} {st : List Value} {h : xH} : exF ev cX2_house 37 ([v0, v1], []) (.int y :: .int x :: st) h = if ¬ x = y then exF ev cX2_house 50 ([v0, v1], []) st h else exF ev cX2_house 40 ([v0, v1], []) st h := exF_b (i := (i_if2 (fun x y => ¬ x = y) 50 40)) rfl rfl
theorem eX2_house_40 {ev : xV} {v1 : Option Value} {x : Nat} {st : List Value} {h : xH} : exF ev cX2_house 40 ([some (.ref x), v1], []) st h = exF ev cX2_house 41 ([some (.ref x), v1], []) (.ref x :: st) h := exF_j (i := (i_aload 0 41)) rfl rfl
theorem eX2_house_41 {ev : xV} {v0 v1 : Option Value} {a : Nat} {st : List Value} {h : xH} : exF ev cX2_house 41 ([v0, v1], []) (.ref a :: st) h = xO (xgf h a 1 7) (fun v => exF ev cX2_house 44 ([v0, v1], []) (v :: st) h) := exF_o (i := (i_getf 1 7 44)) rfl rfl
theorem eX2_house_44 {ev : xV} {v0 v1 : Option Value} {a : Nat} {st : List Value} {h : xH} : exF ev cX2_house 44 ([v0, v1], []) (.ref a :: st) h = xO (xgf h a 2 5) (fun v => exF ev cX2_house 47 ([v0, v1], []) (v :: st) h) := exF_o (i := (i_getf 2 5 47)) rfl rfl
theorem eX2_house_47 {ev : xV} {v0 v1 : Option Value} {x : Int32} {st : List Value} {h : xH} : exF ev cX2_house 47 ([v0, v1], []) (.int x :: st) h = if 0 < x then exF ev cX2_house 65 ([v0, v1], []) st h else exF ev cX2_house 50 ([v0, v1], []) st h := exF_b (i := (i_if1 (fun x => 0 < x) 65 50)) rfl rfl
theorem eX2_house_50 {ev : xV} {v0 : Option Value} {x : Int32} {st : List Value} {h : xH} : exF ev cX2_house 50 ([v0, some (.int x)], []) st h = exF ev cX2_house 51 ([v0, some (.int x)], []) (.int x :: st) h := exF_j (i := (i_iload 1 51)) rfl rfl
theorem eX2_house_51 {ev : xV} {v0 v1 : Option Value} {st : List Value} {h : xH} : exF ev cX2_house 51 ([v0, v1], []) st h = exF ev cX2_house 52 ([v0, v1], []) (.int (nI 4) :: st) h := exF_j (i := (i_const (.int (nI 4)) 52)) rfl rfl
theorem eX2_house_52 {ev : xV} {v0 v1 : Option Value} {x y : Int32} {st : List Value} {h : xH} : exF ev cX2_house 52 ([v0, v1], []) (.int y :: .int x :: st) h = if ¬ x = y then exF ev cX2_house 71 ([v0, v1], []) st h else exF ev cX2_house 55 ([v0, v1], []) st h := exF_b (i := (i_if2 (fun x y => ¬ x = y) 71 55)) rfl rfl
theorem eX2_house_55 {ev : xV} {v1 : Option Value} {x : Nat} {st : List Value} {h : xH} : exF ev cX2_house 55 ([some (.ref x), v1], []) st h = exF ev cX2_house 56 ([some (.ref x), v1], []) (.ref x :: st) h := exF_j (i := (i_aload 0 56)) rfl rfl
theorem eX2_house_56 {ev : xV} {v0 v1 : Option Value} {a : Nat} {st : List Value} {h : xH} : exF ev cX2_house 56 ([v0, v1], []) (.ref a :: st) h = xO (xgf h a 1 7) (fun v => exF ev cX2_house 59 ([v0, v1], []) (v :: st) h) := exF_o (i := (i_getf 1 7 59)) rfl rfl
theorem eX2_house_59 {ev : xV} {v0 v1 : Option Value} {a : Nat} {st : List Value} {h : xH} : exF ev cX2_house 59 ([v0, v1], []) (.ref a :: st) h = xO (xgf h a 2 6) (fun v => exF ev cX2_house 62 ([v0, v1], []) (v :: st) h) := exF_o (i := (i_getf 2 6 62)) rfl rfl
theorem eX2_house_62n {ev : xV} {v0 v1 : Option Value} {st : List Value} {h : xH} : exF ev cX2_house 62 ([v0, v1], []) (.null :: st) h = exF ev cX2_house 71 ([v0, v1], []) st h := exF_j (i := (i_ifnull 71 65)) rfl rfl
theorem eX2_house_62 {ev : xV} {v0 v1 : Option Value} {x : Nat} (hx : 64 ≤ x) {st : List Value} {h : xH} : exF ev cX2_house 62 ([v0, v1], []) (.ref x :: st) h = exF ev cX2_house 65 ([v0, v1], []) st h := exF_j (i := (i_ifnull 71 65)) rfl (if_neg (Nat.not_lt.mpr hx))
theorem eX2_house_65 {ev : xV} {v1 : Option Value} {x : Nat} {st : List Value} {h : xH} : exF ev cX2_house 65 ([some (.ref x), v1], []) st h = exF ev cX2_house 66 ([some (.ref x), v1], []) (.ref x :: st) h := exF_j (i := (i_aload 0 66)) rfl rfl
theorem eX2_house_66 {ev : xV} {v0 v1 : Option Value} {st : List Value} {h : xH} : exF ev cX2_house 66 ([v0, v1], []) st h = exF ev cX2_house 67 ([v0, v1], []) (.int (nI 3) :: st) h := exF_j (i := (i_const (.int (nI 3)) 67)) rfl rfl
theorem eX2_house_67 {ev : xV} {v0 v1 : Option Value} {a0 : Value} {a : Nat} {h : xH} : exF ev cX2_house 67 ([v0, v1], []) [a0, .ref a] h = xO (xck h a 1) (fun _ => xB (ev 201 [.ref a, a0] h) (fun v h => exF ev cX2_house 70 ([v0, v1], []) [v] h)) := exF_cd (i := (i_cv 1 201 1 70)) rfl rfl
theorem eX2_house_70 {ev : xV} {v0 v1 : Option Value} {a : Nat} {st : List Value} {h : xH} : exF ev cX2_house 70 ([v0, v1], []) (.ref a :: st) h = xO (xckc h [5] a) (fun _ => some (.inr a, h)) := exF_t (i := (i_throw [5])) rfl rfl
theorem eX2_house_71 {ev : xV} {v1 : Option Value} {x : Nat} {st : List Value} {h : xH} : exF ev cX2_house 71 ([some (.ref x), v1], []) st h = exF ev cX2_house 72 ([some (.ref x), v1], []) (.ref x :: st) h := exF_j (i := (i_aload 0 72)) rfl rfl
theorem eX2_house_72 {ev : xV} {v0 : Option Value} {x : Int32} {st : List Value} {h : xH} : exF ev cX2_house 72 ([v0, some (.int x)], []) st h = exF ev cX2_house 73 ([v0, some (.int x)], []) (.int x :: st) h := exF_j (i := (i_iload 1 73)) rfl rfl
theorem eX2_house_73 {ev : xV} {v0 v1 : Option Value} {a0 : Value} {a : Nat} {h : xH} : exF ev cX2_house 73 ([v0, v1], []) [a0, .ref a] h = xO (xck h a 1) (fun _ => xB (ev 202 [.ref a, a0] h) (fun v h => exF ev cX2_house 76 ([v0, v1], []) [v] h)) := exF_cd (i := (i_cv 1 202 1 76)) rfl rfl
theorem eX2_house_76 {ev : xV} {v0 v1 : Option Value} {x : Int32} {st : List Value} {h : xH} : exF ev cX2_house 76 ([v0, v1], []) (.int x :: st) h = if x = 0 then exF ev cX2_house 85 ([v0, v1], []) st h else exF ev cX2_house 79 ([v0, v1], []) st h := exF_b (i := (i_if1 (fun x => x = 0) 85 79)) rfl rfl
theorem eX2_house_79 {ev : xV} {v1 : Option Value} {x : Nat} {st : List Value} {h : xH} : exF ev cX2_house 79 ([some (.ref x), v1], []) st h = exF ev cX2_house 80 ([some (.ref x), v1], []) (.ref x :: st) h := exF_j (i := (i_aload 0 80)) rfl rfl
theorem eX2_house_80 {ev : xV} {v0 v1 : Option Value} {st : List Value} {h : xH} : exF ev cX2_house 80 ([v0, v1], []) st h = exF ev cX2_house 81 ([v0, v1], []) (.int (nI 5) :: st) h := exF_j (i := (i_const (.int (nI 5)) 81)) rfl rfl
theorem eX2_house_81 {ev : xV} {v0 v1 : Option Value} {a0 : Value} {a : Nat} {h : xH} : exF ev cX2_house 81 ([v0, v1], []) [a0, .ref a] h = xO (xck h a 1) (fun _ => xB (ev 201 [.ref a, a0] h) (fun v h => exF ev cX2_house 84 ([v0, v1], []) [v] h)) := exF_cd (i := (i_cv 1 201 1 84)) rfl rfl
theorem eX2_house_84 {ev : xV} {v0 v1 : Option Value} {a : Nat} {st : List Value} {h : xH} : exF ev cX2_house 84 ([v0, v1], []) (.ref a :: st) h = xO (xckc h [5] a) (fun _ => some (.inr a, h)) := exF_t (i := (i_throw [5])) rfl rfl
theorem eX2_house_85 {ev : xV} {v1 : Option Value} {x : Nat} {st : List Value} {h : xH} : exF ev cX2_house 85 ([some (.ref x), v1], []) st h = exF ev cX2_house 86 ([some (.ref x), v1], []) (.ref x :: st) h := exF_j (i := (i_aload 0 86)) rfl rfl
theorem eX2_house_86 {ev : xV} {v0 v1 : Option Value} {a : Nat} {h : xH} : exF ev cX2_house 86 ([v0, v1], []) [.ref a] h = xO (xck h a 1) (fun _ => xBv (ev 195 [.ref a] h) (fun h => exF ev cX2_house 89 ([v0, v1], []) [] h)) := exF_cdv (i := (i_cvv 1 195 0 89)) rfl rfl
theorem eX2_house_89 {ev : xV} {v1 : Option Value} {x : Nat} {st : List Value} {h : xH} : exF ev cX2_house 89 ([some (.ref x), v1], []) st h = exF ev cX2_house 90 ([some (.ref x), v1], []) (.ref x :: st) h := exF_j (i := (i_aload 0 90)) rfl rfl
theorem eX2_house_90 {ev : xV} {v0 : Option Value} {x : Int32} {st : List Value} {h : xH} : exF ev cX2_house 90 ([v0, some (.int x)], []) st h = exF ev cX2_house 91 ([v0, some (.int x)], []) (.int x :: st) h := exF_j (i := (i_iload 1 91)) rfl rfl
theorem eX2_house_91 {ev : xV} {v0 v1 : Option Value} {a0 : Value} {a : Nat} {h : xH} : exF ev cX2_house 91 ([v0, v1], []) [a0, .ref a] h = xO (xck h a 1) (fun _ => xBv (ev 203 [.ref a, a0] h) (fun h => exF ev cX2_house 94 ([v0, v1], []) [] h)) := exF_cdv (i := (i_cvv 1 203 1 94)) rfl rfl
theorem eX2_house_94 {ev : xV} {v1 : Option Value} {x : Nat} {st : List Value} {h : xH} : exF ev cX2_house 94 ([some (.ref x), v1], []) st h = exF ev cX2_house 95 ([some (.ref x), v1], []) (.ref x :: st) h := exF_j (i := (i_aload 0 95)) rfl rfl
theorem eX2_house_95 {ev : xV} {v0 v1 : Option Value} {st : List Value} {h : xH} : exF ev cX2_house 95 ([v0, v1], []) st h = exF ev cX2_house 97 ([v0, v1], []) (.int (nI 59) :: st) h := exF_j (i := (i_const (.int (nI 59)) 97)) rfl rfl
theorem eX2_house_97 {ev : xV} {v0 v1 : Option Value} {a0 : Value} {a : Nat} {h : xH} : exF ev cX2_house 97 ([v0, v1], []) [a0, .ref a] h = xO (xck h a 1) (fun _ => xBv (ev 220 [.ref a, a0] h) (fun h => exF ev cX2_house 100 ([v0, v1], []) [] h)) := exF_cdv (i := (i_cvv 1 220 1 100)) rfl rfl
theorem eX2_house_100 {ev : xV} {v0 v1 : Option Value} {st : List Value} {h : xH} : exF ev cX2_house 100 ([v0, v1], []) st h = exF ev cX2_house 11 ([v0, v1], []) st h := exF_j (i := (i_goto 11)) rfl rfl
theorem eX2_house_103 {ev : xV} {v1 : Option Value} {x : Nat} {st : List Value} {h : xH} : exF ev cX2_house 103 ([some (.ref x), v1], []) st h = exF ev cX2_house 104 ([some (.ref x), v1], []) (.ref x :: st) h := exF_j (i := (i_aload 0 104)) rfl rfl
theorem eX2_house_104 {ev : xV} {v0 v1 : Option Value} {a : Nat} {st : List Value} {h : xH} : exF ev cX2_house 104 ([v0, v1], []) (.ref a :: st) h = xO (xgf h a 1 7) (fun v => exF ev cX2_house 107 ([v0, v1], []) (v :: st) h) := exF_o (i := (i_getf 1 7 107)) rfl rfl
theorem eX2_house_107 {ev : xV} {v0 v1 : Option Value} {x : Nat} {h : xH} : exF ev cX2_house 107 ([v0, v1], []) [.ref x] h = some (.inl (some (.ref x)), h) := exF_r (i := (i_aret)) rfl rfl
theorem eX2_house_107n {ev : xV} {v0 v1 : Option Value} {h : xH} : exF ev cX2_house 107 ([v0, v1], []) [.null] h = some (.inl (some .null), h) := exF_r (i := (i_aret)) rfl rfl
noncomputable def cX2_which : xC := [(0, i_const (.int (nI 0)) 1),
  (1, i_istore 2 2),
  (2, i_const (.int (nI 0)) 3),
  (3, i_istore 3 4),
  (4, i_iload 3 5),
  (5, i_aload 1 6),
  (6, i_cv 22 46 0 9),
  (9, i_if2 (fun x y => y ≤ x) 123 12),
  (12, i_aload 0 13),
  (13, i_getf 1 3 16),
  (16, i_const (.int (nI 1)) 17),
  (17, i_if2 (fun x y => ¬ x = y) 123 20),
  (20, i_aload 1 21),
  (21, i_const (.int (nI 32)) 23),
  (23, i_iload 3 24),
  (24, i_cv 22 44 2 27),
  (27, i_iload 3 28),
  (28, i_ii (fun x y => x - y) 29),
  (29, i_istore 4 31),
  (31, i_aload 0 32),
  (32, i_getf 1 2 35),
  (35, i_aload 0 36),
  (36, i_getf 1 4 39),
  (39, i_ii (fun x y => x - y) 40),
  (40, i_iload 4 42),
  (42, i_if2 (fun x y => ¬ x = y) 49 45),
  (45, i_const (.int (nI 1)) 46),
  (46, i_goto 50),
  (49, i_const (.int (nI 0)) 50),
  (50, i_istore 5 52),
  (52, i_const (.int (nI 0)) 53),
  (53, i_istore 6 55),
  (55, i_iload 5 57),
  (57, i_if1 (fun x => x = 0) 103 60),
  (60, i_iload 6 62),
  (62, i_iload 4 64),
  (64, i_if2 (fun x y => y ≤ x) 103 67),
  (67, i_aload 0 68),
  (68, i_getf 1 0 71),
  (71, i_aload 0 72),
  (72, i_getf 1 4 75),
  (75, i_iload 6 77),
  (77, i_ii (fun x y => x + y) 78),
  (78, i_ai 1 79),
  (79, i_aload 1 80),
  (80, i_iload 3 81),
  (81, i_iload 6 83),
  (83, i_ii (fun x y => x + y) 84),
  (84, i_cv 22 49 1 87),
  (87, i_if2 (fun x y => ¬ x = y) 94 90),
  (90, i_const (.int (nI 1)) 91),
  (91, i_goto 95),
  (94, i_const (.int (nI 0)) 95),
  (95, i_istore 5 97),
  (97, i_iinc 6 (nI 1) 100),
  (100, i_goto 55),
  (103, i_iload 5 105),
  (105, i_if1 (fun x => x = 0) 110 108),
  (108, i_iload 2 109),
  (109, i_iret),
  (110, i_iload 3 111),
  (111, i_iload 4 113),
  (113, i_const (.int (nI 1)) 114),
  (114, i_ii (fun x y => x + y) 115),
  (115, i_ii (fun x y => x + y) 116),
  (116, i_istore 3 117),
  (117, i_iinc 2 (nI 1) 120),
  (120, i_goto 4),
  (123, i_const (.int (-1)) 124),
  (124, i_iret)]
theorem eX2_which_0 {ev : xV} {v0 v1 v2 v3 v4 v5 v6 : Option Value} {st : List Value} {h : xH} : exF ev cX2_which 0 ([v0, v1, v2, v3, v4, v5, v6], []) st h = exF ev cX2_which 1 ([v0, v1, v2, v3, v4, v5, v6], []) (.int (nI 0) :: st) h := exF_j (i := (i_const (.int (nI 0)) 1)) rfl rfl
theorem eX2_which_1 {ev : xV} {v0 v1 v2 v3 v4 v5 v6 : Option Value} {x : Int32} {st : List Value} {h : xH} : exF ev cX2_which 1 ([v0, v1, v2, v3, v4, v5, v6], []) (.int x :: st) h = exF ev cX2_which 2 ([v0, v1, some (.int x), v3, v4, v5, v6], []) st h := exF_j (i := (i_istore 2 2)) rfl rfl
theorem eX2_which_2 {ev : xV} {v0 v1 v2 v3 v4 v5 v6 : Option Value} {st : List Value} {h : xH} : exF ev cX2_which 2 ([v0, v1, v2, v3, v4, v5, v6], []) st h = exF ev cX2_which 3 ([v0, v1, v2, v3, v4, v5, v6], []) (.int (nI 0) :: st) h := exF_j (i := (i_const (.int (nI 0)) 3)) rfl rfl
theorem eX2_which_3 {ev : xV} {v0 v1 v2 v3 v4 v5 v6 : Option Value} {x : Int32} {st : List Value} {h : xH} : exF ev cX2_which 3 ([v0, v1, v2, v3, v4, v5, v6], []) (.int x :: st) h = exF ev cX2_which 4 ([v0, v1, v2, some (.int x), v4, v5, v6], []) st h := exF_j (i := (i_istore 3 4)) rfl rfl
theorem eX2_which_4 {ev : xV} {v0 v1 v2 v4 v5 v6 : Option Value} {x : Int32} {st : List Value} {h : xH} : exF ev cX2_which 4 ([v0, v1, v2, some (.int x), v4, v5, v6], []) st h = exF ev cX2_which 5 ([v0, v1, v2, some (.int x), v4, v5, v6], []) (.int x :: st) h := exF_j (i := (i_iload 3 5)) rfl rfl
theorem eX2_which_5 {ev : xV} {v0 v2 v3 v4 v5 v6 : Option Value} {x : Nat} {st : List Value} {h : xH} : exF ev cX2_which 5 ([v0, some (.ref x), v2, v3, v4, v5, v6], []) st h = exF ev cX2_which 6 ([v0, some (.ref x), v2, v3, v4, v5, v6], []) (.ref x :: st) h := exF_j (i := (i_aload 1 6)) rfl rfl
theorem eX2_which_5n {ev : xV} {v0 v2 v3 v4 v5 v6 : Option Value} {st : List Value} {h : xH} : exF ev cX2_which 5 ([v0, some .null, v2, v3, v4, v5, v6], []) st h = exF ev cX2_which 6 ([v0, some .null, v2, v3, v4, v5, v6], []) (.null :: st) h := exF_j (i := (i_aload 1 6)) rfl rfl
theorem eX2_which_6 {ev : xV} {v0 v1 v2 v3 v4 v5 v6 : Option Value} {r0 : Value} {a : Nat} {h : xH} : exF ev cX2_which 6 ([v0, v1, v2, v3, v4, v5, v6], []) [.ref a, r0] h = xO (xck h a 22) (fun _ => xB (ev 46 [.ref a] h) (fun v h => exF ev cX2_which 9 ([v0, v1, v2, v3, v4, v5, v6], []) [v, r0] h)) := exF_cd (i := (i_cv 22 46 0 9)) rfl rfl
theorem eX2_which_9 {ev : xV} {v0 v1 v2 v3 v4 v5 v6 : Option Value} {x y : Int32} {st : List Value} {h : xH} : exF ev cX2_which 9 ([v0, v1, v2, v3, v4, v5, v6], []) (.int y :: .int x :: st) h = if y ≤ x then exF ev cX2_which 123 ([v0, v1, v2, v3, v4, v5, v6], []) st h else exF ev cX2_which 12 ([v0, v1, v2, v3, v4, v5, v6], []) st h := exF_b (i := (i_if2 (fun x y => y ≤ x) 123 12)) rfl rfl
theorem eX2_which_12 {ev : xV} {v1 v2 v3 v4 v5 v6 : Option Value} {x : Nat} {st : List Value} {h : xH} : exF ev cX2_which 12 ([some (.ref x), v1, v2, v3, v4, v5, v6], []) st h = exF ev cX2_which 13 ([some (.ref x), v1, v2, v3, v4, v5, v6], []) (.ref x :: st) h := exF_j (i := (i_aload 0 13)) rfl rfl
theorem eX2_which_13 {ev : xV} {v0 v1 v2 v3 v4 v5 v6 : Option Value} {a : Nat} {st : List Value} {h : xH} : exF ev cX2_which 13 ([v0, v1, v2, v3, v4, v5, v6], []) (.ref a :: st) h = xO (xgf h a 1 3) (fun v => exF ev cX2_which 16 ([v0, v1, v2, v3, v4, v5, v6], []) (v :: st) h) := exF_o (i := (i_getf 1 3 16)) rfl rfl
theorem eX2_which_16 {ev : xV} {v0 v1 v2 v3 v4 v5 v6 : Option Value} {st : List Value} {h : xH} : exF ev cX2_which 16 ([v0, v1, v2, v3, v4, v5, v6], []) st h = exF ev cX2_which 17 ([v0, v1, v2, v3, v4, v5, v6], []) (.int (nI 1) :: st) h := exF_j (i := (i_const (.int (nI 1)) 17)) rfl rfl
theorem eX2_which_17 {ev : xV} {v0 v1 v2 v3 v4 v5 v6 : Option Value} {x y : Int32} {st : List Value} {h : xH} : exF ev cX2_which 17 ([v0, v1, v2, v3, v4, v5, v6], []) (.int y :: .int x :: st) h = if ¬ x = y then exF ev cX2_which 123 ([v0, v1, v2, v3, v4, v5, v6], []) st h else exF ev cX2_which 20 ([v0, v1, v2, v3, v4, v5, v6], []) st h := exF_b (i := (i_if2 (fun x y => ¬ x = y) 123 20)) rfl rfl
theorem eX2_which_20 {ev : xV} {v0 v2 v3 v4 v5 v6 : Option Value} {x : Nat} {st : List Value} {h : xH} : exF ev cX2_which 20 ([v0, some (.ref x), v2, v3, v4, v5, v6], []) st h = exF ev cX2_which 21 ([v0, some (.ref x), v2, v3, v4, v5, v6], []) (.ref x :: st) h := exF_j (i := (i_aload 1 21)) rfl rfl
theorem eX2_which_20n {ev : xV} {v0 v2 v3 v4 v5 v6 : Option Value} {st : List Value} {h : xH} : exF ev cX2_which 20 ([v0, some .null, v2, v3, v4, v5, v6], []) st h = exF ev cX2_which 21 ([v0, some .null, v2, v3, v4, v5, v6], []) (.null :: st) h := exF_j (i := (i_aload 1 21)) rfl rfl
theorem eX2_which_21 {ev : xV} {v0 v1 v2 v3 v4 v5 v6 : Option Value} {st : List Value} {h : xH} : exF ev cX2_which 21 ([v0, v1, v2, v3, v4, v5, v6], []) st h = exF ev cX2_which 23 ([v0, v1, v2, v3, v4, v5, v6], []) (.int (nI 32) :: st) h := exF_j (i := (i_const (.int (nI 32)) 23)) rfl rfl
theorem eX2_which_23 {ev : xV} {v0 v1 v2 v4 v5 v6 : Option Value} {x : Int32} {st : List Value} {h : xH} : exF ev cX2_which 23 ([v0, v1, v2, some (.int x), v4, v5, v6], []) st h = exF ev cX2_which 24 ([v0, v1, v2, some (.int x), v4, v5, v6], []) (.int x :: st) h := exF_j (i := (i_iload 3 24)) rfl rfl
theorem eX2_which_24 {ev : xV} {v0 v1 v2 v3 v4 v5 v6 : Option Value} {a0 : Value} {a1 : Value} {a : Nat} {h : xH} : exF ev cX2_which 24 ([v0, v1, v2, v3, v4, v5, v6], []) [a1, a0, .ref a] h = xO (xck h a 22) (fun _ => xB (ev 44 [.ref a, a0, a1] h) (fun v h => exF ev cX2_which 27 ([v0, v1, v2, v3, v4, v5, v6], []) [v] h)) := exF_cd (i := (i_cv 22 44 2 27)) rfl rfl
theorem eX2_which_27 {ev : xV} {v0 v1 v2 v4 v5 v6 : Option Value} {x : Int32} {st : List Value} {h : xH} : exF ev cX2_which 27 ([v0, v1, v2, some (.int x), v4, v5, v6], []) st h = exF ev cX2_which 28 ([v0, v1, v2, some (.int x), v4, v5, v6], []) (.int x :: st) h := exF_j (i := (i_iload 3 28)) rfl rfl
theorem eX2_which_28 {ev : xV} {v0 v1 v2 v3 v4 v5 v6 : Option Value} {x y : Int32} {st : List Value} {h : xH} : exF ev cX2_which 28 ([v0, v1, v2, v3, v4, v5, v6], []) (.int y :: .int x :: st) h = exF ev cX2_which 29 ([v0, v1, v2, v3, v4, v5, v6], []) (.int (x - y) :: st) h := exF_j (i := (i_ii (fun x y => x - y) 29)) rfl rfl
theorem eX2_which_29 {ev : xV} {v0 v1 v2 v3 v4 v5 v6 : Option Value} {x : Int32} {st : List Value} {h : xH} : exF ev cX2_which 29 ([v0, v1, v2, v3, v4, v5, v6], []) (.int x :: st) h = exF ev cX2_which 31 ([v0, v1, v2, v3, some (.int x), v5, v6], []) st h := exF_j (i := (i_istore 4 31)) rfl rfl
theorem eX2_which_31 {ev : xV} {v1 v2 v3 v4 v5 v6 : Option Value} {x : Nat} {st : List Value} {h : xH} : exF ev cX2_which 31 ([some (.ref x), v1, v2, v3, v4, v5, v6], []) st h = exF ev cX2_which 32 ([some (.ref x), v1, v2, v3, v4, v5, v6], []) (.ref x :: st) h := exF_j (i := (i_aload 0 32)) rfl rfl
theorem eX2_which_32 {ev : xV} {v0 v1 v2 v3 v4 v5 v6 : Option Value} {a : Nat} {st : List Value} {h : xH} : exF ev cX2_which 32 ([v0, v1, v2, v3, v4, v5, v6], []) (.ref a :: st) h = xO (xgf h a 1 2) (fun v => exF ev cX2_which 35 ([v0, v1, v2, v3, v4, v5, v6], []) (v :: st) h) := exF_o (i := (i_getf 1 2 35)) rfl rfl
theorem eX2_which_35 {ev : xV} {v1 v2 v3 v4 v5 v6 : Option Value} {x : Nat} {st : List Value} {h : xH} : exF ev cX2_which 35 ([some (.ref x), v1, v2, v3, v4, v5, v6], []) st h = exF ev cX2_which 36 ([some (.ref x), v1, v2, v3, v4, v5, v6], []) (.ref x :: st) h := exF_j (i := (i_aload 0 36)) rfl rfl
theorem eX2_which_36 {ev : xV} {v0 v1 v2 v3 v4 v5 v6 : Option Value} {a : Nat} {st : List Value} {h : xH} : exF ev cX2_which 36 ([v0, v1, v2, v3, v4, v5, v6], []) (.ref a :: st) h = xO (xgf h a 1 4) (fun v => exF ev cX2_which 39 ([v0, v1, v2, v3, v4, v5, v6], []) (v :: st) h) := exF_o (i := (i_getf 1 4 39)) rfl rfl
theorem eX2_which_39 {ev : xV} {v0 v1 v2 v3 v4 v5 v6 : Option Value} {x y : Int32} {st : List Value} {h : xH} : exF ev cX2_which 39 ([v0, v1, v2, v3, v4, v5, v6], []) (.int y :: .int x :: st) h = exF ev cX2_which 40 ([v0, v1, v2, v3, v4, v5, v6], []) (.int (x - y) :: st) h := exF_j (i := (i_ii (fun x y => x - y) 40)) rfl rfl
theorem eX2_which_40 {ev : xV} {v0 v1 v2 v3 v5 v6 : Option Value} {x : Int32} {st : List Value} {h : xH} : exF ev cX2_which 40 ([v0, v1, v2, v3, some (.int x), v5, v6], []) st h = exF ev cX2_which 42 ([v0, v1, v2, v3, some (.int x), v5, v6], []) (.int x :: st) h := exF_j (i := (i_iload 4 42)) rfl rfl
theorem eX2_which_42 {ev : xV} {v0 v1 v2 v3 v4 v5 v6 : Option Value} {x y : Int32} {st : List Value} {h : xH} : exF ev cX2_which 42 ([v0, v1, v2, v3, v4, v5, v6], []) (.int y :: .int x :: st) h = if ¬ x = y then exF ev cX2_which 49 ([v0, v1, v2, v3, v4, v5, v6], []) st h else exF ev cX2_which 45 ([v0, v1, v2, v3, v4, v5, v6], []) st h := exF_b (i := (i_if2 (fun x y => ¬ x = y) 49 45)) rfl rfl
theorem eX2_which_45 {ev : xV} {v0 v1 v2 v3 v4 v5 v6 : Option Value} {st : List Value} {h : xH} : exF ev cX2_which 45 ([v0, v1, v2, v3, v4, v5, v6], []) st h = exF ev cX2_which 46 ([v0, v1, v2, v3, v4, v5, v6], []) (.int (nI 1) :: st) h := exF_j (i := (i_const (.int (nI 1)) 46)) rfl rfl
theorem eX2_which_46 {ev : xV} {v0 v1 v2 v3 v4 v5 v6 : Option Value} {st : List Value} {h : xH} : exF ev cX2_which 46 ([v0, v1, v2, v3, v4, v5, v6], []) st h = exF ev cX2_which 50 ([v0, v1, v2, v3, v4, v5, v6], []) st h := exF_j (i := (i_goto 50)) rfl rfl
theorem eX2_which_49 {ev : xV} {v0 v1 v2 v3 v4 v5 v6 : Option Value} {st : List Value} {h : xH} : exF ev cX2_which 49 ([v0, v1, v2, v3, v4, v5, v6], []) st h = exF ev cX2_which 50 ([v0, v1, v2, v3, v4, v5, v6], []) (.int (nI 0) :: st) h := exF_j (i := (i_const (.int (nI 0)) 50)) rfl rfl
theorem eX2_which_50 {ev : xV} {v0 v1 v2 v3 v4 v5 v6 : Option Value} {x : Int32} {st : List Value} {h : xH} : exF ev cX2_which 50 ([v0, v1, v2, v3, v4, v5, v6], []) (.int x :: st) h = exF ev cX2_which 52 ([v0, v1, v2, v3, v4, some (.int x), v6], []) st h := exF_j (i := (i_istore 5 52)) rfl rfl
theorem eX2_which_52 {ev : xV} {v0 v1 v2 v3 v4 v5 v6 : Option Value} {st : List Value} {h : xH} : exF ev cX2_which 52 ([v0, v1, v2, v3, v4, v5, v6], []) st h = exF ev cX2_which 53 ([v0, v1, v2, v3, v4, v5, v6], []) (.int (nI 0) :: st) h := exF_j (i := (i_const (.int (nI 0)) 53)) rfl rfl
theorem eX2_which_53 {ev : xV} {v0 v1 v2 v3 v4 v5 v6 : Option Value} {x : Int32} {st : List Value} {h : xH} : exF ev cX2_which 53 ([v0, v1, v2, v3, v4, v5, v6], []) (.int x :: st) h = exF ev cX2_which 55 ([v0, v1, v2, v3, v4, v5, some (.int x)], []) st h := exF_j (i := (i_istore 6 55)) rfl rfl
theorem eX2_which_55 {ev : xV} {v0 v1 v2 v3 v4 v6 : Option Value} {x : Int32} {st : List Value} {h : xH} : exF ev cX2_which 55 ([v0, v1, v2, v3, v4, some (.int x), v6], []) st h = exF ev cX2_which 57 ([v0, v1, v2, v3, v4, some (.int x), v6], []) (.int x :: st) h := exF_j (i := (i_iload 5 57)) rfl rfl
theorem eX2_which_57 {ev : xV} {v0 v1 v2 v3 v4 v5 v6 : Option Value} {x : Int32} {st : List Value} {h : xH} : exF ev cX2_which 57 ([v0, v1, v2, v3, v4, v5, v6], []) (.int x :: st) h = if x = 0 then exF ev cX2_which 103 ([v0, v1, v2, v3, v4, v5, v6], []) st h else exF ev cX2_which 60 ([v0, v1, v2, v3, v4, v5, v6], []) st h := exF_b (i := (i_if1 (fun x => x = 0) 103 60)) rfl rfl
theorem eX2_which_60 {ev : xV} {v0 v1 v2 v3 v4 v5 : Option Value} {x : Int32} {st : List Value} {h : xH} : exF ev cX2_which 60 ([v0, v1, v2, v3, v4, v5, some (.int x)], []) st h = exF ev cX2_which 62 ([v0, v1, v2, v3, v4, v5, some (.int x)], []) (.int x :: st) h := exF_j (i := (i_iload 6 62)) rfl rfl
theorem eX2_which_62 {ev : xV} {v0 v1 v2 v3 v5 v6 : Option Value} {x : Int32} {st : List Value} {h : xH} : exF ev cX2_which 62 ([v0, v1, v2, v3, some (.int x), v5, v6], []) st h = exF ev cX2_which 64 ([v0, v1, v2, v3, some (.int x), v5, v6], []) (.int x :: st) h := exF_j (i := (i_iload 4 64)) rfl rfl
theorem eX2_which_64 {ev : xV} {v0 v1 v2 v3 v4 v5 v6 : Option Value} {x y : Int32} {st : List Value} {h : xH} : exF ev cX2_which 64 ([v0, v1, v2, v3, v4, v5, v6], []) (.int y :: .int x :: st) h = if y ≤ x then exF ev cX2_which 103 ([v0, v1, v2, v3, v4, v5, v6], []) st h else exF ev cX2_which 67 ([v0, v1, v2, v3, v4, v5, v6], []) st h := exF_b (i := (i_if2 (fun x y => y ≤ x) 103 67)) rfl rfl
theorem eX2_which_67 {ev : xV} {v1 v2 v3 v4 v5 v6 : Option Value} {x : Nat} {st : List Value} {h : xH} : exF ev cX2_which 67 ([some (.ref x), v1, v2, v3, v4, v5, v6], []) st h = exF ev cX2_which 68 ([some (.ref x), v1, v2, v3, v4, v5, v6], []) (.ref x :: st) h := exF_j (i := (i_aload 0 68)) rfl rfl
theorem eX2_which_68 {ev : xV} {v0 v1 v2 v3 v4 v5 v6 : Option Value} {a : Nat} {st : List Value} {h : xH} : exF ev cX2_which 68 ([v0, v1, v2, v3, v4, v5, v6], []) (.ref a :: st) h = xO (xgf h a 1 0) (fun v => exF ev cX2_which 71 ([v0, v1, v2, v3, v4, v5, v6], []) (v :: st) h) := exF_o (i := (i_getf 1 0 71)) rfl rfl
theorem eX2_which_71 {ev : xV} {v1 v2 v3 v4 v5 v6 : Option Value} {x : Nat} {st : List Value} {h : xH} : exF ev cX2_which 71 ([some (.ref x), v1, v2, v3, v4, v5, v6], []) st h = exF ev cX2_which 72 ([some (.ref x), v1, v2, v3, v4, v5, v6], []) (.ref x :: st) h := exF_j (i := (i_aload 0 72)) rfl rfl
theorem eX2_which_72 {ev : xV} {v0 v1 v2 v3 v4 v5 v6 : Option Value} {a : Nat} {st : List Value} {h : xH} : exF ev cX2_which 72 ([v0, v1, v2, v3, v4, v5, v6], []) (.ref a :: st) h = xO (xgf h a 1 4) (fun v => exF ev cX2_which 75 ([v0, v1, v2, v3, v4, v5, v6], []) (v :: st) h) := exF_o (i := (i_getf 1 4 75)) rfl rfl
theorem eX2_which_75 {ev : xV} {v0 v1 v2 v3 v4 v5 : Option Value} {x : Int32} {st : List Value} {h : xH} : exF ev cX2_which 75 ([v0, v1, v2, v3, v4, v5, some (.int x)], []) st h = exF ev cX2_which 77 ([v0, v1, v2, v3, v4, v5, some (.int x)], []) (.int x :: st) h := exF_j (i := (i_iload 6 77)) rfl rfl
theorem eX2_which_77 {ev : xV} {v0 v1 v2 v3 v4 v5 v6 : Option Value} {x y : Int32} {st : List Value} {h : xH} : exF ev cX2_which 77 ([v0, v1, v2, v3, v4, v5, v6], []) (.int y :: .int x :: st) h = exF ev cX2_which 78 ([v0, v1, v2, v3, v4, v5, v6], []) (.int (x + y) :: st) h := exF_j (i := (i_ii (fun x y => x + y) 78)) rfl rfl
theorem eX2_which_78 {ev : xV} {v0 v1 v2 v3 v4 v5 v6 : Option Value} {i : Int32} {a : Nat} {st : List Value} {h : xH} : exF ev cX2_which 78 ([v0, v1, v2, v3, v4, v5, v6], []) (.int i :: .ref a :: st) h = xO (xai h 1 a i) (fun v => exF ev cX2_which 79 ([v0, v1, v2, v3, v4, v5, v6], []) (.int v :: st) h) := exF_o (i := (i_ai 1 79)) rfl rfl
theorem eX2_which_79 {ev : xV} {v0 v2 v3 v4 v5 v6 : Option Value} {x : Nat} {st : List Value} {h : xH} : exF ev cX2_which 79 ([v0, some (.ref x), v2, v3, v4, v5, v6], []) st h = exF ev cX2_which 80 ([v0, some (.ref x), v2, v3, v4, v5, v6], []) (.ref x :: st) h := exF_j (i := (i_aload 1 80)) rfl rfl
theorem eX2_which_79n {ev : xV} {v0 v2 v3 v4 v5 v6 : Option Value} {st : List Value} {h : xH} : exF ev cX2_which 79 ([v0, some .null, v2, v3, v4, v5, v6], []) st h = exF ev cX2_which 80 ([v0, some .null, v2, v3, v4, v5, v6], []) (.null :: st) h := exF_j (i := (i_aload 1 80)) rfl rfl
theorem eX2_which_80 {ev : xV} {v0 v1 v2 v4 v5 v6 : Option Value} {x : Int32} {st : List Value} {h : xH} : exF ev cX2_which 80 ([v0, v1, v2, some (.int x), v4, v5, v6], []) st h = exF ev cX2_which 81 ([v0, v1, v2, some (.int x), v4, v5, v6], []) (.int x :: st) h := exF_j (i := (i_iload 3 81)) rfl rfl
theorem eX2_which_81 {ev : xV} {v0 v1 v2 v3 v4 v5 : Option Value} {x : Int32} {st : List Value} {h : xH} : exF ev cX2_which 81 ([v0, v1, v2, v3, v4, v5, some (.int x)], []) st h = exF ev cX2_which 83 ([v0, v1, v2, v3, v4, v5, some (.int x)], []) (.int x :: st) h := exF_j (i := (i_iload 6 83)) rfl rfl
theorem eX2_which_83 {ev : xV} {v0 v1 v2 v3 v4 v5 v6 : Option Value} {x y : Int32} {st : List Value} {h : xH} : exF ev cX2_which 83 ([v0, v1, v2, v3, v4, v5, v6], []) (.int y :: .int x :: st) h = exF ev cX2_which 84 ([v0, v1, v2, v3, v4, v5, v6], []) (.int (x + y) :: st) h := exF_j (i := (i_ii (fun x y => x + y) 84)) rfl rfl
theorem eX2_which_84 {ev : xV} {v0 v1 v2 v3 v4 v5 v6 : Option Value} {a0 : Value} {r0 : Value} {a : Nat} {h : xH} : exF ev cX2_which 84 ([v0, v1, v2, v3, v4, v5, v6], []) [a0, .ref a, r0] h = xO (xck h a 22) (fun _ => xB (ev 49 [.ref a, a0] h) (fun v h => exF ev cX2_which 87 ([v0, v1, v2, v3, v4, v5, v6], []) [v, r0] h)) := exF_cd (i := (i_cv 22 49 1 87)) rfl rfl
theorem eX2_which_87 {ev : xV} {v0 v1 v2 v3 v4 v5 v6 : Option Value} {x y : Int32} {st : List Value} {h : xH} : exF ev cX2_which 87 ([v0, v1, v2, v3, v4, v5, v6], []) (.int y :: .int x :: st) h = if ¬ x = y then exF ev cX2_which 94 ([v0, v1, v2, v3, v4, v5, v6], []) st h else exF ev cX2_which 90 ([v0, v1, v2, v3, v4, v5, v6], []) st h := exF_b (i := (i_if2 (fun x y => ¬ x = y) 94 90)) rfl rfl
theorem eX2_which_90 {ev : xV} {v0 v1 v2 v3 v4 v5 v6 : Option Value} {st : List Value} {h : xH} : exF ev cX2_which 90 ([v0, v1, v2, v3, v4, v5, v6], []) st h = exF ev cX2_which 91 ([v0, v1, v2, v3, v4, v5, v6], []) (.int (nI 1) :: st) h := exF_j (i := (i_const (.int (nI 1)) 91)) rfl rfl
theorem eX2_which_91 {ev : xV} {v0 v1 v2 v3 v4 v5 v6 : Option Value} {st : List Value} {h : xH} : exF ev cX2_which 91 ([v0, v1, v2, v3, v4, v5, v6], []) st h = exF ev cX2_which 95 ([v0, v1, v2, v3, v4, v5, v6], []) st h := exF_j (i := (i_goto 95)) rfl rfl
theorem eX2_which_94 {ev : xV} {v0 v1 v2 v3 v4 v5 v6 : Option Value} {st : List Value} {h : xH} : exF ev cX2_which 94 ([v0, v1, v2, v3, v4, v5, v6], []) st h = exF ev cX2_which 95 ([v0, v1, v2, v3, v4, v5, v6], []) (.int (nI 0) :: st) h := exF_j (i := (i_const (.int (nI 0)) 95)) rfl rfl
theorem eX2_which_95 {ev : xV} {v0 v1 v2 v3 v4 v5 v6 : Option Value} {x : Int32} {st : List Value} {h : xH} : exF ev cX2_which 95 ([v0, v1, v2, v3, v4, v5, v6], []) (.int x :: st) h = exF ev cX2_which 97 ([v0, v1, v2, v3, v4, some (.int x), v6], []) st h := exF_j (i := (i_istore 5 97)) rfl rfl
theorem eX2_which_97 {ev : xV} {v0 v1 v2 v3 v4 v5 : Option Value} {x : Int32} {st : List Value} {h : xH} : exF ev cX2_which 97 ([v0, v1, v2, v3, v4, v5, some (.int x)], []) st h = exF ev cX2_which 100 ([v0, v1, v2, v3, v4, v5, some (.int (x + (nI 1)))], []) st h := exF_j (i := (i_iinc 6 (nI 1) 100)) rfl rfl
theorem eX2_which_100 {ev : xV} {v0 v1 v2 v3 v4 v5 v6 : Option Value} {st : List Value} {h : xH} : exF ev cX2_which 100 ([v0, v1, v2, v3, v4, v5, v6], []) st h = exF ev cX2_which 55 ([v0, v1, v2, v3, v4, v5, v6], []) st h := exF_j (i := (i_goto 55)) rfl rfl
theorem eX2_which_103 {ev : xV} {v0 v1 v2 v3 v4 v6 : Option Value} {x : Int32} {st : List Value} {h : xH} : exF ev cX2_which 103 ([v0, v1, v2, v3, v4, some (.int x), v6], []) st h = exF ev cX2_which 105 ([v0, v1, v2, v3, v4, some (.int x), v6], []) (.int x :: st) h := exF_j (i := (i_iload 5 105)) rfl rfl
theorem eX2_which_105 {ev : xV} {v0 v1 v2 v3 v4 v5 v6 : Option Value} {x : Int32} {st : List Value} {h : xH} : exF ev cX2_which 105 ([v0, v1, v2, v3, v4, v5, v6], []) (.int x :: st) h = if x = 0 then exF ev cX2_which 110 ([v0, v1, v2, v3, v4, v5, v6], []) st h else exF ev cX2_which 108 ([v0, v1, v2, v3, v4, v5, v6], []) st h := exF_b (i := (i_if1 (fun x => x = 0) 110 108)) rfl rfl
theorem eX2_which_108 {ev : xV} {v0 v1 v3 v4 v5 v6 : Option Value} {x : Int32} {st : List Value} {h : xH} : exF ev cX2_which 108 ([v0, v1, some (.int x), v3, v4, v5, v6], []) st h = exF ev cX2_which 109 ([v0, v1, some (.int x), v3, v4, v5, v6], []) (.int x :: st) h := exF_j (i := (i_iload 2 109)) rfl rfl
theorem eX2_which_109 {ev : xV} {v0 v1 v2 v3 v4 v5 v6 : Option Value} {x : Int32} {h : xH} : exF ev cX2_which 109 ([v0, v1, v2, v3, v4, v5, v6], []) [.int x] h = some (.inl (some (.int x)), h) := exF_r (i := (i_iret)) rfl rfl
theorem eX2_which_110 {ev : xV} {v0 v1 v2 v4 v5 v6 : Option Value} {x : Int32} {st : List Value} {h : xH} : exF ev cX2_which 110 ([v0, v1, v2, some (.int x), v4, v5, v6], []) st h = exF ev cX2_which 111 ([v0, v1, v2, some (.int x), v4, v5, v6], []) (.int x :: st) h := exF_j (i := (i_iload 3 111)) rfl rfl
theorem eX2_which_111 {ev : xV} {v0 v1 v2 v3 v5 v6 : Option Value} {x : Int32} {st : List Value} {h : xH} : exF ev cX2_which 111 ([v0, v1, v2, v3, some (.int x), v5, v6], []) st h = exF ev cX2_which 113 ([v0, v1, v2, v3, some (.int x), v5, v6], []) (.int x :: st) h := exF_j (i := (i_iload 4 113)) rfl rfl
theorem eX2_which_113 {ev : xV} {v0 v1 v2 v3 v4 v5 v6 : Option Value} {st : List Value} {h : xH} : exF ev cX2_which 113 ([v0, v1, v2, v3, v4, v5, v6], []) st h = exF ev cX2_which 114 ([v0, v1, v2, v3, v4, v5, v6], []) (.int (nI 1) :: st) h := exF_j (i := (i_const (.int (nI 1)) 114)) rfl rfl
theorem eX2_which_114 {ev : xV} {v0 v1 v2 v3 v4 v5 v6 : Option Value} {x y : Int32} {st : List Value} {h : xH} : exF ev cX2_which 114 ([v0, v1, v2, v3, v4, v5, v6], []) (.int y :: .int x :: st) h = exF ev cX2_which 115 ([v0, v1, v2, v3, v4, v5, v6], []) (.int (x + y) :: st) h := exF_j (i := (i_ii (fun x y => x + y) 115)) rfl rfl
theorem eX2_which_115 {ev : xV} {v0 v1 v2 v3 v4 v5 v6 : Option Value} {x y : Int32} {st : List Value} {h : xH} : exF ev cX2_which 115 ([v0, v1, v2, v3, v4, v5, v6], []) (.int y :: .int x :: st) h = exF ev cX2_which 116 ([v0, v1, v2, v3, v4, v5, v6], []) (.int (x + y) :: st) h := exF_j (i := (i_ii (fun x y => x + y) 116)) rfl rfl
theorem eX2_which_116 {ev : xV} {v0 v1 v2 v3 v4 v5 v6 : Option Value} {x : Int32} {st : List Value} {h : xH} : exF ev cX2_which 116 ([v0, v1, v2, v3, v4, v5, v6], []) (.int x :: st) h = exF ev cX2_which 117 ([v0, v1, v2, some (.int x), v4, v5, v6], []) st h := exF_j (i := (i_istore 3 117)) rfl rfl
theorem eX2_which_117 {ev : xV} {v0 v1 v3 v4 v5 v6 : Option Value} {x : Int32} {st : List Value} {h : xH} : exF ev cX2_which 117 ([v0, v1, some (.int x), v3, v4, v5, v6], []) st h = exF ev cX2_which 120 ([v0, v1, some (.int (x + (nI 1))), v3, v4, v5, v6], []) st h := exF_j (i := (i_iinc 2 (nI 1) 120)) rfl rfl
theorem eX2_which_120 {ev : xV} {v0 v1 v2 v3 v4 v5 v6 : Option Value} {st : List Value} {h : xH} : exF ev cX2_which 120 ([v0, v1, v2, v3, v4, v5, v6], []) st h = exF ev cX2_which 4 ([v0, v1, v2, v3, v4, v5, v6], []) st h := exF_j (i := (i_goto 4)) rfl rfl
theorem eX2_which_123 {ev : xV} {v0 v1 v2 v3 v4 v5 v6 : Option Value} {st : List Value} {h : xH} : exF ev cX2_which 123 ([v0, v1, v2, v3, v4, v5, v6], []) st h = exF ev cX2_which 124 ([v0, v1, v2, v3, v4, v5, v6], []) (.int (-1) :: st) h := exF_j (i := (i_const (.int (-1)) 124)) rfl rfl
theorem eX2_which_124 {ev : xV} {v0 v1 v2 v3 v4 v5 v6 : Option Value} {x : Int32} {h : xH} : exF ev cX2_which 124 ([v0, v1, v2, v3, v4, v5, v6], []) [.int x] h = some (.inl (some (.int x)), h) := exF_r (i := (i_iret)) rfl rfl
noncomputable def cX2_wrong : xC := [(0, i_new 5 7 zX6 3),
  (3, i_dup 4),
  (4, i_iload 1 5),
  (5, i_aload 0 6),
  (6, i_getf 1 4 9),
  (9, i_ci [5] 366 2 12),
  (12, i_aret)]
theorem eX2_wrong_0 {ev : xV} {v0 v1 : Option Value} {st : List Value} {h : xH} : exF ev cX2_wrong 0 ([v0, v1], []) st h = exF ev cX2_wrong 3 ([v0, v1], []) (.ref h.2.1 :: st) (xnew h (.inr (5, zX6)) 7) := exF_j (i := (i_new 5 7 zX6 3)) rfl rfl
theorem eX2_wrong_3 {ev : xV} {v0 v1 : Option Value} {x : Nat} {st : List Value} {h : xH} : exF ev cX2_wrong 3 ([v0, v1], []) (.ref x :: st) h = exF ev cX2_wrong 4 ([v0, v1], []) (.ref x :: .ref x :: st) h := exF_j (i := (i_dup 4)) rfl rfl
theorem eX2_wrong_4 {ev : xV} {v0 : Option Value} {x : Int32} {st : List Value} {h : xH} : exF ev cX2_wrong 4 ([v0, some (.int x)], []) st h = exF ev cX2_wrong 5 ([v0, some (.int x)], []) (.int x :: st) h := exF_j (i := (i_iload 1 5)) rfl rfl
theorem eX2_wrong_5 {ev : xV} {v1 : Option Value} {x : Nat} {st : List Value} {h : xH} : exF ev cX2_wrong 5 ([some (.ref x), v1], []) st h = exF ev cX2_wrong 6 ([some (.ref x), v1], []) (.ref x :: st) h := exF_j (i := (i_aload 0 6)) rfl rfl
theorem eX2_wrong_6 {ev : xV} {v0 v1 : Option Value} {a : Nat} {st : List Value} {h : xH} : exF ev cX2_wrong 6 ([v0, v1], []) (.ref a :: st) h = xO (xgf h a 1 4) (fun v => exF ev cX2_wrong 9 ([v0, v1], []) (v :: st) h) := exF_o (i := (i_getf 1 4 9)) rfl rfl
theorem eX2_wrong_9 {ev : xV} {v0 v1 : Option Value} {a0 : Value} {a1 : Value} {r0 : Value} {a : Nat} {h : xH} : exF ev cX2_wrong 9 ([v0, v1], []) [a1, a0, .ref a, r0] h = xO (xckc h [5] a) (fun _ => xBv (ev 366 [.ref a, a0, a1] h) (fun h => exF ev cX2_wrong 12 ([v0, v1], []) [r0] h)) := exF_cdv (i := (i_ci [5] 366 2 12)) rfl rfl
theorem eX2_wrong_12 {ev : xV} {v0 v1 : Option Value} {x : Nat} {h : xH} : exF ev cX2_wrong 12 ([v0, v1], []) [.ref x] h = some (.inl (some (.ref x)), h) := exF_r (i := (i_aret)) rfl rfl
theorem eX2_wrong_12n {ev : xV} {v0 v1 : Option Value} {h : xH} : exF ev cX2_wrong 12 ([v0, v1], []) [.null] h = some (.inl (some .null), h) := exF_r (i := (i_aret)) rfl rfl
noncomputable def cX2_isFull : xC := [(0, i_iload 1 1),
  (1, i_if1 (fun x => ¬ x = 0) 19 4),
  (4, i_aload 0 5),
  (5, i_getf 1 7 8),
  (8, i_getf 2 0 11),
  (11, i_cv 21 32 0 14),
  (14, i_const (.int (nI 7)) 16),
  (16, i_if2 (fun x y => x = y) 58 19),
  (19, i_iload 1 20),
  (20, i_const (.int (nI 1)) 21),
  (21, i_if2 (fun x y => ¬ x = y) 39 24),
  (24, i_aload 0 25),
  (25, i_getf 1 7 28),
  (28, i_getf 2 2 31),
  (31, i_cv 21 32 0 34),
  (34, i_const (.int (nI 8)) 36),
  (36, i_if2 (fun x y => x = y) 58 39),
  (39, i_iload 1 40),
  (40, i_const (.int (nI 2)) 41),
  (41, i_if2 (fun x y => ¬ x = y) 62 44),
  (44, i_aload 0 45),
  (45, i_getf 1 7 48),
  (48, i_getf 2 1 51),
  (51, i_cv 21 32 0 54),
  (54, i_const (.int (nI 5)) 55),
  (55, i_if2 (fun x y => ¬ x = y) 62 58),
  (58, i_const (.int (nI 1)) 59),
  (59, i_goto 63),
  (62, i_const (.int (nI 0)) 63),
  (63, i_zret)]
theorem eX2_isFull_0 {ev : xV} {v0 : Option Value} {x : Int32} {st : List Value} {h : xH} : exF ev cX2_isFull 0 ([v0, some (.int x)], []) st h = exF ev cX2_isFull 1 ([v0, some (.int x)], []) (.int x :: st) h := exF_j (i := (i_iload 1 1)) rfl rfl
theorem eX2_isFull_1 {ev : xV} {v0 v1 : Option Value} {x : Int32} {st : List Value} {h : xH} : exF ev cX2_isFull 1 ([v0, v1], []) (.int x :: st) h = if ¬ x = 0 then exF ev cX2_isFull 19 ([v0, v1], []) st h else exF ev cX2_isFull 4 ([v0, v1], []) st h := exF_b (i := (i_if1 (fun x => ¬ x = 0) 19 4)) rfl rfl
theorem eX2_isFull_4 {ev : xV} {v1 : Option Value} {x : Nat} {st : List Value} {h : xH} : exF ev cX2_isFull 4 ([some (.ref x), v1], []) st h = exF ev cX2_isFull 5 ([some (.ref x), v1], []) (.ref x :: st) h := exF_j (i := (i_aload 0 5)) rfl rfl
theorem eX2_isFull_5 {ev : xV} {v0 v1 : Option Value} {a : Nat} {st : List Value} {h : xH} : exF ev cX2_isFull 5 ([v0, v1], []) (.ref a :: st) h = xO (xgf h a 1 7) (fun v => exF ev cX2_isFull 8 ([v0, v1], []) (v :: st) h) := exF_o (i := (i_getf 1 7 8)) rfl rfl
theorem eX2_isFull_8 {ev : xV} {v0 v1 : Option Value} {a : Nat} {st : List Value} {h : xH} : exF ev cX2_isFull 8 ([v0, v1], []) (.ref a :: st) h = xO (xgf h a 2 0) (fun v => exF ev cX2_isFull 11 ([v0, v1], []) (v :: st) h) := exF_o (i := (i_getf 2 0 11)) rfl rfl
theorem eX2_isFull_11 {ev : xV} {v0 v1 : Option Value} {a : Nat} {h : xH} : exF ev cX2_isFull 11 ([v0, v1], []) [.ref a] h = xO (xck h a 21) (fun _ => xB (ev 32 [.ref a] h) (fun v h => exF ev cX2_isFull 14 ([v0, v1], []) [v] h)) := exF_cd (i := (i_cv 21 32 0 14)) rfl rfl
theorem eX2_isFull_14 {ev : xV} {v0 v1 : Option Value} {st : List Value} {h : xH} : exF ev cX2_isFull 14 ([v0, v1], []) st h = exF ev cX2_isFull 16 ([v0, v1], []) (.int (nI 7) :: st) h := exF_j (i := (i_const (.int (nI 7)) 16)) rfl rfl
theorem eX2_isFull_16 {ev : xV} {v0 v1 : Option Value} {x y : Int32} {st : List Value} {h : xH} : exF ev cX2_isFull 16 ([v0, v1], []) (.int y :: .int x :: st) h = if x = y then exF ev cX2_isFull 58 ([v0, v1], []) st h else exF ev cX2_isFull 19 ([v0, v1], []) st h := exF_b (i := (i_if2 (fun x y => x = y) 58 19)) rfl rfl
theorem eX2_isFull_19 {ev : xV} {v0 : Option Value} {x : Int32} {st : List Value} {h : xH} : exF ev cX2_isFull 19 ([v0, some (.int x)], []) st h = exF ev cX2_isFull 20 ([v0, some (.int x)], []) (.int x :: st) h := exF_j (i := (i_iload 1 20)) rfl rfl
theorem eX2_isFull_20 {ev : xV} {v0 v1 : Option Value} {st : List Value} {h : xH} : exF ev cX2_isFull 20 ([v0, v1], []) st h = exF ev cX2_isFull 21 ([v0, v1], []) (.int (nI 1) :: st) h := exF_j (i := (i_const (.int (nI 1)) 21)) rfl rfl
theorem eX2_isFull_21 {ev : xV} {v0 v1 : Option Value} {x y : Int32} {st : List Value} {h : xH} : exF ev cX2_isFull 21 ([v0, v1], []) (.int y :: .int x :: st) h = if ¬ x = y then exF ev cX2_isFull 39 ([v0, v1], []) st h else exF ev cX2_isFull 24 ([v0, v1], []) st h := exF_b (i := (i_if2 (fun x y => ¬ x = y) 39 24)) rfl rfl
theorem eX2_isFull_24 {ev : xV} {v1 : Option Value} {x : Nat} {st : List Value} {h : xH} : exF ev cX2_isFull 24 ([some (.ref x), v1], []) st h = exF ev cX2_isFull 25 ([some (.ref x), v1], []) (.ref x :: st) h := exF_j (i := (i_aload 0 25)) rfl rfl
theorem eX2_isFull_25 {ev : xV} {v0 v1 : Option Value} {a : Nat} {st : List Value} {h : xH} : exF ev cX2_isFull 25 ([v0, v1], []) (.ref a :: st) h = xO (xgf h a 1 7) (fun v => exF ev cX2_isFull 28 ([v0, v1], []) (v :: st) h) := exF_o (i := (i_getf 1 7 28)) rfl rfl
theorem eX2_isFull_28 {ev : xV} {v0 v1 : Option Value} {a : Nat} {st : List Value} {h : xH} : exF ev cX2_isFull 28 ([v0, v1], []) (.ref a :: st) h = xO (xgf h a 2 2) (fun v => exF ev cX2_isFull 31 ([v0, v1], []) (v :: st) h) := exF_o (i := (i_getf 2 2 31)) rfl rfl
theorem eX2_isFull_31 {ev : xV} {v0 v1 : Option Value} {a : Nat} {h : xH} : exF ev cX2_isFull 31 ([v0, v1], []) [.ref a] h = xO (xck h a 21) (fun _ => xB (ev 32 [.ref a] h) (fun v h => exF ev cX2_isFull 34 ([v0, v1], []) [v] h)) := exF_cd (i := (i_cv 21 32 0 34)) rfl rfl
theorem eX2_isFull_34 {ev : xV} {v0 v1 : Option Value} {st : List Value} {h : xH} : exF ev cX2_isFull 34 ([v0, v1], []) st h = exF ev cX2_isFull 36 ([v0, v1], []) (.int (nI 8) :: st) h := exF_j (i := (i_const (.int (nI 8)) 36)) rfl rfl
theorem eX2_isFull_36 {ev : xV} {v0 v1 : Option Value} {x y : Int32} {st : List Value} {h : xH} : exF ev cX2_isFull 36 ([v0, v1], []) (.int y :: .int x :: st) h = if x = y then exF ev cX2_isFull 58 ([v0, v1], []) st h else exF ev cX2_isFull 39 ([v0, v1], []) st h := exF_b (i := (i_if2 (fun x y => x = y) 58 39)) rfl rfl
theorem eX2_isFull_39 {ev : xV} {v0 : Option Value} {x : Int32} {st : List Value} {h : xH} : exF ev cX2_isFull 39 ([v0, some (.int x)], []) st h = exF ev cX2_isFull 40 ([v0, some (.int x)], []) (.int x :: st) h := exF_j (i := (i_iload 1 40)) rfl rfl
theorem eX2_isFull_40 {ev : xV} {v0 v1 : Option Value} {st : List Value} {h : xH} : exF ev cX2_isFull 40 ([v0, v1], []) st h = exF ev cX2_isFull 41 ([v0, v1], []) (.int (nI 2) :: st) h := exF_j (i := (i_const (.int (nI 2)) 41)) rfl rfl
theorem eX2_isFull_41 {ev : xV} {v0 v1 : Option Value} {x y : Int32} {st : List Value} {h : xH} : exF ev cX2_isFull 41 ([v0, v1], []) (.int y :: .int x :: st) h = if ¬ x = y then exF ev cX2_isFull 62 ([v0, v1], []) st h else exF ev cX2_isFull 44 ([v0, v1], []) st h := exF_b (i := (i_if2 (fun x y => ¬ x = y) 62 44)) rfl rfl
theorem eX2_isFull_44 {ev : xV} {v1 : Option Value} {x : Nat} {st : List Value} {h : xH} : exF ev cX2_isFull 44 ([some (.ref x), v1], []) st h = exF ev cX2_isFull 45 ([some (.ref x), v1], []) (.ref x :: st) h := exF_j (i := (i_aload 0 45)) rfl rfl
theorem eX2_isFull_45 {ev : xV} {v0 v1 : Option Value} {a : Nat} {st : List Value} {h : xH} : exF ev cX2_isFull 45 ([v0, v1], []) (.ref a :: st) h = xO (xgf h a 1 7) (fun v => exF ev cX2_isFull 48 ([v0, v1], []) (v :: st) h) := exF_o (i := (i_getf 1 7 48)) rfl rfl
theorem eX2_isFull_48 {ev : xV} {v0 v1 : Option Value} {a : Nat} {st : List Value} {h : xH} : exF ev cX2_isFull 48 ([v0, v1], []) (.ref a :: st) h = xO (xgf h a 2 1) (fun v => exF ev cX2_isFull 51 ([v0, v1], []) (v :: st) h) := exF_o (i := (i_getf 2 1 51)) rfl rfl
theorem eX2_isFull_51 {ev : xV} {v0 v1 : Option Value} {a : Nat} {h : xH} : exF ev cX2_isFull 51 ([v0, v1], []) [.ref a] h = xO (xck h a 21) (fun _ => xB (ev 32 [.ref a] h) (fun v h => exF ev cX2_isFull 54 ([v0, v1], []) [v] h)) := exF_cd (i := (i_cv 21 32 0 54)) rfl rfl
theorem eX2_isFull_54 {ev : xV} {v0 v1 : Option Value} {st : List Value} {h : xH} : exF ev cX2_isFull 54 ([v0, v1], []) st h = exF ev cX2_isFull 55 ([v0, v1], []) (.int (nI 5) :: st) h := exF_j (i := (i_const (.int (nI 5)) 55)) rfl rfl
theorem eX2_isFull_55 {ev : xV} {v0 v1 : Option Value} {x y : Int32} {st : List Value} {h : xH} : exF ev cX2_isFull 55 ([v0, v1], []) (.int y :: .int x :: st) h = if ¬ x = y then exF ev cX2_isFull 62 ([v0, v1], []) st h else exF ev cX2_isFull 58 ([v0, v1], []) st h := exF_b (i := (i_if2 (fun x y => ¬ x = y) 62 58)) rfl rfl
theorem eX2_isFull_58 {ev : xV} {v0 v1 : Option Value} {st : List Value} {h : xH} : exF ev cX2_isFull 58 ([v0, v1], []) st h = exF ev cX2_isFull 59 ([v0, v1], []) (.int (nI 1) :: st) h := exF_j (i := (i_const (.int (nI 1)) 59)) rfl rfl
theorem eX2_isFull_59 {ev : xV} {v0 v1 : Option Value} {st : List Value} {h : xH} : exF ev cX2_isFull 59 ([v0, v1], []) st h = exF ev cX2_isFull 63 ([v0, v1], []) st h := exF_j (i := (i_goto 63)) rfl rfl
theorem eX2_isFull_62 {ev : xV} {v0 v1 : Option Value} {st : List Value} {h : xH} : exF ev cX2_isFull 62 ([v0, v1], []) st h = exF ev cX2_isFull 63 ([v0, v1], []) (.int (nI 0) :: st) h := exF_j (i := (i_const (.int (nI 0)) 63)) rfl rfl
theorem eX2_isFull_63 {ev : xV} {v0 v1 : Option Value} {x : Int32} {h : xH} : exF ev cX2_isFull 63 ([v0, v1], []) [.int x] h = if x = nI 0 ∨ x = nI 1 then some (.inl (some (.int x)), h) else none := exF_z (i := (i_zret)) rfl rfl
theorem eX2_isFull_63b0 {ev : xV} {v0 v1 : Option Value} {h : xH} : exF ev cX2_isFull 63 ([v0, v1], []) [.int (nI 0)] h = some (.inl (some (.int (nI 0))), h) := exF_r (i := (i_zret)) rfl i_zret_0
theorem eX2_isFull_63b1 {ev : xV} {v0 v1 : Option Value} {h : xH} : exF ev cX2_isFull 63 ([v0, v1], []) [.int (nI 1)] h = some (.inl (some (.int (nI 1))), h) := exF_r (i := (i_zret)) rfl i_zret_1
theorem eX2_isFull_63b {ev : xV} {v0 v1 : Option Value} {b : Bool} {h : xH} : exF ev cX2_isFull 63 ([v0, v1], []) [.int (bI b)] h = some (.inl (some (.int (bI b))), h) := exF_r (i := (i_zret)) rfl (i_zret_b b)
noncomputable def cX2_line : xC := [(0, i_iload 1 1),
  (1, i_tsw 0 [32, 50, 68, 123] 188),
  (32, i_aload 0 33),
  (33, i_getf 1 7 36),
  (36, i_getf 2 0 39),
  (39, i_aload 0 40),
  (40, i_cv 1 204 0 43),
  (43, i_cv 21 35 1 46),
  (46, i_pop 47),
  (47, i_goto 199),
  (50, i_aload 0 51),
  (51, i_getf 1 7 54),
  (54, i_getf 2 2 57),
  (57, i_aload 0 58),
  (58, i_cv 1 206 0 61),
  (61, i_cv 21 35 1 64),
  (64, i_pop 65),
  (65, i_goto 199),
  (68, i_aload 0 69),
  (69, i_cv 1 204 0 72),
  (72, i_astore 2 73),
  (73, i_aload 0 74),
  (74, i_const (.ref 12) 76),
  (76, i_cvv 1 211 1 79),
  (79, i_aload 0 80),
  (80, i_getf 1 7 83),
  (83, i_getf 2 3 86),
  (86, i_aload 0 87),
  (87, i_getf 1 7 90),
  (90, i_getf 2 1 93),
  (93, i_cv 21 32 0 96),
  (96, i_aload 0 97),
  (97, i_aload 0 98),
  (98, i_getf 1 7 101),
  (101, i_getf 2 0 104),
  (104, i_cv 1 207 1 107),
  (107, i_si (fun v => v) 0 108),
  (108, i_aload 0 109),
  (109, i_getf 1 7 112),
  (112, i_getf 2 1 115),
  (115, i_aload 2 116),
  (116, i_cv 21 35 1 119),
  (119, i_pop 120),
  (120, i_goto 199),
  (123, i_aload 0 124),
  (124, i_const (.int (nI 0)) 125),
  (125, i_const (.int (nI 9)) 127),
  (127, i_cv 1 213 2 130),
  (130, i_istore 2 131),
  (131, i_aload 0 132),
  (132, i_getf 1 7 135),
  (135, i_getf 2 5 138),
  (138, i_const (.int (nI 12)) 140),
  (140, i_if2 (fun x y => ¬ x = y) 149 143),
  (143, i_aload 0 144),
  (144, i_const (.int (nI 5)) 145),
  (145, i_cv 1 201 1 148),
  (148, i_throw [5]),
  (149, i_aload 0 150),
  (150, i_cvv 1 195 0 153),
  (153, i_aload 0 154),
  (154, i_getf 1 7 157),
  (157, i_getf 2 4 160),
  (160, i_aload 0 161),
  (161, i_getf 1 7 164),
  (164, i_dup 165),
  (165, i_getf 2 5 168),
  (168, i_dup_x1 169),
  (169, i_const (.int (nI 1)) 170),
  (170, i_ii (fun x y => x + y) 171),
  (171, i_putfi 2 5 174),
  (174, i_iload 2 175),
  (175, i_si (fun v => v) 0 176),
  (176, i_aload 0 177),
  (177, i_const (.int (nI 59)) 179),
  (179, i_cv 1 214 1 182),
  (182, i_if1 (fun x => x = 0) 123 185),
  (185, i_goto 199),
  (188, i_aload 0 189),
  (189, i_getf 1 7 192),
  (192, i_aload 0 193),
  (193, i_cv 1 215 0 196),
  (196, i_putfr 2 6 199),
  (199, i_vret)]
theorem eX2_line_0 {ev : xV} {v0 v2 : Option Value} {x : Int32} {st : List Value} {h : xH} : exF ev cX2_line 0 ([v0, some (.int x), v2], []) st h = exF ev cX2_line 1 ([v0, some (.int x), v2], []) (.int x :: st) h := exF_j (i := (i_iload 1 1)) rfl rfl
theorem eX2_line_1 {ev : xV} {v0 v1 v2 : Option Value} {x : Int32} {st : List Value} {h : xH} : exF ev cX2_line 1 ([v0, v1, v2], []) (.int x :: st) h = exF ev cX2_line (xsw 0 [32, 50, 68, 123] 188 x) ([v0, v1, v2], []) st h := exF_j (i := (i_tsw 0 [32, 50, 68, 123] 188)) rfl rfl
theorem eX2_line_32 {ev : xV} {v1 v2 : Option Value} {x : Nat} {st : List Value} {h : xH} : exF ev cX2_line 32 ([some (.ref x), v1, v2], []) st h = exF ev cX2_line 33 ([some (.ref x), v1, v2], []) (.ref x :: st) h := exF_j (i := (i_aload 0 33)) rfl rfl
theorem eX2_line_33 {ev : xV} {v0 v1 v2 : Option Value} {a : Nat} {st : List Value} {h : xH} : exF ev cX2_line 33 ([v0, v1, v2], []) (.ref a :: st) h = xO (xgf h a 1 7) (fun v => exF ev cX2_line 36 ([v0, v1, v2], []) (v :: st) h) := exF_o (i := (i_getf 1 7 36)) rfl rfl
theorem eX2_line_36 {ev : xV} {v0 v1 v2 : Option Value} {a : Nat} {st : List Value} {h : xH} : exF ev cX2_line 36 ([v0, v1, v2], []) (.ref a :: st) h = xO (xgf h a 2 0) (fun v => exF ev cX2_line 39 ([v0, v1, v2], []) (v :: st) h) := exF_o (i := (i_getf 2 0 39)) rfl rfl
theorem eX2_line_39 {ev : xV} {v1 v2 : Option Value} {x : Nat} {st : List Value} {h : xH} : exF ev cX2_line 39 ([some (.ref x), v1, v2], []) st h = exF ev cX2_line 40 ([some (.ref x), v1, v2], []) (.ref x :: st) h := exF_j (i := (i_aload 0 40)) rfl rfl
theorem eX2_line_40 {ev : xV} {v0 v1 v2 : Option Value} {r0 : Value} {a : Nat} {h : xH} : exF ev cX2_line 40 ([v0, v1, v2], []) [.ref a, r0] h = xO (xck h a 1) (fun _ => xB (ev 204 [.ref a] h) (fun v h => exF ev cX2_line 43 ([v0, v1, v2], []) [v, r0] h)) := exF_cd (i := (i_cv 1 204 0 43)) rfl rfl
theorem eX2_line_43 {ev : xV} {v0 v1 v2 : Option Value} {a0 : Value} {a : Nat} {h : xH} : exF ev cX2_line 43 ([v0, v1, v2], []) [a0, .ref a] h = xO (xck h a 21) (fun _ => xB (ev 35 [.ref a, a0] h) (fun v h => exF ev cX2_line 46 ([v0, v1, v2], []) [v] h)) := exF_cd (i := (i_cv 21 35 1 46)) rfl rfl
theorem eX2_line_46 {ev : xV} {v0 v1 v2 : Option Value} {x : Int32} {st : List Value} {h : xH} : exF ev cX2_line 46 ([v0, v1, v2], []) (.int x :: st) h = exF ev cX2_line 47 ([v0, v1, v2], []) st h := exF_j (i := (i_pop 47)) rfl rfl
theorem eX2_line_47 {ev : xV} {v0 v1 v2 : Option Value} {st : List Value} {h : xH} : exF ev cX2_line 47 ([v0, v1, v2], []) st h = exF ev cX2_line 199 ([v0, v1, v2], []) st h := exF_j (i := (i_goto 199)) rfl rfl
theorem eX2_line_50 {ev : xV} {v1 v2 : Option Value} {x : Nat} {st : List Value} {h : xH} : exF ev cX2_line 50 ([some (.ref x), v1, v2], []) st h = exF ev cX2_line 51 ([some (.ref x), v1, v2], []) (.ref x :: st) h := exF_j (i := (i_aload 0 51)) rfl rfl
theorem eX2_line_51 {ev : xV} {v0 v1 v2 : Option Value} {a : Nat} {st : List Value} {h : xH} : exF ev cX2_line 51 ([v0, v1, v2], []) (.ref a :: st) h = xO (xgf h a 1 7) (fun v => exF ev cX2_line 54 ([v0, v1, v2], []) (v :: st) h) := exF_o (i := (i_getf 1 7 54)) rfl rfl
theorem eX2_line_54 {ev : xV} {v0 v1 v2 : Option Value} {a : Nat} {st : List Value} {h : xH} : exF ev cX2_line 54 ([v0, v1, v2], []) (.ref a :: st) h = xO (xgf h a 2 2) (fun v => exF ev cX2_line 57 ([v0, v1, v2], []) (v :: st) h) := exF_o (i := (i_getf 2 2 57)) rfl rfl
theorem eX2_line_57 {ev : xV} {v1 v2 : Option Value} {x : Nat} {st : List Value} {h : xH} : exF ev cX2_line 57 ([some (.ref x), v1, v2], []) st h = exF ev cX2_line 58 ([some (.ref x), v1, v2], []) (.ref x :: st) h := exF_j (i := (i_aload 0 58)) rfl rfl
theorem eX2_line_58 {ev : xV} {v0 v1 v2 : Option Value} {r0 : Value} {a : Nat} {h : xH} : exF ev cX2_line 58 ([v0, v1, v2], []) [.ref a, r0] h = xO (xck h a 1) (fun _ => xB (ev 206 [.ref a] h) (fun v h => exF ev cX2_line 61 ([v0, v1, v2], []) [v, r0] h)) := exF_cd (i := (i_cv 1 206 0 61)) rfl rfl
theorem eX2_line_61 {ev : xV} {v0 v1 v2 : Option Value} {a0 : Value} {a : Nat} {h : xH} : exF ev cX2_line 61 ([v0, v1, v2], []) [a0, .ref a] h = xO (xck h a 21) (fun _ => xB (ev 35 [.ref a, a0] h) (fun v h => exF ev cX2_line 64 ([v0, v1, v2], []) [v] h)) := exF_cd (i := (i_cv 21 35 1 64)) rfl rfl
theorem eX2_line_64 {ev : xV} {v0 v1 v2 : Option Value} {x : Int32} {st : List Value} {h : xH} : exF ev cX2_line 64 ([v0, v1, v2], []) (.int x :: st) h = exF ev cX2_line 65 ([v0, v1, v2], []) st h := exF_j (i := (i_pop 65)) rfl rfl
theorem eX2_line_65 {ev : xV} {v0 v1 v2 : Option Value} {st : List Value} {h : xH} : exF ev cX2_line 65 ([v0, v1, v2], []) st h = exF ev cX2_line 199 ([v0, v1, v2], []) st h := exF_j (i := (i_goto 199)) rfl rfl
theorem eX2_line_68 {ev : xV} {v1 v2 : Option Value} {x : Nat} {st : List Value} {h : xH} : exF ev cX2_line 68 ([some (.ref x), v1, v2], []) st h = exF ev cX2_line 69 ([some (.ref x), v1, v2], []) (.ref x :: st) h := exF_j (i := (i_aload 0 69)) rfl rfl
theorem eX2_line_69 {ev : xV} {v0 v1 v2 : Option Value} {a : Nat} {h : xH} : exF ev cX2_line 69 ([v0, v1, v2], []) [.ref a] h = xO (xck h a 1) (fun _ => xB (ev 204 [.ref a] h) (fun v h => exF ev cX2_line 72 ([v0, v1, v2], []) [v] h)) := exF_cd (i := (i_cv 1 204 0 72)) rfl rfl
theorem eX2_line_72 {ev : xV} {v0 v1 v2 : Option Value} {x : Nat} {st : List Value} {h : xH} : exF ev cX2_line 72 ([v0, v1, v2], []) (.ref x :: st) h = exF ev cX2_line 73 ([v0, v1, some (.ref x)], []) st h := exF_j (i := (i_astore 2 73)) rfl rfl
theorem eX2_line_72n {ev : xV} {v0 v1 v2 : Option Value} {st : List Value} {h : xH} : exF ev cX2_line 72 ([v0, v1, v2], []) (.null :: st) h = exF ev cX2_line 73 ([v0, v1, some .null], []) st h := exF_j (i := (i_astore 2 73)) rfl rfl
theorem eX2_line_73 {ev : xV} {v1 v2 : Option Value} {x : Nat} {st : List Value} {h : xH} : exF ev cX2_line 73 ([some (.ref x), v1, v2], []) st h = exF ev cX2_line 74 ([some (.ref x), v1, v2], []) (.ref x :: st) h := exF_j (i := (i_aload 0 74)) rfl rfl
theorem eX2_line_74 {ev : xV} {v0 v1 v2 : Option Value} {st : List Value} {h : xH} : exF ev cX2_line 74 ([v0, v1, v2], []) st h = exF ev cX2_line 76 ([v0, v1, v2], []) (.ref 12 :: st) h := exF_j (i := (i_const (.ref 12) 76)) rfl rfl
theorem eX2_line_76 {ev : xV} {v0 v1 v2 : Option Value} {a0 : Value} {a : Nat} {h : xH} : exF ev cX2_line 76 ([v0, v1, v2], []) [a0, .ref a] h = xO (xck h a 1) (fun _ => xBv (ev 211 [.ref a, a0] h) (fun h => exF ev cX2_line 79 ([v0, v1, v2], []) [] h)) := exF_cdv (i := (i_cvv 1 211 1 79)) rfl rfl
theorem eX2_line_79 {ev : xV} {v1 v2 : Option Value} {x : Nat} {st : List Value} {h : xH} : exF ev cX2_line 79 ([some (.ref x), v1, v2], []) st h = exF ev cX2_line 80 ([some (.ref x), v1, v2], []) (.ref x :: st) h := exF_j (i := (i_aload 0 80)) rfl rfl
theorem eX2_line_80 {ev : xV} {v0 v1 v2 : Option Value} {a : Nat} {st : List Value} {h : xH} : exF ev cX2_line 80 ([v0, v1, v2], []) (.ref a :: st) h = xO (xgf h a 1 7) (fun v => exF ev cX2_line 83 ([v0, v1, v2], []) (v :: st) h) := exF_o (i := (i_getf 1 7 83)) rfl rfl
theorem eX2_line_83 {ev : xV} {v0 v1 v2 : Option Value} {a : Nat} {st : List Value} {h : xH} : exF ev cX2_line 83 ([v0, v1, v2], []) (.ref a :: st) h = xO (xgf h a 2 3) (fun v => exF ev cX2_line 86 ([v0, v1, v2], []) (v :: st) h) := exF_o (i := (i_getf 2 3 86)) rfl rfl
theorem eX2_line_86 {ev : xV} {v1 v2 : Option Value} {x : Nat} {st : List Value} {h : xH} : exF ev cX2_line 86 ([some (.ref x), v1, v2], []) st h = exF ev cX2_line 87 ([some (.ref x), v1, v2], []) (.ref x :: st) h := exF_j (i := (i_aload 0 87)) rfl rfl
theorem eX2_line_87 {ev : xV} {v0 v1 v2 : Option Value} {a : Nat} {st : List Value} {h : xH} : exF ev cX2_line 87 ([v0, v1, v2], []) (.ref a :: st) h = xO (xgf h a 1 7) (fun v => exF ev cX2_line 90 ([v0, v1, v2], []) (v :: st) h) := exF_o (i := (i_getf 1 7 90)) rfl rfl
theorem eX2_line_90 {ev : xV} {v0 v1 v2 : Option Value} {a : Nat} {st : List Value} {h : xH} : exF ev cX2_line 90 ([v0, v1, v2], []) (.ref a :: st) h = xO (xgf h a 2 1) (fun v => exF ev cX2_line 93 ([v0, v1, v2], []) (v :: st) h) := exF_o (i := (i_getf 2 1 93)) rfl rfl
theorem eX2_line_93 {ev : xV} {v0 v1 v2 : Option Value} {r0 : Value} {a : Nat} {h : xH} : exF ev cX2_line 93 ([v0, v1, v2], []) [.ref a, r0] h = xO (xck h a 21) (fun _ => xB (ev 32 [.ref a] h) (fun v h => exF ev cX2_line 96 ([v0, v1, v2], []) [v, r0] h)) := exF_cd (i := (i_cv 21 32 0 96)) rfl rfl
theorem eX2_line_96 {ev : xV} {v1 v2 : Option Value} {x : Nat} {st : List Value} {h : xH} : exF ev cX2_line 96 ([some (.ref x), v1, v2], []) st h = exF ev cX2_line 97 ([some (.ref x), v1, v2], []) (.ref x :: st) h := exF_j (i := (i_aload 0 97)) rfl rfl
theorem eX2_line_97 {ev : xV} {v1 v2 : Option Value} {x : Nat} {st : List Value} {h : xH} : exF ev cX2_line 97 ([some (.ref x), v1, v2], []) st h = exF ev cX2_line 98 ([some (.ref x), v1, v2], []) (.ref x :: st) h := exF_j (i := (i_aload 0 98)) rfl rfl
theorem eX2_line_98 {ev : xV} {v0 v1 v2 : Option Value} {a : Nat} {st : List Value} {h : xH} : exF ev cX2_line 98 ([v0, v1, v2], []) (.ref a :: st) h = xO (xgf h a 1 7) (fun v => exF ev cX2_line 101 ([v0, v1, v2], []) (v :: st) h) := exF_o (i := (i_getf 1 7 101)) rfl rfl
theorem eX2_line_101 {ev : xV} {v0 v1 v2 : Option Value} {a : Nat} {st : List Value} {h : xH} : exF ev cX2_line 101 ([v0, v1, v2], []) (.ref a :: st) h = xO (xgf h a 2 0) (fun v => exF ev cX2_line 104 ([v0, v1, v2], []) (v :: st) h) := exF_o (i := (i_getf 2 0 104)) rfl rfl
theorem eX2_line_104 {ev : xV} {v0 v1 v2 : Option Value} {a0 : Value} {r0 : Value} {r1 : Value} {a : Nat} {h : xH} : exF ev cX2_line 104 ([v0, v1, v2], []) [a0, .ref a, r0, r1] h = xO (xck h a 1) (fun _ => xB (ev 207 [.ref a, a0] h) (fun v h => exF ev cX2_line 107 ([v0, v1, v2], []) [v, r0, r1] h)) := exF_cd (i := (i_cv 1 207 1 107)) rfl rfl
theorem eX2_line_107 {ev : xV} {v0 v1 v2 : Option Value} {v i : Int32} {a : Nat} {st : List Value} {h : xH} : exF ev cX2_line 107 ([v0, v1, v2], []) (.int v :: .int i :: .ref a :: st) h = xO (xsi h 0 a i v) (fun h => exF ev cX2_line 108 ([v0, v1, v2], []) st h) := exF_o (i := (i_si (fun v => v) 0 108)) rfl rfl
theorem eX2_line_108 {ev : xV} {v1 v2 : Option Value} {x : Nat} {st : List Value} {h : xH} : exF ev cX2_line 108 ([some (.ref x), v1, v2], []) st h = exF ev cX2_line 109 ([some (.ref x), v1, v2], []) (.ref x :: st) h := exF_j (i := (i_aload 0 109)) rfl rfl
theorem eX2_line_109 {ev : xV} {v0 v1 v2 : Option Value} {a : Nat} {st : List Value} {h : xH} : exF ev cX2_line 109 ([v0, v1, v2], []) (.ref a :: st) h = xO (xgf h a 1 7) (fun v => exF ev cX2_line 112 ([v0, v1, v2], []) (v :: st) h) := exF_o (i := (i_getf 1 7 112)) rfl rfl
theorem eX2_line_112 {ev : xV} {v0 v1 v2 : Option Value} {a : Nat} {st : List Value} {h : xH} : exF ev cX2_line 112 ([v0, v1, v2], []) (.ref a :: st) h = xO (xgf h a 2 1) (fun v => exF ev cX2_line 115 ([v0, v1, v2], []) (v :: st) h) := exF_o (i := (i_getf 2 1 115)) rfl rfl
theorem eX2_line_115 {ev : xV} {v0 v1 : Option Value} {x : Nat} {st : List Value} {h : xH} : exF ev cX2_line 115 ([v0, v1, some (.ref x)], []) st h = exF ev cX2_line 116 ([v0, v1, some (.ref x)], []) (.ref x :: st) h := exF_j (i := (i_aload 2 116)) rfl rfl
theorem eX2_line_115n {ev : xV} {v0 v1 : Option Value} {st : List Value} {h : xH} : exF ev cX2_line 115 ([v0, v1, some .null], []) st h = exF ev cX2_line 116 ([v0, v1, some .null], []) (.null :: st) h := exF_j (i := (i_aload 2 116)) rfl rfl
theorem eX2_line_116 {ev : xV} {v0 v1 v2 : Option Value} {a0 : Value} {a : Nat} {h : xH} : exF ev cX2_line 116 ([v0, v1, v2], []) [a0, .ref a] h = xO (xck h a 21) (fun _ => xB (ev 35 [.ref a, a0] h) (fun v h => exF ev cX2_line 119 ([v0, v1, v2], []) [v] h)) := exF_cd (i := (i_cv 21 35 1 119)) rfl rfl
theorem eX2_line_119 {ev : xV} {v0 v1 v2 : Option Value} {x : Int32} {st : List Value} {h : xH} : exF ev cX2_line 119 ([v0, v1, v2], []) (.int x :: st) h = exF ev cX2_line 120 ([v0, v1, v2], []) st h := exF_j (i := (i_pop 120)) rfl rfl
theorem eX2_line_120 {ev : xV} {v0 v1 v2 : Option Value} {st : List Value} {h : xH} : exF ev cX2_line 120 ([v0, v1, v2], []) st h = exF ev cX2_line 199 ([v0, v1, v2], []) st h := exF_j (i := (i_goto 199)) rfl rfl
theorem eX2_line_123 {ev : xV} {v1 v2 : Option Value} {x : Nat} {st : List Value} {h : xH} : exF ev cX2_line 123 ([some (.ref x), v1, v2], []) st h = exF ev cX2_line 124 ([some (.ref x), v1, v2], []) (.ref x :: st) h := exF_j (i := (i_aload 0 124)) rfl rfl
theorem eX2_line_124 {ev : xV} {v0 v1 v2 : Option Value} {st : List Value} {h : xH} : exF ev cX2_line 124 ([v0, v1, v2], []) st h = exF ev cX2_line 125 ([v0, v1, v2], []) (.int (nI 0) :: st) h := exF_j (i := (i_const (.int (nI 0)) 125)) rfl rfl
theorem eX2_line_125 {ev : xV} {v0 v1 v2 : Option Value} {st : List Value} {h : xH} : exF ev cX2_line 125 ([v0, v1, v2], []) st h = exF ev cX2_line 127 ([v0, v1, v2], []) (.int (nI 9) :: st) h := exF_j (i := (i_const (.int (nI 9)) 127)) rfl rfl
theorem eX2_line_127 {ev : xV} {v0 v1 v2 : Option Value} {a0 : Value} {a1 : Value} {a : Nat} {h : xH} : exF ev cX2_line 127 ([v0, v1, v2], []) [a1, a0, .ref a] h = xO (xck h a 1) (fun _ => xB (ev 213 [.ref a, a0, a1] h) (fun v h => exF ev cX2_line 130 ([v0, v1, v2], []) [v] h)) := exF_cd (i := (i_cv 1 213 2 130)) rfl rfl
theorem eX2_line_130 {ev : xV} {v0 v1 v2 : Option Value} {x : Int32} {st : List Value} {h : xH} : exF ev cX2_line 130 ([v0, v1, v2], []) (.int x :: st) h = exF ev cX2_line 131 ([v0, v1, some (.int x)], []) st h := exF_j (i := (i_istore 2 131)) rfl rfl
theorem eX2_line_131 {ev : xV} {v1 v2 : Option Value} {x : Nat} {st : List Value} {h : xH} : exF ev cX2_line 131 ([some (.ref x), v1, v2], []) st h = exF ev cX2_line 132 ([some (.ref x), v1, v2], []) (.ref x :: st) h := exF_j (i := (i_aload 0 132)) rfl rfl
theorem eX2_line_132 {ev : xV} {v0 v1 v2 : Option Value} {a : Nat} {st : List Value} {h : xH} : exF ev cX2_line 132 ([v0, v1, v2], []) (.ref a :: st) h = xO (xgf h a 1 7) (fun v => exF ev cX2_line 135 ([v0, v1, v2], []) (v :: st) h) := exF_o (i := (i_getf 1 7 135)) rfl rfl
theorem eX2_line_135 {ev : xV} {v0 v1 v2 : Option Value} {a : Nat} {st : List Value} {h : xH} : exF ev cX2_line 135 ([v0, v1, v2], []) (.ref a :: st) h = xO (xgf h a 2 5) (fun v => exF ev cX2_line 138 ([v0, v1, v2], []) (v :: st) h) := exF_o (i := (i_getf 2 5 138)) rfl rfl
theorem eX2_line_138 {ev : xV} {v0 v1 v2 : Option Value} {st : List Value} {h : xH} : exF ev cX2_line 138 ([v0, v1, v2], []) st h = exF ev cX2_line 140 ([v0, v1, v2], []) (.int (nI 12) :: st) h := exF_j (i := (i_const (.int (nI 12)) 140)) rfl rfl
theorem eX2_line_140 {ev : xV} {v0 v1 v2 : Option Value} {x y : Int32} {st : List Value} {h : xH} : exF ev cX2_line 140 ([v0, v1, v2], []) (.int y :: .int x :: st) h = if ¬ x = y then exF ev cX2_line 149 ([v0, v1, v2], []) st h else exF ev cX2_line 143 ([v0, v1, v2], []) st h := exF_b (i := (i_if2 (fun x y => ¬ x = y) 149 143)) rfl rfl
theorem eX2_line_143 {ev : xV} {v1 v2 : Option Value} {x : Nat} {st : List Value} {h : xH} : exF ev cX2_line 143 ([some (.ref x), v1, v2], []) st h = exF ev cX2_line 144 ([some (.ref x), v1, v2], []) (.ref x :: st) h := exF_j (i := (i_aload 0 144)) rfl rfl
theorem eX2_line_144 {ev : xV} {v0 v1 v2 : Option Value} {st : List Value} {h : xH} : exF ev cX2_line 144 ([v0, v1, v2], []) st h = exF ev cX2_line 145 ([v0, v1, v2], []) (.int (nI 5) :: st) h := exF_j (i := (i_const (.int (nI 5)) 145)) rfl rfl
theorem eX2_line_145 {ev : xV} {v0 v1 v2 : Option Value} {a0 : Value} {a : Nat} {h : xH} : exF ev cX2_line 145 ([v0, v1, v2], []) [a0, .ref a] h = xO (xck h a 1) (fun _ => xB (ev 201 [.ref a, a0] h) (fun v h => exF ev cX2_line 148 ([v0, v1, v2], []) [v] h)) := exF_cd (i := (i_cv 1 201 1 148)) rfl rfl
theorem eX2_line_148 {ev : xV} {v0 v1 v2 : Option Value} {a : Nat} {st : List Value} {h : xH} : exF ev cX2_line 148 ([v0, v1, v2], []) (.ref a :: st) h = xO (xckc h [5] a) (fun _ => some (.inr a, h)) := exF_t (i := (i_throw [5])) rfl rfl
theorem eX2_line_149 {ev : xV} {v1 v2 : Option Value} {x : Nat} {st : List Value} {h : xH} : exF ev cX2_line 149 ([some (.ref x), v1, v2], []) st h = exF ev cX2_line 150 ([some (.ref x), v1, v2], []) (.ref x :: st) h := exF_j (i := (i_aload 0 150)) rfl rfl
theorem eX2_line_150 {ev : xV} {v0 v1 v2 : Option Value} {a : Nat} {h : xH} : exF ev cX2_line 150 ([v0, v1, v2], []) [.ref a] h = xO (xck h a 1) (fun _ => xBv (ev 195 [.ref a] h) (fun h => exF ev cX2_line 153 ([v0, v1, v2], []) [] h)) := exF_cdv (i := (i_cvv 1 195 0 153)) rfl rfl
theorem eX2_line_153 {ev : xV} {v1 v2 : Option Value} {x : Nat} {st : List Value} {h : xH} : exF ev cX2_line 153 ([some (.ref x), v1, v2], []) st h = exF ev cX2_line 154 ([some (.ref x), v1, v2], []) (.ref x :: st) h := exF_j (i := (i_aload 0 154)) rfl rfl
theorem eX2_line_154 {ev : xV} {v0 v1 v2 : Option Value} {a : Nat} {st : List Value} {h : xH} : exF ev cX2_line 154 ([v0, v1, v2], []) (.ref a :: st) h = xO (xgf h a 1 7) (fun v => exF ev cX2_line 157 ([v0, v1, v2], []) (v :: st) h) := exF_o (i := (i_getf 1 7 157)) rfl rfl
theorem eX2_line_157 {ev : xV} {v0 v1 v2 : Option Value} {a : Nat} {st : List Value} {h : xH} : exF ev cX2_line 157 ([v0, v1, v2], []) (.ref a :: st) h = xO (xgf h a 2 4) (fun v => exF ev cX2_line 160 ([v0, v1, v2], []) (v :: st) h) := exF_o (i := (i_getf 2 4 160)) rfl rfl
theorem eX2_line_160 {ev : xV} {v1 v2 : Option Value} {x : Nat} {st : List Value} {h : xH} : exF ev cX2_line 160 ([some (.ref x), v1, v2], []) st h = exF ev cX2_line 161 ([some (.ref x), v1, v2], []) (.ref x :: st) h := exF_j (i := (i_aload 0 161)) rfl rfl
theorem eX2_line_161 {ev : xV} {v0 v1 v2 : Option Value} {a : Nat} {st : List Value} {h : xH} : exF ev cX2_line 161 ([v0, v1, v2], []) (.ref a :: st) h = xO (xgf h a 1 7) (fun v => exF ev cX2_line 164 ([v0, v1, v2], []) (v :: st) h) := exF_o (i := (i_getf 1 7 164)) rfl rfl
theorem eX2_line_164 {ev : xV} {v0 v1 v2 : Option Value} {x : Nat} {st : List Value} {h : xH} : exF ev cX2_line 164 ([v0, v1, v2], []) (.ref x :: st) h = exF ev cX2_line 165 ([v0, v1, v2], []) (.ref x :: .ref x :: st) h := exF_j (i := (i_dup 165)) rfl rfl
theorem eX2_line_165 {ev : xV} {v0 v1 v2 : Option Value} {a : Nat} {st : List Value} {h : xH} : exF ev cX2_line 165 ([v0, v1, v2], []) (.ref a :: st) h = xO (xgf h a 2 5) (fun v => exF ev cX2_line 168 ([v0, v1, v2], []) (v :: st) h) := exF_o (i := (i_getf 2 5 168)) rfl rfl
theorem eX2_line_168 {ev : xV} {v0 v1 v2 : Option Value} {x : Int32} {y : Nat} {st : List Value} {h : xH} : exF ev cX2_line 168 ([v0, v1, v2], []) (.int x :: .ref y :: st) h = exF ev cX2_line 169 ([v0, v1, v2], []) (.int x :: .ref y :: .int x :: st) h := exF_j (i := (i_dup_x1 169)) rfl rfl
theorem eX2_line_169 {ev : xV} {v0 v1 v2 : Option Value} {st : List Value} {h : xH} : exF ev cX2_line 169 ([v0, v1, v2], []) st h = exF ev cX2_line 170 ([v0, v1, v2], []) (.int (nI 1) :: st) h := exF_j (i := (i_const (.int (nI 1)) 170)) rfl rfl
theorem eX2_line_170 {ev : xV} {v0 v1 v2 : Option Value} {x y : Int32} {st : List Value} {h : xH} : exF ev cX2_line 170 ([v0, v1, v2], []) (.int y :: .int x :: st) h = exF ev cX2_line 171 ([v0, v1, v2], []) (.int (x + y) :: st) h := exF_j (i := (i_ii (fun x y => x + y) 171)) rfl rfl
theorem eX2_line_171 {ev : xV} {v0 v1 v2 : Option Value} {x : Int32} {a : Nat} {st : List Value} {h : xH} : exF ev cX2_line 171 ([v0, v1, v2], []) (.int x :: .ref a :: st) h = xO (xpf h a 2 5 (.int x)) (fun h => exF ev cX2_line 174 ([v0, v1, v2], []) st h) := exF_o (i := (i_putfi 2 5 174)) rfl rfl
theorem eX2_line_174 {ev : xV} {v0 v1 : Option Value} {x : Int32} {st : List Value} {h : xH} : exF ev cX2_line 174 ([v0, v1, some (.int x)], []) st h = exF ev cX2_line 175 ([v0, v1, some (.int x)], []) (.int x :: st) h := exF_j (i := (i_iload 2 175)) rfl rfl
theorem eX2_line_175 {ev : xV} {v0 v1 v2 : Option Value} {v i : Int32} {a : Nat} {st : List Value} {h : xH} : exF ev cX2_line 175 ([v0, v1, v2], []) (.int v :: .int i :: .ref a :: st) h = xO (xsi h 0 a i v) (fun h => exF ev cX2_line 176 ([v0, v1, v2], []) st h) := exF_o (i := (i_si (fun v => v) 0 176)) rfl rfl
theorem eX2_line_176 {ev : xV} {v1 v2 : Option Value} {x : Nat} {st : List Value} {h : xH} : exF ev cX2_line 176 ([some (.ref x), v1, v2], []) st h = exF ev cX2_line 177 ([some (.ref x), v1, v2], []) (.ref x :: st) h := exF_j (i := (i_aload 0 177)) rfl rfl
theorem eX2_line_177 {ev : xV} {v0 v1 v2 : Option Value} {st : List Value} {h : xH} : exF ev cX2_line 177 ([v0, v1, v2], []) st h = exF ev cX2_line 179 ([v0, v1, v2], []) (.int (nI 59) :: st) h := exF_j (i := (i_const (.int (nI 59)) 179)) rfl rfl
theorem eX2_line_179 {ev : xV} {v0 v1 v2 : Option Value} {a0 : Value} {a : Nat} {h : xH} : exF ev cX2_line 179 ([v0, v1, v2], []) [a0, .ref a] h = xO (xck h a 1) (fun _ => xB (ev 214 [.ref a, a0] h) (fun v h => exF ev cX2_line 182 ([v0, v1, v2], []) [v] h)) := exF_cd (i := (i_cv 1 214 1 182)) rfl rfl
theorem eX2_line_182 {ev : xV} {v0 v1 v2 : Option Value} {x : Int32} {st : List Value} {h : xH} : exF ev cX2_line 182 ([v0, v1, v2], []) (.int x :: st) h = if x = 0 then exF ev cX2_line 123 ([v0, v1, v2], []) st h else exF ev cX2_line 185 ([v0, v1, v2], []) st h := exF_b (i := (i_if1 (fun x => x = 0) 123 185)) rfl rfl
theorem eX2_line_185 {ev : xV} {v0 v1 v2 : Option Value} {st : List Value} {h : xH} : exF ev cX2_line 185 ([v0, v1, v2], []) st h = exF ev cX2_line 199 ([v0, v1, v2], []) st h := exF_j (i := (i_goto 199)) rfl rfl
theorem eX2_line_188 {ev : xV} {v1 v2 : Option Value} {x : Nat} {st : List Value} {h : xH} : exF ev cX2_line 188 ([some (.ref x), v1, v2], []) st h = exF ev cX2_line 189 ([some (.ref x), v1, v2], []) (.ref x :: st) h := exF_j (i := (i_aload 0 189)) rfl rfl
theorem eX2_line_189 {ev : xV} {v0 v1 v2 : Option Value} {a : Nat} {st : List Value} {h : xH} : exF ev cX2_line 189 ([v0, v1, v2], []) (.ref a :: st) h = xO (xgf h a 1 7) (fun v => exF ev cX2_line 192 ([v0, v1, v2], []) (v :: st) h) := exF_o (i := (i_getf 1 7 192)) rfl rfl
theorem eX2_line_192 {ev : xV} {v1 v2 : Option Value} {x : Nat} {st : List Value} {h : xH} : exF ev cX2_line 192 ([some (.ref x), v1, v2], []) st h = exF ev cX2_line 193 ([some (.ref x), v1, v2], []) (.ref x :: st) h := exF_j (i := (i_aload 0 193)) rfl rfl
theorem eX2_line_193 {ev : xV} {v0 v1 v2 : Option Value} {r0 : Value} {a : Nat} {h : xH} : exF ev cX2_line 193 ([v0, v1, v2], []) [.ref a, r0] h = xO (xck h a 1) (fun _ => xB (ev 215 [.ref a] h) (fun v h => exF ev cX2_line 196 ([v0, v1, v2], []) [v, r0] h)) := exF_cd (i := (i_cv 1 215 0 196)) rfl rfl
theorem eX2_line_196 {ev : xV} {v0 v1 v2 : Option Value} {x a : Nat} {st : List Value} {h : xH} : exF ev cX2_line 196 ([v0, v1, v2], []) (.ref x :: .ref a :: st) h = xO (xpf h a 2 6 (.ref x)) (fun h => exF ev cX2_line 199 ([v0, v1, v2], []) st h) := exF_o (i := (i_putfr 2 6 199)) rfl rfl
theorem eX2_line_196n {ev : xV} {v0 v1 v2 : Option Value} {a : Nat} {st : List Value} {h : xH} : exF ev cX2_line 196 ([v0, v1, v2], []) (.null :: .ref a :: st) h = xO (xpf h a 2 6 .null) (fun h => exF ev cX2_line 199 ([v0, v1, v2], []) st h) := exF_o (i := (i_putfr 2 6 199)) rfl rfl
theorem eX2_line_199 {ev : xV} {v0 v1 v2 : Option Value} {h : xH} : exF ev cX2_line 199 ([v0, v1, v2], []) [] h = some (.inl none, h) := exF_r (i := (i_vret)) rfl rfl
noncomputable def cX2_fresh : xC := [(0, i_aload 0 1),
  (1, i_cv 1 205 0 4),
  (4, i_astore 1 5),
  (5, i_aload 0 6),
  (6, i_getf 1 7 9),
  (9, i_getf 2 0 12),
  (12, i_aload 1 13),
  (13, i_cs 233 2 16),
  (16, i_if1 (fun x => 0 ≤ x) 33 19),
  (19, i_aload 0 20),
  (20, i_getf 1 7 23),
  (23, i_getf 2 1 26),
  (26, i_aload 1 27),
  (27, i_cs 233 2 30),
  (30, i_if1 (fun x => x < 0) 39 33),
  (33, i_aload 0 34),
  (34, i_const (.int (nI 3)) 35),
  (35, i_cv 1 201 1 38),
  (38, i_throw [5]),
  (39, i_aload 0 40),
  (40, i_cvv 1 195 0 43),
  (43, i_aload 1 44),
  (44, i_aret)]
theorem eX2_fresh_0 {ev : xV} {v1 : Option Value} {x : Nat} {st : List Value} {h : xH} : exF ev cX2_fresh 0 ([some (.ref x), v1], []) st h = exF ev cX2_fresh 1 ([some (.ref x), v1], []) (.ref x :: st) h := exF_j (i := (i_aload 0 1)) rfl rfl
theorem eX2_fresh_1 {ev : xV} {v0 v1 : Option Value} {a : Nat} {h : xH} : exF ev cX2_fresh 1 ([v0, v1], []) [.ref a] h = xO (xck h a 1) (fun _ => xB (ev 205 [.ref a] h) (fun v h => exF ev cX2_fresh 4 ([v0, v1], []) [v] h)) := exF_cd (i := (i_cv 1 205 0 4)) rfl rfl
theorem eX2_fresh_4 {ev : xV} {v0 v1 : Option Value} {x : Nat} {st : List Value} {h : xH} : exF ev cX2_fresh 4 ([v0, v1], []) (.ref x :: st) h = exF ev cX2_fresh 5 ([v0, some (.ref x)], []) st h := exF_j (i := (i_astore 1 5)) rfl rfl
theorem eX2_fresh_4n {ev : xV} {v0 v1 : Option Value} {st : List Value} {h : xH} : exF ev cX2_fresh 4 ([v0, v1], []) (.null :: st) h = exF ev cX2_fresh 5 ([v0, some .null], []) st h := exF_j (i := (i_astore 1 5)) rfl rfl
theorem eX2_fresh_5 {ev : xV} {v1 : Option Value} {x : Nat} {st : List Value} {h : xH} : exF ev cX2_fresh 5 ([some (.ref x), v1], []) st h = exF ev cX2_fresh 6 ([some (.ref x), v1], []) (.ref x :: st) h := exF_j (i := (i_aload 0 6)) rfl rfl
theorem eX2_fresh_6 {ev : xV} {v0 v1 : Option Value} {a : Nat} {st : List Value} {h : xH} : exF ev cX2_fresh 6 ([v0, v1], []) (.ref a :: st) h = xO (xgf h a 1 7) (fun v => exF ev cX2_fresh 9 ([v0, v1], []) (v :: st) h) := exF_o (i := (i_getf 1 7 9)) rfl rfl
theorem eX2_fresh_9 {ev : xV} {v0 v1 : Option Value} {a : Nat} {st : List Value} {h : xH} : exF ev cX2_fresh 9 ([v0, v1], []) (.ref a :: st) h = xO (xgf h a 2 0) (fun v => exF ev cX2_fresh 12 ([v0, v1], []) (v :: st) h) := exF_o (i := (i_getf 2 0 12)) rfl rfl
theorem eX2_fresh_12 {ev : xV} {v0 : Option Value} {x : Nat} {st : List Value} {h : xH} : exF ev cX2_fresh 12 ([v0, some (.ref x)], []) st h = exF ev cX2_fresh 13 ([v0, some (.ref x)], []) (.ref x :: st) h := exF_j (i := (i_aload 1 13)) rfl rfl
theorem eX2_fresh_12n {ev : xV} {v0 : Option Value} {st : List Value} {h : xH} : exF ev cX2_fresh 12 ([v0, some .null], []) st h = exF ev cX2_fresh 13 ([v0, some .null], []) (.null :: st) h := exF_j (i := (i_aload 1 13)) rfl rfl
theorem eX2_fresh_13 {ev : xV} {v0 v1 : Option Value} {a0 : Value} {a1 : Value} {h : xH} : exF ev cX2_fresh 13 ([v0, v1], []) [a1, a0] h = xB (ev 233 [a0, a1] h) (fun v h => exF ev cX2_fresh 16 ([v0, v1], []) [v] h) := exF_c (i := (i_cs 233 2 16)) rfl rfl
theorem eX2_fresh_16 {ev : xV} {v0 v1 : Option Value} {x : Int32} {st : List Value} {h : xH} : exF ev cX2_fresh 16 ([v0, v1], []) (.int x :: st) h = if 0 ≤ x then exF ev cX2_fresh 33 ([v0, v1], []) st h else exF ev cX2_fresh 19 ([v0, v1], []) st h := exF_b (i := (i_if1 (fun x => 0 ≤ x) 33 19)) rfl rfl
theorem eX2_fresh_19 {ev : xV} {v1 : Option Value} {x : Nat} {st : List Value} {h : xH} : exF ev cX2_fresh 19 ([some (.ref x), v1], []) st h = exF ev cX2_fresh 20 ([some (.ref x), v1], []) (.ref x :: st) h := exF_j (i := (i_aload 0 20)) rfl rfl
theorem eX2_fresh_20 {ev : xV} {v0 v1 : Option Value} {a : Nat} {st : List Value} {h : xH} : exF ev cX2_fresh 20 ([v0, v1], []) (.ref a :: st) h = xO (xgf h a 1 7) (fun v => exF ev cX2_fresh 23 ([v0, v1], []) (v :: st) h) := exF_o (i := (i_getf 1 7 23)) rfl rfl
theorem eX2_fresh_23 {ev : xV} {v0 v1 : Option Value} {a : Nat} {st : List Value} {h : xH} : exF ev cX2_fresh 23 ([v0, v1], []) (.ref a :: st) h = xO (xgf h a 2 1) (fun v => exF ev cX2_fresh 26 ([v0, v1], []) (v :: st) h) := exF_o (i := (i_getf 2 1 26)) rfl rfl
theorem eX2_fresh_26 {ev : xV} {v0 : Option Value} {x : Nat} {st : List Value} {h : xH} : exF ev cX2_fresh 26 ([v0, some (.ref x)], []) st h = exF ev cX2_fresh 27 ([v0, some (.ref x)], []) (.ref x :: st) h := exF_j (i := (i_aload 1 27)) rfl rfl
theorem eX2_fresh_26n {ev : xV} {v0 : Option Value} {st : List Value} {h : xH} : exF ev cX2_fresh 26 ([v0, some .null], []) st h = exF ev cX2_fresh 27 ([v0, some .null], []) (.null :: st) h := exF_j (i := (i_aload 1 27)) rfl rfl
theorem eX2_fresh_27 {ev : xV} {v0 v1 : Option Value} {a0 : Value} {a1 : Value} {h : xH} : exF ev cX2_fresh 27 ([v0, v1], []) [a1, a0] h = xB (ev 233 [a0, a1] h) (fun v h => exF ev cX2_fresh 30 ([v0, v1], []) [v] h) := exF_c (i := (i_cs 233 2 30)) rfl rfl
theorem eX2_fresh_30 {ev : xV} {v0 v1 : Option Value} {x : Int32} {st : List Value} {h : xH} : exF ev cX2_fresh 30 ([v0, v1], []) (.int x :: st) h = if x < 0 then exF ev cX2_fresh 39 ([v0, v1], []) st h else exF ev cX2_fresh 33 ([v0, v1], []) st h := exF_b (i := (i_if1 (fun x => x < 0) 39 33)) rfl rfl
theorem eX2_fresh_33 {ev : xV} {v1 : Option Value} {x : Nat} {st : List Value} {h : xH} : exF ev cX2_fresh 33 ([some (.ref x), v1], []) st h = exF ev cX2_fresh 34 ([some (.ref x), v1], []) (.ref x :: st) h := exF_j (i := (i_aload 0 34)) rfl rfl
theorem eX2_fresh_34 {ev : xV} {v0 v1 : Option Value} {st : List Value} {h : xH} : exF ev cX2_fresh 34 ([v0, v1], []) st h = exF ev cX2_fresh 35 ([v0, v1], []) (.int (nI 3) :: st) h := exF_j (i := (i_const (.int (nI 3)) 35)) rfl rfl
theorem eX2_fresh_35 {ev : xV} {v0 v1 : Option Value} {a0 : Value} {a : Nat} {h : xH} : exF ev cX2_fresh 35 ([v0, v1], []) [a0, .ref a] h = xO (xck h a 1) (fun _ => xB (ev 201 [.ref a, a0] h) (fun v h => exF ev cX2_fresh 38 ([v0, v1], []) [v] h)) := exF_cd (i := (i_cv 1 201 1 38)) rfl rfl
theorem eX2_fresh_38 {ev : xV} {v0 v1 : Option Value} {a : Nat} {st : List Value} {h : xH} : exF ev cX2_fresh 38 ([v0, v1], []) (.ref a :: st) h = xO (xckc h [5] a) (fun _ => some (.inr a, h)) := exF_t (i := (i_throw [5])) rfl rfl
theorem eX2_fresh_39 {ev : xV} {v1 : Option Value} {x : Nat} {st : List Value} {h : xH} : exF ev cX2_fresh 39 ([some (.ref x), v1], []) st h = exF ev cX2_fresh 40 ([some (.ref x), v1], []) (.ref x :: st) h := exF_j (i := (i_aload 0 40)) rfl rfl
theorem eX2_fresh_40 {ev : xV} {v0 v1 : Option Value} {a : Nat} {h : xH} : exF ev cX2_fresh 40 ([v0, v1], []) [.ref a] h = xO (xck h a 1) (fun _ => xBv (ev 195 [.ref a] h) (fun h => exF ev cX2_fresh 43 ([v0, v1], []) [] h)) := exF_cdv (i := (i_cvv 1 195 0 43)) rfl rfl
theorem eX2_fresh_43 {ev : xV} {v0 : Option Value} {x : Nat} {st : List Value} {h : xH} : exF ev cX2_fresh 43 ([v0, some (.ref x)], []) st h = exF ev cX2_fresh 44 ([v0, some (.ref x)], []) (.ref x :: st) h := exF_j (i := (i_aload 1 44)) rfl rfl
theorem eX2_fresh_43n {ev : xV} {v0 : Option Value} {st : List Value} {h : xH} : exF ev cX2_fresh 43 ([v0, some .null], []) st h = exF ev cX2_fresh 44 ([v0, some .null], []) (.null :: st) h := exF_j (i := (i_aload 1 44)) rfl rfl
theorem eX2_fresh_44 {ev : xV} {v0 v1 : Option Value} {x : Nat} {h : xH} : exF ev cX2_fresh 44 ([v0, v1], []) [.ref x] h = some (.inl (some (.ref x)), h) := exF_r (i := (i_aret)) rfl rfl
theorem eX2_fresh_44n {ev : xV} {v0 v1 : Option Value} {h : xH} : exF ev cX2_fresh 44 ([v0, v1], []) [.null] h = some (.inl (some .null), h) := exF_r (i := (i_aret)) rfl rfl
noncomputable def cX2_name : xC := [(0, i_aload 0 1),
  (1, i_getf 1 3 4),
  (4, i_const (.int (nI 1)) 5),
  (5, i_if2 (fun x y => ¬ x = y) 17 8),
  (8, i_aload 0 9),
  (9, i_const (.ref 6) 11),
  (11, i_cv 1 200 1 14),
  (14, i_if1 (fun x => x < 0) 23 17),
  (17, i_aload 0 18),
  (18, i_const (.int (nI 1)) 19),
  (19, i_cv 1 201 1 22),
  (22, i_throw [5]),
  (23, i_new 23 4 zJ14 26),
  (26, i_dup 27),
  (27, i_const (.int (nI 8)) 29),
  (29, i_ci [23] 16 1 32),
  (32, i_astore 1 33),
  (33, i_aload 0 34),
  (34, i_getf 1 4 37),
  (37, i_istore 2 38),
  (38, i_iload 2 39),
  (39, i_aload 0 40),
  (40, i_getf 1 2 43),
  (43, i_if2 (fun x y => y ≤ x) 64 46),
  (46, i_aload 1 47),
  (47, i_aload 0 48),
  (48, i_getf 1 0 51),
  (51, i_iload 2 52),
  (52, i_ai 1 53),
  (53, i_i1 (fun x => (x.toUInt32 % 65536).toInt32) 54),
  (54, i_cv 23 17 1 57),
  (57, i_pop 58),
  (58, i_iinc 2 (nI 1) 61),
  (61, i_goto 38),
  (64, i_aload 1 65),
  (65, i_cv 23 18 0 68),
  (68, i_aret)]
theorem eX2_name_0 {ev : xV} {v1 v2 : Option Value} {x : Nat} {st : List Value} {h : xH} : exF ev cX2_name 0 ([some (.ref x), v1, v2], []) st h = exF ev cX2_name 1 ([some (.ref x), v1, v2], []) (.ref x :: st) h := exF_j (i := (i_aload 0 1)) rfl rfl
theorem eX2_name_1 {ev : xV} {v0 v1 v2 : Option Value} {a : Nat} {st : List Value} {h : xH} : exF ev cX2_name 1 ([v0, v1, v2], []) (.ref a :: st) h = xO (xgf h a 1 3) (fun v => exF ev cX2_name 4 ([v0, v1, v2], []) (v :: st) h) := exF_o (i := (i_getf 1 3 4)) rfl rfl
theorem eX2_name_4 {ev : xV} {v0 v1 v2 : Option Value} {st : List Value} {h : xH} : exF ev cX2_name 4 ([v0, v1, v2], []) st h = exF ev cX2_name 5 ([v0, v1, v2], []) (.int (nI 1) :: st) h := exF_j (i := (i_const (.int (nI 1)) 5)) rfl rfl
theorem eX2_name_5 {ev : xV} {v0 v1 v2 : Option Value} {x y : Int32} {st : List Value} {h : xH} : exF ev cX2_name 5 ([v0, v1, v2], []) (.int y :: .int x :: st) h = if ¬ x = y then exF ev cX2_name 17 ([v0, v1, v2], []) st h else exF ev cX2_name 8 ([v0, v1, v2], []) st h := exF_b (i := (i_if2 (fun x y => ¬ x = y) 17 8)) rfl rfl
theorem eX2_name_8 {ev : xV} {v1 v2 : Option Value} {x : Nat} {st : List Value} {h : xH} : exF ev cX2_name 8 ([some (.ref x), v1, v2], []) st h = exF ev cX2_name 9 ([some (.ref x), v1, v2], []) (.ref x :: st) h := exF_j (i := (i_aload 0 9)) rfl rfl
theorem eX2_name_9 {ev : xV} {v0 v1 v2 : Option Value} {st : List Value} {h : xH} : exF ev cX2_name 9 ([v0, v1, v2], []) st h = exF ev cX2_name 11 ([v0, v1, v2], []) (.ref 6 :: st) h := exF_j (i := (i_const (.ref 6) 11)) rfl rfl
theorem eX2_name_11 {ev : xV} {v0 v1 v2 : Option Value} {a0 : Value} {a : Nat} {h : xH} : exF ev cX2_name 11 ([v0, v1, v2], []) [a0, .ref a] h = xO (xck h a 1) (fun _ => xB (ev 200 [.ref a, a0] h) (fun v h => exF ev cX2_name 14 ([v0, v1, v2], []) [v] h)) := exF_cd (i := (i_cv 1 200 1 14)) rfl rfl
theorem eX2_name_14 {ev : xV} {v0 v1 v2 : Option Value} {x : Int32} {st : List Value} {h : xH} : exF ev cX2_name 14 ([v0, v1, v2], []) (.int x :: st) h = if x < 0 then exF ev cX2_name 23 ([v0, v1, v2], []) st h else exF ev cX2_name 17 ([v0, v1, v2], []) st h := exF_b (i := (i_if1 (fun x => x < 0) 23 17)) rfl rfl
theorem eX2_name_17 {ev : xV} {v1 v2 : Option Value} {x : Nat} {st : List Value} {h : xH} : exF ev cX2_name 17 ([some (.ref x), v1, v2], []) st h = exF ev cX2_name 18 ([some (.ref x), v1, v2], []) (.ref x :: st) h := exF_j (i := (i_aload 0 18)) rfl rfl
theorem eX2_name_18 {ev : xV} {v0 v1 v2 : Option Value} {st : List Value} {h : xH} : exF ev cX2_name 18 ([v0, v1, v2], []) st h = exF ev cX2_name 19 ([v0, v1, v2], []) (.int (nI 1) :: st) h := exF_j (i := (i_const (.int (nI 1)) 19)) rfl rfl
theorem eX2_name_19 {ev : xV} {v0 v1 v2 : Option Value} {a0 : Value} {a : Nat} {h : xH} : exF ev cX2_name 19 ([v0, v1, v2], []) [a0, .ref a] h = xO (xck h a 1) (fun _ => xB (ev 201 [.ref a, a0] h) (fun v h => exF ev cX2_name 22 ([v0, v1, v2], []) [v] h)) := exF_cd (i := (i_cv 1 201 1 22)) rfl rfl
theorem eX2_name_22 {ev : xV} {v0 v1 v2 : Option Value} {a : Nat} {st : List Value} {h : xH} : exF ev cX2_name 22 ([v0, v1, v2], []) (.ref a :: st) h = xO (xckc h [5] a) (fun _ => some (.inr a, h)) := exF_t (i := (i_throw [5])) rfl rfl
theorem eX2_name_23 {ev : xV} {v0 v1 v2 : Option Value} {st : List Value} {h : xH} : exF ev cX2_name 23 ([v0, v1, v2], []) st h = exF ev cX2_name 26 ([v0, v1, v2], []) (.ref h.2.1 :: st) (xnew h (.inr (23, zJ14)) 4) := exF_j (i := (i_new 23 4 zJ14 26)) rfl rfl
theorem eX2_name_26 {ev : xV} {v0 v1 v2 : Option Value} {x : Nat} {st : List Value} {h : xH} : exF ev cX2_name 26 ([v0, v1, v2], []) (.ref x :: st) h = exF ev cX2_name 27 ([v0, v1, v2], []) (.ref x :: .ref x :: st) h := exF_j (i := (i_dup 27)) rfl rfl
theorem eX2_name_27 {ev : xV} {v0 v1 v2 : Option Value} {st : List Value} {h : xH} : exF ev cX2_name 27 ([v0, v1, v2], []) st h = exF ev cX2_name 29 ([v0, v1, v2], []) (.int (nI 8) :: st) h := exF_j (i := (i_const (.int (nI 8)) 29)) rfl rfl
theorem eX2_name_29 {ev : xV} {v0 v1 v2 : Option Value} {a0 : Value} {r0 : Value} {a : Nat} {h : xH} : exF ev cX2_name 29 ([v0, v1, v2], []) [a0, .ref a, r0] h = xO (xckc h [23] a) (fun _ => xBv (ev 16 [.ref a, a0] h) (fun h => exF ev cX2_name 32 ([v0, v1, v2], []) [r0] h)) := exF_cdv (i := (i_ci [23] 16 1 32)) rfl rfl
theorem eX2_name_32 {ev : xV} {v0 v1 v2 : Option Value} {x : Nat} {st : List Value} {h : xH} : exF ev cX2_name 32 ([v0, v1, v2], []) (.ref x :: st) h = exF ev cX2_name 33 ([v0, some (.ref x), v2], []) st h := exF_j (i := (i_astore 1 33)) rfl rfl
theorem eX2_name_32n {ev : xV} {v0 v1 v2 : Option Value} {st : List Value} {h : xH} : exF ev cX2_name 32 ([v0, v1, v2], []) (.null :: st) h = exF ev cX2_name 33 ([v0, some .null, v2], []) st h := exF_j (i := (i_astore 1 33)) rfl rfl
theorem eX2_name_33 {ev : xV} {v1 v2 : Option Value} {x : Nat} {st : List Value} {h : xH} : exF ev cX2_name 33 ([some (.ref x), v1, v2], []) st h = exF ev cX2_name 34 ([some (.ref x), v1, v2], []) (.ref x :: st) h := exF_j (i := (i_aload 0 34)) rfl rfl
theorem eX2_name_34 {ev : xV} {v0 v1 v2 : Option Value} {a : Nat} {st : List Value} {h : xH} : exF ev cX2_name 34 ([v0, v1, v2], []) (.ref a :: st) h = xO (xgf h a 1 4) (fun v => exF ev cX2_name 37 ([v0, v1, v2], []) (v :: st) h) := exF_o (i := (i_getf 1 4 37)) rfl rfl
theorem eX2_name_37 {ev : xV} {v0 v1 v2 : Option Value} {x : Int32} {st : List Value} {h : xH} : exF ev cX2_name 37 ([v0, v1, v2], []) (.int x :: st) h = exF ev cX2_name 38 ([v0, v1, some (.int x)], []) st h := exF_j (i := (i_istore 2 38)) rfl rfl
theorem eX2_name_38 {ev : xV} {v0 v1 : Option Value} {x : Int32} {st : List Value} {h : xH} : exF ev cX2_name 38 ([v0, v1, some (.int x)], []) st h = exF ev cX2_name 39 ([v0, v1, some (.int x)], []) (.int x :: st) h := exF_j (i := (i_iload 2 39)) rfl rfl
theorem eX2_name_39 {ev : xV} {v1 v2 : Option Value} {x : Nat} {st : List Value} {h : xH} : exF ev cX2_name 39 ([some (.ref x), v1, v2], []) st h = exF ev cX2_name 40 ([some (.ref x), v1, v2], []) (.ref x :: st) h := exF_j (i := (i_aload 0 40)) rfl rfl
theorem eX2_name_40 {ev : xV} {v0 v1 v2 : Option Value} {a : Nat} {st : List Value} {h : xH} : exF ev cX2_name 40 ([v0, v1, v2], []) (.ref a :: st) h = xO (xgf h a 1 2) (fun v => exF ev cX2_name 43 ([v0, v1, v2], []) (v :: st) h) := exF_o (i := (i_getf 1 2 43)) rfl rfl
theorem eX2_name_43 {ev : xV} {v0 v1 v2 : Option Value} {x y : Int32} {st : List Value} {h : xH} : exF ev cX2_name 43 ([v0, v1, v2], []) (.int y :: .int x :: st) h = if y ≤ x then exF ev cX2_name 64 ([v0, v1, v2], []) st h else exF ev cX2_name 46 ([v0, v1, v2], []) st h := exF_b (i := (i_if2 (fun x y => y ≤ x) 64 46)) rfl rfl
theorem eX2_name_46 {ev : xV} {v0 v2 : Option Value} {x : Nat} {st : List Value} {h : xH} : exF ev cX2_name 46 ([v0, some (.ref x), v2], []) st h = exF ev cX2_name 47 ([v0, some (.ref x), v2], []) (.ref x :: st) h := exF_j (i := (i_aload 1 47)) rfl rfl
theorem eX2_name_46n {ev : xV} {v0 v2 : Option Value} {st : List Value} {h : xH} : exF ev cX2_name 46 ([v0, some .null, v2], []) st h = exF ev cX2_name 47 ([v0, some .null, v2], []) (.null :: st) h := exF_j (i := (i_aload 1 47)) rfl rfl
theorem eX2_name_47 {ev : xV} {v1 v2 : Option Value} {x : Nat} {st : List Value} {h : xH} : exF ev cX2_name 47 ([some (.ref x), v1, v2], []) st h = exF ev cX2_name 48 ([some (.ref x), v1, v2], []) (.ref x :: st) h := exF_j (i := (i_aload 0 48)) rfl rfl
theorem eX2_name_48 {ev : xV} {v0 v1 v2 : Option Value} {a : Nat} {st : List Value} {h : xH} : exF ev cX2_name 48 ([v0, v1, v2], []) (.ref a :: st) h = xO (xgf h a 1 0) (fun v => exF ev cX2_name 51 ([v0, v1, v2], []) (v :: st) h) := exF_o (i := (i_getf 1 0 51)) rfl rfl
theorem eX2_name_51 {ev : xV} {v0 v1 : Option Value} {x : Int32} {st : List Value} {h : xH} : exF ev cX2_name 51 ([v0, v1, some (.int x)], []) st h = exF ev cX2_name 52 ([v0, v1, some (.int x)], []) (.int x :: st) h := exF_j (i := (i_iload 2 52)) rfl rfl
theorem eX2_name_52 {ev : xV} {v0 v1 v2 : Option Value} {i : Int32} {a : Nat} {st : List Value} {h : xH} : exF ev cX2_name 52 ([v0, v1, v2], []) (.int i :: .ref a :: st) h = xO (xai h 1 a i) (fun v => exF ev cX2_name 53 ([v0, v1, v2], []) (.int v :: st) h) := exF_o (i := (i_ai 1 53)) rfl rfl
theorem eX2_name_53 {ev : xV} {v0 v1 v2 : Option Value} {x : Int32} {st : List Value} {h : xH} : exF ev cX2_name 53 ([v0, v1, v2], []) (.int x :: st) h = exF ev cX2_name 54 ([v0, v1, v2], []) (.int ((x.toUInt32 % 65536).toInt32) :: st) h := exF_j (i := (i_i1 (fun x => (x.toUInt32 % 65536).toInt32) 54)) rfl rfl
theorem eX2_name_54 {ev : xV} {v0 v1 v2 : Option Value} {a0 : Value} {a : Nat} {h : xH} : exF ev cX2_name 54 ([v0, v1, v2], []) [a0, .ref a] h = xO (xck h a 23) (fun _ => xB (ev 17 [.ref a, a0] h) (fun v h => exF ev cX2_name 57 ([v0, v1, v2], []) [v] h)) := exF_cd (i := (i_cv 23 17 1 57)) rfl rfl
theorem eX2_name_57 {ev : xV} {v0 v1 v2 : Option Value} {x : Nat} {st : List Value} {h : xH} : exF ev cX2_name 57 ([v0, v1, v2], []) (.ref x :: st) h = exF ev cX2_name 58 ([v0, v1, v2], []) st h := exF_j (i := (i_pop 58)) rfl rfl
theorem eX2_name_58 {ev : xV} {v0 v1 : Option Value} {x : Int32} {st : List Value} {h : xH} : exF ev cX2_name 58 ([v0, v1, some (.int x)], []) st h = exF ev cX2_name 61 ([v0, v1, some (.int (x + (nI 1)))], []) st h := exF_j (i := (i_iinc 2 (nI 1) 61)) rfl rfl
theorem eX2_name_61 {ev : xV} {v0 v1 v2 : Option Value} {st : List Value} {h : xH} : exF ev cX2_name 61 ([v0, v1, v2], []) st h = exF ev cX2_name 38 ([v0, v1, v2], []) st h := exF_j (i := (i_goto 38)) rfl rfl
theorem eX2_name_64 {ev : xV} {v0 v2 : Option Value} {x : Nat} {st : List Value} {h : xH} : exF ev cX2_name 64 ([v0, some (.ref x), v2], []) st h = exF ev cX2_name 65 ([v0, some (.ref x), v2], []) (.ref x :: st) h := exF_j (i := (i_aload 1 65)) rfl rfl
theorem eX2_name_64n {ev : xV} {v0 v2 : Option Value} {st : List Value} {h : xH} : exF ev cX2_name 64 ([v0, some .null, v2], []) st h = exF ev cX2_name 65 ([v0, some .null, v2], []) (.null :: st) h := exF_j (i := (i_aload 1 65)) rfl rfl
theorem eX2_name_65 {ev : xV} {v0 v1 v2 : Option Value} {a : Nat} {h : xH} : exF ev cX2_name 65 ([v0, v1, v2], []) [.ref a] h = xO (xck h a 23) (fun _ => xB (ev 18 [.ref a] h) (fun v h => exF ev cX2_name 68 ([v0, v1, v2], []) [v] h)) := exF_cd (i := (i_cv 23 18 0 68)) rfl rfl
theorem eX2_name_68 {ev : xV} {v0 v1 v2 : Option Value} {x : Nat} {h : xH} : exF ev cX2_name 68 ([v0, v1, v2], []) [.ref x] h = some (.inl (some (.ref x)), h) := exF_r (i := (i_aret)) rfl rfl
theorem eX2_name_68n {ev : xV} {v0 v1 v2 : Option Value} {h : xH} : exF ev cX2_name 68 ([v0, v1, v2], []) [.null] h = some (.inl (some .null), h) := exF_r (i := (i_aret)) rfl rfl
noncomputable def cX2_door : xC := [(0, i_aload 0 1),
  (1, i_aload 0 2),
  (2, i_getf 1 7 5),
  (5, i_getf 2 0 8),
  (8, i_cv 1 207 1 11),
  (11, i_istore 1 12),
  (12, i_aload 0 13),
  (13, i_aload 0 14),
  (14, i_getf 1 7 17),
  (17, i_getf 2 0 20),
  (20, i_cv 1 208 1 23),
  (23, i_istore 2 24),
  (24, i_iload 1 25),
  (25, i_iload 2 26),
  (26, i_if2 (fun x y => x = y) 41 29),
  (29, i_aload 0 30),
  (30, i_getf 1 7 33),
  (33, i_iload 1 34),
  (34, i_iload 2 35),
  (35, i_cv 2 234 2 38),
  (38, i_if1 (fun x => x = 0) 47 41),
  (41, i_aload 0 42),
  (42, i_const (.int (nI 3)) 43),
  (43, i_cv 1 201 1 46),
  (46, i_throw [5]),
  (47, i_aload 0 48),
  (48, i_cvv 1 195 0 51),
  (51, i_new 6 4 zX7 54),
  (54, i_dup 55),
  (55, i_iload 1 56),
  (56, i_iload 2 57),
  (57, i_ci [6] 368 2 60),
  (60, i_astore 3 61),
  (61, i_aload 0 62),
  (62, i_const (.ref 8) 64),
  (64, i_cv 1 209 1 67),
  (67, i_istore 4 69),
  (69, i_aload 3 70),
  (70, i_iload 4 72),
  (72, i_if1 (fun x => ¬ x = 0) 85 75),
  (75, i_new 7 0 zX9 78),
  (78, i_dup 79),
  (79, i_ci [7] 371 0 82),
  (82, i_goto 124),
  (85, i_iload 4 87),
  (87, i_const (.int (nI 1)) 88),
  (88, i_if2 (fun x y => ¬ x = y) 101 91),
  (91, i_new 8 0 zX10 94),
  (94, i_dup 95),
  (95, i_ci [8] 166 0 98),
  (98, i_goto 124),
  (101, i_iload 4 103),
  (103, i_const (.int (nI 2)) 104),
  (104, i_if2 (fun x y => ¬ x = y) 117 107),
  (107, i_new 9 0 zX11 110),
  (110, i_dup 111),
  (111, i_ci [9] 171 0 114),
  (114, i_goto 124),
  (117, i_new 10 0 zX12 120),
  (120, i_dup 121),
  (121, i_ci [10] 176 0 124),
  (124, i_putfr 6 2 127),
  (127, i_aload 3 128),
  (128, i_aload 0 129),
  (129, i_const (.ref 10) 131),
  (131, i_const (.int (nI 0)) 132),
  (132, i_const (.int (nI 12)) 134),
  (134, i_cv 1 210 3 137),
  (137, i_putfi 6 3 140),
  (140, i_aload 3 141),
  (141, i_aret)]
theorem eX2_door_0 {ev : xV} {v1 v2 v3 v4 : Option Value} {x : Nat} {st : List Value} {h : xH} : exF ev cX2_door 0 ([some (.ref x), v1, v2, v3, v4], []) st h = exF ev cX2_door 1 ([some (.ref x), v1, v2, v3, v4], []) (.ref x :: st) h := exF_j (i := (i_aload 0 1)) rfl rfl
theorem eX2_door_1 {ev : xV} {v1 v2 v3 v4 : Option Value} {x : Nat} {st : List Value} {h : xH} : exF ev cX2_door 1 ([some (.ref x), v1, v2, v3, v4], []) st h = exF ev cX2_door 2 ([some (.ref x), v1, v2, v3, v4], []) (.ref x :: st) h := exF_j (i := (i_aload 0 2)) rfl rfl
theorem eX2_door_2 {ev : xV} {v0 v1 v2 v3 v4 : Option Value} {a : Nat} {st : List Value} {h : xH} : exF ev cX2_door 2 ([v0, v1, v2, v3, v4], []) (.ref a :: st) h = xO (xgf h a 1 7) (fun v => exF ev cX2_door 5 ([v0, v1, v2, v3, v4], []) (v :: st) h) := exF_o (i := (i_getf 1 7 5)) rfl rfl
theorem eX2_door_5 {ev : xV} {v0 v1 v2 v3 v4 : Option Value} {a : Nat} {st : List Value} {h : xH} : exF ev cX2_door 5 ([v0, v1, v2, v3, v4], []) (.ref a :: st) h = xO (xgf h a 2 0) (fun v => exF ev cX2_door 8 ([v0, v1, v2, v3, v4], []) (v :: st) h) := exF_o (i := (i_getf 2 0 8)) rfl rfl
theorem eX2_door_8 {ev : xV} {v0 v1 v2 v3 v4 : Option Value} {a0 : Value} {a : Nat} {h : xH} : exF ev cX2_door 8 ([v0, v1, v2, v3, v4], []) [a0, .ref a] h = xO (xck h a 1) (fun _ => xB (ev 207 [.ref a, a0] h) (fun v h => exF ev cX2_door 11 ([v0, v1, v2, v3, v4], []) [v] h)) := exF_cd (i := (i_cv 1 207 1 11)) rfl rfl
theorem eX2_door_11 {ev : xV} {v0 v1 v2 v3 v4 : Option Value} {x : Int32} {st : List Value} {h : xH} : exF ev cX2_door 11 ([v0, v1, v2, v3, v4], []) (.int x :: st) h = exF ev cX2_door 12 ([v0, some (.int x), v2, v3, v4], []) st h := exF_j (i := (i_istore 1 12)) rfl rfl
theorem eX2_door_12 {ev : xV} {v1 v2 v3 v4 : Option Value} {x : Nat} {st : List Value} {h : xH} : exF ev cX2_door 12 ([some (.ref x), v1, v2, v3, v4], []) st h = exF ev cX2_door 13 ([some (.ref x), v1, v2, v3, v4], []) (.ref x :: st) h := exF_j (i := (i_aload 0 13)) rfl rfl
theorem eX2_door_13 {ev : xV} {v1 v2 v3 v4 : Option Value} {x : Nat} {st : List Value} {h : xH} : exF ev cX2_door 13 ([some (.ref x), v1, v2, v3, v4], []) st h = exF ev cX2_door 14 ([some (.ref x), v1, v2, v3, v4], []) (.ref x :: st) h := exF_j (i := (i_aload 0 14)) rfl rfl
theorem eX2_door_14 {ev : xV} {v0 v1 v2 v3 v4 : Option Value} {a : Nat} {st : List Value} {h : xH} : exF ev cX2_door 14 ([v0, v1, v2, v3, v4], []) (.ref a :: st) h = xO (xgf h a 1 7) (fun v => exF ev cX2_door 17 ([v0, v1, v2, v3, v4], []) (v :: st) h) := exF_o (i := (i_getf 1 7 17)) rfl rfl
theorem eX2_door_17 {ev : xV} {v0 v1 v2 v3 v4 : Option Value} {a : Nat} {st : List Value} {h : xH} : exF ev cX2_door 17 ([v0, v1, v2, v3, v4], []) (.ref a :: st) h = xO (xgf h a 2 0) (fun v => exF ev cX2_door 20 ([v0, v1, v2, v3, v4], []) (v :: st) h) := exF_o (i := (i_getf 2 0 20)) rfl rfl
theorem eX2_door_20 {ev : xV} {v0 v1 v2 v3 v4 : Option Value} {a0 : Value} {a : Nat} {h : xH} : exF ev cX2_door 20 ([v0, v1, v2, v3, v4], []) [a0, .ref a] h = xO (xck h a 1) (fun _ => xB (ev 208 [.ref a, a0] h) (fun v h => exF ev cX2_door 23 ([v0, v1, v2, v3, v4], []) [v] h)) := exF_cd (i := (i_cv 1 208 1 23)) rfl rfl
theorem eX2_door_23 {ev : xV} {v0 v1 v2 v3 v4 : Option Value} {x : Int32} {st : List Value} {h : xH} : exF ev cX2_door 23 ([v0, v1, v2, v3, v4], []) (.int x :: st) h = exF ev cX2_door 24 ([v0, v1, some (.int x), v3, v4], []) st h := exF_j (i := (i_istore 2 24)) rfl rfl
theorem eX2_door_24 {ev : xV} {v0 v2 v3 v4 : Option Value} {x : Int32} {st : List Value} {h : xH} : exF ev cX2_door 24 ([v0, some (.int x), v2, v3, v4], []) st h = exF ev cX2_door 25 ([v0, some (.int x), v2, v3, v4], []) (.int x :: st) h := exF_j (i := (i_iload 1 25)) rfl rfl
theorem eX2_door_25 {ev : xV} {v0 v1 v3 v4 : Option Value} {x : Int32} {st : List Value} {h : xH} : exF ev cX2_door 25 ([v0, v1, some (.int x), v3, v4], []) st h = exF ev cX2_door 26 ([v0, v1, some (.int x), v3, v4], []) (.int x :: st) h := exF_j (i := (i_iload 2 26)) rfl rfl
theorem eX2_door_26 {ev : xV} {v0 v1 v2 v3 v4 : Option Value} {x y : Int32} {st : List Value} {h : xH} : exF ev cX2_door 26 ([v0, v1, v2, v3, v4], []) (.int y :: .int x :: st) h = if x = y then exF ev cX2_door 41 ([v0, v1, v2, v3, v4], []) st h else exF ev cX2_door 29 ([v0, v1, v2, v3, v4], []) st h := exF_b (i := (i_if2 (fun x y => x = y) 41 29)) rfl rfl
theorem eX2_door_29 {ev : xV} {v1 v2 v3 v4 : Option Value} {x : Nat} {st : List Value} {h : xH} : exF ev cX2_door 29 ([some (.ref x), v1, v2, v3, v4], []) st h = exF ev cX2_door 30 ([some (.ref x), v1, v2, v3, v4], []) (.ref x :: st) h := exF_j (i := (i_aload 0 30)) rfl rfl
theorem eX2_door_30 {ev : xV} {v0 v1 v2 v3 v4 : Option Value} {a : Nat} {st : List Value} {h : xH} : exF ev cX2_door 30 ([v0, v1, v2, v3, v4], []) (.ref a :: st) h = xO (xgf h a 1 7) (fun v => exF ev cX2_door 33 ([v0, v1, v2, v3, v4], []) (v :: st) h) := exF_o (i := (i_getf 1 7 33)) rfl rfl
theorem eX2_door_33 {ev : xV} {v0 v2 v3 v4 : Option Value} {x : Int32} {st : List Value} {h : xH} : exF ev cX2_door 33 ([v0, some (.int x), v2, v3, v4], []) st h = exF ev cX2_door 34 ([v0, some (.int x), v2, v3, v4], []) (.int x :: st) h := exF_j (i := (i_iload 1 34)) rfl rfl
theorem eX2_door_34 {ev : xV} {v0 v1 v3 v4 : Option Value} {x : Int32} {st : List Value} {h : xH} : exF ev cX2_door 34 ([v0, v1, some (.int x), v3, v4], []) st h = exF ev cX2_door 35 ([v0, v1, some (.int x), v3, v4], []) (.int x :: st) h := exF_j (i := (i_iload 2 35)) rfl rfl
theorem eX2_door_35 {ev : xV} {v0 v1 v2 v3 v4 : Option Value} {a0 : Value} {a1 : Value} {a : Nat} {h : xH} : exF ev cX2_door 35 ([v0, v1, v2, v3, v4], []) [a1, a0, .ref a] h = xO (xck h a 2) (fun _ => xB (ev 234 [.ref a, a0, a1] h) (fun v h => exF ev cX2_door 38 ([v0, v1, v2, v3, v4], []) [v] h)) := exF_cd (i := (i_cv 2 234 2 38)) rfl rfl
theorem eX2_door_38 {ev : xV} {v0 v1 v2 v3 v4 : Option Value} {x : Int32} {st : List Value} {h : xH} : exF ev cX2_door 38 ([v0, v1, v2, v3, v4], []) (.int x :: st) h = if x = 0 then exF ev cX2_door 47 ([v0, v1, v2, v3, v4], []) st h else exF ev cX2_door 41 ([v0, v1, v2, v3, v4], []) st h := exF_b (i := (i_if1 (fun x => x = 0) 47 41)) rfl rfl
theorem eX2_door_41 {ev : xV} {v1 v2 v3 v4 : Option Value} {x : Nat} {st : List Value} {h : xH} : exF ev cX2_door 41 ([some (.ref x), v1, v2, v3, v4], []) st h = exF ev cX2_door 42 ([some (.ref x), v1, v2, v3, v4], []) (.ref x :: st) h := exF_j (i := (i_aload 0 42)) rfl rfl
theorem eX2_door_42 {ev : xV} {v0 v1 v2 v3 v4 : Option Value} {st : List Value} {h : xH} : exF ev cX2_door 42 ([v0, v1, v2, v3, v4], []) st h = exF ev cX2_door 43 ([v0, v1, v2, v3, v4], []) (.int (nI 3) :: st) h := exF_j (i := (i_const (.int (nI 3)) 43)) rfl rfl
theorem eX2_door_43 {ev : xV} {v0 v1 v2 v3 v4 : Option Value} {a0 : Value} {a : Nat} {h : xH} : exF ev cX2_door 43 ([v0, v1, v2, v3, v4], []) [a0, .ref a] h = xO (xck h a 1) (fun _ => xB (ev 201 [.ref a, a0] h) (fun v h => exF ev cX2_door 46 ([v0, v1, v2, v3, v4], []) [v] h)) := exF_cd (i := (i_cv 1 201 1 46)) rfl rfl
theorem eX2_door_46 {ev : xV} {v0 v1 v2 v3 v4 : Option Value} {a : Nat} {st : List Value} {h : xH} : exF ev cX2_door 46 ([v0, v1, v2, v3, v4], []) (.ref a :: st) h = xO (xckc h [5] a) (fun _ => some (.inr a, h)) := exF_t (i := (i_throw [5])) rfl rfl
theorem eX2_door_47 {ev : xV} {v1 v2 v3 v4 : Option Value} {x : Nat} {st : List Value} {h : xH} : exF ev cX2_door 47 ([some (.ref x), v1, v2, v3, v4], []) st h = exF ev cX2_door 48 ([some (.ref x), v1, v2, v3, v4], []) (.ref x :: st) h := exF_j (i := (i_aload 0 48)) rfl rfl
theorem eX2_door_48 {ev : xV} {v0 v1 v2 v3 v4 : Option Value} {a : Nat} {h : xH} : exF ev cX2_door 48 ([v0, v1, v2, v3, v4], []) [.ref a] h = xO (xck h a 1) (fun _ => xBv (ev 195 [.ref a] h) (fun h => exF ev cX2_door 51 ([v0, v1, v2, v3, v4], []) [] h)) := exF_cdv (i := (i_cvv 1 195 0 51)) rfl rfl
theorem eX2_door_51 {ev : xV} {v0 v1 v2 v3 v4 : Option Value} {st : List Value} {h : xH} : exF ev cX2_door 51 ([v0, v1, v2, v3, v4], []) st h = exF ev cX2_door 54 ([v0, v1, v2, v3, v4], []) (.ref h.2.1 :: st) (xnew h (.inr (6, zX7)) 4) := exF_j (i := (i_new 6 4 zX7 54)) rfl rfl
theorem eX2_door_54 {ev : xV} {v0 v1 v2 v3 v4 : Option Value} {x : Nat} {st : List Value} {h : xH} : exF ev cX2_door 54 ([v0, v1, v2, v3, v4], []) (.ref x :: st) h = exF ev cX2_door 55 ([v0, v1, v2, v3, v4], []) (.ref x :: .ref x :: st) h := exF_j (i := (i_dup 55)) rfl rfl
theorem eX2_door_55 {ev : xV} {v0 v2 v3 v4 : Option Value} {x : Int32} {st : List Value} {h : xH} : exF ev cX2_door 55 ([v0, some (.int x), v2, v3, v4], []) st h = exF ev cX2_door 56 ([v0, some (.int x), v2, v3, v4], []) (.int x :: st) h := exF_j (i := (i_iload 1 56)) rfl rfl
theorem eX2_door_56 {ev : xV} {v0 v1 v3 v4 : Option Value} {x : Int32} {st : List Value} {h : xH} : exF ev cX2_door 56 ([v0, v1, some (.int x), v3, v4], []) st h = exF ev cX2_door 57 ([v0, v1, some (.int x), v3, v4], []) (.int x :: st) h := exF_j (i := (i_iload 2 57)) rfl rfl
theorem eX2_door_57 {ev : xV} {v0 v1 v2 v3 v4 : Option Value} {a0 : Value} {a1 : Value} {r0 : Value} {a : Nat} {h : xH} : exF ev cX2_door 57 ([v0, v1, v2, v3, v4], []) [a1, a0, .ref a, r0] h = xO (xckc h [6] a) (fun _ => xBv (ev 368 [.ref a, a0, a1] h) (fun h => exF ev cX2_door 60 ([v0, v1, v2, v3, v4], []) [r0] h)) := exF_cdv (i := (i_ci [6] 368 2 60)) rfl rfl
theorem eX2_door_60 {ev : xV} {v0 v1 v2 v3 v4 : Option Value} {x : Nat} {st : List Value} {h : xH} : exF ev cX2_door 60 ([v0, v1, v2, v3, v4], []) (.ref x :: st) h = exF ev cX2_door 61 ([v0, v1, v2, some (.ref x), v4], []) st h := exF_j (i := (i_astore 3 61)) rfl rfl
theorem eX2_door_60n {ev : xV} {v0 v1 v2 v3 v4 : Option Value} {st : List Value} {h : xH} : exF ev cX2_door 60 ([v0, v1, v2, v3, v4], []) (.null :: st) h = exF ev cX2_door 61 ([v0, v1, v2, some .null, v4], []) st h := exF_j (i := (i_astore 3 61)) rfl rfl
theorem eX2_door_61 {ev : xV} {v1 v2 v3 v4 : Option Value} {x : Nat} {st : List Value} {h : xH} : exF ev cX2_door 61 ([some (.ref x), v1, v2, v3, v4], []) st h = exF ev cX2_door 62 ([some (.ref x), v1, v2, v3, v4], []) (.ref x :: st) h := exF_j (i := (i_aload 0 62)) rfl rfl
theorem eX2_door_62 {ev : xV} {v0 v1 v2 v3 v4 : Option Value} {st : List Value} {h : xH} : exF ev cX2_door 62 ([v0, v1, v2, v3, v4], []) st h = exF ev cX2_door 64 ([v0, v1, v2, v3, v4], []) (.ref 8 :: st) h := exF_j (i := (i_const (.ref 8) 64)) rfl rfl
theorem eX2_door_64 {ev : xV} {v0 v1 v2 v3 v4 : Option Value} {a0 : Value} {a : Nat} {h : xH} : exF ev cX2_door 64 ([v0, v1, v2, v3, v4], []) [a0, .ref a] h = xO (xck h a 1) (fun _ => xB (ev 209 [.ref a, a0] h) (fun v h => exF ev cX2_door 67 ([v0, v1, v2, v3, v4], []) [v] h)) := exF_cd (i := (i_cv 1 209 1 67)) rfl rfl
theorem eX2_door_67 {ev : xV} {v0 v1 v2 v3 v4 : Option Value} {x : Int32} {st : List Value} {h : xH} : exF ev cX2_door 67 ([v0, v1, v2, v3, v4], []) (.int x :: st) h = exF ev cX2_door 69 ([v0, v1, v2, v3, some (.int x)], []) st h := exF_j (i := (i_istore 4 69)) rfl rfl
theorem eX2_door_69 {ev : xV} {v0 v1 v2 v4 : Option Value} {x : Nat} {st : List Value} {h : xH} : exF ev cX2_door 69 ([v0, v1, v2, some (.ref x), v4], []) st h = exF ev cX2_door 70 ([v0, v1, v2, some (.ref x), v4], []) (.ref x :: st) h := exF_j (i := (i_aload 3 70)) rfl rfl
theorem eX2_door_69n {ev : xV} {v0 v1 v2 v4 : Option Value} {st : List Value} {h : xH} : exF ev cX2_door 69 ([v0, v1, v2, some .null, v4], []) st h = exF ev cX2_door 70 ([v0, v1, v2, some .null, v4], []) (.null :: st) h := exF_j (i := (i_aload 3 70)) rfl rfl
theorem eX2_door_70 {ev : xV} {v0 v1 v2 v3 : Option Value} {x : Int32} {st : List Value} {h : xH} : exF ev cX2_door 70 ([v0, v1, v2, v3, some (.int x)], []) st h = exF ev cX2_door 72 ([v0, v1, v2, v3, some (.int x)], []) (.int x :: st) h := exF_j (i := (i_iload 4 72)) rfl rfl
theorem eX2_door_72 {ev : xV} {v0 v1 v2 v3 v4 : Option Value} {x : Int32} {st : List Value} {h : xH} : exF ev cX2_door 72 ([v0, v1, v2, v3, v4], []) (.int x :: st) h = if ¬ x = 0 then exF ev cX2_door 85 ([v0, v1, v2, v3, v4], []) st h else exF ev cX2_door 75 ([v0, v1, v2, v3, v4], []) st h := exF_b (i := (i_if1 (fun x => ¬ x = 0) 85 75)) rfl rfl
theorem eX2_door_75 {ev : xV} {v0 v1 v2 v3 v4 : Option Value} {st : List Value} {h : xH} : exF ev cX2_door 75 ([v0, v1, v2, v3, v4], []) st h = exF ev cX2_door 78 ([v0, v1, v2, v3, v4], []) (.ref h.2.1 :: st) (xnew h (.inr (7, zX9)) 0) := exF_j (i := (i_new 7 0 zX9 78)) rfl rfl
theorem eX2_door_78 {ev : xV} {v0 v1 v2 v3 v4 : Option Value} {x : Nat} {st : List Value} {h : xH} : exF ev cX2_door 78 ([v0, v1, v2, v3, v4], []) (.ref x :: st) h = exF ev cX2_door 79 ([v0, v1, v2, v3, v4], []) (.ref x :: .ref x :: st) h := exF_j (i := (i_dup 79)) rfl rfl
theorem eX2_door_79 {ev : xV} {v0 v1 v2 v3 v4 : Option Value} {r0 : Value} {r1 : Value} {a : Nat} {h : xH} : exF ev cX2_door 79 ([v0, v1, v2, v3, v4], []) [.ref a, r0, r1] h = xO (xckc h [7] a) (fun _ => xBv (ev 371 [.ref a] h) (fun h => exF ev cX2_door 82 ([v0, v1, v2, v3, v4], []) [r0, r1] h)) := exF_cdv (i := (i_ci [7] 371 0 82)) rfl rfl
theorem eX2_door_82 {ev : xV} {v0 v1 v2 v3 v4 : Option Value} {st : List Value} {h : xH} : exF ev cX2_door 82 ([v0, v1, v2, v3, v4], []) st h = exF ev cX2_door 124 ([v0, v1, v2, v3, v4], []) st h := exF_j (i := (i_goto 124)) rfl rfl
theorem eX2_door_85 {ev : xV} {v0 v1 v2 v3 : Option Value} {x : Int32} {st : List Value} {h : xH} : exF ev cX2_door 85 ([v0, v1, v2, v3, some (.int x)], []) st h = exF ev cX2_door 87 ([v0, v1, v2, v3, some (.int x)], []) (.int x :: st) h := exF_j (i := (i_iload 4 87)) rfl rfl
theorem eX2_door_87 {ev : xV} {v0 v1 v2 v3 v4 : Option Value} {st : List Value} {h : xH} : exF ev cX2_door 87 ([v0, v1, v2, v3, v4], []) st h = exF ev cX2_door 88 ([v0, v1, v2, v3, v4], []) (.int (nI 1) :: st) h := exF_j (i := (i_const (.int (nI 1)) 88)) rfl rfl
theorem eX2_door_88 {ev : xV} {v0 v1 v2 v3 v4 : Option Value} {x y : Int32} {st : List Value} {h : xH} : exF ev cX2_door 88 ([v0, v1, v2, v3, v4], []) (.int y :: .int x :: st) h = if ¬ x = y then exF ev cX2_door 101 ([v0, v1, v2, v3, v4], []) st h else exF ev cX2_door 91 ([v0, v1, v2, v3, v4], []) st h := exF_b (i := (i_if2 (fun x y => ¬ x = y) 101 91)) rfl rfl
theorem eX2_door_91 {ev : xV} {v0 v1 v2 v3 v4 : Option Value} {st : List Value} {h : xH} : exF ev cX2_door 91 ([v0, v1, v2, v3, v4], []) st h = exF ev cX2_door 94 ([v0, v1, v2, v3, v4], []) (.ref h.2.1 :: st) (xnew h (.inr (8, zX10)) 0) := exF_j (i := (i_new 8 0 zX10 94)) rfl rfl
theorem eX2_door_94 {ev : xV} {v0 v1 v2 v3 v4 : Option Value} {x : Nat} {st : List Value} {h : xH} : exF ev cX2_door 94 ([v0, v1, v2, v3, v4], []) (.ref x :: st) h = exF ev cX2_door 95 ([v0, v1, v2, v3, v4], []) (.ref x :: .ref x :: st) h := exF_j (i := (i_dup 95)) rfl rfl
theorem eX2_door_95 {ev : xV} {v0 v1 v2 v3 v4 : Option Value} {r0 : Value} {r1 : Value} {a : Nat} {h : xH} : exF ev cX2_door 95 ([v0, v1, v2, v3, v4], []) [.ref a, r0, r1] h = xO (xckc h [8] a) (fun _ => xBv (ev 166 [.ref a] h) (fun h => exF ev cX2_door 98 ([v0, v1, v2, v3, v4], []) [r0, r1] h)) := exF_cdv (i := (i_ci [8] 166 0 98)) rfl rfl
theorem eX2_door_98 {ev : xV} {v0 v1 v2 v3 v4 : Option Value} {st : List Value} {h : xH} : exF ev cX2_door 98 ([v0, v1, v2, v3, v4], []) st h = exF ev cX2_door 124 ([v0, v1, v2, v3, v4], []) st h := exF_j (i := (i_goto 124)) rfl rfl
theorem eX2_door_101 {ev : xV} {v0 v1 v2 v3 : Option Value} {x : Int32} {st : List Value} {h : xH} : exF ev cX2_door 101 ([v0, v1, v2, v3, some (.int x)], []) st h = exF ev cX2_door 103 ([v0, v1, v2, v3, some (.int x)], []) (.int x :: st) h := exF_j (i := (i_iload 4 103)) rfl rfl
theorem eX2_door_103 {ev : xV} {v0 v1 v2 v3 v4 : Option Value} {st : List Value} {h : xH} : exF ev cX2_door 103 ([v0, v1, v2, v3, v4], []) st h = exF ev cX2_door 104 ([v0, v1, v2, v3, v4], []) (.int (nI 2) :: st) h := exF_j (i := (i_const (.int (nI 2)) 104)) rfl rfl
theorem eX2_door_104 {ev : xV} {v0 v1 v2 v3 v4 : Option Value} {x y : Int32} {st : List Value} {h : xH} : exF ev cX2_door 104 ([v0, v1, v2, v3, v4], []) (.int y :: .int x :: st) h = if ¬ x = y then exF ev cX2_door 117 ([v0, v1, v2, v3, v4], []) st h else exF ev cX2_door 107 ([v0, v1, v2, v3, v4], []) st h := exF_b (i := (i_if2 (fun x y => ¬ x = y) 117 107)) rfl rfl
theorem eX2_door_107 {ev : xV} {v0 v1 v2 v3 v4 : Option Value} {st : List Value} {h : xH} : exF ev cX2_door 107 ([v0, v1, v2, v3, v4], []) st h = exF ev cX2_door 110 ([v0, v1, v2, v3, v4], []) (.ref h.2.1 :: st) (xnew h (.inr (9, zX11)) 0) := exF_j (i := (i_new 9 0 zX11 110)) rfl rfl
theorem eX2_door_110 {ev : xV} {v0 v1 v2 v3 v4 : Option Value} {x : Nat} {st : List Value} {h : xH} : exF ev cX2_door 110 ([v0, v1, v2, v3, v4], []) (.ref x :: st) h = exF ev cX2_door 111 ([v0, v1, v2, v3, v4], []) (.ref x :: .ref x :: st) h := exF_j (i := (i_dup 111)) rfl rfl
theorem eX2_door_111 {ev : xV} {v0 v1 v2 v3 v4 : Option Value} {r0 : Value} {r1 : Value} {a : Nat} {h : xH} : exF ev cX2_door 111 ([v0, v1, v2, v3, v4], []) [.ref a, r0, r1] h = xO (xckc h [9] a) (fun _ => xBv (ev 171 [.ref a] h) (fun h => exF ev cX2_door 114 ([v0, v1, v2, v3, v4], []) [r0, r1] h)) := exF_cdv (i := (i_ci [9] 171 0 114)) rfl rfl
theorem eX2_door_114 {ev : xV} {v0 v1 v2 v3 v4 : Option Value} {st : List Value} {h : xH} : exF ev cX2_door 114 ([v0, v1, v2, v3, v4], []) st h = exF ev cX2_door 124 ([v0, v1, v2, v3, v4], []) st h := exF_j (i := (i_goto 124)) rfl rfl
theorem eX2_door_117 {ev : xV} {v0 v1 v2 v3 v4 : Option Value} {st : List Value} {h : xH} : exF ev cX2_door 117 ([v0, v1, v2, v3, v4], []) st h = exF ev cX2_door 120 ([v0, v1, v2, v3, v4], []) (.ref h.2.1 :: st) (xnew h (.inr (10, zX12)) 0) := exF_j (i := (i_new 10 0 zX12 120)) rfl rfl
theorem eX2_door_120 {ev : xV} {v0 v1 v2 v3 v4 : Option Value} {x : Nat} {st : List Value} {h : xH} : exF ev cX2_door 120 ([v0, v1, v2, v3, v4], []) (.ref x :: st) h = exF ev cX2_door 121 ([v0, v1, v2, v3, v4], []) (.ref x :: .ref x :: st) h := exF_j (i := (i_dup 121)) rfl rfl
theorem eX2_door_121 {ev : xV} {v0 v1 v2 v3 v4 : Option Value} {r0 : Value} {r1 : Value} {a : Nat} {h : xH} : exF ev cX2_door 121 ([v0, v1, v2, v3, v4], []) [.ref a, r0, r1] h = xO (xckc h [10] a) (fun _ => xBv (ev 176 [.ref a] h) (fun h => exF ev cX2_door 124 ([v0, v1, v2, v3, v4], []) [r0, r1] h)) := exF_cdv (i := (i_ci [10] 176 0 124)) rfl rfl
theorem eX2_door_124 {ev : xV} {v0 v1 v2 v3 v4 : Option Value} {x a : Nat} {st : List Value} {h : xH} : exF ev cX2_door 124 ([v0, v1, v2, v3, v4], []) (.ref x :: .ref a :: st) h = xO (xpf h a 6 2 (.ref x)) (fun h => exF ev cX2_door 127 ([v0, v1, v2, v3, v4], []) st h) := exF_o (i := (i_putfr 6 2 127)) rfl rfl
theorem eX2_door_124n {ev : xV} {v0 v1 v2 v3 v4 : Option Value} {a : Nat} {st : List Value} {h : xH} : exF ev cX2_door 124 ([v0, v1, v2, v3, v4], []) (.null :: .ref a :: st) h = xO (xpf h a 6 2 .null) (fun h => exF ev cX2_door 127 ([v0, v1, v2, v3, v4], []) st h) := exF_o (i := (i_putfr 6 2 127)) rfl rfl
theorem eX2_door_127 {ev : xV} {v0 v1 v2 v4 : Option Value} {x : Nat} {st : List Value} {h : xH} : exF ev cX2_door 127 ([v0, v1, v2, some (.ref x), v4], []) st h = exF ev cX2_door 128 ([v0, v1, v2, some (.ref x), v4], []) (.ref x :: st) h := exF_j (i := (i_aload 3 128)) rfl rfl
theorem eX2_door_127n {ev : xV} {v0 v1 v2 v4 : Option Value} {st : List Value} {h : xH} : exF ev cX2_door 127 ([v0, v1, v2, some .null, v4], []) st h = exF ev cX2_door 128 ([v0, v1, v2, some .null, v4], []) (.null :: st) h := exF_j (i := (i_aload 3 128)) rfl rfl
theorem eX2_door_128 {ev : xV} {v1 v2 v3 v4 : Option Value} {x : Nat} {st : List Value} {h : xH} : exF ev cX2_door 128 ([some (.ref x), v1, v2, v3, v4], []) st h = exF ev cX2_door 129 ([some (.ref x), v1, v2, v3, v4], []) (.ref x :: st) h := exF_j (i := (i_aload 0 129)) rfl rfl
theorem eX2_door_129 {ev : xV} {v0 v1 v2 v3 v4 : Option Value} {st : List Value} {h : xH} : exF ev cX2_door 129 ([v0, v1, v2, v3, v4], []) st h = exF ev cX2_door 131 ([v0, v1, v2, v3, v4], []) (.ref 10 :: st) h := exF_j (i := (i_const (.ref 10) 131)) rfl rfl
theorem eX2_door_131 {ev : xV} {v0 v1 v2 v3 v4 : Option Value} {st : List Value} {h : xH} : exF ev cX2_door 131 ([v0, v1, v2, v3, v4], []) st h = exF ev cX2_door 132 ([v0, v1, v2, v3, v4], []) (.int (nI 0) :: st) h := exF_j (i := (i_const (.int (nI 0)) 132)) rfl rfl
theorem eX2_door_132 {ev : xV} {v0 v1 v2 v3 v4 : Option Value} {st : List Value} {h : xH} : exF ev cX2_door 132 ([v0, v1, v2, v3, v4], []) st h = exF ev cX2_door 134 ([v0, v1, v2, v3, v4], []) (.int (nI 12) :: st) h := exF_j (i := (i_const (.int (nI 12)) 134)) rfl rfl
theorem eX2_door_134 {ev : xV} {v0 v1 v2 v3 v4 : Option Value} {a0 : Value} {a1 : Value} {a2 : Value} {r0 : Value} {a : Nat} {h : xH} : exF ev cX2_door 134 ([v0, v1, v2, v3, v4], []) [a2, a1, a0, .ref a, r0] h = xO (xck h a 1) (fun _ => xB (ev 210 [.ref a, a0, a1, a2] h) (fun v h => exF ev cX2_door 137 ([v0, v1, v2, v3, v4], []) [v, r0] h)) := exF_cd (i := (i_cv 1 210 3 137)) rfl rfl
theorem eX2_door_137 {ev : xV} {v0 v1 v2 v3 v4 : Option Value} {x : Int32} {a : Nat} {st : List Value} {h : xH} : exF ev cX2_door 137 ([v0, v1, v2, v3, v4], []) (.int x :: .ref a :: st) h = xO (xpf h a 6 3 (.int x)) (fun h => exF ev cX2_door 140 ([v0, v1, v2, v3, v4], []) st h) := exF_o (i := (i_putfi 6 3 140)) rfl rfl
theorem eX2_door_140 {ev : xV} {v0 v1 v2 v4 : Option Value} {x : Nat} {st : List Value} {h : xH} : exF ev cX2_door 140 ([v0, v1, v2, some (.ref x), v4], []) st h = exF ev cX2_door 141 ([v0, v1, v2, some (.ref x), v4], []) (.ref x :: st) h := exF_j (i := (i_aload 3 141)) rfl rfl
theorem eX2_door_140n {ev : xV} {v0 v1 v2 v4 : Option Value} {st : List Value} {h : xH} : exF ev cX2_door 140 ([v0, v1, v2, some .null, v4], []) st h = exF ev cX2_door 141 ([v0, v1, v2, some .null, v4], []) (.null :: st) h := exF_j (i := (i_aload 3 141)) rfl rfl
theorem eX2_door_141 {ev : xV} {v0 v1 v2 v3 v4 : Option Value} {x : Nat} {h : xH} : exF ev cX2_door 141 ([v0, v1, v2, v3, v4], []) [.ref x] h = some (.inl (some (.ref x)), h) := exF_r (i := (i_aret)) rfl rfl
theorem eX2_door_141n {ev : xV} {v0 v1 v2 v3 v4 : Option Value} {h : xH} : exF ev cX2_door 141 ([v0, v1, v2, v3, v4], []) [.null] h = some (.inl (some .null), h) := exF_r (i := (i_aret)) rfl rfl
noncomputable def cX2_passed : xC := [(0, i_aload 0 1),
  (1, i_aload 1 2),
  (2, i_cv 1 208 1 5),
  (5, i_istore 2 6),
  (6, i_aload 0 7),
  (7, i_cvv 1 195 0 10),
  (10, i_iload 2 11),
  (11, i_iret)]
theorem eX2_passed_0 {ev : xV} {v1 v2 : Option Value} {x : Nat} {st : List Value} {h : xH} : exF ev cX2_passed 0 ([some (.ref x), v1, v2], []) st h = exF ev cX2_passed 1 ([some (.ref x), v1, v2], []) (.ref x :: st) h := exF_j (i := (i_aload 0 1)) rfl rfl
theorem eX2_passed_1 {ev : xV} {v0 v2 : Option Value} {x : Nat} {st : List Value} {h : xH} : exF ev cX2_passed 1 ([v0, some (.ref x), v2], []) st h = exF ev cX2_passed 2 ([v0, some (.ref x), v2], []) (.ref x :: st) h := exF_j (i := (i_aload 1 2)) rfl rfl
theorem eX2_passed_1n {ev : xV} {v0 v2 : Option Value} {st : List Value} {h : xH} : exF ev cX2_passed 1 ([v0, some .null, v2], []) st h = exF ev cX2_passed 2 ([v0, some .null, v2], []) (.null :: st) h := exF_j (i := (i_aload 1 2)) rfl rfl
theorem eX2_passed_2 {ev : xV} {v0 v1 v2 : Option Value} {a0 : Value} {a : Nat} {h : xH} : exF ev cX2_passed 2 ([v0, v1, v2], []) [a0, .ref a] h = xO (xck h a 1) (fun _ => xB (ev 208 [.ref a, a0] h) (fun v h => exF ev cX2_passed 5 ([v0, v1, v2], []) [v] h)) := exF_cd (i := (i_cv 1 208 1 5)) rfl rfl
theorem eX2_passed_5 {ev : xV} {v0 v1 v2 : Option Value} {x : Int32} {st : List Value} {h : xH} : exF ev cX2_passed 5 ([v0, v1, v2], []) (.int x :: st) h = exF ev cX2_passed 6 ([v0, v1, some (.int x)], []) st h := exF_j (i := (i_istore 2 6)) rfl rfl
theorem eX2_passed_6 {ev : xV} {v1 v2 : Option Value} {x : Nat} {st : List Value} {h : xH} : exF ev cX2_passed 6 ([some (.ref x), v1, v2], []) st h = exF ev cX2_passed 7 ([some (.ref x), v1, v2], []) (.ref x :: st) h := exF_j (i := (i_aload 0 7)) rfl rfl
theorem eX2_passed_7 {ev : xV} {v0 v1 v2 : Option Value} {a : Nat} {h : xH} : exF ev cX2_passed 7 ([v0, v1, v2], []) [.ref a] h = xO (xck h a 1) (fun _ => xBv (ev 195 [.ref a] h) (fun h => exF ev cX2_passed 10 ([v0, v1, v2], []) [] h)) := exF_cdv (i := (i_cvv 1 195 0 10)) rfl rfl
theorem eX2_passed_10 {ev : xV} {v0 v1 : Option Value} {x : Int32} {st : List Value} {h : xH} : exF ev cX2_passed 10 ([v0, v1, some (.int x)], []) st h = exF ev cX2_passed 11 ([v0, v1, some (.int x)], []) (.int x :: st) h := exF_j (i := (i_iload 2 11)) rfl rfl
theorem eX2_passed_11 {ev : xV} {v0 v1 v2 : Option Value} {x : Int32} {h : xH} : exF ev cX2_passed 11 ([v0, v1, v2], []) [.int x] h = some (.inl (some (.int x)), h) := exF_r (i := (i_iret)) rfl rfl
noncomputable def cX2_told : xC := [(0, i_aload 1 1),
  (1, i_aload 0 2),
  (2, i_cv 1 205 0 5),
  (5, i_cs 233 2 8),
  (8, i_istore 2 9),
  (9, i_iload 2 10),
  (10, i_if1 (fun x => 0 ≤ x) 19 13),
  (13, i_aload 0 14),
  (14, i_const (.int (nI 2)) 15),
  (15, i_cv 1 201 1 18),
  (18, i_throw [5]),
  (19, i_iload 2 20),
  (20, i_iret)]
theorem eX2_told_0 {ev : xV} {v0 v2 : Option Value} {x : Nat} {st : List Value} {h : xH} : exF ev cX2_told 0 ([v0, some (.ref x), v2], []) st h = exF ev cX2_told 1 ([v0, some (.ref x), v2], []) (.ref x :: st) h := exF_j (i := (i_aload 1 1)) rfl rfl
theorem eX2_told_0n {ev : xV} {v0 v2 : Option Value} {st : List Value} {h : xH} : exF ev cX2_told 0 ([v0, some .null, v2], []) st h = exF ev cX2_told 1 ([v0, some .null, v2], []) (.null :: st) h := exF_j (i := (i_aload 1 1)) rfl rfl
theorem eX2_told_1 {ev : xV} {v1 v2 : Option Value} {x : Nat} {st : List Value} {h : xH} : exF ev cX2_told 1 ([some (.ref x), v1, v2], []) st h = exF ev cX2_told 2 ([some (.ref x), v1, v2], []) (.ref x :: st) h := exF_j (i := (i_aload 0 2)) rfl rfl
theorem eX2_told_2 {ev : xV} {v0 v1 v2 : Option Value} {r0 : Value} {a : Nat} {h : xH} : exF ev cX2_told 2 ([v0, v1, v2], []) [.ref a, r0] h = xO (xck h a 1) (fun _ => xB (ev 205 [.ref a] h) (fun v h => exF ev cX2_told 5 ([v0, v1, v2], []) [v, r0] h)) := exF_cd (i := (i_cv 1 205 0 5)) rfl rfl
theorem eX2_told_5 {ev : xV} {v0 v1 v2 : Option Value} {a0 : Value} {a1 : Value} {h : xH} : exF ev cX2_told 5 ([v0, v1, v2], []) [a1, a0] h = xB (ev 233 [a0, a1] h) (fun v h => exF ev cX2_told 8 ([v0, v1, v2], []) [v] h) := exF_c (i := (i_cs 233 2 8)) rfl rfl
theorem eX2_told_8 {ev : xV} {v0 v1 v2 : Option Value} {x : Int32} {st : List Value} {h : xH} : exF ev cX2_told 8 ([v0, v1, v2], []) (.int x :: st) h = exF ev cX2_told 9 ([v0, v1, some (.int x)], []) st h := exF_j (i := (i_istore 2 9)) rfl rfl
theorem eX2_told_9 {ev : xV} {v0 v1 : Option Value} {x : Int32} {st : List Value} {h : xH} : exF ev cX2_told 9 ([v0, v1, some (.int x)], []) st h = exF ev cX2_told 10 ([v0, v1, some (.int x)], []) (.int x :: st) h := exF_j (i := (i_iload 2 10)) rfl rfl
theorem eX2_told_10 {ev : xV} {v0 v1 v2 : Option Value} {x : Int32} {st : List Value} {h : xH} : exF ev cX2_told 10 ([v0, v1, v2], []) (.int x :: st) h = if 0 ≤ x then exF ev cX2_told 19 ([v0, v1, v2], []) st h else exF ev cX2_told 13 ([v0, v1, v2], []) st h := exF_b (i := (i_if1 (fun x => 0 ≤ x) 19 13)) rfl rfl
theorem eX2_told_13 {ev : xV} {v1 v2 : Option Value} {x : Nat} {st : List Value} {h : xH} : exF ev cX2_told 13 ([some (.ref x), v1, v2], []) st h = exF ev cX2_told 14 ([some (.ref x), v1, v2], []) (.ref x :: st) h := exF_j (i := (i_aload 0 14)) rfl rfl
theorem eX2_told_14 {ev : xV} {v0 v1 v2 : Option Value} {st : List Value} {h : xH} : exF ev cX2_told 14 ([v0, v1, v2], []) st h = exF ev cX2_told 15 ([v0, v1, v2], []) (.int (nI 2) :: st) h := exF_j (i := (i_const (.int (nI 2)) 15)) rfl rfl
theorem eX2_told_15 {ev : xV} {v0 v1 v2 : Option Value} {a0 : Value} {a : Nat} {h : xH} : exF ev cX2_told 15 ([v0, v1, v2], []) [a0, .ref a] h = xO (xck h a 1) (fun _ => xB (ev 201 [.ref a, a0] h) (fun v h => exF ev cX2_told 18 ([v0, v1, v2], []) [v] h)) := exF_cd (i := (i_cv 1 201 1 18)) rfl rfl
theorem eX2_told_18 {ev : xV} {v0 v1 v2 : Option Value} {a : Nat} {st : List Value} {h : xH} : exF ev cX2_told 18 ([v0, v1, v2], []) (.ref a :: st) h = xO (xckc h [5] a) (fun _ => some (.inr a, h)) := exF_t (i := (i_throw [5])) rfl rfl
theorem eX2_told_19 {ev : xV} {v0 v1 : Option Value} {x : Int32} {st : List Value} {h : xH} : exF ev cX2_told 19 ([v0, v1, some (.int x)], []) st h = exF ev cX2_told 20 ([v0, v1, some (.int x)], []) (.int x :: st) h := exF_j (i := (i_iload 2 20)) rfl rfl
theorem eX2_told_20 {ev : xV} {v0 v1 v2 : Option Value} {x : Int32} {h : xH} : exF ev cX2_told 20 ([v0, v1, v2], []) [.int x] h = some (.inl (some (.int x)), h) := exF_r (i := (i_iret)) rfl rfl
noncomputable def cX2_one : xC := [(0, i_aload 0 1),
  (1, i_aload 1 2),
  (2, i_cv 1 200 1 5),
  (5, i_istore 2 6),
  (6, i_iload 2 7),
  (7, i_if1 (fun x => 0 ≤ x) 16 10),
  (10, i_aload 0 11),
  (11, i_const (.int (nI 1)) 12),
  (12, i_cv 1 201 1 15),
  (15, i_throw [5]),
  (16, i_aload 0 17),
  (17, i_cvv 1 195 0 20),
  (20, i_iload 2 21),
  (21, i_iret)]
theorem eX2_one_0 {ev : xV} {v1 v2 : Option Value} {x : Nat} {st : List Value} {h : xH} : exF ev cX2_one 0 ([some (.ref x), v1, v2], []) st h = exF ev cX2_one 1 ([some (.ref x), v1, v2], []) (.ref x :: st) h := exF_j (i := (i_aload 0 1)) rfl rfl
theorem eX2_one_1 {ev : xV} {v0 v2 : Option Value} {x : Nat} {st : List Value} {h : xH} : exF ev cX2_one 1 ([v0, some (.ref x), v2], []) st h = exF ev cX2_one 2 ([v0, some (.ref x), v2], []) (.ref x :: st) h := exF_j (i := (i_aload 1 2)) rfl rfl
theorem eX2_one_1n {ev : xV} {v0 v2 : Option Value} {st : List Value} {h : xH} : exF ev cX2_one 1 ([v0, some .null, v2], []) st h = exF ev cX2_one 2 ([v0, some .null, v2], []) (.null :: st) h := exF_j (i := (i_aload 1 2)) rfl rfl
theorem eX2_one_2 {ev : xV} {v0 v1 v2 : Option Value} {a0 : Value} {a : Nat} {h : xH} : exF ev cX2_one 2 ([v0, v1, v2], []) [a0, .ref a] h = xO (xck h a 1) (fun _ => xB (ev 200 [.ref a, a0] h) (fun v h => exF ev cX2_one 5 ([v0, v1, v2], []) [v] h)) := exF_cd (i := (i_cv 1 200 1 5)) rfl rfl
theorem eX2_one_5 {ev : xV} {v0 v1 v2 : Option Value} {x : Int32} {st : List Value} {h : xH} : exF ev cX2_one 5 ([v0, v1, v2], []) (.int x :: st) h = exF ev cX2_one 6 ([v0, v1, some (.int x)], []) st h := exF_j (i := (i_istore 2 6)) rfl rfl
theorem eX2_one_6 {ev : xV} {v0 v1 : Option Value} {x : Int32} {st : List Value} {h : xH} : exF ev cX2_one 6 ([v0, v1, some (.int x)], []) st h = exF ev cX2_one 7 ([v0, v1, some (.int x)], []) (.int x :: st) h := exF_j (i := (i_iload 2 7)) rfl rfl
theorem eX2_one_7 {ev : xV} {v0 v1 v2 : Option Value} {x : Int32} {st : List Value} {h : xH} : exF ev cX2_one 7 ([v0, v1, v2], []) (.int x :: st) h = if 0 ≤ x then exF ev cX2_one 16 ([v0, v1, v2], []) st h else exF ev cX2_one 10 ([v0, v1, v2], []) st h := exF_b (i := (i_if1 (fun x => 0 ≤ x) 16 10)) rfl rfl
theorem eX2_one_10 {ev : xV} {v1 v2 : Option Value} {x : Nat} {st : List Value} {h : xH} : exF ev cX2_one 10 ([some (.ref x), v1, v2], []) st h = exF ev cX2_one 11 ([some (.ref x), v1, v2], []) (.ref x :: st) h := exF_j (i := (i_aload 0 11)) rfl rfl
theorem eX2_one_11 {ev : xV} {v0 v1 v2 : Option Value} {st : List Value} {h : xH} : exF ev cX2_one 11 ([v0, v1, v2], []) st h = exF ev cX2_one 12 ([v0, v1, v2], []) (.int (nI 1) :: st) h := exF_j (i := (i_const (.int (nI 1)) 12)) rfl rfl
theorem eX2_one_12 {ev : xV} {v0 v1 v2 : Option Value} {a0 : Value} {a : Nat} {h : xH} : exF ev cX2_one 12 ([v0, v1, v2], []) [a0, .ref a] h = xO (xck h a 1) (fun _ => xB (ev 201 [.ref a, a0] h) (fun v h => exF ev cX2_one 15 ([v0, v1, v2], []) [v] h)) := exF_cd (i := (i_cv 1 201 1 15)) rfl rfl
theorem eX2_one_15 {ev : xV} {v0 v1 v2 : Option Value} {a : Nat} {st : List Value} {h : xH} : exF ev cX2_one 15 ([v0, v1, v2], []) (.ref a :: st) h = xO (xckc h [5] a) (fun _ => some (.inr a, h)) := exF_t (i := (i_throw [5])) rfl rfl
theorem eX2_one_16 {ev : xV} {v1 v2 : Option Value} {x : Nat} {st : List Value} {h : xH} : exF ev cX2_one 16 ([some (.ref x), v1, v2], []) st h = exF ev cX2_one 17 ([some (.ref x), v1, v2], []) (.ref x :: st) h := exF_j (i := (i_aload 0 17)) rfl rfl
theorem eX2_one_17 {ev : xV} {v0 v1 v2 : Option Value} {a : Nat} {h : xH} : exF ev cX2_one 17 ([v0, v1, v2], []) [.ref a] h = xO (xck h a 1) (fun _ => xBv (ev 195 [.ref a] h) (fun h => exF ev cX2_one 20 ([v0, v1, v2], []) [] h)) := exF_cdv (i := (i_cvv 1 195 0 20)) rfl rfl
theorem eX2_one_20 {ev : xV} {v0 v1 : Option Value} {x : Int32} {st : List Value} {h : xH} : exF ev cX2_one 20 ([v0, v1, some (.int x)], []) st h = exF ev cX2_one 21 ([v0, v1, some (.int x)], []) (.int x :: st) h := exF_j (i := (i_iload 2 21)) rfl rfl
theorem eX2_one_21 {ev : xV} {v0 v1 v2 : Option Value} {x : Int32} {h : xH} : exF ev cX2_one 21 ([v0, v1, v2], []) [.int x] h = some (.inl (some (.int x)), h) := exF_r (i := (i_iret)) rfl rfl
noncomputable def cX2_number : xC := [(0, i_aload 0 1),
  (1, i_aload 1 2),
  (2, i_cvv 1 211 1 5),
  (5, i_aload 0 6),
  (6, i_iload 2 7),
  (7, i_iload 3 8),
  (8, i_cv 1 212 2 11),
  (11, i_iret)]
theorem eX2_number_0 {ev : xV} {v1 v2 v3 : Option Value} {x : Nat} {st : List Value} {h : xH} : exF ev cX2_number 0 ([some (.ref x), v1, v2, v3], []) st h = exF ev cX2_number 1 ([some (.ref x), v1, v2, v3], []) (.ref x :: st) h := exF_j (i := (i_aload 0 1)) rfl rfl
theorem eX2_number_1 {ev : xV} {v0 v2 v3 : Option Value} {x : Nat} {st : List Value} {h : xH} : exF ev cX2_number 1 ([v0, some (.ref x), v2, v3], []) st h = exF ev cX2_number 2 ([v0, some (.ref x), v2, v3], []) (.ref x :: st) h := exF_j (i := (i_aload 1 2)) rfl rfl
theorem eX2_number_1n {ev : xV} {v0 v2 v3 : Option Value} {st : List Value} {h : xH} : exF ev cX2_number 1 ([v0, some .null, v2, v3], []) st h = exF ev cX2_number 2 ([v0, some .null, v2, v3], []) (.null :: st) h := exF_j (i := (i_aload 1 2)) rfl rfl
theorem eX2_number_2 {ev : xV} {v0 v1 v2 v3 : Option Value} {a0 : Value} {a : Nat} {h : xH} : exF ev cX2_number 2 ([v0, v1, v2, v3], []) [a0, .ref a] h = xO (xck h a 1) (fun _ => xBv (ev 211 [.ref a, a0] h) (fun h => exF ev cX2_number 5 ([v0, v1, v2, v3], []) [] h)) := exF_cdv (i := (i_cvv 1 211 1 5)) rfl rfl
theorem eX2_number_5 {ev : xV} {v1 v2 v3 : Option Value} {x : Nat} {st : List Value} {h : xH} : exF ev cX2_number 5 ([some (.ref x), v1, v2, v3], []) st h = exF ev cX2_number 6 ([some (.ref x), v1, v2, v3], []) (.ref x :: st) h := exF_j (i := (i_aload 0 6)) rfl rfl
theorem eX2_number_6 {ev : xV} {v0 v1 v3 : Option Value} {x : Int32} {st : List Value} {h : xH} : exF ev cX2_number 6 ([v0, v1, some (.int x), v3], []) st h = exF ev cX2_number 7 ([v0, v1, some (.int x), v3], []) (.int x :: st) h := exF_j (i := (i_iload 2 7)) rfl rfl
theorem eX2_number_7 {ev : xV} {v0 v1 v2 : Option Value} {x : Int32} {st : List Value} {h : xH} : exF ev cX2_number 7 ([v0, v1, v2, some (.int x)], []) st h = exF ev cX2_number 8 ([v0, v1, v2, some (.int x)], []) (.int x :: st) h := exF_j (i := (i_iload 3 8)) rfl rfl
theorem eX2_number_8 {ev : xV} {v0 v1 v2 v3 : Option Value} {a0 : Value} {a1 : Value} {a : Nat} {h : xH} : exF ev cX2_number 8 ([v0, v1, v2, v3], []) [a1, a0, .ref a] h = xO (xck h a 1) (fun _ => xB (ev 212 [.ref a, a0, a1] h) (fun v h => exF ev cX2_number 11 ([v0, v1, v2, v3], []) [v] h)) := exF_cd (i := (i_cv 1 212 2 11)) rfl rfl
theorem eX2_number_11 {ev : xV} {v0 v1 v2 v3 : Option Value} {x : Int32} {h : xH} : exF ev cX2_number 11 ([v0, v1, v2, v3], []) [.int x] h = some (.inl (some (.int x)), h) := exF_r (i := (i_iret)) rfl rfl
noncomputable def cX2_need : xC := [(0, i_aload 0 1),
  (1, i_aload 1 2),
  (2, i_cv 1 200 1 5),
  (5, i_if1 (fun x => 0 ≤ x) 14 8),
  (8, i_aload 0 9),
  (9, i_const (.int (nI 1)) 10),
  (10, i_cv 1 201 1 13),
  (13, i_throw [5]),
  (14, i_aload 0 15),
  (15, i_cvv 1 195 0 18),
  (18, i_vret)]
theorem eX2_need_0 {ev : xV} {v1 : Option Value} {x : Nat} {st : List Value} {h : xH} : exF ev cX2_need 0 ([some (.ref x), v1], []) st h = exF ev cX2_need 1 ([some (.ref x), v1], []) (.ref x :: st) h := exF_j (i := (i_aload 0 1)) rfl rfl
theorem eX2_need_1 {ev : xV} {v0 : Option Value} {x : Nat} {st : List Value} {h : xH} : exF ev cX2_need 1 ([v0, some (.ref x)], []) st h = exF ev cX2_need 2 ([v0, some (.ref x)], []) (.ref x :: st) h := exF_j (i := (i_aload 1 2)) rfl rfl
theorem eX2_need_1n {ev : xV} {v0 : Option Value} {st : List Value} {h : xH} : exF ev cX2_need 1 ([v0, some .null], []) st h = exF ev cX2_need 2 ([v0, some .null], []) (.null :: st) h := exF_j (i := (i_aload 1 2)) rfl rfl
theorem eX2_need_2 {ev : xV} {v0 v1 : Option Value} {a0 : Value} {a : Nat} {h : xH} : exF ev cX2_need 2 ([v0, v1], []) [a0, .ref a] h = xO (xck h a 1) (fun _ => xB (ev 200 [.ref a, a0] h) (fun v h => exF ev cX2_need 5 ([v0, v1], []) [v] h)) := exF_cd (i := (i_cv 1 200 1 5)) rfl rfl
theorem eX2_need_5 {ev : xV} {v0 v1 : Option Value} {x : Int32} {st : List Value} {h : xH} : exF ev cX2_need 5 ([v0, v1], []) (.int x :: st) h = if 0 ≤ x then exF ev cX2_need 14 ([v0, v1], []) st h else exF ev cX2_need 8 ([v0, v1], []) st h := exF_b (i := (i_if1 (fun x => 0 ≤ x) 14 8)) rfl rfl
theorem eX2_need_8 {ev : xV} {v1 : Option Value} {x : Nat} {st : List Value} {h : xH} : exF ev cX2_need 8 ([some (.ref x), v1], []) st h = exF ev cX2_need 9 ([some (.ref x), v1], []) (.ref x :: st) h := exF_j (i := (i_aload 0 9)) rfl rfl
theorem eX2_need_9 {ev : xV} {v0 v1 : Option Value} {st : List Value} {h : xH} : exF ev cX2_need 9 ([v0, v1], []) st h = exF ev cX2_need 10 ([v0, v1], []) (.int (nI 1) :: st) h := exF_j (i := (i_const (.int (nI 1)) 10)) rfl rfl
theorem eX2_need_10 {ev : xV} {v0 v1 : Option Value} {a0 : Value} {a : Nat} {h : xH} : exF ev cX2_need 10 ([v0, v1], []) [a0, .ref a] h = xO (xck h a 1) (fun _ => xB (ev 201 [.ref a, a0] h) (fun v h => exF ev cX2_need 13 ([v0, v1], []) [v] h)) := exF_cd (i := (i_cv 1 201 1 13)) rfl rfl
theorem eX2_need_13 {ev : xV} {v0 v1 : Option Value} {a : Nat} {st : List Value} {h : xH} : exF ev cX2_need 13 ([v0, v1], []) (.ref a :: st) h = xO (xckc h [5] a) (fun _ => some (.inr a, h)) := exF_t (i := (i_throw [5])) rfl rfl
theorem eX2_need_14 {ev : xV} {v1 : Option Value} {x : Nat} {st : List Value} {h : xH} : exF ev cX2_need 14 ([some (.ref x), v1], []) st h = exF ev cX2_need 15 ([some (.ref x), v1], []) (.ref x :: st) h := exF_j (i := (i_aload 0 15)) rfl rfl
theorem eX2_need_15 {ev : xV} {v0 v1 : Option Value} {a : Nat} {h : xH} : exF ev cX2_need 15 ([v0, v1], []) [.ref a] h = xO (xck h a 1) (fun _ => xBv (ev 195 [.ref a] h) (fun h => exF ev cX2_need 18 ([v0, v1], []) [] h)) := exF_cdv (i := (i_cvv 1 195 0 18)) rfl rfl
theorem eX2_need_18 {ev : xV} {v0 v1 : Option Value} {h : xH} : exF ev cX2_need 18 ([v0, v1], []) [] h = some (.inl none, h) := exF_r (i := (i_vret)) rfl rfl
noncomputable def cX2_number_2 : xC := [(0, i_aload 0 1),
  (1, i_getf 1 3 4),
  (4, i_const (.int (nI 2)) 5),
  (5, i_if2 (fun x y => x = y) 14 8),
  (8, i_aload 0 9),
  (9, i_const (.int (nI 1)) 10),
  (10, i_cv 1 201 1 13),
  (13, i_throw [5]),
  (14, i_aload 0 15),
  (15, i_getf 1 5 18),
  (18, i_iload 1 19),
  (19, i_if2 (fun x y => x < y) 30 22),
  (22, i_aload 0 23),
  (23, i_getf 1 5 26),
  (26, i_iload 2 27),
  (27, i_if2 (fun x y => x ≤ y) 36 30),
  (30, i_aload 0 31),
  (31, i_const (.int (nI 4)) 32),
  (32, i_cv 1 201 1 35),
  (35, i_throw [5]),
  (36, i_aload 0 37),
  (37, i_getf 1 5 40),
  (40, i_istore 3 41),
  (41, i_aload 0 42),
  (42, i_cvv 1 195 0 45),
  (45, i_iload 3 46),
  (46, i_iret)]
theorem eX2_number_2_0 {ev : xV} {v1 v2 v3 : Option Value} {x : Nat} {st : List Value} {h : xH} : exF ev cX2_number_2 0 ([some (.ref x), v1, v2, v3], []) st h = exF ev cX2_number_2 1 ([some (.ref x), v1, v2, v3], []) (.ref x :: st) h := exF_j (i := (i_aload 0 1)) rfl rfl
theorem eX2_number_2_1 {ev : xV} {v0 v1 v2 v3 : Option Value} {a : Nat} {st : List Value} {h : xH} : exF ev cX2_number_2 1 ([v0, v1, v2, v3], []) (.ref a :: st) h = xO (xgf h a 1 3) (fun v => exF ev cX2_number_2 4 ([v0, v1, v2, v3], []) (v :: st) h) := exF_o (i := (i_getf 1 3 4)) rfl rfl
theorem eX2_number_2_4 {ev : xV} {v0 v1 v2 v3 : Option Value} {st : List Value} {h : xH} : exF ev cX2_number_2 4 ([v0, v1, v2, v3], []) st h = exF ev cX2_number_2 5 ([v0, v1, v2, v3], []) (.int (nI 2) :: st) h := exF_j (i := (i_const (.int (nI 2)) 5)) rfl rfl
theorem eX2_number_2_5 {ev : xV} {v0 v1 v2 v3 : Option Value} {x y : Int32} {st : List Value} {h : xH} : exF ev cX2_number_2 5 ([v0, v1, v2, v3], []) (.int y :: .int x :: st) h = if x = y then exF ev cX2_number_2 14 ([v0, v1, v2, v3], []) st h else exF ev cX2_number_2 8 ([v0, v1, v2, v3], []) st h := exF_b (i := (i_if2 (fun x y => x = y) 14 8)) rfl rfl
theorem eX2_number_2_8 {ev : xV} {v1 v2 v3 : Option Value} {x : Nat} {st : List Value} {h : xH} : exF ev cX2_number_2 8 ([some (.ref x), v1, v2, v3], []) st h = exF ev cX2_number_2 9 ([some (.ref x), v1, v2, v3], []) (.ref x :: st) h := exF_j (i := (i_aload 0 9)) rfl rfl
theorem eX2_number_2_9 {ev : xV} {v0 v1 v2 v3 : Option Value} {st : List Value} {h : xH} : exF ev cX2_number_2 9 ([v0, v1, v2, v3], []) st h = exF ev cX2_number_2 10 ([v0, v1, v2, v3], []) (.int (nI 1) :: st) h := exF_j (i := (i_const (.int (nI 1)) 10)) rfl rfl
theorem eX2_number_2_10 {ev : xV} {v0 v1 v2 v3 : Option Value} {a0 : Value} {a : Nat} {h : xH} : exF ev cX2_number_2 10 ([v0, v1, v2, v3], []) [a0, .ref a] h = xO (xck h a 1) (fun _ => xB (ev 201 [.ref a, a0] h) (fun v h => exF ev cX2_number_2 13 ([v0, v1, v2, v3], []) [v] h)) := exF_cd (i := (i_cv 1 201 1 13)) rfl rfl
theorem eX2_number_2_13 {ev : xV} {v0 v1 v2 v3 : Option Value} {a : Nat} {st : List Value} {h : xH} : exF ev cX2_number_2 13 ([v0, v1, v2, v3], []) (.ref a :: st) h = xO (xckc h [5] a) (fun _ => some (.inr a, h)) := exF_t (i := (i_throw [5])) rfl rfl
theorem eX2_number_2_14 {ev : xV} {v1 v2 v3 : Option Value} {x : Nat} {st : List Value} {h : xH} : exF ev cX2_number_2 14 ([some (.ref x), v1, v2, v3], []) st h = exF ev cX2_number_2 15 ([some (.ref x), v1, v2, v3], []) (.ref x :: st) h := exF_j (i := (i_aload 0 15)) rfl rfl
theorem eX2_number_2_15 {ev : xV} {v0 v1 v2 v3 : Option Value} {a : Nat} {st : List Value} {h : xH} : exF ev cX2_number_2 15 ([v0, v1, v2, v3], []) (.ref a :: st) h = xO (xgf h a 1 5) (fun v => exF ev cX2_number_2 18 ([v0, v1, v2, v3], []) (v :: st) h) := exF_o (i := (i_getf 1 5 18)) rfl rfl
theorem eX2_number_2_18 {ev : xV} {v0 v2 v3 : Option Value} {x : Int32} {st : List Value} {h : xH} : exF ev cX2_number_2 18 ([v0, some (.int x), v2, v3], []) st h = exF ev cX2_number_2 19 ([v0, some (.int x), v2, v3], []) (.int x :: st) h := exF_j (i := (i_iload 1 19)) rfl rfl
theorem eX2_number_2_19 {ev : xV} {v0 v1 v2 v3 : Option Value} {x y : Int32} {st : List Value} {h : xH} : exF ev cX2_number_2 19 ([v0, v1, v2, v3], []) (.int y :: .int x :: st) h = if x < y then exF ev cX2_number_2 30 ([v0, v1, v2, v3], []) st h else exF ev cX2_number_2 22 ([v0, v1, v2, v3], []) st h := exF_b (i := (i_if2 (fun x y => x < y) 30 22)) rfl rfl
theorem eX2_number_2_22 {ev : xV} {v1 v2 v3 : Option Value} {x : Nat} {st : List Value} {h : xH} : exF ev cX2_number_2 22 ([some (.ref x), v1, v2, v3], []) st h = exF ev cX2_number_2 23 ([some (.ref x), v1, v2, v3], []) (.ref x :: st) h := exF_j (i := (i_aload 0 23)) rfl rfl
theorem eX2_number_2_23 {ev : xV} {v0 v1 v2 v3 : Option Value} {a : Nat} {st : List Value} {h : xH} : exF ev cX2_number_2 23 ([v0, v1, v2, v3], []) (.ref a :: st) h = xO (xgf h a 1 5) (fun v => exF ev cX2_number_2 26 ([v0, v1, v2, v3], []) (v :: st) h) := exF_o (i := (i_getf 1 5 26)) rfl rfl
theorem eX2_number_2_26 {ev : xV} {v0 v1 v3 : Option Value} {x : Int32} {st : List Value} {h : xH} : exF ev cX2_number_2 26 ([v0, v1, some (.int x), v3], []) st h = exF ev cX2_number_2 27 ([v0, v1, some (.int x), v3], []) (.int x :: st) h := exF_j (i := (i_iload 2 27)) rfl rfl
theorem eX2_number_2_27 {ev : xV} {v0 v1 v2 v3 : Option Value} {x y : Int32} {st : List Value} {h : xH} : exF ev cX2_number_2 27 ([v0, v1, v2, v3], []) (.int y :: .int x :: st) h = if x ≤ y then exF ev cX2_number_2 36 ([v0, v1, v2, v3], []) st h else exF ev cX2_number_2 30 ([v0, v1, v2, v3], []) st h := exF_b (i := (i_if2 (fun x y => x ≤ y) 36 30)) rfl rfl
theorem eX2_number_2_30 {ev : xV} {v1 v2 v3 : Option Value} {x : Nat} {st : List Value} {h : xH} : exF ev cX2_number_2 30 ([some (.ref x), v1, v2, v3], []) st h = exF ev cX2_number_2 31 ([some (.ref x), v1, v2, v3], []) (.ref x :: st) h := exF_j (i := (i_aload 0 31)) rfl rfl
theorem eX2_number_2_31 {ev : xV} {v0 v1 v2 v3 : Option Value} {st : List Value} {h : xH} : exF ev cX2_number_2 31 ([v0, v1, v2, v3], []) st h = exF ev cX2_number_2 32 ([v0, v1, v2, v3], []) (.int (nI 4) :: st) h := exF_j (i := (i_const (.int (nI 4)) 32)) rfl rfl
theorem eX2_number_2_32 {ev : xV} {v0 v1 v2 v3 : Option Value} {a0 : Value} {a : Nat} {h : xH} : exF ev cX2_number_2 32 ([v0, v1, v2, v3], []) [a0, .ref a] h = xO (xck h a 1) (fun _ => xB (ev 201 [.ref a, a0] h) (fun v h => exF ev cX2_number_2 35 ([v0, v1, v2, v3], []) [v] h)) := exF_cd (i := (i_cv 1 201 1 35)) rfl rfl
theorem eX2_number_2_35 {ev : xV} {v0 v1 v2 v3 : Option Value} {a : Nat} {st : List Value} {h : xH} : exF ev cX2_number_2 35 ([v0, v1, v2, v3], []) (.ref a :: st) h = xO (xckc h [5] a) (fun _ => some (.inr a, h)) := exF_t (i := (i_throw [5])) rfl rfl
theorem eX2_number_2_36 {ev : xV} {v1 v2 v3 : Option Value} {x : Nat} {st : List Value} {h : xH} : exF ev cX2_number_2 36 ([some (.ref x), v1, v2, v3], []) st h = exF ev cX2_number_2 37 ([some (.ref x), v1, v2, v3], []) (.ref x :: st) h := exF_j (i := (i_aload 0 37)) rfl rfl
theorem eX2_number_2_37 {ev : xV} {v0 v1 v2 v3 : Option Value} {a : Nat} {st : List Value} {h : xH} : exF ev cX2_number_2 37 ([v0, v1, v2, v3], []) (.ref a :: st) h = xO (xgf h a 1 5) (fun v => exF ev cX2_number_2 40 ([v0, v1, v2, v3], []) (v :: st) h) := exF_o (i := (i_getf 1 5 40)) rfl rfl
theorem eX2_number_2_40 {ev : xV} {v0 v1 v2 v3 : Option Value} {x : Int32} {st : List Value} {h : xH} : exF ev cX2_number_2 40 ([v0, v1, v2, v3], []) (.int x :: st) h = exF ev cX2_number_2 41 ([v0, v1, v2, some (.int x)], []) st h := exF_j (i := (i_istore 3 41)) rfl rfl
theorem eX2_number_2_41 {ev : xV} {v1 v2 v3 : Option Value} {x : Nat} {st : List Value} {h : xH} : exF ev cX2_number_2 41 ([some (.ref x), v1, v2, v3], []) st h = exF ev cX2_number_2 42 ([some (.ref x), v1, v2, v3], []) (.ref x :: st) h := exF_j (i := (i_aload 0 42)) rfl rfl
theorem eX2_number_2_42 {ev : xV} {v0 v1 v2 v3 : Option Value} {a : Nat} {h : xH} : exF ev cX2_number_2 42 ([v0, v1, v2, v3], []) [.ref a] h = xO (xck h a 1) (fun _ => xBv (ev 195 [.ref a] h) (fun h => exF ev cX2_number_2 45 ([v0, v1, v2, v3], []) [] h)) := exF_cdv (i := (i_cvv 1 195 0 45)) rfl rfl
theorem eX2_number_2_45 {ev : xV} {v0 v1 v2 : Option Value} {x : Int32} {st : List Value} {h : xH} : exF ev cX2_number_2 45 ([v0, v1, v2, some (.int x)], []) st h = exF ev cX2_number_2 46 ([v0, v1, v2, some (.int x)], []) (.int x :: st) h := exF_j (i := (i_iload 3 46)) rfl rfl
theorem eX2_number_2_46 {ev : xV} {v0 v1 v2 v3 : Option Value} {x : Int32} {h : xH} : exF ev cX2_number_2 46 ([v0, v1, v2, v3], []) [.int x] h = some (.inl (some (.int x)), h) := exF_r (i := (i_iret)) rfl rfl
noncomputable def cX2_ahead : xC := [(0, i_aload 0 1),
  (1, i_getf 1 3 4),
  (4, i_const (.int (nI 2)) 5),
  (5, i_if2 (fun x y => x = y) 14 8),
  (8, i_aload 0 9),
  (9, i_const (.int (nI 1)) 10),
  (10, i_cv 1 201 1 13),
  (13, i_throw [5]),
  (14, i_const (.int (nI 0)) 15),
  (15, i_istore 3 16),
  (16, i_aload 0 17),
  (17, i_getf 1 4 20),
  (20, i_istore 4 22),
  (22, i_iload 4 24),
  (24, i_aload 0 25),
  (25, i_getf 1 2 28),
  (28, i_if2 (fun x y => y ≤ x) 53 31),
  (31, i_iload 3 32),
  (32, i_const (.int (nI 10)) 34),
  (34, i_ii (fun x y => x * y) 35),
  (35, i_aload 0 36),
  (36, i_getf 1 0 39),
  (39, i_iload 4 41),
  (41, i_ai 1 42),
  (42, i_ii (fun x y => x + y) 43),
  (43, i_const (.int (nI 48)) 45),
  (45, i_ii (fun x y => x - y) 46),
  (46, i_istore 3 47),
  (47, i_iinc 4 (nI 1) 50),
  (50, i_goto 22),
  (53, i_iload 3 54),
  (54, i_iload 1 55),
  (55, i_iload 2 56),
  (56, i_cs 92 3 59),
  (59, i_if1 (fun x => ¬ x = 0) 68 62),
  (62, i_aload 0 63),
  (63, i_const (.int (nI 4)) 64),
  (64, i_cv 1 201 1 67),
  (67, i_throw [5]),
  (68, i_iload 3 69),
  (69, i_iret)]
theorem eX2_ahead_0 {ev : xV} {v1 v2 v3 v4 : Option Value} {x : Nat} {st : List Value} {h : xH} : exF ev cX2_ahead 0 ([some (.ref x), v1, v2, v3, v4], []) st h = exF ev cX2_ahead 1 ([some (.ref x), v1, v2, v3, v4], []) (.ref x :: st) h := exF_j (i := (i_aload 0 1)) rfl rfl
theorem eX2_ahead_1 {ev : xV} {v0 v1 v2 v3 v4 : Option Value} {a : Nat} {st : List Value} {h : xH} : exF ev cX2_ahead 1 ([v0, v1, v2, v3, v4], []) (.ref a :: st) h = xO (xgf h a 1 3) (fun v => exF ev cX2_ahead 4 ([v0, v1, v2, v3, v4], []) (v :: st) h) := exF_o (i := (i_getf 1 3 4)) rfl rfl
theorem eX2_ahead_4 {ev : xV} {v0 v1 v2 v3 v4 : Option Value} {st : List Value} {h : xH} : exF ev cX2_ahead 4 ([v0, v1, v2, v3, v4], []) st h = exF ev cX2_ahead 5 ([v0, v1, v2, v3, v4], []) (.int (nI 2) :: st) h := exF_j (i := (i_const (.int (nI 2)) 5)) rfl rfl
theorem eX2_ahead_5 {ev : xV} {v0 v1 v2 v3 v4 : Option Value} {x y : Int32} {st : List Value} {h : xH} : exF ev cX2_ahead 5 ([v0, v1, v2, v3, v4], []) (.int y :: .int x :: st) h = if x = y then exF ev cX2_ahead 14 ([v0, v1, v2, v3, v4], []) st h else exF ev cX2_ahead 8 ([v0, v1, v2, v3, v4], []) st h := exF_b (i := (i_if2 (fun x y => x = y) 14 8)) rfl rfl
theorem eX2_ahead_8 {ev : xV} {v1 v2 v3 v4 : Option Value} {x : Nat} {st : List Value} {h : xH} : exF ev cX2_ahead 8 ([some (.ref x), v1, v2, v3, v4], []) st h = exF ev cX2_ahead 9 ([some (.ref x), v1, v2, v3, v4], []) (.ref x :: st) h := exF_j (i := (i_aload 0 9)) rfl rfl
theorem eX2_ahead_9 {ev : xV} {v0 v1 v2 v3 v4 : Option Value} {st : List Value} {h : xH} : exF ev cX2_ahead 9 ([v0, v1, v2, v3, v4], []) st h = exF ev cX2_ahead 10 ([v0, v1, v2, v3, v4], []) (.int (nI 1) :: st) h := exF_j (i := (i_const (.int (nI 1)) 10)) rfl rfl
theorem eX2_ahead_10 {ev : xV} {v0 v1 v2 v3 v4 : Option Value} {a0 : Value} {a : Nat} {h : xH} : exF ev cX2_ahead 10 ([v0, v1, v2, v3, v4], []) [a0, .ref a] h = xO (xck h a 1) (fun _ => xB (ev 201 [.ref a, a0] h) (fun v h => exF ev cX2_ahead 13 ([v0, v1, v2, v3, v4], []) [v] h)) := exF_cd (i := (i_cv 1 201 1 13)) rfl rfl
theorem eX2_ahead_13 {ev : xV} {v0 v1 v2 v3 v4 : Option Value} {a : Nat} {st : List Value} {h : xH} : exF ev cX2_ahead 13 ([v0, v1, v2, v3, v4], []) (.ref a :: st) h = xO (xckc h [5] a) (fun _ => some (.inr a, h)) := exF_t (i := (i_throw [5])) rfl rfl
theorem eX2_ahead_14 {ev : xV} {v0 v1 v2 v3 v4 : Option Value} {st : List Value} {h : xH} : exF ev cX2_ahead 14 ([v0, v1, v2, v3, v4], []) st h = exF ev cX2_ahead 15 ([v0, v1, v2, v3, v4], []) (.int (nI 0) :: st) h := exF_j (i := (i_const (.int (nI 0)) 15)) rfl rfl
theorem eX2_ahead_15 {ev : xV} {v0 v1 v2 v3 v4 : Option Value} {x : Int32} {st : List Value} {h : xH} : exF ev cX2_ahead 15 ([v0, v1, v2, v3, v4], []) (.int x :: st) h = exF ev cX2_ahead 16 ([v0, v1, v2, some (.int x), v4], []) st h := exF_j (i := (i_istore 3 16)) rfl rfl
theorem eX2_ahead_16 {ev : xV} {v1 v2 v3 v4 : Option Value} {x : Nat} {st : List Value} {h : xH} : exF ev cX2_ahead 16 ([some (.ref x), v1, v2, v3, v4], []) st h = exF ev cX2_ahead 17 ([some (.ref x), v1, v2, v3, v4], []) (.ref x :: st) h := exF_j (i := (i_aload 0 17)) rfl rfl
theorem eX2_ahead_17 {ev : xV} {v0 v1 v2 v3 v4 : Option Value} {a : Nat} {st : List Value} {h : xH} : exF ev cX2_ahead 17 ([v0, v1, v2, v3, v4], []) (.ref a :: st) h = xO (xgf h a 1 4) (fun v => exF ev cX2_ahead 20 ([v0, v1, v2, v3, v4], []) (v :: st) h) := exF_o (i := (i_getf 1 4 20)) rfl rfl
theorem eX2_ahead_20 {ev : xV} {v0 v1 v2 v3 v4 : Option Value} {x : Int32} {st : List Value} {h : xH} : exF ev cX2_ahead 20 ([v0, v1, v2, v3, v4], []) (.int x :: st) h = exF ev cX2_ahead 22 ([v0, v1, v2, v3, some (.int x)], []) st h := exF_j (i := (i_istore 4 22)) rfl rfl
theorem eX2_ahead_22 {ev : xV} {v0 v1 v2 v3 : Option Value} {x : Int32} {st : List Value} {h : xH} : exF ev cX2_ahead 22 ([v0, v1, v2, v3, some (.int x)], []) st h = exF ev cX2_ahead 24 ([v0, v1, v2, v3, some (.int x)], []) (.int x :: st) h := exF_j (i := (i_iload 4 24)) rfl rfl
theorem eX2_ahead_24 {ev : xV} {v1 v2 v3 v4 : Option Value} {x : Nat} {st : List Value} {h : xH} : exF ev cX2_ahead 24 ([some (.ref x), v1, v2, v3, v4], []) st h = exF ev cX2_ahead 25 ([some (.ref x), v1, v2, v3, v4], []) (.ref x :: st) h := exF_j (i := (i_aload 0 25)) rfl rfl
theorem eX2_ahead_25 {ev : xV} {v0 v1 v2 v3 v4 : Option Value} {a : Nat} {st : List Value} {h : xH} : exF ev cX2_ahead 25 ([v0, v1, v2, v3, v4], []) (.ref a :: st) h = xO (xgf h a 1 2) (fun v => exF ev cX2_ahead 28 ([v0, v1, v2, v3, v4], []) (v :: st) h) := exF_o (i := (i_getf 1 2 28)) rfl rfl
theorem eX2_ahead_28 {ev : xV} {v0 v1 v2 v3 v4 : Option Value} {x y : Int32} {st : List Value} {h : xH} : exF ev cX2_ahead 28 ([v0, v1, v2, v3, v4], []) (.int y :: .int x :: st) h = if y ≤ x then exF ev cX2_ahead 53 ([v0, v1, v2, v3, v4], []) st h else exF ev cX2_ahead 31 ([v0, v1, v2, v3, v4], []) st h := exF_b (i := (i_if2 (fun x y => y ≤ x) 53 31)) rfl rfl
theorem eX2_ahead_31 {ev : xV} {v0 v1 v2 v4 : Option Value} {x : Int32} {st : List Value} {h : xH} : exF ev cX2_ahead 31 ([v0, v1, v2, some (.int x), v4], []) st h = exF ev cX2_ahead 32 ([v0, v1, v2, some (.int x), v4], []) (.int x :: st) h := exF_j (i := (i_iload 3 32)) rfl rfl
theorem eX2_ahead_32 {ev : xV} {v0 v1 v2 v3 v4 : Option Value} {st : List Value} {h : xH} : exF ev cX2_ahead 32 ([v0, v1, v2, v3, v4], []) st h = exF ev cX2_ahead 34 ([v0, v1, v2, v3, v4], []) (.int (nI 10) :: st) h := exF_j (i := (i_const (.int (nI 10)) 34)) rfl rfl
theorem eX2_ahead_34 {ev : xV} {v0 v1 v2 v3 v4 : Option Value} {x y : Int32} {st : List Value} {h : xH} : exF ev cX2_ahead 34 ([v0, v1, v2, v3, v4], []) (.int y :: .int x :: st) h = exF ev cX2_ahead 35 ([v0, v1, v2, v3, v4], []) (.int (x * y) :: st) h := exF_j (i := (i_ii (fun x y => x * y) 35)) rfl rfl
theorem eX2_ahead_35 {ev : xV} {v1 v2 v3 v4 : Option Value} {x : Nat} {st : List Value} {h : xH} : exF ev cX2_ahead 35 ([some (.ref x), v1, v2, v3, v4], []) st h = exF ev cX2_ahead 36 ([some (.ref x), v1, v2, v3, v4], []) (.ref x :: st) h := exF_j (i := (i_aload 0 36)) rfl rfl
theorem eX2_ahead_36 {ev : xV} {v0 v1 v2 v3 v4 : Option Value} {a : Nat} {st : List Value} {h : xH} : exF ev cX2_ahead 36 ([v0, v1, v2, v3, v4], []) (.ref a :: st) h = xO (xgf h a 1 0) (fun v => exF ev cX2_ahead 39 ([v0, v1, v2, v3, v4], []) (v :: st) h) := exF_o (i := (i_getf 1 0 39)) rfl rfl
theorem eX2_ahead_39 {ev : xV} {v0 v1 v2 v3 : Option Value} {x : Int32} {st : List Value} {h : xH} : exF ev cX2_ahead 39 ([v0, v1, v2, v3, some (.int x)], []) st h = exF ev cX2_ahead 41 ([v0, v1, v2, v3, some (.int x)], []) (.int x :: st) h := exF_j (i := (i_iload 4 41)) rfl rfl
theorem eX2_ahead_41 {ev : xV} {v0 v1 v2 v3 v4 : Option Value} {i : Int32} {a : Nat} {st : List Value} {h : xH} : exF ev cX2_ahead 41 ([v0, v1, v2, v3, v4], []) (.int i :: .ref a :: st) h = xO (xai h 1 a i) (fun v => exF ev cX2_ahead 42 ([v0, v1, v2, v3, v4], []) (.int v :: st) h) := exF_o (i := (i_ai 1 42)) rfl rfl
theorem eX2_ahead_42 {ev : xV} {v0 v1 v2 v3 v4 : Option Value} {x y : Int32} {st : List Value} {h : xH} : exF ev cX2_ahead 42 ([v0, v1, v2, v3, v4], []) (.int y :: .int x :: st) h = exF ev cX2_ahead 43 ([v0, v1, v2, v3, v4], []) (.int (x + y) :: st) h := exF_j (i := (i_ii (fun x y => x + y) 43)) rfl rfl
theorem eX2_ahead_43 {ev : xV} {v0 v1 v2 v3 v4 : Option Value} {st : List Value} {h : xH} : exF ev cX2_ahead 43 ([v0, v1, v2, v3, v4], []) st h = exF ev cX2_ahead 45 ([v0, v1, v2, v3, v4], []) (.int (nI 48) :: st) h := exF_j (i := (i_const (.int (nI 48)) 45)) rfl rfl
theorem eX2_ahead_45 {ev : xV} {v0 v1 v2 v3 v4 : Option Value} {x y : Int32} {st : List Value} {h : xH} : exF ev cX2_ahead 45 ([v0, v1, v2, v3, v4], []) (.int y :: .int x :: st) h = exF ev cX2_ahead 46 ([v0, v1, v2, v3, v4], []) (.int (x - y) :: st) h := exF_j (i := (i_ii (fun x y => x - y) 46)) rfl rfl
theorem eX2_ahead_46 {ev : xV} {v0 v1 v2 v3 v4 : Option Value} {x : Int32} {st : List Value} {h : xH} : exF ev cX2_ahead 46 ([v0, v1, v2, v3, v4], []) (.int x :: st) h = exF ev cX2_ahead 47 ([v0, v1, v2, some (.int x), v4], []) st h := exF_j (i := (i_istore 3 47)) rfl rfl
theorem eX2_ahead_47 {ev : xV} {v0 v1 v2 v3 : Option Value} {x : Int32} {st : List Value} {h : xH} : exF ev cX2_ahead 47 ([v0, v1, v2, v3, some (.int x)], []) st h = exF ev cX2_ahead 50 ([v0, v1, v2, v3, some (.int (x + (nI 1)))], []) st h := exF_j (i := (i_iinc 4 (nI 1) 50)) rfl rfl
theorem eX2_ahead_50 {ev : xV} {v0 v1 v2 v3 v4 : Option Value} {st : List Value} {h : xH} : exF ev cX2_ahead 50 ([v0, v1, v2, v3, v4], []) st h = exF ev cX2_ahead 22 ([v0, v1, v2, v3, v4], []) st h := exF_j (i := (i_goto 22)) rfl rfl
theorem eX2_ahead_53 {ev : xV} {v0 v1 v2 v4 : Option Value} {x : Int32} {st : List Value} {h : xH} : exF ev cX2_ahead 53 ([v0, v1, v2, some (.int x), v4], []) st h = exF ev cX2_ahead 54 ([v0, v1, v2, some (.int x), v4], []) (.int x :: st) h := exF_j (i := (i_iload 3 54)) rfl rfl
theorem eX2_ahead_54 {ev : xV} {v0 v2 v3 v4 : Option Value} {x : Int32} {st : List Value} {h : xH} : exF ev cX2_ahead 54 ([v0, some (.int x), v2, v3, v4], []) st h = exF ev cX2_ahead 55 ([v0, some (.int x), v2, v3, v4], []) (.int x :: st) h := exF_j (i := (i_iload 1 55)) rfl rfl
theorem eX2_ahead_55 {ev : xV} {v0 v1 v3 v4 : Option Value} {x : Int32} {st : List Value} {h : xH} : exF ev cX2_ahead 55 ([v0, v1, some (.int x), v3, v4], []) st h = exF ev cX2_ahead 56 ([v0, v1, some (.int x), v3, v4], []) (.int x :: st) h := exF_j (i := (i_iload 2 56)) rfl rfl
theorem eX2_ahead_56 {ev : xV} {v0 v1 v2 v3 v4 : Option Value} {a0 : Value} {a1 : Value} {a2 : Value} {h : xH} : exF ev cX2_ahead 56 ([v0, v1, v2, v3, v4], []) [a2, a1, a0] h = xB (ev 92 [a0, a1, a2] h) (fun v h => exF ev cX2_ahead 59 ([v0, v1, v2, v3, v4], []) [v] h) := exF_c (i := (i_cs 92 3 59)) rfl rfl
theorem eX2_ahead_59 {ev : xV} {v0 v1 v2 v3 v4 : Option Value} {x : Int32} {st : List Value} {h : xH} : exF ev cX2_ahead 59 ([v0, v1, v2, v3, v4], []) (.int x :: st) h = if ¬ x = 0 then exF ev cX2_ahead 68 ([v0, v1, v2, v3, v4], []) st h else exF ev cX2_ahead 62 ([v0, v1, v2, v3, v4], []) st h := exF_b (i := (i_if1 (fun x => ¬ x = 0) 68 62)) rfl rfl
theorem eX2_ahead_62 {ev : xV} {v1 v2 v3 v4 : Option Value} {x : Nat} {st : List Value} {h : xH} : exF ev cX2_ahead 62 ([some (.ref x), v1, v2, v3, v4], []) st h = exF ev cX2_ahead 63 ([some (.ref x), v1, v2, v3, v4], []) (.ref x :: st) h := exF_j (i := (i_aload 0 63)) rfl rfl
theorem eX2_ahead_63 {ev : xV} {v0 v1 v2 v3 v4 : Option Value} {st : List Value} {h : xH} : exF ev cX2_ahead 63 ([v0, v1, v2, v3, v4], []) st h = exF ev cX2_ahead 64 ([v0, v1, v2, v3, v4], []) (.int (nI 4) :: st) h := exF_j (i := (i_const (.int (nI 4)) 64)) rfl rfl
theorem eX2_ahead_64 {ev : xV} {v0 v1 v2 v3 v4 : Option Value} {a0 : Value} {a : Nat} {h : xH} : exF ev cX2_ahead 64 ([v0, v1, v2, v3, v4], []) [a0, .ref a] h = xO (xck h a 1) (fun _ => xB (ev 201 [.ref a, a0] h) (fun v h => exF ev cX2_ahead 67 ([v0, v1, v2, v3, v4], []) [v] h)) := exF_cd (i := (i_cv 1 201 1 67)) rfl rfl
theorem eX2_ahead_67 {ev : xV} {v0 v1 v2 v3 v4 : Option Value} {a : Nat} {st : List Value} {h : xH} : exF ev cX2_ahead 67 ([v0, v1, v2, v3, v4], []) (.ref a :: st) h = xO (xckc h [5] a) (fun _ => some (.inr a, h)) := exF_t (i := (i_throw [5])) rfl rfl
theorem eX2_ahead_68 {ev : xV} {v0 v1 v2 v4 : Option Value} {x : Int32} {st : List Value} {h : xH} : exF ev cX2_ahead 68 ([v0, v1, v2, some (.int x), v4], []) st h = exF ev cX2_ahead 69 ([v0, v1, v2, some (.int x), v4], []) (.int x :: st) h := exF_j (i := (i_iload 3 69)) rfl rfl
theorem eX2_ahead_69 {ev : xV} {v0 v1 v2 v3 v4 : Option Value} {x : Int32} {h : xH} : exF ev cX2_ahead 69 ([v0, v1, v2, v3, v4], []) [.int x] h = some (.inl (some (.int x)), h) := exF_r (i := (i_iret)) rfl rfl
noncomputable def cX2_isSign : xC := [(0, i_aload 0 1),
  (1, i_getf 1 3 4),
  (4, i_const (.int (nI 3)) 5),
  (5, i_if2 (fun x y => ¬ x = y) 25 8),
  (8, i_aload 0 9),
  (9, i_getf 1 0 12),
  (12, i_aload 0 13),
  (13, i_getf 1 4 16),
  (16, i_ai 1 17),
  (17, i_iload 1 18),
  (18, i_if2 (fun x y => ¬ x = y) 25 21),
  (21, i_const (.int (nI 1)) 22),
  (22, i_goto 26),
  (25, i_const (.int (nI 0)) 26),
  (26, i_zret)]
theorem eX2_isSign_0 {ev : xV} {v1 : Option Value} {x : Nat} {st : List Value} {h : xH} : exF ev cX2_isSign 0 ([some (.ref x), v1], []) st h = exF ev cX2_isSign 1 ([some (.ref x), v1], []) (.ref x :: st) h := exF_j (i := (i_aload 0 1)) rfl rfl
theorem eX2_isSign_1 {ev : xV} {v0 v1 : Option Value} {a : Nat} {st : List Value} {h : xH} : exF ev cX2_isSign 1 ([v0, v1], []) (.ref a :: st) h = xO (xgf h a 1 3) (fun v => exF ev cX2_isSign 4 ([v0, v1], []) (v :: st) h) := exF_o (i := (i_getf 1 3 4)) rfl rfl
theorem eX2_isSign_4 {ev : xV} {v0 v1 : Option Value} {st : List Value} {h : xH} : exF ev cX2_isSign 4 ([v0, v1], []) st h = exF ev cX2_isSign 5 ([v0, v1], []) (.int (nI 3) :: st) h := exF_j (i := (i_const (.int (nI 3)) 5)) rfl rfl
theorem eX2_isSign_5 {ev : xV} {v0 v1 : Option Value} {x y : Int32} {st : List Value} {h : xH} : exF ev cX2_isSign 5 ([v0, v1], []) (.int y :: .int x :: st) h = if ¬ x = y then exF ev cX2_isSign 25 ([v0, v1], []) st h else exF ev cX2_isSign 8 ([v0, v1], []) st h := exF_b (i := (i_if2 (fun x y => ¬ x = y) 25 8)) rfl rfl
theorem eX2_isSign_8 {ev : xV} {v1 : Option Value} {x : Nat} {st : List Value} {h : xH} : exF ev cX2_isSign 8 ([some (.ref x), v1], []) st h = exF ev cX2_isSign 9 ([some (.ref x), v1], []) (.ref x :: st) h := exF_j (i := (i_aload 0 9)) rfl rfl
theorem eX2_isSign_9 {ev : xV} {v0 v1 : Option Value} {a : Nat} {st : List Value} {h : xH} : exF ev cX2_isSign 9 ([v0, v1], []) (.ref a :: st) h = xO (xgf h a 1 0) (fun v => exF ev cX2_isSign 12 ([v0, v1], []) (v :: st) h) := exF_o (i := (i_getf 1 0 12)) rfl rfl
theorem eX2_isSign_12 {ev : xV} {v1 : Option Value} {x : Nat} {st : List Value} {h : xH} : exF ev cX2_isSign 12 ([some (.ref x), v1], []) st h = exF ev cX2_isSign 13 ([some (.ref x), v1], []) (.ref x :: st) h := exF_j (i := (i_aload 0 13)) rfl rfl
theorem eX2_isSign_13 {ev : xV} {v0 v1 : Option Value} {a : Nat} {st : List Value} {h : xH} : exF ev cX2_isSign 13 ([v0, v1], []) (.ref a :: st) h = xO (xgf h a 1 4) (fun v => exF ev cX2_isSign 16 ([v0, v1], []) (v :: st) h) := exF_o (i := (i_getf 1 4 16)) rfl rfl
theorem eX2_isSign_16 {ev : xV} {v0 v1 : Option Value} {i : Int32} {a : Nat} {st : List Value} {h : xH} : exF ev cX2_isSign 16 ([v0, v1], []) (.int i :: .ref a :: st) h = xO (xai h 1 a i) (fun v => exF ev cX2_isSign 17 ([v0, v1], []) (.int v :: st) h) := exF_o (i := (i_ai 1 17)) rfl rfl
theorem eX2_isSign_17 {ev : xV} {v0 : Option Value} {x : Int32} {st : List Value} {h : xH} : exF ev cX2_isSign 17 ([v0, some (.int x)], []) st h = exF ev cX2_isSign 18 ([v0, some (.int x)], []) (.int x :: st) h := exF_j (i := (i_iload 1 18)) rfl rfl
theorem eX2_isSign_18 {ev : xV} {v0 v1 : Option Value} {x y : Int32} {st : List Value} {h : xH} : exF ev cX2_isSign 18 ([v0, v1], []) (.int y :: .int x :: st) h = if ¬ x = y then exF ev cX2_isSign 25 ([v0, v1], []) st h else exF ev cX2_isSign 21 ([v0, v1], []) st h := exF_b (i := (i_if2 (fun x y => ¬ x = y) 25 21)) rfl rfl
theorem eX2_isSign_21 {ev : xV} {v0 v1 : Option Value} {st : List Value} {h : xH} : exF ev cX2_isSign 21 ([v0, v1], []) st h = exF ev cX2_isSign 22 ([v0, v1], []) (.int (nI 1) :: st) h := exF_j (i := (i_const (.int (nI 1)) 22)) rfl rfl
theorem eX2_isSign_22 {ev : xV} {v0 v1 : Option Value} {st : List Value} {h : xH} : exF ev cX2_isSign 22 ([v0, v1], []) st h = exF ev cX2_isSign 26 ([v0, v1], []) st h := exF_j (i := (i_goto 26)) rfl rfl
theorem eX2_isSign_25 {ev : xV} {v0 v1 : Option Value} {st : List Value} {h : xH} : exF ev cX2_isSign 25 ([v0, v1], []) st h = exF ev cX2_isSign 26 ([v0, v1], []) (.int (nI 0) :: st) h := exF_j (i := (i_const (.int (nI 0)) 26)) rfl rfl
theorem eX2_isSign_26 {ev : xV} {v0 v1 : Option Value} {x : Int32} {h : xH} : exF ev cX2_isSign 26 ([v0, v1], []) [.int x] h = if x = nI 0 ∨ x = nI 1 then some (.inl (some (.int x)), h) else none := exF_z (i := (i_zret)) rfl rfl
theorem eX2_isSign_26b0 {ev : xV} {v0 v1 : Option Value} {h : xH} : exF ev cX2_isSign 26 ([v0, v1], []) [.int (nI 0)] h = some (.inl (some (.int (nI 0))), h) := exF_r (i := (i_zret)) rfl i_zret_0
theorem eX2_isSign_26b1 {ev : xV} {v0 v1 : Option Value} {h : xH} : exF ev cX2_isSign 26 ([v0, v1], []) [.int (nI 1)] h = some (.inl (some (.int (nI 1))), h) := exF_r (i := (i_zret)) rfl i_zret_1
theorem eX2_isSign_26b {ev : xV} {v0 v1 : Option Value} {b : Bool} {h : xH} : exF ev cX2_isSign 26 ([v0, v1], []) [.int (bI b)] h = some (.inl (some (.int (bI b))), h) := exF_r (i := (i_zret)) rfl (i_zret_b b)
noncomputable def cX2_expression : xC := [(0, i_aload 0 1),
  (1, i_cv 1 216 0 4),
  (4, i_astore 1 5),
  (5, i_aload 0 6),
  (6, i_const (.ref 18) 8),
  (8, i_cv 1 200 1 11),
  (11, i_istore 2 12),
  (12, i_iload 2 13),
  (13, i_if1 (fun x => 0 ≤ x) 18 16),
  (16, i_aload 1 17),
  (17, i_aret),
  (18, i_aload 0 19),
  (19, i_cvv 1 195 0 22),
  (22, i_new 14 3 zX17 25),
  (25, i_dup 26),
  (26, i_iload 2 27),
  (27, i_if1 (fun x => ¬ x = 0) 35 30),
  (30, i_const (.int (nI 38)) 32),
  (32, i_goto 37),
  (35, i_const (.int (nI 124)) 37),
  (37, i_aload 1 38),
  (38, i_aload 0 39),
  (39, i_cv 1 216 0 42),
  (42, i_ci [14] 188 3 45),
  (45, i_astore 1 46),
  (46, i_goto 5)]
theorem eX2_expression_0 {ev : xV} {v1 v2 : Option Value} {x : Nat} {st : List Value} {h : xH} : exF ev cX2_expression 0 ([some (.ref x), v1, v2], []) st h = exF ev cX2_expression 1 ([some (.ref x), v1, v2], []) (.ref x :: st) h := exF_j (i := (i_aload 0 1)) rfl rfl
theorem eX2_expression_1 {ev : xV} {v0 v1 v2 : Option Value} {a : Nat} {h : xH} : exF ev cX2_expression 1 ([v0, v1, v2], []) [.ref a] h = xO (xck h a 1) (fun _ => xB (ev 216 [.ref a] h) (fun v h => exF ev cX2_expression 4 ([v0, v1, v2], []) [v] h)) := exF_cd (i := (i_cv 1 216 0 4)) rfl rfl
theorem eX2_expression_4 {ev : xV} {v0 v1 v2 : Option Value} {x : Nat} {st : List Value} {h : xH} : exF ev cX2_expression 4 ([v0, v1, v2], []) (.ref x :: st) h = exF ev cX2_expression 5 ([v0, some (.ref x), v2], []) st h := exF_j (i := (i_astore 1 5)) rfl rfl
theorem eX2_expression_4n {ev : xV} {v0 v1 v2 : Option Value} {st : List Value} {h : xH} : exF ev cX2_expression 4 ([v0, v1, v2], []) (.null :: st) h = exF ev cX2_expression 5 ([v0, some .null, v2], []) st h := exF_j (i := (i_astore 1 5)) rfl rfl
theorem eX2_expression_5 {ev : xV} {v1 v2 : Option Value} {x : Nat} {st : List Value} {h : xH} : exF ev cX2_expression 5 ([some (.ref x), v1, v2], []) st h = exF ev cX2_expression 6 ([some (.ref x), v1, v2], []) (.ref x :: st) h := exF_j (i := (i_aload 0 6)) rfl rfl
theorem eX2_expression_6 {ev : xV} {v0 v1 v2 : Option Value} {st : List Value} {h : xH} : exF ev cX2_expression 6 ([v0, v1, v2], []) st h = exF ev cX2_expression 8 ([v0, v1, v2], []) (.ref 18 :: st) h := exF_j (i := (i_const (.ref 18) 8)) rfl rfl
theorem eX2_expression_8 {ev : xV} {v0 v1 v2 : Option Value} {a0 : Value} {a : Nat} {h : xH} : exF ev cX2_expression 8 ([v0, v1, v2], []) [a0, .ref a] h = xO (xck h a 1) (fun _ => xB (ev 200 [.ref a, a0] h) (fun v h => exF ev cX2_expression 11 ([v0, v1, v2], []) [v] h)) := exF_cd (i := (i_cv 1 200 1 11)) rfl rfl
theorem eX2_expression_11 {ev : xV} {v0 v1 v2 : Option Value} {x : Int32} {st : List Value} {h : xH} : exF ev cX2_expression 11 ([v0, v1, v2], []) (.int x :: st) h = exF ev cX2_expression 12 ([v0, v1, some (.int x)], []) st h := exF_j (i := (i_istore 2 12)) rfl rfl
theorem eX2_expression_12 {ev : xV} {v0 v1 : Option Value} {x : Int32} {st : List Value} {h : xH} : exF ev cX2_expression 12 ([v0, v1, some (.int x)], []) st h = exF ev cX2_expression 13 ([v0, v1, some (.int x)], []) (.int x :: st) h := exF_j (i := (i_iload 2 13)) rfl rfl
theorem eX2_expression_13 {ev : xV} {v0 v1 v2 : Option Value} {x : Int32} {st : List Value} {h : xH} : exF ev cX2_expression 13 ([v0, v1, v2], []) (.int x :: st) h = if 0 ≤ x then exF ev cX2_expression 18 ([v0, v1, v2], []) st h else exF ev cX2_expression 16 ([v0, v1, v2], []) st h := exF_b (i := (i_if1 (fun x => 0 ≤ x) 18 16)) rfl rfl
theorem eX2_expression_16 {ev : xV} {v0 v2 : Option Value} {x : Nat} {st : List Value} {h : xH} : exF ev cX2_expression 16 ([v0, some (.ref x), v2], []) st h = exF ev cX2_expression 17 ([v0, some (.ref x), v2], []) (.ref x :: st) h := exF_j (i := (i_aload 1 17)) rfl rfl
theorem eX2_expression_16n {ev : xV} {v0 v2 : Option Value} {st : List Value} {h : xH} : exF ev cX2_expression 16 ([v0, some .null, v2], []) st h = exF ev cX2_expression 17 ([v0, some .null, v2], []) (.null :: st) h := exF_j (i := (i_aload 1 17)) rfl rfl
theorem eX2_expression_17 {ev : xV} {v0 v1 v2 : Option Value} {x : Nat} {h : xH} : exF ev cX2_expression 17 ([v0, v1, v2], []) [.ref x] h = some (.inl (some (.ref x)), h) := exF_r (i := (i_aret)) rfl rfl
theorem eX2_expression_17n {ev : xV} {v0 v1 v2 : Option Value} {h : xH} : exF ev cX2_expression 17 ([v0, v1, v2], []) [.null] h = some (.inl (some .null), h) := exF_r (i := (i_aret)) rfl rfl
theorem eX2_expression_18 {ev : xV} {v1 v2 : Option Value} {x : Nat} {st : List Value} {h : xH} : exF ev cX2_expression 18 ([some (.ref x), v1, v2], []) st h = exF ev cX2_expression 19 ([some (.ref x), v1, v2], []) (.ref x :: st) h := exF_j (i := (i_aload 0 19)) rfl rfl
theorem eX2_expression_19 {ev : xV} {v0 v1 v2 : Option Value} {a : Nat} {h : xH} : exF ev cX2_expression 19 ([v0, v1, v2], []) [.ref a] h = xO (xck h a 1) (fun _ => xBv (ev 195 [.ref a] h) (fun h => exF ev cX2_expression 22 ([v0, v1, v2], []) [] h)) := exF_cdv (i := (i_cvv 1 195 0 22)) rfl rfl
theorem eX2_expression_22 {ev : xV} {v0 v1 v2 : Option Value} {st : List Value} {h : xH} : exF ev cX2_expression 22 ([v0, v1, v2], []) st h = exF ev cX2_expression 25 ([v0, v1, v2], []) (.ref h.2.1 :: st) (xnew h (.inr (14, zX17)) 3) := exF_j (i := (i_new 14 3 zX17 25)) rfl rfl
theorem eX2_expression_25 {ev : xV} {v0 v1 v2 : Option Value} {x : Nat} {st : List Value} {h : xH} : exF ev cX2_expression 25 ([v0, v1, v2], []) (.ref x :: st) h = exF ev cX2_expression 26 ([v0, v1, v2], []) (.ref x :: .ref x :: st) h := exF_j (i := (i_dup 26)) rfl rfl
theorem eX2_expression_26 {ev : xV} {v0 v1 : Option Value} {x : Int32} {st : List Value} {h : xH} : exF ev cX2_expression 26 ([v0, v1, some (.int x)], []) st h = exF ev cX2_expression 27 ([v0, v1, some (.int x)], []) (.int x :: st) h := exF_j (i := (i_iload 2 27)) rfl rfl
theorem eX2_expression_27 {ev : xV} {v0 v1 v2 : Option Value} {x : Int32} {st : List Value} {h : xH} : exF ev cX2_expression 27 ([v0, v1, v2], []) (.int x :: st) h = if ¬ x = 0 then exF ev cX2_expression 35 ([v0, v1, v2], []) st h else exF ev cX2_expression 30 ([v0, v1, v2], []) st h := exF_b (i := (i_if1 (fun x => ¬ x = 0) 35 30)) rfl rfl
theorem eX2_expression_30 {ev : xV} {v0 v1 v2 : Option Value} {st : List Value} {h : xH} : exF ev cX2_expression 30 ([v0, v1, v2], []) st h = exF ev cX2_expression 32 ([v0, v1, v2], []) (.int (nI 38) :: st) h := exF_j (i := (i_const (.int (nI 38)) 32)) rfl rfl
theorem eX2_expression_32 {ev : xV} {v0 v1 v2 : Option Value} {st : List Value} {h : xH} : exF ev cX2_expression 32 ([v0, v1, v2], []) st h = exF ev cX2_expression 37 ([v0, v1, v2], []) st h := exF_j (i := (i_goto 37)) rfl rfl
theorem eX2_expression_35 {ev : xV} {v0 v1 v2 : Option Value} {st : List Value} {h : xH} : exF ev cX2_expression 35 ([v0, v1, v2], []) st h = exF ev cX2_expression 37 ([v0, v1, v2], []) (.int (nI 124) :: st) h := exF_j (i := (i_const (.int (nI 124)) 37)) rfl rfl
theorem eX2_expression_37 {ev : xV} {v0 v2 : Option Value} {x : Nat} {st : List Value} {h : xH} : exF ev cX2_expression 37 ([v0, some (.ref x), v2], []) st h = exF ev cX2_expression 38 ([v0, some (.ref x), v2], []) (.ref x :: st) h := exF_j (i := (i_aload 1 38)) rfl rfl
theorem eX2_expression_37n {ev : xV} {v0 v2 : Option Value} {st : List Value} {h : xH} : exF ev cX2_expression 37 ([v0, some .null, v2], []) st h = exF ev cX2_expression 38 ([v0, some .null, v2], []) (.null :: st) h := exF_j (i := (i_aload 1 38)) rfl rfl
theorem eX2_expression_38 {ev : xV} {v1 v2 : Option Value} {x : Nat} {st : List Value} {h : xH} : exF ev cX2_expression 38 ([some (.ref x), v1, v2], []) st h = exF ev cX2_expression 39 ([some (.ref x), v1, v2], []) (.ref x :: st) h := exF_j (i := (i_aload 0 39)) rfl rfl
theorem eX2_expression_39 {ev : xV} {v0 v1 v2 : Option Value} {r0 : Value} {r1 : Value} {r2 : Value} {r3 : Value} {a : Nat} {h : xH} : exF ev cX2_expression 39 ([v0, v1, v2], []) [.ref a, r0, r1, r2, r3] h = xO (xck h a 1) (fun _ => xB (ev 216 [.ref a] h) (fun v h => exF ev cX2_expression 42 ([v0, v1, v2], []) [v, r0, r1, r2, r3] h)) := exF_cd (i := (i_cv 1 216 0 42)) rfl rfl
theorem eX2_expression_42 {ev : xV} {v0 v1 v2 : Option Value} {a0 : Value} {a1 : Value} {a2 : Value} {r0 : Value} {a : Nat} {h : xH} : exF ev cX2_expression 42 ([v0, v1, v2], []) [a2, a1, a0, .ref a, r0] h = xO (xckc h [14] a) (fun _ => xBv (ev 188 [.ref a, a0, a1, a2] h) (fun h => exF ev cX2_expression 45 ([v0, v1, v2], []) [r0] h)) := exF_cdv (i := (i_ci [14] 188 3 45)) rfl rfl
theorem eX2_expression_45 {ev : xV} {v0 v1 v2 : Option Value} {x : Nat} {st : List Value} {h : xH} : exF ev cX2_expression 45 ([v0, v1, v2], []) (.ref x :: st) h = exF ev cX2_expression 46 ([v0, some (.ref x), v2], []) st h := exF_j (i := (i_astore 1 46)) rfl rfl
theorem eX2_expression_45n {ev : xV} {v0 v1 v2 : Option Value} {st : List Value} {h : xH} : exF ev cX2_expression 45 ([v0, v1, v2], []) (.null :: st) h = exF ev cX2_expression 46 ([v0, some .null, v2], []) st h := exF_j (i := (i_astore 1 46)) rfl rfl
theorem eX2_expression_46 {ev : xV} {v0 v1 v2 : Option Value} {st : List Value} {h : xH} : exF ev cX2_expression 46 ([v0, v1, v2], []) st h = exF ev cX2_expression 5 ([v0, v1, v2], []) st h := exF_j (i := (i_goto 5)) rfl rfl
noncomputable def cX2_test : xC := [(0, i_aload 0 1),
  (1, i_cv 1 217 0 4),
  (4, i_astore 1 5),
  (5, i_aload 0 6),
  (6, i_const (.int (nI 60)) 8),
  (8, i_cv 1 214 1 11),
  (11, i_if1 (fun x => x = 0) 19 14),
  (14, i_const (.int (nI 60)) 16),
  (16, i_goto 35),
  (19, i_aload 0 20),
  (20, i_const (.int (nI 61)) 22),
  (22, i_cv 1 214 1 25),
  (25, i_if1 (fun x => x = 0) 33 28),
  (28, i_const (.int (nI 61)) 30),
  (30, i_goto 35),
  (33, i_const (.int (nI 32)) 35),
  (35, i_istore 2 36),
  (36, i_iload 2 37),
  (37, i_const (.int (nI 32)) 39),
  (39, i_if2 (fun x y => ¬ x = y) 44 42),
  (42, i_aload 1 43),
  (43, i_aret),
  (44, i_aload 0 45),
  (45, i_cvv 1 195 0 48),
  (48, i_new 14 3 zX17 51),
  (51, i_dup 52),
  (52, i_iload 2 53),
  (53, i_aload 1 54),
  (54, i_aload 0 55),
  (55, i_cv 1 217 0 58),
  (58, i_ci [14] 188 3 61),
  (61, i_aret)]
theorem eX2_test_0 {ev : xV} {v1 v2 : Option Value} {x : Nat} {st : List Value} {h : xH} : exF ev cX2_test 0 ([some (.ref x), v1, v2], []) st h = exF ev cX2_test 1 ([some (.ref x), v1, v2], []) (.ref x :: st) h := exF_j (i := (i_aload 0 1)) rfl rfl
theorem eX2_test_1 {ev : xV} {v0 v1 v2 : Option Value} {a : Nat} {h : xH} : exF ev cX2_test 1 ([v0, v1, v2], []) [.ref a] h = xO (xck h a 1) (fun _ => xB (ev 217 [.ref a] h) (fun v h => exF ev cX2_test 4 ([v0, v1, v2], []) [v] h)) := exF_cd (i := (i_cv 1 217 0 4)) rfl rfl
theorem eX2_test_4 {ev : xV} {v0 v1 v2 : Option Value} {x : Nat} {st : List Value} {h : xH} : exF ev cX2_test 4 ([v0, v1, v2], []) (.ref x :: st) h = exF ev cX2_test 5 ([v0, some (.ref x), v2], []) st h := exF_j (i := (i_astore 1 5)) rfl rfl
theorem eX2_test_4n {ev : xV} {v0 v1 v2 : Option Value} {st : List Value} {h : xH} : exF ev cX2_test 4 ([v0, v1, v2], []) (.null :: st) h = exF ev cX2_test 5 ([v0, some .null, v2], []) st h := exF_j (i := (i_astore 1 5)) rfl rfl
theorem eX2_test_5 {ev : xV} {v1 v2 : Option Value} {x : Nat} {st : List Value} {h : xH} : exF ev cX2_test 5 ([some (.ref x), v1, v2], []) st h = exF ev cX2_test 6 ([some (.ref x), v1, v2], []) (.ref x :: st) h := exF_j (i := (i_aload 0 6)) rfl rfl
theorem eX2_test_6 {ev : xV} {v0 v1 v2 : Option Value} {st : List Value} {h : xH} : exF ev cX2_test 6 ([v0, v1, v2], []) st h = exF ev cX2_test 8 ([v0, v1, v2], []) (.int (nI 60) :: st) h := exF_j (i := (i_const (.int (nI 60)) 8)) rfl rfl
theorem eX2_test_8 {ev : xV} {v0 v1 v2 : Option Value} {a0 : Value} {a : Nat} {h : xH} : exF ev cX2_test 8 ([v0, v1, v2], []) [a0, .ref a] h = xO (xck h a 1) (fun _ => xB (ev 214 [.ref a, a0] h) (fun v h => exF ev cX2_test 11 ([v0, v1, v2], []) [v] h)) := exF_cd (i := (i_cv 1 214 1 11)) rfl rfl
theorem eX2_test_11 {ev : xV} {v0 v1 v2 : Option Value} {x : Int32} {st : List Value} {h : xH} : exF ev cX2_test 11 ([v0, v1, v2], []) (.int x :: st) h = if x = 0 then exF ev cX2_test 19 ([v0, v1, v2], []) st h else exF ev cX2_test 14 ([v0, v1, v2], []) st h := exF_b (i := (i_if1 (fun x => x = 0) 19 14)) rfl rfl
theorem eX2_test_14 {ev : xV} {v0 v1 v2 : Option Value} {st : List Value} {h : xH} : exF ev cX2_test 14 ([v0, v1, v2], []) st h = exF ev cX2_test 16 ([v0, v1, v2], []) (.int (nI 60) :: st) h := exF_j (i := (i_const (.int (nI 60)) 16)) rfl rfl
theorem eX2_test_16 {ev : xV} {v0 v1 v2 : Option Value} {st : List Value} {h : xH} : exF ev cX2_test 16 ([v0, v1, v2], []) st h = exF ev cX2_test 35 ([v0, v1, v2], []) st h := exF_j (i := (i_goto 35)) rfl rfl
theorem eX2_test_19 {ev : xV} {v1 v2 : Option Value} {x : Nat} {st : List Value} {h : xH} : exF ev cX2_test 19 ([some (.ref x), v1, v2], []) st h = exF ev cX2_test 20 ([some (.ref x), v1, v2], []) (.ref x :: st) h := exF_j (i := (i_aload 0 20)) rfl rfl
theorem eX2_test_20 {ev : xV} {v0 v1 v2 : Option Value} {st : List Value} {h : xH} : exF ev cX2_test 20 ([v0, v1, v2], []) st h = exF ev cX2_test 22 ([v0, v1, v2], []) (.int (nI 61) :: st) h := exF_j (i := (i_const (.int (nI 61)) 22)) rfl rfl
theorem eX2_test_22 {ev : xV} {v0 v1 v2 : Option Value} {a0 : Value} {a : Nat} {h : xH} : exF ev cX2_test 22 ([v0, v1, v2], []) [a0, .ref a] h = xO (xck h a 1) (fun _ => xB (ev 214 [.ref a, a0] h) (fun v h => exF ev cX2_test 25 ([v0, v1, v2], []) [v] h)) := exF_cd (i := (i_cv 1 214 1 25)) rfl rfl
theorem eX2_test_25 {ev : xV} {v0 v1 v2 : Option Value} {x : Int32} {st : List Value} {h : xH} : exF ev cX2_test 25 ([v0, v1, v2], []) (.int x :: st) h = if x = 0 then exF ev cX2_test 33 ([v0, v1, v2], []) st h else exF ev cX2_test 28 ([v0, v1, v2], []) st h := exF_b (i := (i_if1 (fun x => x = 0) 33 28)) rfl rfl
theorem eX2_test_28 {ev : xV} {v0 v1 v2 : Option Value} {st : List Value} {h : xH} : exF ev cX2_test 28 ([v0, v1, v2], []) st h = exF ev cX2_test 30 ([v0, v1, v2], []) (.int (nI 61) :: st) h := exF_j (i := (i_const (.int (nI 61)) 30)) rfl rfl
theorem eX2_test_30 {ev : xV} {v0 v1 v2 : Option Value} {st : List Value} {h : xH} : exF ev cX2_test 30 ([v0, v1, v2], []) st h = exF ev cX2_test 35 ([v0, v1, v2], []) st h := exF_j (i := (i_goto 35)) rfl rfl
theorem eX2_test_33 {ev : xV} {v0 v1 v2 : Option Value} {st : List Value} {h : xH} : exF ev cX2_test 33 ([v0, v1, v2], []) st h = exF ev cX2_test 35 ([v0, v1, v2], []) (.int (nI 32) :: st) h := exF_j (i := (i_const (.int (nI 32)) 35)) rfl rfl
theorem eX2_test_35 {ev : xV} {v0 v1 v2 : Option Value} {x : Int32} {st : List Value} {h : xH} : exF ev cX2_test 35 ([v0, v1, v2], []) (.int x :: st) h = exF ev cX2_test 36 ([v0, v1, some (.int x)], []) st h := exF_j (i := (i_istore 2 36)) rfl rfl
theorem eX2_test_36 {ev : xV} {v0 v1 : Option Value} {x : Int32} {st : List Value} {h : xH} : exF ev cX2_test 36 ([v0, v1, some (.int x)], []) st h = exF ev cX2_test 37 ([v0, v1, some (.int x)], []) (.int x :: st) h := exF_j (i := (i_iload 2 37)) rfl rfl
theorem eX2_test_37 {ev : xV} {v0 v1 v2 : Option Value} {st : List Value} {h : xH} : exF ev cX2_test 37 ([v0, v1, v2], []) st h = exF ev cX2_test 39 ([v0, v1, v2], []) (.int (nI 32) :: st) h := exF_j (i := (i_const (.int (nI 32)) 39)) rfl rfl
theorem eX2_test_39 {ev : xV} {v0 v1 v2 : Option Value} {x y : Int32} {st : List Value} {h : xH} : exF ev cX2_test 39 ([v0, v1, v2], []) (.int y :: .int x :: st) h = if ¬ x = y then exF ev cX2_test 44 ([v0, v1, v2], []) st h else exF ev cX2_test 42 ([v0, v1, v2], []) st h := exF_b (i := (i_if2 (fun x y => ¬ x = y) 44 42)) rfl rfl
theorem eX2_test_42 {ev : xV} {v0 v2 : Option Value} {x : Nat} {st : List Value} {h : xH} : exF ev cX2_test 42 ([v0, some (.ref x), v2], []) st h = exF ev cX2_test 43 ([v0, some (.ref x), v2], []) (.ref x :: st) h := exF_j (i := (i_aload 1 43)) rfl rfl
theorem eX2_test_42n {ev : xV} {v0 v2 : Option Value} {st : List Value} {h : xH} : exF ev cX2_test 42 ([v0, some .null, v2], []) st h = exF ev cX2_test 43 ([v0, some .null, v2], []) (.null :: st) h := exF_j (i := (i_aload 1 43)) rfl rfl
theorem eX2_test_43 {ev : xV} {v0 v1 v2 : Option Value} {x : Nat} {h : xH} : exF ev cX2_test 43 ([v0, v1, v2], []) [.ref x] h = some (.inl (some (.ref x)), h) := exF_r (i := (i_aret)) rfl rfl
theorem eX2_test_43n {ev : xV} {v0 v1 v2 : Option Value} {h : xH} : exF ev cX2_test 43 ([v0, v1, v2], []) [.null] h = some (.inl (some .null), h) := exF_r (i := (i_aret)) rfl rfl
theorem eX2_test_44 {ev : xV} {v1 v2 : Option Value} {x : Nat} {st : List Value} {h : xH} : exF ev cX2_test 44 ([some (.ref x), v1, v2], []) st h = exF ev cX2_test 45 ([some (.ref x), v1, v2], []) (.ref x :: st) h := exF_j (i := (i_aload 0 45)) rfl rfl
theorem eX2_test_45 {ev : xV} {v0 v1 v2 : Option Value} {a : Nat} {h : xH} : exF ev cX2_test 45 ([v0, v1, v2], []) [.ref a] h = xO (xck h a 1) (fun _ => xBv (ev 195 [.ref a] h) (fun h => exF ev cX2_test 48 ([v0, v1, v2], []) [] h)) := exF_cdv (i := (i_cvv 1 195 0 48)) rfl rfl
theorem eX2_test_48 {ev : xV} {v0 v1 v2 : Option Value} {st : List Value} {h : xH} : exF ev cX2_test 48 ([v0, v1, v2], []) st h = exF ev cX2_test 51 ([v0, v1, v2], []) (.ref h.2.1 :: st) (xnew h (.inr (14, zX17)) 3) := exF_j (i := (i_new 14 3 zX17 51)) rfl rfl
theorem eX2_test_51 {ev : xV} {v0 v1 v2 : Option Value} {x : Nat} {st : List Value} {h : xH} : exF ev cX2_test 51 ([v0, v1, v2], []) (.ref x :: st) h = exF ev cX2_test 52 ([v0, v1, v2], []) (.ref x :: .ref x :: st) h := exF_j (i := (i_dup 52)) rfl rfl
theorem eX2_test_52 {ev : xV} {v0 v1 : Option Value} {x : Int32} {st : List Value} {h : xH} : exF ev cX2_test 52 ([v0, v1, some (.int x)], []) st h = exF ev cX2_test 53 ([v0, v1, some (.int x)], []) (.int x :: st) h := exF_j (i := (i_iload 2 53)) rfl rfl
theorem eX2_test_53 {ev : xV} {v0 v2 : Option Value} {x : Nat} {st : List Value} {h : xH} : exF ev cX2_test 53 ([v0, some (.ref x), v2], []) st h = exF ev cX2_test 54 ([v0, some (.ref x), v2], []) (.ref x :: st) h := exF_j (i := (i_aload 1 54)) rfl rfl
theorem eX2_test_53n {ev : xV} {v0 v2 : Option Value} {st : List Value} {h : xH} : exF ev cX2_test 53 ([v0, some .null, v2], []) st h = exF ev cX2_test 54 ([v0, some .null, v2], []) (.null :: st) h := exF_j (i := (i_aload 1 54)) rfl rfl
theorem eX2_test_54 {ev : xV} {v1 v2 : Option Value} {x : Nat} {st : List Value} {h : xH} : exF ev cX2_test 54 ([some (.ref x), v1, v2], []) st h = exF ev cX2_test 55 ([some (.ref x), v1, v2], []) (.ref x :: st) h := exF_j (i := (i_aload 0 55)) rfl rfl
theorem eX2_test_55 {ev : xV} {v0 v1 v2 : Option Value} {r0 : Value} {r1 : Value} {r2 : Value} {r3 : Value} {a : Nat} {h : xH} : exF ev cX2_test 55 ([v0, v1, v2], []) [.ref a, r0, r1, r2, r3] h = xO (xck h a 1) (fun _ => xB (ev 217 [.ref a] h) (fun v h => exF ev cX2_test 58 ([v0, v1, v2], []) [v, r0, r1, r2, r3] h)) := exF_cd (i := (i_cv 1 217 0 58)) rfl rfl
theorem eX2_test_58 {ev : xV} {v0 v1 v2 : Option Value} {a0 : Value} {a1 : Value} {a2 : Value} {r0 : Value} {a : Nat} {h : xH} : exF ev cX2_test 58 ([v0, v1, v2], []) [a2, a1, a0, .ref a, r0] h = xO (xckc h [14] a) (fun _ => xBv (ev 188 [.ref a, a0, a1, a2] h) (fun h => exF ev cX2_test 61 ([v0, v1, v2], []) [r0] h)) := exF_cdv (i := (i_ci [14] 188 3 61)) rfl rfl
theorem eX2_test_61 {ev : xV} {v0 v1 v2 : Option Value} {x : Nat} {h : xH} : exF ev cX2_test 61 ([v0, v1, v2], []) [.ref x] h = some (.inl (some (.ref x)), h) := exF_r (i := (i_aret)) rfl rfl
theorem eX2_test_61n {ev : xV} {v0 v1 v2 : Option Value} {h : xH} : exF ev cX2_test 61 ([v0, v1, v2], []) [.null] h = some (.inl (some .null), h) := exF_r (i := (i_aret)) rfl rfl
noncomputable def cX2_sum : xC := [(0, i_aload 0 1),
  (1, i_cv 1 218 0 4),
  (4, i_astore 1 5),
  (5, i_aload 0 6),
  (6, i_const (.int (nI 43)) 8),
  (8, i_cv 1 214 1 11),
  (11, i_if1 (fun x => ¬ x = 0) 23 14),
  (14, i_aload 0 15),
  (15, i_const (.int (nI 45)) 17),
  (17, i_cv 1 214 1 20),
  (20, i_if1 (fun x => x = 0) 61 23),
  (23, i_aload 0 24),
  (24, i_const (.int (nI 43)) 26),
  (26, i_cv 1 214 1 29),
  (29, i_if1 (fun x => x = 0) 37 32),
  (32, i_const (.int (nI 43)) 34),
  (34, i_goto 39),
  (37, i_const (.int (nI 45)) 39),
  (39, i_istore 2 40),
  (40, i_aload 0 41),
  (41, i_cvv 1 195 0 44),
  (44, i_new 14 3 zX17 47),
  (47, i_dup 48),
  (48, i_iload 2 49),
  (49, i_aload 1 50),
  (50, i_aload 0 51),
  (51, i_cv 1 218 0 54),
  (54, i_ci [14] 188 3 57),
  (57, i_astore 1 58),
  (58, i_goto 5),
  (61, i_aload 1 62),
  (62, i_aret)]
theorem eX2_sum_0 {ev : xV} {v1 v2 : Option Value} {x : Nat} {st : List Value} {h : xH} : exF ev cX2_sum 0 ([some (.ref x), v1, v2], []) st h = exF ev cX2_sum 1 ([some (.ref x), v1, v2], []) (.ref x :: st) h := exF_j (i := (i_aload 0 1)) rfl rfl
theorem eX2_sum_1 {ev : xV} {v0 v1 v2 : Option Value} {a : Nat} {h : xH} : exF ev cX2_sum 1 ([v0, v1, v2], []) [.ref a] h = xO (xck h a 1) (fun _ => xB (ev 218 [.ref a] h) (fun v h => exF ev cX2_sum 4 ([v0, v1, v2], []) [v] h)) := exF_cd (i := (i_cv 1 218 0 4)) rfl rfl
theorem eX2_sum_4 {ev : xV} {v0 v1 v2 : Option Value} {x : Nat} {st : List Value} {h : xH} : exF ev cX2_sum 4 ([v0, v1, v2], []) (.ref x :: st) h = exF ev cX2_sum 5 ([v0, some (.ref x), v2], []) st h := exF_j (i := (i_astore 1 5)) rfl rfl
theorem eX2_sum_4n {ev : xV} {v0 v1 v2 : Option Value} {st : List Value} {h : xH} : exF ev cX2_sum 4 ([v0, v1, v2], []) (.null :: st) h = exF ev cX2_sum 5 ([v0, some .null, v2], []) st h := exF_j (i := (i_astore 1 5)) rfl rfl
theorem eX2_sum_5 {ev : xV} {v1 v2 : Option Value} {x : Nat} {st : List Value} {h : xH} : exF ev cX2_sum 5 ([some (.ref x), v1, v2], []) st h = exF ev cX2_sum 6 ([some (.ref x), v1, v2], []) (.ref x :: st) h := exF_j (i := (i_aload 0 6)) rfl rfl
theorem eX2_sum_6 {ev : xV} {v0 v1 v2 : Option Value} {st : List Value} {h : xH} : exF ev cX2_sum 6 ([v0, v1, v2], []) st h = exF ev cX2_sum 8 ([v0, v1, v2], []) (.int (nI 43) :: st) h := exF_j (i := (i_const (.int (nI 43)) 8)) rfl rfl
theorem eX2_sum_8 {ev : xV} {v0 v1 v2 : Option Value} {a0 : Value} {a : Nat} {h : xH} : exF ev cX2_sum 8 ([v0, v1, v2], []) [a0, .ref a] h = xO (xck h a 1) (fun _ => xB (ev 214 [.ref a, a0] h) (fun v h => exF ev cX2_sum 11 ([v0, v1, v2], []) [v] h)) := exF_cd (i := (i_cv 1 214 1 11)) rfl rfl
theorem eX2_sum_11 {ev : xV} {v0 v1 v2 : Option Value} {x : Int32} {st : List Value} {h : xH} : exF ev cX2_sum 11 ([v0, v1, v2], []) (.int x :: st) h = if ¬ x = 0 then exF ev cX2_sum 23 ([v0, v1, v2], []) st h else exF ev cX2_sum 14 ([v0, v1, v2], []) st h := exF_b (i := (i_if1 (fun x => ¬ x = 0) 23 14)) rfl rfl
theorem eX2_sum_14 {ev : xV} {v1 v2 : Option Value} {x : Nat} {st : List Value} {h : xH} : exF ev cX2_sum 14 ([some (.ref x), v1, v2], []) st h = exF ev cX2_sum 15 ([some (.ref x), v1, v2], []) (.ref x :: st) h := exF_j (i := (i_aload 0 15)) rfl rfl
theorem eX2_sum_15 {ev : xV} {v0 v1 v2 : Option Value} {st : List Value} {h : xH} : exF ev cX2_sum 15 ([v0, v1, v2], []) st h = exF ev cX2_sum 17 ([v0, v1, v2], []) (.int (nI 45) :: st) h := exF_j (i := (i_const (.int (nI 45)) 17)) rfl rfl
theorem eX2_sum_17 {ev : xV} {v0 v1 v2 : Option Value} {a0 : Value} {a : Nat} {h : xH} : exF ev cX2_sum 17 ([v0, v1, v2], []) [a0, .ref a] h = xO (xck h a 1) (fun _ => xB (ev 214 [.ref a, a0] h) (fun v h => exF ev cX2_sum 20 ([v0, v1, v2], []) [v] h)) := exF_cd (i := (i_cv 1 214 1 20)) rfl rfl
theorem eX2_sum_20 {ev : xV} {v0 v1 v2 : Option Value} {x : Int32} {st : List Value} {h : xH} : exF ev cX2_sum 20 ([v0, v1, v2], []) (.int x :: st) h = if x = 0 then exF ev cX2_sum 61 ([v0, v1, v2], []) st h else exF ev cX2_sum 23 ([v0, v1, v2], []) st h := exF_b (i := (i_if1 (fun x => x = 0) 61 23)) rfl rfl
theorem eX2_sum_23 {ev : xV} {v1 v2 : Option Value} {x : Nat} {st : List Value} {h : xH} : exF ev cX2_sum 23 ([some (.ref x), v1, v2], []) st h = exF ev cX2_sum 24 ([some (.ref x), v1, v2], []) (.ref x :: st) h := exF_j (i := (i_aload 0 24)) rfl rfl
theorem eX2_sum_24 {ev : xV} {v0 v1 v2 : Option Value} {st : List Value} {h : xH} : exF ev cX2_sum 24 ([v0, v1, v2], []) st h = exF ev cX2_sum 26 ([v0, v1, v2], []) (.int (nI 43) :: st) h := exF_j (i := (i_const (.int (nI 43)) 26)) rfl rfl
theorem eX2_sum_26 {ev : xV} {v0 v1 v2 : Option Value} {a0 : Value} {a : Nat} {h : xH} : exF ev cX2_sum 26 ([v0, v1, v2], []) [a0, .ref a] h = xO (xck h a 1) (fun _ => xB (ev 214 [.ref a, a0] h) (fun v h => exF ev cX2_sum 29 ([v0, v1, v2], []) [v] h)) := exF_cd (i := (i_cv 1 214 1 29)) rfl rfl
theorem eX2_sum_29 {ev : xV} {v0 v1 v2 : Option Value} {x : Int32} {st : List Value} {h : xH} : exF ev cX2_sum 29 ([v0, v1, v2], []) (.int x :: st) h = if x = 0 then exF ev cX2_sum 37 ([v0, v1, v2], []) st h else exF ev cX2_sum 32 ([v0, v1, v2], []) st h := exF_b (i := (i_if1 (fun x => x = 0) 37 32)) rfl rfl
theorem eX2_sum_32 {ev : xV} {v0 v1 v2 : Option Value} {st : List Value} {h : xH} : exF ev cX2_sum 32 ([v0, v1, v2], []) st h = exF ev cX2_sum 34 ([v0, v1, v2], []) (.int (nI 43) :: st) h := exF_j (i := (i_const (.int (nI 43)) 34)) rfl rfl
theorem eX2_sum_34 {ev : xV} {v0 v1 v2 : Option Value} {st : List Value} {h : xH} : exF ev cX2_sum 34 ([v0, v1, v2], []) st h = exF ev cX2_sum 39 ([v0, v1, v2], []) st h := exF_j (i := (i_goto 39)) rfl rfl
theorem eX2_sum_37 {ev : xV} {v0 v1 v2 : Option Value} {st : List Value} {h : xH} : exF ev cX2_sum 37 ([v0, v1, v2], []) st h = exF ev cX2_sum 39 ([v0, v1, v2], []) (.int (nI 45) :: st) h := exF_j (i := (i_const (.int (nI 45)) 39)) rfl rfl
theorem eX2_sum_39 {ev : xV} {v0 v1 v2 : Option Value} {x : Int32} {st : List Value} {h : xH} : exF ev cX2_sum 39 ([v0, v1, v2], []) (.int x :: st) h = exF ev cX2_sum 40 ([v0, v1, some (.int x)], []) st h := exF_j (i := (i_istore 2 40)) rfl rfl
theorem eX2_sum_40 {ev : xV} {v1 v2 : Option Value} {x : Nat} {st : List Value} {h : xH} : exF ev cX2_sum 40 ([some (.ref x), v1, v2], []) st h = exF ev cX2_sum 41 ([some (.ref x), v1, v2], []) (.ref x :: st) h := exF_j (i := (i_aload 0 41)) rfl rfl
theorem eX2_sum_41 {ev : xV} {v0 v1 v2 : Option Value} {a : Nat} {h : xH} : exF ev cX2_sum 41 ([v0, v1, v2], []) [.ref a] h = xO (xck h a 1) (fun _ => xBv (ev 195 [.ref a] h) (fun h => exF ev cX2_sum 44 ([v0, v1, v2], []) [] h)) := exF_cdv (i := (i_cvv 1 195 0 44)) rfl rfl
theorem eX2_sum_44 {ev : xV} {v0 v1 v2 : Option Value} {st : List Value} {h : xH} : exF ev cX2_sum 44 ([v0, v1, v2], []) st h = exF ev cX2_sum 47 ([v0, v1, v2], []) (.ref h.2.1 :: st) (xnew h (.inr (14, zX17)) 3) := exF_j (i := (i_new 14 3 zX17 47)) rfl rfl
theorem eX2_sum_47 {ev : xV} {v0 v1 v2 : Option Value} {x : Nat} {st : List Value} {h : xH} : exF ev cX2_sum 47 ([v0, v1, v2], []) (.ref x :: st) h = exF ev cX2_sum 48 ([v0, v1, v2], []) (.ref x :: .ref x :: st) h := exF_j (i := (i_dup 48)) rfl rfl
theorem eX2_sum_48 {ev : xV} {v0 v1 : Option Value} {x : Int32} {st : List Value} {h : xH} : exF ev cX2_sum 48 ([v0, v1, some (.int x)], []) st h = exF ev cX2_sum 49 ([v0, v1, some (.int x)], []) (.int x :: st) h := exF_j (i := (i_iload 2 49)) rfl rfl
theorem eX2_sum_49 {ev : xV} {v0 v2 : Option Value} {x : Nat} {st : List Value} {h : xH} : exF ev cX2_sum 49 ([v0, some (.ref x), v2], []) st h = exF ev cX2_sum 50 ([v0, some (.ref x), v2], []) (.ref x :: st) h := exF_j (i := (i_aload 1 50)) rfl rfl
theorem eX2_sum_49n {ev : xV} {v0 v2 : Option Value} {st : List Value} {h : xH} : exF ev cX2_sum 49 ([v0, some .null, v2], []) st h = exF ev cX2_sum 50 ([v0, some .null, v2], []) (.null :: st) h := exF_j (i := (i_aload 1 50)) rfl rfl
theorem eX2_sum_50 {ev : xV} {v1 v2 : Option Value} {x : Nat} {st : List Value} {h : xH} : exF ev cX2_sum 50 ([some (.ref x), v1, v2], []) st h = exF ev cX2_sum 51 ([some (.ref x), v1, v2], []) (.ref x :: st) h := exF_j (i := (i_aload 0 51)) rfl rfl
theorem eX2_sum_51 {ev : xV} {v0 v1 v2 : Option Value} {r0 : Value} {r1 : Value} {r2 : Value} {r3 : Value} {a : Nat} {h : xH} : exF ev cX2_sum 51 ([v0, v1, v2], []) [.ref a, r0, r1, r2, r3] h = xO (xck h a 1) (fun _ => xB (ev 218 [.ref a] h) (fun v h => exF ev cX2_sum 54 ([v0, v1, v2], []) [v, r0, r1, r2, r3] h)) := exF_cd (i := (i_cv 1 218 0 54)) rfl rfl
theorem eX2_sum_54 {ev : xV} {v0 v1 v2 : Option Value} {a0 : Value} {a1 : Value} {a2 : Value} {r0 : Value} {a : Nat} {h : xH} : exF ev cX2_sum 54 ([v0, v1, v2], []) [a2, a1, a0, .ref a, r0] h = xO (xckc h [14] a) (fun _ => xBv (ev 188 [.ref a, a0, a1, a2] h) (fun h => exF ev cX2_sum 57 ([v0, v1, v2], []) [r0] h)) := exF_cdv (i := (i_ci [14] 188 3 57)) rfl rfl
theorem eX2_sum_57 {ev : xV} {v0 v1 v2 : Option Value} {x : Nat} {st : List Value} {h : xH} : exF ev cX2_sum 57 ([v0, v1, v2], []) (.ref x :: st) h = exF ev cX2_sum 58 ([v0, some (.ref x), v2], []) st h := exF_j (i := (i_astore 1 58)) rfl rfl
theorem eX2_sum_57n {ev : xV} {v0 v1 v2 : Option Value} {st : List Value} {h : xH} : exF ev cX2_sum 57 ([v0, v1, v2], []) (.null :: st) h = exF ev cX2_sum 58 ([v0, some .null, v2], []) st h := exF_j (i := (i_astore 1 58)) rfl rfl
theorem eX2_sum_58 {ev : xV} {v0 v1 v2 : Option Value} {st : List Value} {h : xH} : exF ev cX2_sum 58 ([v0, v1, v2], []) st h = exF ev cX2_sum 5 ([v0, v1, v2], []) st h := exF_j (i := (i_goto 5)) rfl rfl
theorem eX2_sum_61 {ev : xV} {v0 v2 : Option Value} {x : Nat} {st : List Value} {h : xH} : exF ev cX2_sum 61 ([v0, some (.ref x), v2], []) st h = exF ev cX2_sum 62 ([v0, some (.ref x), v2], []) (.ref x :: st) h := exF_j (i := (i_aload 1 62)) rfl rfl
theorem eX2_sum_61n {ev : xV} {v0 v2 : Option Value} {st : List Value} {h : xH} : exF ev cX2_sum 61 ([v0, some .null, v2], []) st h = exF ev cX2_sum 62 ([v0, some .null, v2], []) (.null :: st) h := exF_j (i := (i_aload 1 62)) rfl rfl
theorem eX2_sum_62 {ev : xV} {v0 v1 v2 : Option Value} {x : Nat} {h : xH} : exF ev cX2_sum 62 ([v0, v1, v2], []) [.ref x] h = some (.inl (some (.ref x)), h) := exF_r (i := (i_aret)) rfl rfl
theorem eX2_sum_62n {ev : xV} {v0 v1 v2 : Option Value} {h : xH} : exF ev cX2_sum 62 ([v0, v1, v2], []) [.null] h = some (.inl (some .null), h) := exF_r (i := (i_aret)) rfl rfl
noncomputable def cX2_product : xC := [(0, i_aload 0 1),
  (1, i_cv 1 219 0 4),
  (4, i_astore 1 5),
  (5, i_aload 0 6),
  (6, i_const (.int (nI 42)) 8),
  (8, i_cv 1 214 1 11),
  (11, i_if1 (fun x => x = 0) 36 14),
  (14, i_aload 0 15),
  (15, i_cvv 1 195 0 18),
  (18, i_new 14 3 zX17 21),
  (21, i_dup 22),
  (22, i_const (.int (nI 42)) 24),
  (24, i_aload 1 25),
  (25, i_aload 0 26),
  (26, i_cv 1 219 0 29),
  (29, i_ci [14] 188 3 32),
  (32, i_astore 1 33),
  (33, i_goto 5),
  (36, i_aload 1 37),
  (37, i_aret)]
theorem eX2_product_0 {ev : xV} {v1 : Option Value} {x : Nat} {st : List Value} {h : xH} : exF ev cX2_product 0 ([some (.ref x), v1], []) st h = exF ev cX2_product 1 ([some (.ref x), v1], []) (.ref x :: st) h := exF_j (i := (i_aload 0 1)) rfl rfl
theorem eX2_product_1 {ev : xV} {v0 v1 : Option Value} {a : Nat} {h : xH} : exF ev cX2_product 1 ([v0, v1], []) [.ref a] h = xO (xck h a 1) (fun _ => xB (ev 219 [.ref a] h) (fun v h => exF ev cX2_product 4 ([v0, v1], []) [v] h)) := exF_cd (i := (i_cv 1 219 0 4)) rfl rfl
theorem eX2_product_4 {ev : xV} {v0 v1 : Option Value} {x : Nat} {st : List Value} {h : xH} : exF ev cX2_product 4 ([v0, v1], []) (.ref x :: st) h = exF ev cX2_product 5 ([v0, some (.ref x)], []) st h := exF_j (i := (i_astore 1 5)) rfl rfl
theorem eX2_product_4n {ev : xV} {v0 v1 : Option Value} {st : List Value} {h : xH} : exF ev cX2_product 4 ([v0, v1], []) (.null :: st) h = exF ev cX2_product 5 ([v0, some .null], []) st h := exF_j (i := (i_astore 1 5)) rfl rfl
theorem eX2_product_5 {ev : xV} {v1 : Option Value} {x : Nat} {st : List Value} {h : xH} : exF ev cX2_product 5 ([some (.ref x), v1], []) st h = exF ev cX2_product 6 ([some (.ref x), v1], []) (.ref x :: st) h := exF_j (i := (i_aload 0 6)) rfl rfl
theorem eX2_product_6 {ev : xV} {v0 v1 : Option Value} {st : List Value} {h : xH} : exF ev cX2_product 6 ([v0, v1], []) st h = exF ev cX2_product 8 ([v0, v1], []) (.int (nI 42) :: st) h := exF_j (i := (i_const (.int (nI 42)) 8)) rfl rfl
theorem eX2_product_8 {ev : xV} {v0 v1 : Option Value} {a0 : Value} {a : Nat} {h : xH} : exF ev cX2_product 8 ([v0, v1], []) [a0, .ref a] h = xO (xck h a 1) (fun _ => xB (ev 214 [.ref a, a0] h) (fun v h => exF ev cX2_product 11 ([v0, v1], []) [v] h)) := exF_cd (i := (i_cv 1 214 1 11)) rfl rfl
theorem eX2_product_11 {ev : xV} {v0 v1 : Option Value} {x : Int32} {st : List Value} {h : xH} : exF ev cX2_product 11 ([v0, v1], []) (.int x :: st) h = if x = 0 then exF ev cX2_product 36 ([v0, v1], []) st h else exF ev cX2_product 14 ([v0, v1], []) st h := exF_b (i := (i_if1 (fun x => x = 0) 36 14)) rfl rfl
theorem eX2_product_14 {ev : xV} {v1 : Option Value} {x : Nat} {st : List Value} {h : xH} : exF ev cX2_product 14 ([some (.ref x), v1], []) st h = exF ev cX2_product 15 ([some (.ref x), v1], []) (.ref x :: st) h := exF_j (i := (i_aload 0 15)) rfl rfl
theorem eX2_product_15 {ev : xV} {v0 v1 : Option Value} {a : Nat} {h : xH} : exF ev cX2_product 15 ([v0, v1], []) [.ref a] h = xO (xck h a 1) (fun _ => xBv (ev 195 [.ref a] h) (fun h => exF ev cX2_product 18 ([v0, v1], []) [] h)) := exF_cdv (i := (i_cvv 1 195 0 18)) rfl rfl
theorem eX2_product_18 {ev : xV} {v0 v1 : Option Value} {st : List Value} {h : xH} : exF ev cX2_product 18 ([v0, v1], []) st h = exF ev cX2_product 21 ([v0, v1], []) (.ref h.2.1 :: st) (xnew h (.inr (14, zX17)) 3) := exF_j (i := (i_new 14 3 zX17 21)) rfl rfl
theorem eX2_product_21 {ev : xV} {v0 v1 : Option Value} {x : Nat} {st : List Value} {h : xH} : exF ev cX2_product 21 ([v0, v1], []) (.ref x :: st) h = exF ev cX2_product 22 ([v0, v1], []) (.ref x :: .ref x :: st) h := exF_j (i := (i_dup 22)) rfl rfl
theorem eX2_product_22 {ev : xV} {v0 v1 : Option Value} {st : List Value} {h : xH} : exF ev cX2_product 22 ([v0, v1], []) st h = exF ev cX2_product 24 ([v0, v1], []) (.int (nI 42) :: st) h := exF_j (i := (i_const (.int (nI 42)) 24)) rfl rfl
theorem eX2_product_24 {ev : xV} {v0 : Option Value} {x : Nat} {st : List Value} {h : xH} : exF ev cX2_product 24 ([v0, some (.ref x)], []) st h = exF ev cX2_product 25 ([v0, some (.ref x)], []) (.ref x :: st) h := exF_j (i := (i_aload 1 25)) rfl rfl
theorem eX2_product_24n {ev : xV} {v0 : Option Value} {st : List Value} {h : xH} : exF ev cX2_product 24 ([v0, some .null], []) st h = exF ev cX2_product 25 ([v0, some .null], []) (.null :: st) h := exF_j (i := (i_aload 1 25)) rfl rfl
theorem eX2_product_25 {ev : xV} {v1 : Option Value} {x : Nat} {st : List Value} {h : xH} : exF ev cX2_product 25 ([some (.ref x), v1], []) st h = exF ev cX2_product 26 ([some (.ref x), v1], []) (.ref x :: st) h := exF_j (i := (i_aload 0 26)) rfl rfl
theorem eX2_product_26 {ev : xV} {v0 v1 : Option Value} {r0 : Value} {r1 : Value} {r2 : Value} {r3 : Value} {a : Nat} {h : xH} : exF ev cX2_product 26 ([v0, v1], []) [.ref a, r0, r1, r2, r3] h = xO (xck h a 1) (fun _ => xB (ev 219 [.ref a] h) (fun v h => exF ev cX2_product 29 ([v0, v1], []) [v, r0, r1, r2, r3] h)) := exF_cd (i := (i_cv 1 219 0 29)) rfl rfl
theorem eX2_product_29 {ev : xV} {v0 v1 : Option Value} {a0 : Value} {a1 : Value} {a2 : Value} {r0 : Value} {a : Nat} {h : xH} : exF ev cX2_product 29 ([v0, v1], []) [a2, a1, a0, .ref a, r0] h = xO (xckc h [14] a) (fun _ => xBv (ev 188 [.ref a, a0, a1, a2] h) (fun h => exF ev cX2_product 32 ([v0, v1], []) [r0] h)) := exF_cdv (i := (i_ci [14] 188 3 32)) rfl rfl
theorem eX2_product_32 {ev : xV} {v0 v1 : Option Value} {x : Nat} {st : List Value} {h : xH} : exF ev cX2_product 32 ([v0, v1], []) (.ref x :: st) h = exF ev cX2_product 33 ([v0, some (.ref x)], []) st h := exF_j (i := (i_astore 1 33)) rfl rfl
theorem eX2_product_32n {ev : xV} {v0 v1 : Option Value} {st : List Value} {h : xH} : exF ev cX2_product 32 ([v0, v1], []) (.null :: st) h = exF ev cX2_product 33 ([v0, some .null], []) st h := exF_j (i := (i_astore 1 33)) rfl rfl
theorem eX2_product_33 {ev : xV} {v0 v1 : Option Value} {st : List Value} {h : xH} : exF ev cX2_product 33 ([v0, v1], []) st h = exF ev cX2_product 5 ([v0, v1], []) st h := exF_j (i := (i_goto 5)) rfl rfl
theorem eX2_product_36 {ev : xV} {v0 : Option Value} {x : Nat} {st : List Value} {h : xH} : exF ev cX2_product 36 ([v0, some (.ref x)], []) st h = exF ev cX2_product 37 ([v0, some (.ref x)], []) (.ref x :: st) h := exF_j (i := (i_aload 1 37)) rfl rfl
theorem eX2_product_36n {ev : xV} {v0 : Option Value} {st : List Value} {h : xH} : exF ev cX2_product 36 ([v0, some .null], []) st h = exF ev cX2_product 37 ([v0, some .null], []) (.null :: st) h := exF_j (i := (i_aload 1 37)) rfl rfl
theorem eX2_product_37 {ev : xV} {v0 v1 : Option Value} {x : Nat} {h : xH} : exF ev cX2_product 37 ([v0, v1], []) [.ref x] h = some (.inl (some (.ref x)), h) := exF_r (i := (i_aret)) rfl rfl
theorem eX2_product_37n {ev : xV} {v0 v1 : Option Value} {h : xH} : exF ev cX2_product 37 ([v0, v1], []) [.null] h = some (.inl (some .null), h) := exF_r (i := (i_aret)) rfl rfl
noncomputable def cX2_part : xC := [(0, i_aload 0 1),
  (1, i_const (.ref 14) 4),
  (4, i_cv 1 200 1 7),
  (7, i_istore 1 8),
  (8, i_aload 0 9),
  (9, i_const (.ref 16) 12),
  (12, i_cv 1 200 1 15),
  (15, i_if1 (fun x => x < 0) 22 18),
  (18, i_const (.int (nI 1)) 19),
  (19, i_goto 23),
  (22, i_const (.int (nI 0)) 23),
  (23, i_istore 2 24),
  (24, i_aload 0 25),
  (25, i_const (.int (nI 40)) 27),
  (27, i_cv 1 214 1 30),
  (30, i_istore 3 31),
  (31, i_iload 1 32),
  (32, i_if1 (fun x => 0 ≤ x) 57 35),
  (35, i_iload 2 36),
  (36, i_if1 (fun x => ¬ x = 0) 57 39),
  (39, i_iload 3 40),
  (40, i_if1 (fun x => ¬ x = 0) 57 43),
  (43, i_aload 0 44),
  (44, i_getf 1 3 47),
  (47, i_const (.int (nI 2)) 48),
  (48, i_if2 (fun x y => x = y) 57 51),
  (51, i_aload 0 52),
  (52, i_const (.int (nI 1)) 53),
  (53, i_cv 1 201 1 56),
  (56, i_throw [5]),
  (57, i_aload 0 58),
  (58, i_getf 1 6 61),
  (61, i_const (.int (nI 5)) 62),
  (62, i_if2 (fun x y => ¬ x = y) 71 65),
  (65, i_aload 0 66),
  (66, i_const (.int (nI 5)) 67),
  (67, i_cv 1 201 1 70),
  (70, i_throw [5]),
  (71, i_aload 0 72),
  (72, i_getf 1 3 75),
  (75, i_const (.int (nI 2)) 76),
  (76, i_if2 (fun x y => ¬ x = y) 95 79),
  (79, i_new 11 1 zX14 82),
  (82, i_dup 83),
  (83, i_aload 0 84),
  (84, i_const (.int (nI 0)) 85),
  (85, i_const (.int (nI 9999)) 88),
  (88, i_cv 1 212 2 91),
  (91, i_ci [11] 182 1 94),
  (94, i_aret),
  (95, i_aload 0 96),
  (96, i_cvv 1 195 0 99),
  (99, i_iload 1 100),
  (100, i_if1 (fun x => x < 0) 112 103),
  (103, i_new 12 1 zX15 106),
  (106, i_dup 107),
  (107, i_iload 1 108),
  (108, i_ci [12] 184 1 111),
  (111, i_aret),
  (112, i_aload 0 113),
  (113, i_dup 114),
  (114, i_getf 1 6 117),
  (117, i_const (.int (nI 1)) 118),
  (118, i_ii (fun x y => x + y) 119),
  (119, i_putfi 1 6 122),
  (122, i_iload 2 123),
  (123, i_if1 (fun x => x = 0) 140 126),
  (126, i_new 13 1 zX16 129),
  (129, i_dup 130),
  (130, i_aload 0 131),
  (131, i_cv 1 219 0 134),
  (134, i_ci [13] 186 1 137),
  (137, i_goto 144),
  (140, i_aload 0 141),
  (141, i_cv 1 215 0 144),
  (144, i_astore 4 146),
  (146, i_iload 3 147),
  (147, i_if1 (fun x => x = 0) 156 150),
  (150, i_aload 0 151),
  (151, i_const (.int (nI 41)) 153),
  (153, i_cvv 1 220 1 156),
  (156, i_aload 0 157),
  (157, i_dup 158),
  (158, i_getf 1 6 161),
  (161, i_const (.int (nI 1)) 162),
  (162, i_ii (fun x y => x - y) 163),
  (163, i_putfi 1 6 166),
  (166, i_aload 4 168),
  (168, i_aret)]
theorem eX2_part_0 {ev : xV} {v1 v2 v3 v4 : Option Value} {x : Nat} {st : List Value} {h : xH} : exF ev cX2_part 0 ([some (.ref x), v1, v2, v3, v4], []) st h = exF ev cX2_part 1 ([some (.ref x), v1, v2, v3, v4], []) (.ref x :: st) h := exF_j (i := (i_aload 0 1)) rfl rfl
theorem eX2_part_1 {ev : xV} {v0 v1 v2 v3 v4 : Option Value} {st : List Value} {h : xH} : exF ev cX2_part 1 ([v0, v1, v2, v3, v4], []) st h = exF ev cX2_part 4 ([v0, v1, v2, v3, v4], []) (.ref 14 :: st) h := exF_j (i := (i_const (.ref 14) 4)) rfl rfl
theorem eX2_part_4 {ev : xV} {v0 v1 v2 v3 v4 : Option Value} {a0 : Value} {a : Nat} {h : xH} : exF ev cX2_part 4 ([v0, v1, v2, v3, v4], []) [a0, .ref a] h = xO (xck h a 1) (fun _ => xB (ev 200 [.ref a, a0] h) (fun v h => exF ev cX2_part 7 ([v0, v1, v2, v3, v4], []) [v] h)) := exF_cd (i := (i_cv 1 200 1 7)) rfl rfl
theorem eX2_part_7 {ev : xV} {v0 v1 v2 v3 v4 : Option Value} {x : Int32} {st : List Value} {h : xH} : exF ev cX2_part 7 ([v0, v1, v2, v3, v4], []) (.int x :: st) h = exF ev cX2_part 8 ([v0, some (.int x), v2, v3, v4], []) st h := exF_j (i := (i_istore 1 8)) rfl rfl
theorem eX2_part_8 {ev : xV} {v1 v2 v3 v4 : Option Value} {x : Nat} {st : List Value} {h : xH} : exF ev cX2_part 8 ([some (.ref x), v1, v2, v3, v4], []) st h = exF ev cX2_part 9 ([some (.ref x), v1, v2, v3, v4], []) (.ref x :: st) h := exF_j (i := (i_aload 0 9)) rfl rfl
theorem eX2_part_9 {ev : xV} {v0 v1 v2 v3 v4 : Option Value} {st : List Value} {h : xH} : exF ev cX2_part 9 ([v0, v1, v2, v3, v4], []) st h = exF ev cX2_part 12 ([v0, v1, v2, v3, v4], []) (.ref 16 :: st) h := exF_j (i := (i_const (.ref 16) 12)) rfl rfl
theorem eX2_part_12 {ev : xV} {v0 v1 v2 v3 v4 : Option Value} {a0 : Value} {a : Nat} {h : xH} : exF ev cX2_part 12 ([v0, v1, v2, v3, v4], []) [a0, .ref a] h = xO (xck h a 1) (fun _ => xB (ev 200 [.ref a, a0] h) (fun v h => exF ev cX2_part 15 ([v0, v1, v2, v3, v4], []) [v] h)) := exF_cd (i := (i_cv 1 200 1 15)) rfl rfl
theorem eX2_part_15 {ev : xV} {v0 v1 v2 v3 v4 : Option Value} {x : Int32} {st : List Value} {h : xH} : exF ev cX2_part 15 ([v0, v1, v2, v3, v4], []) (.int x :: st) h = if x < 0 then exF ev cX2_part 22 ([v0, v1, v2, v3, v4], []) st h else exF ev cX2_part 18 ([v0, v1, v2, v3, v4], []) st h := exF_b (i := (i_if1 (fun x => x < 0) 22 18)) rfl rfl
theorem eX2_part_18 {ev : xV} {v0 v1 v2 v3 v4 : Option Value} {st : List Value} {h : xH} : exF ev cX2_part 18 ([v0, v1, v2, v3, v4], []) st h = exF ev cX2_part 19 ([v0, v1, v2, v3, v4], []) (.int (nI 1) :: st) h := exF_j (i := (i_const (.int (nI 1)) 19)) rfl rfl
theorem eX2_part_19 {ev : xV} {v0 v1 v2 v3 v4 : Option Value} {st : List Value} {h : xH} : exF ev cX2_part 19 ([v0, v1, v2, v3, v4], []) st h = exF ev cX2_part 23 ([v0, v1, v2, v3, v4], []) st h := exF_j (i := (i_goto 23)) rfl rfl
theorem eX2_part_22 {ev : xV} {v0 v1 v2 v3 v4 : Option Value} {st : List Value} {h : xH} : exF ev cX2_part 22 ([v0, v1, v2, v3, v4], []) st h = exF ev cX2_part 23 ([v0, v1, v2, v3, v4], []) (.int (nI 0) :: st) h := exF_j (i := (i_const (.int (nI 0)) 23)) rfl rfl
theorem eX2_part_23 {ev : xV} {v0 v1 v2 v3 v4 : Option Value} {x : Int32} {st : List Value} {h : xH} : exF ev cX2_part 23 ([v0, v1, v2, v3, v4], []) (.int x :: st) h = exF ev cX2_part 24 ([v0, v1, some (.int x), v3, v4], []) st h := exF_j (i := (i_istore 2 24)) rfl rfl
theorem eX2_part_24 {ev : xV} {v1 v2 v3 v4 : Option Value} {x : Nat} {st : List Value} {h : xH} : exF ev cX2_part 24 ([some (.ref x), v1, v2, v3, v4], []) st h = exF ev cX2_part 25 ([some (.ref x), v1, v2, v3, v4], []) (.ref x :: st) h := exF_j (i := (i_aload 0 25)) rfl rfl
theorem eX2_part_25 {ev : xV} {v0 v1 v2 v3 v4 : Option Value} {st : List Value} {h : xH} : exF ev cX2_part 25 ([v0, v1, v2, v3, v4], []) st h = exF ev cX2_part 27 ([v0, v1, v2, v3, v4], []) (.int (nI 40) :: st) h := exF_j (i := (i_const (.int (nI 40)) 27)) rfl rfl
theorem eX2_part_27 {ev : xV} {v0 v1 v2 v3 v4 : Option Value} {a0 : Value} {a : Nat} {h : xH} : exF ev cX2_part 27 ([v0, v1, v2, v3, v4], []) [a0, .ref a] h = xO (xck h a 1) (fun _ => xB (ev 214 [.ref a, a0] h) (fun v h => exF ev cX2_part 30 ([v0, v1, v2, v3, v4], []) [v] h)) := exF_cd (i := (i_cv 1 214 1 30)) rfl rfl
theorem eX2_part_30 {ev : xV} {v0 v1 v2 v3 v4 : Option Value} {x : Int32} {st : List Value} {h : xH} : exF ev cX2_part 30 ([v0, v1, v2, v3, v4], []) (.int x :: st) h = exF ev cX2_part 31 ([v0, v1, v2, some (.int x), v4], []) st h := exF_j (i := (i_istore 3 31)) rfl rfl
theorem eX2_part_31 {ev : xV} {v0 v2 v3 v4 : Option Value} {x : Int32} {st : List Value} {h : xH} : exF ev cX2_part 31 ([v0, some (.int x), v2, v3, v4], []) st h = exF ev cX2_part 32 ([v0, some (.int x), v2, v3, v4], []) (.int x :: st) h := exF_j (i := (i_iload 1 32)) rfl rfl
theorem eX2_part_32 {ev : xV} {v0 v1 v2 v3 v4 : Option Value} {x : Int32} {st : List Value} {h : xH} : exF ev cX2_part 32 ([v0, v1, v2, v3, v4], []) (.int x :: st) h = if 0 ≤ x then exF ev cX2_part 57 ([v0, v1, v2, v3, v4], []) st h else exF ev cX2_part 35 ([v0, v1, v2, v3, v4], []) st h := exF_b (i := (i_if1 (fun x => 0 ≤ x) 57 35)) rfl rfl
theorem eX2_part_35 {ev : xV} {v0 v1 v3 v4 : Option Value} {x : Int32} {st : List Value} {h : xH} : exF ev cX2_part 35 ([v0, v1, some (.int x), v3, v4], []) st h = exF ev cX2_part 36 ([v0, v1, some (.int x), v3, v4], []) (.int x :: st) h := exF_j (i := (i_iload 2 36)) rfl rfl
theorem eX2_part_36 {ev : xV} {v0 v1 v2 v3 v4 : Option Value} {x : Int32} {st : List Value} {h : xH} : exF ev cX2_part 36 ([v0, v1, v2, v3, v4], []) (.int x :: st) h = if ¬ x = 0 then exF ev cX2_part 57 ([v0, v1, v2, v3, v4], []) st h else exF ev cX2_part 39 ([v0, v1, v2, v3, v4], []) st h := exF_b (i := (i_if1 (fun x => ¬ x = 0) 57 39)) rfl rfl
theorem eX2_part_39 {ev : xV} {v0 v1 v2 v4 : Option Value} {x : Int32} {st : List Value} {h : xH} : exF ev cX2_part 39 ([v0, v1, v2, some (.int x), v4], []) st h = exF ev cX2_part 40 ([v0, v1, v2, some (.int x), v4], []) (.int x :: st) h := exF_j (i := (i_iload 3 40)) rfl rfl
theorem eX2_part_40 {ev : xV} {v0 v1 v2 v3 v4 : Option Value} {x : Int32} {st : List Value} {h : xH} : exF ev cX2_part 40 ([v0, v1, v2, v3, v4], []) (.int x :: st) h = if ¬ x = 0 then exF ev cX2_part 57 ([v0, v1, v2, v3, v4], []) st h else exF ev cX2_part 43 ([v0, v1, v2, v3, v4], []) st h := exF_b (i := (i_if1 (fun x => ¬ x = 0) 57 43)) rfl rfl
theorem eX2_part_43 {ev : xV} {v1 v2 v3 v4 : Option Value} {x : Nat} {st : List Value} {h : xH} : exF ev cX2_part 43 ([some (.ref x), v1, v2, v3, v4], []) st h = exF ev cX2_part 44 ([some (.ref x), v1, v2, v3, v4], []) (.ref x :: st) h := exF_j (i := (i_aload 0 44)) rfl rfl
theorem eX2_part_44 {ev : xV} {v0 v1 v2 v3 v4 : Option Value} {a : Nat} {st : List Value} {h : xH} : exF ev cX2_part 44 ([v0, v1, v2, v3, v4], []) (.ref a :: st) h = xO (xgf h a 1 3) (fun v => exF ev cX2_part 47 ([v0, v1, v2, v3, v4], []) (v :: st) h) := exF_o (i := (i_getf 1 3 47)) rfl rfl
theorem eX2_part_47 {ev : xV} {v0 v1 v2 v3 v4 : Option Value} {st : List Value} {h : xH} : exF ev cX2_part 47 ([v0, v1, v2, v3, v4], []) st h = exF ev cX2_part 48 ([v0, v1, v2, v3, v4], []) (.int (nI 2) :: st) h := exF_j (i := (i_const (.int (nI 2)) 48)) rfl rfl
theorem eX2_part_48 {ev : xV} {v0 v1 v2 v3 v4 : Option Value} {x y : Int32} {st : List Value} {h : xH} : exF ev cX2_part 48 ([v0, v1, v2, v3, v4], []) (.int y :: .int x :: st) h = if x = y then exF ev cX2_part 57 ([v0, v1, v2, v3, v4], []) st h else exF ev cX2_part 51 ([v0, v1, v2, v3, v4], []) st h := exF_b (i := (i_if2 (fun x y => x = y) 57 51)) rfl rfl
theorem eX2_part_51 {ev : xV} {v1 v2 v3 v4 : Option Value} {x : Nat} {st : List Value} {h : xH} : exF ev cX2_part 51 ([some (.ref x), v1, v2, v3, v4], []) st h = exF ev cX2_part 52 ([some (.ref x), v1, v2, v3, v4], []) (.ref x :: st) h := exF_j (i := (i_aload 0 52)) rfl rfl
theorem eX2_part_52 {ev : xV} {v0 v1 v2 v3 v4 : Option Value} {st : List Value} {h : xH} : exF ev cX2_part 52 ([v0, v1, v2, v3, v4], []) st h = exF ev cX2_part 53 ([v0, v1, v2, v3, v4], []) (.int (nI 1) :: st) h := exF_j (i := (i_const (.int (nI 1)) 53)) rfl rfl
theorem eX2_part_53 {ev : xV} {v0 v1 v2 v3 v4 : Option Value} {a0 : Value} {a : Nat} {h : xH} : exF ev cX2_part 53 ([v0, v1, v2, v3, v4], []) [a0, .ref a] h = xO (xck h a 1) (fun _ => xB (ev 201 [.ref a, a0] h) (fun v h => exF ev cX2_part 56 ([v0, v1, v2, v3, v4], []) [v] h)) := exF_cd (i := (i_cv 1 201 1 56)) rfl rfl
theorem eX2_part_56 {ev : xV} {v0 v1 v2 v3 v4 : Option Value} {a : Nat} {st : List Value} {h : xH} : exF ev cX2_part 56 ([v0, v1, v2, v3, v4], []) (.ref a :: st) h = xO (xckc h [5] a) (fun _ => some (.inr a, h)) := exF_t (i := (i_throw [5])) rfl rfl
theorem eX2_part_57 {ev : xV} {v1 v2 v3 v4 : Option Value} {x : Nat} {st : List Value} {h : xH} : exF ev cX2_part 57 ([some (.ref x), v1, v2, v3, v4], []) st h = exF ev cX2_part 58 ([some (.ref x), v1, v2, v3, v4], []) (.ref x :: st) h := exF_j (i := (i_aload 0 58)) rfl rfl
theorem eX2_part_58 {ev : xV} {v0 v1 v2 v3 v4 : Option Value} {a : Nat} {st : List Value} {h : xH} : exF ev cX2_part 58 ([v0, v1, v2, v3, v4], []) (.ref a :: st) h = xO (xgf h a 1 6) (fun v => exF ev cX2_part 61 ([v0, v1, v2, v3, v4], []) (v :: st) h) := exF_o (i := (i_getf 1 6 61)) rfl rfl
theorem eX2_part_61 {ev : xV} {v0 v1 v2 v3 v4 : Option Value} {st : List Value} {h : xH} : exF ev cX2_part 61 ([v0, v1, v2, v3, v4], []) st h = exF ev cX2_part 62 ([v0, v1, v2, v3, v4], []) (.int (nI 5) :: st) h := exF_j (i := (i_const (.int (nI 5)) 62)) rfl rfl
theorem eX2_part_62 {ev : xV} {v0 v1 v2 v3 v4 : Option Value} {x y : Int32} {st : List Value} {h : xH} : exF ev cX2_part 62 ([v0, v1, v2, v3, v4], []) (.int y :: .int x :: st) h = if ¬ x = y then exF ev cX2_part 71 ([v0, v1, v2, v3, v4], []) st h else exF ev cX2_part 65 ([v0, v1, v2, v3, v4], []) st h := exF_b (i := (i_if2 (fun x y => ¬ x = y) 71 65)) rfl rfl
theorem eX2_part_65 {ev : xV} {v1 v2 v3 v4 : Option Value} {x : Nat} {st : List Value} {h : xH} : exF ev cX2_part 65 ([some (.ref x), v1, v2, v3, v4], []) st h = exF ev cX2_part 66 ([some (.ref x), v1, v2, v3, v4], []) (.ref x :: st) h := exF_j (i := (i_aload 0 66)) rfl rfl
theorem eX2_part_66 {ev : xV} {v0 v1 v2 v3 v4 : Option Value} {st : List Value} {h : xH} : exF ev cX2_part 66 ([v0, v1, v2, v3, v4], []) st h = exF ev cX2_part 67 ([v0, v1, v2, v3, v4], []) (.int (nI 5) :: st) h := exF_j (i := (i_const (.int (nI 5)) 67)) rfl rfl
theorem eX2_part_67 {ev : xV} {v0 v1 v2 v3 v4 : Option Value} {a0 : Value} {a : Nat} {h : xH} : exF ev cX2_part 67 ([v0, v1, v2, v3, v4], []) [a0, .ref a] h = xO (xck h a 1) (fun _ => xB (ev 201 [.ref a, a0] h) (fun v h => exF ev cX2_part 70 ([v0, v1, v2, v3, v4], []) [v] h)) := exF_cd (i := (i_cv 1 201 1 70)) rfl rfl
theorem eX2_part_70 {ev : xV} {v0 v1 v2 v3 v4 : Option Value} {a : Nat} {st : List Value} {h : xH} : exF ev cX2_part 70 ([v0, v1, v2, v3, v4], []) (.ref a :: st) h = xO (xckc h [5] a) (fun _ => some (.inr a, h)) := exF_t (i := (i_throw [5])) rfl rfl
theorem eX2_part_71 {ev : xV} {v1 v2 v3 v4 : Option Value} {x : Nat} {st : List Value} {h : xH} : exF ev cX2_part 71 ([some (.ref x), v1, v2, v3, v4], []) st h = exF ev cX2_part 72 ([some (.ref x), v1, v2, v3, v4], []) (.ref x :: st) h := exF_j (i := (i_aload 0 72)) rfl rfl
theorem eX2_part_72 {ev : xV} {v0 v1 v2 v3 v4 : Option Value} {a : Nat} {st : List Value} {h : xH} : exF ev cX2_part 72 ([v0, v1, v2, v3, v4], []) (.ref a :: st) h = xO (xgf h a 1 3) (fun v => exF ev cX2_part 75 ([v0, v1, v2, v3, v4], []) (v :: st) h) := exF_o (i := (i_getf 1 3 75)) rfl rfl
theorem eX2_part_75 {ev : xV} {v0 v1 v2 v3 v4 : Option Value} {st : List Value} {h : xH} : exF ev cX2_part 75 ([v0, v1, v2, v3, v4], []) st h = exF ev cX2_part 76 ([v0, v1, v2, v3, v4], []) (.int (nI 2) :: st) h := exF_j (i := (i_const (.int (nI 2)) 76)) rfl rfl
theorem eX2_part_76 {ev : xV} {v0 v1 v2 v3 v4 : Option Value} {x y : Int32} {st : List Value} {h : xH} : exF ev cX2_part 76 ([v0, v1, v2, v3, v4], []) (.int y :: .int x :: st) h = if ¬ x = y then exF ev cX2_part 95 ([v0, v1, v2, v3, v4], []) st h else exF ev cX2_part 79 ([v0, v1, v2, v3, v4], []) st h := exF_b (i := (i_if2 (fun x y => ¬ x = y) 95 79)) rfl rfl
theorem eX2_part_79 {ev : xV} {v0 v1 v2 v3 v4 : Option Value} {st : List Value} {h : xH} : exF ev cX2_part 79 ([v0, v1, v2, v3, v4], []) st h = exF ev cX2_part 82 ([v0, v1, v2, v3, v4], []) (.ref h.2.1 :: st) (xnew h (.inr (11, zX14)) 1) := exF_j (i := (i_new 11 1 zX14 82)) rfl rfl
theorem eX2_part_82 {ev : xV} {v0 v1 v2 v3 v4 : Option Value} {x : Nat} {st : List Value} {h : xH} : exF ev cX2_part 82 ([v0, v1, v2, v3, v4], []) (.ref x :: st) h = exF ev cX2_part 83 ([v0, v1, v2, v3, v4], []) (.ref x :: .ref x :: st) h := exF_j (i := (i_dup 83)) rfl rfl
theorem eX2_part_83 {ev : xV} {v1 v2 v3 v4 : Option Value} {x : Nat} {st : List Value} {h : xH} : exF ev cX2_part 83 ([some (.ref x), v1, v2, v3, v4], []) st h = exF ev cX2_part 84 ([some (.ref x), v1, v2, v3, v4], []) (.ref x :: st) h := exF_j (i := (i_aload 0 84)) rfl rfl
theorem eX2_part_84 {ev : xV} {v0 v1 v2 v3 v4 : Option Value} {st : List Value} {h : xH} : exF ev cX2_part 84 ([v0, v1, v2, v3, v4], []) st h = exF ev cX2_part 85 ([v0, v1, v2, v3, v4], []) (.int (nI 0) :: st) h := exF_j (i := (i_const (.int (nI 0)) 85)) rfl rfl
theorem eX2_part_85 {ev : xV} {v0 v1 v2 v3 v4 : Option Value} {st : List Value} {h : xH} : exF ev cX2_part 85 ([v0, v1, v2, v3, v4], []) st h = exF ev cX2_part 88 ([v0, v1, v2, v3, v4], []) (.int (nI 9999) :: st) h := exF_j (i := (i_const (.int (nI 9999)) 88)) rfl rfl
theorem eX2_part_88 {ev : xV} {v0 v1 v2 v3 v4 : Option Value} {a0 : Value} {a1 : Value} {r0 : Value} {r1 : Value} {a : Nat} {h : xH} : exF ev cX2_part 88 ([v0, v1, v2, v3, v4], []) [a1, a0, .ref a, r0, r1] h = xO (xck h a 1) (fun _ => xB (ev 212 [.ref a, a0, a1] h) (fun v h => exF ev cX2_part 91 ([v0, v1, v2, v3, v4], []) [v, r0, r1] h)) := exF_cd (i := (i_cv 1 212 2 91)) rfl rfl
theorem eX2_part_91 {ev : xV} {v0 v1 v2 v3 v4 : Option Value} {a0 : Value} {r0 : Value} {a : Nat} {h : xH} : exF ev cX2_part 91 ([v0, v1, v2, v3, v4], []) [a0, .ref a, r0] h = xO (xckc h [11] a) (fun _ => xBv (ev 182 [.ref a, a0] h) (fun h => exF ev cX2_part 94 ([v0, v1, v2, v3, v4], []) [r0] h)) := exF_cdv (i := (i_ci [11] 182 1 94)) rfl rfl
theorem eX2_part_94 {ev : xV} {v0 v1 v2 v3 v4 : Option Value} {x : Nat} {h : xH} : exF ev cX2_part 94 ([v0, v1, v2, v3, v4], []) [.ref x] h = some (.inl (some (.ref x)), h) := exF_r (i := (i_aret)) rfl rfl
theorem eX2_part_94n {ev : xV} {v0 v1 v2 v3 v4 : Option Value} {h : xH} : exF ev cX2_part 94 ([v0, v1, v2, v3, v4], []) [.null] h = some (.inl (some .null), h) := exF_r (i := (i_aret)) rfl rfl
theorem eX2_part_95 {ev : xV} {v1 v2 v3 v4 : Option Value} {x : Nat} {st : List Value} {h : xH} : exF ev cX2_part 95 ([some (.ref x), v1, v2, v3, v4], []) st h = exF ev cX2_part 96 ([some (.ref x), v1, v2, v3, v4], []) (.ref x :: st) h := exF_j (i := (i_aload 0 96)) rfl rfl
theorem eX2_part_96 {ev : xV} {v0 v1 v2 v3 v4 : Option Value} {a : Nat} {h : xH} : exF ev cX2_part 96 ([v0, v1, v2, v3, v4], []) [.ref a] h = xO (xck h a 1) (fun _ => xBv (ev 195 [.ref a] h) (fun h => exF ev cX2_part 99 ([v0, v1, v2, v3, v4], []) [] h)) := exF_cdv (i := (i_cvv 1 195 0 99)) rfl rfl
theorem eX2_part_99 {ev : xV} {v0 v2 v3 v4 : Option Value} {x : Int32} {st : List Value} {h : xH} : exF ev cX2_part 99 ([v0, some (.int x), v2, v3, v4], []) st h = exF ev cX2_part 100 ([v0, some (.int x), v2, v3, v4], []) (.int x :: st) h := exF_j (i := (i_iload 1 100)) rfl rfl
theorem eX2_part_100 {ev : xV} {v0 v1 v2 v3 v4 : Option Value} {x : Int32} {st : List Value} {h : xH} : exF ev cX2_part 100 ([v0, v1, v2, v3, v4], []) (.int x :: st) h = if x < 0 then exF ev cX2_part 112 ([v0, v1, v2, v3, v4], []) st h else exF ev cX2_part 103 ([v0, v1, v2, v3, v4], []) st h := exF_b (i := (i_if1 (fun x => x < 0) 112 103)) rfl rfl
theorem eX2_part_103 {ev : xV} {v0 v1 v2 v3 v4 : Option Value} {st : List Value} {h : xH} : exF ev cX2_part 103 ([v0, v1, v2, v3, v4], []) st h = exF ev cX2_part 106 ([v0, v1, v2, v3, v4], []) (.ref h.2.1 :: st) (xnew h (.inr (12, zX15)) 1) := exF_j (i := (i_new 12 1 zX15 106)) rfl rfl
theorem eX2_part_106 {ev : xV} {v0 v1 v2 v3 v4 : Option Value} {x : Nat} {st : List Value} {h : xH} : exF ev cX2_part 106 ([v0, v1, v2, v3, v4], []) (.ref x :: st) h = exF ev cX2_part 107 ([v0, v1, v2, v3, v4], []) (.ref x :: .ref x :: st) h := exF_j (i := (i_dup 107)) rfl rfl
theorem eX2_part_107 {ev : xV} {v0 v2 v3 v4 : Option Value} {x : Int32} {st : List Value} {h : xH} : exF ev cX2_part 107 ([v0, some (.int x), v2, v3, v4], []) st h = exF ev cX2_part 108 ([v0, some (.int x), v2, v3, v4], []) (.int x :: st) h := exF_j (i := (i_iload 1 108)) rfl rfl
theorem eX2_part_108 {ev : xV} {v0 v1 v2 v3 v4 : Option Value} {a0 : Value} {r0 : Value} {a : Nat} {h : xH} : exF ev cX2_part 108 ([v0, v1, v2, v3, v4], []) [a0, .ref a, r0] h = xO (xckc h [12] a) (fun _ => xBv (ev 184 [.ref a, a0] h) (fun h => exF ev cX2_part 111 ([v0, v1, v2, v3, v4], []) [r0] h)) := exF_cdv (i := (i_ci [12] 184 1 111)) rfl rfl
theorem eX2_part_111 {ev : xV} {v0 v1 v2 v3 v4 : Option Value} {x : Nat} {h : xH} : exF ev cX2_part 111 ([v0, v1, v2, v3, v4], []) [.ref x] h = some (.inl (some (.ref x)), h) := exF_r (i := (i_aret)) rfl rfl
theorem eX2_part_111n {ev : xV} {v0 v1 v2 v3 v4 : Option Value} {h : xH} : exF ev cX2_part 111 ([v0, v1, v2, v3, v4], []) [.null] h = some (.inl (some .null), h) := exF_r (i := (i_aret)) rfl rfl
theorem eX2_part_112 {ev : xV} {v1 v2 v3 v4 : Option Value} {x : Nat} {st : List Value} {h : xH} : exF ev cX2_part 112 ([some (.ref x), v1, v2, v3, v4], []) st h = exF ev cX2_part 113 ([some (.ref x), v1, v2, v3, v4], []) (.ref x :: st) h := exF_j (i := (i_aload 0 113)) rfl rfl
theorem eX2_part_113 {ev : xV} {v0 v1 v2 v3 v4 : Option Value} {x : Nat} {st : List Value} {h : xH} : exF ev cX2_part 113 ([v0, v1, v2, v3, v4], []) (.ref x :: st) h = exF ev cX2_part 114 ([v0, v1, v2, v3, v4], []) (.ref x :: .ref x :: st) h := exF_j (i := (i_dup 114)) rfl rfl
theorem eX2_part_114 {ev : xV} {v0 v1 v2 v3 v4 : Option Value} {a : Nat} {st : List Value} {h : xH} : exF ev cX2_part 114 ([v0, v1, v2, v3, v4], []) (.ref a :: st) h = xO (xgf h a 1 6) (fun v => exF ev cX2_part 117 ([v0, v1, v2, v3, v4], []) (v :: st) h) := exF_o (i := (i_getf 1 6 117)) rfl rfl
theorem eX2_part_117 {ev : xV} {v0 v1 v2 v3 v4 : Option Value} {st : List Value} {h : xH} : exF ev cX2_part 117 ([v0, v1, v2, v3, v4], []) st h = exF ev cX2_part 118 ([v0, v1, v2, v3, v4], []) (.int (nI 1) :: st) h := exF_j (i := (i_const (.int (nI 1)) 118)) rfl rfl
theorem eX2_part_118 {ev : xV} {v0 v1 v2 v3 v4 : Option Value} {x y : Int32} {st : List Value} {h : xH} : exF ev cX2_part 118 ([v0, v1, v2, v3, v4], []) (.int y :: .int x :: st) h = exF ev cX2_part 119 ([v0, v1, v2, v3, v4], []) (.int (x + y) :: st) h := exF_j (i := (i_ii (fun x y => x + y) 119)) rfl rfl
theorem eX2_part_119 {ev : xV} {v0 v1 v2 v3 v4 : Option Value} {x : Int32} {a : Nat} {st : List Value} {h : xH} : exF ev cX2_part 119 ([v0, v1, v2, v3, v4], []) (.int x :: .ref a :: st) h = xO (xpf h a 1 6 (.int x)) (fun h => exF ev cX2_part 122 ([v0, v1, v2, v3, v4], []) st h) := exF_o (i := (i_putfi 1 6 122)) rfl rfl
theorem eX2_part_122 {ev : xV} {v0 v1 v3 v4 : Option Value} {x : Int32} {st : List Value} {h : xH} : exF ev cX2_part 122 ([v0, v1, some (.int x), v3, v4], []) st h = exF ev cX2_part 123 ([v0, v1, some (.int x), v3, v4], []) (.int x :: st) h := exF_j (i := (i_iload 2 123)) rfl rfl
theorem eX2_part_123 {ev : xV} {v0 v1 v2 v3 v4 : Option Value} {x : Int32} {st : List Value} {h : xH} : exF ev cX2_part 123 ([v0, v1, v2, v3, v4], []) (.int x :: st) h = if x = 0 then exF ev cX2_part 140 ([v0, v1, v2, v3, v4], []) st h else exF ev cX2_part 126 ([v0, v1, v2, v3, v4], []) st h := exF_b (i := (i_if1 (fun x => x = 0) 140 126)) rfl rfl
theorem eX2_part_126 {ev : xV} {v0 v1 v2 v3 v4 : Option Value} {st : List Value} {h : xH} : exF ev cX2_part 126 ([v0, v1, v2, v3, v4], []) st h = exF ev cX2_part 129 ([v0, v1, v2, v3, v4], []) (.ref h.2.1 :: st) (xnew h (.inr (13, zX16)) 1) := exF_j (i := (i_new 13 1 zX16 129)) rfl rfl
theorem eX2_part_129 {ev : xV} {v0 v1 v2 v3 v4 : Option Value} {x : Nat} {st : List Value} {h : xH} : exF ev cX2_part 129 ([v0, v1, v2, v3, v4], []) (.ref x :: st) h = exF ev cX2_part 130 ([v0, v1, v2, v3, v4], []) (.ref x :: .ref x :: st) h := exF_j (i := (i_dup 130)) rfl rfl
theorem eX2_part_130 {ev : xV} {v1 v2 v3 v4 : Option Value} {x : Nat} {st : List Value} {h : xH} : exF ev cX2_part 130 ([some (.ref x), v1, v2, v3, v4], []) st h = exF ev cX2_part 131 ([some (.ref x), v1, v2, v3, v4], []) (.ref x :: st) h := exF_j (i := (i_aload 0 131)) rfl rfl
theorem eX2_part_131 {ev : xV} {v0 v1 v2 v3 v4 : Option Value} {r0 : Value} {r1 : Value} {a : Nat} {h : xH} : exF ev cX2_part 131 ([v0, v1, v2, v3, v4], []) [.ref a, r0, r1] h = xO (xck h a 1) (fun _ => xB (ev 219 [.ref a] h) (fun v h => exF ev cX2_part 134 ([v0, v1, v2, v3, v4], []) [v, r0, r1] h)) := exF_cd (i := (i_cv 1 219 0 134)) rfl rfl
theorem eX2_part_134 {ev : xV} {v0 v1 v2 v3 v4 : Option Value} {a0 : Value} {r0 : Value} {a : Nat} {h : xH} : exF ev cX2_part 134 ([v0, v1, v2, v3, v4], []) [a0, .ref a, r0] h = xO (xckc h [13] a) (fun _ => xBv (ev 186 [.ref a, a0] h) (fun h => exF ev cX2_part 137 ([v0, v1, v2, v3, v4], []) [r0] h)) := exF_cdv (i := (i_ci [13] 186 1 137)) rfl rfl
theorem eX2_part_137 {ev : xV} {v0 v1 v2 v3 v4 : Option Value} {st : List Value} {h : xH} : exF ev cX2_part 137 ([v0, v1, v2, v3, v4], []) st h = exF ev cX2_part 144 ([v0, v1, v2, v3, v4], []) st h := exF_j (i := (i_goto 144)) rfl rfl
theorem eX2_part_140 {ev : xV} {v1 v2 v3 v4 : Option Value} {x : Nat} {st : List Value} {h : xH} : exF ev cX2_part 140 ([some (.ref x), v1, v2, v3, v4], []) st h = exF ev cX2_part 141 ([some (.ref x), v1, v2, v3, v4], []) (.ref x :: st) h := exF_j (i := (i_aload 0 141)) rfl rfl
theorem eX2_part_141 {ev : xV} {v0 v1 v2 v3 v4 : Option Value} {a : Nat} {h : xH} : exF ev cX2_part 141 ([v0, v1, v2, v3, v4], []) [.ref a] h = xO (xck h a 1) (fun _ => xB (ev 215 [.ref a] h) (fun v h => exF ev cX2_part 144 ([v0, v1, v2, v3, v4], []) [v] h)) := exF_cd (i := (i_cv 1 215 0 144)) rfl rfl
theorem eX2_part_144 {ev : xV} {v0 v1 v2 v3 v4 : Option Value} {x : Nat} {st : List Value} {h : xH} : exF ev cX2_part 144 ([v0, v1, v2, v3, v4], []) (.ref x :: st) h = exF ev cX2_part 146 ([v0, v1, v2, v3, some (.ref x)], []) st h := exF_j (i := (i_astore 4 146)) rfl rfl
theorem eX2_part_144n {ev : xV} {v0 v1 v2 v3 v4 : Option Value} {st : List Value} {h : xH} : exF ev cX2_part 144 ([v0, v1, v2, v3, v4], []) (.null :: st) h = exF ev cX2_part 146 ([v0, v1, v2, v3, some .null], []) st h := exF_j (i := (i_astore 4 146)) rfl rfl
theorem eX2_part_146 {ev : xV} {v0 v1 v2 v4 : Option Value} {x : Int32} {st : List Value} {h : xH} : exF ev cX2_part 146 ([v0, v1, v2, some (.int x), v4], []) st h = exF ev cX2_part 147 ([v0, v1, v2, some (.int x), v4], []) (.int x :: st) h := exF_j (i := (i_iload 3 147)) rfl rfl
theorem eX2_part_147 {ev : xV} {v0 v1 v2 v3 v4 : Option Value} {x : Int32} {st : List Value} {h : xH} : exF ev cX2_part 147 ([v0, v1, v2, v3, v4], []) (.int x :: st) h = if x = 0 then exF ev cX2_part 156 ([v0, v1, v2, v3, v4], []) st h else exF ev cX2_part 150 ([v0, v1, v2, v3, v4], []) st h := exF_b (i := (i_if1 (fun x => x = 0) 156 150)) rfl rfl
theorem eX2_part_150 {ev : xV} {v1 v2 v3 v4 : Option Value} {x : Nat} {st : List Value} {h : xH} : exF ev cX2_part 150 ([some (.ref x), v1, v2, v3, v4], []) st h = exF ev cX2_part 151 ([some (.ref x), v1, v2, v3, v4], []) (.ref x :: st) h := exF_j (i := (i_aload 0 151)) rfl rfl
theorem eX2_part_151 {ev : xV} {v0 v1 v2 v3 v4 : Option Value} {st : List Value} {h : xH} : exF ev cX2_part 151 ([v0, v1, v2, v3, v4], []) st h = exF ev cX2_part 153 ([v0, v1, v2, v3, v4], []) (.int (nI 41) :: st) h := exF_j (i := (i_const (.int (nI 41)) 153)) rfl rfl
theorem eX2_part_153 {ev : xV} {v0 v1 v2 v3 v4 : Option Value} {a0 : Value} {a : Nat} {h : xH} : exF ev cX2_part 153 ([v0, v1, v2, v3, v4], []) [a0, .ref a] h = xO (xck h a 1) (fun _ => xBv (ev 220 [.ref a, a0] h) (fun h => exF ev cX2_part 156 ([v0, v1, v2, v3, v4], []) [] h)) := exF_cdv (i := (i_cvv 1 220 1 156)) rfl rfl
theorem eX2_part_156 {ev : xV} {v1 v2 v3 v4 : Option Value} {x : Nat} {st : List Value} {h : xH} : exF ev cX2_part 156 ([some (.ref x), v1, v2, v3, v4], []) st h = exF ev cX2_part 157 ([some (.ref x), v1, v2, v3, v4], []) (.ref x :: st) h := exF_j (i := (i_aload 0 157)) rfl rfl
theorem eX2_part_157 {ev : xV} {v0 v1 v2 v3 v4 : Option Value} {x : Nat} {st : List Value} {h : xH} : exF ev cX2_part 157 ([v0, v1, v2, v3, v4], []) (.ref x :: st) h = exF ev cX2_part 158 ([v0, v1, v2, v3, v4], []) (.ref x :: .ref x :: st) h := exF_j (i := (i_dup 158)) rfl rfl
theorem eX2_part_158 {ev : xV} {v0 v1 v2 v3 v4 : Option Value} {a : Nat} {st : List Value} {h : xH} : exF ev cX2_part 158 ([v0, v1, v2, v3, v4], []) (.ref a :: st) h = xO (xgf h a 1 6) (fun v => exF ev cX2_part 161 ([v0, v1, v2, v3, v4], []) (v :: st) h) := exF_o (i := (i_getf 1 6 161)) rfl rfl
theorem eX2_part_161 {ev : xV} {v0 v1 v2 v3 v4 : Option Value} {st : List Value} {h : xH} : exF ev cX2_part 161 ([v0, v1, v2, v3, v4], []) st h = exF ev cX2_part 162 ([v0, v1, v2, v3, v4], []) (.int (nI 1) :: st) h := exF_j (i := (i_const (.int (nI 1)) 162)) rfl rfl
theorem eX2_part_162 {ev : xV} {v0 v1 v2 v3 v4 : Option Value} {x y : Int32} {st : List Value} {h : xH} : exF ev cX2_part 162 ([v0, v1, v2, v3, v4], []) (.int y :: .int x :: st) h = exF ev cX2_part 163 ([v0, v1, v2, v3, v4], []) (.int (x - y) :: st) h := exF_j (i := (i_ii (fun x y => x - y) 163)) rfl rfl
theorem eX2_part_163 {ev : xV} {v0 v1 v2 v3 v4 : Option Value} {x : Int32} {a : Nat} {st : List Value} {h : xH} : exF ev cX2_part 163 ([v0, v1, v2, v3, v4], []) (.int x :: .ref a :: st) h = xO (xpf h a 1 6 (.int x)) (fun h => exF ev cX2_part 166 ([v0, v1, v2, v3, v4], []) st h) := exF_o (i := (i_putfi 1 6 166)) rfl rfl
theorem eX2_part_166 {ev : xV} {v0 v1 v2 v3 : Option Value} {x : Nat} {st : List Value} {h : xH} : exF ev cX2_part 166 ([v0, v1, v2, v3, some (.ref x)], []) st h = exF ev cX2_part 168 ([v0, v1, v2, v3, some (.ref x)], []) (.ref x :: st) h := exF_j (i := (i_aload 4 168)) rfl rfl
theorem eX2_part_166n {ev : xV} {v0 v1 v2 v3 : Option Value} {st : List Value} {h : xH} : exF ev cX2_part 166 ([v0, v1, v2, v3, some .null], []) st h = exF ev cX2_part 168 ([v0, v1, v2, v3, some .null], []) (.null :: st) h := exF_j (i := (i_aload 4 168)) rfl rfl
theorem eX2_part_168 {ev : xV} {v0 v1 v2 v3 v4 : Option Value} {x : Nat} {h : xH} : exF ev cX2_part 168 ([v0, v1, v2, v3, v4], []) [.ref x] h = some (.inl (some (.ref x)), h) := exF_r (i := (i_aret)) rfl rfl
theorem eX2_part_168n {ev : xV} {v0 v1 v2 v3 v4 : Option Value} {h : xH} : exF ev cX2_part 168 ([v0, v1, v2, v3, v4], []) [.null] h = some (.inl (some .null), h) := exF_r (i := (i_aret)) rfl rfl
noncomputable def cX2_need_2 : xC := [(0, i_aload 0 1),
  (1, i_iload 1 2),
  (2, i_cv 1 214 1 5),
  (5, i_if1 (fun x => ¬ x = 0) 14 8),
  (8, i_aload 0 9),
  (9, i_const (.int (nI 1)) 10),
  (10, i_cv 1 201 1 13),
  (13, i_throw [5]),
  (14, i_aload 0 15),
  (15, i_cvv 1 195 0 18),
  (18, i_vret)]
theorem eX2_need_2_0 {ev : xV} {v1 : Option Value} {x : Nat} {st : List Value} {h : xH} : exF ev cX2_need_2 0 ([some (.ref x), v1], []) st h = exF ev cX2_need_2 1 ([some (.ref x), v1], []) (.ref x :: st) h := exF_j (i := (i_aload 0 1)) rfl rfl
theorem eX2_need_2_1 {ev : xV} {v0 : Option Value} {x : Int32} {st : List Value} {h : xH} : exF ev cX2_need_2 1 ([v0, some (.int x)], []) st h = exF ev cX2_need_2 2 ([v0, some (.int x)], []) (.int x :: st) h := exF_j (i := (i_iload 1 2)) rfl rfl
theorem eX2_need_2_2 {ev : xV} {v0 v1 : Option Value} {a0 : Value} {a : Nat} {h : xH} : exF ev cX2_need_2 2 ([v0, v1], []) [a0, .ref a] h = xO (xck h a 1) (fun _ => xB (ev 214 [.ref a, a0] h) (fun v h => exF ev cX2_need_2 5 ([v0, v1], []) [v] h)) := exF_cd (i := (i_cv 1 214 1 5)) rfl rfl
theorem eX2_need_2_5 {ev : xV} {v0 v1 : Option Value} {x : Int32} {st : List Value} {h : xH} : exF ev cX2_need_2 5 ([v0, v1], []) (.int x :: st) h = if ¬ x = 0 then exF ev cX2_need_2 14 ([v0, v1], []) st h else exF ev cX2_need_2 8 ([v0, v1], []) st h := exF_b (i := (i_if1 (fun x => ¬ x = 0) 14 8)) rfl rfl
theorem eX2_need_2_8 {ev : xV} {v1 : Option Value} {x : Nat} {st : List Value} {h : xH} : exF ev cX2_need_2 8 ([some (.ref x), v1], []) st h = exF ev cX2_need_2 9 ([some (.ref x), v1], []) (.ref x :: st) h := exF_j (i := (i_aload 0 9)) rfl rfl
theorem eX2_need_2_9 {ev : xV} {v0 v1 : Option Value} {st : List Value} {h : xH} : exF ev cX2_need_2 9 ([v0, v1], []) st h = exF ev cX2_need_2 10 ([v0, v1], []) (.int (nI 1) :: st) h := exF_j (i := (i_const (.int (nI 1)) 10)) rfl rfl
theorem eX2_need_2_10 {ev : xV} {v0 v1 : Option Value} {a0 : Value} {a : Nat} {h : xH} : exF ev cX2_need_2 10 ([v0, v1], []) [a0, .ref a] h = xO (xck h a 1) (fun _ => xB (ev 201 [.ref a, a0] h) (fun v h => exF ev cX2_need_2 13 ([v0, v1], []) [v] h)) := exF_cd (i := (i_cv 1 201 1 13)) rfl rfl
theorem eX2_need_2_13 {ev : xV} {v0 v1 : Option Value} {a : Nat} {st : List Value} {h : xH} : exF ev cX2_need_2 13 ([v0, v1], []) (.ref a :: st) h = xO (xckc h [5] a) (fun _ => some (.inr a, h)) := exF_t (i := (i_throw [5])) rfl rfl
theorem eX2_need_2_14 {ev : xV} {v1 : Option Value} {x : Nat} {st : List Value} {h : xH} : exF ev cX2_need_2 14 ([some (.ref x), v1], []) st h = exF ev cX2_need_2 15 ([some (.ref x), v1], []) (.ref x :: st) h := exF_j (i := (i_aload 0 15)) rfl rfl
theorem eX2_need_2_15 {ev : xV} {v0 v1 : Option Value} {a : Nat} {h : xH} : exF ev cX2_need_2 15 ([v0, v1], []) [.ref a] h = xO (xck h a 1) (fun _ => xBv (ev 195 [.ref a] h) (fun h => exF ev cX2_need_2 18 ([v0, v1], []) [] h)) := exF_cdv (i := (i_cvv 1 195 0 18)) rfl rfl
theorem eX2_need_2_18 {ev : xV} {v0 v1 : Option Value} {h : xH} : exF ev cX2_need_2 18 ([v0, v1], []) [] h = some (.inl none, h) := exF_r (i := (i_vret)) rfl rfl
noncomputable def cX2_days : xC := [(0, i_aload 0 1),
  (1, i_aload 1 2),
  (2, i_putfr 1 7 5),
  (5, i_new 21 3 zJ2 8),
  (8, i_dup 9),
  (9, i_const (.int (nI 4)) 10),
  (10, i_ci [21] 31 1 13),
  (13, i_astore 2 14),
  (14, i_aload 0 15),
  (15, i_getf 1 3 18),
  (18, i_if1 (fun x => x = 0) 76 21),
  (21, i_aload 0 22),
  (22, i_const (.ref 20) 24),
  (24, i_cv 1 200 1 27),
  (27, i_istore 3 28),
  (28, i_iload 3 29),
  (29, i_if1 (fun x => 0 ≤ x) 38 32),
  (32, i_aload 0 33),
  (33, i_const (.int (nI 1)) 34),
  (34, i_cv 1 201 1 37),
  (37, i_throw [5]),
  (38, i_aload 2 39),
  (39, i_cv 21 32 0 42),
  (42, i_const (.int (nI 40)) 44),
  (44, i_if2 (fun x y => ¬ x = y) 53 47),
  (47, i_aload 0 48),
  (48, i_const (.int (nI 5)) 49),
  (49, i_cv 1 201 1 52),
  (52, i_throw [5]),
  (53, i_aload 0 54),
  (54, i_cvv 1 195 0 57),
  (57, i_aload 2 58),
  (58, i_aload 0 59),
  (59, i_iload 3 60),
  (60, i_cv 1 222 1 63),
  (63, i_cv 21 35 1 66),
  (66, i_pop 67),
  (67, i_aload 0 68),
  (68, i_const (.int (nI 59)) 70),
  (70, i_cvv 1 220 1 73),
  (73, i_goto 14),
  (76, i_aload 2 77),
  (77, i_aret)]
theorem eX2_days_0 {ev : xV} {v1 v2 v3 : Option Value} {x : Nat} {st : List Value} {h : xH} : exF ev cX2_days 0 ([some (.ref x), v1, v2, v3], []) st h = exF ev cX2_days 1 ([some (.ref x), v1, v2, v3], []) (.ref x :: st) h := exF_j (i := (i_aload 0 1)) rfl rfl
theorem eX2_days_1 {ev : xV} {v0 v2 v3 : Option Value} {x : Nat} {st : List Value} {h : xH} : exF ev cX2_days 1 ([v0, some (.ref x), v2, v3], []) st h = exF ev cX2_days 2 ([v0, some (.ref x), v2, v3], []) (.ref x :: st) h := exF_j (i := (i_aload 1 2)) rfl rfl
theorem eX2_days_1n {ev : xV} {v0 v2 v3 : Option Value} {st : List Value} {h : xH} : exF ev cX2_days 1 ([v0, some .null, v2, v3], []) st h = exF ev cX2_days 2 ([v0, some .null, v2, v3], []) (.null :: st) h := exF_j (i := (i_aload 1 2)) rfl rfl
theorem eX2_days_2 {ev : xV} {v0 v1 v2 v3 : Option Value} {x a : Nat} {st : List Value} {h : xH} : exF ev cX2_days 2 ([v0, v1, v2, v3], []) (.ref x :: .ref a :: st) h = xO (xpf h a 1 7 (.ref x)) (fun h => exF ev cX2_days 5 ([v0, v1, v2, v3], []) st h) := exF_o (i := (i_putfr 1 7 5)) rfl rfl
theorem eX2_days_2n {ev : xV} {v0 v1 v2 v3 : Option Value} {a : Nat} {st : List Value} {h : xH} : exF ev cX2_days 2 ([v0, v1, v2, v3], []) (.null :: .ref a :: st) h = xO (xpf h a 1 7 .null) (fun h => exF ev cX2_days 5 ([v0, v1, v2, v3], []) st h) := exF_o (i := (i_putfr 1 7 5)) rfl rfl
theorem eX2_days_5 {ev : xV} {v0 v1 v2 v3 : Option Value} {st : List Value} {h : xH} : exF ev cX2_days 5 ([v0, v1, v2, v3], []) st h = exF ev cX2_days 8 ([v0, v1, v2, v3], []) (.ref h.2.1 :: st) (xnew h (.inr (21, zJ2)) 3) := exF_j (i := (i_new 21 3 zJ2 8)) rfl rfl
theorem eX2_days_8 {ev : xV} {v0 v1 v2 v3 : Option Value} {x : Nat} {st : List Value} {h : xH} : exF ev cX2_days 8 ([v0, v1, v2, v3], []) (.ref x :: st) h = exF ev cX2_days 9 ([v0, v1, v2, v3], []) (.ref x :: .ref x :: st) h := exF_j (i := (i_dup 9)) rfl rfl
theorem eX2_days_9 {ev : xV} {v0 v1 v2 v3 : Option Value} {st : List Value} {h : xH} : exF ev cX2_days 9 ([v0, v1, v2, v3], []) st h = exF ev cX2_days 10 ([v0, v1, v2, v3], []) (.int (nI 4) :: st) h := exF_j (i := (i_const (.int (nI 4)) 10)) rfl rfl
theorem eX2_days_10 {ev : xV} {v0 v1 v2 v3 : Option Value} {a0 : Value} {r0 : Value} {a : Nat} {h : xH} : exF ev cX2_days 10 ([v0, v1, v2, v3], []) [a0, .ref a, r0] h = xO (xckc h [21] a) (fun _ => xBv (ev 31 [.ref a, a0] h) (fun h => exF ev cX2_days 13 ([v0, v1, v2, v3], []) [r0] h)) := exF_cdv (i := (i_ci [21] 31 1 13)) rfl rfl
theorem eX2_days_13 {ev : xV} {v0 v1 v2 v3 : Option Value} {x : Nat} {st : List Value} {h : xH} : exF ev cX2_days 13 ([v0, v1, v2, v3], []) (.ref x :: st) h = exF ev cX2_days 14 ([v0, v1, some (.ref x), v3], []) st h := exF_j (i := (i_astore 2 14)) rfl rfl
theorem eX2_days_13n {ev : xV} {v0 v1 v2 v3 : Option Value} {st : List Value} {h : xH} : exF ev cX2_days 13 ([v0, v1, v2, v3], []) (.null :: st) h = exF ev cX2_days 14 ([v0, v1, some .null, v3], []) st h := exF_j (i := (i_astore 2 14)) rfl rfl
theorem eX2_days_14 {ev : xV} {v1 v2 v3 : Option Value} {x : Nat} {st : List Value} {h : xH} : exF ev cX2_days 14 ([some (.ref x), v1, v2, v3], []) st h = exF ev cX2_days 15 ([some (.ref x), v1, v2, v3], []) (.ref x :: st) h := exF_j (i := (i_aload 0 15)) rfl rfl
theorem eX2_days_15 {ev : xV} {v0 v1 v2 v3 : Option Value} {a : Nat} {st : List Value} {h : xH} : exF ev cX2_days 15 ([v0, v1, v2, v3], []) (.ref a :: st) h = xO (xgf h a 1 3) (fun v => exF ev cX2_days 18 ([v0, v1, v2, v3], []) (v :: st) h) := exF_o (i := (i_getf 1 3 18)) rfl rfl
theorem eX2_days_18 {ev : xV} {v0 v1 v2 v3 : Option Value} {x : Int32} {st : List Value} {h : xH} : exF ev cX2_days 18 ([v0, v1, v2, v3], []) (.int x :: st) h = if x = 0 then exF ev cX2_days 76 ([v0, v1, v2, v3], []) st h else exF ev cX2_days 21 ([v0, v1, v2, v3], []) st h := exF_b (i := (i_if1 (fun x => x = 0) 76 21)) rfl rfl
theorem eX2_days_21 {ev : xV} {v1 v2 v3 : Option Value} {x : Nat} {st : List Value} {h : xH} : exF ev cX2_days 21 ([some (.ref x), v1, v2, v3], []) st h = exF ev cX2_days 22 ([some (.ref x), v1, v2, v3], []) (.ref x :: st) h := exF_j (i := (i_aload 0 22)) rfl rfl
theorem eX2_days_22 {ev : xV} {v0 v1 v2 v3 : Option Value} {st : List Value} {h : xH} : exF ev cX2_days 22 ([v0, v1, v2, v3], []) st h = exF ev cX2_days 24 ([v0, v1, v2, v3], []) (.ref 20 :: st) h := exF_j (i := (i_const (.ref 20) 24)) rfl rfl
theorem eX2_days_24 {ev : xV} {v0 v1 v2 v3 : Option Value} {a0 : Value} {a : Nat} {h : xH} : exF ev cX2_days 24 ([v0, v1, v2, v3], []) [a0, .ref a] h = xO (xck h a 1) (fun _ => xB (ev 200 [.ref a, a0] h) (fun v h => exF ev cX2_days 27 ([v0, v1, v2, v3], []) [v] h)) := exF_cd (i := (i_cv 1 200 1 27)) rfl rfl
theorem eX2_days_27 {ev : xV} {v0 v1 v2 v3 : Option Value} {x : Int32} {st : List Value} {h : xH} : exF ev cX2_days 27 ([v0, v1, v2, v3], []) (.int x :: st) h = exF ev cX2_days 28 ([v0, v1, v2, some (.int x)], []) st h := exF_j (i := (i_istore 3 28)) rfl rfl
theorem eX2_days_28 {ev : xV} {v0 v1 v2 : Option Value} {x : Int32} {st : List Value} {h : xH} : exF ev cX2_days 28 ([v0, v1, v2, some (.int x)], []) st h = exF ev cX2_days 29 ([v0, v1, v2, some (.int x)], []) (.int x :: st) h := exF_j (i := (i_iload 3 29)) rfl rfl
theorem eX2_days_29 {ev : xV} {v0 v1 v2 v3 : Option Value} {x : Int32} {st : List Value} {h : xH} : exF ev cX2_days 29 ([v0, v1, v2, v3], []) (.int x :: st) h = if 0 ≤ x then exF ev cX2_days 38 ([v0, v1, v2, v3], []) st h else exF ev cX2_days 32 ([v0, v1, v2, v3], []) st h := exF_b (i := (i_if1 (fun x => 0 ≤ x) 38 32)) rfl rfl
theorem eX2_days_32 {ev : xV} {v1 v2 v3 : Option Value} {x : Nat} {st : List Value} {h : xH} : exF ev cX2_days 32 ([some (.ref x), v1, v2, v3], []) st h = exF ev cX2_days 33 ([some (.ref x), v1, v2, v3], []) (.ref x :: st) h := exF_j (i := (i_aload 0 33)) rfl rfl
theorem eX2_days_33 {ev : xV} {v0 v1 v2 v3 : Option Value} {st : List Value} {h : xH} : exF ev cX2_days 33 ([v0, v1, v2, v3], []) st h = exF ev cX2_days 34 ([v0, v1, v2, v3], []) (.int (nI 1) :: st) h := exF_j (i := (i_const (.int (nI 1)) 34)) rfl rfl
theorem eX2_days_34 {ev : xV} {v0 v1 v2 v3 : Option Value} {a0 : Value} {a : Nat} {h : xH} : exF ev cX2_days 34 ([v0, v1, v2, v3], []) [a0, .ref a] h = xO (xck h a 1) (fun _ => xB (ev 201 [.ref a, a0] h) (fun v h => exF ev cX2_days 37 ([v0, v1, v2, v3], []) [v] h)) := exF_cd (i := (i_cv 1 201 1 37)) rfl rfl
theorem eX2_days_37 {ev : xV} {v0 v1 v2 v3 : Option Value} {a : Nat} {st : List Value} {h : xH} : exF ev cX2_days 37 ([v0, v1, v2, v3], []) (.ref a :: st) h = xO (xckc h [5] a) (fun _ => some (.inr a, h)) := exF_t (i := (i_throw [5])) rfl rfl
theorem eX2_days_38 {ev : xV} {v0 v1 v3 : Option Value} {x : Nat} {st : List Value} {h : xH} : exF ev cX2_days 38 ([v0, v1, some (.ref x), v3], []) st h = exF ev cX2_days 39 ([v0, v1, some (.ref x), v3], []) (.ref x :: st) h := exF_j (i := (i_aload 2 39)) rfl rfl
theorem eX2_days_38n {ev : xV} {v0 v1 v3 : Option Value} {st : List Value} {h : xH} : exF ev cX2_days 38 ([v0, v1, some .null, v3], []) st h = exF ev cX2_days 39 ([v0, v1, some .null, v3], []) (.null :: st) h := exF_j (i := (i_aload 2 39)) rfl rfl
theorem eX2_days_39 {ev : xV} {v0 v1 v2 v3 : Option Value} {a : Nat} {h : xH} : exF ev cX2_days 39 ([v0, v1, v2, v3], []) [.ref a] h = xO (xck h a 21) (fun _ => xB (ev 32 [.ref a] h) (fun v h => exF ev cX2_days 42 ([v0, v1, v2, v3], []) [v] h)) := exF_cd (i := (i_cv 21 32 0 42)) rfl rfl
theorem eX2_days_42 {ev : xV} {v0 v1 v2 v3 : Option Value} {st : List Value} {h : xH} : exF ev cX2_days 42 ([v0, v1, v2, v3], []) st h = exF ev cX2_days 44 ([v0, v1, v2, v3], []) (.int (nI 40) :: st) h := exF_j (i := (i_const (.int (nI 40)) 44)) rfl rfl
theorem eX2_days_44 {ev : xV} {v0 v1 v2 v3 : Option Value} {x y : Int32} {st : List Value} {h : xH} : exF ev cX2_days 44 ([v0, v1, v2, v3], []) (.int y :: .int x :: st) h = if ¬ x = y then exF ev cX2_days 53 ([v0, v1, v2, v3], []) st h else exF ev cX2_days 47 ([v0, v1, v2, v3], []) st h := exF_b (i := (i_if2 (fun x y => ¬ x = y) 53 47)) rfl rfl
theorem eX2_days_47 {ev : xV} {v1 v2 v3 : Option Value} {x : Nat} {st : List Value} {h : xH} : exF ev cX2_days 47 ([some (.ref x), v1, v2, v3], []) st h = exF ev cX2_days 48 ([some (.ref x), v1, v2, v3], []) (.ref x :: st) h := exF_j (i := (i_aload 0 48)) rfl rfl
theorem eX2_days_48 {ev : xV} {v0 v1 v2 v3 : Option Value} {st : List Value} {h : xH} : exF ev cX2_days 48 ([v0, v1, v2, v3], []) st h = exF ev cX2_days 49 ([v0, v1, v2, v3], []) (.int (nI 5) :: st) h := exF_j (i := (i_const (.int (nI 5)) 49)) rfl rfl
theorem eX2_days_49 {ev : xV} {v0 v1 v2 v3 : Option Value} {a0 : Value} {a : Nat} {h : xH} : exF ev cX2_days 49 ([v0, v1, v2, v3], []) [a0, .ref a] h = xO (xck h a 1) (fun _ => xB (ev 201 [.ref a, a0] h) (fun v h => exF ev cX2_days 52 ([v0, v1, v2, v3], []) [v] h)) := exF_cd (i := (i_cv 1 201 1 52)) rfl rfl
theorem eX2_days_52 {ev : xV} {v0 v1 v2 v3 : Option Value} {a : Nat} {st : List Value} {h : xH} : exF ev cX2_days 52 ([v0, v1, v2, v3], []) (.ref a :: st) h = xO (xckc h [5] a) (fun _ => some (.inr a, h)) := exF_t (i := (i_throw [5])) rfl rfl
theorem eX2_days_53 {ev : xV} {v1 v2 v3 : Option Value} {x : Nat} {st : List Value} {h : xH} : exF ev cX2_days 53 ([some (.ref x), v1, v2, v3], []) st h = exF ev cX2_days 54 ([some (.ref x), v1, v2, v3], []) (.ref x :: st) h := exF_j (i := (i_aload 0 54)) rfl rfl
theorem eX2_days_54 {ev : xV} {v0 v1 v2 v3 : Option Value} {a : Nat} {h : xH} : exF ev cX2_days 54 ([v0, v1, v2, v3], []) [.ref a] h = xO (xck h a 1) (fun _ => xBv (ev 195 [.ref a] h) (fun h => exF ev cX2_days 57 ([v0, v1, v2, v3], []) [] h)) := exF_cdv (i := (i_cvv 1 195 0 57)) rfl rfl
theorem eX2_days_57 {ev : xV} {v0 v1 v3 : Option Value} {x : Nat} {st : List Value} {h : xH} : exF ev cX2_days 57 ([v0, v1, some (.ref x), v3], []) st h = exF ev cX2_days 58 ([v0, v1, some (.ref x), v3], []) (.ref x :: st) h := exF_j (i := (i_aload 2 58)) rfl rfl
theorem eX2_days_57n {ev : xV} {v0 v1 v3 : Option Value} {st : List Value} {h : xH} : exF ev cX2_days 57 ([v0, v1, some .null, v3], []) st h = exF ev cX2_days 58 ([v0, v1, some .null, v3], []) (.null :: st) h := exF_j (i := (i_aload 2 58)) rfl rfl
theorem eX2_days_58 {ev : xV} {v1 v2 v3 : Option Value} {x : Nat} {st : List Value} {h : xH} : exF ev cX2_days 58 ([some (.ref x), v1, v2, v3], []) st h = exF ev cX2_days 59 ([some (.ref x), v1, v2, v3], []) (.ref x :: st) h := exF_j (i := (i_aload 0 59)) rfl rfl
theorem eX2_days_59 {ev : xV} {v0 v1 v2 : Option Value} {x : Int32} {st : List Value} {h : xH} : exF ev cX2_days 59 ([v0, v1, v2, some (.int x)], []) st h = exF ev cX2_days 60 ([v0, v1, v2, some (.int x)], []) (.int x :: st) h := exF_j (i := (i_iload 3 60)) rfl rfl
theorem eX2_days_60 {ev : xV} {v0 v1 v2 v3 : Option Value} {a0 : Value} {r0 : Value} {a : Nat} {h : xH} : exF ev cX2_days 60 ([v0, v1, v2, v3], []) [a0, .ref a, r0] h = xO (xck h a 1) (fun _ => xB (ev 222 [.ref a, a0] h) (fun v h => exF ev cX2_days 63 ([v0, v1, v2, v3], []) [v, r0] h)) := exF_cd (i := (i_cv 1 222 1 63)) rfl rfl
theorem eX2_days_63 {ev : xV} {v0 v1 v2 v3 : Option Value} {a0 : Value} {a : Nat} {h : xH} : exF ev cX2_days 63 ([v0, v1, v2, v3], []) [a0, .ref a] h = xO (xck h a 21) (fun _ => xB (ev 35 [.ref a, a0] h) (fun v h => exF ev cX2_days 66 ([v0, v1, v2, v3], []) [v] h)) := exF_cd (i := (i_cv 21 35 1 66)) rfl rfl
theorem eX2_days_66 {ev : xV} {v0 v1 v2 v3 : Option Value} {x : Int32} {st : List Value} {h : xH} : exF ev cX2_days 66 ([v0, v1, v2, v3], []) (.int x :: st) h = exF ev cX2_days 67 ([v0, v1, v2, v3], []) st h := exF_j (i := (i_pop 67)) rfl rfl
theorem eX2_days_67 {ev : xV} {v1 v2 v3 : Option Value} {x : Nat} {st : List Value} {h : xH} : exF ev cX2_days 67 ([some (.ref x), v1, v2, v3], []) st h = exF ev cX2_days 68 ([some (.ref x), v1, v2, v3], []) (.ref x :: st) h := exF_j (i := (i_aload 0 68)) rfl rfl
theorem eX2_days_68 {ev : xV} {v0 v1 v2 v3 : Option Value} {st : List Value} {h : xH} : exF ev cX2_days 68 ([v0, v1, v2, v3], []) st h = exF ev cX2_days 70 ([v0, v1, v2, v3], []) (.int (nI 59) :: st) h := exF_j (i := (i_const (.int (nI 59)) 70)) rfl rfl
theorem eX2_days_70 {ev : xV} {v0 v1 v2 v3 : Option Value} {a0 : Value} {a : Nat} {h : xH} : exF ev cX2_days 70 ([v0, v1, v2, v3], []) [a0, .ref a] h = xO (xck h a 1) (fun _ => xBv (ev 220 [.ref a, a0] h) (fun h => exF ev cX2_days 73 ([v0, v1, v2, v3], []) [] h)) := exF_cdv (i := (i_cvv 1 220 1 73)) rfl rfl
theorem eX2_days_73 {ev : xV} {v0 v1 v2 v3 : Option Value} {st : List Value} {h : xH} : exF ev cX2_days 73 ([v0, v1, v2, v3], []) st h = exF ev cX2_days 14 ([v0, v1, v2, v3], []) st h := exF_j (i := (i_goto 14)) rfl rfl
theorem eX2_days_76 {ev : xV} {v0 v1 v3 : Option Value} {x : Nat} {st : List Value} {h : xH} : exF ev cX2_days 76 ([v0, v1, some (.ref x), v3], []) st h = exF ev cX2_days 77 ([v0, v1, some (.ref x), v3], []) (.ref x :: st) h := exF_j (i := (i_aload 2 77)) rfl rfl
theorem eX2_days_76n {ev : xV} {v0 v1 v3 : Option Value} {st : List Value} {h : xH} : exF ev cX2_days 76 ([v0, v1, some .null, v3], []) st h = exF ev cX2_days 77 ([v0, v1, some .null, v3], []) (.null :: st) h := exF_j (i := (i_aload 2 77)) rfl rfl
theorem eX2_days_77 {ev : xV} {v0 v1 v2 v3 : Option Value} {x : Nat} {h : xH} : exF ev cX2_days 77 ([v0, v1, v2, v3], []) [.ref x] h = some (.inl (some (.ref x)), h) := exF_r (i := (i_aret)) rfl rfl
theorem eX2_days_77n {ev : xV} {v0 v1 v2 v3 : Option Value} {h : xH} : exF ev cX2_days 77 ([v0, v1, v2, v3], []) [.null] h = some (.inl (some .null), h) := exF_r (i := (i_aret)) rfl rfl
noncomputable def cX2_done : xC := [(0, i_iload 1 1),
  (1, i_if1 (fun x => ¬ x = 0) 12 4),
  (4, i_new 15 0 zX19 7),
  (7, i_dup 8),
  (8, i_ci [15] 191 0 11),
  (11, i_aret),
  (12, i_iload 1 13),
  (13, i_const (.int (nI 1)) 14),
  (14, i_if2 (fun x y => ¬ x = y) 45 17),
  (17, i_aload 0 18),
  (18, i_aload 0 19),
  (19, i_getf 1 7 22),
  (22, i_getf 2 1 25),
  (25, i_cv 1 207 1 28),
  (28, i_istore 2 29),
  (29, i_new 16 2 zX20 32),
  (32, i_dup 33),
  (33, i_iload 2 34),
  (34, i_aload 0 35),
  (35, i_const (.int (nI 0)) 36),
  (36, i_const (.int (nI 7)) 38),
  (38, i_cv 1 212 2 41),
  (41, i_ci [16] 223 2 44),
  (44, i_aret),
  (45, i_aload 0 46),
  (46, i_const (.int (nI 0)) 47),
  (47, i_const (.int (nI 7)) 49),
  (49, i_cv 1 212 2 52),
  (52, i_istore 2 53),
  (53, i_iload 1 54),
  (54, i_const (.int (nI 2)) 55),
  (55, i_if2 (fun x y => ¬ x = y) 69 58),
  (58, i_new 17 1 zX21 61),
  (61, i_dup 62),
  (62, i_iload 2 63),
  (63, i_ci [17] 225 1 66),
  (66, i_goto 93),
  (69, i_iload 1 70),
  (70, i_const (.int (nI 3)) 71),
  (71, i_if2 (fun x y => ¬ x = y) 85 74),
  (74, i_new 18 1 zX22 77),
  (77, i_dup 78),
  (78, i_iload 2 79),
  (79, i_ci [18] 227 1 82),
  (82, i_goto 93),
  (85, i_new 19 1 zX23 88),
  (88, i_dup 89),
  (89, i_iload 2 90),
  (90, i_ci [19] 229 1 93),
  (93, i_aret)]
theorem eX2_done_0 {ev : xV} {v0 v2 : Option Value} {x : Int32} {st : List Value} {h : xH} : exF ev cX2_done 0 ([v0, some (.int x), v2], []) st h = exF ev cX2_done 1 ([v0, some (.int x), v2], []) (.int x :: st) h := exF_j (i := (i_iload 1 1)) rfl rfl
theorem eX2_done_1 {ev : xV} {v0 v1 v2 : Option Value} {x : Int32} {st : List Value} {h : xH} : exF ev cX2_done 1 ([v0, v1, v2], []) (.int x :: st) h = if ¬ x = 0 then exF ev cX2_done 12 ([v0, v1, v2], []) st h else exF ev cX2_done 4 ([v0, v1, v2], []) st h := exF_b (i := (i_if1 (fun x => ¬ x = 0) 12 4)) rfl rfl
theorem eX2_done_4 {ev : xV} {v0 v1 v2 : Option Value} {st : List Value} {h : xH} : exF ev cX2_done 4 ([v0, v1, v2], []) st h = exF ev cX2_done 7 ([v0, v1, v2], []) (.ref h.2.1 :: st) (xnew h (.inr (15, zX19)) 0) := exF_j (i := (i_new 15 0 zX19 7)) rfl rfl
theorem eX2_done_7 {ev : xV} {v0 v1 v2 : Option Value} {x : Nat} {st : List Value} {h : xH} : exF ev cX2_done 7 ([v0, v1, v2], []) (.ref x :: st) h = exF ev cX2_done 8 ([v0, v1, v2], []) (.ref x :: .ref x :: st) h := exF_j (i := (i_dup 8)) rfl rfl
theorem eX2_done_8 {ev : xV} {v0 v1 v2 : Option Value} {r0 : Value} {a : Nat} {h : xH} : exF ev cX2_done 8 ([v0, v1, v2], []) [.ref a, r0] h = xO (xckc h [15] a) (fun _ => xBv (ev 191 [.ref a] h) (fun h => exF ev cX2_done 11 ([v0, v1, v2], []) [r0] h)) := exF_cdv (i := (i_ci [15] 191 0 11)) rfl rfl
theorem eX2_done_11 {ev : xV} {v0 v1 v2 : Option Value} {x : Nat} {h : xH} : exF ev cX2_done 11 ([v0, v1, v2], []) [.ref x] h = some (.inl (some (.ref x)), h) := exF_r (i := (i_aret)) rfl rfl
theorem eX2_done_11n {ev : xV} {v0 v1 v2 : Option Value} {h : xH} : exF ev cX2_done 11 ([v0, v1, v2], []) [.null] h = some (.inl (some .null), h) := exF_r (i := (i_aret)) rfl rfl
theorem eX2_done_12 {ev : xV} {v0 v2 : Option Value} {x : Int32} {st : List Value} {h : xH} : exF ev cX2_done 12 ([v0, some (.int x), v2], []) st h = exF ev cX2_done 13 ([v0, some (.int x), v2], []) (.int x :: st) h := exF_j (i := (i_iload 1 13)) rfl rfl
theorem eX2_done_13 {ev : xV} {v0 v1 v2 : Option Value} {st : List Value} {h : xH} : exF ev cX2_done 13 ([v0, v1, v2], []) st h = exF ev cX2_done 14 ([v0, v1, v2], []) (.int (nI 1) :: st) h := exF_j (i := (i_const (.int (nI 1)) 14)) rfl rfl
theorem eX2_done_14 {ev : xV} {v0 v1 v2 : Option Value} {x y : Int32} {st : List Value} {h : xH} : exF ev cX2_done 14 ([v0, v1, v2], []) (.int y :: .int x :: st) h = if ¬ x = y then exF ev cX2_done 45 ([v0, v1, v2], []) st h else exF ev cX2_done 17 ([v0, v1, v2], []) st h := exF_b (i := (i_if2 (fun x y => ¬ x = y) 45 17)) rfl rfl
theorem eX2_done_17 {ev : xV} {v1 v2 : Option Value} {x : Nat} {st : List Value} {h : xH} : exF ev cX2_done 17 ([some (.ref x), v1, v2], []) st h = exF ev cX2_done 18 ([some (.ref x), v1, v2], []) (.ref x :: st) h := exF_j (i := (i_aload 0 18)) rfl rfl
theorem eX2_done_18 {ev : xV} {v1 v2 : Option Value} {x : Nat} {st : List Value} {h : xH} : exF ev cX2_done 18 ([some (.ref x), v1, v2], []) st h = exF ev cX2_done 19 ([some (.ref x), v1, v2], []) (.ref x :: st) h := exF_j (i := (i_aload 0 19)) rfl rfl
theorem eX2_done_19 {ev : xV} {v0 v1 v2 : Option Value} {a : Nat} {st : List Value} {h : xH} : exF ev cX2_done 19 ([v0, v1, v2], []) (.ref a :: st) h = xO (xgf h a 1 7) (fun v => exF ev cX2_done 22 ([v0, v1, v2], []) (v :: st) h) := exF_o (i := (i_getf 1 7 22)) rfl rfl
theorem eX2_done_22 {ev : xV} {v0 v1 v2 : Option Value} {a : Nat} {st : List Value} {h : xH} : exF ev cX2_done 22 ([v0, v1, v2], []) (.ref a :: st) h = xO (xgf h a 2 1) (fun v => exF ev cX2_done 25 ([v0, v1, v2], []) (v :: st) h) := exF_o (i := (i_getf 2 1 25)) rfl rfl
theorem eX2_done_25 {ev : xV} {v0 v1 v2 : Option Value} {a0 : Value} {a : Nat} {h : xH} : exF ev cX2_done 25 ([v0, v1, v2], []) [a0, .ref a] h = xO (xck h a 1) (fun _ => xB (ev 207 [.ref a, a0] h) (fun v h => exF ev cX2_done 28 ([v0, v1, v2], []) [v] h)) := exF_cd (i := (i_cv 1 207 1 28)) rfl rfl
theorem eX2_done_28 {ev : xV} {v0 v1 v2 : Option Value} {x : Int32} {st : List Value} {h : xH} : exF ev cX2_done 28 ([v0, v1, v2], []) (.int x :: st) h = exF ev cX2_done 29 ([v0, v1, some (.int x)], []) st h := exF_j (i := (i_istore 2 29)) rfl rfl
theorem eX2_done_29 {ev : xV} {v0 v1 v2 : Option Value} {st : List Value} {h : xH} : exF ev cX2_done 29 ([v0, v1, v2], []) st h = exF ev cX2_done 32 ([v0, v1, v2], []) (.ref h.2.1 :: st) (xnew h (.inr (16, zX20)) 2) := exF_j (i := (i_new 16 2 zX20 32)) rfl rfl
theorem eX2_done_32 {ev : xV} {v0 v1 v2 : Option Value} {x : Nat} {st : List Value} {h : xH} : exF ev cX2_done 32 ([v0, v1, v2], []) (.ref x :: st) h = exF ev cX2_done 33 ([v0, v1, v2], []) (.ref x :: .ref x :: st) h := exF_j (i := (i_dup 33)) rfl rfl
theorem eX2_done_33 {ev : xV} {v0 v1 : Option Value} {x : Int32} {st : List Value} {h : xH} : exF ev cX2_done 33 ([v0, v1, some (.int x)], []) st h = exF ev cX2_done 34 ([v0, v1, some (.int x)], []) (.int x :: st) h := exF_j (i := (i_iload 2 34)) rfl rfl
theorem eX2_done_34 {ev : xV} {v1 v2 : Option Value} {x : Nat} {st : List Value} {h : xH} : exF ev cX2_done 34 ([some (.ref x), v1, v2], []) st h = exF ev cX2_done 35 ([some (.ref x), v1, v2], []) (.ref x :: st) h := exF_j (i := (i_aload 0 35)) rfl rfl
theorem eX2_done_35 {ev : xV} {v0 v1 v2 : Option Value} {st : List Value} {h : xH} : exF ev cX2_done 35 ([v0, v1, v2], []) st h = exF ev cX2_done 36 ([v0, v1, v2], []) (.int (nI 0) :: st) h := exF_j (i := (i_const (.int (nI 0)) 36)) rfl rfl
theorem eX2_done_36 {ev : xV} {v0 v1 v2 : Option Value} {st : List Value} {h : xH} : exF ev cX2_done 36 ([v0, v1, v2], []) st h = exF ev cX2_done 38 ([v0, v1, v2], []) (.int (nI 7) :: st) h := exF_j (i := (i_const (.int (nI 7)) 38)) rfl rfl
theorem eX2_done_38 {ev : xV} {v0 v1 v2 : Option Value} {a0 : Value} {a1 : Value} {r0 : Value} {r1 : Value} {r2 : Value} {a : Nat} {h : xH} : exF ev cX2_done 38 ([v0, v1, v2], []) [a1, a0, .ref a, r0, r1, r2] h = xO (xck h a 1) (fun _ => xB (ev 212 [.ref a, a0, a1] h) (fun v h => exF ev cX2_done 41 ([v0, v1, v2], []) [v, r0, r1, r2] h)) := exF_cd (i := (i_cv 1 212 2 41)) rfl rfl
theorem eX2_done_41 {ev : xV} {v0 v1 v2 : Option Value} {a0 : Value} {a1 : Value} {r0 : Value} {a : Nat} {h : xH} : exF ev cX2_done 41 ([v0, v1, v2], []) [a1, a0, .ref a, r0] h = xO (xckc h [16] a) (fun _ => xBv (ev 223 [.ref a, a0, a1] h) (fun h => exF ev cX2_done 44 ([v0, v1, v2], []) [r0] h)) := exF_cdv (i := (i_ci [16] 223 2 44)) rfl rfl
theorem eX2_done_44 {ev : xV} {v0 v1 v2 : Option Value} {x : Nat} {h : xH} : exF ev cX2_done 44 ([v0, v1, v2], []) [.ref x] h = some (.inl (some (.ref x)), h) := exF_r (i := (i_aret)) rfl rfl
theorem eX2_done_44n {ev : xV} {v0 v1 v2 : Option Value} {h : xH} : exF ev cX2_done 44 ([v0, v1, v2], []) [.null] h = some (.inl (some .null), h) := exF_r (i := (i_aret)) rfl rfl
theorem eX2_done_45 {ev : xV} {v1 v2 : Option Value} {x : Nat} {st : List Value} {h : xH} : exF ev cX2_done 45 ([some (.ref x), v1, v2], []) st h = exF ev cX2_done 46 ([some (.ref x), v1, v2], []) (.ref x :: st) h := exF_j (i := (i_aload 0 46)) rfl rfl
theorem eX2_done_46 {ev : xV} {v0 v1 v2 : Option Value} {st : List Value} {h : xH} : exF ev cX2_done 46 ([v0, v1, v2], []) st h = exF ev cX2_done 47 ([v0, v1, v2], []) (.int (nI 0) :: st) h := exF_j (i := (i_const (.int (nI 0)) 47)) rfl rfl
theorem eX2_done_47 {ev : xV} {v0 v1 v2 : Option Value} {st : List Value} {h : xH} : exF ev cX2_done 47 ([v0, v1, v2], []) st h = exF ev cX2_done 49 ([v0, v1, v2], []) (.int (nI 7) :: st) h := exF_j (i := (i_const (.int (nI 7)) 49)) rfl rfl
theorem eX2_done_49 {ev : xV} {v0 v1 v2 : Option Value} {a0 : Value} {a1 : Value} {a : Nat} {h : xH} : exF ev cX2_done 49 ([v0, v1, v2], []) [a1, a0, .ref a] h = xO (xck h a 1) (fun _ => xB (ev 212 [.ref a, a0, a1] h) (fun v h => exF ev cX2_done 52 ([v0, v1, v2], []) [v] h)) := exF_cd (i := (i_cv 1 212 2 52)) rfl rfl
theorem eX2_done_52 {ev : xV} {v0 v1 v2 : Option Value} {x : Int32} {st : List Value} {h : xH} : exF ev cX2_done 52 ([v0, v1, v2], []) (.int x :: st) h = exF ev cX2_done 53 ([v0, v1, some (.int x)], []) st h := exF_j (i := (i_istore 2 53)) rfl rfl
theorem eX2_done_53 {ev : xV} {v0 v2 : Option Value} {x : Int32} {st : List Value} {h : xH} : exF ev cX2_done 53 ([v0, some (.int x), v2], []) st h = exF ev cX2_done 54 ([v0, some (.int x), v2], []) (.int x :: st) h := exF_j (i := (i_iload 1 54)) rfl rfl
theorem eX2_done_54 {ev : xV} {v0 v1 v2 : Option Value} {st : List Value} {h : xH} : exF ev cX2_done 54 ([v0, v1, v2], []) st h = exF ev cX2_done 55 ([v0, v1, v2], []) (.int (nI 2) :: st) h := exF_j (i := (i_const (.int (nI 2)) 55)) rfl rfl
theorem eX2_done_55 {ev : xV} {v0 v1 v2 : Option Value} {x y : Int32} {st : List Value} {h : xH} : exF ev cX2_done 55 ([v0, v1, v2], []) (.int y :: .int x :: st) h = if ¬ x = y then exF ev cX2_done 69 ([v0, v1, v2], []) st h else exF ev cX2_done 58 ([v0, v1, v2], []) st h := exF_b (i := (i_if2 (fun x y => ¬ x = y) 69 58)) rfl rfl
theorem eX2_done_58 {ev : xV} {v0 v1 v2 : Option Value} {st : List Value} {h : xH} : exF ev cX2_done 58 ([v0, v1, v2], []) st h = exF ev cX2_done 61 ([v0, v1, v2], []) (.ref h.2.1 :: st) (xnew h (.inr (17, zX21)) 1) := exF_j (i := (i_new 17 1 zX21 61)) rfl rfl
theorem eX2_done_61 {ev : xV} {v0 v1 v2 : Option Value} {x : Nat} {st : List Value} {h : xH} : exF ev cX2_done 61 ([v0, v1, v2], []) (.ref x :: st) h = exF ev cX2_done 62 ([v0, v1, v2], []) (.ref x :: .ref x :: st) h := exF_j (i := (i_dup 62)) rfl rfl
theorem eX2_done_62 {ev : xV} {v0 v1 : Option Value} {x : Int32} {st : List Value} {h : xH} : exF ev cX2_done 62 ([v0, v1, some (.int x)], []) st h = exF ev cX2_done 63 ([v0, v1, some (.int x)], []) (.int x :: st) h := exF_j (i := (i_iload 2 63)) rfl rfl
theorem eX2_done_63 {ev : xV} {v0 v1 v2 : Option Value} {a0 : Value} {r0 : Value} {a : Nat} {h : xH} : exF ev cX2_done 63 ([v0, v1, v2], []) [a0, .ref a, r0] h = xO (xckc h [17] a) (fun _ => xBv (ev 225 [.ref a, a0] h) (fun h => exF ev cX2_done 66 ([v0, v1, v2], []) [r0] h)) := exF_cdv (i := (i_ci [17] 225 1 66)) rfl rfl
theorem eX2_done_66 {ev : xV} {v0 v1 v2 : Option Value} {st : List Value} {h : xH} : exF ev cX2_done 66 ([v0, v1, v2], []) st h = exF ev cX2_done 93 ([v0, v1, v2], []) st h := exF_j (i := (i_goto 93)) rfl rfl
theorem eX2_done_69 {ev : xV} {v0 v2 : Option Value} {x : Int32} {st : List Value} {h : xH} : exF ev cX2_done 69 ([v0, some (.int x), v2], []) st h = exF ev cX2_done 70 ([v0, some (.int x), v2], []) (.int x :: st) h := exF_j (i := (i_iload 1 70)) rfl rfl
theorem eX2_done_70 {ev : xV} {v0 v1 v2 : Option Value} {st : List Value} {h : xH} : exF ev cX2_done 70 ([v0, v1, v2], []) st h = exF ev cX2_done 71 ([v0, v1, v2], []) (.int (nI 3) :: st) h := exF_j (i := (i_const (.int (nI 3)) 71)) rfl rfl
theorem eX2_done_71 {ev : xV} {v0 v1 v2 : Option Value} {x y : Int32} {st : List Value} {h : xH} : exF ev cX2_done 71 ([v0, v1, v2], []) (.int y :: .int x :: st) h = if ¬ x = y then exF ev cX2_done 85 ([v0, v1, v2], []) st h else exF ev cX2_done 74 ([v0, v1, v2], []) st h := exF_b (i := (i_if2 (fun x y => ¬ x = y) 85 74)) rfl rfl
theorem eX2_done_74 {ev : xV} {v0 v1 v2 : Option Value} {st : List Value} {h : xH} : exF ev cX2_done 74 ([v0, v1, v2], []) st h = exF ev cX2_done 77 ([v0, v1, v2], []) (.ref h.2.1 :: st) (xnew h (.inr (18, zX22)) 1) := exF_j (i := (i_new 18 1 zX22 77)) rfl rfl
theorem eX2_done_77 {ev : xV} {v0 v1 v2 : Option Value} {x : Nat} {st : List Value} {h : xH} : exF ev cX2_done 77 ([v0, v1, v2], []) (.ref x :: st) h = exF ev cX2_done 78 ([v0, v1, v2], []) (.ref x :: .ref x :: st) h := exF_j (i := (i_dup 78)) rfl rfl
theorem eX2_done_78 {ev : xV} {v0 v1 : Option Value} {x : Int32} {st : List Value} {h : xH} : exF ev cX2_done 78 ([v0, v1, some (.int x)], []) st h = exF ev cX2_done 79 ([v0, v1, some (.int x)], []) (.int x :: st) h := exF_j (i := (i_iload 2 79)) rfl rfl
theorem eX2_done_79 {ev : xV} {v0 v1 v2 : Option Value} {a0 : Value} {r0 : Value} {a : Nat} {h : xH} : exF ev cX2_done 79 ([v0, v1, v2], []) [a0, .ref a, r0] h = xO (xckc h [18] a) (fun _ => xBv (ev 227 [.ref a, a0] h) (fun h => exF ev cX2_done 82 ([v0, v1, v2], []) [r0] h)) := exF_cdv (i := (i_ci [18] 227 1 82)) rfl rfl
theorem eX2_done_82 {ev : xV} {v0 v1 v2 : Option Value} {st : List Value} {h : xH} : exF ev cX2_done 82 ([v0, v1, v2], []) st h = exF ev cX2_done 93 ([v0, v1, v2], []) st h := exF_j (i := (i_goto 93)) rfl rfl
theorem eX2_done_85 {ev : xV} {v0 v1 v2 : Option Value} {st : List Value} {h : xH} : exF ev cX2_done 85 ([v0, v1, v2], []) st h = exF ev cX2_done 88 ([v0, v1, v2], []) (.ref h.2.1 :: st) (xnew h (.inr (19, zX23)) 1) := exF_j (i := (i_new 19 1 zX23 88)) rfl rfl
theorem eX2_done_88 {ev : xV} {v0 v1 v2 : Option Value} {x : Nat} {st : List Value} {h : xH} : exF ev cX2_done 88 ([v0, v1, v2], []) (.ref x :: st) h = exF ev cX2_done 89 ([v0, v1, v2], []) (.ref x :: .ref x :: st) h := exF_j (i := (i_dup 89)) rfl rfl
theorem eX2_done_89 {ev : xV} {v0 v1 : Option Value} {x : Int32} {st : List Value} {h : xH} : exF ev cX2_done 89 ([v0, v1, some (.int x)], []) st h = exF ev cX2_done 90 ([v0, v1, some (.int x)], []) (.int x :: st) h := exF_j (i := (i_iload 2 90)) rfl rfl
theorem eX2_done_90 {ev : xV} {v0 v1 v2 : Option Value} {a0 : Value} {r0 : Value} {a : Nat} {h : xH} : exF ev cX2_done 90 ([v0, v1, v2], []) [a0, .ref a, r0] h = xO (xckc h [19] a) (fun _ => xBv (ev 229 [.ref a, a0] h) (fun h => exF ev cX2_done 93 ([v0, v1, v2], []) [r0] h)) := exF_cdv (i := (i_ci [19] 229 1 93)) rfl rfl
theorem eX2_done_93 {ev : xV} {v0 v1 v2 : Option Value} {x : Nat} {h : xH} : exF ev cX2_done 93 ([v0, v1, v2], []) [.ref x] h = some (.inl (some (.ref x)), h) := exF_r (i := (i_aret)) rfl rfl
theorem eX2_done_93n {ev : xV} {v0 v1 v2 : Option Value} {h : xH} : exF ev cX2_done 93 ([v0, v1, v2], []) [.null] h = some (.inl (some .null), h) := exF_r (i := (i_aret)) rfl rfl
