set_option maxRecDepth 100000
noncomputable def cX1_init : xC := [(0, i_aload 0 1),
  (1, i_oi 4),
  (4, i_aload 0 5),
  (5, i_const (.int (nI 1000)) 8),
  (8, i_newa 1 (.inl (fun _ => 0)) 10),
  (10, i_putfr 0 0 13),
  (13, i_aload 0 14),
  (14, i_new 1 8 zX2 17),
  (17, i_dup 18),
  (18, i_ci [1] 193 0 21),
  (21, i_putfr 0 1 24),
  (24, i_aload 0 25),
  (25, i_new 2 7 zX3 28),
  (28, i_dup 29),
  (29, i_ci [2] 232 0 32),
  (32, i_putfr 0 2 35),
  (35, i_aload 0 36),
  (36, i_new 21 3 zJ2 39),
  (39, i_dup 40),
  (40, i_const (.int (nI 0)) 41),
  (41, i_ci [21] 31 1 44),
  (44, i_putfr 0 3 47),
  (47, i_aload 0 48),
  (48, i_new 3 5 zX4 51),
  (51, i_dup 52),
  (52, i_ci [3] 236 0 55),
  (55, i_putfr 0 4 58),
  (58, i_aload 0 59),
  (59, i_new 3 5 zX4 62),
  (62, i_dup 63),
  (63, i_ci [3] 236 0 66),
  (66, i_putfr 0 5 69),
  (69, i_aload 0 70),
  (70, i_const (.int (nI 4)) 71),
  (71, i_newa 0 (.inl (fun _ => 0)) 73),
  (73, i_putfr 0 6 76),
  (76, i_aload 0 77),
  (77, i_const (.int (nI 16)) 79),
  (79, i_newa 5 (.inr (.inr (fun _ => none))) 82),
  (82, i_putfr 0 8 85),
  (85, i_aload 0 86),
  (86, i_const (.int (nI 3)) 87),
  (87, i_newa 0 (.inl (fun _ => 0)) 89),
  (89, i_putfr 0 10 92),
  (92, i_aload 0 93),
  (93, i_new 3 5 zX4 96),
  (96, i_dup 97),
  (97, i_ci [3] 236 0 100),
  (100, i_putfr 0 11 103),
  (103, i_aload 0 104),
  (104, i_const (.int (nI 8)) 106),
  (106, i_newa 0 (.inl (fun _ => 0)) 108),
  (108, i_putfr 0 12 111),
  (111, i_aload 0 112),
  (112, i_const (.int (nI 8)) 114),
  (114, i_newa 0 (.inl (fun _ => 0)) 116),
  (116, i_putfr 0 13 119),
  (119, i_aload 0 120),
  (120, i_const (.int (nI 8)) 122),
  (122, i_newa 2 (.inl (fun _ => 0)) 124),
  (124, i_putfr 0 14 127),
  (127, i_aload 0 128),
  (128, i_const (.int (nI 10)) 130),
  (130, i_const (.int (nI 31)) 132),
  (132, i_multi 136),
  (136, i_putfr 0 16 139),
  (139, i_aload 0 140),
  (140, i_const (.int (nI 8)) 142),
  (142, i_newa 0 (.inl (fun _ => 0)) 144),
  (144, i_putfr 0 17 147),
  (147, i_aload 0 148),
  (148, i_const (.int (nI 8)) 150),
  (150, i_newa 0 (.inl (fun _ => 0)) 152),
  (152, i_putfr 0 18 155),
  (155, i_aload 0 156),
  (156, i_const (.int (nI 4)) 157),
  (157, i_newa 7 (.inr (.inr (fun _ => none))) 160),
  (160, i_putfr 0 21 163),
  (163, i_aload 0 164),
  (164, i_getf 0 4 167),
  (167, i_aload 0 168),
  (168, i_getf 0 2 171),
  (171, i_cvv 3 237 1 174),
  (174, i_vret)]
theorem eX1_init_0 {ev : xV} {x : Nat} {st : List Value} {h : xH} : exF ev cX1_init 0 ([some (.ref x)], []) st h = exF ev cX1_init 1 ([some (.ref x)], []) (.ref x :: st) h := exF_j (i := (i_aload 0 1)) rfl rfl
theorem eX1_init_1 {ev : xV} {v0 : Option Value} {a : Nat} (hx : 64 ≤ a) {h : xH} : exF ev cX1_init 1 ([v0], []) [.ref a] h = exF ev cX1_init 4 ([v0], []) [] h := exF_j (i := (i_oi 4)) rfl (if_pos ⟨hx, rfl⟩)
theorem eX1_init_4 {ev : xV} {x : Nat} {st : List Value} {h : xH} : exF ev cX1_init 4 ([some (.ref x)], []) st h = exF ev cX1_init 5 ([some (.ref x)], []) (.ref x :: st) h := exF_j (i := (i_aload 0 5)) rfl rfl
theorem eX1_init_5 {ev : xV} {v0 : Option Value} {st : List Value} {h : xH} : exF ev cX1_init 5 ([v0], []) st h = exF ev cX1_init 8 ([v0], []) (.int (nI 1000) :: st) h := exF_j (i := (i_const (.int (nI 1000)) 8)) rfl rfl
theorem eX1_init_8 {ev : xV} {v0 : Option Value} {x : Int32} {st : List Value} {h : xH} : exF ev cX1_init 8 ([v0], []) (.int x :: st) h = xO (xcnt x) (fun k => exF ev cX1_init 10 ([v0], []) (.ref h.2.1 :: st) (xnew h (.inl (1, k, .inl (fun _ => 0))) k)) := exF_o (i := (i_newa 1 (.inl (fun _ => 0)) 10)) rfl rfl
theorem eX1_init_10 {ev : xV} {v0 : Option Value} {x a : Nat} {st : List Value} {h : xH} : exF ev cX1_init 10 ([v0], []) (.ref x :: .ref a :: st) h = xO (xpf h a 0 0 (.ref x)) (fun h => exF ev cX1_init 13 ([v0], []) st h) := exF_o (i := (i_putfr 0 0 13)) rfl rfl
theorem eX1_init_10n {ev : xV} {v0 : Option Value} {a : Nat} {st : List Value} {h : xH} : exF ev cX1_init 10 ([v0], []) (.null :: .ref a :: st) h = xO (xpf h a 0 0 .null) (fun h => exF ev cX1_init 13 ([v0], []) st h) := exF_o (i := (i_putfr 0 0 13)) rfl rfl
theorem eX1_init_13 {ev : xV} {x : Nat} {st : List Value} {h : xH} : exF ev cX1_init 13 ([some (.ref x)], []) st h = exF ev cX1_init 14 ([some (.ref x)], []) (.ref x :: st) h := exF_j (i := (i_aload 0 14)) rfl rfl
theorem eX1_init_14 {ev : xV} {v0 : Option Value} {st : List Value} {h : xH} : exF ev cX1_init 14 ([v0], []) st h = exF ev cX1_init 17 ([v0], []) (.ref h.2.1 :: st) (xnew h (.inr (1, zX2)) 8) := exF_j (i := (i_new 1 8 zX2 17)) rfl rfl
theorem eX1_init_17 {ev : xV} {v0 : Option Value} {x : Nat} {st : List Value} {h : xH} : exF ev cX1_init 17 ([v0], []) (.ref x :: st) h = exF ev cX1_init 18 ([v0], []) (.ref x :: .ref x :: st) h := exF_j (i := (i_dup 18)) rfl rfl
theorem eX1_init_18 {ev : xV} {v0 : Option Value} {r0 : Value} {r1 : Value} {a : Nat} {h : xH} : exF ev cX1_init 18 ([v0], []) [.ref a, r0, r1] h = xO (xckc h [1] a) (fun _ => xBv (ev 193 [.ref a] h) (fun h => exF ev cX1_init 21 ([v0], []) [r0, r1] h)) := exF_cdv (i := (i_ci [1] 193 0 21)) rfl rfl
theorem eX1_init_21 {ev : xV} {v0 : Option Value} {x a : Nat} {st : List Value} {h : xH} : exF ev cX1_init 21 ([v0], []) (.ref x :: .ref a :: st) h = xO (xpf h a 0 1 (.ref x)) (fun h => exF ev cX1_init 24 ([v0], []) st h) := exF_o (i := (i_putfr 0 1 24)) rfl rfl
theorem eX1_init_21n {ev : xV} {v0 : Option Value} {a : Nat} {st : List Value} {h : xH} : exF ev cX1_init 21 ([v0], []) (.null :: .ref a :: st) h = xO (xpf h a 0 1 .null) (fun h => exF ev cX1_init 24 ([v0], []) st h) := exF_o (i := (i_putfr 0 1 24)) rfl rfl
theorem eX1_init_24 {ev : xV} {x : Nat} {st : List Value} {h : xH} : exF ev cX1_init 24 ([some (.ref x)], []) st h = exF ev cX1_init 25 ([some (.ref x)], []) (.ref x :: st) h := exF_j (i := (i_aload 0 25)) rfl rfl
theorem eX1_init_25 {ev : xV} {v0 : Option Value} {st : List Value} {h : xH} : exF ev cX1_init 25 ([v0], []) st h = exF ev cX1_init 28 ([v0], []) (.ref h.2.1 :: st) (xnew h (.inr (2, zX3)) 7) := exF_j (i := (i_new 2 7 zX3 28)) rfl rfl
theorem eX1_init_28 {ev : xV} {v0 : Option Value} {x : Nat} {st : List Value} {h : xH} : exF ev cX1_init 28 ([v0], []) (.ref x :: st) h = exF ev cX1_init 29 ([v0], []) (.ref x :: .ref x :: st) h := exF_j (i := (i_dup 29)) rfl rfl
theorem eX1_init_29 {ev : xV} {v0 : Option Value} {r0 : Value} {r1 : Value} {a : Nat} {h : xH} : exF ev cX1_init 29 ([v0], []) [.ref a, r0, r1] h = xO (xckc h [2] a) (fun _ => xBv (ev 232 [.ref a] h) (fun h => exF ev cX1_init 32 ([v0], []) [r0, r1] h)) := exF_cdv (i := (i_ci [2] 232 0 32)) rfl rfl
theorem eX1_init_32 {ev : xV} {v0 : Option Value} {x a : Nat} {st : List Value} {h : xH} : exF ev cX1_init 32 ([v0], []) (.ref x :: .ref a :: st) h = xO (xpf h a 0 2 (.ref x)) (fun h => exF ev cX1_init 35 ([v0], []) st h) := exF_o (i := (i_putfr 0 2 35)) rfl rfl
theorem eX1_init_32n {ev : xV} {v0 : Option Value} {a : Nat} {st : List Value} {h : xH} : exF ev cX1_init 32 ([v0], []) (.null :: .ref a :: st) h = xO (xpf h a 0 2 .null) (fun h => exF ev cX1_init 35 ([v0], []) st h) := exF_o (i := (i_putfr 0 2 35)) rfl rfl
theorem eX1_init_35 {ev : xV} {x : Nat} {st : List Value} {h : xH} : exF ev cX1_init 35 ([some (.ref x)], []) st h = exF ev cX1_init 36 ([some (.ref x)], []) (.ref x :: st) h := exF_j (i := (i_aload 0 36)) rfl rfl
theorem eX1_init_36 {ev : xV} {v0 : Option Value} {st : List Value} {h : xH} : exF ev cX1_init 36 ([v0], []) st h = exF ev cX1_init 39 ([v0], []) (.ref h.2.1 :: st) (xnew h (.inr (21, zJ2)) 3) := exF_j (i := (i_new 21 3 zJ2 39)) rfl rfl
theorem eX1_init_39 {ev : xV} {v0 : Option Value} {x : Nat} {st : List Value} {h : xH} : exF ev cX1_init 39 ([v0], []) (.ref x :: st) h = exF ev cX1_init 40 ([v0], []) (.ref x :: .ref x :: st) h := exF_j (i := (i_dup 40)) rfl rfl
theorem eX1_init_40 {ev : xV} {v0 : Option Value} {st : List Value} {h : xH} : exF ev cX1_init 40 ([v0], []) st h = exF ev cX1_init 41 ([v0], []) (.int (nI 0) :: st) h := exF_j (i := (i_const (.int (nI 0)) 41)) rfl rfl
theorem eX1_init_41 {ev : xV} {v0 : Option Value} {a0 : Value} {r0 : Value} {r1 : Value} {a : Nat} {h : xH} : exF ev cX1_init 41 ([v0], []) [a0, .ref a, r0, r1] h = xO (xckc h [21] a) (fun _ => xBv (ev 31 [.ref a, a0] h) (fun h => exF ev cX1_init 44 ([v0], []) [r0, r1] h)) := exF_cdv (i := (i_ci [21] 31 1 44)) rfl rfl
theorem eX1_init_44 {ev : xV} {v0 : Option Value} {x a : Nat} {st : List Value} {h : xH} : exF ev cX1_init 44 ([v0], []) (.ref x :: .ref a :: st) h = xO (xpf h a 0 3 (.ref x)) (fun h => exF ev cX1_init 47 ([v0], []) st h) := exF_o (i := (i_putfr 0 3 47)) rfl rfl
theorem eX1_init_44n {ev : xV} {v0 : Option Value} {a : Nat} {st : List Value} {h : xH} : exF ev cX1_init 44 ([v0], []) (.null :: .ref a :: st) h = xO (xpf h a 0 3 .null) (fun h => exF ev cX1_init 47 ([v0], []) st h) := exF_o (i := (i_putfr 0 3 47)) rfl rfl
theorem eX1_init_47 {ev : xV} {x : Nat} {st : List Value} {h : xH} : exF ev cX1_init 47 ([some (.ref x)], []) st h = exF ev cX1_init 48 ([some (.ref x)], []) (.ref x :: st) h := exF_j (i := (i_aload 0 48)) rfl rfl
theorem eX1_init_48 {ev : xV} {v0 : Option Value} {st : List Value} {h : xH} : exF ev cX1_init 48 ([v0], []) st h = exF ev cX1_init 51 ([v0], []) (.ref h.2.1 :: st) (xnew h (.inr (3, zX4)) 5) := exF_j (i := (i_new 3 5 zX4 51)) rfl rfl
theorem eX1_init_51 {ev : xV} {v0 : Option Value} {x : Nat} {st : List Value} {h : xH} : exF ev cX1_init 51 ([v0], []) (.ref x :: st) h = exF ev cX1_init 52 ([v0], []) (.ref x :: .ref x :: st) h := exF_j (i := (i_dup 52)) rfl rfl
theorem eX1_init_52 {ev : xV} {v0 : Option Value} {r0 : Value} {r1 : Value} {a : Nat} {h : xH} : exF ev cX1_init 52 ([v0], []) [.ref a, r0, r1] h = xO (xckc h [3] a) (fun _ => xBv (ev 236 [.ref a] h) (fun h => exF ev cX1_init 55 ([v0], []) [r0, r1] h)) := exF_cdv (i := (i_ci [3] 236 0 55)) rfl rfl
theorem eX1_init_55 {ev : xV} {v0 : Option Value} {x a : Nat} {st : List Value} {h : xH} : exF ev cX1_init 55 ([v0], []) (.ref x :: .ref a :: st) h = xO (xpf h a 0 4 (.ref x)) (fun h => exF ev cX1_init 58 ([v0], []) st h) := exF_o (i := (i_putfr 0 4 58)) rfl rfl
theorem eX1_init_55n {ev : xV} {v0 : Option Value} {a : Nat} {st : List Value} {h : xH} : exF ev cX1_init 55 ([v0], []) (.null :: .ref a :: st) h = xO (xpf h a 0 4 .null) (fun h => exF ev cX1_init 58 ([v0], []) st h) := exF_o (i := (i_putfr 0 4 58)) rfl rfl
theorem eX1_init_58 {ev : xV} {x : Nat} {st : List Value} {h : xH} : exF ev cX1_init 58 ([some (.ref x)], []) st h = exF ev cX1_init 59 ([some (.ref x)], []) (.ref x :: st) h := exF_j (i := (i_aload 0 59)) rfl rfl
theorem eX1_init_59 {ev : xV} {v0 : Option Value} {st : List Value} {h : xH} : exF ev cX1_init 59 ([v0], []) st h = exF ev cX1_init 62 ([v0], []) (.ref h.2.1 :: st) (xnew h (.inr (3, zX4)) 5) := exF_j (i := (i_new 3 5 zX4 62)) rfl rfl
theorem eX1_init_62 {ev : xV} {v0 : Option Value} {x : Nat} {st : List Value} {h : xH} : exF ev cX1_init 62 ([v0], []) (.ref x :: st) h = exF ev cX1_init 63 ([v0], []) (.ref x :: .ref x :: st) h := exF_j (i := (i_dup 63)) rfl rfl
theorem eX1_init_63 {ev : xV} {v0 : Option Value} {r0 : Value} {r1 : Value} {a : Nat} {h : xH} : exF ev cX1_init 63 ([v0], []) [.ref a, r0, r1] h = xO (xckc h [3] a) (fun _ => xBv (ev 236 [.ref a] h) (fun h => exF ev cX1_init 66 ([v0], []) [r0, r1] h)) := exF_cdv (i := (i_ci [3] 236 0 66)) rfl rfl
theorem eX1_init_66 {ev : xV} {v0 : Option Value} {x a : Nat} {st : List Value} {h : xH} : exF ev cX1_init 66 ([v0], []) (.ref x :: .ref a :: st) h = xO (xpf h a 0 5 (.ref x)) (fun h => exF ev cX1_init 69 ([v0], []) st h) := exF_o (i := (i_putfr 0 5 69)) rfl rfl
theorem eX1_init_66n {ev : xV} {v0 : Option Value} {a : Nat} {st : List Value} {h : xH} : exF ev cX1_init 66 ([v0], []) (.null :: .ref a :: st) h = xO (xpf h a 0 5 .null) (fun h => exF ev cX1_init 69 ([v0], []) st h) := exF_o (i := (i_putfr 0 5 69)) rfl rfl
theorem eX1_init_69 {ev : xV} {x : Nat} {st : List Value} {h : xH} : exF ev cX1_init 69 ([some (.ref x)], []) st h = exF ev cX1_init 70 ([some (.ref x)], []) (.ref x :: st) h := exF_j (i := (i_aload 0 70)) rfl rfl
theorem eX1_init_70 {ev : xV} {v0 : Option Value} {st : List Value} {h : xH} : exF ev cX1_init 70 ([v0], []) st h = exF ev cX1_init 71 ([v0], []) (.int (nI 4) :: st) h := exF_j (i := (i_const (.int (nI 4)) 71)) rfl rfl
theorem eX1_init_71 {ev : xV} {v0 : Option Value} {x : Int32} {st : List Value} {h : xH} : exF ev cX1_init 71 ([v0], []) (.int x :: st) h = xO (xcnt x) (fun k => exF ev cX1_init 73 ([v0], []) (.ref h.2.1 :: st) (xnew h (.inl (0, k, .inl (fun _ => 0))) k)) := exF_o (i := (i_newa 0 (.inl (fun _ => 0)) 73)) rfl rfl
theorem eX1_init_73 {ev : xV} {v0 : Option Value} {x a : Nat} {st : List Value} {h : xH} : exF ev cX1_init 73 ([v0], []) (.ref x :: .ref a :: st) h = xO (xpf h a 0 6 (.ref x)) (fun h => exF ev cX1_init 76 ([v0], []) st h) := exF_o (i := (i_putfr 0 6 76)) rfl rfl
theorem eX1_init_73n {ev : xV} {v0 : Option Value} {a : Nat} {st : List Value} {h : xH} : exF ev cX1_init 73 ([v0], []) (.null :: .ref a :: st) h = xO (xpf h a 0 6 .null) (fun h => exF ev cX1_init 76 ([v0], []) st h) := exF_o (i := (i_putfr 0 6 76)) rfl rfl
theorem eX1_init_76 {ev : xV} {x : Nat} {st : List Value} {h : xH} : exF ev cX1_init 76 ([some (.ref x)], []) st h = exF ev cX1_init 77 ([some (.ref x)], []) (.ref x :: st) h := exF_j (i := (i_aload 0 77)) rfl rfl
theorem eX1_init_77 {ev : xV} {v0 : Option Value} {st : List Value} {h : xH} : exF ev cX1_init 77 ([v0], []) st h = exF ev cX1_init 79 ([v0], []) (.int (nI 16) :: st) h := exF_j (i := (i_const (.int (nI 16)) 79)) rfl rfl
theorem eX1_init_79 {ev : xV} {v0 : Option Value} {x : Int32} {st : List Value} {h : xH} : exF ev cX1_init 79 ([v0], []) (.int x :: st) h = xO (xcnt x) (fun k => exF ev cX1_init 82 ([v0], []) (.ref h.2.1 :: st) (xnew h (.inl (5, k, .inr (.inr (fun _ => none)))) k)) := exF_o (i := (i_newa 5 (.inr (.inr (fun _ => none))) 82)) rfl rfl
theorem eX1_init_82 {ev : xV} {v0 : Option Value} {x a : Nat} {st : List Value} {h : xH} : exF ev cX1_init 82 ([v0], []) (.ref x :: .ref a :: st) h = xO (xpf h a 0 8 (.ref x)) (fun h => exF ev cX1_init 85 ([v0], []) st h) := exF_o (i := (i_putfr 0 8 85)) rfl rfl
theorem eX1_init_82n {ev : xV} {v0 : Option Value} {a : Nat} {st : List Value} {h : xH} : exF ev cX1_init 82 ([v0], []) (.null :: .ref a :: st) h = xO (xpf h a 0 8 .null) (fun h => exF ev cX1_init 85 ([v0], []) st h) := exF_o (i := (i_putfr 0 8 85)) rfl rfl
theorem eX1_init_85 {ev : xV} {x : Nat} {st : List Value} {h : xH} : exF ev cX1_init 85 ([some (.ref x)], []) st h = exF ev cX1_init 86 ([some (.ref x)], []) (.ref x :: st) h := exF_j (i := (i_aload 0 86)) rfl rfl
theorem eX1_init_86 {ev : xV} {v0 : Option Value} {st : List Value} {h : xH} : exF ev cX1_init 86 ([v0], []) st h = exF ev cX1_init 87 ([v0], []) (.int (nI 3) :: st) h := exF_j (i := (i_const (.int (nI 3)) 87)) rfl rfl
theorem eX1_init_87 {ev : xV} {v0 : Option Value} {x : Int32} {st : List Value} {h : xH} : exF ev cX1_init 87 ([v0], []) (.int x :: st) h = xO (xcnt x) (fun k => exF ev cX1_init 89 ([v0], []) (.ref h.2.1 :: st) (xnew h (.inl (0, k, .inl (fun _ => 0))) k)) := exF_o (i := (i_newa 0 (.inl (fun _ => 0)) 89)) rfl rfl
theorem eX1_init_89 {ev : xV} {v0 : Option Value} {x a : Nat} {st : List Value} {h : xH} : exF ev cX1_init 89 ([v0], []) (.ref x :: .ref a :: st) h = xO (xpf h a 0 10 (.ref x)) (fun h => exF ev cX1_init 92 ([v0], []) st h) := exF_o (i := (i_putfr 0 10 92)) rfl rfl
theorem eX1_init_89n {ev : xV} {v0 : Option Value} {a : Nat} {st : List Value} {h : xH} : exF ev cX1_init 89 ([v0], []) (.null :: .ref a :: st) h = xO (xpf h a 0 10 .null) (fun h => exF ev cX1_init 92 ([v0], []) st h) := exF_o (i := (i_putfr 0 10 92)) rfl rfl
theorem eX1_init_92 {ev : xV} {x : Nat} {st : List Value} {h : xH} : exF ev cX1_init 92 ([some (.ref x)], []) st h = exF ev cX1_init 93 ([some (.ref x)], []) (.ref x :: st) h := exF_j (i := (i_aload 0 93)) rfl rfl
theorem eX1_init_93 {ev : xV} {v0 : Option Value} {st : List Value} {h : xH} : exF ev cX1_init 93 ([v0], []) st h = exF ev cX1_init 96 ([v0], []) (.ref h.2.1 :: st) (xnew h (.inr (3, zX4)) 5) := exF_j (i := (i_new 3 5 zX4 96)) rfl rfl
theorem eX1_init_96 {ev : xV} {v0 : Option Value} {x : Nat} {st : List Value} {h : xH} : exF ev cX1_init 96 ([v0], []) (.ref x :: st) h = exF ev cX1_init 97 ([v0], []) (.ref x :: .ref x :: st) h := exF_j (i := (i_dup 97)) rfl rfl
theorem eX1_init_97 {ev : xV} {v0 : Option Value} {r0 : Value} {r1 : Value} {a : Nat} {h : xH} : exF ev cX1_init 97 ([v0], []) [.ref a, r0, r1] h = xO (xckc h [3] a) (fun _ => xBv (ev 236 [.ref a] h) (fun h => exF ev cX1_init 100 ([v0], []) [r0, r1] h)) := exF_cdv (i := (i_ci [3] 236 0 100)) rfl rfl
theorem eX1_init_100 {ev : xV} {v0 : Option Value} {x a : Nat} {st : List Value} {h : xH} : exF ev cX1_init 100 ([v0], []) (.ref x :: .ref a :: st) h = xO (xpf h a 0 11 (.ref x)) (fun h => exF ev cX1_init 103 ([v0], []) st h) := exF_o (i := (i_putfr 0 11 103)) rfl rfl
theorem eX1_init_100n {ev : xV} {v0 : Option Value} {a : Nat} {st : List Value} {h : xH} : exF ev cX1_init 100 ([v0], []) (.null :: .ref a :: st) h = xO (xpf h a 0 11 .null) (fun h => exF ev cX1_init 103 ([v0], []) st h) := exF_o (i := (i_putfr 0 11 103)) rfl rfl
theorem eX1_init_103 {ev : xV} {x : Nat} {st : List Value} {h : xH} : exF ev cX1_init 103 ([some (.ref x)], []) st h = exF ev cX1_init 104 ([some (.ref x)], []) (.ref x :: st) h := exF_j (i := (i_aload 0 104)) rfl rfl
theorem eX1_init_104 {ev : xV} {v0 : Option Value} {st : List Value} {h : xH} : exF ev cX1_init 104 ([v0], []) st h = exF ev cX1_init 106 ([v0], []) (.int (nI 8) :: st) h := exF_j (i := (i_const (.int (nI 8)) 106)) rfl rfl
theorem eX1_init_106 {ev : xV} {v0 : Option Value} {x : Int32} {st : List Value} {h : xH} : exF ev cX1_init 106 ([v0], []) (.int x :: st) h = xO (xcnt x) (fun k => exF ev cX1_init 108 ([v0], []) (.ref h.2.1 :: st) (xnew h (.inl (0, k, .inl (fun _ => 0))) k)) := exF_o (i := (i_newa 0 (.inl (fun _ => 0)) 108)) rfl rfl
theorem eX1_init_108 {ev : xV} {v0 : Option Value} {x a : Nat} {st : List Value} {h : xH} : exF ev cX1_init 108 ([v0], []) (.ref x :: .ref a :: st) h = xO (xpf h a 0 12 (.ref x)) (fun h => exF ev cX1_init 111 ([v0], []) st h) := exF_o (i := (i_putfr 0 12 111)) rfl rfl
theorem eX1_init_108n {ev : xV} {v0 : Option Value} {a : Nat} {st : List Value} {h : xH} : exF ev cX1_init 108 ([v0], []) (.null :: .ref a :: st) h = xO (xpf h a 0 12 .null) (fun h => exF ev cX1_init 111 ([v0], []) st h) := exF_o (i := (i_putfr 0 12 111)) rfl rfl
theorem eX1_init_111 {ev : xV} {x : Nat} {st : List Value} {h : xH} : exF ev cX1_init 111 ([some (.ref x)], []) st h = exF ev cX1_init 112 ([some (.ref x)], []) (.ref x :: st) h := exF_j (i := (i_aload 0 112)) rfl rfl
theorem eX1_init_112 {ev : xV} {v0 : Option Value} {st : List Value} {h : xH} : exF ev cX1_init 112 ([v0], []) st h = exF ev cX1_init 114 ([v0], []) (.int (nI 8) :: st) h := exF_j (i := (i_const (.int (nI 8)) 114)) rfl rfl
theorem eX1_init_114 {ev : xV} {v0 : Option Value} {x : Int32} {st : List Value} {h : xH} : exF ev cX1_init 114 ([v0], []) (.int x :: st) h = xO (xcnt x) (fun k => exF ev cX1_init 116 ([v0], []) (.ref h.2.1 :: st) (xnew h (.inl (0, k, .inl (fun _ => 0))) k)) := exF_o (i := (i_newa 0 (.inl (fun _ => 0)) 116)) rfl rfl
theorem eX1_init_116 {ev : xV} {v0 : Option Value} {x a : Nat} {st : List Value} {h : xH} : exF ev cX1_init 116 ([v0], []) (.ref x :: .ref a :: st) h = xO (xpf h a 0 13 (.ref x)) (fun h => exF ev cX1_init 119 ([v0], []) st h) := exF_o (i := (i_putfr 0 13 119)) rfl rfl
theorem eX1_init_116n {ev : xV} {v0 : Option Value} {a : Nat} {st : List Value} {h : xH} : exF ev cX1_init 116 ([v0], []) (.null :: .ref a :: st) h = xO (xpf h a 0 13 .null) (fun h => exF ev cX1_init 119 ([v0], []) st h) := exF_o (i := (i_putfr 0 13 119)) rfl rfl
theorem eX1_init_119 {ev : xV} {x : Nat} {st : List Value} {h : xH} : exF ev cX1_init 119 ([some (.ref x)], []) st h = exF ev cX1_init 120 ([some (.ref x)], []) (.ref x :: st) h := exF_j (i := (i_aload 0 120)) rfl rfl
theorem eX1_init_120 {ev : xV} {v0 : Option Value} {st : List Value} {h : xH} : exF ev cX1_init 120 ([v0], []) st h = exF ev cX1_init 122 ([v0], []) (.int (nI 8) :: st) h := exF_j (i := (i_const (.int (nI 8)) 122)) rfl rfl
theorem eX1_init_122 {ev : xV} {v0 : Option Value} {x : Int32} {st : List Value} {h : xH} : exF ev cX1_init 122 ([v0], []) (.int x :: st) h = xO (xcnt x) (fun k => exF ev cX1_init 124 ([v0], []) (.ref h.2.1 :: st) (xnew h (.inl (2, k, .inl (fun _ => 0))) k)) := exF_o (i := (i_newa 2 (.inl (fun _ => 0)) 124)) rfl rfl
theorem eX1_init_124 {ev : xV} {v0 : Option Value} {x a : Nat} {st : List Value} {h : xH} : exF ev cX1_init 124 ([v0], []) (.ref x :: .ref a :: st) h = xO (xpf h a 0 14 (.ref x)) (fun h => exF ev cX1_init 127 ([v0], []) st h) := exF_o (i := (i_putfr 0 14 127)) rfl rfl
theorem eX1_init_124n {ev : xV} {v0 : Option Value} {a : Nat} {st : List Value} {h : xH} : exF ev cX1_init 124 ([v0], []) (.null :: .ref a :: st) h = xO (xpf h a 0 14 .null) (fun h => exF ev cX1_init 127 ([v0], []) st h) := exF_o (i := (i_putfr 0 14 127)) rfl rfl
theorem eX1_init_127 {ev : xV} {x : Nat} {st : List Value} {h : xH} : exF ev cX1_init 127 ([some (.ref x)], []) st h = exF ev cX1_init 128 ([some (.ref x)], []) (.ref x :: st) h := exF_j (i := (i_aload 0 128)) rfl rfl
theorem eX1_init_128 {ev : xV} {v0 : Option Value} {st : List Value} {h : xH} : exF ev cX1_init 128 ([v0], []) st h = exF ev cX1_init 130 ([v0], []) (.int (nI 10) :: st) h := exF_j (i := (i_const (.int (nI 10)) 130)) rfl rfl
theorem eX1_init_130 {ev : xV} {v0 : Option Value} {st : List Value} {h : xH} : exF ev cX1_init 130 ([v0], []) st h = exF ev cX1_init 132 ([v0], []) (.int (nI 31) :: st) h := exF_j (i := (i_const (.int (nI 31)) 132)) rfl rfl
theorem eX1_init_132 {ev : xV} {v0 : Option Value} {x y : Int32} {st : List Value} {h : xH} : exF ev cX1_init 132 ([v0], []) (.int y :: .int x :: st) h = xO (xcnt2 x y) (fun q => exF ev cX1_init 136 ([v0], []) (.ref h.2.1 :: st) (xgrid h q.1 q.2)) := exF_o (i := (i_multi 136)) rfl rfl
theorem eX1_init_136 {ev : xV} {v0 : Option Value} {x a : Nat} {st : List Value} {h : xH} : exF ev cX1_init 136 ([v0], []) (.ref x :: .ref a :: st) h = xO (xpf h a 0 16 (.ref x)) (fun h => exF ev cX1_init 139 ([v0], []) st h) := exF_o (i := (i_putfr 0 16 139)) rfl rfl
theorem eX1_init_136n {ev : xV} {v0 : Option Value} {a : Nat} {st : List Value} {h : xH} : exF ev cX1_init 136 ([v0], []) (.null :: .ref a :: st) h = xO (xpf h a 0 16 .null) (fun h => exF ev cX1_init 139 ([v0], []) st h) := exF_o (i := (i_putfr 0 16 139)) rfl rfl
theorem eX1_init_139 {ev : xV} {x : Nat} {st : List Value} {h : xH} : exF ev cX1_init 139 ([some (.ref x)], []) st h = exF ev cX1_init 140 ([some (.ref x)], []) (.ref x :: st) h := exF_j (i := (i_aload 0 140)) rfl rfl
theorem eX1_init_140 {ev : xV} {v0 : Option Value} {st : List Value} {h : xH} : exF ev cX1_init 140 ([v0], []) st h = exF ev cX1_init 142 ([v0], []) (.int (nI 8) :: st) h := exF_j (i := (i_const (.int (nI 8)) 142)) rfl rfl
theorem eX1_init_142 {ev : xV} {v0 : Option Value} {x : Int32} {st : List Value} {h : xH} : exF ev cX1_init 142 ([v0], []) (.int x :: st) h = xO (xcnt x) (fun k => exF ev cX1_init 144 ([v0], []) (.ref h.2.1 :: st) (xnew h (.inl (0, k, .inl (fun _ => 0))) k)) := exF_o (i := (i_newa 0 (.inl (fun _ => 0)) 144)) rfl rfl
theorem eX1_init_144 {ev : xV} {v0 : Option Value} {x a : Nat} {st : List Value} {h : xH} : exF ev cX1_init 144 ([v0], []) (.ref x :: .ref a :: st) h = xO (xpf h a 0 17 (.ref x)) (fun h => exF ev cX1_init 147 ([v0], []) st h) := exF_o (i := (i_putfr 0 17 147)) rfl rfl
theorem eX1_init_144n {ev : xV} {v0 : Option Value} {a : Nat} {st : List Value} {h : xH} : exF ev cX1_init 144 ([v0], []) (.null :: .ref a :: st) h = xO (xpf h a 0 17 .null) (fun h => exF ev cX1_init 147 ([v0], []) st h) := exF_o (i := (i_putfr 0 17 147)) rfl rfl
theorem eX1_init_147 {ev : xV} {x : Nat} {st : List Value} {h : xH} : exF ev cX1_init 147 ([some (.ref x)], []) st h = exF ev cX1_init 148 ([some (.ref x)], []) (.ref x :: st) h := exF_j (i := (i_aload 0 148)) rfl rfl
theorem eX1_init_148 {ev : xV} {v0 : Option Value} {st : List Value} {h : xH} : exF ev cX1_init 148 ([v0], []) st h = exF ev cX1_init 150 ([v0], []) (.int (nI 8) :: st) h := exF_j (i := (i_const (.int (nI 8)) 150)) rfl rfl
theorem eX1_init_150 {ev : xV} {v0 : Option Value} {x : Int32} {st : List Value} {h : xH} : exF ev cX1_init 150 ([v0], []) (.int x :: st) h = xO (xcnt x) (fun k => exF ev cX1_init 152 ([v0], []) (.ref h.2.1 :: st) (xnew h (.inl (0, k, .inl (fun _ => 0))) k)) := exF_o (i := (i_newa 0 (.inl (fun _ => 0)) 152)) rfl rfl
theorem eX1_init_152 {ev : xV} {v0 : Option Value} {x a : Nat} {st : List Value} {h : xH} : exF ev cX1_init 152 ([v0], []) (.ref x :: .ref a :: st) h = xO (xpf h a 0 18 (.ref x)) (fun h => exF ev cX1_init 155 ([v0], []) st h) := exF_o (i := (i_putfr 0 18 155)) rfl rfl
theorem eX1_init_152n {ev : xV} {v0 : Option Value} {a : Nat} {st : List Value} {h : xH} : exF ev cX1_init 152 ([v0], []) (.null :: .ref a :: st) h = xO (xpf h a 0 18 .null) (fun h => exF ev cX1_init 155 ([v0], []) st h) := exF_o (i := (i_putfr 0 18 155)) rfl rfl
theorem eX1_init_155 {ev : xV} {x : Nat} {st : List Value} {h : xH} : exF ev cX1_init 155 ([some (.ref x)], []) st h = exF ev cX1_init 156 ([some (.ref x)], []) (.ref x :: st) h := exF_j (i := (i_aload 0 156)) rfl rfl
theorem eX1_init_156 {ev : xV} {v0 : Option Value} {st : List Value} {h : xH} : exF ev cX1_init 156 ([v0], []) st h = exF ev cX1_init 157 ([v0], []) (.int (nI 4) :: st) h := exF_j (i := (i_const (.int (nI 4)) 157)) rfl rfl
theorem eX1_init_157 {ev : xV} {v0 : Option Value} {x : Int32} {st : List Value} {h : xH} : exF ev cX1_init 157 ([v0], []) (.int x :: st) h = xO (xcnt x) (fun k => exF ev cX1_init 160 ([v0], []) (.ref h.2.1 :: st) (xnew h (.inl (7, k, .inr (.inr (fun _ => none)))) k)) := exF_o (i := (i_newa 7 (.inr (.inr (fun _ => none))) 160)) rfl rfl
theorem eX1_init_160 {ev : xV} {v0 : Option Value} {x a : Nat} {st : List Value} {h : xH} : exF ev cX1_init 160 ([v0], []) (.ref x :: .ref a :: st) h = xO (xpf h a 0 21 (.ref x)) (fun h => exF ev cX1_init 163 ([v0], []) st h) := exF_o (i := (i_putfr 0 21 163)) rfl rfl
theorem eX1_init_160n {ev : xV} {v0 : Option Value} {a : Nat} {st : List Value} {h : xH} : exF ev cX1_init 160 ([v0], []) (.null :: .ref a :: st) h = xO (xpf h a 0 21 .null) (fun h => exF ev cX1_init 163 ([v0], []) st h) := exF_o (i := (i_putfr 0 21 163)) rfl rfl
theorem eX1_init_163 {ev : xV} {x : Nat} {st : List Value} {h : xH} : exF ev cX1_init 163 ([some (.ref x)], []) st h = exF ev cX1_init 164 ([some (.ref x)], []) (.ref x :: st) h := exF_j (i := (i_aload 0 164)) rfl rfl
theorem eX1_init_164 {ev : xV} {v0 : Option Value} {a : Nat} {st : List Value} {h : xH} : exF ev cX1_init 164 ([v0], []) (.ref a :: st) h = xO (xgf h a 0 4) (fun v => exF ev cX1_init 167 ([v0], []) (v :: st) h) := exF_o (i := (i_getf 0 4 167)) rfl rfl
theorem eX1_init_167 {ev : xV} {x : Nat} {st : List Value} {h : xH} : exF ev cX1_init 167 ([some (.ref x)], []) st h = exF ev cX1_init 168 ([some (.ref x)], []) (.ref x :: st) h := exF_j (i := (i_aload 0 168)) rfl rfl
theorem eX1_init_168 {ev : xV} {v0 : Option Value} {a : Nat} {st : List Value} {h : xH} : exF ev cX1_init 168 ([v0], []) (.ref a :: st) h = xO (xgf h a 0 2) (fun v => exF ev cX1_init 171 ([v0], []) (v :: st) h) := exF_o (i := (i_getf 0 2 171)) rfl rfl
theorem eX1_init_171 {ev : xV} {v0 : Option Value} {a0 : Value} {a : Nat} {h : xH} : exF ev cX1_init 171 ([v0], []) [a0, .ref a] h = xO (xck h a 3) (fun _ => xBv (ev 237 [.ref a, a0] h) (fun h => exF ev cX1_init 174 ([v0], []) [] h)) := exF_cdv (i := (i_cvv 3 237 1 174)) rfl rfl
theorem eX1_init_174 {ev : xV} {v0 : Option Value} {h : xH} : exF ev cX1_init 174 ([v0], []) [] h = some (.inl none, h) := exF_r (i := (i_vret)) rfl rfl
noncomputable def cX1_copies : xC := [(0, i_const (.int (nI 0)) 1),
  (1, i_istore 2 2),
  (2, i_iload 2 3),
  (3, i_aload 1 4),
  (4, i_len 5),
  (5, i_if2 (fun x y => y ≤ x) 20 8),
  (8, i_aload 1 9),
  (9, i_iload 2 10),
  (10, i_aload 0 11),
  (11, i_iload 2 12),
  (12, i_ai 0 13),
  (13, i_si (fun v => v) 0 14),
  (14, i_iinc 2 (nI 1) 17),
  (17, i_goto 2),
  (20, i_vret)]
theorem eX1_copies_0 {ev : xV} {v0 v1 v2 : Option Value} {st : List Value} {h : xH} : exF ev cX1_copies 0 ([v0, v1, v2], []) st h = exF ev cX1_copies 1 ([v0, v1, v2], []) (.int (nI 0) :: st) h := exF_j (i := (i_const (.int (nI 0)) 1)) rfl rfl
theorem eX1_copies_1 {ev : xV} {v0 v1 v2 : Option Value} {x : Int32} {st : List Value} {h : xH} : exF ev cX1_copies 1 ([v0, v1, v2], []) (.int x :: st) h = exF ev cX1_copies 2 ([v0, v1, some (.int x)], []) st h := exF_j (i := (i_istore 2 2)) rfl rfl
theorem eX1_copies_2 {ev : xV} {v0 v1 : Option Value} {x : Int32} {st : List Value} {h : xH} : exF ev cX1_copies 2 ([v0, v1, some (.int x)], []) st h = exF ev cX1_copies 3 ([v0, v1, some (.int x)], []) (.int x :: st) h := exF_j (i := (i_iload 2 3)) rfl rfl
theorem eX1_copies_3 {ev : xV} {v0 v2 : Option Value} {x : Nat} {st : List Value} {h : xH} : exF ev cX1_copies 3 ([v0, some (.ref x), v2], []) st h = exF ev cX1_copies 4 ([v0, some (.ref x), v2], []) (.ref x :: st) h := exF_j (i := (i_aload 1 4)) rfl rfl
theorem eX1_copies_3n {ev : xV} {v0 v2 : Option Value} {st : List Value} {h : xH} : exF ev cX1_copies 3 ([v0, some .null, v2], []) st h = exF ev cX1_copies 4 ([v0, some .null, v2], []) (.null :: st) h := exF_j (i := (i_aload 1 4)) rfl rfl
theorem eX1_copies_4 {ev : xV} {v0 v1 v2 : Option Value} {a : Nat} {st : List Value} {h : xH} : exF ev cX1_copies 4 ([v0, v1, v2], []) (.ref a :: st) h = xO (xlen h a) (fun v => exF ev cX1_copies 5 ([v0, v1, v2], []) (.int v :: st) h) := exF_o (i := (i_len 5)) rfl rfl
theorem eX1_copies_5 {ev : xV} {v0 v1 v2 : Option Value} {x y : Int32} {st : List Value} {h : xH} : exF ev cX1_copies 5 ([v0, v1, v2], []) (.int y :: .int x :: st) h = if y ≤ x then exF ev cX1_copies 20 ([v0, v1, v2], []) st h else exF ev cX1_copies 8 ([v0, v1, v2], []) st h := exF_b (i := (i_if2 (fun x y => y ≤ x) 20 8)) rfl rfl
theorem eX1_copies_8 {ev : xV} {v0 v2 : Option Value} {x : Nat} {st : List Value} {h : xH} : exF ev cX1_copies 8 ([v0, some (.ref x), v2], []) st h = exF ev cX1_copies 9 ([v0, some (.ref x), v2], []) (.ref x :: st) h := exF_j (i := (i_aload 1 9)) rfl rfl
theorem eX1_copies_8n {ev : xV} {v0 v2 : Option Value} {st : List Value} {h : xH} : exF ev cX1_copies 8 ([v0, some .null, v2], []) st h = exF ev cX1_copies 9 ([v0, some .null, v2], []) (.null :: st) h := exF_j (i := (i_aload 1 9)) rfl rfl
theorem eX1_copies_9 {ev : xV} {v0 v1 : Option Value} {x : Int32} {st : List Value} {h : xH} : exF ev cX1_copies 9 ([v0, v1, some (.int x)], []) st h = exF ev cX1_copies 10 ([v0, v1, some (.int x)], []) (.int x :: st) h := exF_j (i := (i_iload 2 10)) rfl rfl
theorem eX1_copies_10 {ev : xV} {v1 v2 : Option Value} {x : Nat} {st : List Value} {h : xH} : exF ev cX1_copies 10 ([some (.ref x), v1, v2], []) st h = exF ev cX1_copies 11 ([some (.ref x), v1, v2], []) (.ref x :: st) h := exF_j (i := (i_aload 0 11)) rfl rfl
theorem eX1_copies_10n {ev : xV} {v1 v2 : Option Value} {st : List Value} {h : xH} : exF ev cX1_copies 10 ([some .null, v1, v2], []) st h = exF ev cX1_copies 11 ([some .null, v1, v2], []) (.null :: st) h := exF_j (i := (i_aload 0 11)) rfl rfl
theorem eX1_copies_11 {ev : xV} {v0 v1 : Option Value} {x : Int32} {st : List Value} {h : xH} : exF ev cX1_copies 11 ([v0, v1, some (.int x)], []) st h = exF ev cX1_copies 12 ([v0, v1, some (.int x)], []) (.int x :: st) h := exF_j (i := (i_iload 2 12)) rfl rfl
theorem eX1_copies_12 {ev : xV} {v0 v1 v2 : Option Value} {i : Int32} {a : Nat} {st : List Value} {h : xH} : exF ev cX1_copies 12 ([v0, v1, v2], []) (.int i :: .ref a :: st) h = xO (xai h 0 a i) (fun v => exF ev cX1_copies 13 ([v0, v1, v2], []) (.int v :: st) h) := exF_o (i := (i_ai 0 13)) rfl rfl
theorem eX1_copies_13 {ev : xV} {v0 v1 v2 : Option Value} {v i : Int32} {a : Nat} {st : List Value} {h : xH} : exF ev cX1_copies 13 ([v0, v1, v2], []) (.int v :: .int i :: .ref a :: st) h = xO (xsi h 0 a i v) (fun h => exF ev cX1_copies 14 ([v0, v1, v2], []) st h) := exF_o (i := (i_si (fun v => v) 0 14)) rfl rfl
theorem eX1_copies_14 {ev : xV} {v0 v1 : Option Value} {x : Int32} {st : List Value} {h : xH} : exF ev cX1_copies 14 ([v0, v1, some (.int x)], []) st h = exF ev cX1_copies 17 ([v0, v1, some (.int (x + (nI 1)))], []) st h := exF_j (i := (i_iinc 2 (nI 1) 17)) rfl rfl
theorem eX1_copies_17 {ev : xV} {v0 v1 v2 : Option Value} {st : List Value} {h : xH} : exF ev cX1_copies 17 ([v0, v1, v2], []) st h = exF ev cX1_copies 2 ([v0, v1, v2], []) st h := exF_j (i := (i_goto 2)) rfl rfl
theorem eX1_copies_20 {ev : xV} {v0 v1 v2 : Option Value} {h : xH} : exF ev cX1_copies 20 ([v0, v1, v2], []) [] h = some (.inl none, h) := exF_r (i := (i_vret)) rfl rfl
noncomputable def cX1_feed : xC := [(0, i_const (.int (nI 0)) 1),
  (1, i_istore 7 3),
  (3, i_iload 7 5),
  (5, i_const (.int (nI 24)) 7),
  (7, i_if2 (fun x y => y ≤ x) 109 10),
  (10, i_iload 7 12),
  (12, i_const (.int (nI 8)) 14),
  (14, i_if2 (fun x y => y ≤ x) 21 17),
  (17, i_lload 1 18),
  (18, i_goto 34),
  (21, i_iload 7 23),
  (23, i_const (.int (nI 16)) 25),
  (25, i_if2 (fun x y => y ≤ x) 32 28),
  (28, i_lload 3 29),
  (29, i_goto 34),
  (32, i_lload 5 34),
  (34, i_const (.int (nI 56)) 36),
  (36, i_const (.int (nI 8)) 38),
  (38, i_iload 7 40),
  (40, i_const (.int (nI 8)) 42),
  (42, i_iz (fun x y => x - x / y * y) 43),
  (43, i_ii (fun x y => x * y) 44),
  (44, i_ii (fun x y => x - y) 45),
  (45, i_li (fun x y => x >>> (y.toInt64 &&& 63)) 46),
  (46, i_l2i 47),
  (47, i_const (.int (nI 255)) 50),
  (50, i_ii (fun x y => x &&& y) 51),
  (51, i_istore 8 53),
  (53, i_iload 8 55),
  (55, i_const (.int (nI 10)) 57),
  (57, i_if2 (fun x y => x = y) 74 60),
  (60, i_iload 8 62),
  (62, i_const (.int (nI 32)) 64),
  (64, i_if2 (fun x y => x < y) 103 67),
  (67, i_iload 8 69),
  (69, i_const (.int (nI 126)) 71),
  (71, i_if2 (fun x y => y < x) 103 74),
  (74, i_aload 0 75),
  (75, i_getf 0 7 78),
  (78, i_const (.int (nI 1000)) 81),
  (81, i_if2 (fun x y => y ≤ x) 103 84),
  (84, i_aload 0 85),
  (85, i_getf 0 0 88),
  (88, i_aload 0 89),
  (89, i_dup 90),
  (90, i_getf 0 7 93),
  (93, i_dup_x1 94),
  (94, i_const (.int (nI 1)) 95),
  (95, i_ii (fun x y => x + y) 96),
  (96, i_putfi 0 7 99),
  (99, i_iload 8 101),
  (101, i_i1 (fun x => x.toInt8.toInt32) 102),
  (102, i_si (fun v => vp_nar .byte v) 1 103),
  (103, i_iinc 7 (nI 1) 106),
  (106, i_goto 3),
  (109, i_aload 0 110),
  (110, i_getf 0 7 113),
  (113, i_iret)]
theorem eX1_feed_0 {ev : xV} {v0 v1 v2 v3 v4 v5 v6 v7 v8 : Option Value} {w0 w1 w2 w3 w4 w5 w6 w7 w8 : Option Int64} {st : List Value} {h : xH} : exF ev cX1_feed 0 ([v0, v1, v2, v3, v4, v5, v6, v7, v8], [w0, w1, w2, w3, w4, w5, w6, w7, w8]) st h = exF ev cX1_feed 1 ([v0, v1, v2, v3, v4, v5, v6, v7, v8], [w0, w1, w2, w3, w4, w5, w6, w7, w8]) (.int (nI 0) :: st) h := exF_j (i := (i_const (.int (nI 0)) 1)) rfl rfl
theorem eX1_feed_1 {ev : xV} {v0 v1 v2 v3 v4 v5 v6 v7 v8 : Option Value} {w0 w1 w2 w3 w4 w5 w6 w7 w8 : Option Int64} {x : Int32} {st : List Value} {h : xH} : exF ev cX1_feed 1 ([v0, v1, v2, v3, v4, v5, v6, v7, v8], [w0, w1, w2, w3, w4, w5, w6, w7, w8]) (.int x :: st) h = exF ev cX1_feed 3 ([v0, v1, v2, v3, v4, v5, v6, some (.int x), v8], [w0, w1, w2, w3, w4, w5, none, none, w8]) st h := exF_j (i := (i_istore 7 3)) rfl rfl
theorem eX1_feed_3 {ev : xV} {v0 v1 v2 v3 v4 v5 v6 v8 : Option Value} {w0 w1 w2 w3 w4 w5 w6 w7 w8 : Option Int64} {x : Int32} {st : List Value} {h : xH} : exF ev cX1_feed 3 ([v0, v1, v2, v3, v4, v5, v6, some (.int x), v8], [w0, w1, w2, w3, w4, w5, w6, w7, w8]) st h = exF ev cX1_feed 5 ([v0, v1, v2, v3, v4, v5, v6, some (.int x), v8], [w0, w1, w2, w3, w4, w5, w6, w7, w8]) (.int x :: st) h := exF_j (i := (i_iload 7 5)) rfl rfl
theorem eX1_feed_5 {ev : xV} {v0 v1 v2 v3 v4 v5 v6 v7 v8 : Option Value} {w0 w1 w2 w3 w4 w5 w6 w7 w8 : Option Int64} {st : List Value} {h : xH} : exF ev cX1_feed 5 ([v0, v1, v2, v3, v4, v5, v6, v7, v8], [w0, w1, w2, w3, w4, w5, w6, w7, w8]) st h = exF ev cX1_feed 7 ([v0, v1, v2, v3, v4, v5, v6, v7, v8], [w0, w1, w2, w3, w4, w5, w6, w7, w8]) (.int (nI 24) :: st) h := exF_j (i := (i_const (.int (nI 24)) 7)) rfl rfl
theorem eX1_feed_7 {ev : xV} {v0 v1 v2 v3 v4 v5 v6 v7 v8 : Option Value} {w0 w1 w2 w3 w4 w5 w6 w7 w8 : Option Int64} {x y : Int32} {st : List Value} {h : xH} : exF ev cX1_feed 7 ([v0, v1, v2, v3, v4, v5, v6, v7, v8], [w0, w1, w2, w3, w4, w5, w6, w7, w8]) (.int y :: .int x :: st) h = if y ≤ x then exF ev cX1_feed 109 ([v0, v1, v2, v3, v4, v5, v6, v7, v8], [w0, w1, w2, w3, w4, w5, w6, w7, w8]) st h else exF ev cX1_feed 10 ([v0, v1, v2, v3, v4, v5, v6, v7, v8], [w0, w1, w2, w3, w4, w5, w6, w7, w8]) st h := exF_b (i := (i_if2 (fun x y => y ≤ x) 109 10)) rfl rfl
theorem eX1_feed_10 {ev : xV} {v0 v1 v2 v3 v4 v5 v6 v8 : Option Value} {w0 w1 w2 w3 w4 w5 w6 w7 w8 : Option Int64} {x : Int32} {st : List Value} {h : xH} : exF ev cX1_feed 10 ([v0, v1, v2, v3, v4, v5, v6, some (.int x), v8], [w0, w1, w2, w3, w4, w5, w6, w7, w8]) st h = exF ev cX1_feed 12 ([v0, v1, v2, v3, v4, v5, v6, some (.int x), v8], [w0, w1, w2, w3, w4, w5, w6, w7, w8]) (.int x :: st) h := exF_j (i := (i_iload 7 12)) rfl rfl
theorem eX1_feed_12 {ev : xV} {v0 v1 v2 v3 v4 v5 v6 v7 v8 : Option Value} {w0 w1 w2 w3 w4 w5 w6 w7 w8 : Option Int64} {st : List Value} {h : xH} : exF ev cX1_feed 12 ([v0, v1, v2, v3, v4, v5, v6, v7, v8], [w0, w1, w2, w3, w4, w5, w6, w7, w8]) st h = exF ev cX1_feed 14 ([v0, v1, v2, v3, v4, v5, v6, v7, v8], [w0, w1, w2, w3, w4, w5, w6, w7, w8]) (.int (nI 8) :: st) h := exF_j (i := (i_const (.int (nI 8)) 14)) rfl rfl
theorem eX1_feed_14 {ev : xV} {v0 v1 v2 v3 v4 v5 v6 v7 v8 : Option Value} {w0 w1 w2 w3 w4 w5 w6 w7 w8 : Option Int64} {x y : Int32} {st : List Value} {h : xH} : exF ev cX1_feed 14 ([v0, v1, v2, v3, v4, v5, v6, v7, v8], [w0, w1, w2, w3, w4, w5, w6, w7, w8]) (.int y :: .int x :: st) h = if y ≤ x then exF ev cX1_feed 21 ([v0, v1, v2, v3, v4, v5, v6, v7, v8], [w0, w1, w2, w3, w4, w5, w6, w7, w8]) st h else exF ev cX1_feed 17 ([v0, v1, v2, v3, v4, v5, v6, v7, v8], [w0, w1, w2, w3, w4, w5, w6, w7, w8]) st h := exF_b (i := (i_if2 (fun x y => y ≤ x) 21 17)) rfl rfl
theorem eX1_feed_17 {ev : xV} {v0 v1 v2 v3 v4 v5 v6 v7 v8 : Option Value} {w0 w2 w3 w4 w5 w6 w7 w8 : Option Int64} {x : Int64} {st : List Value} {h : xH} : exF ev cX1_feed 17 ([v0, v1, v2, v3, v4, v5, v6, v7, v8], [w0, some x, w2, w3, w4, w5, w6, w7, w8]) st h = exF ev cX1_feed 18 ([v0, v1, v2, v3, v4, v5, v6, v7, v8], [w0, some x, w2, w3, w4, w5, w6, w7, w8]) (.long x :: st) h := exF_j (i := (i_lload 1 18)) rfl rfl
theorem eX1_feed_18 {ev : xV} {v0 v1 v2 v3 v4 v5 v6 v7 v8 : Option Value} {w0 w1 w2 w3 w4 w5 w6 w7 w8 : Option Int64} {st : List Value} {h : xH} : exF ev cX1_feed 18 ([v0, v1, v2, v3, v4, v5, v6, v7, v8], [w0, w1, w2, w3, w4, w5, w6, w7, w8]) st h = exF ev cX1_feed 34 ([v0, v1, v2, v3, v4, v5, v6, v7, v8], [w0, w1, w2, w3, w4, w5, w6, w7, w8]) st h := exF_j (i := (i_goto 34)) rfl rfl
theorem eX1_feed_21 {ev : xV} {v0 v1 v2 v3 v4 v5 v6 v8 : Option Value} {w0 w1 w2 w3 w4 w5 w6 w7 w8 : Option Int64} {x : Int32} {st : List Value} {h : xH} : exF ev cX1_feed 21 ([v0, v1, v2, v3, v4, v5, v6, some (.int x), v8], [w0, w1, w2, w3, w4, w5, w6, w7, w8]) st h = exF ev cX1_feed 23 ([v0, v1, v2, v3, v4, v5, v6, some (.int x), v8], [w0, w1, w2, w3, w4, w5, w6, w7, w8]) (.int x :: st) h := exF_j (i := (i_iload 7 23)) rfl rfl
theorem eX1_feed_23 {ev : xV} {v0 v1 v2 v3 v4 v5 v6 v7 v8 : Option Value} {w0 w1 w2 w3 w4 w5 w6 w7 w8 : Option Int64} {st : List Value} {h : xH} : exF ev cX1_feed 23 ([v0, v1, v2, v3, v4, v5, v6, v7, v8], [w0, w1, w2, w3, w4, w5, w6, w7, w8]) st h = exF ev cX1_feed 25 ([v0, v1, v2, v3, v4, v5, v6, v7, v8], [w0, w1, w2, w3, w4, w5, w6, w7, w8]) (.int (nI 16) :: st) h := exF_j (i := (i_const (.int (nI 16)) 25)) rfl rfl
theorem eX1_feed_25 {ev : xV} {v0 v1 v2 v3 v4 v5 v6 v7 v8 : Option Value} {w0 w1 w2 w3 w4 w5 w6 w7 w8 : Option Int64} {x y : Int32} {st : List Value} {h : xH} : exF ev cX1_feed 25 ([v0, v1, v2, v3, v4, v5, v6, v7, v8], [w0, w1, w2, w3, w4, w5, w6, w7, w8]) (.int y :: .int x :: st) h = if y ≤ x then exF ev cX1_feed 32 ([v0, v1, v2, v3, v4, v5, v6, v7, v8], [w0, w1, w2, w3, w4, w5, w6, w7, w8]) st h else exF ev cX1_feed 28 ([v0, v1, v2, v3, v4, v5, v6, v7, v8], [w0, w1, w2, w3, w4, w5, w6, w7, w8]) st h := exF_b (i := (i_if2 (fun x y => y ≤ x) 32 28)) rfl rfl
theorem eX1_feed_28 {ev : xV} {v0 v1 v2 v3 v4 v5 v6 v7 v8 : Option Value} {w0 w1 w2 w4 w5 w6 w7 w8 : Option Int64} {x : Int64} {st : List Value} {h : xH} : exF ev cX1_feed 28 ([v0, v1, v2, v3, v4, v5, v6, v7, v8], [w0, w1, w2, some x, w4, w5, w6, w7, w8]) st h = exF ev cX1_feed 29 ([v0, v1, v2, v3, v4, v5, v6, v7, v8], [w0, w1, w2, some x, w4, w5, w6, w7, w8]) (.long x :: st) h := exF_j (i := (i_lload 3 29)) rfl rfl
theorem eX1_feed_29 {ev : xV} {v0 v1 v2 v3 v4 v5 v6 v7 v8 : Option Value} {w0 w1 w2 w3 w4 w5 w6 w7 w8 : Option Int64} {st : List Value} {h : xH} : exF ev cX1_feed 29 ([v0, v1, v2, v3, v4, v5, v6, v7, v8], [w0, w1, w2, w3, w4, w5, w6, w7, w8]) st h = exF ev cX1_feed 34 ([v0, v1, v2, v3, v4, v5, v6, v7, v8], [w0, w1, w2, w3, w4, w5, w6, w7, w8]) st h := exF_j (i := (i_goto 34)) rfl rfl
theorem eX1_feed_32 {ev : xV} {v0 v1 v2 v3 v4 v5 v6 v7 v8 : Option Value} {w0 w1 w2 w3 w4 w6 w7 w8 : Option Int64} {x : Int64} {st : List Value} {h : xH} : exF ev cX1_feed 32 ([v0, v1, v2, v3, v4, v5, v6, v7, v8], [w0, w1, w2, w3, w4, some x, w6, w7, w8]) st h = exF ev cX1_feed 34 ([v0, v1, v2, v3, v4, v5, v6, v7, v8], [w0, w1, w2, w3, w4, some x, w6, w7, w8]) (.long x :: st) h := exF_j (i := (i_lload 5 34)) rfl rfl
theorem eX1_feed_34 {ev : xV} {v0 v1 v2 v3 v4 v5 v6 v7 v8 : Option Value} {w0 w1 w2 w3 w4 w5 w6 w7 w8 : Option Int64} {st : List Value} {h : xH} : exF ev cX1_feed 34 ([v0, v1, v2, v3, v4, v5, v6, v7, v8], [w0, w1, w2, w3, w4, w5, w6, w7, w8]) st h = exF ev cX1_feed 36 ([v0, v1, v2, v3, v4, v5, v6, v7, v8], [w0, w1, w2, w3, w4, w5, w6, w7, w8]) (.int (nI 56) :: st) h := exF_j (i := (i_const (.int (nI 56)) 36)) rfl rfl
theorem eX1_feed_36 {ev : xV} {v0 v1 v2 v3 v4 v5 v6 v7 v8 : Option Value} {w0 w1 w2 w3 w4 w5 w6 w7 w8 : Option Int64} {st : List Value} {h : xH} : exF ev cX1_feed 36 ([v0, v1, v2, v3, v4, v5, v6, v7, v8], [w0, w1, w2, w3, w4, w5, w6, w7, w8]) st h = exF ev cX1_feed 38 ([v0, v1, v2, v3, v4, v5, v6, v7, v8], [w0, w1, w2, w3, w4, w5, w6, w7, w8]) (.int (nI 8) :: st) h := exF_j (i := (i_const (.int (nI 8)) 38)) rfl rfl
theorem eX1_feed_38 {ev : xV} {v0 v1 v2 v3 v4 v5 v6 v8 : Option Value} {w0 w1 w2 w3 w4 w5 w6 w7 w8 : Option Int64} {x : Int32} {st : List Value} {h : xH} : exF ev cX1_feed 38 ([v0, v1, v2, v3, v4, v5, v6, some (.int x), v8], [w0, w1, w2, w3, w4, w5, w6, w7, w8]) st h = exF ev cX1_feed 40 ([v0, v1, v2, v3, v4, v5, v6, some (.int x), v8], [w0, w1, w2, w3, w4, w5, w6, w7, w8]) (.int x :: st) h := exF_j (i := (i_iload 7 40)) rfl rfl
theorem eX1_feed_40 {ev : xV} {v0 v1 v2 v3 v4 v5 v6 v7 v8 : Option Value} {w0 w1 w2 w3 w4 w5 w6 w7 w8 : Option Int64} {st : List Value} {h : xH} : exF ev cX1_feed 40 ([v0, v1, v2, v3, v4, v5, v6, v7, v8], [w0, w1, w2, w3, w4, w5, w6, w7, w8]) st h = exF ev cX1_feed 42 ([v0, v1, v2, v3, v4, v5, v6, v7, v8], [w0, w1, w2, w3, w4, w5, w6, w7, w8]) (.int (nI 8) :: st) h := exF_j (i := (i_const (.int (nI 8)) 42)) rfl rfl
theorem eX1_feed_42 {ev : xV} {v0 v1 v2 v3 v4 v5 v6 v7 v8 : Option Value} {w0 w1 w2 w3 w4 w5 w6 w7 w8 : Option Int64} {x y : Int32} {st : List Value} {h : xH} : exF ev cX1_feed 42 ([v0, v1, v2, v3, v4, v5, v6, v7, v8], [w0, w1, w2, w3, w4, w5, w6, w7, w8]) (.int y :: .int x :: st) h = xO (if y = 0 then none else some (x - x / y * y)) (fun v => exF ev cX1_feed 43 ([v0, v1, v2, v3, v4, v5, v6, v7, v8], [w0, w1, w2, w3, w4, w5, w6, w7, w8]) (.int v :: st) h) := exF_o (i := (i_iz (fun x y => x - x / y * y) 43)) rfl rfl
theorem eX1_feed_43 {ev : xV} {v0 v1 v2 v3 v4 v5 v6 v7 v8 : Option Value} {w0 w1 w2 w3 w4 w5 w6 w7 w8 : Option Int64} {x y : Int32} {st : List Value} {h : xH} : exF ev cX1_feed 43 ([v0, v1, v2, v3, v4, v5, v6, v7, v8], [w0, w1, w2, w3, w4, w5, w6, w7, w8]) (.int y :: .int x :: st) h = exF ev cX1_feed 44 ([v0, v1, v2, v3, v4, v5, v6, v7, v8], [w0, w1, w2, w3, w4, w5, w6, w7, w8]) (.int (x * y) :: st) h := exF_j (i := (i_ii (fun x y => x * y) 44)) rfl rfl
theorem eX1_feed_44 {ev : xV} {v0 v1 v2 v3 v4 v5 v6 v7 v8 : Option Value} {w0 w1 w2 w3 w4 w5 w6 w7 w8 : Option Int64} {x y : Int32} {st : List Value} {h : xH} : exF ev cX1_feed 44 ([v0, v1, v2, v3, v4, v5, v6, v7, v8], [w0, w1, w2, w3, w4, w5, w6, w7, w8]) (.int y :: .int x :: st) h = exF ev cX1_feed 45 ([v0, v1, v2, v3, v4, v5, v6, v7, v8], [w0, w1, w2, w3, w4, w5, w6, w7, w8]) (.int (x - y) :: st) h := exF_j (i := (i_ii (fun x y => x - y) 45)) rfl rfl
theorem eX1_feed_45 {ev : xV} {v0 v1 v2 v3 v4 v5 v6 v7 v8 : Option Value} {w0 w1 w2 w3 w4 w5 w6 w7 w8 : Option Int64} {x : Int64} {y : Int32} {st : List Value} {h : xH} : exF ev cX1_feed 45 ([v0, v1, v2, v3, v4, v5, v6, v7, v8], [w0, w1, w2, w3, w4, w5, w6, w7, w8]) (.int y :: .long x :: st) h = exF ev cX1_feed 46 ([v0, v1, v2, v3, v4, v5, v6, v7, v8], [w0, w1, w2, w3, w4, w5, w6, w7, w8]) (.long (x >>> (y.toInt64 &&& 63)) :: st) h := exF_j (i := (i_li (fun x y => x >>> (y.toInt64 &&& 63)) 46)) rfl rfl
theorem eX1_feed_46 {ev : xV} {v0 v1 v2 v3 v4 v5 v6 v7 v8 : Option Value} {w0 w1 w2 w3 w4 w5 w6 w7 w8 : Option Int64} {x : Int64} {st : List Value} {h : xH} : exF ev cX1_feed 46 ([v0, v1, v2, v3, v4, v5, v6, v7, v8], [w0, w1, w2, w3, w4, w5, w6, w7, w8]) (.long x :: st) h = exF ev cX1_feed 47 ([v0, v1, v2, v3, v4, v5, v6, v7, v8], [w0, w1, w2, w3, w4, w5, w6, w7, w8]) (.int x.toInt32 :: st) h := exF_j (i := (i_l2i 47)) rfl rfl
theorem eX1_feed_47 {ev : xV} {v0 v1 v2 v3 v4 v5 v6 v7 v8 : Option Value} {w0 w1 w2 w3 w4 w5 w6 w7 w8 : Option Int64} {st : List Value} {h : xH} : exF ev cX1_feed 47 ([v0, v1, v2, v3, v4, v5, v6, v7, v8], [w0, w1, w2, w3, w4, w5, w6, w7, w8]) st h = exF ev cX1_feed 50 ([v0, v1, v2, v3, v4, v5, v6, v7, v8], [w0, w1, w2, w3, w4, w5, w6, w7, w8]) (.int (nI 255) :: st) h := exF_j (i := (i_const (.int (nI 255)) 50)) rfl rfl
theorem eX1_feed_50 {ev : xV} {v0 v1 v2 v3 v4 v5 v6 v7 v8 : Option Value} {w0 w1 w2 w3 w4 w5 w6 w7 w8 : Option Int64} {x y : Int32} {st : List Value} {h : xH} : exF ev cX1_feed 50 ([v0, v1, v2, v3, v4, v5, v6, v7, v8], [w0, w1, w2, w3, w4, w5, w6, w7, w8]) (.int y :: .int x :: st) h = exF ev cX1_feed 51 ([v0, v1, v2, v3, v4, v5, v6, v7, v8], [w0, w1, w2, w3, w4, w5, w6, w7, w8]) (.int (x &&& y) :: st) h := exF_j (i := (i_ii (fun x y => x &&& y) 51)) rfl rfl
theorem eX1_feed_51 {ev : xV} {v0 v1 v2 v3 v4 v5 v6 v7 v8 : Option Value} {w0 w1 w2 w3 w4 w5 w6 w7 w8 : Option Int64} {x : Int32} {st : List Value} {h : xH} : exF ev cX1_feed 51 ([v0, v1, v2, v3, v4, v5, v6, v7, v8], [w0, w1, w2, w3, w4, w5, w6, w7, w8]) (.int x :: st) h = exF ev cX1_feed 53 ([v0, v1, v2, v3, v4, v5, v6, v7, some (.int x)], [w0, w1, w2, w3, w4, w5, w6, none, none]) st h := exF_j (i := (i_istore 8 53)) rfl rfl
theorem eX1_feed_53 {ev : xV} {v0 v1 v2 v3 v4 v5 v6 v7 : Option Value} {w0 w1 w2 w3 w4 w5 w6 w7 w8 : Option Int64} {x : Int32} {st : List Value} {h : xH} : exF ev cX1_feed 53 ([v0, v1, v2, v3, v4, v5, v6, v7, some (.int x)], [w0, w1, w2, w3, w4, w5, w6, w7, w8]) st h = exF ev cX1_feed 55 ([v0, v1, v2, v3, v4, v5, v6, v7, some (.int x)], [w0, w1, w2, w3, w4, w5, w6, w7, w8]) (.int x :: st) h := exF_j (i := (i_iload 8 55)) rfl rfl
theorem eX1_feed_55 {ev : xV} {v0 v1 v2 v3 v4 v5 v6 v7 v8 : Option Value} {w0 w1 w2 w3 w4 w5 w6 w7 w8 : Option Int64} {st : List Value} {h : xH} : exF ev cX1_feed 55 ([v0, v1, v2, v3, v4, v5, v6, v7, v8], [w0, w1, w2, w3, w4, w5, w6, w7, w8]) st h = exF ev cX1_feed 57 ([v0, v1, v2, v3, v4, v5, v6, v7, v8], [w0, w1, w2, w3, w4, w5, w6, w7, w8]) (.int (nI 10) :: st) h := exF_j (i := (i_const (.int (nI 10)) 57)) rfl rfl
theorem eX1_feed_57 {ev : xV} {v0 v1 v2 v3 v4 v5 v6 v7 v8 : Option Value} {w0 w1 w2 w3 w4 w5 w6 w7 w8 : Option Int64} {x y : Int32} {st : List Value} {h : xH} : exF ev cX1_feed 57 ([v0, v1, v2, v3, v4, v5, v6, v7, v8], [w0, w1, w2, w3, w4, w5, w6, w7, w8]) (.int y :: .int x :: st) h = if x = y then exF ev cX1_feed 74 ([v0, v1, v2, v3, v4, v5, v6, v7, v8], [w0, w1, w2, w3, w4, w5, w6, w7, w8]) st h else exF ev cX1_feed 60 ([v0, v1, v2, v3, v4, v5, v6, v7, v8], [w0, w1, w2, w3, w4, w5, w6, w7, w8]) st h := exF_b (i := (i_if2 (fun x y => x = y) 74 60)) rfl rfl
theorem eX1_feed_60 {ev : xV} {v0 v1 v2 v3 v4 v5 v6 v7 : Option Value} {w0 w1 w2 w3 w4 w5 w6 w7 w8 : Option Int64} {x : Int32} {st : List Value} {h : xH} : exF ev cX1_feed 60 ([v0, v1, v2, v3, v4, v5, v6, v7, some (.int x)], [w0, w1, w2, w3, w4, w5, w6, w7, w8]) st h = exF ev cX1_feed 62 ([v0, v1, v2, v3, v4, v5, v6, v7, some (.int x)], [w0, w1, w2, w3, w4, w5, w6, w7, w8]) (.int x :: st) h := exF_j (i := (i_iload 8 62)) rfl rfl
theorem eX1_feed_62 {ev : xV} {v0 v1 v2 v3 v4 v5 v6 v7 v8 : Option Value} {w0 w1 w2 w3 w4 w5 w6 w7 w8 : Option Int64} {st : List Value} {h : xH} : exF ev cX1_feed 62 ([v0, v1, v2, v3, v4, v5, v6, v7, v8], [w0, w1, w2, w3, w4, w5, w6, w7, w8]) st h = exF ev cX1_feed 64 ([v0, v1, v2, v3, v4, v5, v6, v7, v8], [w0, w1, w2, w3, w4, w5, w6, w7, w8]) (.int (nI 32) :: st) h := exF_j (i := (i_const (.int (nI 32)) 64)) rfl rfl
theorem eX1_feed_64 {ev : xV} {v0 v1 v2 v3 v4 v5 v6 v7 v8 : Option Value} {w0 w1 w2 w3 w4 w5 w6 w7 w8 : Option Int64} {x y : Int32} {st : List Value} {h : xH} : exF ev cX1_feed 64 ([v0, v1, v2, v3, v4, v5, v6, v7, v8], [w0, w1, w2, w3, w4, w5, w6, w7, w8]) (.int y :: .int x :: st) h = if x < y then exF ev cX1_feed 103 ([v0, v1, v2, v3, v4, v5, v6, v7, v8], [w0, w1, w2, w3, w4, w5, w6, w7, w8]) st h else exF ev cX1_feed 67 ([v0, v1, v2, v3, v4, v5, v6, v7, v8], [w0, w1, w2, w3, w4, w5, w6, w7, w8]) st h := exF_b (i := (i_if2 (fun x y => x < y) 103 67)) rfl rfl
theorem eX1_feed_67 {ev : xV} {v0 v1 v2 v3 v4 v5 v6 v7 : Option Value} {w0 w1 w2 w3 w4 w5 w6 w7 w8 : Option Int64} {x : Int32} {st : List Value} {h : xH} : exF ev cX1_feed 67 ([v0, v1, v2, v3, v4, v5, v6, v7, some (.int x)], [w0, w1, w2, w3, w4, w5, w6, w7, w8]) st h = exF ev cX1_feed 69 ([v0, v1, v2, v3, v4, v5, v6, v7, some (.int x)], [w0, w1, w2, w3, w4, w5, w6, w7, w8]) (.int x :: st) h := exF_j (i := (i_iload 8 69)) rfl rfl
theorem eX1_feed_69 {ev : xV} {v0 v1 v2 v3 v4 v5 v6 v7 v8 : Option Value} {w0 w1 w2 w3 w4 w5 w6 w7 w8 : Option Int64} {st : List Value} {h : xH} : exF ev cX1_feed 69 ([v0, v1, v2, v3, v4, v5, v6, v7, v8], [w0, w1, w2, w3, w4, w5, w6, w7, w8]) st h = exF ev cX1_feed 71 ([v0, v1, v2, v3, v4, v5, v6, v7, v8], [w0, w1, w2, w3, w4, w5, w6, w7, w8]) (.int (nI 126) :: st) h := exF_j (i := (i_const (.int (nI 126)) 71)) rfl rfl
theorem eX1_feed_71 {ev : xV} {v0 v1 v2 v3 v4 v5 v6 v7 v8 : Option Value} {w0 w1 w2 w3 w4 w5 w6 w7 w8 : Option Int64} {x y : Int32} {st : List Value} {h : xH} : exF ev cX1_feed 71 ([v0, v1, v2, v3, v4, v5, v6, v7, v8], [w0, w1, w2, w3, w4, w5, w6, w7, w8]) (.int y :: .int x :: st) h = if y < x then exF ev cX1_feed 103 ([v0, v1, v2, v3, v4, v5, v6, v7, v8], [w0, w1, w2, w3, w4, w5, w6, w7, w8]) st h else exF ev cX1_feed 74 ([v0, v1, v2, v3, v4, v5, v6, v7, v8], [w0, w1, w2, w3, w4, w5, w6, w7, w8]) st h := exF_b (i := (i_if2 (fun x y => y < x) 103 74)) rfl rfl
theorem eX1_feed_74 {ev : xV} {v1 v2 v3 v4 v5 v6 v7 v8 : Option Value} {w0 w1 w2 w3 w4 w5 w6 w7 w8 : Option Int64} {x : Nat} {st : List Value} {h : xH} : exF ev cX1_feed 74 ([some (.ref x), v1, v2, v3, v4, v5, v6, v7, v8], [w0, w1, w2, w3, w4, w5, w6, w7, w8]) st h = exF ev cX1_feed 75 ([some (.ref x), v1, v2, v3, v4, v5, v6, v7, v8], [w0, w1, w2, w3, w4, w5, w6, w7, w8]) (.ref x :: st) h := exF_j (i := (i_aload 0 75)) rfl rfl
theorem eX1_feed_75 {ev : xV} {v0 v1 v2 v3 v4 v5 v6 v7 v8 : Option Value} {w0 w1 w2 w3 w4 w5 w6 w7 w8 : Option Int64} {a : Nat} {st : List Value} {h : xH} : exF ev cX1_feed 75 ([v0, v1, v2, v3, v4, v5, v6, v7, v8], [w0, w1, w2, w3, w4, w5, w6, w7, w8]) (.ref a :: st) h = xO (xgf h a 0 7) (fun v => exF ev cX1_feed 78 ([v0, v1, v2, v3, v4, v5, v6, v7, v8], [w0, w1, w2, w3, w4, w5, w6, w7, w8]) (v :: st) h) := exF_o (i := (i_getf 0 7 78)) rfl rfl
theorem eX1_feed_78 {ev : xV} {v0 v1 v2 v3 v4 v5 v6 v7 v8 : Option Value} {w0 w1 w2 w3 w4 w5 w6 w7 w8 : Option Int64} {st : List Value} {h : xH} : exF ev cX1_feed 78 ([v0, v1, v2, v3, v4, v5, v6, v7, v8], [w0, w1, w2, w3, w4, w5, w6, w7, w8]) st h = exF ev cX1_feed 81 ([v0, v1, v2, v3, v4, v5, v6, v7, v8], [w0, w1, w2, w3, w4, w5, w6, w7, w8]) (.int (nI 1000) :: st) h := exF_j (i := (i_const (.int (nI 1000)) 81)) rfl rfl
theorem eX1_feed_81 {ev : xV} {v0 v1 v2 v3 v4 v5 v6 v7 v8 : Option Value} {w0 w1 w2 w3 w4 w5 w6 w7 w8 : Option Int64} {x y : Int32} {st : List Value} {h : xH} : exF ev cX1_feed 81 ([v0, v1, v2, v3, v4, v5, v6, v7, v8], [w0, w1, w2, w3, w4, w5, w6, w7, w8]) (.int y :: .int x :: st) h = if y ≤ x then exF ev cX1_feed 103 ([v0, v1, v2, v3, v4, v5, v6, v7, v8], [w0, w1, w2, w3, w4, w5, w6, w7, w8]) st h else exF ev cX1_feed 84 ([v0, v1, v2, v3, v4, v5, v6, v7, v8], [w0, w1, w2, w3, w4, w5, w6, w7, w8]) st h := exF_b (i := (i_if2 (fun x y => y ≤ x) 103 84)) rfl rfl
theorem eX1_feed_84 {ev : xV} {v1 v2 v3 v4 v5 v6 v7 v8 : Option Value} {w0 w1 w2 w3 w4 w5 w6 w7 w8 : Option Int64} {x : Nat} {st : List Value} {h : xH} : exF ev cX1_feed 84 ([some (.ref x), v1, v2, v3, v4, v5, v6, v7, v8], [w0, w1, w2, w3, w4, w5, w6, w7, w8]) st h = exF ev cX1_feed 85 ([some (.ref x), v1, v2, v3, v4, v5, v6, v7, v8], [w0, w1, w2, w3, w4, w5, w6, w7, w8]) (.ref x :: st) h := exF_j (i := (i_aload 0 85)) rfl rfl
theorem eX1_feed_85 {ev : xV} {v0 v1 v2 v3 v4 v5 v6 v7 v8 : Option Value} {w0 w1 w2 w3 w4 w5 w6 w7 w8 : Option Int64} {a : Nat} {st : List Value} {h : xH} : exF ev cX1_feed 85 ([v0, v1, v2, v3, v4, v5, v6, v7, v8], [w0, w1, w2, w3, w4, w5, w6, w7, w8]) (.ref a :: st) h = xO (xgf h a 0 0) (fun v => exF ev cX1_feed 88 ([v0, v1, v2, v3, v4, v5, v6, v7, v8], [w0, w1, w2, w3, w4, w5, w6, w7, w8]) (v :: st) h) := exF_o (i := (i_getf 0 0 88)) rfl rfl
theorem eX1_feed_88 {ev : xV} {v1 v2 v3 v4 v5 v6 v7 v8 : Option Value} {w0 w1 w2 w3 w4 w5 w6 w7 w8 : Option Int64} {x : Nat} {st : List Value} {h : xH} : exF ev cX1_feed 88 ([some (.ref x), v1, v2, v3, v4, v5, v6, v7, v8], [w0, w1, w2, w3, w4, w5, w6, w7, w8]) st h = exF ev cX1_feed 89 ([some (.ref x), v1, v2, v3, v4, v5, v6, v7, v8], [w0, w1, w2, w3, w4, w5, w6, w7, w8]) (.ref x :: st) h := exF_j (i := (i_aload 0 89)) rfl rfl
theorem eX1_feed_89 {ev : xV} {v0 v1 v2 v3 v4 v5 v6 v7 v8 : Option Value} {w0 w1 w2 w3 w4 w5 w6 w7 w8 : Option Int64} {x : Nat} {st : List Value} {h : xH} : exF ev cX1_feed 89 ([v0, v1, v2, v3, v4, v5, v6, v7, v8], [w0, w1, w2, w3, w4, w5, w6, w7, w8]) (.ref x :: st) h = exF ev cX1_feed 90 ([v0, v1, v2, v3, v4, v5, v6, v7, v8], [w0, w1, w2, w3, w4, w5, w6, w7, w8]) (.ref x :: .ref x :: st) h := exF_j (i := (i_dup 90)) rfl rfl
theorem eX1_feed_90 {ev : xV} {v0 v1 v2 v3 v4 v5 v6 v7 v8 : Option Value} {w0 w1 w2 w3 w4 w5 w6 w7 w8 : Option Int64} {a : Nat} {st : List Value} {h : xH} : exF ev cX1_feed 90 ([v0, v1, v2, v3, v4, v5, v6, v7, v8], [w0, w1, w2, w3, w4, w5, w6, w7, w8]) (.ref a :: st) h = xO (xgf h a 0 7) (fun v => exF ev cX1_feed 93 ([v0, v1, v2, v3, v4, v5, v6, v7, v8], [w0, w1, w2, w3, w4, w5, w6, w7, w8]) (v :: st) h) := exF_o (i := (i_getf 0 7 93)) rfl rfl
theorem eX1_feed_93 {ev : xV} {v0 v1 v2 v3 v4 v5 v6 v7 v8 : Option Value} {w0 w1 w2 w3 w4 w5 w6 w7 w8 : Option Int64} {x : Int32} {y : Nat} {st : List Value} {h : xH} : exF ev cX1_feed 93 ([v0, v1, v2, v3, v4, v5, v6, v7, v8], [w0, w1, w2, w3, w4, w5, w6, w7, w8]) (.int x :: .ref y :: st) h = exF ev cX1_feed 94 ([v0, v1, v2, v3, v4, v5, v6, v7, v8], [w0, w1, w2, w3, w4, w5, w6, w7, w8]) (.int x :: .ref y :: .int x :: st) h := exF_j (i := (i_dup_x1 94)) rfl rfl
theorem eX1_feed_94 {ev : xV} {v0 v1 v2 v3 v4 v5 v6 v7 v8 : Option Value} {w0 w1 w2 w3 w4 w5 w6 w7 w8 : Option Int64} {st : List Value} {h : xH} : exF ev cX1_feed 94 ([v0, v1, v2, v3, v4, v5, v6, v7, v8], [w0, w1, w2, w3, w4, w5, w6, w7, w8]) st h = exF ev cX1_feed 95 ([v0, v1, v2, v3, v4, v5, v6, v7, v8], [w0, w1, w2, w3, w4, w5, w6, w7, w8]) (.int (nI 1) :: st) h := exF_j (i := (i_const (.int (nI 1)) 95)) rfl rfl
theorem eX1_feed_95 {ev : xV} {v0 v1 v2 v3 v4 v5 v6 v7 v8 : Option Value} {w0 w1 w2 w3 w4 w5 w6 w7 w8 : Option Int64} {x y : Int32} {st : List Value} {h : xH} : exF ev cX1_feed 95 ([v0, v1, v2, v3, v4, v5, v6, v7, v8], [w0, w1, w2, w3, w4, w5, w6, w7, w8]) (.int y :: .int x :: st) h = exF ev cX1_feed 96 ([v0, v1, v2, v3, v4, v5, v6, v7, v8], [w0, w1, w2, w3, w4, w5, w6, w7, w8]) (.int (x + y) :: st) h := exF_j (i := (i_ii (fun x y => x + y) 96)) rfl rfl
theorem eX1_feed_96 {ev : xV} {v0 v1 v2 v3 v4 v5 v6 v7 v8 : Option Value} {w0 w1 w2 w3 w4 w5 w6 w7 w8 : Option Int64} {x : Int32} {a : Nat} {st : List Value} {h : xH} : exF ev cX1_feed 96 ([v0, v1, v2, v3, v4, v5, v6, v7, v8], [w0, w1, w2, w3, w4, w5, w6, w7, w8]) (.int x :: .ref a :: st) h = xO (xpf h a 0 7 (.int x)) (fun h => exF ev cX1_feed 99 ([v0, v1, v2, v3, v4, v5, v6, v7, v8], [w0, w1, w2, w3, w4, w5, w6, w7, w8]) st h) := exF_o (i := (i_putfi 0 7 99)) rfl rfl
theorem eX1_feed_99 {ev : xV} {v0 v1 v2 v3 v4 v5 v6 v7 : Option Value} {w0 w1 w2 w3 w4 w5 w6 w7 w8 : Option Int64} {x : Int32} {st : List Value} {h : xH} : exF ev cX1_feed 99 ([v0, v1, v2, v3, v4, v5, v6, v7, some (.int x)], [w0, w1, w2, w3, w4, w5, w6, w7, w8]) st h = exF ev cX1_feed 101 ([v0, v1, v2, v3, v4, v5, v6, v7, some (.int x)], [w0, w1, w2, w3, w4, w5, w6, w7, w8]) (.int x :: st) h := exF_j (i := (i_iload 8 101)) rfl rfl
theorem eX1_feed_101 {ev : xV} {v0 v1 v2 v3 v4 v5 v6 v7 v8 : Option Value} {w0 w1 w2 w3 w4 w5 w6 w7 w8 : Option Int64} {x : Int32} {st : List Value} {h : xH} : exF ev cX1_feed 101 ([v0, v1, v2, v3, v4, v5, v6, v7, v8], [w0, w1, w2, w3, w4, w5, w6, w7, w8]) (.int x :: st) h = exF ev cX1_feed 102 ([v0, v1, v2, v3, v4, v5, v6, v7, v8], [w0, w1, w2, w3, w4, w5, w6, w7, w8]) (.int (x.toInt8.toInt32) :: st) h := exF_j (i := (i_i1 (fun x => x.toInt8.toInt32) 102)) rfl rfl
theorem eX1_feed_102 {ev : xV} {v0 v1 v2 v3 v4 v5 v6 v7 v8 : Option Value} {w0 w1 w2 w3 w4 w5 w6 w7 w8 : Option Int64} {v i : Int32} {a : Nat} {st : List Value} {h : xH} : exF ev cX1_feed 102 ([v0, v1, v2, v3, v4, v5, v6, v7, v8], [w0, w1, w2, w3, w4, w5, w6, w7, w8]) (.int v :: .int i :: .ref a :: st) h = xO (xsi h 1 a i (vp_nar .byte v)) (fun h => exF ev cX1_feed 103 ([v0, v1, v2, v3, v4, v5, v6, v7, v8], [w0, w1, w2, w3, w4, w5, w6, w7, w8]) st h) := exF_o (i := (i_si (fun v => vp_nar .byte v) 1 103)) rfl rfl
theorem eX1_feed_103 {ev : xV} {v0 v1 v2 v3 v4 v5 v6 v8 : Option Value} {w0 w1 w2 w3 w4 w5 w6 w7 w8 : Option Int64} {x : Int32} {st : List Value} {h : xH} : exF ev cX1_feed 103 ([v0, v1, v2, v3, v4, v5, v6, some (.int x), v8], [w0, w1, w2, w3, w4, w5, w6, w7, w8]) st h = exF ev cX1_feed 106 ([v0, v1, v2, v3, v4, v5, v6, some (.int (x + (nI 1))), v8], [w0, w1, w2, w3, w4, w5, none, none, w8]) st h := exF_j (i := (i_iinc 7 (nI 1) 106)) rfl rfl
theorem eX1_feed_106 {ev : xV} {v0 v1 v2 v3 v4 v5 v6 v7 v8 : Option Value} {w0 w1 w2 w3 w4 w5 w6 w7 w8 : Option Int64} {st : List Value} {h : xH} : exF ev cX1_feed 106 ([v0, v1, v2, v3, v4, v5, v6, v7, v8], [w0, w1, w2, w3, w4, w5, w6, w7, w8]) st h = exF ev cX1_feed 3 ([v0, v1, v2, v3, v4, v5, v6, v7, v8], [w0, w1, w2, w3, w4, w5, w6, w7, w8]) st h := exF_j (i := (i_goto 3)) rfl rfl
theorem eX1_feed_109 {ev : xV} {v1 v2 v3 v4 v5 v6 v7 v8 : Option Value} {w0 w1 w2 w3 w4 w5 w6 w7 w8 : Option Int64} {x : Nat} {st : List Value} {h : xH} : exF ev cX1_feed 109 ([some (.ref x), v1, v2, v3, v4, v5, v6, v7, v8], [w0, w1, w2, w3, w4, w5, w6, w7, w8]) st h = exF ev cX1_feed 110 ([some (.ref x), v1, v2, v3, v4, v5, v6, v7, v8], [w0, w1, w2, w3, w4, w5, w6, w7, w8]) (.ref x :: st) h := exF_j (i := (i_aload 0 110)) rfl rfl
theorem eX1_feed_110 {ev : xV} {v0 v1 v2 v3 v4 v5 v6 v7 v8 : Option Value} {w0 w1 w2 w3 w4 w5 w6 w7 w8 : Option Int64} {a : Nat} {st : List Value} {h : xH} : exF ev cX1_feed 110 ([v0, v1, v2, v3, v4, v5, v6, v7, v8], [w0, w1, w2, w3, w4, w5, w6, w7, w8]) (.ref a :: st) h = xO (xgf h a 0 7) (fun v => exF ev cX1_feed 113 ([v0, v1, v2, v3, v4, v5, v6, v7, v8], [w0, w1, w2, w3, w4, w5, w6, w7, w8]) (v :: st) h) := exF_o (i := (i_getf 0 7 113)) rfl rfl
theorem eX1_feed_113 {ev : xV} {v0 v1 v2 v3 v4 v5 v6 v7 v8 : Option Value} {w0 w1 w2 w3 w4 w5 w6 w7 w8 : Option Int64} {x : Int32} {h : xH} : exF ev cX1_feed 113 ([v0, v1, v2, v3, v4, v5, v6, v7, v8], [w0, w1, w2, w3, w4, w5, w6, w7, w8]) [.int x] h = some (.inl (some (.int x)), h) := exF_r (i := (i_iret)) rfl rfl
noncomputable def cX1_house : xC := [(0, i_aload 0 1),
  (1, i_cvv 0 91 0 4),
  (4, i_aload 0 5),
  (5, i_aload 0 6),
  (6, i_getf 0 1 9),
  (9, i_cvh [5] 18 1 199 0 12),
  (12, i_putfr 0 2 15),
  (15, i_goto 24),
  (18, i_astore 1 19),
  (19, i_aload 1 20),
  (20, i_getf 5 6 23),
  (23, i_iret),
  (24, i_aload 0 25),
  (25, i_getf 0 4 28),
  (28, i_aload 0 29),
  (29, i_getf 0 2 32),
  (32, i_cvv 3 237 1 35),
  (35, i_aload 0 36),
  (36, i_new 21 3 zJ2 39),
  (39, i_dup 40),
  (40, i_const (.int (nI 0)) 41),
  (41, i_ci [21] 31 1 44),
  (44, i_putfr 0 3 47),
  (47, i_aload 0 48),
  (48, i_const (.int (nI 0)) 49),
  (49, i_putfi 0 15 52),
  (52, i_aload 0 53),
  (53, i_const (.int (nI 0)) 54),
  (54, i_putfi 0 19 57),
  (57, i_aload 0 58),
  (58, i_const (.int (nI 0)) 59),
  (59, i_putfi 0 9 62),
  (62, i_const (.int (nI 0)) 63),
  (63, i_istore 1 64),
  (64, i_iload 1 65),
  (65, i_const (.int (nI 4)) 66),
  (66, i_if2 (fun x y => y ≤ x) 82 69),
  (69, i_aload 0 70),
  (70, i_getf 0 21 73),
  (73, i_iload 1 74),
  (74, i_const .null 75),
  (75, i_sq [20] 7 76),
  (76, i_iinc 1 (nI 1) 79),
  (79, i_goto 64),
  (82, i_const (.int (nI 0)) 83),
  (83, i_iret)]
theorem eX1_house_0 {ev : xV} {v1 : Option Value} {x : Nat} {st : List Value} {h : xH} : exF ev cX1_house 0 ([some (.ref x), v1], []) st h = exF ev cX1_house 1 ([some (.ref x), v1], []) (.ref x :: st) h := exF_j (i := (i_aload 0 1)) rfl rfl
theorem eX1_house_1 {ev : xV} {v0 v1 : Option Value} {a : Nat} {h : xH} : exF ev cX1_house 1 ([v0, v1], []) [.ref a] h = xO (xck h a 0) (fun _ => xBv (ev 91 [.ref a] h) (fun h => exF ev cX1_house 4 ([v0, v1], []) [] h)) := exF_cdv (i := (i_cvv 0 91 0 4)) rfl rfl
theorem eX1_house_4 {ev : xV} {v1 : Option Value} {x : Nat} {st : List Value} {h : xH} : exF ev cX1_house 4 ([some (.ref x), v1], []) st h = exF ev cX1_house 5 ([some (.ref x), v1], []) (.ref x :: st) h := exF_j (i := (i_aload 0 5)) rfl rfl
theorem eX1_house_5 {ev : xV} {v1 : Option Value} {x : Nat} {st : List Value} {h : xH} : exF ev cX1_house 5 ([some (.ref x), v1], []) st h = exF ev cX1_house 6 ([some (.ref x), v1], []) (.ref x :: st) h := exF_j (i := (i_aload 0 6)) rfl rfl
theorem eX1_house_6 {ev : xV} {v0 v1 : Option Value} {a : Nat} {st : List Value} {h : xH} : exF ev cX1_house 6 ([v0, v1], []) (.ref a :: st) h = xO (xgf h a 0 1) (fun v => exF ev cX1_house 9 ([v0, v1], []) (v :: st) h) := exF_o (i := (i_getf 0 1 9)) rfl rfl
theorem eX1_house_9 {ev : xV} {v0 v1 : Option Value} {r0 : Value} {a : Nat} {h : xH} : exF ev cX1_house 9 ([v0, v1], []) [.ref a, r0] h = xO (xck h a 1) (fun _ => xBk (ev 199 [.ref a] h) [5] (fun v h => exF ev cX1_house 12 ([v0, v1], []) [v, r0] h) (fun q h => exF ev cX1_house 18 ([v0, v1], []) [.ref q] h)) := exF_ch (i := (i_cvh [5] 18 1 199 0 12)) rfl rfl
theorem eX1_house_12 {ev : xV} {v0 v1 : Option Value} {x a : Nat} {st : List Value} {h : xH} : exF ev cX1_house 12 ([v0, v1], []) (.ref x :: .ref a :: st) h = xO (xpf h a 0 2 (.ref x)) (fun h => exF ev cX1_house 15 ([v0, v1], []) st h) := exF_o (i := (i_putfr 0 2 15)) rfl rfl
theorem eX1_house_12n {ev : xV} {v0 v1 : Option Value} {a : Nat} {st : List Value} {h : xH} : exF ev cX1_house 12 ([v0, v1], []) (.null :: .ref a :: st) h = xO (xpf h a 0 2 .null) (fun h => exF ev cX1_house 15 ([v0, v1], []) st h) := exF_o (i := (i_putfr 0 2 15)) rfl rfl
theorem eX1_house_15 {ev : xV} {v0 v1 : Option Value} {st : List Value} {h : xH} : exF ev cX1_house 15 ([v0, v1], []) st h = exF ev cX1_house 24 ([v0, v1], []) st h := exF_j (i := (i_goto 24)) rfl rfl
theorem eX1_house_18 {ev : xV} {v0 v1 : Option Value} {x : Nat} {st : List Value} {h : xH} : exF ev cX1_house 18 ([v0, v1], []) (.ref x :: st) h = exF ev cX1_house 19 ([v0, some (.ref x)], []) st h := exF_j (i := (i_astore 1 19)) rfl rfl
theorem eX1_house_18n {ev : xV} {v0 v1 : Option Value} {st : List Value} {h : xH} : exF ev cX1_house 18 ([v0, v1], []) (.null :: st) h = exF ev cX1_house 19 ([v0, some .null], []) st h := exF_j (i := (i_astore 1 19)) rfl rfl
theorem eX1_house_19 {ev : xV} {v0 : Option Value} {x : Nat} {st : List Value} {h : xH} : exF ev cX1_house 19 ([v0, some (.ref x)], []) st h = exF ev cX1_house 20 ([v0, some (.ref x)], []) (.ref x :: st) h := exF_j (i := (i_aload 1 20)) rfl rfl
theorem eX1_house_19n {ev : xV} {v0 : Option Value} {st : List Value} {h : xH} : exF ev cX1_house 19 ([v0, some .null], []) st h = exF ev cX1_house 20 ([v0, some .null], []) (.null :: st) h := exF_j (i := (i_aload 1 20)) rfl rfl
theorem eX1_house_20 {ev : xV} {v0 v1 : Option Value} {a : Nat} {st : List Value} {h : xH} : exF ev cX1_house 20 ([v0, v1], []) (.ref a :: st) h = xO (xgf h a 5 6) (fun v => exF ev cX1_house 23 ([v0, v1], []) (v :: st) h) := exF_o (i := (i_getf 5 6 23)) rfl rfl
theorem eX1_house_23 {ev : xV} {v0 v1 : Option Value} {x : Int32} {h : xH} : exF ev cX1_house 23 ([v0, v1], []) [.int x] h = some (.inl (some (.int x)), h) := exF_r (i := (i_iret)) rfl rfl
theorem eX1_house_24 {ev : xV} {v1 : Option Value} {x : Nat} {st : List Value} {h : xH} : exF ev cX1_house 24 ([some (.ref x), v1], []) st h = exF ev cX1_house 25 ([some (.ref x), v1], []) (.ref x :: st) h := exF_j (i := (i_aload 0 25)) rfl rfl
theorem eX1_house_25 {ev : xV} {v0 v1 : Option Value} {a : Nat} {st : List Value} {h : xH} : exF ev cX1_house 25 ([v0, v1], []) (.ref a :: st) h = xO (xgf h a 0 4) (fun v => exF ev cX1_house 28 ([v0, v1], []) (v :: st) h) := exF_o (i := (i_getf 0 4 28)) rfl rfl
theorem eX1_house_28 {ev : xV} {v1 : Option Value} {x : Nat} {st : List Value} {h : xH} : exF ev cX1_house 28 ([some (.ref x), v1], []) st h = exF ev cX1_house 29 ([some (.ref x), v1], []) (.ref x :: st) h := exF_j (i := (i_aload 0 29)) rfl rfl
theorem eX1_house_29 {ev : xV} {v0 v1 : Option Value} {a : Nat} {st : List Value} {h : xH} : exF ev cX1_house 29 ([v0, v1], []) (.ref a :: st) h = xO (xgf h a 0 2) (fun v => exF ev cX1_house 32 ([v0, v1], []) (v :: st) h) := exF_o (i := (i_getf 0 2 32)) rfl rfl
theorem eX1_house_32 {ev : xV} {v0 v1 : Option Value} {a0 : Value} {a : Nat} {h : xH} : exF ev cX1_house 32 ([v0, v1], []) [a0, .ref a] h = xO (xck h a 3) (fun _ => xBv (ev 237 [.ref a, a0] h) (fun h => exF ev cX1_house 35 ([v0, v1], []) [] h)) := exF_cdv (i := (i_cvv 3 237 1 35)) rfl rfl
theorem eX1_house_35 {ev : xV} {v1 : Option Value} {x : Nat} {st : List Value} {h : xH} : exF ev cX1_house 35 ([some (.ref x), v1], []) st h = exF ev cX1_house 36 ([some (.ref x), v1], []) (.ref x :: st) h := exF_j (i := (i_aload 0 36)) rfl rfl
theorem eX1_house_36 {ev : xV} {v0 v1 : Option Value} {st : List Value} {h : xH} : exF ev cX1_house 36 ([v0, v1], []) st h = exF ev cX1_house 39 ([v0, v1], []) (.ref h.2.1 :: st) (xnew h (.inr (21, zJ2)) 3) := exF_j (i := (i_new 21 3 zJ2 39)) rfl rfl
theorem eX1_house_39 {ev : xV} {v0 v1 : Option Value} {x : Nat} {st : List Value} {h : xH} : exF ev cX1_house 39 ([v0, v1], []) (.ref x :: st) h = exF ev cX1_house 40 ([v0, v1], []) (.ref x :: .ref x :: st) h := exF_j (i := (i_dup 40)) rfl rfl
theorem eX1_house_40 {ev : xV} {v0 v1 : Option Value} {st : List Value} {h : xH} : exF ev cX1_house 40 ([v0, v1], []) st h = exF ev cX1_house 41 ([v0, v1], []) (.int (nI 0) :: st) h := exF_j (i := (i_const (.int (nI 0)) 41)) rfl rfl
theorem eX1_house_41 {ev : xV} {v0 v1 : Option Value} {a0 : Value} {r0 : Value} {r1 : Value} {a : Nat} {h : xH} : exF ev cX1_house 41 ([v0, v1], []) [a0, .ref a, r0, r1] h = xO (xckc h [21] a) (fun _ => xBv (ev 31 [.ref a, a0] h) (fun h => exF ev cX1_house 44 ([v0, v1], []) [r0, r1] h)) := exF_cdv (i := (i_ci [21] 31 1 44)) rfl rfl
theorem eX1_house_44 {ev : xV} {v0 v1 : Option Value} {x a : Nat} {st : List Value} {h : xH} : exF ev cX1_house 44 ([v0, v1], []) (.ref x :: .ref a :: st) h = xO (xpf h a 0 3 (.ref x)) (fun h => exF ev cX1_house 47 ([v0, v1], []) st h) := exF_o (i := (i_putfr 0 3 47)) rfl rfl
theorem eX1_house_44n {ev : xV} {v0 v1 : Option Value} {a : Nat} {st : List Value} {h : xH} : exF ev cX1_house 44 ([v0, v1], []) (.null :: .ref a :: st) h = xO (xpf h a 0 3 .null) (fun h => exF ev cX1_house 47 ([v0, v1], []) st h) := exF_o (i := (i_putfr 0 3 47)) rfl rfl
theorem eX1_house_47 {ev : xV} {v1 : Option Value} {x : Nat} {st : List Value} {h : xH} : exF ev cX1_house 47 ([some (.ref x), v1], []) st h = exF ev cX1_house 48 ([some (.ref x), v1], []) (.ref x :: st) h := exF_j (i := (i_aload 0 48)) rfl rfl
theorem eX1_house_48 {ev : xV} {v0 v1 : Option Value} {st : List Value} {h : xH} : exF ev cX1_house 48 ([v0, v1], []) st h = exF ev cX1_house 49 ([v0, v1], []) (.int (nI 0) :: st) h := exF_j (i := (i_const (.int (nI 0)) 49)) rfl rfl
theorem eX1_house_49 {ev : xV} {v0 v1 : Option Value} {x : Int32} {a : Nat} {st : List Value} {h : xH} : exF ev cX1_house 49 ([v0, v1], []) (.int x :: .ref a :: st) h = xO (xpf h a 0 15 (.int x)) (fun h => exF ev cX1_house 52 ([v0, v1], []) st h) := exF_o (i := (i_putfi 0 15 52)) rfl rfl
theorem eX1_house_52 {ev : xV} {v1 : Option Value} {x : Nat} {st : List Value} {h : xH} : exF ev cX1_house 52 ([some (.ref x), v1], []) st h = exF ev cX1_house 53 ([some (.ref x), v1], []) (.ref x :: st) h := exF_j (i := (i_aload 0 53)) rfl rfl
theorem eX1_house_53 {ev : xV} {v0 v1 : Option Value} {st : List Value} {h : xH} : exF ev cX1_house 53 ([v0, v1], []) st h = exF ev cX1_house 54 ([v0, v1], []) (.int (nI 0) :: st) h := exF_j (i := (i_const (.int (nI 0)) 54)) rfl rfl
theorem eX1_house_54 {ev : xV} {v0 v1 : Option Value} {x : Int32} {a : Nat} {st : List Value} {h : xH} : exF ev cX1_house 54 ([v0, v1], []) (.int x :: .ref a :: st) h = xO (xpf h a 0 19 (.int x)) (fun h => exF ev cX1_house 57 ([v0, v1], []) st h) := exF_o (i := (i_putfi 0 19 57)) rfl rfl
theorem eX1_house_57 {ev : xV} {v1 : Option Value} {x : Nat} {st : List Value} {h : xH} : exF ev cX1_house 57 ([some (.ref x), v1], []) st h = exF ev cX1_house 58 ([some (.ref x), v1], []) (.ref x :: st) h := exF_j (i := (i_aload 0 58)) rfl rfl
theorem eX1_house_58 {ev : xV} {v0 v1 : Option Value} {st : List Value} {h : xH} : exF ev cX1_house 58 ([v0, v1], []) st h = exF ev cX1_house 59 ([v0, v1], []) (.int (nI 0) :: st) h := exF_j (i := (i_const (.int (nI 0)) 59)) rfl rfl
theorem eX1_house_59 {ev : xV} {v0 v1 : Option Value} {x : Int32} {a : Nat} {st : List Value} {h : xH} : exF ev cX1_house 59 ([v0, v1], []) (.int x :: .ref a :: st) h = xO (xpf h a 0 9 (.int x)) (fun h => exF ev cX1_house 62 ([v0, v1], []) st h) := exF_o (i := (i_putfi 0 9 62)) rfl rfl
theorem eX1_house_62 {ev : xV} {v0 v1 : Option Value} {st : List Value} {h : xH} : exF ev cX1_house 62 ([v0, v1], []) st h = exF ev cX1_house 63 ([v0, v1], []) (.int (nI 0) :: st) h := exF_j (i := (i_const (.int (nI 0)) 63)) rfl rfl
theorem eX1_house_63 {ev : xV} {v0 v1 : Option Value} {x : Int32} {st : List Value} {h : xH} : exF ev cX1_house 63 ([v0, v1], []) (.int x :: st) h = exF ev cX1_house 64 ([v0, some (.int x)], []) st h := exF_j (i := (i_istore 1 64)) rfl rfl
theorem eX1_house_64 {ev : xV} {v0 : Option Value} {x : Int32} {st : List Value} {h : xH} : exF ev cX1_house 64 ([v0, some (.int x)], []) st h = exF ev cX1_house 65 ([v0, some (.int x)], []) (.int x :: st) h := exF_j (i := (i_iload 1 65)) rfl rfl
theorem eX1_house_65 {ev : xV} {v0 v1 : Option Value} {st : List Value} {h : xH} : exF ev cX1_house 65 ([v0, v1], []) st h = exF ev cX1_house 66 ([v0, v1], []) (.int (nI 4) :: st) h := exF_j (i := (i_const (.int (nI 4)) 66)) rfl rfl
theorem eX1_house_66 {ev : xV} {v0 v1 : Option Value} {x y : Int32} {st : List Value} {h : xH} : exF ev cX1_house 66 ([v0, v1], []) (.int y :: .int x :: st) h = if y ≤ x then exF ev cX1_house 82 ([v0, v1], []) st h else exF ev cX1_house 69 ([v0, v1], []) st h := exF_b (i := (i_if2 (fun x y => y ≤ x) 82 69)) rfl rfl
theorem eX1_house_69 {ev : xV} {v1 : Option Value} {x : Nat} {st : List Value} {h : xH} : exF ev cX1_house 69 ([some (.ref x), v1], []) st h = exF ev cX1_house 70 ([some (.ref x), v1], []) (.ref x :: st) h := exF_j (i := (i_aload 0 70)) rfl rfl
theorem eX1_house_70 {ev : xV} {v0 v1 : Option Value} {a : Nat} {st : List Value} {h : xH} : exF ev cX1_house 70 ([v0, v1], []) (.ref a :: st) h = xO (xgf h a 0 21) (fun v => exF ev cX1_house 73 ([v0, v1], []) (v :: st) h) := exF_o (i := (i_getf 0 21 73)) rfl rfl
theorem eX1_house_73 {ev : xV} {v0 : Option Value} {x : Int32} {st : List Value} {h : xH} : exF ev cX1_house 73 ([v0, some (.int x)], []) st h = exF ev cX1_house 74 ([v0, some (.int x)], []) (.int x :: st) h := exF_j (i := (i_iload 1 74)) rfl rfl
theorem eX1_house_74 {ev : xV} {v0 v1 : Option Value} {st : List Value} {h : xH} : exF ev cX1_house 74 ([v0, v1], []) st h = exF ev cX1_house 75 ([v0, v1], []) (.null :: st) h := exF_j (i := (i_const .null 75)) rfl rfl
theorem eX1_house_75 {ev : xV} {v0 v1 : Option Value} {v : Nat} {i : Int32} {a : Nat} {st : List Value} {h : xH} : exF ev cX1_house 75 ([v0, v1], []) (.ref v :: .int i :: .ref a :: st) h = xO (xsqc h [20] 7 a i v) (fun h => exF ev cX1_house 76 ([v0, v1], []) st h) := exF_o (i := (i_sq [20] 7 76)) rfl rfl
theorem eX1_house_75n {ev : xV} {v0 v1 : Option Value} {i : Int32} {a : Nat} {st : List Value} {h : xH} : exF ev cX1_house 75 ([v0, v1], []) (.null :: .int i :: .ref a :: st) h = xO (xsq h 7 a i none) (fun h => exF ev cX1_house 76 ([v0, v1], []) st h) := exF_o (i := (i_sq [20] 7 76)) rfl rfl
theorem eX1_house_76 {ev : xV} {v0 : Option Value} {x : Int32} {st : List Value} {h : xH} : exF ev cX1_house 76 ([v0, some (.int x)], []) st h = exF ev cX1_house 79 ([v0, some (.int (x + (nI 1)))], []) st h := exF_j (i := (i_iinc 1 (nI 1) 79)) rfl rfl
theorem eX1_house_79 {ev : xV} {v0 v1 : Option Value} {st : List Value} {h : xH} : exF ev cX1_house 79 ([v0, v1], []) st h = exF ev cX1_house 64 ([v0, v1], []) st h := exF_j (i := (i_goto 64)) rfl rfl
theorem eX1_house_82 {ev : xV} {v0 v1 : Option Value} {st : List Value} {h : xH} : exF ev cX1_house 82 ([v0, v1], []) st h = exF ev cX1_house 83 ([v0, v1], []) (.int (nI 0) :: st) h := exF_j (i := (i_const (.int (nI 0)) 83)) rfl rfl
theorem eX1_house_83 {ev : xV} {v0 v1 : Option Value} {x : Int32} {h : xH} : exF ev cX1_house 83 ([v0, v1], []) [.int x] h = some (.inl (some (.int x)), h) := exF_r (i := (i_iret)) rfl rfl
noncomputable def cX1_reads : xC := [(0, i_aload 0 1),
  (1, i_getf 0 1 4),
  (4, i_aload 0 5),
  (5, i_getf 0 0 8),
  (8, i_aload 0 9),
  (9, i_getf 0 7 12),
  (12, i_cvv 1 194 2 15),
  (15, i_aload 0 16),
  (16, i_const (.int (nI 0)) 17),
  (17, i_putfi 0 7 20),
  (20, i_vret)]
theorem eX1_reads_0 {ev : xV} {x : Nat} {st : List Value} {h : xH} : exF ev cX1_reads 0 ([some (.ref x)], []) st h = exF ev cX1_reads 1 ([some (.ref x)], []) (.ref x :: st) h := exF_j (i := (i_aload 0 1)) rfl rfl
theorem eX1_reads_1 {ev : xV} {v0 : Option Value} {a : Nat} {st : List Value} {h : xH} : exF ev cX1_reads 1 ([v0], []) (.ref a :: st) h = xO (xgf h a 0 1) (fun v => exF ev cX1_reads 4 ([v0], []) (v :: st) h) := exF_o (i := (i_getf 0 1 4)) rfl rfl
theorem eX1_reads_4 {ev : xV} {x : Nat} {st : List Value} {h : xH} : exF ev cX1_reads 4 ([some (.ref x)], []) st h = exF ev cX1_reads 5 ([some (.ref x)], []) (.ref x :: st) h := exF_j (i := (i_aload 0 5)) rfl rfl
theorem eX1_reads_5 {ev : xV} {v0 : Option Value} {a : Nat} {st : List Value} {h : xH} : exF ev cX1_reads 5 ([v0], []) (.ref a :: st) h = xO (xgf h a 0 0) (fun v => exF ev cX1_reads 8 ([v0], []) (v :: st) h) := exF_o (i := (i_getf 0 0 8)) rfl rfl
theorem eX1_reads_8 {ev : xV} {x : Nat} {st : List Value} {h : xH} : exF ev cX1_reads 8 ([some (.ref x)], []) st h = exF ev cX1_reads 9 ([some (.ref x)], []) (.ref x :: st) h := exF_j (i := (i_aload 0 9)) rfl rfl
theorem eX1_reads_9 {ev : xV} {v0 : Option Value} {a : Nat} {st : List Value} {h : xH} : exF ev cX1_reads 9 ([v0], []) (.ref a :: st) h = xO (xgf h a 0 7) (fun v => exF ev cX1_reads 12 ([v0], []) (v :: st) h) := exF_o (i := (i_getf 0 7 12)) rfl rfl
theorem eX1_reads_12 {ev : xV} {v0 : Option Value} {a0 : Value} {a1 : Value} {a : Nat} {h : xH} : exF ev cX1_reads 12 ([v0], []) [a1, a0, .ref a] h = xO (xck h a 1) (fun _ => xBv (ev 194 [.ref a, a0, a1] h) (fun h => exF ev cX1_reads 15 ([v0], []) [] h)) := exF_cdv (i := (i_cvv 1 194 2 15)) rfl rfl
theorem eX1_reads_15 {ev : xV} {x : Nat} {st : List Value} {h : xH} : exF ev cX1_reads 15 ([some (.ref x)], []) st h = exF ev cX1_reads 16 ([some (.ref x)], []) (.ref x :: st) h := exF_j (i := (i_aload 0 16)) rfl rfl
theorem eX1_reads_16 {ev : xV} {v0 : Option Value} {st : List Value} {h : xH} : exF ev cX1_reads 16 ([v0], []) st h = exF ev cX1_reads 17 ([v0], []) (.int (nI 0) :: st) h := exF_j (i := (i_const (.int (nI 0)) 17)) rfl rfl
theorem eX1_reads_17 {ev : xV} {v0 : Option Value} {x : Int32} {a : Nat} {st : List Value} {h : xH} : exF ev cX1_reads 17 ([v0], []) (.int x :: .ref a :: st) h = xO (xpf h a 0 7 (.int x)) (fun h => exF ev cX1_reads 20 ([v0], []) st h) := exF_o (i := (i_putfi 0 7 20)) rfl rfl
theorem eX1_reads_20 {ev : xV} {v0 : Option Value} {h : xH} : exF ev cX1_reads 20 ([v0], []) [] h = some (.inl none, h) := exF_r (i := (i_vret)) rfl rfl
noncomputable def cX1_in : xC := [(0, i_iload 0 1),
  (1, i_iload 1 2),
  (2, i_if2 (fun x y => x < y) 14 5),
  (5, i_iload 0 6),
  (6, i_iload 2 7),
  (7, i_if2 (fun x y => y < x) 14 10),
  (10, i_const (.int (nI 1)) 11),
  (11, i_goto 15),
  (14, i_const (.int (nI 0)) 15),
  (15, i_zret)]
theorem eX1_in_0 {ev : xV} {v1 v2 : Option Value} {x : Int32} {st : List Value} {h : xH} : exF ev cX1_in 0 ([some (.int x), v1, v2], []) st h = exF ev cX1_in 1 ([some (.int x), v1, v2], []) (.int x :: st) h := exF_j (i := (i_iload 0 1)) rfl rfl
theorem eX1_in_1 {ev : xV} {v0 v2 : Option Value} {x : Int32} {st : List Value} {h : xH} : exF ev cX1_in 1 ([v0, some (.int x), v2], []) st h = exF ev cX1_in 2 ([v0, some (.int x), v2], []) (.int x :: st) h := exF_j (i := (i_iload 1 2)) rfl rfl
theorem eX1_in_2 {ev : xV} {v0 v1 v2 : Option Value} {x y : Int32} {st : List Value} {h : xH} : exF ev cX1_in 2 ([v0, v1, v2], []) (.int y :: .int x :: st) h = if x < y then exF ev cX1_in 14 ([v0, v1, v2], []) st h else exF ev cX1_in 5 ([v0, v1, v2], []) st h := exF_b (i := (i_if2 (fun x y => x < y) 14 5)) rfl rfl
theorem eX1_in_5 {ev : xV} {v1 v2 : Option Value} {x : Int32} {st : List Value} {h : xH} : exF ev cX1_in 5 ([some (.int x), v1, v2], []) st h = exF ev cX1_in 6 ([some (.int x), v1, v2], []) (.int x :: st) h := exF_j (i := (i_iload 0 6)) rfl rfl
theorem eX1_in_6 {ev : xV} {v0 v1 : Option Value} {x : Int32} {st : List Value} {h : xH} : exF ev cX1_in 6 ([v0, v1, some (.int x)], []) st h = exF ev cX1_in 7 ([v0, v1, some (.int x)], []) (.int x :: st) h := exF_j (i := (i_iload 2 7)) rfl rfl
theorem eX1_in_7 {ev : xV} {v0 v1 v2 : Option Value} {x y : Int32} {st : List Value} {h : xH} : exF ev cX1_in 7 ([v0, v1, v2], []) (.int y :: .int x :: st) h = if y < x then exF ev cX1_in 14 ([v0, v1, v2], []) st h else exF ev cX1_in 10 ([v0, v1, v2], []) st h := exF_b (i := (i_if2 (fun x y => y < x) 14 10)) rfl rfl
theorem eX1_in_10 {ev : xV} {v0 v1 v2 : Option Value} {st : List Value} {h : xH} : exF ev cX1_in 10 ([v0, v1, v2], []) st h = exF ev cX1_in 11 ([v0, v1, v2], []) (.int (nI 1) :: st) h := exF_j (i := (i_const (.int (nI 1)) 11)) rfl rfl
theorem eX1_in_11 {ev : xV} {v0 v1 v2 : Option Value} {st : List Value} {h : xH} : exF ev cX1_in 11 ([v0, v1, v2], []) st h = exF ev cX1_in 15 ([v0, v1, v2], []) st h := exF_j (i := (i_goto 15)) rfl rfl
theorem eX1_in_14 {ev : xV} {v0 v1 v2 : Option Value} {st : List Value} {h : xH} : exF ev cX1_in 14 ([v0, v1, v2], []) st h = exF ev cX1_in 15 ([v0, v1, v2], []) (.int (nI 0) :: st) h := exF_j (i := (i_const (.int (nI 0)) 15)) rfl rfl
theorem eX1_in_15 {ev : xV} {v0 v1 v2 : Option Value} {x : Int32} {h : xH} : exF ev cX1_in 15 ([v0, v1, v2], []) [.int x] h = if x = nI 0 ∨ x = nI 1 then some (.inl (some (.int x)), h) else none := exF_z (i := (i_zret)) rfl rfl
theorem eX1_in_15b0 {ev : xV} {v0 v1 v2 : Option Value} {h : xH} : exF ev cX1_in 15 ([v0, v1, v2], []) [.int (nI 0)] h = some (.inl (some (.int (nI 0))), h) := exF_r (i := (i_zret)) rfl i_zret_0
theorem eX1_in_15b1 {ev : xV} {v0 v1 v2 : Option Value} {h : xH} : exF ev cX1_in 15 ([v0, v1, v2], []) [.int (nI 1)] h = some (.inl (some (.int (nI 1))), h) := exF_r (i := (i_zret)) rfl i_zret_1
theorem eX1_in_15b {ev : xV} {v0 v1 v2 : Option Value} {b : Bool} {h : xH} : exF ev cX1_in 15 ([v0, v1, v2], []) [.int (bI b)] h = some (.inl (some (.int (bI b))), h) := exF_r (i := (i_zret)) rfl (i_zret_b b)
noncomputable def cX1_days : xC := [(0, i_aload 0 1),
  (1, i_cvv 0 91 0 4),
  (4, i_aload 0 5),
  (5, i_aload 0 6),
  (6, i_getf 0 1 9),
  (9, i_aload 0 10),
  (10, i_getf 0 2 13),
  (13, i_cvh [5] 22 1 221 1 16),
  (16, i_putfr 0 3 19),
  (19, i_goto 28),
  (22, i_astore 1 23),
  (23, i_aload 1 24),
  (24, i_getf 5 6 27),
  (27, i_iret),
  (28, i_const (.int (nI 0)) 29),
  (29, i_iret)]
theorem eX1_days_0 {ev : xV} {v1 : Option Value} {x : Nat} {st : List Value} {h : xH} : exF ev cX1_days 0 ([some (.ref x), v1], []) st h = exF ev cX1_days 1 ([some (.ref x), v1], []) (.ref x :: st) h := exF_j (i := (i_aload 0 1)) rfl rfl
theorem eX1_days_1 {ev : xV} {v0 v1 : Option Value} {a : Nat} {h : xH} : exF ev cX1_days 1 ([v0, v1], []) [.ref a] h = xO (xck h a 0) (fun _ => xBv (ev 91 [.ref a] h) (fun h => exF ev cX1_days 4 ([v0, v1], []) [] h)) := exF_cdv (i := (i_cvv 0 91 0 4)) rfl rfl
theorem eX1_days_4 {ev : xV} {v1 : Option Value} {x : Nat} {st : List Value} {h : xH} : exF ev cX1_days 4 ([some (.ref x), v1], []) st h = exF ev cX1_days 5 ([some (.ref x), v1], []) (.ref x :: st) h := exF_j (i := (i_aload 0 5)) rfl rfl
theorem eX1_days_5 {ev : xV} {v1 : Option Value} {x : Nat} {st : List Value} {h : xH} : exF ev cX1_days 5 ([some (.ref x), v1], []) st h = exF ev cX1_days 6 ([some (.ref x), v1], []) (.ref x :: st) h := exF_j (i := (i_aload 0 6)) rfl rfl
theorem eX1_days_6 {ev : xV} {v0 v1 : Option Value} {a : Nat} {st : List Value} {h : xH} : exF ev cX1_days 6 ([v0, v1], []) (.ref a :: st) h = xO (xgf h a 0 1) (fun v => exF ev cX1_days 9 ([v0, v1], []) (v :: st) h) := exF_o (i := (i_getf 0 1 9)) rfl rfl
theorem eX1_days_9 {ev : xV} {v1 : Option Value} {x : Nat} {st : List Value} {h : xH} : exF ev cX1_days 9 ([some (.ref x), v1], []) st h = exF ev cX1_days 10 ([some (.ref x), v1], []) (.ref x :: st) h := exF_j (i := (i_aload 0 10)) rfl rfl
theorem eX1_days_10 {ev : xV} {v0 v1 : Option Value} {a : Nat} {st : List Value} {h : xH} : exF ev cX1_days 10 ([v0, v1], []) (.ref a :: st) h = xO (xgf h a 0 2) (fun v => exF ev cX1_days 13 ([v0, v1], []) (v :: st) h) := exF_o (i := (i_getf 0 2 13)) rfl rfl
theorem eX1_days_13 {ev : xV} {v0 v1 : Option Value} {a0 : Value} {r0 : Value} {a : Nat} {h : xH} : exF ev cX1_days 13 ([v0, v1], []) [a0, .ref a, r0] h = xO (xck h a 1) (fun _ => xBk (ev 221 [.ref a, a0] h) [5] (fun v h => exF ev cX1_days 16 ([v0, v1], []) [v, r0] h) (fun q h => exF ev cX1_days 22 ([v0, v1], []) [.ref q] h)) := exF_ch (i := (i_cvh [5] 22 1 221 1 16)) rfl rfl
theorem eX1_days_16 {ev : xV} {v0 v1 : Option Value} {x a : Nat} {st : List Value} {h : xH} : exF ev cX1_days 16 ([v0, v1], []) (.ref x :: .ref a :: st) h = xO (xpf h a 0 3 (.ref x)) (fun h => exF ev cX1_days 19 ([v0, v1], []) st h) := exF_o (i := (i_putfr 0 3 19)) rfl rfl
theorem eX1_days_16n {ev : xV} {v0 v1 : Option Value} {a : Nat} {st : List Value} {h : xH} : exF ev cX1_days 16 ([v0, v1], []) (.null :: .ref a :: st) h = xO (xpf h a 0 3 .null) (fun h => exF ev cX1_days 19 ([v0, v1], []) st h) := exF_o (i := (i_putfr 0 3 19)) rfl rfl
theorem eX1_days_19 {ev : xV} {v0 v1 : Option Value} {st : List Value} {h : xH} : exF ev cX1_days 19 ([v0, v1], []) st h = exF ev cX1_days 28 ([v0, v1], []) st h := exF_j (i := (i_goto 28)) rfl rfl
theorem eX1_days_22 {ev : xV} {v0 v1 : Option Value} {x : Nat} {st : List Value} {h : xH} : exF ev cX1_days 22 ([v0, v1], []) (.ref x :: st) h = exF ev cX1_days 23 ([v0, some (.ref x)], []) st h := exF_j (i := (i_astore 1 23)) rfl rfl
theorem eX1_days_22n {ev : xV} {v0 v1 : Option Value} {st : List Value} {h : xH} : exF ev cX1_days 22 ([v0, v1], []) (.null :: st) h = exF ev cX1_days 23 ([v0, some .null], []) st h := exF_j (i := (i_astore 1 23)) rfl rfl
theorem eX1_days_23 {ev : xV} {v0 : Option Value} {x : Nat} {st : List Value} {h : xH} : exF ev cX1_days 23 ([v0, some (.ref x)], []) st h = exF ev cX1_days 24 ([v0, some (.ref x)], []) (.ref x :: st) h := exF_j (i := (i_aload 1 24)) rfl rfl
theorem eX1_days_23n {ev : xV} {v0 : Option Value} {st : List Value} {h : xH} : exF ev cX1_days 23 ([v0, some .null], []) st h = exF ev cX1_days 24 ([v0, some .null], []) (.null :: st) h := exF_j (i := (i_aload 1 24)) rfl rfl
theorem eX1_days_24 {ev : xV} {v0 v1 : Option Value} {a : Nat} {st : List Value} {h : xH} : exF ev cX1_days 24 ([v0, v1], []) (.ref a :: st) h = xO (xgf h a 5 6) (fun v => exF ev cX1_days 27 ([v0, v1], []) (v :: st) h) := exF_o (i := (i_getf 5 6 27)) rfl rfl
theorem eX1_days_27 {ev : xV} {v0 v1 : Option Value} {x : Int32} {h : xH} : exF ev cX1_days 27 ([v0, v1], []) [.int x] h = some (.inl (some (.int x)), h) := exF_r (i := (i_iret)) rfl rfl
theorem eX1_days_28 {ev : xV} {v0 v1 : Option Value} {st : List Value} {h : xH} : exF ev cX1_days 28 ([v0, v1], []) st h = exF ev cX1_days 29 ([v0, v1], []) (.int (nI 0) :: st) h := exF_j (i := (i_const (.int (nI 0)) 29)) rfl rfl
theorem eX1_days_29 {ev : xV} {v0 v1 : Option Value} {x : Int32} {h : xH} : exF ev cX1_days 29 ([v0, v1], []) [.int x] h = some (.inl (some (.int x)), h) := exF_r (i := (i_iret)) rfl rfl
noncomputable def cX1_door : xC := [(0, i_aload 0 1),
  (1, i_iload 1 2),
  (2, i_cv 0 95 1 5),
  (5, i_if1 (fun x => ¬ x = 0) 11 8),
  (8, i_const (.int (-2)) 10),
  (10, i_iret),
  (11, i_iload 2 12),
  (12, i_tsw 0 [56, 65, 74, 86, 96, 106, 118] 135),
  (56, i_aload 0 57),
  (57, i_iload 1 58),
  (58, i_cv 0 97 1 61),
  (61, i_getf 6 0 64),
  (64, i_iret),
  (65, i_aload 0 66),
  (66, i_iload 1 67),
  (67, i_cv 0 97 1 70),
  (70, i_getf 6 1 73),
  (73, i_iret),
  (74, i_aload 0 75),
  (75, i_iload 1 76),
  (76, i_cv 0 97 1 79),
  (79, i_getf 6 2 82),
  (82, i_ca [(7, 372), (8, 167), (9, 172), (10, 177)] 0 85),
  (85, i_iret),
  (86, i_aload 0 87),
  (87, i_getf 0 4 90),
  (90, i_getf 3 1 93),
  (93, i_iload 1 94),
  (94, i_ai 0 95),
  (95, i_iret),
  (96, i_aload 0 97),
  (97, i_getf 0 4 100),
  (100, i_getf 3 0 103),
  (103, i_iload 1 104),
  (104, i_ai 0 105),
  (105, i_iret),
  (106, i_aload 0 107),
  (107, i_getf 0 4 110),
  (110, i_getf 3 3 113),
  (113, i_iload 1 114),
  (114, i_ii (fun x y => x >>> (y &&& 31)) 115),
  (115, i_const (.int (nI 1)) 116),
  (116, i_ii (fun x y => x &&& y) 117),
  (117, i_iret),
  (118, i_aload 0 119),
  (119, i_getf 0 4 122),
  (122, i_iload 1 123),
  (123, i_cv 3 238 1 126),
  (126, i_if1 (fun x => x = 0) 133 129),
  (129, i_const (.int (nI 1)) 130),
  (130, i_goto 134),
  (133, i_const (.int (nI 0)) 134),
  (134, i_iret),
  (135, i_const (.int (-2)) 137),
  (137, i_iret)]
theorem eX1_door_0 {ev : xV} {v1 v2 : Option Value} {x : Nat} {st : List Value} {h : xH} : exF ev cX1_door 0 ([some (.ref x), v1, v2], []) st h = exF ev cX1_door 1 ([some (.ref x), v1, v2], []) (.ref x :: st) h := exF_j (i := (i_aload 0 1)) rfl rfl
theorem eX1_door_1 {ev : xV} {v0 v2 : Option Value} {x : Int32} {st : List Value} {h : xH} : exF ev cX1_door 1 ([v0, some (.int x), v2], []) st h = exF ev cX1_door 2 ([v0, some (.int x), v2], []) (.int x :: st) h := exF_j (i := (i_iload 1 2)) rfl rfl
theorem eX1_door_2 {ev : xV} {v0 v1 v2 : Option Value} {a0 : Value} {a : Nat} {h : xH} : exF ev cX1_door 2 ([v0, v1, v2], []) [a0, .ref a] h = xO (xck h a 0) (fun _ => xB (ev 95 [.ref a, a0] h) (fun v h => exF ev cX1_door 5 ([v0, v1, v2], []) [v] h)) := exF_cd (i := (i_cv 0 95 1 5)) rfl rfl
theorem eX1_door_5 {ev : xV} {v0 v1 v2 : Option Value} {x : Int32} {st : List Value} {h : xH} : exF ev cX1_door 5 ([v0, v1, v2], []) (.int x :: st) h = if ¬ x = 0 then exF ev cX1_door 11 ([v0, v1, v2], []) st h else exF ev cX1_door 8 ([v0, v1, v2], []) st h := exF_b (i := (i_if1 (fun x => ¬ x = 0) 11 8)) rfl rfl
theorem eX1_door_8 {ev : xV} {v0 v1 v2 : Option Value} {st : List Value} {h : xH} : exF ev cX1_door 8 ([v0, v1, v2], []) st h = exF ev cX1_door 10 ([v0, v1, v2], []) (.int (-2) :: st) h := exF_j (i := (i_const (.int (-2)) 10)) rfl rfl
theorem eX1_door_10 {ev : xV} {v0 v1 v2 : Option Value} {x : Int32} {h : xH} : exF ev cX1_door 10 ([v0, v1, v2], []) [.int x] h = some (.inl (some (.int x)), h) := exF_r (i := (i_iret)) rfl rfl
theorem eX1_door_11 {ev : xV} {v0 v1 : Option Value} {x : Int32} {st : List Value} {h : xH} : exF ev cX1_door 11 ([v0, v1, some (.int x)], []) st h = exF ev cX1_door 12 ([v0, v1, some (.int x)], []) (.int x :: st) h := exF_j (i := (i_iload 2 12)) rfl rfl
theorem eX1_door_12 {ev : xV} {v0 v1 v2 : Option Value} {x : Int32} {st : List Value} {h : xH} : exF ev cX1_door 12 ([v0, v1, v2], []) (.int x :: st) h = exF ev cX1_door (xsw 0 [56, 65, 74, 86, 96, 106, 118] 135 x) ([v0, v1, v2], []) st h := exF_j (i := (i_tsw 0 [56, 65, 74, 86, 96, 106, 118] 135)) rfl rfl
theorem eX1_door_56 {ev : xV} {v1 v2 : Option Value} {x : Nat} {st : List Value} {h : xH} : exF ev cX1_door 56 ([some (.ref x), v1, v2], []) st h = exF ev cX1_door 57 ([some (.ref x), v1, v2], []) (.ref x :: st) h := exF_j (i := (i_aload 0 57)) rfl rfl
theorem eX1_door_57 {ev : xV} {v0 v2 : Option Value} {x : Int32} {st : List Value} {h : xH} : exF ev cX1_door 57 ([v0, some (.int x), v2], []) st h = exF ev cX1_door 58 ([v0, some (.int x), v2], []) (.int x :: st) h := exF_j (i := (i_iload 1 58)) rfl rfl
theorem eX1_door_58 {ev : xV} {v0 v1 v2 : Option Value} {a0 : Value} {a : Nat} {h : xH} : exF ev cX1_door 58 ([v0, v1, v2], []) [a0, .ref a] h = xO (xck h a 0) (fun _ => xB (ev 97 [.ref a, a0] h) (fun v h => exF ev cX1_door 61 ([v0, v1, v2], []) [v] h)) := exF_cd (i := (i_cv 0 97 1 61)) rfl rfl
theorem eX1_door_61 {ev : xV} {v0 v1 v2 : Option Value} {a : Nat} {st : List Value} {h : xH} : exF ev cX1_door 61 ([v0, v1, v2], []) (.ref a :: st) h = xO (xgf h a 6 0) (fun v => exF ev cX1_door 64 ([v0, v1, v2], []) (v :: st) h) := exF_o (i := (i_getf 6 0 64)) rfl rfl
theorem eX1_door_64 {ev : xV} {v0 v1 v2 : Option Value} {x : Int32} {h : xH} : exF ev cX1_door 64 ([v0, v1, v2], []) [.int x] h = some (.inl (some (.int x)), h) := exF_r (i := (i_iret)) rfl rfl
theorem eX1_door_65 {ev : xV} {v1 v2 : Option Value} {x : Nat} {st : List Value} {h : xH} : exF ev cX1_door 65 ([some (.ref x), v1, v2], []) st h = exF ev cX1_door 66 ([some (.ref x), v1, v2], []) (.ref x :: st) h := exF_j (i := (i_aload 0 66)) rfl rfl
theorem eX1_door_66 {ev : xV} {v0 v2 : Option Value} {x : Int32} {st : List Value} {h : xH} : exF ev cX1_door 66 ([v0, some (.int x), v2], []) st h = exF ev cX1_door 67 ([v0, some (.int x), v2], []) (.int x :: st) h := exF_j (i := (i_iload 1 67)) rfl rfl
theorem eX1_door_67 {ev : xV} {v0 v1 v2 : Option Value} {a0 : Value} {a : Nat} {h : xH} : exF ev cX1_door 67 ([v0, v1, v2], []) [a0, .ref a] h = xO (xck h a 0) (fun _ => xB (ev 97 [.ref a, a0] h) (fun v h => exF ev cX1_door 70 ([v0, v1, v2], []) [v] h)) := exF_cd (i := (i_cv 0 97 1 70)) rfl rfl
theorem eX1_door_70 {ev : xV} {v0 v1 v2 : Option Value} {a : Nat} {st : List Value} {h : xH} : exF ev cX1_door 70 ([v0, v1, v2], []) (.ref a :: st) h = xO (xgf h a 6 1) (fun v => exF ev cX1_door 73 ([v0, v1, v2], []) (v :: st) h) := exF_o (i := (i_getf 6 1 73)) rfl rfl
theorem eX1_door_73 {ev : xV} {v0 v1 v2 : Option Value} {x : Int32} {h : xH} : exF ev cX1_door 73 ([v0, v1, v2], []) [.int x] h = some (.inl (some (.int x)), h) := exF_r (i := (i_iret)) rfl rfl
theorem eX1_door_74 {ev : xV} {v1 v2 : Option Value} {x : Nat} {st : List Value} {h : xH} : exF ev cX1_door 74 ([some (.ref x), v1, v2], []) st h = exF ev cX1_door 75 ([some (.ref x), v1, v2], []) (.ref x :: st) h := exF_j (i := (i_aload 0 75)) rfl rfl
theorem eX1_door_75 {ev : xV} {v0 v2 : Option Value} {x : Int32} {st : List Value} {h : xH} : exF ev cX1_door 75 ([v0, some (.int x), v2], []) st h = exF ev cX1_door 76 ([v0, some (.int x), v2], []) (.int x :: st) h := exF_j (i := (i_iload 1 76)) rfl rfl
theorem eX1_door_76 {ev : xV} {v0 v1 v2 : Option Value} {a0 : Value} {a : Nat} {h : xH} : exF ev cX1_door 76 ([v0, v1, v2], []) [a0, .ref a] h = xO (xck h a 0) (fun _ => xB (ev 97 [.ref a, a0] h) (fun v h => exF ev cX1_door 79 ([v0, v1, v2], []) [v] h)) := exF_cd (i := (i_cv 0 97 1 79)) rfl rfl
theorem eX1_door_79 {ev : xV} {v0 v1 v2 : Option Value} {a : Nat} {st : List Value} {h : xH} : exF ev cX1_door 79 ([v0, v1, v2], []) (.ref a :: st) h = xO (xgf h a 6 2) (fun v => exF ev cX1_door 82 ([v0, v1, v2], []) (v :: st) h) := exF_o (i := (i_getf 6 2 82)) rfl rfl
theorem eX1_door_82 {ev : xV} {v0 v1 v2 : Option Value} {a : Nat} {h : xH} : exF ev cX1_door 82 ([v0, v1, v2], []) [.ref a] h = xO (xcl h a) (fun ci => xO (([(7, 372), (8, 167), (9, 172), (10, 177)] : List (Nat × Nat)).lookup ci) (fun k => xB (ev k [.ref a] h) (fun v h => exF ev cX1_door 85 ([v0, v1, v2], []) [v] h))) := exF_ca (i := (i_ca [(7, 372), (8, 167), (9, 172), (10, 177)] 0 85)) rfl rfl
theorem eX1_door_85 {ev : xV} {v0 v1 v2 : Option Value} {x : Int32} {h : xH} : exF ev cX1_door 85 ([v0, v1, v2], []) [.int x] h = some (.inl (some (.int x)), h) := exF_r (i := (i_iret)) rfl rfl
theorem eX1_door_86 {ev : xV} {v1 v2 : Option Value} {x : Nat} {st : List Value} {h : xH} : exF ev cX1_door 86 ([some (.ref x), v1, v2], []) st h = exF ev cX1_door 87 ([some (.ref x), v1, v2], []) (.ref x :: st) h := exF_j (i := (i_aload 0 87)) rfl rfl
theorem eX1_door_87 {ev : xV} {v0 v1 v2 : Option Value} {a : Nat} {st : List Value} {h : xH} : exF ev cX1_door 87 ([v0, v1, v2], []) (.ref a :: st) h = xO (xgf h a 0 4) (fun v => exF ev cX1_door 90 ([v0, v1, v2], []) (v :: st) h) := exF_o (i := (i_getf 0 4 90)) rfl rfl
theorem eX1_door_90 {ev : xV} {v0 v1 v2 : Option Value} {a : Nat} {st : List Value} {h : xH} : exF ev cX1_door 90 ([v0, v1, v2], []) (.ref a :: st) h = xO (xgf h a 3 1) (fun v => exF ev cX1_door 93 ([v0, v1, v2], []) (v :: st) h) := exF_o (i := (i_getf 3 1 93)) rfl rfl
theorem eX1_door_93 {ev : xV} {v0 v2 : Option Value} {x : Int32} {st : List Value} {h : xH} : exF ev cX1_door 93 ([v0, some (.int x), v2], []) st h = exF ev cX1_door 94 ([v0, some (.int x), v2], []) (.int x :: st) h := exF_j (i := (i_iload 1 94)) rfl rfl
theorem eX1_door_94 {ev : xV} {v0 v1 v2 : Option Value} {i : Int32} {a : Nat} {st : List Value} {h : xH} : exF ev cX1_door 94 ([v0, v1, v2], []) (.int i :: .ref a :: st) h = xO (xai h 0 a i) (fun v => exF ev cX1_door 95 ([v0, v1, v2], []) (.int v :: st) h) := exF_o (i := (i_ai 0 95)) rfl rfl
theorem eX1_door_95 {ev : xV} {v0 v1 v2 : Option Value} {x : Int32} {h : xH} : exF ev cX1_door 95 ([v0, v1, v2], []) [.int x] h = some (.inl (some (.int x)), h) := exF_r (i := (i_iret)) rfl rfl
theorem eX1_door_96 {ev : xV} {v1 v2 : Option Value} {x : Nat} {st : List Value} {h : xH} : exF ev cX1_door 96 ([some (.ref x), v1, v2], []) st h = exF ev cX1_door 97 ([some (.ref x), v1, v2], []) (.ref x :: st) h := exF_j (i := (i_aload 0 97)) rfl rfl
theorem eX1_door_97 {ev : xV} {v0 v1 v2 : Option Value} {a : Nat} {st : List Value} {h : xH} : exF ev cX1_door 97 ([v0, v1, v2], []) (.ref a :: st) h = xO (xgf h a 0 4) (fun v => exF ev cX1_door 100 ([v0, v1, v2], []) (v :: st) h) := exF_o (i := (i_getf 0 4 100)) rfl rfl
theorem eX1_door_100 {ev : xV} {v0 v1 v2 : Option Value} {a : Nat} {st : List Value} {h : xH} : exF ev cX1_door 100 ([v0, v1, v2], []) (.ref a :: st) h = xO (xgf h a 3 0) (fun v => exF ev cX1_door 103 ([v0, v1, v2], []) (v :: st) h) := exF_o (i := (i_getf 3 0 103)) rfl rfl
theorem eX1_door_103 {ev : xV} {v0 v2 : Option Value} {x : Int32} {st : List Value} {h : xH} : exF ev cX1_door 103 ([v0, some (.int x), v2], []) st h = exF ev cX1_door 104 ([v0, some (.int x), v2], []) (.int x :: st) h := exF_j (i := (i_iload 1 104)) rfl rfl
theorem eX1_door_104 {ev : xV} {v0 v1 v2 : Option Value} {i : Int32} {a : Nat} {st : List Value} {h : xH} : exF ev cX1_door 104 ([v0, v1, v2], []) (.int i :: .ref a :: st) h = xO (xai h 0 a i) (fun v => exF ev cX1_door 105 ([v0, v1, v2], []) (.int v :: st) h) := exF_o (i := (i_ai 0 105)) rfl rfl
theorem eX1_door_105 {ev : xV} {v0 v1 v2 : Option Value} {x : Int32} {h : xH} : exF ev cX1_door 105 ([v0, v1, v2], []) [.int x] h = some (.inl (some (.int x)), h) := exF_r (i := (i_iret)) rfl rfl
theorem eX1_door_106 {ev : xV} {v1 v2 : Option Value} {x : Nat} {st : List Value} {h : xH} : exF ev cX1_door 106 ([some (.ref x), v1, v2], []) st h = exF ev cX1_door 107 ([some (.ref x), v1, v2], []) (.ref x :: st) h := exF_j (i := (i_aload 0 107)) rfl rfl
theorem eX1_door_107 {ev : xV} {v0 v1 v2 : Option Value} {a : Nat} {st : List Value} {h : xH} : exF ev cX1_door 107 ([v0, v1, v2], []) (.ref a :: st) h = xO (xgf h a 0 4) (fun v => exF ev cX1_door 110 ([v0, v1, v2], []) (v :: st) h) := exF_o (i := (i_getf 0 4 110)) rfl rfl
theorem eX1_door_110 {ev : xV} {v0 v1 v2 : Option Value} {a : Nat} {st : List Value} {h : xH} : exF ev cX1_door 110 ([v0, v1, v2], []) (.ref a :: st) h = xO (xgf h a 3 3) (fun v => exF ev cX1_door 113 ([v0, v1, v2], []) (v :: st) h) := exF_o (i := (i_getf 3 3 113)) rfl rfl
theorem eX1_door_113 {ev : xV} {v0 v2 : Option Value} {x : Int32} {st : List Value} {h : xH} : exF ev cX1_door 113 ([v0, some (.int x), v2], []) st h = exF ev cX1_door 114 ([v0, some (.int x), v2], []) (.int x :: st) h := exF_j (i := (i_iload 1 114)) rfl rfl
theorem eX1_door_114 {ev : xV} {v0 v1 v2 : Option Value} {x y : Int32} {st : List Value} {h : xH} : exF ev cX1_door 114 ([v0, v1, v2], []) (.int y :: .int x :: st) h = exF ev cX1_door 115 ([v0, v1, v2], []) (.int (x >>> (y &&& 31)) :: st) h := exF_j (i := (i_ii (fun x y => x >>> (y &&& 31)) 115)) rfl rfl
theorem eX1_door_115 {ev : xV} {v0 v1 v2 : Option Value} {st : List Value} {h : xH} : exF ev cX1_door 115 ([v0, v1, v2], []) st h = exF ev cX1_door 116 ([v0, v1, v2], []) (.int (nI 1) :: st) h := exF_j (i := (i_const (.int (nI 1)) 116)) rfl rfl
theorem eX1_door_116 {ev : xV} {v0 v1 v2 : Option Value} {x y : Int32} {st : List Value} {h : xH} : exF ev cX1_door 116 ([v0, v1, v2], []) (.int y :: .int x :: st) h = exF ev cX1_door 117 ([v0, v1, v2], []) (.int (x &&& y) :: st) h := exF_j (i := (i_ii (fun x y => x &&& y) 117)) rfl rfl
theorem eX1_door_117 {ev : xV} {v0 v1 v2 : Option Value} {x : Int32} {h : xH} : exF ev cX1_door 117 ([v0, v1, v2], []) [.int x] h = some (.inl (some (.int x)), h) := exF_r (i := (i_iret)) rfl rfl
theorem eX1_door_118 {ev : xV} {v1 v2 : Option Value} {x : Nat} {st : List Value} {h : xH} : exF ev cX1_door 118 ([some (.ref x), v1, v2], []) st h = exF ev cX1_door 119 ([some (.ref x), v1, v2], []) (.ref x :: st) h := exF_j (i := (i_aload 0 119)) rfl rfl
theorem eX1_door_119 {ev : xV} {v0 v1 v2 : Option Value} {a : Nat} {st : List Value} {h : xH} : exF ev cX1_door 119 ([v0, v1, v2], []) (.ref a :: st) h = xO (xgf h a 0 4) (fun v => exF ev cX1_door 122 ([v0, v1, v2], []) (v :: st) h) := exF_o (i := (i_getf 0 4 122)) rfl rfl
theorem eX1_door_122 {ev : xV} {v0 v2 : Option Value} {x : Int32} {st : List Value} {h : xH} : exF ev cX1_door 122 ([v0, some (.int x), v2], []) st h = exF ev cX1_door 123 ([v0, some (.int x), v2], []) (.int x :: st) h := exF_j (i := (i_iload 1 123)) rfl rfl
theorem eX1_door_123 {ev : xV} {v0 v1 v2 : Option Value} {a0 : Value} {a : Nat} {h : xH} : exF ev cX1_door 123 ([v0, v1, v2], []) [a0, .ref a] h = xO (xck h a 3) (fun _ => xB (ev 238 [.ref a, a0] h) (fun v h => exF ev cX1_door 126 ([v0, v1, v2], []) [v] h)) := exF_cd (i := (i_cv 3 238 1 126)) rfl rfl
theorem eX1_door_126 {ev : xV} {v0 v1 v2 : Option Value} {x : Int32} {st : List Value} {h : xH} : exF ev cX1_door 126 ([v0, v1, v2], []) (.int x :: st) h = if x = 0 then exF ev cX1_door 133 ([v0, v1, v2], []) st h else exF ev cX1_door 129 ([v0, v1, v2], []) st h := exF_b (i := (i_if1 (fun x => x = 0) 133 129)) rfl rfl
theorem eX1_door_129 {ev : xV} {v0 v1 v2 : Option Value} {st : List Value} {h : xH} : exF ev cX1_door 129 ([v0, v1, v2], []) st h = exF ev cX1_door 130 ([v0, v1, v2], []) (.int (nI 1) :: st) h := exF_j (i := (i_const (.int (nI 1)) 130)) rfl rfl
theorem eX1_door_130 {ev : xV} {v0 v1 v2 : Option Value} {st : List Value} {h : xH} : exF ev cX1_door 130 ([v0, v1, v2], []) st h = exF ev cX1_door 134 ([v0, v1, v2], []) st h := exF_j (i := (i_goto 134)) rfl rfl
theorem eX1_door_133 {ev : xV} {v0 v1 v2 : Option Value} {st : List Value} {h : xH} : exF ev cX1_door 133 ([v0, v1, v2], []) st h = exF ev cX1_door 134 ([v0, v1, v2], []) (.int (nI 0) :: st) h := exF_j (i := (i_const (.int (nI 0)) 134)) rfl rfl
theorem eX1_door_134 {ev : xV} {v0 v1 v2 : Option Value} {x : Int32} {h : xH} : exF ev cX1_door 134 ([v0, v1, v2], []) [.int x] h = some (.inl (some (.int x)), h) := exF_r (i := (i_iret)) rfl rfl
theorem eX1_door_135 {ev : xV} {v0 v1 v2 : Option Value} {st : List Value} {h : xH} : exF ev cX1_door 135 ([v0, v1, v2], []) st h = exF ev cX1_door 137 ([v0, v1, v2], []) (.int (-2) :: st) h := exF_j (i := (i_const (.int (-2)) 137)) rfl rfl
theorem eX1_door_137 {ev : xV} {v0 v1 v2 : Option Value} {x : Int32} {h : xH} : exF ev cX1_door 137 ([v0, v1, v2], []) [.int x] h = some (.inl (some (.int x)), h) := exF_r (i := (i_iret)) rfl rfl
noncomputable def cX1_isDoor : xC := [(0, i_iload 1 1),
  (1, i_const (.int (nI 0)) 2),
  (2, i_aload 0 3),
  (3, i_cv 0 96 0 6),
  (6, i_const (.int (nI 1)) 7),
  (7, i_ii (fun x y => x - y) 8),
  (8, i_cs 92 3 11),
  (11, i_zret)]
theorem eX1_isDoor_0 {ev : xV} {v0 : Option Value} {x : Int32} {st : List Value} {h : xH} : exF ev cX1_isDoor 0 ([v0, some (.int x)], []) st h = exF ev cX1_isDoor 1 ([v0, some (.int x)], []) (.int x :: st) h := exF_j (i := (i_iload 1 1)) rfl rfl
theorem eX1_isDoor_1 {ev : xV} {v0 v1 : Option Value} {st : List Value} {h : xH} : exF ev cX1_isDoor 1 ([v0, v1], []) st h = exF ev cX1_isDoor 2 ([v0, v1], []) (.int (nI 0) :: st) h := exF_j (i := (i_const (.int (nI 0)) 2)) rfl rfl
theorem eX1_isDoor_2 {ev : xV} {v1 : Option Value} {x : Nat} {st : List Value} {h : xH} : exF ev cX1_isDoor 2 ([some (.ref x), v1], []) st h = exF ev cX1_isDoor 3 ([some (.ref x), v1], []) (.ref x :: st) h := exF_j (i := (i_aload 0 3)) rfl rfl
theorem eX1_isDoor_3 {ev : xV} {v0 v1 : Option Value} {r0 : Value} {r1 : Value} {a : Nat} {h : xH} : exF ev cX1_isDoor 3 ([v0, v1], []) [.ref a, r0, r1] h = xO (xck h a 0) (fun _ => xB (ev 96 [.ref a] h) (fun v h => exF ev cX1_isDoor 6 ([v0, v1], []) [v, r0, r1] h)) := exF_cd (i := (i_cv 0 96 0 6)) rfl rfl
theorem eX1_isDoor_6 {ev : xV} {v0 v1 : Option Value} {st : List Value} {h : xH} : exF ev cX1_isDoor 6 ([v0, v1], []) st h = exF ev cX1_isDoor 7 ([v0, v1], []) (.int (nI 1) :: st) h := exF_j (i := (i_const (.int (nI 1)) 7)) rfl rfl
theorem eX1_isDoor_7 {ev : xV} {v0 v1 : Option Value} {x y : Int32} {st : List Value} {h : xH} : exF ev cX1_isDoor 7 ([v0, v1], []) (.int y :: .int x :: st) h = exF ev cX1_isDoor 8 ([v0, v1], []) (.int (x - y) :: st) h := exF_j (i := (i_ii (fun x y => x - y) 8)) rfl rfl
theorem eX1_isDoor_8 {ev : xV} {v0 v1 : Option Value} {a0 : Value} {a1 : Value} {a2 : Value} {h : xH} : exF ev cX1_isDoor 8 ([v0, v1], []) [a2, a1, a0] h = xB (ev 92 [a0, a1, a2] h) (fun v h => exF ev cX1_isDoor 11 ([v0, v1], []) [v] h) := exF_c (i := (i_cs 92 3 11)) rfl rfl
theorem eX1_isDoor_11 {ev : xV} {v0 v1 : Option Value} {x : Int32} {h : xH} : exF ev cX1_isDoor 11 ([v0, v1], []) [.int x] h = if x = nI 0 ∨ x = nI 1 then some (.inl (some (.int x)), h) else none := exF_z (i := (i_zret)) rfl rfl
theorem eX1_isDoor_11b0 {ev : xV} {v0 v1 : Option Value} {h : xH} : exF ev cX1_isDoor 11 ([v0, v1], []) [.int (nI 0)] h = some (.inl (some (.int (nI 0))), h) := exF_r (i := (i_zret)) rfl i_zret_0
theorem eX1_isDoor_11b1 {ev : xV} {v0 v1 : Option Value} {h : xH} : exF ev cX1_isDoor 11 ([v0, v1], []) [.int (nI 1)] h = some (.inl (some (.int (nI 1))), h) := exF_r (i := (i_zret)) rfl i_zret_1
theorem eX1_isDoor_11b {ev : xV} {v0 v1 : Option Value} {b : Bool} {h : xH} : exF ev cX1_isDoor 11 ([v0, v1], []) [.int (bI b)] h = some (.inl (some (.int (bI b))), h) := exF_r (i := (i_zret)) rfl (i_zret_b b)
noncomputable def cX1_doors : xC := [(0, i_aload 0 1),
  (1, i_getf 0 2 4),
  (4, i_getf 2 2 7),
  (7, i_cv 21 32 0 10),
  (10, i_iret)]
theorem eX1_doors_0 {ev : xV} {x : Nat} {st : List Value} {h : xH} : exF ev cX1_doors 0 ([some (.ref x)], []) st h = exF ev cX1_doors 1 ([some (.ref x)], []) (.ref x :: st) h := exF_j (i := (i_aload 0 1)) rfl rfl
theorem eX1_doors_1 {ev : xV} {v0 : Option Value} {a : Nat} {st : List Value} {h : xH} : exF ev cX1_doors 1 ([v0], []) (.ref a :: st) h = xO (xgf h a 0 2) (fun v => exF ev cX1_doors 4 ([v0], []) (v :: st) h) := exF_o (i := (i_getf 0 2 4)) rfl rfl
theorem eX1_doors_4 {ev : xV} {v0 : Option Value} {a : Nat} {st : List Value} {h : xH} : exF ev cX1_doors 4 ([v0], []) (.ref a :: st) h = xO (xgf h a 2 2) (fun v => exF ev cX1_doors 7 ([v0], []) (v :: st) h) := exF_o (i := (i_getf 2 2 7)) rfl rfl
theorem eX1_doors_7 {ev : xV} {v0 : Option Value} {a : Nat} {h : xH} : exF ev cX1_doors 7 ([v0], []) [.ref a] h = xO (xck h a 21) (fun _ => xB (ev 32 [.ref a] h) (fun v h => exF ev cX1_doors 10 ([v0], []) [v] h)) := exF_cd (i := (i_cv 21 32 0 10)) rfl rfl
theorem eX1_doors_10 {ev : xV} {v0 : Option Value} {x : Int32} {h : xH} : exF ev cX1_doors 10 ([v0], []) [.int x] h = some (.inl (some (.int x)), h) := exF_r (i := (i_iret)) rfl rfl
noncomputable def cX1_door_2 : xC := [(0, i_aload 0 1),
  (1, i_getf 0 2 4),
  (4, i_getf 2 2 7),
  (7, i_iload 1 8),
  (8, i_cv 21 33 1 11),
  (11, i_cast [6] 14),
  (14, i_aret)]
theorem eX1_door_2_0 {ev : xV} {v1 : Option Value} {x : Nat} {st : List Value} {h : xH} : exF ev cX1_door_2 0 ([some (.ref x), v1], []) st h = exF ev cX1_door_2 1 ([some (.ref x), v1], []) (.ref x :: st) h := exF_j (i := (i_aload 0 1)) rfl rfl
theorem eX1_door_2_1 {ev : xV} {v0 v1 : Option Value} {a : Nat} {st : List Value} {h : xH} : exF ev cX1_door_2 1 ([v0, v1], []) (.ref a :: st) h = xO (xgf h a 0 2) (fun v => exF ev cX1_door_2 4 ([v0, v1], []) (v :: st) h) := exF_o (i := (i_getf 0 2 4)) rfl rfl
theorem eX1_door_2_4 {ev : xV} {v0 v1 : Option Value} {a : Nat} {st : List Value} {h : xH} : exF ev cX1_door_2 4 ([v0, v1], []) (.ref a :: st) h = xO (xgf h a 2 2) (fun v => exF ev cX1_door_2 7 ([v0, v1], []) (v :: st) h) := exF_o (i := (i_getf 2 2 7)) rfl rfl
theorem eX1_door_2_7 {ev : xV} {v0 : Option Value} {x : Int32} {st : List Value} {h : xH} : exF ev cX1_door_2 7 ([v0, some (.int x)], []) st h = exF ev cX1_door_2 8 ([v0, some (.int x)], []) (.int x :: st) h := exF_j (i := (i_iload 1 8)) rfl rfl
theorem eX1_door_2_8 {ev : xV} {v0 v1 : Option Value} {a0 : Value} {a : Nat} {h : xH} : exF ev cX1_door_2 8 ([v0, v1], []) [a0, .ref a] h = xO (xck h a 21) (fun _ => xB (ev 33 [.ref a, a0] h) (fun v h => exF ev cX1_door_2 11 ([v0, v1], []) [v] h)) := exF_cd (i := (i_cv 21 33 1 11)) rfl rfl
theorem eX1_door_2_11 {ev : xV} {v0 v1 : Option Value} {a : Nat} {st : List Value} {h : xH} : exF ev cX1_door_2 11 ([v0, v1], []) (.ref a :: st) h = xO (xckc h [6] a) (fun _ => exF ev cX1_door_2 14 ([v0, v1], []) (.ref a :: st) h) := exF_o (i := (i_cast [6] 14)) rfl rfl
theorem eX1_door_2_14 {ev : xV} {v0 v1 : Option Value} {x : Nat} {h : xH} : exF ev cX1_door_2 14 ([v0, v1], []) [.ref x] h = some (.inl (some (.ref x)), h) := exF_r (i := (i_aret)) rfl rfl
theorem eX1_door_2_14n {ev : xV} {v0 v1 : Option Value} {h : xH} : exF ev cX1_door_2 14 ([v0, v1], []) [.null] h = some (.inl (some .null), h) := exF_r (i := (i_aret)) rfl rfl
noncomputable def cX1_isIn : xC := [(0, i_iload 0 1),
  (1, i_iload 1 2),
  (2, i_ii (fun x y => x >>> (y &&& 31)) 3),
  (3, i_const (.int (nI 1)) 4),
  (4, i_ii (fun x y => x &&& y) 5),
  (5, i_const (.int (nI 1)) 6),
  (6, i_if2 (fun x y => ¬ x = y) 13 9),
  (9, i_const (.int (nI 1)) 10),
  (10, i_goto 14),
  (13, i_const (.int (nI 0)) 14),
  (14, i_zret)]
theorem eX1_isIn_0 {ev : xV} {v1 : Option Value} {x : Int32} {st : List Value} {h : xH} : exF ev cX1_isIn 0 ([some (.int x), v1], []) st h = exF ev cX1_isIn 1 ([some (.int x), v1], []) (.int x :: st) h := exF_j (i := (i_iload 0 1)) rfl rfl
theorem eX1_isIn_1 {ev : xV} {v0 : Option Value} {x : Int32} {st : List Value} {h : xH} : exF ev cX1_isIn 1 ([v0, some (.int x)], []) st h = exF ev cX1_isIn 2 ([v0, some (.int x)], []) (.int x :: st) h := exF_j (i := (i_iload 1 2)) rfl rfl
theorem eX1_isIn_2 {ev : xV} {v0 v1 : Option Value} {x y : Int32} {st : List Value} {h : xH} : exF ev cX1_isIn 2 ([v0, v1], []) (.int y :: .int x :: st) h = exF ev cX1_isIn 3 ([v0, v1], []) (.int (x >>> (y &&& 31)) :: st) h := exF_j (i := (i_ii (fun x y => x >>> (y &&& 31)) 3)) rfl rfl
theorem eX1_isIn_3 {ev : xV} {v0 v1 : Option Value} {st : List Value} {h : xH} : exF ev cX1_isIn 3 ([v0, v1], []) st h = exF ev cX1_isIn 4 ([v0, v1], []) (.int (nI 1) :: st) h := exF_j (i := (i_const (.int (nI 1)) 4)) rfl rfl
theorem eX1_isIn_4 {ev : xV} {v0 v1 : Option Value} {x y : Int32} {st : List Value} {h : xH} : exF ev cX1_isIn 4 ([v0, v1], []) (.int y :: .int x :: st) h = exF ev cX1_isIn 5 ([v0, v1], []) (.int (x &&& y) :: st) h := exF_j (i := (i_ii (fun x y => x &&& y) 5)) rfl rfl
theorem eX1_isIn_5 {ev : xV} {v0 v1 : Option Value} {st : List Value} {h : xH} : exF ev cX1_isIn 5 ([v0, v1], []) st h = exF ev cX1_isIn 6 ([v0, v1], []) (.int (nI 1) :: st) h := exF_j (i := (i_const (.int (nI 1)) 6)) rfl rfl
theorem eX1_isIn_6 {ev : xV} {v0 v1 : Option Value} {x y : Int32} {st : List Value} {h : xH} : exF ev cX1_isIn 6 ([v0, v1], []) (.int y :: .int x :: st) h = if ¬ x = y then exF ev cX1_isIn 13 ([v0, v1], []) st h else exF ev cX1_isIn 9 ([v0, v1], []) st h := exF_b (i := (i_if2 (fun x y => ¬ x = y) 13 9)) rfl rfl
theorem eX1_isIn_9 {ev : xV} {v0 v1 : Option Value} {st : List Value} {h : xH} : exF ev cX1_isIn 9 ([v0, v1], []) st h = exF ev cX1_isIn 10 ([v0, v1], []) (.int (nI 1) :: st) h := exF_j (i := (i_const (.int (nI 1)) 10)) rfl rfl
theorem eX1_isIn_10 {ev : xV} {v0 v1 : Option Value} {st : List Value} {h : xH} : exF ev cX1_isIn 10 ([v0, v1], []) st h = exF ev cX1_isIn 14 ([v0, v1], []) st h := exF_j (i := (i_goto 14)) rfl rfl
theorem eX1_isIn_13 {ev : xV} {v0 v1 : Option Value} {st : List Value} {h : xH} : exF ev cX1_isIn 13 ([v0, v1], []) st h = exF ev cX1_isIn 14 ([v0, v1], []) (.int (nI 0) :: st) h := exF_j (i := (i_const (.int (nI 0)) 14)) rfl rfl
theorem eX1_isIn_14 {ev : xV} {v0 v1 : Option Value} {x : Int32} {h : xH} : exF ev cX1_isIn 14 ([v0, v1], []) [.int x] h = if x = nI 0 ∨ x = nI 1 then some (.inl (some (.int x)), h) else none := exF_z (i := (i_zret)) rfl rfl
theorem eX1_isIn_14b0 {ev : xV} {v0 v1 : Option Value} {h : xH} : exF ev cX1_isIn 14 ([v0, v1], []) [.int (nI 0)] h = some (.inl (some (.int (nI 0))), h) := exF_r (i := (i_zret)) rfl i_zret_0
theorem eX1_isIn_14b1 {ev : xV} {v0 v1 : Option Value} {h : xH} : exF ev cX1_isIn 14 ([v0, v1], []) [.int (nI 1)] h = some (.inl (some (.int (nI 1))), h) := exF_r (i := (i_zret)) rfl i_zret_1
theorem eX1_isIn_14b {ev : xV} {v0 v1 : Option Value} {b : Bool} {h : xH} : exF ev cX1_isIn 14 ([v0, v1], []) [.int (bI b)] h = some (.inl (some (.int (bI b))), h) := exF_r (i := (i_zret)) rfl (i_zret_b b)
noncomputable def cX1_person : xC := [(0, i_aload 0 1),
  (1, i_iload 1 2),
  (2, i_cv 0 100 1 5),
  (5, i_if1 (fun x => x = 0) 20 8),
  (8, i_aload 0 9),
  (9, i_getf 0 4 12),
  (12, i_getf 3 2 15),
  (15, i_iload 1 16),
  (16, i_ai 0 17),
  (17, i_goto 21),
  (20, i_const (.int (-1)) 21),
  (21, i_iret)]
theorem eX1_person_0 {ev : xV} {v1 : Option Value} {x : Nat} {st : List Value} {h : xH} : exF ev cX1_person 0 ([some (.ref x), v1], []) st h = exF ev cX1_person 1 ([some (.ref x), v1], []) (.ref x :: st) h := exF_j (i := (i_aload 0 1)) rfl rfl
theorem eX1_person_1 {ev : xV} {v0 : Option Value} {x : Int32} {st : List Value} {h : xH} : exF ev cX1_person 1 ([v0, some (.int x)], []) st h = exF ev cX1_person 2 ([v0, some (.int x)], []) (.int x :: st) h := exF_j (i := (i_iload 1 2)) rfl rfl
theorem eX1_person_2 {ev : xV} {v0 v1 : Option Value} {a0 : Value} {a : Nat} {h : xH} : exF ev cX1_person 2 ([v0, v1], []) [a0, .ref a] h = xO (xck h a 0) (fun _ => xB (ev 100 [.ref a, a0] h) (fun v h => exF ev cX1_person 5 ([v0, v1], []) [v] h)) := exF_cd (i := (i_cv 0 100 1 5)) rfl rfl
theorem eX1_person_5 {ev : xV} {v0 v1 : Option Value} {x : Int32} {st : List Value} {h : xH} : exF ev cX1_person 5 ([v0, v1], []) (.int x :: st) h = if x = 0 then exF ev cX1_person 20 ([v0, v1], []) st h else exF ev cX1_person 8 ([v0, v1], []) st h := exF_b (i := (i_if1 (fun x => x = 0) 20 8)) rfl rfl
theorem eX1_person_8 {ev : xV} {v1 : Option Value} {x : Nat} {st : List Value} {h : xH} : exF ev cX1_person 8 ([some (.ref x), v1], []) st h = exF ev cX1_person 9 ([some (.ref x), v1], []) (.ref x :: st) h := exF_j (i := (i_aload 0 9)) rfl rfl
theorem eX1_person_9 {ev : xV} {v0 v1 : Option Value} {a : Nat} {st : List Value} {h : xH} : exF ev cX1_person 9 ([v0, v1], []) (.ref a :: st) h = xO (xgf h a 0 4) (fun v => exF ev cX1_person 12 ([v0, v1], []) (v :: st) h) := exF_o (i := (i_getf 0 4 12)) rfl rfl
theorem eX1_person_12 {ev : xV} {v0 v1 : Option Value} {a : Nat} {st : List Value} {h : xH} : exF ev cX1_person 12 ([v0, v1], []) (.ref a :: st) h = xO (xgf h a 3 2) (fun v => exF ev cX1_person 15 ([v0, v1], []) (v :: st) h) := exF_o (i := (i_getf 3 2 15)) rfl rfl
theorem eX1_person_15 {ev : xV} {v0 : Option Value} {x : Int32} {st : List Value} {h : xH} : exF ev cX1_person 15 ([v0, some (.int x)], []) st h = exF ev cX1_person 16 ([v0, some (.int x)], []) (.int x :: st) h := exF_j (i := (i_iload 1 16)) rfl rfl
theorem eX1_person_16 {ev : xV} {v0 v1 : Option Value} {i : Int32} {a : Nat} {st : List Value} {h : xH} : exF ev cX1_person 16 ([v0, v1], []) (.int i :: .ref a :: st) h = xO (xai h 0 a i) (fun v => exF ev cX1_person 17 ([v0, v1], []) (.int v :: st) h) := exF_o (i := (i_ai 0 17)) rfl rfl
theorem eX1_person_17 {ev : xV} {v0 v1 : Option Value} {st : List Value} {h : xH} : exF ev cX1_person 17 ([v0, v1], []) st h = exF ev cX1_person 21 ([v0, v1], []) st h := exF_j (i := (i_goto 21)) rfl rfl
theorem eX1_person_20 {ev : xV} {v0 v1 : Option Value} {st : List Value} {h : xH} : exF ev cX1_person 20 ([v0, v1], []) st h = exF ev cX1_person 21 ([v0, v1], []) (.int (-1) :: st) h := exF_j (i := (i_const (.int (-1)) 21)) rfl rfl
theorem eX1_person_21 {ev : xV} {v0 v1 : Option Value} {x : Int32} {h : xH} : exF ev cX1_person 21 ([v0, v1], []) [.int x] h = some (.inl (some (.int x)), h) := exF_r (i := (i_iret)) rfl rfl
noncomputable def cX1_isPerson : xC := [(0, i_iload 1 1),
  (1, i_const (.int (nI 0)) 2),
  (2, i_aload 0 3),
  (3, i_cv 0 101 0 6),
  (6, i_const (.int (nI 1)) 7),
  (7, i_ii (fun x y => x - y) 8),
  (8, i_cs 92 3 11),
  (11, i_zret)]
theorem eX1_isPerson_0 {ev : xV} {v0 : Option Value} {x : Int32} {st : List Value} {h : xH} : exF ev cX1_isPerson 0 ([v0, some (.int x)], []) st h = exF ev cX1_isPerson 1 ([v0, some (.int x)], []) (.int x :: st) h := exF_j (i := (i_iload 1 1)) rfl rfl
theorem eX1_isPerson_1 {ev : xV} {v0 v1 : Option Value} {st : List Value} {h : xH} : exF ev cX1_isPerson 1 ([v0, v1], []) st h = exF ev cX1_isPerson 2 ([v0, v1], []) (.int (nI 0) :: st) h := exF_j (i := (i_const (.int (nI 0)) 2)) rfl rfl
theorem eX1_isPerson_2 {ev : xV} {v1 : Option Value} {x : Nat} {st : List Value} {h : xH} : exF ev cX1_isPerson 2 ([some (.ref x), v1], []) st h = exF ev cX1_isPerson 3 ([some (.ref x), v1], []) (.ref x :: st) h := exF_j (i := (i_aload 0 3)) rfl rfl
theorem eX1_isPerson_3 {ev : xV} {v0 v1 : Option Value} {r0 : Value} {r1 : Value} {a : Nat} {h : xH} : exF ev cX1_isPerson 3 ([v0, v1], []) [.ref a, r0, r1] h = xO (xck h a 0) (fun _ => xB (ev 101 [.ref a] h) (fun v h => exF ev cX1_isPerson 6 ([v0, v1], []) [v, r0, r1] h)) := exF_cd (i := (i_cv 0 101 0 6)) rfl rfl
theorem eX1_isPerson_6 {ev : xV} {v0 v1 : Option Value} {st : List Value} {h : xH} : exF ev cX1_isPerson 6 ([v0, v1], []) st h = exF ev cX1_isPerson 7 ([v0, v1], []) (.int (nI 1) :: st) h := exF_j (i := (i_const (.int (nI 1)) 7)) rfl rfl
theorem eX1_isPerson_7 {ev : xV} {v0 v1 : Option Value} {x y : Int32} {st : List Value} {h : xH} : exF ev cX1_isPerson 7 ([v0, v1], []) (.int y :: .int x :: st) h = exF ev cX1_isPerson 8 ([v0, v1], []) (.int (x - y) :: st) h := exF_j (i := (i_ii (fun x y => x - y) 8)) rfl rfl
theorem eX1_isPerson_8 {ev : xV} {v0 v1 : Option Value} {a0 : Value} {a1 : Value} {a2 : Value} {h : xH} : exF ev cX1_isPerson 8 ([v0, v1], []) [a2, a1, a0] h = xB (ev 92 [a0, a1, a2] h) (fun v h => exF ev cX1_isPerson 11 ([v0, v1], []) [v] h) := exF_c (i := (i_cs 92 3 11)) rfl rfl
theorem eX1_isPerson_11 {ev : xV} {v0 v1 : Option Value} {x : Int32} {h : xH} : exF ev cX1_isPerson 11 ([v0, v1], []) [.int x] h = if x = nI 0 ∨ x = nI 1 then some (.inl (some (.int x)), h) else none := exF_z (i := (i_zret)) rfl rfl
theorem eX1_isPerson_11b0 {ev : xV} {v0 v1 : Option Value} {h : xH} : exF ev cX1_isPerson 11 ([v0, v1], []) [.int (nI 0)] h = some (.inl (some (.int (nI 0))), h) := exF_r (i := (i_zret)) rfl i_zret_0
theorem eX1_isPerson_11b1 {ev : xV} {v0 v1 : Option Value} {h : xH} : exF ev cX1_isPerson 11 ([v0, v1], []) [.int (nI 1)] h = some (.inl (some (.int (nI 1))), h) := exF_r (i := (i_zret)) rfl i_zret_1
theorem eX1_isPerson_11b {ev : xV} {v0 v1 : Option Value} {b : Bool} {h : xH} : exF ev cX1_isPerson 11 ([v0, v1], []) [.int (bI b)] h = some (.inl (some (.int (bI b))), h) := exF_r (i := (i_zret)) rfl (i_zret_b b)
noncomputable def cX1_people : xC := [(0, i_aload 0 1),
  (1, i_getf 0 2 4),
  (4, i_getf 2 1 7),
  (7, i_cv 21 32 0 10),
  (10, i_iret)]
theorem eX1_people_0 {ev : xV} {x : Nat} {st : List Value} {h : xH} : exF ev cX1_people 0 ([some (.ref x)], []) st h = exF ev cX1_people 1 ([some (.ref x)], []) (.ref x :: st) h := exF_j (i := (i_aload 0 1)) rfl rfl
theorem eX1_people_1 {ev : xV} {v0 : Option Value} {a : Nat} {st : List Value} {h : xH} : exF ev cX1_people 1 ([v0], []) (.ref a :: st) h = xO (xgf h a 0 2) (fun v => exF ev cX1_people 4 ([v0], []) (v :: st) h) := exF_o (i := (i_getf 0 2 4)) rfl rfl
theorem eX1_people_4 {ev : xV} {v0 : Option Value} {a : Nat} {st : List Value} {h : xH} : exF ev cX1_people 4 ([v0], []) (.ref a :: st) h = xO (xgf h a 2 1) (fun v => exF ev cX1_people 7 ([v0], []) (v :: st) h) := exF_o (i := (i_getf 2 1 7)) rfl rfl
theorem eX1_people_7 {ev : xV} {v0 : Option Value} {a : Nat} {h : xH} : exF ev cX1_people 7 ([v0], []) [.ref a] h = xO (xck h a 21) (fun _ => xB (ev 32 [.ref a] h) (fun v h => exF ev cX1_people 10 ([v0], []) [v] h)) := exF_cd (i := (i_cv 21 32 0 10)) rfl rfl
theorem eX1_people_10 {ev : xV} {v0 : Option Value} {x : Int32} {h : xH} : exF ev cX1_people 10 ([v0], []) [.int x] h = some (.inl (some (.int x)), h) := exF_r (i := (i_iret)) rfl rfl
noncomputable def cX1_day : xC := [(0, i_aload 0 1),
  (1, i_cvv 0 103 0 4),
  (4, i_aload 0 5),
  (5, i_aload 0 6),
  (6, i_getf 0 4 9),
  (9, i_cvv 0 104 1 12),
  (12, i_aload 0 13),
  (13, i_aload 0 14),
  (14, i_getf 0 4 17),
  (17, i_cv 0 108 1 20),
  (20, i_iret)]
theorem eX1_day_0 {ev : xV} {x : Nat} {st : List Value} {h : xH} : exF ev cX1_day 0 ([some (.ref x)], []) st h = exF ev cX1_day 1 ([some (.ref x)], []) (.ref x :: st) h := exF_j (i := (i_aload 0 1)) rfl rfl
theorem eX1_day_1 {ev : xV} {v0 : Option Value} {a : Nat} {h : xH} : exF ev cX1_day 1 ([v0], []) [.ref a] h = xO (xck h a 0) (fun _ => xBv (ev 103 [.ref a] h) (fun h => exF ev cX1_day 4 ([v0], []) [] h)) := exF_cdv (i := (i_cvv 0 103 0 4)) rfl rfl
theorem eX1_day_4 {ev : xV} {x : Nat} {st : List Value} {h : xH} : exF ev cX1_day 4 ([some (.ref x)], []) st h = exF ev cX1_day 5 ([some (.ref x)], []) (.ref x :: st) h := exF_j (i := (i_aload 0 5)) rfl rfl
theorem eX1_day_5 {ev : xV} {x : Nat} {st : List Value} {h : xH} : exF ev cX1_day 5 ([some (.ref x)], []) st h = exF ev cX1_day 6 ([some (.ref x)], []) (.ref x :: st) h := exF_j (i := (i_aload 0 6)) rfl rfl
theorem eX1_day_6 {ev : xV} {v0 : Option Value} {a : Nat} {st : List Value} {h : xH} : exF ev cX1_day 6 ([v0], []) (.ref a :: st) h = xO (xgf h a 0 4) (fun v => exF ev cX1_day 9 ([v0], []) (v :: st) h) := exF_o (i := (i_getf 0 4 9)) rfl rfl
theorem eX1_day_9 {ev : xV} {v0 : Option Value} {a0 : Value} {a : Nat} {h : xH} : exF ev cX1_day 9 ([v0], []) [a0, .ref a] h = xO (xck h a 0) (fun _ => xBv (ev 104 [.ref a, a0] h) (fun h => exF ev cX1_day 12 ([v0], []) [] h)) := exF_cdv (i := (i_cvv 0 104 1 12)) rfl rfl
theorem eX1_day_12 {ev : xV} {x : Nat} {st : List Value} {h : xH} : exF ev cX1_day 12 ([some (.ref x)], []) st h = exF ev cX1_day 13 ([some (.ref x)], []) (.ref x :: st) h := exF_j (i := (i_aload 0 13)) rfl rfl
theorem eX1_day_13 {ev : xV} {x : Nat} {st : List Value} {h : xH} : exF ev cX1_day 13 ([some (.ref x)], []) st h = exF ev cX1_day 14 ([some (.ref x)], []) (.ref x :: st) h := exF_j (i := (i_aload 0 14)) rfl rfl
theorem eX1_day_14 {ev : xV} {v0 : Option Value} {a : Nat} {st : List Value} {h : xH} : exF ev cX1_day 14 ([v0], []) (.ref a :: st) h = xO (xgf h a 0 4) (fun v => exF ev cX1_day 17 ([v0], []) (v :: st) h) := exF_o (i := (i_getf 0 4 17)) rfl rfl
theorem eX1_day_17 {ev : xV} {v0 : Option Value} {a0 : Value} {a : Nat} {h : xH} : exF ev cX1_day 17 ([v0], []) [a0, .ref a] h = xO (xck h a 0) (fun _ => xB (ev 108 [.ref a, a0] h) (fun v h => exF ev cX1_day 20 ([v0], []) [v] h)) := exF_cd (i := (i_cv 0 108 1 20)) rfl rfl
theorem eX1_day_20 {ev : xV} {v0 : Option Value} {x : Int32} {h : xH} : exF ev cX1_day 20 ([v0], []) [.int x] h = some (.inl (some (.int x)), h) := exF_r (i := (i_iret)) rfl rfl
noncomputable def cX1_keeps : xC := [(0, i_aload 0 1),
  (1, i_getf 0 9 4),
  (4, i_const (.int (nI 16)) 6),
  (6, i_if2 (fun x y => ¬ x = y) 64 9),
  (9, i_aload 0 10),
  (10, i_getf 0 8 13),
  (13, i_const (.int (nI 0)) 14),
  (14, i_aq 5 15),
  (15, i_astore 1 16),
  (16, i_const (.int (nI 0)) 17),
  (17, i_istore 2 18),
  (18, i_iload 2 19),
  (19, i_const (.int (nI 1)) 20),
  (20, i_ii (fun x y => x + y) 21),
  (21, i_const (.int (nI 16)) 23),
  (23, i_if2 (fun x y => y ≤ x) 46 26),
  (26, i_aload 0 27),
  (27, i_getf 0 8 30),
  (30, i_iload 2 31),
  (31, i_aload 0 32),
  (32, i_getf 0 8 35),
  (35, i_iload 2 36),
  (36, i_const (.int (nI 1)) 37),
  (37, i_ii (fun x y => x + y) 38),
  (38, i_aq 5 39),
  (39, i_sq [3] 5 40),
  (40, i_iinc 2 (nI 1) 43),
  (43, i_goto 18),
  (46, i_aload 0 47),
  (47, i_getf 0 8 50),
  (50, i_const (.int (nI 15)) 52),
  (52, i_aload 1 53),
  (53, i_sq [3] 5 54),
  (54, i_aload 0 55),
  (55, i_dup 56),
  (56, i_getf 0 9 59),
  (59, i_const (.int (nI 1)) 60),
  (60, i_ii (fun x y => x - y) 61),
  (61, i_putfi 0 9 64),
  (64, i_aload 0 65),
  (65, i_getf 0 8 68),
  (68, i_aload 0 69),
  (69, i_getf 0 9 72),
  (72, i_aq 5 73),
  (73, i_ifnonnull 92 76),
  (76, i_aload 0 77),
  (77, i_getf 0 8 80),
  (80, i_aload 0 81),
  (81, i_getf 0 9 84),
  (84, i_new 3 5 zX4 87),
  (87, i_dup 88),
  (88, i_ci [3] 236 0 91),
  (91, i_sq [3] 5 92),
  (92, i_aload 0 93),
  (93, i_getf 0 8 96),
  (96, i_aload 0 97),
  (97, i_dup 98),
  (98, i_getf 0 9 101),
  (101, i_dup_x1 102),
  (102, i_const (.int (nI 1)) 103),
  (103, i_ii (fun x y => x + y) 104),
  (104, i_putfi 0 9 107),
  (107, i_aq 5 108),
  (108, i_aload 0 109),
  (109, i_getf 0 4 112),
  (112, i_cvv 3 239 1 115),
  (115, i_vret)]
theorem eX1_keeps_0 {ev : xV} {v1 v2 : Option Value} {x : Nat} {st : List Value} {h : xH} : exF ev cX1_keeps 0 ([some (.ref x), v1, v2], []) st h = exF ev cX1_keeps 1 ([some (.ref x), v1, v2], []) (.ref x :: st) h := exF_j (i := (i_aload 0 1)) rfl rfl
theorem eX1_keeps_1 {ev : xV} {v0 v1 v2 : Option Value} {a : Nat} {st : List Value} {h : xH} : exF ev cX1_keeps 1 ([v0, v1, v2], []) (.ref a :: st) h = xO (xgf h a 0 9) (fun v => exF ev cX1_keeps 4 ([v0, v1, v2], []) (v :: st) h) := exF_o (i := (i_getf 0 9 4)) rfl rfl
theorem eX1_keeps_4 {ev : xV} {v0 v1 v2 : Option Value} {st : List Value} {h : xH} : exF ev cX1_keeps 4 ([v0, v1, v2], []) st h = exF ev cX1_keeps 6 ([v0, v1, v2], []) (.int (nI 16) :: st) h := exF_j (i := (i_const (.int (nI 16)) 6)) rfl rfl
theorem eX1_keeps_6 {ev : xV} {v0 v1 v2 : Option Value} {x y : Int32} {st : List Value} {h : xH} : exF ev cX1_keeps 6 ([v0, v1, v2], []) (.int y :: .int x :: st) h = if ¬ x = y then exF ev cX1_keeps 64 ([v0, v1, v2], []) st h else exF ev cX1_keeps 9 ([v0, v1, v2], []) st h := exF_b (i := (i_if2 (fun x y => ¬ x = y) 64 9)) rfl rfl
theorem eX1_keeps_9 {ev : xV} {v1 v2 : Option Value} {x : Nat} {st : List Value} {h : xH} : exF ev cX1_keeps 9 ([some (.ref x), v1, v2], []) st h = exF ev cX1_keeps 10 ([some (.ref x), v1, v2], []) (.ref x :: st) h := exF_j (i := (i_aload 0 10)) rfl rfl
theorem eX1_keeps_10 {ev : xV} {v0 v1 v2 : Option Value} {a : Nat} {st : List Value} {h : xH} : exF ev cX1_keeps 10 ([v0, v1, v2], []) (.ref a :: st) h = xO (xgf h a 0 8) (fun v => exF ev cX1_keeps 13 ([v0, v1, v2], []) (v :: st) h) := exF_o (i := (i_getf 0 8 13)) rfl rfl
theorem eX1_keeps_13 {ev : xV} {v0 v1 v2 : Option Value} {st : List Value} {h : xH} : exF ev cX1_keeps 13 ([v0, v1, v2], []) st h = exF ev cX1_keeps 14 ([v0, v1, v2], []) (.int (nI 0) :: st) h := exF_j (i := (i_const (.int (nI 0)) 14)) rfl rfl
theorem eX1_keeps_14 {ev : xV} {v0 v1 v2 : Option Value} {i : Int32} {a : Nat} {st : List Value} {h : xH} : exF ev cX1_keeps 14 ([v0, v1, v2], []) (.int i :: .ref a :: st) h = xO (xaq h 5 a i) (fun v => exF ev cX1_keeps 15 ([v0, v1, v2], []) (va_rf v :: st) h) := exF_o (i := (i_aq 5 15)) rfl rfl
theorem eX1_keeps_15 {ev : xV} {v0 v1 v2 : Option Value} {x : Nat} {st : List Value} {h : xH} : exF ev cX1_keeps 15 ([v0, v1, v2], []) (.ref x :: st) h = exF ev cX1_keeps 16 ([v0, some (.ref x), v2], []) st h := exF_j (i := (i_astore 1 16)) rfl rfl
theorem eX1_keeps_15n {ev : xV} {v0 v1 v2 : Option Value} {st : List Value} {h : xH} : exF ev cX1_keeps 15 ([v0, v1, v2], []) (.null :: st) h = exF ev cX1_keeps 16 ([v0, some .null, v2], []) st h := exF_j (i := (i_astore 1 16)) rfl rfl
theorem eX1_keeps_16 {ev : xV} {v0 v1 v2 : Option Value} {st : List Value} {h : xH} : exF ev cX1_keeps 16 ([v0, v1, v2], []) st h = exF ev cX1_keeps 17 ([v0, v1, v2], []) (.int (nI 0) :: st) h := exF_j (i := (i_const (.int (nI 0)) 17)) rfl rfl
theorem eX1_keeps_17 {ev : xV} {v0 v1 v2 : Option Value} {x : Int32} {st : List Value} {h : xH} : exF ev cX1_keeps 17 ([v0, v1, v2], []) (.int x :: st) h = exF ev cX1_keeps 18 ([v0, v1, some (.int x)], []) st h := exF_j (i := (i_istore 2 18)) rfl rfl
theorem eX1_keeps_18 {ev : xV} {v0 v1 : Option Value} {x : Int32} {st : List Value} {h : xH} : exF ev cX1_keeps 18 ([v0, v1, some (.int x)], []) st h = exF ev cX1_keeps 19 ([v0, v1, some (.int x)], []) (.int x :: st) h := exF_j (i := (i_iload 2 19)) rfl rfl
theorem eX1_keeps_19 {ev : xV} {v0 v1 v2 : Option Value} {st : List Value} {h : xH} : exF ev cX1_keeps 19 ([v0, v1, v2], []) st h = exF ev cX1_keeps 20 ([v0, v1, v2], []) (.int (nI 1) :: st) h := exF_j (i := (i_const (.int (nI 1)) 20)) rfl rfl
theorem eX1_keeps_20 {ev : xV} {v0 v1 v2 : Option Value} {x y : Int32} {st : List Value} {h : xH} : exF ev cX1_keeps 20 ([v0, v1, v2], []) (.int y :: .int x :: st) h = exF ev cX1_keeps 21 ([v0, v1, v2], []) (.int (x + y) :: st) h := exF_j (i := (i_ii (fun x y => x + y) 21)) rfl rfl
theorem eX1_keeps_21 {ev : xV} {v0 v1 v2 : Option Value} {st : List Value} {h : xH} : exF ev cX1_keeps 21 ([v0, v1, v2], []) st h = exF ev cX1_keeps 23 ([v0, v1, v2], []) (.int (nI 16) :: st) h := exF_j (i := (i_const (.int (nI 16)) 23)) rfl rfl
theorem eX1_keeps_23 {ev : xV} {v0 v1 v2 : Option Value} {x y : Int32} {st : List Value} {h : xH} : exF ev cX1_keeps 23 ([v0, v1, v2], []) (.int y :: .int x :: st) h = if y ≤ x then exF ev cX1_keeps 46 ([v0, v1, v2], []) st h else exF ev cX1_keeps 26 ([v0, v1, v2], []) st h := exF_b (i := (i_if2 (fun x y => y ≤ x) 46 26)) rfl rfl
theorem eX1_keeps_26 {ev : xV} {v1 v2 : Option Value} {x : Nat} {st : List Value} {h : xH} : exF ev cX1_keeps 26 ([some (.ref x), v1, v2], []) st h = exF ev cX1_keeps 27 ([some (.ref x), v1, v2], []) (.ref x :: st) h := exF_j (i := (i_aload 0 27)) rfl rfl
theorem eX1_keeps_27 {ev : xV} {v0 v1 v2 : Option Value} {a : Nat} {st : List Value} {h : xH} : exF ev cX1_keeps 27 ([v0, v1, v2], []) (.ref a :: st) h = xO (xgf h a 0 8) (fun v => exF ev cX1_keeps 30 ([v0, v1, v2], []) (v :: st) h) := exF_o (i := (i_getf 0 8 30)) rfl rfl
theorem eX1_keeps_30 {ev : xV} {v0 v1 : Option Value} {x : Int32} {st : List Value} {h : xH} : exF ev cX1_keeps 30 ([v0, v1, some (.int x)], []) st h = exF ev cX1_keeps 31 ([v0, v1, some (.int x)], []) (.int x :: st) h := exF_j (i := (i_iload 2 31)) rfl rfl
theorem eX1_keeps_31 {ev : xV} {v1 v2 : Option Value} {x : Nat} {st : List Value} {h : xH} : exF ev cX1_keeps 31 ([some (.ref x), v1, v2], []) st h = exF ev cX1_keeps 32 ([some (.ref x), v1, v2], []) (.ref x :: st) h := exF_j (i := (i_aload 0 32)) rfl rfl
theorem eX1_keeps_32 {ev : xV} {v0 v1 v2 : Option Value} {a : Nat} {st : List Value} {h : xH} : exF ev cX1_keeps 32 ([v0, v1, v2], []) (.ref a :: st) h = xO (xgf h a 0 8) (fun v => exF ev cX1_keeps 35 ([v0, v1, v2], []) (v :: st) h) := exF_o (i := (i_getf 0 8 35)) rfl rfl
theorem eX1_keeps_35 {ev : xV} {v0 v1 : Option Value} {x : Int32} {st : List Value} {h : xH} : exF ev cX1_keeps 35 ([v0, v1, some (.int x)], []) st h = exF ev cX1_keeps 36 ([v0, v1, some (.int x)], []) (.int x :: st) h := exF_j (i := (i_iload 2 36)) rfl rfl
theorem eX1_keeps_36 {ev : xV} {v0 v1 v2 : Option Value} {st : List Value} {h : xH} : exF ev cX1_keeps 36 ([v0, v1, v2], []) st h = exF ev cX1_keeps 37 ([v0, v1, v2], []) (.int (nI 1) :: st) h := exF_j (i := (i_const (.int (nI 1)) 37)) rfl rfl
theorem eX1_keeps_37 {ev : xV} {v0 v1 v2 : Option Value} {x y : Int32} {st : List Value} {h : xH} : exF ev cX1_keeps 37 ([v0, v1, v2], []) (.int y :: .int x :: st) h = exF ev cX1_keeps 38 ([v0, v1, v2], []) (.int (x + y) :: st) h := exF_j (i := (i_ii (fun x y => x + y) 38)) rfl rfl
theorem eX1_keeps_38 {ev : xV} {v0 v1 v2 : Option Value} {i : Int32} {a : Nat} {st : List Value} {h : xH} : exF ev cX1_keeps 38 ([v0, v1, v2], []) (.int i :: .ref a :: st) h = xO (xaq h 5 a i) (fun v => exF ev cX1_keeps 39 ([v0, v1, v2], []) (va_rf v :: st) h) := exF_o (i := (i_aq 5 39)) rfl rfl
theorem eX1_keeps_39 {ev : xV} {v0 v1 v2 : Option Value} {v : Nat} {i : Int32} {a : Nat} {st : List Value} {h : xH} : exF ev cX1_keeps 39 ([v0, v1, v2], []) (.ref v :: .int i :: .ref a :: st) h = xO (xsqc h [3] 5 a i v) (fun h => exF ev cX1_keeps 40 ([v0, v1, v2], []) st h) := exF_o (i := (i_sq [3] 5 40)) rfl rfl
theorem eX1_keeps_39n {ev : xV} {v0 v1 v2 : Option Value} {i : Int32} {a : Nat} {st : List Value} {h : xH} : exF ev cX1_keeps 39 ([v0, v1, v2], []) (.null :: .int i :: .ref a :: st) h = xO (xsq h 5 a i none) (fun h => exF ev cX1_keeps 40 ([v0, v1, v2], []) st h) := exF_o (i := (i_sq [3] 5 40)) rfl rfl
theorem eX1_keeps_40 {ev : xV} {v0 v1 : Option Value} {x : Int32} {st : List Value} {h : xH} : exF ev cX1_keeps 40 ([v0, v1, some (.int x)], []) st h = exF ev cX1_keeps 43 ([v0, v1, some (.int (x + (nI 1)))], []) st h := exF_j (i := (i_iinc 2 (nI 1) 43)) rfl rfl
theorem eX1_keeps_43 {ev : xV} {v0 v1 v2 : Option Value} {st : List Value} {h : xH} : exF ev cX1_keeps 43 ([v0, v1, v2], []) st h = exF ev cX1_keeps 18 ([v0, v1, v2], []) st h := exF_j (i := (i_goto 18)) rfl rfl
theorem eX1_keeps_46 {ev : xV} {v1 v2 : Option Value} {x : Nat} {st : List Value} {h : xH} : exF ev cX1_keeps 46 ([some (.ref x), v1, v2], []) st h = exF ev cX1_keeps 47 ([some (.ref x), v1, v2], []) (.ref x :: st) h := exF_j (i := (i_aload 0 47)) rfl rfl
theorem eX1_keeps_47 {ev : xV} {v0 v1 v2 : Option Value} {a : Nat} {st : List Value} {h : xH} : exF ev cX1_keeps 47 ([v0, v1, v2], []) (.ref a :: st) h = xO (xgf h a 0 8) (fun v => exF ev cX1_keeps 50 ([v0, v1, v2], []) (v :: st) h) := exF_o (i := (i_getf 0 8 50)) rfl rfl
theorem eX1_keeps_50 {ev : xV} {v0 v1 v2 : Option Value} {st : List Value} {h : xH} : exF ev cX1_keeps 50 ([v0, v1, v2], []) st h = exF ev cX1_keeps 52 ([v0, v1, v2], []) (.int (nI 15) :: st) h := exF_j (i := (i_const (.int (nI 15)) 52)) rfl rfl
theorem eX1_keeps_52 {ev : xV} {v0 v2 : Option Value} {x : Nat} {st : List Value} {h : xH} : exF ev cX1_keeps 52 ([v0, some (.ref x), v2], []) st h = exF ev cX1_keeps 53 ([v0, some (.ref x), v2], []) (.ref x :: st) h := exF_j (i := (i_aload 1 53)) rfl rfl
theorem eX1_keeps_52n {ev : xV} {v0 v2 : Option Value} {st : List Value} {h : xH} : exF ev cX1_keeps 52 ([v0, some .null, v2], []) st h = exF ev cX1_keeps 53 ([v0, some .null, v2], []) (.null :: st) h := exF_j (i := (i_aload 1 53)) rfl rfl
theorem eX1_keeps_53 {ev : xV} {v0 v1 v2 : Option Value} {v : Nat} {i : Int32} {a : Nat} {st : List Value} {h : xH} : exF ev cX1_keeps 53 ([v0, v1, v2], []) (.ref v :: .int i :: .ref a :: st) h = xO (xsqc h [3] 5 a i v) (fun h => exF ev cX1_keeps 54 ([v0, v1, v2], []) st h) := exF_o (i := (i_sq [3] 5 54)) rfl rfl
theorem eX1_keeps_53n {ev : xV} {v0 v1 v2 : Option Value} {i : Int32} {a : Nat} {st : List Value} {h : xH} : exF ev cX1_keeps 53 ([v0, v1, v2], []) (.null :: .int i :: .ref a :: st) h = xO (xsq h 5 a i none) (fun h => exF ev cX1_keeps 54 ([v0, v1, v2], []) st h) := exF_o (i := (i_sq [3] 5 54)) rfl rfl
theorem eX1_keeps_54 {ev : xV} {v1 v2 : Option Value} {x : Nat} {st : List Value} {h : xH} : exF ev cX1_keeps 54 ([some (.ref x), v1, v2], []) st h = exF ev cX1_keeps 55 ([some (.ref x), v1, v2], []) (.ref x :: st) h := exF_j (i := (i_aload 0 55)) rfl rfl
theorem eX1_keeps_55 {ev : xV} {v0 v1 v2 : Option Value} {x : Nat} {st : List Value} {h : xH} : exF ev cX1_keeps 55 ([v0, v1, v2], []) (.ref x :: st) h = exF ev cX1_keeps 56 ([v0, v1, v2], []) (.ref x :: .ref x :: st) h := exF_j (i := (i_dup 56)) rfl rfl
theorem eX1_keeps_56 {ev : xV} {v0 v1 v2 : Option Value} {a : Nat} {st : List Value} {h : xH} : exF ev cX1_keeps 56 ([v0, v1, v2], []) (.ref a :: st) h = xO (xgf h a 0 9) (fun v => exF ev cX1_keeps 59 ([v0, v1, v2], []) (v :: st) h) := exF_o (i := (i_getf 0 9 59)) rfl rfl
theorem eX1_keeps_59 {ev : xV} {v0 v1 v2 : Option Value} {st : List Value} {h : xH} : exF ev cX1_keeps 59 ([v0, v1, v2], []) st h = exF ev cX1_keeps 60 ([v0, v1, v2], []) (.int (nI 1) :: st) h := exF_j (i := (i_const (.int (nI 1)) 60)) rfl rfl
theorem eX1_keeps_60 {ev : xV} {v0 v1 v2 : Option Value} {x y : Int32} {st : List Value} {h : xH} : exF ev cX1_keeps 60 ([v0, v1, v2], []) (.int y :: .int x :: st) h = exF ev cX1_keeps 61 ([v0, v1, v2], []) (.int (x - y) :: st) h := exF_j (i := (i_ii (fun x y => x - y) 61)) rfl rfl
theorem eX1_keeps_61 {ev : xV} {v0 v1 v2 : Option Value} {x : Int32} {a : Nat} {st : List Value} {h : xH} : exF ev cX1_keeps 61 ([v0, v1, v2], []) (.int x :: .ref a :: st) h = xO (xpf h a 0 9 (.int x)) (fun h => exF ev cX1_keeps 64 ([v0, v1, v2], []) st h) := exF_o (i := (i_putfi 0 9 64)) rfl rfl
theorem eX1_keeps_64 {ev : xV} {v1 v2 : Option Value} {x : Nat} {st : List Value} {h : xH} : exF ev cX1_keeps 64 ([some (.ref x), v1, v2], []) st h = exF ev cX1_keeps 65 ([some (.ref x), v1, v2], []) (.ref x :: st) h := exF_j (i := (i_aload 0 65)) rfl rfl
theorem eX1_keeps_65 {ev : xV} {v0 v1 v2 : Option Value} {a : Nat} {st : List Value} {h : xH} : exF ev cX1_keeps 65 ([v0, v1, v2], []) (.ref a :: st) h = xO (xgf h a 0 8) (fun v => exF ev cX1_keeps 68 ([v0, v1, v2], []) (v :: st) h) := exF_o (i := (i_getf 0 8 68)) rfl rfl
theorem eX1_keeps_68 {ev : xV} {v1 v2 : Option Value} {x : Nat} {st : List Value} {h : xH} : exF ev cX1_keeps 68 ([some (.ref x), v1, v2], []) st h = exF ev cX1_keeps 69 ([some (.ref x), v1, v2], []) (.ref x :: st) h := exF_j (i := (i_aload 0 69)) rfl rfl
theorem eX1_keeps_69 {ev : xV} {v0 v1 v2 : Option Value} {a : Nat} {st : List Value} {h : xH} : exF ev cX1_keeps 69 ([v0, v1, v2], []) (.ref a :: st) h = xO (xgf h a 0 9) (fun v => exF ev cX1_keeps 72 ([v0, v1, v2], []) (v :: st) h) := exF_o (i := (i_getf 0 9 72)) rfl rfl
theorem eX1_keeps_72 {ev : xV} {v0 v1 v2 : Option Value} {i : Int32} {a : Nat} {st : List Value} {h : xH} : exF ev cX1_keeps 72 ([v0, v1, v2], []) (.int i :: .ref a :: st) h = xO (xaq h 5 a i) (fun v => exF ev cX1_keeps 73 ([v0, v1, v2], []) (va_rf v :: st) h) := exF_o (i := (i_aq 5 73)) rfl rfl
theorem eX1_keeps_73n {ev : xV} {v0 v1 v2 : Option Value} {st : List Value} {h : xH} : exF ev cX1_keeps 73 ([v0, v1, v2], []) (.null :: st) h = exF ev cX1_keeps 76 ([v0, v1, v2], []) st h := exF_j (i := (i_ifnonnull 92 76)) rfl rfl
theorem eX1_keeps_73 {ev : xV} {v0 v1 v2 : Option Value} {x : Nat} (hx : 64 ≤ x) {st : List Value} {h : xH} : exF ev cX1_keeps 73 ([v0, v1, v2], []) (.ref x :: st) h = exF ev cX1_keeps 92 ([v0, v1, v2], []) st h := exF_j (i := (i_ifnonnull 92 76)) rfl (if_neg (Nat.not_lt.mpr hx))
theorem eX1_keeps_76 {ev : xV} {v1 v2 : Option Value} {x : Nat} {st : List Value} {h : xH} : exF ev cX1_keeps 76 ([some (.ref x), v1, v2], []) st h = exF ev cX1_keeps 77 ([some (.ref x), v1, v2], []) (.ref x :: st) h := exF_j (i := (i_aload 0 77)) rfl rfl
theorem eX1_keeps_77 {ev : xV} {v0 v1 v2 : Option Value} {a : Nat} {st : List Value} {h : xH} : exF ev cX1_keeps 77 ([v0, v1, v2], []) (.ref a :: st) h = xO (xgf h a 0 8) (fun v => exF ev cX1_keeps 80 ([v0, v1, v2], []) (v :: st) h) := exF_o (i := (i_getf 0 8 80)) rfl rfl
theorem eX1_keeps_80 {ev : xV} {v1 v2 : Option Value} {x : Nat} {st : List Value} {h : xH} : exF ev cX1_keeps 80 ([some (.ref x), v1, v2], []) st h = exF ev cX1_keeps 81 ([some (.ref x), v1, v2], []) (.ref x :: st) h := exF_j (i := (i_aload 0 81)) rfl rfl
theorem eX1_keeps_81 {ev : xV} {v0 v1 v2 : Option Value} {a : Nat} {st : List Value} {h : xH} : exF ev cX1_keeps 81 ([v0, v1, v2], []) (.ref a :: st) h = xO (xgf h a 0 9) (fun v => exF ev cX1_keeps 84 ([v0, v1, v2], []) (v :: st) h) := exF_o (i := (i_getf 0 9 84)) rfl rfl
theorem eX1_keeps_84 {ev : xV} {v0 v1 v2 : Option Value} {st : List Value} {h : xH} : exF ev cX1_keeps 84 ([v0, v1, v2], []) st h = exF ev cX1_keeps 87 ([v0, v1, v2], []) (.ref h.2.1 :: st) (xnew h (.inr (3, zX4)) 5) := exF_j (i := (i_new 3 5 zX4 87)) rfl rfl
theorem eX1_keeps_87 {ev : xV} {v0 v1 v2 : Option Value} {x : Nat} {st : List Value} {h : xH} : exF ev cX1_keeps 87 ([v0, v1, v2], []) (.ref x :: st) h = exF ev cX1_keeps 88 ([v0, v1, v2], []) (.ref x :: .ref x :: st) h := exF_j (i := (i_dup 88)) rfl rfl
theorem eX1_keeps_88 {ev : xV} {v0 v1 v2 : Option Value} {r0 : Value} {r1 : Value} {r2 : Value} {a : Nat} {h : xH} : exF ev cX1_keeps 88 ([v0, v1, v2], []) [.ref a, r0, r1, r2] h = xO (xckc h [3] a) (fun _ => xBv (ev 236 [.ref a] h) (fun h => exF ev cX1_keeps 91 ([v0, v1, v2], []) [r0, r1, r2] h)) := exF_cdv (i := (i_ci [3] 236 0 91)) rfl rfl
theorem eX1_keeps_91 {ev : xV} {v0 v1 v2 : Option Value} {v : Nat} {i : Int32} {a : Nat} {st : List Value} {h : xH} : exF ev cX1_keeps 91 ([v0, v1, v2], []) (.ref v :: .int i :: .ref a :: st) h = xO (xsqc h [3] 5 a i v) (fun h => exF ev cX1_keeps 92 ([v0, v1, v2], []) st h) := exF_o (i := (i_sq [3] 5 92)) rfl rfl
theorem eX1_keeps_91n {ev : xV} {v0 v1 v2 : Option Value} {i : Int32} {a : Nat} {st : List Value} {h : xH} : exF ev cX1_keeps 91 ([v0, v1, v2], []) (.null :: .int i :: .ref a :: st) h = xO (xsq h 5 a i none) (fun h => exF ev cX1_keeps 92 ([v0, v1, v2], []) st h) := exF_o (i := (i_sq [3] 5 92)) rfl rfl
theorem eX1_keeps_92 {ev : xV} {v1 v2 : Option Value} {x : Nat} {st : List Value} {h : xH} : exF ev cX1_keeps 92 ([some (.ref x), v1, v2], []) st h = exF ev cX1_keeps 93 ([some (.ref x), v1, v2], []) (.ref x :: st) h := exF_j (i := (i_aload 0 93)) rfl rfl
theorem eX1_keeps_93 {ev : xV} {v0 v1 v2 : Option Value} {a : Nat} {st : List Value} {h : xH} : exF ev cX1_keeps 93 ([v0, v1, v2], []) (.ref a :: st) h = xO (xgf h a 0 8) (fun v => exF ev cX1_keeps 96 ([v0, v1, v2], []) (v :: st) h) := exF_o (i := (i_getf 0 8 96)) rfl rfl
theorem eX1_keeps_96 {ev : xV} {v1 v2 : Option Value} {x : Nat} {st : List Value} {h : xH} : exF ev cX1_keeps 96 ([some (.ref x), v1, v2], []) st h = exF ev cX1_keeps 97 ([some (.ref x), v1, v2], []) (.ref x :: st) h := exF_j (i := (i_aload 0 97)) rfl rfl
theorem eX1_keeps_97 {ev : xV} {v0 v1 v2 : Option Value} {x : Nat} {st : List Value} {h : xH} : exF ev cX1_keeps 97 ([v0, v1, v2], []) (.ref x :: st) h = exF ev cX1_keeps 98 ([v0, v1, v2], []) (.ref x :: .ref x :: st) h := exF_j (i := (i_dup 98)) rfl rfl
theorem eX1_keeps_98 {ev : xV} {v0 v1 v2 : Option Value} {a : Nat} {st : List Value} {h : xH} : exF ev cX1_keeps 98 ([v0, v1, v2], []) (.ref a :: st) h = xO (xgf h a 0 9) (fun v => exF ev cX1_keeps 101 ([v0, v1, v2], []) (v :: st) h) := exF_o (i := (i_getf 0 9 101)) rfl rfl
theorem eX1_keeps_101 {ev : xV} {v0 v1 v2 : Option Value} {x : Int32} {y : Nat} {st : List Value} {h : xH} : exF ev cX1_keeps 101 ([v0, v1, v2], []) (.int x :: .ref y :: st) h = exF ev cX1_keeps 102 ([v0, v1, v2], []) (.int x :: .ref y :: .int x :: st) h := exF_j (i := (i_dup_x1 102)) rfl rfl
theorem eX1_keeps_102 {ev : xV} {v0 v1 v2 : Option Value} {st : List Value} {h : xH} : exF ev cX1_keeps 102 ([v0, v1, v2], []) st h = exF ev cX1_keeps 103 ([v0, v1, v2], []) (.int (nI 1) :: st) h := exF_j (i := (i_const (.int (nI 1)) 103)) rfl rfl
theorem eX1_keeps_103 {ev : xV} {v0 v1 v2 : Option Value} {x y : Int32} {st : List Value} {h : xH} : exF ev cX1_keeps 103 ([v0, v1, v2], []) (.int y :: .int x :: st) h = exF ev cX1_keeps 104 ([v0, v1, v2], []) (.int (x + y) :: st) h := exF_j (i := (i_ii (fun x y => x + y) 104)) rfl rfl
theorem eX1_keeps_104 {ev : xV} {v0 v1 v2 : Option Value} {x : Int32} {a : Nat} {st : List Value} {h : xH} : exF ev cX1_keeps 104 ([v0, v1, v2], []) (.int x :: .ref a :: st) h = xO (xpf h a 0 9 (.int x)) (fun h => exF ev cX1_keeps 107 ([v0, v1, v2], []) st h) := exF_o (i := (i_putfi 0 9 107)) rfl rfl
theorem eX1_keeps_107 {ev : xV} {v0 v1 v2 : Option Value} {i : Int32} {a : Nat} {st : List Value} {h : xH} : exF ev cX1_keeps 107 ([v0, v1, v2], []) (.int i :: .ref a :: st) h = xO (xaq h 5 a i) (fun v => exF ev cX1_keeps 108 ([v0, v1, v2], []) (va_rf v :: st) h) := exF_o (i := (i_aq 5 108)) rfl rfl
theorem eX1_keeps_108 {ev : xV} {v1 v2 : Option Value} {x : Nat} {st : List Value} {h : xH} : exF ev cX1_keeps 108 ([some (.ref x), v1, v2], []) st h = exF ev cX1_keeps 109 ([some (.ref x), v1, v2], []) (.ref x :: st) h := exF_j (i := (i_aload 0 109)) rfl rfl
theorem eX1_keeps_109 {ev : xV} {v0 v1 v2 : Option Value} {a : Nat} {st : List Value} {h : xH} : exF ev cX1_keeps 109 ([v0, v1, v2], []) (.ref a :: st) h = xO (xgf h a 0 4) (fun v => exF ev cX1_keeps 112 ([v0, v1, v2], []) (v :: st) h) := exF_o (i := (i_getf 0 4 112)) rfl rfl
theorem eX1_keeps_112 {ev : xV} {v0 v1 v2 : Option Value} {a0 : Value} {a : Nat} {h : xH} : exF ev cX1_keeps 112 ([v0, v1, v2], []) [a0, .ref a] h = xO (xck h a 3) (fun _ => xBv (ev 239 [.ref a, a0] h) (fun h => exF ev cX1_keeps 115 ([v0, v1, v2], []) [] h)) := exF_cdv (i := (i_cvv 3 239 1 115)) rfl rfl
theorem eX1_keeps_115 {ev : xV} {v0 v1 v2 : Option Value} {h : xH} : exF ev cX1_keeps 115 ([v0, v1, v2], []) [] h = some (.inl none, h) := exF_r (i := (i_vret)) rfl rfl
noncomputable def cX1_passes : xC := [(0, i_aload 0 1),
  (1, i_aload 1 2),
  (2, i_aload 0 3),
  (3, i_getf 0 2 6),
  (6, i_aload 1 7),
  (7, i_getf 3 4 10),
  (10, i_cv 2 235 1 13),
  (13, i_cvv 0 105 2 16),
  (16, i_vret)]
theorem eX1_passes_0 {ev : xV} {v1 : Option Value} {x : Nat} {st : List Value} {h : xH} : exF ev cX1_passes 0 ([some (.ref x), v1], []) st h = exF ev cX1_passes 1 ([some (.ref x), v1], []) (.ref x :: st) h := exF_j (i := (i_aload 0 1)) rfl rfl
theorem eX1_passes_1 {ev : xV} {v0 : Option Value} {x : Nat} {st : List Value} {h : xH} : exF ev cX1_passes 1 ([v0, some (.ref x)], []) st h = exF ev cX1_passes 2 ([v0, some (.ref x)], []) (.ref x :: st) h := exF_j (i := (i_aload 1 2)) rfl rfl
theorem eX1_passes_1n {ev : xV} {v0 : Option Value} {st : List Value} {h : xH} : exF ev cX1_passes 1 ([v0, some .null], []) st h = exF ev cX1_passes 2 ([v0, some .null], []) (.null :: st) h := exF_j (i := (i_aload 1 2)) rfl rfl
theorem eX1_passes_2 {ev : xV} {v1 : Option Value} {x : Nat} {st : List Value} {h : xH} : exF ev cX1_passes 2 ([some (.ref x), v1], []) st h = exF ev cX1_passes 3 ([some (.ref x), v1], []) (.ref x :: st) h := exF_j (i := (i_aload 0 3)) rfl rfl
theorem eX1_passes_3 {ev : xV} {v0 v1 : Option Value} {a : Nat} {st : List Value} {h : xH} : exF ev cX1_passes 3 ([v0, v1], []) (.ref a :: st) h = xO (xgf h a 0 2) (fun v => exF ev cX1_passes 6 ([v0, v1], []) (v :: st) h) := exF_o (i := (i_getf 0 2 6)) rfl rfl
theorem eX1_passes_6 {ev : xV} {v0 : Option Value} {x : Nat} {st : List Value} {h : xH} : exF ev cX1_passes 6 ([v0, some (.ref x)], []) st h = exF ev cX1_passes 7 ([v0, some (.ref x)], []) (.ref x :: st) h := exF_j (i := (i_aload 1 7)) rfl rfl
theorem eX1_passes_6n {ev : xV} {v0 : Option Value} {st : List Value} {h : xH} : exF ev cX1_passes 6 ([v0, some .null], []) st h = exF ev cX1_passes 7 ([v0, some .null], []) (.null :: st) h := exF_j (i := (i_aload 1 7)) rfl rfl
theorem eX1_passes_7 {ev : xV} {v0 v1 : Option Value} {a : Nat} {st : List Value} {h : xH} : exF ev cX1_passes 7 ([v0, v1], []) (.ref a :: st) h = xO (xgf h a 3 4) (fun v => exF ev cX1_passes 10 ([v0, v1], []) (v :: st) h) := exF_o (i := (i_getf 3 4 10)) rfl rfl
theorem eX1_passes_10 {ev : xV} {v0 v1 : Option Value} {a0 : Value} {r0 : Value} {r1 : Value} {a : Nat} {h : xH} : exF ev cX1_passes 10 ([v0, v1], []) [a0, .ref a, r0, r1] h = xO (xck h a 2) (fun _ => xB (ev 235 [.ref a, a0] h) (fun v h => exF ev cX1_passes 13 ([v0, v1], []) [v, r0, r1] h)) := exF_cd (i := (i_cv 2 235 1 13)) rfl rfl
theorem eX1_passes_13 {ev : xV} {v0 v1 : Option Value} {a0 : Value} {a1 : Value} {a : Nat} {h : xH} : exF ev cX1_passes 13 ([v0, v1], []) [a1, a0, .ref a] h = xO (xck h a 0) (fun _ => xBv (ev 105 [.ref a, a0, a1] h) (fun h => exF ev cX1_passes 16 ([v0, v1], []) [] h)) := exF_cdv (i := (i_cvv 0 105 2 16)) rfl rfl
theorem eX1_passes_16 {ev : xV} {v0 v1 : Option Value} {h : xH} : exF ev cX1_passes 16 ([v0, v1], []) [] h = some (.inl none, h) := exF_r (i := (i_vret)) rfl rfl
noncomputable def cX1_passes_2 : xC := [(0, i_const (.int (nI 0)) 1),
  (1, i_istore 3 2),
  (2, i_iload 3 3),
  (3, i_aload 0 4),
  (4, i_cv 0 96 0 7),
  (7, i_if2 (fun x y => y ≤ x) 94 10),
  (10, i_aload 0 11),
  (11, i_iload 3 12),
  (12, i_cv 0 97 1 15),
  (15, i_getf 6 2 18),
  (18, i_astore 4 20),
  (20, i_iload 2 21),
  (21, i_aload 4 23),
  (23, i_ca [(7, 373), (8, 168), (9, 173), (10, 178)] 0 26),
  (26, i_if2 (fun x y => x ≤ y) 57 29),
  (29, i_aload 1 30),
  (30, i_getf 3 0 33),
  (33, i_iload 3 34),
  (34, i_const (.int (nI 30)) 36),
  (36, i_aload 1 37),
  (37, i_getf 3 0 40),
  (40, i_iload 3 41),
  (41, i_ai 0 42),
  (42, i_aload 0 43),
  (43, i_aload 1 44),
  (44, i_iload 3 45),
  (45, i_iload 2 46),
  (46, i_cv 0 106 3 49),
  (49, i_ii (fun x y => x + y) 50),
  (50, i_cs 63 2 53),
  (53, i_si (fun v => v) 0 54),
  (54, i_goto 88),
  (57, i_iload 2 58),
  (58, i_aload 4 60),
  (60, i_ca [(7, 374), (8, 169), (9, 174), (10, 179)] 0 63),
  (63, i_if2 (fun x y => y ≤ x) 88 66),
  (66, i_aload 1 67),
  (67, i_getf 3 0 70),
  (70, i_iload 3 71),
  (71, i_const (.int (nI 0)) 72),
  (72, i_aload 1 73),
  (73, i_getf 3 0 76),
  (76, i_iload 3 77),
  (77, i_ai 0 78),
  (78, i_aload 4 80),
  (80, i_ca [(7, 375), (8, 170), (9, 175), (10, 180)] 0 83),
  (83, i_ii (fun x y => x - y) 84),
  (84, i_cs 62 2 87),
  (87, i_si (fun v => v) 0 88),
  (88, i_iinc 3 (nI 1) 91),
  (91, i_goto 2),
  (94, i_aload 1 95),
  (95, i_dup 96),
  (96, i_getf 3 4 99),
  (99, i_const (.int (nI 1)) 100),
  (100, i_ii (fun x y => x + y) 101),
  (101, i_putfi 3 4 104),
  (104, i_vret)]
theorem eX1_passes_2_0 {ev : xV} {v0 v1 v2 v3 v4 : Option Value} {st : List Value} {h : xH} : exF ev cX1_passes_2 0 ([v0, v1, v2, v3, v4], []) st h = exF ev cX1_passes_2 1 ([v0, v1, v2, v3, v4], []) (.int (nI 0) :: st) h := exF_j (i := (i_const (.int (nI 0)) 1)) rfl rfl
theorem eX1_passes_2_1 {ev : xV} {v0 v1 v2 v3 v4 : Option Value} {x : Int32} {st : List Value} {h : xH} : exF ev cX1_passes_2 1 ([v0, v1, v2, v3, v4], []) (.int x :: st) h = exF ev cX1_passes_2 2 ([v0, v1, v2, some (.int x), v4], []) st h := exF_j (i := (i_istore 3 2)) rfl rfl
theorem eX1_passes_2_2 {ev : xV} {v0 v1 v2 v4 : Option Value} {x : Int32} {st : List Value} {h : xH} : exF ev cX1_passes_2 2 ([v0, v1, v2, some (.int x), v4], []) st h = exF ev cX1_passes_2 3 ([v0, v1, v2, some (.int x), v4], []) (.int x :: st) h := exF_j (i := (i_iload 3 3)) rfl rfl
theorem eX1_passes_2_3 {ev : xV} {v1 v2 v3 v4 : Option Value} {x : Nat} {st : List Value} {h : xH} : exF ev cX1_passes_2 3 ([some (.ref x), v1, v2, v3, v4], []) st h = exF ev cX1_passes_2 4 ([some (.ref x), v1, v2, v3, v4], []) (.ref x :: st) h := exF_j (i := (i_aload 0 4)) rfl rfl
theorem eX1_passes_2_4 {ev : xV} {v0 v1 v2 v3 v4 : Option Value} {r0 : Value} {a : Nat} {h : xH} : exF ev cX1_passes_2 4 ([v0, v1, v2, v3, v4], []) [.ref a, r0] h = xO (xck h a 0) (fun _ => xB (ev 96 [.ref a] h) (fun v h => exF ev cX1_passes_2 7 ([v0, v1, v2, v3, v4], []) [v, r0] h)) := exF_cd (i := (i_cv 0 96 0 7)) rfl rfl
theorem eX1_passes_2_7 {ev : xV} {v0 v1 v2 v3 v4 : Option Value} {x y : Int32} {st : List Value} {h : xH} : exF ev cX1_passes_2 7 ([v0, v1, v2, v3, v4], []) (.int y :: .int x :: st) h = if y ≤ x then exF ev cX1_passes_2 94 ([v0, v1, v2, v3, v4], []) st h else exF ev cX1_passes_2 10 ([v0, v1, v2, v3, v4], []) st h := exF_b (i := (i_if2 (fun x y => y ≤ x) 94 10)) rfl rfl
theorem eX1_passes_2_10 {ev : xV} {v1 v2 v3 v4 : Option Value} {x : Nat} {st : List Value} {h : xH} : exF ev cX1_passes_2 10 ([some (.ref x), v1, v2, v3, v4], []) st h = exF ev cX1_passes_2 11 ([some (.ref x), v1, v2, v3, v4], []) (.ref x :: st) h := exF_j (i := (i_aload 0 11)) rfl rfl
theorem eX1_passes_2_11 {ev : xV} {v0 v1 v2 v4 : Option Value} {x : Int32} {st : List Value} {h : xH} : exF ev cX1_passes_2 11 ([v0, v1, v2, some (.int x), v4], []) st h = exF ev cX1_passes_2 12 ([v0, v1, v2, some (.int x), v4], []) (.int x :: st) h := exF_j (i := (i_iload 3 12)) rfl rfl
theorem eX1_passes_2_12 {ev : xV} {v0 v1 v2 v3 v4 : Option Value} {a0 : Value} {a : Nat} {h : xH} : exF ev cX1_passes_2 12 ([v0, v1, v2, v3, v4], []) [a0, .ref a] h = xO (xck h a 0) (fun _ => xB (ev 97 [.ref a, a0] h) (fun v h => exF ev cX1_passes_2 15 ([v0, v1, v2, v3, v4], []) [v] h)) := exF_cd (i := (i_cv 0 97 1 15)) rfl rfl
theorem eX1_passes_2_15 {ev : xV} {v0 v1 v2 v3 v4 : Option Value} {a : Nat} {st : List Value} {h : xH} : exF ev cX1_passes_2 15 ([v0, v1, v2, v3, v4], []) (.ref a :: st) h = xO (xgf h a 6 2) (fun v => exF ev cX1_passes_2 18 ([v0, v1, v2, v3, v4], []) (v :: st) h) := exF_o (i := (i_getf 6 2 18)) rfl rfl
theorem eX1_passes_2_18 {ev : xV} {v0 v1 v2 v3 v4 : Option Value} {x : Nat} {st : List Value} {h : xH} : exF ev cX1_passes_2 18 ([v0, v1, v2, v3, v4], []) (.ref x :: st) h = exF ev cX1_passes_2 20 ([v0, v1, v2, v3, some (.ref x)], []) st h := exF_j (i := (i_astore 4 20)) rfl rfl
theorem eX1_passes_2_18n {ev : xV} {v0 v1 v2 v3 v4 : Option Value} {st : List Value} {h : xH} : exF ev cX1_passes_2 18 ([v0, v1, v2, v3, v4], []) (.null :: st) h = exF ev cX1_passes_2 20 ([v0, v1, v2, v3, some .null], []) st h := exF_j (i := (i_astore 4 20)) rfl rfl
theorem eX1_passes_2_20 {ev : xV} {v0 v1 v3 v4 : Option Value} {x : Int32} {st : List Value} {h : xH} : exF ev cX1_passes_2 20 ([v0, v1, some (.int x), v3, v4], []) st h = exF ev cX1_passes_2 21 ([v0, v1, some (.int x), v3, v4], []) (.int x :: st) h := exF_j (i := (i_iload 2 21)) rfl rfl
theorem eX1_passes_2_21 {ev : xV} {v0 v1 v2 v3 : Option Value} {x : Nat} {st : List Value} {h : xH} : exF ev cX1_passes_2 21 ([v0, v1, v2, v3, some (.ref x)], []) st h = exF ev cX1_passes_2 23 ([v0, v1, v2, v3, some (.ref x)], []) (.ref x :: st) h := exF_j (i := (i_aload 4 23)) rfl rfl
theorem eX1_passes_2_21n {ev : xV} {v0 v1 v2 v3 : Option Value} {st : List Value} {h : xH} : exF ev cX1_passes_2 21 ([v0, v1, v2, v3, some .null], []) st h = exF ev cX1_passes_2 23 ([v0, v1, v2, v3, some .null], []) (.null :: st) h := exF_j (i := (i_aload 4 23)) rfl rfl
theorem eX1_passes_2_23 {ev : xV} {v0 v1 v2 v3 v4 : Option Value} {r0 : Value} {a : Nat} {h : xH} : exF ev cX1_passes_2 23 ([v0, v1, v2, v3, v4], []) [.ref a, r0] h = xO (xcl h a) (fun ci => xO (([(7, 373), (8, 168), (9, 173), (10, 178)] : List (Nat × Nat)).lookup ci) (fun k => xB (ev k [.ref a] h) (fun v h => exF ev cX1_passes_2 26 ([v0, v1, v2, v3, v4], []) [v, r0] h))) := exF_ca (i := (i_ca [(7, 373), (8, 168), (9, 173), (10, 178)] 0 26)) rfl rfl
theorem eX1_passes_2_26 {ev : xV} {v0 v1 v2 v3 v4 : Option Value} {x y : Int32} {st : List Value} {h : xH} : exF ev cX1_passes_2 26 ([v0, v1, v2, v3, v4], []) (.int y :: .int x :: st) h = if x ≤ y then exF ev cX1_passes_2 57 ([v0, v1, v2, v3, v4], []) st h else exF ev cX1_passes_2 29 ([v0, v1, v2, v3, v4], []) st h := exF_b (i := (i_if2 (fun x y => x ≤ y) 57 29)) rfl rfl
theorem eX1_passes_2_29 {ev : xV} {v0 v2 v3 v4 : Option Value} {x : Nat} {st : List Value} {h : xH} : exF ev cX1_passes_2 29 ([v0, some (.ref x), v2, v3, v4], []) st h = exF ev cX1_passes_2 30 ([v0, some (.ref x), v2, v3, v4], []) (.ref x :: st) h := exF_j (i := (i_aload 1 30)) rfl rfl
theorem eX1_passes_2_29n {ev : xV} {v0 v2 v3 v4 : Option Value} {st : List Value} {h : xH} : exF ev cX1_passes_2 29 ([v0, some .null, v2, v3, v4], []) st h = exF ev cX1_passes_2 30 ([v0, some .null, v2, v3, v4], []) (.null :: st) h := exF_j (i := (i_aload 1 30)) rfl rfl
theorem eX1_passes_2_30 {ev : xV} {v0 v1 v2 v3 v4 : Option Value} {a : Nat} {st : List Value} {h : xH} : exF ev cX1_passes_2 30 ([v0, v1, v2, v3, v4], []) (.ref a :: st) h = xO (xgf h a 3 0) (fun v => exF ev cX1_passes_2 33 ([v0, v1, v2, v3, v4], []) (v :: st) h) := exF_o (i := (i_getf 3 0 33)) rfl rfl
theorem eX1_passes_2_33 {ev : xV} {v0 v1 v2 v4 : Option Value} {x : Int32} {st : List Value} {h : xH} : exF ev cX1_passes_2 33 ([v0, v1, v2, some (.int x), v4], []) st h = exF ev cX1_passes_2 34 ([v0, v1, v2, some (.int x), v4], []) (.int x :: st) h := exF_j (i := (i_iload 3 34)) rfl rfl
theorem eX1_passes_2_34 {ev : xV} {v0 v1 v2 v3 v4 : Option Value} {st : List Value} {h : xH} : exF ev cX1_passes_2 34 ([v0, v1, v2, v3, v4], []) st h = exF ev cX1_passes_2 36 ([v0, v1, v2, v3, v4], []) (.int (nI 30) :: st) h := exF_j (i := (i_const (.int (nI 30)) 36)) rfl rfl
theorem eX1_passes_2_36 {ev : xV} {v0 v2 v3 v4 : Option Value} {x : Nat} {st : List Value} {h : xH} : exF ev cX1_passes_2 36 ([v0, some (.ref x), v2, v3, v4], []) st h = exF ev cX1_passes_2 37 ([v0, some (.ref x), v2, v3, v4], []) (.ref x :: st) h := exF_j (i := (i_aload 1 37)) rfl rfl
theorem eX1_passes_2_36n {ev : xV} {v0 v2 v3 v4 : Option Value} {st : List Value} {h : xH} : exF ev cX1_passes_2 36 ([v0, some .null, v2, v3, v4], []) st h = exF ev cX1_passes_2 37 ([v0, some .null, v2, v3, v4], []) (.null :: st) h := exF_j (i := (i_aload 1 37)) rfl rfl
theorem eX1_passes_2_37 {ev : xV} {v0 v1 v2 v3 v4 : Option Value} {a : Nat} {st : List Value} {h : xH} : exF ev cX1_passes_2 37 ([v0, v1, v2, v3, v4], []) (.ref a :: st) h = xO (xgf h a 3 0) (fun v => exF ev cX1_passes_2 40 ([v0, v1, v2, v3, v4], []) (v :: st) h) := exF_o (i := (i_getf 3 0 40)) rfl rfl
theorem eX1_passes_2_40 {ev : xV} {v0 v1 v2 v4 : Option Value} {x : Int32} {st : List Value} {h : xH} : exF ev cX1_passes_2 40 ([v0, v1, v2, some (.int x), v4], []) st h = exF ev cX1_passes_2 41 ([v0, v1, v2, some (.int x), v4], []) (.int x :: st) h := exF_j (i := (i_iload 3 41)) rfl rfl
theorem eX1_passes_2_41 {ev : xV} {v0 v1 v2 v3 v4 : Option Value} {i : Int32} {a : Nat} {st : List Value} {h : xH} : exF ev cX1_passes_2 41 ([v0, v1, v2, v3, v4], []) (.int i :: .ref a :: st) h = xO (xai h 0 a i) (fun v => exF ev cX1_passes_2 42 ([v0, v1, v2, v3, v4], []) (.int v :: st) h) := exF_o (i := (i_ai 0 42)) rfl rfl
theorem eX1_passes_2_42 {ev : xV} {v1 v2 v3 v4 : Option Value} {x : Nat} {st : List Value} {h : xH} : exF ev cX1_passes_2 42 ([some (.ref x), v1, v2, v3, v4], []) st h = exF ev cX1_passes_2 43 ([some (.ref x), v1, v2, v3, v4], []) (.ref x :: st) h := exF_j (i := (i_aload 0 43)) rfl rfl
theorem eX1_passes_2_43 {ev : xV} {v0 v2 v3 v4 : Option Value} {x : Nat} {st : List Value} {h : xH} : exF ev cX1_passes_2 43 ([v0, some (.ref x), v2, v3, v4], []) st h = exF ev cX1_passes_2 44 ([v0, some (.ref x), v2, v3, v4], []) (.ref x :: st) h := exF_j (i := (i_aload 1 44)) rfl rfl
theorem eX1_passes_2_43n {ev : xV} {v0 v2 v3 v4 : Option Value} {st : List Value} {h : xH} : exF ev cX1_passes_2 43 ([v0, some .null, v2, v3, v4], []) st h = exF ev cX1_passes_2 44 ([v0, some .null, v2, v3, v4], []) (.null :: st) h := exF_j (i := (i_aload 1 44)) rfl rfl
theorem eX1_passes_2_44 {ev : xV} {v0 v1 v2 v4 : Option Value} {x : Int32} {st : List Value} {h : xH} : exF ev cX1_passes_2 44 ([v0, v1, v2, some (.int x), v4], []) st h = exF ev cX1_passes_2 45 ([v0, v1, v2, some (.int x), v4], []) (.int x :: st) h := exF_j (i := (i_iload 3 45)) rfl rfl
theorem eX1_passes_2_45 {ev : xV} {v0 v1 v3 v4 : Option Value} {x : Int32} {st : List Value} {h : xH} : exF ev cX1_passes_2 45 ([v0, v1, some (.int x), v3, v4], []) st h = exF ev cX1_passes_2 46 ([v0, v1, some (.int x), v3, v4], []) (.int x :: st) h := exF_j (i := (i_iload 2 46)) rfl rfl
theorem eX1_passes_2_46 {ev : xV} {v0 v1 v2 v3 v4 : Option Value} {a0 : Value} {a1 : Value} {a2 : Value} {r0 : Value} {r1 : Value} {r2 : Value} {r3 : Value} {a : Nat} {h : xH} : exF ev cX1_passes_2 46 ([v0, v1, v2, v3, v4], []) [a2, a1, a0, .ref a, r0, r1, r2, r3] h = xO (xck h a 0) (fun _ => xB (ev 106 [.ref a, a0, a1, a2] h) (fun v h => exF ev cX1_passes_2 49 ([v0, v1, v2, v3, v4], []) [v, r0, r1, r2, r3] h)) := exF_cd (i := (i_cv 0 106 3 49)) rfl rfl
theorem eX1_passes_2_49 {ev : xV} {v0 v1 v2 v3 v4 : Option Value} {x y : Int32} {st : List Value} {h : xH} : exF ev cX1_passes_2 49 ([v0, v1, v2, v3, v4], []) (.int y :: .int x :: st) h = exF ev cX1_passes_2 50 ([v0, v1, v2, v3, v4], []) (.int (x + y) :: st) h := exF_j (i := (i_ii (fun x y => x + y) 50)) rfl rfl
theorem eX1_passes_2_50 {ev : xV} {v0 v1 v2 v3 v4 : Option Value} {a0 : Value} {a1 : Value} {r0 : Value} {r1 : Value} {h : xH} : exF ev cX1_passes_2 50 ([v0, v1, v2, v3, v4], []) [a1, a0, r0, r1] h = xB (ev 63 [a0, a1] h) (fun v h => exF ev cX1_passes_2 53 ([v0, v1, v2, v3, v4], []) [v, r0, r1] h) := exF_c (i := (i_cs 63 2 53)) rfl rfl
theorem eX1_passes_2_53 {ev : xV} {v0 v1 v2 v3 v4 : Option Value} {v i : Int32} {a : Nat} {st : List Value} {h : xH} : exF ev cX1_passes_2 53 ([v0, v1, v2, v3, v4], []) (.int v :: .int i :: .ref a :: st) h = xO (xsi h 0 a i v) (fun h => exF ev cX1_passes_2 54 ([v0, v1, v2, v3, v4], []) st h) := exF_o (i := (i_si (fun v => v) 0 54)) rfl rfl
theorem eX1_passes_2_54 {ev : xV} {v0 v1 v2 v3 v4 : Option Value} {st : List Value} {h : xH} : exF ev cX1_passes_2 54 ([v0, v1, v2, v3, v4], []) st h = exF ev cX1_passes_2 88 ([v0, v1, v2, v3, v4], []) st h := exF_j (i := (i_goto 88)) rfl rfl
theorem eX1_passes_2_57 {ev : xV} {v0 v1 v3 v4 : Option Value} {x : Int32} {st : List Value} {h : xH} : exF ev cX1_passes_2 57 ([v0, v1, some (.int x), v3, v4], []) st h = exF ev cX1_passes_2 58 ([v0, v1, some (.int x), v3, v4], []) (.int x :: st) h := exF_j (i := (i_iload 2 58)) rfl rfl
theorem eX1_passes_2_58 {ev : xV} {v0 v1 v2 v3 : Option Value} {x : Nat} {st : List Value} {h : xH} : exF ev cX1_passes_2 58 ([v0, v1, v2, v3, some (.ref x)], []) st h = exF ev cX1_passes_2 60 ([v0, v1, v2, v3, some (.ref x)], []) (.ref x :: st) h := exF_j (i := (i_aload 4 60)) rfl rfl
theorem eX1_passes_2_58n {ev : xV} {v0 v1 v2 v3 : Option Value} {st : List Value} {h : xH} : exF ev cX1_passes_2 58 ([v0, v1, v2, v3, some .null], []) st h = exF ev cX1_passes_2 60 ([v0, v1, v2, v3, some .null], []) (.null :: st) h := exF_j (i := (i_aload 4 60)) rfl rfl
theorem eX1_passes_2_60 {ev : xV} {v0 v1 v2 v3 v4 : Option Value} {r0 : Value} {a : Nat} {h : xH} : exF ev cX1_passes_2 60 ([v0, v1, v2, v3, v4], []) [.ref a, r0] h = xO (xcl h a) (fun ci => xO (([(7, 374), (8, 169), (9, 174), (10, 179)] : List (Nat × Nat)).lookup ci) (fun k => xB (ev k [.ref a] h) (fun v h => exF ev cX1_passes_2 63 ([v0, v1, v2, v3, v4], []) [v, r0] h))) := exF_ca (i := (i_ca [(7, 374), (8, 169), (9, 174), (10, 179)] 0 63)) rfl rfl
theorem eX1_passes_2_63 {ev : xV} {v0 v1 v2 v3 v4 : Option Value} {x y : Int32} {st : List Value} {h : xH} : exF ev cX1_passes_2 63 ([v0, v1, v2, v3, v4], []) (.int y :: .int x :: st) h = if y ≤ x then exF ev cX1_passes_2 88 ([v0, v1, v2, v3, v4], []) st h else exF ev cX1_passes_2 66 ([v0, v1, v2, v3, v4], []) st h := exF_b (i := (i_if2 (fun x y => y ≤ x) 88 66)) rfl rfl
theorem eX1_passes_2_66 {ev : xV} {v0 v2 v3 v4 : Option Value} {x : Nat} {st : List Value} {h : xH} : exF ev cX1_passes_2 66 ([v0, some (.ref x), v2, v3, v4], []) st h = exF ev cX1_passes_2 67 ([v0, some (.ref x), v2, v3, v4], []) (.ref x :: st) h := exF_j (i := (i_aload 1 67)) rfl rfl
theorem eX1_passes_2_66n {ev : xV} {v0 v2 v3 v4 : Option Value} {st : List Value} {h : xH} : exF ev cX1_passes_2 66 ([v0, some .null, v2, v3, v4], []) st h = exF ev cX1_passes_2 67 ([v0, some .null, v2, v3, v4], []) (.null :: st) h := exF_j (i := (i_aload 1 67)) rfl rfl
theorem eX1_passes_2_67 {ev : xV} {v0 v1 v2 v3 v4 : Option Value} {a : Nat} {st : List Value} {h : xH} : exF ev cX1_passes_2 67 ([v0, v1, v2, v3, v4], []) (.ref a :: st) h = xO (xgf h a 3 0) (fun v => exF ev cX1_passes_2 70 ([v0, v1, v2, v3, v4], []) (v :: st) h) := exF_o (i := (i_getf 3 0 70)) rfl rfl
theorem eX1_passes_2_70 {ev : xV} {v0 v1 v2 v4 : Option Value} {x : Int32} {st : List Value} {h : xH} : exF ev cX1_passes_2 70 ([v0, v1, v2, some (.int x), v4], []) st h = exF ev cX1_passes_2 71 ([v0, v1, v2, some (.int x), v4], []) (.int x :: st) h := exF_j (i := (i_iload 3 71)) rfl rfl
theorem eX1_passes_2_71 {ev : xV} {v0 v1 v2 v3 v4 : Option Value} {st : List Value} {h : xH} : exF ev cX1_passes_2 71 ([v0, v1, v2, v3, v4], []) st h = exF ev cX1_passes_2 72 ([v0, v1, v2, v3, v4], []) (.int (nI 0) :: st) h := exF_j (i := (i_const (.int (nI 0)) 72)) rfl rfl
theorem eX1_passes_2_72 {ev : xV} {v0 v2 v3 v4 : Option Value} {x : Nat} {st : List Value} {h : xH} : exF ev cX1_passes_2 72 ([v0, some (.ref x), v2, v3, v4], []) st h = exF ev cX1_passes_2 73 ([v0, some (.ref x), v2, v3, v4], []) (.ref x :: st) h := exF_j (i := (i_aload 1 73)) rfl rfl
theorem eX1_passes_2_72n {ev : xV} {v0 v2 v3 v4 : Option Value} {st : List Value} {h : xH} : exF ev cX1_passes_2 72 ([v0, some .null, v2, v3, v4], []) st h = exF ev cX1_passes_2 73 ([v0, some .null, v2, v3, v4], []) (.null :: st) h := exF_j (i := (i_aload 1 73)) rfl rfl
theorem eX1_passes_2_73 {ev : xV} {v0 v1 v2 v3 v4 : Option Value} {a : Nat} {st : List Value} {h : xH} : exF ev cX1_passes_2 73 ([v0, v1, v2, v3, v4], []) (.ref a :: st) h = xO (xgf h a 3 0) (fun v => exF ev cX1_passes_2 76 ([v0, v1, v2, v3, v4], []) (v :: st) h) := exF_o (i := (i_getf 3 0 76)) rfl rfl
theorem eX1_passes_2_76 {ev : xV} {v0 v1 v2 v4 : Option Value} {x : Int32} {st : List Value} {h : xH} : exF ev cX1_passes_2 76 ([v0, v1, v2, some (.int x), v4], []) st h = exF ev cX1_passes_2 77 ([v0, v1, v2, some (.int x), v4], []) (.int x :: st) h := exF_j (i := (i_iload 3 77)) rfl rfl
theorem eX1_passes_2_77 {ev : xV} {v0 v1 v2 v3 v4 : Option Value} {i : Int32} {a : Nat} {st : List Value} {h : xH} : exF ev cX1_passes_2 77 ([v0, v1, v2, v3, v4], []) (.int i :: .ref a :: st) h = xO (xai h 0 a i) (fun v => exF ev cX1_passes_2 78 ([v0, v1, v2, v3, v4], []) (.int v :: st) h) := exF_o (i := (i_ai 0 78)) rfl rfl
theorem eX1_passes_2_78 {ev : xV} {v0 v1 v2 v3 : Option Value} {x : Nat} {st : List Value} {h : xH} : exF ev cX1_passes_2 78 ([v0, v1, v2, v3, some (.ref x)], []) st h = exF ev cX1_passes_2 80 ([v0, v1, v2, v3, some (.ref x)], []) (.ref x :: st) h := exF_j (i := (i_aload 4 80)) rfl rfl
theorem eX1_passes_2_78n {ev : xV} {v0 v1 v2 v3 : Option Value} {st : List Value} {h : xH} : exF ev cX1_passes_2 78 ([v0, v1, v2, v3, some .null], []) st h = exF ev cX1_passes_2 80 ([v0, v1, v2, v3, some .null], []) (.null :: st) h := exF_j (i := (i_aload 4 80)) rfl rfl
theorem eX1_passes_2_80 {ev : xV} {v0 v1 v2 v3 v4 : Option Value} {r0 : Value} {r1 : Value} {r2 : Value} {r3 : Value} {a : Nat} {h : xH} : exF ev cX1_passes_2 80 ([v0, v1, v2, v3, v4], []) [.ref a, r0, r1, r2, r3] h = xO (xcl h a) (fun ci => xO (([(7, 375), (8, 170), (9, 175), (10, 180)] : List (Nat × Nat)).lookup ci) (fun k => xB (ev k [.ref a] h) (fun v h => exF ev cX1_passes_2 83 ([v0, v1, v2, v3, v4], []) [v, r0, r1, r2, r3] h))) := exF_ca (i := (i_ca [(7, 375), (8, 170), (9, 175), (10, 180)] 0 83)) rfl rfl
theorem eX1_passes_2_83 {ev : xV} {v0 v1 v2 v3 v4 : Option Value} {x y : Int32} {st : List Value} {h : xH} : exF ev cX1_passes_2 83 ([v0, v1, v2, v3, v4], []) (.int y :: .int x :: st) h = exF ev cX1_passes_2 84 ([v0, v1, v2, v3, v4], []) (.int (x - y) :: st) h := exF_j (i := (i_ii (fun x y => x - y) 84)) rfl rfl
theorem eX1_passes_2_84 {ev : xV} {v0 v1 v2 v3 v4 : Option Value} {a0 : Value} {a1 : Value} {r0 : Value} {r1 : Value} {h : xH} : exF ev cX1_passes_2 84 ([v0, v1, v2, v3, v4], []) [a1, a0, r0, r1] h = xB (ev 62 [a0, a1] h) (fun v h => exF ev cX1_passes_2 87 ([v0, v1, v2, v3, v4], []) [v, r0, r1] h) := exF_c (i := (i_cs 62 2 87)) rfl rfl
theorem eX1_passes_2_87 {ev : xV} {v0 v1 v2 v3 v4 : Option Value} {v i : Int32} {a : Nat} {st : List Value} {h : xH} : exF ev cX1_passes_2 87 ([v0, v1, v2, v3, v4], []) (.int v :: .int i :: .ref a :: st) h = xO (xsi h 0 a i v) (fun h => exF ev cX1_passes_2 88 ([v0, v1, v2, v3, v4], []) st h) := exF_o (i := (i_si (fun v => v) 0 88)) rfl rfl
theorem eX1_passes_2_88 {ev : xV} {v0 v1 v2 v4 : Option Value} {x : Int32} {st : List Value} {h : xH} : exF ev cX1_passes_2 88 ([v0, v1, v2, some (.int x), v4], []) st h = exF ev cX1_passes_2 91 ([v0, v1, v2, some (.int (x + (nI 1))), v4], []) st h := exF_j (i := (i_iinc 3 (nI 1) 91)) rfl rfl
theorem eX1_passes_2_91 {ev : xV} {v0 v1 v2 v3 v4 : Option Value} {st : List Value} {h : xH} : exF ev cX1_passes_2 91 ([v0, v1, v2, v3, v4], []) st h = exF ev cX1_passes_2 2 ([v0, v1, v2, v3, v4], []) st h := exF_j (i := (i_goto 2)) rfl rfl
theorem eX1_passes_2_94 {ev : xV} {v0 v2 v3 v4 : Option Value} {x : Nat} {st : List Value} {h : xH} : exF ev cX1_passes_2 94 ([v0, some (.ref x), v2, v3, v4], []) st h = exF ev cX1_passes_2 95 ([v0, some (.ref x), v2, v3, v4], []) (.ref x :: st) h := exF_j (i := (i_aload 1 95)) rfl rfl
theorem eX1_passes_2_94n {ev : xV} {v0 v2 v3 v4 : Option Value} {st : List Value} {h : xH} : exF ev cX1_passes_2 94 ([v0, some .null, v2, v3, v4], []) st h = exF ev cX1_passes_2 95 ([v0, some .null, v2, v3, v4], []) (.null :: st) h := exF_j (i := (i_aload 1 95)) rfl rfl
theorem eX1_passes_2_95 {ev : xV} {v0 v1 v2 v3 v4 : Option Value} {x : Nat} {st : List Value} {h : xH} : exF ev cX1_passes_2 95 ([v0, v1, v2, v3, v4], []) (.ref x :: st) h = exF ev cX1_passes_2 96 ([v0, v1, v2, v3, v4], []) (.ref x :: .ref x :: st) h := exF_j (i := (i_dup 96)) rfl rfl
theorem eX1_passes_2_96 {ev : xV} {v0 v1 v2 v3 v4 : Option Value} {a : Nat} {st : List Value} {h : xH} : exF ev cX1_passes_2 96 ([v0, v1, v2, v3, v4], []) (.ref a :: st) h = xO (xgf h a 3 4) (fun v => exF ev cX1_passes_2 99 ([v0, v1, v2, v3, v4], []) (v :: st) h) := exF_o (i := (i_getf 3 4 99)) rfl rfl
theorem eX1_passes_2_99 {ev : xV} {v0 v1 v2 v3 v4 : Option Value} {st : List Value} {h : xH} : exF ev cX1_passes_2 99 ([v0, v1, v2, v3, v4], []) st h = exF ev cX1_passes_2 100 ([v0, v1, v2, v3, v4], []) (.int (nI 1) :: st) h := exF_j (i := (i_const (.int (nI 1)) 100)) rfl rfl
theorem eX1_passes_2_100 {ev : xV} {v0 v1 v2 v3 v4 : Option Value} {x y : Int32} {st : List Value} {h : xH} : exF ev cX1_passes_2 100 ([v0, v1, v2, v3, v4], []) (.int y :: .int x :: st) h = exF ev cX1_passes_2 101 ([v0, v1, v2, v3, v4], []) (.int (x + y) :: st) h := exF_j (i := (i_ii (fun x y => x + y) 101)) rfl rfl
theorem eX1_passes_2_101 {ev : xV} {v0 v1 v2 v3 v4 : Option Value} {x : Int32} {a : Nat} {st : List Value} {h : xH} : exF ev cX1_passes_2 101 ([v0, v1, v2, v3, v4], []) (.int x :: .ref a :: st) h = xO (xpf h a 3 4 (.int x)) (fun h => exF ev cX1_passes_2 104 ([v0, v1, v2, v3, v4], []) st h) := exF_o (i := (i_putfi 3 4 104)) rfl rfl
theorem eX1_passes_2_104 {ev : xV} {v0 v1 v2 v3 v4 : Option Value} {h : xH} : exF ev cX1_passes_2 104 ([v0, v1, v2, v3, v4], []) [] h = some (.inl none, h) := exF_r (i := (i_vret)) rfl rfl
noncomputable def cX1_swells : xC := [(0, i_aload 0 1),
  (1, i_getf 0 2 4),
  (4, i_getf 2 6 7),
  (7, i_ifnonnull 12 10),
  (10, i_const (.int (nI 1)) 11),
  (11, i_iret),
  (12, i_aload 0 13),
  (13, i_getf 0 6 16),
  (16, i_const (.int (nI 0)) 17),
  (17, i_iload 3 18),
  (18, i_si (fun v => v) 0 19),
  (19, i_aload 0 20),
  (20, i_getf 0 6 23),
  (23, i_const (.int (nI 1)) 24),
  (24, i_aload 1 25),
  (25, i_getf 3 0 28),
  (28, i_iload 2 29),
  (29, i_ai 0 30),
  (30, i_si (fun v => v) 0 31),
  (31, i_aload 0 32),
  (32, i_getf 0 6 35),
  (35, i_const (.int (nI 2)) 36),
  (36, i_aload 1 37),
  (37, i_getf 3 1 40),
  (40, i_iload 2 41),
  (41, i_ai 0 42),
  (42, i_si (fun v => v) 0 43),
  (43, i_aload 0 44),
  (44, i_getf 0 6 47),
  (47, i_const (.int (nI 3)) 48),
  (48, i_aload 1 49),
  (49, i_getf 3 4 52),
  (52, i_si (fun v => v) 0 53),
  (53, i_aload 0 54),
  (54, i_getf 0 2 57),
  (57, i_getf 2 6 60),
  (60, i_aload 0 61),
  (61, i_getf 0 6 64),
  (64, i_ca [(11, 183), (12, 185), (13, 187), (14, 189)] 1 67),
  (67, i_const (.int (nI 0)) 68),
  (68, i_const (.int (nI 9)) 70),
  (70, i_cs 107 3 73),
  (73, i_iret)]
theorem eX1_swells_0 {ev : xV} {v1 v2 v3 : Option Value} {x : Nat} {st : List Value} {h : xH} : exF ev cX1_swells 0 ([some (.ref x), v1, v2, v3], []) st h = exF ev cX1_swells 1 ([some (.ref x), v1, v2, v3], []) (.ref x :: st) h := exF_j (i := (i_aload 0 1)) rfl rfl
theorem eX1_swells_1 {ev : xV} {v0 v1 v2 v3 : Option Value} {a : Nat} {st : List Value} {h : xH} : exF ev cX1_swells 1 ([v0, v1, v2, v3], []) (.ref a :: st) h = xO (xgf h a 0 2) (fun v => exF ev cX1_swells 4 ([v0, v1, v2, v3], []) (v :: st) h) := exF_o (i := (i_getf 0 2 4)) rfl rfl
theorem eX1_swells_4 {ev : xV} {v0 v1 v2 v3 : Option Value} {a : Nat} {st : List Value} {h : xH} : exF ev cX1_swells 4 ([v0, v1, v2, v3], []) (.ref a :: st) h = xO (xgf h a 2 6) (fun v => exF ev cX1_swells 7 ([v0, v1, v2, v3], []) (v :: st) h) := exF_o (i := (i_getf 2 6 7)) rfl rfl
theorem eX1_swells_7n {ev : xV} {v0 v1 v2 v3 : Option Value} {st : List Value} {h : xH} : exF ev cX1_swells 7 ([v0, v1, v2, v3], []) (.null :: st) h = exF ev cX1_swells 10 ([v0, v1, v2, v3], []) st h := exF_j (i := (i_ifnonnull 12 10)) rfl rfl
theorem eX1_swells_7 {ev : xV} {v0 v1 v2 v3 : Option Value} {x : Nat} (hx : 64 ≤ x) {st : List Value} {h : xH} : exF ev cX1_swells 7 ([v0, v1, v2, v3], []) (.ref x :: st) h = exF ev cX1_swells 12 ([v0, v1, v2, v3], []) st h := exF_j (i := (i_ifnonnull 12 10)) rfl (if_neg (Nat.not_lt.mpr hx))
theorem eX1_swells_10 {ev : xV} {v0 v1 v2 v3 : Option Value} {st : List Value} {h : xH} : exF ev cX1_swells 10 ([v0, v1, v2, v3], []) st h = exF ev cX1_swells 11 ([v0, v1, v2, v3], []) (.int (nI 1) :: st) h := exF_j (i := (i_const (.int (nI 1)) 11)) rfl rfl
theorem eX1_swells_11 {ev : xV} {v0 v1 v2 v3 : Option Value} {x : Int32} {h : xH} : exF ev cX1_swells 11 ([v0, v1, v2, v3], []) [.int x] h = some (.inl (some (.int x)), h) := exF_r (i := (i_iret)) rfl rfl
theorem eX1_swells_12 {ev : xV} {v1 v2 v3 : Option Value} {x : Nat} {st : List Value} {h : xH} : exF ev cX1_swells 12 ([some (.ref x), v1, v2, v3], []) st h = exF ev cX1_swells 13 ([some (.ref x), v1, v2, v3], []) (.ref x :: st) h := exF_j (i := (i_aload 0 13)) rfl rfl
theorem eX1_swells_13 {ev : xV} {v0 v1 v2 v3 : Option Value} {a : Nat} {st : List Value} {h : xH} : exF ev cX1_swells 13 ([v0, v1, v2, v3], []) (.ref a :: st) h = xO (xgf h a 0 6) (fun v => exF ev cX1_swells 16 ([v0, v1, v2, v3], []) (v :: st) h) := exF_o (i := (i_getf 0 6 16)) rfl rfl
theorem eX1_swells_16 {ev : xV} {v0 v1 v2 v3 : Option Value} {st : List Value} {h : xH} : exF ev cX1_swells 16 ([v0, v1, v2, v3], []) st h = exF ev cX1_swells 17 ([v0, v1, v2, v3], []) (.int (nI 0) :: st) h := exF_j (i := (i_const (.int (nI 0)) 17)) rfl rfl
theorem eX1_swells_17 {ev : xV} {v0 v1 v2 : Option Value} {x : Int32} {st : List Value} {h : xH} : exF ev cX1_swells 17 ([v0, v1, v2, some (.int x)], []) st h = exF ev cX1_swells 18 ([v0, v1, v2, some (.int x)], []) (.int x :: st) h := exF_j (i := (i_iload 3 18)) rfl rfl
theorem eX1_swells_18 {ev : xV} {v0 v1 v2 v3 : Option Value} {v i : Int32} {a : Nat} {st : List Value} {h : xH} : exF ev cX1_swells 18 ([v0, v1, v2, v3], []) (.int v :: .int i :: .ref a :: st) h = xO (xsi h 0 a i v) (fun h => exF ev cX1_swells 19 ([v0, v1, v2, v3], []) st h) := exF_o (i := (i_si (fun v => v) 0 19)) rfl rfl
theorem eX1_swells_19 {ev : xV} {v1 v2 v3 : Option Value} {x : Nat} {st : List Value} {h : xH} : exF ev cX1_swells 19 ([some (.ref x), v1, v2, v3], []) st h = exF ev cX1_swells 20 ([some (.ref x), v1, v2, v3], []) (.ref x :: st) h := exF_j (i := (i_aload 0 20)) rfl rfl
theorem eX1_swells_20 {ev : xV} {v0 v1 v2 v3 : Option Value} {a : Nat} {st : List Value} {h : xH} : exF ev cX1_swells 20 ([v0, v1, v2, v3], []) (.ref a :: st) h = xO (xgf h a 0 6) (fun v => exF ev cX1_swells 23 ([v0, v1, v2, v3], []) (v :: st) h) := exF_o (i := (i_getf 0 6 23)) rfl rfl
theorem eX1_swells_23 {ev : xV} {v0 v1 v2 v3 : Option Value} {st : List Value} {h : xH} : exF ev cX1_swells 23 ([v0, v1, v2, v3], []) st h = exF ev cX1_swells 24 ([v0, v1, v2, v3], []) (.int (nI 1) :: st) h := exF_j (i := (i_const (.int (nI 1)) 24)) rfl rfl
theorem eX1_swells_24 {ev : xV} {v0 v2 v3 : Option Value} {x : Nat} {st : List Value} {h : xH} : exF ev cX1_swells 24 ([v0, some (.ref x), v2, v3], []) st h = exF ev cX1_swells 25 ([v0, some (.ref x), v2, v3], []) (.ref x :: st) h := exF_j (i := (i_aload 1 25)) rfl rfl
theorem eX1_swells_24n {ev : xV} {v0 v2 v3 : Option Value} {st : List Value} {h : xH} : exF ev cX1_swells 24 ([v0, some .null, v2, v3], []) st h = exF ev cX1_swells 25 ([v0, some .null, v2, v3], []) (.null :: st) h := exF_j (i := (i_aload 1 25)) rfl rfl
theorem eX1_swells_25 {ev : xV} {v0 v1 v2 v3 : Option Value} {a : Nat} {st : List Value} {h : xH} : exF ev cX1_swells 25 ([v0, v1, v2, v3], []) (.ref a :: st) h = xO (xgf h a 3 0) (fun v => exF ev cX1_swells 28 ([v0, v1, v2, v3], []) (v :: st) h) := exF_o (i := (i_getf 3 0 28)) rfl rfl
theorem eX1_swells_28 {ev : xV} {v0 v1 v3 : Option Value} {x : Int32} {st : List Value} {h : xH} : exF ev cX1_swells 28 ([v0, v1, some (.int x), v3], []) st h = exF ev cX1_swells 29 ([v0, v1, some (.int x), v3], []) (.int x :: st) h := exF_j (i := (i_iload 2 29)) rfl rfl
theorem eX1_swells_29 {ev : xV} {v0 v1 v2 v3 : Option Value} {i : Int32} {a : Nat} {st : List Value} {h : xH} : exF ev cX1_swells 29 ([v0, v1, v2, v3], []) (.int i :: .ref a :: st) h = xO (xai h 0 a i) (fun v => exF ev cX1_swells 30 ([v0, v1, v2, v3], []) (.int v :: st) h) := exF_o (i := (i_ai 0 30)) rfl rfl
theorem eX1_swells_30 {ev : xV} {v0 v1 v2 v3 : Option Value} {v i : Int32} {a : Nat} {st : List Value} {h : xH} : exF ev cX1_swells 30 ([v0, v1, v2, v3], []) (.int v :: .int i :: .ref a :: st) h = xO (xsi h 0 a i v) (fun h => exF ev cX1_swells 31 ([v0, v1, v2, v3], []) st h) := exF_o (i := (i_si (fun v => v) 0 31)) rfl rfl
theorem eX1_swells_31 {ev : xV} {v1 v2 v3 : Option Value} {x : Nat} {st : List Value} {h : xH} : exF ev cX1_swells 31 ([some (.ref x), v1, v2, v3], []) st h = exF ev cX1_swells 32 ([some (.ref x), v1, v2, v3], []) (.ref x :: st) h := exF_j (i := (i_aload 0 32)) rfl rfl
theorem eX1_swells_32 {ev : xV} {v0 v1 v2 v3 : Option Value} {a : Nat} {st : List Value} {h : xH} : exF ev cX1_swells 32 ([v0, v1, v2, v3], []) (.ref a :: st) h = xO (xgf h a 0 6) (fun v => exF ev cX1_swells 35 ([v0, v1, v2, v3], []) (v :: st) h) := exF_o (i := (i_getf 0 6 35)) rfl rfl
theorem eX1_swells_35 {ev : xV} {v0 v1 v2 v3 : Option Value} {st : List Value} {h : xH} : exF ev cX1_swells 35 ([v0, v1, v2, v3], []) st h = exF ev cX1_swells 36 ([v0, v1, v2, v3], []) (.int (nI 2) :: st) h := exF_j (i := (i_const (.int (nI 2)) 36)) rfl rfl
theorem eX1_swells_36 {ev : xV} {v0 v2 v3 : Option Value} {x : Nat} {st : List Value} {h : xH} : exF ev cX1_swells 36 ([v0, some (.ref x), v2, v3], []) st h = exF ev cX1_swells 37 ([v0, some (.ref x), v2, v3], []) (.ref x :: st) h := exF_j (i := (i_aload 1 37)) rfl rfl
theorem eX1_swells_36n {ev : xV} {v0 v2 v3 : Option Value} {st : List Value} {h : xH} : exF ev cX1_swells 36 ([v0, some .null, v2, v3], []) st h = exF ev cX1_swells 37 ([v0, some .null, v2, v3], []) (.null :: st) h := exF_j (i := (i_aload 1 37)) rfl rfl
theorem eX1_swells_37 {ev : xV} {v0 v1 v2 v3 : Option Value} {a : Nat} {st : List Value} {h : xH} : exF ev cX1_swells 37 ([v0, v1, v2, v3], []) (.ref a :: st) h = xO (xgf h a 3 1) (fun v => exF ev cX1_swells 40 ([v0, v1, v2, v3], []) (v :: st) h) := exF_o (i := (i_getf 3 1 40)) rfl rfl
theorem eX1_swells_40 {ev : xV} {v0 v1 v3 : Option Value} {x : Int32} {st : List Value} {h : xH} : exF ev cX1_swells 40 ([v0, v1, some (.int x), v3], []) st h = exF ev cX1_swells 41 ([v0, v1, some (.int x), v3], []) (.int x :: st) h := exF_j (i := (i_iload 2 41)) rfl rfl
theorem eX1_swells_41 {ev : xV} {v0 v1 v2 v3 : Option Value} {i : Int32} {a : Nat} {st : List Value} {h : xH} : exF ev cX1_swells 41 ([v0, v1, v2, v3], []) (.int i :: .ref a :: st) h = xO (xai h 0 a i) (fun v => exF ev cX1_swells 42 ([v0, v1, v2, v3], []) (.int v :: st) h) := exF_o (i := (i_ai 0 42)) rfl rfl
theorem eX1_swells_42 {ev : xV} {v0 v1 v2 v3 : Option Value} {v i : Int32} {a : Nat} {st : List Value} {h : xH} : exF ev cX1_swells 42 ([v0, v1, v2, v3], []) (.int v :: .int i :: .ref a :: st) h = xO (xsi h 0 a i v) (fun h => exF ev cX1_swells 43 ([v0, v1, v2, v3], []) st h) := exF_o (i := (i_si (fun v => v) 0 43)) rfl rfl
theorem eX1_swells_43 {ev : xV} {v1 v2 v3 : Option Value} {x : Nat} {st : List Value} {h : xH} : exF ev cX1_swells 43 ([some (.ref x), v1, v2, v3], []) st h = exF ev cX1_swells 44 ([some (.ref x), v1, v2, v3], []) (.ref x :: st) h := exF_j (i := (i_aload 0 44)) rfl rfl
theorem eX1_swells_44 {ev : xV} {v0 v1 v2 v3 : Option Value} {a : Nat} {st : List Value} {h : xH} : exF ev cX1_swells 44 ([v0, v1, v2, v3], []) (.ref a :: st) h = xO (xgf h a 0 6) (fun v => exF ev cX1_swells 47 ([v0, v1, v2, v3], []) (v :: st) h) := exF_o (i := (i_getf 0 6 47)) rfl rfl
theorem eX1_swells_47 {ev : xV} {v0 v1 v2 v3 : Option Value} {st : List Value} {h : xH} : exF ev cX1_swells 47 ([v0, v1, v2, v3], []) st h = exF ev cX1_swells 48 ([v0, v1, v2, v3], []) (.int (nI 3) :: st) h := exF_j (i := (i_const (.int (nI 3)) 48)) rfl rfl
theorem eX1_swells_48 {ev : xV} {v0 v2 v3 : Option Value} {x : Nat} {st : List Value} {h : xH} : exF ev cX1_swells 48 ([v0, some (.ref x), v2, v3], []) st h = exF ev cX1_swells 49 ([v0, some (.ref x), v2, v3], []) (.ref x :: st) h := exF_j (i := (i_aload 1 49)) rfl rfl
theorem eX1_swells_48n {ev : xV} {v0 v2 v3 : Option Value} {st : List Value} {h : xH} : exF ev cX1_swells 48 ([v0, some .null, v2, v3], []) st h = exF ev cX1_swells 49 ([v0, some .null, v2, v3], []) (.null :: st) h := exF_j (i := (i_aload 1 49)) rfl rfl
theorem eX1_swells_49 {ev : xV} {v0 v1 v2 v3 : Option Value} {a : Nat} {st : List Value} {h : xH} : exF ev cX1_swells 49 ([v0, v1, v2, v3], []) (.ref a :: st) h = xO (xgf h a 3 4) (fun v => exF ev cX1_swells 52 ([v0, v1, v2, v3], []) (v :: st) h) := exF_o (i := (i_getf 3 4 52)) rfl rfl
theorem eX1_swells_52 {ev : xV} {v0 v1 v2 v3 : Option Value} {v i : Int32} {a : Nat} {st : List Value} {h : xH} : exF ev cX1_swells 52 ([v0, v1, v2, v3], []) (.int v :: .int i :: .ref a :: st) h = xO (xsi h 0 a i v) (fun h => exF ev cX1_swells 53 ([v0, v1, v2, v3], []) st h) := exF_o (i := (i_si (fun v => v) 0 53)) rfl rfl
theorem eX1_swells_53 {ev : xV} {v1 v2 v3 : Option Value} {x : Nat} {st : List Value} {h : xH} : exF ev cX1_swells 53 ([some (.ref x), v1, v2, v3], []) st h = exF ev cX1_swells 54 ([some (.ref x), v1, v2, v3], []) (.ref x :: st) h := exF_j (i := (i_aload 0 54)) rfl rfl
theorem eX1_swells_54 {ev : xV} {v0 v1 v2 v3 : Option Value} {a : Nat} {st : List Value} {h : xH} : exF ev cX1_swells 54 ([v0, v1, v2, v3], []) (.ref a :: st) h = xO (xgf h a 0 2) (fun v => exF ev cX1_swells 57 ([v0, v1, v2, v3], []) (v :: st) h) := exF_o (i := (i_getf 0 2 57)) rfl rfl
theorem eX1_swells_57 {ev : xV} {v0 v1 v2 v3 : Option Value} {a : Nat} {st : List Value} {h : xH} : exF ev cX1_swells 57 ([v0, v1, v2, v3], []) (.ref a :: st) h = xO (xgf h a 2 6) (fun v => exF ev cX1_swells 60 ([v0, v1, v2, v3], []) (v :: st) h) := exF_o (i := (i_getf 2 6 60)) rfl rfl
theorem eX1_swells_60 {ev : xV} {v1 v2 v3 : Option Value} {x : Nat} {st : List Value} {h : xH} : exF ev cX1_swells 60 ([some (.ref x), v1, v2, v3], []) st h = exF ev cX1_swells 61 ([some (.ref x), v1, v2, v3], []) (.ref x :: st) h := exF_j (i := (i_aload 0 61)) rfl rfl
theorem eX1_swells_61 {ev : xV} {v0 v1 v2 v3 : Option Value} {a : Nat} {st : List Value} {h : xH} : exF ev cX1_swells 61 ([v0, v1, v2, v3], []) (.ref a :: st) h = xO (xgf h a 0 6) (fun v => exF ev cX1_swells 64 ([v0, v1, v2, v3], []) (v :: st) h) := exF_o (i := (i_getf 0 6 64)) rfl rfl
theorem eX1_swells_64 {ev : xV} {v0 v1 v2 v3 : Option Value} {a0 : Value} {a : Nat} {h : xH} : exF ev cX1_swells 64 ([v0, v1, v2, v3], []) [a0, .ref a] h = xO (xcl h a) (fun ci => xO (([(11, 183), (12, 185), (13, 187), (14, 189)] : List (Nat × Nat)).lookup ci) (fun k => xB (ev k [.ref a, a0] h) (fun v h => exF ev cX1_swells 67 ([v0, v1, v2, v3], []) [v] h))) := exF_ca (i := (i_ca [(11, 183), (12, 185), (13, 187), (14, 189)] 1 67)) rfl rfl
theorem eX1_swells_67 {ev : xV} {v0 v1 v2 v3 : Option Value} {st : List Value} {h : xH} : exF ev cX1_swells 67 ([v0, v1, v2, v3], []) st h = exF ev cX1_swells 68 ([v0, v1, v2, v3], []) (.int (nI 0) :: st) h := exF_j (i := (i_const (.int (nI 0)) 68)) rfl rfl
theorem eX1_swells_68 {ev : xV} {v0 v1 v2 v3 : Option Value} {st : List Value} {h : xH} : exF ev cX1_swells 68 ([v0, v1, v2, v3], []) st h = exF ev cX1_swells 70 ([v0, v1, v2, v3], []) (.int (nI 9) :: st) h := exF_j (i := (i_const (.int (nI 9)) 70)) rfl rfl
theorem eX1_swells_70 {ev : xV} {v0 v1 v2 v3 : Option Value} {a0 : Value} {a1 : Value} {a2 : Value} {h : xH} : exF ev cX1_swells 70 ([v0, v1, v2, v3], []) [a2, a1, a0] h = xB (ev 107 [a0, a1, a2] h) (fun v h => exF ev cX1_swells 73 ([v0, v1, v2, v3], []) [v] h) := exF_c (i := (i_cs 107 3 73)) rfl rfl
theorem eX1_swells_73 {ev : xV} {v0 v1 v2 v3 : Option Value} {x : Int32} {h : xH} : exF ev cX1_swells 73 ([v0, v1, v2, v3], []) [.int x] h = some (.inl (some (.int x)), h) := exF_r (i := (i_iret)) rfl rfl
noncomputable def cX1_between : xC := [(0, i_iload 1 1),
  (1, i_iload 2 2),
  (2, i_iload 0 3),
  (3, i_cs 63 2 6),
  (6, i_cs 62 2 9),
  (9, i_iret)]
theorem eX1_between_0 {ev : xV} {v0 v2 : Option Value} {x : Int32} {st : List Value} {h : xH} : exF ev cX1_between 0 ([v0, some (.int x), v2], []) st h = exF ev cX1_between 1 ([v0, some (.int x), v2], []) (.int x :: st) h := exF_j (i := (i_iload 1 1)) rfl rfl
theorem eX1_between_1 {ev : xV} {v0 v1 : Option Value} {x : Int32} {st : List Value} {h : xH} : exF ev cX1_between 1 ([v0, v1, some (.int x)], []) st h = exF ev cX1_between 2 ([v0, v1, some (.int x)], []) (.int x :: st) h := exF_j (i := (i_iload 2 2)) rfl rfl
theorem eX1_between_2 {ev : xV} {v1 v2 : Option Value} {x : Int32} {st : List Value} {h : xH} : exF ev cX1_between 2 ([some (.int x), v1, v2], []) st h = exF ev cX1_between 3 ([some (.int x), v1, v2], []) (.int x :: st) h := exF_j (i := (i_iload 0 3)) rfl rfl
theorem eX1_between_3 {ev : xV} {v0 v1 v2 : Option Value} {a0 : Value} {a1 : Value} {r0 : Value} {h : xH} : exF ev cX1_between 3 ([v0, v1, v2], []) [a1, a0, r0] h = xB (ev 63 [a0, a1] h) (fun v h => exF ev cX1_between 6 ([v0, v1, v2], []) [v, r0] h) := exF_c (i := (i_cs 63 2 6)) rfl rfl
theorem eX1_between_6 {ev : xV} {v0 v1 v2 : Option Value} {a0 : Value} {a1 : Value} {h : xH} : exF ev cX1_between 6 ([v0, v1, v2], []) [a1, a0] h = xB (ev 62 [a0, a1] h) (fun v h => exF ev cX1_between 9 ([v0, v1, v2], []) [v] h) := exF_c (i := (i_cs 62 2 9)) rfl rfl
theorem eX1_between_9 {ev : xV} {v0 v1 v2 : Option Value} {x : Int32} {h : xH} : exF ev cX1_between 9 ([v0, v1, v2], []) [.int x] h = some (.inl (some (.int x)), h) := exF_r (i := (i_iret)) rfl rfl
noncomputable def cX1_sticking : xC := [(0, i_const (.int (nI 0)) 1),
  (1, i_istore 2 2),
  (2, i_const (.int (nI 0)) 3),
  (3, i_istore 3 4),
  (4, i_iload 3 5),
  (5, i_aload 0 6),
  (6, i_cv 0 96 0 9),
  (9, i_if2 (fun x y => y ≤ x) 32 12),
  (12, i_aload 1 13),
  (13, i_iload 3 14),
  (14, i_cv 3 238 1 17),
  (17, i_if1 (fun x => x = 0) 26 20),
  (20, i_iload 2 21),
  (21, i_const (.int (nI 1)) 22),
  (22, i_iload 3 23),
  (23, i_ii (fun x y => x <<< (y &&& 31)) 24),
  (24, i_ii (fun x y => x ||| y) 25),
  (25, i_istore 2 26),
  (26, i_iinc 3 (nI 1) 29),
  (29, i_goto 4),
  (32, i_iload 2 33),
  (33, i_iret)]
theorem eX1_sticking_0 {ev : xV} {v0 v1 v2 v3 : Option Value} {st : List Value} {h : xH} : exF ev cX1_sticking 0 ([v0, v1, v2, v3], []) st h = exF ev cX1_sticking 1 ([v0, v1, v2, v3], []) (.int (nI 0) :: st) h := exF_j (i := (i_const (.int (nI 0)) 1)) rfl rfl
theorem eX1_sticking_1 {ev : xV} {v0 v1 v2 v3 : Option Value} {x : Int32} {st : List Value} {h : xH} : exF ev cX1_sticking 1 ([v0, v1, v2, v3], []) (.int x :: st) h = exF ev cX1_sticking 2 ([v0, v1, some (.int x), v3], []) st h := exF_j (i := (i_istore 2 2)) rfl rfl
theorem eX1_sticking_2 {ev : xV} {v0 v1 v2 v3 : Option Value} {st : List Value} {h : xH} : exF ev cX1_sticking 2 ([v0, v1, v2, v3], []) st h = exF ev cX1_sticking 3 ([v0, v1, v2, v3], []) (.int (nI 0) :: st) h := exF_j (i := (i_const (.int (nI 0)) 3)) rfl rfl
theorem eX1_sticking_3 {ev : xV} {v0 v1 v2 v3 : Option Value} {x : Int32} {st : List Value} {h : xH} : exF ev cX1_sticking 3 ([v0, v1, v2, v3], []) (.int x :: st) h = exF ev cX1_sticking 4 ([v0, v1, v2, some (.int x)], []) st h := exF_j (i := (i_istore 3 4)) rfl rfl
theorem eX1_sticking_4 {ev : xV} {v0 v1 v2 : Option Value} {x : Int32} {st : List Value} {h : xH} : exF ev cX1_sticking 4 ([v0, v1, v2, some (.int x)], []) st h = exF ev cX1_sticking 5 ([v0, v1, v2, some (.int x)], []) (.int x :: st) h := exF_j (i := (i_iload 3 5)) rfl rfl
theorem eX1_sticking_5 {ev : xV} {v1 v2 v3 : Option Value} {x : Nat} {st : List Value} {h : xH} : exF ev cX1_sticking 5 ([some (.ref x), v1, v2, v3], []) st h = exF ev cX1_sticking 6 ([some (.ref x), v1, v2, v3], []) (.ref x :: st) h := exF_j (i := (i_aload 0 6)) rfl rfl
theorem eX1_sticking_6 {ev : xV} {v0 v1 v2 v3 : Option Value} {r0 : Value} {a : Nat} {h : xH} : exF ev cX1_sticking 6 ([v0, v1, v2, v3], []) [.ref a, r0] h = xO (xck h a 0) (fun _ => xB (ev 96 [.ref a] h) (fun v h => exF ev cX1_sticking 9 ([v0, v1, v2, v3], []) [v, r0] h)) := exF_cd (i := (i_cv 0 96 0 9)) rfl rfl
theorem eX1_sticking_9 {ev : xV} {v0 v1 v2 v3 : Option Value} {x y : Int32} {st : List Value} {h : xH} : exF ev cX1_sticking 9 ([v0, v1, v2, v3], []) (.int y :: .int x :: st) h = if y ≤ x then exF ev cX1_sticking 32 ([v0, v1, v2, v3], []) st h else exF ev cX1_sticking 12 ([v0, v1, v2, v3], []) st h := exF_b (i := (i_if2 (fun x y => y ≤ x) 32 12)) rfl rfl
theorem eX1_sticking_12 {ev : xV} {v0 v2 v3 : Option Value} {x : Nat} {st : List Value} {h : xH} : exF ev cX1_sticking 12 ([v0, some (.ref x), v2, v3], []) st h = exF ev cX1_sticking 13 ([v0, some (.ref x), v2, v3], []) (.ref x :: st) h := exF_j (i := (i_aload 1 13)) rfl rfl
theorem eX1_sticking_12n {ev : xV} {v0 v2 v3 : Option Value} {st : List Value} {h : xH} : exF ev cX1_sticking 12 ([v0, some .null, v2, v3], []) st h = exF ev cX1_sticking 13 ([v0, some .null, v2, v3], []) (.null :: st) h := exF_j (i := (i_aload 1 13)) rfl rfl
theorem eX1_sticking_13 {ev : xV} {v0 v1 v2 : Option Value} {x : Int32} {st : List Value} {h : xH} : exF ev cX1_sticking 13 ([v0, v1, v2, some (.int x)], []) st h = exF ev cX1_sticking 14 ([v0, v1, v2, some (.int x)], []) (.int x :: st) h := exF_j (i := (i_iload 3 14)) rfl rfl
theorem eX1_sticking_14 {ev : xV} {v0 v1 v2 v3 : Option Value} {a0 : Value} {a : Nat} {h : xH} : exF ev cX1_sticking 14 ([v0, v1, v2, v3], []) [a0, .ref a] h = xO (xck h a 3) (fun _ => xB (ev 238 [.ref a, a0] h) (fun v h => exF ev cX1_sticking 17 ([v0, v1, v2, v3], []) [v] h)) := exF_cd (i := (i_cv 3 238 1 17)) rfl rfl
theorem eX1_sticking_17 {ev : xV} {v0 v1 v2 v3 : Option Value} {x : Int32} {st : List Value} {h : xH} : exF ev cX1_sticking 17 ([v0, v1, v2, v3], []) (.int x :: st) h = if x = 0 then exF ev cX1_sticking 26 ([v0, v1, v2, v3], []) st h else exF ev cX1_sticking 20 ([v0, v1, v2, v3], []) st h := exF_b (i := (i_if1 (fun x => x = 0) 26 20)) rfl rfl
theorem eX1_sticking_20 {ev : xV} {v0 v1 v3 : Option Value} {x : Int32} {st : List Value} {h : xH} : exF ev cX1_sticking 20 ([v0, v1, some (.int x), v3], []) st h = exF ev cX1_sticking 21 ([v0, v1, some (.int x), v3], []) (.int x :: st) h := exF_j (i := (i_iload 2 21)) rfl rfl
theorem eX1_sticking_21 {ev : xV} {v0 v1 v2 v3 : Option Value} {st : List Value} {h : xH} : exF ev cX1_sticking 21 ([v0, v1, v2, v3], []) st h = exF ev cX1_sticking 22 ([v0, v1, v2, v3], []) (.int (nI 1) :: st) h := exF_j (i := (i_const (.int (nI 1)) 22)) rfl rfl
theorem eX1_sticking_22 {ev : xV} {v0 v1 v2 : Option Value} {x : Int32} {st : List Value} {h : xH} : exF ev cX1_sticking 22 ([v0, v1, v2, some (.int x)], []) st h = exF ev cX1_sticking 23 ([v0, v1, v2, some (.int x)], []) (.int x :: st) h := exF_j (i := (i_iload 3 23)) rfl rfl
theorem eX1_sticking_23 {ev : xV} {v0 v1 v2 v3 : Option Value} {x y : Int32} {st : List Value} {h : xH} : exF ev cX1_sticking 23 ([v0, v1, v2, v3], []) (.int y :: .int x :: st) h = exF ev cX1_sticking 24 ([v0, v1, v2, v3], []) (.int (x <<< (y &&& 31)) :: st) h := exF_j (i := (i_ii (fun x y => x <<< (y &&& 31)) 24)) rfl rfl
theorem eX1_sticking_24 {ev : xV} {v0 v1 v2 v3 : Option Value} {x y : Int32} {st : List Value} {h : xH} : exF ev cX1_sticking 24 ([v0, v1, v2, v3], []) (.int y :: .int x :: st) h = exF ev cX1_sticking 25 ([v0, v1, v2, v3], []) (.int (x ||| y) :: st) h := exF_j (i := (i_ii (fun x y => x ||| y) 25)) rfl rfl
theorem eX1_sticking_25 {ev : xV} {v0 v1 v2 v3 : Option Value} {x : Int32} {st : List Value} {h : xH} : exF ev cX1_sticking 25 ([v0, v1, v2, v3], []) (.int x :: st) h = exF ev cX1_sticking 26 ([v0, v1, some (.int x), v3], []) st h := exF_j (i := (i_istore 2 26)) rfl rfl
theorem eX1_sticking_26 {ev : xV} {v0 v1 v2 : Option Value} {x : Int32} {st : List Value} {h : xH} : exF ev cX1_sticking 26 ([v0, v1, v2, some (.int x)], []) st h = exF ev cX1_sticking 29 ([v0, v1, v2, some (.int (x + (nI 1)))], []) st h := exF_j (i := (i_iinc 3 (nI 1) 29)) rfl rfl
theorem eX1_sticking_29 {ev : xV} {v0 v1 v2 v3 : Option Value} {st : List Value} {h : xH} : exF ev cX1_sticking 29 ([v0, v1, v2, v3], []) st h = exF ev cX1_sticking 4 ([v0, v1, v2, v3], []) st h := exF_j (i := (i_goto 4)) rfl rfl
theorem eX1_sticking_32 {ev : xV} {v0 v1 v3 : Option Value} {x : Int32} {st : List Value} {h : xH} : exF ev cX1_sticking 32 ([v0, v1, some (.int x), v3], []) st h = exF ev cX1_sticking 33 ([v0, v1, some (.int x), v3], []) (.int x :: st) h := exF_j (i := (i_iload 2 33)) rfl rfl
theorem eX1_sticking_33 {ev : xV} {v0 v1 v2 v3 : Option Value} {x : Int32} {h : xH} : exF ev cX1_sticking 33 ([v0, v1, v2, v3], []) [.int x] h = some (.inl (some (.int x)), h) := exF_r (i := (i_iret)) rfl rfl
noncomputable def cX1_walk : xC := [(0, i_aload 0 1),
  (1, i_iload 1 2),
  (2, i_cv 0 100 1 5),
  (5, i_if1 (fun x => x = 0) 47 8),
  (8, i_aload 0 9),
  (9, i_iload 2 10),
  (10, i_cv 0 95 1 13),
  (13, i_if1 (fun x => x = 0) 47 16),
  (16, i_aload 0 17),
  (17, i_getf 0 4 20),
  (20, i_iload 2 21),
  (21, i_cv 3 238 1 24),
  (24, i_if1 (fun x => ¬ x = 0) 47 27),
  (27, i_aload 0 28),
  (28, i_iload 2 29),
  (29, i_cv 0 97 1 32),
  (32, i_aload 0 33),
  (33, i_getf 0 4 36),
  (36, i_getf 3 2 39),
  (39, i_iload 1 40),
  (40, i_ai 0 41),
  (41, i_cv 6 367 1 44),
  (44, i_if1 (fun x => ¬ x = 0) 49 47),
  (47, i_const (.int (-1)) 48),
  (48, i_iret),
  (49, i_aload 0 50),
  (50, i_cvv 0 103 0 53),
  (53, i_aload 0 54),
  (54, i_aload 0 55),
  (55, i_getf 0 4 58),
  (58, i_iload 1 59),
  (59, i_iload 2 60),
  (60, i_cv 0 110 3 63),
  (63, i_pop 64),
  (64, i_aload 0 65),
  (65, i_getf 0 4 68),
  (68, i_getf 3 2 71),
  (71, i_iload 1 72),
  (72, i_ai 0 73),
  (73, i_iret)]
theorem eX1_walk_0 {ev : xV} {v1 v2 : Option Value} {x : Nat} {st : List Value} {h : xH} : exF ev cX1_walk 0 ([some (.ref x), v1, v2], []) st h = exF ev cX1_walk 1 ([some (.ref x), v1, v2], []) (.ref x :: st) h := exF_j (i := (i_aload 0 1)) rfl rfl
theorem eX1_walk_1 {ev : xV} {v0 v2 : Option Value} {x : Int32} {st : List Value} {h : xH} : exF ev cX1_walk 1 ([v0, some (.int x), v2], []) st h = exF ev cX1_walk 2 ([v0, some (.int x), v2], []) (.int x :: st) h := exF_j (i := (i_iload 1 2)) rfl rfl
theorem eX1_walk_2 {ev : xV} {v0 v1 v2 : Option Value} {a0 : Value} {a : Nat} {h : xH} : exF ev cX1_walk 2 ([v0, v1, v2], []) [a0, .ref a] h = xO (xck h a 0) (fun _ => xB (ev 100 [.ref a, a0] h) (fun v h => exF ev cX1_walk 5 ([v0, v1, v2], []) [v] h)) := exF_cd (i := (i_cv 0 100 1 5)) rfl rfl
theorem eX1_walk_5 {ev : xV} {v0 v1 v2 : Option Value} {x : Int32} {st : List Value} {h : xH} : exF ev cX1_walk 5 ([v0, v1, v2], []) (.int x :: st) h = if x = 0 then exF ev cX1_walk 47 ([v0, v1, v2], []) st h else exF ev cX1_walk 8 ([v0, v1, v2], []) st h := exF_b (i := (i_if1 (fun x => x = 0) 47 8)) rfl rfl
theorem eX1_walk_8 {ev : xV} {v1 v2 : Option Value} {x : Nat} {st : List Value} {h : xH} : exF ev cX1_walk 8 ([some (.ref x), v1, v2], []) st h = exF ev cX1_walk 9 ([some (.ref x), v1, v2], []) (.ref x :: st) h := exF_j (i := (i_aload 0 9)) rfl rfl
theorem eX1_walk_9 {ev : xV} {v0 v1 : Option Value} {x : Int32} {st : List Value} {h : xH} : exF ev cX1_walk 9 ([v0, v1, some (.int x)], []) st h = exF ev cX1_walk 10 ([v0, v1, some (.int x)], []) (.int x :: st) h := exF_j (i := (i_iload 2 10)) rfl rfl
theorem eX1_walk_10 {ev : xV} {v0 v1 v2 : Option Value} {a0 : Value} {a : Nat} {h : xH} : exF ev cX1_walk 10 ([v0, v1, v2], []) [a0, .ref a] h = xO (xck h a 0) (fun _ => xB (ev 95 [.ref a, a0] h) (fun v h => exF ev cX1_walk 13 ([v0, v1, v2], []) [v] h)) := exF_cd (i := (i_cv 0 95 1 13)) rfl rfl
theorem eX1_walk_13 {ev : xV} {v0 v1 v2 : Option Value} {x : Int32} {st : List Value} {h : xH} : exF ev cX1_walk 13 ([v0, v1, v2], []) (.int x :: st) h = if x = 0 then exF ev cX1_walk 47 ([v0, v1, v2], []) st h else exF ev cX1_walk 16 ([v0, v1, v2], []) st h := exF_b (i := (i_if1 (fun x => x = 0) 47 16)) rfl rfl
theorem eX1_walk_16 {ev : xV} {v1 v2 : Option Value} {x : Nat} {st : List Value} {h : xH} : exF ev cX1_walk 16 ([some (.ref x), v1, v2], []) st h = exF ev cX1_walk 17 ([some (.ref x), v1, v2], []) (.ref x :: st) h := exF_j (i := (i_aload 0 17)) rfl rfl
theorem eX1_walk_17 {ev : xV} {v0 v1 v2 : Option Value} {a : Nat} {st : List Value} {h : xH} : exF ev cX1_walk 17 ([v0, v1, v2], []) (.ref a :: st) h = xO (xgf h a 0 4) (fun v => exF ev cX1_walk 20 ([v0, v1, v2], []) (v :: st) h) := exF_o (i := (i_getf 0 4 20)) rfl rfl
theorem eX1_walk_20 {ev : xV} {v0 v1 : Option Value} {x : Int32} {st : List Value} {h : xH} : exF ev cX1_walk 20 ([v0, v1, some (.int x)], []) st h = exF ev cX1_walk 21 ([v0, v1, some (.int x)], []) (.int x :: st) h := exF_j (i := (i_iload 2 21)) rfl rfl
theorem eX1_walk_21 {ev : xV} {v0 v1 v2 : Option Value} {a0 : Value} {a : Nat} {h : xH} : exF ev cX1_walk 21 ([v0, v1, v2], []) [a0, .ref a] h = xO (xck h a 3) (fun _ => xB (ev 238 [.ref a, a0] h) (fun v h => exF ev cX1_walk 24 ([v0, v1, v2], []) [v] h)) := exF_cd (i := (i_cv 3 238 1 24)) rfl rfl
theorem eX1_walk_24 {ev : xV} {v0 v1 v2 : Option Value} {x : Int32} {st : List Value} {h : xH} : exF ev cX1_walk 24 ([v0, v1, v2], []) (.int x :: st) h = if ¬ x = 0 then exF ev cX1_walk 47 ([v0, v1, v2], []) st h else exF ev cX1_walk 27 ([v0, v1, v2], []) st h := exF_b (i := (i_if1 (fun x => ¬ x = 0) 47 27)) rfl rfl
theorem eX1_walk_27 {ev : xV} {v1 v2 : Option Value} {x : Nat} {st : List Value} {h : xH} : exF ev cX1_walk 27 ([some (.ref x), v1, v2], []) st h = exF ev cX1_walk 28 ([some (.ref x), v1, v2], []) (.ref x :: st) h := exF_j (i := (i_aload 0 28)) rfl rfl
theorem eX1_walk_28 {ev : xV} {v0 v1 : Option Value} {x : Int32} {st : List Value} {h : xH} : exF ev cX1_walk 28 ([v0, v1, some (.int x)], []) st h = exF ev cX1_walk 29 ([v0, v1, some (.int x)], []) (.int x :: st) h := exF_j (i := (i_iload 2 29)) rfl rfl
theorem eX1_walk_29 {ev : xV} {v0 v1 v2 : Option Value} {a0 : Value} {a : Nat} {h : xH} : exF ev cX1_walk 29 ([v0, v1, v2], []) [a0, .ref a] h = xO (xck h a 0) (fun _ => xB (ev 97 [.ref a, a0] h) (fun v h => exF ev cX1_walk 32 ([v0, v1, v2], []) [v] h)) := exF_cd (i := (i_cv 0 97 1 32)) rfl rfl
theorem eX1_walk_32 {ev : xV} {v1 v2 : Option Value} {x : Nat} {st : List Value} {h : xH} : exF ev cX1_walk 32 ([some (.ref x), v1, v2], []) st h = exF ev cX1_walk 33 ([some (.ref x), v1, v2], []) (.ref x :: st) h := exF_j (i := (i_aload 0 33)) rfl rfl
theorem eX1_walk_33 {ev : xV} {v0 v1 v2 : Option Value} {a : Nat} {st : List Value} {h : xH} : exF ev cX1_walk 33 ([v0, v1, v2], []) (.ref a :: st) h = xO (xgf h a 0 4) (fun v => exF ev cX1_walk 36 ([v0, v1, v2], []) (v :: st) h) := exF_o (i := (i_getf 0 4 36)) rfl rfl
theorem eX1_walk_36 {ev : xV} {v0 v1 v2 : Option Value} {a : Nat} {st : List Value} {h : xH} : exF ev cX1_walk 36 ([v0, v1, v2], []) (.ref a :: st) h = xO (xgf h a 3 2) (fun v => exF ev cX1_walk 39 ([v0, v1, v2], []) (v :: st) h) := exF_o (i := (i_getf 3 2 39)) rfl rfl
theorem eX1_walk_39 {ev : xV} {v0 v2 : Option Value} {x : Int32} {st : List Value} {h : xH} : exF ev cX1_walk 39 ([v0, some (.int x), v2], []) st h = exF ev cX1_walk 40 ([v0, some (.int x), v2], []) (.int x :: st) h := exF_j (i := (i_iload 1 40)) rfl rfl
theorem eX1_walk_40 {ev : xV} {v0 v1 v2 : Option Value} {i : Int32} {a : Nat} {st : List Value} {h : xH} : exF ev cX1_walk 40 ([v0, v1, v2], []) (.int i :: .ref a :: st) h = xO (xai h 0 a i) (fun v => exF ev cX1_walk 41 ([v0, v1, v2], []) (.int v :: st) h) := exF_o (i := (i_ai 0 41)) rfl rfl
theorem eX1_walk_41 {ev : xV} {v0 v1 v2 : Option Value} {a0 : Value} {a : Nat} {h : xH} : exF ev cX1_walk 41 ([v0, v1, v2], []) [a0, .ref a] h = xO (xck h a 6) (fun _ => xB (ev 367 [.ref a, a0] h) (fun v h => exF ev cX1_walk 44 ([v0, v1, v2], []) [v] h)) := exF_cd (i := (i_cv 6 367 1 44)) rfl rfl
theorem eX1_walk_44 {ev : xV} {v0 v1 v2 : Option Value} {x : Int32} {st : List Value} {h : xH} : exF ev cX1_walk 44 ([v0, v1, v2], []) (.int x :: st) h = if ¬ x = 0 then exF ev cX1_walk 49 ([v0, v1, v2], []) st h else exF ev cX1_walk 47 ([v0, v1, v2], []) st h := exF_b (i := (i_if1 (fun x => ¬ x = 0) 49 47)) rfl rfl
theorem eX1_walk_47 {ev : xV} {v0 v1 v2 : Option Value} {st : List Value} {h : xH} : exF ev cX1_walk 47 ([v0, v1, v2], []) st h = exF ev cX1_walk 48 ([v0, v1, v2], []) (.int (-1) :: st) h := exF_j (i := (i_const (.int (-1)) 48)) rfl rfl
theorem eX1_walk_48 {ev : xV} {v0 v1 v2 : Option Value} {x : Int32} {h : xH} : exF ev cX1_walk 48 ([v0, v1, v2], []) [.int x] h = some (.inl (some (.int x)), h) := exF_r (i := (i_iret)) rfl rfl
theorem eX1_walk_49 {ev : xV} {v1 v2 : Option Value} {x : Nat} {st : List Value} {h : xH} : exF ev cX1_walk 49 ([some (.ref x), v1, v2], []) st h = exF ev cX1_walk 50 ([some (.ref x), v1, v2], []) (.ref x :: st) h := exF_j (i := (i_aload 0 50)) rfl rfl
theorem eX1_walk_50 {ev : xV} {v0 v1 v2 : Option Value} {a : Nat} {h : xH} : exF ev cX1_walk 50 ([v0, v1, v2], []) [.ref a] h = xO (xck h a 0) (fun _ => xBv (ev 103 [.ref a] h) (fun h => exF ev cX1_walk 53 ([v0, v1, v2], []) [] h)) := exF_cdv (i := (i_cvv 0 103 0 53)) rfl rfl
theorem eX1_walk_53 {ev : xV} {v1 v2 : Option Value} {x : Nat} {st : List Value} {h : xH} : exF ev cX1_walk 53 ([some (.ref x), v1, v2], []) st h = exF ev cX1_walk 54 ([some (.ref x), v1, v2], []) (.ref x :: st) h := exF_j (i := (i_aload 0 54)) rfl rfl
theorem eX1_walk_54 {ev : xV} {v1 v2 : Option Value} {x : Nat} {st : List Value} {h : xH} : exF ev cX1_walk 54 ([some (.ref x), v1, v2], []) st h = exF ev cX1_walk 55 ([some (.ref x), v1, v2], []) (.ref x :: st) h := exF_j (i := (i_aload 0 55)) rfl rfl
theorem eX1_walk_55 {ev : xV} {v0 v1 v2 : Option Value} {a : Nat} {st : List Value} {h : xH} : exF ev cX1_walk 55 ([v0, v1, v2], []) (.ref a :: st) h = xO (xgf h a 0 4) (fun v => exF ev cX1_walk 58 ([v0, v1, v2], []) (v :: st) h) := exF_o (i := (i_getf 0 4 58)) rfl rfl
theorem eX1_walk_58 {ev : xV} {v0 v2 : Option Value} {x : Int32} {st : List Value} {h : xH} : exF ev cX1_walk 58 ([v0, some (.int x), v2], []) st h = exF ev cX1_walk 59 ([v0, some (.int x), v2], []) (.int x :: st) h := exF_j (i := (i_iload 1 59)) rfl rfl
theorem eX1_walk_59 {ev : xV} {v0 v1 : Option Value} {x : Int32} {st : List Value} {h : xH} : exF ev cX1_walk 59 ([v0, v1, some (.int x)], []) st h = exF ev cX1_walk 60 ([v0, v1, some (.int x)], []) (.int x :: st) h := exF_j (i := (i_iload 2 60)) rfl rfl
theorem eX1_walk_60 {ev : xV} {v0 v1 v2 : Option Value} {a0 : Value} {a1 : Value} {a2 : Value} {a : Nat} {h : xH} : exF ev cX1_walk 60 ([v0, v1, v2], []) [a2, a1, a0, .ref a] h = xO (xck h a 0) (fun _ => xB (ev 110 [.ref a, a0, a1, a2] h) (fun v h => exF ev cX1_walk 63 ([v0, v1, v2], []) [v] h)) := exF_cd (i := (i_cv 0 110 3 63)) rfl rfl
theorem eX1_walk_63 {ev : xV} {v0 v1 v2 : Option Value} {x : Int32} {st : List Value} {h : xH} : exF ev cX1_walk 63 ([v0, v1, v2], []) (.int x :: st) h = exF ev cX1_walk 64 ([v0, v1, v2], []) st h := exF_j (i := (i_pop 64)) rfl rfl
theorem eX1_walk_64 {ev : xV} {v1 v2 : Option Value} {x : Nat} {st : List Value} {h : xH} : exF ev cX1_walk 64 ([some (.ref x), v1, v2], []) st h = exF ev cX1_walk 65 ([some (.ref x), v1, v2], []) (.ref x :: st) h := exF_j (i := (i_aload 0 65)) rfl rfl
theorem eX1_walk_65 {ev : xV} {v0 v1 v2 : Option Value} {a : Nat} {st : List Value} {h : xH} : exF ev cX1_walk 65 ([v0, v1, v2], []) (.ref a :: st) h = xO (xgf h a 0 4) (fun v => exF ev cX1_walk 68 ([v0, v1, v2], []) (v :: st) h) := exF_o (i := (i_getf 0 4 68)) rfl rfl
theorem eX1_walk_68 {ev : xV} {v0 v1 v2 : Option Value} {a : Nat} {st : List Value} {h : xH} : exF ev cX1_walk 68 ([v0, v1, v2], []) (.ref a :: st) h = xO (xgf h a 3 2) (fun v => exF ev cX1_walk 71 ([v0, v1, v2], []) (v :: st) h) := exF_o (i := (i_getf 3 2 71)) rfl rfl
theorem eX1_walk_71 {ev : xV} {v0 v2 : Option Value} {x : Int32} {st : List Value} {h : xH} : exF ev cX1_walk 71 ([v0, some (.int x), v2], []) st h = exF ev cX1_walk 72 ([v0, some (.int x), v2], []) (.int x :: st) h := exF_j (i := (i_iload 1 72)) rfl rfl
theorem eX1_walk_72 {ev : xV} {v0 v1 v2 : Option Value} {i : Int32} {a : Nat} {st : List Value} {h : xH} : exF ev cX1_walk 72 ([v0, v1, v2], []) (.int i :: .ref a :: st) h = xO (xai h 0 a i) (fun v => exF ev cX1_walk 73 ([v0, v1, v2], []) (.int v :: st) h) := exF_o (i := (i_ai 0 73)) rfl rfl
theorem eX1_walk_73 {ev : xV} {v0 v1 v2 : Option Value} {x : Int32} {h : xH} : exF ev cX1_walk 73 ([v0, v1, v2], []) [.int x] h = some (.inl (some (.int x)), h) := exF_r (i := (i_iret)) rfl rfl
noncomputable def cX1_isWalked : xC := [(0, i_aload 0 1),
  (1, i_iload 3 2),
  (2, i_cv 0 95 1 5),
  (5, i_if1 (fun x => x = 0) 33 8),
  (8, i_aload 1 9),
  (9, i_iload 3 10),
  (10, i_cv 3 238 1 13),
  (13, i_if1 (fun x => ¬ x = 0) 33 16),
  (16, i_aload 0 17),
  (17, i_iload 3 18),
  (18, i_cv 0 97 1 21),
  (21, i_aload 1 22),
  (22, i_getf 3 2 25),
  (25, i_iload 2 26),
  (26, i_ai 0 27),
  (27, i_cv 6 367 1 30),
  (30, i_if1 (fun x => ¬ x = 0) 35 33),
  (33, i_const (.int (nI 0)) 34),
  (34, i_zret),
  (35, i_aload 1 36),
  (36, i_getf 3 2 39),
  (39, i_iload 2 40),
  (40, i_aload 0 41),
  (41, i_iload 3 42),
  (42, i_cv 0 97 1 45),
  (45, i_aload 1 46),
  (46, i_getf 3 2 49),
  (49, i_iload 2 50),
  (50, i_ai 0 51),
  (51, i_cv 6 369 1 54),
  (54, i_si (fun v => v) 0 55),
  (55, i_const (.int (nI 1)) 56),
  (56, i_zret)]
theorem eX1_isWalked_0 {ev : xV} {v1 v2 v3 : Option Value} {x : Nat} {st : List Value} {h : xH} : exF ev cX1_isWalked 0 ([some (.ref x), v1, v2, v3], []) st h = exF ev cX1_isWalked 1 ([some (.ref x), v1, v2, v3], []) (.ref x :: st) h := exF_j (i := (i_aload 0 1)) rfl rfl
theorem eX1_isWalked_1 {ev : xV} {v0 v1 v2 : Option Value} {x : Int32} {st : List Value} {h : xH} : exF ev cX1_isWalked 1 ([v0, v1, v2, some (.int x)], []) st h = exF ev cX1_isWalked 2 ([v0, v1, v2, some (.int x)], []) (.int x :: st) h := exF_j (i := (i_iload 3 2)) rfl rfl
theorem eX1_isWalked_2 {ev : xV} {v0 v1 v2 v3 : Option Value} {a0 : Value} {a : Nat} {h : xH} : exF ev cX1_isWalked 2 ([v0, v1, v2, v3], []) [a0, .ref a] h = xO (xck h a 0) (fun _ => xB (ev 95 [.ref a, a0] h) (fun v h => exF ev cX1_isWalked 5 ([v0, v1, v2, v3], []) [v] h)) := exF_cd (i := (i_cv 0 95 1 5)) rfl rfl
theorem eX1_isWalked_5 {ev : xV} {v0 v1 v2 v3 : Option Value} {x : Int32} {st : List Value} {h : xH} : exF ev cX1_isWalked 5 ([v0, v1, v2, v3], []) (.int x :: st) h = if x = 0 then exF ev cX1_isWalked 33 ([v0, v1, v2, v3], []) st h else exF ev cX1_isWalked 8 ([v0, v1, v2, v3], []) st h := exF_b (i := (i_if1 (fun x => x = 0) 33 8)) rfl rfl
theorem eX1_isWalked_8 {ev : xV} {v0 v2 v3 : Option Value} {x : Nat} {st : List Value} {h : xH} : exF ev cX1_isWalked 8 ([v0, some (.ref x), v2, v3], []) st h = exF ev cX1_isWalked 9 ([v0, some (.ref x), v2, v3], []) (.ref x :: st) h := exF_j (i := (i_aload 1 9)) rfl rfl
theorem eX1_isWalked_8n {ev : xV} {v0 v2 v3 : Option Value} {st : List Value} {h : xH} : exF ev cX1_isWalked 8 ([v0, some .null, v2, v3], []) st h = exF ev cX1_isWalked 9 ([v0, some .null, v2, v3], []) (.null :: st) h := exF_j (i := (i_aload 1 9)) rfl rfl
theorem eX1_isWalked_9 {ev : xV} {v0 v1 v2 : Option Value} {x : Int32} {st : List Value} {h : xH} : exF ev cX1_isWalked 9 ([v0, v1, v2, some (.int x)], []) st h = exF ev cX1_isWalked 10 ([v0, v1, v2, some (.int x)], []) (.int x :: st) h := exF_j (i := (i_iload 3 10)) rfl rfl
theorem eX1_isWalked_10 {ev : xV} {v0 v1 v2 v3 : Option Value} {a0 : Value} {a : Nat} {h : xH} : exF ev cX1_isWalked 10 ([v0, v1, v2, v3], []) [a0, .ref a] h = xO (xck h a 3) (fun _ => xB (ev 238 [.ref a, a0] h) (fun v h => exF ev cX1_isWalked 13 ([v0, v1, v2, v3], []) [v] h)) := exF_cd (i := (i_cv 3 238 1 13)) rfl rfl
theorem eX1_isWalked_13 {ev : xV} {v0 v1 v2 v3 : Option Value} {x : Int32} {st : List Value} {h : xH} : exF ev cX1_isWalked 13 ([v0, v1, v2, v3], []) (.int x :: st) h = if ¬ x = 0 then exF ev cX1_isWalked 33 ([v0, v1, v2, v3], []) st h else exF ev cX1_isWalked 16 ([v0, v1, v2, v3], []) st h := exF_b (i := (i_if1 (fun x => ¬ x = 0) 33 16)) rfl rfl
theorem eX1_isWalked_16 {ev : xV} {v1 v2 v3 : Option Value} {x : Nat} {st : List Value} {h : xH} : exF ev cX1_isWalked 16 ([some (.ref x), v1, v2, v3], []) st h = exF ev cX1_isWalked 17 ([some (.ref x), v1, v2, v3], []) (.ref x :: st) h := exF_j (i := (i_aload 0 17)) rfl rfl
theorem eX1_isWalked_17 {ev : xV} {v0 v1 v2 : Option Value} {x : Int32} {st : List Value} {h : xH} : exF ev cX1_isWalked 17 ([v0, v1, v2, some (.int x)], []) st h = exF ev cX1_isWalked 18 ([v0, v1, v2, some (.int x)], []) (.int x :: st) h := exF_j (i := (i_iload 3 18)) rfl rfl
theorem eX1_isWalked_18 {ev : xV} {v0 v1 v2 v3 : Option Value} {a0 : Value} {a : Nat} {h : xH} : exF ev cX1_isWalked 18 ([v0, v1, v2, v3], []) [a0, .ref a] h = xO (xck h a 0) (fun _ => xB (ev 97 [.ref a, a0] h) (fun v h => exF ev cX1_isWalked 21 ([v0, v1, v2, v3], []) [v] h)) := exF_cd (i := (i_cv 0 97 1 21)) rfl rfl
theorem eX1_isWalked_21 {ev : xV} {v0 v2 v3 : Option Value} {x : Nat} {st : List Value} {h : xH} : exF ev cX1_isWalked 21 ([v0, some (.ref x), v2, v3], []) st h = exF ev cX1_isWalked 22 ([v0, some (.ref x), v2, v3], []) (.ref x :: st) h := exF_j (i := (i_aload 1 22)) rfl rfl
theorem eX1_isWalked_21n {ev : xV} {v0 v2 v3 : Option Value} {st : List Value} {h : xH} : exF ev cX1_isWalked 21 ([v0, some .null, v2, v3], []) st h = exF ev cX1_isWalked 22 ([v0, some .null, v2, v3], []) (.null :: st) h := exF_j (i := (i_aload 1 22)) rfl rfl
theorem eX1_isWalked_22 {ev : xV} {v0 v1 v2 v3 : Option Value} {a : Nat} {st : List Value} {h : xH} : exF ev cX1_isWalked 22 ([v0, v1, v2, v3], []) (.ref a :: st) h = xO (xgf h a 3 2) (fun v => exF ev cX1_isWalked 25 ([v0, v1, v2, v3], []) (v :: st) h) := exF_o (i := (i_getf 3 2 25)) rfl rfl
theorem eX1_isWalked_25 {ev : xV} {v0 v1 v3 : Option Value} {x : Int32} {st : List Value} {h : xH} : exF ev cX1_isWalked 25 ([v0, v1, some (.int x), v3], []) st h = exF ev cX1_isWalked 26 ([v0, v1, some (.int x), v3], []) (.int x :: st) h := exF_j (i := (i_iload 2 26)) rfl rfl
theorem eX1_isWalked_26 {ev : xV} {v0 v1 v2 v3 : Option Value} {i : Int32} {a : Nat} {st : List Value} {h : xH} : exF ev cX1_isWalked 26 ([v0, v1, v2, v3], []) (.int i :: .ref a :: st) h = xO (xai h 0 a i) (fun v => exF ev cX1_isWalked 27 ([v0, v1, v2, v3], []) (.int v :: st) h) := exF_o (i := (i_ai 0 27)) rfl rfl
theorem eX1_isWalked_27 {ev : xV} {v0 v1 v2 v3 : Option Value} {a0 : Value} {a : Nat} {h : xH} : exF ev cX1_isWalked 27 ([v0, v1, v2, v3], []) [a0, .ref a] h = xO (xck h a 6) (fun _ => xB (ev 367 [.ref a, a0] h) (fun v h => exF ev cX1_isWalked 30 ([v0, v1, v2, v3], []) [v] h)) := exF_cd (i := (i_cv 6 367 1 30)) rfl rfl
theorem eX1_isWalked_30 {ev : xV} {v0 v1 v2 v3 : Option Value} {x : Int32} {st : List Value} {h : xH} : exF ev cX1_isWalked 30 ([v0, v1, v2, v3], []) (.int x :: st) h = if ¬ x = 0 then exF ev cX1_isWalked 35 ([v0, v1, v2, v3], []) st h else exF ev cX1_isWalked 33 ([v0, v1, v2, v3], []) st h := exF_b (i := (i_if1 (fun x => ¬ x = 0) 35 33)) rfl rfl
theorem eX1_isWalked_33 {ev : xV} {v0 v1 v2 v3 : Option Value} {st : List Value} {h : xH} : exF ev cX1_isWalked 33 ([v0, v1, v2, v3], []) st h = exF ev cX1_isWalked 34 ([v0, v1, v2, v3], []) (.int (nI 0) :: st) h := exF_j (i := (i_const (.int (nI 0)) 34)) rfl rfl
theorem eX1_isWalked_34 {ev : xV} {v0 v1 v2 v3 : Option Value} {x : Int32} {h : xH} : exF ev cX1_isWalked 34 ([v0, v1, v2, v3], []) [.int x] h = if x = nI 0 ∨ x = nI 1 then some (.inl (some (.int x)), h) else none := exF_z (i := (i_zret)) rfl rfl
theorem eX1_isWalked_34b0 {ev : xV} {v0 v1 v2 v3 : Option Value} {h : xH} : exF ev cX1_isWalked 34 ([v0, v1, v2, v3], []) [.int (nI 0)] h = some (.inl (some (.int (nI 0))), h) := exF_r (i := (i_zret)) rfl i_zret_0
theorem eX1_isWalked_34b1 {ev : xV} {v0 v1 v2 v3 : Option Value} {h : xH} : exF ev cX1_isWalked 34 ([v0, v1, v2, v3], []) [.int (nI 1)] h = some (.inl (some (.int (nI 1))), h) := exF_r (i := (i_zret)) rfl i_zret_1
theorem eX1_isWalked_34b {ev : xV} {v0 v1 v2 v3 : Option Value} {b : Bool} {h : xH} : exF ev cX1_isWalked 34 ([v0, v1, v2, v3], []) [.int (bI b)] h = some (.inl (some (.int (bI b))), h) := exF_r (i := (i_zret)) rfl (i_zret_b b)
theorem eX1_isWalked_35 {ev : xV} {v0 v2 v3 : Option Value} {x : Nat} {st : List Value} {h : xH} : exF ev cX1_isWalked 35 ([v0, some (.ref x), v2, v3], []) st h = exF ev cX1_isWalked 36 ([v0, some (.ref x), v2, v3], []) (.ref x :: st) h := exF_j (i := (i_aload 1 36)) rfl rfl
theorem eX1_isWalked_35n {ev : xV} {v0 v2 v3 : Option Value} {st : List Value} {h : xH} : exF ev cX1_isWalked 35 ([v0, some .null, v2, v3], []) st h = exF ev cX1_isWalked 36 ([v0, some .null, v2, v3], []) (.null :: st) h := exF_j (i := (i_aload 1 36)) rfl rfl
theorem eX1_isWalked_36 {ev : xV} {v0 v1 v2 v3 : Option Value} {a : Nat} {st : List Value} {h : xH} : exF ev cX1_isWalked 36 ([v0, v1, v2, v3], []) (.ref a :: st) h = xO (xgf h a 3 2) (fun v => exF ev cX1_isWalked 39 ([v0, v1, v2, v3], []) (v :: st) h) := exF_o (i := (i_getf 3 2 39)) rfl rfl
theorem eX1_isWalked_39 {ev : xV} {v0 v1 v3 : Option Value} {x : Int32} {st : List Value} {h : xH} : exF ev cX1_isWalked 39 ([v0, v1, some (.int x), v3], []) st h = exF ev cX1_isWalked 40 ([v0, v1, some (.int x), v3], []) (.int x :: st) h := exF_j (i := (i_iload 2 40)) rfl rfl
theorem eX1_isWalked_40 {ev : xV} {v1 v2 v3 : Option Value} {x : Nat} {st : List Value} {h : xH} : exF ev cX1_isWalked 40 ([some (.ref x), v1, v2, v3], []) st h = exF ev cX1_isWalked 41 ([some (.ref x), v1, v2, v3], []) (.ref x :: st) h := exF_j (i := (i_aload 0 41)) rfl rfl
theorem eX1_isWalked_41 {ev : xV} {v0 v1 v2 : Option Value} {x : Int32} {st : List Value} {h : xH} : exF ev cX1_isWalked 41 ([v0, v1, v2, some (.int x)], []) st h = exF ev cX1_isWalked 42 ([v0, v1, v2, some (.int x)], []) (.int x :: st) h := exF_j (i := (i_iload 3 42)) rfl rfl
theorem eX1_isWalked_42 {ev : xV} {v0 v1 v2 v3 : Option Value} {a0 : Value} {r0 : Value} {r1 : Value} {a : Nat} {h : xH} : exF ev cX1_isWalked 42 ([v0, v1, v2, v3], []) [a0, .ref a, r0, r1] h = xO (xck h a 0) (fun _ => xB (ev 97 [.ref a, a0] h) (fun v h => exF ev cX1_isWalked 45 ([v0, v1, v2, v3], []) [v, r0, r1] h)) := exF_cd (i := (i_cv 0 97 1 45)) rfl rfl
theorem eX1_isWalked_45 {ev : xV} {v0 v2 v3 : Option Value} {x : Nat} {st : List Value} {h : xH} : exF ev cX1_isWalked 45 ([v0, some (.ref x), v2, v3], []) st h = exF ev cX1_isWalked 46 ([v0, some (.ref x), v2, v3], []) (.ref x :: st) h := exF_j (i := (i_aload 1 46)) rfl rfl
theorem eX1_isWalked_45n {ev : xV} {v0 v2 v3 : Option Value} {st : List Value} {h : xH} : exF ev cX1_isWalked 45 ([v0, some .null, v2, v3], []) st h = exF ev cX1_isWalked 46 ([v0, some .null, v2, v3], []) (.null :: st) h := exF_j (i := (i_aload 1 46)) rfl rfl
theorem eX1_isWalked_46 {ev : xV} {v0 v1 v2 v3 : Option Value} {a : Nat} {st : List Value} {h : xH} : exF ev cX1_isWalked 46 ([v0, v1, v2, v3], []) (.ref a :: st) h = xO (xgf h a 3 2) (fun v => exF ev cX1_isWalked 49 ([v0, v1, v2, v3], []) (v :: st) h) := exF_o (i := (i_getf 3 2 49)) rfl rfl
theorem eX1_isWalked_49 {ev : xV} {v0 v1 v3 : Option Value} {x : Int32} {st : List Value} {h : xH} : exF ev cX1_isWalked 49 ([v0, v1, some (.int x), v3], []) st h = exF ev cX1_isWalked 50 ([v0, v1, some (.int x), v3], []) (.int x :: st) h := exF_j (i := (i_iload 2 50)) rfl rfl
theorem eX1_isWalked_50 {ev : xV} {v0 v1 v2 v3 : Option Value} {i : Int32} {a : Nat} {st : List Value} {h : xH} : exF ev cX1_isWalked 50 ([v0, v1, v2, v3], []) (.int i :: .ref a :: st) h = xO (xai h 0 a i) (fun v => exF ev cX1_isWalked 51 ([v0, v1, v2, v3], []) (.int v :: st) h) := exF_o (i := (i_ai 0 51)) rfl rfl
theorem eX1_isWalked_51 {ev : xV} {v0 v1 v2 v3 : Option Value} {a0 : Value} {r0 : Value} {r1 : Value} {a : Nat} {h : xH} : exF ev cX1_isWalked 51 ([v0, v1, v2, v3], []) [a0, .ref a, r0, r1] h = xO (xck h a 6) (fun _ => xB (ev 369 [.ref a, a0] h) (fun v h => exF ev cX1_isWalked 54 ([v0, v1, v2, v3], []) [v, r0, r1] h)) := exF_cd (i := (i_cv 6 369 1 54)) rfl rfl
theorem eX1_isWalked_54 {ev : xV} {v0 v1 v2 v3 : Option Value} {v i : Int32} {a : Nat} {st : List Value} {h : xH} : exF ev cX1_isWalked 54 ([v0, v1, v2, v3], []) (.int v :: .int i :: .ref a :: st) h = xO (xsi h 0 a i v) (fun h => exF ev cX1_isWalked 55 ([v0, v1, v2, v3], []) st h) := exF_o (i := (i_si (fun v => v) 0 55)) rfl rfl
theorem eX1_isWalked_55 {ev : xV} {v0 v1 v2 v3 : Option Value} {st : List Value} {h : xH} : exF ev cX1_isWalked 55 ([v0, v1, v2, v3], []) st h = exF ev cX1_isWalked 56 ([v0, v1, v2, v3], []) (.int (nI 1) :: st) h := exF_j (i := (i_const (.int (nI 1)) 56)) rfl rfl
theorem eX1_isWalked_56 {ev : xV} {v0 v1 v2 v3 : Option Value} {x : Int32} {h : xH} : exF ev cX1_isWalked 56 ([v0, v1, v2, v3], []) [.int x] h = if x = nI 0 ∨ x = nI 1 then some (.inl (some (.int x)), h) else none := exF_z (i := (i_zret)) rfl rfl
theorem eX1_isWalked_56b0 {ev : xV} {v0 v1 v2 v3 : Option Value} {h : xH} : exF ev cX1_isWalked 56 ([v0, v1, v2, v3], []) [.int (nI 0)] h = some (.inl (some (.int (nI 0))), h) := exF_r (i := (i_zret)) rfl i_zret_0
theorem eX1_isWalked_56b1 {ev : xV} {v0 v1 v2 v3 : Option Value} {h : xH} : exF ev cX1_isWalked 56 ([v0, v1, v2, v3], []) [.int (nI 1)] h = some (.inl (some (.int (nI 1))), h) := exF_r (i := (i_zret)) rfl i_zret_1
theorem eX1_isWalked_56b {ev : xV} {v0 v1 v2 v3 : Option Value} {b : Bool} {h : xH} : exF ev cX1_isWalked 56 ([v0, v1, v2, v3], []) [.int (bI b)] h = some (.inl (some (.int (bI b))), h) := exF_r (i := (i_zret)) rfl (i_zret_b b)
noncomputable def cX1_plane : xC := [(0, i_aload 0 1),
  (1, i_iload 1 2),
  (2, i_cv 0 95 1 5),
  (5, i_if1 (fun x => x = 0) 19 8),
  (8, i_aload 0 9),
  (9, i_getf 0 4 12),
  (12, i_iload 1 13),
  (13, i_cv 3 240 1 16),
  (16, i_if1 (fun x => ¬ x = 0) 21 19),
  (19, i_const (.int (-1)) 20),
  (20, i_iret),
  (21, i_aload 0 22),
  (22, i_cvv 0 103 0 25),
  (25, i_aload 0 26),
  (26, i_getf 0 4 29),
  (29, i_getf 3 1 32),
  (32, i_iload 1 33),
  (33, i_dup2 34),
  (34, i_ai 0 35),
  (35, i_const (.int (nI 1)) 36),
  (36, i_ii (fun x y => x + y) 37),
  (37, i_dup_x2 38),
  (38, i_si (fun v => v) 0 39),
  (39, i_iret)]
theorem eX1_plane_0 {ev : xV} {v1 : Option Value} {x : Nat} {st : List Value} {h : xH} : exF ev cX1_plane 0 ([some (.ref x), v1], []) st h = exF ev cX1_plane 1 ([some (.ref x), v1], []) (.ref x :: st) h := exF_j (i := (i_aload 0 1)) rfl rfl
theorem eX1_plane_1 {ev : xV} {v0 : Option Value} {x : Int32} {st : List Value} {h : xH} : exF ev cX1_plane 1 ([v0, some (.int x)], []) st h = exF ev cX1_plane 2 ([v0, some (.int x)], []) (.int x :: st) h := exF_j (i := (i_iload 1 2)) rfl rfl
theorem eX1_plane_2 {ev : xV} {v0 v1 : Option Value} {a0 : Value} {a : Nat} {h : xH} : exF ev cX1_plane 2 ([v0, v1], []) [a0, .ref a] h = xO (xck h a 0) (fun _ => xB (ev 95 [.ref a, a0] h) (fun v h => exF ev cX1_plane 5 ([v0, v1], []) [v] h)) := exF_cd (i := (i_cv 0 95 1 5)) rfl rfl
theorem eX1_plane_5 {ev : xV} {v0 v1 : Option Value} {x : Int32} {st : List Value} {h : xH} : exF ev cX1_plane 5 ([v0, v1], []) (.int x :: st) h = if x = 0 then exF ev cX1_plane 19 ([v0, v1], []) st h else exF ev cX1_plane 8 ([v0, v1], []) st h := exF_b (i := (i_if1 (fun x => x = 0) 19 8)) rfl rfl
theorem eX1_plane_8 {ev : xV} {v1 : Option Value} {x : Nat} {st : List Value} {h : xH} : exF ev cX1_plane 8 ([some (.ref x), v1], []) st h = exF ev cX1_plane 9 ([some (.ref x), v1], []) (.ref x :: st) h := exF_j (i := (i_aload 0 9)) rfl rfl
theorem eX1_plane_9 {ev : xV} {v0 v1 : Option Value} {a : Nat} {st : List Value} {h : xH} : exF ev cX1_plane 9 ([v0, v1], []) (.ref a :: st) h = xO (xgf h a 0 4) (fun v => exF ev cX1_plane 12 ([v0, v1], []) (v :: st) h) := exF_o (i := (i_getf 0 4 12)) rfl rfl
theorem eX1_plane_12 {ev : xV} {v0 : Option Value} {x : Int32} {st : List Value} {h : xH} : exF ev cX1_plane 12 ([v0, some (.int x)], []) st h = exF ev cX1_plane 13 ([v0, some (.int x)], []) (.int x :: st) h := exF_j (i := (i_iload 1 13)) rfl rfl
theorem eX1_plane_13 {ev : xV} {v0 v1 : Option Value} {a0 : Value} {a : Nat} {h : xH} : exF ev cX1_plane 13 ([v0, v1], []) [a0, .ref a] h = xO (xck h a 3) (fun _ => xB (ev 240 [.ref a, a0] h) (fun v h => exF ev cX1_plane 16 ([v0, v1], []) [v] h)) := exF_cd (i := (i_cv 3 240 1 16)) rfl rfl
theorem eX1_plane_16 {ev : xV} {v0 v1 : Option Value} {x : Int32} {st : List Value} {h : xH} : exF ev cX1_plane 16 ([v0, v1], []) (.int x :: st) h = if ¬ x = 0 then exF ev cX1_plane 21 ([v0, v1], []) st h else exF ev cX1_plane 19 ([v0, v1], []) st h := exF_b (i := (i_if1 (fun x => ¬ x = 0) 21 19)) rfl rfl
theorem eX1_plane_19 {ev : xV} {v0 v1 : Option Value} {st : List Value} {h : xH} : exF ev cX1_plane 19 ([v0, v1], []) st h = exF ev cX1_plane 20 ([v0, v1], []) (.int (-1) :: st) h := exF_j (i := (i_const (.int (-1)) 20)) rfl rfl
theorem eX1_plane_20 {ev : xV} {v0 v1 : Option Value} {x : Int32} {h : xH} : exF ev cX1_plane 20 ([v0, v1], []) [.int x] h = some (.inl (some (.int x)), h) := exF_r (i := (i_iret)) rfl rfl
theorem eX1_plane_21 {ev : xV} {v1 : Option Value} {x : Nat} {st : List Value} {h : xH} : exF ev cX1_plane 21 ([some (.ref x), v1], []) st h = exF ev cX1_plane 22 ([some (.ref x), v1], []) (.ref x :: st) h := exF_j (i := (i_aload 0 22)) rfl rfl
theorem eX1_plane_22 {ev : xV} {v0 v1 : Option Value} {a : Nat} {h : xH} : exF ev cX1_plane 22 ([v0, v1], []) [.ref a] h = xO (xck h a 0) (fun _ => xBv (ev 103 [.ref a] h) (fun h => exF ev cX1_plane 25 ([v0, v1], []) [] h)) := exF_cdv (i := (i_cvv 0 103 0 25)) rfl rfl
theorem eX1_plane_25 {ev : xV} {v1 : Option Value} {x : Nat} {st : List Value} {h : xH} : exF ev cX1_plane 25 ([some (.ref x), v1], []) st h = exF ev cX1_plane 26 ([some (.ref x), v1], []) (.ref x :: st) h := exF_j (i := (i_aload 0 26)) rfl rfl
theorem eX1_plane_26 {ev : xV} {v0 v1 : Option Value} {a : Nat} {st : List Value} {h : xH} : exF ev cX1_plane 26 ([v0, v1], []) (.ref a :: st) h = xO (xgf h a 0 4) (fun v => exF ev cX1_plane 29 ([v0, v1], []) (v :: st) h) := exF_o (i := (i_getf 0 4 29)) rfl rfl
theorem eX1_plane_29 {ev : xV} {v0 v1 : Option Value} {a : Nat} {st : List Value} {h : xH} : exF ev cX1_plane 29 ([v0, v1], []) (.ref a :: st) h = xO (xgf h a 3 1) (fun v => exF ev cX1_plane 32 ([v0, v1], []) (v :: st) h) := exF_o (i := (i_getf 3 1 32)) rfl rfl
theorem eX1_plane_32 {ev : xV} {v0 : Option Value} {x : Int32} {st : List Value} {h : xH} : exF ev cX1_plane 32 ([v0, some (.int x)], []) st h = exF ev cX1_plane 33 ([v0, some (.int x)], []) (.int x :: st) h := exF_j (i := (i_iload 1 33)) rfl rfl
theorem eX1_plane_33 {ev : xV} {v0 v1 : Option Value} {x : Int32} {y : Nat} {st : List Value} {h : xH} : exF ev cX1_plane 33 ([v0, v1], []) (.int x :: .ref y :: st) h = exF ev cX1_plane 34 ([v0, v1], []) (.int x :: .ref y :: .int x :: .ref y :: st) h := exF_j (i := (i_dup2 34)) rfl rfl
theorem eX1_plane_34 {ev : xV} {v0 v1 : Option Value} {i : Int32} {a : Nat} {st : List Value} {h : xH} : exF ev cX1_plane 34 ([v0, v1], []) (.int i :: .ref a :: st) h = xO (xai h 0 a i) (fun v => exF ev cX1_plane 35 ([v0, v1], []) (.int v :: st) h) := exF_o (i := (i_ai 0 35)) rfl rfl
theorem eX1_plane_35 {ev : xV} {v0 v1 : Option Value} {st : List Value} {h : xH} : exF ev cX1_plane 35 ([v0, v1], []) st h = exF ev cX1_plane 36 ([v0, v1], []) (.int (nI 1) :: st) h := exF_j (i := (i_const (.int (nI 1)) 36)) rfl rfl
theorem eX1_plane_36 {ev : xV} {v0 v1 : Option Value} {x y : Int32} {st : List Value} {h : xH} : exF ev cX1_plane 36 ([v0, v1], []) (.int y :: .int x :: st) h = exF ev cX1_plane 37 ([v0, v1], []) (.int (x + y) :: st) h := exF_j (i := (i_ii (fun x y => x + y) 37)) rfl rfl
theorem eX1_plane_37 {ev : xV} {v0 v1 : Option Value} {x y : Int32} {z : Nat} {st : List Value} {h : xH} : exF ev cX1_plane 37 ([v0, v1], []) (.int x :: .int y :: .ref z :: st) h = exF ev cX1_plane 38 ([v0, v1], []) (.int x :: .int y :: .ref z :: .int x :: st) h := exF_j (i := (i_dup_x2 38)) rfl rfl
theorem eX1_plane_38 {ev : xV} {v0 v1 : Option Value} {v i : Int32} {a : Nat} {st : List Value} {h : xH} : exF ev cX1_plane 38 ([v0, v1], []) (.int v :: .int i :: .ref a :: st) h = xO (xsi h 0 a i v) (fun h => exF ev cX1_plane 39 ([v0, v1], []) st h) := exF_o (i := (i_si (fun v => v) 0 39)) rfl rfl
theorem eX1_plane_39 {ev : xV} {v0 v1 : Option Value} {x : Int32} {h : xH} : exF ev cX1_plane 39 ([v0, v1], []) [.int x] h = some (.inl (some (.int x)), h) := exF_r (i := (i_iret)) rfl rfl
noncomputable def cX1_wedge : xC := [(0, i_aload 0 1),
  (1, i_iload 1 2),
  (2, i_cv 0 95 1 5),
  (5, i_if1 (fun x => x = 0) 19 8),
  (8, i_aload 0 9),
  (9, i_getf 0 4 12),
  (12, i_iload 1 13),
  (13, i_cv 3 241 1 16),
  (16, i_if1 (fun x => ¬ x = 0) 21 19),
  (19, i_const (.int (-1)) 20),
  (20, i_iret),
  (21, i_aload 0 22),
  (22, i_cvv 0 103 0 25),
  (25, i_aload 0 26),
  (26, i_getf 0 4 29),
  (29, i_dup 30),
  (30, i_getf 3 3 33),
  (33, i_const (.int (nI 1)) 34),
  (34, i_iload 1 35),
  (35, i_ii (fun x y => x <<< (y &&& 31)) 36),
  (36, i_ii (fun x y => x ^^^ y) 37),
  (37, i_putfi 3 3 40),
  (40, i_aload 0 41),
  (41, i_getf 0 4 44),
  (44, i_getf 3 3 47),
  (47, i_iload 1 48),
  (48, i_ii (fun x y => x >>> (y &&& 31)) 49),
  (49, i_const (.int (nI 1)) 50),
  (50, i_ii (fun x y => x &&& y) 51),
  (51, i_iret)]
theorem eX1_wedge_0 {ev : xV} {v1 : Option Value} {x : Nat} {st : List Value} {h : xH} : exF ev cX1_wedge 0 ([some (.ref x), v1], []) st h = exF ev cX1_wedge 1 ([some (.ref x), v1], []) (.ref x :: st) h := exF_j (i := (i_aload 0 1)) rfl rfl
theorem eX1_wedge_1 {ev : xV} {v0 : Option Value} {x : Int32} {st : List Value} {h : xH} : exF ev cX1_wedge 1 ([v0, some (.int x)], []) st h = exF ev cX1_wedge 2 ([v0, some (.int x)], []) (.int x :: st) h := exF_j (i := (i_iload 1 2)) rfl rfl
theorem eX1_wedge_2 {ev : xV} {v0 v1 : Option Value} {a0 : Value} {a : Nat} {h : xH} : exF ev cX1_wedge 2 ([v0, v1], []) [a0, .ref a] h = xO (xck h a 0) (fun _ => xB (ev 95 [.ref a, a0] h) (fun v h => exF ev cX1_wedge 5 ([v0, v1], []) [v] h)) := exF_cd (i := (i_cv 0 95 1 5)) rfl rfl
theorem eX1_wedge_5 {ev : xV} {v0 v1 : Option Value} {x : Int32} {st : List Value} {h : xH} : exF ev cX1_wedge 5 ([v0, v1], []) (.int x :: st) h = if x = 0 then exF ev cX1_wedge 19 ([v0, v1], []) st h else exF ev cX1_wedge 8 ([v0, v1], []) st h := exF_b (i := (i_if1 (fun x => x = 0) 19 8)) rfl rfl
theorem eX1_wedge_8 {ev : xV} {v1 : Option Value} {x : Nat} {st : List Value} {h : xH} : exF ev cX1_wedge 8 ([some (.ref x), v1], []) st h = exF ev cX1_wedge 9 ([some (.ref x), v1], []) (.ref x :: st) h := exF_j (i := (i_aload 0 9)) rfl rfl
theorem eX1_wedge_9 {ev : xV} {v0 v1 : Option Value} {a : Nat} {st : List Value} {h : xH} : exF ev cX1_wedge 9 ([v0, v1], []) (.ref a :: st) h = xO (xgf h a 0 4) (fun v => exF ev cX1_wedge 12 ([v0, v1], []) (v :: st) h) := exF_o (i := (i_getf 0 4 12)) rfl rfl
theorem eX1_wedge_12 {ev : xV} {v0 : Option Value} {x : Int32} {st : List Value} {h : xH} : exF ev cX1_wedge 12 ([v0, some (.int x)], []) st h = exF ev cX1_wedge 13 ([v0, some (.int x)], []) (.int x :: st) h := exF_j (i := (i_iload 1 13)) rfl rfl
theorem eX1_wedge_13 {ev : xV} {v0 v1 : Option Value} {a0 : Value} {a : Nat} {h : xH} : exF ev cX1_wedge 13 ([v0, v1], []) [a0, .ref a] h = xO (xck h a 3) (fun _ => xB (ev 241 [.ref a, a0] h) (fun v h => exF ev cX1_wedge 16 ([v0, v1], []) [v] h)) := exF_cd (i := (i_cv 3 241 1 16)) rfl rfl
theorem eX1_wedge_16 {ev : xV} {v0 v1 : Option Value} {x : Int32} {st : List Value} {h : xH} : exF ev cX1_wedge 16 ([v0, v1], []) (.int x :: st) h = if ¬ x = 0 then exF ev cX1_wedge 21 ([v0, v1], []) st h else exF ev cX1_wedge 19 ([v0, v1], []) st h := exF_b (i := (i_if1 (fun x => ¬ x = 0) 21 19)) rfl rfl
theorem eX1_wedge_19 {ev : xV} {v0 v1 : Option Value} {st : List Value} {h : xH} : exF ev cX1_wedge 19 ([v0, v1], []) st h = exF ev cX1_wedge 20 ([v0, v1], []) (.int (-1) :: st) h := exF_j (i := (i_const (.int (-1)) 20)) rfl rfl
theorem eX1_wedge_20 {ev : xV} {v0 v1 : Option Value} {x : Int32} {h : xH} : exF ev cX1_wedge 20 ([v0, v1], []) [.int x] h = some (.inl (some (.int x)), h) := exF_r (i := (i_iret)) rfl rfl
theorem eX1_wedge_21 {ev : xV} {v1 : Option Value} {x : Nat} {st : List Value} {h : xH} : exF ev cX1_wedge 21 ([some (.ref x), v1], []) st h = exF ev cX1_wedge 22 ([some (.ref x), v1], []) (.ref x :: st) h := exF_j (i := (i_aload 0 22)) rfl rfl
theorem eX1_wedge_22 {ev : xV} {v0 v1 : Option Value} {a : Nat} {h : xH} : exF ev cX1_wedge 22 ([v0, v1], []) [.ref a] h = xO (xck h a 0) (fun _ => xBv (ev 103 [.ref a] h) (fun h => exF ev cX1_wedge 25 ([v0, v1], []) [] h)) := exF_cdv (i := (i_cvv 0 103 0 25)) rfl rfl
theorem eX1_wedge_25 {ev : xV} {v1 : Option Value} {x : Nat} {st : List Value} {h : xH} : exF ev cX1_wedge 25 ([some (.ref x), v1], []) st h = exF ev cX1_wedge 26 ([some (.ref x), v1], []) (.ref x :: st) h := exF_j (i := (i_aload 0 26)) rfl rfl
theorem eX1_wedge_26 {ev : xV} {v0 v1 : Option Value} {a : Nat} {st : List Value} {h : xH} : exF ev cX1_wedge 26 ([v0, v1], []) (.ref a :: st) h = xO (xgf h a 0 4) (fun v => exF ev cX1_wedge 29 ([v0, v1], []) (v :: st) h) := exF_o (i := (i_getf 0 4 29)) rfl rfl
theorem eX1_wedge_29 {ev : xV} {v0 v1 : Option Value} {x : Nat} {st : List Value} {h : xH} : exF ev cX1_wedge 29 ([v0, v1], []) (.ref x :: st) h = exF ev cX1_wedge 30 ([v0, v1], []) (.ref x :: .ref x :: st) h := exF_j (i := (i_dup 30)) rfl rfl
theorem eX1_wedge_30 {ev : xV} {v0 v1 : Option Value} {a : Nat} {st : List Value} {h : xH} : exF ev cX1_wedge 30 ([v0, v1], []) (.ref a :: st) h = xO (xgf h a 3 3) (fun v => exF ev cX1_wedge 33 ([v0, v1], []) (v :: st) h) := exF_o (i := (i_getf 3 3 33)) rfl rfl
theorem eX1_wedge_33 {ev : xV} {v0 v1 : Option Value} {st : List Value} {h : xH} : exF ev cX1_wedge 33 ([v0, v1], []) st h = exF ev cX1_wedge 34 ([v0, v1], []) (.int (nI 1) :: st) h := exF_j (i := (i_const (.int (nI 1)) 34)) rfl rfl
theorem eX1_wedge_34 {ev : xV} {v0 : Option Value} {x : Int32} {st : List Value} {h : xH} : exF ev cX1_wedge 34 ([v0, some (.int x)], []) st h = exF ev cX1_wedge 35 ([v0, some (.int x)], []) (.int x :: st) h := exF_j (i := (i_iload 1 35)) rfl rfl
theorem eX1_wedge_35 {ev : xV} {v0 v1 : Option Value} {x y : Int32} {st : List Value} {h : xH} : exF ev cX1_wedge 35 ([v0, v1], []) (.int y :: .int x :: st) h = exF ev cX1_wedge 36 ([v0, v1], []) (.int (x <<< (y &&& 31)) :: st) h := exF_j (i := (i_ii (fun x y => x <<< (y &&& 31)) 36)) rfl rfl
theorem eX1_wedge_36 {ev : xV} {v0 v1 : Option Value} {x y : Int32} {st : List Value} {h : xH} : exF ev cX1_wedge 36 ([v0, v1], []) (.int y :: .int x :: st) h = exF ev cX1_wedge 37 ([v0, v1], []) (.int (x ^^^ y) :: st) h := exF_j (i := (i_ii (fun x y => x ^^^ y) 37)) rfl rfl
theorem eX1_wedge_37 {ev : xV} {v0 v1 : Option Value} {x : Int32} {a : Nat} {st : List Value} {h : xH} : exF ev cX1_wedge 37 ([v0, v1], []) (.int x :: .ref a :: st) h = xO (xpf h a 3 3 (.int x)) (fun h => exF ev cX1_wedge 40 ([v0, v1], []) st h) := exF_o (i := (i_putfi 3 3 40)) rfl rfl
theorem eX1_wedge_40 {ev : xV} {v1 : Option Value} {x : Nat} {st : List Value} {h : xH} : exF ev cX1_wedge 40 ([some (.ref x), v1], []) st h = exF ev cX1_wedge 41 ([some (.ref x), v1], []) (.ref x :: st) h := exF_j (i := (i_aload 0 41)) rfl rfl
theorem eX1_wedge_41 {ev : xV} {v0 v1 : Option Value} {a : Nat} {st : List Value} {h : xH} : exF ev cX1_wedge 41 ([v0, v1], []) (.ref a :: st) h = xO (xgf h a 0 4) (fun v => exF ev cX1_wedge 44 ([v0, v1], []) (v :: st) h) := exF_o (i := (i_getf 0 4 44)) rfl rfl
theorem eX1_wedge_44 {ev : xV} {v0 v1 : Option Value} {a : Nat} {st : List Value} {h : xH} : exF ev cX1_wedge 44 ([v0, v1], []) (.ref a :: st) h = xO (xgf h a 3 3) (fun v => exF ev cX1_wedge 47 ([v0, v1], []) (v :: st) h) := exF_o (i := (i_getf 3 3 47)) rfl rfl
theorem eX1_wedge_47 {ev : xV} {v0 : Option Value} {x : Int32} {st : List Value} {h : xH} : exF ev cX1_wedge 47 ([v0, some (.int x)], []) st h = exF ev cX1_wedge 48 ([v0, some (.int x)], []) (.int x :: st) h := exF_j (i := (i_iload 1 48)) rfl rfl
theorem eX1_wedge_48 {ev : xV} {v0 v1 : Option Value} {x y : Int32} {st : List Value} {h : xH} : exF ev cX1_wedge 48 ([v0, v1], []) (.int y :: .int x :: st) h = exF ev cX1_wedge 49 ([v0, v1], []) (.int (x >>> (y &&& 31)) :: st) h := exF_j (i := (i_ii (fun x y => x >>> (y &&& 31)) 49)) rfl rfl
theorem eX1_wedge_49 {ev : xV} {v0 v1 : Option Value} {st : List Value} {h : xH} : exF ev cX1_wedge 49 ([v0, v1], []) st h = exF ev cX1_wedge 50 ([v0, v1], []) (.int (nI 1) :: st) h := exF_j (i := (i_const (.int (nI 1)) 50)) rfl rfl
theorem eX1_wedge_50 {ev : xV} {v0 v1 : Option Value} {x y : Int32} {st : List Value} {h : xH} : exF ev cX1_wedge 50 ([v0, v1], []) (.int y :: .int x :: st) h = exF ev cX1_wedge 51 ([v0, v1], []) (.int (x &&& y) :: st) h := exF_j (i := (i_ii (fun x y => x &&& y) 51)) rfl rfl
theorem eX1_wedge_51 {ev : xV} {v0 v1 : Option Value} {x : Int32} {h : xH} : exF ev cX1_wedge 51 ([v0, v1], []) [.int x] h = some (.inl (some (.int x)), h) := exF_r (i := (i_iret)) rfl rfl
noncomputable def cX1_force : xC := [(0, i_aload 0 1),
  (1, i_iload 1 2),
  (2, i_cv 0 95 1 5),
  (5, i_if1 (fun x => x = 0) 19 8),
  (8, i_aload 0 9),
  (9, i_getf 0 4 12),
  (12, i_iload 1 13),
  (13, i_cv 3 242 1 16),
  (16, i_if1 (fun x => ¬ x = 0) 21 19),
  (19, i_const (.int (-1)) 20),
  (20, i_iret),
  (21, i_aload 0 22),
  (22, i_cvv 0 103 0 25),
  (25, i_aload 0 26),
  (26, i_getf 0 4 29),
  (29, i_getf 3 1 32),
  (32, i_iload 1 33),
  (33, i_aload 0 34),
  (34, i_getf 0 4 37),
  (37, i_getf 3 0 40),
  (40, i_iload 1 41),
  (41, i_ai 0 42),
  (42, i_si (fun v => v) 0 43),
  (43, i_aload 0 44),
  (44, i_getf 0 4 47),
  (47, i_getf 3 1 50),
  (50, i_iload 1 51),
  (51, i_ai 0 52),
  (52, i_iret)]
theorem eX1_force_0 {ev : xV} {v1 : Option Value} {x : Nat} {st : List Value} {h : xH} : exF ev cX1_force 0 ([some (.ref x), v1], []) st h = exF ev cX1_force 1 ([some (.ref x), v1], []) (.ref x :: st) h := exF_j (i := (i_aload 0 1)) rfl rfl
theorem eX1_force_1 {ev : xV} {v0 : Option Value} {x : Int32} {st : List Value} {h : xH} : exF ev cX1_force 1 ([v0, some (.int x)], []) st h = exF ev cX1_force 2 ([v0, some (.int x)], []) (.int x :: st) h := exF_j (i := (i_iload 1 2)) rfl rfl
theorem eX1_force_2 {ev : xV} {v0 v1 : Option Value} {a0 : Value} {a : Nat} {h : xH} : exF ev cX1_force 2 ([v0, v1], []) [a0, .ref a] h = xO (xck h a 0) (fun _ => xB (ev 95 [.ref a, a0] h) (fun v h => exF ev cX1_force 5 ([v0, v1], []) [v] h)) := exF_cd (i := (i_cv 0 95 1 5)) rfl rfl
theorem eX1_force_5 {ev : xV} {v0 v1 : Option Value} {x : Int32} {st : List Value} {h : xH} : exF ev cX1_force 5 ([v0, v1], []) (.int x :: st) h = if x = 0 then exF ev cX1_force 19 ([v0, v1], []) st h else exF ev cX1_force 8 ([v0, v1], []) st h := exF_b (i := (i_if1 (fun x => x = 0) 19 8)) rfl rfl
theorem eX1_force_8 {ev : xV} {v1 : Option Value} {x : Nat} {st : List Value} {h : xH} : exF ev cX1_force 8 ([some (.ref x), v1], []) st h = exF ev cX1_force 9 ([some (.ref x), v1], []) (.ref x :: st) h := exF_j (i := (i_aload 0 9)) rfl rfl
theorem eX1_force_9 {ev : xV} {v0 v1 : Option Value} {a : Nat} {st : List Value} {h : xH} : exF ev cX1_force 9 ([v0, v1], []) (.ref a :: st) h = xO (xgf h a 0 4) (fun v => exF ev cX1_force 12 ([v0, v1], []) (v :: st) h) := exF_o (i := (i_getf 0 4 12)) rfl rfl
theorem eX1_force_12 {ev : xV} {v0 : Option Value} {x : Int32} {st : List Value} {h : xH} : exF ev cX1_force 12 ([v0, some (.int x)], []) st h = exF ev cX1_force 13 ([v0, some (.int x)], []) (.int x :: st) h := exF_j (i := (i_iload 1 13)) rfl rfl
theorem eX1_force_13 {ev : xV} {v0 v1 : Option Value} {a0 : Value} {a : Nat} {h : xH} : exF ev cX1_force 13 ([v0, v1], []) [a0, .ref a] h = xO (xck h a 3) (fun _ => xB (ev 242 [.ref a, a0] h) (fun v h => exF ev cX1_force 16 ([v0, v1], []) [v] h)) := exF_cd (i := (i_cv 3 242 1 16)) rfl rfl
theorem eX1_force_16 {ev : xV} {v0 v1 : Option Value} {x : Int32} {st : List Value} {h : xH} : exF ev cX1_force 16 ([v0, v1], []) (.int x :: st) h = if ¬ x = 0 then exF ev cX1_force 21 ([v0, v1], []) st h else exF ev cX1_force 19 ([v0, v1], []) st h := exF_b (i := (i_if1 (fun x => ¬ x = 0) 21 19)) rfl rfl
theorem eX1_force_19 {ev : xV} {v0 v1 : Option Value} {st : List Value} {h : xH} : exF ev cX1_force 19 ([v0, v1], []) st h = exF ev cX1_force 20 ([v0, v1], []) (.int (-1) :: st) h := exF_j (i := (i_const (.int (-1)) 20)) rfl rfl
theorem eX1_force_20 {ev : xV} {v0 v1 : Option Value} {x : Int32} {h : xH} : exF ev cX1_force 20 ([v0, v1], []) [.int x] h = some (.inl (some (.int x)), h) := exF_r (i := (i_iret)) rfl rfl
theorem eX1_force_21 {ev : xV} {v1 : Option Value} {x : Nat} {st : List Value} {h : xH} : exF ev cX1_force 21 ([some (.ref x), v1], []) st h = exF ev cX1_force 22 ([some (.ref x), v1], []) (.ref x :: st) h := exF_j (i := (i_aload 0 22)) rfl rfl
theorem eX1_force_22 {ev : xV} {v0 v1 : Option Value} {a : Nat} {h : xH} : exF ev cX1_force 22 ([v0, v1], []) [.ref a] h = xO (xck h a 0) (fun _ => xBv (ev 103 [.ref a] h) (fun h => exF ev cX1_force 25 ([v0, v1], []) [] h)) := exF_cdv (i := (i_cvv 0 103 0 25)) rfl rfl
theorem eX1_force_25 {ev : xV} {v1 : Option Value} {x : Nat} {st : List Value} {h : xH} : exF ev cX1_force 25 ([some (.ref x), v1], []) st h = exF ev cX1_force 26 ([some (.ref x), v1], []) (.ref x :: st) h := exF_j (i := (i_aload 0 26)) rfl rfl
theorem eX1_force_26 {ev : xV} {v0 v1 : Option Value} {a : Nat} {st : List Value} {h : xH} : exF ev cX1_force 26 ([v0, v1], []) (.ref a :: st) h = xO (xgf h a 0 4) (fun v => exF ev cX1_force 29 ([v0, v1], []) (v :: st) h) := exF_o (i := (i_getf 0 4 29)) rfl rfl
theorem eX1_force_29 {ev : xV} {v0 v1 : Option Value} {a : Nat} {st : List Value} {h : xH} : exF ev cX1_force 29 ([v0, v1], []) (.ref a :: st) h = xO (xgf h a 3 1) (fun v => exF ev cX1_force 32 ([v0, v1], []) (v :: st) h) := exF_o (i := (i_getf 3 1 32)) rfl rfl
theorem eX1_force_32 {ev : xV} {v0 : Option Value} {x : Int32} {st : List Value} {h : xH} : exF ev cX1_force 32 ([v0, some (.int x)], []) st h = exF ev cX1_force 33 ([v0, some (.int x)], []) (.int x :: st) h := exF_j (i := (i_iload 1 33)) rfl rfl
theorem eX1_force_33 {ev : xV} {v1 : Option Value} {x : Nat} {st : List Value} {h : xH} : exF ev cX1_force 33 ([some (.ref x), v1], []) st h = exF ev cX1_force 34 ([some (.ref x), v1], []) (.ref x :: st) h := exF_j (i := (i_aload 0 34)) rfl rfl
theorem eX1_force_34 {ev : xV} {v0 v1 : Option Value} {a : Nat} {st : List Value} {h : xH} : exF ev cX1_force 34 ([v0, v1], []) (.ref a :: st) h = xO (xgf h a 0 4) (fun v => exF ev cX1_force 37 ([v0, v1], []) (v :: st) h) := exF_o (i := (i_getf 0 4 37)) rfl rfl
theorem eX1_force_37 {ev : xV} {v0 v1 : Option Value} {a : Nat} {st : List Value} {h : xH} : exF ev cX1_force 37 ([v0, v1], []) (.ref a :: st) h = xO (xgf h a 3 0) (fun v => exF ev cX1_force 40 ([v0, v1], []) (v :: st) h) := exF_o (i := (i_getf 3 0 40)) rfl rfl
theorem eX1_force_40 {ev : xV} {v0 : Option Value} {x : Int32} {st : List Value} {h : xH} : exF ev cX1_force 40 ([v0, some (.int x)], []) st h = exF ev cX1_force 41 ([v0, some (.int x)], []) (.int x :: st) h := exF_j (i := (i_iload 1 41)) rfl rfl
theorem eX1_force_41 {ev : xV} {v0 v1 : Option Value} {i : Int32} {a : Nat} {st : List Value} {h : xH} : exF ev cX1_force 41 ([v0, v1], []) (.int i :: .ref a :: st) h = xO (xai h 0 a i) (fun v => exF ev cX1_force 42 ([v0, v1], []) (.int v :: st) h) := exF_o (i := (i_ai 0 42)) rfl rfl
theorem eX1_force_42 {ev : xV} {v0 v1 : Option Value} {v i : Int32} {a : Nat} {st : List Value} {h : xH} : exF ev cX1_force 42 ([v0, v1], []) (.int v :: .int i :: .ref a :: st) h = xO (xsi h 0 a i v) (fun h => exF ev cX1_force 43 ([v0, v1], []) st h) := exF_o (i := (i_si (fun v => v) 0 43)) rfl rfl
theorem eX1_force_43 {ev : xV} {v1 : Option Value} {x : Nat} {st : List Value} {h : xH} : exF ev cX1_force 43 ([some (.ref x), v1], []) st h = exF ev cX1_force 44 ([some (.ref x), v1], []) (.ref x :: st) h := exF_j (i := (i_aload 0 44)) rfl rfl
theorem eX1_force_44 {ev : xV} {v0 v1 : Option Value} {a : Nat} {st : List Value} {h : xH} : exF ev cX1_force 44 ([v0, v1], []) (.ref a :: st) h = xO (xgf h a 0 4) (fun v => exF ev cX1_force 47 ([v0, v1], []) (v :: st) h) := exF_o (i := (i_getf 0 4 47)) rfl rfl
theorem eX1_force_47 {ev : xV} {v0 v1 : Option Value} {a : Nat} {st : List Value} {h : xH} : exF ev cX1_force 47 ([v0, v1], []) (.ref a :: st) h = xO (xgf h a 3 1) (fun v => exF ev cX1_force 50 ([v0, v1], []) (v :: st) h) := exF_o (i := (i_getf 3 1 50)) rfl rfl
theorem eX1_force_50 {ev : xV} {v0 : Option Value} {x : Int32} {st : List Value} {h : xH} : exF ev cX1_force 50 ([v0, some (.int x)], []) st h = exF ev cX1_force 51 ([v0, some (.int x)], []) (.int x :: st) h := exF_j (i := (i_iload 1 51)) rfl rfl
theorem eX1_force_51 {ev : xV} {v0 v1 : Option Value} {i : Int32} {a : Nat} {st : List Value} {h : xH} : exF ev cX1_force 51 ([v0, v1], []) (.int i :: .ref a :: st) h = xO (xai h 0 a i) (fun v => exF ev cX1_force 52 ([v0, v1], []) (.int v :: st) h) := exF_o (i := (i_ai 0 52)) rfl rfl
theorem eX1_force_52 {ev : xV} {v0 v1 : Option Value} {x : Int32} {h : xH} : exF ev cX1_force 52 ([v0, v1], []) [.int x] h = some (.inl (some (.int x)), h) := exF_r (i := (i_iret)) rfl rfl
noncomputable def cX1_undo : xC := [(0, i_aload 0 1),
  (1, i_getf 0 9 4),
  (4, i_if1 (fun x => ¬ x = 0) 9 7),
  (7, i_const (.int (nI 0)) 8),
  (8, i_zret),
  (9, i_aload 0 10),
  (10, i_getf 0 4 13),
  (13, i_aload 0 14),
  (14, i_getf 0 8 17),
  (17, i_aload 0 18),
  (18, i_dup 19),
  (19, i_getf 0 9 22),
  (22, i_const (.int (nI 1)) 23),
  (23, i_ii (fun x y => x - y) 24),
  (24, i_dup_x1 25),
  (25, i_putfi 0 9 28),
  (28, i_aq 5 29),
  (29, i_cvv 3 239 1 32),
  (32, i_const (.int (nI 1)) 33),
  (33, i_zret)]
theorem eX1_undo_0 {ev : xV} {x : Nat} {st : List Value} {h : xH} : exF ev cX1_undo 0 ([some (.ref x)], []) st h = exF ev cX1_undo 1 ([some (.ref x)], []) (.ref x :: st) h := exF_j (i := (i_aload 0 1)) rfl rfl
theorem eX1_undo_1 {ev : xV} {v0 : Option Value} {a : Nat} {st : List Value} {h : xH} : exF ev cX1_undo 1 ([v0], []) (.ref a :: st) h = xO (xgf h a 0 9) (fun v => exF ev cX1_undo 4 ([v0], []) (v :: st) h) := exF_o (i := (i_getf 0 9 4)) rfl rfl
theorem eX1_undo_4 {ev : xV} {v0 : Option Value} {x : Int32} {st : List Value} {h : xH} : exF ev cX1_undo 4 ([v0], []) (.int x :: st) h = if ¬ x = 0 then exF ev cX1_undo 9 ([v0], []) st h else exF ev cX1_undo 7 ([v0], []) st h := exF_b (i := (i_if1 (fun x => ¬ x = 0) 9 7)) rfl rfl
theorem eX1_undo_7 {ev : xV} {v0 : Option Value} {st : List Value} {h : xH} : exF ev cX1_undo 7 ([v0], []) st h = exF ev cX1_undo 8 ([v0], []) (.int (nI 0) :: st) h := exF_j (i := (i_const (.int (nI 0)) 8)) rfl rfl
theorem eX1_undo_8 {ev : xV} {v0 : Option Value} {x : Int32} {h : xH} : exF ev cX1_undo 8 ([v0], []) [.int x] h = if x = nI 0 ∨ x = nI 1 then some (.inl (some (.int x)), h) else none := exF_z (i := (i_zret)) rfl rfl
theorem eX1_undo_8b0 {ev : xV} {v0 : Option Value} {h : xH} : exF ev cX1_undo 8 ([v0], []) [.int (nI 0)] h = some (.inl (some (.int (nI 0))), h) := exF_r (i := (i_zret)) rfl i_zret_0
theorem eX1_undo_8b1 {ev : xV} {v0 : Option Value} {h : xH} : exF ev cX1_undo 8 ([v0], []) [.int (nI 1)] h = some (.inl (some (.int (nI 1))), h) := exF_r (i := (i_zret)) rfl i_zret_1
theorem eX1_undo_8b {ev : xV} {v0 : Option Value} {b : Bool} {h : xH} : exF ev cX1_undo 8 ([v0], []) [.int (bI b)] h = some (.inl (some (.int (bI b))), h) := exF_r (i := (i_zret)) rfl (i_zret_b b)
theorem eX1_undo_9 {ev : xV} {x : Nat} {st : List Value} {h : xH} : exF ev cX1_undo 9 ([some (.ref x)], []) st h = exF ev cX1_undo 10 ([some (.ref x)], []) (.ref x :: st) h := exF_j (i := (i_aload 0 10)) rfl rfl
theorem eX1_undo_10 {ev : xV} {v0 : Option Value} {a : Nat} {st : List Value} {h : xH} : exF ev cX1_undo 10 ([v0], []) (.ref a :: st) h = xO (xgf h a 0 4) (fun v => exF ev cX1_undo 13 ([v0], []) (v :: st) h) := exF_o (i := (i_getf 0 4 13)) rfl rfl
theorem eX1_undo_13 {ev : xV} {x : Nat} {st : List Value} {h : xH} : exF ev cX1_undo 13 ([some (.ref x)], []) st h = exF ev cX1_undo 14 ([some (.ref x)], []) (.ref x :: st) h := exF_j (i := (i_aload 0 14)) rfl rfl
theorem eX1_undo_14 {ev : xV} {v0 : Option Value} {a : Nat} {st : List Value} {h : xH} : exF ev cX1_undo 14 ([v0], []) (.ref a :: st) h = xO (xgf h a 0 8) (fun v => exF ev cX1_undo 17 ([v0], []) (v :: st) h) := exF_o (i := (i_getf 0 8 17)) rfl rfl
theorem eX1_undo_17 {ev : xV} {x : Nat} {st : List Value} {h : xH} : exF ev cX1_undo 17 ([some (.ref x)], []) st h = exF ev cX1_undo 18 ([some (.ref x)], []) (.ref x :: st) h := exF_j (i := (i_aload 0 18)) rfl rfl
theorem eX1_undo_18 {ev : xV} {v0 : Option Value} {x : Nat} {st : List Value} {h : xH} : exF ev cX1_undo 18 ([v0], []) (.ref x :: st) h = exF ev cX1_undo 19 ([v0], []) (.ref x :: .ref x :: st) h := exF_j (i := (i_dup 19)) rfl rfl
theorem eX1_undo_19 {ev : xV} {v0 : Option Value} {a : Nat} {st : List Value} {h : xH} : exF ev cX1_undo 19 ([v0], []) (.ref a :: st) h = xO (xgf h a 0 9) (fun v => exF ev cX1_undo 22 ([v0], []) (v :: st) h) := exF_o (i := (i_getf 0 9 22)) rfl rfl
theorem eX1_undo_22 {ev : xV} {v0 : Option Value} {st : List Value} {h : xH} : exF ev cX1_undo 22 ([v0], []) st h = exF ev cX1_undo 23 ([v0], []) (.int (nI 1) :: st) h := exF_j (i := (i_const (.int (nI 1)) 23)) rfl rfl
theorem eX1_undo_23 {ev : xV} {v0 : Option Value} {x y : Int32} {st : List Value} {h : xH} : exF ev cX1_undo 23 ([v0], []) (.int y :: .int x :: st) h = exF ev cX1_undo 24 ([v0], []) (.int (x - y) :: st) h := exF_j (i := (i_ii (fun x y => x - y) 24)) rfl rfl
theorem eX1_undo_24 {ev : xV} {v0 : Option Value} {x : Int32} {y : Nat} {st : List Value} {h : xH} : exF ev cX1_undo 24 ([v0], []) (.int x :: .ref y :: st) h = exF ev cX1_undo 25 ([v0], []) (.int x :: .ref y :: .int x :: st) h := exF_j (i := (i_dup_x1 25)) rfl rfl
theorem eX1_undo_25 {ev : xV} {v0 : Option Value} {x : Int32} {a : Nat} {st : List Value} {h : xH} : exF ev cX1_undo 25 ([v0], []) (.int x :: .ref a :: st) h = xO (xpf h a 0 9 (.int x)) (fun h => exF ev cX1_undo 28 ([v0], []) st h) := exF_o (i := (i_putfi 0 9 28)) rfl rfl
theorem eX1_undo_28 {ev : xV} {v0 : Option Value} {i : Int32} {a : Nat} {st : List Value} {h : xH} : exF ev cX1_undo 28 ([v0], []) (.int i :: .ref a :: st) h = xO (xaq h 5 a i) (fun v => exF ev cX1_undo 29 ([v0], []) (va_rf v :: st) h) := exF_o (i := (i_aq 5 29)) rfl rfl
theorem eX1_undo_29 {ev : xV} {v0 : Option Value} {a0 : Value} {a : Nat} {h : xH} : exF ev cX1_undo 29 ([v0], []) [a0, .ref a] h = xO (xck h a 3) (fun _ => xBv (ev 239 [.ref a, a0] h) (fun h => exF ev cX1_undo 32 ([v0], []) [] h)) := exF_cdv (i := (i_cvv 3 239 1 32)) rfl rfl
theorem eX1_undo_32 {ev : xV} {v0 : Option Value} {st : List Value} {h : xH} : exF ev cX1_undo 32 ([v0], []) st h = exF ev cX1_undo 33 ([v0], []) (.int (nI 1) :: st) h := exF_j (i := (i_const (.int (nI 1)) 33)) rfl rfl
theorem eX1_undo_33 {ev : xV} {v0 : Option Value} {x : Int32} {h : xH} : exF ev cX1_undo 33 ([v0], []) [.int x] h = if x = nI 0 ∨ x = nI 1 then some (.inl (some (.int x)), h) else none := exF_z (i := (i_zret)) rfl rfl
theorem eX1_undo_33b0 {ev : xV} {v0 : Option Value} {h : xH} : exF ev cX1_undo 33 ([v0], []) [.int (nI 0)] h = some (.inl (some (.int (nI 0))), h) := exF_r (i := (i_zret)) rfl i_zret_0
theorem eX1_undo_33b1 {ev : xV} {v0 : Option Value} {h : xH} : exF ev cX1_undo 33 ([v0], []) [.int (nI 1)] h = some (.inl (some (.int (nI 1))), h) := exF_r (i := (i_zret)) rfl i_zret_1
theorem eX1_undo_33b {ev : xV} {v0 : Option Value} {b : Bool} {h : xH} : exF ev cX1_undo 33 ([v0], []) [.int (bI b)] h = some (.inl (some (.int (bI b))), h) := exF_r (i := (i_zret)) rfl (i_zret_b b)
noncomputable def cX1_judged : xC := [(0, i_iload 1 1),
  (1, i_const (.int (nI 0)) 2),
  (2, i_const (.int (nI 2)) 3),
  (3, i_cs 92 3 6),
  (6, i_if1 (fun x => ¬ x = 0) 12 9),
  (9, i_const (.int (-2)) 11),
  (11, i_iret),
  (12, i_aload 0 13),
  (13, i_getf 0 5 16),
  (16, i_aload 0 17),
  (17, i_getf 0 2 20),
  (20, i_cvv 3 237 1 23),
  (23, i_const (.int (-1)) 24),
  (24, i_istore 2 25),
  (25, i_const (.int (-1)) 26),
  (26, i_istore 3 27),
  (27, i_const (.int (nI 0)) 28),
  (28, i_istore 4 30),
  (30, i_iload 4 32),
  (32, i_aload 0 33),
  (33, i_getf 0 3 36),
  (36, i_cv 21 32 0 39),
  (39, i_if2 (fun x y => y ≤ x) 96 42),
  (42, i_aload 0 43),
  (43, i_getf 0 3 46),
  (46, i_iload 4 48),
  (48, i_cv 21 33 1 51),
  (51, i_cast [15, 16, 17, 18, 19] 54),
  (54, i_aload 0 55),
  (55, i_aload 0 56),
  (56, i_getf 0 5 59),
  (59, i_ca [(15, 192), (16, 224), (17, 226), (18, 228), (19, 230)] 2 62),
  (62, i_if1 (fun x => ¬ x = 0) 72 65),
  (65, i_iload 2 66),
  (66, i_if1 (fun x => 0 ≤ x) 72 69),
  (69, i_iload 4 71),
  (71, i_istore 2 72),
  (72, i_iload 3 73),
  (73, i_if1 (fun x => 0 ≤ x) 90 76),
  (76, i_aload 0 77),
  (77, i_aload 0 78),
  (78, i_getf 0 5 81),
  (81, i_cv 0 116 1 84),
  (84, i_if1 (fun x => x = 0) 90 87),
  (87, i_iload 4 89),
  (89, i_istore 3 90),
  (90, i_iinc 4 (nI 1) 93),
  (93, i_goto 30),
  (96, i_iload 1 97),
  (97, i_if1 (fun x => ¬ x = 0) 104 100),
  (100, i_iload 2 101),
  (101, i_goto 124),
  (104, i_iload 1 105),
  (105, i_const (.int (nI 1)) 106),
  (106, i_if2 (fun x y => ¬ x = y) 113 109),
  (109, i_iload 3 110),
  (110, i_goto 124),
  (113, i_aload 0 114),
  (114, i_aload 0 115),
  (115, i_getf 0 5 118),
  (118, i_cv 0 108 1 121),
  (121, i_cs 28 1 124),
  (124, i_iret)]
theorem eX1_judged_0 {ev : xV} {v0 v2 v3 v4 : Option Value} {x : Int32} {st : List Value} {h : xH} : exF ev cX1_judged 0 ([v0, some (.int x), v2, v3, v4], []) st h = exF ev cX1_judged 1 ([v0, some (.int x), v2, v3, v4], []) (.int x :: st) h := exF_j (i := (i_iload 1 1)) rfl rfl
theorem eX1_judged_1 {ev : xV} {v0 v1 v2 v3 v4 : Option Value} {st : List Value} {h : xH} : exF ev cX1_judged 1 ([v0, v1, v2, v3, v4], []) st h = exF ev cX1_judged 2 ([v0, v1, v2, v3, v4], []) (.int (nI 0) :: st) h := exF_j (i := (i_const (.int (nI 0)) 2)) rfl rfl
theorem eX1_judged_2 {ev : xV} {v0 v1 v2 v3 v4 : Option Value} {st : List Value} {h : xH} : exF ev cX1_judged 2 ([v0, v1, v2, v3, v4], []) st h = exF ev cX1_judged 3 ([v0, v1, v2, v3, v4], []) (.int (nI 2) :: st) h := exF_j (i := (i_const (.int (nI 2)) 3)) rfl rfl
theorem eX1_judged_3 {ev : xV} {v0 v1 v2 v3 v4 : Option Value} {a0 : Value} {a1 : Value} {a2 : Value} {h : xH} : exF ev cX1_judged 3 ([v0, v1, v2, v3, v4], []) [a2, a1, a0] h = xB (ev 92 [a0, a1, a2] h) (fun v h => exF ev cX1_judged 6 ([v0, v1, v2, v3, v4], []) [v] h) := exF_c (i := (i_cs 92 3 6)) rfl rfl
theorem eX1_judged_6 {ev : xV} {v0 v1 v2 v3 v4 : Option Value} {x : Int32} {st : List Value} {h : xH} : exF ev cX1_judged 6 ([v0, v1, v2, v3, v4], []) (.int x :: st) h = if ¬ x = 0 then exF ev cX1_judged 12 ([v0, v1, v2, v3, v4], []) st h else exF ev cX1_judged 9 ([v0, v1, v2, v3, v4], []) st h := exF_b (i := (i_if1 (fun x => ¬ x = 0) 12 9)) rfl rfl
theorem eX1_judged_9 {ev : xV} {v0 v1 v2 v3 v4 : Option Value} {st : List Value} {h : xH} : exF ev cX1_judged 9 ([v0, v1, v2, v3, v4], []) st h = exF ev cX1_judged 11 ([v0, v1, v2, v3, v4], []) (.int (-2) :: st) h := exF_j (i := (i_const (.int (-2)) 11)) rfl rfl
theorem eX1_judged_11 {ev : xV} {v0 v1 v2 v3 v4 : Option Value} {x : Int32} {h : xH} : exF ev cX1_judged 11 ([v0, v1, v2, v3, v4], []) [.int x] h = some (.inl (some (.int x)), h) := exF_r (i := (i_iret)) rfl rfl
theorem eX1_judged_12 {ev : xV} {v1 v2 v3 v4 : Option Value} {x : Nat} {st : List Value} {h : xH} : exF ev cX1_judged 12 ([some (.ref x), v1, v2, v3, v4], []) st h = exF ev cX1_judged 13 ([some (.ref x), v1, v2, v3, v4], []) (.ref x :: st) h := exF_j (i := (i_aload 0 13)) rfl rfl
theorem eX1_judged_13 {ev : xV} {v0 v1 v2 v3 v4 : Option Value} {a : Nat} {st : List Value} {h : xH} : exF ev cX1_judged 13 ([v0, v1, v2, v3, v4], []) (.ref a :: st) h = xO (xgf h a 0 5) (fun v => exF ev cX1_judged 16 ([v0, v1, v2, v3, v4], []) (v :: st) h) := exF_o (i := (i_getf 0 5 16)) rfl rfl
theorem eX1_judged_16 {ev : xV} {v1 v2 v3 v4 : Option Value} {x : Nat} {st : List Value} {h : xH} : exF ev cX1_judged 16 ([some (.ref x), v1, v2, v3, v4], []) st h = exF ev cX1_judged 17 ([some (.ref x), v1, v2, v3, v4], []) (.ref x :: st) h := exF_j (i := (i_aload 0 17)) rfl rfl
theorem eX1_judged_17 {ev : xV} {v0 v1 v2 v3 v4 : Option Value} {a : Nat} {st : List Value} {h : xH} : exF ev cX1_judged 17 ([v0, v1, v2, v3, v4], []) (.ref a :: st) h = xO (xgf h a 0 2) (fun v => exF ev cX1_judged 20 ([v0, v1, v2, v3, v4], []) (v :: st) h) := exF_o (i := (i_getf 0 2 20)) rfl rfl
theorem eX1_judged_20 {ev : xV} {v0 v1 v2 v3 v4 : Option Value} {a0 : Value} {a : Nat} {h : xH} : exF ev cX1_judged 20 ([v0, v1, v2, v3, v4], []) [a0, .ref a] h = xO (xck h a 3) (fun _ => xBv (ev 237 [.ref a, a0] h) (fun h => exF ev cX1_judged 23 ([v0, v1, v2, v3, v4], []) [] h)) := exF_cdv (i := (i_cvv 3 237 1 23)) rfl rfl
theorem eX1_judged_23 {ev : xV} {v0 v1 v2 v3 v4 : Option Value} {st : List Value} {h : xH} : exF ev cX1_judged 23 ([v0, v1, v2, v3, v4], []) st h = exF ev cX1_judged 24 ([v0, v1, v2, v3, v4], []) (.int (-1) :: st) h := exF_j (i := (i_const (.int (-1)) 24)) rfl rfl
theorem eX1_judged_24 {ev : xV} {v0 v1 v2 v3 v4 : Option Value} {x : Int32} {st : List Value} {h : xH} : exF ev cX1_judged 24 ([v0, v1, v2, v3, v4], []) (.int x :: st) h = exF ev cX1_judged 25 ([v0, v1, some (.int x), v3, v4], []) st h := exF_j (i := (i_istore 2 25)) rfl rfl
theorem eX1_judged_25 {ev : xV} {v0 v1 v2 v3 v4 : Option Value} {st : List Value} {h : xH} : exF ev cX1_judged 25 ([v0, v1, v2, v3, v4], []) st h = exF ev cX1_judged 26 ([v0, v1, v2, v3, v4], []) (.int (-1) :: st) h := exF_j (i := (i_const (.int (-1)) 26)) rfl rfl
theorem eX1_judged_26 {ev : xV} {v0 v1 v2 v3 v4 : Option Value} {x : Int32} {st : List Value} {h : xH} : exF ev cX1_judged 26 ([v0, v1, v2, v3, v4], []) (.int x :: st) h = exF ev cX1_judged 27 ([v0, v1, v2, some (.int x), v4], []) st h := exF_j (i := (i_istore 3 27)) rfl rfl
theorem eX1_judged_27 {ev : xV} {v0 v1 v2 v3 v4 : Option Value} {st : List Value} {h : xH} : exF ev cX1_judged 27 ([v0, v1, v2, v3, v4], []) st h = exF ev cX1_judged 28 ([v0, v1, v2, v3, v4], []) (.int (nI 0) :: st) h := exF_j (i := (i_const (.int (nI 0)) 28)) rfl rfl
theorem eX1_judged_28 {ev : xV} {v0 v1 v2 v3 v4 : Option Value} {x : Int32} {st : List Value} {h : xH} : exF ev cX1_judged 28 ([v0, v1, v2, v3, v4], []) (.int x :: st) h = exF ev cX1_judged 30 ([v0, v1, v2, v3, some (.int x)], []) st h := exF_j (i := (i_istore 4 30)) rfl rfl
theorem eX1_judged_30 {ev : xV} {v0 v1 v2 v3 : Option Value} {x : Int32} {st : List Value} {h : xH} : exF ev cX1_judged 30 ([v0, v1, v2, v3, some (.int x)], []) st h = exF ev cX1_judged 32 ([v0, v1, v2, v3, some (.int x)], []) (.int x :: st) h := exF_j (i := (i_iload 4 32)) rfl rfl
theorem eX1_judged_32 {ev : xV} {v1 v2 v3 v4 : Option Value} {x : Nat} {st : List Value} {h : xH} : exF ev cX1_judged 32 ([some (.ref x), v1, v2, v3, v4], []) st h = exF ev cX1_judged 33 ([some (.ref x), v1, v2, v3, v4], []) (.ref x :: st) h := exF_j (i := (i_aload 0 33)) rfl rfl
theorem eX1_judged_33 {ev : xV} {v0 v1 v2 v3 v4 : Option Value} {a : Nat} {st : List Value} {h : xH} : exF ev cX1_judged 33 ([v0, v1, v2, v3, v4], []) (.ref a :: st) h = xO (xgf h a 0 3) (fun v => exF ev cX1_judged 36 ([v0, v1, v2, v3, v4], []) (v :: st) h) := exF_o (i := (i_getf 0 3 36)) rfl rfl
theorem eX1_judged_36 {ev : xV} {v0 v1 v2 v3 v4 : Option Value} {r0 : Value} {a : Nat} {h : xH} : exF ev cX1_judged 36 ([v0, v1, v2, v3, v4], []) [.ref a, r0] h = xO (xck h a 21) (fun _ => xB (ev 32 [.ref a] h) (fun v h => exF ev cX1_judged 39 ([v0, v1, v2, v3, v4], []) [v, r0] h)) := exF_cd (i := (i_cv 21 32 0 39)) rfl rfl
theorem eX1_judged_39 {ev : xV} {v0 v1 v2 v3 v4 : Option Value} {x y : Int32} {st : List Value} {h : xH} : exF ev cX1_judged 39 ([v0, v1, v2, v3, v4], []) (.int y :: .int x :: st) h = if y ≤ x then exF ev cX1_judged 96 ([v0, v1, v2, v3, v4], []) st h else exF ev cX1_judged 42 ([v0, v1, v2, v3, v4], []) st h := exF_b (i := (i_if2 (fun x y => y ≤ x) 96 42)) rfl rfl
theorem eX1_judged_42 {ev : xV} {v1 v2 v3 v4 : Option Value} {x : Nat} {st : List Value} {h : xH} : exF ev cX1_judged 42 ([some (.ref x), v1, v2, v3, v4], []) st h = exF ev cX1_judged 43 ([some (.ref x), v1, v2, v3, v4], []) (.ref x :: st) h := exF_j (i := (i_aload 0 43)) rfl rfl
theorem eX1_judged_43 {ev : xV} {v0 v1 v2 v3 v4 : Option Value} {a : Nat} {st : List Value} {h : xH} : exF ev cX1_judged 43 ([v0, v1, v2, v3, v4], []) (.ref a :: st) h = xO (xgf h a 0 3) (fun v => exF ev cX1_judged 46 ([v0, v1, v2, v3, v4], []) (v :: st) h) := exF_o (i := (i_getf 0 3 46)) rfl rfl
theorem eX1_judged_46 {ev : xV} {v0 v1 v2 v3 : Option Value} {x : Int32} {st : List Value} {h : xH} : exF ev cX1_judged 46 ([v0, v1, v2, v3, some (.int x)], []) st h = exF ev cX1_judged 48 ([v0, v1, v2, v3, some (.int x)], []) (.int x :: st) h := exF_j (i := (i_iload 4 48)) rfl rfl
theorem eX1_judged_48 {ev : xV} {v0 v1 v2 v3 v4 : Option Value} {a0 : Value} {a : Nat} {h : xH} : exF ev cX1_judged 48 ([v0, v1, v2, v3, v4], []) [a0, .ref a] h = xO (xck h a 21) (fun _ => xB (ev 33 [.ref a, a0] h) (fun v h => exF ev cX1_judged 51 ([v0, v1, v2, v3, v4], []) [v] h)) := exF_cd (i := (i_cv 21 33 1 51)) rfl rfl
theorem eX1_judged_51 {ev : xV} {v0 v1 v2 v3 v4 : Option Value} {a : Nat} {st : List Value} {h : xH} : exF ev cX1_judged 51 ([v0, v1, v2, v3, v4], []) (.ref a :: st) h = xO (xckc h [15, 16, 17, 18, 19] a) (fun _ => exF ev cX1_judged 54 ([v0, v1, v2, v3, v4], []) (.ref a :: st) h) := exF_o (i := (i_cast [15, 16, 17, 18, 19] 54)) rfl rfl
theorem eX1_judged_54 {ev : xV} {v1 v2 v3 v4 : Option Value} {x : Nat} {st : List Value} {h : xH} : exF ev cX1_judged 54 ([some (.ref x), v1, v2, v3, v4], []) st h = exF ev cX1_judged 55 ([some (.ref x), v1, v2, v3, v4], []) (.ref x :: st) h := exF_j (i := (i_aload 0 55)) rfl rfl
theorem eX1_judged_55 {ev : xV} {v1 v2 v3 v4 : Option Value} {x : Nat} {st : List Value} {h : xH} : exF ev cX1_judged 55 ([some (.ref x), v1, v2, v3, v4], []) st h = exF ev cX1_judged 56 ([some (.ref x), v1, v2, v3, v4], []) (.ref x :: st) h := exF_j (i := (i_aload 0 56)) rfl rfl
theorem eX1_judged_56 {ev : xV} {v0 v1 v2 v3 v4 : Option Value} {a : Nat} {st : List Value} {h : xH} : exF ev cX1_judged 56 ([v0, v1, v2, v3, v4], []) (.ref a :: st) h = xO (xgf h a 0 5) (fun v => exF ev cX1_judged 59 ([v0, v1, v2, v3, v4], []) (v :: st) h) := exF_o (i := (i_getf 0 5 59)) rfl rfl
theorem eX1_judged_59 {ev : xV} {v0 v1 v2 v3 v4 : Option Value} {a0 : Value} {a1 : Value} {a : Nat} {h : xH} : exF ev cX1_judged 59 ([v0, v1, v2, v3, v4], []) [a1, a0, .ref a] h = xO (xcl h a) (fun ci => xO (([(15, 192), (16, 224), (17, 226), (18, 228), (19, 230)] : List (Nat × Nat)).lookup ci) (fun k => xB (ev k [.ref a, a0, a1] h) (fun v h => exF ev cX1_judged 62 ([v0, v1, v2, v3, v4], []) [v] h))) := exF_ca (i := (i_ca [(15, 192), (16, 224), (17, 226), (18, 228), (19, 230)] 2 62)) rfl rfl
theorem eX1_judged_62 {ev : xV} {v0 v1 v2 v3 v4 : Option Value} {x : Int32} {st : List Value} {h : xH} : exF ev cX1_judged 62 ([v0, v1, v2, v3, v4], []) (.int x :: st) h = if ¬ x = 0 then exF ev cX1_judged 72 ([v0, v1, v2, v3, v4], []) st h else exF ev cX1_judged 65 ([v0, v1, v2, v3, v4], []) st h := exF_b (i := (i_if1 (fun x => ¬ x = 0) 72 65)) rfl rfl
theorem eX1_judged_65 {ev : xV} {v0 v1 v3 v4 : Option Value} {x : Int32} {st : List Value} {h : xH} : exF ev cX1_judged 65 ([v0, v1, some (.int x), v3, v4], []) st h = exF ev cX1_judged 66 ([v0, v1, some (.int x), v3, v4], []) (.int x :: st) h := exF_j (i := (i_iload 2 66)) rfl rfl
theorem eX1_judged_66 {ev : xV} {v0 v1 v2 v3 v4 : Option Value} {x : Int32} {st : List Value} {h : xH} : exF ev cX1_judged 66 ([v0, v1, v2, v3, v4], []) (.int x :: st) h = if 0 ≤ x then exF ev cX1_judged 72 ([v0, v1, v2, v3, v4], []) st h else exF ev cX1_judged 69 ([v0, v1, v2, v3, v4], []) st h := exF_b (i := (i_if1 (fun x => 0 ≤ x) 72 69)) rfl rfl
theorem eX1_judged_69 {ev : xV} {v0 v1 v2 v3 : Option Value} {x : Int32} {st : List Value} {h : xH} : exF ev cX1_judged 69 ([v0, v1, v2, v3, some (.int x)], []) st h = exF ev cX1_judged 71 ([v0, v1, v2, v3, some (.int x)], []) (.int x :: st) h := exF_j (i := (i_iload 4 71)) rfl rfl
theorem eX1_judged_71 {ev : xV} {v0 v1 v2 v3 v4 : Option Value} {x : Int32} {st : List Value} {h : xH} : exF ev cX1_judged 71 ([v0, v1, v2, v3, v4], []) (.int x :: st) h = exF ev cX1_judged 72 ([v0, v1, some (.int x), v3, v4], []) st h := exF_j (i := (i_istore 2 72)) rfl rfl
theorem eX1_judged_72 {ev : xV} {v0 v1 v2 v4 : Option Value} {x : Int32} {st : List Value} {h : xH} : exF ev cX1_judged 72 ([v0, v1, v2, some (.int x), v4], []) st h = exF ev cX1_judged 73 ([v0, v1, v2, some (.int x), v4], []) (.int x :: st) h := exF_j (i := (i_iload 3 73)) rfl rfl
theorem eX1_judged_73 {ev : xV} {v0 v1 v2 v3 v4 : Option Value} {x : Int32} {st : List Value} {h : xH} : exF ev cX1_judged 73 ([v0, v1, v2, v3, v4], []) (.int x :: st) h = if 0 ≤ x then exF ev cX1_judged 90 ([v0, v1, v2, v3, v4], []) st h else exF ev cX1_judged 76 ([v0, v1, v2, v3, v4], []) st h := exF_b (i := (i_if1 (fun x => 0 ≤ x) 90 76)) rfl rfl
theorem eX1_judged_76 {ev : xV} {v1 v2 v3 v4 : Option Value} {x : Nat} {st : List Value} {h : xH} : exF ev cX1_judged 76 ([some (.ref x), v1, v2, v3, v4], []) st h = exF ev cX1_judged 77 ([some (.ref x), v1, v2, v3, v4], []) (.ref x :: st) h := exF_j (i := (i_aload 0 77)) rfl rfl
theorem eX1_judged_77 {ev : xV} {v1 v2 v3 v4 : Option Value} {x : Nat} {st : List Value} {h : xH} : exF ev cX1_judged 77 ([some (.ref x), v1, v2, v3, v4], []) st h = exF ev cX1_judged 78 ([some (.ref x), v1, v2, v3, v4], []) (.ref x :: st) h := exF_j (i := (i_aload 0 78)) rfl rfl
theorem eX1_judged_78 {ev : xV} {v0 v1 v2 v3 v4 : Option Value} {a : Nat} {st : List Value} {h : xH} : exF ev cX1_judged 78 ([v0, v1, v2, v3, v4], []) (.ref a :: st) h = xO (xgf h a 0 5) (fun v => exF ev cX1_judged 81 ([v0, v1, v2, v3, v4], []) (v :: st) h) := exF_o (i := (i_getf 0 5 81)) rfl rfl
theorem eX1_judged_81 {ev : xV} {v0 v1 v2 v3 v4 : Option Value} {a0 : Value} {a : Nat} {h : xH} : exF ev cX1_judged 81 ([v0, v1, v2, v3, v4], []) [a0, .ref a] h = xO (xck h a 0) (fun _ => xB (ev 116 [.ref a, a0] h) (fun v h => exF ev cX1_judged 84 ([v0, v1, v2, v3, v4], []) [v] h)) := exF_cd (i := (i_cv 0 116 1 84)) rfl rfl
theorem eX1_judged_84 {ev : xV} {v0 v1 v2 v3 v4 : Option Value} {x : Int32} {st : List Value} {h : xH} : exF ev cX1_judged 84 ([v0, v1, v2, v3, v4], []) (.int x :: st) h = if x = 0 then exF ev cX1_judged 90 ([v0, v1, v2, v3, v4], []) st h else exF ev cX1_judged 87 ([v0, v1, v2, v3, v4], []) st h := exF_b (i := (i_if1 (fun x => x = 0) 90 87)) rfl rfl
theorem eX1_judged_87 {ev : xV} {v0 v1 v2 v3 : Option Value} {x : Int32} {st : List Value} {h : xH} : exF ev cX1_judged 87 ([v0, v1, v2, v3, some (.int x)], []) st h = exF ev cX1_judged 89 ([v0, v1, v2, v3, some (.int x)], []) (.int x :: st) h := exF_j (i := (i_iload 4 89)) rfl rfl
theorem eX1_judged_89 {ev : xV} {v0 v1 v2 v3 v4 : Option Value} {x : Int32} {st : List Value} {h : xH} : exF ev cX1_judged 89 ([v0, v1, v2, v3, v4], []) (.int x :: st) h = exF ev cX1_judged 90 ([v0, v1, v2, some (.int x), v4], []) st h := exF_j (i := (i_istore 3 90)) rfl rfl
theorem eX1_judged_90 {ev : xV} {v0 v1 v2 v3 : Option Value} {x : Int32} {st : List Value} {h : xH} : exF ev cX1_judged 90 ([v0, v1, v2, v3, some (.int x)], []) st h = exF ev cX1_judged 93 ([v0, v1, v2, v3, some (.int (x + (nI 1)))], []) st h := exF_j (i := (i_iinc 4 (nI 1) 93)) rfl rfl
theorem eX1_judged_93 {ev : xV} {v0 v1 v2 v3 v4 : Option Value} {st : List Value} {h : xH} : exF ev cX1_judged 93 ([v0, v1, v2, v3, v4], []) st h = exF ev cX1_judged 30 ([v0, v1, v2, v3, v4], []) st h := exF_j (i := (i_goto 30)) rfl rfl
theorem eX1_judged_96 {ev : xV} {v0 v2 v3 v4 : Option Value} {x : Int32} {st : List Value} {h : xH} : exF ev cX1_judged 96 ([v0, some (.int x), v2, v3, v4], []) st h = exF ev cX1_judged 97 ([v0, some (.int x), v2, v3, v4], []) (.int x :: st) h := exF_j (i := (i_iload 1 97)) rfl rfl
theorem eX1_judged_97 {ev : xV} {v0 v1 v2 v3 v4 : Option Value} {x : Int32} {st : List Value} {h : xH} : exF ev cX1_judged 97 ([v0, v1, v2, v3, v4], []) (.int x :: st) h = if ¬ x = 0 then exF ev cX1_judged 104 ([v0, v1, v2, v3, v4], []) st h else exF ev cX1_judged 100 ([v0, v1, v2, v3, v4], []) st h := exF_b (i := (i_if1 (fun x => ¬ x = 0) 104 100)) rfl rfl
theorem eX1_judged_100 {ev : xV} {v0 v1 v3 v4 : Option Value} {x : Int32} {st : List Value} {h : xH} : exF ev cX1_judged 100 ([v0, v1, some (.int x), v3, v4], []) st h = exF ev cX1_judged 101 ([v0, v1, some (.int x), v3, v4], []) (.int x :: st) h := exF_j (i := (i_iload 2 101)) rfl rfl
theorem eX1_judged_101 {ev : xV} {v0 v1 v2 v3 v4 : Option Value} {st : List Value} {h : xH} : exF ev cX1_judged 101 ([v0, v1, v2, v3, v4], []) st h = exF ev cX1_judged 124 ([v0, v1, v2, v3, v4], []) st h := exF_j (i := (i_goto 124)) rfl rfl
theorem eX1_judged_104 {ev : xV} {v0 v2 v3 v4 : Option Value} {x : Int32} {st : List Value} {h : xH} : exF ev cX1_judged 104 ([v0, some (.int x), v2, v3, v4], []) st h = exF ev cX1_judged 105 ([v0, some (.int x), v2, v3, v4], []) (.int x :: st) h := exF_j (i := (i_iload 1 105)) rfl rfl
theorem eX1_judged_105 {ev : xV} {v0 v1 v2 v3 v4 : Option Value} {st : List Value} {h : xH} : exF ev cX1_judged 105 ([v0, v1, v2, v3, v4], []) st h = exF ev cX1_judged 106 ([v0, v1, v2, v3, v4], []) (.int (nI 1) :: st) h := exF_j (i := (i_const (.int (nI 1)) 106)) rfl rfl
theorem eX1_judged_106 {ev : xV} {v0 v1 v2 v3 v4 : Option Value} {x y : Int32} {st : List Value} {h : xH} : exF ev cX1_judged 106 ([v0, v1, v2, v3, v4], []) (.int y :: .int x :: st) h = if ¬ x = y then exF ev cX1_judged 113 ([v0, v1, v2, v3, v4], []) st h else exF ev cX1_judged 109 ([v0, v1, v2, v3, v4], []) st h := exF_b (i := (i_if2 (fun x y => ¬ x = y) 113 109)) rfl rfl
theorem eX1_judged_109 {ev : xV} {v0 v1 v2 v4 : Option Value} {x : Int32} {st : List Value} {h : xH} : exF ev cX1_judged 109 ([v0, v1, v2, some (.int x), v4], []) st h = exF ev cX1_judged 110 ([v0, v1, v2, some (.int x), v4], []) (.int x :: st) h := exF_j (i := (i_iload 3 110)) rfl rfl
theorem eX1_judged_110 {ev : xV} {v0 v1 v2 v3 v4 : Option Value} {st : List Value} {h : xH} : exF ev cX1_judged 110 ([v0, v1, v2, v3, v4], []) st h = exF ev cX1_judged 124 ([v0, v1, v2, v3, v4], []) st h := exF_j (i := (i_goto 124)) rfl rfl
theorem eX1_judged_113 {ev : xV} {v1 v2 v3 v4 : Option Value} {x : Nat} {st : List Value} {h : xH} : exF ev cX1_judged 113 ([some (.ref x), v1, v2, v3, v4], []) st h = exF ev cX1_judged 114 ([some (.ref x), v1, v2, v3, v4], []) (.ref x :: st) h := exF_j (i := (i_aload 0 114)) rfl rfl
theorem eX1_judged_114 {ev : xV} {v1 v2 v3 v4 : Option Value} {x : Nat} {st : List Value} {h : xH} : exF ev cX1_judged 114 ([some (.ref x), v1, v2, v3, v4], []) st h = exF ev cX1_judged 115 ([some (.ref x), v1, v2, v3, v4], []) (.ref x :: st) h := exF_j (i := (i_aload 0 115)) rfl rfl
theorem eX1_judged_115 {ev : xV} {v0 v1 v2 v3 v4 : Option Value} {a : Nat} {st : List Value} {h : xH} : exF ev cX1_judged 115 ([v0, v1, v2, v3, v4], []) (.ref a :: st) h = xO (xgf h a 0 5) (fun v => exF ev cX1_judged 118 ([v0, v1, v2, v3, v4], []) (v :: st) h) := exF_o (i := (i_getf 0 5 118)) rfl rfl
theorem eX1_judged_118 {ev : xV} {v0 v1 v2 v3 v4 : Option Value} {a0 : Value} {a : Nat} {h : xH} : exF ev cX1_judged 118 ([v0, v1, v2, v3, v4], []) [a0, .ref a] h = xO (xck h a 0) (fun _ => xB (ev 108 [.ref a, a0] h) (fun v h => exF ev cX1_judged 121 ([v0, v1, v2, v3, v4], []) [v] h)) := exF_cd (i := (i_cv 0 108 1 121)) rfl rfl
theorem eX1_judged_121 {ev : xV} {v0 v1 v2 v3 v4 : Option Value} {a0 : Value} {h : xH} : exF ev cX1_judged 121 ([v0, v1, v2, v3, v4], []) [a0] h = xB (ev 28 [a0] h) (fun v h => exF ev cX1_judged 124 ([v0, v1, v2, v3, v4], []) [v] h) := exF_c (i := (i_cs 28 1 124)) rfl rfl
theorem eX1_judged_124 {ev : xV} {v0 v1 v2 v3 v4 : Option Value} {x : Int32} {h : xH} : exF ev cX1_judged 124 ([v0, v1, v2, v3, v4], []) [.int x] h = some (.inl (some (.int x)), h) := exF_r (i := (i_iret)) rfl rfl
noncomputable def cX1_shut : xC := [(0, i_const (.int (nI 0)) 1),
  (1, i_istore 2 2),
  (2, i_const (.int (nI 0)) 3),
  (3, i_istore 3 4),
  (4, i_iload 3 5),
  (5, i_aload 0 6),
  (6, i_cv 0 101 0 9),
  (9, i_if2 (fun x y => y ≤ x) 90 12),
  (12, i_const (.int (nI 0)) 13),
  (13, i_istore 4 15),
  (15, i_const (.int (nI 0)) 16),
  (16, i_istore 5 18),
  (18, i_iload 5 20),
  (20, i_aload 0 21),
  (21, i_cv 0 96 0 24),
  (24, i_if2 (fun x y => y ≤ x) 60 27),
  (27, i_aload 0 28),
  (28, i_iload 5 30),
  (30, i_cv 0 97 1 33),
  (33, i_aload 1 34),
  (34, i_getf 3 2 37),
  (37, i_iload 3 38),
  (38, i_ai 0 39),
  (39, i_cv 6 367 1 42),
  (42, i_if1 (fun x => x = 0) 54 45),
  (45, i_iload 4 47),
  (47, i_const (.int (nI 1)) 48),
  (48, i_iload 5 50),
  (50, i_ii (fun x y => x <<< (y &&& 31)) 51),
  (51, i_ii (fun x y => x ||| y) 52),
  (52, i_istore 4 54),
  (54, i_iinc 5 (nI 1) 57),
  (57, i_goto 18),
  (60, i_iload 4 62),
  (62, i_if1 (fun x => x = 0) 84 65),
  (65, i_iload 4 67),
  (67, i_aload 0 68),
  (68, i_aload 1 69),
  (69, i_cv 0 108 1 72),
  (72, i_const (.int (-1)) 73),
  (73, i_ii (fun x y => x ^^^ y) 74),
  (74, i_ii (fun x y => x &&& y) 75),
  (75, i_if1 (fun x => ¬ x = 0) 84 78),
  (78, i_iload 2 79),
  (79, i_const (.int (nI 1)) 80),
  (80, i_iload 3 81),
  (81, i_ii (fun x y => x <<< (y &&& 31)) 82),
  (82, i_ii (fun x y => x ||| y) 83),
  (83, i_istore 2 84),
  (84, i_iinc 3 (nI 1) 87),
  (87, i_goto 4),
  (90, i_iload 2 91),
  (91, i_iret)]
theorem eX1_shut_0 {ev : xV} {v0 v1 v2 v3 v4 v5 : Option Value} {st : List Value} {h : xH} : exF ev cX1_shut 0 ([v0, v1, v2, v3, v4, v5], []) st h = exF ev cX1_shut 1 ([v0, v1, v2, v3, v4, v5], []) (.int (nI 0) :: st) h := exF_j (i := (i_const (.int (nI 0)) 1)) rfl rfl
theorem eX1_shut_1 {ev : xV} {v0 v1 v2 v3 v4 v5 : Option Value} {x : Int32} {st : List Value} {h : xH} : exF ev cX1_shut 1 ([v0, v1, v2, v3, v4, v5], []) (.int x :: st) h = exF ev cX1_shut 2 ([v0, v1, some (.int x), v3, v4, v5], []) st h := exF_j (i := (i_istore 2 2)) rfl rfl
theorem eX1_shut_2 {ev : xV} {v0 v1 v2 v3 v4 v5 : Option Value} {st : List Value} {h : xH} : exF ev cX1_shut 2 ([v0, v1, v2, v3, v4, v5], []) st h = exF ev cX1_shut 3 ([v0, v1, v2, v3, v4, v5], []) (.int (nI 0) :: st) h := exF_j (i := (i_const (.int (nI 0)) 3)) rfl rfl
theorem eX1_shut_3 {ev : xV} {v0 v1 v2 v3 v4 v5 : Option Value} {x : Int32} {st : List Value} {h : xH} : exF ev cX1_shut 3 ([v0, v1, v2, v3, v4, v5], []) (.int x :: st) h = exF ev cX1_shut 4 ([v0, v1, v2, some (.int x), v4, v5], []) st h := exF_j (i := (i_istore 3 4)) rfl rfl
theorem eX1_shut_4 {ev : xV} {v0 v1 v2 v4 v5 : Option Value} {x : Int32} {st : List Value} {h : xH} : exF ev cX1_shut 4 ([v0, v1, v2, some (.int x), v4, v5], []) st h = exF ev cX1_shut 5 ([v0, v1, v2, some (.int x), v4, v5], []) (.int x :: st) h := exF_j (i := (i_iload 3 5)) rfl rfl
theorem eX1_shut_5 {ev : xV} {v1 v2 v3 v4 v5 : Option Value} {x : Nat} {st : List Value} {h : xH} : exF ev cX1_shut 5 ([some (.ref x), v1, v2, v3, v4, v5], []) st h = exF ev cX1_shut 6 ([some (.ref x), v1, v2, v3, v4, v5], []) (.ref x :: st) h := exF_j (i := (i_aload 0 6)) rfl rfl
theorem eX1_shut_6 {ev : xV} {v0 v1 v2 v3 v4 v5 : Option Value} {r0 : Value} {a : Nat} {h : xH} : exF ev cX1_shut 6 ([v0, v1, v2, v3, v4, v5], []) [.ref a, r0] h = xO (xck h a 0) (fun _ => xB (ev 101 [.ref a] h) (fun v h => exF ev cX1_shut 9 ([v0, v1, v2, v3, v4, v5], []) [v, r0] h)) := exF_cd (i := (i_cv 0 101 0 9)) rfl rfl
theorem eX1_shut_9 {ev : xV} {v0 v1 v2 v3 v4 v5 : Option Value} {x y : Int32} {st : List Value} {h : xH} : exF ev cX1_shut 9 ([v0, v1, v2, v3, v4, v5], []) (.int y :: .int x :: st) h = if y ≤ x then exF ev cX1_shut 90 ([v0, v1, v2, v3, v4, v5], []) st h else exF ev cX1_shut 12 ([v0, v1, v2, v3, v4, v5], []) st h := exF_b (i := (i_if2 (fun x y => y ≤ x) 90 12)) rfl rfl
theorem eX1_shut_12 {ev : xV} {v0 v1 v2 v3 v4 v5 : Option Value} {st : List Value} {h : xH} : exF ev cX1_shut 12 ([v0, v1, v2, v3, v4, v5], []) st h = exF ev cX1_shut 13 ([v0, v1, v2, v3, v4, v5], []) (.int (nI 0) :: st) h := exF_j (i := (i_const (.int (nI 0)) 13)) rfl rfl
theorem eX1_shut_13 {ev : xV} {v0 v1 v2 v3 v4 v5 : Option Value} {x : Int32} {st : List Value} {h : xH} : exF ev cX1_shut 13 ([v0, v1, v2, v3, v4, v5], []) (.int x :: st) h = exF ev cX1_shut 15 ([v0, v1, v2, v3, some (.int x), v5], []) st h := exF_j (i := (i_istore 4 15)) rfl rfl
theorem eX1_shut_15 {ev : xV} {v0 v1 v2 v3 v4 v5 : Option Value} {st : List Value} {h : xH} : exF ev cX1_shut 15 ([v0, v1, v2, v3, v4, v5], []) st h = exF ev cX1_shut 16 ([v0, v1, v2, v3, v4, v5], []) (.int (nI 0) :: st) h := exF_j (i := (i_const (.int (nI 0)) 16)) rfl rfl
theorem eX1_shut_16 {ev : xV} {v0 v1 v2 v3 v4 v5 : Option Value} {x : Int32} {st : List Value} {h : xH} : exF ev cX1_shut 16 ([v0, v1, v2, v3, v4, v5], []) (.int x :: st) h = exF ev cX1_shut 18 ([v0, v1, v2, v3, v4, some (.int x)], []) st h := exF_j (i := (i_istore 5 18)) rfl rfl
theorem eX1_shut_18 {ev : xV} {v0 v1 v2 v3 v4 : Option Value} {x : Int32} {st : List Value} {h : xH} : exF ev cX1_shut 18 ([v0, v1, v2, v3, v4, some (.int x)], []) st h = exF ev cX1_shut 20 ([v0, v1, v2, v3, v4, some (.int x)], []) (.int x :: st) h := exF_j (i := (i_iload 5 20)) rfl rfl
theorem eX1_shut_20 {ev : xV} {v1 v2 v3 v4 v5 : Option Value} {x : Nat} {st : List Value} {h : xH} : exF ev cX1_shut 20 ([some (.ref x), v1, v2, v3, v4, v5], []) st h = exF ev cX1_shut 21 ([some (.ref x), v1, v2, v3, v4, v5], []) (.ref x :: st) h := exF_j (i := (i_aload 0 21)) rfl rfl
theorem eX1_shut_21 {ev : xV} {v0 v1 v2 v3 v4 v5 : Option Value} {r0 : Value} {a : Nat} {h : xH} : exF ev cX1_shut 21 ([v0, v1, v2, v3, v4, v5], []) [.ref a, r0] h = xO (xck h a 0) (fun _ => xB (ev 96 [.ref a] h) (fun v h => exF ev cX1_shut 24 ([v0, v1, v2, v3, v4, v5], []) [v, r0] h)) := exF_cd (i := (i_cv 0 96 0 24)) rfl rfl
theorem eX1_shut_24 {ev : xV} {v0 v1 v2 v3 v4 v5 : Option Value} {x y : Int32} {st : List Value} {h : xH} : exF ev cX1_shut 24 ([v0, v1, v2, v3, v4, v5], []) (.int y :: .int x :: st) h = if y ≤ x then exF ev cX1_shut 60 ([v0, v1, v2, v3, v4, v5], []) st h else exF ev cX1_shut 27 ([v0, v1, v2, v3, v4, v5], []) st h := exF_b (i := (i_if2 (fun x y => y ≤ x) 60 27)) rfl rfl
theorem eX1_shut_27 {ev : xV} {v1 v2 v3 v4 v5 : Option Value} {x : Nat} {st : List Value} {h : xH} : exF ev cX1_shut 27 ([some (.ref x), v1, v2, v3, v4, v5], []) st h = exF ev cX1_shut 28 ([some (.ref x), v1, v2, v3, v4, v5], []) (.ref x :: st) h := exF_j (i := (i_aload 0 28)) rfl rfl
theorem eX1_shut_28 {ev : xV} {v0 v1 v2 v3 v4 : Option Value} {x : Int32} {st : List Value} {h : xH} : exF ev cX1_shut 28 ([v0, v1, v2, v3, v4, some (.int x)], []) st h = exF ev cX1_shut 30 ([v0, v1, v2, v3, v4, some (.int x)], []) (.int x :: st) h := exF_j (i := (i_iload 5 30)) rfl rfl
theorem eX1_shut_30 {ev : xV} {v0 v1 v2 v3 v4 v5 : Option Value} {a0 : Value} {a : Nat} {h : xH} : exF ev cX1_shut 30 ([v0, v1, v2, v3, v4, v5], []) [a0, .ref a] h = xO (xck h a 0) (fun _ => xB (ev 97 [.ref a, a0] h) (fun v h => exF ev cX1_shut 33 ([v0, v1, v2, v3, v4, v5], []) [v] h)) := exF_cd (i := (i_cv 0 97 1 33)) rfl rfl
theorem eX1_shut_33 {ev : xV} {v0 v2 v3 v4 v5 : Option Value} {x : Nat} {st : List Value} {h : xH} : exF ev cX1_shut 33 ([v0, some (.ref x), v2, v3, v4, v5], []) st h = exF ev cX1_shut 34 ([v0, some (.ref x), v2, v3, v4, v5], []) (.ref x :: st) h := exF_j (i := (i_aload 1 34)) rfl rfl
theorem eX1_shut_33n {ev : xV} {v0 v2 v3 v4 v5 : Option Value} {st : List Value} {h : xH} : exF ev cX1_shut 33 ([v0, some .null, v2, v3, v4, v5], []) st h = exF ev cX1_shut 34 ([v0, some .null, v2, v3, v4, v5], []) (.null :: st) h := exF_j (i := (i_aload 1 34)) rfl rfl
theorem eX1_shut_34 {ev : xV} {v0 v1 v2 v3 v4 v5 : Option Value} {a : Nat} {st : List Value} {h : xH} : exF ev cX1_shut 34 ([v0, v1, v2, v3, v4, v5], []) (.ref a :: st) h = xO (xgf h a 3 2) (fun v => exF ev cX1_shut 37 ([v0, v1, v2, v3, v4, v5], []) (v :: st) h) := exF_o (i := (i_getf 3 2 37)) rfl rfl
theorem eX1_shut_37 {ev : xV} {v0 v1 v2 v4 v5 : Option Value} {x : Int32} {st : List Value} {h : xH} : exF ev cX1_shut 37 ([v0, v1, v2, some (.int x), v4, v5], []) st h = exF ev cX1_shut 38 ([v0, v1, v2, some (.int x), v4, v5], []) (.int x :: st) h := exF_j (i := (i_iload 3 38)) rfl rfl
theorem eX1_shut_38 {ev : xV} {v0 v1 v2 v3 v4 v5 : Option Value} {i : Int32} {a : Nat} {st : List Value} {h : xH} : exF ev cX1_shut 38 ([v0, v1, v2, v3, v4, v5], []) (.int i :: .ref a :: st) h = xO (xai h 0 a i) (fun v => exF ev cX1_shut 39 ([v0, v1, v2, v3, v4, v5], []) (.int v :: st) h) := exF_o (i := (i_ai 0 39)) rfl rfl
theorem eX1_shut_39 {ev : xV} {v0 v1 v2 v3 v4 v5 : Option Value} {a0 : Value} {a : Nat} {h : xH} : exF ev cX1_shut 39 ([v0, v1, v2, v3, v4, v5], []) [a0, .ref a] h = xO (xck h a 6) (fun _ => xB (ev 367 [.ref a, a0] h) (fun v h => exF ev cX1_shut 42 ([v0, v1, v2, v3, v4, v5], []) [v] h)) := exF_cd (i := (i_cv 6 367 1 42)) rfl rfl
theorem eX1_shut_42 {ev : xV} {v0 v1 v2 v3 v4 v5 : Option Value} {x : Int32} {st : List Value} {h : xH} : exF ev cX1_shut 42 ([v0, v1, v2, v3, v4, v5], []) (.int x :: st) h = if x = 0 then exF ev cX1_shut 54 ([v0, v1, v2, v3, v4, v5], []) st h else exF ev cX1_shut 45 ([v0, v1, v2, v3, v4, v5], []) st h := exF_b (i := (i_if1 (fun x => x = 0) 54 45)) rfl rfl
theorem eX1_shut_45 {ev : xV} {v0 v1 v2 v3 v5 : Option Value} {x : Int32} {st : List Value} {h : xH} : exF ev cX1_shut 45 ([v0, v1, v2, v3, some (.int x), v5], []) st h = exF ev cX1_shut 47 ([v0, v1, v2, v3, some (.int x), v5], []) (.int x :: st) h := exF_j (i := (i_iload 4 47)) rfl rfl
theorem eX1_shut_47 {ev : xV} {v0 v1 v2 v3 v4 v5 : Option Value} {st : List Value} {h : xH} : exF ev cX1_shut 47 ([v0, v1, v2, v3, v4, v5], []) st h = exF ev cX1_shut 48 ([v0, v1, v2, v3, v4, v5], []) (.int (nI 1) :: st) h := exF_j (i := (i_const (.int (nI 1)) 48)) rfl rfl
theorem eX1_shut_48 {ev : xV} {v0 v1 v2 v3 v4 : Option Value} {x : Int32} {st : List Value} {h : xH} : exF ev cX1_shut 48 ([v0, v1, v2, v3, v4, some (.int x)], []) st h = exF ev cX1_shut 50 ([v0, v1, v2, v3, v4, some (.int x)], []) (.int x :: st) h := exF_j (i := (i_iload 5 50)) rfl rfl
theorem eX1_shut_50 {ev : xV} {v0 v1 v2 v3 v4 v5 : Option Value} {x y : Int32} {st : List Value} {h : xH} : exF ev cX1_shut 50 ([v0, v1, v2, v3, v4, v5], []) (.int y :: .int x :: st) h = exF ev cX1_shut 51 ([v0, v1, v2, v3, v4, v5], []) (.int (x <<< (y &&& 31)) :: st) h := exF_j (i := (i_ii (fun x y => x <<< (y &&& 31)) 51)) rfl rfl
theorem eX1_shut_51 {ev : xV} {v0 v1 v2 v3 v4 v5 : Option Value} {x y : Int32} {st : List Value} {h : xH} : exF ev cX1_shut 51 ([v0, v1, v2, v3, v4, v5], []) (.int y :: .int x :: st) h = exF ev cX1_shut 52 ([v0, v1, v2, v3, v4, v5], []) (.int (x ||| y) :: st) h := exF_j (i := (i_ii (fun x y => x ||| y) 52)) rfl rfl
theorem eX1_shut_52 {ev : xV} {v0 v1 v2 v3 v4 v5 : Option Value} {x : Int32} {st : List Value} {h : xH} : exF ev cX1_shut 52 ([v0, v1, v2, v3, v4, v5], []) (.int x :: st) h = exF ev cX1_shut 54 ([v0, v1, v2, v3, some (.int x), v5], []) st h := exF_j (i := (i_istore 4 54)) rfl rfl
theorem eX1_shut_54 {ev : xV} {v0 v1 v2 v3 v4 : Option Value} {x : Int32} {st : List Value} {h : xH} : exF ev cX1_shut 54 ([v0, v1, v2, v3, v4, some (.int x)], []) st h = exF ev cX1_shut 57 ([v0, v1, v2, v3, v4, some (.int (x + (nI 1)))], []) st h := exF_j (i := (i_iinc 5 (nI 1) 57)) rfl rfl
theorem eX1_shut_57 {ev : xV} {v0 v1 v2 v3 v4 v5 : Option Value} {st : List Value} {h : xH} : exF ev cX1_shut 57 ([v0, v1, v2, v3, v4, v5], []) st h = exF ev cX1_shut 18 ([v0, v1, v2, v3, v4, v5], []) st h := exF_j (i := (i_goto 18)) rfl rfl
theorem eX1_shut_60 {ev : xV} {v0 v1 v2 v3 v5 : Option Value} {x : Int32} {st : List Value} {h : xH} : exF ev cX1_shut 60 ([v0, v1, v2, v3, some (.int x), v5], []) st h = exF ev cX1_shut 62 ([v0, v1, v2, v3, some (.int x), v5], []) (.int x :: st) h := exF_j (i := (i_iload 4 62)) rfl rfl
theorem eX1_shut_62 {ev : xV} {v0 v1 v2 v3 v4 v5 : Option Value} {x : Int32} {st : List Value} {h : xH} : exF ev cX1_shut 62 ([v0, v1, v2, v3, v4, v5], []) (.int x :: st) h = if x = 0 then exF ev cX1_shut 84 ([v0, v1, v2, v3, v4, v5], []) st h else exF ev cX1_shut 65 ([v0, v1, v2, v3, v4, v5], []) st h := exF_b (i := (i_if1 (fun x => x = 0) 84 65)) rfl rfl
theorem eX1_shut_65 {ev : xV} {v0 v1 v2 v3 v5 : Option Value} {x : Int32} {st : List Value} {h : xH} : exF ev cX1_shut 65 ([v0, v1, v2, v3, some (.int x), v5], []) st h = exF ev cX1_shut 67 ([v0, v1, v2, v3, some (.int x), v5], []) (.int x :: st) h := exF_j (i := (i_iload 4 67)) rfl rfl
theorem eX1_shut_67 {ev : xV} {v1 v2 v3 v4 v5 : Option Value} {x : Nat} {st : List Value} {h : xH} : exF ev cX1_shut 67 ([some (.ref x), v1, v2, v3, v4, v5], []) st h = exF ev cX1_shut 68 ([some (.ref x), v1, v2, v3, v4, v5], []) (.ref x :: st) h := exF_j (i := (i_aload 0 68)) rfl rfl
theorem eX1_shut_68 {ev : xV} {v0 v2 v3 v4 v5 : Option Value} {x : Nat} {st : List Value} {h : xH} : exF ev cX1_shut 68 ([v0, some (.ref x), v2, v3, v4, v5], []) st h = exF ev cX1_shut 69 ([v0, some (.ref x), v2, v3, v4, v5], []) (.ref x :: st) h := exF_j (i := (i_aload 1 69)) rfl rfl
theorem eX1_shut_68n {ev : xV} {v0 v2 v3 v4 v5 : Option Value} {st : List Value} {h : xH} : exF ev cX1_shut 68 ([v0, some .null, v2, v3, v4, v5], []) st h = exF ev cX1_shut 69 ([v0, some .null, v2, v3, v4, v5], []) (.null :: st) h := exF_j (i := (i_aload 1 69)) rfl rfl
theorem eX1_shut_69 {ev : xV} {v0 v1 v2 v3 v4 v5 : Option Value} {a0 : Value} {r0 : Value} {a : Nat} {h : xH} : exF ev cX1_shut 69 ([v0, v1, v2, v3, v4, v5], []) [a0, .ref a, r0] h = xO (xck h a 0) (fun _ => xB (ev 108 [.ref a, a0] h) (fun v h => exF ev cX1_shut 72 ([v0, v1, v2, v3, v4, v5], []) [v, r0] h)) := exF_cd (i := (i_cv 0 108 1 72)) rfl rfl
theorem eX1_shut_72 {ev : xV} {v0 v1 v2 v3 v4 v5 : Option Value} {st : List Value} {h : xH} : exF ev cX1_shut 72 ([v0, v1, v2, v3, v4, v5], []) st h = exF ev cX1_shut 73 ([v0, v1, v2, v3, v4, v5], []) (.int (-1) :: st) h := exF_j (i := (i_const (.int (-1)) 73)) rfl rfl
theorem eX1_shut_73 {ev : xV} {v0 v1 v2 v3 v4 v5 : Option Value} {x y : Int32} {st : List Value} {h : xH} : exF ev cX1_shut 73 ([v0, v1, v2, v3, v4, v5], []) (.int y :: .int x :: st) h = exF ev cX1_shut 74 ([v0, v1, v2, v3, v4, v5], []) (.int (x ^^^ y) :: st) h := exF_j (i := (i_ii (fun x y => x ^^^ y) 74)) rfl rfl
theorem eX1_shut_74 {ev : xV} {v0 v1 v2 v3 v4 v5 : Option Value} {x y : Int32} {st : List Value} {h : xH} : exF ev cX1_shut 74 ([v0, v1, v2, v3, v4, v5], []) (.int y :: .int x :: st) h = exF ev cX1_shut 75 ([v0, v1, v2, v3, v4, v5], []) (.int (x &&& y) :: st) h := exF_j (i := (i_ii (fun x y => x &&& y) 75)) rfl rfl
theorem eX1_shut_75 {ev : xV} {v0 v1 v2 v3 v4 v5 : Option Value} {x : Int32} {st : List Value} {h : xH} : exF ev cX1_shut 75 ([v0, v1, v2, v3, v4, v5], []) (.int x :: st) h = if ¬ x = 0 then exF ev cX1_shut 84 ([v0, v1, v2, v3, v4, v5], []) st h else exF ev cX1_shut 78 ([v0, v1, v2, v3, v4, v5], []) st h := exF_b (i := (i_if1 (fun x => ¬ x = 0) 84 78)) rfl rfl
theorem eX1_shut_78 {ev : xV} {v0 v1 v3 v4 v5 : Option Value} {x : Int32} {st : List Value} {h : xH} : exF ev cX1_shut 78 ([v0, v1, some (.int x), v3, v4, v5], []) st h = exF ev cX1_shut 79 ([v0, v1, some (.int x), v3, v4, v5], []) (.int x :: st) h := exF_j (i := (i_iload 2 79)) rfl rfl
theorem eX1_shut_79 {ev : xV} {v0 v1 v2 v3 v4 v5 : Option Value} {st : List Value} {h : xH} : exF ev cX1_shut 79 ([v0, v1, v2, v3, v4, v5], []) st h = exF ev cX1_shut 80 ([v0, v1, v2, v3, v4, v5], []) (.int (nI 1) :: st) h := exF_j (i := (i_const (.int (nI 1)) 80)) rfl rfl
theorem eX1_shut_80 {ev : xV} {v0 v1 v2 v4 v5 : Option Value} {x : Int32} {st : List Value} {h : xH} : exF ev cX1_shut 80 ([v0, v1, v2, some (.int x), v4, v5], []) st h = exF ev cX1_shut 81 ([v0, v1, v2, some (.int x), v4, v5], []) (.int x :: st) h := exF_j (i := (i_iload 3 81)) rfl rfl
theorem eX1_shut_81 {ev : xV} {v0 v1 v2 v3 v4 v5 : Option Value} {x y : Int32} {st : List Value} {h : xH} : exF ev cX1_shut 81 ([v0, v1, v2, v3, v4, v5], []) (.int y :: .int x :: st) h = exF ev cX1_shut 82 ([v0, v1, v2, v3, v4, v5], []) (.int (x <<< (y &&& 31)) :: st) h := exF_j (i := (i_ii (fun x y => x <<< (y &&& 31)) 82)) rfl rfl
theorem eX1_shut_82 {ev : xV} {v0 v1 v2 v3 v4 v5 : Option Value} {x y : Int32} {st : List Value} {h : xH} : exF ev cX1_shut 82 ([v0, v1, v2, v3, v4, v5], []) (.int y :: .int x :: st) h = exF ev cX1_shut 83 ([v0, v1, v2, v3, v4, v5], []) (.int (x ||| y) :: st) h := exF_j (i := (i_ii (fun x y => x ||| y) 83)) rfl rfl
theorem eX1_shut_83 {ev : xV} {v0 v1 v2 v3 v4 v5 : Option Value} {x : Int32} {st : List Value} {h : xH} : exF ev cX1_shut 83 ([v0, v1, v2, v3, v4, v5], []) (.int x :: st) h = exF ev cX1_shut 84 ([v0, v1, some (.int x), v3, v4, v5], []) st h := exF_j (i := (i_istore 2 84)) rfl rfl
theorem eX1_shut_84 {ev : xV} {v0 v1 v2 v4 v5 : Option Value} {x : Int32} {st : List Value} {h : xH} : exF ev cX1_shut 84 ([v0, v1, v2, some (.int x), v4, v5], []) st h = exF ev cX1_shut 87 ([v0, v1, v2, some (.int (x + (nI 1))), v4, v5], []) st h := exF_j (i := (i_iinc 3 (nI 1) 87)) rfl rfl
theorem eX1_shut_87 {ev : xV} {v0 v1 v2 v3 v4 v5 : Option Value} {st : List Value} {h : xH} : exF ev cX1_shut 87 ([v0, v1, v2, v3, v4, v5], []) st h = exF ev cX1_shut 4 ([v0, v1, v2, v3, v4, v5], []) st h := exF_j (i := (i_goto 4)) rfl rfl
theorem eX1_shut_90 {ev : xV} {v0 v1 v3 v4 v5 : Option Value} {x : Int32} {st : List Value} {h : xH} : exF ev cX1_shut 90 ([v0, v1, some (.int x), v3, v4, v5], []) st h = exF ev cX1_shut 91 ([v0, v1, some (.int x), v3, v4, v5], []) (.int x :: st) h := exF_j (i := (i_iload 2 91)) rfl rfl
theorem eX1_shut_91 {ev : xV} {v0 v1 v2 v3 v4 v5 : Option Value} {x : Int32} {h : xH} : exF ev cX1_shut 91 ([v0, v1, v2, v3, v4, v5], []) [.int x] h = some (.inl (some (.int x)), h) := exF_r (i := (i_iret)) rfl rfl
noncomputable def cX1_shut_2 : xC := [(0, i_aload 0 1),
  (1, i_aload 0 2),
  (2, i_getf 0 4 5),
  (5, i_cv 0 116 1 8),
  (8, i_iret)]
theorem eX1_shut_2_0 {ev : xV} {x : Nat} {st : List Value} {h : xH} : exF ev cX1_shut_2 0 ([some (.ref x)], []) st h = exF ev cX1_shut_2 1 ([some (.ref x)], []) (.ref x :: st) h := exF_j (i := (i_aload 0 1)) rfl rfl
theorem eX1_shut_2_1 {ev : xV} {x : Nat} {st : List Value} {h : xH} : exF ev cX1_shut_2 1 ([some (.ref x)], []) st h = exF ev cX1_shut_2 2 ([some (.ref x)], []) (.ref x :: st) h := exF_j (i := (i_aload 0 2)) rfl rfl
theorem eX1_shut_2_2 {ev : xV} {v0 : Option Value} {a : Nat} {st : List Value} {h : xH} : exF ev cX1_shut_2 2 ([v0], []) (.ref a :: st) h = xO (xgf h a 0 4) (fun v => exF ev cX1_shut_2 5 ([v0], []) (v :: st) h) := exF_o (i := (i_getf 0 4 5)) rfl rfl
theorem eX1_shut_2_5 {ev : xV} {v0 : Option Value} {a0 : Value} {a : Nat} {h : xH} : exF ev cX1_shut_2 5 ([v0], []) [a0, .ref a] h = xO (xck h a 0) (fun _ => xB (ev 116 [.ref a, a0] h) (fun v h => exF ev cX1_shut_2 8 ([v0], []) [v] h)) := exF_cd (i := (i_cv 0 116 1 8)) rfl rfl
theorem eX1_shut_2_8 {ev : xV} {v0 : Option Value} {x : Int32} {h : xH} : exF ev cX1_shut_2 8 ([v0], []) [.int x] h = some (.inl (some (.int x)), h) := exF_r (i := (i_iret)) rfl rfl
noncomputable def cX1_range : xC := [(0, i_aload 0 1),
  (1, i_iload 1 2),
  (2, i_cv 0 119 1 5),
  (5, i_if1 (fun x => x = 0) 24 8),
  (8, i_aload 0 9),
  (9, i_iload 1 10),
  (10, i_aload 0 11),
  (11, i_aload 0 12),
  (12, i_getf 0 4 15),
  (15, i_cv 0 121 1 18),
  (18, i_cv 0 122 2 21),
  (21, i_goto 25),
  (24, i_const (.int (-1)) 25),
  (25, i_iret)]
theorem eX1_range_0 {ev : xV} {v1 : Option Value} {x : Nat} {st : List Value} {h : xH} : exF ev cX1_range 0 ([some (.ref x), v1], []) st h = exF ev cX1_range 1 ([some (.ref x), v1], []) (.ref x :: st) h := exF_j (i := (i_aload 0 1)) rfl rfl
theorem eX1_range_1 {ev : xV} {v0 : Option Value} {x : Int32} {st : List Value} {h : xH} : exF ev cX1_range 1 ([v0, some (.int x)], []) st h = exF ev cX1_range 2 ([v0, some (.int x)], []) (.int x :: st) h := exF_j (i := (i_iload 1 2)) rfl rfl
theorem eX1_range_2 {ev : xV} {v0 v1 : Option Value} {a0 : Value} {a : Nat} {h : xH} : exF ev cX1_range 2 ([v0, v1], []) [a0, .ref a] h = xO (xck h a 0) (fun _ => xB (ev 119 [.ref a, a0] h) (fun v h => exF ev cX1_range 5 ([v0, v1], []) [v] h)) := exF_cd (i := (i_cv 0 119 1 5)) rfl rfl
theorem eX1_range_5 {ev : xV} {v0 v1 : Option Value} {x : Int32} {st : List Value} {h : xH} : exF ev cX1_range 5 ([v0, v1], []) (.int x :: st) h = if x = 0 then exF ev cX1_range 24 ([v0, v1], []) st h else exF ev cX1_range 8 ([v0, v1], []) st h := exF_b (i := (i_if1 (fun x => x = 0) 24 8)) rfl rfl
theorem eX1_range_8 {ev : xV} {v1 : Option Value} {x : Nat} {st : List Value} {h : xH} : exF ev cX1_range 8 ([some (.ref x), v1], []) st h = exF ev cX1_range 9 ([some (.ref x), v1], []) (.ref x :: st) h := exF_j (i := (i_aload 0 9)) rfl rfl
theorem eX1_range_9 {ev : xV} {v0 : Option Value} {x : Int32} {st : List Value} {h : xH} : exF ev cX1_range 9 ([v0, some (.int x)], []) st h = exF ev cX1_range 10 ([v0, some (.int x)], []) (.int x :: st) h := exF_j (i := (i_iload 1 10)) rfl rfl
theorem eX1_range_10 {ev : xV} {v1 : Option Value} {x : Nat} {st : List Value} {h : xH} : exF ev cX1_range 10 ([some (.ref x), v1], []) st h = exF ev cX1_range 11 ([some (.ref x), v1], []) (.ref x :: st) h := exF_j (i := (i_aload 0 11)) rfl rfl
theorem eX1_range_11 {ev : xV} {v1 : Option Value} {x : Nat} {st : List Value} {h : xH} : exF ev cX1_range 11 ([some (.ref x), v1], []) st h = exF ev cX1_range 12 ([some (.ref x), v1], []) (.ref x :: st) h := exF_j (i := (i_aload 0 12)) rfl rfl
theorem eX1_range_12 {ev : xV} {v0 v1 : Option Value} {a : Nat} {st : List Value} {h : xH} : exF ev cX1_range 12 ([v0, v1], []) (.ref a :: st) h = xO (xgf h a 0 4) (fun v => exF ev cX1_range 15 ([v0, v1], []) (v :: st) h) := exF_o (i := (i_getf 0 4 15)) rfl rfl
theorem eX1_range_15 {ev : xV} {v0 v1 : Option Value} {a0 : Value} {r0 : Value} {r1 : Value} {a : Nat} {h : xH} : exF ev cX1_range 15 ([v0, v1], []) [a0, .ref a, r0, r1] h = xO (xck h a 0) (fun _ => xB (ev 121 [.ref a, a0] h) (fun v h => exF ev cX1_range 18 ([v0, v1], []) [v, r0, r1] h)) := exF_cd (i := (i_cv 0 121 1 18)) rfl rfl
theorem eX1_range_18 {ev : xV} {v0 v1 : Option Value} {a0 : Value} {a1 : Value} {a : Nat} {h : xH} : exF ev cX1_range 18 ([v0, v1], []) [a1, a0, .ref a] h = xO (xck h a 0) (fun _ => xB (ev 122 [.ref a, a0, a1] h) (fun v h => exF ev cX1_range 21 ([v0, v1], []) [v] h)) := exF_cd (i := (i_cv 0 122 2 21)) rfl rfl
theorem eX1_range_21 {ev : xV} {v0 v1 : Option Value} {st : List Value} {h : xH} : exF ev cX1_range 21 ([v0, v1], []) st h = exF ev cX1_range 25 ([v0, v1], []) st h := exF_j (i := (i_goto 25)) rfl rfl
theorem eX1_range_24 {ev : xV} {v0 v1 : Option Value} {st : List Value} {h : xH} : exF ev cX1_range 24 ([v0, v1], []) st h = exF ev cX1_range 25 ([v0, v1], []) (.int (-1) :: st) h := exF_j (i := (i_const (.int (-1)) 25)) rfl rfl
theorem eX1_range_25 {ev : xV} {v0 v1 : Option Value} {x : Int32} {h : xH} : exF ev cX1_range 25 ([v0, v1], []) [.int x] h = some (.inl (some (.int x)), h) := exF_r (i := (i_iret)) rfl rfl
noncomputable def cX1_isRoom : xC := [(0, i_iload 1 1),
  (1, i_const (.int (nI 0)) 2),
  (2, i_aload 0 3),
  (3, i_cv 0 120 0 6),
  (6, i_const (.int (nI 1)) 7),
  (7, i_ii (fun x y => x - y) 8),
  (8, i_cs 92 3 11),
  (11, i_zret)]
theorem eX1_isRoom_0 {ev : xV} {v0 : Option Value} {x : Int32} {st : List Value} {h : xH} : exF ev cX1_isRoom 0 ([v0, some (.int x)], []) st h = exF ev cX1_isRoom 1 ([v0, some (.int x)], []) (.int x :: st) h := exF_j (i := (i_iload 1 1)) rfl rfl
theorem eX1_isRoom_1 {ev : xV} {v0 v1 : Option Value} {st : List Value} {h : xH} : exF ev cX1_isRoom 1 ([v0, v1], []) st h = exF ev cX1_isRoom 2 ([v0, v1], []) (.int (nI 0) :: st) h := exF_j (i := (i_const (.int (nI 0)) 2)) rfl rfl
theorem eX1_isRoom_2 {ev : xV} {v1 : Option Value} {x : Nat} {st : List Value} {h : xH} : exF ev cX1_isRoom 2 ([some (.ref x), v1], []) st h = exF ev cX1_isRoom 3 ([some (.ref x), v1], []) (.ref x :: st) h := exF_j (i := (i_aload 0 3)) rfl rfl
theorem eX1_isRoom_3 {ev : xV} {v0 v1 : Option Value} {r0 : Value} {r1 : Value} {a : Nat} {h : xH} : exF ev cX1_isRoom 3 ([v0, v1], []) [.ref a, r0, r1] h = xO (xck h a 0) (fun _ => xB (ev 120 [.ref a] h) (fun v h => exF ev cX1_isRoom 6 ([v0, v1], []) [v, r0, r1] h)) := exF_cd (i := (i_cv 0 120 0 6)) rfl rfl
theorem eX1_isRoom_6 {ev : xV} {v0 v1 : Option Value} {st : List Value} {h : xH} : exF ev cX1_isRoom 6 ([v0, v1], []) st h = exF ev cX1_isRoom 7 ([v0, v1], []) (.int (nI 1) :: st) h := exF_j (i := (i_const (.int (nI 1)) 7)) rfl rfl
theorem eX1_isRoom_7 {ev : xV} {v0 v1 : Option Value} {x y : Int32} {st : List Value} {h : xH} : exF ev cX1_isRoom 7 ([v0, v1], []) (.int y :: .int x :: st) h = exF ev cX1_isRoom 8 ([v0, v1], []) (.int (x - y) :: st) h := exF_j (i := (i_ii (fun x y => x - y) 8)) rfl rfl
theorem eX1_isRoom_8 {ev : xV} {v0 v1 : Option Value} {a0 : Value} {a1 : Value} {a2 : Value} {h : xH} : exF ev cX1_isRoom 8 ([v0, v1], []) [a2, a1, a0] h = xB (ev 92 [a0, a1, a2] h) (fun v h => exF ev cX1_isRoom 11 ([v0, v1], []) [v] h) := exF_c (i := (i_cs 92 3 11)) rfl rfl
theorem eX1_isRoom_11 {ev : xV} {v0 v1 : Option Value} {x : Int32} {h : xH} : exF ev cX1_isRoom 11 ([v0, v1], []) [.int x] h = if x = nI 0 ∨ x = nI 1 then some (.inl (some (.int x)), h) else none := exF_z (i := (i_zret)) rfl rfl
theorem eX1_isRoom_11b0 {ev : xV} {v0 v1 : Option Value} {h : xH} : exF ev cX1_isRoom 11 ([v0, v1], []) [.int (nI 0)] h = some (.inl (some (.int (nI 0))), h) := exF_r (i := (i_zret)) rfl i_zret_0
theorem eX1_isRoom_11b1 {ev : xV} {v0 v1 : Option Value} {h : xH} : exF ev cX1_isRoom 11 ([v0, v1], []) [.int (nI 1)] h = some (.inl (some (.int (nI 1))), h) := exF_r (i := (i_zret)) rfl i_zret_1
theorem eX1_isRoom_11b {ev : xV} {v0 v1 : Option Value} {b : Bool} {h : xH} : exF ev cX1_isRoom 11 ([v0, v1], []) [.int (bI b)] h = some (.inl (some (.int (bI b))), h) := exF_r (i := (i_zret)) rfl (i_zret_b b)
noncomputable def cX1_rooms : xC := [(0, i_aload 0 1),
  (1, i_getf 0 2 4),
  (4, i_getf 2 0 7),
  (7, i_cv 21 32 0 10),
  (10, i_iret)]
theorem eX1_rooms_0 {ev : xV} {x : Nat} {st : List Value} {h : xH} : exF ev cX1_rooms 0 ([some (.ref x)], []) st h = exF ev cX1_rooms 1 ([some (.ref x)], []) (.ref x :: st) h := exF_j (i := (i_aload 0 1)) rfl rfl
theorem eX1_rooms_1 {ev : xV} {v0 : Option Value} {a : Nat} {st : List Value} {h : xH} : exF ev cX1_rooms 1 ([v0], []) (.ref a :: st) h = xO (xgf h a 0 2) (fun v => exF ev cX1_rooms 4 ([v0], []) (v :: st) h) := exF_o (i := (i_getf 0 2 4)) rfl rfl
theorem eX1_rooms_4 {ev : xV} {v0 : Option Value} {a : Nat} {st : List Value} {h : xH} : exF ev cX1_rooms 4 ([v0], []) (.ref a :: st) h = xO (xgf h a 2 0) (fun v => exF ev cX1_rooms 7 ([v0], []) (v :: st) h) := exF_o (i := (i_getf 2 0 7)) rfl rfl
theorem eX1_rooms_7 {ev : xV} {v0 : Option Value} {a : Nat} {h : xH} : exF ev cX1_rooms 7 ([v0], []) [.ref a] h = xO (xck h a 21) (fun _ => xB (ev 32 [.ref a] h) (fun v h => exF ev cX1_rooms 10 ([v0], []) [v] h)) := exF_cd (i := (i_cv 21 32 0 10)) rfl rfl
theorem eX1_rooms_10 {ev : xV} {v0 : Option Value} {x : Int32} {h : xH} : exF ev cX1_rooms 10 ([v0], []) [.int x] h = some (.inl (some (.int x)), h) := exF_r (i := (i_iret)) rfl rfl
noncomputable def cX1_open : xC := [(0, i_const (.int (nI 1)) 1),
  (1, i_aload 0 2),
  (2, i_cv 0 96 0 5),
  (5, i_ii (fun x y => x <<< (y &&& 31)) 6),
  (6, i_const (.int (nI 1)) 7),
  (7, i_ii (fun x y => x - y) 8),
  (8, i_aload 0 9),
  (9, i_aload 1 10),
  (10, i_cv 0 108 1 13),
  (13, i_const (.int (-1)) 14),
  (14, i_ii (fun x y => x ^^^ y) 15),
  (15, i_ii (fun x y => x &&& y) 16),
  (16, i_iret)]
theorem eX1_open_0 {ev : xV} {v0 v1 : Option Value} {st : List Value} {h : xH} : exF ev cX1_open 0 ([v0, v1], []) st h = exF ev cX1_open 1 ([v0, v1], []) (.int (nI 1) :: st) h := exF_j (i := (i_const (.int (nI 1)) 1)) rfl rfl
theorem eX1_open_1 {ev : xV} {v1 : Option Value} {x : Nat} {st : List Value} {h : xH} : exF ev cX1_open 1 ([some (.ref x), v1], []) st h = exF ev cX1_open 2 ([some (.ref x), v1], []) (.ref x :: st) h := exF_j (i := (i_aload 0 2)) rfl rfl
theorem eX1_open_2 {ev : xV} {v0 v1 : Option Value} {r0 : Value} {a : Nat} {h : xH} : exF ev cX1_open 2 ([v0, v1], []) [.ref a, r0] h = xO (xck h a 0) (fun _ => xB (ev 96 [.ref a] h) (fun v h => exF ev cX1_open 5 ([v0, v1], []) [v, r0] h)) := exF_cd (i := (i_cv 0 96 0 5)) rfl rfl
theorem eX1_open_5 {ev : xV} {v0 v1 : Option Value} {x y : Int32} {st : List Value} {h : xH} : exF ev cX1_open 5 ([v0, v1], []) (.int y :: .int x :: st) h = exF ev cX1_open 6 ([v0, v1], []) (.int (x <<< (y &&& 31)) :: st) h := exF_j (i := (i_ii (fun x y => x <<< (y &&& 31)) 6)) rfl rfl
theorem eX1_open_6 {ev : xV} {v0 v1 : Option Value} {st : List Value} {h : xH} : exF ev cX1_open 6 ([v0, v1], []) st h = exF ev cX1_open 7 ([v0, v1], []) (.int (nI 1) :: st) h := exF_j (i := (i_const (.int (nI 1)) 7)) rfl rfl
theorem eX1_open_7 {ev : xV} {v0 v1 : Option Value} {x y : Int32} {st : List Value} {h : xH} : exF ev cX1_open 7 ([v0, v1], []) (.int y :: .int x :: st) h = exF ev cX1_open 8 ([v0, v1], []) (.int (x - y) :: st) h := exF_j (i := (i_ii (fun x y => x - y) 8)) rfl rfl
theorem eX1_open_8 {ev : xV} {v1 : Option Value} {x : Nat} {st : List Value} {h : xH} : exF ev cX1_open 8 ([some (.ref x), v1], []) st h = exF ev cX1_open 9 ([some (.ref x), v1], []) (.ref x :: st) h := exF_j (i := (i_aload 0 9)) rfl rfl
theorem eX1_open_9 {ev : xV} {v0 : Option Value} {x : Nat} {st : List Value} {h : xH} : exF ev cX1_open 9 ([v0, some (.ref x)], []) st h = exF ev cX1_open 10 ([v0, some (.ref x)], []) (.ref x :: st) h := exF_j (i := (i_aload 1 10)) rfl rfl
theorem eX1_open_9n {ev : xV} {v0 : Option Value} {st : List Value} {h : xH} : exF ev cX1_open 9 ([v0, some .null], []) st h = exF ev cX1_open 10 ([v0, some .null], []) (.null :: st) h := exF_j (i := (i_aload 1 10)) rfl rfl
theorem eX1_open_10 {ev : xV} {v0 v1 : Option Value} {a0 : Value} {r0 : Value} {a : Nat} {h : xH} : exF ev cX1_open 10 ([v0, v1], []) [a0, .ref a, r0] h = xO (xck h a 0) (fun _ => xB (ev 108 [.ref a, a0] h) (fun v h => exF ev cX1_open 13 ([v0, v1], []) [v, r0] h)) := exF_cd (i := (i_cv 0 108 1 13)) rfl rfl
theorem eX1_open_13 {ev : xV} {v0 v1 : Option Value} {st : List Value} {h : xH} : exF ev cX1_open 13 ([v0, v1], []) st h = exF ev cX1_open 14 ([v0, v1], []) (.int (-1) :: st) h := exF_j (i := (i_const (.int (-1)) 14)) rfl rfl
theorem eX1_open_14 {ev : xV} {v0 v1 : Option Value} {x y : Int32} {st : List Value} {h : xH} : exF ev cX1_open 14 ([v0, v1], []) (.int y :: .int x :: st) h = exF ev cX1_open 15 ([v0, v1], []) (.int (x ^^^ y) :: st) h := exF_j (i := (i_ii (fun x y => x ^^^ y) 15)) rfl rfl
theorem eX1_open_15 {ev : xV} {v0 v1 : Option Value} {x y : Int32} {st : List Value} {h : xH} : exF ev cX1_open 15 ([v0, v1], []) (.int y :: .int x :: st) h = exF ev cX1_open 16 ([v0, v1], []) (.int (x &&& y) :: st) h := exF_j (i := (i_ii (fun x y => x &&& y) 16)) rfl rfl
theorem eX1_open_16 {ev : xV} {v0 v1 : Option Value} {x : Int32} {h : xH} : exF ev cX1_open 16 ([v0, v1], []) [.int x] h = some (.inl (some (.int x)), h) := exF_r (i := (i_iret)) rfl rfl
noncomputable def cX1_range_2 : xC := [(0, i_const (.int (nI 1)) 1),
  (1, i_iload 1 2),
  (2, i_ii (fun x y => x <<< (y &&& 31)) 3),
  (3, i_istore 3 4),
  (4, i_const (.int (nI 0)) 5),
  (5, i_istore 4 7),
  (7, i_iload 4 9),
  (9, i_const (.int (nI 7)) 11),
  (11, i_if2 (fun x y => y ≤ x) 27 14),
  (14, i_aload 0 15),
  (15, i_iload 3 16),
  (16, i_iload 2 17),
  (17, i_cv 0 123 2 20),
  (20, i_istore 3 21),
  (21, i_iinc 4 (nI 1) 24),
  (24, i_goto 7),
  (27, i_iload 3 28),
  (28, i_iret)]
theorem eX1_range_2_0 {ev : xV} {v0 v1 v2 v3 v4 : Option Value} {st : List Value} {h : xH} : exF ev cX1_range_2 0 ([v0, v1, v2, v3, v4], []) st h = exF ev cX1_range_2 1 ([v0, v1, v2, v3, v4], []) (.int (nI 1) :: st) h := exF_j (i := (i_const (.int (nI 1)) 1)) rfl rfl
theorem eX1_range_2_1 {ev : xV} {v0 v2 v3 v4 : Option Value} {x : Int32} {st : List Value} {h : xH} : exF ev cX1_range_2 1 ([v0, some (.int x), v2, v3, v4], []) st h = exF ev cX1_range_2 2 ([v0, some (.int x), v2, v3, v4], []) (.int x :: st) h := exF_j (i := (i_iload 1 2)) rfl rfl
theorem eX1_range_2_2 {ev : xV} {v0 v1 v2 v3 v4 : Option Value} {x y : Int32} {st : List Value} {h : xH} : exF ev cX1_range_2 2 ([v0, v1, v2, v3, v4], []) (.int y :: .int x :: st) h = exF ev cX1_range_2 3 ([v0, v1, v2, v3, v4], []) (.int (x <<< (y &&& 31)) :: st) h := exF_j (i := (i_ii (fun x y => x <<< (y &&& 31)) 3)) rfl rfl
theorem eX1_range_2_3 {ev : xV} {v0 v1 v2 v3 v4 : Option Value} {x : Int32} {st : List Value} {h : xH} : exF ev cX1_range_2 3 ([v0, v1, v2, v3, v4], []) (.int x :: st) h = exF ev cX1_range_2 4 ([v0, v1, v2, some (.int x), v4], []) st h := exF_j (i := (i_istore 3 4)) rfl rfl
theorem eX1_range_2_4 {ev : xV} {v0 v1 v2 v3 v4 : Option Value} {st : List Value} {h : xH} : exF ev cX1_range_2 4 ([v0, v1, v2, v3, v4], []) st h = exF ev cX1_range_2 5 ([v0, v1, v2, v3, v4], []) (.int (nI 0) :: st) h := exF_j (i := (i_const (.int (nI 0)) 5)) rfl rfl
theorem eX1_range_2_5 {ev : xV} {v0 v1 v2 v3 v4 : Option Value} {x : Int32} {st : List Value} {h : xH} : exF ev cX1_range_2 5 ([v0, v1, v2, v3, v4], []) (.int x :: st) h = exF ev cX1_range_2 7 ([v0, v1, v2, v3, some (.int x)], []) st h := exF_j (i := (i_istore 4 7)) rfl rfl
theorem eX1_range_2_7 {ev : xV} {v0 v1 v2 v3 : Option Value} {x : Int32} {st : List Value} {h : xH} : exF ev cX1_range_2 7 ([v0, v1, v2, v3, some (.int x)], []) st h = exF ev cX1_range_2 9 ([v0, v1, v2, v3, some (.int x)], []) (.int x :: st) h := exF_j (i := (i_iload 4 9)) rfl rfl
theorem eX1_range_2_9 {ev : xV} {v0 v1 v2 v3 v4 : Option Value} {st : List Value} {h : xH} : exF ev cX1_range_2 9 ([v0, v1, v2, v3, v4], []) st h = exF ev cX1_range_2 11 ([v0, v1, v2, v3, v4], []) (.int (nI 7) :: st) h := exF_j (i := (i_const (.int (nI 7)) 11)) rfl rfl
theorem eX1_range_2_11 {ev : xV} {v0 v1 v2 v3 v4 : Option Value} {x y : Int32} {st : List Value} {h : xH} : exF ev cX1_range_2 11 ([v0, v1, v2, v3, v4], []) (.int y :: .int x :: st) h = if y ≤ x then exF ev cX1_range_2 27 ([v0, v1, v2, v3, v4], []) st h else exF ev cX1_range_2 14 ([v0, v1, v2, v3, v4], []) st h := exF_b (i := (i_if2 (fun x y => y ≤ x) 27 14)) rfl rfl
theorem eX1_range_2_14 {ev : xV} {v1 v2 v3 v4 : Option Value} {x : Nat} {st : List Value} {h : xH} : exF ev cX1_range_2 14 ([some (.ref x), v1, v2, v3, v4], []) st h = exF ev cX1_range_2 15 ([some (.ref x), v1, v2, v3, v4], []) (.ref x :: st) h := exF_j (i := (i_aload 0 15)) rfl rfl
theorem eX1_range_2_15 {ev : xV} {v0 v1 v2 v4 : Option Value} {x : Int32} {st : List Value} {h : xH} : exF ev cX1_range_2 15 ([v0, v1, v2, some (.int x), v4], []) st h = exF ev cX1_range_2 16 ([v0, v1, v2, some (.int x), v4], []) (.int x :: st) h := exF_j (i := (i_iload 3 16)) rfl rfl
theorem eX1_range_2_16 {ev : xV} {v0 v1 v3 v4 : Option Value} {x : Int32} {st : List Value} {h : xH} : exF ev cX1_range_2 16 ([v0, v1, some (.int x), v3, v4], []) st h = exF ev cX1_range_2 17 ([v0, v1, some (.int x), v3, v4], []) (.int x :: st) h := exF_j (i := (i_iload 2 17)) rfl rfl
theorem eX1_range_2_17 {ev : xV} {v0 v1 v2 v3 v4 : Option Value} {a0 : Value} {a1 : Value} {a : Nat} {h : xH} : exF ev cX1_range_2 17 ([v0, v1, v2, v3, v4], []) [a1, a0, .ref a] h = xO (xck h a 0) (fun _ => xB (ev 123 [.ref a, a0, a1] h) (fun v h => exF ev cX1_range_2 20 ([v0, v1, v2, v3, v4], []) [v] h)) := exF_cd (i := (i_cv 0 123 2 20)) rfl rfl
theorem eX1_range_2_20 {ev : xV} {v0 v1 v2 v3 v4 : Option Value} {x : Int32} {st : List Value} {h : xH} : exF ev cX1_range_2 20 ([v0, v1, v2, v3, v4], []) (.int x :: st) h = exF ev cX1_range_2 21 ([v0, v1, v2, some (.int x), v4], []) st h := exF_j (i := (i_istore 3 21)) rfl rfl
theorem eX1_range_2_21 {ev : xV} {v0 v1 v2 v3 : Option Value} {x : Int32} {st : List Value} {h : xH} : exF ev cX1_range_2 21 ([v0, v1, v2, v3, some (.int x)], []) st h = exF ev cX1_range_2 24 ([v0, v1, v2, v3, some (.int (x + (nI 1)))], []) st h := exF_j (i := (i_iinc 4 (nI 1) 24)) rfl rfl
theorem eX1_range_2_24 {ev : xV} {v0 v1 v2 v3 v4 : Option Value} {st : List Value} {h : xH} : exF ev cX1_range_2 24 ([v0, v1, v2, v3, v4], []) st h = exF ev cX1_range_2 7 ([v0, v1, v2, v3, v4], []) st h := exF_j (i := (i_goto 7)) rfl rfl
theorem eX1_range_2_27 {ev : xV} {v0 v1 v2 v4 : Option Value} {x : Int32} {st : List Value} {h : xH} : exF ev cX1_range_2 27 ([v0, v1, v2, some (.int x), v4], []) st h = exF ev cX1_range_2 28 ([v0, v1, v2, some (.int x), v4], []) (.int x :: st) h := exF_j (i := (i_iload 3 28)) rfl rfl
theorem eX1_range_2_28 {ev : xV} {v0 v1 v2 v3 v4 : Option Value} {x : Int32} {h : xH} : exF ev cX1_range_2 28 ([v0, v1, v2, v3, v4], []) [.int x] h = some (.inl (some (.int x)), h) := exF_r (i := (i_iret)) rfl rfl
noncomputable def cX1_next : xC := [(0, i_iload 1 1),
  (1, i_istore 3 2),
  (2, i_const (.int (nI 0)) 3),
  (3, i_istore 4 5),
  (5, i_iload 4 7),
  (7, i_aload 0 8),
  (8, i_cv 0 96 0 11),
  (11, i_if2 (fun x y => y ≤ x) 92 14),
  (14, i_iload 2 15),
  (15, i_iload 4 17),
  (17, i_cs 98 2 20),
  (20, i_if1 (fun x => ¬ x = 0) 26 23),
  (23, i_goto 86),
  (26, i_iload 1 27),
  (27, i_aload 0 28),
  (28, i_iload 4 30),
  (30, i_cv 0 97 1 33),
  (33, i_getf 6 0 36),
  (36, i_cs 98 2 39),
  (39, i_if1 (fun x => x = 0) 56 42),
  (42, i_iload 3 43),
  (43, i_const (.int (nI 1)) 44),
  (44, i_aload 0 45),
  (45, i_iload 4 47),
  (47, i_cv 0 97 1 50),
  (50, i_getf 6 1 53),
  (53, i_ii (fun x y => x <<< (y &&& 31)) 54),
  (54, i_ii (fun x y => x ||| y) 55),
  (55, i_istore 3 56),
  (56, i_iload 1 57),
  (57, i_aload 0 58),
  (58, i_iload 4 60),
  (60, i_cv 0 97 1 63),
  (63, i_getf 6 1 66),
  (66, i_cs 98 2 69),
  (69, i_if1 (fun x => x = 0) 86 72),
  (72, i_iload 3 73),
  (73, i_const (.int (nI 1)) 74),
  (74, i_aload 0 75),
  (75, i_iload 4 77),
  (77, i_cv 0 97 1 80),
  (80, i_getf 6 0 83),
  (83, i_ii (fun x y => x <<< (y &&& 31)) 84),
  (84, i_ii (fun x y => x ||| y) 85),
  (85, i_istore 3 86),
  (86, i_iinc 4 (nI 1) 89),
  (89, i_goto 5),
  (92, i_iload 3 93),
  (93, i_iret)]
theorem eX1_next_0 {ev : xV} {v0 v2 v3 v4 : Option Value} {x : Int32} {st : List Value} {h : xH} : exF ev cX1_next 0 ([v0, some (.int x), v2, v3, v4], []) st h = exF ev cX1_next 1 ([v0, some (.int x), v2, v3, v4], []) (.int x :: st) h := exF_j (i := (i_iload 1 1)) rfl rfl
theorem eX1_next_1 {ev : xV} {v0 v1 v2 v3 v4 : Option Value} {x : Int32} {st : List Value} {h : xH} : exF ev cX1_next 1 ([v0, v1, v2, v3, v4], []) (.int x :: st) h = exF ev cX1_next 2 ([v0, v1, v2, some (.int x), v4], []) st h := exF_j (i := (i_istore 3 2)) rfl rfl
theorem eX1_next_2 {ev : xV} {v0 v1 v2 v3 v4 : Option Value} {st : List Value} {h : xH} : exF ev cX1_next 2 ([v0, v1, v2, v3, v4], []) st h = exF ev cX1_next 3 ([v0, v1, v2, v3, v4], []) (.int (nI 0) :: st) h := exF_j (i := (i_const (.int (nI 0)) 3)) rfl rfl
theorem eX1_next_3 {ev : xV} {v0 v1 v2 v3 v4 : Option Value} {x : Int32} {st : List Value} {h : xH} : exF ev cX1_next 3 ([v0, v1, v2, v3, v4], []) (.int x :: st) h = exF ev cX1_next 5 ([v0, v1, v2, v3, some (.int x)], []) st h := exF_j (i := (i_istore 4 5)) rfl rfl
theorem eX1_next_5 {ev : xV} {v0 v1 v2 v3 : Option Value} {x : Int32} {st : List Value} {h : xH} : exF ev cX1_next 5 ([v0, v1, v2, v3, some (.int x)], []) st h = exF ev cX1_next 7 ([v0, v1, v2, v3, some (.int x)], []) (.int x :: st) h := exF_j (i := (i_iload 4 7)) rfl rfl
theorem eX1_next_7 {ev : xV} {v1 v2 v3 v4 : Option Value} {x : Nat} {st : List Value} {h : xH} : exF ev cX1_next 7 ([some (.ref x), v1, v2, v3, v4], []) st h = exF ev cX1_next 8 ([some (.ref x), v1, v2, v3, v4], []) (.ref x :: st) h := exF_j (i := (i_aload 0 8)) rfl rfl
theorem eX1_next_8 {ev : xV} {v0 v1 v2 v3 v4 : Option Value} {r0 : Value} {a : Nat} {h : xH} : exF ev cX1_next 8 ([v0, v1, v2, v3, v4], []) [.ref a, r0] h = xO (xck h a 0) (fun _ => xB (ev 96 [.ref a] h) (fun v h => exF ev cX1_next 11 ([v0, v1, v2, v3, v4], []) [v, r0] h)) := exF_cd (i := (i_cv 0 96 0 11)) rfl rfl
theorem eX1_next_11 {ev : xV} {v0 v1 v2 v3 v4 : Option Value} {x y : Int32} {st : List Value} {h : xH} : exF ev cX1_next 11 ([v0, v1, v2, v3, v4], []) (.int y :: .int x :: st) h = if y ≤ x then exF ev cX1_next 92 ([v0, v1, v2, v3, v4], []) st h else exF ev cX1_next 14 ([v0, v1, v2, v3, v4], []) st h := exF_b (i := (i_if2 (fun x y => y ≤ x) 92 14)) rfl rfl
theorem eX1_next_14 {ev : xV} {v0 v1 v3 v4 : Option Value} {x : Int32} {st : List Value} {h : xH} : exF ev cX1_next 14 ([v0, v1, some (.int x), v3, v4], []) st h = exF ev cX1_next 15 ([v0, v1, some (.int x), v3, v4], []) (.int x :: st) h := exF_j (i := (i_iload 2 15)) rfl rfl
theorem eX1_next_15 {ev : xV} {v0 v1 v2 v3 : Option Value} {x : Int32} {st : List Value} {h : xH} : exF ev cX1_next 15 ([v0, v1, v2, v3, some (.int x)], []) st h = exF ev cX1_next 17 ([v0, v1, v2, v3, some (.int x)], []) (.int x :: st) h := exF_j (i := (i_iload 4 17)) rfl rfl
theorem eX1_next_17 {ev : xV} {v0 v1 v2 v3 v4 : Option Value} {a0 : Value} {a1 : Value} {h : xH} : exF ev cX1_next 17 ([v0, v1, v2, v3, v4], []) [a1, a0] h = xB (ev 98 [a0, a1] h) (fun v h => exF ev cX1_next 20 ([v0, v1, v2, v3, v4], []) [v] h) := exF_c (i := (i_cs 98 2 20)) rfl rfl
theorem eX1_next_20 {ev : xV} {v0 v1 v2 v3 v4 : Option Value} {x : Int32} {st : List Value} {h : xH} : exF ev cX1_next 20 ([v0, v1, v2, v3, v4], []) (.int x :: st) h = if ¬ x = 0 then exF ev cX1_next 26 ([v0, v1, v2, v3, v4], []) st h else exF ev cX1_next 23 ([v0, v1, v2, v3, v4], []) st h := exF_b (i := (i_if1 (fun x => ¬ x = 0) 26 23)) rfl rfl
theorem eX1_next_23 {ev : xV} {v0 v1 v2 v3 v4 : Option Value} {st : List Value} {h : xH} : exF ev cX1_next 23 ([v0, v1, v2, v3, v4], []) st h = exF ev cX1_next 86 ([v0, v1, v2, v3, v4], []) st h := exF_j (i := (i_goto 86)) rfl rfl
theorem eX1_next_26 {ev : xV} {v0 v2 v3 v4 : Option Value} {x : Int32} {st : List Value} {h : xH} : exF ev cX1_next 26 ([v0, some (.int x), v2, v3, v4], []) st h = exF ev cX1_next 27 ([v0, some (.int x), v2, v3, v4], []) (.int x :: st) h := exF_j (i := (i_iload 1 27)) rfl rfl
theorem eX1_next_27 {ev : xV} {v1 v2 v3 v4 : Option Value} {x : Nat} {st : List Value} {h : xH} : exF ev cX1_next 27 ([some (.ref x), v1, v2, v3, v4], []) st h = exF ev cX1_next 28 ([some (.ref x), v1, v2, v3, v4], []) (.ref x :: st) h := exF_j (i := (i_aload 0 28)) rfl rfl
theorem eX1_next_28 {ev : xV} {v0 v1 v2 v3 : Option Value} {x : Int32} {st : List Value} {h : xH} : exF ev cX1_next 28 ([v0, v1, v2, v3, some (.int x)], []) st h = exF ev cX1_next 30 ([v0, v1, v2, v3, some (.int x)], []) (.int x :: st) h := exF_j (i := (i_iload 4 30)) rfl rfl
theorem eX1_next_30 {ev : xV} {v0 v1 v2 v3 v4 : Option Value} {a0 : Value} {r0 : Value} {a : Nat} {h : xH} : exF ev cX1_next 30 ([v0, v1, v2, v3, v4], []) [a0, .ref a, r0] h = xO (xck h a 0) (fun _ => xB (ev 97 [.ref a, a0] h) (fun v h => exF ev cX1_next 33 ([v0, v1, v2, v3, v4], []) [v, r0] h)) := exF_cd (i := (i_cv 0 97 1 33)) rfl rfl
theorem eX1_next_33 {ev : xV} {v0 v1 v2 v3 v4 : Option Value} {a : Nat} {st : List Value} {h : xH} : exF ev cX1_next 33 ([v0, v1, v2, v3, v4], []) (.ref a :: st) h = xO (xgf h a 6 0) (fun v => exF ev cX1_next 36 ([v0, v1, v2, v3, v4], []) (v :: st) h) := exF_o (i := (i_getf 6 0 36)) rfl rfl
theorem eX1_next_36 {ev : xV} {v0 v1 v2 v3 v4 : Option Value} {a0 : Value} {a1 : Value} {h : xH} : exF ev cX1_next 36 ([v0, v1, v2, v3, v4], []) [a1, a0] h = xB (ev 98 [a0, a1] h) (fun v h => exF ev cX1_next 39 ([v0, v1, v2, v3, v4], []) [v] h) := exF_c (i := (i_cs 98 2 39)) rfl rfl
theorem eX1_next_39 {ev : xV} {v0 v1 v2 v3 v4 : Option Value} {x : Int32} {st : List Value} {h : xH} : exF ev cX1_next 39 ([v0, v1, v2, v3, v4], []) (.int x :: st) h = if x = 0 then exF ev cX1_next 56 ([v0, v1, v2, v3, v4], []) st h else exF ev cX1_next 42 ([v0, v1, v2, v3, v4], []) st h := exF_b (i := (i_if1 (fun x => x = 0) 56 42)) rfl rfl
theorem eX1_next_42 {ev : xV} {v0 v1 v2 v4 : Option Value} {x : Int32} {st : List Value} {h : xH} : exF ev cX1_next 42 ([v0, v1, v2, some (.int x), v4], []) st h = exF ev cX1_next 43 ([v0, v1, v2, some (.int x), v4], []) (.int x :: st) h := exF_j (i := (i_iload 3 43)) rfl rfl
theorem eX1_next_43 {ev : xV} {v0 v1 v2 v3 v4 : Option Value} {st : List Value} {h : xH} : exF ev cX1_next 43 ([v0, v1, v2, v3, v4], []) st h = exF ev cX1_next 44 ([v0, v1, v2, v3, v4], []) (.int (nI 1) :: st) h := exF_j (i := (i_const (.int (nI 1)) 44)) rfl rfl
theorem eX1_next_44 {ev : xV} {v1 v2 v3 v4 : Option Value} {x : Nat} {st : List Value} {h : xH} : exF ev cX1_next 44 ([some (.ref x), v1, v2, v3, v4], []) st h = exF ev cX1_next 45 ([some (.ref x), v1, v2, v3, v4], []) (.ref x :: st) h := exF_j (i := (i_aload 0 45)) rfl rfl
theorem eX1_next_45 {ev : xV} {v0 v1 v2 v3 : Option Value} {x : Int32} {st : List Value} {h : xH} : exF ev cX1_next 45 ([v0, v1, v2, v3, some (.int x)], []) st h = exF ev cX1_next 47 ([v0, v1, v2, v3, some (.int x)], []) (.int x :: st) h := exF_j (i := (i_iload 4 47)) rfl rfl
theorem eX1_next_47 {ev : xV} {v0 v1 v2 v3 v4 : Option Value} {a0 : Value} {r0 : Value} {r1 : Value} {a : Nat} {h : xH} : exF ev cX1_next 47 ([v0, v1, v2, v3, v4], []) [a0, .ref a, r0, r1] h = xO (xck h a 0) (fun _ => xB (ev 97 [.ref a, a0] h) (fun v h => exF ev cX1_next 50 ([v0, v1, v2, v3, v4], []) [v, r0, r1] h)) := exF_cd (i := (i_cv 0 97 1 50)) rfl rfl
theorem eX1_next_50 {ev : xV} {v0 v1 v2 v3 v4 : Option Value} {a : Nat} {st : List Value} {h : xH} : exF ev cX1_next 50 ([v0, v1, v2, v3, v4], []) (.ref a :: st) h = xO (xgf h a 6 1) (fun v => exF ev cX1_next 53 ([v0, v1, v2, v3, v4], []) (v :: st) h) := exF_o (i := (i_getf 6 1 53)) rfl rfl
theorem eX1_next_53 {ev : xV} {v0 v1 v2 v3 v4 : Option Value} {x y : Int32} {st : List Value} {h : xH} : exF ev cX1_next 53 ([v0, v1, v2, v3, v4], []) (.int y :: .int x :: st) h = exF ev cX1_next 54 ([v0, v1, v2, v3, v4], []) (.int (x <<< (y &&& 31)) :: st) h := exF_j (i := (i_ii (fun x y => x <<< (y &&& 31)) 54)) rfl rfl
theorem eX1_next_54 {ev : xV} {v0 v1 v2 v3 v4 : Option Value} {x y : Int32} {st : List Value} {h : xH} : exF ev cX1_next 54 ([v0, v1, v2, v3, v4], []) (.int y :: .int x :: st) h = exF ev cX1_next 55 ([v0, v1, v2, v3, v4], []) (.int (x ||| y) :: st) h := exF_j (i := (i_ii (fun x y => x ||| y) 55)) rfl rfl
theorem eX1_next_55 {ev : xV} {v0 v1 v2 v3 v4 : Option Value} {x : Int32} {st : List Value} {h : xH} : exF ev cX1_next 55 ([v0, v1, v2, v3, v4], []) (.int x :: st) h = exF ev cX1_next 56 ([v0, v1, v2, some (.int x), v4], []) st h := exF_j (i := (i_istore 3 56)) rfl rfl
theorem eX1_next_56 {ev : xV} {v0 v2 v3 v4 : Option Value} {x : Int32} {st : List Value} {h : xH} : exF ev cX1_next 56 ([v0, some (.int x), v2, v3, v4], []) st h = exF ev cX1_next 57 ([v0, some (.int x), v2, v3, v4], []) (.int x :: st) h := exF_j (i := (i_iload 1 57)) rfl rfl
theorem eX1_next_57 {ev : xV} {v1 v2 v3 v4 : Option Value} {x : Nat} {st : List Value} {h : xH} : exF ev cX1_next 57 ([some (.ref x), v1, v2, v3, v4], []) st h = exF ev cX1_next 58 ([some (.ref x), v1, v2, v3, v4], []) (.ref x :: st) h := exF_j (i := (i_aload 0 58)) rfl rfl
theorem eX1_next_58 {ev : xV} {v0 v1 v2 v3 : Option Value} {x : Int32} {st : List Value} {h : xH} : exF ev cX1_next 58 ([v0, v1, v2, v3, some (.int x)], []) st h = exF ev cX1_next 60 ([v0, v1, v2, v3, some (.int x)], []) (.int x :: st) h := exF_j (i := (i_iload 4 60)) rfl rfl
theorem eX1_next_60 {ev : xV} {v0 v1 v2 v3 v4 : Option Value} {a0 : Value} {r0 : Value} {a : Nat} {h : xH} : exF ev cX1_next 60 ([v0, v1, v2, v3, v4], []) [a0, .ref a, r0] h = xO (xck h a 0) (fun _ => xB (ev 97 [.ref a, a0] h) (fun v h => exF ev cX1_next 63 ([v0, v1, v2, v3, v4], []) [v, r0] h)) := exF_cd (i := (i_cv 0 97 1 63)) rfl rfl
theorem eX1_next_63 {ev : xV} {v0 v1 v2 v3 v4 : Option Value} {a : Nat} {st : List Value} {h : xH} : exF ev cX1_next 63 ([v0, v1, v2, v3, v4], []) (.ref a :: st) h = xO (xgf h a 6 1) (fun v => exF ev cX1_next 66 ([v0, v1, v2, v3, v4], []) (v :: st) h) := exF_o (i := (i_getf 6 1 66)) rfl rfl
theorem eX1_next_66 {ev : xV} {v0 v1 v2 v3 v4 : Option Value} {a0 : Value} {a1 : Value} {h : xH} : exF ev cX1_next 66 ([v0, v1, v2, v3, v4], []) [a1, a0] h = xB (ev 98 [a0, a1] h) (fun v h => exF ev cX1_next 69 ([v0, v1, v2, v3, v4], []) [v] h) := exF_c (i := (i_cs 98 2 69)) rfl rfl
theorem eX1_next_69 {ev : xV} {v0 v1 v2 v3 v4 : Option Value} {x : Int32} {st : List Value} {h : xH} : exF ev cX1_next 69 ([v0, v1, v2, v3, v4], []) (.int x :: st) h = if x = 0 then exF ev cX1_next 86 ([v0, v1, v2, v3, v4], []) st h else exF ev cX1_next 72 ([v0, v1, v2, v3, v4], []) st h := exF_b (i := (i_if1 (fun x => x = 0) 86 72)) rfl rfl
theorem eX1_next_72 {ev : xV} {v0 v1 v2 v4 : Option Value} {x : Int32} {st : List Value} {h : xH} : exF ev cX1_next 72 ([v0, v1, v2, some (.int x), v4], []) st h = exF ev cX1_next 73 ([v0, v1, v2, some (.int x), v4], []) (.int x :: st) h := exF_j (i := (i_iload 3 73)) rfl rfl
theorem eX1_next_73 {ev : xV} {v0 v1 v2 v3 v4 : Option Value} {st : List Value} {h : xH} : exF ev cX1_next 73 ([v0, v1, v2, v3, v4], []) st h = exF ev cX1_next 74 ([v0, v1, v2, v3, v4], []) (.int (nI 1) :: st) h := exF_j (i := (i_const (.int (nI 1)) 74)) rfl rfl
theorem eX1_next_74 {ev : xV} {v1 v2 v3 v4 : Option Value} {x : Nat} {st : List Value} {h : xH} : exF ev cX1_next 74 ([some (.ref x), v1, v2, v3, v4], []) st h = exF ev cX1_next 75 ([some (.ref x), v1, v2, v3, v4], []) (.ref x :: st) h := exF_j (i := (i_aload 0 75)) rfl rfl
theorem eX1_next_75 {ev : xV} {v0 v1 v2 v3 : Option Value} {x : Int32} {st : List Value} {h : xH} : exF ev cX1_next 75 ([v0, v1, v2, v3, some (.int x)], []) st h = exF ev cX1_next 77 ([v0, v1, v2, v3, some (.int x)], []) (.int x :: st) h := exF_j (i := (i_iload 4 77)) rfl rfl
theorem eX1_next_77 {ev : xV} {v0 v1 v2 v3 v4 : Option Value} {a0 : Value} {r0 : Value} {r1 : Value} {a : Nat} {h : xH} : exF ev cX1_next 77 ([v0, v1, v2, v3, v4], []) [a0, .ref a, r0, r1] h = xO (xck h a 0) (fun _ => xB (ev 97 [.ref a, a0] h) (fun v h => exF ev cX1_next 80 ([v0, v1, v2, v3, v4], []) [v, r0, r1] h)) := exF_cd (i := (i_cv 0 97 1 80)) rfl rfl
theorem eX1_next_80 {ev : xV} {v0 v1 v2 v3 v4 : Option Value} {a : Nat} {st : List Value} {h : xH} : exF ev cX1_next 80 ([v0, v1, v2, v3, v4], []) (.ref a :: st) h = xO (xgf h a 6 0) (fun v => exF ev cX1_next 83 ([v0, v1, v2, v3, v4], []) (v :: st) h) := exF_o (i := (i_getf 6 0 83)) rfl rfl
theorem eX1_next_83 {ev : xV} {v0 v1 v2 v3 v4 : Option Value} {x y : Int32} {st : List Value} {h : xH} : exF ev cX1_next 83 ([v0, v1, v2, v3, v4], []) (.int y :: .int x :: st) h = exF ev cX1_next 84 ([v0, v1, v2, v3, v4], []) (.int (x <<< (y &&& 31)) :: st) h := exF_j (i := (i_ii (fun x y => x <<< (y &&& 31)) 84)) rfl rfl
theorem eX1_next_84 {ev : xV} {v0 v1 v2 v3 v4 : Option Value} {x y : Int32} {st : List Value} {h : xH} : exF ev cX1_next 84 ([v0, v1, v2, v3, v4], []) (.int y :: .int x :: st) h = exF ev cX1_next 85 ([v0, v1, v2, v3, v4], []) (.int (x ||| y) :: st) h := exF_j (i := (i_ii (fun x y => x ||| y) 85)) rfl rfl
theorem eX1_next_85 {ev : xV} {v0 v1 v2 v3 v4 : Option Value} {x : Int32} {st : List Value} {h : xH} : exF ev cX1_next 85 ([v0, v1, v2, v3, v4], []) (.int x :: st) h = exF ev cX1_next 86 ([v0, v1, v2, some (.int x), v4], []) st h := exF_j (i := (i_istore 3 86)) rfl rfl
theorem eX1_next_86 {ev : xV} {v0 v1 v2 v3 : Option Value} {x : Int32} {st : List Value} {h : xH} : exF ev cX1_next 86 ([v0, v1, v2, v3, some (.int x)], []) st h = exF ev cX1_next 89 ([v0, v1, v2, v3, some (.int (x + (nI 1)))], []) st h := exF_j (i := (i_iinc 4 (nI 1) 89)) rfl rfl
theorem eX1_next_89 {ev : xV} {v0 v1 v2 v3 v4 : Option Value} {st : List Value} {h : xH} : exF ev cX1_next 89 ([v0, v1, v2, v3, v4], []) st h = exF ev cX1_next 5 ([v0, v1, v2, v3, v4], []) st h := exF_j (i := (i_goto 5)) rfl rfl
theorem eX1_next_92 {ev : xV} {v0 v1 v2 v4 : Option Value} {x : Int32} {st : List Value} {h : xH} : exF ev cX1_next 92 ([v0, v1, v2, some (.int x), v4], []) st h = exF ev cX1_next 93 ([v0, v1, v2, some (.int x), v4], []) (.int x :: st) h := exF_j (i := (i_iload 3 93)) rfl rfl
theorem eX1_next_93 {ev : xV} {v0 v1 v2 v3 v4 : Option Value} {x : Int32} {h : xH} : exF ev cX1_next 93 ([v0, v1, v2, v3, v4], []) [.int x] h = some (.inl (some (.int x)), h) := exF_r (i := (i_iret)) rfl rfl
noncomputable def cX1_company : xC := [(0, i_aload 0 1),
  (1, i_iload 1 2),
  (2, i_cv 0 100 1 5),
  (5, i_if1 (fun x => x = 0) 16 8),
  (8, i_aload 0 9),
  (9, i_iload 1 10),
  (10, i_cv 0 125 1 13),
  (13, i_goto 17),
  (16, i_const (.int (-1)) 17),
  (17, i_iret)]
theorem eX1_company_0 {ev : xV} {v1 : Option Value} {x : Nat} {st : List Value} {h : xH} : exF ev cX1_company 0 ([some (.ref x), v1], []) st h = exF ev cX1_company 1 ([some (.ref x), v1], []) (.ref x :: st) h := exF_j (i := (i_aload 0 1)) rfl rfl
theorem eX1_company_1 {ev : xV} {v0 : Option Value} {x : Int32} {st : List Value} {h : xH} : exF ev cX1_company 1 ([v0, some (.int x)], []) st h = exF ev cX1_company 2 ([v0, some (.int x)], []) (.int x :: st) h := exF_j (i := (i_iload 1 2)) rfl rfl
theorem eX1_company_2 {ev : xV} {v0 v1 : Option Value} {a0 : Value} {a : Nat} {h : xH} : exF ev cX1_company 2 ([v0, v1], []) [a0, .ref a] h = xO (xck h a 0) (fun _ => xB (ev 100 [.ref a, a0] h) (fun v h => exF ev cX1_company 5 ([v0, v1], []) [v] h)) := exF_cd (i := (i_cv 0 100 1 5)) rfl rfl
theorem eX1_company_5 {ev : xV} {v0 v1 : Option Value} {x : Int32} {st : List Value} {h : xH} : exF ev cX1_company 5 ([v0, v1], []) (.int x :: st) h = if x = 0 then exF ev cX1_company 16 ([v0, v1], []) st h else exF ev cX1_company 8 ([v0, v1], []) st h := exF_b (i := (i_if1 (fun x => x = 0) 16 8)) rfl rfl
theorem eX1_company_8 {ev : xV} {v1 : Option Value} {x : Nat} {st : List Value} {h : xH} : exF ev cX1_company 8 ([some (.ref x), v1], []) st h = exF ev cX1_company 9 ([some (.ref x), v1], []) (.ref x :: st) h := exF_j (i := (i_aload 0 9)) rfl rfl
theorem eX1_company_9 {ev : xV} {v0 : Option Value} {x : Int32} {st : List Value} {h : xH} : exF ev cX1_company 9 ([v0, some (.int x)], []) st h = exF ev cX1_company 10 ([v0, some (.int x)], []) (.int x :: st) h := exF_j (i := (i_iload 1 10)) rfl rfl
theorem eX1_company_10 {ev : xV} {v0 v1 : Option Value} {a0 : Value} {a : Nat} {h : xH} : exF ev cX1_company 10 ([v0, v1], []) [a0, .ref a] h = xO (xck h a 0) (fun _ => xB (ev 125 [.ref a, a0] h) (fun v h => exF ev cX1_company 13 ([v0, v1], []) [v] h)) := exF_cd (i := (i_cv 0 125 1 13)) rfl rfl
theorem eX1_company_13 {ev : xV} {v0 v1 : Option Value} {st : List Value} {h : xH} : exF ev cX1_company 13 ([v0, v1], []) st h = exF ev cX1_company 17 ([v0, v1], []) st h := exF_j (i := (i_goto 17)) rfl rfl
theorem eX1_company_16 {ev : xV} {v0 v1 : Option Value} {st : List Value} {h : xH} : exF ev cX1_company 16 ([v0, v1], []) st h = exF ev cX1_company 17 ([v0, v1], []) (.int (-1) :: st) h := exF_j (i := (i_const (.int (-1)) 17)) rfl rfl
theorem eX1_company_17 {ev : xV} {v0 v1 : Option Value} {x : Int32} {h : xH} : exF ev cX1_company 17 ([v0, v1], []) [.int x] h = some (.inl (some (.int x)), h) := exF_r (i := (i_iret)) rfl rfl
noncomputable def cX1_companyOf : xC := [(0, i_const (.int (nI 0)) 1),
  (1, i_istore 2 2),
  (2, i_aload 0 3),
  (3, i_aload 0 4),
  (4, i_getf 0 4 7),
  (7, i_getf 3 2 10),
  (10, i_iload 1 11),
  (11, i_ai 0 12),
  (12, i_aload 0 13),
  (13, i_aload 0 14),
  (14, i_getf 0 4 17),
  (17, i_cv 0 121 1 20),
  (20, i_cv 0 122 2 23),
  (23, i_istore 3 24),
  (24, i_const (.int (nI 0)) 25),
  (25, i_istore 4 27),
  (27, i_iload 4 29),
  (29, i_aload 0 30),
  (30, i_cv 0 101 0 33),
  (33, i_if2 (fun x y => y ≤ x) 72 36),
  (36, i_iload 4 38),
  (38, i_iload 1 39),
  (39, i_if2 (fun x y => x = y) 66 42),
  (42, i_iload 3 43),
  (43, i_aload 0 44),
  (44, i_getf 0 4 47),
  (47, i_getf 3 2 50),
  (50, i_iload 4 52),
  (52, i_ai 0 53),
  (53, i_cs 98 2 56),
  (56, i_if1 (fun x => x = 0) 66 59),
  (59, i_iload 2 60),
  (60, i_const (.int (nI 1)) 61),
  (61, i_iload 4 63),
  (63, i_ii (fun x y => x <<< (y &&& 31)) 64),
  (64, i_ii (fun x y => x ||| y) 65),
  (65, i_istore 2 66),
  (66, i_iinc 4 (nI 1) 69),
  (69, i_goto 27),
  (72, i_iload 2 73),
  (73, i_iret)]
theorem eX1_companyOf_0 {ev : xV} {v0 v1 v2 v3 v4 : Option Value} {st : List Value} {h : xH} : exF ev cX1_companyOf 0 ([v0, v1, v2, v3, v4], []) st h = exF ev cX1_companyOf 1 ([v0, v1, v2, v3, v4], []) (.int (nI 0) :: st) h := exF_j (i := (i_const (.int (nI 0)) 1)) rfl rfl
theorem eX1_companyOf_1 {ev : xV} {v0 v1 v2 v3 v4 : Option Value} {x : Int32} {st : List Value} {h : xH} : exF ev cX1_companyOf 1 ([v0, v1, v2, v3, v4], []) (.int x :: st) h = exF ev cX1_companyOf 2 ([v0, v1, some (.int x), v3, v4], []) st h := exF_j (i := (i_istore 2 2)) rfl rfl
theorem eX1_companyOf_2 {ev : xV} {v1 v2 v3 v4 : Option Value} {x : Nat} {st : List Value} {h : xH} : exF ev cX1_companyOf 2 ([some (.ref x), v1, v2, v3, v4], []) st h = exF ev cX1_companyOf 3 ([some (.ref x), v1, v2, v3, v4], []) (.ref x :: st) h := exF_j (i := (i_aload 0 3)) rfl rfl
theorem eX1_companyOf_3 {ev : xV} {v1 v2 v3 v4 : Option Value} {x : Nat} {st : List Value} {h : xH} : exF ev cX1_companyOf 3 ([some (.ref x), v1, v2, v3, v4], []) st h = exF ev cX1_companyOf 4 ([some (.ref x), v1, v2, v3, v4], []) (.ref x :: st) h := exF_j (i := (i_aload 0 4)) rfl rfl
theorem eX1_companyOf_4 {ev : xV} {v0 v1 v2 v3 v4 : Option Value} {a : Nat} {st : List Value} {h : xH} : exF ev cX1_companyOf 4 ([v0, v1, v2, v3, v4], []) (.ref a :: st) h = xO (xgf h a 0 4) (fun v => exF ev cX1_companyOf 7 ([v0, v1, v2, v3, v4], []) (v :: st) h) := exF_o (i := (i_getf 0 4 7)) rfl rfl
theorem eX1_companyOf_7 {ev : xV} {v0 v1 v2 v3 v4 : Option Value} {a : Nat} {st : List Value} {h : xH} : exF ev cX1_companyOf 7 ([v0, v1, v2, v3, v4], []) (.ref a :: st) h = xO (xgf h a 3 2) (fun v => exF ev cX1_companyOf 10 ([v0, v1, v2, v3, v4], []) (v :: st) h) := exF_o (i := (i_getf 3 2 10)) rfl rfl
theorem eX1_companyOf_10 {ev : xV} {v0 v2 v3 v4 : Option Value} {x : Int32} {st : List Value} {h : xH} : exF ev cX1_companyOf 10 ([v0, some (.int x), v2, v3, v4], []) st h = exF ev cX1_companyOf 11 ([v0, some (.int x), v2, v3, v4], []) (.int x :: st) h := exF_j (i := (i_iload 1 11)) rfl rfl
theorem eX1_companyOf_11 {ev : xV} {v0 v1 v2 v3 v4 : Option Value} {i : Int32} {a : Nat} {st : List Value} {h : xH} : exF ev cX1_companyOf 11 ([v0, v1, v2, v3, v4], []) (.int i :: .ref a :: st) h = xO (xai h 0 a i) (fun v => exF ev cX1_companyOf 12 ([v0, v1, v2, v3, v4], []) (.int v :: st) h) := exF_o (i := (i_ai 0 12)) rfl rfl
theorem eX1_companyOf_12 {ev : xV} {v1 v2 v3 v4 : Option Value} {x : Nat} {st : List Value} {h : xH} : exF ev cX1_companyOf 12 ([some (.ref x), v1, v2, v3, v4], []) st h = exF ev cX1_companyOf 13 ([some (.ref x), v1, v2, v3, v4], []) (.ref x :: st) h := exF_j (i := (i_aload 0 13)) rfl rfl
theorem eX1_companyOf_13 {ev : xV} {v1 v2 v3 v4 : Option Value} {x : Nat} {st : List Value} {h : xH} : exF ev cX1_companyOf 13 ([some (.ref x), v1, v2, v3, v4], []) st h = exF ev cX1_companyOf 14 ([some (.ref x), v1, v2, v3, v4], []) (.ref x :: st) h := exF_j (i := (i_aload 0 14)) rfl rfl
theorem eX1_companyOf_14 {ev : xV} {v0 v1 v2 v3 v4 : Option Value} {a : Nat} {st : List Value} {h : xH} : exF ev cX1_companyOf 14 ([v0, v1, v2, v3, v4], []) (.ref a :: st) h = xO (xgf h a 0 4) (fun v => exF ev cX1_companyOf 17 ([v0, v1, v2, v3, v4], []) (v :: st) h) := exF_o (i := (i_getf 0 4 17)) rfl rfl
theorem eX1_companyOf_17 {ev : xV} {v0 v1 v2 v3 v4 : Option Value} {a0 : Value} {r0 : Value} {r1 : Value} {a : Nat} {h : xH} : exF ev cX1_companyOf 17 ([v0, v1, v2, v3, v4], []) [a0, .ref a, r0, r1] h = xO (xck h a 0) (fun _ => xB (ev 121 [.ref a, a0] h) (fun v h => exF ev cX1_companyOf 20 ([v0, v1, v2, v3, v4], []) [v, r0, r1] h)) := exF_cd (i := (i_cv 0 121 1 20)) rfl rfl
theorem eX1_companyOf_20 {ev : xV} {v0 v1 v2 v3 v4 : Option Value} {a0 : Value} {a1 : Value} {a : Nat} {h : xH} : exF ev cX1_companyOf 20 ([v0, v1, v2, v3, v4], []) [a1, a0, .ref a] h = xO (xck h a 0) (fun _ => xB (ev 122 [.ref a, a0, a1] h) (fun v h => exF ev cX1_companyOf 23 ([v0, v1, v2, v3, v4], []) [v] h)) := exF_cd (i := (i_cv 0 122 2 23)) rfl rfl
theorem eX1_companyOf_23 {ev : xV} {v0 v1 v2 v3 v4 : Option Value} {x : Int32} {st : List Value} {h : xH} : exF ev cX1_companyOf 23 ([v0, v1, v2, v3, v4], []) (.int x :: st) h = exF ev cX1_companyOf 24 ([v0, v1, v2, some (.int x), v4], []) st h := exF_j (i := (i_istore 3 24)) rfl rfl
theorem eX1_companyOf_24 {ev : xV} {v0 v1 v2 v3 v4 : Option Value} {st : List Value} {h : xH} : exF ev cX1_companyOf 24 ([v0, v1, v2, v3, v4], []) st h = exF ev cX1_companyOf 25 ([v0, v1, v2, v3, v4], []) (.int (nI 0) :: st) h := exF_j (i := (i_const (.int (nI 0)) 25)) rfl rfl
theorem eX1_companyOf_25 {ev : xV} {v0 v1 v2 v3 v4 : Option Value} {x : Int32} {st : List Value} {h : xH} : exF ev cX1_companyOf 25 ([v0, v1, v2, v3, v4], []) (.int x :: st) h = exF ev cX1_companyOf 27 ([v0, v1, v2, v3, some (.int x)], []) st h := exF_j (i := (i_istore 4 27)) rfl rfl
theorem eX1_companyOf_27 {ev : xV} {v0 v1 v2 v3 : Option Value} {x : Int32} {st : List Value} {h : xH} : exF ev cX1_companyOf 27 ([v0, v1, v2, v3, some (.int x)], []) st h = exF ev cX1_companyOf 29 ([v0, v1, v2, v3, some (.int x)], []) (.int x :: st) h := exF_j (i := (i_iload 4 29)) rfl rfl
theorem eX1_companyOf_29 {ev : xV} {v1 v2 v3 v4 : Option Value} {x : Nat} {st : List Value} {h : xH} : exF ev cX1_companyOf 29 ([some (.ref x), v1, v2, v3, v4], []) st h = exF ev cX1_companyOf 30 ([some (.ref x), v1, v2, v3, v4], []) (.ref x :: st) h := exF_j (i := (i_aload 0 30)) rfl rfl
theorem eX1_companyOf_30 {ev : xV} {v0 v1 v2 v3 v4 : Option Value} {r0 : Value} {a : Nat} {h : xH} : exF ev cX1_companyOf 30 ([v0, v1, v2, v3, v4], []) [.ref a, r0] h = xO (xck h a 0) (fun _ => xB (ev 101 [.ref a] h) (fun v h => exF ev cX1_companyOf 33 ([v0, v1, v2, v3, v4], []) [v, r0] h)) := exF_cd (i := (i_cv 0 101 0 33)) rfl rfl
theorem eX1_companyOf_33 {ev : xV} {v0 v1 v2 v3 v4 : Option Value} {x y : Int32} {st : List Value} {h : xH} : exF ev cX1_companyOf 33 ([v0, v1, v2, v3, v4], []) (.int y :: .int x :: st) h = if y ≤ x then exF ev cX1_companyOf 72 ([v0, v1, v2, v3, v4], []) st h else exF ev cX1_companyOf 36 ([v0, v1, v2, v3, v4], []) st h := exF_b (i := (i_if2 (fun x y => y ≤ x) 72 36)) rfl rfl
theorem eX1_companyOf_36 {ev : xV} {v0 v1 v2 v3 : Option Value} {x : Int32} {st : List Value} {h : xH} : exF ev cX1_companyOf 36 ([v0, v1, v2, v3, some (.int x)], []) st h = exF ev cX1_companyOf 38 ([v0, v1, v2, v3, some (.int x)], []) (.int x :: st) h := exF_j (i := (i_iload 4 38)) rfl rfl
theorem eX1_companyOf_38 {ev : xV} {v0 v2 v3 v4 : Option Value} {x : Int32} {st : List Value} {h : xH} : exF ev cX1_companyOf 38 ([v0, some (.int x), v2, v3, v4], []) st h = exF ev cX1_companyOf 39 ([v0, some (.int x), v2, v3, v4], []) (.int x :: st) h := exF_j (i := (i_iload 1 39)) rfl rfl
theorem eX1_companyOf_39 {ev : xV} {v0 v1 v2 v3 v4 : Option Value} {x y : Int32} {st : List Value} {h : xH} : exF ev cX1_companyOf 39 ([v0, v1, v2, v3, v4], []) (.int y :: .int x :: st) h = if x = y then exF ev cX1_companyOf 66 ([v0, v1, v2, v3, v4], []) st h else exF ev cX1_companyOf 42 ([v0, v1, v2, v3, v4], []) st h := exF_b (i := (i_if2 (fun x y => x = y) 66 42)) rfl rfl
theorem eX1_companyOf_42 {ev : xV} {v0 v1 v2 v4 : Option Value} {x : Int32} {st : List Value} {h : xH} : exF ev cX1_companyOf 42 ([v0, v1, v2, some (.int x), v4], []) st h = exF ev cX1_companyOf 43 ([v0, v1, v2, some (.int x), v4], []) (.int x :: st) h := exF_j (i := (i_iload 3 43)) rfl rfl
theorem eX1_companyOf_43 {ev : xV} {v1 v2 v3 v4 : Option Value} {x : Nat} {st : List Value} {h : xH} : exF ev cX1_companyOf 43 ([some (.ref x), v1, v2, v3, v4], []) st h = exF ev cX1_companyOf 44 ([some (.ref x), v1, v2, v3, v4], []) (.ref x :: st) h := exF_j (i := (i_aload 0 44)) rfl rfl
theorem eX1_companyOf_44 {ev : xV} {v0 v1 v2 v3 v4 : Option Value} {a : Nat} {st : List Value} {h : xH} : exF ev cX1_companyOf 44 ([v0, v1, v2, v3, v4], []) (.ref a :: st) h = xO (xgf h a 0 4) (fun v => exF ev cX1_companyOf 47 ([v0, v1, v2, v3, v4], []) (v :: st) h) := exF_o (i := (i_getf 0 4 47)) rfl rfl
theorem eX1_companyOf_47 {ev : xV} {v0 v1 v2 v3 v4 : Option Value} {a : Nat} {st : List Value} {h : xH} : exF ev cX1_companyOf 47 ([v0, v1, v2, v3, v4], []) (.ref a :: st) h = xO (xgf h a 3 2) (fun v => exF ev cX1_companyOf 50 ([v0, v1, v2, v3, v4], []) (v :: st) h) := exF_o (i := (i_getf 3 2 50)) rfl rfl
theorem eX1_companyOf_50 {ev : xV} {v0 v1 v2 v3 : Option Value} {x : Int32} {st : List Value} {h : xH} : exF ev cX1_companyOf 50 ([v0, v1, v2, v3, some (.int x)], []) st h = exF ev cX1_companyOf 52 ([v0, v1, v2, v3, some (.int x)], []) (.int x :: st) h := exF_j (i := (i_iload 4 52)) rfl rfl
theorem eX1_companyOf_52 {ev : xV} {v0 v1 v2 v3 v4 : Option Value} {i : Int32} {a : Nat} {st : List Value} {h : xH} : exF ev cX1_companyOf 52 ([v0, v1, v2, v3, v4], []) (.int i :: .ref a :: st) h = xO (xai h 0 a i) (fun v => exF ev cX1_companyOf 53 ([v0, v1, v2, v3, v4], []) (.int v :: st) h) := exF_o (i := (i_ai 0 53)) rfl rfl
theorem eX1_companyOf_53 {ev : xV} {v0 v1 v2 v3 v4 : Option Value} {a0 : Value} {a1 : Value} {h : xH} : exF ev cX1_companyOf 53 ([v0, v1, v2, v3, v4], []) [a1, a0] h = xB (ev 98 [a0, a1] h) (fun v h => exF ev cX1_companyOf 56 ([v0, v1, v2, v3, v4], []) [v] h) := exF_c (i := (i_cs 98 2 56)) rfl rfl
theorem eX1_companyOf_56 {ev : xV} {v0 v1 v2 v3 v4 : Option Value} {x : Int32} {st : List Value} {h : xH} : exF ev cX1_companyOf 56 ([v0, v1, v2, v3, v4], []) (.int x :: st) h = if x = 0 then exF ev cX1_companyOf 66 ([v0, v1, v2, v3, v4], []) st h else exF ev cX1_companyOf 59 ([v0, v1, v2, v3, v4], []) st h := exF_b (i := (i_if1 (fun x => x = 0) 66 59)) rfl rfl
theorem eX1_companyOf_59 {ev : xV} {v0 v1 v3 v4 : Option Value} {x : Int32} {st : List Value} {h : xH} : exF ev cX1_companyOf 59 ([v0, v1, some (.int x), v3, v4], []) st h = exF ev cX1_companyOf 60 ([v0, v1, some (.int x), v3, v4], []) (.int x :: st) h := exF_j (i := (i_iload 2 60)) rfl rfl
theorem eX1_companyOf_60 {ev : xV} {v0 v1 v2 v3 v4 : Option Value} {st : List Value} {h : xH} : exF ev cX1_companyOf 60 ([v0, v1, v2, v3, v4], []) st h = exF ev cX1_companyOf 61 ([v0, v1, v2, v3, v4], []) (.int (nI 1) :: st) h := exF_j (i := (i_const (.int (nI 1)) 61)) rfl rfl
theorem eX1_companyOf_61 {ev : xV} {v0 v1 v2 v3 : Option Value} {x : Int32} {st : List Value} {h : xH} : exF ev cX1_companyOf 61 ([v0, v1, v2, v3, some (.int x)], []) st h = exF ev cX1_companyOf 63 ([v0, v1, v2, v3, some (.int x)], []) (.int x :: st) h := exF_j (i := (i_iload 4 63)) rfl rfl
theorem eX1_companyOf_63 {ev : xV} {v0 v1 v2 v3 v4 : Option Value} {x y : Int32} {st : List Value} {h : xH} : exF ev cX1_companyOf 63 ([v0, v1, v2, v3, v4], []) (.int y :: .int x :: st) h = exF ev cX1_companyOf 64 ([v0, v1, v2, v3, v4], []) (.int (x <<< (y &&& 31)) :: st) h := exF_j (i := (i_ii (fun x y => x <<< (y &&& 31)) 64)) rfl rfl
theorem eX1_companyOf_64 {ev : xV} {v0 v1 v2 v3 v4 : Option Value} {x y : Int32} {st : List Value} {h : xH} : exF ev cX1_companyOf 64 ([v0, v1, v2, v3, v4], []) (.int y :: .int x :: st) h = exF ev cX1_companyOf 65 ([v0, v1, v2, v3, v4], []) (.int (x ||| y) :: st) h := exF_j (i := (i_ii (fun x y => x ||| y) 65)) rfl rfl
theorem eX1_companyOf_65 {ev : xV} {v0 v1 v2 v3 v4 : Option Value} {x : Int32} {st : List Value} {h : xH} : exF ev cX1_companyOf 65 ([v0, v1, v2, v3, v4], []) (.int x :: st) h = exF ev cX1_companyOf 66 ([v0, v1, some (.int x), v3, v4], []) st h := exF_j (i := (i_istore 2 66)) rfl rfl
theorem eX1_companyOf_66 {ev : xV} {v0 v1 v2 v3 : Option Value} {x : Int32} {st : List Value} {h : xH} : exF ev cX1_companyOf 66 ([v0, v1, v2, v3, some (.int x)], []) st h = exF ev cX1_companyOf 69 ([v0, v1, v2, v3, some (.int (x + (nI 1)))], []) st h := exF_j (i := (i_iinc 4 (nI 1) 69)) rfl rfl
theorem eX1_companyOf_69 {ev : xV} {v0 v1 v2 v3 v4 : Option Value} {st : List Value} {h : xH} : exF ev cX1_companyOf 69 ([v0, v1, v2, v3, v4], []) st h = exF ev cX1_companyOf 27 ([v0, v1, v2, v3, v4], []) st h := exF_j (i := (i_goto 27)) rfl rfl
theorem eX1_companyOf_72 {ev : xV} {v0 v1 v3 v4 : Option Value} {x : Int32} {st : List Value} {h : xH} : exF ev cX1_companyOf 72 ([v0, v1, some (.int x), v3, v4], []) st h = exF ev cX1_companyOf 73 ([v0, v1, some (.int x), v3, v4], []) (.int x :: st) h := exF_j (i := (i_iload 2 73)) rfl rfl
theorem eX1_companyOf_73 {ev : xV} {v0 v1 v2 v3 v4 : Option Value} {x : Int32} {h : xH} : exF ev cX1_companyOf 73 ([v0, v1, v2, v3, v4], []) [.int x] h = some (.inl (some (.int x)), h) := exF_r (i := (i_iret)) rfl rfl
noncomputable def cX1_parts : xC := [(0, i_const (.int (nI 0)) 1),
  (1, i_istore 1 2),
  (2, i_const (.int (nI 0)) 3),
  (3, i_istore 2 4),
  (4, i_const (.int (nI 0)) 5),
  (5, i_istore 3 6),
  (6, i_iload 3 7),
  (7, i_aload 0 8),
  (8, i_cv 0 120 0 11),
  (11, i_if2 (fun x y => y ≤ x) 50 14),
  (14, i_iload 2 15),
  (15, i_iload 3 16),
  (16, i_cs 98 2 19),
  (19, i_if1 (fun x => x = 0) 25 22),
  (22, i_goto 44),
  (25, i_iload 2 26),
  (26, i_aload 0 27),
  (27, i_iload 3 28),
  (28, i_aload 0 29),
  (29, i_aload 0 30),
  (30, i_getf 0 4 33),
  (33, i_cv 0 121 1 36),
  (36, i_cv 0 122 2 39),
  (39, i_ii (fun x y => x ||| y) 40),
  (40, i_istore 2 41),
  (41, i_iinc 1 (nI 1) 44),
  (44, i_iinc 3 (nI 1) 47),
  (47, i_goto 6),
  (50, i_iload 1 51),
  (51, i_iret)]
theorem eX1_parts_0 {ev : xV} {v0 v1 v2 v3 : Option Value} {st : List Value} {h : xH} : exF ev cX1_parts 0 ([v0, v1, v2, v3], []) st h = exF ev cX1_parts 1 ([v0, v1, v2, v3], []) (.int (nI 0) :: st) h := exF_j (i := (i_const (.int (nI 0)) 1)) rfl rfl
theorem eX1_parts_1 {ev : xV} {v0 v1 v2 v3 : Option Value} {x : Int32} {st : List Value} {h : xH} : exF ev cX1_parts 1 ([v0, v1, v2, v3], []) (.int x :: st) h = exF ev cX1_parts 2 ([v0, some (.int x), v2, v3], []) st h := exF_j (i := (i_istore 1 2)) rfl rfl
theorem eX1_parts_2 {ev : xV} {v0 v1 v2 v3 : Option Value} {st : List Value} {h : xH} : exF ev cX1_parts 2 ([v0, v1, v2, v3], []) st h = exF ev cX1_parts 3 ([v0, v1, v2, v3], []) (.int (nI 0) :: st) h := exF_j (i := (i_const (.int (nI 0)) 3)) rfl rfl
theorem eX1_parts_3 {ev : xV} {v0 v1 v2 v3 : Option Value} {x : Int32} {st : List Value} {h : xH} : exF ev cX1_parts 3 ([v0, v1, v2, v3], []) (.int x :: st) h = exF ev cX1_parts 4 ([v0, v1, some (.int x), v3], []) st h := exF_j (i := (i_istore 2 4)) rfl rfl
theorem eX1_parts_4 {ev : xV} {v0 v1 v2 v3 : Option Value} {st : List Value} {h : xH} : exF ev cX1_parts 4 ([v0, v1, v2, v3], []) st h = exF ev cX1_parts 5 ([v0, v1, v2, v3], []) (.int (nI 0) :: st) h := exF_j (i := (i_const (.int (nI 0)) 5)) rfl rfl
theorem eX1_parts_5 {ev : xV} {v0 v1 v2 v3 : Option Value} {x : Int32} {st : List Value} {h : xH} : exF ev cX1_parts 5 ([v0, v1, v2, v3], []) (.int x :: st) h = exF ev cX1_parts 6 ([v0, v1, v2, some (.int x)], []) st h := exF_j (i := (i_istore 3 6)) rfl rfl
theorem eX1_parts_6 {ev : xV} {v0 v1 v2 : Option Value} {x : Int32} {st : List Value} {h : xH} : exF ev cX1_parts 6 ([v0, v1, v2, some (.int x)], []) st h = exF ev cX1_parts 7 ([v0, v1, v2, some (.int x)], []) (.int x :: st) h := exF_j (i := (i_iload 3 7)) rfl rfl
theorem eX1_parts_7 {ev : xV} {v1 v2 v3 : Option Value} {x : Nat} {st : List Value} {h : xH} : exF ev cX1_parts 7 ([some (.ref x), v1, v2, v3], []) st h = exF ev cX1_parts 8 ([some (.ref x), v1, v2, v3], []) (.ref x :: st) h := exF_j (i := (i_aload 0 8)) rfl rfl
theorem eX1_parts_8 {ev : xV} {v0 v1 v2 v3 : Option Value} {r0 : Value} {a : Nat} {h : xH} : exF ev cX1_parts 8 ([v0, v1, v2, v3], []) [.ref a, r0] h = xO (xck h a 0) (fun _ => xB (ev 120 [.ref a] h) (fun v h => exF ev cX1_parts 11 ([v0, v1, v2, v3], []) [v, r0] h)) := exF_cd (i := (i_cv 0 120 0 11)) rfl rfl
theorem eX1_parts_11 {ev : xV} {v0 v1 v2 v3 : Option Value} {x y : Int32} {st : List Value} {h : xH} : exF ev cX1_parts 11 ([v0, v1, v2, v3], []) (.int y :: .int x :: st) h = if y ≤ x then exF ev cX1_parts 50 ([v0, v1, v2, v3], []) st h else exF ev cX1_parts 14 ([v0, v1, v2, v3], []) st h := exF_b (i := (i_if2 (fun x y => y ≤ x) 50 14)) rfl rfl
theorem eX1_parts_14 {ev : xV} {v0 v1 v3 : Option Value} {x : Int32} {st : List Value} {h : xH} : exF ev cX1_parts 14 ([v0, v1, some (.int x), v3], []) st h = exF ev cX1_parts 15 ([v0, v1, some (.int x), v3], []) (.int x :: st) h := exF_j (i := (i_iload 2 15)) rfl rfl
theorem eX1_parts_15 {ev : xV} {v0 v1 v2 : Option Value} {x : Int32} {st : List Value} {h : xH} : exF ev cX1_parts 15 ([v0, v1, v2, some (.int x)], []) st h = exF ev cX1_parts 16 ([v0, v1, v2, some (.int x)], []) (.int x :: st) h := exF_j (i := (i_iload 3 16)) rfl rfl
theorem eX1_parts_16 {ev : xV} {v0 v1 v2 v3 : Option Value} {a0 : Value} {a1 : Value} {h : xH} : exF ev cX1_parts 16 ([v0, v1, v2, v3], []) [a1, a0] h = xB (ev 98 [a0, a1] h) (fun v h => exF ev cX1_parts 19 ([v0, v1, v2, v3], []) [v] h) := exF_c (i := (i_cs 98 2 19)) rfl rfl
theorem eX1_parts_19 {ev : xV} {v0 v1 v2 v3 : Option Value} {x : Int32} {st : List Value} {h : xH} : exF ev cX1_parts 19 ([v0, v1, v2, v3], []) (.int x :: st) h = if x = 0 then exF ev cX1_parts 25 ([v0, v1, v2, v3], []) st h else exF ev cX1_parts 22 ([v0, v1, v2, v3], []) st h := exF_b (i := (i_if1 (fun x => x = 0) 25 22)) rfl rfl
theorem eX1_parts_22 {ev : xV} {v0 v1 v2 v3 : Option Value} {st : List Value} {h : xH} : exF ev cX1_parts 22 ([v0, v1, v2, v3], []) st h = exF ev cX1_parts 44 ([v0, v1, v2, v3], []) st h := exF_j (i := (i_goto 44)) rfl rfl
theorem eX1_parts_25 {ev : xV} {v0 v1 v3 : Option Value} {x : Int32} {st : List Value} {h : xH} : exF ev cX1_parts 25 ([v0, v1, some (.int x), v3], []) st h = exF ev cX1_parts 26 ([v0, v1, some (.int x), v3], []) (.int x :: st) h := exF_j (i := (i_iload 2 26)) rfl rfl
theorem eX1_parts_26 {ev : xV} {v1 v2 v3 : Option Value} {x : Nat} {st : List Value} {h : xH} : exF ev cX1_parts 26 ([some (.ref x), v1, v2, v3], []) st h = exF ev cX1_parts 27 ([some (.ref x), v1, v2, v3], []) (.ref x :: st) h := exF_j (i := (i_aload 0 27)) rfl rfl
theorem eX1_parts_27 {ev : xV} {v0 v1 v2 : Option Value} {x : Int32} {st : List Value} {h : xH} : exF ev cX1_parts 27 ([v0, v1, v2, some (.int x)], []) st h = exF ev cX1_parts 28 ([v0, v1, v2, some (.int x)], []) (.int x :: st) h := exF_j (i := (i_iload 3 28)) rfl rfl
theorem eX1_parts_28 {ev : xV} {v1 v2 v3 : Option Value} {x : Nat} {st : List Value} {h : xH} : exF ev cX1_parts 28 ([some (.ref x), v1, v2, v3], []) st h = exF ev cX1_parts 29 ([some (.ref x), v1, v2, v3], []) (.ref x :: st) h := exF_j (i := (i_aload 0 29)) rfl rfl
theorem eX1_parts_29 {ev : xV} {v1 v2 v3 : Option Value} {x : Nat} {st : List Value} {h : xH} : exF ev cX1_parts 29 ([some (.ref x), v1, v2, v3], []) st h = exF ev cX1_parts 30 ([some (.ref x), v1, v2, v3], []) (.ref x :: st) h := exF_j (i := (i_aload 0 30)) rfl rfl
theorem eX1_parts_30 {ev : xV} {v0 v1 v2 v3 : Option Value} {a : Nat} {st : List Value} {h : xH} : exF ev cX1_parts 30 ([v0, v1, v2, v3], []) (.ref a :: st) h = xO (xgf h a 0 4) (fun v => exF ev cX1_parts 33 ([v0, v1, v2, v3], []) (v :: st) h) := exF_o (i := (i_getf 0 4 33)) rfl rfl
theorem eX1_parts_33 {ev : xV} {v0 v1 v2 v3 : Option Value} {a0 : Value} {r0 : Value} {r1 : Value} {r2 : Value} {a : Nat} {h : xH} : exF ev cX1_parts 33 ([v0, v1, v2, v3], []) [a0, .ref a, r0, r1, r2] h = xO (xck h a 0) (fun _ => xB (ev 121 [.ref a, a0] h) (fun v h => exF ev cX1_parts 36 ([v0, v1, v2, v3], []) [v, r0, r1, r2] h)) := exF_cd (i := (i_cv 0 121 1 36)) rfl rfl
theorem eX1_parts_36 {ev : xV} {v0 v1 v2 v3 : Option Value} {a0 : Value} {a1 : Value} {r0 : Value} {a : Nat} {h : xH} : exF ev cX1_parts 36 ([v0, v1, v2, v3], []) [a1, a0, .ref a, r0] h = xO (xck h a 0) (fun _ => xB (ev 122 [.ref a, a0, a1] h) (fun v h => exF ev cX1_parts 39 ([v0, v1, v2, v3], []) [v, r0] h)) := exF_cd (i := (i_cv 0 122 2 39)) rfl rfl
theorem eX1_parts_39 {ev : xV} {v0 v1 v2 v3 : Option Value} {x y : Int32} {st : List Value} {h : xH} : exF ev cX1_parts 39 ([v0, v1, v2, v3], []) (.int y :: .int x :: st) h = exF ev cX1_parts 40 ([v0, v1, v2, v3], []) (.int (x ||| y) :: st) h := exF_j (i := (i_ii (fun x y => x ||| y) 40)) rfl rfl
theorem eX1_parts_40 {ev : xV} {v0 v1 v2 v3 : Option Value} {x : Int32} {st : List Value} {h : xH} : exF ev cX1_parts 40 ([v0, v1, v2, v3], []) (.int x :: st) h = exF ev cX1_parts 41 ([v0, v1, some (.int x), v3], []) st h := exF_j (i := (i_istore 2 41)) rfl rfl
theorem eX1_parts_41 {ev : xV} {v0 v2 v3 : Option Value} {x : Int32} {st : List Value} {h : xH} : exF ev cX1_parts 41 ([v0, some (.int x), v2, v3], []) st h = exF ev cX1_parts 44 ([v0, some (.int (x + (nI 1))), v2, v3], []) st h := exF_j (i := (i_iinc 1 (nI 1) 44)) rfl rfl
theorem eX1_parts_44 {ev : xV} {v0 v1 v2 : Option Value} {x : Int32} {st : List Value} {h : xH} : exF ev cX1_parts 44 ([v0, v1, v2, some (.int x)], []) st h = exF ev cX1_parts 47 ([v0, v1, v2, some (.int (x + (nI 1)))], []) st h := exF_j (i := (i_iinc 3 (nI 1) 47)) rfl rfl
theorem eX1_parts_47 {ev : xV} {v0 v1 v2 v3 : Option Value} {st : List Value} {h : xH} : exF ev cX1_parts 47 ([v0, v1, v2, v3], []) st h = exF ev cX1_parts 6 ([v0, v1, v2, v3], []) st h := exF_j (i := (i_goto 6)) rfl rfl
theorem eX1_parts_50 {ev : xV} {v0 v2 v3 : Option Value} {x : Int32} {st : List Value} {h : xH} : exF ev cX1_parts 50 ([v0, some (.int x), v2, v3], []) st h = exF ev cX1_parts 51 ([v0, some (.int x), v2, v3], []) (.int x :: st) h := exF_j (i := (i_iload 1 51)) rfl rfl
theorem eX1_parts_51 {ev : xV} {v0 v1 v2 v3 : Option Value} {x : Int32} {h : xH} : exF ev cX1_parts 51 ([v0, v1, v2, v3], []) [.int x] h = some (.inl (some (.int x)), h) := exF_r (i := (i_iret)) rfl rfl
noncomputable def cX1_alone : xC := [(0, i_const (.int (nI 0)) 1),
  (1, i_istore 1 2),
  (2, i_const (.int (nI 0)) 3),
  (3, i_istore 2 4),
  (4, i_iload 2 5),
  (5, i_aload 0 6),
  (6, i_cv 0 101 0 9),
  (9, i_if2 (fun x y => y ≤ x) 32 12),
  (12, i_aload 0 13),
  (13, i_iload 2 14),
  (14, i_cv 0 125 1 17),
  (17, i_if1 (fun x => ¬ x = 0) 26 20),
  (20, i_iload 1 21),
  (21, i_const (.int (nI 1)) 22),
  (22, i_iload 2 23),
  (23, i_ii (fun x y => x <<< (y &&& 31)) 24),
  (24, i_ii (fun x y => x ||| y) 25),
  (25, i_istore 1 26),
  (26, i_iinc 2 (nI 1) 29),
  (29, i_goto 4),
  (32, i_iload 1 33),
  (33, i_iret)]
theorem eX1_alone_0 {ev : xV} {v0 v1 v2 : Option Value} {st : List Value} {h : xH} : exF ev cX1_alone 0 ([v0, v1, v2], []) st h = exF ev cX1_alone 1 ([v0, v1, v2], []) (.int (nI 0) :: st) h := exF_j (i := (i_const (.int (nI 0)) 1)) rfl rfl
theorem eX1_alone_1 {ev : xV} {v0 v1 v2 : Option Value} {x : Int32} {st : List Value} {h : xH} : exF ev cX1_alone 1 ([v0, v1, v2], []) (.int x :: st) h = exF ev cX1_alone 2 ([v0, some (.int x), v2], []) st h := exF_j (i := (i_istore 1 2)) rfl rfl
theorem eX1_alone_2 {ev : xV} {v0 v1 v2 : Option Value} {st : List Value} {h : xH} : exF ev cX1_alone 2 ([v0, v1, v2], []) st h = exF ev cX1_alone 3 ([v0, v1, v2], []) (.int (nI 0) :: st) h := exF_j (i := (i_const (.int (nI 0)) 3)) rfl rfl
theorem eX1_alone_3 {ev : xV} {v0 v1 v2 : Option Value} {x : Int32} {st : List Value} {h : xH} : exF ev cX1_alone 3 ([v0, v1, v2], []) (.int x :: st) h = exF ev cX1_alone 4 ([v0, v1, some (.int x)], []) st h := exF_j (i := (i_istore 2 4)) rfl rfl
theorem eX1_alone_4 {ev : xV} {v0 v1 : Option Value} {x : Int32} {st : List Value} {h : xH} : exF ev cX1_alone 4 ([v0, v1, some (.int x)], []) st h = exF ev cX1_alone 5 ([v0, v1, some (.int x)], []) (.int x :: st) h := exF_j (i := (i_iload 2 5)) rfl rfl
theorem eX1_alone_5 {ev : xV} {v1 v2 : Option Value} {x : Nat} {st : List Value} {h : xH} : exF ev cX1_alone 5 ([some (.ref x), v1, v2], []) st h = exF ev cX1_alone 6 ([some (.ref x), v1, v2], []) (.ref x :: st) h := exF_j (i := (i_aload 0 6)) rfl rfl
theorem eX1_alone_6 {ev : xV} {v0 v1 v2 : Option Value} {r0 : Value} {a : Nat} {h : xH} : exF ev cX1_alone 6 ([v0, v1, v2], []) [.ref a, r0] h = xO (xck h a 0) (fun _ => xB (ev 101 [.ref a] h) (fun v h => exF ev cX1_alone 9 ([v0, v1, v2], []) [v, r0] h)) := exF_cd (i := (i_cv 0 101 0 9)) rfl rfl
theorem eX1_alone_9 {ev : xV} {v0 v1 v2 : Option Value} {x y : Int32} {st : List Value} {h : xH} : exF ev cX1_alone 9 ([v0, v1, v2], []) (.int y :: .int x :: st) h = if y ≤ x then exF ev cX1_alone 32 ([v0, v1, v2], []) st h else exF ev cX1_alone 12 ([v0, v1, v2], []) st h := exF_b (i := (i_if2 (fun x y => y ≤ x) 32 12)) rfl rfl
theorem eX1_alone_12 {ev : xV} {v1 v2 : Option Value} {x : Nat} {st : List Value} {h : xH} : exF ev cX1_alone 12 ([some (.ref x), v1, v2], []) st h = exF ev cX1_alone 13 ([some (.ref x), v1, v2], []) (.ref x :: st) h := exF_j (i := (i_aload 0 13)) rfl rfl
theorem eX1_alone_13 {ev : xV} {v0 v1 : Option Value} {x : Int32} {st : List Value} {h : xH} : exF ev cX1_alone 13 ([v0, v1, some (.int x)], []) st h = exF ev cX1_alone 14 ([v0, v1, some (.int x)], []) (.int x :: st) h := exF_j (i := (i_iload 2 14)) rfl rfl
theorem eX1_alone_14 {ev : xV} {v0 v1 v2 : Option Value} {a0 : Value} {a : Nat} {h : xH} : exF ev cX1_alone 14 ([v0, v1, v2], []) [a0, .ref a] h = xO (xck h a 0) (fun _ => xB (ev 125 [.ref a, a0] h) (fun v h => exF ev cX1_alone 17 ([v0, v1, v2], []) [v] h)) := exF_cd (i := (i_cv 0 125 1 17)) rfl rfl
theorem eX1_alone_17 {ev : xV} {v0 v1 v2 : Option Value} {x : Int32} {st : List Value} {h : xH} : exF ev cX1_alone 17 ([v0, v1, v2], []) (.int x :: st) h = if ¬ x = 0 then exF ev cX1_alone 26 ([v0, v1, v2], []) st h else exF ev cX1_alone 20 ([v0, v1, v2], []) st h := exF_b (i := (i_if1 (fun x => ¬ x = 0) 26 20)) rfl rfl
theorem eX1_alone_20 {ev : xV} {v0 v2 : Option Value} {x : Int32} {st : List Value} {h : xH} : exF ev cX1_alone 20 ([v0, some (.int x), v2], []) st h = exF ev cX1_alone 21 ([v0, some (.int x), v2], []) (.int x :: st) h := exF_j (i := (i_iload 1 21)) rfl rfl
theorem eX1_alone_21 {ev : xV} {v0 v1 v2 : Option Value} {st : List Value} {h : xH} : exF ev cX1_alone 21 ([v0, v1, v2], []) st h = exF ev cX1_alone 22 ([v0, v1, v2], []) (.int (nI 1) :: st) h := exF_j (i := (i_const (.int (nI 1)) 22)) rfl rfl
theorem eX1_alone_22 {ev : xV} {v0 v1 : Option Value} {x : Int32} {st : List Value} {h : xH} : exF ev cX1_alone 22 ([v0, v1, some (.int x)], []) st h = exF ev cX1_alone 23 ([v0, v1, some (.int x)], []) (.int x :: st) h := exF_j (i := (i_iload 2 23)) rfl rfl
theorem eX1_alone_23 {ev : xV} {v0 v1 v2 : Option Value} {x y : Int32} {st : List Value} {h : xH} : exF ev cX1_alone 23 ([v0, v1, v2], []) (.int y :: .int x :: st) h = exF ev cX1_alone 24 ([v0, v1, v2], []) (.int (x <<< (y &&& 31)) :: st) h := exF_j (i := (i_ii (fun x y => x <<< (y &&& 31)) 24)) rfl rfl
theorem eX1_alone_24 {ev : xV} {v0 v1 v2 : Option Value} {x y : Int32} {st : List Value} {h : xH} : exF ev cX1_alone 24 ([v0, v1, v2], []) (.int y :: .int x :: st) h = exF ev cX1_alone 25 ([v0, v1, v2], []) (.int (x ||| y) :: st) h := exF_j (i := (i_ii (fun x y => x ||| y) 25)) rfl rfl
theorem eX1_alone_25 {ev : xV} {v0 v1 v2 : Option Value} {x : Int32} {st : List Value} {h : xH} : exF ev cX1_alone 25 ([v0, v1, v2], []) (.int x :: st) h = exF ev cX1_alone 26 ([v0, some (.int x), v2], []) st h := exF_j (i := (i_istore 1 26)) rfl rfl
theorem eX1_alone_26 {ev : xV} {v0 v1 : Option Value} {x : Int32} {st : List Value} {h : xH} : exF ev cX1_alone 26 ([v0, v1, some (.int x)], []) st h = exF ev cX1_alone 29 ([v0, v1, some (.int (x + (nI 1)))], []) st h := exF_j (i := (i_iinc 2 (nI 1) 29)) rfl rfl
theorem eX1_alone_29 {ev : xV} {v0 v1 v2 : Option Value} {st : List Value} {h : xH} : exF ev cX1_alone 29 ([v0, v1, v2], []) st h = exF ev cX1_alone 4 ([v0, v1, v2], []) st h := exF_j (i := (i_goto 4)) rfl rfl
theorem eX1_alone_32 {ev : xV} {v0 v2 : Option Value} {x : Int32} {st : List Value} {h : xH} : exF ev cX1_alone 32 ([v0, some (.int x), v2], []) st h = exF ev cX1_alone 33 ([v0, some (.int x), v2], []) (.int x :: st) h := exF_j (i := (i_iload 1 33)) rfl rfl
theorem eX1_alone_33 {ev : xV} {v0 v1 v2 : Option Value} {x : Int32} {h : xH} : exF ev cX1_alone 33 ([v0, v1, v2], []) [.int x] h = some (.inl (some (.int x)), h) := exF_r (i := (i_iret)) rfl rfl
noncomputable def cX1_bride : xC := [(0, i_const (.int (-1)) 1),
  (1, i_istore 1 2),
  (2, i_const (.int (nI 8)) 4),
  (4, i_istore 2 5),
  (5, i_const (.int (nI 0)) 6),
  (6, i_istore 3 7),
  (7, i_iload 3 8),
  (8, i_aload 0 9),
  (9, i_cv 0 101 0 12),
  (12, i_if2 (fun x y => y ≤ x) 61 15),
  (15, i_aload 0 16),
  (16, i_aload 0 17),
  (17, i_getf 0 4 20),
  (20, i_getf 3 2 23),
  (23, i_iload 3 24),
  (24, i_ai 0 25),
  (25, i_aload 0 26),
  (26, i_aload 0 27),
  (27, i_getf 0 4 30),
  (30, i_cv 0 121 1 33),
  (33, i_cv 0 122 2 36),
  (36, i_cs 28 1 39),
  (39, i_istore 4 41),
  (41, i_iload 4 43),
  (43, i_iload 2 44),
  (44, i_if2 (fun x y => x < y) 50 47),
  (47, i_goto 55),
  (50, i_iload 3 51),
  (51, i_istore 1 52),
  (52, i_iload 4 54),
  (54, i_istore 2 55),
  (55, i_iinc 3 (nI 1) 58),
  (58, i_goto 7),
  (61, i_iload 1 62),
  (62, i_iret)]
theorem eX1_bride_0 {ev : xV} {v0 v1 v2 v3 v4 : Option Value} {st : List Value} {h : xH} : exF ev cX1_bride 0 ([v0, v1, v2, v3, v4], []) st h = exF ev cX1_bride 1 ([v0, v1, v2, v3, v4], []) (.int (-1) :: st) h := exF_j (i := (i_const (.int (-1)) 1)) rfl rfl
theorem eX1_bride_1 {ev : xV} {v0 v1 v2 v3 v4 : Option Value} {x : Int32} {st : List Value} {h : xH} : exF ev cX1_bride 1 ([v0, v1, v2, v3, v4], []) (.int x :: st) h = exF ev cX1_bride 2 ([v0, some (.int x), v2, v3, v4], []) st h := exF_j (i := (i_istore 1 2)) rfl rfl
theorem eX1_bride_2 {ev : xV} {v0 v1 v2 v3 v4 : Option Value} {st : List Value} {h : xH} : exF ev cX1_bride 2 ([v0, v1, v2, v3, v4], []) st h = exF ev cX1_bride 4 ([v0, v1, v2, v3, v4], []) (.int (nI 8) :: st) h := exF_j (i := (i_const (.int (nI 8)) 4)) rfl rfl
theorem eX1_bride_4 {ev : xV} {v0 v1 v2 v3 v4 : Option Value} {x : Int32} {st : List Value} {h : xH} : exF ev cX1_bride 4 ([v0, v1, v2, v3, v4], []) (.int x :: st) h = exF ev cX1_bride 5 ([v0, v1, some (.int x), v3, v4], []) st h := exF_j (i := (i_istore 2 5)) rfl rfl
theorem eX1_bride_5 {ev : xV} {v0 v1 v2 v3 v4 : Option Value} {st : List Value} {h : xH} : exF ev cX1_bride 5 ([v0, v1, v2, v3, v4], []) st h = exF ev cX1_bride 6 ([v0, v1, v2, v3, v4], []) (.int (nI 0) :: st) h := exF_j (i := (i_const (.int (nI 0)) 6)) rfl rfl
theorem eX1_bride_6 {ev : xV} {v0 v1 v2 v3 v4 : Option Value} {x : Int32} {st : List Value} {h : xH} : exF ev cX1_bride 6 ([v0, v1, v2, v3, v4], []) (.int x :: st) h = exF ev cX1_bride 7 ([v0, v1, v2, some (.int x), v4], []) st h := exF_j (i := (i_istore 3 7)) rfl rfl
theorem eX1_bride_7 {ev : xV} {v0 v1 v2 v4 : Option Value} {x : Int32} {st : List Value} {h : xH} : exF ev cX1_bride 7 ([v0, v1, v2, some (.int x), v4], []) st h = exF ev cX1_bride 8 ([v0, v1, v2, some (.int x), v4], []) (.int x :: st) h := exF_j (i := (i_iload 3 8)) rfl rfl
theorem eX1_bride_8 {ev : xV} {v1 v2 v3 v4 : Option Value} {x : Nat} {st : List Value} {h : xH} : exF ev cX1_bride 8 ([some (.ref x), v1, v2, v3, v4], []) st h = exF ev cX1_bride 9 ([some (.ref x), v1, v2, v3, v4], []) (.ref x :: st) h := exF_j (i := (i_aload 0 9)) rfl rfl
theorem eX1_bride_9 {ev : xV} {v0 v1 v2 v3 v4 : Option Value} {r0 : Value} {a : Nat} {h : xH} : exF ev cX1_bride 9 ([v0, v1, v2, v3, v4], []) [.ref a, r0] h = xO (xck h a 0) (fun _ => xB (ev 101 [.ref a] h) (fun v h => exF ev cX1_bride 12 ([v0, v1, v2, v3, v4], []) [v, r0] h)) := exF_cd (i := (i_cv 0 101 0 12)) rfl rfl
theorem eX1_bride_12 {ev : xV} {v0 v1 v2 v3 v4 : Option Value} {x y : Int32} {st : List Value} {h : xH} : exF ev cX1_bride 12 ([v0, v1, v2, v3, v4], []) (.int y :: .int x :: st) h = if y ≤ x then exF ev cX1_bride 61 ([v0, v1, v2, v3, v4], []) st h else exF ev cX1_bride 15 ([v0, v1, v2, v3, v4], []) st h := exF_b (i := (i_if2 (fun x y => y ≤ x) 61 15)) rfl rfl
theorem eX1_bride_15 {ev : xV} {v1 v2 v3 v4 : Option Value} {x : Nat} {st : List Value} {h : xH} : exF ev cX1_bride 15 ([some (.ref x), v1, v2, v3, v4], []) st h = exF ev cX1_bride 16 ([some (.ref x), v1, v2, v3, v4], []) (.ref x :: st) h := exF_j (i := (i_aload 0 16)) rfl rfl
theorem eX1_bride_16 {ev : xV} {v1 v2 v3 v4 : Option Value} {x : Nat} {st : List Value} {h : xH} : exF ev cX1_bride 16 ([some (.ref x), v1, v2, v3, v4], []) st h = exF ev cX1_bride 17 ([some (.ref x), v1, v2, v3, v4], []) (.ref x :: st) h := exF_j (i := (i_aload 0 17)) rfl rfl
theorem eX1_bride_17 {ev : xV} {v0 v1 v2 v3 v4 : Option Value} {a : Nat} {st : List Value} {h : xH} : exF ev cX1_bride 17 ([v0, v1, v2, v3, v4], []) (.ref a :: st) h = xO (xgf h a 0 4) (fun v => exF ev cX1_bride 20 ([v0, v1, v2, v3, v4], []) (v :: st) h) := exF_o (i := (i_getf 0 4 20)) rfl rfl
theorem eX1_bride_20 {ev : xV} {v0 v1 v2 v3 v4 : Option Value} {a : Nat} {st : List Value} {h : xH} : exF ev cX1_bride 20 ([v0, v1, v2, v3, v4], []) (.ref a :: st) h = xO (xgf h a 3 2) (fun v => exF ev cX1_bride 23 ([v0, v1, v2, v3, v4], []) (v :: st) h) := exF_o (i := (i_getf 3 2 23)) rfl rfl
theorem eX1_bride_23 {ev : xV} {v0 v1 v2 v4 : Option Value} {x : Int32} {st : List Value} {h : xH} : exF ev cX1_bride 23 ([v0, v1, v2, some (.int x), v4], []) st h = exF ev cX1_bride 24 ([v0, v1, v2, some (.int x), v4], []) (.int x :: st) h := exF_j (i := (i_iload 3 24)) rfl rfl
theorem eX1_bride_24 {ev : xV} {v0 v1 v2 v3 v4 : Option Value} {i : Int32} {a : Nat} {st : List Value} {h : xH} : exF ev cX1_bride 24 ([v0, v1, v2, v3, v4], []) (.int i :: .ref a :: st) h = xO (xai h 0 a i) (fun v => exF ev cX1_bride 25 ([v0, v1, v2, v3, v4], []) (.int v :: st) h) := exF_o (i := (i_ai 0 25)) rfl rfl
theorem eX1_bride_25 {ev : xV} {v1 v2 v3 v4 : Option Value} {x : Nat} {st : List Value} {h : xH} : exF ev cX1_bride 25 ([some (.ref x), v1, v2, v3, v4], []) st h = exF ev cX1_bride 26 ([some (.ref x), v1, v2, v3, v4], []) (.ref x :: st) h := exF_j (i := (i_aload 0 26)) rfl rfl
theorem eX1_bride_26 {ev : xV} {v1 v2 v3 v4 : Option Value} {x : Nat} {st : List Value} {h : xH} : exF ev cX1_bride 26 ([some (.ref x), v1, v2, v3, v4], []) st h = exF ev cX1_bride 27 ([some (.ref x), v1, v2, v3, v4], []) (.ref x :: st) h := exF_j (i := (i_aload 0 27)) rfl rfl
theorem eX1_bride_27 {ev : xV} {v0 v1 v2 v3 v4 : Option Value} {a : Nat} {st : List Value} {h : xH} : exF ev cX1_bride 27 ([v0, v1, v2, v3, v4], []) (.ref a :: st) h = xO (xgf h a 0 4) (fun v => exF ev cX1_bride 30 ([v0, v1, v2, v3, v4], []) (v :: st) h) := exF_o (i := (i_getf 0 4 30)) rfl rfl
theorem eX1_bride_30 {ev : xV} {v0 v1 v2 v3 v4 : Option Value} {a0 : Value} {r0 : Value} {r1 : Value} {a : Nat} {h : xH} : exF ev cX1_bride 30 ([v0, v1, v2, v3, v4], []) [a0, .ref a, r0, r1] h = xO (xck h a 0) (fun _ => xB (ev 121 [.ref a, a0] h) (fun v h => exF ev cX1_bride 33 ([v0, v1, v2, v3, v4], []) [v, r0, r1] h)) := exF_cd (i := (i_cv 0 121 1 33)) rfl rfl
theorem eX1_bride_33 {ev : xV} {v0 v1 v2 v3 v4 : Option Value} {a0 : Value} {a1 : Value} {a : Nat} {h : xH} : exF ev cX1_bride 33 ([v0, v1, v2, v3, v4], []) [a1, a0, .ref a] h = xO (xck h a 0) (fun _ => xB (ev 122 [.ref a, a0, a1] h) (fun v h => exF ev cX1_bride 36 ([v0, v1, v2, v3, v4], []) [v] h)) := exF_cd (i := (i_cv 0 122 2 36)) rfl rfl
theorem eX1_bride_36 {ev : xV} {v0 v1 v2 v3 v4 : Option Value} {a0 : Value} {h : xH} : exF ev cX1_bride 36 ([v0, v1, v2, v3, v4], []) [a0] h = xB (ev 28 [a0] h) (fun v h => exF ev cX1_bride 39 ([v0, v1, v2, v3, v4], []) [v] h) := exF_c (i := (i_cs 28 1 39)) rfl rfl
theorem eX1_bride_39 {ev : xV} {v0 v1 v2 v3 v4 : Option Value} {x : Int32} {st : List Value} {h : xH} : exF ev cX1_bride 39 ([v0, v1, v2, v3, v4], []) (.int x :: st) h = exF ev cX1_bride 41 ([v0, v1, v2, v3, some (.int x)], []) st h := exF_j (i := (i_istore 4 41)) rfl rfl
theorem eX1_bride_41 {ev : xV} {v0 v1 v2 v3 : Option Value} {x : Int32} {st : List Value} {h : xH} : exF ev cX1_bride 41 ([v0, v1, v2, v3, some (.int x)], []) st h = exF ev cX1_bride 43 ([v0, v1, v2, v3, some (.int x)], []) (.int x :: st) h := exF_j (i := (i_iload 4 43)) rfl rfl
theorem eX1_bride_43 {ev : xV} {v0 v1 v3 v4 : Option Value} {x : Int32} {st : List Value} {h : xH} : exF ev cX1_bride 43 ([v0, v1, some (.int x), v3, v4], []) st h = exF ev cX1_bride 44 ([v0, v1, some (.int x), v3, v4], []) (.int x :: st) h := exF_j (i := (i_iload 2 44)) rfl rfl
theorem eX1_bride_44 {ev : xV} {v0 v1 v2 v3 v4 : Option Value} {x y : Int32} {st : List Value} {h : xH} : exF ev cX1_bride 44 ([v0, v1, v2, v3, v4], []) (.int y :: .int x :: st) h = if x < y then exF ev cX1_bride 50 ([v0, v1, v2, v3, v4], []) st h else exF ev cX1_bride 47 ([v0, v1, v2, v3, v4], []) st h := exF_b (i := (i_if2 (fun x y => x < y) 50 47)) rfl rfl
theorem eX1_bride_47 {ev : xV} {v0 v1 v2 v3 v4 : Option Value} {st : List Value} {h : xH} : exF ev cX1_bride 47 ([v0, v1, v2, v3, v4], []) st h = exF ev cX1_bride 55 ([v0, v1, v2, v3, v4], []) st h := exF_j (i := (i_goto 55)) rfl rfl
theorem eX1_bride_50 {ev : xV} {v0 v1 v2 v4 : Option Value} {x : Int32} {st : List Value} {h : xH} : exF ev cX1_bride 50 ([v0, v1, v2, some (.int x), v4], []) st h = exF ev cX1_bride 51 ([v0, v1, v2, some (.int x), v4], []) (.int x :: st) h := exF_j (i := (i_iload 3 51)) rfl rfl
theorem eX1_bride_51 {ev : xV} {v0 v1 v2 v3 v4 : Option Value} {x : Int32} {st : List Value} {h : xH} : exF ev cX1_bride 51 ([v0, v1, v2, v3, v4], []) (.int x :: st) h = exF ev cX1_bride 52 ([v0, some (.int x), v2, v3, v4], []) st h := exF_j (i := (i_istore 1 52)) rfl rfl
theorem eX1_bride_52 {ev : xV} {v0 v1 v2 v3 : Option Value} {x : Int32} {st : List Value} {h : xH} : exF ev cX1_bride 52 ([v0, v1, v2, v3, some (.int x)], []) st h = exF ev cX1_bride 54 ([v0, v1, v2, v3, some (.int x)], []) (.int x :: st) h := exF_j (i := (i_iload 4 54)) rfl rfl
theorem eX1_bride_54 {ev : xV} {v0 v1 v2 v3 v4 : Option Value} {x : Int32} {st : List Value} {h : xH} : exF ev cX1_bride 54 ([v0, v1, v2, v3, v4], []) (.int x :: st) h = exF ev cX1_bride 55 ([v0, v1, some (.int x), v3, v4], []) st h := exF_j (i := (i_istore 2 55)) rfl rfl
theorem eX1_bride_55 {ev : xV} {v0 v1 v2 v4 : Option Value} {x : Int32} {st : List Value} {h : xH} : exF ev cX1_bride 55 ([v0, v1, v2, some (.int x), v4], []) st h = exF ev cX1_bride 58 ([v0, v1, v2, some (.int (x + (nI 1))), v4], []) st h := exF_j (i := (i_iinc 3 (nI 1) 58)) rfl rfl
theorem eX1_bride_58 {ev : xV} {v0 v1 v2 v3 v4 : Option Value} {st : List Value} {h : xH} : exF ev cX1_bride 58 ([v0, v1, v2, v3, v4], []) st h = exF ev cX1_bride 7 ([v0, v1, v2, v3, v4], []) st h := exF_j (i := (i_goto 7)) rfl rfl
theorem eX1_bride_61 {ev : xV} {v0 v2 v3 v4 : Option Value} {x : Int32} {st : List Value} {h : xH} : exF ev cX1_bride 61 ([v0, some (.int x), v2, v3, v4], []) st h = exF ev cX1_bride 62 ([v0, some (.int x), v2, v3, v4], []) (.int x :: st) h := exF_j (i := (i_iload 1 62)) rfl rfl
theorem eX1_bride_62 {ev : xV} {v0 v1 v2 v3 v4 : Option Value} {x : Int32} {h : xH} : exF ev cX1_bride 62 ([v0, v1, v2, v3, v4], []) [.int x] h = some (.inl (some (.int x)), h) := exF_r (i := (i_iret)) rfl rfl
noncomputable def cX1_deep : xC := [(0, i_aload 0 1),
  (1, i_iload 1 2),
  (2, i_cv 0 119 1 5),
  (5, i_if1 (fun x => ¬ x = 0) 10 8),
  (8, i_const (.int (-1)) 9),
  (9, i_iret),
  (10, i_const (.int (nI 1)) 11),
  (11, i_iload 1 12),
  (12, i_ii (fun x y => x <<< (y &&& 31)) 13),
  (13, i_istore 2 14),
  (14, i_const (.int (nI 0)) 15),
  (15, i_istore 3 16),
  (16, i_aload 0 17),
  (17, i_iload 2 18),
  (18, i_aload 0 19),
  (19, i_aload 0 20),
  (20, i_getf 0 4 23),
  (23, i_cv 0 121 1 26),
  (26, i_cv 0 123 2 29),
  (29, i_iload 2 30),
  (30, i_if2 (fun x y => x = y) 53 33),
  (33, i_aload 0 34),
  (34, i_iload 2 35),
  (35, i_aload 0 36),
  (36, i_aload 0 37),
  (37, i_getf 0 4 40),
  (40, i_cv 0 121 1 43),
  (43, i_cv 0 123 2 46),
  (46, i_istore 2 47),
  (47, i_iinc 3 (nI 1) 50),
  (50, i_goto 16),
  (53, i_iload 3 54),
  (54, i_iret)]
theorem eX1_deep_0 {ev : xV} {v1 v2 v3 : Option Value} {x : Nat} {st : List Value} {h : xH} : exF ev cX1_deep 0 ([some (.ref x), v1, v2, v3], []) st h = exF ev cX1_deep 1 ([some (.ref x), v1, v2, v3], []) (.ref x :: st) h := exF_j (i := (i_aload 0 1)) rfl rfl
theorem eX1_deep_1 {ev : xV} {v0 v2 v3 : Option Value} {x : Int32} {st : List Value} {h : xH} : exF ev cX1_deep 1 ([v0, some (.int x), v2, v3], []) st h = exF ev cX1_deep 2 ([v0, some (.int x), v2, v3], []) (.int x :: st) h := exF_j (i := (i_iload 1 2)) rfl rfl
theorem eX1_deep_2 {ev : xV} {v0 v1 v2 v3 : Option Value} {a0 : Value} {a : Nat} {h : xH} : exF ev cX1_deep 2 ([v0, v1, v2, v3], []) [a0, .ref a] h = xO (xck h a 0) (fun _ => xB (ev 119 [.ref a, a0] h) (fun v h => exF ev cX1_deep 5 ([v0, v1, v2, v3], []) [v] h)) := exF_cd (i := (i_cv 0 119 1 5)) rfl rfl
theorem eX1_deep_5 {ev : xV} {v0 v1 v2 v3 : Option Value} {x : Int32} {st : List Value} {h : xH} : exF ev cX1_deep 5 ([v0, v1, v2, v3], []) (.int x :: st) h = if ¬ x = 0 then exF ev cX1_deep 10 ([v0, v1, v2, v3], []) st h else exF ev cX1_deep 8 ([v0, v1, v2, v3], []) st h := exF_b (i := (i_if1 (fun x => ¬ x = 0) 10 8)) rfl rfl
theorem eX1_deep_8 {ev : xV} {v0 v1 v2 v3 : Option Value} {st : List Value} {h : xH} : exF ev cX1_deep 8 ([v0, v1, v2, v3], []) st h = exF ev cX1_deep 9 ([v0, v1, v2, v3], []) (.int (-1) :: st) h := exF_j (i := (i_const (.int (-1)) 9)) rfl rfl
theorem eX1_deep_9 {ev : xV} {v0 v1 v2 v3 : Option Value} {x : Int32} {h : xH} : exF ev cX1_deep 9 ([v0, v1, v2, v3], []) [.int x] h = some (.inl (some (.int x)), h) := exF_r (i := (i_iret)) rfl rfl
theorem eX1_deep_10 {ev : xV} {v0 v1 v2 v3 : Option Value} {st : List Value} {h : xH} : exF ev cX1_deep 10 ([v0, v1, v2, v3], []) st h = exF ev cX1_deep 11 ([v0, v1, v2, v3], []) (.int (nI 1) :: st) h := exF_j (i := (i_const (.int (nI 1)) 11)) rfl rfl
theorem eX1_deep_11 {ev : xV} {v0 v2 v3 : Option Value} {x : Int32} {st : List Value} {h : xH} : exF ev cX1_deep 11 ([v0, some (.int x), v2, v3], []) st h = exF ev cX1_deep 12 ([v0, some (.int x), v2, v3], []) (.int x :: st) h := exF_j (i := (i_iload 1 12)) rfl rfl
theorem eX1_deep_12 {ev : xV} {v0 v1 v2 v3 : Option Value} {x y : Int32} {st : List Value} {h : xH} : exF ev cX1_deep 12 ([v0, v1, v2, v3], []) (.int y :: .int x :: st) h = exF ev cX1_deep 13 ([v0, v1, v2, v3], []) (.int (x <<< (y &&& 31)) :: st) h := exF_j (i := (i_ii (fun x y => x <<< (y &&& 31)) 13)) rfl rfl
theorem eX1_deep_13 {ev : xV} {v0 v1 v2 v3 : Option Value} {x : Int32} {st : List Value} {h : xH} : exF ev cX1_deep 13 ([v0, v1, v2, v3], []) (.int x :: st) h = exF ev cX1_deep 14 ([v0, v1, some (.int x), v3], []) st h := exF_j (i := (i_istore 2 14)) rfl rfl
theorem eX1_deep_14 {ev : xV} {v0 v1 v2 v3 : Option Value} {st : List Value} {h : xH} : exF ev cX1_deep 14 ([v0, v1, v2, v3], []) st h = exF ev cX1_deep 15 ([v0, v1, v2, v3], []) (.int (nI 0) :: st) h := exF_j (i := (i_const (.int (nI 0)) 15)) rfl rfl
theorem eX1_deep_15 {ev : xV} {v0 v1 v2 v3 : Option Value} {x : Int32} {st : List Value} {h : xH} : exF ev cX1_deep 15 ([v0, v1, v2, v3], []) (.int x :: st) h = exF ev cX1_deep 16 ([v0, v1, v2, some (.int x)], []) st h := exF_j (i := (i_istore 3 16)) rfl rfl
theorem eX1_deep_16 {ev : xV} {v1 v2 v3 : Option Value} {x : Nat} {st : List Value} {h : xH} : exF ev cX1_deep 16 ([some (.ref x), v1, v2, v3], []) st h = exF ev cX1_deep 17 ([some (.ref x), v1, v2, v3], []) (.ref x :: st) h := exF_j (i := (i_aload 0 17)) rfl rfl
theorem eX1_deep_17 {ev : xV} {v0 v1 v3 : Option Value} {x : Int32} {st : List Value} {h : xH} : exF ev cX1_deep 17 ([v0, v1, some (.int x), v3], []) st h = exF ev cX1_deep 18 ([v0, v1, some (.int x), v3], []) (.int x :: st) h := exF_j (i := (i_iload 2 18)) rfl rfl
theorem eX1_deep_18 {ev : xV} {v1 v2 v3 : Option Value} {x : Nat} {st : List Value} {h : xH} : exF ev cX1_deep 18 ([some (.ref x), v1, v2, v3], []) st h = exF ev cX1_deep 19 ([some (.ref x), v1, v2, v3], []) (.ref x :: st) h := exF_j (i := (i_aload 0 19)) rfl rfl
theorem eX1_deep_19 {ev : xV} {v1 v2 v3 : Option Value} {x : Nat} {st : List Value} {h : xH} : exF ev cX1_deep 19 ([some (.ref x), v1, v2, v3], []) st h = exF ev cX1_deep 20 ([some (.ref x), v1, v2, v3], []) (.ref x :: st) h := exF_j (i := (i_aload 0 20)) rfl rfl
theorem eX1_deep_20 {ev : xV} {v0 v1 v2 v3 : Option Value} {a : Nat} {st : List Value} {h : xH} : exF ev cX1_deep 20 ([v0, v1, v2, v3], []) (.ref a :: st) h = xO (xgf h a 0 4) (fun v => exF ev cX1_deep 23 ([v0, v1, v2, v3], []) (v :: st) h) := exF_o (i := (i_getf 0 4 23)) rfl rfl
theorem eX1_deep_23 {ev : xV} {v0 v1 v2 v3 : Option Value} {a0 : Value} {r0 : Value} {r1 : Value} {a : Nat} {h : xH} : exF ev cX1_deep 23 ([v0, v1, v2, v3], []) [a0, .ref a, r0, r1] h = xO (xck h a 0) (fun _ => xB (ev 121 [.ref a, a0] h) (fun v h => exF ev cX1_deep 26 ([v0, v1, v2, v3], []) [v, r0, r1] h)) := exF_cd (i := (i_cv 0 121 1 26)) rfl rfl
theorem eX1_deep_26 {ev : xV} {v0 v1 v2 v3 : Option Value} {a0 : Value} {a1 : Value} {a : Nat} {h : xH} : exF ev cX1_deep 26 ([v0, v1, v2, v3], []) [a1, a0, .ref a] h = xO (xck h a 0) (fun _ => xB (ev 123 [.ref a, a0, a1] h) (fun v h => exF ev cX1_deep 29 ([v0, v1, v2, v3], []) [v] h)) := exF_cd (i := (i_cv 0 123 2 29)) rfl rfl
theorem eX1_deep_29 {ev : xV} {v0 v1 v3 : Option Value} {x : Int32} {st : List Value} {h : xH} : exF ev cX1_deep 29 ([v0, v1, some (.int x), v3], []) st h = exF ev cX1_deep 30 ([v0, v1, some (.int x), v3], []) (.int x :: st) h := exF_j (i := (i_iload 2 30)) rfl rfl
theorem eX1_deep_30 {ev : xV} {v0 v1 v2 v3 : Option Value} {x y : Int32} {st : List Value} {h : xH} : exF ev cX1_deep 30 ([v0, v1, v2, v3], []) (.int y :: .int x :: st) h = if x = y then exF ev cX1_deep 53 ([v0, v1, v2, v3], []) st h else exF ev cX1_deep 33 ([v0, v1, v2, v3], []) st h := exF_b (i := (i_if2 (fun x y => x = y) 53 33)) rfl rfl
theorem eX1_deep_33 {ev : xV} {v1 v2 v3 : Option Value} {x : Nat} {st : List Value} {h : xH} : exF ev cX1_deep 33 ([some (.ref x), v1, v2, v3], []) st h = exF ev cX1_deep 34 ([some (.ref x), v1, v2, v3], []) (.ref x :: st) h := exF_j (i := (i_aload 0 34)) rfl rfl
theorem eX1_deep_34 {ev : xV} {v0 v1 v3 : Option Value} {x : Int32} {st : List Value} {h : xH} : exF ev cX1_deep 34 ([v0, v1, some (.int x), v3], []) st h = exF ev cX1_deep 35 ([v0, v1, some (.int x), v3], []) (.int x :: st) h := exF_j (i := (i_iload 2 35)) rfl rfl
theorem eX1_deep_35 {ev : xV} {v1 v2 v3 : Option Value} {x : Nat} {st : List Value} {h : xH} : exF ev cX1_deep 35 ([some (.ref x), v1, v2, v3], []) st h = exF ev cX1_deep 36 ([some (.ref x), v1, v2, v3], []) (.ref x :: st) h := exF_j (i := (i_aload 0 36)) rfl rfl
theorem eX1_deep_36 {ev : xV} {v1 v2 v3 : Option Value} {x : Nat} {st : List Value} {h : xH} : exF ev cX1_deep 36 ([some (.ref x), v1, v2, v3], []) st h = exF ev cX1_deep 37 ([some (.ref x), v1, v2, v3], []) (.ref x :: st) h := exF_j (i := (i_aload 0 37)) rfl rfl
theorem eX1_deep_37 {ev : xV} {v0 v1 v2 v3 : Option Value} {a : Nat} {st : List Value} {h : xH} : exF ev cX1_deep 37 ([v0, v1, v2, v3], []) (.ref a :: st) h = xO (xgf h a 0 4) (fun v => exF ev cX1_deep 40 ([v0, v1, v2, v3], []) (v :: st) h) := exF_o (i := (i_getf 0 4 40)) rfl rfl
theorem eX1_deep_40 {ev : xV} {v0 v1 v2 v3 : Option Value} {a0 : Value} {r0 : Value} {r1 : Value} {a : Nat} {h : xH} : exF ev cX1_deep 40 ([v0, v1, v2, v3], []) [a0, .ref a, r0, r1] h = xO (xck h a 0) (fun _ => xB (ev 121 [.ref a, a0] h) (fun v h => exF ev cX1_deep 43 ([v0, v1, v2, v3], []) [v, r0, r1] h)) := exF_cd (i := (i_cv 0 121 1 43)) rfl rfl
theorem eX1_deep_43 {ev : xV} {v0 v1 v2 v3 : Option Value} {a0 : Value} {a1 : Value} {a : Nat} {h : xH} : exF ev cX1_deep 43 ([v0, v1, v2, v3], []) [a1, a0, .ref a] h = xO (xck h a 0) (fun _ => xB (ev 123 [.ref a, a0, a1] h) (fun v h => exF ev cX1_deep 46 ([v0, v1, v2, v3], []) [v] h)) := exF_cd (i := (i_cv 0 123 2 46)) rfl rfl
theorem eX1_deep_46 {ev : xV} {v0 v1 v2 v3 : Option Value} {x : Int32} {st : List Value} {h : xH} : exF ev cX1_deep 46 ([v0, v1, v2, v3], []) (.int x :: st) h = exF ev cX1_deep 47 ([v0, v1, some (.int x), v3], []) st h := exF_j (i := (i_istore 2 47)) rfl rfl
theorem eX1_deep_47 {ev : xV} {v0 v1 v2 : Option Value} {x : Int32} {st : List Value} {h : xH} : exF ev cX1_deep 47 ([v0, v1, v2, some (.int x)], []) st h = exF ev cX1_deep 50 ([v0, v1, v2, some (.int (x + (nI 1)))], []) st h := exF_j (i := (i_iinc 3 (nI 1) 50)) rfl rfl
theorem eX1_deep_50 {ev : xV} {v0 v1 v2 v3 : Option Value} {st : List Value} {h : xH} : exF ev cX1_deep 50 ([v0, v1, v2, v3], []) st h = exF ev cX1_deep 16 ([v0, v1, v2, v3], []) st h := exF_j (i := (i_goto 16)) rfl rfl
theorem eX1_deep_53 {ev : xV} {v0 v1 v2 : Option Value} {x : Int32} {st : List Value} {h : xH} : exF ev cX1_deep 53 ([v0, v1, v2, some (.int x)], []) st h = exF ev cX1_deep 54 ([v0, v1, v2, some (.int x)], []) (.int x :: st) h := exF_j (i := (i_iload 3 54)) rfl rfl
theorem eX1_deep_54 {ev : xV} {v0 v1 v2 v3 : Option Value} {x : Int32} {h : xH} : exF ev cX1_deep 54 ([v0, v1, v2, v3], []) [.int x] h = some (.inl (some (.int x)), h) := exF_r (i := (i_iret)) rfl rfl
noncomputable def cX1_later : xC := [(0, i_aload 0 1),
  (1, i_iload 1 2),
  (2, i_cv 0 95 1 5),
  (5, i_if1 (fun x => x = 0) 18 8),
  (8, i_iload 2 9),
  (9, i_const (.int (nI 0)) 10),
  (10, i_const (.int (nI 60)) 12),
  (12, i_cs 92 3 15),
  (15, i_if1 (fun x => ¬ x = 0) 20 18),
  (18, i_const (.int (-1)) 19),
  (19, i_iret),
  (20, i_aload 0 21),
  (21, i_getf 0 5 24),
  (24, i_aload 0 25),
  (25, i_getf 0 4 28),
  (28, i_cvv 3 239 1 31),
  (31, i_aload 0 32),
  (32, i_iload 2 33),
  (33, i_cvv 0 131 1 36),
  (36, i_aload 0 37),
  (37, i_getf 0 5 40),
  (40, i_getf 3 0 43),
  (43, i_iload 1 44),
  (44, i_ai 0 45),
  (45, i_iret)]
theorem eX1_later_0 {ev : xV} {v1 v2 : Option Value} {x : Nat} {st : List Value} {h : xH} : exF ev cX1_later 0 ([some (.ref x), v1, v2], []) st h = exF ev cX1_later 1 ([some (.ref x), v1, v2], []) (.ref x :: st) h := exF_j (i := (i_aload 0 1)) rfl rfl
theorem eX1_later_1 {ev : xV} {v0 v2 : Option Value} {x : Int32} {st : List Value} {h : xH} : exF ev cX1_later 1 ([v0, some (.int x), v2], []) st h = exF ev cX1_later 2 ([v0, some (.int x), v2], []) (.int x :: st) h := exF_j (i := (i_iload 1 2)) rfl rfl
theorem eX1_later_2 {ev : xV} {v0 v1 v2 : Option Value} {a0 : Value} {a : Nat} {h : xH} : exF ev cX1_later 2 ([v0, v1, v2], []) [a0, .ref a] h = xO (xck h a 0) (fun _ => xB (ev 95 [.ref a, a0] h) (fun v h => exF ev cX1_later 5 ([v0, v1, v2], []) [v] h)) := exF_cd (i := (i_cv 0 95 1 5)) rfl rfl
theorem eX1_later_5 {ev : xV} {v0 v1 v2 : Option Value} {x : Int32} {st : List Value} {h : xH} : exF ev cX1_later 5 ([v0, v1, v2], []) (.int x :: st) h = if x = 0 then exF ev cX1_later 18 ([v0, v1, v2], []) st h else exF ev cX1_later 8 ([v0, v1, v2], []) st h := exF_b (i := (i_if1 (fun x => x = 0) 18 8)) rfl rfl
theorem eX1_later_8 {ev : xV} {v0 v1 : Option Value} {x : Int32} {st : List Value} {h : xH} : exF ev cX1_later 8 ([v0, v1, some (.int x)], []) st h = exF ev cX1_later 9 ([v0, v1, some (.int x)], []) (.int x :: st) h := exF_j (i := (i_iload 2 9)) rfl rfl
theorem eX1_later_9 {ev : xV} {v0 v1 v2 : Option Value} {st : List Value} {h : xH} : exF ev cX1_later 9 ([v0, v1, v2], []) st h = exF ev cX1_later 10 ([v0, v1, v2], []) (.int (nI 0) :: st) h := exF_j (i := (i_const (.int (nI 0)) 10)) rfl rfl
theorem eX1_later_10 {ev : xV} {v0 v1 v2 : Option Value} {st : List Value} {h : xH} : exF ev cX1_later 10 ([v0, v1, v2], []) st h = exF ev cX1_later 12 ([v0, v1, v2], []) (.int (nI 60) :: st) h := exF_j (i := (i_const (.int (nI 60)) 12)) rfl rfl
theorem eX1_later_12 {ev : xV} {v0 v1 v2 : Option Value} {a0 : Value} {a1 : Value} {a2 : Value} {h : xH} : exF ev cX1_later 12 ([v0, v1, v2], []) [a2, a1, a0] h = xB (ev 92 [a0, a1, a2] h) (fun v h => exF ev cX1_later 15 ([v0, v1, v2], []) [v] h) := exF_c (i := (i_cs 92 3 15)) rfl rfl
theorem eX1_later_15 {ev : xV} {v0 v1 v2 : Option Value} {x : Int32} {st : List Value} {h : xH} : exF ev cX1_later 15 ([v0, v1, v2], []) (.int x :: st) h = if ¬ x = 0 then exF ev cX1_later 20 ([v0, v1, v2], []) st h else exF ev cX1_later 18 ([v0, v1, v2], []) st h := exF_b (i := (i_if1 (fun x => ¬ x = 0) 20 18)) rfl rfl
theorem eX1_later_18 {ev : xV} {v0 v1 v2 : Option Value} {st : List Value} {h : xH} : exF ev cX1_later 18 ([v0, v1, v2], []) st h = exF ev cX1_later 19 ([v0, v1, v2], []) (.int (-1) :: st) h := exF_j (i := (i_const (.int (-1)) 19)) rfl rfl
theorem eX1_later_19 {ev : xV} {v0 v1 v2 : Option Value} {x : Int32} {h : xH} : exF ev cX1_later 19 ([v0, v1, v2], []) [.int x] h = some (.inl (some (.int x)), h) := exF_r (i := (i_iret)) rfl rfl
theorem eX1_later_20 {ev : xV} {v1 v2 : Option Value} {x : Nat} {st : List Value} {h : xH} : exF ev cX1_later 20 ([some (.ref x), v1, v2], []) st h = exF ev cX1_later 21 ([some (.ref x), v1, v2], []) (.ref x :: st) h := exF_j (i := (i_aload 0 21)) rfl rfl
theorem eX1_later_21 {ev : xV} {v0 v1 v2 : Option Value} {a : Nat} {st : List Value} {h : xH} : exF ev cX1_later 21 ([v0, v1, v2], []) (.ref a :: st) h = xO (xgf h a 0 5) (fun v => exF ev cX1_later 24 ([v0, v1, v2], []) (v :: st) h) := exF_o (i := (i_getf 0 5 24)) rfl rfl
theorem eX1_later_24 {ev : xV} {v1 v2 : Option Value} {x : Nat} {st : List Value} {h : xH} : exF ev cX1_later 24 ([some (.ref x), v1, v2], []) st h = exF ev cX1_later 25 ([some (.ref x), v1, v2], []) (.ref x :: st) h := exF_j (i := (i_aload 0 25)) rfl rfl
theorem eX1_later_25 {ev : xV} {v0 v1 v2 : Option Value} {a : Nat} {st : List Value} {h : xH} : exF ev cX1_later 25 ([v0, v1, v2], []) (.ref a :: st) h = xO (xgf h a 0 4) (fun v => exF ev cX1_later 28 ([v0, v1, v2], []) (v :: st) h) := exF_o (i := (i_getf 0 4 28)) rfl rfl
theorem eX1_later_28 {ev : xV} {v0 v1 v2 : Option Value} {a0 : Value} {a : Nat} {h : xH} : exF ev cX1_later 28 ([v0, v1, v2], []) [a0, .ref a] h = xO (xck h a 3) (fun _ => xBv (ev 239 [.ref a, a0] h) (fun h => exF ev cX1_later 31 ([v0, v1, v2], []) [] h)) := exF_cdv (i := (i_cvv 3 239 1 31)) rfl rfl
theorem eX1_later_31 {ev : xV} {v1 v2 : Option Value} {x : Nat} {st : List Value} {h : xH} : exF ev cX1_later 31 ([some (.ref x), v1, v2], []) st h = exF ev cX1_later 32 ([some (.ref x), v1, v2], []) (.ref x :: st) h := exF_j (i := (i_aload 0 32)) rfl rfl
theorem eX1_later_32 {ev : xV} {v0 v1 : Option Value} {x : Int32} {st : List Value} {h : xH} : exF ev cX1_later 32 ([v0, v1, some (.int x)], []) st h = exF ev cX1_later 33 ([v0, v1, some (.int x)], []) (.int x :: st) h := exF_j (i := (i_iload 2 33)) rfl rfl
theorem eX1_later_33 {ev : xV} {v0 v1 v2 : Option Value} {a0 : Value} {a : Nat} {h : xH} : exF ev cX1_later 33 ([v0, v1, v2], []) [a0, .ref a] h = xO (xck h a 0) (fun _ => xBv (ev 131 [.ref a, a0] h) (fun h => exF ev cX1_later 36 ([v0, v1, v2], []) [] h)) := exF_cdv (i := (i_cvv 0 131 1 36)) rfl rfl
theorem eX1_later_36 {ev : xV} {v1 v2 : Option Value} {x : Nat} {st : List Value} {h : xH} : exF ev cX1_later 36 ([some (.ref x), v1, v2], []) st h = exF ev cX1_later 37 ([some (.ref x), v1, v2], []) (.ref x :: st) h := exF_j (i := (i_aload 0 37)) rfl rfl
theorem eX1_later_37 {ev : xV} {v0 v1 v2 : Option Value} {a : Nat} {st : List Value} {h : xH} : exF ev cX1_later 37 ([v0, v1, v2], []) (.ref a :: st) h = xO (xgf h a 0 5) (fun v => exF ev cX1_later 40 ([v0, v1, v2], []) (v :: st) h) := exF_o (i := (i_getf 0 5 40)) rfl rfl
theorem eX1_later_40 {ev : xV} {v0 v1 v2 : Option Value} {a : Nat} {st : List Value} {h : xH} : exF ev cX1_later 40 ([v0, v1, v2], []) (.ref a :: st) h = xO (xgf h a 3 0) (fun v => exF ev cX1_later 43 ([v0, v1, v2], []) (v :: st) h) := exF_o (i := (i_getf 3 0 43)) rfl rfl
theorem eX1_later_43 {ev : xV} {v0 v2 : Option Value} {x : Int32} {st : List Value} {h : xH} : exF ev cX1_later 43 ([v0, some (.int x), v2], []) st h = exF ev cX1_later 44 ([v0, some (.int x), v2], []) (.int x :: st) h := exF_j (i := (i_iload 1 44)) rfl rfl
theorem eX1_later_44 {ev : xV} {v0 v1 v2 : Option Value} {i : Int32} {a : Nat} {st : List Value} {h : xH} : exF ev cX1_later 44 ([v0, v1, v2], []) (.int i :: .ref a :: st) h = xO (xai h 0 a i) (fun v => exF ev cX1_later 45 ([v0, v1, v2], []) (.int v :: st) h) := exF_o (i := (i_ai 0 45)) rfl rfl
theorem eX1_later_45 {ev : xV} {v0 v1 v2 : Option Value} {x : Int32} {h : xH} : exF ev cX1_later 45 ([v0, v1, v2], []) [.int x] h = some (.inl (some (.int x)), h) := exF_r (i := (i_iret)) rfl rfl
noncomputable def cX1_goesOn : xC := [(0, i_const (.int (nI 0)) 1),
  (1, i_istore 2 2),
  (2, i_iload 2 3),
  (3, i_iload 1 4),
  (4, i_if2 (fun x y => y ≤ x) 21 7),
  (7, i_aload 0 8),
  (8, i_aload 0 9),
  (9, i_getf 0 5 12),
  (12, i_cvv 0 104 1 15),
  (15, i_iinc 2 (nI 1) 18),
  (18, i_goto 2),
  (21, i_vret)]
theorem eX1_goesOn_0 {ev : xV} {v0 v1 v2 : Option Value} {st : List Value} {h : xH} : exF ev cX1_goesOn 0 ([v0, v1, v2], []) st h = exF ev cX1_goesOn 1 ([v0, v1, v2], []) (.int (nI 0) :: st) h := exF_j (i := (i_const (.int (nI 0)) 1)) rfl rfl
theorem eX1_goesOn_1 {ev : xV} {v0 v1 v2 : Option Value} {x : Int32} {st : List Value} {h : xH} : exF ev cX1_goesOn 1 ([v0, v1, v2], []) (.int x :: st) h = exF ev cX1_goesOn 2 ([v0, v1, some (.int x)], []) st h := exF_j (i := (i_istore 2 2)) rfl rfl
theorem eX1_goesOn_2 {ev : xV} {v0 v1 : Option Value} {x : Int32} {st : List Value} {h : xH} : exF ev cX1_goesOn 2 ([v0, v1, some (.int x)], []) st h = exF ev cX1_goesOn 3 ([v0, v1, some (.int x)], []) (.int x :: st) h := exF_j (i := (i_iload 2 3)) rfl rfl
theorem eX1_goesOn_3 {ev : xV} {v0 v2 : Option Value} {x : Int32} {st : List Value} {h : xH} : exF ev cX1_goesOn 3 ([v0, some (.int x), v2], []) st h = exF ev cX1_goesOn 4 ([v0, some (.int x), v2], []) (.int x :: st) h := exF_j (i := (i_iload 1 4)) rfl rfl
theorem eX1_goesOn_4 {ev : xV} {v0 v1 v2 : Option Value} {x y : Int32} {st : List Value} {h : xH} : exF ev cX1_goesOn 4 ([v0, v1, v2], []) (.int y :: .int x :: st) h = if y ≤ x then exF ev cX1_goesOn 21 ([v0, v1, v2], []) st h else exF ev cX1_goesOn 7 ([v0, v1, v2], []) st h := exF_b (i := (i_if2 (fun x y => y ≤ x) 21 7)) rfl rfl
theorem eX1_goesOn_7 {ev : xV} {v1 v2 : Option Value} {x : Nat} {st : List Value} {h : xH} : exF ev cX1_goesOn 7 ([some (.ref x), v1, v2], []) st h = exF ev cX1_goesOn 8 ([some (.ref x), v1, v2], []) (.ref x :: st) h := exF_j (i := (i_aload 0 8)) rfl rfl
theorem eX1_goesOn_8 {ev : xV} {v1 v2 : Option Value} {x : Nat} {st : List Value} {h : xH} : exF ev cX1_goesOn 8 ([some (.ref x), v1, v2], []) st h = exF ev cX1_goesOn 9 ([some (.ref x), v1, v2], []) (.ref x :: st) h := exF_j (i := (i_aload 0 9)) rfl rfl
theorem eX1_goesOn_9 {ev : xV} {v0 v1 v2 : Option Value} {a : Nat} {st : List Value} {h : xH} : exF ev cX1_goesOn 9 ([v0, v1, v2], []) (.ref a :: st) h = xO (xgf h a 0 5) (fun v => exF ev cX1_goesOn 12 ([v0, v1, v2], []) (v :: st) h) := exF_o (i := (i_getf 0 5 12)) rfl rfl
theorem eX1_goesOn_12 {ev : xV} {v0 v1 v2 : Option Value} {a0 : Value} {a : Nat} {h : xH} : exF ev cX1_goesOn 12 ([v0, v1, v2], []) [a0, .ref a] h = xO (xck h a 0) (fun _ => xBv (ev 104 [.ref a, a0] h) (fun h => exF ev cX1_goesOn 15 ([v0, v1, v2], []) [] h)) := exF_cdv (i := (i_cvv 0 104 1 15)) rfl rfl
theorem eX1_goesOn_15 {ev : xV} {v0 v1 : Option Value} {x : Int32} {st : List Value} {h : xH} : exF ev cX1_goesOn 15 ([v0, v1, some (.int x)], []) st h = exF ev cX1_goesOn 18 ([v0, v1, some (.int (x + (nI 1)))], []) st h := exF_j (i := (i_iinc 2 (nI 1) 18)) rfl rfl
theorem eX1_goesOn_18 {ev : xV} {v0 v1 v2 : Option Value} {st : List Value} {h : xH} : exF ev cX1_goesOn 18 ([v0, v1, v2], []) st h = exF ev cX1_goesOn 2 ([v0, v1, v2], []) st h := exF_j (i := (i_goto 2)) rfl rfl
theorem eX1_goesOn_21 {ev : xV} {v0 v1 v2 : Option Value} {h : xH} : exF ev cX1_goesOn 21 ([v0, v1, v2], []) [] h = some (.inl none, h) := exF_r (i := (i_vret)) rfl rfl
noncomputable def cX1_closes : xC := [(0, i_aload 0 1),
  (1, i_iload 1 2),
  (2, i_cv 0 95 1 5),
  (5, i_if1 (fun x => x = 0) 17 8),
  (8, i_aload 0 9),
  (9, i_iload 1 10),
  (10, i_const (.int (nI 1)) 11),
  (11, i_cv 0 133 2 14),
  (14, i_goto 18),
  (17, i_const (.int (-1)) 18),
  (18, i_iret)]
theorem eX1_closes_0 {ev : xV} {v1 : Option Value} {x : Nat} {st : List Value} {h : xH} : exF ev cX1_closes 0 ([some (.ref x), v1], []) st h = exF ev cX1_closes 1 ([some (.ref x), v1], []) (.ref x :: st) h := exF_j (i := (i_aload 0 1)) rfl rfl
theorem eX1_closes_1 {ev : xV} {v0 : Option Value} {x : Int32} {st : List Value} {h : xH} : exF ev cX1_closes 1 ([v0, some (.int x)], []) st h = exF ev cX1_closes 2 ([v0, some (.int x)], []) (.int x :: st) h := exF_j (i := (i_iload 1 2)) rfl rfl
theorem eX1_closes_2 {ev : xV} {v0 v1 : Option Value} {a0 : Value} {a : Nat} {h : xH} : exF ev cX1_closes 2 ([v0, v1], []) [a0, .ref a] h = xO (xck h a 0) (fun _ => xB (ev 95 [.ref a, a0] h) (fun v h => exF ev cX1_closes 5 ([v0, v1], []) [v] h)) := exF_cd (i := (i_cv 0 95 1 5)) rfl rfl
theorem eX1_closes_5 {ev : xV} {v0 v1 : Option Value} {x : Int32} {st : List Value} {h : xH} : exF ev cX1_closes 5 ([v0, v1], []) (.int x :: st) h = if x = 0 then exF ev cX1_closes 17 ([v0, v1], []) st h else exF ev cX1_closes 8 ([v0, v1], []) st h := exF_b (i := (i_if1 (fun x => x = 0) 17 8)) rfl rfl
theorem eX1_closes_8 {ev : xV} {v1 : Option Value} {x : Nat} {st : List Value} {h : xH} : exF ev cX1_closes 8 ([some (.ref x), v1], []) st h = exF ev cX1_closes 9 ([some (.ref x), v1], []) (.ref x :: st) h := exF_j (i := (i_aload 0 9)) rfl rfl
theorem eX1_closes_9 {ev : xV} {v0 : Option Value} {x : Int32} {st : List Value} {h : xH} : exF ev cX1_closes 9 ([v0, some (.int x)], []) st h = exF ev cX1_closes 10 ([v0, some (.int x)], []) (.int x :: st) h := exF_j (i := (i_iload 1 10)) rfl rfl
theorem eX1_closes_10 {ev : xV} {v0 v1 : Option Value} {st : List Value} {h : xH} : exF ev cX1_closes 10 ([v0, v1], []) st h = exF ev cX1_closes 11 ([v0, v1], []) (.int (nI 1) :: st) h := exF_j (i := (i_const (.int (nI 1)) 11)) rfl rfl
theorem eX1_closes_11 {ev : xV} {v0 v1 : Option Value} {a0 : Value} {a1 : Value} {a : Nat} {h : xH} : exF ev cX1_closes 11 ([v0, v1], []) [a1, a0, .ref a] h = xO (xck h a 0) (fun _ => xB (ev 133 [.ref a, a0, a1] h) (fun v h => exF ev cX1_closes 14 ([v0, v1], []) [v] h)) := exF_cd (i := (i_cv 0 133 2 14)) rfl rfl
theorem eX1_closes_14 {ev : xV} {v0 v1 : Option Value} {st : List Value} {h : xH} : exF ev cX1_closes 14 ([v0, v1], []) st h = exF ev cX1_closes 18 ([v0, v1], []) st h := exF_j (i := (i_goto 18)) rfl rfl
theorem eX1_closes_17 {ev : xV} {v0 v1 : Option Value} {st : List Value} {h : xH} : exF ev cX1_closes 17 ([v0, v1], []) st h = exF ev cX1_closes 18 ([v0, v1], []) (.int (-1) :: st) h := exF_j (i := (i_const (.int (-1)) 18)) rfl rfl
theorem eX1_closes_18 {ev : xV} {v0 v1 : Option Value} {x : Int32} {h : xH} : exF ev cX1_closes 18 ([v0, v1], []) [.int x] h = some (.inl (some (.int x)), h) := exF_r (i := (i_iret)) rfl rfl
noncomputable def cX1_comes : xC := [(0, i_aload 0 1),
  (1, i_getf 0 5 4),
  (4, i_aload 0 5),
  (5, i_getf 0 4 8),
  (8, i_cvv 3 239 1 11),
  (11, i_const (.int (nI 0)) 12),
  (12, i_istore 3 13),
  (13, i_iload 3 14),
  (14, i_const (.int (nI 60)) 16),
  (16, i_if2 (fun x y => y < x) 47 19),
  (19, i_aload 0 20),
  (20, i_getf 0 5 23),
  (23, i_iload 1 24),
  (24, i_cv 3 238 1 27),
  (27, i_iload 2 28),
  (28, i_if2 (fun x y => ¬ x = y) 33 31),
  (31, i_iload 3 32),
  (32, i_iret),
  (33, i_aload 0 34),
  (34, i_aload 0 35),
  (35, i_getf 0 5 38),
  (38, i_cvv 0 104 1 41),
  (41, i_iinc 3 (nI 1) 44),
  (44, i_goto 13),
  (47, i_const (.int (-1)) 48),
  (48, i_iret)]
theorem eX1_comes_0 {ev : xV} {v1 v2 v3 : Option Value} {x : Nat} {st : List Value} {h : xH} : exF ev cX1_comes 0 ([some (.ref x), v1, v2, v3], []) st h = exF ev cX1_comes 1 ([some (.ref x), v1, v2, v3], []) (.ref x :: st) h := exF_j (i := (i_aload 0 1)) rfl rfl
theorem eX1_comes_1 {ev : xV} {v0 v1 v2 v3 : Option Value} {a : Nat} {st : List Value} {h : xH} : exF ev cX1_comes 1 ([v0, v1, v2, v3], []) (.ref a :: st) h = xO (xgf h a 0 5) (fun v => exF ev cX1_comes 4 ([v0, v1, v2, v3], []) (v :: st) h) := exF_o (i := (i_getf 0 5 4)) rfl rfl
theorem eX1_comes_4 {ev : xV} {v1 v2 v3 : Option Value} {x : Nat} {st : List Value} {h : xH} : exF ev cX1_comes 4 ([some (.ref x), v1, v2, v3], []) st h = exF ev cX1_comes 5 ([some (.ref x), v1, v2, v3], []) (.ref x :: st) h := exF_j (i := (i_aload 0 5)) rfl rfl
theorem eX1_comes_5 {ev : xV} {v0 v1 v2 v3 : Option Value} {a : Nat} {st : List Value} {h : xH} : exF ev cX1_comes 5 ([v0, v1, v2, v3], []) (.ref a :: st) h = xO (xgf h a 0 4) (fun v => exF ev cX1_comes 8 ([v0, v1, v2, v3], []) (v :: st) h) := exF_o (i := (i_getf 0 4 8)) rfl rfl
theorem eX1_comes_8 {ev : xV} {v0 v1 v2 v3 : Option Value} {a0 : Value} {a : Nat} {h : xH} : exF ev cX1_comes 8 ([v0, v1, v2, v3], []) [a0, .ref a] h = xO (xck h a 3) (fun _ => xBv (ev 239 [.ref a, a0] h) (fun h => exF ev cX1_comes 11 ([v0, v1, v2, v3], []) [] h)) := exF_cdv (i := (i_cvv 3 239 1 11)) rfl rfl
theorem eX1_comes_11 {ev : xV} {v0 v1 v2 v3 : Option Value} {st : List Value} {h : xH} : exF ev cX1_comes 11 ([v0, v1, v2, v3], []) st h = exF ev cX1_comes 12 ([v0, v1, v2, v3], []) (.int (nI 0) :: st) h := exF_j (i := (i_const (.int (nI 0)) 12)) rfl rfl
theorem eX1_comes_12 {ev : xV} {v0 v1 v2 v3 : Option Value} {x : Int32} {st : List Value} {h : xH} : exF ev cX1_comes 12 ([v0, v1, v2, v3], []) (.int x :: st) h = exF ev cX1_comes 13 ([v0, v1, v2, some (.int x)], []) st h := exF_j (i := (i_istore 3 13)) rfl rfl
theorem eX1_comes_13 {ev : xV} {v0 v1 v2 : Option Value} {x : Int32} {st : List Value} {h : xH} : exF ev cX1_comes 13 ([v0, v1, v2, some (.int x)], []) st h = exF ev cX1_comes 14 ([v0, v1, v2, some (.int x)], []) (.int x :: st) h := exF_j (i := (i_iload 3 14)) rfl rfl
theorem eX1_comes_14 {ev : xV} {v0 v1 v2 v3 : Option Value} {st : List Value} {h : xH} : exF ev cX1_comes 14 ([v0, v1, v2, v3], []) st h = exF ev cX1_comes 16 ([v0, v1, v2, v3], []) (.int (nI 60) :: st) h := exF_j (i := (i_const (.int (nI 60)) 16)) rfl rfl
theorem eX1_comes_16 {ev : xV} {v0 v1 v2 v3 : Option Value} {x y : Int32} {st : List Value} {h : xH} : exF ev cX1_comes 16 ([v0, v1, v2, v3], []) (.int y :: .int x :: st) h = if y < x then exF ev cX1_comes 47 ([v0, v1, v2, v3], []) st h else exF ev cX1_comes 19 ([v0, v1, v2, v3], []) st h := exF_b (i := (i_if2 (fun x y => y < x) 47 19)) rfl rfl
theorem eX1_comes_19 {ev : xV} {v1 v2 v3 : Option Value} {x : Nat} {st : List Value} {h : xH} : exF ev cX1_comes 19 ([some (.ref x), v1, v2, v3], []) st h = exF ev cX1_comes 20 ([some (.ref x), v1, v2, v3], []) (.ref x :: st) h := exF_j (i := (i_aload 0 20)) rfl rfl
theorem eX1_comes_20 {ev : xV} {v0 v1 v2 v3 : Option Value} {a : Nat} {st : List Value} {h : xH} : exF ev cX1_comes 20 ([v0, v1, v2, v3], []) (.ref a :: st) h = xO (xgf h a 0 5) (fun v => exF ev cX1_comes 23 ([v0, v1, v2, v3], []) (v :: st) h) := exF_o (i := (i_getf 0 5 23)) rfl rfl
theorem eX1_comes_23 {ev : xV} {v0 v2 v3 : Option Value} {x : Int32} {st : List Value} {h : xH} : exF ev cX1_comes 23 ([v0, some (.int x), v2, v3], []) st h = exF ev cX1_comes 24 ([v0, some (.int x), v2, v3], []) (.int x :: st) h := exF_j (i := (i_iload 1 24)) rfl rfl
theorem eX1_comes_24 {ev : xV} {v0 v1 v2 v3 : Option Value} {a0 : Value} {a : Nat} {h : xH} : exF ev cX1_comes 24 ([v0, v1, v2, v3], []) [a0, .ref a] h = xO (xck h a 3) (fun _ => xB (ev 238 [.ref a, a0] h) (fun v h => exF ev cX1_comes 27 ([v0, v1, v2, v3], []) [v] h)) := exF_cd (i := (i_cv 3 238 1 27)) rfl rfl
theorem eX1_comes_27 {ev : xV} {v0 v1 v3 : Option Value} {x : Int32} {st : List Value} {h : xH} : exF ev cX1_comes 27 ([v0, v1, some (.int x), v3], []) st h = exF ev cX1_comes 28 ([v0, v1, some (.int x), v3], []) (.int x :: st) h := exF_j (i := (i_iload 2 28)) rfl rfl
theorem eX1_comes_28 {ev : xV} {v0 v1 v2 v3 : Option Value} {x y : Int32} {st : List Value} {h : xH} : exF ev cX1_comes 28 ([v0, v1, v2, v3], []) (.int y :: .int x :: st) h = if ¬ x = y then exF ev cX1_comes 33 ([v0, v1, v2, v3], []) st h else exF ev cX1_comes 31 ([v0, v1, v2, v3], []) st h := exF_b (i := (i_if2 (fun x y => ¬ x = y) 33 31)) rfl rfl
theorem eX1_comes_31 {ev : xV} {v0 v1 v2 : Option Value} {x : Int32} {st : List Value} {h : xH} : exF ev cX1_comes 31 ([v0, v1, v2, some (.int x)], []) st h = exF ev cX1_comes 32 ([v0, v1, v2, some (.int x)], []) (.int x :: st) h := exF_j (i := (i_iload 3 32)) rfl rfl
theorem eX1_comes_32 {ev : xV} {v0 v1 v2 v3 : Option Value} {x : Int32} {h : xH} : exF ev cX1_comes 32 ([v0, v1, v2, v3], []) [.int x] h = some (.inl (some (.int x)), h) := exF_r (i := (i_iret)) rfl rfl
theorem eX1_comes_33 {ev : xV} {v1 v2 v3 : Option Value} {x : Nat} {st : List Value} {h : xH} : exF ev cX1_comes 33 ([some (.ref x), v1, v2, v3], []) st h = exF ev cX1_comes 34 ([some (.ref x), v1, v2, v3], []) (.ref x :: st) h := exF_j (i := (i_aload 0 34)) rfl rfl
theorem eX1_comes_34 {ev : xV} {v1 v2 v3 : Option Value} {x : Nat} {st : List Value} {h : xH} : exF ev cX1_comes 34 ([some (.ref x), v1, v2, v3], []) st h = exF ev cX1_comes 35 ([some (.ref x), v1, v2, v3], []) (.ref x :: st) h := exF_j (i := (i_aload 0 35)) rfl rfl
theorem eX1_comes_35 {ev : xV} {v0 v1 v2 v3 : Option Value} {a : Nat} {st : List Value} {h : xH} : exF ev cX1_comes 35 ([v0, v1, v2, v3], []) (.ref a :: st) h = xO (xgf h a 0 5) (fun v => exF ev cX1_comes 38 ([v0, v1, v2, v3], []) (v :: st) h) := exF_o (i := (i_getf 0 5 38)) rfl rfl
theorem eX1_comes_38 {ev : xV} {v0 v1 v2 v3 : Option Value} {a0 : Value} {a : Nat} {h : xH} : exF ev cX1_comes 38 ([v0, v1, v2, v3], []) [a0, .ref a] h = xO (xck h a 0) (fun _ => xBv (ev 104 [.ref a, a0] h) (fun h => exF ev cX1_comes 41 ([v0, v1, v2, v3], []) [] h)) := exF_cdv (i := (i_cvv 0 104 1 41)) rfl rfl
theorem eX1_comes_41 {ev : xV} {v0 v1 v2 : Option Value} {x : Int32} {st : List Value} {h : xH} : exF ev cX1_comes 41 ([v0, v1, v2, some (.int x)], []) st h = exF ev cX1_comes 44 ([v0, v1, v2, some (.int (x + (nI 1)))], []) st h := exF_j (i := (i_iinc 3 (nI 1) 44)) rfl rfl
theorem eX1_comes_44 {ev : xV} {v0 v1 v2 v3 : Option Value} {st : List Value} {h : xH} : exF ev cX1_comes 44 ([v0, v1, v2, v3], []) st h = exF ev cX1_comes 13 ([v0, v1, v2, v3], []) st h := exF_j (i := (i_goto 13)) rfl rfl
theorem eX1_comes_47 {ev : xV} {v0 v1 v2 v3 : Option Value} {st : List Value} {h : xH} : exF ev cX1_comes 47 ([v0, v1, v2, v3], []) st h = exF ev cX1_comes 48 ([v0, v1, v2, v3], []) (.int (-1) :: st) h := exF_j (i := (i_const (.int (-1)) 48)) rfl rfl
theorem eX1_comes_48 {ev : xV} {v0 v1 v2 v3 : Option Value} {x : Int32} {h : xH} : exF ev cX1_comes 48 ([v0, v1, v2, v3], []) [.int x] h = some (.inl (some (.int x)), h) := exF_r (i := (i_iret)) rfl rfl
noncomputable def cX1_gives : xC := [(0, i_aload 0 1),
  (1, i_iload 1 2),
  (2, i_cv 0 95 1 5),
  (5, i_if1 (fun x => x = 0) 17 8),
  (8, i_aload 0 9),
  (9, i_iload 1 10),
  (10, i_const (.int (nI 0)) 11),
  (11, i_cv 0 133 2 14),
  (14, i_goto 18),
  (17, i_const (.int (-1)) 18),
  (18, i_iret)]
theorem eX1_gives_0 {ev : xV} {v1 : Option Value} {x : Nat} {st : List Value} {h : xH} : exF ev cX1_gives 0 ([some (.ref x), v1], []) st h = exF ev cX1_gives 1 ([some (.ref x), v1], []) (.ref x :: st) h := exF_j (i := (i_aload 0 1)) rfl rfl
theorem eX1_gives_1 {ev : xV} {v0 : Option Value} {x : Int32} {st : List Value} {h : xH} : exF ev cX1_gives 1 ([v0, some (.int x)], []) st h = exF ev cX1_gives 2 ([v0, some (.int x)], []) (.int x :: st) h := exF_j (i := (i_iload 1 2)) rfl rfl
theorem eX1_gives_2 {ev : xV} {v0 v1 : Option Value} {a0 : Value} {a : Nat} {h : xH} : exF ev cX1_gives 2 ([v0, v1], []) [a0, .ref a] h = xO (xck h a 0) (fun _ => xB (ev 95 [.ref a, a0] h) (fun v h => exF ev cX1_gives 5 ([v0, v1], []) [v] h)) := exF_cd (i := (i_cv 0 95 1 5)) rfl rfl
theorem eX1_gives_5 {ev : xV} {v0 v1 : Option Value} {x : Int32} {st : List Value} {h : xH} : exF ev cX1_gives 5 ([v0, v1], []) (.int x :: st) h = if x = 0 then exF ev cX1_gives 17 ([v0, v1], []) st h else exF ev cX1_gives 8 ([v0, v1], []) st h := exF_b (i := (i_if1 (fun x => x = 0) 17 8)) rfl rfl
theorem eX1_gives_8 {ev : xV} {v1 : Option Value} {x : Nat} {st : List Value} {h : xH} : exF ev cX1_gives 8 ([some (.ref x), v1], []) st h = exF ev cX1_gives 9 ([some (.ref x), v1], []) (.ref x :: st) h := exF_j (i := (i_aload 0 9)) rfl rfl
theorem eX1_gives_9 {ev : xV} {v0 : Option Value} {x : Int32} {st : List Value} {h : xH} : exF ev cX1_gives 9 ([v0, some (.int x)], []) st h = exF ev cX1_gives 10 ([v0, some (.int x)], []) (.int x :: st) h := exF_j (i := (i_iload 1 10)) rfl rfl
theorem eX1_gives_10 {ev : xV} {v0 v1 : Option Value} {st : List Value} {h : xH} : exF ev cX1_gives 10 ([v0, v1], []) st h = exF ev cX1_gives 11 ([v0, v1], []) (.int (nI 0) :: st) h := exF_j (i := (i_const (.int (nI 0)) 11)) rfl rfl
theorem eX1_gives_11 {ev : xV} {v0 v1 : Option Value} {a0 : Value} {a1 : Value} {a : Nat} {h : xH} : exF ev cX1_gives 11 ([v0, v1], []) [a1, a0, .ref a] h = xO (xck h a 0) (fun _ => xB (ev 133 [.ref a, a0, a1] h) (fun v h => exF ev cX1_gives 14 ([v0, v1], []) [v] h)) := exF_cd (i := (i_cv 0 133 2 14)) rfl rfl
theorem eX1_gives_14 {ev : xV} {v0 v1 : Option Value} {st : List Value} {h : xH} : exF ev cX1_gives 14 ([v0, v1], []) st h = exF ev cX1_gives 18 ([v0, v1], []) st h := exF_j (i := (i_goto 18)) rfl rfl
theorem eX1_gives_17 {ev : xV} {v0 v1 : Option Value} {st : List Value} {h : xH} : exF ev cX1_gives 17 ([v0, v1], []) st h = exF ev cX1_gives 18 ([v0, v1], []) (.int (-1) :: st) h := exF_j (i := (i_const (.int (-1)) 18)) rfl rfl
theorem eX1_gives_18 {ev : xV} {v0 v1 : Option Value} {x : Int32} {h : xH} : exF ev cX1_gives 18 ([v0, v1], []) [.int x] h = some (.inl (some (.int x)), h) := exF_r (i := (i_iret)) rfl rfl
noncomputable def cX1_calm : xC := [(0, i_aload 0 1),
  (1, i_getf 0 5 4),
  (4, i_aload 0 5),
  (5, i_getf 0 4 8),
  (8, i_cvv 3 239 1 11),
  (11, i_const (.int (nI 0)) 12),
  (12, i_istore 1 13),
  (13, i_iload 1 14),
  (14, i_const (.int (nI 60)) 16),
  (16, i_if2 (fun x y => y < x) 46 19),
  (19, i_aload 0 20),
  (20, i_aload 0 21),
  (21, i_getf 0 5 24),
  (24, i_cv 0 108 1 27),
  (27, i_if1 (fun x => ¬ x = 0) 32 30),
  (30, i_iload 1 31),
  (31, i_iret),
  (32, i_aload 0 33),
  (33, i_aload 0 34),
  (34, i_getf 0 5 37),
  (37, i_cvv 0 104 1 40),
  (40, i_iinc 1 (nI 1) 43),
  (43, i_goto 13),
  (46, i_const (.int (-1)) 47),
  (47, i_iret)]
theorem eX1_calm_0 {ev : xV} {v1 : Option Value} {x : Nat} {st : List Value} {h : xH} : exF ev cX1_calm 0 ([some (.ref x), v1], []) st h = exF ev cX1_calm 1 ([some (.ref x), v1], []) (.ref x :: st) h := exF_j (i := (i_aload 0 1)) rfl rfl
theorem eX1_calm_1 {ev : xV} {v0 v1 : Option Value} {a : Nat} {st : List Value} {h : xH} : exF ev cX1_calm 1 ([v0, v1], []) (.ref a :: st) h = xO (xgf h a 0 5) (fun v => exF ev cX1_calm 4 ([v0, v1], []) (v :: st) h) := exF_o (i := (i_getf 0 5 4)) rfl rfl
theorem eX1_calm_4 {ev : xV} {v1 : Option Value} {x : Nat} {st : List Value} {h : xH} : exF ev cX1_calm 4 ([some (.ref x), v1], []) st h = exF ev cX1_calm 5 ([some (.ref x), v1], []) (.ref x :: st) h := exF_j (i := (i_aload 0 5)) rfl rfl
theorem eX1_calm_5 {ev : xV} {v0 v1 : Option Value} {a : Nat} {st : List Value} {h : xH} : exF ev cX1_calm 5 ([v0, v1], []) (.ref a :: st) h = xO (xgf h a 0 4) (fun v => exF ev cX1_calm 8 ([v0, v1], []) (v :: st) h) := exF_o (i := (i_getf 0 4 8)) rfl rfl
theorem eX1_calm_8 {ev : xV} {v0 v1 : Option Value} {a0 : Value} {a : Nat} {h : xH} : exF ev cX1_calm 8 ([v0, v1], []) [a0, .ref a] h = xO (xck h a 3) (fun _ => xBv (ev 239 [.ref a, a0] h) (fun h => exF ev cX1_calm 11 ([v0, v1], []) [] h)) := exF_cdv (i := (i_cvv 3 239 1 11)) rfl rfl
theorem eX1_calm_11 {ev : xV} {v0 v1 : Option Value} {st : List Value} {h : xH} : exF ev cX1_calm 11 ([v0, v1], []) st h = exF ev cX1_calm 12 ([v0, v1], []) (.int (nI 0) :: st) h := exF_j (i := (i_const (.int (nI 0)) 12)) rfl rfl
theorem eX1_calm_12 {ev : xV} {v0 v1 : Option Value} {x : Int32} {st : List Value} {h : xH} : exF ev cX1_calm 12 ([v0, v1], []) (.int x :: st) h = exF ev cX1_calm 13 ([v0, some (.int x)], []) st h := exF_j (i := (i_istore 1 13)) rfl rfl
theorem eX1_calm_13 {ev : xV} {v0 : Option Value} {x : Int32} {st : List Value} {h : xH} : exF ev cX1_calm 13 ([v0, some (.int x)], []) st h = exF ev cX1_calm 14 ([v0, some (.int x)], []) (.int x :: st) h := exF_j (i := (i_iload 1 14)) rfl rfl
theorem eX1_calm_14 {ev : xV} {v0 v1 : Option Value} {st : List Value} {h : xH} : exF ev cX1_calm 14 ([v0, v1], []) st h = exF ev cX1_calm 16 ([v0, v1], []) (.int (nI 60) :: st) h := exF_j (i := (i_const (.int (nI 60)) 16)) rfl rfl
theorem eX1_calm_16 {ev : xV} {v0 v1 : Option Value} {x y : Int32} {st : List Value} {h : xH} : exF ev cX1_calm 16 ([v0, v1], []) (.int y :: .int x :: st) h = if y < x then exF ev cX1_calm 46 ([v0, v1], []) st h else exF ev cX1_calm 19 ([v0, v1], []) st h := exF_b (i := (i_if2 (fun x y => y < x) 46 19)) rfl rfl
theorem eX1_calm_19 {ev : xV} {v1 : Option Value} {x : Nat} {st : List Value} {h : xH} : exF ev cX1_calm 19 ([some (.ref x), v1], []) st h = exF ev cX1_calm 20 ([some (.ref x), v1], []) (.ref x :: st) h := exF_j (i := (i_aload 0 20)) rfl rfl
theorem eX1_calm_20 {ev : xV} {v1 : Option Value} {x : Nat} {st : List Value} {h : xH} : exF ev cX1_calm 20 ([some (.ref x), v1], []) st h = exF ev cX1_calm 21 ([some (.ref x), v1], []) (.ref x :: st) h := exF_j (i := (i_aload 0 21)) rfl rfl
theorem eX1_calm_21 {ev : xV} {v0 v1 : Option Value} {a : Nat} {st : List Value} {h : xH} : exF ev cX1_calm 21 ([v0, v1], []) (.ref a :: st) h = xO (xgf h a 0 5) (fun v => exF ev cX1_calm 24 ([v0, v1], []) (v :: st) h) := exF_o (i := (i_getf 0 5 24)) rfl rfl
theorem eX1_calm_24 {ev : xV} {v0 v1 : Option Value} {a0 : Value} {a : Nat} {h : xH} : exF ev cX1_calm 24 ([v0, v1], []) [a0, .ref a] h = xO (xck h a 0) (fun _ => xB (ev 108 [.ref a, a0] h) (fun v h => exF ev cX1_calm 27 ([v0, v1], []) [v] h)) := exF_cd (i := (i_cv 0 108 1 27)) rfl rfl
theorem eX1_calm_27 {ev : xV} {v0 v1 : Option Value} {x : Int32} {st : List Value} {h : xH} : exF ev cX1_calm 27 ([v0, v1], []) (.int x :: st) h = if ¬ x = 0 then exF ev cX1_calm 32 ([v0, v1], []) st h else exF ev cX1_calm 30 ([v0, v1], []) st h := exF_b (i := (i_if1 (fun x => ¬ x = 0) 32 30)) rfl rfl
theorem eX1_calm_30 {ev : xV} {v0 : Option Value} {x : Int32} {st : List Value} {h : xH} : exF ev cX1_calm 30 ([v0, some (.int x)], []) st h = exF ev cX1_calm 31 ([v0, some (.int x)], []) (.int x :: st) h := exF_j (i := (i_iload 1 31)) rfl rfl
theorem eX1_calm_31 {ev : xV} {v0 v1 : Option Value} {x : Int32} {h : xH} : exF ev cX1_calm 31 ([v0, v1], []) [.int x] h = some (.inl (some (.int x)), h) := exF_r (i := (i_iret)) rfl rfl
theorem eX1_calm_32 {ev : xV} {v1 : Option Value} {x : Nat} {st : List Value} {h : xH} : exF ev cX1_calm 32 ([some (.ref x), v1], []) st h = exF ev cX1_calm 33 ([some (.ref x), v1], []) (.ref x :: st) h := exF_j (i := (i_aload 0 33)) rfl rfl
theorem eX1_calm_33 {ev : xV} {v1 : Option Value} {x : Nat} {st : List Value} {h : xH} : exF ev cX1_calm 33 ([some (.ref x), v1], []) st h = exF ev cX1_calm 34 ([some (.ref x), v1], []) (.ref x :: st) h := exF_j (i := (i_aload 0 34)) rfl rfl
theorem eX1_calm_34 {ev : xV} {v0 v1 : Option Value} {a : Nat} {st : List Value} {h : xH} : exF ev cX1_calm 34 ([v0, v1], []) (.ref a :: st) h = xO (xgf h a 0 5) (fun v => exF ev cX1_calm 37 ([v0, v1], []) (v :: st) h) := exF_o (i := (i_getf 0 5 37)) rfl rfl
theorem eX1_calm_37 {ev : xV} {v0 v1 : Option Value} {a0 : Value} {a : Nat} {h : xH} : exF ev cX1_calm 37 ([v0, v1], []) [a0, .ref a] h = xO (xck h a 0) (fun _ => xBv (ev 104 [.ref a, a0] h) (fun h => exF ev cX1_calm 40 ([v0, v1], []) [] h)) := exF_cdv (i := (i_cvv 0 104 1 40)) rfl rfl
theorem eX1_calm_40 {ev : xV} {v0 : Option Value} {x : Int32} {st : List Value} {h : xH} : exF ev cX1_calm 40 ([v0, some (.int x)], []) st h = exF ev cX1_calm 43 ([v0, some (.int (x + (nI 1)))], []) st h := exF_j (i := (i_iinc 1 (nI 1) 43)) rfl rfl
theorem eX1_calm_43 {ev : xV} {v0 v1 : Option Value} {st : List Value} {h : xH} : exF ev cX1_calm 43 ([v0, v1], []) st h = exF ev cX1_calm 13 ([v0, v1], []) st h := exF_j (i := (i_goto 13)) rfl rfl
theorem eX1_calm_46 {ev : xV} {v0 v1 : Option Value} {st : List Value} {h : xH} : exF ev cX1_calm 46 ([v0, v1], []) st h = exF ev cX1_calm 47 ([v0, v1], []) (.int (-1) :: st) h := exF_j (i := (i_const (.int (-1)) 47)) rfl rfl
theorem eX1_calm_47 {ev : xV} {v0 v1 : Option Value} {x : Int32} {h : xH} : exF ev cX1_calm 47 ([v0, v1], []) [.int x] h = some (.inl (some (.int x)), h) := exF_r (i := (i_iret)) rfl rfl
noncomputable def cX1_hard : xC := [(0, i_const (.int (nI 0)) 1),
  (1, i_istore 1 2),
  (2, i_const (.int (-1)) 3),
  (3, i_istore 2 4),
  (4, i_aload 0 5),
  (5, i_getf 0 5 8),
  (8, i_aload 0 9),
  (9, i_getf 0 4 12),
  (12, i_cvv 3 239 1 15),
  (15, i_const (.int (nI 0)) 16),
  (16, i_istore 3 17),
  (17, i_iload 3 18),
  (18, i_const (.int (nI 60)) 20),
  (20, i_if2 (fun x y => y < x) 61 23),
  (23, i_aload 0 24),
  (24, i_aload 0 25),
  (25, i_getf 0 5 28),
  (28, i_cv 0 108 1 31),
  (31, i_cs 28 1 34),
  (34, i_istore 4 36),
  (36, i_iload 4 38),
  (38, i_iload 2 39),
  (39, i_if2 (fun x y => x ≤ y) 47 42),
  (42, i_iload 4 44),
  (44, i_istore 2 45),
  (45, i_iload 3 46),
  (46, i_istore 1 47),
  (47, i_aload 0 48),
  (48, i_aload 0 49),
  (49, i_getf 0 5 52),
  (52, i_cvv 0 104 1 55),
  (55, i_iinc 3 (nI 1) 58),
  (58, i_goto 17),
  (61, i_iload 1 62),
  (62, i_iret)]
theorem eX1_hard_0 {ev : xV} {v0 v1 v2 v3 v4 : Option Value} {st : List Value} {h : xH} : exF ev cX1_hard 0 ([v0, v1, v2, v3, v4], []) st h = exF ev cX1_hard 1 ([v0, v1, v2, v3, v4], []) (.int (nI 0) :: st) h := exF_j (i := (i_const (.int (nI 0)) 1)) rfl rfl
theorem eX1_hard_1 {ev : xV} {v0 v1 v2 v3 v4 : Option Value} {x : Int32} {st : List Value} {h : xH} : exF ev cX1_hard 1 ([v0, v1, v2, v3, v4], []) (.int x :: st) h = exF ev cX1_hard 2 ([v0, some (.int x), v2, v3, v4], []) st h := exF_j (i := (i_istore 1 2)) rfl rfl
theorem eX1_hard_2 {ev : xV} {v0 v1 v2 v3 v4 : Option Value} {st : List Value} {h : xH} : exF ev cX1_hard 2 ([v0, v1, v2, v3, v4], []) st h = exF ev cX1_hard 3 ([v0, v1, v2, v3, v4], []) (.int (-1) :: st) h := exF_j (i := (i_const (.int (-1)) 3)) rfl rfl
theorem eX1_hard_3 {ev : xV} {v0 v1 v2 v3 v4 : Option Value} {x : Int32} {st : List Value} {h : xH} : exF ev cX1_hard 3 ([v0, v1, v2, v3, v4], []) (.int x :: st) h = exF ev cX1_hard 4 ([v0, v1, some (.int x), v3, v4], []) st h := exF_j (i := (i_istore 2 4)) rfl rfl
theorem eX1_hard_4 {ev : xV} {v1 v2 v3 v4 : Option Value} {x : Nat} {st : List Value} {h : xH} : exF ev cX1_hard 4 ([some (.ref x), v1, v2, v3, v4], []) st h = exF ev cX1_hard 5 ([some (.ref x), v1, v2, v3, v4], []) (.ref x :: st) h := exF_j (i := (i_aload 0 5)) rfl rfl
theorem eX1_hard_5 {ev : xV} {v0 v1 v2 v3 v4 : Option Value} {a : Nat} {st : List Value} {h : xH} : exF ev cX1_hard 5 ([v0, v1, v2, v3, v4], []) (.ref a :: st) h = xO (xgf h a 0 5) (fun v => exF ev cX1_hard 8 ([v0, v1, v2, v3, v4], []) (v :: st) h) := exF_o (i := (i_getf 0 5 8)) rfl rfl
theorem eX1_hard_8 {ev : xV} {v1 v2 v3 v4 : Option Value} {x : Nat} {st : List Value} {h : xH} : exF ev cX1_hard 8 ([some (.ref x), v1, v2, v3, v4], []) st h = exF ev cX1_hard 9 ([some (.ref x), v1, v2, v3, v4], []) (.ref x :: st) h := exF_j (i := (i_aload 0 9)) rfl rfl
theorem eX1_hard_9 {ev : xV} {v0 v1 v2 v3 v4 : Option Value} {a : Nat} {st : List Value} {h : xH} : exF ev cX1_hard 9 ([v0, v1, v2, v3, v4], []) (.ref a :: st) h = xO (xgf h a 0 4) (fun v => exF ev cX1_hard 12 ([v0, v1, v2, v3, v4], []) (v :: st) h) := exF_o (i := (i_getf 0 4 12)) rfl rfl
theorem eX1_hard_12 {ev : xV} {v0 v1 v2 v3 v4 : Option Value} {a0 : Value} {a : Nat} {h : xH} : exF ev cX1_hard 12 ([v0, v1, v2, v3, v4], []) [a0, .ref a] h = xO (xck h a 3) (fun _ => xBv (ev 239 [.ref a, a0] h) (fun h => exF ev cX1_hard 15 ([v0, v1, v2, v3, v4], []) [] h)) := exF_cdv (i := (i_cvv 3 239 1 15)) rfl rfl
theorem eX1_hard_15 {ev : xV} {v0 v1 v2 v3 v4 : Option Value} {st : List Value} {h : xH} : exF ev cX1_hard 15 ([v0, v1, v2, v3, v4], []) st h = exF ev cX1_hard 16 ([v0, v1, v2, v3, v4], []) (.int (nI 0) :: st) h := exF_j (i := (i_const (.int (nI 0)) 16)) rfl rfl
theorem eX1_hard_16 {ev : xV} {v0 v1 v2 v3 v4 : Option Value} {x : Int32} {st : List Value} {h : xH} : exF ev cX1_hard 16 ([v0, v1, v2, v3, v4], []) (.int x :: st) h = exF ev cX1_hard 17 ([v0, v1, v2, some (.int x), v4], []) st h := exF_j (i := (i_istore 3 17)) rfl rfl
theorem eX1_hard_17 {ev : xV} {v0 v1 v2 v4 : Option Value} {x : Int32} {st : List Value} {h : xH} : exF ev cX1_hard 17 ([v0, v1, v2, some (.int x), v4], []) st h = exF ev cX1_hard 18 ([v0, v1, v2, some (.int x), v4], []) (.int x :: st) h := exF_j (i := (i_iload 3 18)) rfl rfl
theorem eX1_hard_18 {ev : xV} {v0 v1 v2 v3 v4 : Option Value} {st : List Value} {h : xH} : exF ev cX1_hard 18 ([v0, v1, v2, v3, v4], []) st h = exF ev cX1_hard 20 ([v0, v1, v2, v3, v4], []) (.int (nI 60) :: st) h := exF_j (i := (i_const (.int (nI 60)) 20)) rfl rfl
theorem eX1_hard_20 {ev : xV} {v0 v1 v2 v3 v4 : Option Value} {x y : Int32} {st : List Value} {h : xH} : exF ev cX1_hard 20 ([v0, v1, v2, v3, v4], []) (.int y :: .int x :: st) h = if y < x then exF ev cX1_hard 61 ([v0, v1, v2, v3, v4], []) st h else exF ev cX1_hard 23 ([v0, v1, v2, v3, v4], []) st h := exF_b (i := (i_if2 (fun x y => y < x) 61 23)) rfl rfl
theorem eX1_hard_23 {ev : xV} {v1 v2 v3 v4 : Option Value} {x : Nat} {st : List Value} {h : xH} : exF ev cX1_hard 23 ([some (.ref x), v1, v2, v3, v4], []) st h = exF ev cX1_hard 24 ([some (.ref x), v1, v2, v3, v4], []) (.ref x :: st) h := exF_j (i := (i_aload 0 24)) rfl rfl
theorem eX1_hard_24 {ev : xV} {v1 v2 v3 v4 : Option Value} {x : Nat} {st : List Value} {h : xH} : exF ev cX1_hard 24 ([some (.ref x), v1, v2, v3, v4], []) st h = exF ev cX1_hard 25 ([some (.ref x), v1, v2, v3, v4], []) (.ref x :: st) h := exF_j (i := (i_aload 0 25)) rfl rfl
theorem eX1_hard_25 {ev : xV} {v0 v1 v2 v3 v4 : Option Value} {a : Nat} {st : List Value} {h : xH} : exF ev cX1_hard 25 ([v0, v1, v2, v3, v4], []) (.ref a :: st) h = xO (xgf h a 0 5) (fun v => exF ev cX1_hard 28 ([v0, v1, v2, v3, v4], []) (v :: st) h) := exF_o (i := (i_getf 0 5 28)) rfl rfl
theorem eX1_hard_28 {ev : xV} {v0 v1 v2 v3 v4 : Option Value} {a0 : Value} {a : Nat} {h : xH} : exF ev cX1_hard 28 ([v0, v1, v2, v3, v4], []) [a0, .ref a] h = xO (xck h a 0) (fun _ => xB (ev 108 [.ref a, a0] h) (fun v h => exF ev cX1_hard 31 ([v0, v1, v2, v3, v4], []) [v] h)) := exF_cd (i := (i_cv 0 108 1 31)) rfl rfl
theorem eX1_hard_31 {ev : xV} {v0 v1 v2 v3 v4 : Option Value} {a0 : Value} {h : xH} : exF ev cX1_hard 31 ([v0, v1, v2, v3, v4], []) [a0] h = xB (ev 28 [a0] h) (fun v h => exF ev cX1_hard 34 ([v0, v1, v2, v3, v4], []) [v] h) := exF_c (i := (i_cs 28 1 34)) rfl rfl
theorem eX1_hard_34 {ev : xV} {v0 v1 v2 v3 v4 : Option Value} {x : Int32} {st : List Value} {h : xH} : exF ev cX1_hard 34 ([v0, v1, v2, v3, v4], []) (.int x :: st) h = exF ev cX1_hard 36 ([v0, v1, v2, v3, some (.int x)], []) st h := exF_j (i := (i_istore 4 36)) rfl rfl
theorem eX1_hard_36 {ev : xV} {v0 v1 v2 v3 : Option Value} {x : Int32} {st : List Value} {h : xH} : exF ev cX1_hard 36 ([v0, v1, v2, v3, some (.int x)], []) st h = exF ev cX1_hard 38 ([v0, v1, v2, v3, some (.int x)], []) (.int x :: st) h := exF_j (i := (i_iload 4 38)) rfl rfl
theorem eX1_hard_38 {ev : xV} {v0 v1 v3 v4 : Option Value} {x : Int32} {st : List Value} {h : xH} : exF ev cX1_hard 38 ([v0, v1, some (.int x), v3, v4], []) st h = exF ev cX1_hard 39 ([v0, v1, some (.int x), v3, v4], []) (.int x :: st) h := exF_j (i := (i_iload 2 39)) rfl rfl
theorem eX1_hard_39 {ev : xV} {v0 v1 v2 v3 v4 : Option Value} {x y : Int32} {st : List Value} {h : xH} : exF ev cX1_hard 39 ([v0, v1, v2, v3, v4], []) (.int y :: .int x :: st) h = if x ≤ y then exF ev cX1_hard 47 ([v0, v1, v2, v3, v4], []) st h else exF ev cX1_hard 42 ([v0, v1, v2, v3, v4], []) st h := exF_b (i := (i_if2 (fun x y => x ≤ y) 47 42)) rfl rfl
theorem eX1_hard_42 {ev : xV} {v0 v1 v2 v3 : Option Value} {x : Int32} {st : List Value} {h : xH} : exF ev cX1_hard 42 ([v0, v1, v2, v3, some (.int x)], []) st h = exF ev cX1_hard 44 ([v0, v1, v2, v3, some (.int x)], []) (.int x :: st) h := exF_j (i := (i_iload 4 44)) rfl rfl
theorem eX1_hard_44 {ev : xV} {v0 v1 v2 v3 v4 : Option Value} {x : Int32} {st : List Value} {h : xH} : exF ev cX1_hard 44 ([v0, v1, v2, v3, v4], []) (.int x :: st) h = exF ev cX1_hard 45 ([v0, v1, some (.int x), v3, v4], []) st h := exF_j (i := (i_istore 2 45)) rfl rfl
theorem eX1_hard_45 {ev : xV} {v0 v1 v2 v4 : Option Value} {x : Int32} {st : List Value} {h : xH} : exF ev cX1_hard 45 ([v0, v1, v2, some (.int x), v4], []) st h = exF ev cX1_hard 46 ([v0, v1, v2, some (.int x), v4], []) (.int x :: st) h := exF_j (i := (i_iload 3 46)) rfl rfl
theorem eX1_hard_46 {ev : xV} {v0 v1 v2 v3 v4 : Option Value} {x : Int32} {st : List Value} {h : xH} : exF ev cX1_hard 46 ([v0, v1, v2, v3, v4], []) (.int x :: st) h = exF ev cX1_hard 47 ([v0, some (.int x), v2, v3, v4], []) st h := exF_j (i := (i_istore 1 47)) rfl rfl
theorem eX1_hard_47 {ev : xV} {v1 v2 v3 v4 : Option Value} {x : Nat} {st : List Value} {h : xH} : exF ev cX1_hard 47 ([some (.ref x), v1, v2, v3, v4], []) st h = exF ev cX1_hard 48 ([some (.ref x), v1, v2, v3, v4], []) (.ref x :: st) h := exF_j (i := (i_aload 0 48)) rfl rfl
theorem eX1_hard_48 {ev : xV} {v1 v2 v3 v4 : Option Value} {x : Nat} {st : List Value} {h : xH} : exF ev cX1_hard 48 ([some (.ref x), v1, v2, v3, v4], []) st h = exF ev cX1_hard 49 ([some (.ref x), v1, v2, v3, v4], []) (.ref x :: st) h := exF_j (i := (i_aload 0 49)) rfl rfl
theorem eX1_hard_49 {ev : xV} {v0 v1 v2 v3 v4 : Option Value} {a : Nat} {st : List Value} {h : xH} : exF ev cX1_hard 49 ([v0, v1, v2, v3, v4], []) (.ref a :: st) h = xO (xgf h a 0 5) (fun v => exF ev cX1_hard 52 ([v0, v1, v2, v3, v4], []) (v :: st) h) := exF_o (i := (i_getf 0 5 52)) rfl rfl
theorem eX1_hard_52 {ev : xV} {v0 v1 v2 v3 v4 : Option Value} {a0 : Value} {a : Nat} {h : xH} : exF ev cX1_hard 52 ([v0, v1, v2, v3, v4], []) [a0, .ref a] h = xO (xck h a 0) (fun _ => xBv (ev 104 [.ref a, a0] h) (fun h => exF ev cX1_hard 55 ([v0, v1, v2, v3, v4], []) [] h)) := exF_cdv (i := (i_cvv 0 104 1 55)) rfl rfl
theorem eX1_hard_55 {ev : xV} {v0 v1 v2 v4 : Option Value} {x : Int32} {st : List Value} {h : xH} : exF ev cX1_hard 55 ([v0, v1, v2, some (.int x), v4], []) st h = exF ev cX1_hard 58 ([v0, v1, v2, some (.int (x + (nI 1))), v4], []) st h := exF_j (i := (i_iinc 3 (nI 1) 58)) rfl rfl
theorem eX1_hard_58 {ev : xV} {v0 v1 v2 v3 v4 : Option Value} {st : List Value} {h : xH} : exF ev cX1_hard 58 ([v0, v1, v2, v3, v4], []) st h = exF ev cX1_hard 17 ([v0, v1, v2, v3, v4], []) st h := exF_j (i := (i_goto 17)) rfl rfl
theorem eX1_hard_61 {ev : xV} {v0 v2 v3 v4 : Option Value} {x : Int32} {st : List Value} {h : xH} : exF ev cX1_hard 61 ([v0, some (.int x), v2, v3, v4], []) st h = exF ev cX1_hard 62 ([v0, some (.int x), v2, v3, v4], []) (.int x :: st) h := exF_j (i := (i_iload 1 62)) rfl rfl
theorem eX1_hard_62 {ev : xV} {v0 v1 v2 v3 v4 : Option Value} {x : Int32} {h : xH} : exF ev cX1_hard 62 ([v0, v1, v2, v3, v4], []) [.int x] h = some (.inl (some (.int x)), h) := exF_r (i := (i_iret)) rfl rfl
noncomputable def cX1_arrives : xC := [(0, i_aload 0 1),
  (1, i_iload 1 2),
  (2, i_cv 0 100 1 5),
  (5, i_if1 (fun x => x = 0) 33 8),
  (8, i_aload 0 9),
  (9, i_iload 2 10),
  (10, i_cv 0 119 1 13),
  (13, i_if1 (fun x => x = 0) 33 16),
  (16, i_aload 0 17),
  (17, i_aload 0 18),
  (18, i_getf 0 4 21),
  (21, i_getf 3 2 24),
  (24, i_iload 1 25),
  (25, i_ai 0 26),
  (26, i_iload 2 27),
  (27, i_cv 0 138 2 30),
  (30, i_goto 34),
  (33, i_const (.int (-1)) 34),
  (34, i_iret)]
theorem eX1_arrives_0 {ev : xV} {v1 v2 : Option Value} {x : Nat} {st : List Value} {h : xH} : exF ev cX1_arrives 0 ([some (.ref x), v1, v2], []) st h = exF ev cX1_arrives 1 ([some (.ref x), v1, v2], []) (.ref x :: st) h := exF_j (i := (i_aload 0 1)) rfl rfl
theorem eX1_arrives_1 {ev : xV} {v0 v2 : Option Value} {x : Int32} {st : List Value} {h : xH} : exF ev cX1_arrives 1 ([v0, some (.int x), v2], []) st h = exF ev cX1_arrives 2 ([v0, some (.int x), v2], []) (.int x :: st) h := exF_j (i := (i_iload 1 2)) rfl rfl
theorem eX1_arrives_2 {ev : xV} {v0 v1 v2 : Option Value} {a0 : Value} {a : Nat} {h : xH} : exF ev cX1_arrives 2 ([v0, v1, v2], []) [a0, .ref a] h = xO (xck h a 0) (fun _ => xB (ev 100 [.ref a, a0] h) (fun v h => exF ev cX1_arrives 5 ([v0, v1, v2], []) [v] h)) := exF_cd (i := (i_cv 0 100 1 5)) rfl rfl
theorem eX1_arrives_5 {ev : xV} {v0 v1 v2 : Option Value} {x : Int32} {st : List Value} {h : xH} : exF ev cX1_arrives 5 ([v0, v1, v2], []) (.int x :: st) h = if x = 0 then exF ev cX1_arrives 33 ([v0, v1, v2], []) st h else exF ev cX1_arrives 8 ([v0, v1, v2], []) st h := exF_b (i := (i_if1 (fun x => x = 0) 33 8)) rfl rfl
theorem eX1_arrives_8 {ev : xV} {v1 v2 : Option Value} {x : Nat} {st : List Value} {h : xH} : exF ev cX1_arrives 8 ([some (.ref x), v1, v2], []) st h = exF ev cX1_arrives 9 ([some (.ref x), v1, v2], []) (.ref x :: st) h := exF_j (i := (i_aload 0 9)) rfl rfl
theorem eX1_arrives_9 {ev : xV} {v0 v1 : Option Value} {x : Int32} {st : List Value} {h : xH} : exF ev cX1_arrives 9 ([v0, v1, some (.int x)], []) st h = exF ev cX1_arrives 10 ([v0, v1, some (.int x)], []) (.int x :: st) h := exF_j (i := (i_iload 2 10)) rfl rfl
theorem eX1_arrives_10 {ev : xV} {v0 v1 v2 : Option Value} {a0 : Value} {a : Nat} {h : xH} : exF ev cX1_arrives 10 ([v0, v1, v2], []) [a0, .ref a] h = xO (xck h a 0) (fun _ => xB (ev 119 [.ref a, a0] h) (fun v h => exF ev cX1_arrives 13 ([v0, v1, v2], []) [v] h)) := exF_cd (i := (i_cv 0 119 1 13)) rfl rfl
theorem eX1_arrives_13 {ev : xV} {v0 v1 v2 : Option Value} {x : Int32} {st : List Value} {h : xH} : exF ev cX1_arrives 13 ([v0, v1, v2], []) (.int x :: st) h = if x = 0 then exF ev cX1_arrives 33 ([v0, v1, v2], []) st h else exF ev cX1_arrives 16 ([v0, v1, v2], []) st h := exF_b (i := (i_if1 (fun x => x = 0) 33 16)) rfl rfl
theorem eX1_arrives_16 {ev : xV} {v1 v2 : Option Value} {x : Nat} {st : List Value} {h : xH} : exF ev cX1_arrives 16 ([some (.ref x), v1, v2], []) st h = exF ev cX1_arrives 17 ([some (.ref x), v1, v2], []) (.ref x :: st) h := exF_j (i := (i_aload 0 17)) rfl rfl
theorem eX1_arrives_17 {ev : xV} {v1 v2 : Option Value} {x : Nat} {st : List Value} {h : xH} : exF ev cX1_arrives 17 ([some (.ref x), v1, v2], []) st h = exF ev cX1_arrives 18 ([some (.ref x), v1, v2], []) (.ref x :: st) h := exF_j (i := (i_aload 0 18)) rfl rfl
theorem eX1_arrives_18 {ev : xV} {v0 v1 v2 : Option Value} {a : Nat} {st : List Value} {h : xH} : exF ev cX1_arrives 18 ([v0, v1, v2], []) (.ref a :: st) h = xO (xgf h a 0 4) (fun v => exF ev cX1_arrives 21 ([v0, v1, v2], []) (v :: st) h) := exF_o (i := (i_getf 0 4 21)) rfl rfl
theorem eX1_arrives_21 {ev : xV} {v0 v1 v2 : Option Value} {a : Nat} {st : List Value} {h : xH} : exF ev cX1_arrives 21 ([v0, v1, v2], []) (.ref a :: st) h = xO (xgf h a 3 2) (fun v => exF ev cX1_arrives 24 ([v0, v1, v2], []) (v :: st) h) := exF_o (i := (i_getf 3 2 24)) rfl rfl
theorem eX1_arrives_24 {ev : xV} {v0 v2 : Option Value} {x : Int32} {st : List Value} {h : xH} : exF ev cX1_arrives 24 ([v0, some (.int x), v2], []) st h = exF ev cX1_arrives 25 ([v0, some (.int x), v2], []) (.int x :: st) h := exF_j (i := (i_iload 1 25)) rfl rfl
theorem eX1_arrives_25 {ev : xV} {v0 v1 v2 : Option Value} {i : Int32} {a : Nat} {st : List Value} {h : xH} : exF ev cX1_arrives 25 ([v0, v1, v2], []) (.int i :: .ref a :: st) h = xO (xai h 0 a i) (fun v => exF ev cX1_arrives 26 ([v0, v1, v2], []) (.int v :: st) h) := exF_o (i := (i_ai 0 26)) rfl rfl
theorem eX1_arrives_26 {ev : xV} {v0 v1 : Option Value} {x : Int32} {st : List Value} {h : xH} : exF ev cX1_arrives 26 ([v0, v1, some (.int x)], []) st h = exF ev cX1_arrives 27 ([v0, v1, some (.int x)], []) (.int x :: st) h := exF_j (i := (i_iload 2 27)) rfl rfl
theorem eX1_arrives_27 {ev : xV} {v0 v1 v2 : Option Value} {a0 : Value} {a1 : Value} {a : Nat} {h : xH} : exF ev cX1_arrives 27 ([v0, v1, v2], []) [a1, a0, .ref a] h = xO (xck h a 0) (fun _ => xB (ev 138 [.ref a, a0, a1] h) (fun v h => exF ev cX1_arrives 30 ([v0, v1, v2], []) [v] h)) := exF_cd (i := (i_cv 0 138 2 30)) rfl rfl
theorem eX1_arrives_30 {ev : xV} {v0 v1 v2 : Option Value} {st : List Value} {h : xH} : exF ev cX1_arrives 30 ([v0, v1, v2], []) st h = exF ev cX1_arrives 34 ([v0, v1, v2], []) st h := exF_j (i := (i_goto 34)) rfl rfl
theorem eX1_arrives_33 {ev : xV} {v0 v1 v2 : Option Value} {st : List Value} {h : xH} : exF ev cX1_arrives 33 ([v0, v1, v2], []) st h = exF ev cX1_arrives 34 ([v0, v1, v2], []) (.int (-1) :: st) h := exF_j (i := (i_const (.int (-1)) 34)) rfl rfl
theorem eX1_arrives_34 {ev : xV} {v0 v1 v2 : Option Value} {x : Int32} {h : xH} : exF ev cX1_arrives 34 ([v0, v1, v2], []) [.int x] h = some (.inl (some (.int x)), h) := exF_r (i := (i_iret)) rfl rfl
noncomputable def cX1_arrival : xC := [(0, i_aload 0 1),
  (1, i_getf 0 5 4),
  (4, i_aload 0 5),
  (5, i_getf 0 4 8),
  (8, i_cvv 3 239 1 11),
  (11, i_const (.int (nI 1)) 12),
  (12, i_iload 1 13),
  (13, i_ii (fun x y => x <<< (y &&& 31)) 14),
  (14, i_istore 3 15),
  (15, i_const (.int (nI 0)) 16),
  (16, i_istore 4 18),
  (18, i_iload 4 20),
  (20, i_const (.int (nI 40)) 22),
  (22, i_if2 (fun x y => y < x) 64 25),
  (25, i_iload 3 26),
  (26, i_iload 2 27),
  (27, i_cs 98 2 30),
  (30, i_if1 (fun x => x = 0) 36 33),
  (33, i_iload 4 35),
  (35, i_iret),
  (36, i_aload 0 37),
  (37, i_iload 3 38),
  (38, i_aload 0 39),
  (39, i_aload 0 40),
  (40, i_getf 0 5 43),
  (43, i_cv 0 121 1 46),
  (46, i_cv 0 123 2 49),
  (49, i_istore 3 50),
  (50, i_aload 0 51),
  (51, i_aload 0 52),
  (52, i_getf 0 5 55),
  (55, i_cvv 0 104 1 58),
  (58, i_iinc 4 (nI 1) 61),
  (61, i_goto 18),
  (64, i_const (.int (-1)) 65),
  (65, i_iret)]
theorem eX1_arrival_0 {ev : xV} {v1 v2 v3 v4 : Option Value} {x : Nat} {st : List Value} {h : xH} : exF ev cX1_arrival 0 ([some (.ref x), v1, v2, v3, v4], []) st h = exF ev cX1_arrival 1 ([some (.ref x), v1, v2, v3, v4], []) (.ref x :: st) h := exF_j (i := (i_aload 0 1)) rfl rfl
theorem eX1_arrival_1 {ev : xV} {v0 v1 v2 v3 v4 : Option Value} {a : Nat} {st : List Value} {h : xH} : exF ev cX1_arrival 1 ([v0, v1, v2, v3, v4], []) (.ref a :: st) h = xO (xgf h a 0 5) (fun v => exF ev cX1_arrival 4 ([v0, v1, v2, v3, v4], []) (v :: st) h) := exF_o (i := (i_getf 0 5 4)) rfl rfl
theorem eX1_arrival_4 {ev : xV} {v1 v2 v3 v4 : Option Value} {x : Nat} {st : List Value} {h : xH} : exF ev cX1_arrival 4 ([some (.ref x), v1, v2, v3, v4], []) st h = exF ev cX1_arrival 5 ([some (.ref x), v1, v2, v3, v4], []) (.ref x :: st) h := exF_j (i := (i_aload 0 5)) rfl rfl
theorem eX1_arrival_5 {ev : xV} {v0 v1 v2 v3 v4 : Option Value} {a : Nat} {st : List Value} {h : xH} : exF ev cX1_arrival 5 ([v0, v1, v2, v3, v4], []) (.ref a :: st) h = xO (xgf h a 0 4) (fun v => exF ev cX1_arrival 8 ([v0, v1, v2, v3, v4], []) (v :: st) h) := exF_o (i := (i_getf 0 4 8)) rfl rfl
theorem eX1_arrival_8 {ev : xV} {v0 v1 v2 v3 v4 : Option Value} {a0 : Value} {a : Nat} {h : xH} : exF ev cX1_arrival 8 ([v0, v1, v2, v3, v4], []) [a0, .ref a] h = xO (xck h a 3) (fun _ => xBv (ev 239 [.ref a, a0] h) (fun h => exF ev cX1_arrival 11 ([v0, v1, v2, v3, v4], []) [] h)) := exF_cdv (i := (i_cvv 3 239 1 11)) rfl rfl
theorem eX1_arrival_11 {ev : xV} {v0 v1 v2 v3 v4 : Option Value} {st : List Value} {h : xH} : exF ev cX1_arrival 11 ([v0, v1, v2, v3, v4], []) st h = exF ev cX1_arrival 12 ([v0, v1, v2, v3, v4], []) (.int (nI 1) :: st) h := exF_j (i := (i_const (.int (nI 1)) 12)) rfl rfl
theorem eX1_arrival_12 {ev : xV} {v0 v2 v3 v4 : Option Value} {x : Int32} {st : List Value} {h : xH} : exF ev cX1_arrival 12 ([v0, some (.int x), v2, v3, v4], []) st h = exF ev cX1_arrival 13 ([v0, some (.int x), v2, v3, v4], []) (.int x :: st) h := exF_j (i := (i_iload 1 13)) rfl rfl
theorem eX1_arrival_13 {ev : xV} {v0 v1 v2 v3 v4 : Option Value} {x y : Int32} {st : List Value} {h : xH} : exF ev cX1_arrival 13 ([v0, v1, v2, v3, v4], []) (.int y :: .int x :: st) h = exF ev cX1_arrival 14 ([v0, v1, v2, v3, v4], []) (.int (x <<< (y &&& 31)) :: st) h := exF_j (i := (i_ii (fun x y => x <<< (y &&& 31)) 14)) rfl rfl
theorem eX1_arrival_14 {ev : xV} {v0 v1 v2 v3 v4 : Option Value} {x : Int32} {st : List Value} {h : xH} : exF ev cX1_arrival 14 ([v0, v1, v2, v3, v4], []) (.int x :: st) h = exF ev cX1_arrival 15 ([v0, v1, v2, some (.int x), v4], []) st h := exF_j (i := (i_istore 3 15)) rfl rfl
theorem eX1_arrival_15 {ev : xV} {v0 v1 v2 v3 v4 : Option Value} {st : List Value} {h : xH} : exF ev cX1_arrival 15 ([v0, v1, v2, v3, v4], []) st h = exF ev cX1_arrival 16 ([v0, v1, v2, v3, v4], []) (.int (nI 0) :: st) h := exF_j (i := (i_const (.int (nI 0)) 16)) rfl rfl
theorem eX1_arrival_16 {ev : xV} {v0 v1 v2 v3 v4 : Option Value} {x : Int32} {st : List Value} {h : xH} : exF ev cX1_arrival 16 ([v0, v1, v2, v3, v4], []) (.int x :: st) h = exF ev cX1_arrival 18 ([v0, v1, v2, v3, some (.int x)], []) st h := exF_j (i := (i_istore 4 18)) rfl rfl
theorem eX1_arrival_18 {ev : xV} {v0 v1 v2 v3 : Option Value} {x : Int32} {st : List Value} {h : xH} : exF ev cX1_arrival 18 ([v0, v1, v2, v3, some (.int x)], []) st h = exF ev cX1_arrival 20 ([v0, v1, v2, v3, some (.int x)], []) (.int x :: st) h := exF_j (i := (i_iload 4 20)) rfl rfl
theorem eX1_arrival_20 {ev : xV} {v0 v1 v2 v3 v4 : Option Value} {st : List Value} {h : xH} : exF ev cX1_arrival 20 ([v0, v1, v2, v3, v4], []) st h = exF ev cX1_arrival 22 ([v0, v1, v2, v3, v4], []) (.int (nI 40) :: st) h := exF_j (i := (i_const (.int (nI 40)) 22)) rfl rfl
theorem eX1_arrival_22 {ev : xV} {v0 v1 v2 v3 v4 : Option Value} {x y : Int32} {st : List Value} {h : xH} : exF ev cX1_arrival 22 ([v0, v1, v2, v3, v4], []) (.int y :: .int x :: st) h = if y < x then exF ev cX1_arrival 64 ([v0, v1, v2, v3, v4], []) st h else exF ev cX1_arrival 25 ([v0, v1, v2, v3, v4], []) st h := exF_b (i := (i_if2 (fun x y => y < x) 64 25)) rfl rfl
theorem eX1_arrival_25 {ev : xV} {v0 v1 v2 v4 : Option Value} {x : Int32} {st : List Value} {h : xH} : exF ev cX1_arrival 25 ([v0, v1, v2, some (.int x), v4], []) st h = exF ev cX1_arrival 26 ([v0, v1, v2, some (.int x), v4], []) (.int x :: st) h := exF_j (i := (i_iload 3 26)) rfl rfl
theorem eX1_arrival_26 {ev : xV} {v0 v1 v3 v4 : Option Value} {x : Int32} {st : List Value} {h : xH} : exF ev cX1_arrival 26 ([v0, v1, some (.int x), v3, v4], []) st h = exF ev cX1_arrival 27 ([v0, v1, some (.int x), v3, v4], []) (.int x :: st) h := exF_j (i := (i_iload 2 27)) rfl rfl
theorem eX1_arrival_27 {ev : xV} {v0 v1 v2 v3 v4 : Option Value} {a0 : Value} {a1 : Value} {h : xH} : exF ev cX1_arrival 27 ([v0, v1, v2, v3, v4], []) [a1, a0] h = xB (ev 98 [a0, a1] h) (fun v h => exF ev cX1_arrival 30 ([v0, v1, v2, v3, v4], []) [v] h) := exF_c (i := (i_cs 98 2 30)) rfl rfl
theorem eX1_arrival_30 {ev : xV} {v0 v1 v2 v3 v4 : Option Value} {x : Int32} {st : List Value} {h : xH} : exF ev cX1_arrival 30 ([v0, v1, v2, v3, v4], []) (.int x :: st) h = if x = 0 then exF ev cX1_arrival 36 ([v0, v1, v2, v3, v4], []) st h else exF ev cX1_arrival 33 ([v0, v1, v2, v3, v4], []) st h := exF_b (i := (i_if1 (fun x => x = 0) 36 33)) rfl rfl
theorem eX1_arrival_33 {ev : xV} {v0 v1 v2 v3 : Option Value} {x : Int32} {st : List Value} {h : xH} : exF ev cX1_arrival 33 ([v0, v1, v2, v3, some (.int x)], []) st h = exF ev cX1_arrival 35 ([v0, v1, v2, v3, some (.int x)], []) (.int x :: st) h := exF_j (i := (i_iload 4 35)) rfl rfl
theorem eX1_arrival_35 {ev : xV} {v0 v1 v2 v3 v4 : Option Value} {x : Int32} {h : xH} : exF ev cX1_arrival 35 ([v0, v1, v2, v3, v4], []) [.int x] h = some (.inl (some (.int x)), h) := exF_r (i := (i_iret)) rfl rfl
theorem eX1_arrival_36 {ev : xV} {v1 v2 v3 v4 : Option Value} {x : Nat} {st : List Value} {h : xH} : exF ev cX1_arrival 36 ([some (.ref x), v1, v2, v3, v4], []) st h = exF ev cX1_arrival 37 ([some (.ref x), v1, v2, v3, v4], []) (.ref x :: st) h := exF_j (i := (i_aload 0 37)) rfl rfl
theorem eX1_arrival_37 {ev : xV} {v0 v1 v2 v4 : Option Value} {x : Int32} {st : List Value} {h : xH} : exF ev cX1_arrival 37 ([v0, v1, v2, some (.int x), v4], []) st h = exF ev cX1_arrival 38 ([v0, v1, v2, some (.int x), v4], []) (.int x :: st) h := exF_j (i := (i_iload 3 38)) rfl rfl
theorem eX1_arrival_38 {ev : xV} {v1 v2 v3 v4 : Option Value} {x : Nat} {st : List Value} {h : xH} : exF ev cX1_arrival 38 ([some (.ref x), v1, v2, v3, v4], []) st h = exF ev cX1_arrival 39 ([some (.ref x), v1, v2, v3, v4], []) (.ref x :: st) h := exF_j (i := (i_aload 0 39)) rfl rfl
theorem eX1_arrival_39 {ev : xV} {v1 v2 v3 v4 : Option Value} {x : Nat} {st : List Value} {h : xH} : exF ev cX1_arrival 39 ([some (.ref x), v1, v2, v3, v4], []) st h = exF ev cX1_arrival 40 ([some (.ref x), v1, v2, v3, v4], []) (.ref x :: st) h := exF_j (i := (i_aload 0 40)) rfl rfl
theorem eX1_arrival_40 {ev : xV} {v0 v1 v2 v3 v4 : Option Value} {a : Nat} {st : List Value} {h : xH} : exF ev cX1_arrival 40 ([v0, v1, v2, v3, v4], []) (.ref a :: st) h = xO (xgf h a 0 5) (fun v => exF ev cX1_arrival 43 ([v0, v1, v2, v3, v4], []) (v :: st) h) := exF_o (i := (i_getf 0 5 43)) rfl rfl
theorem eX1_arrival_43 {ev : xV} {v0 v1 v2 v3 v4 : Option Value} {a0 : Value} {r0 : Value} {r1 : Value} {a : Nat} {h : xH} : exF ev cX1_arrival 43 ([v0, v1, v2, v3, v4], []) [a0, .ref a, r0, r1] h = xO (xck h a 0) (fun _ => xB (ev 121 [.ref a, a0] h) (fun v h => exF ev cX1_arrival 46 ([v0, v1, v2, v3, v4], []) [v, r0, r1] h)) := exF_cd (i := (i_cv 0 121 1 46)) rfl rfl
theorem eX1_arrival_46 {ev : xV} {v0 v1 v2 v3 v4 : Option Value} {a0 : Value} {a1 : Value} {a : Nat} {h : xH} : exF ev cX1_arrival 46 ([v0, v1, v2, v3, v4], []) [a1, a0, .ref a] h = xO (xck h a 0) (fun _ => xB (ev 123 [.ref a, a0, a1] h) (fun v h => exF ev cX1_arrival 49 ([v0, v1, v2, v3, v4], []) [v] h)) := exF_cd (i := (i_cv 0 123 2 49)) rfl rfl
theorem eX1_arrival_49 {ev : xV} {v0 v1 v2 v3 v4 : Option Value} {x : Int32} {st : List Value} {h : xH} : exF ev cX1_arrival 49 ([v0, v1, v2, v3, v4], []) (.int x :: st) h = exF ev cX1_arrival 50 ([v0, v1, v2, some (.int x), v4], []) st h := exF_j (i := (i_istore 3 50)) rfl rfl
theorem eX1_arrival_50 {ev : xV} {v1 v2 v3 v4 : Option Value} {x : Nat} {st : List Value} {h : xH} : exF ev cX1_arrival 50 ([some (.ref x), v1, v2, v3, v4], []) st h = exF ev cX1_arrival 51 ([some (.ref x), v1, v2, v3, v4], []) (.ref x :: st) h := exF_j (i := (i_aload 0 51)) rfl rfl
theorem eX1_arrival_51 {ev : xV} {v1 v2 v3 v4 : Option Value} {x : Nat} {st : List Value} {h : xH} : exF ev cX1_arrival 51 ([some (.ref x), v1, v2, v3, v4], []) st h = exF ev cX1_arrival 52 ([some (.ref x), v1, v2, v3, v4], []) (.ref x :: st) h := exF_j (i := (i_aload 0 52)) rfl rfl
theorem eX1_arrival_52 {ev : xV} {v0 v1 v2 v3 v4 : Option Value} {a : Nat} {st : List Value} {h : xH} : exF ev cX1_arrival 52 ([v0, v1, v2, v3, v4], []) (.ref a :: st) h = xO (xgf h a 0 5) (fun v => exF ev cX1_arrival 55 ([v0, v1, v2, v3, v4], []) (v :: st) h) := exF_o (i := (i_getf 0 5 55)) rfl rfl
theorem eX1_arrival_55 {ev : xV} {v0 v1 v2 v3 v4 : Option Value} {a0 : Value} {a : Nat} {h : xH} : exF ev cX1_arrival 55 ([v0, v1, v2, v3, v4], []) [a0, .ref a] h = xO (xck h a 0) (fun _ => xBv (ev 104 [.ref a, a0] h) (fun h => exF ev cX1_arrival 58 ([v0, v1, v2, v3, v4], []) [] h)) := exF_cdv (i := (i_cvv 0 104 1 58)) rfl rfl
theorem eX1_arrival_58 {ev : xV} {v0 v1 v2 v3 : Option Value} {x : Int32} {st : List Value} {h : xH} : exF ev cX1_arrival 58 ([v0, v1, v2, v3, some (.int x)], []) st h = exF ev cX1_arrival 61 ([v0, v1, v2, v3, some (.int (x + (nI 1)))], []) st h := exF_j (i := (i_iinc 4 (nI 1) 61)) rfl rfl
theorem eX1_arrival_61 {ev : xV} {v0 v1 v2 v3 v4 : Option Value} {st : List Value} {h : xH} : exF ev cX1_arrival 61 ([v0, v1, v2, v3, v4], []) st h = exF ev cX1_arrival 18 ([v0, v1, v2, v3, v4], []) st h := exF_j (i := (i_goto 18)) rfl rfl
theorem eX1_arrival_64 {ev : xV} {v0 v1 v2 v3 v4 : Option Value} {st : List Value} {h : xH} : exF ev cX1_arrival 64 ([v0, v1, v2, v3, v4], []) st h = exF ev cX1_arrival 65 ([v0, v1, v2, v3, v4], []) (.int (-1) :: st) h := exF_j (i := (i_const (.int (-1)) 65)) rfl rfl
theorem eX1_arrival_65 {ev : xV} {v0 v1 v2 v3 v4 : Option Value} {x : Int32} {h : xH} : exF ev cX1_arrival 65 ([v0, v1, v2, v3, v4], []) [.int x] h = some (.inl (some (.int x)), h) := exF_r (i := (i_iret)) rfl rfl
noncomputable def cX1_from : xC := [(0, i_aload 0 1),
  (1, i_iload 1 2),
  (2, i_cv 0 119 1 5),
  (5, i_if1 (fun x => x = 0) 18 8),
  (8, i_iload 2 9),
  (9, i_const (.int (nI 0)) 10),
  (10, i_const (.int (nI 40)) 12),
  (12, i_cs 92 3 15),
  (15, i_if1 (fun x => ¬ x = 0) 20 18),
  (18, i_const (.int (-1)) 19),
  (19, i_iret),
  (20, i_const (.int (nI 0)) 21),
  (21, i_istore 3 22),
  (22, i_const (.int (nI 0)) 23),
  (23, i_istore 4 25),
  (25, i_iload 4 27),
  (27, i_aload 0 28),
  (28, i_cv 0 120 0 31),
  (31, i_if2 (fun x y => y ≤ x) 62 34),
  (34, i_aload 0 35),
  (35, i_iload 4 37),
  (37, i_iload 1 38),
  (38, i_cv 0 138 2 41),
  (41, i_const (.int (nI 0)) 42),
  (42, i_iload 2 43),
  (43, i_cs 92 3 46),
  (46, i_if1 (fun x => x = 0) 56 49),
  (49, i_iload 3 50),
  (50, i_const (.int (nI 1)) 51),
  (51, i_iload 4 53),
  (53, i_ii (fun x y => x <<< (y &&& 31)) 54),
  (54, i_ii (fun x y => x ||| y) 55),
  (55, i_istore 3 56),
  (56, i_iinc 4 (nI 1) 59),
  (59, i_goto 25),
  (62, i_iload 3 63),
  (63, i_iret)]
theorem eX1_from_0 {ev : xV} {v1 v2 v3 v4 : Option Value} {x : Nat} {st : List Value} {h : xH} : exF ev cX1_from 0 ([some (.ref x), v1, v2, v3, v4], []) st h = exF ev cX1_from 1 ([some (.ref x), v1, v2, v3, v4], []) (.ref x :: st) h := exF_j (i := (i_aload 0 1)) rfl rfl
theorem eX1_from_1 {ev : xV} {v0 v2 v3 v4 : Option Value} {x : Int32} {st : List Value} {h : xH} : exF ev cX1_from 1 ([v0, some (.int x), v2, v3, v4], []) st h = exF ev cX1_from 2 ([v0, some (.int x), v2, v3, v4], []) (.int x :: st) h := exF_j (i := (i_iload 1 2)) rfl rfl
theorem eX1_from_2 {ev : xV} {v0 v1 v2 v3 v4 : Option Value} {a0 : Value} {a : Nat} {h : xH} : exF ev cX1_from 2 ([v0, v1, v2, v3, v4], []) [a0, .ref a] h = xO (xck h a 0) (fun _ => xB (ev 119 [.ref a, a0] h) (fun v h => exF ev cX1_from 5 ([v0, v1, v2, v3, v4], []) [v] h)) := exF_cd (i := (i_cv 0 119 1 5)) rfl rfl
theorem eX1_from_5 {ev : xV} {v0 v1 v2 v3 v4 : Option Value} {x : Int32} {st : List Value} {h : xH} : exF ev cX1_from 5 ([v0, v1, v2, v3, v4], []) (.int x :: st) h = if x = 0 then exF ev cX1_from 18 ([v0, v1, v2, v3, v4], []) st h else exF ev cX1_from 8 ([v0, v1, v2, v3, v4], []) st h := exF_b (i := (i_if1 (fun x => x = 0) 18 8)) rfl rfl
theorem eX1_from_8 {ev : xV} {v0 v1 v3 v4 : Option Value} {x : Int32} {st : List Value} {h : xH} : exF ev cX1_from 8 ([v0, v1, some (.int x), v3, v4], []) st h = exF ev cX1_from 9 ([v0, v1, some (.int x), v3, v4], []) (.int x :: st) h := exF_j (i := (i_iload 2 9)) rfl rfl
theorem eX1_from_9 {ev : xV} {v0 v1 v2 v3 v4 : Option Value} {st : List Value} {h : xH} : exF ev cX1_from 9 ([v0, v1, v2, v3, v4], []) st h = exF ev cX1_from 10 ([v0, v1, v2, v3, v4], []) (.int (nI 0) :: st) h := exF_j (i := (i_const (.int (nI 0)) 10)) rfl rfl
theorem eX1_from_10 {ev : xV} {v0 v1 v2 v3 v4 : Option Value} {st : List Value} {h : xH} : exF ev cX1_from 10 ([v0, v1, v2, v3, v4], []) st h = exF ev cX1_from 12 ([v0, v1, v2, v3, v4], []) (.int (nI 40) :: st) h := exF_j (i := (i_const (.int (nI 40)) 12)) rfl rfl
theorem eX1_from_12 {ev : xV} {v0 v1 v2 v3 v4 : Option Value} {a0 : Value} {a1 : Value} {a2 : Value} {h : xH} : exF ev cX1_from 12 ([v0, v1, v2, v3, v4], []) [a2, a1, a0] h = xB (ev 92 [a0, a1, a2] h) (fun v h => exF ev cX1_from 15 ([v0, v1, v2, v3, v4], []) [v] h) := exF_c (i := (i_cs 92 3 15)) rfl rfl
theorem eX1_from_15 {ev : xV} {v0 v1 v2 v3 v4 : Option Value} {x : Int32} {st : List Value} {h : xH} : exF ev cX1_from 15 ([v0, v1, v2, v3, v4], []) (.int x :: st) h = if ¬ x = 0 then exF ev cX1_from 20 ([v0, v1, v2, v3, v4], []) st h else exF ev cX1_from 18 ([v0, v1, v2, v3, v4], []) st h := exF_b (i := (i_if1 (fun x => ¬ x = 0) 20 18)) rfl rfl
theorem eX1_from_18 {ev : xV} {v0 v1 v2 v3 v4 : Option Value} {st : List Value} {h : xH} : exF ev cX1_from 18 ([v0, v1, v2, v3, v4], []) st h = exF ev cX1_from 19 ([v0, v1, v2, v3, v4], []) (.int (-1) :: st) h := exF_j (i := (i_const (.int (-1)) 19)) rfl rfl
theorem eX1_from_19 {ev : xV} {v0 v1 v2 v3 v4 : Option Value} {x : Int32} {h : xH} : exF ev cX1_from 19 ([v0, v1, v2, v3, v4], []) [.int x] h = some (.inl (some (.int x)), h) := exF_r (i := (i_iret)) rfl rfl
theorem eX1_from_20 {ev : xV} {v0 v1 v2 v3 v4 : Option Value} {st : List Value} {h : xH} : exF ev cX1_from 20 ([v0, v1, v2, v3, v4], []) st h = exF ev cX1_from 21 ([v0, v1, v2, v3, v4], []) (.int (nI 0) :: st) h := exF_j (i := (i_const (.int (nI 0)) 21)) rfl rfl
theorem eX1_from_21 {ev : xV} {v0 v1 v2 v3 v4 : Option Value} {x : Int32} {st : List Value} {h : xH} : exF ev cX1_from 21 ([v0, v1, v2, v3, v4], []) (.int x :: st) h = exF ev cX1_from 22 ([v0, v1, v2, some (.int x), v4], []) st h := exF_j (i := (i_istore 3 22)) rfl rfl
theorem eX1_from_22 {ev : xV} {v0 v1 v2 v3 v4 : Option Value} {st : List Value} {h : xH} : exF ev cX1_from 22 ([v0, v1, v2, v3, v4], []) st h = exF ev cX1_from 23 ([v0, v1, v2, v3, v4], []) (.int (nI 0) :: st) h := exF_j (i := (i_const (.int (nI 0)) 23)) rfl rfl
theorem eX1_from_23 {ev : xV} {v0 v1 v2 v3 v4 : Option Value} {x : Int32} {st : List Value} {h : xH} : exF ev cX1_from 23 ([v0, v1, v2, v3, v4], []) (.int x :: st) h = exF ev cX1_from 25 ([v0, v1, v2, v3, some (.int x)], []) st h := exF_j (i := (i_istore 4 25)) rfl rfl
theorem eX1_from_25 {ev : xV} {v0 v1 v2 v3 : Option Value} {x : Int32} {st : List Value} {h : xH} : exF ev cX1_from 25 ([v0, v1, v2, v3, some (.int x)], []) st h = exF ev cX1_from 27 ([v0, v1, v2, v3, some (.int x)], []) (.int x :: st) h := exF_j (i := (i_iload 4 27)) rfl rfl
theorem eX1_from_27 {ev : xV} {v1 v2 v3 v4 : Option Value} {x : Nat} {st : List Value} {h : xH} : exF ev cX1_from 27 ([some (.ref x), v1, v2, v3, v4], []) st h = exF ev cX1_from 28 ([some (.ref x), v1, v2, v3, v4], []) (.ref x :: st) h := exF_j (i := (i_aload 0 28)) rfl rfl
theorem eX1_from_28 {ev : xV} {v0 v1 v2 v3 v4 : Option Value} {r0 : Value} {a : Nat} {h : xH} : exF ev cX1_from 28 ([v0, v1, v2, v3, v4], []) [.ref a, r0] h = xO (xck h a 0) (fun _ => xB (ev 120 [.ref a] h) (fun v h => exF ev cX1_from 31 ([v0, v1, v2, v3, v4], []) [v, r0] h)) := exF_cd (i := (i_cv 0 120 0 31)) rfl rfl
theorem eX1_from_31 {ev : xV} {v0 v1 v2 v3 v4 : Option Value} {x y : Int32} {st : List Value} {h : xH} : exF ev cX1_from 31 ([v0, v1, v2, v3, v4], []) (.int y :: .int x :: st) h = if y ≤ x then exF ev cX1_from 62 ([v0, v1, v2, v3, v4], []) st h else exF ev cX1_from 34 ([v0, v1, v2, v3, v4], []) st h := exF_b (i := (i_if2 (fun x y => y ≤ x) 62 34)) rfl rfl
theorem eX1_from_34 {ev : xV} {v1 v2 v3 v4 : Option Value} {x : Nat} {st : List Value} {h : xH} : exF ev cX1_from 34 ([some (.ref x), v1, v2, v3, v4], []) st h = exF ev cX1_from 35 ([some (.ref x), v1, v2, v3, v4], []) (.ref x :: st) h := exF_j (i := (i_aload 0 35)) rfl rfl
theorem eX1_from_35 {ev : xV} {v0 v1 v2 v3 : Option Value} {x : Int32} {st : List Value} {h : xH} : exF ev cX1_from 35 ([v0, v1, v2, v3, some (.int x)], []) st h = exF ev cX1_from 37 ([v0, v1, v2, v3, some (.int x)], []) (.int x :: st) h := exF_j (i := (i_iload 4 37)) rfl rfl
theorem eX1_from_37 {ev : xV} {v0 v2 v3 v4 : Option Value} {x : Int32} {st : List Value} {h : xH} : exF ev cX1_from 37 ([v0, some (.int x), v2, v3, v4], []) st h = exF ev cX1_from 38 ([v0, some (.int x), v2, v3, v4], []) (.int x :: st) h := exF_j (i := (i_iload 1 38)) rfl rfl
theorem eX1_from_38 {ev : xV} {v0 v1 v2 v3 v4 : Option Value} {a0 : Value} {a1 : Value} {a : Nat} {h : xH} : exF ev cX1_from 38 ([v0, v1, v2, v3, v4], []) [a1, a0, .ref a] h = xO (xck h a 0) (fun _ => xB (ev 138 [.ref a, a0, a1] h) (fun v h => exF ev cX1_from 41 ([v0, v1, v2, v3, v4], []) [v] h)) := exF_cd (i := (i_cv 0 138 2 41)) rfl rfl
theorem eX1_from_41 {ev : xV} {v0 v1 v2 v3 v4 : Option Value} {st : List Value} {h : xH} : exF ev cX1_from 41 ([v0, v1, v2, v3, v4], []) st h = exF ev cX1_from 42 ([v0, v1, v2, v3, v4], []) (.int (nI 0) :: st) h := exF_j (i := (i_const (.int (nI 0)) 42)) rfl rfl
theorem eX1_from_42 {ev : xV} {v0 v1 v3 v4 : Option Value} {x : Int32} {st : List Value} {h : xH} : exF ev cX1_from 42 ([v0, v1, some (.int x), v3, v4], []) st h = exF ev cX1_from 43 ([v0, v1, some (.int x), v3, v4], []) (.int x :: st) h := exF_j (i := (i_iload 2 43)) rfl rfl
theorem eX1_from_43 {ev : xV} {v0 v1 v2 v3 v4 : Option Value} {a0 : Value} {a1 : Value} {a2 : Value} {h : xH} : exF ev cX1_from 43 ([v0, v1, v2, v3, v4], []) [a2, a1, a0] h = xB (ev 92 [a0, a1, a2] h) (fun v h => exF ev cX1_from 46 ([v0, v1, v2, v3, v4], []) [v] h) := exF_c (i := (i_cs 92 3 46)) rfl rfl
theorem eX1_from_46 {ev : xV} {v0 v1 v2 v3 v4 : Option Value} {x : Int32} {st : List Value} {h : xH} : exF ev cX1_from 46 ([v0, v1, v2, v3, v4], []) (.int x :: st) h = if x = 0 then exF ev cX1_from 56 ([v0, v1, v2, v3, v4], []) st h else exF ev cX1_from 49 ([v0, v1, v2, v3, v4], []) st h := exF_b (i := (i_if1 (fun x => x = 0) 56 49)) rfl rfl
theorem eX1_from_49 {ev : xV} {v0 v1 v2 v4 : Option Value} {x : Int32} {st : List Value} {h : xH} : exF ev cX1_from 49 ([v0, v1, v2, some (.int x), v4], []) st h = exF ev cX1_from 50 ([v0, v1, v2, some (.int x), v4], []) (.int x :: st) h := exF_j (i := (i_iload 3 50)) rfl rfl
theorem eX1_from_50 {ev : xV} {v0 v1 v2 v3 v4 : Option Value} {st : List Value} {h : xH} : exF ev cX1_from 50 ([v0, v1, v2, v3, v4], []) st h = exF ev cX1_from 51 ([v0, v1, v2, v3, v4], []) (.int (nI 1) :: st) h := exF_j (i := (i_const (.int (nI 1)) 51)) rfl rfl
theorem eX1_from_51 {ev : xV} {v0 v1 v2 v3 : Option Value} {x : Int32} {st : List Value} {h : xH} : exF ev cX1_from 51 ([v0, v1, v2, v3, some (.int x)], []) st h = exF ev cX1_from 53 ([v0, v1, v2, v3, some (.int x)], []) (.int x :: st) h := exF_j (i := (i_iload 4 53)) rfl rfl
theorem eX1_from_53 {ev : xV} {v0 v1 v2 v3 v4 : Option Value} {x y : Int32} {st : List Value} {h : xH} : exF ev cX1_from 53 ([v0, v1, v2, v3, v4], []) (.int y :: .int x :: st) h = exF ev cX1_from 54 ([v0, v1, v2, v3, v4], []) (.int (x <<< (y &&& 31)) :: st) h := exF_j (i := (i_ii (fun x y => x <<< (y &&& 31)) 54)) rfl rfl
theorem eX1_from_54 {ev : xV} {v0 v1 v2 v3 v4 : Option Value} {x y : Int32} {st : List Value} {h : xH} : exF ev cX1_from 54 ([v0, v1, v2, v3, v4], []) (.int y :: .int x :: st) h = exF ev cX1_from 55 ([v0, v1, v2, v3, v4], []) (.int (x ||| y) :: st) h := exF_j (i := (i_ii (fun x y => x ||| y) 55)) rfl rfl
theorem eX1_from_55 {ev : xV} {v0 v1 v2 v3 v4 : Option Value} {x : Int32} {st : List Value} {h : xH} : exF ev cX1_from 55 ([v0, v1, v2, v3, v4], []) (.int x :: st) h = exF ev cX1_from 56 ([v0, v1, v2, some (.int x), v4], []) st h := exF_j (i := (i_istore 3 56)) rfl rfl
theorem eX1_from_56 {ev : xV} {v0 v1 v2 v3 : Option Value} {x : Int32} {st : List Value} {h : xH} : exF ev cX1_from 56 ([v0, v1, v2, v3, some (.int x)], []) st h = exF ev cX1_from 59 ([v0, v1, v2, v3, some (.int (x + (nI 1)))], []) st h := exF_j (i := (i_iinc 4 (nI 1) 59)) rfl rfl
theorem eX1_from_59 {ev : xV} {v0 v1 v2 v3 v4 : Option Value} {st : List Value} {h : xH} : exF ev cX1_from 59 ([v0, v1, v2, v3, v4], []) st h = exF ev cX1_from 25 ([v0, v1, v2, v3, v4], []) st h := exF_j (i := (i_goto 25)) rfl rfl
theorem eX1_from_62 {ev : xV} {v0 v1 v2 v4 : Option Value} {x : Int32} {st : List Value} {h : xH} : exF ev cX1_from 62 ([v0, v1, v2, some (.int x), v4], []) st h = exF ev cX1_from 63 ([v0, v1, v2, some (.int x), v4], []) (.int x :: st) h := exF_j (i := (i_iload 3 63)) rfl rfl
theorem eX1_from_63 {ev : xV} {v0 v1 v2 v3 v4 : Option Value} {x : Int32} {h : xH} : exF ev cX1_from 63 ([v0, v1, v2, v3, v4], []) [.int x] h = some (.inl (some (.int x)), h) := exF_r (i := (i_iret)) rfl rfl
noncomputable def cX1_both : xC := [(0, i_aload 0 1),
  (1, i_iload 1 2),
  (2, i_cv 0 100 1 5),
  (5, i_if1 (fun x => x = 0) 21 8),
  (8, i_aload 0 9),
  (9, i_iload 2 10),
  (10, i_cv 0 100 1 13),
  (13, i_if1 (fun x => x = 0) 21 16),
  (16, i_iload 1 17),
  (17, i_iload 2 18),
  (18, i_if2 (fun x y => ¬ x = y) 23 21),
  (21, i_const (.int (-1)) 22),
  (22, i_iret),
  (23, i_aload 0 24),
  (24, i_getf 0 5 27),
  (27, i_aload 0 28),
  (28, i_getf 0 4 31),
  (31, i_cvv 3 239 1 34),
  (34, i_const (.int (nI 1)) 35),
  (35, i_aload 0 36),
  (36, i_getf 0 4 39),
  (39, i_getf 3 2 42),
  (42, i_iload 1 43),
  (43, i_ai 0 44),
  (44, i_ii (fun x y => x <<< (y &&& 31)) 45),
  (45, i_istore 3 46),
  (46, i_const (.int (nI 1)) 47),
  (47, i_aload 0 48),
  (48, i_getf 0 4 51),
  (51, i_getf 3 2 54),
  (54, i_iload 2 55),
  (55, i_ai 0 56),
  (56, i_ii (fun x y => x <<< (y &&& 31)) 57),
  (57, i_istore 4 59),
  (59, i_const (.int (nI 0)) 60),
  (60, i_istore 5 62),
  (62, i_iload 5 64),
  (64, i_const (.int (nI 40)) 66),
  (66, i_if2 (fun x y => y < x) 123 69),
  (69, i_iload 3 70),
  (70, i_iload 4 72),
  (72, i_ii (fun x y => x &&& y) 73),
  (73, i_if1 (fun x => x = 0) 79 76),
  (76, i_iload 5 78),
  (78, i_iret),
  (79, i_aload 0 80),
  (80, i_iload 3 81),
  (81, i_aload 0 82),
  (82, i_aload 0 83),
  (83, i_getf 0 5 86),
  (86, i_cv 0 121 1 89),
  (89, i_cv 0 123 2 92),
  (92, i_istore 3 93),
  (93, i_aload 0 94),
  (94, i_iload 4 96),
  (96, i_aload 0 97),
  (97, i_aload 0 98),
  (98, i_getf 0 5 101),
  (101, i_cv 0 121 1 104),
  (104, i_cv 0 123 2 107),
  (107, i_istore 4 109),
  (109, i_aload 0 110),
  (110, i_aload 0 111),
  (111, i_getf 0 5 114),
  (114, i_cvv 0 104 1 117),
  (117, i_iinc 5 (nI 1) 120),
  (120, i_goto 62),
  (123, i_const (.int (-1)) 124),
  (124, i_iret)]
theorem eX1_both_0 {ev : xV} {v1 v2 v3 v4 v5 : Option Value} {x : Nat} {st : List Value} {h : xH} : exF ev cX1_both 0 ([some (.ref x), v1, v2, v3, v4, v5], []) st h = exF ev cX1_both 1 ([some (.ref x), v1, v2, v3, v4, v5], []) (.ref x :: st) h := exF_j (i := (i_aload 0 1)) rfl rfl
theorem eX1_both_1 {ev : xV} {v0 v2 v3 v4 v5 : Option Value} {x : Int32} {st : List Value} {h : xH} : exF ev cX1_both 1 ([v0, some (.int x), v2, v3, v4, v5], []) st h = exF ev cX1_both 2 ([v0, some (.int x), v2, v3, v4, v5], []) (.int x :: st) h := exF_j (i := (i_iload 1 2)) rfl rfl
theorem eX1_both_2 {ev : xV} {v0 v1 v2 v3 v4 v5 : Option Value} {a0 : Value} {a : Nat} {h : xH} : exF ev cX1_both 2 ([v0, v1, v2, v3, v4, v5], []) [a0, .ref a] h = xO (xck h a 0) (fun _ => xB (ev 100 [.ref a, a0] h) (fun v h => exF ev cX1_both 5 ([v0, v1, v2, v3, v4, v5], []) [v] h)) := exF_cd (i := (i_cv 0 100 1 5)) rfl rfl
theorem eX1_both_5 {ev : xV} {v0 v1 v2 v3 v4 v5 : Option Value} {x : Int32} {st : List Value} {h : xH} : exF ev cX1_both 5 ([v0, v1, v2, v3, v4, v5], []) (.int x :: st) h = if x = 0 then exF ev cX1_both 21 ([v0, v1, v2, v3, v4, v5], []) st h else exF ev cX1_both 8 ([v0, v1, v2, v3, v4, v5], []) st h := exF_b (i := (i_if1 (fun x => x = 0) 21 8)) rfl rfl
theorem eX1_both_8 {ev : xV} {v1 v2 v3 v4 v5 : Option Value} {x : Nat} {st : List Value} {h : xH} : exF ev cX1_both 8 ([some (.ref x), v1, v2, v3, v4, v5], []) st h = exF ev cX1_both 9 ([some (.ref x), v1, v2, v3, v4, v5], []) (.ref x :: st) h := exF_j (i := (i_aload 0 9)) rfl rfl
theorem eX1_both_9 {ev : xV} {v0 v1 v3 v4 v5 : Option Value} {x : Int32} {st : List Value} {h : xH} : exF ev cX1_both 9 ([v0, v1, some (.int x), v3, v4, v5], []) st h = exF ev cX1_both 10 ([v0, v1, some (.int x), v3, v4, v5], []) (.int x :: st) h := exF_j (i := (i_iload 2 10)) rfl rfl
theorem eX1_both_10 {ev : xV} {v0 v1 v2 v3 v4 v5 : Option Value} {a0 : Value} {a : Nat} {h : xH} : exF ev cX1_both 10 ([v0, v1, v2, v3, v4, v5], []) [a0, .ref a] h = xO (xck h a 0) (fun _ => xB (ev 100 [.ref a, a0] h) (fun v h => exF ev cX1_both 13 ([v0, v1, v2, v3, v4, v5], []) [v] h)) := exF_cd (i := (i_cv 0 100 1 13)) rfl rfl
theorem eX1_both_13 {ev : xV} {v0 v1 v2 v3 v4 v5 : Option Value} {x : Int32} {st : List Value} {h : xH} : exF ev cX1_both 13 ([v0, v1, v2, v3, v4, v5], []) (.int x :: st) h = if x = 0 then exF ev cX1_both 21 ([v0, v1, v2, v3, v4, v5], []) st h else exF ev cX1_both 16 ([v0, v1, v2, v3, v4, v5], []) st h := exF_b (i := (i_if1 (fun x => x = 0) 21 16)) rfl rfl
theorem eX1_both_16 {ev : xV} {v0 v2 v3 v4 v5 : Option Value} {x : Int32} {st : List Value} {h : xH} : exF ev cX1_both 16 ([v0, some (.int x), v2, v3, v4, v5], []) st h = exF ev cX1_both 17 ([v0, some (.int x), v2, v3, v4, v5], []) (.int x :: st) h := exF_j (i := (i_iload 1 17)) rfl rfl
theorem eX1_both_17 {ev : xV} {v0 v1 v3 v4 v5 : Option Value} {x : Int32} {st : List Value} {h : xH} : exF ev cX1_both 17 ([v0, v1, some (.int x), v3, v4, v5], []) st h = exF ev cX1_both 18 ([v0, v1, some (.int x), v3, v4, v5], []) (.int x :: st) h := exF_j (i := (i_iload 2 18)) rfl rfl
theorem eX1_both_18 {ev : xV} {v0 v1 v2 v3 v4 v5 : Option Value} {x y : Int32} {st : List Value} {h : xH} : exF ev cX1_both 18 ([v0, v1, v2, v3, v4, v5], []) (.int y :: .int x :: st) h = if ¬ x = y then exF ev cX1_both 23 ([v0, v1, v2, v3, v4, v5], []) st h else exF ev cX1_both 21 ([v0, v1, v2, v3, v4, v5], []) st h := exF_b (i := (i_if2 (fun x y => ¬ x = y) 23 21)) rfl rfl
theorem eX1_both_21 {ev : xV} {v0 v1 v2 v3 v4 v5 : Option Value} {st : List Value} {h : xH} : exF ev cX1_both 21 ([v0, v1, v2, v3, v4, v5], []) st h = exF ev cX1_both 22 ([v0, v1, v2, v3, v4, v5], []) (.int (-1) :: st) h := exF_j (i := (i_const (.int (-1)) 22)) rfl rfl
theorem eX1_both_22 {ev : xV} {v0 v1 v2 v3 v4 v5 : Option Value} {x : Int32} {h : xH} : exF ev cX1_both 22 ([v0, v1, v2, v3, v4, v5], []) [.int x] h = some (.inl (some (.int x)), h) := exF_r (i := (i_iret)) rfl rfl
theorem eX1_both_23 {ev : xV} {v1 v2 v3 v4 v5 : Option Value} {x : Nat} {st : List Value} {h : xH} : exF ev cX1_both 23 ([some (.ref x), v1, v2, v3, v4, v5], []) st h = exF ev cX1_both 24 ([some (.ref x), v1, v2, v3, v4, v5], []) (.ref x :: st) h := exF_j (i := (i_aload 0 24)) rfl rfl
theorem eX1_both_24 {ev : xV} {v0 v1 v2 v3 v4 v5 : Option Value} {a : Nat} {st : List Value} {h : xH} : exF ev cX1_both 24 ([v0, v1, v2, v3, v4, v5], []) (.ref a :: st) h = xO (xgf h a 0 5) (fun v => exF ev cX1_both 27 ([v0, v1, v2, v3, v4, v5], []) (v :: st) h) := exF_o (i := (i_getf 0 5 27)) rfl rfl
theorem eX1_both_27 {ev : xV} {v1 v2 v3 v4 v5 : Option Value} {x : Nat} {st : List Value} {h : xH} : exF ev cX1_both 27 ([some (.ref x), v1, v2, v3, v4, v5], []) st h = exF ev cX1_both 28 ([some (.ref x), v1, v2, v3, v4, v5], []) (.ref x :: st) h := exF_j (i := (i_aload 0 28)) rfl rfl
theorem eX1_both_28 {ev : xV} {v0 v1 v2 v3 v4 v5 : Option Value} {a : Nat} {st : List Value} {h : xH} : exF ev cX1_both 28 ([v0, v1, v2, v3, v4, v5], []) (.ref a :: st) h = xO (xgf h a 0 4) (fun v => exF ev cX1_both 31 ([v0, v1, v2, v3, v4, v5], []) (v :: st) h) := exF_o (i := (i_getf 0 4 31)) rfl rfl
theorem eX1_both_31 {ev : xV} {v0 v1 v2 v3 v4 v5 : Option Value} {a0 : Value} {a : Nat} {h : xH} : exF ev cX1_both 31 ([v0, v1, v2, v3, v4, v5], []) [a0, .ref a] h = xO (xck h a 3) (fun _ => xBv (ev 239 [.ref a, a0] h) (fun h => exF ev cX1_both 34 ([v0, v1, v2, v3, v4, v5], []) [] h)) := exF_cdv (i := (i_cvv 3 239 1 34)) rfl rfl
theorem eX1_both_34 {ev : xV} {v0 v1 v2 v3 v4 v5 : Option Value} {st : List Value} {h : xH} : exF ev cX1_both 34 ([v0, v1, v2, v3, v4, v5], []) st h = exF ev cX1_both 35 ([v0, v1, v2, v3, v4, v5], []) (.int (nI 1) :: st) h := exF_j (i := (i_const (.int (nI 1)) 35)) rfl rfl
theorem eX1_both_35 {ev : xV} {v1 v2 v3 v4 v5 : Option Value} {x : Nat} {st : List Value} {h : xH} : exF ev cX1_both 35 ([some (.ref x), v1, v2, v3, v4, v5], []) st h = exF ev cX1_both 36 ([some (.ref x), v1, v2, v3, v4, v5], []) (.ref x :: st) h := exF_j (i := (i_aload 0 36)) rfl rfl
theorem eX1_both_36 {ev : xV} {v0 v1 v2 v3 v4 v5 : Option Value} {a : Nat} {st : List Value} {h : xH} : exF ev cX1_both 36 ([v0, v1, v2, v3, v4, v5], []) (.ref a :: st) h = xO (xgf h a 0 4) (fun v => exF ev cX1_both 39 ([v0, v1, v2, v3, v4, v5], []) (v :: st) h) := exF_o (i := (i_getf 0 4 39)) rfl rfl
theorem eX1_both_39 {ev : xV} {v0 v1 v2 v3 v4 v5 : Option Value} {a : Nat} {st : List Value} {h : xH} : exF ev cX1_both 39 ([v0, v1, v2, v3, v4, v5], []) (.ref a :: st) h = xO (xgf h a 3 2) (fun v => exF ev cX1_both 42 ([v0, v1, v2, v3, v4, v5], []) (v :: st) h) := exF_o (i := (i_getf 3 2 42)) rfl rfl
theorem eX1_both_42 {ev : xV} {v0 v2 v3 v4 v5 : Option Value} {x : Int32} {st : List Value} {h : xH} : exF ev cX1_both 42 ([v0, some (.int x), v2, v3, v4, v5], []) st h = exF ev cX1_both 43 ([v0, some (.int x), v2, v3, v4, v5], []) (.int x :: st) h := exF_j (i := (i_iload 1 43)) rfl rfl
theorem eX1_both_43 {ev : xV} {v0 v1 v2 v3 v4 v5 : Option Value} {i : Int32} {a : Nat} {st : List Value} {h : xH} : exF ev cX1_both 43 ([v0, v1, v2, v3, v4, v5], []) (.int i :: .ref a :: st) h = xO (xai h 0 a i) (fun v => exF ev cX1_both 44 ([v0, v1, v2, v3, v4, v5], []) (.int v :: st) h) := exF_o (i := (i_ai 0 44)) rfl rfl
theorem eX1_both_44 {ev : xV} {v0 v1 v2 v3 v4 v5 : Option Value} {x y : Int32} {st : List Value} {h : xH} : exF ev cX1_both 44 ([v0, v1, v2, v3, v4, v5], []) (.int y :: .int x :: st) h = exF ev cX1_both 45 ([v0, v1, v2, v3, v4, v5], []) (.int (x <<< (y &&& 31)) :: st) h := exF_j (i := (i_ii (fun x y => x <<< (y &&& 31)) 45)) rfl rfl
theorem eX1_both_45 {ev : xV} {v0 v1 v2 v3 v4 v5 : Option Value} {x : Int32} {st : List Value} {h : xH} : exF ev cX1_both 45 ([v0, v1, v2, v3, v4, v5], []) (.int x :: st) h = exF ev cX1_both 46 ([v0, v1, v2, some (.int x), v4, v5], []) st h := exF_j (i := (i_istore 3 46)) rfl rfl
theorem eX1_both_46 {ev : xV} {v0 v1 v2 v3 v4 v5 : Option Value} {st : List Value} {h : xH} : exF ev cX1_both 46 ([v0, v1, v2, v3, v4, v5], []) st h = exF ev cX1_both 47 ([v0, v1, v2, v3, v4, v5], []) (.int (nI 1) :: st) h := exF_j (i := (i_const (.int (nI 1)) 47)) rfl rfl
theorem eX1_both_47 {ev : xV} {v1 v2 v3 v4 v5 : Option Value} {x : Nat} {st : List Value} {h : xH} : exF ev cX1_both 47 ([some (.ref x), v1, v2, v3, v4, v5], []) st h = exF ev cX1_both 48 ([some (.ref x), v1, v2, v3, v4, v5], []) (.ref x :: st) h := exF_j (i := (i_aload 0 48)) rfl rfl
theorem eX1_both_48 {ev : xV} {v0 v1 v2 v3 v4 v5 : Option Value} {a : Nat} {st : List Value} {h : xH} : exF ev cX1_both 48 ([v0, v1, v2, v3, v4, v5], []) (.ref a :: st) h = xO (xgf h a 0 4) (fun v => exF ev cX1_both 51 ([v0, v1, v2, v3, v4, v5], []) (v :: st) h) := exF_o (i := (i_getf 0 4 51)) rfl rfl
theorem eX1_both_51 {ev : xV} {v0 v1 v2 v3 v4 v5 : Option Value} {a : Nat} {st : List Value} {h : xH} : exF ev cX1_both 51 ([v0, v1, v2, v3, v4, v5], []) (.ref a :: st) h = xO (xgf h a 3 2) (fun v => exF ev cX1_both 54 ([v0, v1, v2, v3, v4, v5], []) (v :: st) h) := exF_o (i := (i_getf 3 2 54)) rfl rfl
theorem eX1_both_54 {ev : xV} {v0 v1 v3 v4 v5 : Option Value} {x : Int32} {st : List Value} {h : xH} : exF ev cX1_both 54 ([v0, v1, some (.int x), v3, v4, v5], []) st h = exF ev cX1_both 55 ([v0, v1, some (.int x), v3, v4, v5], []) (.int x :: st) h := exF_j (i := (i_iload 2 55)) rfl rfl
theorem eX1_both_55 {ev : xV} {v0 v1 v2 v3 v4 v5 : Option Value} {i : Int32} {a : Nat} {st : List Value} {h : xH} : exF ev cX1_both 55 ([v0, v1, v2, v3, v4, v5], []) (.int i :: .ref a :: st) h = xO (xai h 0 a i) (fun v => exF ev cX1_both 56 ([v0, v1, v2, v3, v4, v5], []) (.int v :: st) h) := exF_o (i := (i_ai 0 56)) rfl rfl
theorem eX1_both_56 {ev : xV} {v0 v1 v2 v3 v4 v5 : Option Value} {x y : Int32} {st : List Value} {h : xH} : exF ev cX1_both 56 ([v0, v1, v2, v3, v4, v5], []) (.int y :: .int x :: st) h = exF ev cX1_both 57 ([v0, v1, v2, v3, v4, v5], []) (.int (x <<< (y &&& 31)) :: st) h := exF_j (i := (i_ii (fun x y => x <<< (y &&& 31)) 57)) rfl rfl
theorem eX1_both_57 {ev : xV} {v0 v1 v2 v3 v4 v5 : Option Value} {x : Int32} {st : List Value} {h : xH} : exF ev cX1_both 57 ([v0, v1, v2, v3, v4, v5], []) (.int x :: st) h = exF ev cX1_both 59 ([v0, v1, v2, v3, some (.int x), v5], []) st h := exF_j (i := (i_istore 4 59)) rfl rfl
theorem eX1_both_59 {ev : xV} {v0 v1 v2 v3 v4 v5 : Option Value} {st : List Value} {h : xH} : exF ev cX1_both 59 ([v0, v1, v2, v3, v4, v5], []) st h = exF ev cX1_both 60 ([v0, v1, v2, v3, v4, v5], []) (.int (nI 0) :: st) h := exF_j (i := (i_const (.int (nI 0)) 60)) rfl rfl
theorem eX1_both_60 {ev : xV} {v0 v1 v2 v3 v4 v5 : Option Value} {x : Int32} {st : List Value} {h : xH} : exF ev cX1_both 60 ([v0, v1, v2, v3, v4, v5], []) (.int x :: st) h = exF ev cX1_both 62 ([v0, v1, v2, v3, v4, some (.int x)], []) st h := exF_j (i := (i_istore 5 62)) rfl rfl
theorem eX1_both_62 {ev : xV} {v0 v1 v2 v3 v4 : Option Value} {x : Int32} {st : List Value} {h : xH} : exF ev cX1_both 62 ([v0, v1, v2, v3, v4, some (.int x)], []) st h = exF ev cX1_both 64 ([v0, v1, v2, v3, v4, some (.int x)], []) (.int x :: st) h := exF_j (i := (i_iload 5 64)) rfl rfl
theorem eX1_both_64 {ev : xV} {v0 v1 v2 v3 v4 v5 : Option Value} {st : List Value} {h : xH} : exF ev cX1_both 64 ([v0, v1, v2, v3, v4, v5], []) st h = exF ev cX1_both 66 ([v0, v1, v2, v3, v4, v5], []) (.int (nI 40) :: st) h := exF_j (i := (i_const (.int (nI 40)) 66)) rfl rfl
theorem eX1_both_66 {ev : xV} {v0 v1 v2 v3 v4 v5 : Option Value} {x y : Int32} {st : List Value} {h : xH} : exF ev cX1_both 66 ([v0, v1, v2, v3, v4, v5], []) (.int y :: .int x :: st) h = if y < x then exF ev cX1_both 123 ([v0, v1, v2, v3, v4, v5], []) st h else exF ev cX1_both 69 ([v0, v1, v2, v3, v4, v5], []) st h := exF_b (i := (i_if2 (fun x y => y < x) 123 69)) rfl rfl
theorem eX1_both_69 {ev : xV} {v0 v1 v2 v4 v5 : Option Value} {x : Int32} {st : List Value} {h : xH} : exF ev cX1_both 69 ([v0, v1, v2, some (.int x), v4, v5], []) st h = exF ev cX1_both 70 ([v0, v1, v2, some (.int x), v4, v5], []) (.int x :: st) h := exF_j (i := (i_iload 3 70)) rfl rfl
theorem eX1_both_70 {ev : xV} {v0 v1 v2 v3 v5 : Option Value} {x : Int32} {st : List Value} {h : xH} : exF ev cX1_both 70 ([v0, v1, v2, v3, some (.int x), v5], []) st h = exF ev cX1_both 72 ([v0, v1, v2, v3, some (.int x), v5], []) (.int x :: st) h := exF_j (i := (i_iload 4 72)) rfl rfl
theorem eX1_both_72 {ev : xV} {v0 v1 v2 v3 v4 v5 : Option Value} {x y : Int32} {st : List Value} {h : xH} : exF ev cX1_both 72 ([v0, v1, v2, v3, v4, v5], []) (.int y :: .int x :: st) h = exF ev cX1_both 73 ([v0, v1, v2, v3, v4, v5], []) (.int (x &&& y) :: st) h := exF_j (i := (i_ii (fun x y => x &&& y) 73)) rfl rfl
theorem eX1_both_73 {ev : xV} {v0 v1 v2 v3 v4 v5 : Option Value} {x : Int32} {st : List Value} {h : xH} : exF ev cX1_both 73 ([v0, v1, v2, v3, v4, v5], []) (.int x :: st) h = if x = 0 then exF ev cX1_both 79 ([v0, v1, v2, v3, v4, v5], []) st h else exF ev cX1_both 76 ([v0, v1, v2, v3, v4, v5], []) st h := exF_b (i := (i_if1 (fun x => x = 0) 79 76)) rfl rfl
theorem eX1_both_76 {ev : xV} {v0 v1 v2 v3 v4 : Option Value} {x : Int32} {st : List Value} {h : xH} : exF ev cX1_both 76 ([v0, v1, v2, v3, v4, some (.int x)], []) st h = exF ev cX1_both 78 ([v0, v1, v2, v3, v4, some (.int x)], []) (.int x :: st) h := exF_j (i := (i_iload 5 78)) rfl rfl
theorem eX1_both_78 {ev : xV} {v0 v1 v2 v3 v4 v5 : Option Value} {x : Int32} {h : xH} : exF ev cX1_both 78 ([v0, v1, v2, v3, v4, v5], []) [.int x] h = some (.inl (some (.int x)), h) := exF_r (i := (i_iret)) rfl rfl
theorem eX1_both_79 {ev : xV} {v1 v2 v3 v4 v5 : Option Value} {x : Nat} {st : List Value} {h : xH} : exF ev cX1_both 79 ([some (.ref x), v1, v2, v3, v4, v5], []) st h = exF ev cX1_both 80 ([some (.ref x), v1, v2, v3, v4, v5], []) (.ref x :: st) h := exF_j (i := (i_aload 0 80)) rfl rfl
theorem eX1_both_80 {ev : xV} {v0 v1 v2 v4 v5 : Option Value} {x : Int32} {st : List Value} {h : xH} : exF ev cX1_both 80 ([v0, v1, v2, some (.int x), v4, v5], []) st h = exF ev cX1_both 81 ([v0, v1, v2, some (.int x), v4, v5], []) (.int x :: st) h := exF_j (i := (i_iload 3 81)) rfl rfl
theorem eX1_both_81 {ev : xV} {v1 v2 v3 v4 v5 : Option Value} {x : Nat} {st : List Value} {h : xH} : exF ev cX1_both 81 ([some (.ref x), v1, v2, v3, v4, v5], []) st h = exF ev cX1_both 82 ([some (.ref x), v1, v2, v3, v4, v5], []) (.ref x :: st) h := exF_j (i := (i_aload 0 82)) rfl rfl
theorem eX1_both_82 {ev : xV} {v1 v2 v3 v4 v5 : Option Value} {x : Nat} {st : List Value} {h : xH} : exF ev cX1_both 82 ([some (.ref x), v1, v2, v3, v4, v5], []) st h = exF ev cX1_both 83 ([some (.ref x), v1, v2, v3, v4, v5], []) (.ref x :: st) h := exF_j (i := (i_aload 0 83)) rfl rfl
theorem eX1_both_83 {ev : xV} {v0 v1 v2 v3 v4 v5 : Option Value} {a : Nat} {st : List Value} {h : xH} : exF ev cX1_both 83 ([v0, v1, v2, v3, v4, v5], []) (.ref a :: st) h = xO (xgf h a 0 5) (fun v => exF ev cX1_both 86 ([v0, v1, v2, v3, v4, v5], []) (v :: st) h) := exF_o (i := (i_getf 0 5 86)) rfl rfl
theorem eX1_both_86 {ev : xV} {v0 v1 v2 v3 v4 v5 : Option Value} {a0 : Value} {r0 : Value} {r1 : Value} {a : Nat} {h : xH} : exF ev cX1_both 86 ([v0, v1, v2, v3, v4, v5], []) [a0, .ref a, r0, r1] h = xO (xck h a 0) (fun _ => xB (ev 121 [.ref a, a0] h) (fun v h => exF ev cX1_both 89 ([v0, v1, v2, v3, v4, v5], []) [v, r0, r1] h)) := exF_cd (i := (i_cv 0 121 1 89)) rfl rfl
theorem eX1_both_89 {ev : xV} {v0 v1 v2 v3 v4 v5 : Option Value} {a0 : Value} {a1 : Value} {a : Nat} {h : xH} : exF ev cX1_both 89 ([v0, v1, v2, v3, v4, v5], []) [a1, a0, .ref a] h = xO (xck h a 0) (fun _ => xB (ev 123 [.ref a, a0, a1] h) (fun v h => exF ev cX1_both 92 ([v0, v1, v2, v3, v4, v5], []) [v] h)) := exF_cd (i := (i_cv 0 123 2 92)) rfl rfl
theorem eX1_both_92 {ev : xV} {v0 v1 v2 v3 v4 v5 : Option Value} {x : Int32} {st : List Value} {h : xH} : exF ev cX1_both 92 ([v0, v1, v2, v3, v4, v5], []) (.int x :: st) h = exF ev cX1_both 93 ([v0, v1, v2, some (.int x), v4, v5], []) st h := exF_j (i := (i_istore 3 93)) rfl rfl
theorem eX1_both_93 {ev : xV} {v1 v2 v3 v4 v5 : Option Value} {x : Nat} {st : List Value} {h : xH} : exF ev cX1_both 93 ([some (.ref x), v1, v2, v3, v4, v5], []) st h = exF ev cX1_both 94 ([some (.ref x), v1, v2, v3, v4, v5], []) (.ref x :: st) h := exF_j (i := (i_aload 0 94)) rfl rfl
theorem eX1_both_94 {ev : xV} {v0 v1 v2 v3 v5 : Option Value} {x : Int32} {st : List Value} {h : xH} : exF ev cX1_both 94 ([v0, v1, v2, v3, some (.int x), v5], []) st h = exF ev cX1_both 96 ([v0, v1, v2, v3, some (.int x), v5], []) (.int x :: st) h := exF_j (i := (i_iload 4 96)) rfl rfl
theorem eX1_both_96 {ev : xV} {v1 v2 v3 v4 v5 : Option Value} {x : Nat} {st : List Value} {h : xH} : exF ev cX1_both 96 ([some (.ref x), v1, v2, v3, v4, v5], []) st h = exF ev cX1_both 97 ([some (.ref x), v1, v2, v3, v4, v5], []) (.ref x :: st) h := exF_j (i := (i_aload 0 97)) rfl rfl
theorem eX1_both_97 {ev : xV} {v1 v2 v3 v4 v5 : Option Value} {x : Nat} {st : List Value} {h : xH} : exF ev cX1_both 97 ([some (.ref x), v1, v2, v3, v4, v5], []) st h = exF ev cX1_both 98 ([some (.ref x), v1, v2, v3, v4, v5], []) (.ref x :: st) h := exF_j (i := (i_aload 0 98)) rfl rfl
theorem eX1_both_98 {ev : xV} {v0 v1 v2 v3 v4 v5 : Option Value} {a : Nat} {st : List Value} {h : xH} : exF ev cX1_both 98 ([v0, v1, v2, v3, v4, v5], []) (.ref a :: st) h = xO (xgf h a 0 5) (fun v => exF ev cX1_both 101 ([v0, v1, v2, v3, v4, v5], []) (v :: st) h) := exF_o (i := (i_getf 0 5 101)) rfl rfl
theorem eX1_both_101 {ev : xV} {v0 v1 v2 v3 v4 v5 : Option Value} {a0 : Value} {r0 : Value} {r1 : Value} {a : Nat} {h : xH} : exF ev cX1_both 101 ([v0, v1, v2, v3, v4, v5], []) [a0, .ref a, r0, r1] h = xO (xck h a 0) (fun _ => xB (ev 121 [.ref a, a0] h) (fun v h => exF ev cX1_both 104 ([v0, v1, v2, v3, v4, v5], []) [v, r0, r1] h)) := exF_cd (i := (i_cv 0 121 1 104)) rfl rfl
theorem eX1_both_104 {ev : xV} {v0 v1 v2 v3 v4 v5 : Option Value} {a0 : Value} {a1 : Value} {a : Nat} {h : xH} : exF ev cX1_both 104 ([v0, v1, v2, v3, v4, v5], []) [a1, a0, .ref a] h = xO (xck h a 0) (fun _ => xB (ev 123 [.ref a, a0, a1] h) (fun v h => exF ev cX1_both 107 ([v0, v1, v2, v3, v4, v5], []) [v] h)) := exF_cd (i := (i_cv 0 123 2 107)) rfl rfl
theorem eX1_both_107 {ev : xV} {v0 v1 v2 v3 v4 v5 : Option Value} {x : Int32} {st : List Value} {h : xH} : exF ev cX1_both 107 ([v0, v1, v2, v3, v4, v5], []) (.int x :: st) h = exF ev cX1_both 109 ([v0, v1, v2, v3, some (.int x), v5], []) st h := exF_j (i := (i_istore 4 109)) rfl rfl
theorem eX1_both_109 {ev : xV} {v1 v2 v3 v4 v5 : Option Value} {x : Nat} {st : List Value} {h : xH} : exF ev cX1_both 109 ([some (.ref x), v1, v2, v3, v4, v5], []) st h = exF ev cX1_both 110 ([some (.ref x), v1, v2, v3, v4, v5], []) (.ref x :: st) h := exF_j (i := (i_aload 0 110)) rfl rfl
theorem eX1_both_110 {ev : xV} {v1 v2 v3 v4 v5 : Option Value} {x : Nat} {st : List Value} {h : xH} : exF ev cX1_both 110 ([some (.ref x), v1, v2, v3, v4, v5], []) st h = exF ev cX1_both 111 ([some (.ref x), v1, v2, v3, v4, v5], []) (.ref x :: st) h := exF_j (i := (i_aload 0 111)) rfl rfl
theorem eX1_both_111 {ev : xV} {v0 v1 v2 v3 v4 v5 : Option Value} {a : Nat} {st : List Value} {h : xH} : exF ev cX1_both 111 ([v0, v1, v2, v3, v4, v5], []) (.ref a :: st) h = xO (xgf h a 0 5) (fun v => exF ev cX1_both 114 ([v0, v1, v2, v3, v4, v5], []) (v :: st) h) := exF_o (i := (i_getf 0 5 114)) rfl rfl
theorem eX1_both_114 {ev : xV} {v0 v1 v2 v3 v4 v5 : Option Value} {a0 : Value} {a : Nat} {h : xH} : exF ev cX1_both 114 ([v0, v1, v2, v3, v4, v5], []) [a0, .ref a] h = xO (xck h a 0) (fun _ => xBv (ev 104 [.ref a, a0] h) (fun h => exF ev cX1_both 117 ([v0, v1, v2, v3, v4, v5], []) [] h)) := exF_cdv (i := (i_cvv 0 104 1 117)) rfl rfl
theorem eX1_both_117 {ev : xV} {v0 v1 v2 v3 v4 : Option Value} {x : Int32} {st : List Value} {h : xH} : exF ev cX1_both 117 ([v0, v1, v2, v3, v4, some (.int x)], []) st h = exF ev cX1_both 120 ([v0, v1, v2, v3, v4, some (.int (x + (nI 1)))], []) st h := exF_j (i := (i_iinc 5 (nI 1) 120)) rfl rfl
theorem eX1_both_120 {ev : xV} {v0 v1 v2 v3 v4 v5 : Option Value} {st : List Value} {h : xH} : exF ev cX1_both 120 ([v0, v1, v2, v3, v4, v5], []) st h = exF ev cX1_both 62 ([v0, v1, v2, v3, v4, v5], []) st h := exF_j (i := (i_goto 62)) rfl rfl
theorem eX1_both_123 {ev : xV} {v0 v1 v2 v3 v4 v5 : Option Value} {st : List Value} {h : xH} : exF ev cX1_both 123 ([v0, v1, v2, v3, v4, v5], []) st h = exF ev cX1_both 124 ([v0, v1, v2, v3, v4, v5], []) (.int (-1) :: st) h := exF_j (i := (i_const (.int (-1)) 124)) rfl rfl
theorem eX1_both_124 {ev : xV} {v0 v1 v2 v3 v4 v5 : Option Value} {x : Int32} {h : xH} : exF ev cX1_both 124 ([v0, v1, v2, v3, v4, v5], []) [.int x] h = some (.inl (some (.int x)), h) := exF_r (i := (i_iret)) rfl rfl
noncomputable def cX1_cut : xC := [(0, i_aload 0 1),
  (1, i_iload 1 2),
  (2, i_cv 0 119 1 5),
  (5, i_if1 (fun x => x = 0) 21 8),
  (8, i_aload 0 9),
  (9, i_iload 2 10),
  (10, i_cv 0 119 1 13),
  (13, i_if1 (fun x => x = 0) 21 16),
  (16, i_iload 1 17),
  (17, i_iload 2 18),
  (18, i_if2 (fun x y => ¬ x = y) 23 21),
  (21, i_const (.int (-1)) 22),
  (22, i_iret),
  (23, i_const (.int (-1)) 24),
  (24, i_istore 3 25),
  (25, i_aload 0 26),
  (26, i_aload 0 27),
  (27, i_getf 0 4 30),
  (30, i_cv 0 121 1 33),
  (33, i_istore 4 35),
  (35, i_const (.int (nI 0)) 36),
  (36, i_istore 5 38),
  (38, i_iload 5 40),
  (40, i_const (.int (nI 1)) 41),
  (41, i_aload 0 42),
  (42, i_cv 0 96 0 45),
  (45, i_ii (fun x y => x <<< (y &&& 31)) 46),
  (46, i_if2 (fun x y => y ≤ x) 106 49),
  (49, i_iload 5 51),
  (51, i_iload 4 53),
  (53, i_const (.int (-1)) 54),
  (54, i_ii (fun x y => x ^^^ y) 55),
  (55, i_ii (fun x y => x &&& y) 56),
  (56, i_if1 (fun x => ¬ x = 0) 100 59),
  (59, i_iload 3 60),
  (60, i_if1 (fun x => x < 0) 78 63),
  (63, i_iload 5 65),
  (65, i_cs 28 1 68),
  (68, i_iload 3 69),
  (69, i_cs 28 1 72),
  (72, i_if2 (fun x y => x < y) 78 75),
  (75, i_goto 100),
  (78, i_aload 0 79),
  (79, i_iload 1 80),
  (80, i_iload 4 82),
  (82, i_iload 5 84),
  (84, i_const (.int (-1)) 85),
  (85, i_ii (fun x y => x ^^^ y) 86),
  (86, i_ii (fun x y => x &&& y) 87),
  (87, i_cv 0 122 2 90),
  (90, i_iload 2 91),
  (91, i_cs 98 2 94),
  (94, i_if1 (fun x => ¬ x = 0) 100 97),
  (97, i_iload 5 99),
  (99, i_istore 3 100),
  (100, i_iinc 5 (nI 1) 103),
  (103, i_goto 38),
  (106, i_iload 3 107),
  (107, i_iret)]
theorem eX1_cut_0 {ev : xV} {v1 v2 v3 v4 v5 : Option Value} {x : Nat} {st : List Value} {h : xH} : exF ev cX1_cut 0 ([some (.ref x), v1, v2, v3, v4, v5], []) st h = exF ev cX1_cut 1 ([some (.ref x), v1, v2, v3, v4, v5], []) (.ref x :: st) h := exF_j (i := (i_aload 0 1)) rfl rfl
theorem eX1_cut_1 {ev : xV} {v0 v2 v3 v4 v5 : Option Value} {x : Int32} {st : List Value} {h : xH} : exF ev cX1_cut 1 ([v0, some (.int x), v2, v3, v4, v5], []) st h = exF ev cX1_cut 2 ([v0, some (.int x), v2, v3, v4, v5], []) (.int x :: st) h := exF_j (i := (i_iload 1 2)) rfl rfl
theorem eX1_cut_2 {ev : xV} {v0 v1 v2 v3 v4 v5 : Option Value} {a0 : Value} {a : Nat} {h : xH} : exF ev cX1_cut 2 ([v0, v1, v2, v3, v4, v5], []) [a0, .ref a] h = xO (xck h a 0) (fun _ => xB (ev 119 [.ref a, a0] h) (fun v h => exF ev cX1_cut 5 ([v0, v1, v2, v3, v4, v5], []) [v] h)) := exF_cd (i := (i_cv 0 119 1 5)) rfl rfl
theorem eX1_cut_5 {ev : xV} {v0 v1 v2 v3 v4 v5 : Option Value} {x : Int32} {st : List Value} {h : xH} : exF ev cX1_cut 5 ([v0, v1, v2, v3, v4, v5], []) (.int x :: st) h = if x = 0 then exF ev cX1_cut 21 ([v0, v1, v2, v3, v4, v5], []) st h else exF ev cX1_cut 8 ([v0, v1, v2, v3, v4, v5], []) st h := exF_b (i := (i_if1 (fun x => x = 0) 21 8)) rfl rfl
theorem eX1_cut_8 {ev : xV} {v1 v2 v3 v4 v5 : Option Value} {x : Nat} {st : List Value} {h : xH} : exF ev cX1_cut 8 ([some (.ref x), v1, v2, v3, v4, v5], []) st h = exF ev cX1_cut 9 ([some (.ref x), v1, v2, v3, v4, v5], []) (.ref x :: st) h := exF_j (i := (i_aload 0 9)) rfl rfl
theorem eX1_cut_9 {ev : xV} {v0 v1 v3 v4 v5 : Option Value} {x : Int32} {st : List Value} {h : xH} : exF ev cX1_cut 9 ([v0, v1, some (.int x), v3, v4, v5], []) st h = exF ev cX1_cut 10 ([v0, v1, some (.int x), v3, v4, v5], []) (.int x :: st) h := exF_j (i := (i_iload 2 10)) rfl rfl
theorem eX1_cut_10 {ev : xV} {v0 v1 v2 v3 v4 v5 : Option Value} {a0 : Value} {a : Nat} {h : xH} : exF ev cX1_cut 10 ([v0, v1, v2, v3, v4, v5], []) [a0, .ref a] h = xO (xck h a 0) (fun _ => xB (ev 119 [.ref a, a0] h) (fun v h => exF ev cX1_cut 13 ([v0, v1, v2, v3, v4, v5], []) [v] h)) := exF_cd (i := (i_cv 0 119 1 13)) rfl rfl
theorem eX1_cut_13 {ev : xV} {v0 v1 v2 v3 v4 v5 : Option Value} {x : Int32} {st : List Value} {h : xH} : exF ev cX1_cut 13 ([v0, v1, v2, v3, v4, v5], []) (.int x :: st) h = if x = 0 then exF ev cX1_cut 21 ([v0, v1, v2, v3, v4, v5], []) st h else exF ev cX1_cut 16 ([v0, v1, v2, v3, v4, v5], []) st h := exF_b (i := (i_if1 (fun x => x = 0) 21 16)) rfl rfl
theorem eX1_cut_16 {ev : xV} {v0 v2 v3 v4 v5 : Option Value} {x : Int32} {st : List Value} {h : xH} : exF ev cX1_cut 16 ([v0, some (.int x), v2, v3, v4, v5], []) st h = exF ev cX1_cut 17 ([v0, some (.int x), v2, v3, v4, v5], []) (.int x :: st) h := exF_j (i := (i_iload 1 17)) rfl rfl
theorem eX1_cut_17 {ev : xV} {v0 v1 v3 v4 v5 : Option Value} {x : Int32} {st : List Value} {h : xH} : exF ev cX1_cut 17 ([v0, v1, some (.int x), v3, v4, v5], []) st h = exF ev cX1_cut 18 ([v0, v1, some (.int x), v3, v4, v5], []) (.int x :: st) h := exF_j (i := (i_iload 2 18)) rfl rfl
theorem eX1_cut_18 {ev : xV} {v0 v1 v2 v3 v4 v5 : Option Value} {x y : Int32} {st : List Value} {h : xH} : exF ev cX1_cut 18 ([v0, v1, v2, v3, v4, v5], []) (.int y :: .int x :: st) h = if ¬ x = y then exF ev cX1_cut 23 ([v0, v1, v2, v3, v4, v5], []) st h else exF ev cX1_cut 21 ([v0, v1, v2, v3, v4, v5], []) st h := exF_b (i := (i_if2 (fun x y => ¬ x = y) 23 21)) rfl rfl
theorem eX1_cut_21 {ev : xV} {v0 v1 v2 v3 v4 v5 : Option Value} {st : List Value} {h : xH} : exF ev cX1_cut 21 ([v0, v1, v2, v3, v4, v5], []) st h = exF ev cX1_cut 22 ([v0, v1, v2, v3, v4, v5], []) (.int (-1) :: st) h := exF_j (i := (i_const (.int (-1)) 22)) rfl rfl
theorem eX1_cut_22 {ev : xV} {v0 v1 v2 v3 v4 v5 : Option Value} {x : Int32} {h : xH} : exF ev cX1_cut 22 ([v0, v1, v2, v3, v4, v5], []) [.int x] h = some (.inl (some (.int x)), h) := exF_r (i := (i_iret)) rfl rfl
theorem eX1_cut_23 {ev : xV} {v0 v1 v2 v3 v4 v5 : Option Value} {st : List Value} {h : xH} : exF ev cX1_cut 23 ([v0, v1, v2, v3, v4, v5], []) st h = exF ev cX1_cut 24 ([v0, v1, v2, v3, v4, v5], []) (.int (-1) :: st) h := exF_j (i := (i_const (.int (-1)) 24)) rfl rfl
theorem eX1_cut_24 {ev : xV} {v0 v1 v2 v3 v4 v5 : Option Value} {x : Int32} {st : List Value} {h : xH} : exF ev cX1_cut 24 ([v0, v1, v2, v3, v4, v5], []) (.int x :: st) h = exF ev cX1_cut 25 ([v0, v1, v2, some (.int x), v4, v5], []) st h := exF_j (i := (i_istore 3 25)) rfl rfl
theorem eX1_cut_25 {ev : xV} {v1 v2 v3 v4 v5 : Option Value} {x : Nat} {st : List Value} {h : xH} : exF ev cX1_cut 25 ([some (.ref x), v1, v2, v3, v4, v5], []) st h = exF ev cX1_cut 26 ([some (.ref x), v1, v2, v3, v4, v5], []) (.ref x :: st) h := exF_j (i := (i_aload 0 26)) rfl rfl
theorem eX1_cut_26 {ev : xV} {v1 v2 v3 v4 v5 : Option Value} {x : Nat} {st : List Value} {h : xH} : exF ev cX1_cut 26 ([some (.ref x), v1, v2, v3, v4, v5], []) st h = exF ev cX1_cut 27 ([some (.ref x), v1, v2, v3, v4, v5], []) (.ref x :: st) h := exF_j (i := (i_aload 0 27)) rfl rfl
theorem eX1_cut_27 {ev : xV} {v0 v1 v2 v3 v4 v5 : Option Value} {a : Nat} {st : List Value} {h : xH} : exF ev cX1_cut 27 ([v0, v1, v2, v3, v4, v5], []) (.ref a :: st) h = xO (xgf h a 0 4) (fun v => exF ev cX1_cut 30 ([v0, v1, v2, v3, v4, v5], []) (v :: st) h) := exF_o (i := (i_getf 0 4 30)) rfl rfl
theorem eX1_cut_30 {ev : xV} {v0 v1 v2 v3 v4 v5 : Option Value} {a0 : Value} {a : Nat} {h : xH} : exF ev cX1_cut 30 ([v0, v1, v2, v3, v4, v5], []) [a0, .ref a] h = xO (xck h a 0) (fun _ => xB (ev 121 [.ref a, a0] h) (fun v h => exF ev cX1_cut 33 ([v0, v1, v2, v3, v4, v5], []) [v] h)) := exF_cd (i := (i_cv 0 121 1 33)) rfl rfl
theorem eX1_cut_33 {ev : xV} {v0 v1 v2 v3 v4 v5 : Option Value} {x : Int32} {st : List Value} {h : xH} : exF ev cX1_cut 33 ([v0, v1, v2, v3, v4, v5], []) (.int x :: st) h = exF ev cX1_cut 35 ([v0, v1, v2, v3, some (.int x), v5], []) st h := exF_j (i := (i_istore 4 35)) rfl rfl
theorem eX1_cut_35 {ev : xV} {v0 v1 v2 v3 v4 v5 : Option Value} {st : List Value} {h : xH} : exF ev cX1_cut 35 ([v0, v1, v2, v3, v4, v5], []) st h = exF ev cX1_cut 36 ([v0, v1, v2, v3, v4, v5], []) (.int (nI 0) :: st) h := exF_j (i := (i_const (.int (nI 0)) 36)) rfl rfl
theorem eX1_cut_36 {ev : xV} {v0 v1 v2 v3 v4 v5 : Option Value} {x : Int32} {st : List Value} {h : xH} : exF ev cX1_cut 36 ([v0, v1, v2, v3, v4, v5], []) (.int x :: st) h = exF ev cX1_cut 38 ([v0, v1, v2, v3, v4, some (.int x)], []) st h := exF_j (i := (i_istore 5 38)) rfl rfl
theorem eX1_cut_38 {ev : xV} {v0 v1 v2 v3 v4 : Option Value} {x : Int32} {st : List Value} {h : xH} : exF ev cX1_cut 38 ([v0, v1, v2, v3, v4, some (.int x)], []) st h = exF ev cX1_cut 40 ([v0, v1, v2, v3, v4, some (.int x)], []) (.int x :: st) h := exF_j (i := (i_iload 5 40)) rfl rfl
theorem eX1_cut_40 {ev : xV} {v0 v1 v2 v3 v4 v5 : Option Value} {st : List Value} {h : xH} : exF ev cX1_cut 40 ([v0, v1, v2, v3, v4, v5], []) st h = exF ev cX1_cut 41 ([v0, v1, v2, v3, v4, v5], []) (.int (nI 1) :: st) h := exF_j (i := (i_const (.int (nI 1)) 41)) rfl rfl
theorem eX1_cut_41 {ev : xV} {v1 v2 v3 v4 v5 : Option Value} {x : Nat} {st : List Value} {h : xH} : exF ev cX1_cut 41 ([some (.ref x), v1, v2, v3, v4, v5], []) st h = exF ev cX1_cut 42 ([some (.ref x), v1, v2, v3, v4, v5], []) (.ref x :: st) h := exF_j (i := (i_aload 0 42)) rfl rfl
theorem eX1_cut_42 {ev : xV} {v0 v1 v2 v3 v4 v5 : Option Value} {r0 : Value} {r1 : Value} {a : Nat} {h : xH} : exF ev cX1_cut 42 ([v0, v1, v2, v3, v4, v5], []) [.ref a, r0, r1] h = xO (xck h a 0) (fun _ => xB (ev 96 [.ref a] h) (fun v h => exF ev cX1_cut 45 ([v0, v1, v2, v3, v4, v5], []) [v, r0, r1] h)) := exF_cd (i := (i_cv 0 96 0 45)) rfl rfl
theorem eX1_cut_45 {ev : xV} {v0 v1 v2 v3 v4 v5 : Option Value} {x y : Int32} {st : List Value} {h : xH} : exF ev cX1_cut 45 ([v0, v1, v2, v3, v4, v5], []) (.int y :: .int x :: st) h = exF ev cX1_cut 46 ([v0, v1, v2, v3, v4, v5], []) (.int (x <<< (y &&& 31)) :: st) h := exF_j (i := (i_ii (fun x y => x <<< (y &&& 31)) 46)) rfl rfl
theorem eX1_cut_46 {ev : xV} {v0 v1 v2 v3 v4 v5 : Option Value} {x y : Int32} {st : List Value} {h : xH} : exF ev cX1_cut 46 ([v0, v1, v2, v3, v4, v5], []) (.int y :: .int x :: st) h = if y ≤ x then exF ev cX1_cut 106 ([v0, v1, v2, v3, v4, v5], []) st h else exF ev cX1_cut 49 ([v0, v1, v2, v3, v4, v5], []) st h := exF_b (i := (i_if2 (fun x y => y ≤ x) 106 49)) rfl rfl
theorem eX1_cut_49 {ev : xV} {v0 v1 v2 v3 v4 : Option Value} {x : Int32} {st : List Value} {h : xH} : exF ev cX1_cut 49 ([v0, v1, v2, v3, v4, some (.int x)], []) st h = exF ev cX1_cut 51 ([v0, v1, v2, v3, v4, some (.int x)], []) (.int x :: st) h := exF_j (i := (i_iload 5 51)) rfl rfl
theorem eX1_cut_51 {ev : xV} {v0 v1 v2 v3 v5 : Option Value} {x : Int32} {st : List Value} {h : xH} : exF ev cX1_cut 51 ([v0, v1, v2, v3, some (.int x), v5], []) st h = exF ev cX1_cut 53 ([v0, v1, v2, v3, some (.int x), v5], []) (.int x :: st) h := exF_j (i := (i_iload 4 53)) rfl rfl
theorem eX1_cut_53 {ev : xV} {v0 v1 v2 v3 v4 v5 : Option Value} {st : List Value} {h : xH} : exF ev cX1_cut 53 ([v0, v1, v2, v3, v4, v5], []) st h = exF ev cX1_cut 54 ([v0, v1, v2, v3, v4, v5], []) (.int (-1) :: st) h := exF_j (i := (i_const (.int (-1)) 54)) rfl rfl
theorem eX1_cut_54 {ev : xV} {v0 v1 v2 v3 v4 v5 : Option Value} {x y : Int32} {st : List Value} {h : xH} : exF ev cX1_cut 54 ([v0, v1, v2, v3, v4, v5], []) (.int y :: .int x :: st) h = exF ev cX1_cut 55 ([v0, v1, v2, v3, v4, v5], []) (.int (x ^^^ y) :: st) h := exF_j (i := (i_ii (fun x y => x ^^^ y) 55)) rfl rfl
theorem eX1_cut_55 {ev : xV} {v0 v1 v2 v3 v4 v5 : Option Value} {x y : Int32} {st : List Value} {h : xH} : exF ev cX1_cut 55 ([v0, v1, v2, v3, v4, v5], []) (.int y :: .int x :: st) h = exF ev cX1_cut 56 ([v0, v1, v2, v3, v4, v5], []) (.int (x &&& y) :: st) h := exF_j (i := (i_ii (fun x y => x &&& y) 56)) rfl rfl
theorem eX1_cut_56 {ev : xV} {v0 v1 v2 v3 v4 v5 : Option Value} {x : Int32} {st : List Value} {h : xH} : exF ev cX1_cut 56 ([v0, v1, v2, v3, v4, v5], []) (.int x :: st) h = if ¬ x = 0 then exF ev cX1_cut 100 ([v0, v1, v2, v3, v4, v5], []) st h else exF ev cX1_cut 59 ([v0, v1, v2, v3, v4, v5], []) st h := exF_b (i := (i_if1 (fun x => ¬ x = 0) 100 59)) rfl rfl
theorem eX1_cut_59 {ev : xV} {v0 v1 v2 v4 v5 : Option Value} {x : Int32} {st : List Value} {h : xH} : exF ev cX1_cut 59 ([v0, v1, v2, some (.int x), v4, v5], []) st h = exF ev cX1_cut 60 ([v0, v1, v2, some (.int x), v4, v5], []) (.int x :: st) h := exF_j (i := (i_iload 3 60)) rfl rfl
theorem eX1_cut_60 {ev : xV} {v0 v1 v2 v3 v4 v5 : Option Value} {x : Int32} {st : List Value} {h : xH} : exF ev cX1_cut 60 ([v0, v1, v2, v3, v4, v5], []) (.int x :: st) h = if x < 0 then exF ev cX1_cut 78 ([v0, v1, v2, v3, v4, v5], []) st h else exF ev cX1_cut 63 ([v0, v1, v2, v3, v4, v5], []) st h := exF_b (i := (i_if1 (fun x => x < 0) 78 63)) rfl rfl
theorem eX1_cut_63 {ev : xV} {v0 v1 v2 v3 v4 : Option Value} {x : Int32} {st : List Value} {h : xH} : exF ev cX1_cut 63 ([v0, v1, v2, v3, v4, some (.int x)], []) st h = exF ev cX1_cut 65 ([v0, v1, v2, v3, v4, some (.int x)], []) (.int x :: st) h := exF_j (i := (i_iload 5 65)) rfl rfl
theorem eX1_cut_65 {ev : xV} {v0 v1 v2 v3 v4 v5 : Option Value} {a0 : Value} {h : xH} : exF ev cX1_cut 65 ([v0, v1, v2, v3, v4, v5], []) [a0] h = xB (ev 28 [a0] h) (fun v h => exF ev cX1_cut 68 ([v0, v1, v2, v3, v4, v5], []) [v] h) := exF_c (i := (i_cs 28 1 68)) rfl rfl
theorem eX1_cut_68 {ev : xV} {v0 v1 v2 v4 v5 : Option Value} {x : Int32} {st : List Value} {h : xH} : exF ev cX1_cut 68 ([v0, v1, v2, some (.int x), v4, v5], []) st h = exF ev cX1_cut 69 ([v0, v1, v2, some (.int x), v4, v5], []) (.int x :: st) h := exF_j (i := (i_iload 3 69)) rfl rfl
theorem eX1_cut_69 {ev : xV} {v0 v1 v2 v3 v4 v5 : Option Value} {a0 : Value} {r0 : Value} {h : xH} : exF ev cX1_cut 69 ([v0, v1, v2, v3, v4, v5], []) [a0, r0] h = xB (ev 28 [a0] h) (fun v h => exF ev cX1_cut 72 ([v0, v1, v2, v3, v4, v5], []) [v, r0] h) := exF_c (i := (i_cs 28 1 72)) rfl rfl
theorem eX1_cut_72 {ev : xV} {v0 v1 v2 v3 v4 v5 : Option Value} {x y : Int32} {st : List Value} {h : xH} : exF ev cX1_cut 72 ([v0, v1, v2, v3, v4, v5], []) (.int y :: .int x :: st) h = if x < y then exF ev cX1_cut 78 ([v0, v1, v2, v3, v4, v5], []) st h else exF ev cX1_cut 75 ([v0, v1, v2, v3, v4, v5], []) st h := exF_b (i := (i_if2 (fun x y => x < y) 78 75)) rfl rfl
theorem eX1_cut_75 {ev : xV} {v0 v1 v2 v3 v4 v5 : Option Value} {st : List Value} {h : xH} : exF ev cX1_cut 75 ([v0, v1, v2, v3, v4, v5], []) st h = exF ev cX1_cut 100 ([v0, v1, v2, v3, v4, v5], []) st h := exF_j (i := (i_goto 100)) rfl rfl
theorem eX1_cut_78 {ev : xV} {v1 v2 v3 v4 v5 : Option Value} {x : Nat} {st : List Value} {h : xH} : exF ev cX1_cut 78 ([some (.ref x), v1, v2, v3, v4, v5], []) st h = exF ev cX1_cut 79 ([some (.ref x), v1, v2, v3, v4, v5], []) (.ref x :: st) h := exF_j (i := (i_aload 0 79)) rfl rfl
theorem eX1_cut_79 {ev : xV} {v0 v2 v3 v4 v5 : Option Value} {x : Int32} {st : List Value} {h : xH} : exF ev cX1_cut 79 ([v0, some (.int x), v2, v3, v4, v5], []) st h = exF ev cX1_cut 80 ([v0, some (.int x), v2, v3, v4, v5], []) (.int x :: st) h := exF_j (i := (i_iload 1 80)) rfl rfl
theorem eX1_cut_80 {ev : xV} {v0 v1 v2 v3 v5 : Option Value} {x : Int32} {st : List Value} {h : xH} : exF ev cX1_cut 80 ([v0, v1, v2, v3, some (.int x), v5], []) st h = exF ev cX1_cut 82 ([v0, v1, v2, v3, some (.int x), v5], []) (.int x :: st) h := exF_j (i := (i_iload 4 82)) rfl rfl
theorem eX1_cut_82 {ev : xV} {v0 v1 v2 v3 v4 : Option Value} {x : Int32} {st : List Value} {h : xH} : exF ev cX1_cut 82 ([v0, v1, v2, v3, v4, some (.int x)], []) st h = exF ev cX1_cut 84 ([v0, v1, v2, v3, v4, some (.int x)], []) (.int x :: st) h := exF_j (i := (i_iload 5 84)) rfl rfl
theorem eX1_cut_84 {ev : xV} {v0 v1 v2 v3 v4 v5 : Option Value} {st : List Value} {h : xH} : exF ev cX1_cut 84 ([v0, v1, v2, v3, v4, v5], []) st h = exF ev cX1_cut 85 ([v0, v1, v2, v3, v4, v5], []) (.int (-1) :: st) h := exF_j (i := (i_const (.int (-1)) 85)) rfl rfl
theorem eX1_cut_85 {ev : xV} {v0 v1 v2 v3 v4 v5 : Option Value} {x y : Int32} {st : List Value} {h : xH} : exF ev cX1_cut 85 ([v0, v1, v2, v3, v4, v5], []) (.int y :: .int x :: st) h = exF ev cX1_cut 86 ([v0, v1, v2, v3, v4, v5], []) (.int (x ^^^ y) :: st) h := exF_j (i := (i_ii (fun x y => x ^^^ y) 86)) rfl rfl
theorem eX1_cut_86 {ev : xV} {v0 v1 v2 v3 v4 v5 : Option Value} {x y : Int32} {st : List Value} {h : xH} : exF ev cX1_cut 86 ([v0, v1, v2, v3, v4, v5], []) (.int y :: .int x :: st) h = exF ev cX1_cut 87 ([v0, v1, v2, v3, v4, v5], []) (.int (x &&& y) :: st) h := exF_j (i := (i_ii (fun x y => x &&& y) 87)) rfl rfl
theorem eX1_cut_87 {ev : xV} {v0 v1 v2 v3 v4 v5 : Option Value} {a0 : Value} {a1 : Value} {a : Nat} {h : xH} : exF ev cX1_cut 87 ([v0, v1, v2, v3, v4, v5], []) [a1, a0, .ref a] h = xO (xck h a 0) (fun _ => xB (ev 122 [.ref a, a0, a1] h) (fun v h => exF ev cX1_cut 90 ([v0, v1, v2, v3, v4, v5], []) [v] h)) := exF_cd (i := (i_cv 0 122 2 90)) rfl rfl
theorem eX1_cut_90 {ev : xV} {v0 v1 v3 v4 v5 : Option Value} {x : Int32} {st : List Value} {h : xH} : exF ev cX1_cut 90 ([v0, v1, some (.int x), v3, v4, v5], []) st h = exF ev cX1_cut 91 ([v0, v1, some (.int x), v3, v4, v5], []) (.int x :: st) h := exF_j (i := (i_iload 2 91)) rfl rfl
theorem eX1_cut_91 {ev : xV} {v0 v1 v2 v3 v4 v5 : Option Value} {a0 : Value} {a1 : Value} {h : xH} : exF ev cX1_cut 91 ([v0, v1, v2, v3, v4, v5], []) [a1, a0] h = xB (ev 98 [a0, a1] h) (fun v h => exF ev cX1_cut 94 ([v0, v1, v2, v3, v4, v5], []) [v] h) := exF_c (i := (i_cs 98 2 94)) rfl rfl
theorem eX1_cut_94 {ev : xV} {v0 v1 v2 v3 v4 v5 : Option Value} {x : Int32} {st : List Value} {h : xH} : exF ev cX1_cut 94 ([v0, v1, v2, v3, v4, v5], []) (.int x :: st) h = if ¬ x = 0 then exF ev cX1_cut 100 ([v0, v1, v2, v3, v4, v5], []) st h else exF ev cX1_cut 97 ([v0, v1, v2, v3, v4, v5], []) st h := exF_b (i := (i_if1 (fun x => ¬ x = 0) 100 97)) rfl rfl
theorem eX1_cut_97 {ev : xV} {v0 v1 v2 v3 v4 : Option Value} {x : Int32} {st : List Value} {h : xH} : exF ev cX1_cut 97 ([v0, v1, v2, v3, v4, some (.int x)], []) st h = exF ev cX1_cut 99 ([v0, v1, v2, v3, v4, some (.int x)], []) (.int x :: st) h := exF_j (i := (i_iload 5 99)) rfl rfl
theorem eX1_cut_99 {ev : xV} {v0 v1 v2 v3 v4 v5 : Option Value} {x : Int32} {st : List Value} {h : xH} : exF ev cX1_cut 99 ([v0, v1, v2, v3, v4, v5], []) (.int x :: st) h = exF ev cX1_cut 100 ([v0, v1, v2, some (.int x), v4, v5], []) st h := exF_j (i := (i_istore 3 100)) rfl rfl
theorem eX1_cut_100 {ev : xV} {v0 v1 v2 v3 v4 : Option Value} {x : Int32} {st : List Value} {h : xH} : exF ev cX1_cut 100 ([v0, v1, v2, v3, v4, some (.int x)], []) st h = exF ev cX1_cut 103 ([v0, v1, v2, v3, v4, some (.int (x + (nI 1)))], []) st h := exF_j (i := (i_iinc 5 (nI 1) 103)) rfl rfl
theorem eX1_cut_103 {ev : xV} {v0 v1 v2 v3 v4 v5 : Option Value} {st : List Value} {h : xH} : exF ev cX1_cut 103 ([v0, v1, v2, v3, v4, v5], []) st h = exF ev cX1_cut 38 ([v0, v1, v2, v3, v4, v5], []) st h := exF_j (i := (i_goto 38)) rfl rfl
theorem eX1_cut_106 {ev : xV} {v0 v1 v2 v4 v5 : Option Value} {x : Int32} {st : List Value} {h : xH} : exF ev cX1_cut 106 ([v0, v1, v2, some (.int x), v4, v5], []) st h = exF ev cX1_cut 107 ([v0, v1, v2, some (.int x), v4, v5], []) (.int x :: st) h := exF_j (i := (i_iload 3 107)) rfl rfl
theorem eX1_cut_107 {ev : xV} {v0 v1 v2 v3 v4 v5 : Option Value} {x : Int32} {h : xH} : exF ev cX1_cut 107 ([v0, v1, v2, v3, v4, v5], []) [.int x] h = some (.inl (some (.int x)), h) := exF_r (i := (i_iret)) rfl rfl
noncomputable def cX1_planed : xC := [(0, i_iload 1 1),
  (1, i_const (.int (nI 0)) 2),
  (2, i_const (.int (nI 30)) 4),
  (4, i_cs 92 3 7),
  (7, i_if1 (fun x => x = 0) 19 10),
  (10, i_iload 2 11),
  (11, i_const (.int (-1)) 12),
  (12, i_const (.int (nI 2)) 13),
  (13, i_cs 92 3 16),
  (16, i_if1 (fun x => ¬ x = 0) 22 19),
  (19, i_const (.int (-2)) 21),
  (21, i_iret),
  (22, i_const (.int (nI 0)) 23),
  (23, i_istore 3 24),
  (24, i_iload 3 25),
  (25, i_const (.int (nI 3)) 26),
  (26, i_if2 (fun x y => y < x) 83 29),
  (29, i_aload 0 30),
  (30, i_getf 0 11 33),
  (33, i_aload 0 34),
  (34, i_getf 0 4 37),
  (37, i_cvv 3 239 1 40),
  (40, i_aload 0 41),
  (41, i_const (.int (nI 0)) 42),
  (42, i_const (.int (nI 0)) 43),
  (43, i_iload 3 44),
  (44, i_iload 1 45),
  (45, i_cv 0 143 4 48),
  (48, i_if1 (fun x => x = 0) 77 51),
  (51, i_iload 2 52),
  (52, i_const (.int (-1)) 53),
  (53, i_if2 (fun x y => ¬ x = y) 60 56),
  (56, i_iload 3 57),
  (57, i_goto 76),
  (60, i_iload 2 61),
  (61, i_iload 3 62),
  (62, i_if2 (fun x y => y ≤ x) 74 65),
  (65, i_aload 0 66),
  (66, i_getf 0 10 69),
  (69, i_iload 2 70),
  (70, i_ai 0 71),
  (71, i_goto 76),
  (74, i_const (.int (-2)) 76),
  (76, i_iret),
  (77, i_iinc 3 (nI 1) 80),
  (80, i_goto 24),
  (83, i_const (.int (-2)) 85),
  (85, i_iret)]
theorem eX1_planed_0 {ev : xV} {v0 v2 v3 : Option Value} {x : Int32} {st : List Value} {h : xH} : exF ev cX1_planed 0 ([v0, some (.int x), v2, v3], []) st h = exF ev cX1_planed 1 ([v0, some (.int x), v2, v3], []) (.int x :: st) h := exF_j (i := (i_iload 1 1)) rfl rfl
theorem eX1_planed_1 {ev : xV} {v0 v1 v2 v3 : Option Value} {st : List Value} {h : xH} : exF ev cX1_planed 1 ([v0, v1, v2, v3], []) st h = exF ev cX1_planed 2 ([v0, v1, v2, v3], []) (.int (nI 0) :: st) h := exF_j (i := (i_const (.int (nI 0)) 2)) rfl rfl
theorem eX1_planed_2 {ev : xV} {v0 v1 v2 v3 : Option Value} {st : List Value} {h : xH} : exF ev cX1_planed 2 ([v0, v1, v2, v3], []) st h = exF ev cX1_planed 4 ([v0, v1, v2, v3], []) (.int (nI 30) :: st) h := exF_j (i := (i_const (.int (nI 30)) 4)) rfl rfl
theorem eX1_planed_4 {ev : xV} {v0 v1 v2 v3 : Option Value} {a0 : Value} {a1 : Value} {a2 : Value} {h : xH} : exF ev cX1_planed 4 ([v0, v1, v2, v3], []) [a2, a1, a0] h = xB (ev 92 [a0, a1, a2] h) (fun v h => exF ev cX1_planed 7 ([v0, v1, v2, v3], []) [v] h) := exF_c (i := (i_cs 92 3 7)) rfl rfl
theorem eX1_planed_7 {ev : xV} {v0 v1 v2 v3 : Option Value} {x : Int32} {st : List Value} {h : xH} : exF ev cX1_planed 7 ([v0, v1, v2, v3], []) (.int x :: st) h = if x = 0 then exF ev cX1_planed 19 ([v0, v1, v2, v3], []) st h else exF ev cX1_planed 10 ([v0, v1, v2, v3], []) st h := exF_b (i := (i_if1 (fun x => x = 0) 19 10)) rfl rfl
theorem eX1_planed_10 {ev : xV} {v0 v1 v3 : Option Value} {x : Int32} {st : List Value} {h : xH} : exF ev cX1_planed 10 ([v0, v1, some (.int x), v3], []) st h = exF ev cX1_planed 11 ([v0, v1, some (.int x), v3], []) (.int x :: st) h := exF_j (i := (i_iload 2 11)) rfl rfl
theorem eX1_planed_11 {ev : xV} {v0 v1 v2 v3 : Option Value} {st : List Value} {h : xH} : exF ev cX1_planed 11 ([v0, v1, v2, v3], []) st h = exF ev cX1_planed 12 ([v0, v1, v2, v3], []) (.int (-1) :: st) h := exF_j (i := (i_const (.int (-1)) 12)) rfl rfl
theorem eX1_planed_12 {ev : xV} {v0 v1 v2 v3 : Option Value} {st : List Value} {h : xH} : exF ev cX1_planed 12 ([v0, v1, v2, v3], []) st h = exF ev cX1_planed 13 ([v0, v1, v2, v3], []) (.int (nI 2) :: st) h := exF_j (i := (i_const (.int (nI 2)) 13)) rfl rfl
theorem eX1_planed_13 {ev : xV} {v0 v1 v2 v3 : Option Value} {a0 : Value} {a1 : Value} {a2 : Value} {h : xH} : exF ev cX1_planed 13 ([v0, v1, v2, v3], []) [a2, a1, a0] h = xB (ev 92 [a0, a1, a2] h) (fun v h => exF ev cX1_planed 16 ([v0, v1, v2, v3], []) [v] h) := exF_c (i := (i_cs 92 3 16)) rfl rfl
theorem eX1_planed_16 {ev : xV} {v0 v1 v2 v3 : Option Value} {x : Int32} {st : List Value} {h : xH} : exF ev cX1_planed 16 ([v0, v1, v2, v3], []) (.int x :: st) h = if ¬ x = 0 then exF ev cX1_planed 22 ([v0, v1, v2, v3], []) st h else exF ev cX1_planed 19 ([v0, v1, v2, v3], []) st h := exF_b (i := (i_if1 (fun x => ¬ x = 0) 22 19)) rfl rfl
theorem eX1_planed_19 {ev : xV} {v0 v1 v2 v3 : Option Value} {st : List Value} {h : xH} : exF ev cX1_planed 19 ([v0, v1, v2, v3], []) st h = exF ev cX1_planed 21 ([v0, v1, v2, v3], []) (.int (-2) :: st) h := exF_j (i := (i_const (.int (-2)) 21)) rfl rfl
theorem eX1_planed_21 {ev : xV} {v0 v1 v2 v3 : Option Value} {x : Int32} {h : xH} : exF ev cX1_planed 21 ([v0, v1, v2, v3], []) [.int x] h = some (.inl (some (.int x)), h) := exF_r (i := (i_iret)) rfl rfl
theorem eX1_planed_22 {ev : xV} {v0 v1 v2 v3 : Option Value} {st : List Value} {h : xH} : exF ev cX1_planed 22 ([v0, v1, v2, v3], []) st h = exF ev cX1_planed 23 ([v0, v1, v2, v3], []) (.int (nI 0) :: st) h := exF_j (i := (i_const (.int (nI 0)) 23)) rfl rfl
theorem eX1_planed_23 {ev : xV} {v0 v1 v2 v3 : Option Value} {x : Int32} {st : List Value} {h : xH} : exF ev cX1_planed 23 ([v0, v1, v2, v3], []) (.int x :: st) h = exF ev cX1_planed 24 ([v0, v1, v2, some (.int x)], []) st h := exF_j (i := (i_istore 3 24)) rfl rfl
theorem eX1_planed_24 {ev : xV} {v0 v1 v2 : Option Value} {x : Int32} {st : List Value} {h : xH} : exF ev cX1_planed 24 ([v0, v1, v2, some (.int x)], []) st h = exF ev cX1_planed 25 ([v0, v1, v2, some (.int x)], []) (.int x :: st) h := exF_j (i := (i_iload 3 25)) rfl rfl
theorem eX1_planed_25 {ev : xV} {v0 v1 v2 v3 : Option Value} {st : List Value} {h : xH} : exF ev cX1_planed 25 ([v0, v1, v2, v3], []) st h = exF ev cX1_planed 26 ([v0, v1, v2, v3], []) (.int (nI 3) :: st) h := exF_j (i := (i_const (.int (nI 3)) 26)) rfl rfl
theorem eX1_planed_26 {ev : xV} {v0 v1 v2 v3 : Option Value} {x y : Int32} {st : List Value} {h : xH} : exF ev cX1_planed 26 ([v0, v1, v2, v3], []) (.int y :: .int x :: st) h = if y < x then exF ev cX1_planed 83 ([v0, v1, v2, v3], []) st h else exF ev cX1_planed 29 ([v0, v1, v2, v3], []) st h := exF_b (i := (i_if2 (fun x y => y < x) 83 29)) rfl rfl
theorem eX1_planed_29 {ev : xV} {v1 v2 v3 : Option Value} {x : Nat} {st : List Value} {h : xH} : exF ev cX1_planed 29 ([some (.ref x), v1, v2, v3], []) st h = exF ev cX1_planed 30 ([some (.ref x), v1, v2, v3], []) (.ref x :: st) h := exF_j (i := (i_aload 0 30)) rfl rfl
theorem eX1_planed_30 {ev : xV} {v0 v1 v2 v3 : Option Value} {a : Nat} {st : List Value} {h : xH} : exF ev cX1_planed 30 ([v0, v1, v2, v3], []) (.ref a :: st) h = xO (xgf h a 0 11) (fun v => exF ev cX1_planed 33 ([v0, v1, v2, v3], []) (v :: st) h) := exF_o (i := (i_getf 0 11 33)) rfl rfl
theorem eX1_planed_33 {ev : xV} {v1 v2 v3 : Option Value} {x : Nat} {st : List Value} {h : xH} : exF ev cX1_planed 33 ([some (.ref x), v1, v2, v3], []) st h = exF ev cX1_planed 34 ([some (.ref x), v1, v2, v3], []) (.ref x :: st) h := exF_j (i := (i_aload 0 34)) rfl rfl
theorem eX1_planed_34 {ev : xV} {v0 v1 v2 v3 : Option Value} {a : Nat} {st : List Value} {h : xH} : exF ev cX1_planed 34 ([v0, v1, v2, v3], []) (.ref a :: st) h = xO (xgf h a 0 4) (fun v => exF ev cX1_planed 37 ([v0, v1, v2, v3], []) (v :: st) h) := exF_o (i := (i_getf 0 4 37)) rfl rfl
theorem eX1_planed_37 {ev : xV} {v0 v1 v2 v3 : Option Value} {a0 : Value} {a : Nat} {h : xH} : exF ev cX1_planed 37 ([v0, v1, v2, v3], []) [a0, .ref a] h = xO (xck h a 3) (fun _ => xBv (ev 239 [.ref a, a0] h) (fun h => exF ev cX1_planed 40 ([v0, v1, v2, v3], []) [] h)) := exF_cdv (i := (i_cvv 3 239 1 40)) rfl rfl
theorem eX1_planed_40 {ev : xV} {v1 v2 v3 : Option Value} {x : Nat} {st : List Value} {h : xH} : exF ev cX1_planed 40 ([some (.ref x), v1, v2, v3], []) st h = exF ev cX1_planed 41 ([some (.ref x), v1, v2, v3], []) (.ref x :: st) h := exF_j (i := (i_aload 0 41)) rfl rfl
theorem eX1_planed_41 {ev : xV} {v0 v1 v2 v3 : Option Value} {st : List Value} {h : xH} : exF ev cX1_planed 41 ([v0, v1, v2, v3], []) st h = exF ev cX1_planed 42 ([v0, v1, v2, v3], []) (.int (nI 0) :: st) h := exF_j (i := (i_const (.int (nI 0)) 42)) rfl rfl
theorem eX1_planed_42 {ev : xV} {v0 v1 v2 v3 : Option Value} {st : List Value} {h : xH} : exF ev cX1_planed 42 ([v0, v1, v2, v3], []) st h = exF ev cX1_planed 43 ([v0, v1, v2, v3], []) (.int (nI 0) :: st) h := exF_j (i := (i_const (.int (nI 0)) 43)) rfl rfl
theorem eX1_planed_43 {ev : xV} {v0 v1 v2 : Option Value} {x : Int32} {st : List Value} {h : xH} : exF ev cX1_planed 43 ([v0, v1, v2, some (.int x)], []) st h = exF ev cX1_planed 44 ([v0, v1, v2, some (.int x)], []) (.int x :: st) h := exF_j (i := (i_iload 3 44)) rfl rfl
theorem eX1_planed_44 {ev : xV} {v0 v2 v3 : Option Value} {x : Int32} {st : List Value} {h : xH} : exF ev cX1_planed 44 ([v0, some (.int x), v2, v3], []) st h = exF ev cX1_planed 45 ([v0, some (.int x), v2, v3], []) (.int x :: st) h := exF_j (i := (i_iload 1 45)) rfl rfl
theorem eX1_planed_45 {ev : xV} {v0 v1 v2 v3 : Option Value} {a0 : Value} {a1 : Value} {a2 : Value} {a3 : Value} {a : Nat} {h : xH} : exF ev cX1_planed 45 ([v0, v1, v2, v3], []) [a3, a2, a1, a0, .ref a] h = xO (xck h a 0) (fun _ => xB (ev 143 [.ref a, a0, a1, a2, a3] h) (fun v h => exF ev cX1_planed 48 ([v0, v1, v2, v3], []) [v] h)) := exF_cd (i := (i_cv 0 143 4 48)) rfl rfl
theorem eX1_planed_48 {ev : xV} {v0 v1 v2 v3 : Option Value} {x : Int32} {st : List Value} {h : xH} : exF ev cX1_planed 48 ([v0, v1, v2, v3], []) (.int x :: st) h = if x = 0 then exF ev cX1_planed 77 ([v0, v1, v2, v3], []) st h else exF ev cX1_planed 51 ([v0, v1, v2, v3], []) st h := exF_b (i := (i_if1 (fun x => x = 0) 77 51)) rfl rfl
theorem eX1_planed_51 {ev : xV} {v0 v1 v3 : Option Value} {x : Int32} {st : List Value} {h : xH} : exF ev cX1_planed 51 ([v0, v1, some (.int x), v3], []) st h = exF ev cX1_planed 52 ([v0, v1, some (.int x), v3], []) (.int x :: st) h := exF_j (i := (i_iload 2 52)) rfl rfl
theorem eX1_planed_52 {ev : xV} {v0 v1 v2 v3 : Option Value} {st : List Value} {h : xH} : exF ev cX1_planed 52 ([v0, v1, v2, v3], []) st h = exF ev cX1_planed 53 ([v0, v1, v2, v3], []) (.int (-1) :: st) h := exF_j (i := (i_const (.int (-1)) 53)) rfl rfl
theorem eX1_planed_53 {ev : xV} {v0 v1 v2 v3 : Option Value} {x y : Int32} {st : List Value} {h : xH} : exF ev cX1_planed 53 ([v0, v1, v2, v3], []) (.int y :: .int x :: st) h = if ¬ x = y then exF ev cX1_planed 60 ([v0, v1, v2, v3], []) st h else exF ev cX1_planed 56 ([v0, v1, v2, v3], []) st h := exF_b (i := (i_if2 (fun x y => ¬ x = y) 60 56)) rfl rfl
theorem eX1_planed_56 {ev : xV} {v0 v1 v2 : Option Value} {x : Int32} {st : List Value} {h : xH} : exF ev cX1_planed 56 ([v0, v1, v2, some (.int x)], []) st h = exF ev cX1_planed 57 ([v0, v1, v2, some (.int x)], []) (.int x :: st) h := exF_j (i := (i_iload 3 57)) rfl rfl
theorem eX1_planed_57 {ev : xV} {v0 v1 v2 v3 : Option Value} {st : List Value} {h : xH} : exF ev cX1_planed 57 ([v0, v1, v2, v3], []) st h = exF ev cX1_planed 76 ([v0, v1, v2, v3], []) st h := exF_j (i := (i_goto 76)) rfl rfl
theorem eX1_planed_60 {ev : xV} {v0 v1 v3 : Option Value} {x : Int32} {st : List Value} {h : xH} : exF ev cX1_planed 60 ([v0, v1, some (.int x), v3], []) st h = exF ev cX1_planed 61 ([v0, v1, some (.int x), v3], []) (.int x :: st) h := exF_j (i := (i_iload 2 61)) rfl rfl
theorem eX1_planed_61 {ev : xV} {v0 v1 v2 : Option Value} {x : Int32} {st : List Value} {h : xH} : exF ev cX1_planed 61 ([v0, v1, v2, some (.int x)], []) st h = exF ev cX1_planed 62 ([v0, v1, v2, some (.int x)], []) (.int x :: st) h := exF_j (i := (i_iload 3 62)) rfl rfl
theorem eX1_planed_62 {ev : xV} {v0 v1 v2 v3 : Option Value} {x y : Int32} {st : List Value} {h : xH} : exF ev cX1_planed 62 ([v0, v1, v2, v3], []) (.int y :: .int x :: st) h = if y ≤ x then exF ev cX1_planed 74 ([v0, v1, v2, v3], []) st h else exF ev cX1_planed 65 ([v0, v1, v2, v3], []) st h := exF_b (i := (i_if2 (fun x y => y ≤ x) 74 65)) rfl rfl
theorem eX1_planed_65 {ev : xV} {v1 v2 v3 : Option Value} {x : Nat} {st : List Value} {h : xH} : exF ev cX1_planed 65 ([some (.ref x), v1, v2, v3], []) st h = exF ev cX1_planed 66 ([some (.ref x), v1, v2, v3], []) (.ref x :: st) h := exF_j (i := (i_aload 0 66)) rfl rfl
theorem eX1_planed_66 {ev : xV} {v0 v1 v2 v3 : Option Value} {a : Nat} {st : List Value} {h : xH} : exF ev cX1_planed 66 ([v0, v1, v2, v3], []) (.ref a :: st) h = xO (xgf h a 0 10) (fun v => exF ev cX1_planed 69 ([v0, v1, v2, v3], []) (v :: st) h) := exF_o (i := (i_getf 0 10 69)) rfl rfl
theorem eX1_planed_69 {ev : xV} {v0 v1 v3 : Option Value} {x : Int32} {st : List Value} {h : xH} : exF ev cX1_planed 69 ([v0, v1, some (.int x), v3], []) st h = exF ev cX1_planed 70 ([v0, v1, some (.int x), v3], []) (.int x :: st) h := exF_j (i := (i_iload 2 70)) rfl rfl
theorem eX1_planed_70 {ev : xV} {v0 v1 v2 v3 : Option Value} {i : Int32} {a : Nat} {st : List Value} {h : xH} : exF ev cX1_planed 70 ([v0, v1, v2, v3], []) (.int i :: .ref a :: st) h = xO (xai h 0 a i) (fun v => exF ev cX1_planed 71 ([v0, v1, v2, v3], []) (.int v :: st) h) := exF_o (i := (i_ai 0 71)) rfl rfl
theorem eX1_planed_71 {ev : xV} {v0 v1 v2 v3 : Option Value} {st : List Value} {h : xH} : exF ev cX1_planed 71 ([v0, v1, v2, v3], []) st h = exF ev cX1_planed 76 ([v0, v1, v2, v3], []) st h := exF_j (i := (i_goto 76)) rfl rfl
theorem eX1_planed_74 {ev : xV} {v0 v1 v2 v3 : Option Value} {st : List Value} {h : xH} : exF ev cX1_planed 74 ([v0, v1, v2, v3], []) st h = exF ev cX1_planed 76 ([v0, v1, v2, v3], []) (.int (-2) :: st) h := exF_j (i := (i_const (.int (-2)) 76)) rfl rfl
theorem eX1_planed_76 {ev : xV} {v0 v1 v2 v3 : Option Value} {x : Int32} {h : xH} : exF ev cX1_planed 76 ([v0, v1, v2, v3], []) [.int x] h = some (.inl (some (.int x)), h) := exF_r (i := (i_iret)) rfl rfl
theorem eX1_planed_77 {ev : xV} {v0 v1 v2 : Option Value} {x : Int32} {st : List Value} {h : xH} : exF ev cX1_planed 77 ([v0, v1, v2, some (.int x)], []) st h = exF ev cX1_planed 80 ([v0, v1, v2, some (.int (x + (nI 1)))], []) st h := exF_j (i := (i_iinc 3 (nI 1) 80)) rfl rfl
theorem eX1_planed_80 {ev : xV} {v0 v1 v2 v3 : Option Value} {st : List Value} {h : xH} : exF ev cX1_planed 80 ([v0, v1, v2, v3], []) st h = exF ev cX1_planed 24 ([v0, v1, v2, v3], []) st h := exF_j (i := (i_goto 24)) rfl rfl
theorem eX1_planed_83 {ev : xV} {v0 v1 v2 v3 : Option Value} {st : List Value} {h : xH} : exF ev cX1_planed 83 ([v0, v1, v2, v3], []) st h = exF ev cX1_planed 85 ([v0, v1, v2, v3], []) (.int (-2) :: st) h := exF_j (i := (i_const (.int (-2)) 85)) rfl rfl
theorem eX1_planed_85 {ev : xV} {v0 v1 v2 v3 : Option Value} {x : Int32} {h : xH} : exF ev cX1_planed 85 ([v0, v1, v2, v3], []) [.int x] h = some (.inl (some (.int x)), h) := exF_r (i := (i_iret)) rfl rfl
noncomputable def cX1_isPlaned : xC := [(0, i_iload 2 1),
  (1, i_iload 3 2),
  (2, i_if2 (fun x y => ¬ x = y) 31 5),
  (5, i_aload 0 6),
  (6, i_getf 0 5 9),
  (9, i_aload 0 10),
  (10, i_getf 0 11 13),
  (13, i_cvv 3 239 1 16),
  (16, i_aload 0 17),
  (17, i_iload 4 19),
  (19, i_cvv 0 131 1 22),
  (22, i_aload 0 23),
  (23, i_aload 0 24),
  (24, i_getf 0 5 27),
  (27, i_cv 0 144 1 30),
  (30, i_zret),
  (31, i_iload 1 32),
  (32, i_istore 5 34),
  (34, i_iload 5 36),
  (36, i_aload 0 37),
  (37, i_cv 0 96 0 40),
  (40, i_if2 (fun x y => y ≤ x) 117 43),
  (43, i_aload 0 44),
  (44, i_getf 0 11 47),
  (47, i_iload 5 49),
  (49, i_cv 3 240 1 52),
  (52, i_if1 (fun x => ¬ x = 0) 58 55),
  (55, i_goto 111),
  (58, i_aload 0 59),
  (59, i_getf 0 11 62),
  (62, i_getf 3 1 65),
  (65, i_iload 5 67),
  (67, i_dup2 68),
  (68, i_ai 0 69),
  (69, i_const (.int (nI 1)) 70),
  (70, i_ii (fun x y => x + y) 71),
  (71, i_si (fun v => v) 0 72),
  (72, i_aload 0 73),
  (73, i_getf 0 10 76),
  (76, i_iload 2 77),
  (77, i_iload 5 79),
  (79, i_si (fun v => v) 0 80),
  (80, i_aload 0 81),
  (81, i_iload 5 83),
  (83, i_iload 2 84),
  (84, i_const (.int (nI 1)) 85),
  (85, i_ii (fun x y => x + y) 86),
  (86, i_iload 3 87),
  (87, i_iload 4 89),
  (89, i_cv 0 143 4 92),
  (92, i_if1 (fun x => x = 0) 97 95),
  (95, i_const (.int (nI 1)) 96),
  (96, i_zret),
  (97, i_aload 0 98),
  (98, i_getf 0 11 101),
  (101, i_getf 3 1 104),
  (104, i_iload 5 106),
  (106, i_dup2 107),
  (107, i_ai 0 108),
  (108, i_const (.int (nI 1)) 109),
  (109, i_ii (fun x y => x - y) 110),
  (110, i_si (fun v => v) 0 111),
  (111, i_iinc 5 (nI 1) 114),
  (114, i_goto 34),
  (117, i_const (.int (nI 0)) 118),
  (118, i_zret)]
theorem eX1_isPlaned_0 {ev : xV} {v0 v1 v3 v4 v5 : Option Value} {x : Int32} {st : List Value} {h : xH} : exF ev cX1_isPlaned 0 ([v0, v1, some (.int x), v3, v4, v5], []) st h = exF ev cX1_isPlaned 1 ([v0, v1, some (.int x), v3, v4, v5], []) (.int x :: st) h := exF_j (i := (i_iload 2 1)) rfl rfl
theorem eX1_isPlaned_1 {ev : xV} {v0 v1 v2 v4 v5 : Option Value} {x : Int32} {st : List Value} {h : xH} : exF ev cX1_isPlaned 1 ([v0, v1, v2, some (.int x), v4, v5], []) st h = exF ev cX1_isPlaned 2 ([v0, v1, v2, some (.int x), v4, v5], []) (.int x :: st) h := exF_j (i := (i_iload 3 2)) rfl rfl
theorem eX1_isPlaned_2 {ev : xV} {v0 v1 v2 v3 v4 v5 : Option Value} {x y : Int32} {st : List Value} {h : xH} : exF ev cX1_isPlaned 2 ([v0, v1, v2, v3, v4, v5], []) (.int y :: .int x :: st) h = if ¬ x = y then exF ev cX1_isPlaned 31 ([v0, v1, v2, v3, v4, v5], []) st h else exF ev cX1_isPlaned 5 ([v0, v1, v2, v3, v4, v5], []) st h := exF_b (i := (i_if2 (fun x y => ¬ x = y) 31 5)) rfl rfl
theorem eX1_isPlaned_5 {ev : xV} {v1 v2 v3 v4 v5 : Option Value} {x : Nat} {st : List Value} {h : xH} : exF ev cX1_isPlaned 5 ([some (.ref x), v1, v2, v3, v4, v5], []) st h = exF ev cX1_isPlaned 6 ([some (.ref x), v1, v2, v3, v4, v5], []) (.ref x :: st) h := exF_j (i := (i_aload 0 6)) rfl rfl
theorem eX1_isPlaned_6 {ev : xV} {v0 v1 v2 v3 v4 v5 : Option Value} {a : Nat} {st : List Value} {h : xH} : exF ev cX1_isPlaned 6 ([v0, v1, v2, v3, v4, v5], []) (.ref a :: st) h = xO (xgf h a 0 5) (fun v => exF ev cX1_isPlaned 9 ([v0, v1, v2, v3, v4, v5], []) (v :: st) h) := exF_o (i := (i_getf 0 5 9)) rfl rfl
theorem eX1_isPlaned_9 {ev : xV} {v1 v2 v3 v4 v5 : Option Value} {x : Nat} {st : List Value} {h : xH} : exF ev cX1_isPlaned 9 ([some (.ref x), v1, v2, v3, v4, v5], []) st h = exF ev cX1_isPlaned 10 ([some (.ref x), v1, v2, v3, v4, v5], []) (.ref x :: st) h := exF_j (i := (i_aload 0 10)) rfl rfl
theorem eX1_isPlaned_10 {ev : xV} {v0 v1 v2 v3 v4 v5 : Option Value} {a : Nat} {st : List Value} {h : xH} : exF ev cX1_isPlaned 10 ([v0, v1, v2, v3, v4, v5], []) (.ref a :: st) h = xO (xgf h a 0 11) (fun v => exF ev cX1_isPlaned 13 ([v0, v1, v2, v3, v4, v5], []) (v :: st) h) := exF_o (i := (i_getf 0 11 13)) rfl rfl
theorem eX1_isPlaned_13 {ev : xV} {v0 v1 v2 v3 v4 v5 : Option Value} {a0 : Value} {a : Nat} {h : xH} : exF ev cX1_isPlaned 13 ([v0, v1, v2, v3, v4, v5], []) [a0, .ref a] h = xO (xck h a 3) (fun _ => xBv (ev 239 [.ref a, a0] h) (fun h => exF ev cX1_isPlaned 16 ([v0, v1, v2, v3, v4, v5], []) [] h)) := exF_cdv (i := (i_cvv 3 239 1 16)) rfl rfl
theorem eX1_isPlaned_16 {ev : xV} {v1 v2 v3 v4 v5 : Option Value} {x : Nat} {st : List Value} {h : xH} : exF ev cX1_isPlaned 16 ([some (.ref x), v1, v2, v3, v4, v5], []) st h = exF ev cX1_isPlaned 17 ([some (.ref x), v1, v2, v3, v4, v5], []) (.ref x :: st) h := exF_j (i := (i_aload 0 17)) rfl rfl
theorem eX1_isPlaned_17 {ev : xV} {v0 v1 v2 v3 v5 : Option Value} {x : Int32} {st : List Value} {h : xH} : exF ev cX1_isPlaned 17 ([v0, v1, v2, v3, some (.int x), v5], []) st h = exF ev cX1_isPlaned 19 ([v0, v1, v2, v3, some (.int x), v5], []) (.int x :: st) h := exF_j (i := (i_iload 4 19)) rfl rfl
theorem eX1_isPlaned_19 {ev : xV} {v0 v1 v2 v3 v4 v5 : Option Value} {a0 : Value} {a : Nat} {h : xH} : exF ev cX1_isPlaned 19 ([v0, v1, v2, v3, v4, v5], []) [a0, .ref a] h = xO (xck h a 0) (fun _ => xBv (ev 131 [.ref a, a0] h) (fun h => exF ev cX1_isPlaned 22 ([v0, v1, v2, v3, v4, v5], []) [] h)) := exF_cdv (i := (i_cvv 0 131 1 22)) rfl rfl
theorem eX1_isPlaned_22 {ev : xV} {v1 v2 v3 v4 v5 : Option Value} {x : Nat} {st : List Value} {h : xH} : exF ev cX1_isPlaned 22 ([some (.ref x), v1, v2, v3, v4, v5], []) st h = exF ev cX1_isPlaned 23 ([some (.ref x), v1, v2, v3, v4, v5], []) (.ref x :: st) h := exF_j (i := (i_aload 0 23)) rfl rfl
theorem eX1_isPlaned_23 {ev : xV} {v1 v2 v3 v4 v5 : Option Value} {x : Nat} {st : List Value} {h : xH} : exF ev cX1_isPlaned 23 ([some (.ref x), v1, v2, v3, v4, v5], []) st h = exF ev cX1_isPlaned 24 ([some (.ref x), v1, v2, v3, v4, v5], []) (.ref x :: st) h := exF_j (i := (i_aload 0 24)) rfl rfl
theorem eX1_isPlaned_24 {ev : xV} {v0 v1 v2 v3 v4 v5 : Option Value} {a : Nat} {st : List Value} {h : xH} : exF ev cX1_isPlaned 24 ([v0, v1, v2, v3, v4, v5], []) (.ref a :: st) h = xO (xgf h a 0 5) (fun v => exF ev cX1_isPlaned 27 ([v0, v1, v2, v3, v4, v5], []) (v :: st) h) := exF_o (i := (i_getf 0 5 27)) rfl rfl
theorem eX1_isPlaned_27 {ev : xV} {v0 v1 v2 v3 v4 v5 : Option Value} {a0 : Value} {a : Nat} {h : xH} : exF ev cX1_isPlaned 27 ([v0, v1, v2, v3, v4, v5], []) [a0, .ref a] h = xO (xck h a 0) (fun _ => xB (ev 144 [.ref a, a0] h) (fun v h => exF ev cX1_isPlaned 30 ([v0, v1, v2, v3, v4, v5], []) [v] h)) := exF_cd (i := (i_cv 0 144 1 30)) rfl rfl
theorem eX1_isPlaned_30 {ev : xV} {v0 v1 v2 v3 v4 v5 : Option Value} {x : Int32} {h : xH} : exF ev cX1_isPlaned 30 ([v0, v1, v2, v3, v4, v5], []) [.int x] h = if x = nI 0 ∨ x = nI 1 then some (.inl (some (.int x)), h) else none := exF_z (i := (i_zret)) rfl rfl
theorem eX1_isPlaned_30b0 {ev : xV} {v0 v1 v2 v3 v4 v5 : Option Value} {h : xH} : exF ev cX1_isPlaned 30 ([v0, v1, v2, v3, v4, v5], []) [.int (nI 0)] h = some (.inl (some (.int (nI 0))), h) := exF_r (i := (i_zret)) rfl i_zret_0
theorem eX1_isPlaned_30b1 {ev : xV} {v0 v1 v2 v3 v4 v5 : Option Value} {h : xH} : exF ev cX1_isPlaned 30 ([v0, v1, v2, v3, v4, v5], []) [.int (nI 1)] h = some (.inl (some (.int (nI 1))), h) := exF_r (i := (i_zret)) rfl i_zret_1
theorem eX1_isPlaned_30b {ev : xV} {v0 v1 v2 v3 v4 v5 : Option Value} {b : Bool} {h : xH} : exF ev cX1_isPlaned 30 ([v0, v1, v2, v3, v4, v5], []) [.int (bI b)] h = some (.inl (some (.int (bI b))), h) := exF_r (i := (i_zret)) rfl (i_zret_b b)
theorem eX1_isPlaned_31 {ev : xV} {v0 v2 v3 v4 v5 : Option Value} {x : Int32} {st : List Value} {h : xH} : exF ev cX1_isPlaned 31 ([v0, some (.int x), v2, v3, v4, v5], []) st h = exF ev cX1_isPlaned 32 ([v0, some (.int x), v2, v3, v4, v5], []) (.int x :: st) h := exF_j (i := (i_iload 1 32)) rfl rfl
theorem eX1_isPlaned_32 {ev : xV} {v0 v1 v2 v3 v4 v5 : Option Value} {x : Int32} {st : List Value} {h : xH} : exF ev cX1_isPlaned 32 ([v0, v1, v2, v3, v4, v5], []) (.int x :: st) h = exF ev cX1_isPlaned 34 ([v0, v1, v2, v3, v4, some (.int x)], []) st h := exF_j (i := (i_istore 5 34)) rfl rfl
theorem eX1_isPlaned_34 {ev : xV} {v0 v1 v2 v3 v4 : Option Value} {x : Int32} {st : List Value} {h : xH} : exF ev cX1_isPlaned 34 ([v0, v1, v2, v3, v4, some (.int x)], []) st h = exF ev cX1_isPlaned 36 ([v0, v1, v2, v3, v4, some (.int x)], []) (.int x :: st) h := exF_j (i := (i_iload 5 36)) rfl rfl
theorem eX1_isPlaned_36 {ev : xV} {v1 v2 v3 v4 v5 : Option Value} {x : Nat} {st : List Value} {h : xH} : exF ev cX1_isPlaned 36 ([some (.ref x), v1, v2, v3, v4, v5], []) st h = exF ev cX1_isPlaned 37 ([some (.ref x), v1, v2, v3, v4, v5], []) (.ref x :: st) h := exF_j (i := (i_aload 0 37)) rfl rfl
theorem eX1_isPlaned_37 {ev : xV} {v0 v1 v2 v3 v4 v5 : Option Value} {r0 : Value} {a : Nat} {h : xH} : exF ev cX1_isPlaned 37 ([v0, v1, v2, v3, v4, v5], []) [.ref a, r0] h = xO (xck h a 0) (fun _ => xB (ev 96 [.ref a] h) (fun v h => exF ev cX1_isPlaned 40 ([v0, v1, v2, v3, v4, v5], []) [v, r0] h)) := exF_cd (i := (i_cv 0 96 0 40)) rfl rfl
theorem eX1_isPlaned_40 {ev : xV} {v0 v1 v2 v3 v4 v5 : Option Value} {x y : Int32} {st : List Value} {h : xH} : exF ev cX1_isPlaned 40 ([v0, v1, v2, v3, v4, v5], []) (.int y :: .int x :: st) h = if y ≤ x then exF ev cX1_isPlaned 117 ([v0, v1, v2, v3, v4, v5], []) st h else exF ev cX1_isPlaned 43 ([v0, v1, v2, v3, v4, v5], []) st h := exF_b (i := (i_if2 (fun x y => y ≤ x) 117 43)) rfl rfl
theorem eX1_isPlaned_43 {ev : xV} {v1 v2 v3 v4 v5 : Option Value} {x : Nat} {st : List Value} {h : xH} : exF ev cX1_isPlaned 43 ([some (.ref x), v1, v2, v3, v4, v5], []) st h = exF ev cX1_isPlaned 44 ([some (.ref x), v1, v2, v3, v4, v5], []) (.ref x :: st) h := exF_j (i := (i_aload 0 44)) rfl rfl
theorem eX1_isPlaned_44 {ev : xV} {v0 v1 v2 v3 v4 v5 : Option Value} {a : Nat} {st : List Value} {h : xH} : exF ev cX1_isPlaned 44 ([v0, v1, v2, v3, v4, v5], []) (.ref a :: st) h = xO (xgf h a 0 11) (fun v => exF ev cX1_isPlaned 47 ([v0, v1, v2, v3, v4, v5], []) (v :: st) h) := exF_o (i := (i_getf 0 11 47)) rfl rfl
theorem eX1_isPlaned_47 {ev : xV} {v0 v1 v2 v3 v4 : Option Value} {x : Int32} {st : List Value} {h : xH} : exF ev cX1_isPlaned 47 ([v0, v1, v2, v3, v4, some (.int x)], []) st h = exF ev cX1_isPlaned 49 ([v0, v1, v2, v3, v4, some (.int x)], []) (.int x :: st) h := exF_j (i := (i_iload 5 49)) rfl rfl
theorem eX1_isPlaned_49 {ev : xV} {v0 v1 v2 v3 v4 v5 : Option Value} {a0 : Value} {a : Nat} {h : xH} : exF ev cX1_isPlaned 49 ([v0, v1, v2, v3, v4, v5], []) [a0, .ref a] h = xO (xck h a 3) (fun _ => xB (ev 240 [.ref a, a0] h) (fun v h => exF ev cX1_isPlaned 52 ([v0, v1, v2, v3, v4, v5], []) [v] h)) := exF_cd (i := (i_cv 3 240 1 52)) rfl rfl
theorem eX1_isPlaned_52 {ev : xV} {v0 v1 v2 v3 v4 v5 : Option Value} {x : Int32} {st : List Value} {h : xH} : exF ev cX1_isPlaned 52 ([v0, v1, v2, v3, v4, v5], []) (.int x :: st) h = if ¬ x = 0 then exF ev cX1_isPlaned 58 ([v0, v1, v2, v3, v4, v5], []) st h else exF ev cX1_isPlaned 55 ([v0, v1, v2, v3, v4, v5], []) st h := exF_b (i := (i_if1 (fun x => ¬ x = 0) 58 55)) rfl rfl
theorem eX1_isPlaned_55 {ev : xV} {v0 v1 v2 v3 v4 v5 : Option Value} {st : List Value} {h : xH} : exF ev cX1_isPlaned 55 ([v0, v1, v2, v3, v4, v5], []) st h = exF ev cX1_isPlaned 111 ([v0, v1, v2, v3, v4, v5], []) st h := exF_j (i := (i_goto 111)) rfl rfl
theorem eX1_isPlaned_58 {ev : xV} {v1 v2 v3 v4 v5 : Option Value} {x : Nat} {st : List Value} {h : xH} : exF ev cX1_isPlaned 58 ([some (.ref x), v1, v2, v3, v4, v5], []) st h = exF ev cX1_isPlaned 59 ([some (.ref x), v1, v2, v3, v4, v5], []) (.ref x :: st) h := exF_j (i := (i_aload 0 59)) rfl rfl
theorem eX1_isPlaned_59 {ev : xV} {v0 v1 v2 v3 v4 v5 : Option Value} {a : Nat} {st : List Value} {h : xH} : exF ev cX1_isPlaned 59 ([v0, v1, v2, v3, v4, v5], []) (.ref a :: st) h = xO (xgf h a 0 11) (fun v => exF ev cX1_isPlaned 62 ([v0, v1, v2, v3, v4, v5], []) (v :: st) h) := exF_o (i := (i_getf 0 11 62)) rfl rfl
theorem eX1_isPlaned_62 {ev : xV} {v0 v1 v2 v3 v4 v5 : Option Value} {a : Nat} {st : List Value} {h : xH} : exF ev cX1_isPlaned 62 ([v0, v1, v2, v3, v4, v5], []) (.ref a :: st) h = xO (xgf h a 3 1) (fun v => exF ev cX1_isPlaned 65 ([v0, v1, v2, v3, v4, v5], []) (v :: st) h) := exF_o (i := (i_getf 3 1 65)) rfl rfl
theorem eX1_isPlaned_65 {ev : xV} {v0 v1 v2 v3 v4 : Option Value} {x : Int32} {st : List Value} {h : xH} : exF ev cX1_isPlaned 65 ([v0, v1, v2, v3, v4, some (.int x)], []) st h = exF ev cX1_isPlaned 67 ([v0, v1, v2, v3, v4, some (.int x)], []) (.int x :: st) h := exF_j (i := (i_iload 5 67)) rfl rfl
theorem eX1_isPlaned_67 {ev : xV} {v0 v1 v2 v3 v4 v5 : Option Value} {x : Int32} {y : Nat} {st : List Value} {h : xH} : exF ev cX1_isPlaned 67 ([v0, v1, v2, v3, v4, v5], []) (.int x :: .ref y :: st) h = exF ev cX1_isPlaned 68 ([v0, v1, v2, v3, v4, v5], []) (.int x :: .ref y :: .int x :: .ref y :: st) h := exF_j (i := (i_dup2 68)) rfl rfl
theorem eX1_isPlaned_68 {ev : xV} {v0 v1 v2 v3 v4 v5 : Option Value} {i : Int32} {a : Nat} {st : List Value} {h : xH} : exF ev cX1_isPlaned 68 ([v0, v1, v2, v3, v4, v5], []) (.int i :: .ref a :: st) h = xO (xai h 0 a i) (fun v => exF ev cX1_isPlaned 69 ([v0, v1, v2, v3, v4, v5], []) (.int v :: st) h) := exF_o (i := (i_ai 0 69)) rfl rfl
theorem eX1_isPlaned_69 {ev : xV} {v0 v1 v2 v3 v4 v5 : Option Value} {st : List Value} {h : xH} : exF ev cX1_isPlaned 69 ([v0, v1, v2, v3, v4, v5], []) st h = exF ev cX1_isPlaned 70 ([v0, v1, v2, v3, v4, v5], []) (.int (nI 1) :: st) h := exF_j (i := (i_const (.int (nI 1)) 70)) rfl rfl
theorem eX1_isPlaned_70 {ev : xV} {v0 v1 v2 v3 v4 v5 : Option Value} {x y : Int32} {st : List Value} {h : xH} : exF ev cX1_isPlaned 70 ([v0, v1, v2, v3, v4, v5], []) (.int y :: .int x :: st) h = exF ev cX1_isPlaned 71 ([v0, v1, v2, v3, v4, v5], []) (.int (x + y) :: st) h := exF_j (i := (i_ii (fun x y => x + y) 71)) rfl rfl
theorem eX1_isPlaned_71 {ev : xV} {v0 v1 v2 v3 v4 v5 : Option Value} {v i : Int32} {a : Nat} {st : List Value} {h : xH} : exF ev cX1_isPlaned 71 ([v0, v1, v2, v3, v4, v5], []) (.int v :: .int i :: .ref a :: st) h = xO (xsi h 0 a i v) (fun h => exF ev cX1_isPlaned 72 ([v0, v1, v2, v3, v4, v5], []) st h) := exF_o (i := (i_si (fun v => v) 0 72)) rfl rfl
theorem eX1_isPlaned_72 {ev : xV} {v1 v2 v3 v4 v5 : Option Value} {x : Nat} {st : List Value} {h : xH} : exF ev cX1_isPlaned 72 ([some (.ref x), v1, v2, v3, v4, v5], []) st h = exF ev cX1_isPlaned 73 ([some (.ref x), v1, v2, v3, v4, v5], []) (.ref x :: st) h := exF_j (i := (i_aload 0 73)) rfl rfl
theorem eX1_isPlaned_73 {ev : xV} {v0 v1 v2 v3 v4 v5 : Option Value} {a : Nat} {st : List Value} {h : xH} : exF ev cX1_isPlaned 73 ([v0, v1, v2, v3, v4, v5], []) (.ref a :: st) h = xO (xgf h a 0 10) (fun v => exF ev cX1_isPlaned 76 ([v0, v1, v2, v3, v4, v5], []) (v :: st) h) := exF_o (i := (i_getf 0 10 76)) rfl rfl
theorem eX1_isPlaned_76 {ev : xV} {v0 v1 v3 v4 v5 : Option Value} {x : Int32} {st : List Value} {h : xH} : exF ev cX1_isPlaned 76 ([v0, v1, some (.int x), v3, v4, v5], []) st h = exF ev cX1_isPlaned 77 ([v0, v1, some (.int x), v3, v4, v5], []) (.int x :: st) h := exF_j (i := (i_iload 2 77)) rfl rfl
theorem eX1_isPlaned_77 {ev : xV} {v0 v1 v2 v3 v4 : Option Value} {x : Int32} {st : List Value} {h : xH} : exF ev cX1_isPlaned 77 ([v0, v1, v2, v3, v4, some (.int x)], []) st h = exF ev cX1_isPlaned 79 ([v0, v1, v2, v3, v4, some (.int x)], []) (.int x :: st) h := exF_j (i := (i_iload 5 79)) rfl rfl
theorem eX1_isPlaned_79 {ev : xV} {v0 v1 v2 v3 v4 v5 : Option Value} {v i : Int32} {a : Nat} {st : List Value} {h : xH} : exF ev cX1_isPlaned 79 ([v0, v1, v2, v3, v4, v5], []) (.int v :: .int i :: .ref a :: st) h = xO (xsi h 0 a i v) (fun h => exF ev cX1_isPlaned 80 ([v0, v1, v2, v3, v4, v5], []) st h) := exF_o (i := (i_si (fun v => v) 0 80)) rfl rfl
theorem eX1_isPlaned_80 {ev : xV} {v1 v2 v3 v4 v5 : Option Value} {x : Nat} {st : List Value} {h : xH} : exF ev cX1_isPlaned 80 ([some (.ref x), v1, v2, v3, v4, v5], []) st h = exF ev cX1_isPlaned 81 ([some (.ref x), v1, v2, v3, v4, v5], []) (.ref x :: st) h := exF_j (i := (i_aload 0 81)) rfl rfl
theorem eX1_isPlaned_81 {ev : xV} {v0 v1 v2 v3 v4 : Option Value} {x : Int32} {st : List Value} {h : xH} : exF ev cX1_isPlaned 81 ([v0, v1, v2, v3, v4, some (.int x)], []) st h = exF ev cX1_isPlaned 83 ([v0, v1, v2, v3, v4, some (.int x)], []) (.int x :: st) h := exF_j (i := (i_iload 5 83)) rfl rfl
theorem eX1_isPlaned_83 {ev : xV} {v0 v1 v3 v4 v5 : Option Value} {x : Int32} {st : List Value} {h : xH} : exF ev cX1_isPlaned 83 ([v0, v1, some (.int x), v3, v4, v5], []) st h = exF ev cX1_isPlaned 84 ([v0, v1, some (.int x), v3, v4, v5], []) (.int x :: st) h := exF_j (i := (i_iload 2 84)) rfl rfl
theorem eX1_isPlaned_84 {ev : xV} {v0 v1 v2 v3 v4 v5 : Option Value} {st : List Value} {h : xH} : exF ev cX1_isPlaned 84 ([v0, v1, v2, v3, v4, v5], []) st h = exF ev cX1_isPlaned 85 ([v0, v1, v2, v3, v4, v5], []) (.int (nI 1) :: st) h := exF_j (i := (i_const (.int (nI 1)) 85)) rfl rfl
theorem eX1_isPlaned_85 {ev : xV} {v0 v1 v2 v3 v4 v5 : Option Value} {x y : Int32} {st : List Value} {h : xH} : exF ev cX1_isPlaned 85 ([v0, v1, v2, v3, v4, v5], []) (.int y :: .int x :: st) h = exF ev cX1_isPlaned 86 ([v0, v1, v2, v3, v4, v5], []) (.int (x + y) :: st) h := exF_j (i := (i_ii (fun x y => x + y) 86)) rfl rfl
theorem eX1_isPlaned_86 {ev : xV} {v0 v1 v2 v4 v5 : Option Value} {x : Int32} {st : List Value} {h : xH} : exF ev cX1_isPlaned 86 ([v0, v1, v2, some (.int x), v4, v5], []) st h = exF ev cX1_isPlaned 87 ([v0, v1, v2, some (.int x), v4, v5], []) (.int x :: st) h := exF_j (i := (i_iload 3 87)) rfl rfl
theorem eX1_isPlaned_87 {ev : xV} {v0 v1 v2 v3 v5 : Option Value} {x : Int32} {st : List Value} {h : xH} : exF ev cX1_isPlaned 87 ([v0, v1, v2, v3, some (.int x), v5], []) st h = exF ev cX1_isPlaned 89 ([v0, v1, v2, v3, some (.int x), v5], []) (.int x :: st) h := exF_j (i := (i_iload 4 89)) rfl rfl
theorem eX1_isPlaned_89 {ev : xV} {v0 v1 v2 v3 v4 v5 : Option Value} {a0 : Value} {a1 : Value} {a2 : Value} {a3 : Value} {a : Nat} {h : xH} : exF ev cX1_isPlaned 89 ([v0, v1, v2, v3, v4, v5], []) [a3, a2, a1, a0, .ref a] h = xO (xck h a 0) (fun _ => xB (ev 143 [.ref a, a0, a1, a2, a3] h) (fun v h => exF ev cX1_isPlaned 92 ([v0, v1, v2, v3, v4, v5], []) [v] h)) := exF_cd (i := (i_cv 0 143 4 92)) rfl rfl
theorem eX1_isPlaned_92 {ev : xV} {v0 v1 v2 v3 v4 v5 : Option Value} {x : Int32} {st : List Value} {h : xH} : exF ev cX1_isPlaned 92 ([v0, v1, v2, v3, v4, v5], []) (.int x :: st) h = if x = 0 then exF ev cX1_isPlaned 97 ([v0, v1, v2, v3, v4, v5], []) st h else exF ev cX1_isPlaned 95 ([v0, v1, v2, v3, v4, v5], []) st h := exF_b (i := (i_if1 (fun x => x = 0) 97 95)) rfl rfl
theorem eX1_isPlaned_95 {ev : xV} {v0 v1 v2 v3 v4 v5 : Option Value} {st : List Value} {h : xH} : exF ev cX1_isPlaned 95 ([v0, v1, v2, v3, v4, v5], []) st h = exF ev cX1_isPlaned 96 ([v0, v1, v2, v3, v4, v5], []) (.int (nI 1) :: st) h := exF_j (i := (i_const (.int (nI 1)) 96)) rfl rfl
theorem eX1_isPlaned_96 {ev : xV} {v0 v1 v2 v3 v4 v5 : Option Value} {x : Int32} {h : xH} : exF ev cX1_isPlaned 96 ([v0, v1, v2, v3, v4, v5], []) [.int x] h = if x = nI 0 ∨ x = nI 1 then some (.inl (some (.int x)), h) else none := exF_z (i := (i_zret)) rfl rfl
theorem eX1_isPlaned_96b0 {ev : xV} {v0 v1 v2 v3 v4 v5 : Option Value} {h : xH} : exF ev cX1_isPlaned 96 ([v0, v1, v2, v3, v4, v5], []) [.int (nI 0)] h = some (.inl (some (.int (nI 0))), h) := exF_r (i := (i_zret)) rfl i_zret_0
theorem eX1_isPlaned_96b1 {ev : xV} {v0 v1 v2 v3 v4 v5 : Option Value} {h : xH} : exF ev cX1_isPlaned 96 ([v0, v1, v2, v3, v4, v5], []) [.int (nI 1)] h = some (.inl (some (.int (nI 1))), h) := exF_r (i := (i_zret)) rfl i_zret_1
theorem eX1_isPlaned_96b {ev : xV} {v0 v1 v2 v3 v4 v5 : Option Value} {b : Bool} {h : xH} : exF ev cX1_isPlaned 96 ([v0, v1, v2, v3, v4, v5], []) [.int (bI b)] h = some (.inl (some (.int (bI b))), h) := exF_r (i := (i_zret)) rfl (i_zret_b b)
theorem eX1_isPlaned_97 {ev : xV} {v1 v2 v3 v4 v5 : Option Value} {x : Nat} {st : List Value} {h : xH} : exF ev cX1_isPlaned 97 ([some (.ref x), v1, v2, v3, v4, v5], []) st h = exF ev cX1_isPlaned 98 ([some (.ref x), v1, v2, v3, v4, v5], []) (.ref x :: st) h := exF_j (i := (i_aload 0 98)) rfl rfl
theorem eX1_isPlaned_98 {ev : xV} {v0 v1 v2 v3 v4 v5 : Option Value} {a : Nat} {st : List Value} {h : xH} : exF ev cX1_isPlaned 98 ([v0, v1, v2, v3, v4, v5], []) (.ref a :: st) h = xO (xgf h a 0 11) (fun v => exF ev cX1_isPlaned 101 ([v0, v1, v2, v3, v4, v5], []) (v :: st) h) := exF_o (i := (i_getf 0 11 101)) rfl rfl
theorem eX1_isPlaned_101 {ev : xV} {v0 v1 v2 v3 v4 v5 : Option Value} {a : Nat} {st : List Value} {h : xH} : exF ev cX1_isPlaned 101 ([v0, v1, v2, v3, v4, v5], []) (.ref a :: st) h = xO (xgf h a 3 1) (fun v => exF ev cX1_isPlaned 104 ([v0, v1, v2, v3, v4, v5], []) (v :: st) h) := exF_o (i := (i_getf 3 1 104)) rfl rfl
theorem eX1_isPlaned_104 {ev : xV} {v0 v1 v2 v3 v4 : Option Value} {x : Int32} {st : List Value} {h : xH} : exF ev cX1_isPlaned 104 ([v0, v1, v2, v3, v4, some (.int x)], []) st h = exF ev cX1_isPlaned 106 ([v0, v1, v2, v3, v4, some (.int x)], []) (.int x :: st) h := exF_j (i := (i_iload 5 106)) rfl rfl
theorem eX1_isPlaned_106 {ev : xV} {v0 v1 v2 v3 v4 v5 : Option Value} {x : Int32} {y : Nat} {st : List Value} {h : xH} : exF ev cX1_isPlaned 106 ([v0, v1, v2, v3, v4, v5], []) (.int x :: .ref y :: st) h = exF ev cX1_isPlaned 107 ([v0, v1, v2, v3, v4, v5], []) (.int x :: .ref y :: .int x :: .ref y :: st) h := exF_j (i := (i_dup2 107)) rfl rfl
theorem eX1_isPlaned_107 {ev : xV} {v0 v1 v2 v3 v4 v5 : Option Value} {i : Int32} {a : Nat} {st : List Value} {h : xH} : exF ev cX1_isPlaned 107 ([v0, v1, v2, v3, v4, v5], []) (.int i :: .ref a :: st) h = xO (xai h 0 a i) (fun v => exF ev cX1_isPlaned 108 ([v0, v1, v2, v3, v4, v5], []) (.int v :: st) h) := exF_o (i := (i_ai 0 108)) rfl rfl
theorem eX1_isPlaned_108 {ev : xV} {v0 v1 v2 v3 v4 v5 : Option Value} {st : List Value} {h : xH} : exF ev cX1_isPlaned 108 ([v0, v1, v2, v3, v4, v5], []) st h = exF ev cX1_isPlaned 109 ([v0, v1, v2, v3, v4, v5], []) (.int (nI 1) :: st) h := exF_j (i := (i_const (.int (nI 1)) 109)) rfl rfl
theorem eX1_isPlaned_109 {ev : xV} {v0 v1 v2 v3 v4 v5 : Option Value} {x y : Int32} {st : List Value} {h : xH} : exF ev cX1_isPlaned 109 ([v0, v1, v2, v3, v4, v5], []) (.int y :: .int x :: st) h = exF ev cX1_isPlaned 110 ([v0, v1, v2, v3, v4, v5], []) (.int (x - y) :: st) h := exF_j (i := (i_ii (fun x y => x - y) 110)) rfl rfl
theorem eX1_isPlaned_110 {ev : xV} {v0 v1 v2 v3 v4 v5 : Option Value} {v i : Int32} {a : Nat} {st : List Value} {h : xH} : exF ev cX1_isPlaned 110 ([v0, v1, v2, v3, v4, v5], []) (.int v :: .int i :: .ref a :: st) h = xO (xsi h 0 a i v) (fun h => exF ev cX1_isPlaned 111 ([v0, v1, v2, v3, v4, v5], []) st h) := exF_o (i := (i_si (fun v => v) 0 111)) rfl rfl
theorem eX1_isPlaned_111 {ev : xV} {v0 v1 v2 v3 v4 : Option Value} {x : Int32} {st : List Value} {h : xH} : exF ev cX1_isPlaned 111 ([v0, v1, v2, v3, v4, some (.int x)], []) st h = exF ev cX1_isPlaned 114 ([v0, v1, v2, v3, v4, some (.int (x + (nI 1)))], []) st h := exF_j (i := (i_iinc 5 (nI 1) 114)) rfl rfl
theorem eX1_isPlaned_114 {ev : xV} {v0 v1 v2 v3 v4 v5 : Option Value} {st : List Value} {h : xH} : exF ev cX1_isPlaned 114 ([v0, v1, v2, v3, v4, v5], []) st h = exF ev cX1_isPlaned 34 ([v0, v1, v2, v3, v4, v5], []) st h := exF_j (i := (i_goto 34)) rfl rfl
theorem eX1_isPlaned_117 {ev : xV} {v0 v1 v2 v3 v4 v5 : Option Value} {st : List Value} {h : xH} : exF ev cX1_isPlaned 117 ([v0, v1, v2, v3, v4, v5], []) st h = exF ev cX1_isPlaned 118 ([v0, v1, v2, v3, v4, v5], []) (.int (nI 0) :: st) h := exF_j (i := (i_const (.int (nI 0)) 118)) rfl rfl
theorem eX1_isPlaned_118 {ev : xV} {v0 v1 v2 v3 v4 v5 : Option Value} {x : Int32} {h : xH} : exF ev cX1_isPlaned 118 ([v0, v1, v2, v3, v4, v5], []) [.int x] h = if x = nI 0 ∨ x = nI 1 then some (.inl (some (.int x)), h) else none := exF_z (i := (i_zret)) rfl rfl
theorem eX1_isPlaned_118b0 {ev : xV} {v0 v1 v2 v3 v4 v5 : Option Value} {h : xH} : exF ev cX1_isPlaned 118 ([v0, v1, v2, v3, v4, v5], []) [.int (nI 0)] h = some (.inl (some (.int (nI 0))), h) := exF_r (i := (i_zret)) rfl i_zret_0
theorem eX1_isPlaned_118b1 {ev : xV} {v0 v1 v2 v3 v4 v5 : Option Value} {h : xH} : exF ev cX1_isPlaned 118 ([v0, v1, v2, v3, v4, v5], []) [.int (nI 1)] h = some (.inl (some (.int (nI 1))), h) := exF_r (i := (i_zret)) rfl i_zret_1
theorem eX1_isPlaned_118b {ev : xV} {v0 v1 v2 v3 v4 v5 : Option Value} {b : Bool} {h : xH} : exF ev cX1_isPlaned 118 ([v0, v1, v2, v3, v4, v5], []) [.int (bI b)] h = some (.inl (some (.int (bI b))), h) := exF_r (i := (i_zret)) rfl (i_zret_b b)
noncomputable def cX1_areTogether : xC := [(0, i_aload 0 1),
  (1, i_cv 0 101 0 4),
  (4, i_if1 (fun x => ¬ x = 0) 11 7),
  (7, i_const (.int (nI 0)) 8),
  (8, i_goto 26),
  (11, i_aload 0 12),
  (12, i_aload 1 13),
  (13, i_getf 3 2 16),
  (16, i_const (.int (nI 0)) 17),
  (17, i_ai 0 18),
  (18, i_aload 0 19),
  (19, i_aload 1 20),
  (20, i_cv 0 121 1 23),
  (23, i_cv 0 122 2 26),
  (26, i_istore 2 27),
  (27, i_const (.int (nI 0)) 28),
  (28, i_istore 3 29),
  (29, i_iload 3 30),
  (30, i_aload 0 31),
  (31, i_cv 0 101 0 34),
  (34, i_if2 (fun x y => y ≤ x) 58 37),
  (37, i_iload 2 38),
  (38, i_aload 1 39),
  (39, i_getf 3 2 42),
  (42, i_iload 3 43),
  (43, i_ai 0 44),
  (44, i_cs 98 2 47),
  (47, i_if1 (fun x => ¬ x = 0) 52 50),
  (50, i_const (.int (nI 0)) 51),
  (51, i_zret),
  (52, i_iinc 3 (nI 1) 55),
  (55, i_goto 29),
  (58, i_const (.int (nI 1)) 59),
  (59, i_zret)]
theorem eX1_areTogether_0 {ev : xV} {v1 v2 v3 : Option Value} {x : Nat} {st : List Value} {h : xH} : exF ev cX1_areTogether 0 ([some (.ref x), v1, v2, v3], []) st h = exF ev cX1_areTogether 1 ([some (.ref x), v1, v2, v3], []) (.ref x :: st) h := exF_j (i := (i_aload 0 1)) rfl rfl
theorem eX1_areTogether_1 {ev : xV} {v0 v1 v2 v3 : Option Value} {a : Nat} {h : xH} : exF ev cX1_areTogether 1 ([v0, v1, v2, v3], []) [.ref a] h = xO (xck h a 0) (fun _ => xB (ev 101 [.ref a] h) (fun v h => exF ev cX1_areTogether 4 ([v0, v1, v2, v3], []) [v] h)) := exF_cd (i := (i_cv 0 101 0 4)) rfl rfl
theorem eX1_areTogether_4 {ev : xV} {v0 v1 v2 v3 : Option Value} {x : Int32} {st : List Value} {h : xH} : exF ev cX1_areTogether 4 ([v0, v1, v2, v3], []) (.int x :: st) h = if ¬ x = 0 then exF ev cX1_areTogether 11 ([v0, v1, v2, v3], []) st h else exF ev cX1_areTogether 7 ([v0, v1, v2, v3], []) st h := exF_b (i := (i_if1 (fun x => ¬ x = 0) 11 7)) rfl rfl
theorem eX1_areTogether_7 {ev : xV} {v0 v1 v2 v3 : Option Value} {st : List Value} {h : xH} : exF ev cX1_areTogether 7 ([v0, v1, v2, v3], []) st h = exF ev cX1_areTogether 8 ([v0, v1, v2, v3], []) (.int (nI 0) :: st) h := exF_j (i := (i_const (.int (nI 0)) 8)) rfl rfl
theorem eX1_areTogether_8 {ev : xV} {v0 v1 v2 v3 : Option Value} {st : List Value} {h : xH} : exF ev cX1_areTogether 8 ([v0, v1, v2, v3], []) st h = exF ev cX1_areTogether 26 ([v0, v1, v2, v3], []) st h := exF_j (i := (i_goto 26)) rfl rfl
theorem eX1_areTogether_11 {ev : xV} {v1 v2 v3 : Option Value} {x : Nat} {st : List Value} {h : xH} : exF ev cX1_areTogether 11 ([some (.ref x), v1, v2, v3], []) st h = exF ev cX1_areTogether 12 ([some (.ref x), v1, v2, v3], []) (.ref x :: st) h := exF_j (i := (i_aload 0 12)) rfl rfl
theorem eX1_areTogether_12 {ev : xV} {v0 v2 v3 : Option Value} {x : Nat} {st : List Value} {h : xH} : exF ev cX1_areTogether 12 ([v0, some (.ref x), v2, v3], []) st h = exF ev cX1_areTogether 13 ([v0, some (.ref x), v2, v3], []) (.ref x :: st) h := exF_j (i := (i_aload 1 13)) rfl rfl
theorem eX1_areTogether_12n {ev : xV} {v0 v2 v3 : Option Value} {st : List Value} {h : xH} : exF ev cX1_areTogether 12 ([v0, some .null, v2, v3], []) st h = exF ev cX1_areTogether 13 ([v0, some .null, v2, v3], []) (.null :: st) h := exF_j (i := (i_aload 1 13)) rfl rfl
theorem eX1_areTogether_13 {ev : xV} {v0 v1 v2 v3 : Option Value} {a : Nat} {st : List Value} {h : xH} : exF ev cX1_areTogether 13 ([v0, v1, v2, v3], []) (.ref a :: st) h = xO (xgf h a 3 2) (fun v => exF ev cX1_areTogether 16 ([v0, v1, v2, v3], []) (v :: st) h) := exF_o (i := (i_getf 3 2 16)) rfl rfl
theorem eX1_areTogether_16 {ev : xV} {v0 v1 v2 v3 : Option Value} {st : List Value} {h : xH} : exF ev cX1_areTogether 16 ([v0, v1, v2, v3], []) st h = exF ev cX1_areTogether 17 ([v0, v1, v2, v3], []) (.int (nI 0) :: st) h := exF_j (i := (i_const (.int (nI 0)) 17)) rfl rfl
theorem eX1_areTogether_17 {ev : xV} {v0 v1 v2 v3 : Option Value} {i : Int32} {a : Nat} {st : List Value} {h : xH} : exF ev cX1_areTogether 17 ([v0, v1, v2, v3], []) (.int i :: .ref a :: st) h = xO (xai h 0 a i) (fun v => exF ev cX1_areTogether 18 ([v0, v1, v2, v3], []) (.int v :: st) h) := exF_o (i := (i_ai 0 18)) rfl rfl
theorem eX1_areTogether_18 {ev : xV} {v1 v2 v3 : Option Value} {x : Nat} {st : List Value} {h : xH} : exF ev cX1_areTogether 18 ([some (.ref x), v1, v2, v3], []) st h = exF ev cX1_areTogether 19 ([some (.ref x), v1, v2, v3], []) (.ref x :: st) h := exF_j (i := (i_aload 0 19)) rfl rfl
theorem eX1_areTogether_19 {ev : xV} {v0 v2 v3 : Option Value} {x : Nat} {st : List Value} {h : xH} : exF ev cX1_areTogether 19 ([v0, some (.ref x), v2, v3], []) st h = exF ev cX1_areTogether 20 ([v0, some (.ref x), v2, v3], []) (.ref x :: st) h := exF_j (i := (i_aload 1 20)) rfl rfl
theorem eX1_areTogether_19n {ev : xV} {v0 v2 v3 : Option Value} {st : List Value} {h : xH} : exF ev cX1_areTogether 19 ([v0, some .null, v2, v3], []) st h = exF ev cX1_areTogether 20 ([v0, some .null, v2, v3], []) (.null :: st) h := exF_j (i := (i_aload 1 20)) rfl rfl
theorem eX1_areTogether_20 {ev : xV} {v0 v1 v2 v3 : Option Value} {a0 : Value} {r0 : Value} {r1 : Value} {a : Nat} {h : xH} : exF ev cX1_areTogether 20 ([v0, v1, v2, v3], []) [a0, .ref a, r0, r1] h = xO (xck h a 0) (fun _ => xB (ev 121 [.ref a, a0] h) (fun v h => exF ev cX1_areTogether 23 ([v0, v1, v2, v3], []) [v, r0, r1] h)) := exF_cd (i := (i_cv 0 121 1 23)) rfl rfl
theorem eX1_areTogether_23 {ev : xV} {v0 v1 v2 v3 : Option Value} {a0 : Value} {a1 : Value} {a : Nat} {h : xH} : exF ev cX1_areTogether 23 ([v0, v1, v2, v3], []) [a1, a0, .ref a] h = xO (xck h a 0) (fun _ => xB (ev 122 [.ref a, a0, a1] h) (fun v h => exF ev cX1_areTogether 26 ([v0, v1, v2, v3], []) [v] h)) := exF_cd (i := (i_cv 0 122 2 26)) rfl rfl
theorem eX1_areTogether_26 {ev : xV} {v0 v1 v2 v3 : Option Value} {x : Int32} {st : List Value} {h : xH} : exF ev cX1_areTogether 26 ([v0, v1, v2, v3], []) (.int x :: st) h = exF ev cX1_areTogether 27 ([v0, v1, some (.int x), v3], []) st h := exF_j (i := (i_istore 2 27)) rfl rfl
theorem eX1_areTogether_27 {ev : xV} {v0 v1 v2 v3 : Option Value} {st : List Value} {h : xH} : exF ev cX1_areTogether 27 ([v0, v1, v2, v3], []) st h = exF ev cX1_areTogether 28 ([v0, v1, v2, v3], []) (.int (nI 0) :: st) h := exF_j (i := (i_const (.int (nI 0)) 28)) rfl rfl
theorem eX1_areTogether_28 {ev : xV} {v0 v1 v2 v3 : Option Value} {x : Int32} {st : List Value} {h : xH} : exF ev cX1_areTogether 28 ([v0, v1, v2, v3], []) (.int x :: st) h = exF ev cX1_areTogether 29 ([v0, v1, v2, some (.int x)], []) st h := exF_j (i := (i_istore 3 29)) rfl rfl
theorem eX1_areTogether_29 {ev : xV} {v0 v1 v2 : Option Value} {x : Int32} {st : List Value} {h : xH} : exF ev cX1_areTogether 29 ([v0, v1, v2, some (.int x)], []) st h = exF ev cX1_areTogether 30 ([v0, v1, v2, some (.int x)], []) (.int x :: st) h := exF_j (i := (i_iload 3 30)) rfl rfl
theorem eX1_areTogether_30 {ev : xV} {v1 v2 v3 : Option Value} {x : Nat} {st : List Value} {h : xH} : exF ev cX1_areTogether 30 ([some (.ref x), v1, v2, v3], []) st h = exF ev cX1_areTogether 31 ([some (.ref x), v1, v2, v3], []) (.ref x :: st) h := exF_j (i := (i_aload 0 31)) rfl rfl
theorem eX1_areTogether_31 {ev : xV} {v0 v1 v2 v3 : Option Value} {r0 : Value} {a : Nat} {h : xH} : exF ev cX1_areTogether 31 ([v0, v1, v2, v3], []) [.ref a, r0] h = xO (xck h a 0) (fun _ => xB (ev 101 [.ref a] h) (fun v h => exF ev cX1_areTogether 34 ([v0, v1, v2, v3], []) [v, r0] h)) := exF_cd (i := (i_cv 0 101 0 34)) rfl rfl
theorem eX1_areTogether_34 {ev : xV} {v0 v1 v2 v3 : Option Value} {x y : Int32} {st : List Value} {h : xH} : exF ev cX1_areTogether 34 ([v0, v1, v2, v3], []) (.int y :: .int x :: st) h = if y ≤ x then exF ev cX1_areTogether 58 ([v0, v1, v2, v3], []) st h else exF ev cX1_areTogether 37 ([v0, v1, v2, v3], []) st h := exF_b (i := (i_if2 (fun x y => y ≤ x) 58 37)) rfl rfl
theorem eX1_areTogether_37 {ev : xV} {v0 v1 v3 : Option Value} {x : Int32} {st : List Value} {h : xH} : exF ev cX1_areTogether 37 ([v0, v1, some (.int x), v3], []) st h = exF ev cX1_areTogether 38 ([v0, v1, some (.int x), v3], []) (.int x :: st) h := exF_j (i := (i_iload 2 38)) rfl rfl
theorem eX1_areTogether_38 {ev : xV} {v0 v2 v3 : Option Value} {x : Nat} {st : List Value} {h : xH} : exF ev cX1_areTogether 38 ([v0, some (.ref x), v2, v3], []) st h = exF ev cX1_areTogether 39 ([v0, some (.ref x), v2, v3], []) (.ref x :: st) h := exF_j (i := (i_aload 1 39)) rfl rfl
theorem eX1_areTogether_38n {ev : xV} {v0 v2 v3 : Option Value} {st : List Value} {h : xH} : exF ev cX1_areTogether 38 ([v0, some .null, v2, v3], []) st h = exF ev cX1_areTogether 39 ([v0, some .null, v2, v3], []) (.null :: st) h := exF_j (i := (i_aload 1 39)) rfl rfl
theorem eX1_areTogether_39 {ev : xV} {v0 v1 v2 v3 : Option Value} {a : Nat} {st : List Value} {h : xH} : exF ev cX1_areTogether 39 ([v0, v1, v2, v3], []) (.ref a :: st) h = xO (xgf h a 3 2) (fun v => exF ev cX1_areTogether 42 ([v0, v1, v2, v3], []) (v :: st) h) := exF_o (i := (i_getf 3 2 42)) rfl rfl
theorem eX1_areTogether_42 {ev : xV} {v0 v1 v2 : Option Value} {x : Int32} {st : List Value} {h : xH} : exF ev cX1_areTogether 42 ([v0, v1, v2, some (.int x)], []) st h = exF ev cX1_areTogether 43 ([v0, v1, v2, some (.int x)], []) (.int x :: st) h := exF_j (i := (i_iload 3 43)) rfl rfl
theorem eX1_areTogether_43 {ev : xV} {v0 v1 v2 v3 : Option Value} {i : Int32} {a : Nat} {st : List Value} {h : xH} : exF ev cX1_areTogether 43 ([v0, v1, v2, v3], []) (.int i :: .ref a :: st) h = xO (xai h 0 a i) (fun v => exF ev cX1_areTogether 44 ([v0, v1, v2, v3], []) (.int v :: st) h) := exF_o (i := (i_ai 0 44)) rfl rfl
theorem eX1_areTogether_44 {ev : xV} {v0 v1 v2 v3 : Option Value} {a0 : Value} {a1 : Value} {h : xH} : exF ev cX1_areTogether 44 ([v0, v1, v2, v3], []) [a1, a0] h = xB (ev 98 [a0, a1] h) (fun v h => exF ev cX1_areTogether 47 ([v0, v1, v2, v3], []) [v] h) := exF_c (i := (i_cs 98 2 47)) rfl rfl
theorem eX1_areTogether_47 {ev : xV} {v0 v1 v2 v3 : Option Value} {x : Int32} {st : List Value} {h : xH} : exF ev cX1_areTogether 47 ([v0, v1, v2, v3], []) (.int x :: st) h = if ¬ x = 0 then exF ev cX1_areTogether 52 ([v0, v1, v2, v3], []) st h else exF ev cX1_areTogether 50 ([v0, v1, v2, v3], []) st h := exF_b (i := (i_if1 (fun x => ¬ x = 0) 52 50)) rfl rfl
theorem eX1_areTogether_50 {ev : xV} {v0 v1 v2 v3 : Option Value} {st : List Value} {h : xH} : exF ev cX1_areTogether 50 ([v0, v1, v2, v3], []) st h = exF ev cX1_areTogether 51 ([v0, v1, v2, v3], []) (.int (nI 0) :: st) h := exF_j (i := (i_const (.int (nI 0)) 51)) rfl rfl
theorem eX1_areTogether_51 {ev : xV} {v0 v1 v2 v3 : Option Value} {x : Int32} {h : xH} : exF ev cX1_areTogether 51 ([v0, v1, v2, v3], []) [.int x] h = if x = nI 0 ∨ x = nI 1 then some (.inl (some (.int x)), h) else none := exF_z (i := (i_zret)) rfl rfl
theorem eX1_areTogether_51b0 {ev : xV} {v0 v1 v2 v3 : Option Value} {h : xH} : exF ev cX1_areTogether 51 ([v0, v1, v2, v3], []) [.int (nI 0)] h = some (.inl (some (.int (nI 0))), h) := exF_r (i := (i_zret)) rfl i_zret_0
theorem eX1_areTogether_51b1 {ev : xV} {v0 v1 v2 v3 : Option Value} {h : xH} : exF ev cX1_areTogether 51 ([v0, v1, v2, v3], []) [.int (nI 1)] h = some (.inl (some (.int (nI 1))), h) := exF_r (i := (i_zret)) rfl i_zret_1
theorem eX1_areTogether_51b {ev : xV} {v0 v1 v2 v3 : Option Value} {b : Bool} {h : xH} : exF ev cX1_areTogether 51 ([v0, v1, v2, v3], []) [.int (bI b)] h = some (.inl (some (.int (bI b))), h) := exF_r (i := (i_zret)) rfl (i_zret_b b)
theorem eX1_areTogether_52 {ev : xV} {v0 v1 v2 : Option Value} {x : Int32} {st : List Value} {h : xH} : exF ev cX1_areTogether 52 ([v0, v1, v2, some (.int x)], []) st h = exF ev cX1_areTogether 55 ([v0, v1, v2, some (.int (x + (nI 1)))], []) st h := exF_j (i := (i_iinc 3 (nI 1) 55)) rfl rfl
theorem eX1_areTogether_55 {ev : xV} {v0 v1 v2 v3 : Option Value} {st : List Value} {h : xH} : exF ev cX1_areTogether 55 ([v0, v1, v2, v3], []) st h = exF ev cX1_areTogether 29 ([v0, v1, v2, v3], []) st h := exF_j (i := (i_goto 29)) rfl rfl
theorem eX1_areTogether_58 {ev : xV} {v0 v1 v2 v3 : Option Value} {st : List Value} {h : xH} : exF ev cX1_areTogether 58 ([v0, v1, v2, v3], []) st h = exF ev cX1_areTogether 59 ([v0, v1, v2, v3], []) (.int (nI 1) :: st) h := exF_j (i := (i_const (.int (nI 1)) 59)) rfl rfl
theorem eX1_areTogether_59 {ev : xV} {v0 v1 v2 v3 : Option Value} {x : Int32} {h : xH} : exF ev cX1_areTogether 59 ([v0, v1, v2, v3], []) [.int x] h = if x = nI 0 ∨ x = nI 1 then some (.inl (some (.int x)), h) else none := exF_z (i := (i_zret)) rfl rfl
theorem eX1_areTogether_59b0 {ev : xV} {v0 v1 v2 v3 : Option Value} {h : xH} : exF ev cX1_areTogether 59 ([v0, v1, v2, v3], []) [.int (nI 0)] h = some (.inl (some (.int (nI 0))), h) := exF_r (i := (i_zret)) rfl i_zret_0
theorem eX1_areTogether_59b1 {ev : xV} {v0 v1 v2 v3 : Option Value} {h : xH} : exF ev cX1_areTogether 59 ([v0, v1, v2, v3], []) [.int (nI 1)] h = some (.inl (some (.int (nI 1))), h) := exF_r (i := (i_zret)) rfl i_zret_1
theorem eX1_areTogether_59b {ev : xV} {v0 v1 v2 v3 : Option Value} {b : Bool} {h : xH} : exF ev cX1_areTogether 59 ([v0, v1, v2, v3], []) [.int (bI b)] h = some (.inl (some (.int (bI b))), h) := exF_r (i := (i_zret)) rfl (i_zret_b b)
noncomputable def cX1_feel : xC := [(0, i_aload 0 1),
  (1, i_iload 1 2),
  (2, i_cv 0 95 1 5),
  (5, i_if1 (fun x => x = 0) 27 8),
  (8, i_iload 2 9),
  (9, i_const (.int (nI 1)) 10),
  (10, i_const (.int (nI 30)) 12),
  (12, i_cs 92 3 15),
  (15, i_if1 (fun x => x = 0) 27 18),
  (18, i_aload 0 19),
  (19, i_getf 0 15 22),
  (22, i_const (.int (nI 8)) 24),
  (24, i_if2 (fun x y => ¬ x = y) 29 27),
  (27, i_const (.int (nI 0)) 28),
  (28, i_zret),
  (29, i_aload 0 30),
  (30, i_getf 0 12 33),
  (33, i_aload 0 34),
  (34, i_getf 0 15 37),
  (37, i_iload 1 38),
  (38, i_si (fun v => v) 0 39),
  (39, i_aload 0 40),
  (40, i_getf 0 13 43),
  (43, i_aload 0 44),
  (44, i_getf 0 15 47),
  (47, i_iload 2 48),
  (48, i_si (fun v => v) 0 49),
  (49, i_aload 0 50),
  (50, i_getf 0 14 53),
  (53, i_aload 0 54),
  (54, i_dup 55),
  (55, i_getf 0 15 58),
  (58, i_dup_x1 59),
  (59, i_const (.int (nI 1)) 60),
  (60, i_ii (fun x y => x + y) 61),
  (61, i_putfi 0 15 64),
  (64, i_iload 3 65),
  (65, i_si (fun v => vp_nar .boolean v) 2 66),
  (66, i_const (.int (nI 1)) 67),
  (67, i_zret)]
theorem eX1_feel_0 {ev : xV} {v1 v2 v3 : Option Value} {x : Nat} {st : List Value} {h : xH} : exF ev cX1_feel 0 ([some (.ref x), v1, v2, v3], []) st h = exF ev cX1_feel 1 ([some (.ref x), v1, v2, v3], []) (.ref x :: st) h := exF_j (i := (i_aload 0 1)) rfl rfl
theorem eX1_feel_1 {ev : xV} {v0 v2 v3 : Option Value} {x : Int32} {st : List Value} {h : xH} : exF ev cX1_feel 1 ([v0, some (.int x), v2, v3], []) st h = exF ev cX1_feel 2 ([v0, some (.int x), v2, v3], []) (.int x :: st) h := exF_j (i := (i_iload 1 2)) rfl rfl
theorem eX1_feel_2 {ev : xV} {v0 v1 v2 v3 : Option Value} {a0 : Value} {a : Nat} {h : xH} : exF ev cX1_feel 2 ([v0, v1, v2, v3], []) [a0, .ref a] h = xO (xck h a 0) (fun _ => xB (ev 95 [.ref a, a0] h) (fun v h => exF ev cX1_feel 5 ([v0, v1, v2, v3], []) [v] h)) := exF_cd (i := (i_cv 0 95 1 5)) rfl rfl
theorem eX1_feel_5 {ev : xV} {v0 v1 v2 v3 : Option Value} {x : Int32} {st : List Value} {h : xH} : exF ev cX1_feel 5 ([v0, v1, v2, v3], []) (.int x :: st) h = if x = 0 then exF ev cX1_feel 27 ([v0, v1, v2, v3], []) st h else exF ev cX1_feel 8 ([v0, v1, v2, v3], []) st h := exF_b (i := (i_if1 (fun x => x = 0) 27 8)) rfl rfl
theorem eX1_feel_8 {ev : xV} {v0 v1 v3 : Option Value} {x : Int32} {st : List Value} {h : xH} : exF ev cX1_feel 8 ([v0, v1, some (.int x), v3], []) st h = exF ev cX1_feel 9 ([v0, v1, some (.int x), v3], []) (.int x :: st) h := exF_j (i := (i_iload 2 9)) rfl rfl
theorem eX1_feel_9 {ev : xV} {v0 v1 v2 v3 : Option Value} {st : List Value} {h : xH} : exF ev cX1_feel 9 ([v0, v1, v2, v3], []) st h = exF ev cX1_feel 10 ([v0, v1, v2, v3], []) (.int (nI 1) :: st) h := exF_j (i := (i_const (.int (nI 1)) 10)) rfl rfl
theorem eX1_feel_10 {ev : xV} {v0 v1 v2 v3 : Option Value} {st : List Value} {h : xH} : exF ev cX1_feel 10 ([v0, v1, v2, v3], []) st h = exF ev cX1_feel 12 ([v0, v1, v2, v3], []) (.int (nI 30) :: st) h := exF_j (i := (i_const (.int (nI 30)) 12)) rfl rfl
theorem eX1_feel_12 {ev : xV} {v0 v1 v2 v3 : Option Value} {a0 : Value} {a1 : Value} {a2 : Value} {h : xH} : exF ev cX1_feel 12 ([v0, v1, v2, v3], []) [a2, a1, a0] h = xB (ev 92 [a0, a1, a2] h) (fun v h => exF ev cX1_feel 15 ([v0, v1, v2, v3], []) [v] h) := exF_c (i := (i_cs 92 3 15)) rfl rfl
theorem eX1_feel_15 {ev : xV} {v0 v1 v2 v3 : Option Value} {x : Int32} {st : List Value} {h : xH} : exF ev cX1_feel 15 ([v0, v1, v2, v3], []) (.int x :: st) h = if x = 0 then exF ev cX1_feel 27 ([v0, v1, v2, v3], []) st h else exF ev cX1_feel 18 ([v0, v1, v2, v3], []) st h := exF_b (i := (i_if1 (fun x => x = 0) 27 18)) rfl rfl
theorem eX1_feel_18 {ev : xV} {v1 v2 v3 : Option Value} {x : Nat} {st : List Value} {h : xH} : exF ev cX1_feel 18 ([some (.ref x), v1, v2, v3], []) st h = exF ev cX1_feel 19 ([some (.ref x), v1, v2, v3], []) (.ref x :: st) h := exF_j (i := (i_aload 0 19)) rfl rfl
theorem eX1_feel_19 {ev : xV} {v0 v1 v2 v3 : Option Value} {a : Nat} {st : List Value} {h : xH} : exF ev cX1_feel 19 ([v0, v1, v2, v3], []) (.ref a :: st) h = xO (xgf h a 0 15) (fun v => exF ev cX1_feel 22 ([v0, v1, v2, v3], []) (v :: st) h) := exF_o (i := (i_getf 0 15 22)) rfl rfl
theorem eX1_feel_22 {ev : xV} {v0 v1 v2 v3 : Option Value} {st : List Value} {h : xH} : exF ev cX1_feel 22 ([v0, v1, v2, v3], []) st h = exF ev cX1_feel 24 ([v0, v1, v2, v3], []) (.int (nI 8) :: st) h := exF_j (i := (i_const (.int (nI 8)) 24)) rfl rfl
theorem eX1_feel_24 {ev : xV} {v0 v1 v2 v3 : Option Value} {x y : Int32} {st : List Value} {h : xH} : exF ev cX1_feel 24 ([v0, v1, v2, v3], []) (.int y :: .int x :: st) h = if ¬ x = y then exF ev cX1_feel 29 ([v0, v1, v2, v3], []) st h else exF ev cX1_feel 27 ([v0, v1, v2, v3], []) st h := exF_b (i := (i_if2 (fun x y => ¬ x = y) 29 27)) rfl rfl
theorem eX1_feel_27 {ev : xV} {v0 v1 v2 v3 : Option Value} {st : List Value} {h : xH} : exF ev cX1_feel 27 ([v0, v1, v2, v3], []) st h = exF ev cX1_feel 28 ([v0, v1, v2, v3], []) (.int (nI 0) :: st) h := exF_j (i := (i_const (.int (nI 0)) 28)) rfl rfl
theorem eX1_feel_28 {ev : xV} {v0 v1 v2 v3 : Option Value} {x : Int32} {h : xH} : exF ev cX1_feel 28 ([v0, v1, v2, v3], []) [.int x] h = if x = nI 0 ∨ x = nI 1 then some (.inl (some (.int x)), h) else none := exF_z (i := (i_zret)) rfl rfl
theorem eX1_feel_28b0 {ev : xV} {v0 v1 v2 v3 : Option Value} {h : xH} : exF ev cX1_feel 28 ([v0, v1, v2, v3], []) [.int (nI 0)] h = some (.inl (some (.int (nI 0))), h) := exF_r (i := (i_zret)) rfl i_zret_0
theorem eX1_feel_28b1 {ev : xV} {v0 v1 v2 v3 : Option Value} {h : xH} : exF ev cX1_feel 28 ([v0, v1, v2, v3], []) [.int (nI 1)] h = some (.inl (some (.int (nI 1))), h) := exF_r (i := (i_zret)) rfl i_zret_1
theorem eX1_feel_28b {ev : xV} {v0 v1 v2 v3 : Option Value} {b : Bool} {h : xH} : exF ev cX1_feel 28 ([v0, v1, v2, v3], []) [.int (bI b)] h = some (.inl (some (.int (bI b))), h) := exF_r (i := (i_zret)) rfl (i_zret_b b)
theorem eX1_feel_29 {ev : xV} {v1 v2 v3 : Option Value} {x : Nat} {st : List Value} {h : xH} : exF ev cX1_feel 29 ([some (.ref x), v1, v2, v3], []) st h = exF ev cX1_feel 30 ([some (.ref x), v1, v2, v3], []) (.ref x :: st) h := exF_j (i := (i_aload 0 30)) rfl rfl
theorem eX1_feel_30 {ev : xV} {v0 v1 v2 v3 : Option Value} {a : Nat} {st : List Value} {h : xH} : exF ev cX1_feel 30 ([v0, v1, v2, v3], []) (.ref a :: st) h = xO (xgf h a 0 12) (fun v => exF ev cX1_feel 33 ([v0, v1, v2, v3], []) (v :: st) h) := exF_o (i := (i_getf 0 12 33)) rfl rfl
theorem eX1_feel_33 {ev : xV} {v1 v2 v3 : Option Value} {x : Nat} {st : List Value} {h : xH} : exF ev cX1_feel 33 ([some (.ref x), v1, v2, v3], []) st h = exF ev cX1_feel 34 ([some (.ref x), v1, v2, v3], []) (.ref x :: st) h := exF_j (i := (i_aload 0 34)) rfl rfl
theorem eX1_feel_34 {ev : xV} {v0 v1 v2 v3 : Option Value} {a : Nat} {st : List Value} {h : xH} : exF ev cX1_feel 34 ([v0, v1, v2, v3], []) (.ref a :: st) h = xO (xgf h a 0 15) (fun v => exF ev cX1_feel 37 ([v0, v1, v2, v3], []) (v :: st) h) := exF_o (i := (i_getf 0 15 37)) rfl rfl
theorem eX1_feel_37 {ev : xV} {v0 v2 v3 : Option Value} {x : Int32} {st : List Value} {h : xH} : exF ev cX1_feel 37 ([v0, some (.int x), v2, v3], []) st h = exF ev cX1_feel 38 ([v0, some (.int x), v2, v3], []) (.int x :: st) h := exF_j (i := (i_iload 1 38)) rfl rfl
theorem eX1_feel_38 {ev : xV} {v0 v1 v2 v3 : Option Value} {v i : Int32} {a : Nat} {st : List Value} {h : xH} : exF ev cX1_feel 38 ([v0, v1, v2, v3], []) (.int v :: .int i :: .ref a :: st) h = xO (xsi h 0 a i v) (fun h => exF ev cX1_feel 39 ([v0, v1, v2, v3], []) st h) := exF_o (i := (i_si (fun v => v) 0 39)) rfl rfl
theorem eX1_feel_39 {ev : xV} {v1 v2 v3 : Option Value} {x : Nat} {st : List Value} {h : xH} : exF ev cX1_feel 39 ([some (.ref x), v1, v2, v3], []) st h = exF ev cX1_feel 40 ([some (.ref x), v1, v2, v3], []) (.ref x :: st) h := exF_j (i := (i_aload 0 40)) rfl rfl
theorem eX1_feel_40 {ev : xV} {v0 v1 v2 v3 : Option Value} {a : Nat} {st : List Value} {h : xH} : exF ev cX1_feel 40 ([v0, v1, v2, v3], []) (.ref a :: st) h = xO (xgf h a 0 13) (fun v => exF ev cX1_feel 43 ([v0, v1, v2, v3], []) (v :: st) h) := exF_o (i := (i_getf 0 13 43)) rfl rfl
theorem eX1_feel_43 {ev : xV} {v1 v2 v3 : Option Value} {x : Nat} {st : List Value} {h : xH} : exF ev cX1_feel 43 ([some (.ref x), v1, v2, v3], []) st h = exF ev cX1_feel 44 ([some (.ref x), v1, v2, v3], []) (.ref x :: st) h := exF_j (i := (i_aload 0 44)) rfl rfl
theorem eX1_feel_44 {ev : xV} {v0 v1 v2 v3 : Option Value} {a : Nat} {st : List Value} {h : xH} : exF ev cX1_feel 44 ([v0, v1, v2, v3], []) (.ref a :: st) h = xO (xgf h a 0 15) (fun v => exF ev cX1_feel 47 ([v0, v1, v2, v3], []) (v :: st) h) := exF_o (i := (i_getf 0 15 47)) rfl rfl
theorem eX1_feel_47 {ev : xV} {v0 v1 v3 : Option Value} {x : Int32} {st : List Value} {h : xH} : exF ev cX1_feel 47 ([v0, v1, some (.int x), v3], []) st h = exF ev cX1_feel 48 ([v0, v1, some (.int x), v3], []) (.int x :: st) h := exF_j (i := (i_iload 2 48)) rfl rfl
theorem eX1_feel_48 {ev : xV} {v0 v1 v2 v3 : Option Value} {v i : Int32} {a : Nat} {st : List Value} {h : xH} : exF ev cX1_feel 48 ([v0, v1, v2, v3], []) (.int v :: .int i :: .ref a :: st) h = xO (xsi h 0 a i v) (fun h => exF ev cX1_feel 49 ([v0, v1, v2, v3], []) st h) := exF_o (i := (i_si (fun v => v) 0 49)) rfl rfl
theorem eX1_feel_49 {ev : xV} {v1 v2 v3 : Option Value} {x : Nat} {st : List Value} {h : xH} : exF ev cX1_feel 49 ([some (.ref x), v1, v2, v3], []) st h = exF ev cX1_feel 50 ([some (.ref x), v1, v2, v3], []) (.ref x :: st) h := exF_j (i := (i_aload 0 50)) rfl rfl
theorem eX1_feel_50 {ev : xV} {v0 v1 v2 v3 : Option Value} {a : Nat} {st : List Value} {h : xH} : exF ev cX1_feel 50 ([v0, v1, v2, v3], []) (.ref a :: st) h = xO (xgf h a 0 14) (fun v => exF ev cX1_feel 53 ([v0, v1, v2, v3], []) (v :: st) h) := exF_o (i := (i_getf 0 14 53)) rfl rfl
theorem eX1_feel_53 {ev : xV} {v1 v2 v3 : Option Value} {x : Nat} {st : List Value} {h : xH} : exF ev cX1_feel 53 ([some (.ref x), v1, v2, v3], []) st h = exF ev cX1_feel 54 ([some (.ref x), v1, v2, v3], []) (.ref x :: st) h := exF_j (i := (i_aload 0 54)) rfl rfl
theorem eX1_feel_54 {ev : xV} {v0 v1 v2 v3 : Option Value} {x : Nat} {st : List Value} {h : xH} : exF ev cX1_feel 54 ([v0, v1, v2, v3], []) (.ref x :: st) h = exF ev cX1_feel 55 ([v0, v1, v2, v3], []) (.ref x :: .ref x :: st) h := exF_j (i := (i_dup 55)) rfl rfl
theorem eX1_feel_55 {ev : xV} {v0 v1 v2 v3 : Option Value} {a : Nat} {st : List Value} {h : xH} : exF ev cX1_feel 55 ([v0, v1, v2, v3], []) (.ref a :: st) h = xO (xgf h a 0 15) (fun v => exF ev cX1_feel 58 ([v0, v1, v2, v3], []) (v :: st) h) := exF_o (i := (i_getf 0 15 58)) rfl rfl
theorem eX1_feel_58 {ev : xV} {v0 v1 v2 v3 : Option Value} {x : Int32} {y : Nat} {st : List Value} {h : xH} : exF ev cX1_feel 58 ([v0, v1, v2, v3], []) (.int x :: .ref y :: st) h = exF ev cX1_feel 59 ([v0, v1, v2, v3], []) (.int x :: .ref y :: .int x :: st) h := exF_j (i := (i_dup_x1 59)) rfl rfl
theorem eX1_feel_59 {ev : xV} {v0 v1 v2 v3 : Option Value} {st : List Value} {h : xH} : exF ev cX1_feel 59 ([v0, v1, v2, v3], []) st h = exF ev cX1_feel 60 ([v0, v1, v2, v3], []) (.int (nI 1) :: st) h := exF_j (i := (i_const (.int (nI 1)) 60)) rfl rfl
theorem eX1_feel_60 {ev : xV} {v0 v1 v2 v3 : Option Value} {x y : Int32} {st : List Value} {h : xH} : exF ev cX1_feel 60 ([v0, v1, v2, v3], []) (.int y :: .int x :: st) h = exF ev cX1_feel 61 ([v0, v1, v2, v3], []) (.int (x + y) :: st) h := exF_j (i := (i_ii (fun x y => x + y) 61)) rfl rfl
theorem eX1_feel_61 {ev : xV} {v0 v1 v2 v3 : Option Value} {x : Int32} {a : Nat} {st : List Value} {h : xH} : exF ev cX1_feel 61 ([v0, v1, v2, v3], []) (.int x :: .ref a :: st) h = xO (xpf h a 0 15 (.int x)) (fun h => exF ev cX1_feel 64 ([v0, v1, v2, v3], []) st h) := exF_o (i := (i_putfi 0 15 64)) rfl rfl
theorem eX1_feel_64 {ev : xV} {v0 v1 v2 : Option Value} {x : Int32} {st : List Value} {h : xH} : exF ev cX1_feel 64 ([v0, v1, v2, some (.int x)], []) st h = exF ev cX1_feel 65 ([v0, v1, v2, some (.int x)], []) (.int x :: st) h := exF_j (i := (i_iload 3 65)) rfl rfl
theorem eX1_feel_65 {ev : xV} {v0 v1 v2 v3 : Option Value} {v i : Int32} {a : Nat} {st : List Value} {h : xH} : exF ev cX1_feel 65 ([v0, v1, v2, v3], []) (.int v :: .int i :: .ref a :: st) h = xO (xsi h 2 a i (vp_nar .boolean v)) (fun h => exF ev cX1_feel 66 ([v0, v1, v2, v3], []) st h) := exF_o (i := (i_si (fun v => vp_nar .boolean v) 2 66)) rfl rfl
theorem eX1_feel_66 {ev : xV} {v0 v1 v2 v3 : Option Value} {st : List Value} {h : xH} : exF ev cX1_feel 66 ([v0, v1, v2, v3], []) st h = exF ev cX1_feel 67 ([v0, v1, v2, v3], []) (.int (nI 1) :: st) h := exF_j (i := (i_const (.int (nI 1)) 67)) rfl rfl
theorem eX1_feel_67 {ev : xV} {v0 v1 v2 v3 : Option Value} {x : Int32} {h : xH} : exF ev cX1_feel 67 ([v0, v1, v2, v3], []) [.int x] h = if x = nI 0 ∨ x = nI 1 then some (.inl (some (.int x)), h) else none := exF_z (i := (i_zret)) rfl rfl
theorem eX1_feel_67b0 {ev : xV} {v0 v1 v2 v3 : Option Value} {h : xH} : exF ev cX1_feel 67 ([v0, v1, v2, v3], []) [.int (nI 0)] h = some (.inl (some (.int (nI 0))), h) := exF_r (i := (i_zret)) rfl i_zret_0
theorem eX1_feel_67b1 {ev : xV} {v0 v1 v2 v3 : Option Value} {h : xH} : exF ev cX1_feel 67 ([v0, v1, v2, v3], []) [.int (nI 1)] h = some (.inl (some (.int (nI 1))), h) := exF_r (i := (i_zret)) rfl i_zret_1
theorem eX1_feel_67b {ev : xV} {v0 v1 v2 v3 : Option Value} {b : Bool} {h : xH} : exF ev cX1_feel 67 ([v0, v1, v2, v3], []) [.int (bI b)] h = some (.inl (some (.int (bI b))), h) := exF_r (i := (i_zret)) rfl (i_zret_b b)
noncomputable def cX1_wets : xC := [(0, i_aload 0 1),
  (1, i_cv 0 147 0 4),
  (4, i_iret)]
theorem eX1_wets_0 {ev : xV} {x : Nat} {st : List Value} {h : xH} : exF ev cX1_wets 0 ([some (.ref x)], []) st h = exF ev cX1_wets 1 ([some (.ref x)], []) (.ref x :: st) h := exF_j (i := (i_aload 0 1)) rfl rfl
theorem eX1_wets_1 {ev : xV} {v0 : Option Value} {a : Nat} {h : xH} : exF ev cX1_wets 1 ([v0], []) [.ref a] h = xO (xck h a 0) (fun _ => xB (ev 147 [.ref a] h) (fun v h => exF ev cX1_wets 4 ([v0], []) [v] h)) := exF_cd (i := (i_cv 0 147 0 4)) rfl rfl
theorem eX1_wets_4 {ev : xV} {v0 : Option Value} {x : Int32} {h : xH} : exF ev cX1_wets 4 ([v0], []) [.int x] h = some (.inl (some (.int x)), h) := exF_r (i := (i_iret)) rfl rfl
noncomputable def cX1_laysWets : xC := [(0, i_const (.int (nI 0)) 1),
  (1, i_istore 1 2),
  (2, i_const (.int (nI 0)) 3),
  (3, i_istore 2 4),
  (4, i_iload 2 5),
  (5, i_const (.int (nI 9)) 7),
  (7, i_if2 (fun x y => y < x) 140 10),
  (10, i_aload 0 11),
  (11, i_getf 0 5 14),
  (14, i_aload 0 15),
  (15, i_getf 0 4 18),
  (18, i_cvv 3 239 1 21),
  (21, i_const (.int (nI 1)) 22),
  (22, i_istore 3 23),
  (23, i_iload 3 24),
  (24, i_const (.int (nI 30)) 26),
  (26, i_if2 (fun x y => y < x) 60 29),
  (29, i_aload 0 30),
  (30, i_aload 0 31),
  (31, i_getf 0 5 34),
  (34, i_iload 2 35),
  (35, i_cvv 0 105 2 38),
  (38, i_aload 0 39),
  (39, i_getf 0 16 42),
  (42, i_iload 2 43),
  (43, i_aq 6 44),
  (44, i_iload 3 45),
  (45, i_aload 0 46),
  (46, i_aload 0 47),
  (47, i_getf 0 5 50),
  (50, i_cv 0 108 1 53),
  (53, i_si (fun v => v) 0 54),
  (54, i_iinc 3 (nI 1) 57),
  (57, i_goto 23),
  (60, i_const (.int (nI 1)) 61),
  (61, i_istore 3 62),
  (62, i_const (.int (nI 0)) 63),
  (63, i_istore 4 65),
  (65, i_iload 4 67),
  (67, i_aload 0 68),
  (68, i_getf 0 15 71),
  (71, i_if2 (fun x y => y ≤ x) 124 74),
  (74, i_iload 3 75),
  (75, i_if1 (fun x => x = 0) 116 78),
  (78, i_aload 0 79),
  (79, i_getf 0 16 82),
  (82, i_iload 2 83),
  (83, i_aq 6 84),
  (84, i_aload 0 85),
  (85, i_getf 0 13 88),
  (88, i_iload 4 90),
  (90, i_ai 0 91),
  (91, i_ai 0 92),
  (92, i_aload 0 93),
  (93, i_getf 0 12 96),
  (96, i_iload 4 98),
  (98, i_ai 0 99),
  (99, i_cs 98 2 102),
  (102, i_aload 0 103),
  (103, i_getf 0 14 106),
  (106, i_iload 4 108),
  (108, i_ai 2 109),
  (109, i_if2 (fun x y => ¬ x = y) 116 112),
  (112, i_const (.int (nI 1)) 113),
  (113, i_goto 117),
  (116, i_const (.int (nI 0)) 117),
  (117, i_istore 3 118),
  (118, i_iinc 4 (nI 1) 121),
  (121, i_goto 65),
  (124, i_iload 3 125),
  (125, i_if1 (fun x => x = 0) 134 128),
  (128, i_iload 1 129),
  (129, i_const (.int (nI 1)) 130),
  (130, i_iload 2 131),
  (131, i_ii (fun x y => x <<< (y &&& 31)) 132),
  (132, i_ii (fun x y => x ||| y) 133),
  (133, i_istore 1 134),
  (134, i_iinc 2 (nI 1) 137),
  (137, i_goto 4),
  (140, i_iload 1 141),
  (141, i_iret)]
theorem eX1_laysWets_0 {ev : xV} {v0 v1 v2 v3 v4 : Option Value} {st : List Value} {h : xH} : exF ev cX1_laysWets 0 ([v0, v1, v2, v3, v4], []) st h = exF ev cX1_laysWets 1 ([v0, v1, v2, v3, v4], []) (.int (nI 0) :: st) h := exF_j (i := (i_const (.int (nI 0)) 1)) rfl rfl
theorem eX1_laysWets_1 {ev : xV} {v0 v1 v2 v3 v4 : Option Value} {x : Int32} {st : List Value} {h : xH} : exF ev cX1_laysWets 1 ([v0, v1, v2, v3, v4], []) (.int x :: st) h = exF ev cX1_laysWets 2 ([v0, some (.int x), v2, v3, v4], []) st h := exF_j (i := (i_istore 1 2)) rfl rfl
theorem eX1_laysWets_2 {ev : xV} {v0 v1 v2 v3 v4 : Option Value} {st : List Value} {h : xH} : exF ev cX1_laysWets 2 ([v0, v1, v2, v3, v4], []) st h = exF ev cX1_laysWets 3 ([v0, v1, v2, v3, v4], []) (.int (nI 0) :: st) h := exF_j (i := (i_const (.int (nI 0)) 3)) rfl rfl
theorem eX1_laysWets_3 {ev : xV} {v0 v1 v2 v3 v4 : Option Value} {x : Int32} {st : List Value} {h : xH} : exF ev cX1_laysWets 3 ([v0, v1, v2, v3, v4], []) (.int x :: st) h = exF ev cX1_laysWets 4 ([v0, v1, some (.int x), v3, v4], []) st h := exF_j (i := (i_istore 2 4)) rfl rfl
theorem eX1_laysWets_4 {ev : xV} {v0 v1 v3 v4 : Option Value} {x : Int32} {st : List Value} {h : xH} : exF ev cX1_laysWets 4 ([v0, v1, some (.int x), v3, v4], []) st h = exF ev cX1_laysWets 5 ([v0, v1, some (.int x), v3, v4], []) (.int x :: st) h := exF_j (i := (i_iload 2 5)) rfl rfl
theorem eX1_laysWets_5 {ev : xV} {v0 v1 v2 v3 v4 : Option Value} {st : List Value} {h : xH} : exF ev cX1_laysWets 5 ([v0, v1, v2, v3, v4], []) st h = exF ev cX1_laysWets 7 ([v0, v1, v2, v3, v4], []) (.int (nI 9) :: st) h := exF_j (i := (i_const (.int (nI 9)) 7)) rfl rfl
theorem eX1_laysWets_7 {ev : xV} {v0 v1 v2 v3 v4 : Option Value} {x y : Int32} {st : List Value} {h : xH} : exF ev cX1_laysWets 7 ([v0, v1, v2, v3, v4], []) (.int y :: .int x :: st) h = if y < x then exF ev cX1_laysWets 140 ([v0, v1, v2, v3, v4], []) st h else exF ev cX1_laysWets 10 ([v0, v1, v2, v3, v4], []) st h := exF_b (i := (i_if2 (fun x y => y < x) 140 10)) rfl rfl
theorem eX1_laysWets_10 {ev : xV} {v1 v2 v3 v4 : Option Value} {x : Nat} {st : List Value} {h : xH} : exF ev cX1_laysWets 10 ([some (.ref x), v1, v2, v3, v4], []) st h = exF ev cX1_laysWets 11 ([some (.ref x), v1, v2, v3, v4], []) (.ref x :: st) h := exF_j (i := (i_aload 0 11)) rfl rfl
theorem eX1_laysWets_11 {ev : xV} {v0 v1 v2 v3 v4 : Option Value} {a : Nat} {st : List Value} {h : xH} : exF ev cX1_laysWets 11 ([v0, v1, v2, v3, v4], []) (.ref a :: st) h = xO (xgf h a 0 5) (fun v => exF ev cX1_laysWets 14 ([v0, v1, v2, v3, v4], []) (v :: st) h) := exF_o (i := (i_getf 0 5 14)) rfl rfl
theorem eX1_laysWets_14 {ev : xV} {v1 v2 v3 v4 : Option Value} {x : Nat} {st : List Value} {h : xH} : exF ev cX1_laysWets 14 ([some (.ref x), v1, v2, v3, v4], []) st h = exF ev cX1_laysWets 15 ([some (.ref x), v1, v2, v3, v4], []) (.ref x :: st) h := exF_j (i := (i_aload 0 15)) rfl rfl
theorem eX1_laysWets_15 {ev : xV} {v0 v1 v2 v3 v4 : Option Value} {a : Nat} {st : List Value} {h : xH} : exF ev cX1_laysWets 15 ([v0, v1, v2, v3, v4], []) (.ref a :: st) h = xO (xgf h a 0 4) (fun v => exF ev cX1_laysWets 18 ([v0, v1, v2, v3, v4], []) (v :: st) h) := exF_o (i := (i_getf 0 4 18)) rfl rfl
theorem eX1_laysWets_18 {ev : xV} {v0 v1 v2 v3 v4 : Option Value} {a0 : Value} {a : Nat} {h : xH} : exF ev cX1_laysWets 18 ([v0, v1, v2, v3, v4], []) [a0, .ref a] h = xO (xck h a 3) (fun _ => xBv (ev 239 [.ref a, a0] h) (fun h => exF ev cX1_laysWets 21 ([v0, v1, v2, v3, v4], []) [] h)) := exF_cdv (i := (i_cvv 3 239 1 21)) rfl rfl
theorem eX1_laysWets_21 {ev : xV} {v0 v1 v2 v3 v4 : Option Value} {st : List Value} {h : xH} : exF ev cX1_laysWets 21 ([v0, v1, v2, v3, v4], []) st h = exF ev cX1_laysWets 22 ([v0, v1, v2, v3, v4], []) (.int (nI 1) :: st) h := exF_j (i := (i_const (.int (nI 1)) 22)) rfl rfl
theorem eX1_laysWets_22 {ev : xV} {v0 v1 v2 v3 v4 : Option Value} {x : Int32} {st : List Value} {h : xH} : exF ev cX1_laysWets 22 ([v0, v1, v2, v3, v4], []) (.int x :: st) h = exF ev cX1_laysWets 23 ([v0, v1, v2, some (.int x), v4], []) st h := exF_j (i := (i_istore 3 23)) rfl rfl
theorem eX1_laysWets_23 {ev : xV} {v0 v1 v2 v4 : Option Value} {x : Int32} {st : List Value} {h : xH} : exF ev cX1_laysWets 23 ([v0, v1, v2, some (.int x), v4], []) st h = exF ev cX1_laysWets 24 ([v0, v1, v2, some (.int x), v4], []) (.int x :: st) h := exF_j (i := (i_iload 3 24)) rfl rfl
theorem eX1_laysWets_24 {ev : xV} {v0 v1 v2 v3 v4 : Option Value} {st : List Value} {h : xH} : exF ev cX1_laysWets 24 ([v0, v1, v2, v3, v4], []) st h = exF ev cX1_laysWets 26 ([v0, v1, v2, v3, v4], []) (.int (nI 30) :: st) h := exF_j (i := (i_const (.int (nI 30)) 26)) rfl rfl
theorem eX1_laysWets_26 {ev : xV} {v0 v1 v2 v3 v4 : Option Value} {x y : Int32} {st : List Value} {h : xH} : exF ev cX1_laysWets 26 ([v0, v1, v2, v3, v4], []) (.int y :: .int x :: st) h = if y < x then exF ev cX1_laysWets 60 ([v0, v1, v2, v3, v4], []) st h else exF ev cX1_laysWets 29 ([v0, v1, v2, v3, v4], []) st h := exF_b (i := (i_if2 (fun x y => y < x) 60 29)) rfl rfl
theorem eX1_laysWets_29 {ev : xV} {v1 v2 v3 v4 : Option Value} {x : Nat} {st : List Value} {h : xH} : exF ev cX1_laysWets 29 ([some (.ref x), v1, v2, v3, v4], []) st h = exF ev cX1_laysWets 30 ([some (.ref x), v1, v2, v3, v4], []) (.ref x :: st) h := exF_j (i := (i_aload 0 30)) rfl rfl
theorem eX1_laysWets_30 {ev : xV} {v1 v2 v3 v4 : Option Value} {x : Nat} {st : List Value} {h : xH} : exF ev cX1_laysWets 30 ([some (.ref x), v1, v2, v3, v4], []) st h = exF ev cX1_laysWets 31 ([some (.ref x), v1, v2, v3, v4], []) (.ref x :: st) h := exF_j (i := (i_aload 0 31)) rfl rfl
theorem eX1_laysWets_31 {ev : xV} {v0 v1 v2 v3 v4 : Option Value} {a : Nat} {st : List Value} {h : xH} : exF ev cX1_laysWets 31 ([v0, v1, v2, v3, v4], []) (.ref a :: st) h = xO (xgf h a 0 5) (fun v => exF ev cX1_laysWets 34 ([v0, v1, v2, v3, v4], []) (v :: st) h) := exF_o (i := (i_getf 0 5 34)) rfl rfl
theorem eX1_laysWets_34 {ev : xV} {v0 v1 v3 v4 : Option Value} {x : Int32} {st : List Value} {h : xH} : exF ev cX1_laysWets 34 ([v0, v1, some (.int x), v3, v4], []) st h = exF ev cX1_laysWets 35 ([v0, v1, some (.int x), v3, v4], []) (.int x :: st) h := exF_j (i := (i_iload 2 35)) rfl rfl
theorem eX1_laysWets_35 {ev : xV} {v0 v1 v2 v3 v4 : Option Value} {a0 : Value} {a1 : Value} {a : Nat} {h : xH} : exF ev cX1_laysWets 35 ([v0, v1, v2, v3, v4], []) [a1, a0, .ref a] h = xO (xck h a 0) (fun _ => xBv (ev 105 [.ref a, a0, a1] h) (fun h => exF ev cX1_laysWets 38 ([v0, v1, v2, v3, v4], []) [] h)) := exF_cdv (i := (i_cvv 0 105 2 38)) rfl rfl
theorem eX1_laysWets_38 {ev : xV} {v1 v2 v3 v4 : Option Value} {x : Nat} {st : List Value} {h : xH} : exF ev cX1_laysWets 38 ([some (.ref x), v1, v2, v3, v4], []) st h = exF ev cX1_laysWets 39 ([some (.ref x), v1, v2, v3, v4], []) (.ref x :: st) h := exF_j (i := (i_aload 0 39)) rfl rfl
theorem eX1_laysWets_39 {ev : xV} {v0 v1 v2 v3 v4 : Option Value} {a : Nat} {st : List Value} {h : xH} : exF ev cX1_laysWets 39 ([v0, v1, v2, v3, v4], []) (.ref a :: st) h = xO (xgf h a 0 16) (fun v => exF ev cX1_laysWets 42 ([v0, v1, v2, v3, v4], []) (v :: st) h) := exF_o (i := (i_getf 0 16 42)) rfl rfl
theorem eX1_laysWets_42 {ev : xV} {v0 v1 v3 v4 : Option Value} {x : Int32} {st : List Value} {h : xH} : exF ev cX1_laysWets 42 ([v0, v1, some (.int x), v3, v4], []) st h = exF ev cX1_laysWets 43 ([v0, v1, some (.int x), v3, v4], []) (.int x :: st) h := exF_j (i := (i_iload 2 43)) rfl rfl
theorem eX1_laysWets_43 {ev : xV} {v0 v1 v2 v3 v4 : Option Value} {i : Int32} {a : Nat} {st : List Value} {h : xH} : exF ev cX1_laysWets 43 ([v0, v1, v2, v3, v4], []) (.int i :: .ref a :: st) h = xO (xaq h 6 a i) (fun v => exF ev cX1_laysWets 44 ([v0, v1, v2, v3, v4], []) (va_rf v :: st) h) := exF_o (i := (i_aq 6 44)) rfl rfl
theorem eX1_laysWets_44 {ev : xV} {v0 v1 v2 v4 : Option Value} {x : Int32} {st : List Value} {h : xH} : exF ev cX1_laysWets 44 ([v0, v1, v2, some (.int x), v4], []) st h = exF ev cX1_laysWets 45 ([v0, v1, v2, some (.int x), v4], []) (.int x :: st) h := exF_j (i := (i_iload 3 45)) rfl rfl
theorem eX1_laysWets_45 {ev : xV} {v1 v2 v3 v4 : Option Value} {x : Nat} {st : List Value} {h : xH} : exF ev cX1_laysWets 45 ([some (.ref x), v1, v2, v3, v4], []) st h = exF ev cX1_laysWets 46 ([some (.ref x), v1, v2, v3, v4], []) (.ref x :: st) h := exF_j (i := (i_aload 0 46)) rfl rfl
theorem eX1_laysWets_46 {ev : xV} {v1 v2 v3 v4 : Option Value} {x : Nat} {st : List Value} {h : xH} : exF ev cX1_laysWets 46 ([some (.ref x), v1, v2, v3, v4], []) st h = exF ev cX1_laysWets 47 ([some (.ref x), v1, v2, v3, v4], []) (.ref x :: st) h := exF_j (i := (i_aload 0 47)) rfl rfl
theorem eX1_laysWets_47 {ev : xV} {v0 v1 v2 v3 v4 : Option Value} {a : Nat} {st : List Value} {h : xH} : exF ev cX1_laysWets 47 ([v0, v1, v2, v3, v4], []) (.ref a :: st) h = xO (xgf h a 0 5) (fun v => exF ev cX1_laysWets 50 ([v0, v1, v2, v3, v4], []) (v :: st) h) := exF_o (i := (i_getf 0 5 50)) rfl rfl
theorem eX1_laysWets_50 {ev : xV} {v0 v1 v2 v3 v4 : Option Value} {a0 : Value} {r0 : Value} {r1 : Value} {a : Nat} {h : xH} : exF ev cX1_laysWets 50 ([v0, v1, v2, v3, v4], []) [a0, .ref a, r0, r1] h = xO (xck h a 0) (fun _ => xB (ev 108 [.ref a, a0] h) (fun v h => exF ev cX1_laysWets 53 ([v0, v1, v2, v3, v4], []) [v, r0, r1] h)) := exF_cd (i := (i_cv 0 108 1 53)) rfl rfl
theorem eX1_laysWets_53 {ev : xV} {v0 v1 v2 v3 v4 : Option Value} {v i : Int32} {a : Nat} {st : List Value} {h : xH} : exF ev cX1_laysWets 53 ([v0, v1, v2, v3, v4], []) (.int v :: .int i :: .ref a :: st) h = xO (xsi h 0 a i v) (fun h => exF ev cX1_laysWets 54 ([v0, v1, v2, v3, v4], []) st h) := exF_o (i := (i_si (fun v => v) 0 54)) rfl rfl
theorem eX1_laysWets_54 {ev : xV} {v0 v1 v2 v4 : Option Value} {x : Int32} {st : List Value} {h : xH} : exF ev cX1_laysWets 54 ([v0, v1, v2, some (.int x), v4], []) st h = exF ev cX1_laysWets 57 ([v0, v1, v2, some (.int (x + (nI 1))), v4], []) st h := exF_j (i := (i_iinc 3 (nI 1) 57)) rfl rfl
theorem eX1_laysWets_57 {ev : xV} {v0 v1 v2 v3 v4 : Option Value} {st : List Value} {h : xH} : exF ev cX1_laysWets 57 ([v0, v1, v2, v3, v4], []) st h = exF ev cX1_laysWets 23 ([v0, v1, v2, v3, v4], []) st h := exF_j (i := (i_goto 23)) rfl rfl
theorem eX1_laysWets_60 {ev : xV} {v0 v1 v2 v3 v4 : Option Value} {st : List Value} {h : xH} : exF ev cX1_laysWets 60 ([v0, v1, v2, v3, v4], []) st h = exF ev cX1_laysWets 61 ([v0, v1, v2, v3, v4], []) (.int (nI 1) :: st) h := exF_j (i := (i_const (.int (nI 1)) 61)) rfl rfl
theorem eX1_laysWets_61 {ev : xV} {v0 v1 v2 v3 v4 : Option Value} {x : Int32} {st : List Value} {h : xH} : exF ev cX1_laysWets 61 ([v0, v1, v2, v3, v4], []) (.int x :: st) h = exF ev cX1_laysWets 62 ([v0, v1, v2, some (.int x), v4], []) st h := exF_j (i := (i_istore 3 62)) rfl rfl
theorem eX1_laysWets_62 {ev : xV} {v0 v1 v2 v3 v4 : Option Value} {st : List Value} {h : xH} : exF ev cX1_laysWets 62 ([v0, v1, v2, v3, v4], []) st h = exF ev cX1_laysWets 63 ([v0, v1, v2, v3, v4], []) (.int (nI 0) :: st) h := exF_j (i := (i_const (.int (nI 0)) 63)) rfl rfl
theorem eX1_laysWets_63 {ev : xV} {v0 v1 v2 v3 v4 : Option Value} {x : Int32} {st : List Value} {h : xH} : exF ev cX1_laysWets 63 ([v0, v1, v2, v3, v4], []) (.int x :: st) h = exF ev cX1_laysWets 65 ([v0, v1, v2, v3, some (.int x)], []) st h := exF_j (i := (i_istore 4 65)) rfl rfl
theorem eX1_laysWets_65 {ev : xV} {v0 v1 v2 v3 : Option Value} {x : Int32} {st : List Value} {h : xH} : exF ev cX1_laysWets 65 ([v0, v1, v2, v3, some (.int x)], []) st h = exF ev cX1_laysWets 67 ([v0, v1, v2, v3, some (.int x)], []) (.int x :: st) h := exF_j (i := (i_iload 4 67)) rfl rfl
theorem eX1_laysWets_67 {ev : xV} {v1 v2 v3 v4 : Option Value} {x : Nat} {st : List Value} {h : xH} : exF ev cX1_laysWets 67 ([some (.ref x), v1, v2, v3, v4], []) st h = exF ev cX1_laysWets 68 ([some (.ref x), v1, v2, v3, v4], []) (.ref x :: st) h := exF_j (i := (i_aload 0 68)) rfl rfl
theorem eX1_laysWets_68 {ev : xV} {v0 v1 v2 v3 v4 : Option Value} {a : Nat} {st : List Value} {h : xH} : exF ev cX1_laysWets 68 ([v0, v1, v2, v3, v4], []) (.ref a :: st) h = xO (xgf h a 0 15) (fun v => exF ev cX1_laysWets 71 ([v0, v1, v2, v3, v4], []) (v :: st) h) := exF_o (i := (i_getf 0 15 71)) rfl rfl
theorem eX1_laysWets_71 {ev : xV} {v0 v1 v2 v3 v4 : Option Value} {x y : Int32} {st : List Value} {h : xH} : exF ev cX1_laysWets 71 ([v0, v1, v2, v3, v4], []) (.int y :: .int x :: st) h = if y ≤ x then exF ev cX1_laysWets 124 ([v0, v1, v2, v3, v4], []) st h else exF ev cX1_laysWets 74 ([v0, v1, v2, v3, v4], []) st h := exF_b (i := (i_if2 (fun x y => y ≤ x) 124 74)) rfl rfl
theorem eX1_laysWets_74 {ev : xV} {v0 v1 v2 v4 : Option Value} {x : Int32} {st : List Value} {h : xH} : exF ev cX1_laysWets 74 ([v0, v1, v2, some (.int x), v4], []) st h = exF ev cX1_laysWets 75 ([v0, v1, v2, some (.int x), v4], []) (.int x :: st) h := exF_j (i := (i_iload 3 75)) rfl rfl
theorem eX1_laysWets_75 {ev : xV} {v0 v1 v2 v3 v4 : Option Value} {x : Int32} {st : List Value} {h : xH} : exF ev cX1_laysWets 75 ([v0, v1, v2, v3, v4], []) (.int x :: st) h = if x = 0 then exF ev cX1_laysWets 116 ([v0, v1, v2, v3, v4], []) st h else exF ev cX1_laysWets 78 ([v0, v1, v2, v3, v4], []) st h := exF_b (i := (i_if1 (fun x => x = 0) 116 78)) rfl rfl
theorem eX1_laysWets_78 {ev : xV} {v1 v2 v3 v4 : Option Value} {x : Nat} {st : List Value} {h : xH} : exF ev cX1_laysWets 78 ([some (.ref x), v1, v2, v3, v4], []) st h = exF ev cX1_laysWets 79 ([some (.ref x), v1, v2, v3, v4], []) (.ref x :: st) h := exF_j (i := (i_aload 0 79)) rfl rfl
theorem eX1_laysWets_79 {ev : xV} {v0 v1 v2 v3 v4 : Option Value} {a : Nat} {st : List Value} {h : xH} : exF ev cX1_laysWets 79 ([v0, v1, v2, v3, v4], []) (.ref a :: st) h = xO (xgf h a 0 16) (fun v => exF ev cX1_laysWets 82 ([v0, v1, v2, v3, v4], []) (v :: st) h) := exF_o (i := (i_getf 0 16 82)) rfl rfl
theorem eX1_laysWets_82 {ev : xV} {v0 v1 v3 v4 : Option Value} {x : Int32} {st : List Value} {h : xH} : exF ev cX1_laysWets 82 ([v0, v1, some (.int x), v3, v4], []) st h = exF ev cX1_laysWets 83 ([v0, v1, some (.int x), v3, v4], []) (.int x :: st) h := exF_j (i := (i_iload 2 83)) rfl rfl
theorem eX1_laysWets_83 {ev : xV} {v0 v1 v2 v3 v4 : Option Value} {i : Int32} {a : Nat} {st : List Value} {h : xH} : exF ev cX1_laysWets 83 ([v0, v1, v2, v3, v4], []) (.int i :: .ref a :: st) h = xO (xaq h 6 a i) (fun v => exF ev cX1_laysWets 84 ([v0, v1, v2, v3, v4], []) (va_rf v :: st) h) := exF_o (i := (i_aq 6 84)) rfl rfl
theorem eX1_laysWets_84 {ev : xV} {v1 v2 v3 v4 : Option Value} {x : Nat} {st : List Value} {h : xH} : exF ev cX1_laysWets 84 ([some (.ref x), v1, v2, v3, v4], []) st h = exF ev cX1_laysWets 85 ([some (.ref x), v1, v2, v3, v4], []) (.ref x :: st) h := exF_j (i := (i_aload 0 85)) rfl rfl
theorem eX1_laysWets_85 {ev : xV} {v0 v1 v2 v3 v4 : Option Value} {a : Nat} {st : List Value} {h : xH} : exF ev cX1_laysWets 85 ([v0, v1, v2, v3, v4], []) (.ref a :: st) h = xO (xgf h a 0 13) (fun v => exF ev cX1_laysWets 88 ([v0, v1, v2, v3, v4], []) (v :: st) h) := exF_o (i := (i_getf 0 13 88)) rfl rfl
theorem eX1_laysWets_88 {ev : xV} {v0 v1 v2 v3 : Option Value} {x : Int32} {st : List Value} {h : xH} : exF ev cX1_laysWets 88 ([v0, v1, v2, v3, some (.int x)], []) st h = exF ev cX1_laysWets 90 ([v0, v1, v2, v3, some (.int x)], []) (.int x :: st) h := exF_j (i := (i_iload 4 90)) rfl rfl
theorem eX1_laysWets_90 {ev : xV} {v0 v1 v2 v3 v4 : Option Value} {i : Int32} {a : Nat} {st : List Value} {h : xH} : exF ev cX1_laysWets 90 ([v0, v1, v2, v3, v4], []) (.int i :: .ref a :: st) h = xO (xai h 0 a i) (fun v => exF ev cX1_laysWets 91 ([v0, v1, v2, v3, v4], []) (.int v :: st) h) := exF_o (i := (i_ai 0 91)) rfl rfl
theorem eX1_laysWets_91 {ev : xV} {v0 v1 v2 v3 v4 : Option Value} {i : Int32} {a : Nat} {st : List Value} {h : xH} : exF ev cX1_laysWets 91 ([v0, v1, v2, v3, v4], []) (.int i :: .ref a :: st) h = xO (xai h 0 a i) (fun v => exF ev cX1_laysWets 92 ([v0, v1, v2, v3, v4], []) (.int v :: st) h) := exF_o (i := (i_ai 0 92)) rfl rfl
theorem eX1_laysWets_92 {ev : xV} {v1 v2 v3 v4 : Option Value} {x : Nat} {st : List Value} {h : xH} : exF ev cX1_laysWets 92 ([some (.ref x), v1, v2, v3, v4], []) st h = exF ev cX1_laysWets 93 ([some (.ref x), v1, v2, v3, v4], []) (.ref x :: st) h := exF_j (i := (i_aload 0 93)) rfl rfl
theorem eX1_laysWets_93 {ev : xV} {v0 v1 v2 v3 v4 : Option Value} {a : Nat} {st : List Value} {h : xH} : exF ev cX1_laysWets 93 ([v0, v1, v2, v3, v4], []) (.ref a :: st) h = xO (xgf h a 0 12) (fun v => exF ev cX1_laysWets 96 ([v0, v1, v2, v3, v4], []) (v :: st) h) := exF_o (i := (i_getf 0 12 96)) rfl rfl
theorem eX1_laysWets_96 {ev : xV} {v0 v1 v2 v3 : Option Value} {x : Int32} {st : List Value} {h : xH} : exF ev cX1_laysWets 96 ([v0, v1, v2, v3, some (.int x)], []) st h = exF ev cX1_laysWets 98 ([v0, v1, v2, v3, some (.int x)], []) (.int x :: st) h := exF_j (i := (i_iload 4 98)) rfl rfl
theorem eX1_laysWets_98 {ev : xV} {v0 v1 v2 v3 v4 : Option Value} {i : Int32} {a : Nat} {st : List Value} {h : xH} : exF ev cX1_laysWets 98 ([v0, v1, v2, v3, v4], []) (.int i :: .ref a :: st) h = xO (xai h 0 a i) (fun v => exF ev cX1_laysWets 99 ([v0, v1, v2, v3, v4], []) (.int v :: st) h) := exF_o (i := (i_ai 0 99)) rfl rfl
theorem eX1_laysWets_99 {ev : xV} {v0 v1 v2 v3 v4 : Option Value} {a0 : Value} {a1 : Value} {h : xH} : exF ev cX1_laysWets 99 ([v0, v1, v2, v3, v4], []) [a1, a0] h = xB (ev 98 [a0, a1] h) (fun v h => exF ev cX1_laysWets 102 ([v0, v1, v2, v3, v4], []) [v] h) := exF_c (i := (i_cs 98 2 102)) rfl rfl
theorem eX1_laysWets_102 {ev : xV} {v1 v2 v3 v4 : Option Value} {x : Nat} {st : List Value} {h : xH} : exF ev cX1_laysWets 102 ([some (.ref x), v1, v2, v3, v4], []) st h = exF ev cX1_laysWets 103 ([some (.ref x), v1, v2, v3, v4], []) (.ref x :: st) h := exF_j (i := (i_aload 0 103)) rfl rfl
theorem eX1_laysWets_103 {ev : xV} {v0 v1 v2 v3 v4 : Option Value} {a : Nat} {st : List Value} {h : xH} : exF ev cX1_laysWets 103 ([v0, v1, v2, v3, v4], []) (.ref a :: st) h = xO (xgf h a 0 14) (fun v => exF ev cX1_laysWets 106 ([v0, v1, v2, v3, v4], []) (v :: st) h) := exF_o (i := (i_getf 0 14 106)) rfl rfl
theorem eX1_laysWets_106 {ev : xV} {v0 v1 v2 v3 : Option Value} {x : Int32} {st : List Value} {h : xH} : exF ev cX1_laysWets 106 ([v0, v1, v2, v3, some (.int x)], []) st h = exF ev cX1_laysWets 108 ([v0, v1, v2, v3, some (.int x)], []) (.int x :: st) h := exF_j (i := (i_iload 4 108)) rfl rfl
theorem eX1_laysWets_108 {ev : xV} {v0 v1 v2 v3 v4 : Option Value} {i : Int32} {a : Nat} {st : List Value} {h : xH} : exF ev cX1_laysWets 108 ([v0, v1, v2, v3, v4], []) (.int i :: .ref a :: st) h = xO (xai h 2 a i) (fun v => exF ev cX1_laysWets 109 ([v0, v1, v2, v3, v4], []) (.int v :: st) h) := exF_o (i := (i_ai 2 109)) rfl rfl
theorem eX1_laysWets_109 {ev : xV} {v0 v1 v2 v3 v4 : Option Value} {x y : Int32} {st : List Value} {h : xH} : exF ev cX1_laysWets 109 ([v0, v1, v2, v3, v4], []) (.int y :: .int x :: st) h = if ¬ x = y then exF ev cX1_laysWets 116 ([v0, v1, v2, v3, v4], []) st h else exF ev cX1_laysWets 112 ([v0, v1, v2, v3, v4], []) st h := exF_b (i := (i_if2 (fun x y => ¬ x = y) 116 112)) rfl rfl
theorem eX1_laysWets_112 {ev : xV} {v0 v1 v2 v3 v4 : Option Value} {st : List Value} {h : xH} : exF ev cX1_laysWets 112 ([v0, v1, v2, v3, v4], []) st h = exF ev cX1_laysWets 113 ([v0, v1, v2, v3, v4], []) (.int (nI 1) :: st) h := exF_j (i := (i_const (.int (nI 1)) 113)) rfl rfl
theorem eX1_laysWets_113 {ev : xV} {v0 v1 v2 v3 v4 : Option Value} {st : List Value} {h : xH} : exF ev cX1_laysWets 113 ([v0, v1, v2, v3, v4], []) st h = exF ev cX1_laysWets 117 ([v0, v1, v2, v3, v4], []) st h := exF_j (i := (i_goto 117)) rfl rfl
theorem eX1_laysWets_116 {ev : xV} {v0 v1 v2 v3 v4 : Option Value} {st : List Value} {h : xH} : exF ev cX1_laysWets 116 ([v0, v1, v2, v3, v4], []) st h = exF ev cX1_laysWets 117 ([v0, v1, v2, v3, v4], []) (.int (nI 0) :: st) h := exF_j (i := (i_const (.int (nI 0)) 117)) rfl rfl
theorem eX1_laysWets_117 {ev : xV} {v0 v1 v2 v3 v4 : Option Value} {x : Int32} {st : List Value} {h : xH} : exF ev cX1_laysWets 117 ([v0, v1, v2, v3, v4], []) (.int x :: st) h = exF ev cX1_laysWets 118 ([v0, v1, v2, some (.int x), v4], []) st h := exF_j (i := (i_istore 3 118)) rfl rfl
theorem eX1_laysWets_118 {ev : xV} {v0 v1 v2 v3 : Option Value} {x : Int32} {st : List Value} {h : xH} : exF ev cX1_laysWets 118 ([v0, v1, v2, v3, some (.int x)], []) st h = exF ev cX1_laysWets 121 ([v0, v1, v2, v3, some (.int (x + (nI 1)))], []) st h := exF_j (i := (i_iinc 4 (nI 1) 121)) rfl rfl
theorem eX1_laysWets_121 {ev : xV} {v0 v1 v2 v3 v4 : Option Value} {st : List Value} {h : xH} : exF ev cX1_laysWets 121 ([v0, v1, v2, v3, v4], []) st h = exF ev cX1_laysWets 65 ([v0, v1, v2, v3, v4], []) st h := exF_j (i := (i_goto 65)) rfl rfl
theorem eX1_laysWets_124 {ev : xV} {v0 v1 v2 v4 : Option Value} {x : Int32} {st : List Value} {h : xH} : exF ev cX1_laysWets 124 ([v0, v1, v2, some (.int x), v4], []) st h = exF ev cX1_laysWets 125 ([v0, v1, v2, some (.int x), v4], []) (.int x :: st) h := exF_j (i := (i_iload 3 125)) rfl rfl
theorem eX1_laysWets_125 {ev : xV} {v0 v1 v2 v3 v4 : Option Value} {x : Int32} {st : List Value} {h : xH} : exF ev cX1_laysWets 125 ([v0, v1, v2, v3, v4], []) (.int x :: st) h = if x = 0 then exF ev cX1_laysWets 134 ([v0, v1, v2, v3, v4], []) st h else exF ev cX1_laysWets 128 ([v0, v1, v2, v3, v4], []) st h := exF_b (i := (i_if1 (fun x => x = 0) 134 128)) rfl rfl
theorem eX1_laysWets_128 {ev : xV} {v0 v2 v3 v4 : Option Value} {x : Int32} {st : List Value} {h : xH} : exF ev cX1_laysWets 128 ([v0, some (.int x), v2, v3, v4], []) st h = exF ev cX1_laysWets 129 ([v0, some (.int x), v2, v3, v4], []) (.int x :: st) h := exF_j (i := (i_iload 1 129)) rfl rfl
theorem eX1_laysWets_129 {ev : xV} {v0 v1 v2 v3 v4 : Option Value} {st : List Value} {h : xH} : exF ev cX1_laysWets 129 ([v0, v1, v2, v3, v4], []) st h = exF ev cX1_laysWets 130 ([v0, v1, v2, v3, v4], []) (.int (nI 1) :: st) h := exF_j (i := (i_const (.int (nI 1)) 130)) rfl rfl
theorem eX1_laysWets_130 {ev : xV} {v0 v1 v3 v4 : Option Value} {x : Int32} {st : List Value} {h : xH} : exF ev cX1_laysWets 130 ([v0, v1, some (.int x), v3, v4], []) st h = exF ev cX1_laysWets 131 ([v0, v1, some (.int x), v3, v4], []) (.int x :: st) h := exF_j (i := (i_iload 2 131)) rfl rfl
theorem eX1_laysWets_131 {ev : xV} {v0 v1 v2 v3 v4 : Option Value} {x y : Int32} {st : List Value} {h : xH} : exF ev cX1_laysWets 131 ([v0, v1, v2, v3, v4], []) (.int y :: .int x :: st) h = exF ev cX1_laysWets 132 ([v0, v1, v2, v3, v4], []) (.int (x <<< (y &&& 31)) :: st) h := exF_j (i := (i_ii (fun x y => x <<< (y &&& 31)) 132)) rfl rfl
theorem eX1_laysWets_132 {ev : xV} {v0 v1 v2 v3 v4 : Option Value} {x y : Int32} {st : List Value} {h : xH} : exF ev cX1_laysWets 132 ([v0, v1, v2, v3, v4], []) (.int y :: .int x :: st) h = exF ev cX1_laysWets 133 ([v0, v1, v2, v3, v4], []) (.int (x ||| y) :: st) h := exF_j (i := (i_ii (fun x y => x ||| y) 133)) rfl rfl
theorem eX1_laysWets_133 {ev : xV} {v0 v1 v2 v3 v4 : Option Value} {x : Int32} {st : List Value} {h : xH} : exF ev cX1_laysWets 133 ([v0, v1, v2, v3, v4], []) (.int x :: st) h = exF ev cX1_laysWets 134 ([v0, some (.int x), v2, v3, v4], []) st h := exF_j (i := (i_istore 1 134)) rfl rfl
theorem eX1_laysWets_134 {ev : xV} {v0 v1 v3 v4 : Option Value} {x : Int32} {st : List Value} {h : xH} : exF ev cX1_laysWets 134 ([v0, v1, some (.int x), v3, v4], []) st h = exF ev cX1_laysWets 137 ([v0, v1, some (.int (x + (nI 1))), v3, v4], []) st h := exF_j (i := (i_iinc 2 (nI 1) 137)) rfl rfl
theorem eX1_laysWets_137 {ev : xV} {v0 v1 v2 v3 v4 : Option Value} {st : List Value} {h : xH} : exF ev cX1_laysWets 137 ([v0, v1, v2, v3, v4], []) st h = exF ev cX1_laysWets 4 ([v0, v1, v2, v3, v4], []) st h := exF_j (i := (i_goto 4)) rfl rfl
theorem eX1_laysWets_140 {ev : xV} {v0 v2 v3 v4 : Option Value} {x : Int32} {st : List Value} {h : xH} : exF ev cX1_laysWets 140 ([v0, some (.int x), v2, v3, v4], []) st h = exF ev cX1_laysWets 141 ([v0, some (.int x), v2, v3, v4], []) (.int x :: st) h := exF_j (i := (i_iload 1 141)) rfl rfl
theorem eX1_laysWets_141 {ev : xV} {v0 v1 v2 v3 v4 : Option Value} {x : Int32} {h : xH} : exF ev cX1_laysWets 141 ([v0, v1, v2, v3, v4], []) [.int x] h = some (.inl (some (.int x)), h) := exF_r (i := (i_iret)) rfl rfl
noncomputable def cX1_tries : xC := [(0, i_aload 0 1),
  (1, i_cv 0 147 0 4),
  (4, i_istore 1 5),
  (5, i_iload 1 6),
  (6, i_cs 28 1 9),
  (9, i_istore 2 10),
  (10, i_iload 2 11),
  (11, i_istore 3 12),
  (12, i_const (.int (-1)) 13),
  (13, i_istore 4 15),
  (15, i_const (.int (nI 1)) 16),
  (16, i_istore 5 18),
  (18, i_iload 5 20),
  (20, i_const (.int (nI 30)) 22),
  (22, i_if2 (fun x y => y < x) 131 25),
  (25, i_const (.int (nI 0)) 26),
  (26, i_istore 6 28),
  (28, i_iload 6 30),
  (30, i_aload 0 31),
  (31, i_cv 0 96 0 34),
  (34, i_if2 (fun x y => y ≤ x) 125 37),
  (37, i_const (.int (nI 0)) 38),
  (38, i_istore 7 40),
  (40, i_const (.int (nI 0)) 41),
  (41, i_istore 8 43),
  (43, i_iload 8 45),
  (45, i_const (.int (nI 9)) 47),
  (47, i_if2 (fun x y => y < x) 86 50),
  (50, i_iload 1 51),
  (51, i_iload 8 53),
  (53, i_cs 98 2 56),
  (56, i_if1 (fun x => x = 0) 80 59),
  (59, i_aload 0 60),
  (60, i_getf 0 16 63),
  (63, i_iload 8 65),
  (65, i_aq 6 66),
  (66, i_iload 5 68),
  (68, i_ai 0 69),
  (69, i_iload 6 71),
  (71, i_cs 98 2 74),
  (74, i_if1 (fun x => x = 0) 80 77),
  (77, i_iinc 7 (nI 1) 80),
  (80, i_iinc 8 (nI 1) 83),
  (83, i_goto 43),
  (86, i_iload 7 88),
  (88, i_iload 2 89),
  (89, i_iload 7 91),
  (91, i_ii (fun x y => x - y) 92),
  (92, i_cs 62 2 95),
  (95, i_istore 7 97),
  (97, i_iload 7 99),
  (99, i_iload 3 100),
  (100, i_if2 (fun x y => x < y) 106 103),
  (103, i_goto 119),
  (106, i_iload 7 108),
  (108, i_istore 3 109),
  (109, i_iload 5 111),
  (111, i_const (.int (nI 8)) 113),
  (113, i_ii (fun x y => x * y) 114),
  (114, i_iload 6 116),
  (116, i_ii (fun x y => x + y) 117),
  (117, i_istore 4 119),
  (119, i_iinc 6 (nI 1) 122),
  (122, i_goto 28),
  (125, i_iinc 5 (nI 1) 128),
  (128, i_goto 18),
  (131, i_iload 4 133),
  (133, i_iret)]
theorem eX1_tries_0 {ev : xV} {v1 v2 v3 v4 v5 v6 v7 v8 : Option Value} {x : Nat} {st : List Value} {h : xH} : exF ev cX1_tries 0 ([some (.ref x), v1, v2, v3, v4, v5, v6, v7, v8], []) st h = exF ev cX1_tries 1 ([some (.ref x), v1, v2, v3, v4, v5, v6, v7, v8], []) (.ref x :: st) h := exF_j (i := (i_aload 0 1)) rfl rfl
theorem eX1_tries_1 {ev : xV} {v0 v1 v2 v3 v4 v5 v6 v7 v8 : Option Value} {a : Nat} {h : xH} : exF ev cX1_tries 1 ([v0, v1, v2, v3, v4, v5, v6, v7, v8], []) [.ref a] h = xO (xck h a 0) (fun _ => xB (ev 147 [.ref a] h) (fun v h => exF ev cX1_tries 4 ([v0, v1, v2, v3, v4, v5, v6, v7, v8], []) [v] h)) := exF_cd (i := (i_cv 0 147 0 4)) rfl rfl
theorem eX1_tries_4 {ev : xV} {v0 v1 v2 v3 v4 v5 v6 v7 v8 : Option Value} {x : Int32} {st : List Value} {h : xH} : exF ev cX1_tries 4 ([v0, v1, v2, v3, v4, v5, v6, v7, v8], []) (.int x :: st) h = exF ev cX1_tries 5 ([v0, some (.int x), v2, v3, v4, v5, v6, v7, v8], []) st h := exF_j (i := (i_istore 1 5)) rfl rfl
theorem eX1_tries_5 {ev : xV} {v0 v2 v3 v4 v5 v6 v7 v8 : Option Value} {x : Int32} {st : List Value} {h : xH} : exF ev cX1_tries 5 ([v0, some (.int x), v2, v3, v4, v5, v6, v7, v8], []) st h = exF ev cX1_tries 6 ([v0, some (.int x), v2, v3, v4, v5, v6, v7, v8], []) (.int x :: st) h := exF_j (i := (i_iload 1 6)) rfl rfl
theorem eX1_tries_6 {ev : xV} {v0 v1 v2 v3 v4 v5 v6 v7 v8 : Option Value} {a0 : Value} {h : xH} : exF ev cX1_tries 6 ([v0, v1, v2, v3, v4, v5, v6, v7, v8], []) [a0] h = xB (ev 28 [a0] h) (fun v h => exF ev cX1_tries 9 ([v0, v1, v2, v3, v4, v5, v6, v7, v8], []) [v] h) := exF_c (i := (i_cs 28 1 9)) rfl rfl
theorem eX1_tries_9 {ev : xV} {v0 v1 v2 v3 v4 v5 v6 v7 v8 : Option Value} {x : Int32} {st : List Value} {h : xH} : exF ev cX1_tries 9 ([v0, v1, v2, v3, v4, v5, v6, v7, v8], []) (.int x :: st) h = exF ev cX1_tries 10 ([v0, v1, some (.int x), v3, v4, v5, v6, v7, v8], []) st h := exF_j (i := (i_istore 2 10)) rfl rfl
theorem eX1_tries_10 {ev : xV} {v0 v1 v3 v4 v5 v6 v7 v8 : Option Value} {x : Int32} {st : List Value} {h : xH} : exF ev cX1_tries 10 ([v0, v1, some (.int x), v3, v4, v5, v6, v7, v8], []) st h = exF ev cX1_tries 11 ([v0, v1, some (.int x), v3, v4, v5, v6, v7, v8], []) (.int x :: st) h := exF_j (i := (i_iload 2 11)) rfl rfl
theorem eX1_tries_11 {ev : xV} {v0 v1 v2 v3 v4 v5 v6 v7 v8 : Option Value} {x : Int32} {st : List Value} {h : xH} : exF ev cX1_tries 11 ([v0, v1, v2, v3, v4, v5, v6, v7, v8], []) (.int x :: st) h = exF ev cX1_tries 12 ([v0, v1, v2, some (.int x), v4, v5, v6, v7, v8], []) st h := exF_j (i := (i_istore 3 12)) rfl rfl
theorem eX1_tries_12 {ev : xV} {v0 v1 v2 v3 v4 v5 v6 v7 v8 : Option Value} {st : List Value} {h : xH} : exF ev cX1_tries 12 ([v0, v1, v2, v3, v4, v5, v6, v7, v8], []) st h = exF ev cX1_tries 13 ([v0, v1, v2, v3, v4, v5, v6, v7, v8], []) (.int (-1) :: st) h := exF_j (i := (i_const (.int (-1)) 13)) rfl rfl
theorem eX1_tries_13 {ev : xV} {v0 v1 v2 v3 v4 v5 v6 v7 v8 : Option Value} {x : Int32} {st : List Value} {h : xH} : exF ev cX1_tries 13 ([v0, v1, v2, v3, v4, v5, v6, v7, v8], []) (.int x :: st) h = exF ev cX1_tries 15 ([v0, v1, v2, v3, some (.int x), v5, v6, v7, v8], []) st h := exF_j (i := (i_istore 4 15)) rfl rfl
theorem eX1_tries_15 {ev : xV} {v0 v1 v2 v3 v4 v5 v6 v7 v8 : Option Value} {st : List Value} {h : xH} : exF ev cX1_tries 15 ([v0, v1, v2, v3, v4, v5, v6, v7, v8], []) st h = exF ev cX1_tries 16 ([v0, v1, v2, v3, v4, v5, v6, v7, v8], []) (.int (nI 1) :: st) h := exF_j (i := (i_const (.int (nI 1)) 16)) rfl rfl
theorem eX1_tries_16 {ev : xV} {v0 v1 v2 v3 v4 v5 v6 v7 v8 : Option Value} {x : Int32} {st : List Value} {h : xH} : exF ev cX1_tries 16 ([v0, v1, v2, v3, v4, v5, v6, v7, v8], []) (.int x :: st) h = exF ev cX1_tries 18 ([v0, v1, v2, v3, v4, some (.int x), v6, v7, v8], []) st h := exF_j (i := (i_istore 5 18)) rfl rfl
theorem eX1_tries_18 {ev : xV} {v0 v1 v2 v3 v4 v6 v7 v8 : Option Value} {x : Int32} {st : List Value} {h : xH} : exF ev cX1_tries 18 ([v0, v1, v2, v3, v4, some (.int x), v6, v7, v8], []) st h = exF ev cX1_tries 20 ([v0, v1, v2, v3, v4, some (.int x), v6, v7, v8], []) (.int x :: st) h := exF_j (i := (i_iload 5 20)) rfl rfl
theorem eX1_tries_20 {ev : xV} {v0 v1 v2 v3 v4 v5 v6 v7 v8 : Option Value} {st : List Value} {h : xH} : exF ev cX1_tries 20 ([v0, v1, v2, v3, v4, v5, v6, v7, v8], []) st h = exF ev cX1_tries 22 ([v0, v1, v2, v3, v4, v5, v6, v7, v8], []) (.int (nI 30) :: st) h := exF_j (i := (i_const (.int (nI 30)) 22)) rfl rfl
theorem eX1_tries_22 {ev : xV} {v0 v1 v2 v3 v4 v5 v6 v7 v8 : Option Value} {x y : Int32} {st : List Value} {h : xH} : exF ev cX1_tries 22 ([v0, v1, v2, v3, v4, v5, v6, v7, v8], []) (.int y :: .int x :: st) h = if y < x then exF ev cX1_tries 131 ([v0, v1, v2, v3, v4, v5, v6, v7, v8], []) st h else exF ev cX1_tries 25 ([v0, v1, v2, v3, v4, v5, v6, v7, v8], []) st h := exF_b (i := (i_if2 (fun x y => y < x) 131 25)) rfl rfl
theorem eX1_tries_25 {ev : xV} {v0 v1 v2 v3 v4 v5 v6 v7 v8 : Option Value} {st : List Value} {h : xH} : exF ev cX1_tries 25 ([v0, v1, v2, v3, v4, v5, v6, v7, v8], []) st h = exF ev cX1_tries 26 ([v0, v1, v2, v3, v4, v5, v6, v7, v8], []) (.int (nI 0) :: st) h := exF_j (i := (i_const (.int (nI 0)) 26)) rfl rfl
theorem eX1_tries_26 {ev : xV} {v0 v1 v2 v3 v4 v5 v6 v7 v8 : Option Value} {x : Int32} {st : List Value} {h : xH} : exF ev cX1_tries 26 ([v0, v1, v2, v3, v4, v5, v6, v7, v8], []) (.int x :: st) h = exF ev cX1_tries 28 ([v0, v1, v2, v3, v4, v5, some (.int x), v7, v8], []) st h := exF_j (i := (i_istore 6 28)) rfl rfl
theorem eX1_tries_28 {ev : xV} {v0 v1 v2 v3 v4 v5 v7 v8 : Option Value} {x : Int32} {st : List Value} {h : xH} : exF ev cX1_tries 28 ([v0, v1, v2, v3, v4, v5, some (.int x), v7, v8], []) st h = exF ev cX1_tries 30 ([v0, v1, v2, v3, v4, v5, some (.int x), v7, v8], []) (.int x :: st) h := exF_j (i := (i_iload 6 30)) rfl rfl
theorem eX1_tries_30 {ev : xV} {v1 v2 v3 v4 v5 v6 v7 v8 : Option Value} {x : Nat} {st : List Value} {h : xH} : exF ev cX1_tries 30 ([some (.ref x), v1, v2, v3, v4, v5, v6, v7, v8], []) st h = exF ev cX1_tries 31 ([some (.ref x), v1, v2, v3, v4, v5, v6, v7, v8], []) (.ref x :: st) h := exF_j (i := (i_aload 0 31)) rfl rfl
theorem eX1_tries_31 {ev : xV} {v0 v1 v2 v3 v4 v5 v6 v7 v8 : Option Value} {r0 : Value} {a : Nat} {h : xH} : exF ev cX1_tries 31 ([v0, v1, v2, v3, v4, v5, v6, v7, v8], []) [.ref a, r0] h = xO (xck h a 0) (fun _ => xB (ev 96 [.ref a] h) (fun v h => exF ev cX1_tries 34 ([v0, v1, v2, v3, v4, v5, v6, v7, v8], []) [v, r0] h)) := exF_cd (i := (i_cv 0 96 0 34)) rfl rfl
theorem eX1_tries_34 {ev : xV} {v0 v1 v2 v3 v4 v5 v6 v7 v8 : Option Value} {x y : Int32} {st : List Value} {h : xH} : exF ev cX1_tries 34 ([v0, v1, v2, v3, v4, v5, v6, v7, v8], []) (.int y :: .int x :: st) h = if y ≤ x then exF ev cX1_tries 125 ([v0, v1, v2, v3, v4, v5, v6, v7, v8], []) st h else exF ev cX1_tries 37 ([v0, v1, v2, v3, v4, v5, v6, v7, v8], []) st h := exF_b (i := (i_if2 (fun x y => y ≤ x) 125 37)) rfl rfl
theorem eX1_tries_37 {ev : xV} {v0 v1 v2 v3 v4 v5 v6 v7 v8 : Option Value} {st : List Value} {h : xH} : exF ev cX1_tries 37 ([v0, v1, v2, v3, v4, v5, v6, v7, v8], []) st h = exF ev cX1_tries 38 ([v0, v1, v2, v3, v4, v5, v6, v7, v8], []) (.int (nI 0) :: st) h := exF_j (i := (i_const (.int (nI 0)) 38)) rfl rfl
theorem eX1_tries_38 {ev : xV} {v0 v1 v2 v3 v4 v5 v6 v7 v8 : Option Value} {x : Int32} {st : List Value} {h : xH} : exF ev cX1_tries 38 ([v0, v1, v2, v3, v4, v5, v6, v7, v8], []) (.int x :: st) h = exF ev cX1_tries 40 ([v0, v1, v2, v3, v4, v5, v6, some (.int x), v8], []) st h := exF_j (i := (i_istore 7 40)) rfl rfl
theorem eX1_tries_40 {ev : xV} {v0 v1 v2 v3 v4 v5 v6 v7 v8 : Option Value} {st : List Value} {h : xH} : exF ev cX1_tries 40 ([v0, v1, v2, v3, v4, v5, v6, v7, v8], []) st h = exF ev cX1_tries 41 ([v0, v1, v2, v3, v4, v5, v6, v7, v8], []) (.int (nI 0) :: st) h := exF_j (i := (i_const (.int (nI 0)) 41)) rfl rfl
theorem eX1_tries_41 {ev : xV} {v0 v1 v2 v3 v4 v5 v6 v7 v8 : Option Value} {x : Int32} {st : List Value} {h : xH} : exF ev cX1_tries 41 ([v0, v1, v2, v3, v4, v5, v6, v7, v8], []) (.int x :: st) h = exF ev cX1_tries 43 ([v0, v1, v2, v3, v4, v5, v6, v7, some (.int x)], []) st h := exF_j (i := (i_istore 8 43)) rfl rfl
theorem eX1_tries_43 {ev : xV} {v0 v1 v2 v3 v4 v5 v6 v7 : Option Value} {x : Int32} {st : List Value} {h : xH} : exF ev cX1_tries 43 ([v0, v1, v2, v3, v4, v5, v6, v7, some (.int x)], []) st h = exF ev cX1_tries 45 ([v0, v1, v2, v3, v4, v5, v6, v7, some (.int x)], []) (.int x :: st) h := exF_j (i := (i_iload 8 45)) rfl rfl
theorem eX1_tries_45 {ev : xV} {v0 v1 v2 v3 v4 v5 v6 v7 v8 : Option Value} {st : List Value} {h : xH} : exF ev cX1_tries 45 ([v0, v1, v2, v3, v4, v5, v6, v7, v8], []) st h = exF ev cX1_tries 47 ([v0, v1, v2, v3, v4, v5, v6, v7, v8], []) (.int (nI 9) :: st) h := exF_j (i := (i_const (.int (nI 9)) 47)) rfl rfl
theorem eX1_tries_47 {ev : xV} {v0 v1 v2 v3 v4 v5 v6 v7 v8 : Option Value} {x y : Int32} {st : List Value} {h : xH} : exF ev cX1_tries 47 ([v0, v1, v2, v3, v4, v5, v6, v7, v8], []) (.int y :: .int x :: st) h = if y < x then exF ev cX1_tries 86 ([v0, v1, v2, v3, v4, v5, v6, v7, v8], []) st h else exF ev cX1_tries 50 ([v0, v1, v2, v3, v4, v5, v6, v7, v8], []) st h := exF_b (i := (i_if2 (fun x y => y < x) 86 50)) rfl rfl
theorem eX1_tries_50 {ev : xV} {v0 v2 v3 v4 v5 v6 v7 v8 : Option Value} {x : Int32} {st : List Value} {h : xH} : exF ev cX1_tries 50 ([v0, some (.int x), v2, v3, v4, v5, v6, v7, v8], []) st h = exF ev cX1_tries 51 ([v0, some (.int x), v2, v3, v4, v5, v6, v7, v8], []) (.int x :: st) h := exF_j (i := (i_iload 1 51)) rfl rfl
theorem eX1_tries_51 {ev : xV} {v0 v1 v2 v3 v4 v5 v6 v7 : Option Value} {x : Int32} {st : List Value} {h : xH} : exF ev cX1_tries 51 ([v0, v1, v2, v3, v4, v5, v6, v7, some (.int x)], []) st h = exF ev cX1_tries 53 ([v0, v1, v2, v3, v4, v5, v6, v7, some (.int x)], []) (.int x :: st) h := exF_j (i := (i_iload 8 53)) rfl rfl
theorem eX1_tries_53 {ev : xV} {v0 v1 v2 v3 v4 v5 v6 v7 v8 : Option Value} {a0 : Value} {a1 : Value} {h : xH} : exF ev cX1_tries 53 ([v0, v1, v2, v3, v4, v5, v6, v7, v8], []) [a1, a0] h = xB (ev 98 [a0, a1] h) (fun v h => exF ev cX1_tries 56 ([v0, v1, v2, v3, v4, v5, v6, v7, v8], []) [v] h) := exF_c (i := (i_cs 98 2 56)) rfl rfl
theorem eX1_tries_56 {ev : xV} {v0 v1 v2 v3 v4 v5 v6 v7 v8 : Option Value} {x : Int32} {st : List Value} {h : xH} : exF ev cX1_tries 56 ([v0, v1, v2, v3, v4, v5, v6, v7, v8], []) (.int x :: st) h = if x = 0 then exF ev cX1_tries 80 ([v0, v1, v2, v3, v4, v5, v6, v7, v8], []) st h else exF ev cX1_tries 59 ([v0, v1, v2, v3, v4, v5, v6, v7, v8], []) st h := exF_b (i := (i_if1 (fun x => x = 0) 80 59)) rfl rfl
theorem eX1_tries_59 {ev : xV} {v1 v2 v3 v4 v5 v6 v7 v8 : Option Value} {x : Nat} {st : List Value} {h : xH} : exF ev cX1_tries 59 ([some (.ref x), v1, v2, v3, v4, v5, v6, v7, v8], []) st h = exF ev cX1_tries 60 ([some (.ref x), v1, v2, v3, v4, v5, v6, v7, v8], []) (.ref x :: st) h := exF_j (i := (i_aload 0 60)) rfl rfl
theorem eX1_tries_60 {ev : xV} {v0 v1 v2 v3 v4 v5 v6 v7 v8 : Option Value} {a : Nat} {st : List Value} {h : xH} : exF ev cX1_tries 60 ([v0, v1, v2, v3, v4, v5, v6, v7, v8], []) (.ref a :: st) h = xO (xgf h a 0 16) (fun v => exF ev cX1_tries 63 ([v0, v1, v2, v3, v4, v5, v6, v7, v8], []) (v :: st) h) := exF_o (i := (i_getf 0 16 63)) rfl rfl
theorem eX1_tries_63 {ev : xV} {v0 v1 v2 v3 v4 v5 v6 v7 : Option Value} {x : Int32} {st : List Value} {h : xH} : exF ev cX1_tries 63 ([v0, v1, v2, v3, v4, v5, v6, v7, some (.int x)], []) st h = exF ev cX1_tries 65 ([v0, v1, v2, v3, v4, v5, v6, v7, some (.int x)], []) (.int x :: st) h := exF_j (i := (i_iload 8 65)) rfl rfl
theorem eX1_tries_65 {ev : xV} {v0 v1 v2 v3 v4 v5 v6 v7 v8 : Option Value} {i : Int32} {a : Nat} {st : List Value} {h : xH} : exF ev cX1_tries 65 ([v0, v1, v2, v3, v4, v5, v6, v7, v8], []) (.int i :: .ref a :: st) h = xO (xaq h 6 a i) (fun v => exF ev cX1_tries 66 ([v0, v1, v2, v3, v4, v5, v6, v7, v8], []) (va_rf v :: st) h) := exF_o (i := (i_aq 6 66)) rfl rfl
theorem eX1_tries_66 {ev : xV} {v0 v1 v2 v3 v4 v6 v7 v8 : Option Value} {x : Int32} {st : List Value} {h : xH} : exF ev cX1_tries 66 ([v0, v1, v2, v3, v4, some (.int x), v6, v7, v8], []) st h = exF ev cX1_tries 68 ([v0, v1, v2, v3, v4, some (.int x), v6, v7, v8], []) (.int x :: st) h := exF_j (i := (i_iload 5 68)) rfl rfl
theorem eX1_tries_68 {ev : xV} {v0 v1 v2 v3 v4 v5 v6 v7 v8 : Option Value} {i : Int32} {a : Nat} {st : List Value} {h : xH} : exF ev cX1_tries 68 ([v0, v1, v2, v3, v4, v5, v6, v7, v8], []) (.int i :: .ref a :: st) h = xO (xai h 0 a i) (fun v => exF ev cX1_tries 69 ([v0, v1, v2, v3, v4, v5, v6, v7, v8], []) (.int v :: st) h) := exF_o (i := (i_ai 0 69)) rfl rfl
theorem eX1_tries_69 {ev : xV} {v0 v1 v2 v3 v4 v5 v7 v8 : Option Value} {x : Int32} {st : List Value} {h : xH} : exF ev cX1_tries 69 ([v0, v1, v2, v3, v4, v5, some (.int x), v7, v8], []) st h = exF ev cX1_tries 71 ([v0, v1, v2, v3, v4, v5, some (.int x), v7, v8], []) (.int x :: st) h := exF_j (i := (i_iload 6 71)) rfl rfl
theorem eX1_tries_71 {ev : xV} {v0 v1 v2 v3 v4 v5 v6 v7 v8 : Option Value} {a0 : Value} {a1 : Value} {h : xH} : exF ev cX1_tries 71 ([v0, v1, v2, v3, v4, v5, v6, v7, v8], []) [a1, a0] h = xB (ev 98 [a0, a1] h) (fun v h => exF ev cX1_tries 74 ([v0, v1, v2, v3, v4, v5, v6, v7, v8], []) [v] h) := exF_c (i := (i_cs 98 2 74)) rfl rfl
theorem eX1_tries_74 {ev : xV} {v0 v1 v2 v3 v4 v5 v6 v7 v8 : Option Value} {x : Int32} {st : List Value} {h : xH} : exF ev cX1_tries 74 ([v0, v1, v2, v3, v4, v5, v6, v7, v8], []) (.int x :: st) h = if x = 0 then exF ev cX1_tries 80 ([v0, v1, v2, v3, v4, v5, v6, v7, v8], []) st h else exF ev cX1_tries 77 ([v0, v1, v2, v3, v4, v5, v6, v7, v8], []) st h := exF_b (i := (i_if1 (fun x => x = 0) 80 77)) rfl rfl
theorem eX1_tries_77 {ev : xV} {v0 v1 v2 v3 v4 v5 v6 v8 : Option Value} {x : Int32} {st : List Value} {h : xH} : exF ev cX1_tries 77 ([v0, v1, v2, v3, v4, v5, v6, some (.int x), v8], []) st h = exF ev cX1_tries 80 ([v0, v1, v2, v3, v4, v5, v6, some (.int (x + (nI 1))), v8], []) st h := exF_j (i := (i_iinc 7 (nI 1) 80)) rfl rfl
theorem eX1_tries_80 {ev : xV} {v0 v1 v2 v3 v4 v5 v6 v7 : Option Value} {x : Int32} {st : List Value} {h : xH} : exF ev cX1_tries 80 ([v0, v1, v2, v3, v4, v5, v6, v7, some (.int x)], []) st h = exF ev cX1_tries 83 ([v0, v1, v2, v3, v4, v5, v6, v7, some (.int (x + (nI 1)))], []) st h := exF_j (i := (i_iinc 8 (nI 1) 83)) rfl rfl
theorem eX1_tries_83 {ev : xV} {v0 v1 v2 v3 v4 v5 v6 v7 v8 : Option Value} {st : List Value} {h : xH} : exF ev cX1_tries 83 ([v0, v1, v2, v3, v4, v5, v6, v7, v8], []) st h = exF ev cX1_tries 43 ([v0, v1, v2, v3, v4, v5, v6, v7, v8], []) st h := exF_j (i := (i_goto 43)) rfl rfl
theorem eX1_tries_86 {ev : xV} {v0 v1 v2 v3 v4 v5 v6 v8 : Option Value} {x : Int32} {st : List Value} {h : xH} : exF ev cX1_tries 86 ([v0, v1, v2, v3, v4, v5, v6, some (.int x), v8], []) st h = exF ev cX1_tries 88 ([v0, v1, v2, v3, v4, v5, v6, some (.int x), v8], []) (.int x :: st) h := exF_j (i := (i_iload 7 88)) rfl rfl
theorem eX1_tries_88 {ev : xV} {v0 v1 v3 v4 v5 v6 v7 v8 : Option Value} {x : Int32} {st : List Value} {h : xH} : exF ev cX1_tries 88 ([v0, v1, some (.int x), v3, v4, v5, v6, v7, v8], []) st h = exF ev cX1_tries 89 ([v0, v1, some (.int x), v3, v4, v5, v6, v7, v8], []) (.int x :: st) h := exF_j (i := (i_iload 2 89)) rfl rfl
theorem eX1_tries_89 {ev : xV} {v0 v1 v2 v3 v4 v5 v6 v8 : Option Value} {x : Int32} {st : List Value} {h : xH} : exF ev cX1_tries 89 ([v0, v1, v2, v3, v4, v5, v6, some (.int x), v8], []) st h = exF ev cX1_tries 91 ([v0, v1, v2, v3, v4, v5, v6, some (.int x), v8], []) (.int x :: st) h := exF_j (i := (i_iload 7 91)) rfl rfl
theorem eX1_tries_91 {ev : xV} {v0 v1 v2 v3 v4 v5 v6 v7 v8 : Option Value} {x y : Int32} {st : List Value} {h : xH} : exF ev cX1_tries 91 ([v0, v1, v2, v3, v4, v5, v6, v7, v8], []) (.int y :: .int x :: st) h = exF ev cX1_tries 92 ([v0, v1, v2, v3, v4, v5, v6, v7, v8], []) (.int (x - y) :: st) h := exF_j (i := (i_ii (fun x y => x - y) 92)) rfl rfl
theorem eX1_tries_92 {ev : xV} {v0 v1 v2 v3 v4 v5 v6 v7 v8 : Option Value} {a0 : Value} {a1 : Value} {h : xH} : exF ev cX1_tries 92 ([v0, v1, v2, v3, v4, v5, v6, v7, v8], []) [a1, a0] h = xB (ev 62 [a0, a1] h) (fun v h => exF ev cX1_tries 95 ([v0, v1, v2, v3, v4, v5, v6, v7, v8], []) [v] h) := exF_c (i := (i_cs 62 2 95)) rfl rfl
theorem eX1_tries_95 {ev : xV} {v0 v1 v2 v3 v4 v5 v6 v7 v8 : Option Value} {x : Int32} {st : List Value} {h : xH} : exF ev cX1_tries 95 ([v0, v1, v2, v3, v4, v5, v6, v7, v8], []) (.int x :: st) h = exF ev cX1_tries 97 ([v0, v1, v2, v3, v4, v5, v6, some (.int x), v8], []) st h := exF_j (i := (i_istore 7 97)) rfl rfl
theorem eX1_tries_97 {ev : xV} {v0 v1 v2 v3 v4 v5 v6 v8 : Option Value} {x : Int32} {st : List Value} {h : xH} : exF ev cX1_tries 97 ([v0, v1, v2, v3, v4, v5, v6, some (.int x), v8], []) st h = exF ev cX1_tries 99 ([v0, v1, v2, v3, v4, v5, v6, some (.int x), v8], []) (.int x :: st) h := exF_j (i := (i_iload 7 99)) rfl rfl
theorem eX1_tries_99 {ev : xV} {v0 v1 v2 v4 v5 v6 v7 v8 : Option Value} {x : Int32} {st : List Value} {h : xH} : exF ev cX1_tries 99 ([v0, v1, v2, some (.int x), v4, v5, v6, v7, v8], []) st h = exF ev cX1_tries 100 ([v0, v1, v2, some (.int x), v4, v5, v6, v7, v8], []) (.int x :: st) h := exF_j (i := (i_iload 3 100)) rfl rfl
theorem eX1_tries_100 {ev : xV} {v0 v1 v2 v3 v4 v5 v6 v7 v8 : Option Value} {x y : Int32} {st : List Value} {h : xH} : exF ev cX1_tries 100 ([v0, v1, v2, v3, v4, v5, v6, v7, v8], []) (.int y :: .int x :: st) h = if x < y then exF ev cX1_tries 106 ([v0, v1, v2, v3, v4, v5, v6, v7, v8], []) st h else exF ev cX1_tries 103 ([v0, v1, v2, v3, v4, v5, v6, v7, v8], []) st h := exF_b (i := (i_if2 (fun x y => x < y) 106 103)) rfl rfl
theorem eX1_tries_103 {ev : xV} {v0 v1 v2 v3 v4 v5 v6 v7 v8 : Option Value} {st : List Value} {h : xH} : exF ev cX1_tries 103 ([v0, v1, v2, v3, v4, v5, v6, v7, v8], []) st h = exF ev cX1_tries 119 ([v0, v1, v2, v3, v4, v5, v6, v7, v8], []) st h := exF_j (i := (i_goto 119)) rfl rfl
theorem eX1_tries_106 {ev : xV} {v0 v1 v2 v3 v4 v5 v6 v8 : Option Value} {x : Int32} {st : List Value} {h : xH} : exF ev cX1_tries 106 ([v0, v1, v2, v3, v4, v5, v6, some (.int x), v8], []) st h = exF ev cX1_tries 108 ([v0, v1, v2, v3, v4, v5, v6, some (.int x), v8], []) (.int x :: st) h := exF_j (i := (i_iload 7 108)) rfl rfl
theorem eX1_tries_108 {ev : xV} {v0 v1 v2 v3 v4 v5 v6 v7 v8 : Option Value} {x : Int32} {st : List Value} {h : xH} : exF ev cX1_tries 108 ([v0, v1, v2, v3, v4, v5, v6, v7, v8], []) (.int x :: st) h = exF ev cX1_tries 109 ([v0, v1, v2, some (.int x), v4, v5, v6, v7, v8], []) st h := exF_j (i := (i_istore 3 109)) rfl rfl
theorem eX1_tries_109 {ev : xV} {v0 v1 v2 v3 v4 v6 v7 v8 : Option Value} {x : Int32} {st : List Value} {h : xH} : exF ev cX1_tries 109 ([v0, v1, v2, v3, v4, some (.int x), v6, v7, v8], []) st h = exF ev cX1_tries 111 ([v0, v1, v2, v3, v4, some (.int x), v6, v7, v8], []) (.int x :: st) h := exF_j (i := (i_iload 5 111)) rfl rfl
theorem eX1_tries_111 {ev : xV} {v0 v1 v2 v3 v4 v5 v6 v7 v8 : Option Value} {st : List Value} {h : xH} : exF ev cX1_tries 111 ([v0, v1, v2, v3, v4, v5, v6, v7, v8], []) st h = exF ev cX1_tries 113 ([v0, v1, v2, v3, v4, v5, v6, v7, v8], []) (.int (nI 8) :: st) h := exF_j (i := (i_const (.int (nI 8)) 113)) rfl rfl
theorem eX1_tries_113 {ev : xV} {v0 v1 v2 v3 v4 v5 v6 v7 v8 : Option Value} {x y : Int32} {st : List Value} {h : xH} : exF ev cX1_tries 113 ([v0, v1, v2, v3, v4, v5, v6, v7, v8], []) (.int y :: .int x :: st) h = exF ev cX1_tries 114 ([v0, v1, v2, v3, v4, v5, v6, v7, v8], []) (.int (x * y) :: st) h := exF_j (i := (i_ii (fun x y => x * y) 114)) rfl rfl
theorem eX1_tries_114 {ev : xV} {v0 v1 v2 v3 v4 v5 v7 v8 : Option Value} {x : Int32} {st : List Value} {h : xH} : exF ev cX1_tries 114 ([v0, v1, v2, v3, v4, v5, some (.int x), v7, v8], []) st h = exF ev cX1_tries 116 ([v0, v1, v2, v3, v4, v5, some (.int x), v7, v8], []) (.int x :: st) h := exF_j (i := (i_iload 6 116)) rfl rfl
theorem eX1_tries_116 {ev : xV} {v0 v1 v2 v3 v4 v5 v6 v7 v8 : Option Value} {x y : Int32} {st : List Value} {h : xH} : exF ev cX1_tries 116 ([v0, v1, v2, v3, v4, v5, v6, v7, v8], []) (.int y :: .int x :: st) h = exF ev cX1_tries 117 ([v0, v1, v2, v3, v4, v5, v6, v7, v8], []) (.int (x + y) :: st) h := exF_j (i := (i_ii (fun x y => x + y) 117)) rfl rfl
theorem eX1_tries_117 {ev : xV} {v0 v1 v2 v3 v4 v5 v6 v7 v8 : Option Value} {x : Int32} {st : List Value} {h : xH} : exF ev cX1_tries 117 ([v0, v1, v2, v3, v4, v5, v6, v7, v8], []) (.int x :: st) h = exF ev cX1_tries 119 ([v0, v1, v2, v3, some (.int x), v5, v6, v7, v8], []) st h := exF_j (i := (i_istore 4 119)) rfl rfl
theorem eX1_tries_119 {ev : xV} {v0 v1 v2 v3 v4 v5 v7 v8 : Option Value} {x : Int32} {st : List Value} {h : xH} : exF ev cX1_tries 119 ([v0, v1, v2, v3, v4, v5, some (.int x), v7, v8], []) st h = exF ev cX1_tries 122 ([v0, v1, v2, v3, v4, v5, some (.int (x + (nI 1))), v7, v8], []) st h := exF_j (i := (i_iinc 6 (nI 1) 122)) rfl rfl
theorem eX1_tries_122 {ev : xV} {v0 v1 v2 v3 v4 v5 v6 v7 v8 : Option Value} {st : List Value} {h : xH} : exF ev cX1_tries 122 ([v0, v1, v2, v3, v4, v5, v6, v7, v8], []) st h = exF ev cX1_tries 28 ([v0, v1, v2, v3, v4, v5, v6, v7, v8], []) st h := exF_j (i := (i_goto 28)) rfl rfl
theorem eX1_tries_125 {ev : xV} {v0 v1 v2 v3 v4 v6 v7 v8 : Option Value} {x : Int32} {st : List Value} {h : xH} : exF ev cX1_tries 125 ([v0, v1, v2, v3, v4, some (.int x), v6, v7, v8], []) st h = exF ev cX1_tries 128 ([v0, v1, v2, v3, v4, some (.int (x + (nI 1))), v6, v7, v8], []) st h := exF_j (i := (i_iinc 5 (nI 1) 128)) rfl rfl
theorem eX1_tries_128 {ev : xV} {v0 v1 v2 v3 v4 v5 v6 v7 v8 : Option Value} {st : List Value} {h : xH} : exF ev cX1_tries 128 ([v0, v1, v2, v3, v4, v5, v6, v7, v8], []) st h = exF ev cX1_tries 18 ([v0, v1, v2, v3, v4, v5, v6, v7, v8], []) st h := exF_j (i := (i_goto 18)) rfl rfl
theorem eX1_tries_131 {ev : xV} {v0 v1 v2 v3 v5 v6 v7 v8 : Option Value} {x : Int32} {st : List Value} {h : xH} : exF ev cX1_tries 131 ([v0, v1, v2, v3, some (.int x), v5, v6, v7, v8], []) st h = exF ev cX1_tries 133 ([v0, v1, v2, v3, some (.int x), v5, v6, v7, v8], []) (.int x :: st) h := exF_j (i := (i_iload 4 133)) rfl rfl
theorem eX1_tries_133 {ev : xV} {v0 v1 v2 v3 v4 v5 v6 v7 v8 : Option Value} {x : Int32} {h : xH} : exF ev cX1_tries 133 ([v0, v1, v2, v3, v4, v5, v6, v7, v8], []) [.int x] h = some (.inl (some (.int x)), h) := exF_r (i := (i_iret)) rfl rfl
noncomputable def cX1_say : xC := [(0, i_aload 0 1),
  (1, i_iload 1 2),
  (2, i_cv 0 119 1 5),
  (5, i_if1 (fun x => x = 0) 27 8),
  (8, i_iload 2 9),
  (9, i_const (.int (nI 0)) 10),
  (10, i_const (.int (nI 40)) 12),
  (12, i_cs 92 3 15),
  (15, i_if1 (fun x => x = 0) 27 18),
  (18, i_aload 0 19),
  (19, i_getf 0 19 22),
  (22, i_const (.int (nI 8)) 24),
  (24, i_if2 (fun x y => ¬ x = y) 29 27),
  (27, i_const (.int (nI 0)) 28),
  (28, i_zret),
  (29, i_aload 0 30),
  (30, i_getf 0 17 33),
  (33, i_aload 0 34),
  (34, i_getf 0 19 37),
  (37, i_iload 1 38),
  (38, i_si (fun v => v) 0 39),
  (39, i_aload 0 40),
  (40, i_getf 0 18 43),
  (43, i_aload 0 44),
  (44, i_dup 45),
  (45, i_getf 0 19 48),
  (48, i_dup_x1 49),
  (49, i_const (.int (nI 1)) 50),
  (50, i_ii (fun x y => x + y) 51),
  (51, i_putfi 0 19 54),
  (54, i_iload 2 55),
  (55, i_si (fun v => v) 0 56),
  (56, i_const (.int (nI 1)) 57),
  (57, i_zret)]
theorem eX1_say_0 {ev : xV} {v1 v2 : Option Value} {x : Nat} {st : List Value} {h : xH} : exF ev cX1_say 0 ([some (.ref x), v1, v2], []) st h = exF ev cX1_say 1 ([some (.ref x), v1, v2], []) (.ref x :: st) h := exF_j (i := (i_aload 0 1)) rfl rfl
theorem eX1_say_1 {ev : xV} {v0 v2 : Option Value} {x : Int32} {st : List Value} {h : xH} : exF ev cX1_say 1 ([v0, some (.int x), v2], []) st h = exF ev cX1_say 2 ([v0, some (.int x), v2], []) (.int x :: st) h := exF_j (i := (i_iload 1 2)) rfl rfl
theorem eX1_say_2 {ev : xV} {v0 v1 v2 : Option Value} {a0 : Value} {a : Nat} {h : xH} : exF ev cX1_say 2 ([v0, v1, v2], []) [a0, .ref a] h = xO (xck h a 0) (fun _ => xB (ev 119 [.ref a, a0] h) (fun v h => exF ev cX1_say 5 ([v0, v1, v2], []) [v] h)) := exF_cd (i := (i_cv 0 119 1 5)) rfl rfl
theorem eX1_say_5 {ev : xV} {v0 v1 v2 : Option Value} {x : Int32} {st : List Value} {h : xH} : exF ev cX1_say 5 ([v0, v1, v2], []) (.int x :: st) h = if x = 0 then exF ev cX1_say 27 ([v0, v1, v2], []) st h else exF ev cX1_say 8 ([v0, v1, v2], []) st h := exF_b (i := (i_if1 (fun x => x = 0) 27 8)) rfl rfl
theorem eX1_say_8 {ev : xV} {v0 v1 : Option Value} {x : Int32} {st : List Value} {h : xH} : exF ev cX1_say 8 ([v0, v1, some (.int x)], []) st h = exF ev cX1_say 9 ([v0, v1, some (.int x)], []) (.int x :: st) h := exF_j (i := (i_iload 2 9)) rfl rfl
theorem eX1_say_9 {ev : xV} {v0 v1 v2 : Option Value} {st : List Value} {h : xH} : exF ev cX1_say 9 ([v0, v1, v2], []) st h = exF ev cX1_say 10 ([v0, v1, v2], []) (.int (nI 0) :: st) h := exF_j (i := (i_const (.int (nI 0)) 10)) rfl rfl
theorem eX1_say_10 {ev : xV} {v0 v1 v2 : Option Value} {st : List Value} {h : xH} : exF ev cX1_say 10 ([v0, v1, v2], []) st h = exF ev cX1_say 12 ([v0, v1, v2], []) (.int (nI 40) :: st) h := exF_j (i := (i_const (.int (nI 40)) 12)) rfl rfl
theorem eX1_say_12 {ev : xV} {v0 v1 v2 : Option Value} {a0 : Value} {a1 : Value} {a2 : Value} {h : xH} : exF ev cX1_say 12 ([v0, v1, v2], []) [a2, a1, a0] h = xB (ev 92 [a0, a1, a2] h) (fun v h => exF ev cX1_say 15 ([v0, v1, v2], []) [v] h) := exF_c (i := (i_cs 92 3 15)) rfl rfl
theorem eX1_say_15 {ev : xV} {v0 v1 v2 : Option Value} {x : Int32} {st : List Value} {h : xH} : exF ev cX1_say 15 ([v0, v1, v2], []) (.int x :: st) h = if x = 0 then exF ev cX1_say 27 ([v0, v1, v2], []) st h else exF ev cX1_say 18 ([v0, v1, v2], []) st h := exF_b (i := (i_if1 (fun x => x = 0) 27 18)) rfl rfl
theorem eX1_say_18 {ev : xV} {v1 v2 : Option Value} {x : Nat} {st : List Value} {h : xH} : exF ev cX1_say 18 ([some (.ref x), v1, v2], []) st h = exF ev cX1_say 19 ([some (.ref x), v1, v2], []) (.ref x :: st) h := exF_j (i := (i_aload 0 19)) rfl rfl
theorem eX1_say_19 {ev : xV} {v0 v1 v2 : Option Value} {a : Nat} {st : List Value} {h : xH} : exF ev cX1_say 19 ([v0, v1, v2], []) (.ref a :: st) h = xO (xgf h a 0 19) (fun v => exF ev cX1_say 22 ([v0, v1, v2], []) (v :: st) h) := exF_o (i := (i_getf 0 19 22)) rfl rfl
theorem eX1_say_22 {ev : xV} {v0 v1 v2 : Option Value} {st : List Value} {h : xH} : exF ev cX1_say 22 ([v0, v1, v2], []) st h = exF ev cX1_say 24 ([v0, v1, v2], []) (.int (nI 8) :: st) h := exF_j (i := (i_const (.int (nI 8)) 24)) rfl rfl
theorem eX1_say_24 {ev : xV} {v0 v1 v2 : Option Value} {x y : Int32} {st : List Value} {h : xH} : exF ev cX1_say 24 ([v0, v1, v2], []) (.int y :: .int x :: st) h = if ¬ x = y then exF ev cX1_say 29 ([v0, v1, v2], []) st h else exF ev cX1_say 27 ([v0, v1, v2], []) st h := exF_b (i := (i_if2 (fun x y => ¬ x = y) 29 27)) rfl rfl
theorem eX1_say_27 {ev : xV} {v0 v1 v2 : Option Value} {st : List Value} {h : xH} : exF ev cX1_say 27 ([v0, v1, v2], []) st h = exF ev cX1_say 28 ([v0, v1, v2], []) (.int (nI 0) :: st) h := exF_j (i := (i_const (.int (nI 0)) 28)) rfl rfl
theorem eX1_say_28 {ev : xV} {v0 v1 v2 : Option Value} {x : Int32} {h : xH} : exF ev cX1_say 28 ([v0, v1, v2], []) [.int x] h = if x = nI 0 ∨ x = nI 1 then some (.inl (some (.int x)), h) else none := exF_z (i := (i_zret)) rfl rfl
theorem eX1_say_28b0 {ev : xV} {v0 v1 v2 : Option Value} {h : xH} : exF ev cX1_say 28 ([v0, v1, v2], []) [.int (nI 0)] h = some (.inl (some (.int (nI 0))), h) := exF_r (i := (i_zret)) rfl i_zret_0
theorem eX1_say_28b1 {ev : xV} {v0 v1 v2 : Option Value} {h : xH} : exF ev cX1_say 28 ([v0, v1, v2], []) [.int (nI 1)] h = some (.inl (some (.int (nI 1))), h) := exF_r (i := (i_zret)) rfl i_zret_1
theorem eX1_say_28b {ev : xV} {v0 v1 v2 : Option Value} {b : Bool} {h : xH} : exF ev cX1_say 28 ([v0, v1, v2], []) [.int (bI b)] h = some (.inl (some (.int (bI b))), h) := exF_r (i := (i_zret)) rfl (i_zret_b b)
theorem eX1_say_29 {ev : xV} {v1 v2 : Option Value} {x : Nat} {st : List Value} {h : xH} : exF ev cX1_say 29 ([some (.ref x), v1, v2], []) st h = exF ev cX1_say 30 ([some (.ref x), v1, v2], []) (.ref x :: st) h := exF_j (i := (i_aload 0 30)) rfl rfl
theorem eX1_say_30 {ev : xV} {v0 v1 v2 : Option Value} {a : Nat} {st : List Value} {h : xH} : exF ev cX1_say 30 ([v0, v1, v2], []) (.ref a :: st) h = xO (xgf h a 0 17) (fun v => exF ev cX1_say 33 ([v0, v1, v2], []) (v :: st) h) := exF_o (i := (i_getf 0 17 33)) rfl rfl
theorem eX1_say_33 {ev : xV} {v1 v2 : Option Value} {x : Nat} {st : List Value} {h : xH} : exF ev cX1_say 33 ([some (.ref x), v1, v2], []) st h = exF ev cX1_say 34 ([some (.ref x), v1, v2], []) (.ref x :: st) h := exF_j (i := (i_aload 0 34)) rfl rfl
theorem eX1_say_34 {ev : xV} {v0 v1 v2 : Option Value} {a : Nat} {st : List Value} {h : xH} : exF ev cX1_say 34 ([v0, v1, v2], []) (.ref a :: st) h = xO (xgf h a 0 19) (fun v => exF ev cX1_say 37 ([v0, v1, v2], []) (v :: st) h) := exF_o (i := (i_getf 0 19 37)) rfl rfl
theorem eX1_say_37 {ev : xV} {v0 v2 : Option Value} {x : Int32} {st : List Value} {h : xH} : exF ev cX1_say 37 ([v0, some (.int x), v2], []) st h = exF ev cX1_say 38 ([v0, some (.int x), v2], []) (.int x :: st) h := exF_j (i := (i_iload 1 38)) rfl rfl
theorem eX1_say_38 {ev : xV} {v0 v1 v2 : Option Value} {v i : Int32} {a : Nat} {st : List Value} {h : xH} : exF ev cX1_say 38 ([v0, v1, v2], []) (.int v :: .int i :: .ref a :: st) h = xO (xsi h 0 a i v) (fun h => exF ev cX1_say 39 ([v0, v1, v2], []) st h) := exF_o (i := (i_si (fun v => v) 0 39)) rfl rfl
theorem eX1_say_39 {ev : xV} {v1 v2 : Option Value} {x : Nat} {st : List Value} {h : xH} : exF ev cX1_say 39 ([some (.ref x), v1, v2], []) st h = exF ev cX1_say 40 ([some (.ref x), v1, v2], []) (.ref x :: st) h := exF_j (i := (i_aload 0 40)) rfl rfl
theorem eX1_say_40 {ev : xV} {v0 v1 v2 : Option Value} {a : Nat} {st : List Value} {h : xH} : exF ev cX1_say 40 ([v0, v1, v2], []) (.ref a :: st) h = xO (xgf h a 0 18) (fun v => exF ev cX1_say 43 ([v0, v1, v2], []) (v :: st) h) := exF_o (i := (i_getf 0 18 43)) rfl rfl
theorem eX1_say_43 {ev : xV} {v1 v2 : Option Value} {x : Nat} {st : List Value} {h : xH} : exF ev cX1_say 43 ([some (.ref x), v1, v2], []) st h = exF ev cX1_say 44 ([some (.ref x), v1, v2], []) (.ref x :: st) h := exF_j (i := (i_aload 0 44)) rfl rfl
theorem eX1_say_44 {ev : xV} {v0 v1 v2 : Option Value} {x : Nat} {st : List Value} {h : xH} : exF ev cX1_say 44 ([v0, v1, v2], []) (.ref x :: st) h = exF ev cX1_say 45 ([v0, v1, v2], []) (.ref x :: .ref x :: st) h := exF_j (i := (i_dup 45)) rfl rfl
theorem eX1_say_45 {ev : xV} {v0 v1 v2 : Option Value} {a : Nat} {st : List Value} {h : xH} : exF ev cX1_say 45 ([v0, v1, v2], []) (.ref a :: st) h = xO (xgf h a 0 19) (fun v => exF ev cX1_say 48 ([v0, v1, v2], []) (v :: st) h) := exF_o (i := (i_getf 0 19 48)) rfl rfl
theorem eX1_say_48 {ev : xV} {v0 v1 v2 : Option Value} {x : Int32} {y : Nat} {st : List Value} {h : xH} : exF ev cX1_say 48 ([v0, v1, v2], []) (.int x :: .ref y :: st) h = exF ev cX1_say 49 ([v0, v1, v2], []) (.int x :: .ref y :: .int x :: st) h := exF_j (i := (i_dup_x1 49)) rfl rfl
theorem eX1_say_49 {ev : xV} {v0 v1 v2 : Option Value} {st : List Value} {h : xH} : exF ev cX1_say 49 ([v0, v1, v2], []) st h = exF ev cX1_say 50 ([v0, v1, v2], []) (.int (nI 1) :: st) h := exF_j (i := (i_const (.int (nI 1)) 50)) rfl rfl
theorem eX1_say_50 {ev : xV} {v0 v1 v2 : Option Value} {x y : Int32} {st : List Value} {h : xH} : exF ev cX1_say 50 ([v0, v1, v2], []) (.int y :: .int x :: st) h = exF ev cX1_say 51 ([v0, v1, v2], []) (.int (x + y) :: st) h := exF_j (i := (i_ii (fun x y => x + y) 51)) rfl rfl
theorem eX1_say_51 {ev : xV} {v0 v1 v2 : Option Value} {x : Int32} {a : Nat} {st : List Value} {h : xH} : exF ev cX1_say 51 ([v0, v1, v2], []) (.int x :: .ref a :: st) h = xO (xpf h a 0 19 (.int x)) (fun h => exF ev cX1_say 54 ([v0, v1, v2], []) st h) := exF_o (i := (i_putfi 0 19 54)) rfl rfl
theorem eX1_say_54 {ev : xV} {v0 v1 : Option Value} {x : Int32} {st : List Value} {h : xH} : exF ev cX1_say 54 ([v0, v1, some (.int x)], []) st h = exF ev cX1_say 55 ([v0, v1, some (.int x)], []) (.int x :: st) h := exF_j (i := (i_iload 2 55)) rfl rfl
theorem eX1_say_55 {ev : xV} {v0 v1 v2 : Option Value} {v i : Int32} {a : Nat} {st : List Value} {h : xH} : exF ev cX1_say 55 ([v0, v1, v2], []) (.int v :: .int i :: .ref a :: st) h = xO (xsi h 0 a i v) (fun h => exF ev cX1_say 56 ([v0, v1, v2], []) st h) := exF_o (i := (i_si (fun v => v) 0 56)) rfl rfl
theorem eX1_say_56 {ev : xV} {v0 v1 v2 : Option Value} {st : List Value} {h : xH} : exF ev cX1_say 56 ([v0, v1, v2], []) st h = exF ev cX1_say 57 ([v0, v1, v2], []) (.int (nI 1) :: st) h := exF_j (i := (i_const (.int (nI 1)) 57)) rfl rfl
theorem eX1_say_57 {ev : xV} {v0 v1 v2 : Option Value} {x : Int32} {h : xH} : exF ev cX1_say 57 ([v0, v1, v2], []) [.int x] h = if x = nI 0 ∨ x = nI 1 then some (.inl (some (.int x)), h) else none := exF_z (i := (i_zret)) rfl rfl
theorem eX1_say_57b0 {ev : xV} {v0 v1 v2 : Option Value} {h : xH} : exF ev cX1_say 57 ([v0, v1, v2], []) [.int (nI 0)] h = some (.inl (some (.int (nI 0))), h) := exF_r (i := (i_zret)) rfl i_zret_0
theorem eX1_say_57b1 {ev : xV} {v0 v1 v2 : Option Value} {h : xH} : exF ev cX1_say 57 ([v0, v1, v2], []) [.int (nI 1)] h = some (.inl (some (.int (nI 1))), h) := exF_r (i := (i_zret)) rfl i_zret_1
theorem eX1_say_57b {ev : xV} {v0 v1 v2 : Option Value} {b : Bool} {h : xH} : exF ev cX1_say 57 ([v0, v1, v2], []) [.int (bI b)] h = some (.inl (some (.int (bI b))), h) := exF_r (i := (i_zret)) rfl (i_zret_b b)
noncomputable def cX1_who : xC := [(0, i_const (.int (nI 0)) 1),
  (1, i_istore 1 2),
  (2, i_const (.int (nI 0)) 3),
  (3, i_istore 2 4),
  (4, i_iload 2 5),
  (5, i_aload 0 6),
  (6, i_cv 0 101 0 9),
  (9, i_if2 (fun x y => y ≤ x) 92 12),
  (12, i_const (.int (nI 1)) 13),
  (13, i_istore 3 14),
  (14, i_const (.int (nI 0)) 15),
  (15, i_istore 4 17),
  (17, i_iload 4 19),
  (19, i_aload 0 20),
  (20, i_getf 0 19 23),
  (23, i_if2 (fun x y => y ≤ x) 76 26),
  (26, i_iload 3 27),
  (27, i_if1 (fun x => x = 0) 68 30),
  (30, i_aload 0 31),
  (31, i_aload 0 32),
  (32, i_getf 0 4 35),
  (35, i_getf 3 2 38),
  (38, i_iload 2 39),
  (39, i_ai 0 40),
  (40, i_aload 0 41),
  (41, i_getf 0 17 44),
  (44, i_iload 4 46),
  (46, i_ai 0 47),
  (47, i_cv 0 138 2 50),
  (50, i_const (.int (nI 0)) 51),
  (51, i_aload 0 52),
  (52, i_getf 0 18 55),
  (55, i_iload 4 57),
  (57, i_ai 0 58),
  (58, i_cs 92 3 61),
  (61, i_if1 (fun x => x = 0) 68 64),
  (64, i_const (.int (nI 1)) 65),
  (65, i_goto 69),
  (68, i_const (.int (nI 0)) 69),
  (69, i_istore 3 70),
  (70, i_iinc 4 (nI 1) 73),
  (73, i_goto 17),
  (76, i_iload 3 77),
  (77, i_if1 (fun x => x = 0) 86 80),
  (80, i_iload 1 81),
  (81, i_const (.int (nI 1)) 82),
  (82, i_iload 2 83),
  (83, i_ii (fun x y => x <<< (y &&& 31)) 84),
  (84, i_ii (fun x y => x ||| y) 85),
  (85, i_istore 1 86),
  (86, i_iinc 2 (nI 1) 89),
  (89, i_goto 4),
  (92, i_iload 1 93),
  (93, i_iret)]
theorem eX1_who_0 {ev : xV} {v0 v1 v2 v3 v4 : Option Value} {st : List Value} {h : xH} : exF ev cX1_who 0 ([v0, v1, v2, v3, v4], []) st h = exF ev cX1_who 1 ([v0, v1, v2, v3, v4], []) (.int (nI 0) :: st) h := exF_j (i := (i_const (.int (nI 0)) 1)) rfl rfl
theorem eX1_who_1 {ev : xV} {v0 v1 v2 v3 v4 : Option Value} {x : Int32} {st : List Value} {h : xH} : exF ev cX1_who 1 ([v0, v1, v2, v3, v4], []) (.int x :: st) h = exF ev cX1_who 2 ([v0, some (.int x), v2, v3, v4], []) st h := exF_j (i := (i_istore 1 2)) rfl rfl
theorem eX1_who_2 {ev : xV} {v0 v1 v2 v3 v4 : Option Value} {st : List Value} {h : xH} : exF ev cX1_who 2 ([v0, v1, v2, v3, v4], []) st h = exF ev cX1_who 3 ([v0, v1, v2, v3, v4], []) (.int (nI 0) :: st) h := exF_j (i := (i_const (.int (nI 0)) 3)) rfl rfl
theorem eX1_who_3 {ev : xV} {v0 v1 v2 v3 v4 : Option Value} {x : Int32} {st : List Value} {h : xH} : exF ev cX1_who 3 ([v0, v1, v2, v3, v4], []) (.int x :: st) h = exF ev cX1_who 4 ([v0, v1, some (.int x), v3, v4], []) st h := exF_j (i := (i_istore 2 4)) rfl rfl
theorem eX1_who_4 {ev : xV} {v0 v1 v3 v4 : Option Value} {x : Int32} {st : List Value} {h : xH} : exF ev cX1_who 4 ([v0, v1, some (.int x), v3, v4], []) st h = exF ev cX1_who 5 ([v0, v1, some (.int x), v3, v4], []) (.int x :: st) h := exF_j (i := (i_iload 2 5)) rfl rfl
theorem eX1_who_5 {ev : xV} {v1 v2 v3 v4 : Option Value} {x : Nat} {st : List Value} {h : xH} : exF ev cX1_who 5 ([some (.ref x), v1, v2, v3, v4], []) st h = exF ev cX1_who 6 ([some (.ref x), v1, v2, v3, v4], []) (.ref x :: st) h := exF_j (i := (i_aload 0 6)) rfl rfl
theorem eX1_who_6 {ev : xV} {v0 v1 v2 v3 v4 : Option Value} {r0 : Value} {a : Nat} {h : xH} : exF ev cX1_who 6 ([v0, v1, v2, v3, v4], []) [.ref a, r0] h = xO (xck h a 0) (fun _ => xB (ev 101 [.ref a] h) (fun v h => exF ev cX1_who 9 ([v0, v1, v2, v3, v4], []) [v, r0] h)) := exF_cd (i := (i_cv 0 101 0 9)) rfl rfl
theorem eX1_who_9 {ev : xV} {v0 v1 v2 v3 v4 : Option Value} {x y : Int32} {st : List Value} {h : xH} : exF ev cX1_who 9 ([v0, v1, v2, v3, v4], []) (.int y :: .int x :: st) h = if y ≤ x then exF ev cX1_who 92 ([v0, v1, v2, v3, v4], []) st h else exF ev cX1_who 12 ([v0, v1, v2, v3, v4], []) st h := exF_b (i := (i_if2 (fun x y => y ≤ x) 92 12)) rfl rfl
theorem eX1_who_12 {ev : xV} {v0 v1 v2 v3 v4 : Option Value} {st : List Value} {h : xH} : exF ev cX1_who 12 ([v0, v1, v2, v3, v4], []) st h = exF ev cX1_who 13 ([v0, v1, v2, v3, v4], []) (.int (nI 1) :: st) h := exF_j (i := (i_const (.int (nI 1)) 13)) rfl rfl
theorem eX1_who_13 {ev : xV} {v0 v1 v2 v3 v4 : Option Value} {x : Int32} {st : List Value} {h : xH} : exF ev cX1_who 13 ([v0, v1, v2, v3, v4], []) (.int x :: st) h = exF ev cX1_who 14 ([v0, v1, v2, some (.int x), v4], []) st h := exF_j (i := (i_istore 3 14)) rfl rfl
theorem eX1_who_14 {ev : xV} {v0 v1 v2 v3 v4 : Option Value} {st : List Value} {h : xH} : exF ev cX1_who 14 ([v0, v1, v2, v3, v4], []) st h = exF ev cX1_who 15 ([v0, v1, v2, v3, v4], []) (.int (nI 0) :: st) h := exF_j (i := (i_const (.int (nI 0)) 15)) rfl rfl
theorem eX1_who_15 {ev : xV} {v0 v1 v2 v3 v4 : Option Value} {x : Int32} {st : List Value} {h : xH} : exF ev cX1_who 15 ([v0, v1, v2, v3, v4], []) (.int x :: st) h = exF ev cX1_who 17 ([v0, v1, v2, v3, some (.int x)], []) st h := exF_j (i := (i_istore 4 17)) rfl rfl
theorem eX1_who_17 {ev : xV} {v0 v1 v2 v3 : Option Value} {x : Int32} {st : List Value} {h : xH} : exF ev cX1_who 17 ([v0, v1, v2, v3, some (.int x)], []) st h = exF ev cX1_who 19 ([v0, v1, v2, v3, some (.int x)], []) (.int x :: st) h := exF_j (i := (i_iload 4 19)) rfl rfl
theorem eX1_who_19 {ev : xV} {v1 v2 v3 v4 : Option Value} {x : Nat} {st : List Value} {h : xH} : exF ev cX1_who 19 ([some (.ref x), v1, v2, v3, v4], []) st h = exF ev cX1_who 20 ([some (.ref x), v1, v2, v3, v4], []) (.ref x :: st) h := exF_j (i := (i_aload 0 20)) rfl rfl
theorem eX1_who_20 {ev : xV} {v0 v1 v2 v3 v4 : Option Value} {a : Nat} {st : List Value} {h : xH} : exF ev cX1_who 20 ([v0, v1, v2, v3, v4], []) (.ref a :: st) h = xO (xgf h a 0 19) (fun v => exF ev cX1_who 23 ([v0, v1, v2, v3, v4], []) (v :: st) h) := exF_o (i := (i_getf 0 19 23)) rfl rfl
theorem eX1_who_23 {ev : xV} {v0 v1 v2 v3 v4 : Option Value} {x y : Int32} {st : List Value} {h : xH} : exF ev cX1_who 23 ([v0, v1, v2, v3, v4], []) (.int y :: .int x :: st) h = if y ≤ x then exF ev cX1_who 76 ([v0, v1, v2, v3, v4], []) st h else exF ev cX1_who 26 ([v0, v1, v2, v3, v4], []) st h := exF_b (i := (i_if2 (fun x y => y ≤ x) 76 26)) rfl rfl
theorem eX1_who_26 {ev : xV} {v0 v1 v2 v4 : Option Value} {x : Int32} {st : List Value} {h : xH} : exF ev cX1_who 26 ([v0, v1, v2, some (.int x), v4], []) st h = exF ev cX1_who 27 ([v0, v1, v2, some (.int x), v4], []) (.int x :: st) h := exF_j (i := (i_iload 3 27)) rfl rfl
theorem eX1_who_27 {ev : xV} {v0 v1 v2 v3 v4 : Option Value} {x : Int32} {st : List Value} {h : xH} : exF ev cX1_who 27 ([v0, v1, v2, v3, v4], []) (.int x :: st) h = if x = 0 then exF ev cX1_who 68 ([v0, v1, v2, v3, v4], []) st h else exF ev cX1_who 30 ([v0, v1, v2, v3, v4], []) st h := exF_b (i := (i_if1 (fun x => x = 0) 68 30)) rfl rfl
theorem eX1_who_30 {ev : xV} {v1 v2 v3 v4 : Option Value} {x : Nat} {st : List Value} {h : xH} : exF ev cX1_who 30 ([some (.ref x), v1, v2, v3, v4], []) st h = exF ev cX1_who 31 ([some (.ref x), v1, v2, v3, v4], []) (.ref x :: st) h := exF_j (i := (i_aload 0 31)) rfl rfl
theorem eX1_who_31 {ev : xV} {v1 v2 v3 v4 : Option Value} {x : Nat} {st : List Value} {h : xH} : exF ev cX1_who 31 ([some (.ref x), v1, v2, v3, v4], []) st h = exF ev cX1_who 32 ([some (.ref x), v1, v2, v3, v4], []) (.ref x :: st) h := exF_j (i := (i_aload 0 32)) rfl rfl
theorem eX1_who_32 {ev : xV} {v0 v1 v2 v3 v4 : Option Value} {a : Nat} {st : List Value} {h : xH} : exF ev cX1_who 32 ([v0, v1, v2, v3, v4], []) (.ref a :: st) h = xO (xgf h a 0 4) (fun v => exF ev cX1_who 35 ([v0, v1, v2, v3, v4], []) (v :: st) h) := exF_o (i := (i_getf 0 4 35)) rfl rfl
theorem eX1_who_35 {ev : xV} {v0 v1 v2 v3 v4 : Option Value} {a : Nat} {st : List Value} {h : xH} : exF ev cX1_who 35 ([v0, v1, v2, v3, v4], []) (.ref a :: st) h = xO (xgf h a 3 2) (fun v => exF ev cX1_who 38 ([v0, v1, v2, v3, v4], []) (v :: st) h) := exF_o (i := (i_getf 3 2 38)) rfl rfl
theorem eX1_who_38 {ev : xV} {v0 v1 v3 v4 : Option Value} {x : Int32} {st : List Value} {h : xH} : exF ev cX1_who 38 ([v0, v1, some (.int x), v3, v4], []) st h = exF ev cX1_who 39 ([v0, v1, some (.int x), v3, v4], []) (.int x :: st) h := exF_j (i := (i_iload 2 39)) rfl rfl
theorem eX1_who_39 {ev : xV} {v0 v1 v2 v3 v4 : Option Value} {i : Int32} {a : Nat} {st : List Value} {h : xH} : exF ev cX1_who 39 ([v0, v1, v2, v3, v4], []) (.int i :: .ref a :: st) h = xO (xai h 0 a i) (fun v => exF ev cX1_who 40 ([v0, v1, v2, v3, v4], []) (.int v :: st) h) := exF_o (i := (i_ai 0 40)) rfl rfl
theorem eX1_who_40 {ev : xV} {v1 v2 v3 v4 : Option Value} {x : Nat} {st : List Value} {h : xH} : exF ev cX1_who 40 ([some (.ref x), v1, v2, v3, v4], []) st h = exF ev cX1_who 41 ([some (.ref x), v1, v2, v3, v4], []) (.ref x :: st) h := exF_j (i := (i_aload 0 41)) rfl rfl
theorem eX1_who_41 {ev : xV} {v0 v1 v2 v3 v4 : Option Value} {a : Nat} {st : List Value} {h : xH} : exF ev cX1_who 41 ([v0, v1, v2, v3, v4], []) (.ref a :: st) h = xO (xgf h a 0 17) (fun v => exF ev cX1_who 44 ([v0, v1, v2, v3, v4], []) (v :: st) h) := exF_o (i := (i_getf 0 17 44)) rfl rfl
theorem eX1_who_44 {ev : xV} {v0 v1 v2 v3 : Option Value} {x : Int32} {st : List Value} {h : xH} : exF ev cX1_who 44 ([v0, v1, v2, v3, some (.int x)], []) st h = exF ev cX1_who 46 ([v0, v1, v2, v3, some (.int x)], []) (.int x :: st) h := exF_j (i := (i_iload 4 46)) rfl rfl
theorem eX1_who_46 {ev : xV} {v0 v1 v2 v3 v4 : Option Value} {i : Int32} {a : Nat} {st : List Value} {h : xH} : exF ev cX1_who 46 ([v0, v1, v2, v3, v4], []) (.int i :: .ref a :: st) h = xO (xai h 0 a i) (fun v => exF ev cX1_who 47 ([v0, v1, v2, v3, v4], []) (.int v :: st) h) := exF_o (i := (i_ai 0 47)) rfl rfl
theorem eX1_who_47 {ev : xV} {v0 v1 v2 v3 v4 : Option Value} {a0 : Value} {a1 : Value} {a : Nat} {h : xH} : exF ev cX1_who 47 ([v0, v1, v2, v3, v4], []) [a1, a0, .ref a] h = xO (xck h a 0) (fun _ => xB (ev 138 [.ref a, a0, a1] h) (fun v h => exF ev cX1_who 50 ([v0, v1, v2, v3, v4], []) [v] h)) := exF_cd (i := (i_cv 0 138 2 50)) rfl rfl
theorem eX1_who_50 {ev : xV} {v0 v1 v2 v3 v4 : Option Value} {st : List Value} {h : xH} : exF ev cX1_who 50 ([v0, v1, v2, v3, v4], []) st h = exF ev cX1_who 51 ([v0, v1, v2, v3, v4], []) (.int (nI 0) :: st) h := exF_j (i := (i_const (.int (nI 0)) 51)) rfl rfl
theorem eX1_who_51 {ev : xV} {v1 v2 v3 v4 : Option Value} {x : Nat} {st : List Value} {h : xH} : exF ev cX1_who 51 ([some (.ref x), v1, v2, v3, v4], []) st h = exF ev cX1_who 52 ([some (.ref x), v1, v2, v3, v4], []) (.ref x :: st) h := exF_j (i := (i_aload 0 52)) rfl rfl
theorem eX1_who_52 {ev : xV} {v0 v1 v2 v3 v4 : Option Value} {a : Nat} {st : List Value} {h : xH} : exF ev cX1_who 52 ([v0, v1, v2, v3, v4], []) (.ref a :: st) h = xO (xgf h a 0 18) (fun v => exF ev cX1_who 55 ([v0, v1, v2, v3, v4], []) (v :: st) h) := exF_o (i := (i_getf 0 18 55)) rfl rfl
theorem eX1_who_55 {ev : xV} {v0 v1 v2 v3 : Option Value} {x : Int32} {st : List Value} {h : xH} : exF ev cX1_who 55 ([v0, v1, v2, v3, some (.int x)], []) st h = exF ev cX1_who 57 ([v0, v1, v2, v3, some (.int x)], []) (.int x :: st) h := exF_j (i := (i_iload 4 57)) rfl rfl
theorem eX1_who_57 {ev : xV} {v0 v1 v2 v3 v4 : Option Value} {i : Int32} {a : Nat} {st : List Value} {h : xH} : exF ev cX1_who 57 ([v0, v1, v2, v3, v4], []) (.int i :: .ref a :: st) h = xO (xai h 0 a i) (fun v => exF ev cX1_who 58 ([v0, v1, v2, v3, v4], []) (.int v :: st) h) := exF_o (i := (i_ai 0 58)) rfl rfl
theorem eX1_who_58 {ev : xV} {v0 v1 v2 v3 v4 : Option Value} {a0 : Value} {a1 : Value} {a2 : Value} {h : xH} : exF ev cX1_who 58 ([v0, v1, v2, v3, v4], []) [a2, a1, a0] h = xB (ev 92 [a0, a1, a2] h) (fun v h => exF ev cX1_who 61 ([v0, v1, v2, v3, v4], []) [v] h) := exF_c (i := (i_cs 92 3 61)) rfl rfl
theorem eX1_who_61 {ev : xV} {v0 v1 v2 v3 v4 : Option Value} {x : Int32} {st : List Value} {h : xH} : exF ev cX1_who 61 ([v0, v1, v2, v3, v4], []) (.int x :: st) h = if x = 0 then exF ev cX1_who 68 ([v0, v1, v2, v3, v4], []) st h else exF ev cX1_who 64 ([v0, v1, v2, v3, v4], []) st h := exF_b (i := (i_if1 (fun x => x = 0) 68 64)) rfl rfl
theorem eX1_who_64 {ev : xV} {v0 v1 v2 v3 v4 : Option Value} {st : List Value} {h : xH} : exF ev cX1_who 64 ([v0, v1, v2, v3, v4], []) st h = exF ev cX1_who 65 ([v0, v1, v2, v3, v4], []) (.int (nI 1) :: st) h := exF_j (i := (i_const (.int (nI 1)) 65)) rfl rfl
theorem eX1_who_65 {ev : xV} {v0 v1 v2 v3 v4 : Option Value} {st : List Value} {h : xH} : exF ev cX1_who 65 ([v0, v1, v2, v3, v4], []) st h = exF ev cX1_who 69 ([v0, v1, v2, v3, v4], []) st h := exF_j (i := (i_goto 69)) rfl rfl
theorem eX1_who_68 {ev : xV} {v0 v1 v2 v3 v4 : Option Value} {st : List Value} {h : xH} : exF ev cX1_who 68 ([v0, v1, v2, v3, v4], []) st h = exF ev cX1_who 69 ([v0, v1, v2, v3, v4], []) (.int (nI 0) :: st) h := exF_j (i := (i_const (.int (nI 0)) 69)) rfl rfl
theorem eX1_who_69 {ev : xV} {v0 v1 v2 v3 v4 : Option Value} {x : Int32} {st : List Value} {h : xH} : exF ev cX1_who 69 ([v0, v1, v2, v3, v4], []) (.int x :: st) h = exF ev cX1_who 70 ([v0, v1, v2, some (.int x), v4], []) st h := exF_j (i := (i_istore 3 70)) rfl rfl
theorem eX1_who_70 {ev : xV} {v0 v1 v2 v3 : Option Value} {x : Int32} {st : List Value} {h : xH} : exF ev cX1_who 70 ([v0, v1, v2, v3, some (.int x)], []) st h = exF ev cX1_who 73 ([v0, v1, v2, v3, some (.int (x + (nI 1)))], []) st h := exF_j (i := (i_iinc 4 (nI 1) 73)) rfl rfl
theorem eX1_who_73 {ev : xV} {v0 v1 v2 v3 v4 : Option Value} {st : List Value} {h : xH} : exF ev cX1_who 73 ([v0, v1, v2, v3, v4], []) st h = exF ev cX1_who 17 ([v0, v1, v2, v3, v4], []) st h := exF_j (i := (i_goto 17)) rfl rfl
theorem eX1_who_76 {ev : xV} {v0 v1 v2 v4 : Option Value} {x : Int32} {st : List Value} {h : xH} : exF ev cX1_who 76 ([v0, v1, v2, some (.int x), v4], []) st h = exF ev cX1_who 77 ([v0, v1, v2, some (.int x), v4], []) (.int x :: st) h := exF_j (i := (i_iload 3 77)) rfl rfl
theorem eX1_who_77 {ev : xV} {v0 v1 v2 v3 v4 : Option Value} {x : Int32} {st : List Value} {h : xH} : exF ev cX1_who 77 ([v0, v1, v2, v3, v4], []) (.int x :: st) h = if x = 0 then exF ev cX1_who 86 ([v0, v1, v2, v3, v4], []) st h else exF ev cX1_who 80 ([v0, v1, v2, v3, v4], []) st h := exF_b (i := (i_if1 (fun x => x = 0) 86 80)) rfl rfl
theorem eX1_who_80 {ev : xV} {v0 v2 v3 v4 : Option Value} {x : Int32} {st : List Value} {h : xH} : exF ev cX1_who 80 ([v0, some (.int x), v2, v3, v4], []) st h = exF ev cX1_who 81 ([v0, some (.int x), v2, v3, v4], []) (.int x :: st) h := exF_j (i := (i_iload 1 81)) rfl rfl
theorem eX1_who_81 {ev : xV} {v0 v1 v2 v3 v4 : Option Value} {st : List Value} {h : xH} : exF ev cX1_who 81 ([v0, v1, v2, v3, v4], []) st h = exF ev cX1_who 82 ([v0, v1, v2, v3, v4], []) (.int (nI 1) :: st) h := exF_j (i := (i_const (.int (nI 1)) 82)) rfl rfl
theorem eX1_who_82 {ev : xV} {v0 v1 v3 v4 : Option Value} {x : Int32} {st : List Value} {h : xH} : exF ev cX1_who 82 ([v0, v1, some (.int x), v3, v4], []) st h = exF ev cX1_who 83 ([v0, v1, some (.int x), v3, v4], []) (.int x :: st) h := exF_j (i := (i_iload 2 83)) rfl rfl
theorem eX1_who_83 {ev : xV} {v0 v1 v2 v3 v4 : Option Value} {x y : Int32} {st : List Value} {h : xH} : exF ev cX1_who 83 ([v0, v1, v2, v3, v4], []) (.int y :: .int x :: st) h = exF ev cX1_who 84 ([v0, v1, v2, v3, v4], []) (.int (x <<< (y &&& 31)) :: st) h := exF_j (i := (i_ii (fun x y => x <<< (y &&& 31)) 84)) rfl rfl
theorem eX1_who_84 {ev : xV} {v0 v1 v2 v3 v4 : Option Value} {x y : Int32} {st : List Value} {h : xH} : exF ev cX1_who 84 ([v0, v1, v2, v3, v4], []) (.int y :: .int x :: st) h = exF ev cX1_who 85 ([v0, v1, v2, v3, v4], []) (.int (x ||| y) :: st) h := exF_j (i := (i_ii (fun x y => x ||| y) 85)) rfl rfl
theorem eX1_who_85 {ev : xV} {v0 v1 v2 v3 v4 : Option Value} {x : Int32} {st : List Value} {h : xH} : exF ev cX1_who 85 ([v0, v1, v2, v3, v4], []) (.int x :: st) h = exF ev cX1_who 86 ([v0, some (.int x), v2, v3, v4], []) st h := exF_j (i := (i_istore 1 86)) rfl rfl
theorem eX1_who_86 {ev : xV} {v0 v1 v3 v4 : Option Value} {x : Int32} {st : List Value} {h : xH} : exF ev cX1_who 86 ([v0, v1, some (.int x), v3, v4], []) st h = exF ev cX1_who 89 ([v0, v1, some (.int (x + (nI 1))), v3, v4], []) st h := exF_j (i := (i_iinc 2 (nI 1) 89)) rfl rfl
theorem eX1_who_89 {ev : xV} {v0 v1 v2 v3 v4 : Option Value} {st : List Value} {h : xH} : exF ev cX1_who 89 ([v0, v1, v2, v3, v4], []) st h = exF ev cX1_who 4 ([v0, v1, v2, v3, v4], []) st h := exF_j (i := (i_goto 4)) rfl rfl
theorem eX1_who_92 {ev : xV} {v0 v2 v3 v4 : Option Value} {x : Int32} {st : List Value} {h : xH} : exF ev cX1_who 92 ([v0, some (.int x), v2, v3, v4], []) st h = exF ev cX1_who 93 ([v0, some (.int x), v2, v3, v4], []) (.int x :: st) h := exF_j (i := (i_iload 1 93)) rfl rfl
theorem eX1_who_93 {ev : xV} {v0 v1 v2 v3 v4 : Option Value} {x : Int32} {h : xH} : exF ev cX1_who 93 ([v0, v1, v2, v3, v4], []) [.int x] h = some (.inl (some (.int x)), h) := exF_r (i := (i_iret)) rfl rfl
noncomputable def cX1_rattles : xC := [(0, i_const (.int (nI 0)) 1),
  (1, i_istore 1 2),
  (2, i_const (.int (nI 0)) 3),
  (3, i_istore 2 4),
  (4, i_iload 2 5),
  (5, i_aload 0 6),
  (6, i_cv 0 96 0 9),
  (9, i_if2 (fun x y => y ≤ x) 48 12),
  (12, i_aload 0 13),
  (13, i_getf 0 4 16),
  (16, i_getf 3 1 19),
  (19, i_iload 2 20),
  (20, i_ai 0 21),
  (21, i_aload 0 22),
  (22, i_getf 0 4 25),
  (25, i_getf 3 0 28),
  (28, i_iload 2 29),
  (29, i_ai 0 30),
  (30, i_ii (fun x y => x - y) 31),
  (31, i_const (.int (nI 6)) 33),
  (33, i_if2 (fun x y => x < y) 42 36),
  (36, i_iload 1 37),
  (37, i_const (.int (nI 1)) 38),
  (38, i_iload 2 39),
  (39, i_ii (fun x y => x <<< (y &&& 31)) 40),
  (40, i_ii (fun x y => x ||| y) 41),
  (41, i_istore 1 42),
  (42, i_iinc 2 (nI 1) 45),
  (45, i_goto 4),
  (48, i_iload 1 49),
  (49, i_iret)]
theorem eX1_rattles_0 {ev : xV} {v0 v1 v2 : Option Value} {st : List Value} {h : xH} : exF ev cX1_rattles 0 ([v0, v1, v2], []) st h = exF ev cX1_rattles 1 ([v0, v1, v2], []) (.int (nI 0) :: st) h := exF_j (i := (i_const (.int (nI 0)) 1)) rfl rfl
theorem eX1_rattles_1 {ev : xV} {v0 v1 v2 : Option Value} {x : Int32} {st : List Value} {h : xH} : exF ev cX1_rattles 1 ([v0, v1, v2], []) (.int x :: st) h = exF ev cX1_rattles 2 ([v0, some (.int x), v2], []) st h := exF_j (i := (i_istore 1 2)) rfl rfl
theorem eX1_rattles_2 {ev : xV} {v0 v1 v2 : Option Value} {st : List Value} {h : xH} : exF ev cX1_rattles 2 ([v0, v1, v2], []) st h = exF ev cX1_rattles 3 ([v0, v1, v2], []) (.int (nI 0) :: st) h := exF_j (i := (i_const (.int (nI 0)) 3)) rfl rfl
theorem eX1_rattles_3 {ev : xV} {v0 v1 v2 : Option Value} {x : Int32} {st : List Value} {h : xH} : exF ev cX1_rattles 3 ([v0, v1, v2], []) (.int x :: st) h = exF ev cX1_rattles 4 ([v0, v1, some (.int x)], []) st h := exF_j (i := (i_istore 2 4)) rfl rfl
theorem eX1_rattles_4 {ev : xV} {v0 v1 : Option Value} {x : Int32} {st : List Value} {h : xH} : exF ev cX1_rattles 4 ([v0, v1, some (.int x)], []) st h = exF ev cX1_rattles 5 ([v0, v1, some (.int x)], []) (.int x :: st) h := exF_j (i := (i_iload 2 5)) rfl rfl
theorem eX1_rattles_5 {ev : xV} {v1 v2 : Option Value} {x : Nat} {st : List Value} {h : xH} : exF ev cX1_rattles 5 ([some (.ref x), v1, v2], []) st h = exF ev cX1_rattles 6 ([some (.ref x), v1, v2], []) (.ref x :: st) h := exF_j (i := (i_aload 0 6)) rfl rfl
theorem eX1_rattles_6 {ev : xV} {v0 v1 v2 : Option Value} {r0 : Value} {a : Nat} {h : xH} : exF ev cX1_rattles 6 ([v0, v1, v2], []) [.ref a, r0] h = xO (xck h a 0) (fun _ => xB (ev 96 [.ref a] h) (fun v h => exF ev cX1_rattles 9 ([v0, v1, v2], []) [v, r0] h)) := exF_cd (i := (i_cv 0 96 0 9)) rfl rfl
theorem eX1_rattles_9 {ev : xV} {v0 v1 v2 : Option Value} {x y : Int32} {st : List Value} {h : xH} : exF ev cX1_rattles 9 ([v0, v1, v2], []) (.int y :: .int x :: st) h = if y ≤ x then exF ev cX1_rattles 48 ([v0, v1, v2], []) st h else exF ev cX1_rattles 12 ([v0, v1, v2], []) st h := exF_b (i := (i_if2 (fun x y => y ≤ x) 48 12)) rfl rfl
theorem eX1_rattles_12 {ev : xV} {v1 v2 : Option Value} {x : Nat} {st : List Value} {h : xH} : exF ev cX1_rattles 12 ([some (.ref x), v1, v2], []) st h = exF ev cX1_rattles 13 ([some (.ref x), v1, v2], []) (.ref x :: st) h := exF_j (i := (i_aload 0 13)) rfl rfl
theorem eX1_rattles_13 {ev : xV} {v0 v1 v2 : Option Value} {a : Nat} {st : List Value} {h : xH} : exF ev cX1_rattles 13 ([v0, v1, v2], []) (.ref a :: st) h = xO (xgf h a 0 4) (fun v => exF ev cX1_rattles 16 ([v0, v1, v2], []) (v :: st) h) := exF_o (i := (i_getf 0 4 16)) rfl rfl
theorem eX1_rattles_16 {ev : xV} {v0 v1 v2 : Option Value} {a : Nat} {st : List Value} {h : xH} : exF ev cX1_rattles 16 ([v0, v1, v2], []) (.ref a :: st) h = xO (xgf h a 3 1) (fun v => exF ev cX1_rattles 19 ([v0, v1, v2], []) (v :: st) h) := exF_o (i := (i_getf 3 1 19)) rfl rfl
theorem eX1_rattles_19 {ev : xV} {v0 v1 : Option Value} {x : Int32} {st : List Value} {h : xH} : exF ev cX1_rattles 19 ([v0, v1, some (.int x)], []) st h = exF ev cX1_rattles 20 ([v0, v1, some (.int x)], []) (.int x :: st) h := exF_j (i := (i_iload 2 20)) rfl rfl
theorem eX1_rattles_20 {ev : xV} {v0 v1 v2 : Option Value} {i : Int32} {a : Nat} {st : List Value} {h : xH} : exF ev cX1_rattles 20 ([v0, v1, v2], []) (.int i :: .ref a :: st) h = xO (xai h 0 a i) (fun v => exF ev cX1_rattles 21 ([v0, v1, v2], []) (.int v :: st) h) := exF_o (i := (i_ai 0 21)) rfl rfl
theorem eX1_rattles_21 {ev : xV} {v1 v2 : Option Value} {x : Nat} {st : List Value} {h : xH} : exF ev cX1_rattles 21 ([some (.ref x), v1, v2], []) st h = exF ev cX1_rattles 22 ([some (.ref x), v1, v2], []) (.ref x :: st) h := exF_j (i := (i_aload 0 22)) rfl rfl
theorem eX1_rattles_22 {ev : xV} {v0 v1 v2 : Option Value} {a : Nat} {st : List Value} {h : xH} : exF ev cX1_rattles 22 ([v0, v1, v2], []) (.ref a :: st) h = xO (xgf h a 0 4) (fun v => exF ev cX1_rattles 25 ([v0, v1, v2], []) (v :: st) h) := exF_o (i := (i_getf 0 4 25)) rfl rfl
theorem eX1_rattles_25 {ev : xV} {v0 v1 v2 : Option Value} {a : Nat} {st : List Value} {h : xH} : exF ev cX1_rattles 25 ([v0, v1, v2], []) (.ref a :: st) h = xO (xgf h a 3 0) (fun v => exF ev cX1_rattles 28 ([v0, v1, v2], []) (v :: st) h) := exF_o (i := (i_getf 3 0 28)) rfl rfl
theorem eX1_rattles_28 {ev : xV} {v0 v1 : Option Value} {x : Int32} {st : List Value} {h : xH} : exF ev cX1_rattles 28 ([v0, v1, some (.int x)], []) st h = exF ev cX1_rattles 29 ([v0, v1, some (.int x)], []) (.int x :: st) h := exF_j (i := (i_iload 2 29)) rfl rfl
theorem eX1_rattles_29 {ev : xV} {v0 v1 v2 : Option Value} {i : Int32} {a : Nat} {st : List Value} {h : xH} : exF ev cX1_rattles 29 ([v0, v1, v2], []) (.int i :: .ref a :: st) h = xO (xai h 0 a i) (fun v => exF ev cX1_rattles 30 ([v0, v1, v2], []) (.int v :: st) h) := exF_o (i := (i_ai 0 30)) rfl rfl
theorem eX1_rattles_30 {ev : xV} {v0 v1 v2 : Option Value} {x y : Int32} {st : List Value} {h : xH} : exF ev cX1_rattles 30 ([v0, v1, v2], []) (.int y :: .int x :: st) h = exF ev cX1_rattles 31 ([v0, v1, v2], []) (.int (x - y) :: st) h := exF_j (i := (i_ii (fun x y => x - y) 31)) rfl rfl
theorem eX1_rattles_31 {ev : xV} {v0 v1 v2 : Option Value} {st : List Value} {h : xH} : exF ev cX1_rattles 31 ([v0, v1, v2], []) st h = exF ev cX1_rattles 33 ([v0, v1, v2], []) (.int (nI 6) :: st) h := exF_j (i := (i_const (.int (nI 6)) 33)) rfl rfl
theorem eX1_rattles_33 {ev : xV} {v0 v1 v2 : Option Value} {x y : Int32} {st : List Value} {h : xH} : exF ev cX1_rattles 33 ([v0, v1, v2], []) (.int y :: .int x :: st) h = if x < y then exF ev cX1_rattles 42 ([v0, v1, v2], []) st h else exF ev cX1_rattles 36 ([v0, v1, v2], []) st h := exF_b (i := (i_if2 (fun x y => x < y) 42 36)) rfl rfl
theorem eX1_rattles_36 {ev : xV} {v0 v2 : Option Value} {x : Int32} {st : List Value} {h : xH} : exF ev cX1_rattles 36 ([v0, some (.int x), v2], []) st h = exF ev cX1_rattles 37 ([v0, some (.int x), v2], []) (.int x :: st) h := exF_j (i := (i_iload 1 37)) rfl rfl
theorem eX1_rattles_37 {ev : xV} {v0 v1 v2 : Option Value} {st : List Value} {h : xH} : exF ev cX1_rattles 37 ([v0, v1, v2], []) st h = exF ev cX1_rattles 38 ([v0, v1, v2], []) (.int (nI 1) :: st) h := exF_j (i := (i_const (.int (nI 1)) 38)) rfl rfl
theorem eX1_rattles_38 {ev : xV} {v0 v1 : Option Value} {x : Int32} {st : List Value} {h : xH} : exF ev cX1_rattles 38 ([v0, v1, some (.int x)], []) st h = exF ev cX1_rattles 39 ([v0, v1, some (.int x)], []) (.int x :: st) h := exF_j (i := (i_iload 2 39)) rfl rfl
theorem eX1_rattles_39 {ev : xV} {v0 v1 v2 : Option Value} {x y : Int32} {st : List Value} {h : xH} : exF ev cX1_rattles 39 ([v0, v1, v2], []) (.int y :: .int x :: st) h = exF ev cX1_rattles 40 ([v0, v1, v2], []) (.int (x <<< (y &&& 31)) :: st) h := exF_j (i := (i_ii (fun x y => x <<< (y &&& 31)) 40)) rfl rfl
theorem eX1_rattles_40 {ev : xV} {v0 v1 v2 : Option Value} {x y : Int32} {st : List Value} {h : xH} : exF ev cX1_rattles 40 ([v0, v1, v2], []) (.int y :: .int x :: st) h = exF ev cX1_rattles 41 ([v0, v1, v2], []) (.int (x ||| y) :: st) h := exF_j (i := (i_ii (fun x y => x ||| y) 41)) rfl rfl
theorem eX1_rattles_41 {ev : xV} {v0 v1 v2 : Option Value} {x : Int32} {st : List Value} {h : xH} : exF ev cX1_rattles 41 ([v0, v1, v2], []) (.int x :: st) h = exF ev cX1_rattles 42 ([v0, some (.int x), v2], []) st h := exF_j (i := (i_istore 1 42)) rfl rfl
theorem eX1_rattles_42 {ev : xV} {v0 v1 : Option Value} {x : Int32} {st : List Value} {h : xH} : exF ev cX1_rattles 42 ([v0, v1, some (.int x)], []) st h = exF ev cX1_rattles 45 ([v0, v1, some (.int (x + (nI 1)))], []) st h := exF_j (i := (i_iinc 2 (nI 1) 45)) rfl rfl
theorem eX1_rattles_45 {ev : xV} {v0 v1 v2 : Option Value} {st : List Value} {h : xH} : exF ev cX1_rattles 45 ([v0, v1, v2], []) st h = exF ev cX1_rattles 4 ([v0, v1, v2], []) st h := exF_j (i := (i_goto 4)) rfl rfl
theorem eX1_rattles_48 {ev : xV} {v0 v2 : Option Value} {x : Int32} {st : List Value} {h : xH} : exF ev cX1_rattles 48 ([v0, some (.int x), v2], []) st h = exF ev cX1_rattles 49 ([v0, some (.int x), v2], []) (.int x :: st) h := exF_j (i := (i_iload 1 49)) rfl rfl
theorem eX1_rattles_49 {ev : xV} {v0 v1 v2 : Option Value} {x : Int32} {h : xH} : exF ev cX1_rattles 49 ([v0, v1, v2], []) [.int x] h = some (.inl (some (.int x)), h) := exF_r (i := (i_iret)) rfl rfl
noncomputable def cX1_worst : xC := [(0, i_const (.int (-1)) 1),
  (1, i_istore 1 2),
  (2, i_const (.int (nI 0)) 3),
  (3, i_istore 2 4),
  (4, i_iload 2 5),
  (5, i_aload 0 6),
  (6, i_cv 0 96 0 9),
  (9, i_if2 (fun x y => y ≤ x) 76 12),
  (12, i_aload 0 13),
  (13, i_getf 0 4 16),
  (16, i_iload 2 17),
  (17, i_cv 3 238 1 20),
  (20, i_if1 (fun x => x = 0) 70 23),
  (23, i_iload 1 24),
  (24, i_if1 (fun x => x < 0) 68 27),
  (27, i_aload 0 28),
  (28, i_getf 0 4 31),
  (31, i_getf 3 0 34),
  (34, i_iload 2 35),
  (35, i_ai 0 36),
  (36, i_aload 0 37),
  (37, i_getf 0 4 40),
  (40, i_getf 3 1 43),
  (43, i_iload 2 44),
  (44, i_ai 0 45),
  (45, i_ii (fun x y => x - y) 46),
  (46, i_aload 0 47),
  (47, i_getf 0 4 50),
  (50, i_getf 3 0 53),
  (53, i_iload 1 54),
  (54, i_ai 0 55),
  (55, i_aload 0 56),
  (56, i_getf 0 4 59),
  (59, i_getf 3 1 62),
  (62, i_iload 1 63),
  (63, i_ai 0 64),
  (64, i_ii (fun x y => x - y) 65),
  (65, i_if2 (fun x y => x ≤ y) 70 68),
  (68, i_iload 2 69),
  (69, i_istore 1 70),
  (70, i_iinc 2 (nI 1) 73),
  (73, i_goto 4),
  (76, i_iload 1 77),
  (77, i_iret)]
theorem eX1_worst_0 {ev : xV} {v0 v1 v2 : Option Value} {st : List Value} {h : xH} : exF ev cX1_worst 0 ([v0, v1, v2], []) st h = exF ev cX1_worst 1 ([v0, v1, v2], []) (.int (-1) :: st) h := exF_j (i := (i_const (.int (-1)) 1)) rfl rfl
theorem eX1_worst_1 {ev : xV} {v0 v1 v2 : Option Value} {x : Int32} {st : List Value} {h : xH} : exF ev cX1_worst 1 ([v0, v1, v2], []) (.int x :: st) h = exF ev cX1_worst 2 ([v0, some (.int x), v2], []) st h := exF_j (i := (i_istore 1 2)) rfl rfl
theorem eX1_worst_2 {ev : xV} {v0 v1 v2 : Option Value} {st : List Value} {h : xH} : exF ev cX1_worst 2 ([v0, v1, v2], []) st h = exF ev cX1_worst 3 ([v0, v1, v2], []) (.int (nI 0) :: st) h := exF_j (i := (i_const (.int (nI 0)) 3)) rfl rfl
theorem eX1_worst_3 {ev : xV} {v0 v1 v2 : Option Value} {x : Int32} {st : List Value} {h : xH} : exF ev cX1_worst 3 ([v0, v1, v2], []) (.int x :: st) h = exF ev cX1_worst 4 ([v0, v1, some (.int x)], []) st h := exF_j (i := (i_istore 2 4)) rfl rfl
theorem eX1_worst_4 {ev : xV} {v0 v1 : Option Value} {x : Int32} {st : List Value} {h : xH} : exF ev cX1_worst 4 ([v0, v1, some (.int x)], []) st h = exF ev cX1_worst 5 ([v0, v1, some (.int x)], []) (.int x :: st) h := exF_j (i := (i_iload 2 5)) rfl rfl
theorem eX1_worst_5 {ev : xV} {v1 v2 : Option Value} {x : Nat} {st : List Value} {h : xH} : exF ev cX1_worst 5 ([some (.ref x), v1, v2], []) st h = exF ev cX1_worst 6 ([some (.ref x), v1, v2], []) (.ref x :: st) h := exF_j (i := (i_aload 0 6)) rfl rfl
theorem eX1_worst_6 {ev : xV} {v0 v1 v2 : Option Value} {r0 : Value} {a : Nat} {h : xH} : exF ev cX1_worst 6 ([v0, v1, v2], []) [.ref a, r0] h = xO (xck h a 0) (fun _ => xB (ev 96 [.ref a] h) (fun v h => exF ev cX1_worst 9 ([v0, v1, v2], []) [v, r0] h)) := exF_cd (i := (i_cv 0 96 0 9)) rfl rfl
theorem eX1_worst_9 {ev : xV} {v0 v1 v2 : Option Value} {x y : Int32} {st : List Value} {h : xH} : exF ev cX1_worst 9 ([v0, v1, v2], []) (.int y :: .int x :: st) h = if y ≤ x then exF ev cX1_worst 76 ([v0, v1, v2], []) st h else exF ev cX1_worst 12 ([v0, v1, v2], []) st h := exF_b (i := (i_if2 (fun x y => y ≤ x) 76 12)) rfl rfl
theorem eX1_worst_12 {ev : xV} {v1 v2 : Option Value} {x : Nat} {st : List Value} {h : xH} : exF ev cX1_worst 12 ([some (.ref x), v1, v2], []) st h = exF ev cX1_worst 13 ([some (.ref x), v1, v2], []) (.ref x :: st) h := exF_j (i := (i_aload 0 13)) rfl rfl
theorem eX1_worst_13 {ev : xV} {v0 v1 v2 : Option Value} {a : Nat} {st : List Value} {h : xH} : exF ev cX1_worst 13 ([v0, v1, v2], []) (.ref a :: st) h = xO (xgf h a 0 4) (fun v => exF ev cX1_worst 16 ([v0, v1, v2], []) (v :: st) h) := exF_o (i := (i_getf 0 4 16)) rfl rfl
theorem eX1_worst_16 {ev : xV} {v0 v1 : Option Value} {x : Int32} {st : List Value} {h : xH} : exF ev cX1_worst 16 ([v0, v1, some (.int x)], []) st h = exF ev cX1_worst 17 ([v0, v1, some (.int x)], []) (.int x :: st) h := exF_j (i := (i_iload 2 17)) rfl rfl
theorem eX1_worst_17 {ev : xV} {v0 v1 v2 : Option Value} {a0 : Value} {a : Nat} {h : xH} : exF ev cX1_worst 17 ([v0, v1, v2], []) [a0, .ref a] h = xO (xck h a 3) (fun _ => xB (ev 238 [.ref a, a0] h) (fun v h => exF ev cX1_worst 20 ([v0, v1, v2], []) [v] h)) := exF_cd (i := (i_cv 3 238 1 20)) rfl rfl
theorem eX1_worst_20 {ev : xV} {v0 v1 v2 : Option Value} {x : Int32} {st : List Value} {h : xH} : exF ev cX1_worst 20 ([v0, v1, v2], []) (.int x :: st) h = if x = 0 then exF ev cX1_worst 70 ([v0, v1, v2], []) st h else exF ev cX1_worst 23 ([v0, v1, v2], []) st h := exF_b (i := (i_if1 (fun x => x = 0) 70 23)) rfl rfl
theorem eX1_worst_23 {ev : xV} {v0 v2 : Option Value} {x : Int32} {st : List Value} {h : xH} : exF ev cX1_worst 23 ([v0, some (.int x), v2], []) st h = exF ev cX1_worst 24 ([v0, some (.int x), v2], []) (.int x :: st) h := exF_j (i := (i_iload 1 24)) rfl rfl
theorem eX1_worst_24 {ev : xV} {v0 v1 v2 : Option Value} {x : Int32} {st : List Value} {h : xH} : exF ev cX1_worst 24 ([v0, v1, v2], []) (.int x :: st) h = if x < 0 then exF ev cX1_worst 68 ([v0, v1, v2], []) st h else exF ev cX1_worst 27 ([v0, v1, v2], []) st h := exF_b (i := (i_if1 (fun x => x < 0) 68 27)) rfl rfl
theorem eX1_worst_27 {ev : xV} {v1 v2 : Option Value} {x : Nat} {st : List Value} {h : xH} : exF ev cX1_worst 27 ([some (.ref x), v1, v2], []) st h = exF ev cX1_worst 28 ([some (.ref x), v1, v2], []) (.ref x :: st) h := exF_j (i := (i_aload 0 28)) rfl rfl
theorem eX1_worst_28 {ev : xV} {v0 v1 v2 : Option Value} {a : Nat} {st : List Value} {h : xH} : exF ev cX1_worst 28 ([v0, v1, v2], []) (.ref a :: st) h = xO (xgf h a 0 4) (fun v => exF ev cX1_worst 31 ([v0, v1, v2], []) (v :: st) h) := exF_o (i := (i_getf 0 4 31)) rfl rfl
theorem eX1_worst_31 {ev : xV} {v0 v1 v2 : Option Value} {a : Nat} {st : List Value} {h : xH} : exF ev cX1_worst 31 ([v0, v1, v2], []) (.ref a :: st) h = xO (xgf h a 3 0) (fun v => exF ev cX1_worst 34 ([v0, v1, v2], []) (v :: st) h) := exF_o (i := (i_getf 3 0 34)) rfl rfl
theorem eX1_worst_34 {ev : xV} {v0 v1 : Option Value} {x : Int32} {st : List Value} {h : xH} : exF ev cX1_worst 34 ([v0, v1, some (.int x)], []) st h = exF ev cX1_worst 35 ([v0, v1, some (.int x)], []) (.int x :: st) h := exF_j (i := (i_iload 2 35)) rfl rfl
theorem eX1_worst_35 {ev : xV} {v0 v1 v2 : Option Value} {i : Int32} {a : Nat} {st : List Value} {h : xH} : exF ev cX1_worst 35 ([v0, v1, v2], []) (.int i :: .ref a :: st) h = xO (xai h 0 a i) (fun v => exF ev cX1_worst 36 ([v0, v1, v2], []) (.int v :: st) h) := exF_o (i := (i_ai 0 36)) rfl rfl
theorem eX1_worst_36 {ev : xV} {v1 v2 : Option Value} {x : Nat} {st : List Value} {h : xH} : exF ev cX1_worst 36 ([some (.ref x), v1, v2], []) st h = exF ev cX1_worst 37 ([some (.ref x), v1, v2], []) (.ref x :: st) h := exF_j (i := (i_aload 0 37)) rfl rfl
theorem eX1_worst_37 {ev : xV} {v0 v1 v2 : Option Value} {a : Nat} {st : List Value} {h : xH} : exF ev cX1_worst 37 ([v0, v1, v2], []) (.ref a :: st) h = xO (xgf h a 0 4) (fun v => exF ev cX1_worst 40 ([v0, v1, v2], []) (v :: st) h) := exF_o (i := (i_getf 0 4 40)) rfl rfl
theorem eX1_worst_40 {ev : xV} {v0 v1 v2 : Option Value} {a : Nat} {st : List Value} {h : xH} : exF ev cX1_worst 40 ([v0, v1, v2], []) (.ref a :: st) h = xO (xgf h a 3 1) (fun v => exF ev cX1_worst 43 ([v0, v1, v2], []) (v :: st) h) := exF_o (i := (i_getf 3 1 43)) rfl rfl
theorem eX1_worst_43 {ev : xV} {v0 v1 : Option Value} {x : Int32} {st : List Value} {h : xH} : exF ev cX1_worst 43 ([v0, v1, some (.int x)], []) st h = exF ev cX1_worst 44 ([v0, v1, some (.int x)], []) (.int x :: st) h := exF_j (i := (i_iload 2 44)) rfl rfl
theorem eX1_worst_44 {ev : xV} {v0 v1 v2 : Option Value} {i : Int32} {a : Nat} {st : List Value} {h : xH} : exF ev cX1_worst 44 ([v0, v1, v2], []) (.int i :: .ref a :: st) h = xO (xai h 0 a i) (fun v => exF ev cX1_worst 45 ([v0, v1, v2], []) (.int v :: st) h) := exF_o (i := (i_ai 0 45)) rfl rfl
theorem eX1_worst_45 {ev : xV} {v0 v1 v2 : Option Value} {x y : Int32} {st : List Value} {h : xH} : exF ev cX1_worst 45 ([v0, v1, v2], []) (.int y :: .int x :: st) h = exF ev cX1_worst 46 ([v0, v1, v2], []) (.int (x - y) :: st) h := exF_j (i := (i_ii (fun x y => x - y) 46)) rfl rfl
theorem eX1_worst_46 {ev : xV} {v1 v2 : Option Value} {x : Nat} {st : List Value} {h : xH} : exF ev cX1_worst 46 ([some (.ref x), v1, v2], []) st h = exF ev cX1_worst 47 ([some (.ref x), v1, v2], []) (.ref x :: st) h := exF_j (i := (i_aload 0 47)) rfl rfl
theorem eX1_worst_47 {ev : xV} {v0 v1 v2 : Option Value} {a : Nat} {st : List Value} {h : xH} : exF ev cX1_worst 47 ([v0, v1, v2], []) (.ref a :: st) h = xO (xgf h a 0 4) (fun v => exF ev cX1_worst 50 ([v0, v1, v2], []) (v :: st) h) := exF_o (i := (i_getf 0 4 50)) rfl rfl
theorem eX1_worst_50 {ev : xV} {v0 v1 v2 : Option Value} {a : Nat} {st : List Value} {h : xH} : exF ev cX1_worst 50 ([v0, v1, v2], []) (.ref a :: st) h = xO (xgf h a 3 0) (fun v => exF ev cX1_worst 53 ([v0, v1, v2], []) (v :: st) h) := exF_o (i := (i_getf 3 0 53)) rfl rfl
theorem eX1_worst_53 {ev : xV} {v0 v2 : Option Value} {x : Int32} {st : List Value} {h : xH} : exF ev cX1_worst 53 ([v0, some (.int x), v2], []) st h = exF ev cX1_worst 54 ([v0, some (.int x), v2], []) (.int x :: st) h := exF_j (i := (i_iload 1 54)) rfl rfl
theorem eX1_worst_54 {ev : xV} {v0 v1 v2 : Option Value} {i : Int32} {a : Nat} {st : List Value} {h : xH} : exF ev cX1_worst 54 ([v0, v1, v2], []) (.int i :: .ref a :: st) h = xO (xai h 0 a i) (fun v => exF ev cX1_worst 55 ([v0, v1, v2], []) (.int v :: st) h) := exF_o (i := (i_ai 0 55)) rfl rfl
theorem eX1_worst_55 {ev : xV} {v1 v2 : Option Value} {x : Nat} {st : List Value} {h : xH} : exF ev cX1_worst 55 ([some (.ref x), v1, v2], []) st h = exF ev cX1_worst 56 ([some (.ref x), v1, v2], []) (.ref x :: st) h := exF_j (i := (i_aload 0 56)) rfl rfl
theorem eX1_worst_56 {ev : xV} {v0 v1 v2 : Option Value} {a : Nat} {st : List Value} {h : xH} : exF ev cX1_worst 56 ([v0, v1, v2], []) (.ref a :: st) h = xO (xgf h a 0 4) (fun v => exF ev cX1_worst 59 ([v0, v1, v2], []) (v :: st) h) := exF_o (i := (i_getf 0 4 59)) rfl rfl
theorem eX1_worst_59 {ev : xV} {v0 v1 v2 : Option Value} {a : Nat} {st : List Value} {h : xH} : exF ev cX1_worst 59 ([v0, v1, v2], []) (.ref a :: st) h = xO (xgf h a 3 1) (fun v => exF ev cX1_worst 62 ([v0, v1, v2], []) (v :: st) h) := exF_o (i := (i_getf 3 1 62)) rfl rfl
theorem eX1_worst_62 {ev : xV} {v0 v2 : Option Value} {x : Int32} {st : List Value} {h : xH} : exF ev cX1_worst 62 ([v0, some (.int x), v2], []) st h = exF ev cX1_worst 63 ([v0, some (.int x), v2], []) (.int x :: st) h := exF_j (i := (i_iload 1 63)) rfl rfl
theorem eX1_worst_63 {ev : xV} {v0 v1 v2 : Option Value} {i : Int32} {a : Nat} {st : List Value} {h : xH} : exF ev cX1_worst 63 ([v0, v1, v2], []) (.int i :: .ref a :: st) h = xO (xai h 0 a i) (fun v => exF ev cX1_worst 64 ([v0, v1, v2], []) (.int v :: st) h) := exF_o (i := (i_ai 0 64)) rfl rfl
theorem eX1_worst_64 {ev : xV} {v0 v1 v2 : Option Value} {x y : Int32} {st : List Value} {h : xH} : exF ev cX1_worst 64 ([v0, v1, v2], []) (.int y :: .int x :: st) h = exF ev cX1_worst 65 ([v0, v1, v2], []) (.int (x - y) :: st) h := exF_j (i := (i_ii (fun x y => x - y) 65)) rfl rfl
theorem eX1_worst_65 {ev : xV} {v0 v1 v2 : Option Value} {x y : Int32} {st : List Value} {h : xH} : exF ev cX1_worst 65 ([v0, v1, v2], []) (.int y :: .int x :: st) h = if x ≤ y then exF ev cX1_worst 70 ([v0, v1, v2], []) st h else exF ev cX1_worst 68 ([v0, v1, v2], []) st h := exF_b (i := (i_if2 (fun x y => x ≤ y) 70 68)) rfl rfl
theorem eX1_worst_68 {ev : xV} {v0 v1 : Option Value} {x : Int32} {st : List Value} {h : xH} : exF ev cX1_worst 68 ([v0, v1, some (.int x)], []) st h = exF ev cX1_worst 69 ([v0, v1, some (.int x)], []) (.int x :: st) h := exF_j (i := (i_iload 2 69)) rfl rfl
theorem eX1_worst_69 {ev : xV} {v0 v1 v2 : Option Value} {x : Int32} {st : List Value} {h : xH} : exF ev cX1_worst 69 ([v0, v1, v2], []) (.int x :: st) h = exF ev cX1_worst 70 ([v0, some (.int x), v2], []) st h := exF_j (i := (i_istore 1 70)) rfl rfl
theorem eX1_worst_70 {ev : xV} {v0 v1 : Option Value} {x : Int32} {st : List Value} {h : xH} : exF ev cX1_worst 70 ([v0, v1, some (.int x)], []) st h = exF ev cX1_worst 73 ([v0, v1, some (.int (x + (nI 1)))], []) st h := exF_j (i := (i_iinc 2 (nI 1) 73)) rfl rfl
theorem eX1_worst_73 {ev : xV} {v0 v1 v2 : Option Value} {st : List Value} {h : xH} : exF ev cX1_worst 73 ([v0, v1, v2], []) st h = exF ev cX1_worst 4 ([v0, v1, v2], []) st h := exF_j (i := (i_goto 4)) rfl rfl
theorem eX1_worst_76 {ev : xV} {v0 v2 : Option Value} {x : Int32} {st : List Value} {h : xH} : exF ev cX1_worst 76 ([v0, some (.int x), v2], []) st h = exF ev cX1_worst 77 ([v0, some (.int x), v2], []) (.int x :: st) h := exF_j (i := (i_iload 1 77)) rfl rfl
theorem eX1_worst_77 {ev : xV} {v0 v1 v2 : Option Value} {x : Int32} {h : xH} : exF ev cX1_worst 77 ([v0, v1, v2], []) [.int x] h = some (.inl (some (.int x)), h) := exF_r (i := (i_iret)) rfl rfl
noncomputable def cX1_spared : xC := [(0, i_const (.int (nI 0)) 1),
  (1, i_istore 1 2),
  (2, i_aload 0 3),
  (3, i_aload 0 4),
  (4, i_getf 0 4 7),
  (7, i_cv 0 121 1 10),
  (10, i_istore 2 11),
  (11, i_const (.int (nI 0)) 12),
  (12, i_istore 3 13),
  (13, i_iload 3 14),
  (14, i_aload 0 15),
  (15, i_cv 0 96 0 18),
  (18, i_if2 (fun x y => y ≤ x) 74 21),
  (21, i_iload 2 22),
  (22, i_iload 3 23),
  (23, i_cs 98 2 26),
  (26, i_if1 (fun x => x = 0) 68 29),
  (29, i_aload 0 30),
  (30, i_aload 0 31),
  (31, i_iload 3 32),
  (32, i_cv 0 97 1 35),
  (35, i_getf 6 0 38),
  (38, i_iload 2 39),
  (39, i_const (.int (nI 1)) 40),
  (40, i_iload 3 41),
  (41, i_ii (fun x y => x <<< (y &&& 31)) 42),
  (42, i_const (.int (-1)) 43),
  (43, i_ii (fun x y => x ^^^ y) 44),
  (44, i_ii (fun x y => x &&& y) 45),
  (45, i_cv 0 122 2 48),
  (48, i_aload 0 49),
  (49, i_iload 3 50),
  (50, i_cv 0 97 1 53),
  (53, i_getf 6 1 56),
  (56, i_cs 98 2 59),
  (59, i_if1 (fun x => x = 0) 68 62),
  (62, i_iload 1 63),
  (63, i_const (.int (nI 1)) 64),
  (64, i_iload 3 65),
  (65, i_ii (fun x y => x <<< (y &&& 31)) 66),
  (66, i_ii (fun x y => x ||| y) 67),
  (67, i_istore 1 68),
  (68, i_iinc 3 (nI 1) 71),
  (71, i_goto 13),
  (74, i_iload 1 75),
  (75, i_iret)]
theorem eX1_spared_0 {ev : xV} {v0 v1 v2 v3 : Option Value} {st : List Value} {h : xH} : exF ev cX1_spared 0 ([v0, v1, v2, v3], []) st h = exF ev cX1_spared 1 ([v0, v1, v2, v3], []) (.int (nI 0) :: st) h := exF_j (i := (i_const (.int (nI 0)) 1)) rfl rfl
theorem eX1_spared_1 {ev : xV} {v0 v1 v2 v3 : Option Value} {x : Int32} {st : List Value} {h : xH} : exF ev cX1_spared 1 ([v0, v1, v2, v3], []) (.int x :: st) h = exF ev cX1_spared 2 ([v0, some (.int x), v2, v3], []) st h := exF_j (i := (i_istore 1 2)) rfl rfl
theorem eX1_spared_2 {ev : xV} {v1 v2 v3 : Option Value} {x : Nat} {st : List Value} {h : xH} : exF ev cX1_spared 2 ([some (.ref x), v1, v2, v3], []) st h = exF ev cX1_spared 3 ([some (.ref x), v1, v2, v3], []) (.ref x :: st) h := exF_j (i := (i_aload 0 3)) rfl rfl
theorem eX1_spared_3 {ev : xV} {v1 v2 v3 : Option Value} {x : Nat} {st : List Value} {h : xH} : exF ev cX1_spared 3 ([some (.ref x), v1, v2, v3], []) st h = exF ev cX1_spared 4 ([some (.ref x), v1, v2, v3], []) (.ref x :: st) h := exF_j (i := (i_aload 0 4)) rfl rfl
theorem eX1_spared_4 {ev : xV} {v0 v1 v2 v3 : Option Value} {a : Nat} {st : List Value} {h : xH} : exF ev cX1_spared 4 ([v0, v1, v2, v3], []) (.ref a :: st) h = xO (xgf h a 0 4) (fun v => exF ev cX1_spared 7 ([v0, v1, v2, v3], []) (v :: st) h) := exF_o (i := (i_getf 0 4 7)) rfl rfl
theorem eX1_spared_7 {ev : xV} {v0 v1 v2 v3 : Option Value} {a0 : Value} {a : Nat} {h : xH} : exF ev cX1_spared 7 ([v0, v1, v2, v3], []) [a0, .ref a] h = xO (xck h a 0) (fun _ => xB (ev 121 [.ref a, a0] h) (fun v h => exF ev cX1_spared 10 ([v0, v1, v2, v3], []) [v] h)) := exF_cd (i := (i_cv 0 121 1 10)) rfl rfl
theorem eX1_spared_10 {ev : xV} {v0 v1 v2 v3 : Option Value} {x : Int32} {st : List Value} {h : xH} : exF ev cX1_spared 10 ([v0, v1, v2, v3], []) (.int x :: st) h = exF ev cX1_spared 11 ([v0, v1, some (.int x), v3], []) st h := exF_j (i := (i_istore 2 11)) rfl rfl
theorem eX1_spared_11 {ev : xV} {v0 v1 v2 v3 : Option Value} {st : List Value} {h : xH} : exF ev cX1_spared 11 ([v0, v1, v2, v3], []) st h = exF ev cX1_spared 12 ([v0, v1, v2, v3], []) (.int (nI 0) :: st) h := exF_j (i := (i_const (.int (nI 0)) 12)) rfl rfl
theorem eX1_spared_12 {ev : xV} {v0 v1 v2 v3 : Option Value} {x : Int32} {st : List Value} {h : xH} : exF ev cX1_spared 12 ([v0, v1, v2, v3], []) (.int x :: st) h = exF ev cX1_spared 13 ([v0, v1, v2, some (.int x)], []) st h := exF_j (i := (i_istore 3 13)) rfl rfl
theorem eX1_spared_13 {ev : xV} {v0 v1 v2 : Option Value} {x : Int32} {st : List Value} {h : xH} : exF ev cX1_spared 13 ([v0, v1, v2, some (.int x)], []) st h = exF ev cX1_spared 14 ([v0, v1, v2, some (.int x)], []) (.int x :: st) h := exF_j (i := (i_iload 3 14)) rfl rfl
theorem eX1_spared_14 {ev : xV} {v1 v2 v3 : Option Value} {x : Nat} {st : List Value} {h : xH} : exF ev cX1_spared 14 ([some (.ref x), v1, v2, v3], []) st h = exF ev cX1_spared 15 ([some (.ref x), v1, v2, v3], []) (.ref x :: st) h := exF_j (i := (i_aload 0 15)) rfl rfl
theorem eX1_spared_15 {ev : xV} {v0 v1 v2 v3 : Option Value} {r0 : Value} {a : Nat} {h : xH} : exF ev cX1_spared 15 ([v0, v1, v2, v3], []) [.ref a, r0] h = xO (xck h a 0) (fun _ => xB (ev 96 [.ref a] h) (fun v h => exF ev cX1_spared 18 ([v0, v1, v2, v3], []) [v, r0] h)) := exF_cd (i := (i_cv 0 96 0 18)) rfl rfl
theorem eX1_spared_18 {ev : xV} {v0 v1 v2 v3 : Option Value} {x y : Int32} {st : List Value} {h : xH} : exF ev cX1_spared 18 ([v0, v1, v2, v3], []) (.int y :: .int x :: st) h = if y ≤ x then exF ev cX1_spared 74 ([v0, v1, v2, v3], []) st h else exF ev cX1_spared 21 ([v0, v1, v2, v3], []) st h := exF_b (i := (i_if2 (fun x y => y ≤ x) 74 21)) rfl rfl
theorem eX1_spared_21 {ev : xV} {v0 v1 v3 : Option Value} {x : Int32} {st : List Value} {h : xH} : exF ev cX1_spared 21 ([v0, v1, some (.int x), v3], []) st h = exF ev cX1_spared 22 ([v0, v1, some (.int x), v3], []) (.int x :: st) h := exF_j (i := (i_iload 2 22)) rfl rfl
theorem eX1_spared_22 {ev : xV} {v0 v1 v2 : Option Value} {x : Int32} {st : List Value} {h : xH} : exF ev cX1_spared 22 ([v0, v1, v2, some (.int x)], []) st h = exF ev cX1_spared 23 ([v0, v1, v2, some (.int x)], []) (.int x :: st) h := exF_j (i := (i_iload 3 23)) rfl rfl
theorem eX1_spared_23 {ev : xV} {v0 v1 v2 v3 : Option Value} {a0 : Value} {a1 : Value} {h : xH} : exF ev cX1_spared 23 ([v0, v1, v2, v3], []) [a1, a0] h = xB (ev 98 [a0, a1] h) (fun v h => exF ev cX1_spared 26 ([v0, v1, v2, v3], []) [v] h) := exF_c (i := (i_cs 98 2 26)) rfl rfl
theorem eX1_spared_26 {ev : xV} {v0 v1 v2 v3 : Option Value} {x : Int32} {st : List Value} {h : xH} : exF ev cX1_spared 26 ([v0, v1, v2, v3], []) (.int x :: st) h = if x = 0 then exF ev cX1_spared 68 ([v0, v1, v2, v3], []) st h else exF ev cX1_spared 29 ([v0, v1, v2, v3], []) st h := exF_b (i := (i_if1 (fun x => x = 0) 68 29)) rfl rfl
theorem eX1_spared_29 {ev : xV} {v1 v2 v3 : Option Value} {x : Nat} {st : List Value} {h : xH} : exF ev cX1_spared 29 ([some (.ref x), v1, v2, v3], []) st h = exF ev cX1_spared 30 ([some (.ref x), v1, v2, v3], []) (.ref x :: st) h := exF_j (i := (i_aload 0 30)) rfl rfl
theorem eX1_spared_30 {ev : xV} {v1 v2 v3 : Option Value} {x : Nat} {st : List Value} {h : xH} : exF ev cX1_spared 30 ([some (.ref x), v1, v2, v3], []) st h = exF ev cX1_spared 31 ([some (.ref x), v1, v2, v3], []) (.ref x :: st) h := exF_j (i := (i_aload 0 31)) rfl rfl
theorem eX1_spared_31 {ev : xV} {v0 v1 v2 : Option Value} {x : Int32} {st : List Value} {h : xH} : exF ev cX1_spared 31 ([v0, v1, v2, some (.int x)], []) st h = exF ev cX1_spared 32 ([v0, v1, v2, some (.int x)], []) (.int x :: st) h := exF_j (i := (i_iload 3 32)) rfl rfl
theorem eX1_spared_32 {ev : xV} {v0 v1 v2 v3 : Option Value} {a0 : Value} {r0 : Value} {a : Nat} {h : xH} : exF ev cX1_spared 32 ([v0, v1, v2, v3], []) [a0, .ref a, r0] h = xO (xck h a 0) (fun _ => xB (ev 97 [.ref a, a0] h) (fun v h => exF ev cX1_spared 35 ([v0, v1, v2, v3], []) [v, r0] h)) := exF_cd (i := (i_cv 0 97 1 35)) rfl rfl
theorem eX1_spared_35 {ev : xV} {v0 v1 v2 v3 : Option Value} {a : Nat} {st : List Value} {h : xH} : exF ev cX1_spared 35 ([v0, v1, v2, v3], []) (.ref a :: st) h = xO (xgf h a 6 0) (fun v => exF ev cX1_spared 38 ([v0, v1, v2, v3], []) (v :: st) h) := exF_o (i := (i_getf 6 0 38)) rfl rfl
theorem eX1_spared_38 {ev : xV} {v0 v1 v3 : Option Value} {x : Int32} {st : List Value} {h : xH} : exF ev cX1_spared 38 ([v0, v1, some (.int x), v3], []) st h = exF ev cX1_spared 39 ([v0, v1, some (.int x), v3], []) (.int x :: st) h := exF_j (i := (i_iload 2 39)) rfl rfl
theorem eX1_spared_39 {ev : xV} {v0 v1 v2 v3 : Option Value} {st : List Value} {h : xH} : exF ev cX1_spared 39 ([v0, v1, v2, v3], []) st h = exF ev cX1_spared 40 ([v0, v1, v2, v3], []) (.int (nI 1) :: st) h := exF_j (i := (i_const (.int (nI 1)) 40)) rfl rfl
theorem eX1_spared_40 {ev : xV} {v0 v1 v2 : Option Value} {x : Int32} {st : List Value} {h : xH} : exF ev cX1_spared 40 ([v0, v1, v2, some (.int x)], []) st h = exF ev cX1_spared 41 ([v0, v1, v2, some (.int x)], []) (.int x :: st) h := exF_j (i := (i_iload 3 41)) rfl rfl
theorem eX1_spared_41 {ev : xV} {v0 v1 v2 v3 : Option Value} {x y : Int32} {st : List Value} {h : xH} : exF ev cX1_spared 41 ([v0, v1, v2, v3], []) (.int y :: .int x :: st) h = exF ev cX1_spared 42 ([v0, v1, v2, v3], []) (.int (x <<< (y &&& 31)) :: st) h := exF_j (i := (i_ii (fun x y => x <<< (y &&& 31)) 42)) rfl rfl
theorem eX1_spared_42 {ev : xV} {v0 v1 v2 v3 : Option Value} {st : List Value} {h : xH} : exF ev cX1_spared 42 ([v0, v1, v2, v3], []) st h = exF ev cX1_spared 43 ([v0, v1, v2, v3], []) (.int (-1) :: st) h := exF_j (i := (i_const (.int (-1)) 43)) rfl rfl
theorem eX1_spared_43 {ev : xV} {v0 v1 v2 v3 : Option Value} {x y : Int32} {st : List Value} {h : xH} : exF ev cX1_spared 43 ([v0, v1, v2, v3], []) (.int y :: .int x :: st) h = exF ev cX1_spared 44 ([v0, v1, v2, v3], []) (.int (x ^^^ y) :: st) h := exF_j (i := (i_ii (fun x y => x ^^^ y) 44)) rfl rfl
theorem eX1_spared_44 {ev : xV} {v0 v1 v2 v3 : Option Value} {x y : Int32} {st : List Value} {h : xH} : exF ev cX1_spared 44 ([v0, v1, v2, v3], []) (.int y :: .int x :: st) h = exF ev cX1_spared 45 ([v0, v1, v2, v3], []) (.int (x &&& y) :: st) h := exF_j (i := (i_ii (fun x y => x &&& y) 45)) rfl rfl
theorem eX1_spared_45 {ev : xV} {v0 v1 v2 v3 : Option Value} {a0 : Value} {a1 : Value} {a : Nat} {h : xH} : exF ev cX1_spared 45 ([v0, v1, v2, v3], []) [a1, a0, .ref a] h = xO (xck h a 0) (fun _ => xB (ev 122 [.ref a, a0, a1] h) (fun v h => exF ev cX1_spared 48 ([v0, v1, v2, v3], []) [v] h)) := exF_cd (i := (i_cv 0 122 2 48)) rfl rfl
theorem eX1_spared_48 {ev : xV} {v1 v2 v3 : Option Value} {x : Nat} {st : List Value} {h : xH} : exF ev cX1_spared 48 ([some (.ref x), v1, v2, v3], []) st h = exF ev cX1_spared 49 ([some (.ref x), v1, v2, v3], []) (.ref x :: st) h := exF_j (i := (i_aload 0 49)) rfl rfl
theorem eX1_spared_49 {ev : xV} {v0 v1 v2 : Option Value} {x : Int32} {st : List Value} {h : xH} : exF ev cX1_spared 49 ([v0, v1, v2, some (.int x)], []) st h = exF ev cX1_spared 50 ([v0, v1, v2, some (.int x)], []) (.int x :: st) h := exF_j (i := (i_iload 3 50)) rfl rfl
theorem eX1_spared_50 {ev : xV} {v0 v1 v2 v3 : Option Value} {a0 : Value} {r0 : Value} {a : Nat} {h : xH} : exF ev cX1_spared 50 ([v0, v1, v2, v3], []) [a0, .ref a, r0] h = xO (xck h a 0) (fun _ => xB (ev 97 [.ref a, a0] h) (fun v h => exF ev cX1_spared 53 ([v0, v1, v2, v3], []) [v, r0] h)) := exF_cd (i := (i_cv 0 97 1 53)) rfl rfl
theorem eX1_spared_53 {ev : xV} {v0 v1 v2 v3 : Option Value} {a : Nat} {st : List Value} {h : xH} : exF ev cX1_spared 53 ([v0, v1, v2, v3], []) (.ref a :: st) h = xO (xgf h a 6 1) (fun v => exF ev cX1_spared 56 ([v0, v1, v2, v3], []) (v :: st) h) := exF_o (i := (i_getf 6 1 56)) rfl rfl
theorem eX1_spared_56 {ev : xV} {v0 v1 v2 v3 : Option Value} {a0 : Value} {a1 : Value} {h : xH} : exF ev cX1_spared 56 ([v0, v1, v2, v3], []) [a1, a0] h = xB (ev 98 [a0, a1] h) (fun v h => exF ev cX1_spared 59 ([v0, v1, v2, v3], []) [v] h) := exF_c (i := (i_cs 98 2 59)) rfl rfl
theorem eX1_spared_59 {ev : xV} {v0 v1 v2 v3 : Option Value} {x : Int32} {st : List Value} {h : xH} : exF ev cX1_spared 59 ([v0, v1, v2, v3], []) (.int x :: st) h = if x = 0 then exF ev cX1_spared 68 ([v0, v1, v2, v3], []) st h else exF ev cX1_spared 62 ([v0, v1, v2, v3], []) st h := exF_b (i := (i_if1 (fun x => x = 0) 68 62)) rfl rfl
theorem eX1_spared_62 {ev : xV} {v0 v2 v3 : Option Value} {x : Int32} {st : List Value} {h : xH} : exF ev cX1_spared 62 ([v0, some (.int x), v2, v3], []) st h = exF ev cX1_spared 63 ([v0, some (.int x), v2, v3], []) (.int x :: st) h := exF_j (i := (i_iload 1 63)) rfl rfl
theorem eX1_spared_63 {ev : xV} {v0 v1 v2 v3 : Option Value} {st : List Value} {h : xH} : exF ev cX1_spared 63 ([v0, v1, v2, v3], []) st h = exF ev cX1_spared 64 ([v0, v1, v2, v3], []) (.int (nI 1) :: st) h := exF_j (i := (i_const (.int (nI 1)) 64)) rfl rfl
theorem eX1_spared_64 {ev : xV} {v0 v1 v2 : Option Value} {x : Int32} {st : List Value} {h : xH} : exF ev cX1_spared 64 ([v0, v1, v2, some (.int x)], []) st h = exF ev cX1_spared 65 ([v0, v1, v2, some (.int x)], []) (.int x :: st) h := exF_j (i := (i_iload 3 65)) rfl rfl
theorem eX1_spared_65 {ev : xV} {v0 v1 v2 v3 : Option Value} {x y : Int32} {st : List Value} {h : xH} : exF ev cX1_spared 65 ([v0, v1, v2, v3], []) (.int y :: .int x :: st) h = exF ev cX1_spared 66 ([v0, v1, v2, v3], []) (.int (x <<< (y &&& 31)) :: st) h := exF_j (i := (i_ii (fun x y => x <<< (y &&& 31)) 66)) rfl rfl
theorem eX1_spared_66 {ev : xV} {v0 v1 v2 v3 : Option Value} {x y : Int32} {st : List Value} {h : xH} : exF ev cX1_spared 66 ([v0, v1, v2, v3], []) (.int y :: .int x :: st) h = exF ev cX1_spared 67 ([v0, v1, v2, v3], []) (.int (x ||| y) :: st) h := exF_j (i := (i_ii (fun x y => x ||| y) 67)) rfl rfl
theorem eX1_spared_67 {ev : xV} {v0 v1 v2 v3 : Option Value} {x : Int32} {st : List Value} {h : xH} : exF ev cX1_spared 67 ([v0, v1, v2, v3], []) (.int x :: st) h = exF ev cX1_spared 68 ([v0, some (.int x), v2, v3], []) st h := exF_j (i := (i_istore 1 68)) rfl rfl
theorem eX1_spared_68 {ev : xV} {v0 v1 v2 : Option Value} {x : Int32} {st : List Value} {h : xH} : exF ev cX1_spared 68 ([v0, v1, v2, some (.int x)], []) st h = exF ev cX1_spared 71 ([v0, v1, v2, some (.int (x + (nI 1)))], []) st h := exF_j (i := (i_iinc 3 (nI 1) 71)) rfl rfl
theorem eX1_spared_71 {ev : xV} {v0 v1 v2 v3 : Option Value} {st : List Value} {h : xH} : exF ev cX1_spared 71 ([v0, v1, v2, v3], []) st h = exF ev cX1_spared 13 ([v0, v1, v2, v3], []) st h := exF_j (i := (i_goto 13)) rfl rfl
theorem eX1_spared_74 {ev : xV} {v0 v2 v3 : Option Value} {x : Int32} {st : List Value} {h : xH} : exF ev cX1_spared 74 ([v0, some (.int x), v2, v3], []) st h = exF ev cX1_spared 75 ([v0, some (.int x), v2, v3], []) (.int x :: st) h := exF_j (i := (i_iload 1 75)) rfl rfl
theorem eX1_spared_75 {ev : xV} {v0 v1 v2 v3 : Option Value} {x : Int32} {h : xH} : exF ev cX1_spared 75 ([v0, v1, v2, v3], []) [.int x] h = some (.inl (some (.int x)), h) := exF_r (i := (i_iret)) rfl rfl
noncomputable def cX1_opened : xC := [(0, i_const (.int (-1)) 1),
  (1, i_istore 1 2),
  (2, i_aload 0 3),
  (3, i_aload 0 4),
  (4, i_getf 0 4 7),
  (7, i_cv 0 121 1 10),
  (10, i_istore 2 11),
  (11, i_aload 0 12),
  (12, i_iload 2 13),
  (13, i_cv 0 155 1 16),
  (16, i_istore 3 17),
  (17, i_const (.int (nI 0)) 18),
  (18, i_istore 4 20),
  (20, i_iload 4 22),
  (22, i_aload 0 23),
  (23, i_cv 0 96 0 26),
  (26, i_if2 (fun x y => y ≤ x) 75 29),
  (29, i_iload 2 30),
  (30, i_iload 4 32),
  (32, i_cs 98 2 35),
  (35, i_if1 (fun x => ¬ x = 0) 69 38),
  (38, i_aload 0 39),
  (39, i_iload 2 40),
  (40, i_const (.int (nI 1)) 41),
  (41, i_iload 4 43),
  (43, i_ii (fun x y => x <<< (y &&& 31)) 44),
  (44, i_ii (fun x y => x ||| y) 45),
  (45, i_cv 0 155 1 48),
  (48, i_iload 3 49),
  (49, i_if2 (fun x y => y < x) 55 52),
  (52, i_goto 69),
  (55, i_iload 4 57),
  (57, i_istore 1 58),
  (58, i_aload 0 59),
  (59, i_iload 2 60),
  (60, i_const (.int (nI 1)) 61),
  (61, i_iload 4 63),
  (63, i_ii (fun x y => x <<< (y &&& 31)) 64),
  (64, i_ii (fun x y => x ||| y) 65),
  (65, i_cv 0 155 1 68),
  (68, i_istore 3 69),
  (69, i_iinc 4 (nI 1) 72),
  (72, i_goto 20),
  (75, i_iload 1 76),
  (76, i_iret)]
theorem eX1_opened_0 {ev : xV} {v0 v1 v2 v3 v4 : Option Value} {st : List Value} {h : xH} : exF ev cX1_opened 0 ([v0, v1, v2, v3, v4], []) st h = exF ev cX1_opened 1 ([v0, v1, v2, v3, v4], []) (.int (-1) :: st) h := exF_j (i := (i_const (.int (-1)) 1)) rfl rfl
theorem eX1_opened_1 {ev : xV} {v0 v1 v2 v3 v4 : Option Value} {x : Int32} {st : List Value} {h : xH} : exF ev cX1_opened 1 ([v0, v1, v2, v3, v4], []) (.int x :: st) h = exF ev cX1_opened 2 ([v0, some (.int x), v2, v3, v4], []) st h := exF_j (i := (i_istore 1 2)) rfl rfl
theorem eX1_opened_2 {ev : xV} {v1 v2 v3 v4 : Option Value} {x : Nat} {st : List Value} {h : xH} : exF ev cX1_opened 2 ([some (.ref x), v1, v2, v3, v4], []) st h = exF ev cX1_opened 3 ([some (.ref x), v1, v2, v3, v4], []) (.ref x :: st) h := exF_j (i := (i_aload 0 3)) rfl rfl
theorem eX1_opened_3 {ev : xV} {v1 v2 v3 v4 : Option Value} {x : Nat} {st : List Value} {h : xH} : exF ev cX1_opened 3 ([some (.ref x), v1, v2, v3, v4], []) st h = exF ev cX1_opened 4 ([some (.ref x), v1, v2, v3, v4], []) (.ref x :: st) h := exF_j (i := (i_aload 0 4)) rfl rfl
theorem eX1_opened_4 {ev : xV} {v0 v1 v2 v3 v4 : Option Value} {a : Nat} {st : List Value} {h : xH} : exF ev cX1_opened 4 ([v0, v1, v2, v3, v4], []) (.ref a :: st) h = xO (xgf h a 0 4) (fun v => exF ev cX1_opened 7 ([v0, v1, v2, v3, v4], []) (v :: st) h) := exF_o (i := (i_getf 0 4 7)) rfl rfl
theorem eX1_opened_7 {ev : xV} {v0 v1 v2 v3 v4 : Option Value} {a0 : Value} {a : Nat} {h : xH} : exF ev cX1_opened 7 ([v0, v1, v2, v3, v4], []) [a0, .ref a] h = xO (xck h a 0) (fun _ => xB (ev 121 [.ref a, a0] h) (fun v h => exF ev cX1_opened 10 ([v0, v1, v2, v3, v4], []) [v] h)) := exF_cd (i := (i_cv 0 121 1 10)) rfl rfl
theorem eX1_opened_10 {ev : xV} {v0 v1 v2 v3 v4 : Option Value} {x : Int32} {st : List Value} {h : xH} : exF ev cX1_opened 10 ([v0, v1, v2, v3, v4], []) (.int x :: st) h = exF ev cX1_opened 11 ([v0, v1, some (.int x), v3, v4], []) st h := exF_j (i := (i_istore 2 11)) rfl rfl
theorem eX1_opened_11 {ev : xV} {v1 v2 v3 v4 : Option Value} {x : Nat} {st : List Value} {h : xH} : exF ev cX1_opened 11 ([some (.ref x), v1, v2, v3, v4], []) st h = exF ev cX1_opened 12 ([some (.ref x), v1, v2, v3, v4], []) (.ref x :: st) h := exF_j (i := (i_aload 0 12)) rfl rfl
theorem eX1_opened_12 {ev : xV} {v0 v1 v3 v4 : Option Value} {x : Int32} {st : List Value} {h : xH} : exF ev cX1_opened 12 ([v0, v1, some (.int x), v3, v4], []) st h = exF ev cX1_opened 13 ([v0, v1, some (.int x), v3, v4], []) (.int x :: st) h := exF_j (i := (i_iload 2 13)) rfl rfl
theorem eX1_opened_13 {ev : xV} {v0 v1 v2 v3 v4 : Option Value} {a0 : Value} {a : Nat} {h : xH} : exF ev cX1_opened 13 ([v0, v1, v2, v3, v4], []) [a0, .ref a] h = xO (xck h a 0) (fun _ => xB (ev 155 [.ref a, a0] h) (fun v h => exF ev cX1_opened 16 ([v0, v1, v2, v3, v4], []) [v] h)) := exF_cd (i := (i_cv 0 155 1 16)) rfl rfl
theorem eX1_opened_16 {ev : xV} {v0 v1 v2 v3 v4 : Option Value} {x : Int32} {st : List Value} {h : xH} : exF ev cX1_opened 16 ([v0, v1, v2, v3, v4], []) (.int x :: st) h = exF ev cX1_opened 17 ([v0, v1, v2, some (.int x), v4], []) st h := exF_j (i := (i_istore 3 17)) rfl rfl
theorem eX1_opened_17 {ev : xV} {v0 v1 v2 v3 v4 : Option Value} {st : List Value} {h : xH} : exF ev cX1_opened 17 ([v0, v1, v2, v3, v4], []) st h = exF ev cX1_opened 18 ([v0, v1, v2, v3, v4], []) (.int (nI 0) :: st) h := exF_j (i := (i_const (.int (nI 0)) 18)) rfl rfl
theorem eX1_opened_18 {ev : xV} {v0 v1 v2 v3 v4 : Option Value} {x : Int32} {st : List Value} {h : xH} : exF ev cX1_opened 18 ([v0, v1, v2, v3, v4], []) (.int x :: st) h = exF ev cX1_opened 20 ([v0, v1, v2, v3, some (.int x)], []) st h := exF_j (i := (i_istore 4 20)) rfl rfl
theorem eX1_opened_20 {ev : xV} {v0 v1 v2 v3 : Option Value} {x : Int32} {st : List Value} {h : xH} : exF ev cX1_opened 20 ([v0, v1, v2, v3, some (.int x)], []) st h = exF ev cX1_opened 22 ([v0, v1, v2, v3, some (.int x)], []) (.int x :: st) h := exF_j (i := (i_iload 4 22)) rfl rfl
theorem eX1_opened_22 {ev : xV} {v1 v2 v3 v4 : Option Value} {x : Nat} {st : List Value} {h : xH} : exF ev cX1_opened 22 ([some (.ref x), v1, v2, v3, v4], []) st h = exF ev cX1_opened 23 ([some (.ref x), v1, v2, v3, v4], []) (.ref x :: st) h := exF_j (i := (i_aload 0 23)) rfl rfl
theorem eX1_opened_23 {ev : xV} {v0 v1 v2 v3 v4 : Option Value} {r0 : Value} {a : Nat} {h : xH} : exF ev cX1_opened 23 ([v0, v1, v2, v3, v4], []) [.ref a, r0] h = xO (xck h a 0) (fun _ => xB (ev 96 [.ref a] h) (fun v h => exF ev cX1_opened 26 ([v0, v1, v2, v3, v4], []) [v, r0] h)) := exF_cd (i := (i_cv 0 96 0 26)) rfl rfl
theorem eX1_opened_26 {ev : xV} {v0 v1 v2 v3 v4 : Option Value} {x y : Int32} {st : List Value} {h : xH} : exF ev cX1_opened 26 ([v0, v1, v2, v3, v4], []) (.int y :: .int x :: st) h = if y ≤ x then exF ev cX1_opened 75 ([v0, v1, v2, v3, v4], []) st h else exF ev cX1_opened 29 ([v0, v1, v2, v3, v4], []) st h := exF_b (i := (i_if2 (fun x y => y ≤ x) 75 29)) rfl rfl
theorem eX1_opened_29 {ev : xV} {v0 v1 v3 v4 : Option Value} {x : Int32} {st : List Value} {h : xH} : exF ev cX1_opened 29 ([v0, v1, some (.int x), v3, v4], []) st h = exF ev cX1_opened 30 ([v0, v1, some (.int x), v3, v4], []) (.int x :: st) h := exF_j (i := (i_iload 2 30)) rfl rfl
theorem eX1_opened_30 {ev : xV} {v0 v1 v2 v3 : Option Value} {x : Int32} {st : List Value} {h : xH} : exF ev cX1_opened 30 ([v0, v1, v2, v3, some (.int x)], []) st h = exF ev cX1_opened 32 ([v0, v1, v2, v3, some (.int x)], []) (.int x :: st) h := exF_j (i := (i_iload 4 32)) rfl rfl
theorem eX1_opened_32 {ev : xV} {v0 v1 v2 v3 v4 : Option Value} {a0 : Value} {a1 : Value} {h : xH} : exF ev cX1_opened 32 ([v0, v1, v2, v3, v4], []) [a1, a0] h = xB (ev 98 [a0, a1] h) (fun v h => exF ev cX1_opened 35 ([v0, v1, v2, v3, v4], []) [v] h) := exF_c (i := (i_cs 98 2 35)) rfl rfl
theorem eX1_opened_35 {ev : xV} {v0 v1 v2 v3 v4 : Option Value} {x : Int32} {st : List Value} {h : xH} : exF ev cX1_opened 35 ([v0, v1, v2, v3, v4], []) (.int x :: st) h = if ¬ x = 0 then exF ev cX1_opened 69 ([v0, v1, v2, v3, v4], []) st h else exF ev cX1_opened 38 ([v0, v1, v2, v3, v4], []) st h := exF_b (i := (i_if1 (fun x => ¬ x = 0) 69 38)) rfl rfl
theorem eX1_opened_38 {ev : xV} {v1 v2 v3 v4 : Option Value} {x : Nat} {st : List Value} {h : xH} : exF ev cX1_opened 38 ([some (.ref x), v1, v2, v3, v4], []) st h = exF ev cX1_opened 39 ([some (.ref x), v1, v2, v3, v4], []) (.ref x :: st) h := exF_j (i := (i_aload 0 39)) rfl rfl
theorem eX1_opened_39 {ev : xV} {v0 v1 v3 v4 : Option Value} {x : Int32} {st : List Value} {h : xH} : exF ev cX1_opened 39 ([v0, v1, some (.int x), v3, v4], []) st h = exF ev cX1_opened 40 ([v0, v1, some (.int x), v3, v4], []) (.int x :: st) h := exF_j (i := (i_iload 2 40)) rfl rfl
theorem eX1_opened_40 {ev : xV} {v0 v1 v2 v3 v4 : Option Value} {st : List Value} {h : xH} : exF ev cX1_opened 40 ([v0, v1, v2, v3, v4], []) st h = exF ev cX1_opened 41 ([v0, v1, v2, v3, v4], []) (.int (nI 1) :: st) h := exF_j (i := (i_const (.int (nI 1)) 41)) rfl rfl
theorem eX1_opened_41 {ev : xV} {v0 v1 v2 v3 : Option Value} {x : Int32} {st : List Value} {h : xH} : exF ev cX1_opened 41 ([v0, v1, v2, v3, some (.int x)], []) st h = exF ev cX1_opened 43 ([v0, v1, v2, v3, some (.int x)], []) (.int x :: st) h := exF_j (i := (i_iload 4 43)) rfl rfl
theorem eX1_opened_43 {ev : xV} {v0 v1 v2 v3 v4 : Option Value} {x y : Int32} {st : List Value} {h : xH} : exF ev cX1_opened 43 ([v0, v1, v2, v3, v4], []) (.int y :: .int x :: st) h = exF ev cX1_opened 44 ([v0, v1, v2, v3, v4], []) (.int (x <<< (y &&& 31)) :: st) h := exF_j (i := (i_ii (fun x y => x <<< (y &&& 31)) 44)) rfl rfl
theorem eX1_opened_44 {ev : xV} {v0 v1 v2 v3 v4 : Option Value} {x y : Int32} {st : List Value} {h : xH} : exF ev cX1_opened 44 ([v0, v1, v2, v3, v4], []) (.int y :: .int x :: st) h = exF ev cX1_opened 45 ([v0, v1, v2, v3, v4], []) (.int (x ||| y) :: st) h := exF_j (i := (i_ii (fun x y => x ||| y) 45)) rfl rfl
theorem eX1_opened_45 {ev : xV} {v0 v1 v2 v3 v4 : Option Value} {a0 : Value} {a : Nat} {h : xH} : exF ev cX1_opened 45 ([v0, v1, v2, v3, v4], []) [a0, .ref a] h = xO (xck h a 0) (fun _ => xB (ev 155 [.ref a, a0] h) (fun v h => exF ev cX1_opened 48 ([v0, v1, v2, v3, v4], []) [v] h)) := exF_cd (i := (i_cv 0 155 1 48)) rfl rfl
theorem eX1_opened_48 {ev : xV} {v0 v1 v2 v4 : Option Value} {x : Int32} {st : List Value} {h : xH} : exF ev cX1_opened 48 ([v0, v1, v2, some (.int x), v4], []) st h = exF ev cX1_opened 49 ([v0, v1, v2, some (.int x), v4], []) (.int x :: st) h := exF_j (i := (i_iload 3 49)) rfl rfl
theorem eX1_opened_49 {ev : xV} {v0 v1 v2 v3 v4 : Option Value} {x y : Int32} {st : List Value} {h : xH} : exF ev cX1_opened 49 ([v0, v1, v2, v3, v4], []) (.int y :: .int x :: st) h = if y < x then exF ev cX1_opened 55 ([v0, v1, v2, v3, v4], []) st h else exF ev cX1_opened 52 ([v0, v1, v2, v3, v4], []) st h := exF_b (i := (i_if2 (fun x y => y < x) 55 52)) rfl rfl
theorem eX1_opened_52 {ev : xV} {v0 v1 v2 v3 v4 : Option Value} {st : List Value} {h : xH} : exF ev cX1_opened 52 ([v0, v1, v2, v3, v4], []) st h = exF ev cX1_opened 69 ([v0, v1, v2, v3, v4], []) st h := exF_j (i := (i_goto 69)) rfl rfl
theorem eX1_opened_55 {ev : xV} {v0 v1 v2 v3 : Option Value} {x : Int32} {st : List Value} {h : xH} : exF ev cX1_opened 55 ([v0, v1, v2, v3, some (.int x)], []) st h = exF ev cX1_opened 57 ([v0, v1, v2, v3, some (.int x)], []) (.int x :: st) h := exF_j (i := (i_iload 4 57)) rfl rfl
theorem eX1_opened_57 {ev : xV} {v0 v1 v2 v3 v4 : Option Value} {x : Int32} {st : List Value} {h : xH} : exF ev cX1_opened 57 ([v0, v1, v2, v3, v4], []) (.int x :: st) h = exF ev cX1_opened 58 ([v0, some (.int x), v2, v3, v4], []) st h := exF_j (i := (i_istore 1 58)) rfl rfl
theorem eX1_opened_58 {ev : xV} {v1 v2 v3 v4 : Option Value} {x : Nat} {st : List Value} {h : xH} : exF ev cX1_opened 58 ([some (.ref x), v1, v2, v3, v4], []) st h = exF ev cX1_opened 59 ([some (.ref x), v1, v2, v3, v4], []) (.ref x :: st) h := exF_j (i := (i_aload 0 59)) rfl rfl
theorem eX1_opened_59 {ev : xV} {v0 v1 v3 v4 : Option Value} {x : Int32} {st : List Value} {h : xH} : exF ev cX1_opened 59 ([v0, v1, some (.int x), v3, v4], []) st h = exF ev cX1_opened 60 ([v0, v1, some (.int x), v3, v4], []) (.int x :: st) h := exF_j (i := (i_iload 2 60)) rfl rfl
theorem eX1_opened_60 {ev : xV} {v0 v1 v2 v3 v4 : Option Value} {st : List Value} {h : xH} : exF ev cX1_opened 60 ([v0, v1, v2, v3, v4], []) st h = exF ev cX1_opened 61 ([v0, v1, v2, v3, v4], []) (.int (nI 1) :: st) h := exF_j (i := (i_const (.int (nI 1)) 61)) rfl rfl
theorem eX1_opened_61 {ev : xV} {v0 v1 v2 v3 : Option Value} {x : Int32} {st : List Value} {h : xH} : exF ev cX1_opened 61 ([v0, v1, v2, v3, some (.int x)], []) st h = exF ev cX1_opened 63 ([v0, v1, v2, v3, some (.int x)], []) (.int x :: st) h := exF_j (i := (i_iload 4 63)) rfl rfl
theorem eX1_opened_63 {ev : xV} {v0 v1 v2 v3 v4 : Option Value} {x y : Int32} {st : List Value} {h : xH} : exF ev cX1_opened 63 ([v0, v1, v2, v3, v4], []) (.int y :: .int x :: st) h = exF ev cX1_opened 64 ([v0, v1, v2, v3, v4], []) (.int (x <<< (y &&& 31)) :: st) h := exF_j (i := (i_ii (fun x y => x <<< (y &&& 31)) 64)) rfl rfl
theorem eX1_opened_64 {ev : xV} {v0 v1 v2 v3 v4 : Option Value} {x y : Int32} {st : List Value} {h : xH} : exF ev cX1_opened 64 ([v0, v1, v2, v3, v4], []) (.int y :: .int x :: st) h = exF ev cX1_opened 65 ([v0, v1, v2, v3, v4], []) (.int (x ||| y) :: st) h := exF_j (i := (i_ii (fun x y => x ||| y) 65)) rfl rfl
theorem eX1_opened_65 {ev : xV} {v0 v1 v2 v3 v4 : Option Value} {a0 : Value} {a : Nat} {h : xH} : exF ev cX1_opened 65 ([v0, v1, v2, v3, v4], []) [a0, .ref a] h = xO (xck h a 0) (fun _ => xB (ev 155 [.ref a, a0] h) (fun v h => exF ev cX1_opened 68 ([v0, v1, v2, v3, v4], []) [v] h)) := exF_cd (i := (i_cv 0 155 1 68)) rfl rfl
theorem eX1_opened_68 {ev : xV} {v0 v1 v2 v3 v4 : Option Value} {x : Int32} {st : List Value} {h : xH} : exF ev cX1_opened 68 ([v0, v1, v2, v3, v4], []) (.int x :: st) h = exF ev cX1_opened 69 ([v0, v1, v2, some (.int x), v4], []) st h := exF_j (i := (i_istore 3 69)) rfl rfl
theorem eX1_opened_69 {ev : xV} {v0 v1 v2 v3 : Option Value} {x : Int32} {st : List Value} {h : xH} : exF ev cX1_opened 69 ([v0, v1, v2, v3, some (.int x)], []) st h = exF ev cX1_opened 72 ([v0, v1, v2, v3, some (.int (x + (nI 1)))], []) st h := exF_j (i := (i_iinc 4 (nI 1) 72)) rfl rfl
theorem eX1_opened_72 {ev : xV} {v0 v1 v2 v3 v4 : Option Value} {st : List Value} {h : xH} : exF ev cX1_opened 72 ([v0, v1, v2, v3, v4], []) st h = exF ev cX1_opened 20 ([v0, v1, v2, v3, v4], []) st h := exF_j (i := (i_goto 20)) rfl rfl
theorem eX1_opened_75 {ev : xV} {v0 v2 v3 v4 : Option Value} {x : Int32} {st : List Value} {h : xH} : exF ev cX1_opened 75 ([v0, some (.int x), v2, v3, v4], []) st h = exF ev cX1_opened 76 ([v0, some (.int x), v2, v3, v4], []) (.int x :: st) h := exF_j (i := (i_iload 1 76)) rfl rfl
theorem eX1_opened_76 {ev : xV} {v0 v1 v2 v3 v4 : Option Value} {x : Int32} {h : xH} : exF ev cX1_opened 76 ([v0, v1, v2, v3, v4], []) [.int x] h = some (.inl (some (.int x)), h) := exF_r (i := (i_iret)) rfl rfl
noncomputable def cX1_pairs : xC := [(0, i_const (.int (nI 0)) 1),
  (1, i_istore 2 2),
  (2, i_const (.int (nI 0)) 3),
  (3, i_istore 3 4),
  (4, i_iload 3 5),
  (5, i_aload 0 6),
  (6, i_cv 0 101 0 9),
  (9, i_if2 (fun x y => y ≤ x) 66 12),
  (12, i_const (.int (nI 0)) 13),
  (13, i_istore 4 15),
  (15, i_iload 4 17),
  (17, i_iload 3 18),
  (18, i_if2 (fun x y => y ≤ x) 60 21),
  (21, i_aload 0 22),
  (22, i_aload 0 23),
  (23, i_getf 0 4 26),
  (26, i_getf 3 2 29),
  (29, i_iload 3 30),
  (30, i_ai 0 31),
  (31, i_iload 1 32),
  (32, i_cv 0 122 2 35),
  (35, i_aload 0 36),
  (36, i_getf 0 4 39),
  (39, i_getf 3 2 42),
  (42, i_iload 4 44),
  (44, i_ai 0 45),
  (45, i_cs 98 2 48),
  (48, i_if1 (fun x => x = 0) 54 51),
  (51, i_iinc 2 (nI 1) 54),
  (54, i_iinc 4 (nI 1) 57),
  (57, i_goto 15),
  (60, i_iinc 3 (nI 1) 63),
  (63, i_goto 4),
  (66, i_iload 2 67),
  (67, i_iret)]
theorem eX1_pairs_0 {ev : xV} {v0 v1 v2 v3 v4 : Option Value} {st : List Value} {h : xH} : exF ev cX1_pairs 0 ([v0, v1, v2, v3, v4], []) st h = exF ev cX1_pairs 1 ([v0, v1, v2, v3, v4], []) (.int (nI 0) :: st) h := exF_j (i := (i_const (.int (nI 0)) 1)) rfl rfl
theorem eX1_pairs_1 {ev : xV} {v0 v1 v2 v3 v4 : Option Value} {x : Int32} {st : List Value} {h : xH} : exF ev cX1_pairs 1 ([v0, v1, v2, v3, v4], []) (.int x :: st) h = exF ev cX1_pairs 2 ([v0, v1, some (.int x), v3, v4], []) st h := exF_j (i := (i_istore 2 2)) rfl rfl
theorem eX1_pairs_2 {ev : xV} {v0 v1 v2 v3 v4 : Option Value} {st : List Value} {h : xH} : exF ev cX1_pairs 2 ([v0, v1, v2, v3, v4], []) st h = exF ev cX1_pairs 3 ([v0, v1, v2, v3, v4], []) (.int (nI 0) :: st) h := exF_j (i := (i_const (.int (nI 0)) 3)) rfl rfl
theorem eX1_pairs_3 {ev : xV} {v0 v1 v2 v3 v4 : Option Value} {x : Int32} {st : List Value} {h : xH} : exF ev cX1_pairs 3 ([v0, v1, v2, v3, v4], []) (.int x :: st) h = exF ev cX1_pairs 4 ([v0, v1, v2, some (.int x), v4], []) st h := exF_j (i := (i_istore 3 4)) rfl rfl
theorem eX1_pairs_4 {ev : xV} {v0 v1 v2 v4 : Option Value} {x : Int32} {st : List Value} {h : xH} : exF ev cX1_pairs 4 ([v0, v1, v2, some (.int x), v4], []) st h = exF ev cX1_pairs 5 ([v0, v1, v2, some (.int x), v4], []) (.int x :: st) h := exF_j (i := (i_iload 3 5)) rfl rfl
theorem eX1_pairs_5 {ev : xV} {v1 v2 v3 v4 : Option Value} {x : Nat} {st : List Value} {h : xH} : exF ev cX1_pairs 5 ([some (.ref x), v1, v2, v3, v4], []) st h = exF ev cX1_pairs 6 ([some (.ref x), v1, v2, v3, v4], []) (.ref x :: st) h := exF_j (i := (i_aload 0 6)) rfl rfl
theorem eX1_pairs_6 {ev : xV} {v0 v1 v2 v3 v4 : Option Value} {r0 : Value} {a : Nat} {h : xH} : exF ev cX1_pairs 6 ([v0, v1, v2, v3, v4], []) [.ref a, r0] h = xO (xck h a 0) (fun _ => xB (ev 101 [.ref a] h) (fun v h => exF ev cX1_pairs 9 ([v0, v1, v2, v3, v4], []) [v, r0] h)) := exF_cd (i := (i_cv 0 101 0 9)) rfl rfl
theorem eX1_pairs_9 {ev : xV} {v0 v1 v2 v3 v4 : Option Value} {x y : Int32} {st : List Value} {h : xH} : exF ev cX1_pairs 9 ([v0, v1, v2, v3, v4], []) (.int y :: .int x :: st) h = if y ≤ x then exF ev cX1_pairs 66 ([v0, v1, v2, v3, v4], []) st h else exF ev cX1_pairs 12 ([v0, v1, v2, v3, v4], []) st h := exF_b (i := (i_if2 (fun x y => y ≤ x) 66 12)) rfl rfl
theorem eX1_pairs_12 {ev : xV} {v0 v1 v2 v3 v4 : Option Value} {st : List Value} {h : xH} : exF ev cX1_pairs 12 ([v0, v1, v2, v3, v4], []) st h = exF ev cX1_pairs 13 ([v0, v1, v2, v3, v4], []) (.int (nI 0) :: st) h := exF_j (i := (i_const (.int (nI 0)) 13)) rfl rfl
theorem eX1_pairs_13 {ev : xV} {v0 v1 v2 v3 v4 : Option Value} {x : Int32} {st : List Value} {h : xH} : exF ev cX1_pairs 13 ([v0, v1, v2, v3, v4], []) (.int x :: st) h = exF ev cX1_pairs 15 ([v0, v1, v2, v3, some (.int x)], []) st h := exF_j (i := (i_istore 4 15)) rfl rfl
theorem eX1_pairs_15 {ev : xV} {v0 v1 v2 v3 : Option Value} {x : Int32} {st : List Value} {h : xH} : exF ev cX1_pairs 15 ([v0, v1, v2, v3, some (.int x)], []) st h = exF ev cX1_pairs 17 ([v0, v1, v2, v3, some (.int x)], []) (.int x :: st) h := exF_j (i := (i_iload 4 17)) rfl rfl
theorem eX1_pairs_17 {ev : xV} {v0 v1 v2 v4 : Option Value} {x : Int32} {st : List Value} {h : xH} : exF ev cX1_pairs 17 ([v0, v1, v2, some (.int x), v4], []) st h = exF ev cX1_pairs 18 ([v0, v1, v2, some (.int x), v4], []) (.int x :: st) h := exF_j (i := (i_iload 3 18)) rfl rfl
theorem eX1_pairs_18 {ev : xV} {v0 v1 v2 v3 v4 : Option Value} {x y : Int32} {st : List Value} {h : xH} : exF ev cX1_pairs 18 ([v0, v1, v2, v3, v4], []) (.int y :: .int x :: st) h = if y ≤ x then exF ev cX1_pairs 60 ([v0, v1, v2, v3, v4], []) st h else exF ev cX1_pairs 21 ([v0, v1, v2, v3, v4], []) st h := exF_b (i := (i_if2 (fun x y => y ≤ x) 60 21)) rfl rfl
theorem eX1_pairs_21 {ev : xV} {v1 v2 v3 v4 : Option Value} {x : Nat} {st : List Value} {h : xH} : exF ev cX1_pairs 21 ([some (.ref x), v1, v2, v3, v4], []) st h = exF ev cX1_pairs 22 ([some (.ref x), v1, v2, v3, v4], []) (.ref x :: st) h := exF_j (i := (i_aload 0 22)) rfl rfl
theorem eX1_pairs_22 {ev : xV} {v1 v2 v3 v4 : Option Value} {x : Nat} {st : List Value} {h : xH} : exF ev cX1_pairs 22 ([some (.ref x), v1, v2, v3, v4], []) st h = exF ev cX1_pairs 23 ([some (.ref x), v1, v2, v3, v4], []) (.ref x :: st) h := exF_j (i := (i_aload 0 23)) rfl rfl
theorem eX1_pairs_23 {ev : xV} {v0 v1 v2 v3 v4 : Option Value} {a : Nat} {st : List Value} {h : xH} : exF ev cX1_pairs 23 ([v0, v1, v2, v3, v4], []) (.ref a :: st) h = xO (xgf h a 0 4) (fun v => exF ev cX1_pairs 26 ([v0, v1, v2, v3, v4], []) (v :: st) h) := exF_o (i := (i_getf 0 4 26)) rfl rfl
theorem eX1_pairs_26 {ev : xV} {v0 v1 v2 v3 v4 : Option Value} {a : Nat} {st : List Value} {h : xH} : exF ev cX1_pairs 26 ([v0, v1, v2, v3, v4], []) (.ref a :: st) h = xO (xgf h a 3 2) (fun v => exF ev cX1_pairs 29 ([v0, v1, v2, v3, v4], []) (v :: st) h) := exF_o (i := (i_getf 3 2 29)) rfl rfl
theorem eX1_pairs_29 {ev : xV} {v0 v1 v2 v4 : Option Value} {x : Int32} {st : List Value} {h : xH} : exF ev cX1_pairs 29 ([v0, v1, v2, some (.int x), v4], []) st h = exF ev cX1_pairs 30 ([v0, v1, v2, some (.int x), v4], []) (.int x :: st) h := exF_j (i := (i_iload 3 30)) rfl rfl
theorem eX1_pairs_30 {ev : xV} {v0 v1 v2 v3 v4 : Option Value} {i : Int32} {a : Nat} {st : List Value} {h : xH} : exF ev cX1_pairs 30 ([v0, v1, v2, v3, v4], []) (.int i :: .ref a :: st) h = xO (xai h 0 a i) (fun v => exF ev cX1_pairs 31 ([v0, v1, v2, v3, v4], []) (.int v :: st) h) := exF_o (i := (i_ai 0 31)) rfl rfl
theorem eX1_pairs_31 {ev : xV} {v0 v2 v3 v4 : Option Value} {x : Int32} {st : List Value} {h : xH} : exF ev cX1_pairs 31 ([v0, some (.int x), v2, v3, v4], []) st h = exF ev cX1_pairs 32 ([v0, some (.int x), v2, v3, v4], []) (.int x :: st) h := exF_j (i := (i_iload 1 32)) rfl rfl
theorem eX1_pairs_32 {ev : xV} {v0 v1 v2 v3 v4 : Option Value} {a0 : Value} {a1 : Value} {a : Nat} {h : xH} : exF ev cX1_pairs 32 ([v0, v1, v2, v3, v4], []) [a1, a0, .ref a] h = xO (xck h a 0) (fun _ => xB (ev 122 [.ref a, a0, a1] h) (fun v h => exF ev cX1_pairs 35 ([v0, v1, v2, v3, v4], []) [v] h)) := exF_cd (i := (i_cv 0 122 2 35)) rfl rfl
theorem eX1_pairs_35 {ev : xV} {v1 v2 v3 v4 : Option Value} {x : Nat} {st : List Value} {h : xH} : exF ev cX1_pairs 35 ([some (.ref x), v1, v2, v3, v4], []) st h = exF ev cX1_pairs 36 ([some (.ref x), v1, v2, v3, v4], []) (.ref x :: st) h := exF_j (i := (i_aload 0 36)) rfl rfl
theorem eX1_pairs_36 {ev : xV} {v0 v1 v2 v3 v4 : Option Value} {a : Nat} {st : List Value} {h : xH} : exF ev cX1_pairs 36 ([v0, v1, v2, v3, v4], []) (.ref a :: st) h = xO (xgf h a 0 4) (fun v => exF ev cX1_pairs 39 ([v0, v1, v2, v3, v4], []) (v :: st) h) := exF_o (i := (i_getf 0 4 39)) rfl rfl
theorem eX1_pairs_39 {ev : xV} {v0 v1 v2 v3 v4 : Option Value} {a : Nat} {st : List Value} {h : xH} : exF ev cX1_pairs 39 ([v0, v1, v2, v3, v4], []) (.ref a :: st) h = xO (xgf h a 3 2) (fun v => exF ev cX1_pairs 42 ([v0, v1, v2, v3, v4], []) (v :: st) h) := exF_o (i := (i_getf 3 2 42)) rfl rfl
theorem eX1_pairs_42 {ev : xV} {v0 v1 v2 v3 : Option Value} {x : Int32} {st : List Value} {h : xH} : exF ev cX1_pairs 42 ([v0, v1, v2, v3, some (.int x)], []) st h = exF ev cX1_pairs 44 ([v0, v1, v2, v3, some (.int x)], []) (.int x :: st) h := exF_j (i := (i_iload 4 44)) rfl rfl
theorem eX1_pairs_44 {ev : xV} {v0 v1 v2 v3 v4 : Option Value} {i : Int32} {a : Nat} {st : List Value} {h : xH} : exF ev cX1_pairs 44 ([v0, v1, v2, v3, v4], []) (.int i :: .ref a :: st) h = xO (xai h 0 a i) (fun v => exF ev cX1_pairs 45 ([v0, v1, v2, v3, v4], []) (.int v :: st) h) := exF_o (i := (i_ai 0 45)) rfl rfl
theorem eX1_pairs_45 {ev : xV} {v0 v1 v2 v3 v4 : Option Value} {a0 : Value} {a1 : Value} {h : xH} : exF ev cX1_pairs 45 ([v0, v1, v2, v3, v4], []) [a1, a0] h = xB (ev 98 [a0, a1] h) (fun v h => exF ev cX1_pairs 48 ([v0, v1, v2, v3, v4], []) [v] h) := exF_c (i := (i_cs 98 2 48)) rfl rfl
theorem eX1_pairs_48 {ev : xV} {v0 v1 v2 v3 v4 : Option Value} {x : Int32} {st : List Value} {h : xH} : exF ev cX1_pairs 48 ([v0, v1, v2, v3, v4], []) (.int x :: st) h = if x = 0 then exF ev cX1_pairs 54 ([v0, v1, v2, v3, v4], []) st h else exF ev cX1_pairs 51 ([v0, v1, v2, v3, v4], []) st h := exF_b (i := (i_if1 (fun x => x = 0) 54 51)) rfl rfl
theorem eX1_pairs_51 {ev : xV} {v0 v1 v3 v4 : Option Value} {x : Int32} {st : List Value} {h : xH} : exF ev cX1_pairs 51 ([v0, v1, some (.int x), v3, v4], []) st h = exF ev cX1_pairs 54 ([v0, v1, some (.int (x + (nI 1))), v3, v4], []) st h := exF_j (i := (i_iinc 2 (nI 1) 54)) rfl rfl
theorem eX1_pairs_54 {ev : xV} {v0 v1 v2 v3 : Option Value} {x : Int32} {st : List Value} {h : xH} : exF ev cX1_pairs 54 ([v0, v1, v2, v3, some (.int x)], []) st h = exF ev cX1_pairs 57 ([v0, v1, v2, v3, some (.int (x + (nI 1)))], []) st h := exF_j (i := (i_iinc 4 (nI 1) 57)) rfl rfl
theorem eX1_pairs_57 {ev : xV} {v0 v1 v2 v3 v4 : Option Value} {st : List Value} {h : xH} : exF ev cX1_pairs 57 ([v0, v1, v2, v3, v4], []) st h = exF ev cX1_pairs 15 ([v0, v1, v2, v3, v4], []) st h := exF_j (i := (i_goto 15)) rfl rfl
theorem eX1_pairs_60 {ev : xV} {v0 v1 v2 v4 : Option Value} {x : Int32} {st : List Value} {h : xH} : exF ev cX1_pairs 60 ([v0, v1, v2, some (.int x), v4], []) st h = exF ev cX1_pairs 63 ([v0, v1, v2, some (.int (x + (nI 1))), v4], []) st h := exF_j (i := (i_iinc 3 (nI 1) 63)) rfl rfl
theorem eX1_pairs_63 {ev : xV} {v0 v1 v2 v3 v4 : Option Value} {st : List Value} {h : xH} : exF ev cX1_pairs 63 ([v0, v1, v2, v3, v4], []) st h = exF ev cX1_pairs 4 ([v0, v1, v2, v3, v4], []) st h := exF_j (i := (i_goto 4)) rfl rfl
theorem eX1_pairs_66 {ev : xV} {v0 v1 v3 v4 : Option Value} {x : Int32} {st : List Value} {h : xH} : exF ev cX1_pairs 66 ([v0, v1, some (.int x), v3, v4], []) st h = exF ev cX1_pairs 67 ([v0, v1, some (.int x), v3, v4], []) (.int x :: st) h := exF_j (i := (i_iload 2 67)) rfl rfl
theorem eX1_pairs_67 {ev : xV} {v0 v1 v2 v3 v4 : Option Value} {x : Int32} {h : xH} : exF ev cX1_pairs 67 ([v0, v1, v2, v3, v4], []) [.int x] h = some (.inl (some (.int x)), h) := exF_r (i := (i_iret)) rfl rfl
noncomputable def cX1_chance : xC := [(0, i_aload 0 1),
  (1, i_iload 1 2),
  (2, i_cv 0 95 1 5),
  (5, i_if1 (fun x => x = 0) 28 8),
  (8, i_iload 2 9),
  (9, i_const (.int (nI 1)) 10),
  (10, i_const (.int (nI 6)) 12),
  (12, i_cs 92 3 15),
  (15, i_if1 (fun x => x = 0) 28 18),
  (18, i_iload 3 19),
  (19, i_const (.int (nI 0)) 20),
  (20, i_const (.int (nI 10)) 22),
  (22, i_cs 92 3 25),
  (25, i_if1 (fun x => ¬ x = 0) 30 28),
  (28, i_const (.int (-1)) 29),
  (29, i_iret),
  (30, i_const (.long (lN 0)) 31),
  (31, i_lstore 4 33),
  (33, i_const (.long (lN 1)) 34),
  (34, i_lstore 6 36),
  (36, i_const (.int (nI 0)) 37),
  (37, i_istore 8 39),
  (39, i_iload 8 41),
  (41, i_iload 2 42),
  (42, i_if2 (fun x y => y ≤ x) 59 45),
  (45, i_lload 6 47),
  (47, i_const (.long (lN 10)) 50),
  (50, i_ll (fun x y => x * y) 51),
  (51, i_lstore 6 53),
  (53, i_iinc 8 (nI 1) 56),
  (56, i_goto 39),
  (59, i_const (.int (nI 0)) 60),
  (60, i_istore 8 62),
  (62, i_iload 8 64),
  (64, i_const (.int (nI 1)) 65),
  (65, i_iload 2 66),
  (66, i_ii (fun x y => x <<< (y &&& 31)) 67),
  (67, i_if2 (fun x y => y ≤ x) 172 70),
  (70, i_const (.long (lN 1)) 71),
  (71, i_lstore 9 73),
  (73, i_aload 0 74),
  (74, i_getf 0 5 77),
  (77, i_aload 0 78),
  (78, i_getf 0 4 81),
  (81, i_cvv 3 239 1 84),
  (84, i_const (.int (nI 0)) 85),
  (85, i_istore 11 87),
  (87, i_iload 11 89),
  (89, i_iload 2 90),
  (90, i_if2 (fun x y => y ≤ x) 148 93),
  (93, i_lload 9 95),
  (95, i_iload 8 97),
  (97, i_iload 11 99),
  (99, i_cs 98 2 102),
  (102, i_if1 (fun x => x = 0) 110 105),
  (105, i_iload 3 106),
  (106, i_i2l 107),
  (107, i_goto 115),
  (110, i_const (.int (nI 10)) 112),
  (112, i_iload 3 113),
  (113, i_ii (fun x y => x - y) 114),
  (114, i_i2l 115),
  (115, i_ll (fun x y => x * y) 116),
  (116, i_lstore 9 118),
  (118, i_aload 0 119),
  (119, i_aload 0 120),
  (120, i_getf 0 5 123),
  (123, i_iload 8 125),
  (125, i_iload 11 127),
  (127, i_cs 98 2 130),
  (130, i_if1 (fun x => x = 0) 138 133),
  (133, i_const (.int (nI 9)) 135),
  (135, i_goto 139),
  (138, i_const (.int (nI 0)) 139),
  (139, i_cvv 0 105 2 142),
  (142, i_iinc 11 (nI 1) 145),
  (145, i_goto 87),
  (148, i_aload 0 149),
  (149, i_getf 0 5 152),
  (152, i_iload 1 153),
  (153, i_cv 3 238 1 156),
  (156, i_if1 (fun x => x = 0) 166 159),
  (159, i_lload 4 161),
  (161, i_lload 9 163),
  (163, i_ll (fun x y => x + y) 164),
  (164, i_lstore 4 166),
  (166, i_iinc 8 (nI 1) 169),
  (169, i_goto 62),
  (172, i_lload 4 174),
  (174, i_const (.long (lN 1000000)) 177),
  (177, i_ll (fun x y => x * y) 178),
  (178, i_lload 6 180),
  (180, i_lz (fun x y => x / y) 181),
  (181, i_l2i 182),
  (182, i_iret)]
theorem eX1_chance_0 {ev : xV} {v1 v2 v3 v4 v5 v6 v7 v8 v9 v10 v11 : Option Value} {w0 w1 w2 w3 w4 w5 w6 w7 w8 w9 w10 w11 : Option Int64} {x : Nat} {st : List Value} {h : xH} : exF ev cX1_chance 0 ([some (.ref x), v1, v2, v3, v4, v5, v6, v7, v8, v9, v10, v11], [w0, w1, w2, w3, w4, w5, w6, w7, w8, w9, w10, w11]) st h = exF ev cX1_chance 1 ([some (.ref x), v1, v2, v3, v4, v5, v6, v7, v8, v9, v10, v11], [w0, w1, w2, w3, w4, w5, w6, w7, w8, w9, w10, w11]) (.ref x :: st) h := exF_j (i := (i_aload 0 1)) rfl rfl
theorem eX1_chance_1 {ev : xV} {v0 v2 v3 v4 v5 v6 v7 v8 v9 v10 v11 : Option Value} {w0 w1 w2 w3 w4 w5 w6 w7 w8 w9 w10 w11 : Option Int64} {x : Int32} {st : List Value} {h : xH} : exF ev cX1_chance 1 ([v0, some (.int x), v2, v3, v4, v5, v6, v7, v8, v9, v10, v11], [w0, w1, w2, w3, w4, w5, w6, w7, w8, w9, w10, w11]) st h = exF ev cX1_chance 2 ([v0, some (.int x), v2, v3, v4, v5, v6, v7, v8, v9, v10, v11], [w0, w1, w2, w3, w4, w5, w6, w7, w8, w9, w10, w11]) (.int x :: st) h := exF_j (i := (i_iload 1 2)) rfl rfl
theorem eX1_chance_2 {ev : xV} {v0 v1 v2 v3 v4 v5 v6 v7 v8 v9 v10 v11 : Option Value} {w0 w1 w2 w3 w4 w5 w6 w7 w8 w9 w10 w11 : Option Int64} {a0 : Value} {a : Nat} {h : xH} : exF ev cX1_chance 2 ([v0, v1, v2, v3, v4, v5, v6, v7, v8, v9, v10, v11], [w0, w1, w2, w3, w4, w5, w6, w7, w8, w9, w10, w11]) [a0, .ref a] h = xO (xck h a 0) (fun _ => xB (ev 95 [.ref a, a0] h) (fun v h => exF ev cX1_chance 5 ([v0, v1, v2, v3, v4, v5, v6, v7, v8, v9, v10, v11], [w0, w1, w2, w3, w4, w5, w6, w7, w8, w9, w10, w11]) [v] h)) := exF_cd (i := (i_cv 0 95 1 5)) rfl rfl
theorem eX1_chance_5 {ev : xV} {v0 v1 v2 v3 v4 v5 v6 v7 v8 v9 v10 v11 : Option Value} {w0 w1 w2 w3 w4 w5 w6 w7 w8 w9 w10 w11 : Option Int64} {x : Int32} {st : List Value} {h : xH} : exF ev cX1_chance 5 ([v0, v1, v2, v3, v4, v5, v6, v7, v8, v9, v10, v11], [w0, w1, w2, w3, w4, w5, w6, w7, w8, w9, w10, w11]) (.int x :: st) h = if x = 0 then exF ev cX1_chance 28 ([v0, v1, v2, v3, v4, v5, v6, v7, v8, v9, v10, v11], [w0, w1, w2, w3, w4, w5, w6, w7, w8, w9, w10, w11]) st h else exF ev cX1_chance 8 ([v0, v1, v2, v3, v4, v5, v6, v7, v8, v9, v10, v11], [w0, w1, w2, w3, w4, w5, w6, w7, w8, w9, w10, w11]) st h := exF_b (i := (i_if1 (fun x => x = 0) 28 8)) rfl rfl
theorem eX1_chance_8 {ev : xV} {v0 v1 v3 v4 v5 v6 v7 v8 v9 v10 v11 : Option Value} {w0 w1 w2 w3 w4 w5 w6 w7 w8 w9 w10 w11 : Option Int64} {x : Int32} {st : List Value} {h : xH} : exF ev cX1_chance 8 ([v0, v1, some (.int x), v3, v4, v5, v6, v7, v8, v9, v10, v11], [w0, w1, w2, w3, w4, w5, w6, w7, w8, w9, w10, w11]) st h = exF ev cX1_chance 9 ([v0, v1, some (.int x), v3, v4, v5, v6, v7, v8, v9, v10, v11], [w0, w1, w2, w3, w4, w5, w6, w7, w8, w9, w10, w11]) (.int x :: st) h := exF_j (i := (i_iload 2 9)) rfl rfl
theorem eX1_chance_9 {ev : xV} {v0 v1 v2 v3 v4 v5 v6 v7 v8 v9 v10 v11 : Option Value} {w0 w1 w2 w3 w4 w5 w6 w7 w8 w9 w10 w11 : Option Int64} {st : List Value} {h : xH} : exF ev cX1_chance 9 ([v0, v1, v2, v3, v4, v5, v6, v7, v8, v9, v10, v11], [w0, w1, w2, w3, w4, w5, w6, w7, w8, w9, w10, w11]) st h = exF ev cX1_chance 10 ([v0, v1, v2, v3, v4, v5, v6, v7, v8, v9, v10, v11], [w0, w1, w2, w3, w4, w5, w6, w7, w8, w9, w10, w11]) (.int (nI 1) :: st) h := exF_j (i := (i_const (.int (nI 1)) 10)) rfl rfl
theorem eX1_chance_10 {ev : xV} {v0 v1 v2 v3 v4 v5 v6 v7 v8 v9 v10 v11 : Option Value} {w0 w1 w2 w3 w4 w5 w6 w7 w8 w9 w10 w11 : Option Int64} {st : List Value} {h : xH} : exF ev cX1_chance 10 ([v0, v1, v2, v3, v4, v5, v6, v7, v8, v9, v10, v11], [w0, w1, w2, w3, w4, w5, w6, w7, w8, w9, w10, w11]) st h = exF ev cX1_chance 12 ([v0, v1, v2, v3, v4, v5, v6, v7, v8, v9, v10, v11], [w0, w1, w2, w3, w4, w5, w6, w7, w8, w9, w10, w11]) (.int (nI 6) :: st) h := exF_j (i := (i_const (.int (nI 6)) 12)) rfl rfl
theorem eX1_chance_12 {ev : xV} {v0 v1 v2 v3 v4 v5 v6 v7 v8 v9 v10 v11 : Option Value} {w0 w1 w2 w3 w4 w5 w6 w7 w8 w9 w10 w11 : Option Int64} {a0 : Value} {a1 : Value} {a2 : Value} {h : xH} : exF ev cX1_chance 12 ([v0, v1, v2, v3, v4, v5, v6, v7, v8, v9, v10, v11], [w0, w1, w2, w3, w4, w5, w6, w7, w8, w9, w10, w11]) [a2, a1, a0] h = xB (ev 92 [a0, a1, a2] h) (fun v h => exF ev cX1_chance 15 ([v0, v1, v2, v3, v4, v5, v6, v7, v8, v9, v10, v11], [w0, w1, w2, w3, w4, w5, w6, w7, w8, w9, w10, w11]) [v] h) := exF_c (i := (i_cs 92 3 15)) rfl rfl
theorem eX1_chance_15 {ev : xV} {v0 v1 v2 v3 v4 v5 v6 v7 v8 v9 v10 v11 : Option Value} {w0 w1 w2 w3 w4 w5 w6 w7 w8 w9 w10 w11 : Option Int64} {x : Int32} {st : List Value} {h : xH} : exF ev cX1_chance 15 ([v0, v1, v2, v3, v4, v5, v6, v7, v8, v9, v10, v11], [w0, w1, w2, w3, w4, w5, w6, w7, w8, w9, w10, w11]) (.int x :: st) h = if x = 0 then exF ev cX1_chance 28 ([v0, v1, v2, v3, v4, v5, v6, v7, v8, v9, v10, v11], [w0, w1, w2, w3, w4, w5, w6, w7, w8, w9, w10, w11]) st h else exF ev cX1_chance 18 ([v0, v1, v2, v3, v4, v5, v6, v7, v8, v9, v10, v11], [w0, w1, w2, w3, w4, w5, w6, w7, w8, w9, w10, w11]) st h := exF_b (i := (i_if1 (fun x => x = 0) 28 18)) rfl rfl
theorem eX1_chance_18 {ev : xV} {v0 v1 v2 v4 v5 v6 v7 v8 v9 v10 v11 : Option Value} {w0 w1 w2 w3 w4 w5 w6 w7 w8 w9 w10 w11 : Option Int64} {x : Int32} {st : List Value} {h : xH} : exF ev cX1_chance 18 ([v0, v1, v2, some (.int x), v4, v5, v6, v7, v8, v9, v10, v11], [w0, w1, w2, w3, w4, w5, w6, w7, w8, w9, w10, w11]) st h = exF ev cX1_chance 19 ([v0, v1, v2, some (.int x), v4, v5, v6, v7, v8, v9, v10, v11], [w0, w1, w2, w3, w4, w5, w6, w7, w8, w9, w10, w11]) (.int x :: st) h := exF_j (i := (i_iload 3 19)) rfl rfl
theorem eX1_chance_19 {ev : xV} {v0 v1 v2 v3 v4 v5 v6 v7 v8 v9 v10 v11 : Option Value} {w0 w1 w2 w3 w4 w5 w6 w7 w8 w9 w10 w11 : Option Int64} {st : List Value} {h : xH} : exF ev cX1_chance 19 ([v0, v1, v2, v3, v4, v5, v6, v7, v8, v9, v10, v11], [w0, w1, w2, w3, w4, w5, w6, w7, w8, w9, w10, w11]) st h = exF ev cX1_chance 20 ([v0, v1, v2, v3, v4, v5, v6, v7, v8, v9, v10, v11], [w0, w1, w2, w3, w4, w5, w6, w7, w8, w9, w10, w11]) (.int (nI 0) :: st) h := exF_j (i := (i_const (.int (nI 0)) 20)) rfl rfl
theorem eX1_chance_20 {ev : xV} {v0 v1 v2 v3 v4 v5 v6 v7 v8 v9 v10 v11 : Option Value} {w0 w1 w2 w3 w4 w5 w6 w7 w8 w9 w10 w11 : Option Int64} {st : List Value} {h : xH} : exF ev cX1_chance 20 ([v0, v1, v2, v3, v4, v5, v6, v7, v8, v9, v10, v11], [w0, w1, w2, w3, w4, w5, w6, w7, w8, w9, w10, w11]) st h = exF ev cX1_chance 22 ([v0, v1, v2, v3, v4, v5, v6, v7, v8, v9, v10, v11], [w0, w1, w2, w3, w4, w5, w6, w7, w8, w9, w10, w11]) (.int (nI 10) :: st) h := exF_j (i := (i_const (.int (nI 10)) 22)) rfl rfl
theorem eX1_chance_22 {ev : xV} {v0 v1 v2 v3 v4 v5 v6 v7 v8 v9 v10 v11 : Option Value} {w0 w1 w2 w3 w4 w5 w6 w7 w8 w9 w10 w11 : Option Int64} {a0 : Value} {a1 : Value} {a2 : Value} {h : xH} : exF ev cX1_chance 22 ([v0, v1, v2, v3, v4, v5, v6, v7, v8, v9, v10, v11], [w0, w1, w2, w3, w4, w5, w6, w7, w8, w9, w10, w11]) [a2, a1, a0] h = xB (ev 92 [a0, a1, a2] h) (fun v h => exF ev cX1_chance 25 ([v0, v1, v2, v3, v4, v5, v6, v7, v8, v9, v10, v11], [w0, w1, w2, w3, w4, w5, w6, w7, w8, w9, w10, w11]) [v] h) := exF_c (i := (i_cs 92 3 25)) rfl rfl
theorem eX1_chance_25 {ev : xV} {v0 v1 v2 v3 v4 v5 v6 v7 v8 v9 v10 v11 : Option Value} {w0 w1 w2 w3 w4 w5 w6 w7 w8 w9 w10 w11 : Option Int64} {x : Int32} {st : List Value} {h : xH} : exF ev cX1_chance 25 ([v0, v1, v2, v3, v4, v5, v6, v7, v8, v9, v10, v11], [w0, w1, w2, w3, w4, w5, w6, w7, w8, w9, w10, w11]) (.int x :: st) h = if ¬ x = 0 then exF ev cX1_chance 30 ([v0, v1, v2, v3, v4, v5, v6, v7, v8, v9, v10, v11], [w0, w1, w2, w3, w4, w5, w6, w7, w8, w9, w10, w11]) st h else exF ev cX1_chance 28 ([v0, v1, v2, v3, v4, v5, v6, v7, v8, v9, v10, v11], [w0, w1, w2, w3, w4, w5, w6, w7, w8, w9, w10, w11]) st h := exF_b (i := (i_if1 (fun x => ¬ x = 0) 30 28)) rfl rfl
theorem eX1_chance_28 {ev : xV} {v0 v1 v2 v3 v4 v5 v6 v7 v8 v9 v10 v11 : Option Value} {w0 w1 w2 w3 w4 w5 w6 w7 w8 w9 w10 w11 : Option Int64} {st : List Value} {h : xH} : exF ev cX1_chance 28 ([v0, v1, v2, v3, v4, v5, v6, v7, v8, v9, v10, v11], [w0, w1, w2, w3, w4, w5, w6, w7, w8, w9, w10, w11]) st h = exF ev cX1_chance 29 ([v0, v1, v2, v3, v4, v5, v6, v7, v8, v9, v10, v11], [w0, w1, w2, w3, w4, w5, w6, w7, w8, w9, w10, w11]) (.int (-1) :: st) h := exF_j (i := (i_const (.int (-1)) 29)) rfl rfl
theorem eX1_chance_29 {ev : xV} {v0 v1 v2 v3 v4 v5 v6 v7 v8 v9 v10 v11 : Option Value} {w0 w1 w2 w3 w4 w5 w6 w7 w8 w9 w10 w11 : Option Int64} {x : Int32} {h : xH} : exF ev cX1_chance 29 ([v0, v1, v2, v3, v4, v5, v6, v7, v8, v9, v10, v11], [w0, w1, w2, w3, w4, w5, w6, w7, w8, w9, w10, w11]) [.int x] h = some (.inl (some (.int x)), h) := exF_r (i := (i_iret)) rfl rfl
theorem eX1_chance_30 {ev : xV} {v0 v1 v2 v3 v4 v5 v6 v7 v8 v9 v10 v11 : Option Value} {w0 w1 w2 w3 w4 w5 w6 w7 w8 w9 w10 w11 : Option Int64} {st : List Value} {h : xH} : exF ev cX1_chance 30 ([v0, v1, v2, v3, v4, v5, v6, v7, v8, v9, v10, v11], [w0, w1, w2, w3, w4, w5, w6, w7, w8, w9, w10, w11]) st h = exF ev cX1_chance 31 ([v0, v1, v2, v3, v4, v5, v6, v7, v8, v9, v10, v11], [w0, w1, w2, w3, w4, w5, w6, w7, w8, w9, w10, w11]) (.long (lN 0) :: st) h := exF_j (i := (i_const (.long (lN 0)) 31)) rfl rfl
theorem eX1_chance_31 {ev : xV} {v0 v1 v2 v3 v4 v5 v6 v7 v8 v9 v10 v11 : Option Value} {w0 w1 w2 w3 w4 w5 w6 w7 w8 w9 w10 w11 : Option Int64} {x : Int64} {st : List Value} {h : xH} : exF ev cX1_chance 31 ([v0, v1, v2, v3, v4, v5, v6, v7, v8, v9, v10, v11], [w0, w1, w2, w3, w4, w5, w6, w7, w8, w9, w10, w11]) (.long x :: st) h = exF ev cX1_chance 33 ([v0, v1, v2, v3, none, none, v6, v7, v8, v9, v10, v11], [w0, w1, w2, none, some x, none, w6, w7, w8, w9, w10, w11]) st h := exF_j (i := (i_lstore 4 33)) rfl rfl
theorem eX1_chance_33 {ev : xV} {v0 v1 v2 v3 v4 v5 v6 v7 v8 v9 v10 v11 : Option Value} {w0 w1 w2 w3 w4 w5 w6 w7 w8 w9 w10 w11 : Option Int64} {st : List Value} {h : xH} : exF ev cX1_chance 33 ([v0, v1, v2, v3, v4, v5, v6, v7, v8, v9, v10, v11], [w0, w1, w2, w3, w4, w5, w6, w7, w8, w9, w10, w11]) st h = exF ev cX1_chance 34 ([v0, v1, v2, v3, v4, v5, v6, v7, v8, v9, v10, v11], [w0, w1, w2, w3, w4, w5, w6, w7, w8, w9, w10, w11]) (.long (lN 1) :: st) h := exF_j (i := (i_const (.long (lN 1)) 34)) rfl rfl
theorem eX1_chance_34 {ev : xV} {v0 v1 v2 v3 v4 v5 v6 v7 v8 v9 v10 v11 : Option Value} {w0 w1 w2 w3 w4 w5 w6 w7 w8 w9 w10 w11 : Option Int64} {x : Int64} {st : List Value} {h : xH} : exF ev cX1_chance 34 ([v0, v1, v2, v3, v4, v5, v6, v7, v8, v9, v10, v11], [w0, w1, w2, w3, w4, w5, w6, w7, w8, w9, w10, w11]) (.long x :: st) h = exF ev cX1_chance 36 ([v0, v1, v2, v3, v4, v5, none, none, v8, v9, v10, v11], [w0, w1, w2, w3, w4, none, some x, none, w8, w9, w10, w11]) st h := exF_j (i := (i_lstore 6 36)) rfl rfl
theorem eX1_chance_36 {ev : xV} {v0 v1 v2 v3 v4 v5 v6 v7 v8 v9 v10 v11 : Option Value} {w0 w1 w2 w3 w4 w5 w6 w7 w8 w9 w10 w11 : Option Int64} {st : List Value} {h : xH} : exF ev cX1_chance 36 ([v0, v1, v2, v3, v4, v5, v6, v7, v8, v9, v10, v11], [w0, w1, w2, w3, w4, w5, w6, w7, w8, w9, w10, w11]) st h = exF ev cX1_chance 37 ([v0, v1, v2, v3, v4, v5, v6, v7, v8, v9, v10, v11], [w0, w1, w2, w3, w4, w5, w6, w7, w8, w9, w10, w11]) (.int (nI 0) :: st) h := exF_j (i := (i_const (.int (nI 0)) 37)) rfl rfl
theorem eX1_chance_37 {ev : xV} {v0 v1 v2 v3 v4 v5 v6 v7 v8 v9 v10 v11 : Option Value} {w0 w1 w2 w3 w4 w5 w6 w7 w8 w9 w10 w11 : Option Int64} {x : Int32} {st : List Value} {h : xH} : exF ev cX1_chance 37 ([v0, v1, v2, v3, v4, v5, v6, v7, v8, v9, v10, v11], [w0, w1, w2, w3, w4, w5, w6, w7, w8, w9, w10, w11]) (.int x :: st) h = exF ev cX1_chance 39 ([v0, v1, v2, v3, v4, v5, v6, v7, some (.int x), v9, v10, v11], [w0, w1, w2, w3, w4, w5, w6, none, none, w9, w10, w11]) st h := exF_j (i := (i_istore 8 39)) rfl rfl
theorem eX1_chance_39 {ev : xV} {v0 v1 v2 v3 v4 v5 v6 v7 v9 v10 v11 : Option Value} {w0 w1 w2 w3 w4 w5 w6 w7 w8 w9 w10 w11 : Option Int64} {x : Int32} {st : List Value} {h : xH} : exF ev cX1_chance 39 ([v0, v1, v2, v3, v4, v5, v6, v7, some (.int x), v9, v10, v11], [w0, w1, w2, w3, w4, w5, w6, w7, w8, w9, w10, w11]) st h = exF ev cX1_chance 41 ([v0, v1, v2, v3, v4, v5, v6, v7, some (.int x), v9, v10, v11], [w0, w1, w2, w3, w4, w5, w6, w7, w8, w9, w10, w11]) (.int x :: st) h := exF_j (i := (i_iload 8 41)) rfl rfl
theorem eX1_chance_41 {ev : xV} {v0 v1 v3 v4 v5 v6 v7 v8 v9 v10 v11 : Option Value} {w0 w1 w2 w3 w4 w5 w6 w7 w8 w9 w10 w11 : Option Int64} {x : Int32} {st : List Value} {h : xH} : exF ev cX1_chance 41 ([v0, v1, some (.int x), v3, v4, v5, v6, v7, v8, v9, v10, v11], [w0, w1, w2, w3, w4, w5, w6, w7, w8, w9, w10, w11]) st h = exF ev cX1_chance 42 ([v0, v1, some (.int x), v3, v4, v5, v6, v7, v8, v9, v10, v11], [w0, w1, w2, w3, w4, w5, w6, w7, w8, w9, w10, w11]) (.int x :: st) h := exF_j (i := (i_iload 2 42)) rfl rfl
theorem eX1_chance_42 {ev : xV} {v0 v1 v2 v3 v4 v5 v6 v7 v8 v9 v10 v11 : Option Value} {w0 w1 w2 w3 w4 w5 w6 w7 w8 w9 w10 w11 : Option Int64} {x y : Int32} {st : List Value} {h : xH} : exF ev cX1_chance 42 ([v0, v1, v2, v3, v4, v5, v6, v7, v8, v9, v10, v11], [w0, w1, w2, w3, w4, w5, w6, w7, w8, w9, w10, w11]) (.int y :: .int x :: st) h = if y ≤ x then exF ev cX1_chance 59 ([v0, v1, v2, v3, v4, v5, v6, v7, v8, v9, v10, v11], [w0, w1, w2, w3, w4, w5, w6, w7, w8, w9, w10, w11]) st h else exF ev cX1_chance 45 ([v0, v1, v2, v3, v4, v5, v6, v7, v8, v9, v10, v11], [w0, w1, w2, w3, w4, w5, w6, w7, w8, w9, w10, w11]) st h := exF_b (i := (i_if2 (fun x y => y ≤ x) 59 45)) rfl rfl
theorem eX1_chance_45 {ev : xV} {v0 v1 v2 v3 v4 v5 v6 v7 v8 v9 v10 v11 : Option Value} {w0 w1 w2 w3 w4 w5 w7 w8 w9 w10 w11 : Option Int64} {x : Int64} {st : List Value} {h : xH} : exF ev cX1_chance 45 ([v0, v1, v2, v3, v4, v5, v6, v7, v8, v9, v10, v11], [w0, w1, w2, w3, w4, w5, some x, w7, w8, w9, w10, w11]) st h = exF ev cX1_chance 47 ([v0, v1, v2, v3, v4, v5, v6, v7, v8, v9, v10, v11], [w0, w1, w2, w3, w4, w5, some x, w7, w8, w9, w10, w11]) (.long x :: st) h := exF_j (i := (i_lload 6 47)) rfl rfl
theorem eX1_chance_47 {ev : xV} {v0 v1 v2 v3 v4 v5 v6 v7 v8 v9 v10 v11 : Option Value} {w0 w1 w2 w3 w4 w5 w6 w7 w8 w9 w10 w11 : Option Int64} {st : List Value} {h : xH} : exF ev cX1_chance 47 ([v0, v1, v2, v3, v4, v5, v6, v7, v8, v9, v10, v11], [w0, w1, w2, w3, w4, w5, w6, w7, w8, w9, w10, w11]) st h = exF ev cX1_chance 50 ([v0, v1, v2, v3, v4, v5, v6, v7, v8, v9, v10, v11], [w0, w1, w2, w3, w4, w5, w6, w7, w8, w9, w10, w11]) (.long (lN 10) :: st) h := exF_j (i := (i_const (.long (lN 10)) 50)) rfl rfl
theorem eX1_chance_50 {ev : xV} {v0 v1 v2 v3 v4 v5 v6 v7 v8 v9 v10 v11 : Option Value} {w0 w1 w2 w3 w4 w5 w6 w7 w8 w9 w10 w11 : Option Int64} {x y : Int64} {st : List Value} {h : xH} : exF ev cX1_chance 50 ([v0, v1, v2, v3, v4, v5, v6, v7, v8, v9, v10, v11], [w0, w1, w2, w3, w4, w5, w6, w7, w8, w9, w10, w11]) (.long y :: .long x :: st) h = exF ev cX1_chance 51 ([v0, v1, v2, v3, v4, v5, v6, v7, v8, v9, v10, v11], [w0, w1, w2, w3, w4, w5, w6, w7, w8, w9, w10, w11]) (.long (x * y) :: st) h := exF_j (i := (i_ll (fun x y => x * y) 51)) rfl rfl
theorem eX1_chance_51 {ev : xV} {v0 v1 v2 v3 v4 v5 v6 v7 v8 v9 v10 v11 : Option Value} {w0 w1 w2 w3 w4 w5 w6 w7 w8 w9 w10 w11 : Option Int64} {x : Int64} {st : List Value} {h : xH} : exF ev cX1_chance 51 ([v0, v1, v2, v3, v4, v5, v6, v7, v8, v9, v10, v11], [w0, w1, w2, w3, w4, w5, w6, w7, w8, w9, w10, w11]) (.long x :: st) h = exF ev cX1_chance 53 ([v0, v1, v2, v3, v4, v5, none, none, v8, v9, v10, v11], [w0, w1, w2, w3, w4, none, some x, none, w8, w9, w10, w11]) st h := exF_j (i := (i_lstore 6 53)) rfl rfl
theorem eX1_chance_53 {ev : xV} {v0 v1 v2 v3 v4 v5 v6 v7 v9 v10 v11 : Option Value} {w0 w1 w2 w3 w4 w5 w6 w7 w8 w9 w10 w11 : Option Int64} {x : Int32} {st : List Value} {h : xH} : exF ev cX1_chance 53 ([v0, v1, v2, v3, v4, v5, v6, v7, some (.int x), v9, v10, v11], [w0, w1, w2, w3, w4, w5, w6, w7, w8, w9, w10, w11]) st h = exF ev cX1_chance 56 ([v0, v1, v2, v3, v4, v5, v6, v7, some (.int (x + (nI 1))), v9, v10, v11], [w0, w1, w2, w3, w4, w5, w6, none, none, w9, w10, w11]) st h := exF_j (i := (i_iinc 8 (nI 1) 56)) rfl rfl
theorem eX1_chance_56 {ev : xV} {v0 v1 v2 v3 v4 v5 v6 v7 v8 v9 v10 v11 : Option Value} {w0 w1 w2 w3 w4 w5 w6 w7 w8 w9 w10 w11 : Option Int64} {st : List Value} {h : xH} : exF ev cX1_chance 56 ([v0, v1, v2, v3, v4, v5, v6, v7, v8, v9, v10, v11], [w0, w1, w2, w3, w4, w5, w6, w7, w8, w9, w10, w11]) st h = exF ev cX1_chance 39 ([v0, v1, v2, v3, v4, v5, v6, v7, v8, v9, v10, v11], [w0, w1, w2, w3, w4, w5, w6, w7, w8, w9, w10, w11]) st h := exF_j (i := (i_goto 39)) rfl rfl
theorem eX1_chance_59 {ev : xV} {v0 v1 v2 v3 v4 v5 v6 v7 v8 v9 v10 v11 : Option Value} {w0 w1 w2 w3 w4 w5 w6 w7 w8 w9 w10 w11 : Option Int64} {st : List Value} {h : xH} : exF ev cX1_chance 59 ([v0, v1, v2, v3, v4, v5, v6, v7, v8, v9, v10, v11], [w0, w1, w2, w3, w4, w5, w6, w7, w8, w9, w10, w11]) st h = exF ev cX1_chance 60 ([v0, v1, v2, v3, v4, v5, v6, v7, v8, v9, v10, v11], [w0, w1, w2, w3, w4, w5, w6, w7, w8, w9, w10, w11]) (.int (nI 0) :: st) h := exF_j (i := (i_const (.int (nI 0)) 60)) rfl rfl
theorem eX1_chance_60 {ev : xV} {v0 v1 v2 v3 v4 v5 v6 v7 v8 v9 v10 v11 : Option Value} {w0 w1 w2 w3 w4 w5 w6 w7 w8 w9 w10 w11 : Option Int64} {x : Int32} {st : List Value} {h : xH} : exF ev cX1_chance 60 ([v0, v1, v2, v3, v4, v5, v6, v7, v8, v9, v10, v11], [w0, w1, w2, w3, w4, w5, w6, w7, w8, w9, w10, w11]) (.int x :: st) h = exF ev cX1_chance 62 ([v0, v1, v2, v3, v4, v5, v6, v7, some (.int x), v9, v10, v11], [w0, w1, w2, w3, w4, w5, w6, none, none, w9, w10, w11]) st h := exF_j (i := (i_istore 8 62)) rfl rfl
theorem eX1_chance_62 {ev : xV} {v0 v1 v2 v3 v4 v5 v6 v7 v9 v10 v11 : Option Value} {w0 w1 w2 w3 w4 w5 w6 w7 w8 w9 w10 w11 : Option Int64} {x : Int32} {st : List Value} {h : xH} : exF ev cX1_chance 62 ([v0, v1, v2, v3, v4, v5, v6, v7, some (.int x), v9, v10, v11], [w0, w1, w2, w3, w4, w5, w6, w7, w8, w9, w10, w11]) st h = exF ev cX1_chance 64 ([v0, v1, v2, v3, v4, v5, v6, v7, some (.int x), v9, v10, v11], [w0, w1, w2, w3, w4, w5, w6, w7, w8, w9, w10, w11]) (.int x :: st) h := exF_j (i := (i_iload 8 64)) rfl rfl
theorem eX1_chance_64 {ev : xV} {v0 v1 v2 v3 v4 v5 v6 v7 v8 v9 v10 v11 : Option Value} {w0 w1 w2 w3 w4 w5 w6 w7 w8 w9 w10 w11 : Option Int64} {st : List Value} {h : xH} : exF ev cX1_chance 64 ([v0, v1, v2, v3, v4, v5, v6, v7, v8, v9, v10, v11], [w0, w1, w2, w3, w4, w5, w6, w7, w8, w9, w10, w11]) st h = exF ev cX1_chance 65 ([v0, v1, v2, v3, v4, v5, v6, v7, v8, v9, v10, v11], [w0, w1, w2, w3, w4, w5, w6, w7, w8, w9, w10, w11]) (.int (nI 1) :: st) h := exF_j (i := (i_const (.int (nI 1)) 65)) rfl rfl
theorem eX1_chance_65 {ev : xV} {v0 v1 v3 v4 v5 v6 v7 v8 v9 v10 v11 : Option Value} {w0 w1 w2 w3 w4 w5 w6 w7 w8 w9 w10 w11 : Option Int64} {x : Int32} {st : List Value} {h : xH} : exF ev cX1_chance 65 ([v0, v1, some (.int x), v3, v4, v5, v6, v7, v8, v9, v10, v11], [w0, w1, w2, w3, w4, w5, w6, w7, w8, w9, w10, w11]) st h = exF ev cX1_chance 66 ([v0, v1, some (.int x), v3, v4, v5, v6, v7, v8, v9, v10, v11], [w0, w1, w2, w3, w4, w5, w6, w7, w8, w9, w10, w11]) (.int x :: st) h := exF_j (i := (i_iload 2 66)) rfl rfl
theorem eX1_chance_66 {ev : xV} {v0 v1 v2 v3 v4 v5 v6 v7 v8 v9 v10 v11 : Option Value} {w0 w1 w2 w3 w4 w5 w6 w7 w8 w9 w10 w11 : Option Int64} {x y : Int32} {st : List Value} {h : xH} : exF ev cX1_chance 66 ([v0, v1, v2, v3, v4, v5, v6, v7, v8, v9, v10, v11], [w0, w1, w2, w3, w4, w5, w6, w7, w8, w9, w10, w11]) (.int y :: .int x :: st) h = exF ev cX1_chance 67 ([v0, v1, v2, v3, v4, v5, v6, v7, v8, v9, v10, v11], [w0, w1, w2, w3, w4, w5, w6, w7, w8, w9, w10, w11]) (.int (x <<< (y &&& 31)) :: st) h := exF_j (i := (i_ii (fun x y => x <<< (y &&& 31)) 67)) rfl rfl
theorem eX1_chance_67 {ev : xV} {v0 v1 v2 v3 v4 v5 v6 v7 v8 v9 v10 v11 : Option Value} {w0 w1 w2 w3 w4 w5 w6 w7 w8 w9 w10 w11 : Option Int64} {x y : Int32} {st : List Value} {h : xH} : exF ev cX1_chance 67 ([v0, v1, v2, v3, v4, v5, v6, v7, v8, v9, v10, v11], [w0, w1, w2, w3, w4, w5, w6, w7, w8, w9, w10, w11]) (.int y :: .int x :: st) h = if y ≤ x then exF ev cX1_chance 172 ([v0, v1, v2, v3, v4, v5, v6, v7, v8, v9, v10, v11], [w0, w1, w2, w3, w4, w5, w6, w7, w8, w9, w10, w11]) st h else exF ev cX1_chance 70 ([v0, v1, v2, v3, v4, v5, v6, v7, v8, v9, v10, v11], [w0, w1, w2, w3, w4, w5, w6, w7, w8, w9, w10, w11]) st h := exF_b (i := (i_if2 (fun x y => y ≤ x) 172 70)) rfl rfl
theorem eX1_chance_70 {ev : xV} {v0 v1 v2 v3 v4 v5 v6 v7 v8 v9 v10 v11 : Option Value} {w0 w1 w2 w3 w4 w5 w6 w7 w8 w9 w10 w11 : Option Int64} {st : List Value} {h : xH} : exF ev cX1_chance 70 ([v0, v1, v2, v3, v4, v5, v6, v7, v8, v9, v10, v11], [w0, w1, w2, w3, w4, w5, w6, w7, w8, w9, w10, w11]) st h = exF ev cX1_chance 71 ([v0, v1, v2, v3, v4, v5, v6, v7, v8, v9, v10, v11], [w0, w1, w2, w3, w4, w5, w6, w7, w8, w9, w10, w11]) (.long (lN 1) :: st) h := exF_j (i := (i_const (.long (lN 1)) 71)) rfl rfl
theorem eX1_chance_71 {ev : xV} {v0 v1 v2 v3 v4 v5 v6 v7 v8 v9 v10 v11 : Option Value} {w0 w1 w2 w3 w4 w5 w6 w7 w8 w9 w10 w11 : Option Int64} {x : Int64} {st : List Value} {h : xH} : exF ev cX1_chance 71 ([v0, v1, v2, v3, v4, v5, v6, v7, v8, v9, v10, v11], [w0, w1, w2, w3, w4, w5, w6, w7, w8, w9, w10, w11]) (.long x :: st) h = exF ev cX1_chance 73 ([v0, v1, v2, v3, v4, v5, v6, v7, v8, none, none, v11], [w0, w1, w2, w3, w4, w5, w6, w7, none, some x, none, w11]) st h := exF_j (i := (i_lstore 9 73)) rfl rfl
theorem eX1_chance_73 {ev : xV} {v1 v2 v3 v4 v5 v6 v7 v8 v9 v10 v11 : Option Value} {w0 w1 w2 w3 w4 w5 w6 w7 w8 w9 w10 w11 : Option Int64} {x : Nat} {st : List Value} {h : xH} : exF ev cX1_chance 73 ([some (.ref x), v1, v2, v3, v4, v5, v6, v7, v8, v9, v10, v11], [w0, w1, w2, w3, w4, w5, w6, w7, w8, w9, w10, w11]) st h = exF ev cX1_chance 74 ([some (.ref x), v1, v2, v3, v4, v5, v6, v7, v8, v9, v10, v11], [w0, w1, w2, w3, w4, w5, w6, w7, w8, w9, w10, w11]) (.ref x :: st) h := exF_j (i := (i_aload 0 74)) rfl rfl
theorem eX1_chance_74 {ev : xV} {v0 v1 v2 v3 v4 v5 v6 v7 v8 v9 v10 v11 : Option Value} {w0 w1 w2 w3 w4 w5 w6 w7 w8 w9 w10 w11 : Option Int64} {a : Nat} {st : List Value} {h : xH} : exF ev cX1_chance 74 ([v0, v1, v2, v3, v4, v5, v6, v7, v8, v9, v10, v11], [w0, w1, w2, w3, w4, w5, w6, w7, w8, w9, w10, w11]) (.ref a :: st) h = xO (xgf h a 0 5) (fun v => exF ev cX1_chance 77 ([v0, v1, v2, v3, v4, v5, v6, v7, v8, v9, v10, v11], [w0, w1, w2, w3, w4, w5, w6, w7, w8, w9, w10, w11]) (v :: st) h) := exF_o (i := (i_getf 0 5 77)) rfl rfl
theorem eX1_chance_77 {ev : xV} {v1 v2 v3 v4 v5 v6 v7 v8 v9 v10 v11 : Option Value} {w0 w1 w2 w3 w4 w5 w6 w7 w8 w9 w10 w11 : Option Int64} {x : Nat} {st : List Value} {h : xH} : exF ev cX1_chance 77 ([some (.ref x), v1, v2, v3, v4, v5, v6, v7, v8, v9, v10, v11], [w0, w1, w2, w3, w4, w5, w6, w7, w8, w9, w10, w11]) st h = exF ev cX1_chance 78 ([some (.ref x), v1, v2, v3, v4, v5, v6, v7, v8, v9, v10, v11], [w0, w1, w2, w3, w4, w5, w6, w7, w8, w9, w10, w11]) (.ref x :: st) h := exF_j (i := (i_aload 0 78)) rfl rfl
theorem eX1_chance_78 {ev : xV} {v0 v1 v2 v3 v4 v5 v6 v7 v8 v9 v10 v11 : Option Value} {w0 w1 w2 w3 w4 w5 w6 w7 w8 w9 w10 w11 : Option Int64} {a : Nat} {st : List Value} {h : xH} : exF ev cX1_chance 78 ([v0, v1, v2, v3, v4, v5, v6, v7, v8, v9, v10, v11], [w0, w1, w2, w3, w4, w5, w6, w7, w8, w9, w10, w11]) (.ref a :: st) h = xO (xgf h a 0 4) (fun v => exF ev cX1_chance 81 ([v0, v1, v2, v3, v4, v5, v6, v7, v8, v9, v10, v11], [w0, w1, w2, w3, w4, w5, w6, w7, w8, w9, w10, w11]) (v :: st) h) := exF_o (i := (i_getf 0 4 81)) rfl rfl
theorem eX1_chance_81 {ev : xV} {v0 v1 v2 v3 v4 v5 v6 v7 v8 v9 v10 v11 : Option Value} {w0 w1 w2 w3 w4 w5 w6 w7 w8 w9 w10 w11 : Option Int64} {a0 : Value} {a : Nat} {h : xH} : exF ev cX1_chance 81 ([v0, v1, v2, v3, v4, v5, v6, v7, v8, v9, v10, v11], [w0, w1, w2, w3, w4, w5, w6, w7, w8, w9, w10, w11]) [a0, .ref a] h = xO (xck h a 3) (fun _ => xBv (ev 239 [.ref a, a0] h) (fun h => exF ev cX1_chance 84 ([v0, v1, v2, v3, v4, v5, v6, v7, v8, v9, v10, v11], [w0, w1, w2, w3, w4, w5, w6, w7, w8, w9, w10, w11]) [] h)) := exF_cdv (i := (i_cvv 3 239 1 84)) rfl rfl
theorem eX1_chance_84 {ev : xV} {v0 v1 v2 v3 v4 v5 v6 v7 v8 v9 v10 v11 : Option Value} {w0 w1 w2 w3 w4 w5 w6 w7 w8 w9 w10 w11 : Option Int64} {st : List Value} {h : xH} : exF ev cX1_chance 84 ([v0, v1, v2, v3, v4, v5, v6, v7, v8, v9, v10, v11], [w0, w1, w2, w3, w4, w5, w6, w7, w8, w9, w10, w11]) st h = exF ev cX1_chance 85 ([v0, v1, v2, v3, v4, v5, v6, v7, v8, v9, v10, v11], [w0, w1, w2, w3, w4, w5, w6, w7, w8, w9, w10, w11]) (.int (nI 0) :: st) h := exF_j (i := (i_const (.int (nI 0)) 85)) rfl rfl
theorem eX1_chance_85 {ev : xV} {v0 v1 v2 v3 v4 v5 v6 v7 v8 v9 v10 v11 : Option Value} {w0 w1 w2 w3 w4 w5 w6 w7 w8 w9 w10 w11 : Option Int64} {x : Int32} {st : List Value} {h : xH} : exF ev cX1_chance 85 ([v0, v1, v2, v3, v4, v5, v6, v7, v8, v9, v10, v11], [w0, w1, w2, w3, w4, w5, w6, w7, w8, w9, w10, w11]) (.int x :: st) h = exF ev cX1_chance 87 ([v0, v1, v2, v3, v4, v5, v6, v7, v8, v9, v10, some (.int x)], [w0, w1, w2, w3, w4, w5, w6, w7, w8, w9, none, none]) st h := exF_j (i := (i_istore 11 87)) rfl rfl
theorem eX1_chance_87 {ev : xV} {v0 v1 v2 v3 v4 v5 v6 v7 v8 v9 v10 : Option Value} {w0 w1 w2 w3 w4 w5 w6 w7 w8 w9 w10 w11 : Option Int64} {x : Int32} {st : List Value} {h : xH} : exF ev cX1_chance 87 ([v0, v1, v2, v3, v4, v5, v6, v7, v8, v9, v10, some (.int x)], [w0, w1, w2, w3, w4, w5, w6, w7, w8, w9, w10, w11]) st h = exF ev cX1_chance 89 ([v0, v1, v2, v3, v4, v5, v6, v7, v8, v9, v10, some (.int x)], [w0, w1, w2, w3, w4, w5, w6, w7, w8, w9, w10, w11]) (.int x :: st) h := exF_j (i := (i_iload 11 89)) rfl rfl
theorem eX1_chance_89 {ev : xV} {v0 v1 v3 v4 v5 v6 v7 v8 v9 v10 v11 : Option Value} {w0 w1 w2 w3 w4 w5 w6 w7 w8 w9 w10 w11 : Option Int64} {x : Int32} {st : List Value} {h : xH} : exF ev cX1_chance 89 ([v0, v1, some (.int x), v3, v4, v5, v6, v7, v8, v9, v10, v11], [w0, w1, w2, w3, w4, w5, w6, w7, w8, w9, w10, w11]) st h = exF ev cX1_chance 90 ([v0, v1, some (.int x), v3, v4, v5, v6, v7, v8, v9, v10, v11], [w0, w1, w2, w3, w4, w5, w6, w7, w8, w9, w10, w11]) (.int x :: st) h := exF_j (i := (i_iload 2 90)) rfl rfl
theorem eX1_chance_90 {ev : xV} {v0 v1 v2 v3 v4 v5 v6 v7 v8 v9 v10 v11 : Option Value} {w0 w1 w2 w3 w4 w5 w6 w7 w8 w9 w10 w11 : Option Int64} {x y : Int32} {st : List Value} {h : xH} : exF ev cX1_chance 90 ([v0, v1, v2, v3, v4, v5, v6, v7, v8, v9, v10, v11], [w0, w1, w2, w3, w4, w5, w6, w7, w8, w9, w10, w11]) (.int y :: .int x :: st) h = if y ≤ x then exF ev cX1_chance 148 ([v0, v1, v2, v3, v4, v5, v6, v7, v8, v9, v10, v11], [w0, w1, w2, w3, w4, w5, w6, w7, w8, w9, w10, w11]) st h else exF ev cX1_chance 93 ([v0, v1, v2, v3, v4, v5, v6, v7, v8, v9, v10, v11], [w0, w1, w2, w3, w4, w5, w6, w7, w8, w9, w10, w11]) st h := exF_b (i := (i_if2 (fun x y => y ≤ x) 148 93)) rfl rfl
theorem eX1_chance_93 {ev : xV} {v0 v1 v2 v3 v4 v5 v6 v7 v8 v9 v10 v11 : Option Value} {w0 w1 w2 w3 w4 w5 w6 w7 w8 w10 w11 : Option Int64} {x : Int64} {st : List Value} {h : xH} : exF ev cX1_chance 93 ([v0, v1, v2, v3, v4, v5, v6, v7, v8, v9, v10, v11], [w0, w1, w2, w3, w4, w5, w6, w7, w8, some x, w10, w11]) st h = exF ev cX1_chance 95 ([v0, v1, v2, v3, v4, v5, v6, v7, v8, v9, v10, v11], [w0, w1, w2, w3, w4, w5, w6, w7, w8, some x, w10, w11]) (.long x :: st) h := exF_j (i := (i_lload 9 95)) rfl rfl
theorem eX1_chance_95 {ev : xV} {v0 v1 v2 v3 v4 v5 v6 v7 v9 v10 v11 : Option Value} {w0 w1 w2 w3 w4 w5 w6 w7 w8 w9 w10 w11 : Option Int64} {x : Int32} {st : List Value} {h : xH} : exF ev cX1_chance 95 ([v0, v1, v2, v3, v4, v5, v6, v7, some (.int x), v9, v10, v11], [w0, w1, w2, w3, w4, w5, w6, w7, w8, w9, w10, w11]) st h = exF ev cX1_chance 97 ([v0, v1, v2, v3, v4, v5, v6, v7, some (.int x), v9, v10, v11], [w0, w1, w2, w3, w4, w5, w6, w7, w8, w9, w10, w11]) (.int x :: st) h := exF_j (i := (i_iload 8 97)) rfl rfl
theorem eX1_chance_97 {ev : xV} {v0 v1 v2 v3 v4 v5 v6 v7 v8 v9 v10 : Option Value} {w0 w1 w2 w3 w4 w5 w6 w7 w8 w9 w10 w11 : Option Int64} {x : Int32} {st : List Value} {h : xH} : exF ev cX1_chance 97 ([v0, v1, v2, v3, v4, v5, v6, v7, v8, v9, v10, some (.int x)], [w0, w1, w2, w3, w4, w5, w6, w7, w8, w9, w10, w11]) st h = exF ev cX1_chance 99 ([v0, v1, v2, v3, v4, v5, v6, v7, v8, v9, v10, some (.int x)], [w0, w1, w2, w3, w4, w5, w6, w7, w8, w9, w10, w11]) (.int x :: st) h := exF_j (i := (i_iload 11 99)) rfl rfl
theorem eX1_chance_99 {ev : xV} {v0 v1 v2 v3 v4 v5 v6 v7 v8 v9 v10 v11 : Option Value} {w0 w1 w2 w3 w4 w5 w6 w7 w8 w9 w10 w11 : Option Int64} {a0 : Value} {a1 : Value} {r0 : Value} {h : xH} : exF ev cX1_chance 99 ([v0, v1, v2, v3, v4, v5, v6, v7, v8, v9, v10, v11], [w0, w1, w2, w3, w4, w5, w6, w7, w8, w9, w10, w11]) [a1, a0, r0] h = xB (ev 98 [a0, a1] h) (fun v h => exF ev cX1_chance 102 ([v0, v1, v2, v3, v4, v5, v6, v7, v8, v9, v10, v11], [w0, w1, w2, w3, w4, w5, w6, w7, w8, w9, w10, w11]) [v, r0] h) := exF_c (i := (i_cs 98 2 102)) rfl rfl
theorem eX1_chance_102 {ev : xV} {v0 v1 v2 v3 v4 v5 v6 v7 v8 v9 v10 v11 : Option Value} {w0 w1 w2 w3 w4 w5 w6 w7 w8 w9 w10 w11 : Option Int64} {x : Int32} {st : List Value} {h : xH} : exF ev cX1_chance 102 ([v0, v1, v2, v3, v4, v5, v6, v7, v8, v9, v10, v11], [w0, w1, w2, w3, w4, w5, w6, w7, w8, w9, w10, w11]) (.int x :: st) h = if x = 0 then exF ev cX1_chance 110 ([v0, v1, v2, v3, v4, v5, v6, v7, v8, v9, v10, v11], [w0, w1, w2, w3, w4, w5, w6, w7, w8, w9, w10, w11]) st h else exF ev cX1_chance 105 ([v0, v1, v2, v3, v4, v5, v6, v7, v8, v9, v10, v11], [w0, w1, w2, w3, w4, w5, w6, w7, w8, w9, w10, w11]) st h := exF_b (i := (i_if1 (fun x => x = 0) 110 105)) rfl rfl
theorem eX1_chance_105 {ev : xV} {v0 v1 v2 v4 v5 v6 v7 v8 v9 v10 v11 : Option Value} {w0 w1 w2 w3 w4 w5 w6 w7 w8 w9 w10 w11 : Option Int64} {x : Int32} {st : List Value} {h : xH} : exF ev cX1_chance 105 ([v0, v1, v2, some (.int x), v4, v5, v6, v7, v8, v9, v10, v11], [w0, w1, w2, w3, w4, w5, w6, w7, w8, w9, w10, w11]) st h = exF ev cX1_chance 106 ([v0, v1, v2, some (.int x), v4, v5, v6, v7, v8, v9, v10, v11], [w0, w1, w2, w3, w4, w5, w6, w7, w8, w9, w10, w11]) (.int x :: st) h := exF_j (i := (i_iload 3 106)) rfl rfl
theorem eX1_chance_106 {ev : xV} {v0 v1 v2 v3 v4 v5 v6 v7 v8 v9 v10 v11 : Option Value} {w0 w1 w2 w3 w4 w5 w6 w7 w8 w9 w10 w11 : Option Int64} {x : Int32} {st : List Value} {h : xH} : exF ev cX1_chance 106 ([v0, v1, v2, v3, v4, v5, v6, v7, v8, v9, v10, v11], [w0, w1, w2, w3, w4, w5, w6, w7, w8, w9, w10, w11]) (.int x :: st) h = exF ev cX1_chance 107 ([v0, v1, v2, v3, v4, v5, v6, v7, v8, v9, v10, v11], [w0, w1, w2, w3, w4, w5, w6, w7, w8, w9, w10, w11]) (.long x.toInt64 :: st) h := exF_j (i := (i_i2l 107)) rfl rfl
theorem eX1_chance_107 {ev : xV} {v0 v1 v2 v3 v4 v5 v6 v7 v8 v9 v10 v11 : Option Value} {w0 w1 w2 w3 w4 w5 w6 w7 w8 w9 w10 w11 : Option Int64} {st : List Value} {h : xH} : exF ev cX1_chance 107 ([v0, v1, v2, v3, v4, v5, v6, v7, v8, v9, v10, v11], [w0, w1, w2, w3, w4, w5, w6, w7, w8, w9, w10, w11]) st h = exF ev cX1_chance 115 ([v0, v1, v2, v3, v4, v5, v6, v7, v8, v9, v10, v11], [w0, w1, w2, w3, w4, w5, w6, w7, w8, w9, w10, w11]) st h := exF_j (i := (i_goto 115)) rfl rfl
theorem eX1_chance_110 {ev : xV} {v0 v1 v2 v3 v4 v5 v6 v7 v8 v9 v10 v11 : Option Value} {w0 w1 w2 w3 w4 w5 w6 w7 w8 w9 w10 w11 : Option Int64} {st : List Value} {h : xH} : exF ev cX1_chance 110 ([v0, v1, v2, v3, v4, v5, v6, v7, v8, v9, v10, v11], [w0, w1, w2, w3, w4, w5, w6, w7, w8, w9, w10, w11]) st h = exF ev cX1_chance 112 ([v0, v1, v2, v3, v4, v5, v6, v7, v8, v9, v10, v11], [w0, w1, w2, w3, w4, w5, w6, w7, w8, w9, w10, w11]) (.int (nI 10) :: st) h := exF_j (i := (i_const (.int (nI 10)) 112)) rfl rfl
theorem eX1_chance_112 {ev : xV} {v0 v1 v2 v4 v5 v6 v7 v8 v9 v10 v11 : Option Value} {w0 w1 w2 w3 w4 w5 w6 w7 w8 w9 w10 w11 : Option Int64} {x : Int32} {st : List Value} {h : xH} : exF ev cX1_chance 112 ([v0, v1, v2, some (.int x), v4, v5, v6, v7, v8, v9, v10, v11], [w0, w1, w2, w3, w4, w5, w6, w7, w8, w9, w10, w11]) st h = exF ev cX1_chance 113 ([v0, v1, v2, some (.int x), v4, v5, v6, v7, v8, v9, v10, v11], [w0, w1, w2, w3, w4, w5, w6, w7, w8, w9, w10, w11]) (.int x :: st) h := exF_j (i := (i_iload 3 113)) rfl rfl
theorem eX1_chance_113 {ev : xV} {v0 v1 v2 v3 v4 v5 v6 v7 v8 v9 v10 v11 : Option Value} {w0 w1 w2 w3 w4 w5 w6 w7 w8 w9 w10 w11 : Option Int64} {x y : Int32} {st : List Value} {h : xH} : exF ev cX1_chance 113 ([v0, v1, v2, v3, v4, v5, v6, v7, v8, v9, v10, v11], [w0, w1, w2, w3, w4, w5, w6, w7, w8, w9, w10, w11]) (.int y :: .int x :: st) h = exF ev cX1_chance 114 ([v0, v1, v2, v3, v4, v5, v6, v7, v8, v9, v10, v11], [w0, w1, w2, w3, w4, w5, w6, w7, w8, w9, w10, w11]) (.int (x - y) :: st) h := exF_j (i := (i_ii (fun x y => x - y) 114)) rfl rfl
theorem eX1_chance_114 {ev : xV} {v0 v1 v2 v3 v4 v5 v6 v7 v8 v9 v10 v11 : Option Value} {w0 w1 w2 w3 w4 w5 w6 w7 w8 w9 w10 w11 : Option Int64} {x : Int32} {st : List Value} {h : xH} : exF ev cX1_chance 114 ([v0, v1, v2, v3, v4, v5, v6, v7, v8, v9, v10, v11], [w0, w1, w2, w3, w4, w5, w6, w7, w8, w9, w10, w11]) (.int x :: st) h = exF ev cX1_chance 115 ([v0, v1, v2, v3, v4, v5, v6, v7, v8, v9, v10, v11], [w0, w1, w2, w3, w4, w5, w6, w7, w8, w9, w10, w11]) (.long x.toInt64 :: st) h := exF_j (i := (i_i2l 115)) rfl rfl
theorem eX1_chance_115 {ev : xV} {v0 v1 v2 v3 v4 v5 v6 v7 v8 v9 v10 v11 : Option Value} {w0 w1 w2 w3 w4 w5 w6 w7 w8 w9 w10 w11 : Option Int64} {x y : Int64} {st : List Value} {h : xH} : exF ev cX1_chance 115 ([v0, v1, v2, v3, v4, v5, v6, v7, v8, v9, v10, v11], [w0, w1, w2, w3, w4, w5, w6, w7, w8, w9, w10, w11]) (.long y :: .long x :: st) h = exF ev cX1_chance 116 ([v0, v1, v2, v3, v4, v5, v6, v7, v8, v9, v10, v11], [w0, w1, w2, w3, w4, w5, w6, w7, w8, w9, w10, w11]) (.long (x * y) :: st) h := exF_j (i := (i_ll (fun x y => x * y) 116)) rfl rfl
theorem eX1_chance_116 {ev : xV} {v0 v1 v2 v3 v4 v5 v6 v7 v8 v9 v10 v11 : Option Value} {w0 w1 w2 w3 w4 w5 w6 w7 w8 w9 w10 w11 : Option Int64} {x : Int64} {st : List Value} {h : xH} : exF ev cX1_chance 116 ([v0, v1, v2, v3, v4, v5, v6, v7, v8, v9, v10, v11], [w0, w1, w2, w3, w4, w5, w6, w7, w8, w9, w10, w11]) (.long x :: st) h = exF ev cX1_chance 118 ([v0, v1, v2, v3, v4, v5, v6, v7, v8, none, none, v11], [w0, w1, w2, w3, w4, w5, w6, w7, none, some x, none, w11]) st h := exF_j (i := (i_lstore 9 118)) rfl rfl
theorem eX1_chance_118 {ev : xV} {v1 v2 v3 v4 v5 v6 v7 v8 v9 v10 v11 : Option Value} {w0 w1 w2 w3 w4 w5 w6 w7 w8 w9 w10 w11 : Option Int64} {x : Nat} {st : List Value} {h : xH} : exF ev cX1_chance 118 ([some (.ref x), v1, v2, v3, v4, v5, v6, v7, v8, v9, v10, v11], [w0, w1, w2, w3, w4, w5, w6, w7, w8, w9, w10, w11]) st h = exF ev cX1_chance 119 ([some (.ref x), v1, v2, v3, v4, v5, v6, v7, v8, v9, v10, v11], [w0, w1, w2, w3, w4, w5, w6, w7, w8, w9, w10, w11]) (.ref x :: st) h := exF_j (i := (i_aload 0 119)) rfl rfl
theorem eX1_chance_119 {ev : xV} {v1 v2 v3 v4 v5 v6 v7 v8 v9 v10 v11 : Option Value} {w0 w1 w2 w3 w4 w5 w6 w7 w8 w9 w10 w11 : Option Int64} {x : Nat} {st : List Value} {h : xH} : exF ev cX1_chance 119 ([some (.ref x), v1, v2, v3, v4, v5, v6, v7, v8, v9, v10, v11], [w0, w1, w2, w3, w4, w5, w6, w7, w8, w9, w10, w11]) st h = exF ev cX1_chance 120 ([some (.ref x), v1, v2, v3, v4, v5, v6, v7, v8, v9, v10, v11], [w0, w1, w2, w3, w4, w5, w6, w7, w8, w9, w10, w11]) (.ref x :: st) h := exF_j (i := (i_aload 0 120)) rfl rfl
theorem eX1_chance_120 {ev : xV} {v0 v1 v2 v3 v4 v5 v6 v7 v8 v9 v10 v11 : Option Value} {w0 w1 w2 w3 w4 w5 w6 w7 w8 w9 w10 w11 : Option Int64} {a : Nat} {st : List Value} {h : xH} : exF ev cX1_chance 120 ([v0, v1, v2, v3, v4, v5, v6, v7, v8, v9, v10, v11], [w0, w1, w2, w3, w4, w5, w6, w7, w8, w9, w10, w11]) (.ref a :: st) h = xO (xgf h a 0 5) (fun v => exF ev cX1_chance 123 ([v0, v1, v2, v3, v4, v5, v6, v7, v8, v9, v10, v11], [w0, w1, w2, w3, w4, w5, w6, w7, w8, w9, w10, w11]) (v :: st) h) := exF_o (i := (i_getf 0 5 123)) rfl rfl
theorem eX1_chance_123 {ev : xV} {v0 v1 v2 v3 v4 v5 v6 v7 v9 v10 v11 : Option Value} {w0 w1 w2 w3 w4 w5 w6 w7 w8 w9 w10 w11 : Option Int64} {x : Int32} {st : List Value} {h : xH} : exF ev cX1_chance 123 ([v0, v1, v2, v3, v4, v5, v6, v7, some (.int x), v9, v10, v11], [w0, w1, w2, w3, w4, w5, w6, w7, w8, w9, w10, w11]) st h = exF ev cX1_chance 125 ([v0, v1, v2, v3, v4, v5, v6, v7, some (.int x), v9, v10, v11], [w0, w1, w2, w3, w4, w5, w6, w7, w8, w9, w10, w11]) (.int x :: st) h := exF_j (i := (i_iload 8 125)) rfl rfl
theorem eX1_chance_125 {ev : xV} {v0 v1 v2 v3 v4 v5 v6 v7 v8 v9 v10 : Option Value} {w0 w1 w2 w3 w4 w5 w6 w7 w8 w9 w10 w11 : Option Int64} {x : Int32} {st : List Value} {h : xH} : exF ev cX1_chance 125 ([v0, v1, v2, v3, v4, v5, v6, v7, v8, v9, v10, some (.int x)], [w0, w1, w2, w3, w4, w5, w6, w7, w8, w9, w10, w11]) st h = exF ev cX1_chance 127 ([v0, v1, v2, v3, v4, v5, v6, v7, v8, v9, v10, some (.int x)], [w0, w1, w2, w3, w4, w5, w6, w7, w8, w9, w10, w11]) (.int x :: st) h := exF_j (i := (i_iload 11 127)) rfl rfl
theorem eX1_chance_127 {ev : xV} {v0 v1 v2 v3 v4 v5 v6 v7 v8 v9 v10 v11 : Option Value} {w0 w1 w2 w3 w4 w5 w6 w7 w8 w9 w10 w11 : Option Int64} {a0 : Value} {a1 : Value} {r0 : Value} {r1 : Value} {h : xH} : exF ev cX1_chance 127 ([v0, v1, v2, v3, v4, v5, v6, v7, v8, v9, v10, v11], [w0, w1, w2, w3, w4, w5, w6, w7, w8, w9, w10, w11]) [a1, a0, r0, r1] h = xB (ev 98 [a0, a1] h) (fun v h => exF ev cX1_chance 130 ([v0, v1, v2, v3, v4, v5, v6, v7, v8, v9, v10, v11], [w0, w1, w2, w3, w4, w5, w6, w7, w8, w9, w10, w11]) [v, r0, r1] h) := exF_c (i := (i_cs 98 2 130)) rfl rfl
theorem eX1_chance_130 {ev : xV} {v0 v1 v2 v3 v4 v5 v6 v7 v8 v9 v10 v11 : Option Value} {w0 w1 w2 w3 w4 w5 w6 w7 w8 w9 w10 w11 : Option Int64} {x : Int32} {st : List Value} {h : xH} : exF ev cX1_chance 130 ([v0, v1, v2, v3, v4, v5, v6, v7, v8, v9, v10, v11], [w0, w1, w2, w3, w4, w5, w6, w7, w8, w9, w10, w11]) (.int x :: st) h = if x = 0 then exF ev cX1_chance 138 ([v0, v1, v2, v3, v4, v5, v6, v7, v8, v9, v10, v11], [w0, w1, w2, w3, w4, w5, w6, w7, w8, w9, w10, w11]) st h else exF ev cX1_chance 133 ([v0, v1, v2, v3, v4, v5, v6, v7, v8, v9, v10, v11], [w0, w1, w2, w3, w4, w5, w6, w7, w8, w9, w10, w11]) st h := exF_b (i := (i_if1 (fun x => x = 0) 138 133)) rfl rfl
theorem eX1_chance_133 {ev : xV} {v0 v1 v2 v3 v4 v5 v6 v7 v8 v9 v10 v11 : Option Value} {w0 w1 w2 w3 w4 w5 w6 w7 w8 w9 w10 w11 : Option Int64} {st : List Value} {h : xH} : exF ev cX1_chance 133 ([v0, v1, v2, v3, v4, v5, v6, v7, v8, v9, v10, v11], [w0, w1, w2, w3, w4, w5, w6, w7, w8, w9, w10, w11]) st h = exF ev cX1_chance 135 ([v0, v1, v2, v3, v4, v5, v6, v7, v8, v9, v10, v11], [w0, w1, w2, w3, w4, w5, w6, w7, w8, w9, w10, w11]) (.int (nI 9) :: st) h := exF_j (i := (i_const (.int (nI 9)) 135)) rfl rfl
theorem eX1_chance_135 {ev : xV} {v0 v1 v2 v3 v4 v5 v6 v7 v8 v9 v10 v11 : Option Value} {w0 w1 w2 w3 w4 w5 w6 w7 w8 w9 w10 w11 : Option Int64} {st : List Value} {h : xH} : exF ev cX1_chance 135 ([v0, v1, v2, v3, v4, v5, v6, v7, v8, v9, v10, v11], [w0, w1, w2, w3, w4, w5, w6, w7, w8, w9, w10, w11]) st h = exF ev cX1_chance 139 ([v0, v1, v2, v3, v4, v5, v6, v7, v8, v9, v10, v11], [w0, w1, w2, w3, w4, w5, w6, w7, w8, w9, w10, w11]) st h := exF_j (i := (i_goto 139)) rfl rfl
theorem eX1_chance_138 {ev : xV} {v0 v1 v2 v3 v4 v5 v6 v7 v8 v9 v10 v11 : Option Value} {w0 w1 w2 w3 w4 w5 w6 w7 w8 w9 w10 w11 : Option Int64} {st : List Value} {h : xH} : exF ev cX1_chance 138 ([v0, v1, v2, v3, v4, v5, v6, v7, v8, v9, v10, v11], [w0, w1, w2, w3, w4, w5, w6, w7, w8, w9, w10, w11]) st h = exF ev cX1_chance 139 ([v0, v1, v2, v3, v4, v5, v6, v7, v8, v9, v10, v11], [w0, w1, w2, w3, w4, w5, w6, w7, w8, w9, w10, w11]) (.int (nI 0) :: st) h := exF_j (i := (i_const (.int (nI 0)) 139)) rfl rfl
theorem eX1_chance_139 {ev : xV} {v0 v1 v2 v3 v4 v5 v6 v7 v8 v9 v10 v11 : Option Value} {w0 w1 w2 w3 w4 w5 w6 w7 w8 w9 w10 w11 : Option Int64} {a0 : Value} {a1 : Value} {a : Nat} {h : xH} : exF ev cX1_chance 139 ([v0, v1, v2, v3, v4, v5, v6, v7, v8, v9, v10, v11], [w0, w1, w2, w3, w4, w5, w6, w7, w8, w9, w10, w11]) [a1, a0, .ref a] h = xO (xck h a 0) (fun _ => xBv (ev 105 [.ref a, a0, a1] h) (fun h => exF ev cX1_chance 142 ([v0, v1, v2, v3, v4, v5, v6, v7, v8, v9, v10, v11], [w0, w1, w2, w3, w4, w5, w6, w7, w8, w9, w10, w11]) [] h)) := exF_cdv (i := (i_cvv 0 105 2 142)) rfl rfl
theorem eX1_chance_142 {ev : xV} {v0 v1 v2 v3 v4 v5 v6 v7 v8 v9 v10 : Option Value} {w0 w1 w2 w3 w4 w5 w6 w7 w8 w9 w10 w11 : Option Int64} {x : Int32} {st : List Value} {h : xH} : exF ev cX1_chance 142 ([v0, v1, v2, v3, v4, v5, v6, v7, v8, v9, v10, some (.int x)], [w0, w1, w2, w3, w4, w5, w6, w7, w8, w9, w10, w11]) st h = exF ev cX1_chance 145 ([v0, v1, v2, v3, v4, v5, v6, v7, v8, v9, v10, some (.int (x + (nI 1)))], [w0, w1, w2, w3, w4, w5, w6, w7, w8, w9, none, none]) st h := exF_j (i := (i_iinc 11 (nI 1) 145)) rfl rfl
theorem eX1_chance_145 {ev : xV} {v0 v1 v2 v3 v4 v5 v6 v7 v8 v9 v10 v11 : Option Value} {w0 w1 w2 w3 w4 w5 w6 w7 w8 w9 w10 w11 : Option Int64} {st : List Value} {h : xH} : exF ev cX1_chance 145 ([v0, v1, v2, v3, v4, v5, v6, v7, v8, v9, v10, v11], [w0, w1, w2, w3, w4, w5, w6, w7, w8, w9, w10, w11]) st h = exF ev cX1_chance 87 ([v0, v1, v2, v3, v4, v5, v6, v7, v8, v9, v10, v11], [w0, w1, w2, w3, w4, w5, w6, w7, w8, w9, w10, w11]) st h := exF_j (i := (i_goto 87)) rfl rfl
theorem eX1_chance_148 {ev : xV} {v1 v2 v3 v4 v5 v6 v7 v8 v9 v10 v11 : Option Value} {w0 w1 w2 w3 w4 w5 w6 w7 w8 w9 w10 w11 : Option Int64} {x : Nat} {st : List Value} {h : xH} : exF ev cX1_chance 148 ([some (.ref x), v1, v2, v3, v4, v5, v6, v7, v8, v9, v10, v11], [w0, w1, w2, w3, w4, w5, w6, w7, w8, w9, w10, w11]) st h = exF ev cX1_chance 149 ([some (.ref x), v1, v2, v3, v4, v5, v6, v7, v8, v9, v10, v11], [w0, w1, w2, w3, w4, w5, w6, w7, w8, w9, w10, w11]) (.ref x :: st) h := exF_j (i := (i_aload 0 149)) rfl rfl
theorem eX1_chance_149 {ev : xV} {v0 v1 v2 v3 v4 v5 v6 v7 v8 v9 v10 v11 : Option Value} {w0 w1 w2 w3 w4 w5 w6 w7 w8 w9 w10 w11 : Option Int64} {a : Nat} {st : List Value} {h : xH} : exF ev cX1_chance 149 ([v0, v1, v2, v3, v4, v5, v6, v7, v8, v9, v10, v11], [w0, w1, w2, w3, w4, w5, w6, w7, w8, w9, w10, w11]) (.ref a :: st) h = xO (xgf h a 0 5) (fun v => exF ev cX1_chance 152 ([v0, v1, v2, v3, v4, v5, v6, v7, v8, v9, v10, v11], [w0, w1, w2, w3, w4, w5, w6, w7, w8, w9, w10, w11]) (v :: st) h) := exF_o (i := (i_getf 0 5 152)) rfl rfl
theorem eX1_chance_152 {ev : xV} {v0 v2 v3 v4 v5 v6 v7 v8 v9 v10 v11 : Option Value} {w0 w1 w2 w3 w4 w5 w6 w7 w8 w9 w10 w11 : Option Int64} {x : Int32} {st : List Value} {h : xH} : exF ev cX1_chance 152 ([v0, some (.int x), v2, v3, v4, v5, v6, v7, v8, v9, v10, v11], [w0, w1, w2, w3, w4, w5, w6, w7, w8, w9, w10, w11]) st h = exF ev cX1_chance 153 ([v0, some (.int x), v2, v3, v4, v5, v6, v7, v8, v9, v10, v11], [w0, w1, w2, w3, w4, w5, w6, w7, w8, w9, w10, w11]) (.int x :: st) h := exF_j (i := (i_iload 1 153)) rfl rfl
theorem eX1_chance_153 {ev : xV} {v0 v1 v2 v3 v4 v5 v6 v7 v8 v9 v10 v11 : Option Value} {w0 w1 w2 w3 w4 w5 w6 w7 w8 w9 w10 w11 : Option Int64} {a0 : Value} {a : Nat} {h : xH} : exF ev cX1_chance 153 ([v0, v1, v2, v3, v4, v5, v6, v7, v8, v9, v10, v11], [w0, w1, w2, w3, w4, w5, w6, w7, w8, w9, w10, w11]) [a0, .ref a] h = xO (xck h a 3) (fun _ => xB (ev 238 [.ref a, a0] h) (fun v h => exF ev cX1_chance 156 ([v0, v1, v2, v3, v4, v5, v6, v7, v8, v9, v10, v11], [w0, w1, w2, w3, w4, w5, w6, w7, w8, w9, w10, w11]) [v] h)) := exF_cd (i := (i_cv 3 238 1 156)) rfl rfl
theorem eX1_chance_156 {ev : xV} {v0 v1 v2 v3 v4 v5 v6 v7 v8 v9 v10 v11 : Option Value} {w0 w1 w2 w3 w4 w5 w6 w7 w8 w9 w10 w11 : Option Int64} {x : Int32} {st : List Value} {h : xH} : exF ev cX1_chance 156 ([v0, v1, v2, v3, v4, v5, v6, v7, v8, v9, v10, v11], [w0, w1, w2, w3, w4, w5, w6, w7, w8, w9, w10, w11]) (.int x :: st) h = if x = 0 then exF ev cX1_chance 166 ([v0, v1, v2, v3, v4, v5, v6, v7, v8, v9, v10, v11], [w0, w1, w2, w3, w4, w5, w6, w7, w8, w9, w10, w11]) st h else exF ev cX1_chance 159 ([v0, v1, v2, v3, v4, v5, v6, v7, v8, v9, v10, v11], [w0, w1, w2, w3, w4, w5, w6, w7, w8, w9, w10, w11]) st h := exF_b (i := (i_if1 (fun x => x = 0) 166 159)) rfl rfl
theorem eX1_chance_159 {ev : xV} {v0 v1 v2 v3 v4 v5 v6 v7 v8 v9 v10 v11 : Option Value} {w0 w1 w2 w3 w5 w6 w7 w8 w9 w10 w11 : Option Int64} {x : Int64} {st : List Value} {h : xH} : exF ev cX1_chance 159 ([v0, v1, v2, v3, v4, v5, v6, v7, v8, v9, v10, v11], [w0, w1, w2, w3, some x, w5, w6, w7, w8, w9, w10, w11]) st h = exF ev cX1_chance 161 ([v0, v1, v2, v3, v4, v5, v6, v7, v8, v9, v10, v11], [w0, w1, w2, w3, some x, w5, w6, w7, w8, w9, w10, w11]) (.long x :: st) h := exF_j (i := (i_lload 4 161)) rfl rfl
theorem eX1_chance_161 {ev : xV} {v0 v1 v2 v3 v4 v5 v6 v7 v8 v9 v10 v11 : Option Value} {w0 w1 w2 w3 w4 w5 w6 w7 w8 w10 w11 : Option Int64} {x : Int64} {st : List Value} {h : xH} : exF ev cX1_chance 161 ([v0, v1, v2, v3, v4, v5, v6, v7, v8, v9, v10, v11], [w0, w1, w2, w3, w4, w5, w6, w7, w8, some x, w10, w11]) st h = exF ev cX1_chance 163 ([v0, v1, v2, v3, v4, v5, v6, v7, v8, v9, v10, v11], [w0, w1, w2, w3, w4, w5, w6, w7, w8, some x, w10, w11]) (.long x :: st) h := exF_j (i := (i_lload 9 163)) rfl rfl
theorem eX1_chance_163 {ev : xV} {v0 v1 v2 v3 v4 v5 v6 v7 v8 v9 v10 v11 : Option Value} {w0 w1 w2 w3 w4 w5 w6 w7 w8 w9 w10 w11 : Option Int64} {x y : Int64} {st : List Value} {h : xH} : exF ev cX1_chance 163 ([v0, v1, v2, v3, v4, v5, v6, v7, v8, v9, v10, v11], [w0, w1, w2, w3, w4, w5, w6, w7, w8, w9, w10, w11]) (.long y :: .long x :: st) h = exF ev cX1_chance 164 ([v0, v1, v2, v3, v4, v5, v6, v7, v8, v9, v10, v11], [w0, w1, w2, w3, w4, w5, w6, w7, w8, w9, w10, w11]) (.long (x + y) :: st) h := exF_j (i := (i_ll (fun x y => x + y) 164)) rfl rfl
theorem eX1_chance_164 {ev : xV} {v0 v1 v2 v3 v4 v5 v6 v7 v8 v9 v10 v11 : Option Value} {w0 w1 w2 w3 w4 w5 w6 w7 w8 w9 w10 w11 : Option Int64} {x : Int64} {st : List Value} {h : xH} : exF ev cX1_chance 164 ([v0, v1, v2, v3, v4, v5, v6, v7, v8, v9, v10, v11], [w0, w1, w2, w3, w4, w5, w6, w7, w8, w9, w10, w11]) (.long x :: st) h = exF ev cX1_chance 166 ([v0, v1, v2, v3, none, none, v6, v7, v8, v9, v10, v11], [w0, w1, w2, none, some x, none, w6, w7, w8, w9, w10, w11]) st h := exF_j (i := (i_lstore 4 166)) rfl rfl
theorem eX1_chance_166 {ev : xV} {v0 v1 v2 v3 v4 v5 v6 v7 v9 v10 v11 : Option Value} {w0 w1 w2 w3 w4 w5 w6 w7 w8 w9 w10 w11 : Option Int64} {x : Int32} {st : List Value} {h : xH} : exF ev cX1_chance 166 ([v0, v1, v2, v3, v4, v5, v6, v7, some (.int x), v9, v10, v11], [w0, w1, w2, w3, w4, w5, w6, w7, w8, w9, w10, w11]) st h = exF ev cX1_chance 169 ([v0, v1, v2, v3, v4, v5, v6, v7, some (.int (x + (nI 1))), v9, v10, v11], [w0, w1, w2, w3, w4, w5, w6, none, none, w9, w10, w11]) st h := exF_j (i := (i_iinc 8 (nI 1) 169)) rfl rfl
theorem eX1_chance_169 {ev : xV} {v0 v1 v2 v3 v4 v5 v6 v7 v8 v9 v10 v11 : Option Value} {w0 w1 w2 w3 w4 w5 w6 w7 w8 w9 w10 w11 : Option Int64} {st : List Value} {h : xH} : exF ev cX1_chance 169 ([v0, v1, v2, v3, v4, v5, v6, v7, v8, v9, v10, v11], [w0, w1, w2, w3, w4, w5, w6, w7, w8, w9, w10, w11]) st h = exF ev cX1_chance 62 ([v0, v1, v2, v3, v4, v5, v6, v7, v8, v9, v10, v11], [w0, w1, w2, w3, w4, w5, w6, w7, w8, w9, w10, w11]) st h := exF_j (i := (i_goto 62)) rfl rfl
theorem eX1_chance_172 {ev : xV} {v0 v1 v2 v3 v4 v5 v6 v7 v8 v9 v10 v11 : Option Value} {w0 w1 w2 w3 w5 w6 w7 w8 w9 w10 w11 : Option Int64} {x : Int64} {st : List Value} {h : xH} : exF ev cX1_chance 172 ([v0, v1, v2, v3, v4, v5, v6, v7, v8, v9, v10, v11], [w0, w1, w2, w3, some x, w5, w6, w7, w8, w9, w10, w11]) st h = exF ev cX1_chance 174 ([v0, v1, v2, v3, v4, v5, v6, v7, v8, v9, v10, v11], [w0, w1, w2, w3, some x, w5, w6, w7, w8, w9, w10, w11]) (.long x :: st) h := exF_j (i := (i_lload 4 174)) rfl rfl
theorem eX1_chance_174 {ev : xV} {v0 v1 v2 v3 v4 v5 v6 v7 v8 v9 v10 v11 : Option Value} {w0 w1 w2 w3 w4 w5 w6 w7 w8 w9 w10 w11 : Option Int64} {st : List Value} {h : xH} : exF ev cX1_chance 174 ([v0, v1, v2, v3, v4, v5, v6, v7, v8, v9, v10, v11], [w0, w1, w2, w3, w4, w5, w6, w7, w8, w9, w10, w11]) st h = exF ev cX1_chance 177 ([v0, v1, v2, v3, v4, v5, v6, v7, v8, v9, v10, v11], [w0, w1, w2, w3, w4, w5, w6, w7, w8, w9, w10, w11]) (.long (lN 1000000) :: st) h := exF_j (i := (i_const (.long (lN 1000000)) 177)) rfl rfl
theorem eX1_chance_177 {ev : xV} {v0 v1 v2 v3 v4 v5 v6 v7 v8 v9 v10 v11 : Option Value} {w0 w1 w2 w3 w4 w5 w6 w7 w8 w9 w10 w11 : Option Int64} {x y : Int64} {st : List Value} {h : xH} : exF ev cX1_chance 177 ([v0, v1, v2, v3, v4, v5, v6, v7, v8, v9, v10, v11], [w0, w1, w2, w3, w4, w5, w6, w7, w8, w9, w10, w11]) (.long y :: .long x :: st) h = exF ev cX1_chance 178 ([v0, v1, v2, v3, v4, v5, v6, v7, v8, v9, v10, v11], [w0, w1, w2, w3, w4, w5, w6, w7, w8, w9, w10, w11]) (.long (x * y) :: st) h := exF_j (i := (i_ll (fun x y => x * y) 178)) rfl rfl
theorem eX1_chance_178 {ev : xV} {v0 v1 v2 v3 v4 v5 v6 v7 v8 v9 v10 v11 : Option Value} {w0 w1 w2 w3 w4 w5 w7 w8 w9 w10 w11 : Option Int64} {x : Int64} {st : List Value} {h : xH} : exF ev cX1_chance 178 ([v0, v1, v2, v3, v4, v5, v6, v7, v8, v9, v10, v11], [w0, w1, w2, w3, w4, w5, some x, w7, w8, w9, w10, w11]) st h = exF ev cX1_chance 180 ([v0, v1, v2, v3, v4, v5, v6, v7, v8, v9, v10, v11], [w0, w1, w2, w3, w4, w5, some x, w7, w8, w9, w10, w11]) (.long x :: st) h := exF_j (i := (i_lload 6 180)) rfl rfl
theorem eX1_chance_180 {ev : xV} {v0 v1 v2 v3 v4 v5 v6 v7 v8 v9 v10 v11 : Option Value} {w0 w1 w2 w3 w4 w5 w6 w7 w8 w9 w10 w11 : Option Int64} {x y : Int64} {st : List Value} {h : xH} : exF ev cX1_chance 180 ([v0, v1, v2, v3, v4, v5, v6, v7, v8, v9, v10, v11], [w0, w1, w2, w3, w4, w5, w6, w7, w8, w9, w10, w11]) (.long y :: .long x :: st) h = xO (if y = 0 then none else some (x / y)) (fun v => exF ev cX1_chance 181 ([v0, v1, v2, v3, v4, v5, v6, v7, v8, v9, v10, v11], [w0, w1, w2, w3, w4, w5, w6, w7, w8, w9, w10, w11]) (.long v :: st) h) := exF_o (i := (i_lz (fun x y => x / y) 181)) rfl rfl
theorem eX1_chance_181 {ev : xV} {v0 v1 v2 v3 v4 v5 v6 v7 v8 v9 v10 v11 : Option Value} {w0 w1 w2 w3 w4 w5 w6 w7 w8 w9 w10 w11 : Option Int64} {x : Int64} {st : List Value} {h : xH} : exF ev cX1_chance 181 ([v0, v1, v2, v3, v4, v5, v6, v7, v8, v9, v10, v11], [w0, w1, w2, w3, w4, w5, w6, w7, w8, w9, w10, w11]) (.long x :: st) h = exF ev cX1_chance 182 ([v0, v1, v2, v3, v4, v5, v6, v7, v8, v9, v10, v11], [w0, w1, w2, w3, w4, w5, w6, w7, w8, w9, w10, w11]) (.int x.toInt32 :: st) h := exF_j (i := (i_l2i 182)) rfl rfl
theorem eX1_chance_182 {ev : xV} {v0 v1 v2 v3 v4 v5 v6 v7 v8 v9 v10 v11 : Option Value} {w0 w1 w2 w3 w4 w5 w6 w7 w8 w9 w10 w11 : Option Int64} {x : Int32} {h : xH} : exF ev cX1_chance 182 ([v0, v1, v2, v3, v4, v5, v6, v7, v8, v9, v10, v11], [w0, w1, w2, w3, w4, w5, w6, w7, w8, w9, w10, w11]) [.int x] h = some (.inl (some (.int x)), h) := exF_r (i := (i_iret)) rfl rfl
noncomputable def cX1_years : xC := [(0, i_iload 1 1),
  (1, i_const (.int (nI 0)) 2),
  (2, i_const (.int (nI 9999)) 5),
  (5, i_cs 92 3 8),
  (8, i_if1 (fun x => x = 0) 30 11),
  (11, i_iload 2 12),
  (12, i_const (.int (nI 1)) 13),
  (13, i_const (.int (nI 99)) 15),
  (15, i_cs 92 3 18),
  (18, i_if1 (fun x => x = 0) 30 21),
  (21, i_iload 3 22),
  (22, i_const (.int (nI 0)) 23),
  (23, i_const (.int (nI 2)) 24),
  (24, i_cs 92 3 27),
  (27, i_if1 (fun x => ¬ x = 0) 32 30),
  (30, i_const (.int (-1)) 31),
  (31, i_iret),
  (32, i_aload 0 33),
  (33, i_iload 1 34),
  (34, i_i2l 35),
  (35, i_putfl 0 20 38),
  (38, i_const (.int (nI 0)) 39),
  (39, i_istore 4 41),
  (41, i_aload 0 42),
  (42, i_getf 0 5 45),
  (45, i_aload 0 46),
  (46, i_getf 0 4 49),
  (49, i_cvv 3 239 1 52),
  (52, i_const (.int (nI 0)) 53),
  (53, i_istore 5 55),
  (55, i_iload 5 57),
  (57, i_iload 2 58),
  (58, i_if2 (fun x y => y ≤ x) 96 61),
  (61, i_aload 0 62),
  (62, i_cv 0 96 0 65),
  (65, i_if1 (fun x => x ≤ 0) 82 68),
  (68, i_aload 0 69),
  (69, i_aload 0 70),
  (70, i_getf 0 5 73),
  (73, i_cv 0 158 1 76),
  (76, i_if1 (fun x => x = 0) 82 79),
  (79, i_iinc 4 (nI 1) 82),
  (82, i_aload 0 83),
  (83, i_aload 0 84),
  (84, i_getf 0 5 87),
  (87, i_cvv 0 104 1 90),
  (90, i_iinc 5 (nI 1) 93),
  (93, i_goto 55),
  (96, i_iload 3 97),
  (97, i_if1 (fun x => ¬ x = 0) 105 100),
  (100, i_iload 4 102),
  (102, i_goto 134),
  (105, i_iload 3 106),
  (106, i_const (.int (nI 1)) 107),
  (107, i_if2 (fun x y => ¬ x = y) 124 110),
  (110, i_aload 0 111),
  (111, i_aload 0 112),
  (112, i_getf 0 5 115),
  (115, i_cv 0 108 1 118),
  (118, i_cs 28 1 121),
  (121, i_goto 134),
  (124, i_aload 0 125),
  (125, i_getf 0 5 128),
  (128, i_getf 3 0 131),
  (131, i_cs 160 1 134),
  (134, i_iret)]
theorem eX1_years_0 {ev : xV} {v0 v2 v3 v4 v5 : Option Value} {x : Int32} {st : List Value} {h : xH} : exF ev cX1_years 0 ([v0, some (.int x), v2, v3, v4, v5], []) st h = exF ev cX1_years 1 ([v0, some (.int x), v2, v3, v4, v5], []) (.int x :: st) h := exF_j (i := (i_iload 1 1)) rfl rfl
theorem eX1_years_1 {ev : xV} {v0 v1 v2 v3 v4 v5 : Option Value} {st : List Value} {h : xH} : exF ev cX1_years 1 ([v0, v1, v2, v3, v4, v5], []) st h = exF ev cX1_years 2 ([v0, v1, v2, v3, v4, v5], []) (.int (nI 0) :: st) h := exF_j (i := (i_const (.int (nI 0)) 2)) rfl rfl
theorem eX1_years_2 {ev : xV} {v0 v1 v2 v3 v4 v5 : Option Value} {st : List Value} {h : xH} : exF ev cX1_years 2 ([v0, v1, v2, v3, v4, v5], []) st h = exF ev cX1_years 5 ([v0, v1, v2, v3, v4, v5], []) (.int (nI 9999) :: st) h := exF_j (i := (i_const (.int (nI 9999)) 5)) rfl rfl
theorem eX1_years_5 {ev : xV} {v0 v1 v2 v3 v4 v5 : Option Value} {a0 : Value} {a1 : Value} {a2 : Value} {h : xH} : exF ev cX1_years 5 ([v0, v1, v2, v3, v4, v5], []) [a2, a1, a0] h = xB (ev 92 [a0, a1, a2] h) (fun v h => exF ev cX1_years 8 ([v0, v1, v2, v3, v4, v5], []) [v] h) := exF_c (i := (i_cs 92 3 8)) rfl rfl
theorem eX1_years_8 {ev : xV} {v0 v1 v2 v3 v4 v5 : Option Value} {x : Int32} {st : List Value} {h : xH} : exF ev cX1_years 8 ([v0, v1, v2, v3, v4, v5], []) (.int x :: st) h = if x = 0 then exF ev cX1_years 30 ([v0, v1, v2, v3, v4, v5], []) st h else exF ev cX1_years 11 ([v0, v1, v2, v3, v4, v5], []) st h := exF_b (i := (i_if1 (fun x => x = 0) 30 11)) rfl rfl
theorem eX1_years_11 {ev : xV} {v0 v1 v3 v4 v5 : Option Value} {x : Int32} {st : List Value} {h : xH} : exF ev cX1_years 11 ([v0, v1, some (.int x), v3, v4, v5], []) st h = exF ev cX1_years 12 ([v0, v1, some (.int x), v3, v4, v5], []) (.int x :: st) h := exF_j (i := (i_iload 2 12)) rfl rfl
theorem eX1_years_12 {ev : xV} {v0 v1 v2 v3 v4 v5 : Option Value} {st : List Value} {h : xH} : exF ev cX1_years 12 ([v0, v1, v2, v3, v4, v5], []) st h = exF ev cX1_years 13 ([v0, v1, v2, v3, v4, v5], []) (.int (nI 1) :: st) h := exF_j (i := (i_const (.int (nI 1)) 13)) rfl rfl
theorem eX1_years_13 {ev : xV} {v0 v1 v2 v3 v4 v5 : Option Value} {st : List Value} {h : xH} : exF ev cX1_years 13 ([v0, v1, v2, v3, v4, v5], []) st h = exF ev cX1_years 15 ([v0, v1, v2, v3, v4, v5], []) (.int (nI 99) :: st) h := exF_j (i := (i_const (.int (nI 99)) 15)) rfl rfl
theorem eX1_years_15 {ev : xV} {v0 v1 v2 v3 v4 v5 : Option Value} {a0 : Value} {a1 : Value} {a2 : Value} {h : xH} : exF ev cX1_years 15 ([v0, v1, v2, v3, v4, v5], []) [a2, a1, a0] h = xB (ev 92 [a0, a1, a2] h) (fun v h => exF ev cX1_years 18 ([v0, v1, v2, v3, v4, v5], []) [v] h) := exF_c (i := (i_cs 92 3 18)) rfl rfl
theorem eX1_years_18 {ev : xV} {v0 v1 v2 v3 v4 v5 : Option Value} {x : Int32} {st : List Value} {h : xH} : exF ev cX1_years 18 ([v0, v1, v2, v3, v4, v5], []) (.int x :: st) h = if x = 0 then exF ev cX1_years 30 ([v0, v1, v2, v3, v4, v5], []) st h else exF ev cX1_years 21 ([v0, v1, v2, v3, v4, v5], []) st h := exF_b (i := (i_if1 (fun x => x = 0) 30 21)) rfl rfl
theorem eX1_years_21 {ev : xV} {v0 v1 v2 v4 v5 : Option Value} {x : Int32} {st : List Value} {h : xH} : exF ev cX1_years 21 ([v0, v1, v2, some (.int x), v4, v5], []) st h = exF ev cX1_years 22 ([v0, v1, v2, some (.int x), v4, v5], []) (.int x :: st) h := exF_j (i := (i_iload 3 22)) rfl rfl
theorem eX1_years_22 {ev : xV} {v0 v1 v2 v3 v4 v5 : Option Value} {st : List Value} {h : xH} : exF ev cX1_years 22 ([v0, v1, v2, v3, v4, v5], []) st h = exF ev cX1_years 23 ([v0, v1, v2, v3, v4, v5], []) (.int (nI 0) :: st) h := exF_j (i := (i_const (.int (nI 0)) 23)) rfl rfl
theorem eX1_years_23 {ev : xV} {v0 v1 v2 v3 v4 v5 : Option Value} {st : List Value} {h : xH} : exF ev cX1_years 23 ([v0, v1, v2, v3, v4, v5], []) st h = exF ev cX1_years 24 ([v0, v1, v2, v3, v4, v5], []) (.int (nI 2) :: st) h := exF_j (i := (i_const (.int (nI 2)) 24)) rfl rfl
theorem eX1_years_24 {ev : xV} {v0 v1 v2 v3 v4 v5 : Option Value} {a0 : Value} {a1 : Value} {a2 : Value} {h : xH} : exF ev cX1_years 24 ([v0, v1, v2, v3, v4, v5], []) [a2, a1, a0] h = xB (ev 92 [a0, a1, a2] h) (fun v h => exF ev cX1_years 27 ([v0, v1, v2, v3, v4, v5], []) [v] h) := exF_c (i := (i_cs 92 3 27)) rfl rfl
theorem eX1_years_27 {ev : xV} {v0 v1 v2 v3 v4 v5 : Option Value} {x : Int32} {st : List Value} {h : xH} : exF ev cX1_years 27 ([v0, v1, v2, v3, v4, v5], []) (.int x :: st) h = if ¬ x = 0 then exF ev cX1_years 32 ([v0, v1, v2, v3, v4, v5], []) st h else exF ev cX1_years 30 ([v0, v1, v2, v3, v4, v5], []) st h := exF_b (i := (i_if1 (fun x => ¬ x = 0) 32 30)) rfl rfl
theorem eX1_years_30 {ev : xV} {v0 v1 v2 v3 v4 v5 : Option Value} {st : List Value} {h : xH} : exF ev cX1_years 30 ([v0, v1, v2, v3, v4, v5], []) st h = exF ev cX1_years 31 ([v0, v1, v2, v3, v4, v5], []) (.int (-1) :: st) h := exF_j (i := (i_const (.int (-1)) 31)) rfl rfl
theorem eX1_years_31 {ev : xV} {v0 v1 v2 v3 v4 v5 : Option Value} {x : Int32} {h : xH} : exF ev cX1_years 31 ([v0, v1, v2, v3, v4, v5], []) [.int x] h = some (.inl (some (.int x)), h) := exF_r (i := (i_iret)) rfl rfl
theorem eX1_years_32 {ev : xV} {v1 v2 v3 v4 v5 : Option Value} {x : Nat} {st : List Value} {h : xH} : exF ev cX1_years 32 ([some (.ref x), v1, v2, v3, v4, v5], []) st h = exF ev cX1_years 33 ([some (.ref x), v1, v2, v3, v4, v5], []) (.ref x :: st) h := exF_j (i := (i_aload 0 33)) rfl rfl
theorem eX1_years_33 {ev : xV} {v0 v2 v3 v4 v5 : Option Value} {x : Int32} {st : List Value} {h : xH} : exF ev cX1_years 33 ([v0, some (.int x), v2, v3, v4, v5], []) st h = exF ev cX1_years 34 ([v0, some (.int x), v2, v3, v4, v5], []) (.int x :: st) h := exF_j (i := (i_iload 1 34)) rfl rfl
theorem eX1_years_34 {ev : xV} {v0 v1 v2 v3 v4 v5 : Option Value} {x : Int32} {st : List Value} {h : xH} : exF ev cX1_years 34 ([v0, v1, v2, v3, v4, v5], []) (.int x :: st) h = exF ev cX1_years 35 ([v0, v1, v2, v3, v4, v5], []) (.long x.toInt64 :: st) h := exF_j (i := (i_i2l 35)) rfl rfl
theorem eX1_years_35 {ev : xV} {v0 v1 v2 v3 v4 v5 : Option Value} {x : Int64} {a : Nat} {st : List Value} {h : xH} : exF ev cX1_years 35 ([v0, v1, v2, v3, v4, v5], []) (.long x :: .ref a :: st) h = xO (xpf h a 0 20 (.long x)) (fun h => exF ev cX1_years 38 ([v0, v1, v2, v3, v4, v5], []) st h) := exF_o (i := (i_putfl 0 20 38)) rfl rfl
theorem eX1_years_38 {ev : xV} {v0 v1 v2 v3 v4 v5 : Option Value} {st : List Value} {h : xH} : exF ev cX1_years 38 ([v0, v1, v2, v3, v4, v5], []) st h = exF ev cX1_years 39 ([v0, v1, v2, v3, v4, v5], []) (.int (nI 0) :: st) h := exF_j (i := (i_const (.int (nI 0)) 39)) rfl rfl
theorem eX1_years_39 {ev : xV} {v0 v1 v2 v3 v4 v5 : Option Value} {x : Int32} {st : List Value} {h : xH} : exF ev cX1_years 39 ([v0, v1, v2, v3, v4, v5], []) (.int x :: st) h = exF ev cX1_years 41 ([v0, v1, v2, v3, some (.int x), v5], []) st h := exF_j (i := (i_istore 4 41)) rfl rfl
theorem eX1_years_41 {ev : xV} {v1 v2 v3 v4 v5 : Option Value} {x : Nat} {st : List Value} {h : xH} : exF ev cX1_years 41 ([some (.ref x), v1, v2, v3, v4, v5], []) st h = exF ev cX1_years 42 ([some (.ref x), v1, v2, v3, v4, v5], []) (.ref x :: st) h := exF_j (i := (i_aload 0 42)) rfl rfl
theorem eX1_years_42 {ev : xV} {v0 v1 v2 v3 v4 v5 : Option Value} {a : Nat} {st : List Value} {h : xH} : exF ev cX1_years 42 ([v0, v1, v2, v3, v4, v5], []) (.ref a :: st) h = xO (xgf h a 0 5) (fun v => exF ev cX1_years 45 ([v0, v1, v2, v3, v4, v5], []) (v :: st) h) := exF_o (i := (i_getf 0 5 45)) rfl rfl
theorem eX1_years_45 {ev : xV} {v1 v2 v3 v4 v5 : Option Value} {x : Nat} {st : List Value} {h : xH} : exF ev cX1_years 45 ([some (.ref x), v1, v2, v3, v4, v5], []) st h = exF ev cX1_years 46 ([some (.ref x), v1, v2, v3, v4, v5], []) (.ref x :: st) h := exF_j (i := (i_aload 0 46)) rfl rfl
theorem eX1_years_46 {ev : xV} {v0 v1 v2 v3 v4 v5 : Option Value} {a : Nat} {st : List Value} {h : xH} : exF ev cX1_years 46 ([v0, v1, v2, v3, v4, v5], []) (.ref a :: st) h = xO (xgf h a 0 4) (fun v => exF ev cX1_years 49 ([v0, v1, v2, v3, v4, v5], []) (v :: st) h) := exF_o (i := (i_getf 0 4 49)) rfl rfl
theorem eX1_years_49 {ev : xV} {v0 v1 v2 v3 v4 v5 : Option Value} {a0 : Value} {a : Nat} {h : xH} : exF ev cX1_years 49 ([v0, v1, v2, v3, v4, v5], []) [a0, .ref a] h = xO (xck h a 3) (fun _ => xBv (ev 239 [.ref a, a0] h) (fun h => exF ev cX1_years 52 ([v0, v1, v2, v3, v4, v5], []) [] h)) := exF_cdv (i := (i_cvv 3 239 1 52)) rfl rfl
theorem eX1_years_52 {ev : xV} {v0 v1 v2 v3 v4 v5 : Option Value} {st : List Value} {h : xH} : exF ev cX1_years 52 ([v0, v1, v2, v3, v4, v5], []) st h = exF ev cX1_years 53 ([v0, v1, v2, v3, v4, v5], []) (.int (nI 0) :: st) h := exF_j (i := (i_const (.int (nI 0)) 53)) rfl rfl
theorem eX1_years_53 {ev : xV} {v0 v1 v2 v3 v4 v5 : Option Value} {x : Int32} {st : List Value} {h : xH} : exF ev cX1_years 53 ([v0, v1, v2, v3, v4, v5], []) (.int x :: st) h = exF ev cX1_years 55 ([v0, v1, v2, v3, v4, some (.int x)], []) st h := exF_j (i := (i_istore 5 55)) rfl rfl
theorem eX1_years_55 {ev : xV} {v0 v1 v2 v3 v4 : Option Value} {x : Int32} {st : List Value} {h : xH} : exF ev cX1_years 55 ([v0, v1, v2, v3, v4, some (.int x)], []) st h = exF ev cX1_years 57 ([v0, v1, v2, v3, v4, some (.int x)], []) (.int x :: st) h := exF_j (i := (i_iload 5 57)) rfl rfl
theorem eX1_years_57 {ev : xV} {v0 v1 v3 v4 v5 : Option Value} {x : Int32} {st : List Value} {h : xH} : exF ev cX1_years 57 ([v0, v1, some (.int x), v3, v4, v5], []) st h = exF ev cX1_years 58 ([v0, v1, some (.int x), v3, v4, v5], []) (.int x :: st) h := exF_j (i := (i_iload 2 58)) rfl rfl
theorem eX1_years_58 {ev : xV} {v0 v1 v2 v3 v4 v5 : Option Value} {x y : Int32} {st : List Value} {h : xH} : exF ev cX1_years 58 ([v0, v1, v2, v3, v4, v5], []) (.int y :: .int x :: st) h = if y ≤ x then exF ev cX1_years 96 ([v0, v1, v2, v3, v4, v5], []) st h else exF ev cX1_years 61 ([v0, v1, v2, v3, v4, v5], []) st h := exF_b (i := (i_if2 (fun x y => y ≤ x) 96 61)) rfl rfl
theorem eX1_years_61 {ev : xV} {v1 v2 v3 v4 v5 : Option Value} {x : Nat} {st : List Value} {h : xH} : exF ev cX1_years 61 ([some (.ref x), v1, v2, v3, v4, v5], []) st h = exF ev cX1_years 62 ([some (.ref x), v1, v2, v3, v4, v5], []) (.ref x :: st) h := exF_j (i := (i_aload 0 62)) rfl rfl
theorem eX1_years_62 {ev : xV} {v0 v1 v2 v3 v4 v5 : Option Value} {a : Nat} {h : xH} : exF ev cX1_years 62 ([v0, v1, v2, v3, v4, v5], []) [.ref a] h = xO (xck h a 0) (fun _ => xB (ev 96 [.ref a] h) (fun v h => exF ev cX1_years 65 ([v0, v1, v2, v3, v4, v5], []) [v] h)) := exF_cd (i := (i_cv 0 96 0 65)) rfl rfl
theorem eX1_years_65 {ev : xV} {v0 v1 v2 v3 v4 v5 : Option Value} {x : Int32} {st : List Value} {h : xH} : exF ev cX1_years 65 ([v0, v1, v2, v3, v4, v5], []) (.int x :: st) h = if x ≤ 0 then exF ev cX1_years 82 ([v0, v1, v2, v3, v4, v5], []) st h else exF ev cX1_years 68 ([v0, v1, v2, v3, v4, v5], []) st h := exF_b (i := (i_if1 (fun x => x ≤ 0) 82 68)) rfl rfl
theorem eX1_years_68 {ev : xV} {v1 v2 v3 v4 v5 : Option Value} {x : Nat} {st : List Value} {h : xH} : exF ev cX1_years 68 ([some (.ref x), v1, v2, v3, v4, v5], []) st h = exF ev cX1_years 69 ([some (.ref x), v1, v2, v3, v4, v5], []) (.ref x :: st) h := exF_j (i := (i_aload 0 69)) rfl rfl
theorem eX1_years_69 {ev : xV} {v1 v2 v3 v4 v5 : Option Value} {x : Nat} {st : List Value} {h : xH} : exF ev cX1_years 69 ([some (.ref x), v1, v2, v3, v4, v5], []) st h = exF ev cX1_years 70 ([some (.ref x), v1, v2, v3, v4, v5], []) (.ref x :: st) h := exF_j (i := (i_aload 0 70)) rfl rfl
theorem eX1_years_70 {ev : xV} {v0 v1 v2 v3 v4 v5 : Option Value} {a : Nat} {st : List Value} {h : xH} : exF ev cX1_years 70 ([v0, v1, v2, v3, v4, v5], []) (.ref a :: st) h = xO (xgf h a 0 5) (fun v => exF ev cX1_years 73 ([v0, v1, v2, v3, v4, v5], []) (v :: st) h) := exF_o (i := (i_getf 0 5 73)) rfl rfl
theorem eX1_years_73 {ev : xV} {v0 v1 v2 v3 v4 v5 : Option Value} {a0 : Value} {a : Nat} {h : xH} : exF ev cX1_years 73 ([v0, v1, v2, v3, v4, v5], []) [a0, .ref a] h = xO (xck h a 0) (fun _ => xB (ev 158 [.ref a, a0] h) (fun v h => exF ev cX1_years 76 ([v0, v1, v2, v3, v4, v5], []) [v] h)) := exF_cd (i := (i_cv 0 158 1 76)) rfl rfl
theorem eX1_years_76 {ev : xV} {v0 v1 v2 v3 v4 v5 : Option Value} {x : Int32} {st : List Value} {h : xH} : exF ev cX1_years 76 ([v0, v1, v2, v3, v4, v5], []) (.int x :: st) h = if x = 0 then exF ev cX1_years 82 ([v0, v1, v2, v3, v4, v5], []) st h else exF ev cX1_years 79 ([v0, v1, v2, v3, v4, v5], []) st h := exF_b (i := (i_if1 (fun x => x = 0) 82 79)) rfl rfl
theorem eX1_years_79 {ev : xV} {v0 v1 v2 v3 v5 : Option Value} {x : Int32} {st : List Value} {h : xH} : exF ev cX1_years 79 ([v0, v1, v2, v3, some (.int x), v5], []) st h = exF ev cX1_years 82 ([v0, v1, v2, v3, some (.int (x + (nI 1))), v5], []) st h := exF_j (i := (i_iinc 4 (nI 1) 82)) rfl rfl
theorem eX1_years_82 {ev : xV} {v1 v2 v3 v4 v5 : Option Value} {x : Nat} {st : List Value} {h : xH} : exF ev cX1_years 82 ([some (.ref x), v1, v2, v3, v4, v5], []) st h = exF ev cX1_years 83 ([some (.ref x), v1, v2, v3, v4, v5], []) (.ref x :: st) h := exF_j (i := (i_aload 0 83)) rfl rfl
theorem eX1_years_83 {ev : xV} {v1 v2 v3 v4 v5 : Option Value} {x : Nat} {st : List Value} {h : xH} : exF ev cX1_years 83 ([some (.ref x), v1, v2, v3, v4, v5], []) st h = exF ev cX1_years 84 ([some (.ref x), v1, v2, v3, v4, v5], []) (.ref x :: st) h := exF_j (i := (i_aload 0 84)) rfl rfl
theorem eX1_years_84 {ev : xV} {v0 v1 v2 v3 v4 v5 : Option Value} {a : Nat} {st : List Value} {h : xH} : exF ev cX1_years 84 ([v0, v1, v2, v3, v4, v5], []) (.ref a :: st) h = xO (xgf h a 0 5) (fun v => exF ev cX1_years 87 ([v0, v1, v2, v3, v4, v5], []) (v :: st) h) := exF_o (i := (i_getf 0 5 87)) rfl rfl
theorem eX1_years_87 {ev : xV} {v0 v1 v2 v3 v4 v5 : Option Value} {a0 : Value} {a : Nat} {h : xH} : exF ev cX1_years 87 ([v0, v1, v2, v3, v4, v5], []) [a0, .ref a] h = xO (xck h a 0) (fun _ => xBv (ev 104 [.ref a, a0] h) (fun h => exF ev cX1_years 90 ([v0, v1, v2, v3, v4, v5], []) [] h)) := exF_cdv (i := (i_cvv 0 104 1 90)) rfl rfl
theorem eX1_years_90 {ev : xV} {v0 v1 v2 v3 v4 : Option Value} {x : Int32} {st : List Value} {h : xH} : exF ev cX1_years 90 ([v0, v1, v2, v3, v4, some (.int x)], []) st h = exF ev cX1_years 93 ([v0, v1, v2, v3, v4, some (.int (x + (nI 1)))], []) st h := exF_j (i := (i_iinc 5 (nI 1) 93)) rfl rfl
theorem eX1_years_93 {ev : xV} {v0 v1 v2 v3 v4 v5 : Option Value} {st : List Value} {h : xH} : exF ev cX1_years 93 ([v0, v1, v2, v3, v4, v5], []) st h = exF ev cX1_years 55 ([v0, v1, v2, v3, v4, v5], []) st h := exF_j (i := (i_goto 55)) rfl rfl
theorem eX1_years_96 {ev : xV} {v0 v1 v2 v4 v5 : Option Value} {x : Int32} {st : List Value} {h : xH} : exF ev cX1_years 96 ([v0, v1, v2, some (.int x), v4, v5], []) st h = exF ev cX1_years 97 ([v0, v1, v2, some (.int x), v4, v5], []) (.int x :: st) h := exF_j (i := (i_iload 3 97)) rfl rfl
theorem eX1_years_97 {ev : xV} {v0 v1 v2 v3 v4 v5 : Option Value} {x : Int32} {st : List Value} {h : xH} : exF ev cX1_years 97 ([v0, v1, v2, v3, v4, v5], []) (.int x :: st) h = if ¬ x = 0 then exF ev cX1_years 105 ([v0, v1, v2, v3, v4, v5], []) st h else exF ev cX1_years 100 ([v0, v1, v2, v3, v4, v5], []) st h := exF_b (i := (i_if1 (fun x => ¬ x = 0) 105 100)) rfl rfl
theorem eX1_years_100 {ev : xV} {v0 v1 v2 v3 v5 : Option Value} {x : Int32} {st : List Value} {h : xH} : exF ev cX1_years 100 ([v0, v1, v2, v3, some (.int x), v5], []) st h = exF ev cX1_years 102 ([v0, v1, v2, v3, some (.int x), v5], []) (.int x :: st) h := exF_j (i := (i_iload 4 102)) rfl rfl
theorem eX1_years_102 {ev : xV} {v0 v1 v2 v3 v4 v5 : Option Value} {st : List Value} {h : xH} : exF ev cX1_years 102 ([v0, v1, v2, v3, v4, v5], []) st h = exF ev cX1_years 134 ([v0, v1, v2, v3, v4, v5], []) st h := exF_j (i := (i_goto 134)) rfl rfl
theorem eX1_years_105 {ev : xV} {v0 v1 v2 v4 v5 : Option Value} {x : Int32} {st : List Value} {h : xH} : exF ev cX1_years 105 ([v0, v1, v2, some (.int x), v4, v5], []) st h = exF ev cX1_years 106 ([v0, v1, v2, some (.int x), v4, v5], []) (.int x :: st) h := exF_j (i := (i_iload 3 106)) rfl rfl
theorem eX1_years_106 {ev : xV} {v0 v1 v2 v3 v4 v5 : Option Value} {st : List Value} {h : xH} : exF ev cX1_years 106 ([v0, v1, v2, v3, v4, v5], []) st h = exF ev cX1_years 107 ([v0, v1, v2, v3, v4, v5], []) (.int (nI 1) :: st) h := exF_j (i := (i_const (.int (nI 1)) 107)) rfl rfl
theorem eX1_years_107 {ev : xV} {v0 v1 v2 v3 v4 v5 : Option Value} {x y : Int32} {st : List Value} {h : xH} : exF ev cX1_years 107 ([v0, v1, v2, v3, v4, v5], []) (.int y :: .int x :: st) h = if ¬ x = y then exF ev cX1_years 124 ([v0, v1, v2, v3, v4, v5], []) st h else exF ev cX1_years 110 ([v0, v1, v2, v3, v4, v5], []) st h := exF_b (i := (i_if2 (fun x y => ¬ x = y) 124 110)) rfl rfl
theorem eX1_years_110 {ev : xV} {v1 v2 v3 v4 v5 : Option Value} {x : Nat} {st : List Value} {h : xH} : exF ev cX1_years 110 ([some (.ref x), v1, v2, v3, v4, v5], []) st h = exF ev cX1_years 111 ([some (.ref x), v1, v2, v3, v4, v5], []) (.ref x :: st) h := exF_j (i := (i_aload 0 111)) rfl rfl
theorem eX1_years_111 {ev : xV} {v1 v2 v3 v4 v5 : Option Value} {x : Nat} {st : List Value} {h : xH} : exF ev cX1_years 111 ([some (.ref x), v1, v2, v3, v4, v5], []) st h = exF ev cX1_years 112 ([some (.ref x), v1, v2, v3, v4, v5], []) (.ref x :: st) h := exF_j (i := (i_aload 0 112)) rfl rfl
theorem eX1_years_112 {ev : xV} {v0 v1 v2 v3 v4 v5 : Option Value} {a : Nat} {st : List Value} {h : xH} : exF ev cX1_years 112 ([v0, v1, v2, v3, v4, v5], []) (.ref a :: st) h = xO (xgf h a 0 5) (fun v => exF ev cX1_years 115 ([v0, v1, v2, v3, v4, v5], []) (v :: st) h) := exF_o (i := (i_getf 0 5 115)) rfl rfl
theorem eX1_years_115 {ev : xV} {v0 v1 v2 v3 v4 v5 : Option Value} {a0 : Value} {a : Nat} {h : xH} : exF ev cX1_years 115 ([v0, v1, v2, v3, v4, v5], []) [a0, .ref a] h = xO (xck h a 0) (fun _ => xB (ev 108 [.ref a, a0] h) (fun v h => exF ev cX1_years 118 ([v0, v1, v2, v3, v4, v5], []) [v] h)) := exF_cd (i := (i_cv 0 108 1 118)) rfl rfl
theorem eX1_years_118 {ev : xV} {v0 v1 v2 v3 v4 v5 : Option Value} {a0 : Value} {h : xH} : exF ev cX1_years 118 ([v0, v1, v2, v3, v4, v5], []) [a0] h = xB (ev 28 [a0] h) (fun v h => exF ev cX1_years 121 ([v0, v1, v2, v3, v4, v5], []) [v] h) := exF_c (i := (i_cs 28 1 121)) rfl rfl
theorem eX1_years_121 {ev : xV} {v0 v1 v2 v3 v4 v5 : Option Value} {st : List Value} {h : xH} : exF ev cX1_years 121 ([v0, v1, v2, v3, v4, v5], []) st h = exF ev cX1_years 134 ([v0, v1, v2, v3, v4, v5], []) st h := exF_j (i := (i_goto 134)) rfl rfl
theorem eX1_years_124 {ev : xV} {v1 v2 v3 v4 v5 : Option Value} {x : Nat} {st : List Value} {h : xH} : exF ev cX1_years 124 ([some (.ref x), v1, v2, v3, v4, v5], []) st h = exF ev cX1_years 125 ([some (.ref x), v1, v2, v3, v4, v5], []) (.ref x :: st) h := exF_j (i := (i_aload 0 125)) rfl rfl
theorem eX1_years_125 {ev : xV} {v0 v1 v2 v3 v4 v5 : Option Value} {a : Nat} {st : List Value} {h : xH} : exF ev cX1_years 125 ([v0, v1, v2, v3, v4, v5], []) (.ref a :: st) h = xO (xgf h a 0 5) (fun v => exF ev cX1_years 128 ([v0, v1, v2, v3, v4, v5], []) (v :: st) h) := exF_o (i := (i_getf 0 5 128)) rfl rfl
theorem eX1_years_128 {ev : xV} {v0 v1 v2 v3 v4 v5 : Option Value} {a : Nat} {st : List Value} {h : xH} : exF ev cX1_years 128 ([v0, v1, v2, v3, v4, v5], []) (.ref a :: st) h = xO (xgf h a 3 0) (fun v => exF ev cX1_years 131 ([v0, v1, v2, v3, v4, v5], []) (v :: st) h) := exF_o (i := (i_getf 3 0 131)) rfl rfl
theorem eX1_years_131 {ev : xV} {v0 v1 v2 v3 v4 v5 : Option Value} {a0 : Value} {h : xH} : exF ev cX1_years 131 ([v0, v1, v2, v3, v4, v5], []) [a0] h = xB (ev 160 [a0] h) (fun v h => exF ev cX1_years 134 ([v0, v1, v2, v3, v4, v5], []) [v] h) := exF_c (i := (i_cs 160 1 134)) rfl rfl
theorem eX1_years_134 {ev : xV} {v0 v1 v2 v3 v4 v5 : Option Value} {x : Int32} {h : xH} : exF ev cX1_years 134 ([v0, v1, v2, v3, v4, v5], []) [.int x] h = some (.inl (some (.int x)), h) := exF_r (i := (i_iret)) rfl rfl
noncomputable def cX1_befalls : xC := [(0, i_aload 0 1),
  (1, i_const (.int (nI 5)) 2),
  (2, i_cv 0 159 1 5),
  (5, i_istore 2 6),
  (6, i_iload 2 7),
  (7, i_const (.int (nI 2)) 8),
  (8, i_if2 (fun x y => y < x) 23 11),
  (11, i_iload 2 12),
  (12, i_const (.int (nI 1)) 13),
  (13, i_if2 (fun x y => ¬ x = y) 25 16),
  (16, i_aload 0 17),
  (17, i_cv 0 101 0 20),
  (20, i_if1 (fun x => ¬ x = 0) 25 23),
  (23, i_const (.int (nI 0)) 24),
  (24, i_zret),
  (25, i_iload 2 26),
  (26, i_const (.int (nI 1)) 27),
  (27, i_if2 (fun x y => ¬ x = y) 41 30),
  (30, i_aload 0 31),
  (31, i_aload 0 32),
  (32, i_cv 0 101 0 35),
  (35, i_cv 0 159 1 38),
  (38, i_goto 42),
  (41, i_const (.int (-1)) 42),
  (42, i_istore 3 43),
  (43, i_aload 0 44),
  (44, i_aload 0 45),
  (45, i_cv 0 96 0 48),
  (48, i_cv 0 159 1 51),
  (51, i_istore 4 53),
  (53, i_iload 2 54),
  (54, i_if1 (fun x => ¬ x = 0) 77 57),
  (57, i_aload 1 58),
  (58, i_iload 4 60),
  (60, i_cv 3 240 1 63),
  (63, i_if1 (fun x => x = 0) 77 66),
  (66, i_aload 1 67),
  (67, i_getf 3 1 70),
  (70, i_iload 4 72),
  (72, i_dup2 73),
  (73, i_ai 0 74),
  (74, i_const (.int (nI 1)) 75),
  (75, i_ii (fun x y => x + y) 76),
  (76, i_si (fun v => v) 0 77),
  (77, i_iload 2 78),
  (78, i_const (.int (nI 2)) 79),
  (79, i_if2 (fun x y => ¬ x = y) 105 82),
  (82, i_aload 1 83),
  (83, i_iload 4 85),
  (85, i_cv 3 242 1 88),
  (88, i_if1 (fun x => x = 0) 105 91),
  (91, i_aload 1 92),
  (92, i_getf 3 1 95),
  (95, i_iload 4 97),
  (97, i_aload 1 98),
  (98, i_getf 3 0 101),
  (101, i_iload 4 103),
  (103, i_ai 0 104),
  (104, i_si (fun v => v) 0 105),
  (105, i_iload 2 106),
  (106, i_const (.int (nI 1)) 107),
  (107, i_if2 (fun x y => ¬ x = y) 125 110),
  (110, i_aload 0 111),
  (111, i_aload 1 112),
  (112, i_iload 3 113),
  (113, i_iload 4 115),
  (115, i_cv 0 110 3 118),
  (118, i_if1 (fun x => x = 0) 125 121),
  (121, i_const (.int (nI 1)) 122),
  (122, i_goto 126),
  (125, i_const (.int (nI 0)) 126),
  (126, i_zret)]
theorem eX1_befalls_0 {ev : xV} {v1 v2 v3 v4 : Option Value} {x : Nat} {st : List Value} {h : xH} : exF ev cX1_befalls 0 ([some (.ref x), v1, v2, v3, v4], []) st h = exF ev cX1_befalls 1 ([some (.ref x), v1, v2, v3, v4], []) (.ref x :: st) h := exF_j (i := (i_aload 0 1)) rfl rfl
theorem eX1_befalls_1 {ev : xV} {v0 v1 v2 v3 v4 : Option Value} {st : List Value} {h : xH} : exF ev cX1_befalls 1 ([v0, v1, v2, v3, v4], []) st h = exF ev cX1_befalls 2 ([v0, v1, v2, v3, v4], []) (.int (nI 5) :: st) h := exF_j (i := (i_const (.int (nI 5)) 2)) rfl rfl
theorem eX1_befalls_2 {ev : xV} {v0 v1 v2 v3 v4 : Option Value} {a0 : Value} {a : Nat} {h : xH} : exF ev cX1_befalls 2 ([v0, v1, v2, v3, v4], []) [a0, .ref a] h = xO (xck h a 0) (fun _ => xB (ev 159 [.ref a, a0] h) (fun v h => exF ev cX1_befalls 5 ([v0, v1, v2, v3, v4], []) [v] h)) := exF_cd (i := (i_cv 0 159 1 5)) rfl rfl
theorem eX1_befalls_5 {ev : xV} {v0 v1 v2 v3 v4 : Option Value} {x : Int32} {st : List Value} {h : xH} : exF ev cX1_befalls 5 ([v0, v1, v2, v3, v4], []) (.int x :: st) h = exF ev cX1_befalls 6 ([v0, v1, some (.int x), v3, v4], []) st h := exF_j (i := (i_istore 2 6)) rfl rfl
theorem eX1_befalls_6 {ev : xV} {v0 v1 v3 v4 : Option Value} {x : Int32} {st : List Value} {h : xH} : exF ev cX1_befalls 6 ([v0, v1, some (.int x), v3, v4], []) st h = exF ev cX1_befalls 7 ([v0, v1, some (.int x), v3, v4], []) (.int x :: st) h := exF_j (i := (i_iload 2 7)) rfl rfl
theorem eX1_befalls_7 {ev : xV} {v0 v1 v2 v3 v4 : Option Value} {st : List Value} {h : xH} : exF ev cX1_befalls 7 ([v0, v1, v2, v3, v4], []) st h = exF ev cX1_befalls 8 ([v0, v1, v2, v3, v4], []) (.int (nI 2) :: st) h := exF_j (i := (i_const (.int (nI 2)) 8)) rfl rfl
theorem eX1_befalls_8 {ev : xV} {v0 v1 v2 v3 v4 : Option Value} {x y : Int32} {st : List Value} {h : xH} : exF ev cX1_befalls 8 ([v0, v1, v2, v3, v4], []) (.int y :: .int x :: st) h = if y < x then exF ev cX1_befalls 23 ([v0, v1, v2, v3, v4], []) st h else exF ev cX1_befalls 11 ([v0, v1, v2, v3, v4], []) st h := exF_b (i := (i_if2 (fun x y => y < x) 23 11)) rfl rfl
theorem eX1_befalls_11 {ev : xV} {v0 v1 v3 v4 : Option Value} {x : Int32} {st : List Value} {h : xH} : exF ev cX1_befalls 11 ([v0, v1, some (.int x), v3, v4], []) st h = exF ev cX1_befalls 12 ([v0, v1, some (.int x), v3, v4], []) (.int x :: st) h := exF_j (i := (i_iload 2 12)) rfl rfl
theorem eX1_befalls_12 {ev : xV} {v0 v1 v2 v3 v4 : Option Value} {st : List Value} {h : xH} : exF ev cX1_befalls 12 ([v0, v1, v2, v3, v4], []) st h = exF ev cX1_befalls 13 ([v0, v1, v2, v3, v4], []) (.int (nI 1) :: st) h := exF_j (i := (i_const (.int (nI 1)) 13)) rfl rfl
theorem eX1_befalls_13 {ev : xV} {v0 v1 v2 v3 v4 : Option Value} {x y : Int32} {st : List Value} {h : xH} : exF ev cX1_befalls 13 ([v0, v1, v2, v3, v4], []) (.int y :: .int x :: st) h = if ¬ x = y then exF ev cX1_befalls 25 ([v0, v1, v2, v3, v4], []) st h else exF ev cX1_befalls 16 ([v0, v1, v2, v3, v4], []) st h := exF_b (i := (i_if2 (fun x y => ¬ x = y) 25 16)) rfl rfl
theorem eX1_befalls_16 {ev : xV} {v1 v2 v3 v4 : Option Value} {x : Nat} {st : List Value} {h : xH} : exF ev cX1_befalls 16 ([some (.ref x), v1, v2, v3, v4], []) st h = exF ev cX1_befalls 17 ([some (.ref x), v1, v2, v3, v4], []) (.ref x :: st) h := exF_j (i := (i_aload 0 17)) rfl rfl
theorem eX1_befalls_17 {ev : xV} {v0 v1 v2 v3 v4 : Option Value} {a : Nat} {h : xH} : exF ev cX1_befalls 17 ([v0, v1, v2, v3, v4], []) [.ref a] h = xO (xck h a 0) (fun _ => xB (ev 101 [.ref a] h) (fun v h => exF ev cX1_befalls 20 ([v0, v1, v2, v3, v4], []) [v] h)) := exF_cd (i := (i_cv 0 101 0 20)) rfl rfl
theorem eX1_befalls_20 {ev : xV} {v0 v1 v2 v3 v4 : Option Value} {x : Int32} {st : List Value} {h : xH} : exF ev cX1_befalls 20 ([v0, v1, v2, v3, v4], []) (.int x :: st) h = if ¬ x = 0 then exF ev cX1_befalls 25 ([v0, v1, v2, v3, v4], []) st h else exF ev cX1_befalls 23 ([v0, v1, v2, v3, v4], []) st h := exF_b (i := (i_if1 (fun x => ¬ x = 0) 25 23)) rfl rfl
theorem eX1_befalls_23 {ev : xV} {v0 v1 v2 v3 v4 : Option Value} {st : List Value} {h : xH} : exF ev cX1_befalls 23 ([v0, v1, v2, v3, v4], []) st h = exF ev cX1_befalls 24 ([v0, v1, v2, v3, v4], []) (.int (nI 0) :: st) h := exF_j (i := (i_const (.int (nI 0)) 24)) rfl rfl
theorem eX1_befalls_24 {ev : xV} {v0 v1 v2 v3 v4 : Option Value} {x : Int32} {h : xH} : exF ev cX1_befalls 24 ([v0, v1, v2, v3, v4], []) [.int x] h = if x = nI 0 ∨ x = nI 1 then some (.inl (some (.int x)), h) else none := exF_z (i := (i_zret)) rfl rfl
theorem eX1_befalls_24b0 {ev : xV} {v0 v1 v2 v3 v4 : Option Value} {h : xH} : exF ev cX1_befalls 24 ([v0, v1, v2, v3, v4], []) [.int (nI 0)] h = some (.inl (some (.int (nI 0))), h) := exF_r (i := (i_zret)) rfl i_zret_0
theorem eX1_befalls_24b1 {ev : xV} {v0 v1 v2 v3 v4 : Option Value} {h : xH} : exF ev cX1_befalls 24 ([v0, v1, v2, v3, v4], []) [.int (nI 1)] h = some (.inl (some (.int (nI 1))), h) := exF_r (i := (i_zret)) rfl i_zret_1
theorem eX1_befalls_24b {ev : xV} {v0 v1 v2 v3 v4 : Option Value} {b : Bool} {h : xH} : exF ev cX1_befalls 24 ([v0, v1, v2, v3, v4], []) [.int (bI b)] h = some (.inl (some (.int (bI b))), h) := exF_r (i := (i_zret)) rfl (i_zret_b b)
theorem eX1_befalls_25 {ev : xV} {v0 v1 v3 v4 : Option Value} {x : Int32} {st : List Value} {h : xH} : exF ev cX1_befalls 25 ([v0, v1, some (.int x), v3, v4], []) st h = exF ev cX1_befalls 26 ([v0, v1, some (.int x), v3, v4], []) (.int x :: st) h := exF_j (i := (i_iload 2 26)) rfl rfl
theorem eX1_befalls_26 {ev : xV} {v0 v1 v2 v3 v4 : Option Value} {st : List Value} {h : xH} : exF ev cX1_befalls 26 ([v0, v1, v2, v3, v4], []) st h = exF ev cX1_befalls 27 ([v0, v1, v2, v3, v4], []) (.int (nI 1) :: st) h := exF_j (i := (i_const (.int (nI 1)) 27)) rfl rfl
theorem eX1_befalls_27 {ev : xV} {v0 v1 v2 v3 v4 : Option Value} {x y : Int32} {st : List Value} {h : xH} : exF ev cX1_befalls 27 ([v0, v1, v2, v3, v4], []) (.int y :: .int x :: st) h = if ¬ x = y then exF ev cX1_befalls 41 ([v0, v1, v2, v3, v4], []) st h else exF ev cX1_befalls 30 ([v0, v1, v2, v3, v4], []) st h := exF_b (i := (i_if2 (fun x y => ¬ x = y) 41 30)) rfl rfl
theorem eX1_befalls_30 {ev : xV} {v1 v2 v3 v4 : Option Value} {x : Nat} {st : List Value} {h : xH} : exF ev cX1_befalls 30 ([some (.ref x), v1, v2, v3, v4], []) st h = exF ev cX1_befalls 31 ([some (.ref x), v1, v2, v3, v4], []) (.ref x :: st) h := exF_j (i := (i_aload 0 31)) rfl rfl
theorem eX1_befalls_31 {ev : xV} {v1 v2 v3 v4 : Option Value} {x : Nat} {st : List Value} {h : xH} : exF ev cX1_befalls 31 ([some (.ref x), v1, v2, v3, v4], []) st h = exF ev cX1_befalls 32 ([some (.ref x), v1, v2, v3, v4], []) (.ref x :: st) h := exF_j (i := (i_aload 0 32)) rfl rfl
theorem eX1_befalls_32 {ev : xV} {v0 v1 v2 v3 v4 : Option Value} {r0 : Value} {a : Nat} {h : xH} : exF ev cX1_befalls 32 ([v0, v1, v2, v3, v4], []) [.ref a, r0] h = xO (xck h a 0) (fun _ => xB (ev 101 [.ref a] h) (fun v h => exF ev cX1_befalls 35 ([v0, v1, v2, v3, v4], []) [v, r0] h)) := exF_cd (i := (i_cv 0 101 0 35)) rfl rfl
theorem eX1_befalls_35 {ev : xV} {v0 v1 v2 v3 v4 : Option Value} {a0 : Value} {a : Nat} {h : xH} : exF ev cX1_befalls 35 ([v0, v1, v2, v3, v4], []) [a0, .ref a] h = xO (xck h a 0) (fun _ => xB (ev 159 [.ref a, a0] h) (fun v h => exF ev cX1_befalls 38 ([v0, v1, v2, v3, v4], []) [v] h)) := exF_cd (i := (i_cv 0 159 1 38)) rfl rfl
theorem eX1_befalls_38 {ev : xV} {v0 v1 v2 v3 v4 : Option Value} {st : List Value} {h : xH} : exF ev cX1_befalls 38 ([v0, v1, v2, v3, v4], []) st h = exF ev cX1_befalls 42 ([v0, v1, v2, v3, v4], []) st h := exF_j (i := (i_goto 42)) rfl rfl
theorem eX1_befalls_41 {ev : xV} {v0 v1 v2 v3 v4 : Option Value} {st : List Value} {h : xH} : exF ev cX1_befalls 41 ([v0, v1, v2, v3, v4], []) st h = exF ev cX1_befalls 42 ([v0, v1, v2, v3, v4], []) (.int (-1) :: st) h := exF_j (i := (i_const (.int (-1)) 42)) rfl rfl
theorem eX1_befalls_42 {ev : xV} {v0 v1 v2 v3 v4 : Option Value} {x : Int32} {st : List Value} {h : xH} : exF ev cX1_befalls 42 ([v0, v1, v2, v3, v4], []) (.int x :: st) h = exF ev cX1_befalls 43 ([v0, v1, v2, some (.int x), v4], []) st h := exF_j (i := (i_istore 3 43)) rfl rfl
theorem eX1_befalls_43 {ev : xV} {v1 v2 v3 v4 : Option Value} {x : Nat} {st : List Value} {h : xH} : exF ev cX1_befalls 43 ([some (.ref x), v1, v2, v3, v4], []) st h = exF ev cX1_befalls 44 ([some (.ref x), v1, v2, v3, v4], []) (.ref x :: st) h := exF_j (i := (i_aload 0 44)) rfl rfl
theorem eX1_befalls_44 {ev : xV} {v1 v2 v3 v4 : Option Value} {x : Nat} {st : List Value} {h : xH} : exF ev cX1_befalls 44 ([some (.ref x), v1, v2, v3, v4], []) st h = exF ev cX1_befalls 45 ([some (.ref x), v1, v2, v3, v4], []) (.ref x :: st) h := exF_j (i := (i_aload 0 45)) rfl rfl
theorem eX1_befalls_45 {ev : xV} {v0 v1 v2 v3 v4 : Option Value} {r0 : Value} {a : Nat} {h : xH} : exF ev cX1_befalls 45 ([v0, v1, v2, v3, v4], []) [.ref a, r0] h = xO (xck h a 0) (fun _ => xB (ev 96 [.ref a] h) (fun v h => exF ev cX1_befalls 48 ([v0, v1, v2, v3, v4], []) [v, r0] h)) := exF_cd (i := (i_cv 0 96 0 48)) rfl rfl
theorem eX1_befalls_48 {ev : xV} {v0 v1 v2 v3 v4 : Option Value} {a0 : Value} {a : Nat} {h : xH} : exF ev cX1_befalls 48 ([v0, v1, v2, v3, v4], []) [a0, .ref a] h = xO (xck h a 0) (fun _ => xB (ev 159 [.ref a, a0] h) (fun v h => exF ev cX1_befalls 51 ([v0, v1, v2, v3, v4], []) [v] h)) := exF_cd (i := (i_cv 0 159 1 51)) rfl rfl
theorem eX1_befalls_51 {ev : xV} {v0 v1 v2 v3 v4 : Option Value} {x : Int32} {st : List Value} {h : xH} : exF ev cX1_befalls 51 ([v0, v1, v2, v3, v4], []) (.int x :: st) h = exF ev cX1_befalls 53 ([v0, v1, v2, v3, some (.int x)], []) st h := exF_j (i := (i_istore 4 53)) rfl rfl
theorem eX1_befalls_53 {ev : xV} {v0 v1 v3 v4 : Option Value} {x : Int32} {st : List Value} {h : xH} : exF ev cX1_befalls 53 ([v0, v1, some (.int x), v3, v4], []) st h = exF ev cX1_befalls 54 ([v0, v1, some (.int x), v3, v4], []) (.int x :: st) h := exF_j (i := (i_iload 2 54)) rfl rfl
theorem eX1_befalls_54 {ev : xV} {v0 v1 v2 v3 v4 : Option Value} {x : Int32} {st : List Value} {h : xH} : exF ev cX1_befalls 54 ([v0, v1, v2, v3, v4], []) (.int x :: st) h = if ¬ x = 0 then exF ev cX1_befalls 77 ([v0, v1, v2, v3, v4], []) st h else exF ev cX1_befalls 57 ([v0, v1, v2, v3, v4], []) st h := exF_b (i := (i_if1 (fun x => ¬ x = 0) 77 57)) rfl rfl
theorem eX1_befalls_57 {ev : xV} {v0 v2 v3 v4 : Option Value} {x : Nat} {st : List Value} {h : xH} : exF ev cX1_befalls 57 ([v0, some (.ref x), v2, v3, v4], []) st h = exF ev cX1_befalls 58 ([v0, some (.ref x), v2, v3, v4], []) (.ref x :: st) h := exF_j (i := (i_aload 1 58)) rfl rfl
theorem eX1_befalls_57n {ev : xV} {v0 v2 v3 v4 : Option Value} {st : List Value} {h : xH} : exF ev cX1_befalls 57 ([v0, some .null, v2, v3, v4], []) st h = exF ev cX1_befalls 58 ([v0, some .null, v2, v3, v4], []) (.null :: st) h := exF_j (i := (i_aload 1 58)) rfl rfl
theorem eX1_befalls_58 {ev : xV} {v0 v1 v2 v3 : Option Value} {x : Int32} {st : List Value} {h : xH} : exF ev cX1_befalls 58 ([v0, v1, v2, v3, some (.int x)], []) st h = exF ev cX1_befalls 60 ([v0, v1, v2, v3, some (.int x)], []) (.int x :: st) h := exF_j (i := (i_iload 4 60)) rfl rfl
theorem eX1_befalls_60 {ev : xV} {v0 v1 v2 v3 v4 : Option Value} {a0 : Value} {a : Nat} {h : xH} : exF ev cX1_befalls 60 ([v0, v1, v2, v3, v4], []) [a0, .ref a] h = xO (xck h a 3) (fun _ => xB (ev 240 [.ref a, a0] h) (fun v h => exF ev cX1_befalls 63 ([v0, v1, v2, v3, v4], []) [v] h)) := exF_cd (i := (i_cv 3 240 1 63)) rfl rfl
theorem eX1_befalls_63 {ev : xV} {v0 v1 v2 v3 v4 : Option Value} {x : Int32} {st : List Value} {h : xH} : exF ev cX1_befalls 63 ([v0, v1, v2, v3, v4], []) (.int x :: st) h = if x = 0 then exF ev cX1_befalls 77 ([v0, v1, v2, v3, v4], []) st h else exF ev cX1_befalls 66 ([v0, v1, v2, v3, v4], []) st h := exF_b (i := (i_if1 (fun x => x = 0) 77 66)) rfl rfl
theorem eX1_befalls_66 {ev : xV} {v0 v2 v3 v4 : Option Value} {x : Nat} {st : List Value} {h : xH} : exF ev cX1_befalls 66 ([v0, some (.ref x), v2, v3, v4], []) st h = exF ev cX1_befalls 67 ([v0, some (.ref x), v2, v3, v4], []) (.ref x :: st) h := exF_j (i := (i_aload 1 67)) rfl rfl
theorem eX1_befalls_66n {ev : xV} {v0 v2 v3 v4 : Option Value} {st : List Value} {h : xH} : exF ev cX1_befalls 66 ([v0, some .null, v2, v3, v4], []) st h = exF ev cX1_befalls 67 ([v0, some .null, v2, v3, v4], []) (.null :: st) h := exF_j (i := (i_aload 1 67)) rfl rfl
theorem eX1_befalls_67 {ev : xV} {v0 v1 v2 v3 v4 : Option Value} {a : Nat} {st : List Value} {h : xH} : exF ev cX1_befalls 67 ([v0, v1, v2, v3, v4], []) (.ref a :: st) h = xO (xgf h a 3 1) (fun v => exF ev cX1_befalls 70 ([v0, v1, v2, v3, v4], []) (v :: st) h) := exF_o (i := (i_getf 3 1 70)) rfl rfl
theorem eX1_befalls_70 {ev : xV} {v0 v1 v2 v3 : Option Value} {x : Int32} {st : List Value} {h : xH} : exF ev cX1_befalls 70 ([v0, v1, v2, v3, some (.int x)], []) st h = exF ev cX1_befalls 72 ([v0, v1, v2, v3, some (.int x)], []) (.int x :: st) h := exF_j (i := (i_iload 4 72)) rfl rfl
theorem eX1_befalls_72 {ev : xV} {v0 v1 v2 v3 v4 : Option Value} {x : Int32} {y : Nat} {st : List Value} {h : xH} : exF ev cX1_befalls 72 ([v0, v1, v2, v3, v4], []) (.int x :: .ref y :: st) h = exF ev cX1_befalls 73 ([v0, v1, v2, v3, v4], []) (.int x :: .ref y :: .int x :: .ref y :: st) h := exF_j (i := (i_dup2 73)) rfl rfl
theorem eX1_befalls_73 {ev : xV} {v0 v1 v2 v3 v4 : Option Value} {i : Int32} {a : Nat} {st : List Value} {h : xH} : exF ev cX1_befalls 73 ([v0, v1, v2, v3, v4], []) (.int i :: .ref a :: st) h = xO (xai h 0 a i) (fun v => exF ev cX1_befalls 74 ([v0, v1, v2, v3, v4], []) (.int v :: st) h) := exF_o (i := (i_ai 0 74)) rfl rfl
theorem eX1_befalls_74 {ev : xV} {v0 v1 v2 v3 v4 : Option Value} {st : List Value} {h : xH} : exF ev cX1_befalls 74 ([v0, v1, v2, v3, v4], []) st h = exF ev cX1_befalls 75 ([v0, v1, v2, v3, v4], []) (.int (nI 1) :: st) h := exF_j (i := (i_const (.int (nI 1)) 75)) rfl rfl
theorem eX1_befalls_75 {ev : xV} {v0 v1 v2 v3 v4 : Option Value} {x y : Int32} {st : List Value} {h : xH} : exF ev cX1_befalls 75 ([v0, v1, v2, v3, v4], []) (.int y :: .int x :: st) h = exF ev cX1_befalls 76 ([v0, v1, v2, v3, v4], []) (.int (x + y) :: st) h := exF_j (i := (i_ii (fun x y => x + y) 76)) rfl rfl
theorem eX1_befalls_76 {ev : xV} {v0 v1 v2 v3 v4 : Option Value} {v i : Int32} {a : Nat} {st : List Value} {h : xH} : exF ev cX1_befalls 76 ([v0, v1, v2, v3, v4], []) (.int v :: .int i :: .ref a :: st) h = xO (xsi h 0 a i v) (fun h => exF ev cX1_befalls 77 ([v0, v1, v2, v3, v4], []) st h) := exF_o (i := (i_si (fun v => v) 0 77)) rfl rfl
theorem eX1_befalls_77 {ev : xV} {v0 v1 v3 v4 : Option Value} {x : Int32} {st : List Value} {h : xH} : exF ev cX1_befalls 77 ([v0, v1, some (.int x), v3, v4], []) st h = exF ev cX1_befalls 78 ([v0, v1, some (.int x), v3, v4], []) (.int x :: st) h := exF_j (i := (i_iload 2 78)) rfl rfl
theorem eX1_befalls_78 {ev : xV} {v0 v1 v2 v3 v4 : Option Value} {st : List Value} {h : xH} : exF ev cX1_befalls 78 ([v0, v1, v2, v3, v4], []) st h = exF ev cX1_befalls 79 ([v0, v1, v2, v3, v4], []) (.int (nI 2) :: st) h := exF_j (i := (i_const (.int (nI 2)) 79)) rfl rfl
theorem eX1_befalls_79 {ev : xV} {v0 v1 v2 v3 v4 : Option Value} {x y : Int32} {st : List Value} {h : xH} : exF ev cX1_befalls 79 ([v0, v1, v2, v3, v4], []) (.int y :: .int x :: st) h = if ¬ x = y then exF ev cX1_befalls 105 ([v0, v1, v2, v3, v4], []) st h else exF ev cX1_befalls 82 ([v0, v1, v2, v3, v4], []) st h := exF_b (i := (i_if2 (fun x y => ¬ x = y) 105 82)) rfl rfl
theorem eX1_befalls_82 {ev : xV} {v0 v2 v3 v4 : Option Value} {x : Nat} {st : List Value} {h : xH} : exF ev cX1_befalls 82 ([v0, some (.ref x), v2, v3, v4], []) st h = exF ev cX1_befalls 83 ([v0, some (.ref x), v2, v3, v4], []) (.ref x :: st) h := exF_j (i := (i_aload 1 83)) rfl rfl
theorem eX1_befalls_82n {ev : xV} {v0 v2 v3 v4 : Option Value} {st : List Value} {h : xH} : exF ev cX1_befalls 82 ([v0, some .null, v2, v3, v4], []) st h = exF ev cX1_befalls 83 ([v0, some .null, v2, v3, v4], []) (.null :: st) h := exF_j (i := (i_aload 1 83)) rfl rfl
theorem eX1_befalls_83 {ev : xV} {v0 v1 v2 v3 : Option Value} {x : Int32} {st : List Value} {h : xH} : exF ev cX1_befalls 83 ([v0, v1, v2, v3, some (.int x)], []) st h = exF ev cX1_befalls 85 ([v0, v1, v2, v3, some (.int x)], []) (.int x :: st) h := exF_j (i := (i_iload 4 85)) rfl rfl
theorem eX1_befalls_85 {ev : xV} {v0 v1 v2 v3 v4 : Option Value} {a0 : Value} {a : Nat} {h : xH} : exF ev cX1_befalls 85 ([v0, v1, v2, v3, v4], []) [a0, .ref a] h = xO (xck h a 3) (fun _ => xB (ev 242 [.ref a, a0] h) (fun v h => exF ev cX1_befalls 88 ([v0, v1, v2, v3, v4], []) [v] h)) := exF_cd (i := (i_cv 3 242 1 88)) rfl rfl
theorem eX1_befalls_88 {ev : xV} {v0 v1 v2 v3 v4 : Option Value} {x : Int32} {st : List Value} {h : xH} : exF ev cX1_befalls 88 ([v0, v1, v2, v3, v4], []) (.int x :: st) h = if x = 0 then exF ev cX1_befalls 105 ([v0, v1, v2, v3, v4], []) st h else exF ev cX1_befalls 91 ([v0, v1, v2, v3, v4], []) st h := exF_b (i := (i_if1 (fun x => x = 0) 105 91)) rfl rfl
theorem eX1_befalls_91 {ev : xV} {v0 v2 v3 v4 : Option Value} {x : Nat} {st : List Value} {h : xH} : exF ev cX1_befalls 91 ([v0, some (.ref x), v2, v3, v4], []) st h = exF ev cX1_befalls 92 ([v0, some (.ref x), v2, v3, v4], []) (.ref x :: st) h := exF_j (i := (i_aload 1 92)) rfl rfl
theorem eX1_befalls_91n {ev : xV} {v0 v2 v3 v4 : Option Value} {st : List Value} {h : xH} : exF ev cX1_befalls 91 ([v0, some .null, v2, v3, v4], []) st h = exF ev cX1_befalls 92 ([v0, some .null, v2, v3, v4], []) (.null :: st) h := exF_j (i := (i_aload 1 92)) rfl rfl
theorem eX1_befalls_92 {ev : xV} {v0 v1 v2 v3 v4 : Option Value} {a : Nat} {st : List Value} {h : xH} : exF ev cX1_befalls 92 ([v0, v1, v2, v3, v4], []) (.ref a :: st) h = xO (xgf h a 3 1) (fun v => exF ev cX1_befalls 95 ([v0, v1, v2, v3, v4], []) (v :: st) h) := exF_o (i := (i_getf 3 1 95)) rfl rfl
theorem eX1_befalls_95 {ev : xV} {v0 v1 v2 v3 : Option Value} {x : Int32} {st : List Value} {h : xH} : exF ev cX1_befalls 95 ([v0, v1, v2, v3, some (.int x)], []) st h = exF ev cX1_befalls 97 ([v0, v1, v2, v3, some (.int x)], []) (.int x :: st) h := exF_j (i := (i_iload 4 97)) rfl rfl
theorem eX1_befalls_97 {ev : xV} {v0 v2 v3 v4 : Option Value} {x : Nat} {st : List Value} {h : xH} : exF ev cX1_befalls 97 ([v0, some (.ref x), v2, v3, v4], []) st h = exF ev cX1_befalls 98 ([v0, some (.ref x), v2, v3, v4], []) (.ref x :: st) h := exF_j (i := (i_aload 1 98)) rfl rfl
theorem eX1_befalls_97n {ev : xV} {v0 v2 v3 v4 : Option Value} {st : List Value} {h : xH} : exF ev cX1_befalls 97 ([v0, some .null, v2, v3, v4], []) st h = exF ev cX1_befalls 98 ([v0, some .null, v2, v3, v4], []) (.null :: st) h := exF_j (i := (i_aload 1 98)) rfl rfl
theorem eX1_befalls_98 {ev : xV} {v0 v1 v2 v3 v4 : Option Value} {a : Nat} {st : List Value} {h : xH} : exF ev cX1_befalls 98 ([v0, v1, v2, v3, v4], []) (.ref a :: st) h = xO (xgf h a 3 0) (fun v => exF ev cX1_befalls 101 ([v0, v1, v2, v3, v4], []) (v :: st) h) := exF_o (i := (i_getf 3 0 101)) rfl rfl
theorem eX1_befalls_101 {ev : xV} {v0 v1 v2 v3 : Option Value} {x : Int32} {st : List Value} {h : xH} : exF ev cX1_befalls 101 ([v0, v1, v2, v3, some (.int x)], []) st h = exF ev cX1_befalls 103 ([v0, v1, v2, v3, some (.int x)], []) (.int x :: st) h := exF_j (i := (i_iload 4 103)) rfl rfl
theorem eX1_befalls_103 {ev : xV} {v0 v1 v2 v3 v4 : Option Value} {i : Int32} {a : Nat} {st : List Value} {h : xH} : exF ev cX1_befalls 103 ([v0, v1, v2, v3, v4], []) (.int i :: .ref a :: st) h = xO (xai h 0 a i) (fun v => exF ev cX1_befalls 104 ([v0, v1, v2, v3, v4], []) (.int v :: st) h) := exF_o (i := (i_ai 0 104)) rfl rfl
theorem eX1_befalls_104 {ev : xV} {v0 v1 v2 v3 v4 : Option Value} {v i : Int32} {a : Nat} {st : List Value} {h : xH} : exF ev cX1_befalls 104 ([v0, v1, v2, v3, v4], []) (.int v :: .int i :: .ref a :: st) h = xO (xsi h 0 a i v) (fun h => exF ev cX1_befalls 105 ([v0, v1, v2, v3, v4], []) st h) := exF_o (i := (i_si (fun v => v) 0 105)) rfl rfl
theorem eX1_befalls_105 {ev : xV} {v0 v1 v3 v4 : Option Value} {x : Int32} {st : List Value} {h : xH} : exF ev cX1_befalls 105 ([v0, v1, some (.int x), v3, v4], []) st h = exF ev cX1_befalls 106 ([v0, v1, some (.int x), v3, v4], []) (.int x :: st) h := exF_j (i := (i_iload 2 106)) rfl rfl
theorem eX1_befalls_106 {ev : xV} {v0 v1 v2 v3 v4 : Option Value} {st : List Value} {h : xH} : exF ev cX1_befalls 106 ([v0, v1, v2, v3, v4], []) st h = exF ev cX1_befalls 107 ([v0, v1, v2, v3, v4], []) (.int (nI 1) :: st) h := exF_j (i := (i_const (.int (nI 1)) 107)) rfl rfl
theorem eX1_befalls_107 {ev : xV} {v0 v1 v2 v3 v4 : Option Value} {x y : Int32} {st : List Value} {h : xH} : exF ev cX1_befalls 107 ([v0, v1, v2, v3, v4], []) (.int y :: .int x :: st) h = if ¬ x = y then exF ev cX1_befalls 125 ([v0, v1, v2, v3, v4], []) st h else exF ev cX1_befalls 110 ([v0, v1, v2, v3, v4], []) st h := exF_b (i := (i_if2 (fun x y => ¬ x = y) 125 110)) rfl rfl
theorem eX1_befalls_110 {ev : xV} {v1 v2 v3 v4 : Option Value} {x : Nat} {st : List Value} {h : xH} : exF ev cX1_befalls 110 ([some (.ref x), v1, v2, v3, v4], []) st h = exF ev cX1_befalls 111 ([some (.ref x), v1, v2, v3, v4], []) (.ref x :: st) h := exF_j (i := (i_aload 0 111)) rfl rfl
theorem eX1_befalls_111 {ev : xV} {v0 v2 v3 v4 : Option Value} {x : Nat} {st : List Value} {h : xH} : exF ev cX1_befalls 111 ([v0, some (.ref x), v2, v3, v4], []) st h = exF ev cX1_befalls 112 ([v0, some (.ref x), v2, v3, v4], []) (.ref x :: st) h := exF_j (i := (i_aload 1 112)) rfl rfl
theorem eX1_befalls_111n {ev : xV} {v0 v2 v3 v4 : Option Value} {st : List Value} {h : xH} : exF ev cX1_befalls 111 ([v0, some .null, v2, v3, v4], []) st h = exF ev cX1_befalls 112 ([v0, some .null, v2, v3, v4], []) (.null :: st) h := exF_j (i := (i_aload 1 112)) rfl rfl
theorem eX1_befalls_112 {ev : xV} {v0 v1 v2 v4 : Option Value} {x : Int32} {st : List Value} {h : xH} : exF ev cX1_befalls 112 ([v0, v1, v2, some (.int x), v4], []) st h = exF ev cX1_befalls 113 ([v0, v1, v2, some (.int x), v4], []) (.int x :: st) h := exF_j (i := (i_iload 3 113)) rfl rfl
theorem eX1_befalls_113 {ev : xV} {v0 v1 v2 v3 : Option Value} {x : Int32} {st : List Value} {h : xH} : exF ev cX1_befalls 113 ([v0, v1, v2, v3, some (.int x)], []) st h = exF ev cX1_befalls 115 ([v0, v1, v2, v3, some (.int x)], []) (.int x :: st) h := exF_j (i := (i_iload 4 115)) rfl rfl
theorem eX1_befalls_115 {ev : xV} {v0 v1 v2 v3 v4 : Option Value} {a0 : Value} {a1 : Value} {a2 : Value} {a : Nat} {h : xH} : exF ev cX1_befalls 115 ([v0, v1, v2, v3, v4], []) [a2, a1, a0, .ref a] h = xO (xck h a 0) (fun _ => xB (ev 110 [.ref a, a0, a1, a2] h) (fun v h => exF ev cX1_befalls 118 ([v0, v1, v2, v3, v4], []) [v] h)) := exF_cd (i := (i_cv 0 110 3 118)) rfl rfl
theorem eX1_befalls_118 {ev : xV} {v0 v1 v2 v3 v4 : Option Value} {x : Int32} {st : List Value} {h : xH} : exF ev cX1_befalls 118 ([v0, v1, v2, v3, v4], []) (.int x :: st) h = if x = 0 then exF ev cX1_befalls 125 ([v0, v1, v2, v3, v4], []) st h else exF ev cX1_befalls 121 ([v0, v1, v2, v3, v4], []) st h := exF_b (i := (i_if1 (fun x => x = 0) 125 121)) rfl rfl
theorem eX1_befalls_121 {ev : xV} {v0 v1 v2 v3 v4 : Option Value} {st : List Value} {h : xH} : exF ev cX1_befalls 121 ([v0, v1, v2, v3, v4], []) st h = exF ev cX1_befalls 122 ([v0, v1, v2, v3, v4], []) (.int (nI 1) :: st) h := exF_j (i := (i_const (.int (nI 1)) 122)) rfl rfl
theorem eX1_befalls_122 {ev : xV} {v0 v1 v2 v3 v4 : Option Value} {st : List Value} {h : xH} : exF ev cX1_befalls 122 ([v0, v1, v2, v3, v4], []) st h = exF ev cX1_befalls 126 ([v0, v1, v2, v3, v4], []) st h := exF_j (i := (i_goto 126)) rfl rfl
theorem eX1_befalls_125 {ev : xV} {v0 v1 v2 v3 v4 : Option Value} {st : List Value} {h : xH} : exF ev cX1_befalls 125 ([v0, v1, v2, v3, v4], []) st h = exF ev cX1_befalls 126 ([v0, v1, v2, v3, v4], []) (.int (nI 0) :: st) h := exF_j (i := (i_const (.int (nI 0)) 126)) rfl rfl
theorem eX1_befalls_126 {ev : xV} {v0 v1 v2 v3 v4 : Option Value} {x : Int32} {h : xH} : exF ev cX1_befalls 126 ([v0, v1, v2, v3, v4], []) [.int x] h = if x = nI 0 ∨ x = nI 1 then some (.inl (some (.int x)), h) else none := exF_z (i := (i_zret)) rfl rfl
theorem eX1_befalls_126b0 {ev : xV} {v0 v1 v2 v3 v4 : Option Value} {h : xH} : exF ev cX1_befalls 126 ([v0, v1, v2, v3, v4], []) [.int (nI 0)] h = some (.inl (some (.int (nI 0))), h) := exF_r (i := (i_zret)) rfl i_zret_0
theorem eX1_befalls_126b1 {ev : xV} {v0 v1 v2 v3 v4 : Option Value} {h : xH} : exF ev cX1_befalls 126 ([v0, v1, v2, v3, v4], []) [.int (nI 1)] h = some (.inl (some (.int (nI 1))), h) := exF_r (i := (i_zret)) rfl i_zret_1
theorem eX1_befalls_126b {ev : xV} {v0 v1 v2 v3 v4 : Option Value} {b : Bool} {h : xH} : exF ev cX1_befalls 126 ([v0, v1, v2, v3, v4], []) [.int (bI b)] h = some (.inl (some (.int (bI b))), h) := exF_r (i := (i_zret)) rfl (i_zret_b b)
noncomputable def cX1_draws : xC := [(0, i_aload 0 1),
  (1, i_aload 0 2),
  (2, i_getf 0 20 5),
  (5, i_const (.long (lN 1103515245)) 8),
  (8, i_ll (fun x y => x * y) 9),
  (9, i_const (.long (lN 12345)) 12),
  (12, i_ll (fun x y => x + y) 13),
  (13, i_const (.long (lN 2147483648)) 16),
  (16, i_lz (fun x y => x - x / y * y) 17),
  (17, i_putfl 0 20 20),
  (20, i_aload 0 21),
  (21, i_getf 0 20 24),
  (24, i_const (.long (lN 65536)) 27),
  (27, i_lz (fun x y => x / y) 28),
  (28, i_iload 1 29),
  (29, i_i2l 30),
  (30, i_lz (fun x y => x - x / y * y) 31),
  (31, i_l2i 32),
  (32, i_iret)]
theorem eX1_draws_0 {ev : xV} {v1 : Option Value} {x : Nat} {st : List Value} {h : xH} : exF ev cX1_draws 0 ([some (.ref x), v1], []) st h = exF ev cX1_draws 1 ([some (.ref x), v1], []) (.ref x :: st) h := exF_j (i := (i_aload 0 1)) rfl rfl
theorem eX1_draws_1 {ev : xV} {v1 : Option Value} {x : Nat} {st : List Value} {h : xH} : exF ev cX1_draws 1 ([some (.ref x), v1], []) st h = exF ev cX1_draws 2 ([some (.ref x), v1], []) (.ref x :: st) h := exF_j (i := (i_aload 0 2)) rfl rfl
theorem eX1_draws_2 {ev : xV} {v0 v1 : Option Value} {a : Nat} {st : List Value} {h : xH} : exF ev cX1_draws 2 ([v0, v1], []) (.ref a :: st) h = xO (xgf h a 0 20) (fun v => exF ev cX1_draws 5 ([v0, v1], []) (v :: st) h) := exF_o (i := (i_getf 0 20 5)) rfl rfl
theorem eX1_draws_5 {ev : xV} {v0 v1 : Option Value} {st : List Value} {h : xH} : exF ev cX1_draws 5 ([v0, v1], []) st h = exF ev cX1_draws 8 ([v0, v1], []) (.long (lN 1103515245) :: st) h := exF_j (i := (i_const (.long (lN 1103515245)) 8)) rfl rfl
theorem eX1_draws_8 {ev : xV} {v0 v1 : Option Value} {x y : Int64} {st : List Value} {h : xH} : exF ev cX1_draws 8 ([v0, v1], []) (.long y :: .long x :: st) h = exF ev cX1_draws 9 ([v0, v1], []) (.long (x * y) :: st) h := exF_j (i := (i_ll (fun x y => x * y) 9)) rfl rfl
theorem eX1_draws_9 {ev : xV} {v0 v1 : Option Value} {st : List Value} {h : xH} : exF ev cX1_draws 9 ([v0, v1], []) st h = exF ev cX1_draws 12 ([v0, v1], []) (.long (lN 12345) :: st) h := exF_j (i := (i_const (.long (lN 12345)) 12)) rfl rfl
theorem eX1_draws_12 {ev : xV} {v0 v1 : Option Value} {x y : Int64} {st : List Value} {h : xH} : exF ev cX1_draws 12 ([v0, v1], []) (.long y :: .long x :: st) h = exF ev cX1_draws 13 ([v0, v1], []) (.long (x + y) :: st) h := exF_j (i := (i_ll (fun x y => x + y) 13)) rfl rfl
theorem eX1_draws_13 {ev : xV} {v0 v1 : Option Value} {st : List Value} {h : xH} : exF ev cX1_draws 13 ([v0, v1], []) st h = exF ev cX1_draws 16 ([v0, v1], []) (.long (lN 2147483648) :: st) h := exF_j (i := (i_const (.long (lN 2147483648)) 16)) rfl rfl
theorem eX1_draws_16 {ev : xV} {v0 v1 : Option Value} {x y : Int64} {st : List Value} {h : xH} : exF ev cX1_draws 16 ([v0, v1], []) (.long y :: .long x :: st) h = xO (if y = 0 then none else some (x - x / y * y)) (fun v => exF ev cX1_draws 17 ([v0, v1], []) (.long v :: st) h) := exF_o (i := (i_lz (fun x y => x - x / y * y) 17)) rfl rfl
theorem eX1_draws_17 {ev : xV} {v0 v1 : Option Value} {x : Int64} {a : Nat} {st : List Value} {h : xH} : exF ev cX1_draws 17 ([v0, v1], []) (.long x :: .ref a :: st) h = xO (xpf h a 0 20 (.long x)) (fun h => exF ev cX1_draws 20 ([v0, v1], []) st h) := exF_o (i := (i_putfl 0 20 20)) rfl rfl
theorem eX1_draws_20 {ev : xV} {v1 : Option Value} {x : Nat} {st : List Value} {h : xH} : exF ev cX1_draws 20 ([some (.ref x), v1], []) st h = exF ev cX1_draws 21 ([some (.ref x), v1], []) (.ref x :: st) h := exF_j (i := (i_aload 0 21)) rfl rfl
theorem eX1_draws_21 {ev : xV} {v0 v1 : Option Value} {a : Nat} {st : List Value} {h : xH} : exF ev cX1_draws 21 ([v0, v1], []) (.ref a :: st) h = xO (xgf h a 0 20) (fun v => exF ev cX1_draws 24 ([v0, v1], []) (v :: st) h) := exF_o (i := (i_getf 0 20 24)) rfl rfl
theorem eX1_draws_24 {ev : xV} {v0 v1 : Option Value} {st : List Value} {h : xH} : exF ev cX1_draws 24 ([v0, v1], []) st h = exF ev cX1_draws 27 ([v0, v1], []) (.long (lN 65536) :: st) h := exF_j (i := (i_const (.long (lN 65536)) 27)) rfl rfl
theorem eX1_draws_27 {ev : xV} {v0 v1 : Option Value} {x y : Int64} {st : List Value} {h : xH} : exF ev cX1_draws 27 ([v0, v1], []) (.long y :: .long x :: st) h = xO (if y = 0 then none else some (x / y)) (fun v => exF ev cX1_draws 28 ([v0, v1], []) (.long v :: st) h) := exF_o (i := (i_lz (fun x y => x / y) 28)) rfl rfl
theorem eX1_draws_28 {ev : xV} {v0 : Option Value} {x : Int32} {st : List Value} {h : xH} : exF ev cX1_draws 28 ([v0, some (.int x)], []) st h = exF ev cX1_draws 29 ([v0, some (.int x)], []) (.int x :: st) h := exF_j (i := (i_iload 1 29)) rfl rfl
theorem eX1_draws_29 {ev : xV} {v0 v1 : Option Value} {x : Int32} {st : List Value} {h : xH} : exF ev cX1_draws 29 ([v0, v1], []) (.int x :: st) h = exF ev cX1_draws 30 ([v0, v1], []) (.long x.toInt64 :: st) h := exF_j (i := (i_i2l 30)) rfl rfl
theorem eX1_draws_30 {ev : xV} {v0 v1 : Option Value} {x y : Int64} {st : List Value} {h : xH} : exF ev cX1_draws 30 ([v0, v1], []) (.long y :: .long x :: st) h = xO (if y = 0 then none else some (x - x / y * y)) (fun v => exF ev cX1_draws 31 ([v0, v1], []) (.long v :: st) h) := exF_o (i := (i_lz (fun x y => x - x / y * y) 31)) rfl rfl
theorem eX1_draws_31 {ev : xV} {v0 v1 : Option Value} {x : Int64} {st : List Value} {h : xH} : exF ev cX1_draws 31 ([v0, v1], []) (.long x :: st) h = exF ev cX1_draws 32 ([v0, v1], []) (.int x.toInt32 :: st) h := exF_j (i := (i_l2i 32)) rfl rfl
theorem eX1_draws_32 {ev : xV} {v0 v1 : Option Value} {x : Int32} {h : xH} : exF ev cX1_draws 32 ([v0, v1], []) [.int x] h = some (.inl (some (.int x)), h) := exF_r (i := (i_iret)) rfl rfl
noncomputable def cX1_sum : xC := [(0, i_const (.int (nI 0)) 1),
  (1, i_istore 1 2),
  (2, i_const (.int (nI 0)) 3),
  (3, i_istore 2 4),
  (4, i_iload 2 5),
  (5, i_aload 0 6),
  (6, i_len 7),
  (7, i_if2 (fun x y => y ≤ x) 22 10),
  (10, i_iload 1 11),
  (11, i_aload 0 12),
  (12, i_iload 2 13),
  (13, i_ai 0 14),
  (14, i_ii (fun x y => x + y) 15),
  (15, i_istore 1 16),
  (16, i_iinc 2 (nI 1) 19),
  (19, i_goto 4),
  (22, i_iload 1 23),
  (23, i_iret)]
theorem eX1_sum_0 {ev : xV} {v0 v1 v2 : Option Value} {st : List Value} {h : xH} : exF ev cX1_sum 0 ([v0, v1, v2], []) st h = exF ev cX1_sum 1 ([v0, v1, v2], []) (.int (nI 0) :: st) h := exF_j (i := (i_const (.int (nI 0)) 1)) rfl rfl
theorem eX1_sum_1 {ev : xV} {v0 v1 v2 : Option Value} {x : Int32} {st : List Value} {h : xH} : exF ev cX1_sum 1 ([v0, v1, v2], []) (.int x :: st) h = exF ev cX1_sum 2 ([v0, some (.int x), v2], []) st h := exF_j (i := (i_istore 1 2)) rfl rfl
theorem eX1_sum_2 {ev : xV} {v0 v1 v2 : Option Value} {st : List Value} {h : xH} : exF ev cX1_sum 2 ([v0, v1, v2], []) st h = exF ev cX1_sum 3 ([v0, v1, v2], []) (.int (nI 0) :: st) h := exF_j (i := (i_const (.int (nI 0)) 3)) rfl rfl
theorem eX1_sum_3 {ev : xV} {v0 v1 v2 : Option Value} {x : Int32} {st : List Value} {h : xH} : exF ev cX1_sum 3 ([v0, v1, v2], []) (.int x :: st) h = exF ev cX1_sum 4 ([v0, v1, some (.int x)], []) st h := exF_j (i := (i_istore 2 4)) rfl rfl
theorem eX1_sum_4 {ev : xV} {v0 v1 : Option Value} {x : Int32} {st : List Value} {h : xH} : exF ev cX1_sum 4 ([v0, v1, some (.int x)], []) st h = exF ev cX1_sum 5 ([v0, v1, some (.int x)], []) (.int x :: st) h := exF_j (i := (i_iload 2 5)) rfl rfl
theorem eX1_sum_5 {ev : xV} {v1 v2 : Option Value} {x : Nat} {st : List Value} {h : xH} : exF ev cX1_sum 5 ([some (.ref x), v1, v2], []) st h = exF ev cX1_sum 6 ([some (.ref x), v1, v2], []) (.ref x :: st) h := exF_j (i := (i_aload 0 6)) rfl rfl
theorem eX1_sum_5n {ev : xV} {v1 v2 : Option Value} {st : List Value} {h : xH} : exF ev cX1_sum 5 ([some .null, v1, v2], []) st h = exF ev cX1_sum 6 ([some .null, v1, v2], []) (.null :: st) h := exF_j (i := (i_aload 0 6)) rfl rfl
theorem eX1_sum_6 {ev : xV} {v0 v1 v2 : Option Value} {a : Nat} {st : List Value} {h : xH} : exF ev cX1_sum 6 ([v0, v1, v2], []) (.ref a :: st) h = xO (xlen h a) (fun v => exF ev cX1_sum 7 ([v0, v1, v2], []) (.int v :: st) h) := exF_o (i := (i_len 7)) rfl rfl
theorem eX1_sum_7 {ev : xV} {v0 v1 v2 : Option Value} {x y : Int32} {st : List Value} {h : xH} : exF ev cX1_sum 7 ([v0, v1, v2], []) (.int y :: .int x :: st) h = if y ≤ x then exF ev cX1_sum 22 ([v0, v1, v2], []) st h else exF ev cX1_sum 10 ([v0, v1, v2], []) st h := exF_b (i := (i_if2 (fun x y => y ≤ x) 22 10)) rfl rfl
theorem eX1_sum_10 {ev : xV} {v0 v2 : Option Value} {x : Int32} {st : List Value} {h : xH} : exF ev cX1_sum 10 ([v0, some (.int x), v2], []) st h = exF ev cX1_sum 11 ([v0, some (.int x), v2], []) (.int x :: st) h := exF_j (i := (i_iload 1 11)) rfl rfl
theorem eX1_sum_11 {ev : xV} {v1 v2 : Option Value} {x : Nat} {st : List Value} {h : xH} : exF ev cX1_sum 11 ([some (.ref x), v1, v2], []) st h = exF ev cX1_sum 12 ([some (.ref x), v1, v2], []) (.ref x :: st) h := exF_j (i := (i_aload 0 12)) rfl rfl
theorem eX1_sum_11n {ev : xV} {v1 v2 : Option Value} {st : List Value} {h : xH} : exF ev cX1_sum 11 ([some .null, v1, v2], []) st h = exF ev cX1_sum 12 ([some .null, v1, v2], []) (.null :: st) h := exF_j (i := (i_aload 0 12)) rfl rfl
theorem eX1_sum_12 {ev : xV} {v0 v1 : Option Value} {x : Int32} {st : List Value} {h : xH} : exF ev cX1_sum 12 ([v0, v1, some (.int x)], []) st h = exF ev cX1_sum 13 ([v0, v1, some (.int x)], []) (.int x :: st) h := exF_j (i := (i_iload 2 13)) rfl rfl
theorem eX1_sum_13 {ev : xV} {v0 v1 v2 : Option Value} {i : Int32} {a : Nat} {st : List Value} {h : xH} : exF ev cX1_sum 13 ([v0, v1, v2], []) (.int i :: .ref a :: st) h = xO (xai h 0 a i) (fun v => exF ev cX1_sum 14 ([v0, v1, v2], []) (.int v :: st) h) := exF_o (i := (i_ai 0 14)) rfl rfl
theorem eX1_sum_14 {ev : xV} {v0 v1 v2 : Option Value} {x y : Int32} {st : List Value} {h : xH} : exF ev cX1_sum 14 ([v0, v1, v2], []) (.int y :: .int x :: st) h = exF ev cX1_sum 15 ([v0, v1, v2], []) (.int (x + y) :: st) h := exF_j (i := (i_ii (fun x y => x + y) 15)) rfl rfl
theorem eX1_sum_15 {ev : xV} {v0 v1 v2 : Option Value} {x : Int32} {st : List Value} {h : xH} : exF ev cX1_sum 15 ([v0, v1, v2], []) (.int x :: st) h = exF ev cX1_sum 16 ([v0, some (.int x), v2], []) st h := exF_j (i := (i_istore 1 16)) rfl rfl
theorem eX1_sum_16 {ev : xV} {v0 v1 : Option Value} {x : Int32} {st : List Value} {h : xH} : exF ev cX1_sum 16 ([v0, v1, some (.int x)], []) st h = exF ev cX1_sum 19 ([v0, v1, some (.int (x + (nI 1)))], []) st h := exF_j (i := (i_iinc 2 (nI 1) 19)) rfl rfl
theorem eX1_sum_19 {ev : xV} {v0 v1 v2 : Option Value} {st : List Value} {h : xH} : exF ev cX1_sum 19 ([v0, v1, v2], []) st h = exF ev cX1_sum 4 ([v0, v1, v2], []) st h := exF_j (i := (i_goto 4)) rfl rfl
theorem eX1_sum_22 {ev : xV} {v0 v2 : Option Value} {x : Int32} {st : List Value} {h : xH} : exF ev cX1_sum 22 ([v0, some (.int x), v2], []) st h = exF ev cX1_sum 23 ([v0, some (.int x), v2], []) (.int x :: st) h := exF_j (i := (i_iload 1 23)) rfl rfl
theorem eX1_sum_23 {ev : xV} {v0 v1 v2 : Option Value} {x : Int32} {h : xH} : exF ev cX1_sum 23 ([v0, v1, v2], []) [.int x] h = some (.inl (some (.int x)), h) := exF_r (i := (i_iret)) rfl rfl
noncomputable def cX1_mark : xC := [(0, i_iload 1 1),
  (1, i_const (.int (nI 0)) 2),
  (2, i_const (.int (nI 3)) 3),
  (3, i_cs 92 3 6),
  (6, i_if1 (fun x => x = 0) 22 9),
  (9, i_iload 2 10),
  (10, i_if1 (fun x => x = 0) 24 13),
  (13, i_aload 0 14),
  (14, i_getf 0 21 17),
  (17, i_iload 1 18),
  (18, i_aq 7 19),
  (19, i_ifnonnull 24 22),
  (22, i_const (.int (nI 0)) 23),
  (23, i_zret),
  (24, i_aload 0 25),
  (25, i_getf 0 21 28),
  (28, i_iload 1 29),
  (29, i_aq 7 30),
  (30, i_ifnonnull 46 33),
  (33, i_aload 0 34),
  (34, i_getf 0 21 37),
  (37, i_iload 1 38),
  (38, i_new 20 8 zX24 41),
  (41, i_dup 42),
  (42, i_ci [20] 231 0 45),
  (45, i_sq [20] 7 46),
  (46, i_aload 0 47),
  (47, i_getf 0 21 50),
  (50, i_iload 1 51),
  (51, i_aq 7 52),
  (52, i_astore 3 53),
  (53, i_iload 2 54),
  (54, i_if1 (fun x => x = 0) 136 57),
  (57, i_aload 0 58),
  (58, i_getf 0 4 61),
  (61, i_aload 3 62),
  (62, i_getf 20 0 65),
  (65, i_cvv 3 239 1 68),
  (68, i_aload 3 69),
  (69, i_getf 20 1 72),
  (72, i_aload 0 73),
  (73, i_getf 0 12 76),
  (76, i_csv 88 2 79),
  (79, i_aload 3 80),
  (80, i_getf 20 2 83),
  (83, i_aload 0 84),
  (84, i_getf 0 13 87),
  (87, i_csv 88 2 90),
  (90, i_aload 3 91),
  (91, i_getf 20 3 94),
  (94, i_aload 0 95),
  (95, i_getf 0 17 98),
  (98, i_csv 88 2 101),
  (101, i_aload 3 102),
  (102, i_getf 20 4 105),
  (105, i_aload 0 106),
  (106, i_getf 0 18 109),
  (109, i_csv 88 2 112),
  (112, i_aload 0 113),
  (113, i_aload 3 114),
  (114, i_getf 20 6 117),
  (117, i_putfi 0 15 120),
  (120, i_aload 0 121),
  (121, i_aload 3 122),
  (122, i_getf 20 7 125),
  (125, i_putfi 0 19 128),
  (128, i_aload 0 129),
  (129, i_const (.int (nI 0)) 130),
  (130, i_putfi 0 9 133),
  (133, i_goto 207),
  (136, i_aload 3 137),
  (137, i_getf 20 0 140),
  (140, i_aload 0 141),
  (141, i_getf 0 4 144),
  (144, i_cvv 3 239 1 147),
  (147, i_aload 0 148),
  (148, i_getf 0 12 151),
  (151, i_aload 3 152),
  (152, i_getf 20 1 155),
  (155, i_csv 88 2 158),
  (158, i_aload 0 159),
  (159, i_getf 0 13 162),
  (162, i_aload 3 163),
  (163, i_getf 20 2 166),
  (166, i_csv 88 2 169),
  (169, i_aload 0 170),
  (170, i_getf 0 17 173),
  (173, i_aload 3 174),
  (174, i_getf 20 3 177),
  (177, i_csv 88 2 180),
  (180, i_aload 0 181),
  (181, i_getf 0 18 184),
  (184, i_aload 3 185),
  (185, i_getf 20 4 188),
  (188, i_csv 88 2 191),
  (191, i_aload 3 192),
  (192, i_aload 0 193),
  (193, i_getf 0 15 196),
  (196, i_putfi 20 6 199),
  (199, i_aload 3 200),
  (200, i_aload 0 201),
  (201, i_getf 0 19 204),
  (204, i_putfi 20 7 207),
  (207, i_const (.int (nI 0)) 208),
  (208, i_istore 4 210),
  (210, i_iload 4 212),
  (212, i_const (.int (nI 8)) 214),
  (214, i_if2 (fun x y => y ≤ x) 258 217),
  (217, i_iload 2 218),
  (218, i_if1 (fun x => x = 0) 238 221),
  (221, i_aload 0 222),
  (222, i_getf 0 14 225),
  (225, i_iload 4 227),
  (227, i_aload 3 228),
  (228, i_getf 20 5 231),
  (231, i_iload 4 233),
  (233, i_ai 2 234),
  (234, i_si (fun v => vp_nar .boolean v) 2 235),
  (235, i_goto 252),
  (238, i_aload 3 239),
  (239, i_getf 20 5 242),
  (242, i_iload 4 244),
  (244, i_aload 0 245),
  (245, i_getf 0 14 248),
  (248, i_iload 4 250),
  (250, i_ai 2 251),
  (251, i_si (fun v => vp_nar .boolean v) 2 252),
  (252, i_iinc 4 (nI 1) 255),
  (255, i_goto 210),
  (258, i_const (.int (nI 1)) 259),
  (259, i_zret)]
theorem eX1_mark_0 {ev : xV} {v0 v2 v3 v4 : Option Value} {x : Int32} {st : List Value} {h : xH} : exF ev cX1_mark 0 ([v0, some (.int x), v2, v3, v4], []) st h = exF ev cX1_mark 1 ([v0, some (.int x), v2, v3, v4], []) (.int x :: st) h := exF_j (i := (i_iload 1 1)) rfl rfl
theorem eX1_mark_1 {ev : xV} {v0 v1 v2 v3 v4 : Option Value} {st : List Value} {h : xH} : exF ev cX1_mark 1 ([v0, v1, v2, v3, v4], []) st h = exF ev cX1_mark 2 ([v0, v1, v2, v3, v4], []) (.int (nI 0) :: st) h := exF_j (i := (i_const (.int (nI 0)) 2)) rfl rfl
theorem eX1_mark_2 {ev : xV} {v0 v1 v2 v3 v4 : Option Value} {st : List Value} {h : xH} : exF ev cX1_mark 2 ([v0, v1, v2, v3, v4], []) st h = exF ev cX1_mark 3 ([v0, v1, v2, v3, v4], []) (.int (nI 3) :: st) h := exF_j (i := (i_const (.int (nI 3)) 3)) rfl rfl
theorem eX1_mark_3 {ev : xV} {v0 v1 v2 v3 v4 : Option Value} {a0 : Value} {a1 : Value} {a2 : Value} {h : xH} : exF ev cX1_mark 3 ([v0, v1, v2, v3, v4], []) [a2, a1, a0] h = xB (ev 92 [a0, a1, a2] h) (fun v h => exF ev cX1_mark 6 ([v0, v1, v2, v3, v4], []) [v] h) := exF_c (i := (i_cs 92 3 6)) rfl rfl
theorem eX1_mark_6 {ev : xV} {v0 v1 v2 v3 v4 : Option Value} {x : Int32} {st : List Value} {h : xH} : exF ev cX1_mark 6 ([v0, v1, v2, v3, v4], []) (.int x :: st) h = if x = 0 then exF ev cX1_mark 22 ([v0, v1, v2, v3, v4], []) st h else exF ev cX1_mark 9 ([v0, v1, v2, v3, v4], []) st h := exF_b (i := (i_if1 (fun x => x = 0) 22 9)) rfl rfl
theorem eX1_mark_9 {ev : xV} {v0 v1 v3 v4 : Option Value} {x : Int32} {st : List Value} {h : xH} : exF ev cX1_mark 9 ([v0, v1, some (.int x), v3, v4], []) st h = exF ev cX1_mark 10 ([v0, v1, some (.int x), v3, v4], []) (.int x :: st) h := exF_j (i := (i_iload 2 10)) rfl rfl
theorem eX1_mark_10 {ev : xV} {v0 v1 v2 v3 v4 : Option Value} {x : Int32} {st : List Value} {h : xH} : exF ev cX1_mark 10 ([v0, v1, v2, v3, v4], []) (.int x :: st) h = if x = 0 then exF ev cX1_mark 24 ([v0, v1, v2, v3, v4], []) st h else exF ev cX1_mark 13 ([v0, v1, v2, v3, v4], []) st h := exF_b (i := (i_if1 (fun x => x = 0) 24 13)) rfl rfl
theorem eX1_mark_13 {ev : xV} {v1 v2 v3 v4 : Option Value} {x : Nat} {st : List Value} {h : xH} : exF ev cX1_mark 13 ([some (.ref x), v1, v2, v3, v4], []) st h = exF ev cX1_mark 14 ([some (.ref x), v1, v2, v3, v4], []) (.ref x :: st) h := exF_j (i := (i_aload 0 14)) rfl rfl
theorem eX1_mark_14 {ev : xV} {v0 v1 v2 v3 v4 : Option Value} {a : Nat} {st : List Value} {h : xH} : exF ev cX1_mark 14 ([v0, v1, v2, v3, v4], []) (.ref a :: st) h = xO (xgf h a 0 21) (fun v => exF ev cX1_mark 17 ([v0, v1, v2, v3, v4], []) (v :: st) h) := exF_o (i := (i_getf 0 21 17)) rfl rfl
theorem eX1_mark_17 {ev : xV} {v0 v2 v3 v4 : Option Value} {x : Int32} {st : List Value} {h : xH} : exF ev cX1_mark 17 ([v0, some (.int x), v2, v3, v4], []) st h = exF ev cX1_mark 18 ([v0, some (.int x), v2, v3, v4], []) (.int x :: st) h := exF_j (i := (i_iload 1 18)) rfl rfl
theorem eX1_mark_18 {ev : xV} {v0 v1 v2 v3 v4 : Option Value} {i : Int32} {a : Nat} {st : List Value} {h : xH} : exF ev cX1_mark 18 ([v0, v1, v2, v3, v4], []) (.int i :: .ref a :: st) h = xO (xaq h 7 a i) (fun v => exF ev cX1_mark 19 ([v0, v1, v2, v3, v4], []) (va_rf v :: st) h) := exF_o (i := (i_aq 7 19)) rfl rfl
theorem eX1_mark_19n {ev : xV} {v0 v1 v2 v3 v4 : Option Value} {st : List Value} {h : xH} : exF ev cX1_mark 19 ([v0, v1, v2, v3, v4], []) (.null :: st) h = exF ev cX1_mark 22 ([v0, v1, v2, v3, v4], []) st h := exF_j (i := (i_ifnonnull 24 22)) rfl rfl
theorem eX1_mark_19 {ev : xV} {v0 v1 v2 v3 v4 : Option Value} {x : Nat} (hx : 64 ≤ x) {st : List Value} {h : xH} : exF ev cX1_mark 19 ([v0, v1, v2, v3, v4], []) (.ref x :: st) h = exF ev cX1_mark 24 ([v0, v1, v2, v3, v4], []) st h := exF_j (i := (i_ifnonnull 24 22)) rfl (if_neg (Nat.not_lt.mpr hx))
theorem eX1_mark_22 {ev : xV} {v0 v1 v2 v3 v4 : Option Value} {st : List Value} {h : xH} : exF ev cX1_mark 22 ([v0, v1, v2, v3, v4], []) st h = exF ev cX1_mark 23 ([v0, v1, v2, v3, v4], []) (.int (nI 0) :: st) h := exF_j (i := (i_const (.int (nI 0)) 23)) rfl rfl
theorem eX1_mark_23 {ev : xV} {v0 v1 v2 v3 v4 : Option Value} {x : Int32} {h : xH} : exF ev cX1_mark 23 ([v0, v1, v2, v3, v4], []) [.int x] h = if x = nI 0 ∨ x = nI 1 then some (.inl (some (.int x)), h) else none := exF_z (i := (i_zret)) rfl rfl
theorem eX1_mark_23b0 {ev : xV} {v0 v1 v2 v3 v4 : Option Value} {h : xH} : exF ev cX1_mark 23 ([v0, v1, v2, v3, v4], []) [.int (nI 0)] h = some (.inl (some (.int (nI 0))), h) := exF_r (i := (i_zret)) rfl i_zret_0
theorem eX1_mark_23b1 {ev : xV} {v0 v1 v2 v3 v4 : Option Value} {h : xH} : exF ev cX1_mark 23 ([v0, v1, v2, v3, v4], []) [.int (nI 1)] h = some (.inl (some (.int (nI 1))), h) := exF_r (i := (i_zret)) rfl i_zret_1
theorem eX1_mark_23b {ev : xV} {v0 v1 v2 v3 v4 : Option Value} {b : Bool} {h : xH} : exF ev cX1_mark 23 ([v0, v1, v2, v3, v4], []) [.int (bI b)] h = some (.inl (some (.int (bI b))), h) := exF_r (i := (i_zret)) rfl (i_zret_b b)
theorem eX1_mark_24 {ev : xV} {v1 v2 v3 v4 : Option Value} {x : Nat} {st : List Value} {h : xH} : exF ev cX1_mark 24 ([some (.ref x), v1, v2, v3, v4], []) st h = exF ev cX1_mark 25 ([some (.ref x), v1, v2, v3, v4], []) (.ref x :: st) h := exF_j (i := (i_aload 0 25)) rfl rfl
theorem eX1_mark_25 {ev : xV} {v0 v1 v2 v3 v4 : Option Value} {a : Nat} {st : List Value} {h : xH} : exF ev cX1_mark 25 ([v0, v1, v2, v3, v4], []) (.ref a :: st) h = xO (xgf h a 0 21) (fun v => exF ev cX1_mark 28 ([v0, v1, v2, v3, v4], []) (v :: st) h) := exF_o (i := (i_getf 0 21 28)) rfl rfl
theorem eX1_mark_28 {ev : xV} {v0 v2 v3 v4 : Option Value} {x : Int32} {st : List Value} {h : xH} : exF ev cX1_mark 28 ([v0, some (.int x), v2, v3, v4], []) st h = exF ev cX1_mark 29 ([v0, some (.int x), v2, v3, v4], []) (.int x :: st) h := exF_j (i := (i_iload 1 29)) rfl rfl
theorem eX1_mark_29 {ev : xV} {v0 v1 v2 v3 v4 : Option Value} {i : Int32} {a : Nat} {st : List Value} {h : xH} : exF ev cX1_mark 29 ([v0, v1, v2, v3, v4], []) (.int i :: .ref a :: st) h = xO (xaq h 7 a i) (fun v => exF ev cX1_mark 30 ([v0, v1, v2, v3, v4], []) (va_rf v :: st) h) := exF_o (i := (i_aq 7 30)) rfl rfl
theorem eX1_mark_30n {ev : xV} {v0 v1 v2 v3 v4 : Option Value} {st : List Value} {h : xH} : exF ev cX1_mark 30 ([v0, v1, v2, v3, v4], []) (.null :: st) h = exF ev cX1_mark 33 ([v0, v1, v2, v3, v4], []) st h := exF_j (i := (i_ifnonnull 46 33)) rfl rfl
theorem eX1_mark_30 {ev : xV} {v0 v1 v2 v3 v4 : Option Value} {x : Nat} (hx : 64 ≤ x) {st : List Value} {h : xH} : exF ev cX1_mark 30 ([v0, v1, v2, v3, v4], []) (.ref x :: st) h = exF ev cX1_mark 46 ([v0, v1, v2, v3, v4], []) st h := exF_j (i := (i_ifnonnull 46 33)) rfl (if_neg (Nat.not_lt.mpr hx))
theorem eX1_mark_33 {ev : xV} {v1 v2 v3 v4 : Option Value} {x : Nat} {st : List Value} {h : xH} : exF ev cX1_mark 33 ([some (.ref x), v1, v2, v3, v4], []) st h = exF ev cX1_mark 34 ([some (.ref x), v1, v2, v3, v4], []) (.ref x :: st) h := exF_j (i := (i_aload 0 34)) rfl rfl
theorem eX1_mark_34 {ev : xV} {v0 v1 v2 v3 v4 : Option Value} {a : Nat} {st : List Value} {h : xH} : exF ev cX1_mark 34 ([v0, v1, v2, v3, v4], []) (.ref a :: st) h = xO (xgf h a 0 21) (fun v => exF ev cX1_mark 37 ([v0, v1, v2, v3, v4], []) (v :: st) h) := exF_o (i := (i_getf 0 21 37)) rfl rfl
theorem eX1_mark_37 {ev : xV} {v0 v2 v3 v4 : Option Value} {x : Int32} {st : List Value} {h : xH} : exF ev cX1_mark 37 ([v0, some (.int x), v2, v3, v4], []) st h = exF ev cX1_mark 38 ([v0, some (.int x), v2, v3, v4], []) (.int x :: st) h := exF_j (i := (i_iload 1 38)) rfl rfl
theorem eX1_mark_38 {ev : xV} {v0 v1 v2 v3 v4 : Option Value} {st : List Value} {h : xH} : exF ev cX1_mark 38 ([v0, v1, v2, v3, v4], []) st h = exF ev cX1_mark 41 ([v0, v1, v2, v3, v4], []) (.ref h.2.1 :: st) (xnew h (.inr (20, zX24)) 8) := exF_j (i := (i_new 20 8 zX24 41)) rfl rfl
theorem eX1_mark_41 {ev : xV} {v0 v1 v2 v3 v4 : Option Value} {x : Nat} {st : List Value} {h : xH} : exF ev cX1_mark 41 ([v0, v1, v2, v3, v4], []) (.ref x :: st) h = exF ev cX1_mark 42 ([v0, v1, v2, v3, v4], []) (.ref x :: .ref x :: st) h := exF_j (i := (i_dup 42)) rfl rfl
theorem eX1_mark_42 {ev : xV} {v0 v1 v2 v3 v4 : Option Value} {r0 : Value} {r1 : Value} {r2 : Value} {a : Nat} {h : xH} : exF ev cX1_mark 42 ([v0, v1, v2, v3, v4], []) [.ref a, r0, r1, r2] h = xO (xckc h [20] a) (fun _ => xBv (ev 231 [.ref a] h) (fun h => exF ev cX1_mark 45 ([v0, v1, v2, v3, v4], []) [r0, r1, r2] h)) := exF_cdv (i := (i_ci [20] 231 0 45)) rfl rfl
theorem eX1_mark_45 {ev : xV} {v0 v1 v2 v3 v4 : Option Value} {v : Nat} {i : Int32} {a : Nat} {st : List Value} {h : xH} : exF ev cX1_mark 45 ([v0, v1, v2, v3, v4], []) (.ref v :: .int i :: .ref a :: st) h = xO (xsqc h [20] 7 a i v) (fun h => exF ev cX1_mark 46 ([v0, v1, v2, v3, v4], []) st h) := exF_o (i := (i_sq [20] 7 46)) rfl rfl
theorem eX1_mark_45n {ev : xV} {v0 v1 v2 v3 v4 : Option Value} {i : Int32} {a : Nat} {st : List Value} {h : xH} : exF ev cX1_mark 45 ([v0, v1, v2, v3, v4], []) (.null :: .int i :: .ref a :: st) h = xO (xsq h 7 a i none) (fun h => exF ev cX1_mark 46 ([v0, v1, v2, v3, v4], []) st h) := exF_o (i := (i_sq [20] 7 46)) rfl rfl
theorem eX1_mark_46 {ev : xV} {v1 v2 v3 v4 : Option Value} {x : Nat} {st : List Value} {h : xH} : exF ev cX1_mark 46 ([some (.ref x), v1, v2, v3, v4], []) st h = exF ev cX1_mark 47 ([some (.ref x), v1, v2, v3, v4], []) (.ref x :: st) h := exF_j (i := (i_aload 0 47)) rfl rfl
theorem eX1_mark_47 {ev : xV} {v0 v1 v2 v3 v4 : Option Value} {a : Nat} {st : List Value} {h : xH} : exF ev cX1_mark 47 ([v0, v1, v2, v3, v4], []) (.ref a :: st) h = xO (xgf h a 0 21) (fun v => exF ev cX1_mark 50 ([v0, v1, v2, v3, v4], []) (v :: st) h) := exF_o (i := (i_getf 0 21 50)) rfl rfl
theorem eX1_mark_50 {ev : xV} {v0 v2 v3 v4 : Option Value} {x : Int32} {st : List Value} {h : xH} : exF ev cX1_mark 50 ([v0, some (.int x), v2, v3, v4], []) st h = exF ev cX1_mark 51 ([v0, some (.int x), v2, v3, v4], []) (.int x :: st) h := exF_j (i := (i_iload 1 51)) rfl rfl
theorem eX1_mark_51 {ev : xV} {v0 v1 v2 v3 v4 : Option Value} {i : Int32} {a : Nat} {st : List Value} {h : xH} : exF ev cX1_mark 51 ([v0, v1, v2, v3, v4], []) (.int i :: .ref a :: st) h = xO (xaq h 7 a i) (fun v => exF ev cX1_mark 52 ([v0, v1, v2, v3, v4], []) (va_rf v :: st) h) := exF_o (i := (i_aq 7 52)) rfl rfl
theorem eX1_mark_52 {ev : xV} {v0 v1 v2 v3 v4 : Option Value} {x : Nat} {st : List Value} {h : xH} : exF ev cX1_mark 52 ([v0, v1, v2, v3, v4], []) (.ref x :: st) h = exF ev cX1_mark 53 ([v0, v1, v2, some (.ref x), v4], []) st h := exF_j (i := (i_astore 3 53)) rfl rfl
theorem eX1_mark_52n {ev : xV} {v0 v1 v2 v3 v4 : Option Value} {st : List Value} {h : xH} : exF ev cX1_mark 52 ([v0, v1, v2, v3, v4], []) (.null :: st) h = exF ev cX1_mark 53 ([v0, v1, v2, some .null, v4], []) st h := exF_j (i := (i_astore 3 53)) rfl rfl
theorem eX1_mark_53 {ev : xV} {v0 v1 v3 v4 : Option Value} {x : Int32} {st : List Value} {h : xH} : exF ev cX1_mark 53 ([v0, v1, some (.int x), v3, v4], []) st h = exF ev cX1_mark 54 ([v0, v1, some (.int x), v3, v4], []) (.int x :: st) h := exF_j (i := (i_iload 2 54)) rfl rfl
theorem eX1_mark_54 {ev : xV} {v0 v1 v2 v3 v4 : Option Value} {x : Int32} {st : List Value} {h : xH} : exF ev cX1_mark 54 ([v0, v1, v2, v3, v4], []) (.int x :: st) h = if x = 0 then exF ev cX1_mark 136 ([v0, v1, v2, v3, v4], []) st h else exF ev cX1_mark 57 ([v0, v1, v2, v3, v4], []) st h := exF_b (i := (i_if1 (fun x => x = 0) 136 57)) rfl rfl
theorem eX1_mark_57 {ev : xV} {v1 v2 v3 v4 : Option Value} {x : Nat} {st : List Value} {h : xH} : exF ev cX1_mark 57 ([some (.ref x), v1, v2, v3, v4], []) st h = exF ev cX1_mark 58 ([some (.ref x), v1, v2, v3, v4], []) (.ref x :: st) h := exF_j (i := (i_aload 0 58)) rfl rfl
theorem eX1_mark_58 {ev : xV} {v0 v1 v2 v3 v4 : Option Value} {a : Nat} {st : List Value} {h : xH} : exF ev cX1_mark 58 ([v0, v1, v2, v3, v4], []) (.ref a :: st) h = xO (xgf h a 0 4) (fun v => exF ev cX1_mark 61 ([v0, v1, v2, v3, v4], []) (v :: st) h) := exF_o (i := (i_getf 0 4 61)) rfl rfl
theorem eX1_mark_61 {ev : xV} {v0 v1 v2 v4 : Option Value} {x : Nat} {st : List Value} {h : xH} : exF ev cX1_mark 61 ([v0, v1, v2, some (.ref x), v4], []) st h = exF ev cX1_mark 62 ([v0, v1, v2, some (.ref x), v4], []) (.ref x :: st) h := exF_j (i := (i_aload 3 62)) rfl rfl
theorem eX1_mark_61n {ev : xV} {v0 v1 v2 v4 : Option Value} {st : List Value} {h : xH} : exF ev cX1_mark 61 ([v0, v1, v2, some .null, v4], []) st h = exF ev cX1_mark 62 ([v0, v1, v2, some .null, v4], []) (.null :: st) h := exF_j (i := (i_aload 3 62)) rfl rfl
theorem eX1_mark_62 {ev : xV} {v0 v1 v2 v3 v4 : Option Value} {a : Nat} {st : List Value} {h : xH} : exF ev cX1_mark 62 ([v0, v1, v2, v3, v4], []) (.ref a :: st) h = xO (xgf h a 20 0) (fun v => exF ev cX1_mark 65 ([v0, v1, v2, v3, v4], []) (v :: st) h) := exF_o (i := (i_getf 20 0 65)) rfl rfl
theorem eX1_mark_65 {ev : xV} {v0 v1 v2 v3 v4 : Option Value} {a0 : Value} {a : Nat} {h : xH} : exF ev cX1_mark 65 ([v0, v1, v2, v3, v4], []) [a0, .ref a] h = xO (xck h a 3) (fun _ => xBv (ev 239 [.ref a, a0] h) (fun h => exF ev cX1_mark 68 ([v0, v1, v2, v3, v4], []) [] h)) := exF_cdv (i := (i_cvv 3 239 1 68)) rfl rfl
theorem eX1_mark_68 {ev : xV} {v0 v1 v2 v4 : Option Value} {x : Nat} {st : List Value} {h : xH} : exF ev cX1_mark 68 ([v0, v1, v2, some (.ref x), v4], []) st h = exF ev cX1_mark 69 ([v0, v1, v2, some (.ref x), v4], []) (.ref x :: st) h := exF_j (i := (i_aload 3 69)) rfl rfl
theorem eX1_mark_68n {ev : xV} {v0 v1 v2 v4 : Option Value} {st : List Value} {h : xH} : exF ev cX1_mark 68 ([v0, v1, v2, some .null, v4], []) st h = exF ev cX1_mark 69 ([v0, v1, v2, some .null, v4], []) (.null :: st) h := exF_j (i := (i_aload 3 69)) rfl rfl
theorem eX1_mark_69 {ev : xV} {v0 v1 v2 v3 v4 : Option Value} {a : Nat} {st : List Value} {h : xH} : exF ev cX1_mark 69 ([v0, v1, v2, v3, v4], []) (.ref a :: st) h = xO (xgf h a 20 1) (fun v => exF ev cX1_mark 72 ([v0, v1, v2, v3, v4], []) (v :: st) h) := exF_o (i := (i_getf 20 1 72)) rfl rfl
theorem eX1_mark_72 {ev : xV} {v1 v2 v3 v4 : Option Value} {x : Nat} {st : List Value} {h : xH} : exF ev cX1_mark 72 ([some (.ref x), v1, v2, v3, v4], []) st h = exF ev cX1_mark 73 ([some (.ref x), v1, v2, v3, v4], []) (.ref x :: st) h := exF_j (i := (i_aload 0 73)) rfl rfl
theorem eX1_mark_73 {ev : xV} {v0 v1 v2 v3 v4 : Option Value} {a : Nat} {st : List Value} {h : xH} : exF ev cX1_mark 73 ([v0, v1, v2, v3, v4], []) (.ref a :: st) h = xO (xgf h a 0 12) (fun v => exF ev cX1_mark 76 ([v0, v1, v2, v3, v4], []) (v :: st) h) := exF_o (i := (i_getf 0 12 76)) rfl rfl
theorem eX1_mark_76 {ev : xV} {v0 v1 v2 v3 v4 : Option Value} {a0 : Value} {a1 : Value} {h : xH} : exF ev cX1_mark 76 ([v0, v1, v2, v3, v4], []) [a1, a0] h = xBv (ev 88 [a0, a1] h) (fun h => exF ev cX1_mark 79 ([v0, v1, v2, v3, v4], []) [] h) := exF_cv (i := (i_csv 88 2 79)) rfl rfl
theorem eX1_mark_79 {ev : xV} {v0 v1 v2 v4 : Option Value} {x : Nat} {st : List Value} {h : xH} : exF ev cX1_mark 79 ([v0, v1, v2, some (.ref x), v4], []) st h = exF ev cX1_mark 80 ([v0, v1, v2, some (.ref x), v4], []) (.ref x :: st) h := exF_j (i := (i_aload 3 80)) rfl rfl
theorem eX1_mark_79n {ev : xV} {v0 v1 v2 v4 : Option Value} {st : List Value} {h : xH} : exF ev cX1_mark 79 ([v0, v1, v2, some .null, v4], []) st h = exF ev cX1_mark 80 ([v0, v1, v2, some .null, v4], []) (.null :: st) h := exF_j (i := (i_aload 3 80)) rfl rfl
theorem eX1_mark_80 {ev : xV} {v0 v1 v2 v3 v4 : Option Value} {a : Nat} {st : List Value} {h : xH} : exF ev cX1_mark 80 ([v0, v1, v2, v3, v4], []) (.ref a :: st) h = xO (xgf h a 20 2) (fun v => exF ev cX1_mark 83 ([v0, v1, v2, v3, v4], []) (v :: st) h) := exF_o (i := (i_getf 20 2 83)) rfl rfl
theorem eX1_mark_83 {ev : xV} {v1 v2 v3 v4 : Option Value} {x : Nat} {st : List Value} {h : xH} : exF ev cX1_mark 83 ([some (.ref x), v1, v2, v3, v4], []) st h = exF ev cX1_mark 84 ([some (.ref x), v1, v2, v3, v4], []) (.ref x :: st) h := exF_j (i := (i_aload 0 84)) rfl rfl
theorem eX1_mark_84 {ev : xV} {v0 v1 v2 v3 v4 : Option Value} {a : Nat} {st : List Value} {h : xH} : exF ev cX1_mark 84 ([v0, v1, v2, v3, v4], []) (.ref a :: st) h = xO (xgf h a 0 13) (fun v => exF ev cX1_mark 87 ([v0, v1, v2, v3, v4], []) (v :: st) h) := exF_o (i := (i_getf 0 13 87)) rfl rfl
theorem eX1_mark_87 {ev : xV} {v0 v1 v2 v3 v4 : Option Value} {a0 : Value} {a1 : Value} {h : xH} : exF ev cX1_mark 87 ([v0, v1, v2, v3, v4], []) [a1, a0] h = xBv (ev 88 [a0, a1] h) (fun h => exF ev cX1_mark 90 ([v0, v1, v2, v3, v4], []) [] h) := exF_cv (i := (i_csv 88 2 90)) rfl rfl
theorem eX1_mark_90 {ev : xV} {v0 v1 v2 v4 : Option Value} {x : Nat} {st : List Value} {h : xH} : exF ev cX1_mark 90 ([v0, v1, v2, some (.ref x), v4], []) st h = exF ev cX1_mark 91 ([v0, v1, v2, some (.ref x), v4], []) (.ref x :: st) h := exF_j (i := (i_aload 3 91)) rfl rfl
theorem eX1_mark_90n {ev : xV} {v0 v1 v2 v4 : Option Value} {st : List Value} {h : xH} : exF ev cX1_mark 90 ([v0, v1, v2, some .null, v4], []) st h = exF ev cX1_mark 91 ([v0, v1, v2, some .null, v4], []) (.null :: st) h := exF_j (i := (i_aload 3 91)) rfl rfl
theorem eX1_mark_91 {ev : xV} {v0 v1 v2 v3 v4 : Option Value} {a : Nat} {st : List Value} {h : xH} : exF ev cX1_mark 91 ([v0, v1, v2, v3, v4], []) (.ref a :: st) h = xO (xgf h a 20 3) (fun v => exF ev cX1_mark 94 ([v0, v1, v2, v3, v4], []) (v :: st) h) := exF_o (i := (i_getf 20 3 94)) rfl rfl
theorem eX1_mark_94 {ev : xV} {v1 v2 v3 v4 : Option Value} {x : Nat} {st : List Value} {h : xH} : exF ev cX1_mark 94 ([some (.ref x), v1, v2, v3, v4], []) st h = exF ev cX1_mark 95 ([some (.ref x), v1, v2, v3, v4], []) (.ref x :: st) h := exF_j (i := (i_aload 0 95)) rfl rfl
theorem eX1_mark_95 {ev : xV} {v0 v1 v2 v3 v4 : Option Value} {a : Nat} {st : List Value} {h : xH} : exF ev cX1_mark 95 ([v0, v1, v2, v3, v4], []) (.ref a :: st) h = xO (xgf h a 0 17) (fun v => exF ev cX1_mark 98 ([v0, v1, v2, v3, v4], []) (v :: st) h) := exF_o (i := (i_getf 0 17 98)) rfl rfl
theorem eX1_mark_98 {ev : xV} {v0 v1 v2 v3 v4 : Option Value} {a0 : Value} {a1 : Value} {h : xH} : exF ev cX1_mark 98 ([v0, v1, v2, v3, v4], []) [a1, a0] h = xBv (ev 88 [a0, a1] h) (fun h => exF ev cX1_mark 101 ([v0, v1, v2, v3, v4], []) [] h) := exF_cv (i := (i_csv 88 2 101)) rfl rfl
theorem eX1_mark_101 {ev : xV} {v0 v1 v2 v4 : Option Value} {x : Nat} {st : List Value} {h : xH} : exF ev cX1_mark 101 ([v0, v1, v2, some (.ref x), v4], []) st h = exF ev cX1_mark 102 ([v0, v1, v2, some (.ref x), v4], []) (.ref x :: st) h := exF_j (i := (i_aload 3 102)) rfl rfl
theorem eX1_mark_101n {ev : xV} {v0 v1 v2 v4 : Option Value} {st : List Value} {h : xH} : exF ev cX1_mark 101 ([v0, v1, v2, some .null, v4], []) st h = exF ev cX1_mark 102 ([v0, v1, v2, some .null, v4], []) (.null :: st) h := exF_j (i := (i_aload 3 102)) rfl rfl
theorem eX1_mark_102 {ev : xV} {v0 v1 v2 v3 v4 : Option Value} {a : Nat} {st : List Value} {h : xH} : exF ev cX1_mark 102 ([v0, v1, v2, v3, v4], []) (.ref a :: st) h = xO (xgf h a 20 4) (fun v => exF ev cX1_mark 105 ([v0, v1, v2, v3, v4], []) (v :: st) h) := exF_o (i := (i_getf 20 4 105)) rfl rfl
theorem eX1_mark_105 {ev : xV} {v1 v2 v3 v4 : Option Value} {x : Nat} {st : List Value} {h : xH} : exF ev cX1_mark 105 ([some (.ref x), v1, v2, v3, v4], []) st h = exF ev cX1_mark 106 ([some (.ref x), v1, v2, v3, v4], []) (.ref x :: st) h := exF_j (i := (i_aload 0 106)) rfl rfl
theorem eX1_mark_106 {ev : xV} {v0 v1 v2 v3 v4 : Option Value} {a : Nat} {st : List Value} {h : xH} : exF ev cX1_mark 106 ([v0, v1, v2, v3, v4], []) (.ref a :: st) h = xO (xgf h a 0 18) (fun v => exF ev cX1_mark 109 ([v0, v1, v2, v3, v4], []) (v :: st) h) := exF_o (i := (i_getf 0 18 109)) rfl rfl
theorem eX1_mark_109 {ev : xV} {v0 v1 v2 v3 v4 : Option Value} {a0 : Value} {a1 : Value} {h : xH} : exF ev cX1_mark 109 ([v0, v1, v2, v3, v4], []) [a1, a0] h = xBv (ev 88 [a0, a1] h) (fun h => exF ev cX1_mark 112 ([v0, v1, v2, v3, v4], []) [] h) := exF_cv (i := (i_csv 88 2 112)) rfl rfl
theorem eX1_mark_112 {ev : xV} {v1 v2 v3 v4 : Option Value} {x : Nat} {st : List Value} {h : xH} : exF ev cX1_mark 112 ([some (.ref x), v1, v2, v3, v4], []) st h = exF ev cX1_mark 113 ([some (.ref x), v1, v2, v3, v4], []) (.ref x :: st) h := exF_j (i := (i_aload 0 113)) rfl rfl
theorem eX1_mark_113 {ev : xV} {v0 v1 v2 v4 : Option Value} {x : Nat} {st : List Value} {h : xH} : exF ev cX1_mark 113 ([v0, v1, v2, some (.ref x), v4], []) st h = exF ev cX1_mark 114 ([v0, v1, v2, some (.ref x), v4], []) (.ref x :: st) h := exF_j (i := (i_aload 3 114)) rfl rfl
theorem eX1_mark_113n {ev : xV} {v0 v1 v2 v4 : Option Value} {st : List Value} {h : xH} : exF ev cX1_mark 113 ([v0, v1, v2, some .null, v4], []) st h = exF ev cX1_mark 114 ([v0, v1, v2, some .null, v4], []) (.null :: st) h := exF_j (i := (i_aload 3 114)) rfl rfl
theorem eX1_mark_114 {ev : xV} {v0 v1 v2 v3 v4 : Option Value} {a : Nat} {st : List Value} {h : xH} : exF ev cX1_mark 114 ([v0, v1, v2, v3, v4], []) (.ref a :: st) h = xO (xgf h a 20 6) (fun v => exF ev cX1_mark 117 ([v0, v1, v2, v3, v4], []) (v :: st) h) := exF_o (i := (i_getf 20 6 117)) rfl rfl
theorem eX1_mark_117 {ev : xV} {v0 v1 v2 v3 v4 : Option Value} {x : Int32} {a : Nat} {st : List Value} {h : xH} : exF ev cX1_mark 117 ([v0, v1, v2, v3, v4], []) (.int x :: .ref a :: st) h = xO (xpf h a 0 15 (.int x)) (fun h => exF ev cX1_mark 120 ([v0, v1, v2, v3, v4], []) st h) := exF_o (i := (i_putfi 0 15 120)) rfl rfl
theorem eX1_mark_120 {ev : xV} {v1 v2 v3 v4 : Option Value} {x : Nat} {st : List Value} {h : xH} : exF ev cX1_mark 120 ([some (.ref x), v1, v2, v3, v4], []) st h = exF ev cX1_mark 121 ([some (.ref x), v1, v2, v3, v4], []) (.ref x :: st) h := exF_j (i := (i_aload 0 121)) rfl rfl
theorem eX1_mark_121 {ev : xV} {v0 v1 v2 v4 : Option Value} {x : Nat} {st : List Value} {h : xH} : exF ev cX1_mark 121 ([v0, v1, v2, some (.ref x), v4], []) st h = exF ev cX1_mark 122 ([v0, v1, v2, some (.ref x), v4], []) (.ref x :: st) h := exF_j (i := (i_aload 3 122)) rfl rfl
theorem eX1_mark_121n {ev : xV} {v0 v1 v2 v4 : Option Value} {st : List Value} {h : xH} : exF ev cX1_mark 121 ([v0, v1, v2, some .null, v4], []) st h = exF ev cX1_mark 122 ([v0, v1, v2, some .null, v4], []) (.null :: st) h := exF_j (i := (i_aload 3 122)) rfl rfl
theorem eX1_mark_122 {ev : xV} {v0 v1 v2 v3 v4 : Option Value} {a : Nat} {st : List Value} {h : xH} : exF ev cX1_mark 122 ([v0, v1, v2, v3, v4], []) (.ref a :: st) h = xO (xgf h a 20 7) (fun v => exF ev cX1_mark 125 ([v0, v1, v2, v3, v4], []) (v :: st) h) := exF_o (i := (i_getf 20 7 125)) rfl rfl
theorem eX1_mark_125 {ev : xV} {v0 v1 v2 v3 v4 : Option Value} {x : Int32} {a : Nat} {st : List Value} {h : xH} : exF ev cX1_mark 125 ([v0, v1, v2, v3, v4], []) (.int x :: .ref a :: st) h = xO (xpf h a 0 19 (.int x)) (fun h => exF ev cX1_mark 128 ([v0, v1, v2, v3, v4], []) st h) := exF_o (i := (i_putfi 0 19 128)) rfl rfl
theorem eX1_mark_128 {ev : xV} {v1 v2 v3 v4 : Option Value} {x : Nat} {st : List Value} {h : xH} : exF ev cX1_mark 128 ([some (.ref x), v1, v2, v3, v4], []) st h = exF ev cX1_mark 129 ([some (.ref x), v1, v2, v3, v4], []) (.ref x :: st) h := exF_j (i := (i_aload 0 129)) rfl rfl
theorem eX1_mark_129 {ev : xV} {v0 v1 v2 v3 v4 : Option Value} {st : List Value} {h : xH} : exF ev cX1_mark 129 ([v0, v1, v2, v3, v4], []) st h = exF ev cX1_mark 130 ([v0, v1, v2, v3, v4], []) (.int (nI 0) :: st) h := exF_j (i := (i_const (.int (nI 0)) 130)) rfl rfl
theorem eX1_mark_130 {ev : xV} {v0 v1 v2 v3 v4 : Option Value} {x : Int32} {a : Nat} {st : List Value} {h : xH} : exF ev cX1_mark 130 ([v0, v1, v2, v3, v4], []) (.int x :: .ref a :: st) h = xO (xpf h a 0 9 (.int x)) (fun h => exF ev cX1_mark 133 ([v0, v1, v2, v3, v4], []) st h) := exF_o (i := (i_putfi 0 9 133)) rfl rfl
theorem eX1_mark_133 {ev : xV} {v0 v1 v2 v3 v4 : Option Value} {st : List Value} {h : xH} : exF ev cX1_mark 133 ([v0, v1, v2, v3, v4], []) st h = exF ev cX1_mark 207 ([v0, v1, v2, v3, v4], []) st h := exF_j (i := (i_goto 207)) rfl rfl
theorem eX1_mark_136 {ev : xV} {v0 v1 v2 v4 : Option Value} {x : Nat} {st : List Value} {h : xH} : exF ev cX1_mark 136 ([v0, v1, v2, some (.ref x), v4], []) st h = exF ev cX1_mark 137 ([v0, v1, v2, some (.ref x), v4], []) (.ref x :: st) h := exF_j (i := (i_aload 3 137)) rfl rfl
theorem eX1_mark_136n {ev : xV} {v0 v1 v2 v4 : Option Value} {st : List Value} {h : xH} : exF ev cX1_mark 136 ([v0, v1, v2, some .null, v4], []) st h = exF ev cX1_mark 137 ([v0, v1, v2, some .null, v4], []) (.null :: st) h := exF_j (i := (i_aload 3 137)) rfl rfl
theorem eX1_mark_137 {ev : xV} {v0 v1 v2 v3 v4 : Option Value} {a : Nat} {st : List Value} {h : xH} : exF ev cX1_mark 137 ([v0, v1, v2, v3, v4], []) (.ref a :: st) h = xO (xgf h a 20 0) (fun v => exF ev cX1_mark 140 ([v0, v1, v2, v3, v4], []) (v :: st) h) := exF_o (i := (i_getf 20 0 140)) rfl rfl
theorem eX1_mark_140 {ev : xV} {v1 v2 v3 v4 : Option Value} {x : Nat} {st : List Value} {h : xH} : exF ev cX1_mark 140 ([some (.ref x), v1, v2, v3, v4], []) st h = exF ev cX1_mark 141 ([some (.ref x), v1, v2, v3, v4], []) (.ref x :: st) h := exF_j (i := (i_aload 0 141)) rfl rfl
theorem eX1_mark_141 {ev : xV} {v0 v1 v2 v3 v4 : Option Value} {a : Nat} {st : List Value} {h : xH} : exF ev cX1_mark 141 ([v0, v1, v2, v3, v4], []) (.ref a :: st) h = xO (xgf h a 0 4) (fun v => exF ev cX1_mark 144 ([v0, v1, v2, v3, v4], []) (v :: st) h) := exF_o (i := (i_getf 0 4 144)) rfl rfl
theorem eX1_mark_144 {ev : xV} {v0 v1 v2 v3 v4 : Option Value} {a0 : Value} {a : Nat} {h : xH} : exF ev cX1_mark 144 ([v0, v1, v2, v3, v4], []) [a0, .ref a] h = xO (xck h a 3) (fun _ => xBv (ev 239 [.ref a, a0] h) (fun h => exF ev cX1_mark 147 ([v0, v1, v2, v3, v4], []) [] h)) := exF_cdv (i := (i_cvv 3 239 1 147)) rfl rfl
theorem eX1_mark_147 {ev : xV} {v1 v2 v3 v4 : Option Value} {x : Nat} {st : List Value} {h : xH} : exF ev cX1_mark 147 ([some (.ref x), v1, v2, v3, v4], []) st h = exF ev cX1_mark 148 ([some (.ref x), v1, v2, v3, v4], []) (.ref x :: st) h := exF_j (i := (i_aload 0 148)) rfl rfl
theorem eX1_mark_148 {ev : xV} {v0 v1 v2 v3 v4 : Option Value} {a : Nat} {st : List Value} {h : xH} : exF ev cX1_mark 148 ([v0, v1, v2, v3, v4], []) (.ref a :: st) h = xO (xgf h a 0 12) (fun v => exF ev cX1_mark 151 ([v0, v1, v2, v3, v4], []) (v :: st) h) := exF_o (i := (i_getf 0 12 151)) rfl rfl
theorem eX1_mark_151 {ev : xV} {v0 v1 v2 v4 : Option Value} {x : Nat} {st : List Value} {h : xH} : exF ev cX1_mark 151 ([v0, v1, v2, some (.ref x), v4], []) st h = exF ev cX1_mark 152 ([v0, v1, v2, some (.ref x), v4], []) (.ref x :: st) h := exF_j (i := (i_aload 3 152)) rfl rfl
theorem eX1_mark_151n {ev : xV} {v0 v1 v2 v4 : Option Value} {st : List Value} {h : xH} : exF ev cX1_mark 151 ([v0, v1, v2, some .null, v4], []) st h = exF ev cX1_mark 152 ([v0, v1, v2, some .null, v4], []) (.null :: st) h := exF_j (i := (i_aload 3 152)) rfl rfl
theorem eX1_mark_152 {ev : xV} {v0 v1 v2 v3 v4 : Option Value} {a : Nat} {st : List Value} {h : xH} : exF ev cX1_mark 152 ([v0, v1, v2, v3, v4], []) (.ref a :: st) h = xO (xgf h a 20 1) (fun v => exF ev cX1_mark 155 ([v0, v1, v2, v3, v4], []) (v :: st) h) := exF_o (i := (i_getf 20 1 155)) rfl rfl
theorem eX1_mark_155 {ev : xV} {v0 v1 v2 v3 v4 : Option Value} {a0 : Value} {a1 : Value} {h : xH} : exF ev cX1_mark 155 ([v0, v1, v2, v3, v4], []) [a1, a0] h = xBv (ev 88 [a0, a1] h) (fun h => exF ev cX1_mark 158 ([v0, v1, v2, v3, v4], []) [] h) := exF_cv (i := (i_csv 88 2 158)) rfl rfl
theorem eX1_mark_158 {ev : xV} {v1 v2 v3 v4 : Option Value} {x : Nat} {st : List Value} {h : xH} : exF ev cX1_mark 158 ([some (.ref x), v1, v2, v3, v4], []) st h = exF ev cX1_mark 159 ([some (.ref x), v1, v2, v3, v4], []) (.ref x :: st) h := exF_j (i := (i_aload 0 159)) rfl rfl
theorem eX1_mark_159 {ev : xV} {v0 v1 v2 v3 v4 : Option Value} {a : Nat} {st : List Value} {h : xH} : exF ev cX1_mark 159 ([v0, v1, v2, v3, v4], []) (.ref a :: st) h = xO (xgf h a 0 13) (fun v => exF ev cX1_mark 162 ([v0, v1, v2, v3, v4], []) (v :: st) h) := exF_o (i := (i_getf 0 13 162)) rfl rfl
theorem eX1_mark_162 {ev : xV} {v0 v1 v2 v4 : Option Value} {x : Nat} {st : List Value} {h : xH} : exF ev cX1_mark 162 ([v0, v1, v2, some (.ref x), v4], []) st h = exF ev cX1_mark 163 ([v0, v1, v2, some (.ref x), v4], []) (.ref x :: st) h := exF_j (i := (i_aload 3 163)) rfl rfl
theorem eX1_mark_162n {ev : xV} {v0 v1 v2 v4 : Option Value} {st : List Value} {h : xH} : exF ev cX1_mark 162 ([v0, v1, v2, some .null, v4], []) st h = exF ev cX1_mark 163 ([v0, v1, v2, some .null, v4], []) (.null :: st) h := exF_j (i := (i_aload 3 163)) rfl rfl
theorem eX1_mark_163 {ev : xV} {v0 v1 v2 v3 v4 : Option Value} {a : Nat} {st : List Value} {h : xH} : exF ev cX1_mark 163 ([v0, v1, v2, v3, v4], []) (.ref a :: st) h = xO (xgf h a 20 2) (fun v => exF ev cX1_mark 166 ([v0, v1, v2, v3, v4], []) (v :: st) h) := exF_o (i := (i_getf 20 2 166)) rfl rfl
theorem eX1_mark_166 {ev : xV} {v0 v1 v2 v3 v4 : Option Value} {a0 : Value} {a1 : Value} {h : xH} : exF ev cX1_mark 166 ([v0, v1, v2, v3, v4], []) [a1, a0] h = xBv (ev 88 [a0, a1] h) (fun h => exF ev cX1_mark 169 ([v0, v1, v2, v3, v4], []) [] h) := exF_cv (i := (i_csv 88 2 169)) rfl rfl
theorem eX1_mark_169 {ev : xV} {v1 v2 v3 v4 : Option Value} {x : Nat} {st : List Value} {h : xH} : exF ev cX1_mark 169 ([some (.ref x), v1, v2, v3, v4], []) st h = exF ev cX1_mark 170 ([some (.ref x), v1, v2, v3, v4], []) (.ref x :: st) h := exF_j (i := (i_aload 0 170)) rfl rfl
theorem eX1_mark_170 {ev : xV} {v0 v1 v2 v3 v4 : Option Value} {a : Nat} {st : List Value} {h : xH} : exF ev cX1_mark 170 ([v0, v1, v2, v3, v4], []) (.ref a :: st) h = xO (xgf h a 0 17) (fun v => exF ev cX1_mark 173 ([v0, v1, v2, v3, v4], []) (v :: st) h) := exF_o (i := (i_getf 0 17 173)) rfl rfl
theorem eX1_mark_173 {ev : xV} {v0 v1 v2 v4 : Option Value} {x : Nat} {st : List Value} {h : xH} : exF ev cX1_mark 173 ([v0, v1, v2, some (.ref x), v4], []) st h = exF ev cX1_mark 174 ([v0, v1, v2, some (.ref x), v4], []) (.ref x :: st) h := exF_j (i := (i_aload 3 174)) rfl rfl
theorem eX1_mark_173n {ev : xV} {v0 v1 v2 v4 : Option Value} {st : List Value} {h : xH} : exF ev cX1_mark 173 ([v0, v1, v2, some .null, v4], []) st h = exF ev cX1_mark 174 ([v0, v1, v2, some .null, v4], []) (.null :: st) h := exF_j (i := (i_aload 3 174)) rfl rfl
theorem eX1_mark_174 {ev : xV} {v0 v1 v2 v3 v4 : Option Value} {a : Nat} {st : List Value} {h : xH} : exF ev cX1_mark 174 ([v0, v1, v2, v3, v4], []) (.ref a :: st) h = xO (xgf h a 20 3) (fun v => exF ev cX1_mark 177 ([v0, v1, v2, v3, v4], []) (v :: st) h) := exF_o (i := (i_getf 20 3 177)) rfl rfl
theorem eX1_mark_177 {ev : xV} {v0 v1 v2 v3 v4 : Option Value} {a0 : Value} {a1 : Value} {h : xH} : exF ev cX1_mark 177 ([v0, v1, v2, v3, v4], []) [a1, a0] h = xBv (ev 88 [a0, a1] h) (fun h => exF ev cX1_mark 180 ([v0, v1, v2, v3, v4], []) [] h) := exF_cv (i := (i_csv 88 2 180)) rfl rfl
theorem eX1_mark_180 {ev : xV} {v1 v2 v3 v4 : Option Value} {x : Nat} {st : List Value} {h : xH} : exF ev cX1_mark 180 ([some (.ref x), v1, v2, v3, v4], []) st h = exF ev cX1_mark 181 ([some (.ref x), v1, v2, v3, v4], []) (.ref x :: st) h := exF_j (i := (i_aload 0 181)) rfl rfl
theorem eX1_mark_181 {ev : xV} {v0 v1 v2 v3 v4 : Option Value} {a : Nat} {st : List Value} {h : xH} : exF ev cX1_mark 181 ([v0, v1, v2, v3, v4], []) (.ref a :: st) h = xO (xgf h a 0 18) (fun v => exF ev cX1_mark 184 ([v0, v1, v2, v3, v4], []) (v :: st) h) := exF_o (i := (i_getf 0 18 184)) rfl rfl
theorem eX1_mark_184 {ev : xV} {v0 v1 v2 v4 : Option Value} {x : Nat} {st : List Value} {h : xH} : exF ev cX1_mark 184 ([v0, v1, v2, some (.ref x), v4], []) st h = exF ev cX1_mark 185 ([v0, v1, v2, some (.ref x), v4], []) (.ref x :: st) h := exF_j (i := (i_aload 3 185)) rfl rfl
theorem eX1_mark_184n {ev : xV} {v0 v1 v2 v4 : Option Value} {st : List Value} {h : xH} : exF ev cX1_mark 184 ([v0, v1, v2, some .null, v4], []) st h = exF ev cX1_mark 185 ([v0, v1, v2, some .null, v4], []) (.null :: st) h := exF_j (i := (i_aload 3 185)) rfl rfl
theorem eX1_mark_185 {ev : xV} {v0 v1 v2 v3 v4 : Option Value} {a : Nat} {st : List Value} {h : xH} : exF ev cX1_mark 185 ([v0, v1, v2, v3, v4], []) (.ref a :: st) h = xO (xgf h a 20 4) (fun v => exF ev cX1_mark 188 ([v0, v1, v2, v3, v4], []) (v :: st) h) := exF_o (i := (i_getf 20 4 188)) rfl rfl
theorem eX1_mark_188 {ev : xV} {v0 v1 v2 v3 v4 : Option Value} {a0 : Value} {a1 : Value} {h : xH} : exF ev cX1_mark 188 ([v0, v1, v2, v3, v4], []) [a1, a0] h = xBv (ev 88 [a0, a1] h) (fun h => exF ev cX1_mark 191 ([v0, v1, v2, v3, v4], []) [] h) := exF_cv (i := (i_csv 88 2 191)) rfl rfl
theorem eX1_mark_191 {ev : xV} {v0 v1 v2 v4 : Option Value} {x : Nat} {st : List Value} {h : xH} : exF ev cX1_mark 191 ([v0, v1, v2, some (.ref x), v4], []) st h = exF ev cX1_mark 192 ([v0, v1, v2, some (.ref x), v4], []) (.ref x :: st) h := exF_j (i := (i_aload 3 192)) rfl rfl
theorem eX1_mark_191n {ev : xV} {v0 v1 v2 v4 : Option Value} {st : List Value} {h : xH} : exF ev cX1_mark 191 ([v0, v1, v2, some .null, v4], []) st h = exF ev cX1_mark 192 ([v0, v1, v2, some .null, v4], []) (.null :: st) h := exF_j (i := (i_aload 3 192)) rfl rfl
theorem eX1_mark_192 {ev : xV} {v1 v2 v3 v4 : Option Value} {x : Nat} {st : List Value} {h : xH} : exF ev cX1_mark 192 ([some (.ref x), v1, v2, v3, v4], []) st h = exF ev cX1_mark 193 ([some (.ref x), v1, v2, v3, v4], []) (.ref x :: st) h := exF_j (i := (i_aload 0 193)) rfl rfl
theorem eX1_mark_193 {ev : xV} {v0 v1 v2 v3 v4 : Option Value} {a : Nat} {st : List Value} {h : xH} : exF ev cX1_mark 193 ([v0, v1, v2, v3, v4], []) (.ref a :: st) h = xO (xgf h a 0 15) (fun v => exF ev cX1_mark 196 ([v0, v1, v2, v3, v4], []) (v :: st) h) := exF_o (i := (i_getf 0 15 196)) rfl rfl
theorem eX1_mark_196 {ev : xV} {v0 v1 v2 v3 v4 : Option Value} {x : Int32} {a : Nat} {st : List Value} {h : xH} : exF ev cX1_mark 196 ([v0, v1, v2, v3, v4], []) (.int x :: .ref a :: st) h = xO (xpf h a 20 6 (.int x)) (fun h => exF ev cX1_mark 199 ([v0, v1, v2, v3, v4], []) st h) := exF_o (i := (i_putfi 20 6 199)) rfl rfl
theorem eX1_mark_199 {ev : xV} {v0 v1 v2 v4 : Option Value} {x : Nat} {st : List Value} {h : xH} : exF ev cX1_mark 199 ([v0, v1, v2, some (.ref x), v4], []) st h = exF ev cX1_mark 200 ([v0, v1, v2, some (.ref x), v4], []) (.ref x :: st) h := exF_j (i := (i_aload 3 200)) rfl rfl
theorem eX1_mark_199n {ev : xV} {v0 v1 v2 v4 : Option Value} {st : List Value} {h : xH} : exF ev cX1_mark 199 ([v0, v1, v2, some .null, v4], []) st h = exF ev cX1_mark 200 ([v0, v1, v2, some .null, v4], []) (.null :: st) h := exF_j (i := (i_aload 3 200)) rfl rfl
theorem eX1_mark_200 {ev : xV} {v1 v2 v3 v4 : Option Value} {x : Nat} {st : List Value} {h : xH} : exF ev cX1_mark 200 ([some (.ref x), v1, v2, v3, v4], []) st h = exF ev cX1_mark 201 ([some (.ref x), v1, v2, v3, v4], []) (.ref x :: st) h := exF_j (i := (i_aload 0 201)) rfl rfl
theorem eX1_mark_201 {ev : xV} {v0 v1 v2 v3 v4 : Option Value} {a : Nat} {st : List Value} {h : xH} : exF ev cX1_mark 201 ([v0, v1, v2, v3, v4], []) (.ref a :: st) h = xO (xgf h a 0 19) (fun v => exF ev cX1_mark 204 ([v0, v1, v2, v3, v4], []) (v :: st) h) := exF_o (i := (i_getf 0 19 204)) rfl rfl
theorem eX1_mark_204 {ev : xV} {v0 v1 v2 v3 v4 : Option Value} {x : Int32} {a : Nat} {st : List Value} {h : xH} : exF ev cX1_mark 204 ([v0, v1, v2, v3, v4], []) (.int x :: .ref a :: st) h = xO (xpf h a 20 7 (.int x)) (fun h => exF ev cX1_mark 207 ([v0, v1, v2, v3, v4], []) st h) := exF_o (i := (i_putfi 20 7 207)) rfl rfl
theorem eX1_mark_207 {ev : xV} {v0 v1 v2 v3 v4 : Option Value} {st : List Value} {h : xH} : exF ev cX1_mark 207 ([v0, v1, v2, v3, v4], []) st h = exF ev cX1_mark 208 ([v0, v1, v2, v3, v4], []) (.int (nI 0) :: st) h := exF_j (i := (i_const (.int (nI 0)) 208)) rfl rfl
theorem eX1_mark_208 {ev : xV} {v0 v1 v2 v3 v4 : Option Value} {x : Int32} {st : List Value} {h : xH} : exF ev cX1_mark 208 ([v0, v1, v2, v3, v4], []) (.int x :: st) h = exF ev cX1_mark 210 ([v0, v1, v2, v3, some (.int x)], []) st h := exF_j (i := (i_istore 4 210)) rfl rfl
theorem eX1_mark_210 {ev : xV} {v0 v1 v2 v3 : Option Value} {x : Int32} {st : List Value} {h : xH} : exF ev cX1_mark 210 ([v0, v1, v2, v3, some (.int x)], []) st h = exF ev cX1_mark 212 ([v0, v1, v2, v3, some (.int x)], []) (.int x :: st) h := exF_j (i := (i_iload 4 212)) rfl rfl
theorem eX1_mark_212 {ev : xV} {v0 v1 v2 v3 v4 : Option Value} {st : List Value} {h : xH} : exF ev cX1_mark 212 ([v0, v1, v2, v3, v4], []) st h = exF ev cX1_mark 214 ([v0, v1, v2, v3, v4], []) (.int (nI 8) :: st) h := exF_j (i := (i_const (.int (nI 8)) 214)) rfl rfl
theorem eX1_mark_214 {ev : xV} {v0 v1 v2 v3 v4 : Option Value} {x y : Int32} {st : List Value} {h : xH} : exF ev cX1_mark 214 ([v0, v1, v2, v3, v4], []) (.int y :: .int x :: st) h = if y ≤ x then exF ev cX1_mark 258 ([v0, v1, v2, v3, v4], []) st h else exF ev cX1_mark 217 ([v0, v1, v2, v3, v4], []) st h := exF_b (i := (i_if2 (fun x y => y ≤ x) 258 217)) rfl rfl
theorem eX1_mark_217 {ev : xV} {v0 v1 v3 v4 : Option Value} {x : Int32} {st : List Value} {h : xH} : exF ev cX1_mark 217 ([v0, v1, some (.int x), v3, v4], []) st h = exF ev cX1_mark 218 ([v0, v1, some (.int x), v3, v4], []) (.int x :: st) h := exF_j (i := (i_iload 2 218)) rfl rfl
theorem eX1_mark_218 {ev : xV} {v0 v1 v2 v3 v4 : Option Value} {x : Int32} {st : List Value} {h : xH} : exF ev cX1_mark 218 ([v0, v1, v2, v3, v4], []) (.int x :: st) h = if x = 0 then exF ev cX1_mark 238 ([v0, v1, v2, v3, v4], []) st h else exF ev cX1_mark 221 ([v0, v1, v2, v3, v4], []) st h := exF_b (i := (i_if1 (fun x => x = 0) 238 221)) rfl rfl
theorem eX1_mark_221 {ev : xV} {v1 v2 v3 v4 : Option Value} {x : Nat} {st : List Value} {h : xH} : exF ev cX1_mark 221 ([some (.ref x), v1, v2, v3, v4], []) st h = exF ev cX1_mark 222 ([some (.ref x), v1, v2, v3, v4], []) (.ref x :: st) h := exF_j (i := (i_aload 0 222)) rfl rfl
theorem eX1_mark_222 {ev : xV} {v0 v1 v2 v3 v4 : Option Value} {a : Nat} {st : List Value} {h : xH} : exF ev cX1_mark 222 ([v0, v1, v2, v3, v4], []) (.ref a :: st) h = xO (xgf h a 0 14) (fun v => exF ev cX1_mark 225 ([v0, v1, v2, v3, v4], []) (v :: st) h) := exF_o (i := (i_getf 0 14 225)) rfl rfl
theorem eX1_mark_225 {ev : xV} {v0 v1 v2 v3 : Option Value} {x : Int32} {st : List Value} {h : xH} : exF ev cX1_mark 225 ([v0, v1, v2, v3, some (.int x)], []) st h = exF ev cX1_mark 227 ([v0, v1, v2, v3, some (.int x)], []) (.int x :: st) h := exF_j (i := (i_iload 4 227)) rfl rfl
theorem eX1_mark_227 {ev : xV} {v0 v1 v2 v4 : Option Value} {x : Nat} {st : List Value} {h : xH} : exF ev cX1_mark 227 ([v0, v1, v2, some (.ref x), v4], []) st h = exF ev cX1_mark 228 ([v0, v1, v2, some (.ref x), v4], []) (.ref x :: st) h := exF_j (i := (i_aload 3 228)) rfl rfl
theorem eX1_mark_227n {ev : xV} {v0 v1 v2 v4 : Option Value} {st : List Value} {h : xH} : exF ev cX1_mark 227 ([v0, v1, v2, some .null, v4], []) st h = exF ev cX1_mark 228 ([v0, v1, v2, some .null, v4], []) (.null :: st) h := exF_j (i := (i_aload 3 228)) rfl rfl
theorem eX1_mark_228 {ev : xV} {v0 v1 v2 v3 v4 : Option Value} {a : Nat} {st : List Value} {h : xH} : exF ev cX1_mark 228 ([v0, v1, v2, v3, v4], []) (.ref a :: st) h = xO (xgf h a 20 5) (fun v => exF ev cX1_mark 231 ([v0, v1, v2, v3, v4], []) (v :: st) h) := exF_o (i := (i_getf 20 5 231)) rfl rfl
theorem eX1_mark_231 {ev : xV} {v0 v1 v2 v3 : Option Value} {x : Int32} {st : List Value} {h : xH} : exF ev cX1_mark 231 ([v0, v1, v2, v3, some (.int x)], []) st h = exF ev cX1_mark 233 ([v0, v1, v2, v3, some (.int x)], []) (.int x :: st) h := exF_j (i := (i_iload 4 233)) rfl rfl
theorem eX1_mark_233 {ev : xV} {v0 v1 v2 v3 v4 : Option Value} {i : Int32} {a : Nat} {st : List Value} {h : xH} : exF ev cX1_mark 233 ([v0, v1, v2, v3, v4], []) (.int i :: .ref a :: st) h = xO (xai h 2 a i) (fun v => exF ev cX1_mark 234 ([v0, v1, v2, v3, v4], []) (.int v :: st) h) := exF_o (i := (i_ai 2 234)) rfl rfl
theorem eX1_mark_234 {ev : xV} {v0 v1 v2 v3 v4 : Option Value} {v i : Int32} {a : Nat} {st : List Value} {h : xH} : exF ev cX1_mark 234 ([v0, v1, v2, v3, v4], []) (.int v :: .int i :: .ref a :: st) h = xO (xsi h 2 a i (vp_nar .boolean v)) (fun h => exF ev cX1_mark 235 ([v0, v1, v2, v3, v4], []) st h) := exF_o (i := (i_si (fun v => vp_nar .boolean v) 2 235)) rfl rfl
theorem eX1_mark_235 {ev : xV} {v0 v1 v2 v3 v4 : Option Value} {st : List Value} {h : xH} : exF ev cX1_mark 235 ([v0, v1, v2, v3, v4], []) st h = exF ev cX1_mark 252 ([v0, v1, v2, v3, v4], []) st h := exF_j (i := (i_goto 252)) rfl rfl
theorem eX1_mark_238 {ev : xV} {v0 v1 v2 v4 : Option Value} {x : Nat} {st : List Value} {h : xH} : exF ev cX1_mark 238 ([v0, v1, v2, some (.ref x), v4], []) st h = exF ev cX1_mark 239 ([v0, v1, v2, some (.ref x), v4], []) (.ref x :: st) h := exF_j (i := (i_aload 3 239)) rfl rfl
theorem eX1_mark_238n {ev : xV} {v0 v1 v2 v4 : Option Value} {st : List Value} {h : xH} : exF ev cX1_mark 238 ([v0, v1, v2, some .null, v4], []) st h = exF ev cX1_mark 239 ([v0, v1, v2, some .null, v4], []) (.null :: st) h := exF_j (i := (i_aload 3 239)) rfl rfl
theorem eX1_mark_239 {ev : xV} {v0 v1 v2 v3 v4 : Option Value} {a : Nat} {st : List Value} {h : xH} : exF ev cX1_mark 239 ([v0, v1, v2, v3, v4], []) (.ref a :: st) h = xO (xgf h a 20 5) (fun v => exF ev cX1_mark 242 ([v0, v1, v2, v3, v4], []) (v :: st) h) := exF_o (i := (i_getf 20 5 242)) rfl rfl
theorem eX1_mark_242 {ev : xV} {v0 v1 v2 v3 : Option Value} {x : Int32} {st : List Value} {h : xH} : exF ev cX1_mark 242 ([v0, v1, v2, v3, some (.int x)], []) st h = exF ev cX1_mark 244 ([v0, v1, v2, v3, some (.int x)], []) (.int x :: st) h := exF_j (i := (i_iload 4 244)) rfl rfl
theorem eX1_mark_244 {ev : xV} {v1 v2 v3 v4 : Option Value} {x : Nat} {st : List Value} {h : xH} : exF ev cX1_mark 244 ([some (.ref x), v1, v2, v3, v4], []) st h = exF ev cX1_mark 245 ([some (.ref x), v1, v2, v3, v4], []) (.ref x :: st) h := exF_j (i := (i_aload 0 245)) rfl rfl
theorem eX1_mark_245 {ev : xV} {v0 v1 v2 v3 v4 : Option Value} {a : Nat} {st : List Value} {h : xH} : exF ev cX1_mark 245 ([v0, v1, v2, v3, v4], []) (.ref a :: st) h = xO (xgf h a 0 14) (fun v => exF ev cX1_mark 248 ([v0, v1, v2, v3, v4], []) (v :: st) h) := exF_o (i := (i_getf 0 14 248)) rfl rfl
theorem eX1_mark_248 {ev : xV} {v0 v1 v2 v3 : Option Value} {x : Int32} {st : List Value} {h : xH} : exF ev cX1_mark 248 ([v0, v1, v2, v3, some (.int x)], []) st h = exF ev cX1_mark 250 ([v0, v1, v2, v3, some (.int x)], []) (.int x :: st) h := exF_j (i := (i_iload 4 250)) rfl rfl
theorem eX1_mark_250 {ev : xV} {v0 v1 v2 v3 v4 : Option Value} {i : Int32} {a : Nat} {st : List Value} {h : xH} : exF ev cX1_mark 250 ([v0, v1, v2, v3, v4], []) (.int i :: .ref a :: st) h = xO (xai h 2 a i) (fun v => exF ev cX1_mark 251 ([v0, v1, v2, v3, v4], []) (.int v :: st) h) := exF_o (i := (i_ai 2 251)) rfl rfl
theorem eX1_mark_251 {ev : xV} {v0 v1 v2 v3 v4 : Option Value} {v i : Int32} {a : Nat} {st : List Value} {h : xH} : exF ev cX1_mark 251 ([v0, v1, v2, v3, v4], []) (.int v :: .int i :: .ref a :: st) h = xO (xsi h 2 a i (vp_nar .boolean v)) (fun h => exF ev cX1_mark 252 ([v0, v1, v2, v3, v4], []) st h) := exF_o (i := (i_si (fun v => vp_nar .boolean v) 2 252)) rfl rfl
theorem eX1_mark_252 {ev : xV} {v0 v1 v2 v3 : Option Value} {x : Int32} {st : List Value} {h : xH} : exF ev cX1_mark 252 ([v0, v1, v2, v3, some (.int x)], []) st h = exF ev cX1_mark 255 ([v0, v1, v2, v3, some (.int (x + (nI 1)))], []) st h := exF_j (i := (i_iinc 4 (nI 1) 255)) rfl rfl
theorem eX1_mark_255 {ev : xV} {v0 v1 v2 v3 v4 : Option Value} {st : List Value} {h : xH} : exF ev cX1_mark 255 ([v0, v1, v2, v3, v4], []) st h = exF ev cX1_mark 210 ([v0, v1, v2, v3, v4], []) st h := exF_j (i := (i_goto 210)) rfl rfl
theorem eX1_mark_258 {ev : xV} {v0 v1 v2 v3 v4 : Option Value} {st : List Value} {h : xH} : exF ev cX1_mark 258 ([v0, v1, v2, v3, v4], []) st h = exF ev cX1_mark 259 ([v0, v1, v2, v3, v4], []) (.int (nI 1) :: st) h := exF_j (i := (i_const (.int (nI 1)) 259)) rfl rfl
theorem eX1_mark_259 {ev : xV} {v0 v1 v2 v3 v4 : Option Value} {x : Int32} {h : xH} : exF ev cX1_mark 259 ([v0, v1, v2, v3, v4], []) [.int x] h = if x = nI 0 ∨ x = nI 1 then some (.inl (some (.int x)), h) else none := exF_z (i := (i_zret)) rfl rfl
theorem eX1_mark_259b0 {ev : xV} {v0 v1 v2 v3 v4 : Option Value} {h : xH} : exF ev cX1_mark 259 ([v0, v1, v2, v3, v4], []) [.int (nI 0)] h = some (.inl (some (.int (nI 0))), h) := exF_r (i := (i_zret)) rfl i_zret_0
theorem eX1_mark_259b1 {ev : xV} {v0 v1 v2 v3 v4 : Option Value} {h : xH} : exF ev cX1_mark 259 ([v0, v1, v2, v3, v4], []) [.int (nI 1)] h = some (.inl (some (.int (nI 1))), h) := exF_r (i := (i_zret)) rfl i_zret_1
theorem eX1_mark_259b {ev : xV} {v0 v1 v2 v3 v4 : Option Value} {b : Bool} {h : xH} : exF ev cX1_mark 259 ([v0, v1, v2, v3, v4], []) [.int (bI b)] h = some (.inl (some (.int (bI b))), h) := exF_r (i := (i_zret)) rfl (i_zret_b b)
noncomputable def cX1_count : xC := [(0, i_iload 1 1),
  (1, i_tsw 0 [68, 73, 78, 83, 91, 106, 115, 123, 134, 142, 147, 152, 157] 162),
  (68, i_aload 0 69),
  (69, i_cv 0 120 0 72),
  (72, i_iret),
  (73, i_aload 0 74),
  (74, i_cv 0 96 0 77),
  (77, i_iret),
  (78, i_aload 0 79),
  (79, i_cv 0 101 0 82),
  (82, i_iret),
  (83, i_aload 0 84),
  (84, i_getf 0 4 87),
  (87, i_getf 3 4 90),
  (90, i_iret),
  (91, i_aload 0 92),
  (92, i_getf 0 2 95),
  (95, i_aload 0 96),
  (96, i_getf 0 4 99),
  (99, i_getf 3 4 102),
  (102, i_cv 2 235 1 105),
  (105, i_iret),
  (106, i_aload 0 107),
  (107, i_aload 0 108),
  (108, i_getf 0 4 111),
  (111, i_cv 0 108 1 114),
  (114, i_iret),
  (115, i_aload 0 116),
  (116, i_getf 0 4 119),
  (119, i_getf 3 3 122),
  (122, i_iret),
  (123, i_aload 0 124),
  (124, i_getf 0 4 127),
  (127, i_getf 3 0 130),
  (130, i_cs 160 1 133),
  (133, i_iret),
  (134, i_aload 0 135),
  (135, i_getf 0 3 138),
  (138, i_cv 21 32 0 141),
  (141, i_iret),
  (142, i_aload 0 143),
  (143, i_getf 0 15 146),
  (146, i_iret),
  (147, i_aload 0 148),
  (148, i_getf 0 19 151),
  (151, i_iret),
  (152, i_aload 0 153),
  (153, i_getf 0 9 156),
  (156, i_iret),
  (157, i_aload 0 158),
  (158, i_getf 0 7 161),
  (161, i_iret),
  (162, i_const (.int (-1)) 163),
  (163, i_iret)]
theorem eX1_count_0 {ev : xV} {v0 : Option Value} {x : Int32} {st : List Value} {h : xH} : exF ev cX1_count 0 ([v0, some (.int x)], []) st h = exF ev cX1_count 1 ([v0, some (.int x)], []) (.int x :: st) h := exF_j (i := (i_iload 1 1)) rfl rfl
theorem eX1_count_1 {ev : xV} {v0 v1 : Option Value} {x : Int32} {st : List Value} {h : xH} : exF ev cX1_count 1 ([v0, v1], []) (.int x :: st) h = exF ev cX1_count (xsw 0 [68, 73, 78, 83, 91, 106, 115, 123, 134, 142, 147, 152, 157] 162 x) ([v0, v1], []) st h := exF_j (i := (i_tsw 0 [68, 73, 78, 83, 91, 106, 115, 123, 134, 142, 147, 152, 157] 162)) rfl rfl
theorem eX1_count_68 {ev : xV} {v1 : Option Value} {x : Nat} {st : List Value} {h : xH} : exF ev cX1_count 68 ([some (.ref x), v1], []) st h = exF ev cX1_count 69 ([some (.ref x), v1], []) (.ref x :: st) h := exF_j (i := (i_aload 0 69)) rfl rfl
theorem eX1_count_69 {ev : xV} {v0 v1 : Option Value} {a : Nat} {h : xH} : exF ev cX1_count 69 ([v0, v1], []) [.ref a] h = xO (xck h a 0) (fun _ => xB (ev 120 [.ref a] h) (fun v h => exF ev cX1_count 72 ([v0, v1], []) [v] h)) := exF_cd (i := (i_cv 0 120 0 72)) rfl rfl
theorem eX1_count_72 {ev : xV} {v0 v1 : Option Value} {x : Int32} {h : xH} : exF ev cX1_count 72 ([v0, v1], []) [.int x] h = some (.inl (some (.int x)), h) := exF_r (i := (i_iret)) rfl rfl
theorem eX1_count_73 {ev : xV} {v1 : Option Value} {x : Nat} {st : List Value} {h : xH} : exF ev cX1_count 73 ([some (.ref x), v1], []) st h = exF ev cX1_count 74 ([some (.ref x), v1], []) (.ref x :: st) h := exF_j (i := (i_aload 0 74)) rfl rfl
theorem eX1_count_74 {ev : xV} {v0 v1 : Option Value} {a : Nat} {h : xH} : exF ev cX1_count 74 ([v0, v1], []) [.ref a] h = xO (xck h a 0) (fun _ => xB (ev 96 [.ref a] h) (fun v h => exF ev cX1_count 77 ([v0, v1], []) [v] h)) := exF_cd (i := (i_cv 0 96 0 77)) rfl rfl
theorem eX1_count_77 {ev : xV} {v0 v1 : Option Value} {x : Int32} {h : xH} : exF ev cX1_count 77 ([v0, v1], []) [.int x] h = some (.inl (some (.int x)), h) := exF_r (i := (i_iret)) rfl rfl
theorem eX1_count_78 {ev : xV} {v1 : Option Value} {x : Nat} {st : List Value} {h : xH} : exF ev cX1_count 78 ([some (.ref x), v1], []) st h = exF ev cX1_count 79 ([some (.ref x), v1], []) (.ref x :: st) h := exF_j (i := (i_aload 0 79)) rfl rfl
theorem eX1_count_79 {ev : xV} {v0 v1 : Option Value} {a : Nat} {h : xH} : exF ev cX1_count 79 ([v0, v1], []) [.ref a] h = xO (xck h a 0) (fun _ => xB (ev 101 [.ref a] h) (fun v h => exF ev cX1_count 82 ([v0, v1], []) [v] h)) := exF_cd (i := (i_cv 0 101 0 82)) rfl rfl
theorem eX1_count_82 {ev : xV} {v0 v1 : Option Value} {x : Int32} {h : xH} : exF ev cX1_count 82 ([v0, v1], []) [.int x] h = some (.inl (some (.int x)), h) := exF_r (i := (i_iret)) rfl rfl
theorem eX1_count_83 {ev : xV} {v1 : Option Value} {x : Nat} {st : List Value} {h : xH} : exF ev cX1_count 83 ([some (.ref x), v1], []) st h = exF ev cX1_count 84 ([some (.ref x), v1], []) (.ref x :: st) h := exF_j (i := (i_aload 0 84)) rfl rfl
theorem eX1_count_84 {ev : xV} {v0 v1 : Option Value} {a : Nat} {st : List Value} {h : xH} : exF ev cX1_count 84 ([v0, v1], []) (.ref a :: st) h = xO (xgf h a 0 4) (fun v => exF ev cX1_count 87 ([v0, v1], []) (v :: st) h) := exF_o (i := (i_getf 0 4 87)) rfl rfl
theorem eX1_count_87 {ev : xV} {v0 v1 : Option Value} {a : Nat} {st : List Value} {h : xH} : exF ev cX1_count 87 ([v0, v1], []) (.ref a :: st) h = xO (xgf h a 3 4) (fun v => exF ev cX1_count 90 ([v0, v1], []) (v :: st) h) := exF_o (i := (i_getf 3 4 90)) rfl rfl
theorem eX1_count_90 {ev : xV} {v0 v1 : Option Value} {x : Int32} {h : xH} : exF ev cX1_count 90 ([v0, v1], []) [.int x] h = some (.inl (some (.int x)), h) := exF_r (i := (i_iret)) rfl rfl
theorem eX1_count_91 {ev : xV} {v1 : Option Value} {x : Nat} {st : List Value} {h : xH} : exF ev cX1_count 91 ([some (.ref x), v1], []) st h = exF ev cX1_count 92 ([some (.ref x), v1], []) (.ref x :: st) h := exF_j (i := (i_aload 0 92)) rfl rfl
theorem eX1_count_92 {ev : xV} {v0 v1 : Option Value} {a : Nat} {st : List Value} {h : xH} : exF ev cX1_count 92 ([v0, v1], []) (.ref a :: st) h = xO (xgf h a 0 2) (fun v => exF ev cX1_count 95 ([v0, v1], []) (v :: st) h) := exF_o (i := (i_getf 0 2 95)) rfl rfl
theorem eX1_count_95 {ev : xV} {v1 : Option Value} {x : Nat} {st : List Value} {h : xH} : exF ev cX1_count 95 ([some (.ref x), v1], []) st h = exF ev cX1_count 96 ([some (.ref x), v1], []) (.ref x :: st) h := exF_j (i := (i_aload 0 96)) rfl rfl
theorem eX1_count_96 {ev : xV} {v0 v1 : Option Value} {a : Nat} {st : List Value} {h : xH} : exF ev cX1_count 96 ([v0, v1], []) (.ref a :: st) h = xO (xgf h a 0 4) (fun v => exF ev cX1_count 99 ([v0, v1], []) (v :: st) h) := exF_o (i := (i_getf 0 4 99)) rfl rfl
theorem eX1_count_99 {ev : xV} {v0 v1 : Option Value} {a : Nat} {st : List Value} {h : xH} : exF ev cX1_count 99 ([v0, v1], []) (.ref a :: st) h = xO (xgf h a 3 4) (fun v => exF ev cX1_count 102 ([v0, v1], []) (v :: st) h) := exF_o (i := (i_getf 3 4 102)) rfl rfl
theorem eX1_count_102 {ev : xV} {v0 v1 : Option Value} {a0 : Value} {a : Nat} {h : xH} : exF ev cX1_count 102 ([v0, v1], []) [a0, .ref a] h = xO (xck h a 2) (fun _ => xB (ev 235 [.ref a, a0] h) (fun v h => exF ev cX1_count 105 ([v0, v1], []) [v] h)) := exF_cd (i := (i_cv 2 235 1 105)) rfl rfl
theorem eX1_count_105 {ev : xV} {v0 v1 : Option Value} {x : Int32} {h : xH} : exF ev cX1_count 105 ([v0, v1], []) [.int x] h = some (.inl (some (.int x)), h) := exF_r (i := (i_iret)) rfl rfl
theorem eX1_count_106 {ev : xV} {v1 : Option Value} {x : Nat} {st : List Value} {h : xH} : exF ev cX1_count 106 ([some (.ref x), v1], []) st h = exF ev cX1_count 107 ([some (.ref x), v1], []) (.ref x :: st) h := exF_j (i := (i_aload 0 107)) rfl rfl
theorem eX1_count_107 {ev : xV} {v1 : Option Value} {x : Nat} {st : List Value} {h : xH} : exF ev cX1_count 107 ([some (.ref x), v1], []) st h = exF ev cX1_count 108 ([some (.ref x), v1], []) (.ref x :: st) h := exF_j (i := (i_aload 0 108)) rfl rfl
theorem eX1_count_108 {ev : xV} {v0 v1 : Option Value} {a : Nat} {st : List Value} {h : xH} : exF ev cX1_count 108 ([v0, v1], []) (.ref a :: st) h = xO (xgf h a 0 4) (fun v => exF ev cX1_count 111 ([v0, v1], []) (v :: st) h) := exF_o (i := (i_getf 0 4 111)) rfl rfl
theorem eX1_count_111 {ev : xV} {v0 v1 : Option Value} {a0 : Value} {a : Nat} {h : xH} : exF ev cX1_count 111 ([v0, v1], []) [a0, .ref a] h = xO (xck h a 0) (fun _ => xB (ev 108 [.ref a, a0] h) (fun v h => exF ev cX1_count 114 ([v0, v1], []) [v] h)) := exF_cd (i := (i_cv 0 108 1 114)) rfl rfl
theorem eX1_count_114 {ev : xV} {v0 v1 : Option Value} {x : Int32} {h : xH} : exF ev cX1_count 114 ([v0, v1], []) [.int x] h = some (.inl (some (.int x)), h) := exF_r (i := (i_iret)) rfl rfl
theorem eX1_count_115 {ev : xV} {v1 : Option Value} {x : Nat} {st : List Value} {h : xH} : exF ev cX1_count 115 ([some (.ref x), v1], []) st h = exF ev cX1_count 116 ([some (.ref x), v1], []) (.ref x :: st) h := exF_j (i := (i_aload 0 116)) rfl rfl
theorem eX1_count_116 {ev : xV} {v0 v1 : Option Value} {a : Nat} {st : List Value} {h : xH} : exF ev cX1_count 116 ([v0, v1], []) (.ref a :: st) h = xO (xgf h a 0 4) (fun v => exF ev cX1_count 119 ([v0, v1], []) (v :: st) h) := exF_o (i := (i_getf 0 4 119)) rfl rfl
theorem eX1_count_119 {ev : xV} {v0 v1 : Option Value} {a : Nat} {st : List Value} {h : xH} : exF ev cX1_count 119 ([v0, v1], []) (.ref a :: st) h = xO (xgf h a 3 3) (fun v => exF ev cX1_count 122 ([v0, v1], []) (v :: st) h) := exF_o (i := (i_getf 3 3 122)) rfl rfl
theorem eX1_count_122 {ev : xV} {v0 v1 : Option Value} {x : Int32} {h : xH} : exF ev cX1_count 122 ([v0, v1], []) [.int x] h = some (.inl (some (.int x)), h) := exF_r (i := (i_iret)) rfl rfl
theorem eX1_count_123 {ev : xV} {v1 : Option Value} {x : Nat} {st : List Value} {h : xH} : exF ev cX1_count 123 ([some (.ref x), v1], []) st h = exF ev cX1_count 124 ([some (.ref x), v1], []) (.ref x :: st) h := exF_j (i := (i_aload 0 124)) rfl rfl
theorem eX1_count_124 {ev : xV} {v0 v1 : Option Value} {a : Nat} {st : List Value} {h : xH} : exF ev cX1_count 124 ([v0, v1], []) (.ref a :: st) h = xO (xgf h a 0 4) (fun v => exF ev cX1_count 127 ([v0, v1], []) (v :: st) h) := exF_o (i := (i_getf 0 4 127)) rfl rfl
theorem eX1_count_127 {ev : xV} {v0 v1 : Option Value} {a : Nat} {st : List Value} {h : xH} : exF ev cX1_count 127 ([v0, v1], []) (.ref a :: st) h = xO (xgf h a 3 0) (fun v => exF ev cX1_count 130 ([v0, v1], []) (v :: st) h) := exF_o (i := (i_getf 3 0 130)) rfl rfl
theorem eX1_count_130 {ev : xV} {v0 v1 : Option Value} {a0 : Value} {h : xH} : exF ev cX1_count 130 ([v0, v1], []) [a0] h = xB (ev 160 [a0] h) (fun v h => exF ev cX1_count 133 ([v0, v1], []) [v] h) := exF_c (i := (i_cs 160 1 133)) rfl rfl
theorem eX1_count_133 {ev : xV} {v0 v1 : Option Value} {x : Int32} {h : xH} : exF ev cX1_count 133 ([v0, v1], []) [.int x] h = some (.inl (some (.int x)), h) := exF_r (i := (i_iret)) rfl rfl
theorem eX1_count_134 {ev : xV} {v1 : Option Value} {x : Nat} {st : List Value} {h : xH} : exF ev cX1_count 134 ([some (.ref x), v1], []) st h = exF ev cX1_count 135 ([some (.ref x), v1], []) (.ref x :: st) h := exF_j (i := (i_aload 0 135)) rfl rfl
theorem eX1_count_135 {ev : xV} {v0 v1 : Option Value} {a : Nat} {st : List Value} {h : xH} : exF ev cX1_count 135 ([v0, v1], []) (.ref a :: st) h = xO (xgf h a 0 3) (fun v => exF ev cX1_count 138 ([v0, v1], []) (v :: st) h) := exF_o (i := (i_getf 0 3 138)) rfl rfl
theorem eX1_count_138 {ev : xV} {v0 v1 : Option Value} {a : Nat} {h : xH} : exF ev cX1_count 138 ([v0, v1], []) [.ref a] h = xO (xck h a 21) (fun _ => xB (ev 32 [.ref a] h) (fun v h => exF ev cX1_count 141 ([v0, v1], []) [v] h)) := exF_cd (i := (i_cv 21 32 0 141)) rfl rfl
theorem eX1_count_141 {ev : xV} {v0 v1 : Option Value} {x : Int32} {h : xH} : exF ev cX1_count 141 ([v0, v1], []) [.int x] h = some (.inl (some (.int x)), h) := exF_r (i := (i_iret)) rfl rfl
theorem eX1_count_142 {ev : xV} {v1 : Option Value} {x : Nat} {st : List Value} {h : xH} : exF ev cX1_count 142 ([some (.ref x), v1], []) st h = exF ev cX1_count 143 ([some (.ref x), v1], []) (.ref x :: st) h := exF_j (i := (i_aload 0 143)) rfl rfl
theorem eX1_count_143 {ev : xV} {v0 v1 : Option Value} {a : Nat} {st : List Value} {h : xH} : exF ev cX1_count 143 ([v0, v1], []) (.ref a :: st) h = xO (xgf h a 0 15) (fun v => exF ev cX1_count 146 ([v0, v1], []) (v :: st) h) := exF_o (i := (i_getf 0 15 146)) rfl rfl
theorem eX1_count_146 {ev : xV} {v0 v1 : Option Value} {x : Int32} {h : xH} : exF ev cX1_count 146 ([v0, v1], []) [.int x] h = some (.inl (some (.int x)), h) := exF_r (i := (i_iret)) rfl rfl
theorem eX1_count_147 {ev : xV} {v1 : Option Value} {x : Nat} {st : List Value} {h : xH} : exF ev cX1_count 147 ([some (.ref x), v1], []) st h = exF ev cX1_count 148 ([some (.ref x), v1], []) (.ref x :: st) h := exF_j (i := (i_aload 0 148)) rfl rfl
theorem eX1_count_148 {ev : xV} {v0 v1 : Option Value} {a : Nat} {st : List Value} {h : xH} : exF ev cX1_count 148 ([v0, v1], []) (.ref a :: st) h = xO (xgf h a 0 19) (fun v => exF ev cX1_count 151 ([v0, v1], []) (v :: st) h) := exF_o (i := (i_getf 0 19 151)) rfl rfl
theorem eX1_count_151 {ev : xV} {v0 v1 : Option Value} {x : Int32} {h : xH} : exF ev cX1_count 151 ([v0, v1], []) [.int x] h = some (.inl (some (.int x)), h) := exF_r (i := (i_iret)) rfl rfl
theorem eX1_count_152 {ev : xV} {v1 : Option Value} {x : Nat} {st : List Value} {h : xH} : exF ev cX1_count 152 ([some (.ref x), v1], []) st h = exF ev cX1_count 153 ([some (.ref x), v1], []) (.ref x :: st) h := exF_j (i := (i_aload 0 153)) rfl rfl
theorem eX1_count_153 {ev : xV} {v0 v1 : Option Value} {a : Nat} {st : List Value} {h : xH} : exF ev cX1_count 153 ([v0, v1], []) (.ref a :: st) h = xO (xgf h a 0 9) (fun v => exF ev cX1_count 156 ([v0, v1], []) (v :: st) h) := exF_o (i := (i_getf 0 9 156)) rfl rfl
theorem eX1_count_156 {ev : xV} {v0 v1 : Option Value} {x : Int32} {h : xH} : exF ev cX1_count 156 ([v0, v1], []) [.int x] h = some (.inl (some (.int x)), h) := exF_r (i := (i_iret)) rfl rfl
theorem eX1_count_157 {ev : xV} {v1 : Option Value} {x : Nat} {st : List Value} {h : xH} : exF ev cX1_count 157 ([some (.ref x), v1], []) st h = exF ev cX1_count 158 ([some (.ref x), v1], []) (.ref x :: st) h := exF_j (i := (i_aload 0 158)) rfl rfl
theorem eX1_count_158 {ev : xV} {v0 v1 : Option Value} {a : Nat} {st : List Value} {h : xH} : exF ev cX1_count 158 ([v0, v1], []) (.ref a :: st) h = xO (xgf h a 0 7) (fun v => exF ev cX1_count 161 ([v0, v1], []) (v :: st) h) := exF_o (i := (i_getf 0 7 161)) rfl rfl
theorem eX1_count_161 {ev : xV} {v0 v1 : Option Value} {x : Int32} {h : xH} : exF ev cX1_count 161 ([v0, v1], []) [.int x] h = some (.inl (some (.int x)), h) := exF_r (i := (i_iret)) rfl rfl
theorem eX1_count_162 {ev : xV} {v0 v1 : Option Value} {st : List Value} {h : xH} : exF ev cX1_count 162 ([v0, v1], []) st h = exF ev cX1_count 163 ([v0, v1], []) (.int (-1) :: st) h := exF_j (i := (i_const (.int (-1)) 163)) rfl rfl
theorem eX1_count_163 {ev : xV} {v0 v1 : Option Value} {x : Int32} {h : xH} : exF ev cX1_count 163 ([v0, v1], []) [.int x] h = some (.inl (some (.int x)), h) := exF_r (i := (i_iret)) rfl rfl
noncomputable def cX1_rests : xC := [(0, i_iload 1 1),
  (1, i_const (.int (nI 0)) 2),
  (2, i_const (.int (nI 9)) 4),
  (4, i_cs 92 3 7),
  (7, i_if1 (fun x => x = 0) 40 10),
  (10, i_iload 2 11),
  (11, i_const (.int (nI 0)) 12),
  (12, i_const (.int (nI 9)) 14),
  (14, i_cs 92 3 17),
  (17, i_if1 (fun x => x = 0) 40 20),
  (20, i_iload 3 21),
  (21, i_const (.int (nI 0)) 22),
  (22, i_const (.int (nI 9)) 24),
  (24, i_cs 92 3 27),
  (27, i_if1 (fun x => x = 0) 40 30),
  (30, i_iload 4 32),
  (32, i_const (.int (-1)) 33),
  (33, i_if2 (fun x y => x < y) 40 36),
  (36, i_const (.int (nI 1)) 37),
  (37, i_goto 41),
  (40, i_const (.int (nI 0)) 41),
  (41, i_csv 164 1 44),
  (44, i_const (.int (nI 0)) 45),
  (45, i_istore 5 47),
  (47, i_const (.int (nI 0)) 48),
  (48, i_istore 6 50),
  (50, i_iload 6 52),
  (52, i_const (.int (nI 4)) 53),
  (53, i_if2 (fun x y => y ≤ x) 140 56),
  (56, i_iload 6 58),
  (58, i_const (.int (nI 2)) 59),
  (59, i_iz (fun x y => x / y) 60),
  (60, i_istore 7 62),
  (62, i_iload 6 64),
  (64, i_const (.int (nI 2)) 65),
  (65, i_iz (fun x y => x - x / y * y) 66),
  (66, i_istore 8 68),
  (68, i_iload 1 69),
  (69, i_iload 2 70),
  (70, i_iload 3 71),
  (71, i_const (.int (nI 1)) 72),
  (72, i_iload 7 74),
  (74, i_ii (fun x y => x - y) 75),
  (75, i_iload 8 77),
  (77, i_cs 165 5 80),
  (80, i_iload 1 81),
  (81, i_iload 2 82),
  (82, i_iload 3 83),
  (83, i_iload 7 85),
  (85, i_iload 8 87),
  (87, i_cs 165 5 90),
  (90, i_if2 (fun x y => y < x) 134 93),
  (93, i_iload 1 94),
  (94, i_iload 2 95),
  (95, i_iload 3 96),
  (96, i_const (.int (nI 1)) 97),
  (97, i_iload 8 99),
  (99, i_ii (fun x y => x - y) 100),
  (100, i_iload 7 102),
  (102, i_cs 165 5 105),
  (105, i_iload 1 106),
  (106, i_iload 2 107),
  (107, i_iload 3 108),
  (108, i_iload 8 110),
  (110, i_iload 7 112),
  (112, i_cs 165 5 115),
  (115, i_if2 (fun x y => x ≤ y) 121 118),
  (118, i_goto 134),
  (121, i_iload 5 123),
  (123, i_iload 4 125),
  (125, i_if2 (fun x y => ¬ x = y) 131 128),
  (128, i_iload 6 130),
  (130, i_iret),
  (131, i_iinc 5 (nI 1) 134),
  (134, i_iinc 6 (nI 1) 137),
  (137, i_goto 50),
  (140, i_iload 4 142),
  (142, i_const (.int (-1)) 143),
  (143, i_if2 (fun x y => ¬ x = y) 150 146),
  (146, i_const (.int (nI 1)) 147),
  (147, i_goto 151),
  (150, i_const (.int (nI 0)) 151),
  (151, i_csv 164 1 154),
  (154, i_iload 5 156),
  (156, i_iret)]
theorem eX1_rests_0 {ev : xV} {v0 v2 v3 v4 v5 v6 v7 v8 : Option Value} {x : Int32} {st : List Value} {h : xH} : exF ev cX1_rests 0 ([v0, some (.int x), v2, v3, v4, v5, v6, v7, v8], []) st h = exF ev cX1_rests 1 ([v0, some (.int x), v2, v3, v4, v5, v6, v7, v8], []) (.int x :: st) h := exF_j (i := (i_iload 1 1)) rfl rfl
theorem eX1_rests_1 {ev : xV} {v0 v1 v2 v3 v4 v5 v6 v7 v8 : Option Value} {st : List Value} {h : xH} : exF ev cX1_rests 1 ([v0, v1, v2, v3, v4, v5, v6, v7, v8], []) st h = exF ev cX1_rests 2 ([v0, v1, v2, v3, v4, v5, v6, v7, v8], []) (.int (nI 0) :: st) h := exF_j (i := (i_const (.int (nI 0)) 2)) rfl rfl
theorem eX1_rests_2 {ev : xV} {v0 v1 v2 v3 v4 v5 v6 v7 v8 : Option Value} {st : List Value} {h : xH} : exF ev cX1_rests 2 ([v0, v1, v2, v3, v4, v5, v6, v7, v8], []) st h = exF ev cX1_rests 4 ([v0, v1, v2, v3, v4, v5, v6, v7, v8], []) (.int (nI 9) :: st) h := exF_j (i := (i_const (.int (nI 9)) 4)) rfl rfl
theorem eX1_rests_4 {ev : xV} {v0 v1 v2 v3 v4 v5 v6 v7 v8 : Option Value} {a0 : Value} {a1 : Value} {a2 : Value} {h : xH} : exF ev cX1_rests 4 ([v0, v1, v2, v3, v4, v5, v6, v7, v8], []) [a2, a1, a0] h = xB (ev 92 [a0, a1, a2] h) (fun v h => exF ev cX1_rests 7 ([v0, v1, v2, v3, v4, v5, v6, v7, v8], []) [v] h) := exF_c (i := (i_cs 92 3 7)) rfl rfl
theorem eX1_rests_7 {ev : xV} {v0 v1 v2 v3 v4 v5 v6 v7 v8 : Option Value} {x : Int32} {st : List Value} {h : xH} : exF ev cX1_rests 7 ([v0, v1, v2, v3, v4, v5, v6, v7, v8], []) (.int x :: st) h = if x = 0 then exF ev cX1_rests 40 ([v0, v1, v2, v3, v4, v5, v6, v7, v8], []) st h else exF ev cX1_rests 10 ([v0, v1, v2, v3, v4, v5, v6, v7, v8], []) st h := exF_b (i := (i_if1 (fun x => x = 0) 40 10)) rfl rfl
theorem eX1_rests_10 {ev : xV} {v0 v1 v3 v4 v5 v6 v7 v8 : Option Value} {x : Int32} {st : List Value} {h : xH} : exF ev cX1_rests 10 ([v0, v1, some (.int x), v3, v4, v5, v6, v7, v8], []) st h = exF ev cX1_rests 11 ([v0, v1, some (.int x), v3, v4, v5, v6, v7, v8], []) (.int x :: st) h := exF_j (i := (i_iload 2 11)) rfl rfl
theorem eX1_rests_11 {ev : xV} {v0 v1 v2 v3 v4 v5 v6 v7 v8 : Option Value} {st : List Value} {h : xH} : exF ev cX1_rests 11 ([v0, v1, v2, v3, v4, v5, v6, v7, v8], []) st h = exF ev cX1_rests 12 ([v0, v1, v2, v3, v4, v5, v6, v7, v8], []) (.int (nI 0) :: st) h := exF_j (i := (i_const (.int (nI 0)) 12)) rfl rfl
theorem eX1_rests_12 {ev : xV} {v0 v1 v2 v3 v4 v5 v6 v7 v8 : Option Value} {st : List Value} {h : xH} : exF ev cX1_rests 12 ([v0, v1, v2, v3, v4, v5, v6, v7, v8], []) st h = exF ev cX1_rests 14 ([v0, v1, v2, v3, v4, v5, v6, v7, v8], []) (.int (nI 9) :: st) h := exF_j (i := (i_const (.int (nI 9)) 14)) rfl rfl
theorem eX1_rests_14 {ev : xV} {v0 v1 v2 v3 v4 v5 v6 v7 v8 : Option Value} {a0 : Value} {a1 : Value} {a2 : Value} {h : xH} : exF ev cX1_rests 14 ([v0, v1, v2, v3, v4, v5, v6, v7, v8], []) [a2, a1, a0] h = xB (ev 92 [a0, a1, a2] h) (fun v h => exF ev cX1_rests 17 ([v0, v1, v2, v3, v4, v5, v6, v7, v8], []) [v] h) := exF_c (i := (i_cs 92 3 17)) rfl rfl
theorem eX1_rests_17 {ev : xV} {v0 v1 v2 v3 v4 v5 v6 v7 v8 : Option Value} {x : Int32} {st : List Value} {h : xH} : exF ev cX1_rests 17 ([v0, v1, v2, v3, v4, v5, v6, v7, v8], []) (.int x :: st) h = if x = 0 then exF ev cX1_rests 40 ([v0, v1, v2, v3, v4, v5, v6, v7, v8], []) st h else exF ev cX1_rests 20 ([v0, v1, v2, v3, v4, v5, v6, v7, v8], []) st h := exF_b (i := (i_if1 (fun x => x = 0) 40 20)) rfl rfl
theorem eX1_rests_20 {ev : xV} {v0 v1 v2 v4 v5 v6 v7 v8 : Option Value} {x : Int32} {st : List Value} {h : xH} : exF ev cX1_rests 20 ([v0, v1, v2, some (.int x), v4, v5, v6, v7, v8], []) st h = exF ev cX1_rests 21 ([v0, v1, v2, some (.int x), v4, v5, v6, v7, v8], []) (.int x :: st) h := exF_j (i := (i_iload 3 21)) rfl rfl
theorem eX1_rests_21 {ev : xV} {v0 v1 v2 v3 v4 v5 v6 v7 v8 : Option Value} {st : List Value} {h : xH} : exF ev cX1_rests 21 ([v0, v1, v2, v3, v4, v5, v6, v7, v8], []) st h = exF ev cX1_rests 22 ([v0, v1, v2, v3, v4, v5, v6, v7, v8], []) (.int (nI 0) :: st) h := exF_j (i := (i_const (.int (nI 0)) 22)) rfl rfl
theorem eX1_rests_22 {ev : xV} {v0 v1 v2 v3 v4 v5 v6 v7 v8 : Option Value} {st : List Value} {h : xH} : exF ev cX1_rests 22 ([v0, v1, v2, v3, v4, v5, v6, v7, v8], []) st h = exF ev cX1_rests 24 ([v0, v1, v2, v3, v4, v5, v6, v7, v8], []) (.int (nI 9) :: st) h := exF_j (i := (i_const (.int (nI 9)) 24)) rfl rfl
theorem eX1_rests_24 {ev : xV} {v0 v1 v2 v3 v4 v5 v6 v7 v8 : Option Value} {a0 : Value} {a1 : Value} {a2 : Value} {h : xH} : exF ev cX1_rests 24 ([v0, v1, v2, v3, v4, v5, v6, v7, v8], []) [a2, a1, a0] h = xB (ev 92 [a0, a1, a2] h) (fun v h => exF ev cX1_rests 27 ([v0, v1, v2, v3, v4, v5, v6, v7, v8], []) [v] h) := exF_c (i := (i_cs 92 3 27)) rfl rfl
theorem eX1_rests_27 {ev : xV} {v0 v1 v2 v3 v4 v5 v6 v7 v8 : Option Value} {x : Int32} {st : List Value} {h : xH} : exF ev cX1_rests 27 ([v0, v1, v2, v3, v4, v5, v6, v7, v8], []) (.int x :: st) h = if x = 0 then exF ev cX1_rests 40 ([v0, v1, v2, v3, v4, v5, v6, v7, v8], []) st h else exF ev cX1_rests 30 ([v0, v1, v2, v3, v4, v5, v6, v7, v8], []) st h := exF_b (i := (i_if1 (fun x => x = 0) 40 30)) rfl rfl
theorem eX1_rests_30 {ev : xV} {v0 v1 v2 v3 v5 v6 v7 v8 : Option Value} {x : Int32} {st : List Value} {h : xH} : exF ev cX1_rests 30 ([v0, v1, v2, v3, some (.int x), v5, v6, v7, v8], []) st h = exF ev cX1_rests 32 ([v0, v1, v2, v3, some (.int x), v5, v6, v7, v8], []) (.int x :: st) h := exF_j (i := (i_iload 4 32)) rfl rfl
theorem eX1_rests_32 {ev : xV} {v0 v1 v2 v3 v4 v5 v6 v7 v8 : Option Value} {st : List Value} {h : xH} : exF ev cX1_rests 32 ([v0, v1, v2, v3, v4, v5, v6, v7, v8], []) st h = exF ev cX1_rests 33 ([v0, v1, v2, v3, v4, v5, v6, v7, v8], []) (.int (-1) :: st) h := exF_j (i := (i_const (.int (-1)) 33)) rfl rfl
theorem eX1_rests_33 {ev : xV} {v0 v1 v2 v3 v4 v5 v6 v7 v8 : Option Value} {x y : Int32} {st : List Value} {h : xH} : exF ev cX1_rests 33 ([v0, v1, v2, v3, v4, v5, v6, v7, v8], []) (.int y :: .int x :: st) h = if x < y then exF ev cX1_rests 40 ([v0, v1, v2, v3, v4, v5, v6, v7, v8], []) st h else exF ev cX1_rests 36 ([v0, v1, v2, v3, v4, v5, v6, v7, v8], []) st h := exF_b (i := (i_if2 (fun x y => x < y) 40 36)) rfl rfl
theorem eX1_rests_36 {ev : xV} {v0 v1 v2 v3 v4 v5 v6 v7 v8 : Option Value} {st : List Value} {h : xH} : exF ev cX1_rests 36 ([v0, v1, v2, v3, v4, v5, v6, v7, v8], []) st h = exF ev cX1_rests 37 ([v0, v1, v2, v3, v4, v5, v6, v7, v8], []) (.int (nI 1) :: st) h := exF_j (i := (i_const (.int (nI 1)) 37)) rfl rfl
theorem eX1_rests_37 {ev : xV} {v0 v1 v2 v3 v4 v5 v6 v7 v8 : Option Value} {st : List Value} {h : xH} : exF ev cX1_rests 37 ([v0, v1, v2, v3, v4, v5, v6, v7, v8], []) st h = exF ev cX1_rests 41 ([v0, v1, v2, v3, v4, v5, v6, v7, v8], []) st h := exF_j (i := (i_goto 41)) rfl rfl
theorem eX1_rests_40 {ev : xV} {v0 v1 v2 v3 v4 v5 v6 v7 v8 : Option Value} {st : List Value} {h : xH} : exF ev cX1_rests 40 ([v0, v1, v2, v3, v4, v5, v6, v7, v8], []) st h = exF ev cX1_rests 41 ([v0, v1, v2, v3, v4, v5, v6, v7, v8], []) (.int (nI 0) :: st) h := exF_j (i := (i_const (.int (nI 0)) 41)) rfl rfl
theorem eX1_rests_41 {ev : xV} {v0 v1 v2 v3 v4 v5 v6 v7 v8 : Option Value} {a0 : Value} {h : xH} : exF ev cX1_rests 41 ([v0, v1, v2, v3, v4, v5, v6, v7, v8], []) [a0] h = xBv (ev 164 [a0] h) (fun h => exF ev cX1_rests 44 ([v0, v1, v2, v3, v4, v5, v6, v7, v8], []) [] h) := exF_cv (i := (i_csv 164 1 44)) rfl rfl
theorem eX1_rests_44 {ev : xV} {v0 v1 v2 v3 v4 v5 v6 v7 v8 : Option Value} {st : List Value} {h : xH} : exF ev cX1_rests 44 ([v0, v1, v2, v3, v4, v5, v6, v7, v8], []) st h = exF ev cX1_rests 45 ([v0, v1, v2, v3, v4, v5, v6, v7, v8], []) (.int (nI 0) :: st) h := exF_j (i := (i_const (.int (nI 0)) 45)) rfl rfl
theorem eX1_rests_45 {ev : xV} {v0 v1 v2 v3 v4 v5 v6 v7 v8 : Option Value} {x : Int32} {st : List Value} {h : xH} : exF ev cX1_rests 45 ([v0, v1, v2, v3, v4, v5, v6, v7, v8], []) (.int x :: st) h = exF ev cX1_rests 47 ([v0, v1, v2, v3, v4, some (.int x), v6, v7, v8], []) st h := exF_j (i := (i_istore 5 47)) rfl rfl
theorem eX1_rests_47 {ev : xV} {v0 v1 v2 v3 v4 v5 v6 v7 v8 : Option Value} {st : List Value} {h : xH} : exF ev cX1_rests 47 ([v0, v1, v2, v3, v4, v5, v6, v7, v8], []) st h = exF ev cX1_rests 48 ([v0, v1, v2, v3, v4, v5, v6, v7, v8], []) (.int (nI 0) :: st) h := exF_j (i := (i_const (.int (nI 0)) 48)) rfl rfl
theorem eX1_rests_48 {ev : xV} {v0 v1 v2 v3 v4 v5 v6 v7 v8 : Option Value} {x : Int32} {st : List Value} {h : xH} : exF ev cX1_rests 48 ([v0, v1, v2, v3, v4, v5, v6, v7, v8], []) (.int x :: st) h = exF ev cX1_rests 50 ([v0, v1, v2, v3, v4, v5, some (.int x), v7, v8], []) st h := exF_j (i := (i_istore 6 50)) rfl rfl
theorem eX1_rests_50 {ev : xV} {v0 v1 v2 v3 v4 v5 v7 v8 : Option Value} {x : Int32} {st : List Value} {h : xH} : exF ev cX1_rests 50 ([v0, v1, v2, v3, v4, v5, some (.int x), v7, v8], []) st h = exF ev cX1_rests 52 ([v0, v1, v2, v3, v4, v5, some (.int x), v7, v8], []) (.int x :: st) h := exF_j (i := (i_iload 6 52)) rfl rfl
theorem eX1_rests_52 {ev : xV} {v0 v1 v2 v3 v4 v5 v6 v7 v8 : Option Value} {st : List Value} {h : xH} : exF ev cX1_rests 52 ([v0, v1, v2, v3, v4, v5, v6, v7, v8], []) st h = exF ev cX1_rests 53 ([v0, v1, v2, v3, v4, v5, v6, v7, v8], []) (.int (nI 4) :: st) h := exF_j (i := (i_const (.int (nI 4)) 53)) rfl rfl
theorem eX1_rests_53 {ev : xV} {v0 v1 v2 v3 v4 v5 v6 v7 v8 : Option Value} {x y : Int32} {st : List Value} {h : xH} : exF ev cX1_rests 53 ([v0, v1, v2, v3, v4, v5, v6, v7, v8], []) (.int y :: .int x :: st) h = if y ≤ x then exF ev cX1_rests 140 ([v0, v1, v2, v3, v4, v5, v6, v7, v8], []) st h else exF ev cX1_rests 56 ([v0, v1, v2, v3, v4, v5, v6, v7, v8], []) st h := exF_b (i := (i_if2 (fun x y => y ≤ x) 140 56)) rfl rfl
theorem eX1_rests_56 {ev : xV} {v0 v1 v2 v3 v4 v5 v7 v8 : Option Value} {x : Int32} {st : List Value} {h : xH} : exF ev cX1_rests 56 ([v0, v1, v2, v3, v4, v5, some (.int x), v7, v8], []) st h = exF ev cX1_rests 58 ([v0, v1, v2, v3, v4, v5, some (.int x), v7, v8], []) (.int x :: st) h := exF_j (i := (i_iload 6 58)) rfl rfl
theorem eX1_rests_58 {ev : xV} {v0 v1 v2 v3 v4 v5 v6 v7 v8 : Option Value} {st : List Value} {h : xH} : exF ev cX1_rests 58 ([v0, v1, v2, v3, v4, v5, v6, v7, v8], []) st h = exF ev cX1_rests 59 ([v0, v1, v2, v3, v4, v5, v6, v7, v8], []) (.int (nI 2) :: st) h := exF_j (i := (i_const (.int (nI 2)) 59)) rfl rfl
theorem eX1_rests_59 {ev : xV} {v0 v1 v2 v3 v4 v5 v6 v7 v8 : Option Value} {x y : Int32} {st : List Value} {h : xH} : exF ev cX1_rests 59 ([v0, v1, v2, v3, v4, v5, v6, v7, v8], []) (.int y :: .int x :: st) h = xO (if y = 0 then none else some (x / y)) (fun v => exF ev cX1_rests 60 ([v0, v1, v2, v3, v4, v5, v6, v7, v8], []) (.int v :: st) h) := exF_o (i := (i_iz (fun x y => x / y) 60)) rfl rfl
theorem eX1_rests_60 {ev : xV} {v0 v1 v2 v3 v4 v5 v6 v7 v8 : Option Value} {x : Int32} {st : List Value} {h : xH} : exF ev cX1_rests 60 ([v0, v1, v2, v3, v4, v5, v6, v7, v8], []) (.int x :: st) h = exF ev cX1_rests 62 ([v0, v1, v2, v3, v4, v5, v6, some (.int x), v8], []) st h := exF_j (i := (i_istore 7 62)) rfl rfl
theorem eX1_rests_62 {ev : xV} {v0 v1 v2 v3 v4 v5 v7 v8 : Option Value} {x : Int32} {st : List Value} {h : xH} : exF ev cX1_rests 62 ([v0, v1, v2, v3, v4, v5, some (.int x), v7, v8], []) st h = exF ev cX1_rests 64 ([v0, v1, v2, v3, v4, v5, some (.int x), v7, v8], []) (.int x :: st) h := exF_j (i := (i_iload 6 64)) rfl rfl
theorem eX1_rests_64 {ev : xV} {v0 v1 v2 v3 v4 v5 v6 v7 v8 : Option Value} {st : List Value} {h : xH} : exF ev cX1_rests 64 ([v0, v1, v2, v3, v4, v5, v6, v7, v8], []) st h = exF ev cX1_rests 65 ([v0, v1, v2, v3, v4, v5, v6, v7, v8], []) (.int (nI 2) :: st) h := exF_j (i := (i_const (.int (nI 2)) 65)) rfl rfl
theorem eX1_rests_65 {ev : xV} {v0 v1 v2 v3 v4 v5 v6 v7 v8 : Option Value} {x y : Int32} {st : List Value} {h : xH} : exF ev cX1_rests 65 ([v0, v1, v2, v3, v4, v5, v6, v7, v8], []) (.int y :: .int x :: st) h = xO (if y = 0 then none else some (x - x / y * y)) (fun v => exF ev cX1_rests 66 ([v0, v1, v2, v3, v4, v5, v6, v7, v8], []) (.int v :: st) h) := exF_o (i := (i_iz (fun x y => x - x / y * y) 66)) rfl rfl
theorem eX1_rests_66 {ev : xV} {v0 v1 v2 v3 v4 v5 v6 v7 v8 : Option Value} {x : Int32} {st : List Value} {h : xH} : exF ev cX1_rests 66 ([v0, v1, v2, v3, v4, v5, v6, v7, v8], []) (.int x :: st) h = exF ev cX1_rests 68 ([v0, v1, v2, v3, v4, v5, v6, v7, some (.int x)], []) st h := exF_j (i := (i_istore 8 68)) rfl rfl
theorem eX1_rests_68 {ev : xV} {v0 v2 v3 v4 v5 v6 v7 v8 : Option Value} {x : Int32} {st : List Value} {h : xH} : exF ev cX1_rests 68 ([v0, some (.int x), v2, v3, v4, v5, v6, v7, v8], []) st h = exF ev cX1_rests 69 ([v0, some (.int x), v2, v3, v4, v5, v6, v7, v8], []) (.int x :: st) h := exF_j (i := (i_iload 1 69)) rfl rfl
theorem eX1_rests_69 {ev : xV} {v0 v1 v3 v4 v5 v6 v7 v8 : Option Value} {x : Int32} {st : List Value} {h : xH} : exF ev cX1_rests 69 ([v0, v1, some (.int x), v3, v4, v5, v6, v7, v8], []) st h = exF ev cX1_rests 70 ([v0, v1, some (.int x), v3, v4, v5, v6, v7, v8], []) (.int x :: st) h := exF_j (i := (i_iload 2 70)) rfl rfl
theorem eX1_rests_70 {ev : xV} {v0 v1 v2 v4 v5 v6 v7 v8 : Option Value} {x : Int32} {st : List Value} {h : xH} : exF ev cX1_rests 70 ([v0, v1, v2, some (.int x), v4, v5, v6, v7, v8], []) st h = exF ev cX1_rests 71 ([v0, v1, v2, some (.int x), v4, v5, v6, v7, v8], []) (.int x :: st) h := exF_j (i := (i_iload 3 71)) rfl rfl
theorem eX1_rests_71 {ev : xV} {v0 v1 v2 v3 v4 v5 v6 v7 v8 : Option Value} {st : List Value} {h : xH} : exF ev cX1_rests 71 ([v0, v1, v2, v3, v4, v5, v6, v7, v8], []) st h = exF ev cX1_rests 72 ([v0, v1, v2, v3, v4, v5, v6, v7, v8], []) (.int (nI 1) :: st) h := exF_j (i := (i_const (.int (nI 1)) 72)) rfl rfl
theorem eX1_rests_72 {ev : xV} {v0 v1 v2 v3 v4 v5 v6 v8 : Option Value} {x : Int32} {st : List Value} {h : xH} : exF ev cX1_rests 72 ([v0, v1, v2, v3, v4, v5, v6, some (.int x), v8], []) st h = exF ev cX1_rests 74 ([v0, v1, v2, v3, v4, v5, v6, some (.int x), v8], []) (.int x :: st) h := exF_j (i := (i_iload 7 74)) rfl rfl
theorem eX1_rests_74 {ev : xV} {v0 v1 v2 v3 v4 v5 v6 v7 v8 : Option Value} {x y : Int32} {st : List Value} {h : xH} : exF ev cX1_rests 74 ([v0, v1, v2, v3, v4, v5, v6, v7, v8], []) (.int y :: .int x :: st) h = exF ev cX1_rests 75 ([v0, v1, v2, v3, v4, v5, v6, v7, v8], []) (.int (x - y) :: st) h := exF_j (i := (i_ii (fun x y => x - y) 75)) rfl rfl
theorem eX1_rests_75 {ev : xV} {v0 v1 v2 v3 v4 v5 v6 v7 : Option Value} {x : Int32} {st : List Value} {h : xH} : exF ev cX1_rests 75 ([v0, v1, v2, v3, v4, v5, v6, v7, some (.int x)], []) st h = exF ev cX1_rests 77 ([v0, v1, v2, v3, v4, v5, v6, v7, some (.int x)], []) (.int x :: st) h := exF_j (i := (i_iload 8 77)) rfl rfl
theorem eX1_rests_77 {ev : xV} {v0 v1 v2 v3 v4 v5 v6 v7 v8 : Option Value} {a0 : Value} {a1 : Value} {a2 : Value} {a3 : Value} {a4 : Value} {h : xH} : exF ev cX1_rests 77 ([v0, v1, v2, v3, v4, v5, v6, v7, v8], []) [a4, a3, a2, a1, a0] h = xB (ev 165 [a0, a1, a2, a3, a4] h) (fun v h => exF ev cX1_rests 80 ([v0, v1, v2, v3, v4, v5, v6, v7, v8], []) [v] h) := exF_c (i := (i_cs 165 5 80)) rfl rfl
theorem eX1_rests_80 {ev : xV} {v0 v2 v3 v4 v5 v6 v7 v8 : Option Value} {x : Int32} {st : List Value} {h : xH} : exF ev cX1_rests 80 ([v0, some (.int x), v2, v3, v4, v5, v6, v7, v8], []) st h = exF ev cX1_rests 81 ([v0, some (.int x), v2, v3, v4, v5, v6, v7, v8], []) (.int x :: st) h := exF_j (i := (i_iload 1 81)) rfl rfl
theorem eX1_rests_81 {ev : xV} {v0 v1 v3 v4 v5 v6 v7 v8 : Option Value} {x : Int32} {st : List Value} {h : xH} : exF ev cX1_rests 81 ([v0, v1, some (.int x), v3, v4, v5, v6, v7, v8], []) st h = exF ev cX1_rests 82 ([v0, v1, some (.int x), v3, v4, v5, v6, v7, v8], []) (.int x :: st) h := exF_j (i := (i_iload 2 82)) rfl rfl
theorem eX1_rests_82 {ev : xV} {v0 v1 v2 v4 v5 v6 v7 v8 : Option Value} {x : Int32} {st : List Value} {h : xH} : exF ev cX1_rests 82 ([v0, v1, v2, some (.int x), v4, v5, v6, v7, v8], []) st h = exF ev cX1_rests 83 ([v0, v1, v2, some (.int x), v4, v5, v6, v7, v8], []) (.int x :: st) h := exF_j (i := (i_iload 3 83)) rfl rfl
theorem eX1_rests_83 {ev : xV} {v0 v1 v2 v3 v4 v5 v6 v8 : Option Value} {x : Int32} {st : List Value} {h : xH} : exF ev cX1_rests 83 ([v0, v1, v2, v3, v4, v5, v6, some (.int x), v8], []) st h = exF ev cX1_rests 85 ([v0, v1, v2, v3, v4, v5, v6, some (.int x), v8], []) (.int x :: st) h := exF_j (i := (i_iload 7 85)) rfl rfl
theorem eX1_rests_85 {ev : xV} {v0 v1 v2 v3 v4 v5 v6 v7 : Option Value} {x : Int32} {st : List Value} {h : xH} : exF ev cX1_rests 85 ([v0, v1, v2, v3, v4, v5, v6, v7, some (.int x)], []) st h = exF ev cX1_rests 87 ([v0, v1, v2, v3, v4, v5, v6, v7, some (.int x)], []) (.int x :: st) h := exF_j (i := (i_iload 8 87)) rfl rfl
theorem eX1_rests_87 {ev : xV} {v0 v1 v2 v3 v4 v5 v6 v7 v8 : Option Value} {a0 : Value} {a1 : Value} {a2 : Value} {a3 : Value} {a4 : Value} {r0 : Value} {h : xH} : exF ev cX1_rests 87 ([v0, v1, v2, v3, v4, v5, v6, v7, v8], []) [a4, a3, a2, a1, a0, r0] h = xB (ev 165 [a0, a1, a2, a3, a4] h) (fun v h => exF ev cX1_rests 90 ([v0, v1, v2, v3, v4, v5, v6, v7, v8], []) [v, r0] h) := exF_c (i := (i_cs 165 5 90)) rfl rfl
theorem eX1_rests_90 {ev : xV} {v0 v1 v2 v3 v4 v5 v6 v7 v8 : Option Value} {x y : Int32} {st : List Value} {h : xH} : exF ev cX1_rests 90 ([v0, v1, v2, v3, v4, v5, v6, v7, v8], []) (.int y :: .int x :: st) h = if y < x then exF ev cX1_rests 134 ([v0, v1, v2, v3, v4, v5, v6, v7, v8], []) st h else exF ev cX1_rests 93 ([v0, v1, v2, v3, v4, v5, v6, v7, v8], []) st h := exF_b (i := (i_if2 (fun x y => y < x) 134 93)) rfl rfl
theorem eX1_rests_93 {ev : xV} {v0 v2 v3 v4 v5 v6 v7 v8 : Option Value} {x : Int32} {st : List Value} {h : xH} : exF ev cX1_rests 93 ([v0, some (.int x), v2, v3, v4, v5, v6, v7, v8], []) st h = exF ev cX1_rests 94 ([v0, some (.int x), v2, v3, v4, v5, v6, v7, v8], []) (.int x :: st) h := exF_j (i := (i_iload 1 94)) rfl rfl
theorem eX1_rests_94 {ev : xV} {v0 v1 v3 v4 v5 v6 v7 v8 : Option Value} {x : Int32} {st : List Value} {h : xH} : exF ev cX1_rests 94 ([v0, v1, some (.int x), v3, v4, v5, v6, v7, v8], []) st h = exF ev cX1_rests 95 ([v0, v1, some (.int x), v3, v4, v5, v6, v7, v8], []) (.int x :: st) h := exF_j (i := (i_iload 2 95)) rfl rfl
theorem eX1_rests_95 {ev : xV} {v0 v1 v2 v4 v5 v6 v7 v8 : Option Value} {x : Int32} {st : List Value} {h : xH} : exF ev cX1_rests 95 ([v0, v1, v2, some (.int x), v4, v5, v6, v7, v8], []) st h = exF ev cX1_rests 96 ([v0, v1, v2, some (.int x), v4, v5, v6, v7, v8], []) (.int x :: st) h := exF_j (i := (i_iload 3 96)) rfl rfl
theorem eX1_rests_96 {ev : xV} {v0 v1 v2 v3 v4 v5 v6 v7 v8 : Option Value} {st : List Value} {h : xH} : exF ev cX1_rests 96 ([v0, v1, v2, v3, v4, v5, v6, v7, v8], []) st h = exF ev cX1_rests 97 ([v0, v1, v2, v3, v4, v5, v6, v7, v8], []) (.int (nI 1) :: st) h := exF_j (i := (i_const (.int (nI 1)) 97)) rfl rfl
theorem eX1_rests_97 {ev : xV} {v0 v1 v2 v3 v4 v5 v6 v7 : Option Value} {x : Int32} {st : List Value} {h : xH} : exF ev cX1_rests 97 ([v0, v1, v2, v3, v4, v5, v6, v7, some (.int x)], []) st h = exF ev cX1_rests 99 ([v0, v1, v2, v3, v4, v5, v6, v7, some (.int x)], []) (.int x :: st) h := exF_j (i := (i_iload 8 99)) rfl rfl
theorem eX1_rests_99 {ev : xV} {v0 v1 v2 v3 v4 v5 v6 v7 v8 : Option Value} {x y : Int32} {st : List Value} {h : xH} : exF ev cX1_rests 99 ([v0, v1, v2, v3, v4, v5, v6, v7, v8], []) (.int y :: .int x :: st) h = exF ev cX1_rests 100 ([v0, v1, v2, v3, v4, v5, v6, v7, v8], []) (.int (x - y) :: st) h := exF_j (i := (i_ii (fun x y => x - y) 100)) rfl rfl
theorem eX1_rests_100 {ev : xV} {v0 v1 v2 v3 v4 v5 v6 v8 : Option Value} {x : Int32} {st : List Value} {h : xH} : exF ev cX1_rests 100 ([v0, v1, v2, v3, v4, v5, v6, some (.int x), v8], []) st h = exF ev cX1_rests 102 ([v0, v1, v2, v3, v4, v5, v6, some (.int x), v8], []) (.int x :: st) h := exF_j (i := (i_iload 7 102)) rfl rfl
theorem eX1_rests_102 {ev : xV} {v0 v1 v2 v3 v4 v5 v6 v7 v8 : Option Value} {a0 : Value} {a1 : Value} {a2 : Value} {a3 : Value} {a4 : Value} {h : xH} : exF ev cX1_rests 102 ([v0, v1, v2, v3, v4, v5, v6, v7, v8], []) [a4, a3, a2, a1, a0] h = xB (ev 165 [a0, a1, a2, a3, a4] h) (fun v h => exF ev cX1_rests 105 ([v0, v1, v2, v3, v4, v5, v6, v7, v8], []) [v] h) := exF_c (i := (i_cs 165 5 105)) rfl rfl
theorem eX1_rests_105 {ev : xV} {v0 v2 v3 v4 v5 v6 v7 v8 : Option Value} {x : Int32} {st : List Value} {h : xH} : exF ev cX1_rests 105 ([v0, some (.int x), v2, v3, v4, v5, v6, v7, v8], []) st h = exF ev cX1_rests 106 ([v0, some (.int x), v2, v3, v4, v5, v6, v7, v8], []) (.int x :: st) h := exF_j (i := (i_iload 1 106)) rfl rfl
theorem eX1_rests_106 {ev : xV} {v0 v1 v3 v4 v5 v6 v7 v8 : Option Value} {x : Int32} {st : List Value} {h : xH} : exF ev cX1_rests 106 ([v0, v1, some (.int x), v3, v4, v5, v6, v7, v8], []) st h = exF ev cX1_rests 107 ([v0, v1, some (.int x), v3, v4, v5, v6, v7, v8], []) (.int x :: st) h := exF_j (i := (i_iload 2 107)) rfl rfl
theorem eX1_rests_107 {ev : xV} {v0 v1 v2 v4 v5 v6 v7 v8 : Option Value} {x : Int32} {st : List Value} {h : xH} : exF ev cX1_rests 107 ([v0, v1, v2, some (.int x), v4, v5, v6, v7, v8], []) st h = exF ev cX1_rests 108 ([v0, v1, v2, some (.int x), v4, v5, v6, v7, v8], []) (.int x :: st) h := exF_j (i := (i_iload 3 108)) rfl rfl
theorem eX1_rests_108 {ev : xV} {v0 v1 v2 v3 v4 v5 v6 v7 : Option Value} {x : Int32} {st : List Value} {h : xH} : exF ev cX1_rests 108 ([v0, v1, v2, v3, v4, v5, v6, v7, some (.int x)], []) st h = exF ev cX1_rests 110 ([v0, v1, v2, v3, v4, v5, v6, v7, some (.int x)], []) (.int x :: st) h := exF_j (i := (i_iload 8 110)) rfl rfl
theorem eX1_rests_110 {ev : xV} {v0 v1 v2 v3 v4 v5 v6 v8 : Option Value} {x : Int32} {st : List Value} {h : xH} : exF ev cX1_rests 110 ([v0, v1, v2, v3, v4, v5, v6, some (.int x), v8], []) st h = exF ev cX1_rests 112 ([v0, v1, v2, v3, v4, v5, v6, some (.int x), v8], []) (.int x :: st) h := exF_j (i := (i_iload 7 112)) rfl rfl
theorem eX1_rests_112 {ev : xV} {v0 v1 v2 v3 v4 v5 v6 v7 v8 : Option Value} {a0 : Value} {a1 : Value} {a2 : Value} {a3 : Value} {a4 : Value} {r0 : Value} {h : xH} : exF ev cX1_rests 112 ([v0, v1, v2, v3, v4, v5, v6, v7, v8], []) [a4, a3, a2, a1, a0, r0] h = xB (ev 165 [a0, a1, a2, a3, a4] h) (fun v h => exF ev cX1_rests 115 ([v0, v1, v2, v3, v4, v5, v6, v7, v8], []) [v, r0] h) := exF_c (i := (i_cs 165 5 115)) rfl rfl
theorem eX1_rests_115 {ev : xV} {v0 v1 v2 v3 v4 v5 v6 v7 v8 : Option Value} {x y : Int32} {st : List Value} {h : xH} : exF ev cX1_rests 115 ([v0, v1, v2, v3, v4, v5, v6, v7, v8], []) (.int y :: .int x :: st) h = if x ≤ y then exF ev cX1_rests 121 ([v0, v1, v2, v3, v4, v5, v6, v7, v8], []) st h else exF ev cX1_rests 118 ([v0, v1, v2, v3, v4, v5, v6, v7, v8], []) st h := exF_b (i := (i_if2 (fun x y => x ≤ y) 121 118)) rfl rfl
theorem eX1_rests_118 {ev : xV} {v0 v1 v2 v3 v4 v5 v6 v7 v8 : Option Value} {st : List Value} {h : xH} : exF ev cX1_rests 118 ([v0, v1, v2, v3, v4, v5, v6, v7, v8], []) st h = exF ev cX1_rests 134 ([v0, v1, v2, v3, v4, v5, v6, v7, v8], []) st h := exF_j (i := (i_goto 134)) rfl rfl
theorem eX1_rests_121 {ev : xV} {v0 v1 v2 v3 v4 v6 v7 v8 : Option Value} {x : Int32} {st : List Value} {h : xH} : exF ev cX1_rests 121 ([v0, v1, v2, v3, v4, some (.int x), v6, v7, v8], []) st h = exF ev cX1_rests 123 ([v0, v1, v2, v3, v4, some (.int x), v6, v7, v8], []) (.int x :: st) h := exF_j (i := (i_iload 5 123)) rfl rfl
theorem eX1_rests_123 {ev : xV} {v0 v1 v2 v3 v5 v6 v7 v8 : Option Value} {x : Int32} {st : List Value} {h : xH} : exF ev cX1_rests 123 ([v0, v1, v2, v3, some (.int x), v5, v6, v7, v8], []) st h = exF ev cX1_rests 125 ([v0, v1, v2, v3, some (.int x), v5, v6, v7, v8], []) (.int x :: st) h := exF_j (i := (i_iload 4 125)) rfl rfl
theorem eX1_rests_125 {ev : xV} {v0 v1 v2 v3 v4 v5 v6 v7 v8 : Option Value} {x y : Int32} {st : List Value} {h : xH} : exF ev cX1_rests 125 ([v0, v1, v2, v3, v4, v5, v6, v7, v8], []) (.int y :: .int x :: st) h = if ¬ x = y then exF ev cX1_rests 131 ([v0, v1, v2, v3, v4, v5, v6, v7, v8], []) st h else exF ev cX1_rests 128 ([v0, v1, v2, v3, v4, v5, v6, v7, v8], []) st h := exF_b (i := (i_if2 (fun x y => ¬ x = y) 131 128)) rfl rfl
theorem eX1_rests_128 {ev : xV} {v0 v1 v2 v3 v4 v5 v7 v8 : Option Value} {x : Int32} {st : List Value} {h : xH} : exF ev cX1_rests 128 ([v0, v1, v2, v3, v4, v5, some (.int x), v7, v8], []) st h = exF ev cX1_rests 130 ([v0, v1, v2, v3, v4, v5, some (.int x), v7, v8], []) (.int x :: st) h := exF_j (i := (i_iload 6 130)) rfl rfl
theorem eX1_rests_130 {ev : xV} {v0 v1 v2 v3 v4 v5 v6 v7 v8 : Option Value} {x : Int32} {h : xH} : exF ev cX1_rests 130 ([v0, v1, v2, v3, v4, v5, v6, v7, v8], []) [.int x] h = some (.inl (some (.int x)), h) := exF_r (i := (i_iret)) rfl rfl
theorem eX1_rests_131 {ev : xV} {v0 v1 v2 v3 v4 v6 v7 v8 : Option Value} {x : Int32} {st : List Value} {h : xH} : exF ev cX1_rests 131 ([v0, v1, v2, v3, v4, some (.int x), v6, v7, v8], []) st h = exF ev cX1_rests 134 ([v0, v1, v2, v3, v4, some (.int (x + (nI 1))), v6, v7, v8], []) st h := exF_j (i := (i_iinc 5 (nI 1) 134)) rfl rfl
theorem eX1_rests_134 {ev : xV} {v0 v1 v2 v3 v4 v5 v7 v8 : Option Value} {x : Int32} {st : List Value} {h : xH} : exF ev cX1_rests 134 ([v0, v1, v2, v3, v4, v5, some (.int x), v7, v8], []) st h = exF ev cX1_rests 137 ([v0, v1, v2, v3, v4, v5, some (.int (x + (nI 1))), v7, v8], []) st h := exF_j (i := (i_iinc 6 (nI 1) 137)) rfl rfl
theorem eX1_rests_137 {ev : xV} {v0 v1 v2 v3 v4 v5 v6 v7 v8 : Option Value} {st : List Value} {h : xH} : exF ev cX1_rests 137 ([v0, v1, v2, v3, v4, v5, v6, v7, v8], []) st h = exF ev cX1_rests 50 ([v0, v1, v2, v3, v4, v5, v6, v7, v8], []) st h := exF_j (i := (i_goto 50)) rfl rfl
theorem eX1_rests_140 {ev : xV} {v0 v1 v2 v3 v5 v6 v7 v8 : Option Value} {x : Int32} {st : List Value} {h : xH} : exF ev cX1_rests 140 ([v0, v1, v2, v3, some (.int x), v5, v6, v7, v8], []) st h = exF ev cX1_rests 142 ([v0, v1, v2, v3, some (.int x), v5, v6, v7, v8], []) (.int x :: st) h := exF_j (i := (i_iload 4 142)) rfl rfl
theorem eX1_rests_142 {ev : xV} {v0 v1 v2 v3 v4 v5 v6 v7 v8 : Option Value} {st : List Value} {h : xH} : exF ev cX1_rests 142 ([v0, v1, v2, v3, v4, v5, v6, v7, v8], []) st h = exF ev cX1_rests 143 ([v0, v1, v2, v3, v4, v5, v6, v7, v8], []) (.int (-1) :: st) h := exF_j (i := (i_const (.int (-1)) 143)) rfl rfl
theorem eX1_rests_143 {ev : xV} {v0 v1 v2 v3 v4 v5 v6 v7 v8 : Option Value} {x y : Int32} {st : List Value} {h : xH} : exF ev cX1_rests 143 ([v0, v1, v2, v3, v4, v5, v6, v7, v8], []) (.int y :: .int x :: st) h = if ¬ x = y then exF ev cX1_rests 150 ([v0, v1, v2, v3, v4, v5, v6, v7, v8], []) st h else exF ev cX1_rests 146 ([v0, v1, v2, v3, v4, v5, v6, v7, v8], []) st h := exF_b (i := (i_if2 (fun x y => ¬ x = y) 150 146)) rfl rfl
theorem eX1_rests_146 {ev : xV} {v0 v1 v2 v3 v4 v5 v6 v7 v8 : Option Value} {st : List Value} {h : xH} : exF ev cX1_rests 146 ([v0, v1, v2, v3, v4, v5, v6, v7, v8], []) st h = exF ev cX1_rests 147 ([v0, v1, v2, v3, v4, v5, v6, v7, v8], []) (.int (nI 1) :: st) h := exF_j (i := (i_const (.int (nI 1)) 147)) rfl rfl
theorem eX1_rests_147 {ev : xV} {v0 v1 v2 v3 v4 v5 v6 v7 v8 : Option Value} {st : List Value} {h : xH} : exF ev cX1_rests 147 ([v0, v1, v2, v3, v4, v5, v6, v7, v8], []) st h = exF ev cX1_rests 151 ([v0, v1, v2, v3, v4, v5, v6, v7, v8], []) st h := exF_j (i := (i_goto 151)) rfl rfl
theorem eX1_rests_150 {ev : xV} {v0 v1 v2 v3 v4 v5 v6 v7 v8 : Option Value} {st : List Value} {h : xH} : exF ev cX1_rests 150 ([v0, v1, v2, v3, v4, v5, v6, v7, v8], []) st h = exF ev cX1_rests 151 ([v0, v1, v2, v3, v4, v5, v6, v7, v8], []) (.int (nI 0) :: st) h := exF_j (i := (i_const (.int (nI 0)) 151)) rfl rfl
theorem eX1_rests_151 {ev : xV} {v0 v1 v2 v3 v4 v5 v6 v7 v8 : Option Value} {a0 : Value} {h : xH} : exF ev cX1_rests 151 ([v0, v1, v2, v3, v4, v5, v6, v7, v8], []) [a0] h = xBv (ev 164 [a0] h) (fun h => exF ev cX1_rests 154 ([v0, v1, v2, v3, v4, v5, v6, v7, v8], []) [] h) := exF_cv (i := (i_csv 164 1 154)) rfl rfl
theorem eX1_rests_154 {ev : xV} {v0 v1 v2 v3 v4 v6 v7 v8 : Option Value} {x : Int32} {st : List Value} {h : xH} : exF ev cX1_rests 154 ([v0, v1, v2, v3, v4, some (.int x), v6, v7, v8], []) st h = exF ev cX1_rests 156 ([v0, v1, v2, v3, v4, some (.int x), v6, v7, v8], []) (.int x :: st) h := exF_j (i := (i_iload 5 156)) rfl rfl
theorem eX1_rests_156 {ev : xV} {v0 v1 v2 v3 v4 v5 v6 v7 v8 : Option Value} {x : Int32} {h : xH} : exF ev cX1_rests 156 ([v0, v1, v2, v3, v4, v5, v6, v7, v8], []) [.int x] h = some (.inl (some (.int x)), h) := exF_r (i := (i_iret)) rfl rfl
noncomputable def cX1_need : xC := [(0, i_iload 0 1),
  (1, i_if1 (fun x => ¬ x = 0) 12 4),
  (4, i_mk0 11),
  (7, i_dup 8),
  (8, i_no),
  (11, i_throw [24]),
  (12, i_vret)]
theorem eX1_need_0 {ev : xV} {x : Int32} {st : List Value} {h : xH} : exF ev cX1_need 0 ([some (.int x)], []) st h = exF ev cX1_need 1 ([some (.int x)], []) (.int x :: st) h := exF_j (i := (i_iload 0 1)) rfl rfl
theorem eX1_need_1 {ev : xV} {v0 : Option Value} {x : Int32} {st : List Value} {h : xH} : exF ev cX1_need 1 ([v0], []) (.int x :: st) h = if ¬ x = 0 then exF ev cX1_need 12 ([v0], []) st h else exF ev cX1_need 4 ([v0], []) st h := exF_b (i := (i_if1 (fun x => ¬ x = 0) 12 4)) rfl rfl
theorem eX1_need_4 {ev : xV} {v0 : Option Value} {h : xH} : exF ev cX1_need 4 ([v0], []) [] h = exF ev cX1_need 11 ([v0], []) [.ref h.2.1] (xnew h (.inr (24, fun _ => .null)) 6) := exF_j (i := (i_mk0 11)) rfl rfl
theorem eX1_need_7 {ev : xV} {v0 : Option Value} {x : Nat} {st : List Value} {h : xH} : exF ev cX1_need 7 ([v0], []) (.ref x :: st) h = exF ev cX1_need 8 ([v0], []) (.ref x :: .ref x :: st) h := exF_j (i := (i_dup 8)) rfl rfl
theorem eX1_need_11 {ev : xV} {v0 : Option Value} {a : Nat} {st : List Value} {h : xH} : exF ev cX1_need 11 ([v0], []) (.ref a :: st) h = xO (xckc h [24] a) (fun _ => some (.inr a, h)) := exF_t (i := (i_throw [24])) rfl rfl
theorem eX1_need_12 {ev : xV} {v0 : Option Value} {h : xH} : exF ev cX1_need 12 ([v0], []) [] h = some (.inl none, h) := exF_r (i := (i_vret)) rfl rfl
noncomputable def cX1_gets : xC := [(0, i_iload 3 1),
  (1, i_const (.int (nI 1)) 2),
  (2, i_if2 (fun x y => ¬ x = y) 20 5),
  (5, i_iload 4 7),
  (7, i_const (.int (nI 1)) 8),
  (8, i_if2 (fun x y => ¬ x = y) 16 11),
  (11, i_iload 0 12),
  (12, i_i1 (fun x => -x) 13),
  (13, i_goto 31),
  (16, i_iload 1 17),
  (17, i_goto 31),
  (20, i_iload 4 22),
  (22, i_const (.int (nI 1)) 23),
  (23, i_if2 (fun x y => ¬ x = y) 30 26),
  (26, i_iload 2 27),
  (27, i_goto 31),
  (30, i_const (.int (nI 0)) 31),
  (31, i_iret)]
theorem eX1_gets_0 {ev : xV} {v0 v1 v2 v4 : Option Value} {x : Int32} {st : List Value} {h : xH} : exF ev cX1_gets 0 ([v0, v1, v2, some (.int x), v4], []) st h = exF ev cX1_gets 1 ([v0, v1, v2, some (.int x), v4], []) (.int x :: st) h := exF_j (i := (i_iload 3 1)) rfl rfl
theorem eX1_gets_1 {ev : xV} {v0 v1 v2 v3 v4 : Option Value} {st : List Value} {h : xH} : exF ev cX1_gets 1 ([v0, v1, v2, v3, v4], []) st h = exF ev cX1_gets 2 ([v0, v1, v2, v3, v4], []) (.int (nI 1) :: st) h := exF_j (i := (i_const (.int (nI 1)) 2)) rfl rfl
theorem eX1_gets_2 {ev : xV} {v0 v1 v2 v3 v4 : Option Value} {x y : Int32} {st : List Value} {h : xH} : exF ev cX1_gets 2 ([v0, v1, v2, v3, v4], []) (.int y :: .int x :: st) h = if ¬ x = y then exF ev cX1_gets 20 ([v0, v1, v2, v3, v4], []) st h else exF ev cX1_gets 5 ([v0, v1, v2, v3, v4], []) st h := exF_b (i := (i_if2 (fun x y => ¬ x = y) 20 5)) rfl rfl
theorem eX1_gets_5 {ev : xV} {v0 v1 v2 v3 : Option Value} {x : Int32} {st : List Value} {h : xH} : exF ev cX1_gets 5 ([v0, v1, v2, v3, some (.int x)], []) st h = exF ev cX1_gets 7 ([v0, v1, v2, v3, some (.int x)], []) (.int x :: st) h := exF_j (i := (i_iload 4 7)) rfl rfl
theorem eX1_gets_7 {ev : xV} {v0 v1 v2 v3 v4 : Option Value} {st : List Value} {h : xH} : exF ev cX1_gets 7 ([v0, v1, v2, v3, v4], []) st h = exF ev cX1_gets 8 ([v0, v1, v2, v3, v4], []) (.int (nI 1) :: st) h := exF_j (i := (i_const (.int (nI 1)) 8)) rfl rfl
theorem eX1_gets_8 {ev : xV} {v0 v1 v2 v3 v4 : Option Value} {x y : Int32} {st : List Value} {h : xH} : exF ev cX1_gets 8 ([v0, v1, v2, v3, v4], []) (.int y :: .int x :: st) h = if ¬ x = y then exF ev cX1_gets 16 ([v0, v1, v2, v3, v4], []) st h else exF ev cX1_gets 11 ([v0, v1, v2, v3, v4], []) st h := exF_b (i := (i_if2 (fun x y => ¬ x = y) 16 11)) rfl rfl
theorem eX1_gets_11 {ev : xV} {v1 v2 v3 v4 : Option Value} {x : Int32} {st : List Value} {h : xH} : exF ev cX1_gets 11 ([some (.int x), v1, v2, v3, v4], []) st h = exF ev cX1_gets 12 ([some (.int x), v1, v2, v3, v4], []) (.int x :: st) h := exF_j (i := (i_iload 0 12)) rfl rfl
theorem eX1_gets_12 {ev : xV} {v0 v1 v2 v3 v4 : Option Value} {x : Int32} {st : List Value} {h : xH} : exF ev cX1_gets 12 ([v0, v1, v2, v3, v4], []) (.int x :: st) h = exF ev cX1_gets 13 ([v0, v1, v2, v3, v4], []) (.int (-x) :: st) h := exF_j (i := (i_i1 (fun x => -x) 13)) rfl rfl
theorem eX1_gets_13 {ev : xV} {v0 v1 v2 v3 v4 : Option Value} {st : List Value} {h : xH} : exF ev cX1_gets 13 ([v0, v1, v2, v3, v4], []) st h = exF ev cX1_gets 31 ([v0, v1, v2, v3, v4], []) st h := exF_j (i := (i_goto 31)) rfl rfl
theorem eX1_gets_16 {ev : xV} {v0 v2 v3 v4 : Option Value} {x : Int32} {st : List Value} {h : xH} : exF ev cX1_gets 16 ([v0, some (.int x), v2, v3, v4], []) st h = exF ev cX1_gets 17 ([v0, some (.int x), v2, v3, v4], []) (.int x :: st) h := exF_j (i := (i_iload 1 17)) rfl rfl
theorem eX1_gets_17 {ev : xV} {v0 v1 v2 v3 v4 : Option Value} {st : List Value} {h : xH} : exF ev cX1_gets 17 ([v0, v1, v2, v3, v4], []) st h = exF ev cX1_gets 31 ([v0, v1, v2, v3, v4], []) st h := exF_j (i := (i_goto 31)) rfl rfl
theorem eX1_gets_20 {ev : xV} {v0 v1 v2 v3 : Option Value} {x : Int32} {st : List Value} {h : xH} : exF ev cX1_gets 20 ([v0, v1, v2, v3, some (.int x)], []) st h = exF ev cX1_gets 22 ([v0, v1, v2, v3, some (.int x)], []) (.int x :: st) h := exF_j (i := (i_iload 4 22)) rfl rfl
theorem eX1_gets_22 {ev : xV} {v0 v1 v2 v3 v4 : Option Value} {st : List Value} {h : xH} : exF ev cX1_gets 22 ([v0, v1, v2, v3, v4], []) st h = exF ev cX1_gets 23 ([v0, v1, v2, v3, v4], []) (.int (nI 1) :: st) h := exF_j (i := (i_const (.int (nI 1)) 23)) rfl rfl
theorem eX1_gets_23 {ev : xV} {v0 v1 v2 v3 v4 : Option Value} {x y : Int32} {st : List Value} {h : xH} : exF ev cX1_gets 23 ([v0, v1, v2, v3, v4], []) (.int y :: .int x :: st) h = if ¬ x = y then exF ev cX1_gets 30 ([v0, v1, v2, v3, v4], []) st h else exF ev cX1_gets 26 ([v0, v1, v2, v3, v4], []) st h := exF_b (i := (i_if2 (fun x y => ¬ x = y) 30 26)) rfl rfl
theorem eX1_gets_26 {ev : xV} {v0 v1 v3 v4 : Option Value} {x : Int32} {st : List Value} {h : xH} : exF ev cX1_gets 26 ([v0, v1, some (.int x), v3, v4], []) st h = exF ev cX1_gets 27 ([v0, v1, some (.int x), v3, v4], []) (.int x :: st) h := exF_j (i := (i_iload 2 27)) rfl rfl
theorem eX1_gets_27 {ev : xV} {v0 v1 v2 v3 v4 : Option Value} {st : List Value} {h : xH} : exF ev cX1_gets 27 ([v0, v1, v2, v3, v4], []) st h = exF ev cX1_gets 31 ([v0, v1, v2, v3, v4], []) st h := exF_j (i := (i_goto 31)) rfl rfl
theorem eX1_gets_30 {ev : xV} {v0 v1 v2 v3 v4 : Option Value} {st : List Value} {h : xH} : exF ev cX1_gets 30 ([v0, v1, v2, v3, v4], []) st h = exF ev cX1_gets 31 ([v0, v1, v2, v3, v4], []) (.int (nI 0) :: st) h := exF_j (i := (i_const (.int (nI 0)) 31)) rfl rfl
theorem eX1_gets_31 {ev : xV} {v0 v1 v2 v3 v4 : Option Value} {x : Int32} {h : xH} : exF ev cX1_gets 31 ([v0, v1, v2, v3, v4], []) [.int x] h = some (.inl (some (.int x)), h) := exF_r (i := (i_iret)) rfl rfl
