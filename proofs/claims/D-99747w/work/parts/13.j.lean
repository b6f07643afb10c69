set_option maxRecDepth 100000
def zX1 : Nat → Value := fun k => match k with
  | 0 => .null
  | 1 => .null
  | 2 => .null
  | 3 => .null
  | 4 => .null
  | 5 => .null
  | 6 => .null
  | 7 => .int 0
  | 8 => .null
  | 9 => .int 0
  | 10 => .null
  | 11 => .null
  | 12 => .null
  | 13 => .null
  | 14 => .null
  | 15 => .int 0
  | 16 => .null
  | 17 => .null
  | 18 => .null
  | 19 => .int 0
  | 20 => .long 0
  | 21 => .null
  | _ => .null
def zX2 : Nat → Value := fun k => match k with
  | 0 => .null
  | 1 => .int 0
  | 2 => .int 0
  | 3 => .int 0
  | 4 => .int 0
  | 5 => .int 0
  | 6 => .int 0
  | 7 => .null
  | _ => .null
def zX3 : Nat → Value := fun k => match k with
  | 0 => .null
  | 1 => .null
  | 2 => .null
  | 3 => .null
  | 4 => .null
  | 5 => .int 0
  | 6 => .null
  | _ => .null
def zX4 : Nat → Value := fun k => match k with
  | 0 => .null
  | 1 => .null
  | 2 => .null
  | 3 => .int 0
  | 4 => .int 0
  | _ => .null
def zX5 : Nat → Value := fun k => match k with
  | 0 => .int 0
  | 1 => .null
  | 2 => .int 0
  | 3 => .int 0
  | 4 => .null
  | 5 => .null
  | 6 => .null
  | 7 => .int 0
  | 8 => .int 0
  | 9 => .null
  | 10 => .null
  | 11 => .null
  | 12 => .null
  | 13 => .int 0
  | 14 => .null
  | 15 => .null
  | 16 => .null
  | 17 => .null
  | 18 => .int 0
  | 19 => .int 0
  | 20 => .int 0
  | 21 => .null
  | 22 => .null
  | 23 => .null
  | 24 => .null
  | 25 => .int 0
  | 26 => .null
  | 27 => .null
  | 28 => .null
  | 29 => .null
  | 30 => .null
  | 31 => .long 0
  | _ => .null
def zX6 : Nat → Value := fun k => match k with
  | 0 => .null
  | 1 => .null
  | 2 => .null
  | 3 => .null
  | 4 => .null
  | 5 => .int 0
  | 6 => .int 0
  | _ => .null
def zX7 : Nat → Value := fun k => match k with
  | 0 => .int 0
  | 1 => .int 0
  | 2 => .null
  | 3 => .int 0
  | _ => .null
def zX9 : Nat → Value := fun _ => .null
def zX10 : Nat → Value := fun _ => .null
def zX11 : Nat → Value := fun _ => .null
def zX12 : Nat → Value := fun _ => .null
def zX14 : Nat → Value := fun k => match k with
  | 0 => .int 0
  | _ => .null
def zX15 : Nat → Value := fun k => match k with
  | 0 => .int 0
  | _ => .null
def zX16 : Nat → Value := fun k => match k with
  | 0 => .null
  | _ => .null
def zX17 : Nat → Value := fun k => match k with
  | 0 => .int 0
  | 1 => .null
  | 2 => .null
  | _ => .null
def zX19 : Nat → Value := fun _ => .null
def zX20 : Nat → Value := fun k => match k with
  | 0 => .int 0
  | 1 => .int 0
  | _ => .null
def zX21 : Nat → Value := fun k => match k with
  | 0 => .int 0
  | _ => .null
def zX22 : Nat → Value := fun k => match k with
  | 0 => .int 0
  | _ => .null
def zX23 : Nat → Value := fun k => match k with
  | 0 => .int 0
  | _ => .null
def zX24 : Nat → Value := fun k => match k with
  | 0 => .null
  | 1 => .null
  | 2 => .null
  | 3 => .null
  | 4 => .null
  | 5 => .null
  | 6 => .int 0
  | 7 => .int 0
  | _ => .null
def zJ2 : Nat → Value := fun k => match k with
  | 0 => .int 0
  | 1 => .null
  | 2 => .int 0
  | _ => .null
def zJ5 : Nat → Value := fun k => match k with
  | 0 => .null
  | 1 => .int 0
  | 2 => .int 0
  | 3 => .int 0
  | _ => .null
def zJ14 : Nat → Value := fun k => match k with
  | 0 => .null
  | 1 => .int 0
  | 2 => .int 0
  | 3 => .int 0
  | _ => .null
def zJ18 : Nat → Value := fun k => match k with
  | 0 => .null
  | 1 => .null
  | 2 => .null
  | 3 => .null
  | 4 => .null
  | 5 => .int 0
  | _ => .null
noncomputable def cJ0_init : xC := [(0, i_aload 0 1),
  (1, i_oi 4),
  (4, i_vret)]
theorem eJ0_init_0 {ev : xV} {x : Nat} {st : List Value} {h : xH} : exF ev cJ0_init 0 ([some (.ref x)], []) st h = exF ev cJ0_init 1 ([some (.ref x)], []) (.ref x :: st) h := exF_j (i := (i_aload 0 1)) rfl rfl
theorem eJ0_init_1 {ev : xV} {v0 : Option Value} {a : Nat} (hx : 64 ≤ a) {h : xH} : exF ev cJ0_init 1 ([v0], []) [.ref a] h = exF ev cJ0_init 4 ([v0], []) [] h := exF_j (i := (i_oi 4)) rfl (if_pos ⟨hx, rfl⟩)
theorem eJ0_init_4 {ev : xV} {v0 : Option Value} {h : xH} : exF ev cJ0_init 4 ([v0], []) [] h = some (.inl none, h) := exF_r (i := (i_vret)) rfl rfl
noncomputable def cJ1_init : xC := [(0, i_aload 0 1),
  (1, i_ci [21] 0 0 4),
  (4, i_aload 0 5),
  (5, i_const (.int (nI 0)) 6),
  (6, i_putfi 21 0 9),
  (9, i_vret)]
theorem eJ1_init_0 {ev : xV} {x : Nat} {st : List Value} {h : xH} : exF ev cJ1_init 0 ([some (.ref x)], []) st h = exF ev cJ1_init 1 ([some (.ref x)], []) (.ref x :: st) h := exF_j (i := (i_aload 0 1)) rfl rfl
theorem eJ1_init_1 {ev : xV} {v0 : Option Value} {a : Nat} {h : xH} : exF ev cJ1_init 1 ([v0], []) [.ref a] h = xO (xckc h [21] a) (fun _ => xBv (ev 0 [.ref a] h) (fun h => exF ev cJ1_init 4 ([v0], []) [] h)) := exF_cdv (i := (i_ci [21] 0 0 4)) rfl rfl
theorem eJ1_init_4 {ev : xV} {x : Nat} {st : List Value} {h : xH} : exF ev cJ1_init 4 ([some (.ref x)], []) st h = exF ev cJ1_init 5 ([some (.ref x)], []) (.ref x :: st) h := exF_j (i := (i_aload 0 5)) rfl rfl
theorem eJ1_init_5 {ev : xV} {v0 : Option Value} {st : List Value} {h : xH} : exF ev cJ1_init 5 ([v0], []) st h = exF ev cJ1_init 6 ([v0], []) (.int (nI 0) :: st) h := exF_j (i := (i_const (.int (nI 0)) 6)) rfl rfl
theorem eJ1_init_6 {ev : xV} {v0 : Option Value} {x : Int32} {a : Nat} {st : List Value} {h : xH} : exF ev cJ1_init 6 ([v0], []) (.int x :: .ref a :: st) h = xO (xpf h a 21 0 (.int x)) (fun h => exF ev cJ1_init 9 ([v0], []) st h) := exF_o (i := (i_putfi 21 0 9)) rfl rfl
theorem eJ1_init_9 {ev : xV} {v0 : Option Value} {h : xH} : exF ev cJ1_init 9 ([v0], []) [] h = some (.inl none, h) := exF_r (i := (i_vret)) rfl rfl
noncomputable def cJ10_init_2 : xC := [(0, i_aload 0 1),
  (1, i_oi 4),
  (4, i_aload 0 5),
  (5, i_aload 0 6),
  (6, i_putfr 5 0 9),
  (9, i_aload 0 10),
  (10, i_const (.ref 33) 13),
  (13, i_putfr 5 1 16),
  (16, i_aload 0 17),
  (17, i_const (.ref 34) 20),
  (20, i_putfr 5 2 23),
  (23, i_iload 4 25),
  (25, i_if1 (fun x => x = 0) 36 28),
  (28, i_aload 0 29),
  (29, i_no),
  (32, i_pop 33),
  (33, i_goto 41),
  (36, i_aload 0 37),
  (37, i_const .null 38),
  (38, i_putfr 5 1 41),
  (41, i_aload 0 42),
  (42, i_aload 1 43),
  (43, i_putfr 5 3 46),
  (46, i_aload 0 47),
  (47, i_aload 2 48),
  (48, i_putfr 5 0 51),
  (51, i_iload 3 52),
  (52, i_if1 (fun x => ¬ x = 0) 60 55),
  (55, i_aload 0 56),
  (56, i_const .null 57),
  (57, i_putfr 5 2 60),
  (60, i_vret)]
theorem eJ10_init_2_0 {ev : xV} {v1 v2 v3 v4 : Option Value} {x : Nat} {st : List Value} {h : xH} : exF ev cJ10_init_2 0 ([some (.ref x), v1, v2, v3, v4], []) st h = exF ev cJ10_init_2 1 ([some (.ref x), v1, v2, v3, v4], []) (.ref x :: st) h := exF_j (i := (i_aload 0 1)) rfl rfl
theorem eJ10_init_2_1 {ev : xV} {v0 v1 v2 v3 v4 : Option Value} {a : Nat} (hx : 64 ≤ a) {h : xH} : exF ev cJ10_init_2 1 ([v0, v1, v2, v3, v4], []) [.ref a] h = exF ev cJ10_init_2 4 ([v0, v1, v2, v3, v4], []) [] h := exF_j (i := (i_oi 4)) rfl (if_pos ⟨hx, rfl⟩)
theorem eJ10_init_2_4 {ev : xV} {v1 v2 v3 v4 : Option Value} {x : Nat} {st : List Value} {h : xH} : exF ev cJ10_init_2 4 ([some (.ref x), v1, v2, v3, v4], []) st h = exF ev cJ10_init_2 5 ([some (.ref x), v1, v2, v3, v4], []) (.ref x :: st) h := exF_j (i := (i_aload 0 5)) rfl rfl
theorem eJ10_init_2_5 {ev : xV} {v1 v2 v3 v4 : Option Value} {x : Nat} {st : List Value} {h : xH} : exF ev cJ10_init_2 5 ([some (.ref x), v1, v2, v3, v4], []) st h = exF ev cJ10_init_2 6 ([some (.ref x), v1, v2, v3, v4], []) (.ref x :: st) h := exF_j (i := (i_aload 0 6)) rfl rfl
theorem eJ10_init_2_6 {ev : xV} {v0 v1 v2 v3 v4 : Option Value} {x a : Nat} {st : List Value} {h : xH} : exF ev cJ10_init_2 6 ([v0, v1, v2, v3, v4], []) (.ref x :: .ref a :: st) h = xO (xpf h a 5 0 (.ref x)) (fun h => exF ev cJ10_init_2 9 ([v0, v1, v2, v3, v4], []) st h) := exF_o (i := (i_putfr 5 0 9)) rfl rfl
theorem eJ10_init_2_6n {ev : xV} {v0 v1 v2 v3 v4 : Option Value} {a : Nat} {st : List Value} {h : xH} : exF ev cJ10_init_2 6 ([v0, v1, v2, v3, v4], []) (.null :: .ref a :: st) h = xO (xpf h a 5 0 .null) (fun h => exF ev cJ10_init_2 9 ([v0, v1, v2, v3, v4], []) st h) := exF_o (i := (i_putfr 5 0 9)) rfl rfl
theorem eJ10_init_2_9 {ev : xV} {v1 v2 v3 v4 : Option Value} {x : Nat} {st : List Value} {h : xH} : exF ev cJ10_init_2 9 ([some (.ref x), v1, v2, v3, v4], []) st h = exF ev cJ10_init_2 10 ([some (.ref x), v1, v2, v3, v4], []) (.ref x :: st) h := exF_j (i := (i_aload 0 10)) rfl rfl
theorem eJ10_init_2_10 {ev : xV} {v0 v1 v2 v3 v4 : Option Value} {st : List Value} {h : xH} : exF ev cJ10_init_2 10 ([v0, v1, v2, v3, v4], []) st h = exF ev cJ10_init_2 13 ([v0, v1, v2, v3, v4], []) (.ref 33 :: st) h := exF_j (i := (i_const (.ref 33) 13)) rfl rfl
theorem eJ10_init_2_13 {ev : xV} {v0 v1 v2 v3 v4 : Option Value} {x a : Nat} {st : List Value} {h : xH} : exF ev cJ10_init_2 13 ([v0, v1, v2, v3, v4], []) (.ref x :: .ref a :: st) h = xO (xpf h a 5 1 (.ref x)) (fun h => exF ev cJ10_init_2 16 ([v0, v1, v2, v3, v4], []) st h) := exF_o (i := (i_putfr 5 1 16)) rfl rfl
theorem eJ10_init_2_13n {ev : xV} {v0 v1 v2 v3 v4 : Option Value} {a : Nat} {st : List Value} {h : xH} : exF ev cJ10_init_2 13 ([v0, v1, v2, v3, v4], []) (.null :: .ref a :: st) h = xO (xpf h a 5 1 .null) (fun h => exF ev cJ10_init_2 16 ([v0, v1, v2, v3, v4], []) st h) := exF_o (i := (i_putfr 5 1 16)) rfl rfl
theorem eJ10_init_2_16 {ev : xV} {v1 v2 v3 v4 : Option Value} {x : Nat} {st : List Value} {h : xH} : exF ev cJ10_init_2 16 ([some (.ref x), v1, v2, v3, v4], []) st h = exF ev cJ10_init_2 17 ([some (.ref x), v1, v2, v3, v4], []) (.ref x :: st) h := exF_j (i := (i_aload 0 17)) rfl rfl
theorem eJ10_init_2_17 {ev : xV} {v0 v1 v2 v3 v4 : Option Value} {st : List Value} {h : xH} : exF ev cJ10_init_2 17 ([v0, v1, v2, v3, v4], []) st h = exF ev cJ10_init_2 20 ([v0, v1, v2, v3, v4], []) (.ref 34 :: st) h := exF_j (i := (i_const (.ref 34) 20)) rfl rfl
theorem eJ10_init_2_20 {ev : xV} {v0 v1 v2 v3 v4 : Option Value} {x a : Nat} {st : List Value} {h : xH} : exF ev cJ10_init_2 20 ([v0, v1, v2, v3, v4], []) (.ref x :: .ref a :: st) h = xO (xpf h a 5 2 (.ref x)) (fun h => exF ev cJ10_init_2 23 ([v0, v1, v2, v3, v4], []) st h) := exF_o (i := (i_putfr 5 2 23)) rfl rfl
theorem eJ10_init_2_20n {ev : xV} {v0 v1 v2 v3 v4 : Option Value} {a : Nat} {st : List Value} {h : xH} : exF ev cJ10_init_2 20 ([v0, v1, v2, v3, v4], []) (.null :: .ref a :: st) h = xO (xpf h a 5 2 .null) (fun h => exF ev cJ10_init_2 23 ([v0, v1, v2, v3, v4], []) st h) := exF_o (i := (i_putfr 5 2 23)) rfl rfl
theorem eJ10_init_2_23 {ev : xV} {v0 v1 v2 v3 : Option Value} {x : Int32} {st : List Value} {h : xH} : exF ev cJ10_init_2 23 ([v0, v1, v2, v3, some (.int x)], []) st h = exF ev cJ10_init_2 25 ([v0, v1, v2, v3, some (.int x)], []) (.int x :: st) h := exF_j (i := (i_iload 4 25)) rfl rfl
theorem eJ10_init_2_25 {ev : xV} {v0 v1 v2 v3 v4 : Option Value} {x : Int32} {st : List Value} {h : xH} : exF ev cJ10_init_2 25 ([v0, v1, v2, v3, v4], []) (.int x :: st) h = if x = 0 then exF ev cJ10_init_2 36 ([v0, v1, v2, v3, v4], []) st h else exF ev cJ10_init_2 28 ([v0, v1, v2, v3, v4], []) st h := exF_b (i := (i_if1 (fun x => x = 0) 36 28)) rfl rfl
theorem eJ10_init_2_28 {ev : xV} {v1 v2 v3 v4 : Option Value} {x : Nat} {st : List Value} {h : xH} : exF ev cJ10_init_2 28 ([some (.ref x), v1, v2, v3, v4], []) st h = exF ev cJ10_init_2 29 ([some (.ref x), v1, v2, v3, v4], []) (.ref x :: st) h := exF_j (i := (i_aload 0 29)) rfl rfl
theorem eJ10_init_2_32 {ev : xV} {v0 v1 v2 v3 v4 : Option Value} {x : Nat} {st : List Value} {h : xH} : exF ev cJ10_init_2 32 ([v0, v1, v2, v3, v4], []) (.ref x :: st) h = exF ev cJ10_init_2 33 ([v0, v1, v2, v3, v4], []) st h := exF_j (i := (i_pop 33)) rfl rfl
theorem eJ10_init_2_33 {ev : xV} {v0 v1 v2 v3 v4 : Option Value} {st : List Value} {h : xH} : exF ev cJ10_init_2 33 ([v0, v1, v2, v3, v4], []) st h = exF ev cJ10_init_2 41 ([v0, v1, v2, v3, v4], []) st h := exF_j (i := (i_goto 41)) rfl rfl
theorem eJ10_init_2_36 {ev : xV} {v1 v2 v3 v4 : Option Value} {x : Nat} {st : List Value} {h : xH} : exF ev cJ10_init_2 36 ([some (.ref x), v1, v2, v3, v4], []) st h = exF ev cJ10_init_2 37 ([some (.ref x), v1, v2, v3, v4], []) (.ref x :: st) h := exF_j (i := (i_aload 0 37)) rfl rfl
theorem eJ10_init_2_37 {ev : xV} {v0 v1 v2 v3 v4 : Option Value} {st : List Value} {h : xH} : exF ev cJ10_init_2 37 ([v0, v1, v2, v3, v4], []) st h = exF ev cJ10_init_2 38 ([v0, v1, v2, v3, v4], []) (.null :: st) h := exF_j (i := (i_const .null 38)) rfl rfl
theorem eJ10_init_2_38 {ev : xV} {v0 v1 v2 v3 v4 : Option Value} {x a : Nat} {st : List Value} {h : xH} : exF ev cJ10_init_2 38 ([v0, v1, v2, v3, v4], []) (.ref x :: .ref a :: st) h = xO (xpf h a 5 1 (.ref x)) (fun h => exF ev cJ10_init_2 41 ([v0, v1, v2, v3, v4], []) st h) := exF_o (i := (i_putfr 5 1 41)) rfl rfl
theorem eJ10_init_2_38n {ev : xV} {v0 v1 v2 v3 v4 : Option Value} {a : Nat} {st : List Value} {h : xH} : exF ev cJ10_init_2 38 ([v0, v1, v2, v3, v4], []) (.null :: .ref a :: st) h = xO (xpf h a 5 1 .null) (fun h => exF ev cJ10_init_2 41 ([v0, v1, v2, v3, v4], []) st h) := exF_o (i := (i_putfr 5 1 41)) rfl rfl
theorem eJ10_init_2_41 {ev : xV} {v1 v2 v3 v4 : Option Value} {x : Nat} {st : List Value} {h : xH} : exF ev cJ10_init_2 41 ([some (.ref x), v1, v2, v3, v4], []) st h = exF ev cJ10_init_2 42 ([some (.ref x), v1, v2, v3, v4], []) (.ref x :: st) h := exF_j (i := (i_aload 0 42)) rfl rfl
theorem eJ10_init_2_42 {ev : xV} {v0 v2 v3 v4 : Option Value} {x : Nat} {st : List Value} {h : xH} : exF ev cJ10_init_2 42 ([v0, some (.ref x), v2, v3, v4], []) st h = exF ev cJ10_init_2 43 ([v0, some (.ref x), v2, v3, v4], []) (.ref x :: st) h := exF_j (i := (i_aload 1 43)) rfl rfl
theorem eJ10_init_2_42n {ev : xV} {v0 v2 v3 v4 : Option Value} {st : List Value} {h : xH} : exF ev cJ10_init_2 42 ([v0, some .null, v2, v3, v4], []) st h = exF ev cJ10_init_2 43 ([v0, some .null, v2, v3, v4], []) (.null :: st) h := exF_j (i := (i_aload 1 43)) rfl rfl
theorem eJ10_init_2_43 {ev : xV} {v0 v1 v2 v3 v4 : Option Value} {x a : Nat} {st : List Value} {h : xH} : exF ev cJ10_init_2 43 ([v0, v1, v2, v3, v4], []) (.ref x :: .ref a :: st) h = xO (xpf h a 5 3 (.ref x)) (fun h => exF ev cJ10_init_2 46 ([v0, v1, v2, v3, v4], []) st h) := exF_o (i := (i_putfr 5 3 46)) rfl rfl
theorem eJ10_init_2_43n {ev : xV} {v0 v1 v2 v3 v4 : Option Value} {a : Nat} {st : List Value} {h : xH} : exF ev cJ10_init_2 43 ([v0, v1, v2, v3, v4], []) (.null :: .ref a :: st) h = xO (xpf h a 5 3 .null) (fun h => exF ev cJ10_init_2 46 ([v0, v1, v2, v3, v4], []) st h) := exF_o (i := (i_putfr 5 3 46)) rfl rfl
theorem eJ10_init_2_46 {ev : xV} {v1 v2 v3 v4 : Option Value} {x : Nat} {st : List Value} {h : xH} : exF ev cJ10_init_2 46 ([some (.ref x), v1, v2, v3, v4], []) st h = exF ev cJ10_init_2 47 ([some (.ref x), v1, v2, v3, v4], []) (.ref x :: st) h := exF_j (i := (i_aload 0 47)) rfl rfl
theorem eJ10_init_2_47 {ev : xV} {v0 v1 v3 v4 : Option Value} {x : Nat} {st : List Value} {h : xH} : exF ev cJ10_init_2 47 ([v0, v1, some (.ref x), v3, v4], []) st h = exF ev cJ10_init_2 48 ([v0, v1, some (.ref x), v3, v4], []) (.ref x :: st) h := exF_j (i := (i_aload 2 48)) rfl rfl
theorem eJ10_init_2_47n {ev : xV} {v0 v1 v3 v4 : Option Value} {st : List Value} {h : xH} : exF ev cJ10_init_2 47 ([v0, v1, some .null, v3, v4], []) st h = exF ev cJ10_init_2 48 ([v0, v1, some .null, v3, v4], []) (.null :: st) h := exF_j (i := (i_aload 2 48)) rfl rfl
theorem eJ10_init_2_48 {ev : xV} {v0 v1 v2 v3 v4 : Option Value} {x a : Nat} {st : List Value} {h : xH} : exF ev cJ10_init_2 48 ([v0, v1, v2, v3, v4], []) (.ref x :: .ref a :: st) h = xO (xpf h a 5 0 (.ref x)) (fun h => exF ev cJ10_init_2 51 ([v0, v1, v2, v3, v4], []) st h) := exF_o (i := (i_putfr 5 0 51)) rfl rfl
theorem eJ10_init_2_48n {ev : xV} {v0 v1 v2 v3 v4 : Option Value} {a : Nat} {st : List Value} {h : xH} : exF ev cJ10_init_2 48 ([v0, v1, v2, v3, v4], []) (.null :: .ref a :: st) h = xO (xpf h a 5 0 .null) (fun h => exF ev cJ10_init_2 51 ([v0, v1, v2, v3, v4], []) st h) := exF_o (i := (i_putfr 5 0 51)) rfl rfl
theorem eJ10_init_2_51 {ev : xV} {v0 v1 v2 v4 : Option Value} {x : Int32} {st : List Value} {h : xH} : exF ev cJ10_init_2 51 ([v0, v1, v2, some (.int x), v4], []) st h = exF ev cJ10_init_2 52 ([v0, v1, v2, some (.int x), v4], []) (.int x :: st) h := exF_j (i := (i_iload 3 52)) rfl rfl
theorem eJ10_init_2_52 {ev : xV} {v0 v1 v2 v3 v4 : Option Value} {x : Int32} {st : List Value} {h : xH} : exF ev cJ10_init_2 52 ([v0, v1, v2, v3, v4], []) (.int x :: st) h = if ¬ x = 0 then exF ev cJ10_init_2 60 ([v0, v1, v2, v3, v4], []) st h else exF ev cJ10_init_2 55 ([v0, v1, v2, v3, v4], []) st h := exF_b (i := (i_if1 (fun x => ¬ x = 0) 60 55)) rfl rfl
theorem eJ10_init_2_55 {ev : xV} {v1 v2 v3 v4 : Option Value} {x : Nat} {st : List Value} {h : xH} : exF ev cJ10_init_2 55 ([some (.ref x), v1, v2, v3, v4], []) st h = exF ev cJ10_init_2 56 ([some (.ref x), v1, v2, v3, v4], []) (.ref x :: st) h := exF_j (i := (i_aload 0 56)) rfl rfl
theorem eJ10_init_2_56 {ev : xV} {v0 v1 v2 v3 v4 : Option Value} {st : List Value} {h : xH} : exF ev cJ10_init_2 56 ([v0, v1, v2, v3, v4], []) st h = exF ev cJ10_init_2 57 ([v0, v1, v2, v3, v4], []) (.null :: st) h := exF_j (i := (i_const .null 57)) rfl rfl
theorem eJ10_init_2_57 {ev : xV} {v0 v1 v2 v3 v4 : Option Value} {x a : Nat} {st : List Value} {h : xH} : exF ev cJ10_init_2 57 ([v0, v1, v2, v3, v4], []) (.ref x :: .ref a :: st) h = xO (xpf h a 5 2 (.ref x)) (fun h => exF ev cJ10_init_2 60 ([v0, v1, v2, v3, v4], []) st h) := exF_o (i := (i_putfr 5 2 60)) rfl rfl
theorem eJ10_init_2_57n {ev : xV} {v0 v1 v2 v3 v4 : Option Value} {a : Nat} {st : List Value} {h : xH} : exF ev cJ10_init_2 57 ([v0, v1, v2, v3, v4], []) (.null :: .ref a :: st) h = xO (xpf h a 5 2 .null) (fun h => exF ev cJ10_init_2 60 ([v0, v1, v2, v3, v4], []) st h) := exF_o (i := (i_putfr 5 2 60)) rfl rfl
theorem eJ10_init_2_60 {ev : xV} {v0 v1 v2 v3 v4 : Option Value} {h : xH} : exF ev cJ10_init_2 60 ([v0, v1, v2, v3, v4], []) [] h = some (.inl none, h) := exF_r (i := (i_vret)) rfl rfl
noncomputable def cJ11_init : xC := [(0, i_aload 0 1),
  (1, i_aload 1 2),
  (2, i_aload 2 3),
  (3, i_iload 3 4),
  (4, i_iload 4 6),
  (6, i_ci [5] 3 4 9),
  (9, i_vret)]
theorem eJ11_init_0 {ev : xV} {v1 v2 v3 v4 : Option Value} {x : Nat} {st : List Value} {h : xH} : exF ev cJ11_init 0 ([some (.ref x), v1, v2, v3, v4], []) st h = exF ev cJ11_init 1 ([some (.ref x), v1, v2, v3, v4], []) (.ref x :: st) h := exF_j (i := (i_aload 0 1)) rfl rfl
theorem eJ11_init_1 {ev : xV} {v0 v2 v3 v4 : Option Value} {x : Nat} {st : List Value} {h : xH} : exF ev cJ11_init 1 ([v0, some (.ref x), v2, v3, v4], []) st h = exF ev cJ11_init 2 ([v0, some (.ref x), v2, v3, v4], []) (.ref x :: st) h := exF_j (i := (i_aload 1 2)) rfl rfl
theorem eJ11_init_1n {ev : xV} {v0 v2 v3 v4 : Option Value} {st : List Value} {h : xH} : exF ev cJ11_init 1 ([v0, some .null, v2, v3, v4], []) st h = exF ev cJ11_init 2 ([v0, some .null, v2, v3, v4], []) (.null :: st) h := exF_j (i := (i_aload 1 2)) rfl rfl
theorem eJ11_init_2 {ev : xV} {v0 v1 v3 v4 : Option Value} {x : Nat} {st : List Value} {h : xH} : exF ev cJ11_init 2 ([v0, v1, some (.ref x), v3, v4], []) st h = exF ev cJ11_init 3 ([v0, v1, some (.ref x), v3, v4], []) (.ref x :: st) h := exF_j (i := (i_aload 2 3)) rfl rfl
theorem eJ11_init_2n {ev : xV} {v0 v1 v3 v4 : Option Value} {st : List Value} {h : xH} : exF ev cJ11_init 2 ([v0, v1, some .null, v3, v4], []) st h = exF ev cJ11_init 3 ([v0, v1, some .null, v3, v4], []) (.null :: st) h := exF_j (i := (i_aload 2 3)) rfl rfl
theorem eJ11_init_3 {ev : xV} {v0 v1 v2 v4 : Option Value} {x : Int32} {st : List Value} {h : xH} : exF ev cJ11_init 3 ([v0, v1, v2, some (.int x), v4], []) st h = exF ev cJ11_init 4 ([v0, v1, v2, some (.int x), v4], []) (.int x :: st) h := exF_j (i := (i_iload 3 4)) rfl rfl
theorem eJ11_init_4 {ev : xV} {v0 v1 v2 v3 : Option Value} {x : Int32} {st : List Value} {h : xH} : exF ev cJ11_init 4 ([v0, v1, v2, v3, some (.int x)], []) st h = exF ev cJ11_init 6 ([v0, v1, v2, v3, some (.int x)], []) (.int x :: st) h := exF_j (i := (i_iload 4 6)) rfl rfl
theorem eJ11_init_6 {ev : xV} {v0 v1 v2 v3 v4 : Option Value} {a0 : Value} {a1 : Value} {a2 : Value} {a3 : Value} {a : Nat} {h : xH} : exF ev cJ11_init 6 ([v0, v1, v2, v3, v4], []) [a3, a2, a1, a0, .ref a] h = xO (xckc h [5] a) (fun _ => xBv (ev 3 [.ref a, a0, a1, a2, a3] h) (fun h => exF ev cJ11_init 9 ([v0, v1, v2, v3, v4], []) [] h)) := exF_cdv (i := (i_ci [5] 3 4 9)) rfl rfl
theorem eJ11_init_9 {ev : xV} {v0 v1 v2 v3 v4 : Option Value} {h : xH} : exF ev cJ11_init 9 ([v0, v1, v2, v3, v4], []) [] h = some (.inl none, h) := exF_r (i := (i_vret)) rfl rfl
noncomputable def cJ12_init : xC := [(0, i_aload 0 1),
  (1, i_aload 1 2),
  (2, i_aload 2 3),
  (3, i_iload 3 4),
  (4, i_iload 4 6),
  (6, i_ci [5] 4 4 9),
  (9, i_vret)]
theorem eJ12_init_0 {ev : xV} {v1 v2 v3 v4 : Option Value} {x : Nat} {st : List Value} {h : xH} : exF ev cJ12_init 0 ([some (.ref x), v1, v2, v3, v4], []) st h = exF ev cJ12_init 1 ([some (.ref x), v1, v2, v3, v4], []) (.ref x :: st) h := exF_j (i := (i_aload 0 1)) rfl rfl
theorem eJ12_init_1 {ev : xV} {v0 v2 v3 v4 : Option Value} {x : Nat} {st : List Value} {h : xH} : exF ev cJ12_init 1 ([v0, some (.ref x), v2, v3, v4], []) st h = exF ev cJ12_init 2 ([v0, some (.ref x), v2, v3, v4], []) (.ref x :: st) h := exF_j (i := (i_aload 1 2)) rfl rfl
theorem eJ12_init_1n {ev : xV} {v0 v2 v3 v4 : Option Value} {st : List Value} {h : xH} : exF ev cJ12_init 1 ([v0, some .null, v2, v3, v4], []) st h = exF ev cJ12_init 2 ([v0, some .null, v2, v3, v4], []) (.null :: st) h := exF_j (i := (i_aload 1 2)) rfl rfl
theorem eJ12_init_2 {ev : xV} {v0 v1 v3 v4 : Option Value} {x : Nat} {st : List Value} {h : xH} : exF ev cJ12_init 2 ([v0, v1, some (.ref x), v3, v4], []) st h = exF ev cJ12_init 3 ([v0, v1, some (.ref x), v3, v4], []) (.ref x :: st) h := exF_j (i := (i_aload 2 3)) rfl rfl
theorem eJ12_init_2n {ev : xV} {v0 v1 v3 v4 : Option Value} {st : List Value} {h : xH} : exF ev cJ12_init 2 ([v0, v1, some .null, v3, v4], []) st h = exF ev cJ12_init 3 ([v0, v1, some .null, v3, v4], []) (.null :: st) h := exF_j (i := (i_aload 2 3)) rfl rfl
theorem eJ12_init_3 {ev : xV} {v0 v1 v2 v4 : Option Value} {x : Int32} {st : List Value} {h : xH} : exF ev cJ12_init 3 ([v0, v1, v2, some (.int x), v4], []) st h = exF ev cJ12_init 4 ([v0, v1, v2, some (.int x), v4], []) (.int x :: st) h := exF_j (i := (i_iload 3 4)) rfl rfl
theorem eJ12_init_4 {ev : xV} {v0 v1 v2 v3 : Option Value} {x : Int32} {st : List Value} {h : xH} : exF ev cJ12_init 4 ([v0, v1, v2, v3, some (.int x)], []) st h = exF ev cJ12_init 6 ([v0, v1, v2, v3, some (.int x)], []) (.int x :: st) h := exF_j (i := (i_iload 4 6)) rfl rfl
theorem eJ12_init_6 {ev : xV} {v0 v1 v2 v3 v4 : Option Value} {a0 : Value} {a1 : Value} {a2 : Value} {a3 : Value} {a : Nat} {h : xH} : exF ev cJ12_init 6 ([v0, v1, v2, v3, v4], []) [a3, a2, a1, a0, .ref a] h = xO (xckc h [5] a) (fun _ => xBv (ev 4 [.ref a, a0, a1, a2, a3] h) (fun h => exF ev cJ12_init 9 ([v0, v1, v2, v3, v4], []) [] h)) := exF_cdv (i := (i_ci [5] 4 4 9)) rfl rfl
theorem eJ12_init_9 {ev : xV} {v0 v1 v2 v3 v4 : Option Value} {h : xH} : exF ev cJ12_init 9 ([v0, v1, v2, v3, v4], []) [] h = some (.inl none, h) := exF_r (i := (i_vret)) rfl rfl
noncomputable def cJ13_init : xC := [(0, i_aload 0 1),
  (1, i_oi 4),
  (4, i_const (.int (nI 1)) 7),
  (7, i_if1 (fun x => x = 0) 25 10),
  (10, i_aload 0 11),
  (11, i_iload 1 12),
  (12, i_newa 1 (.inl (fun _ => 0)) 14),
  (14, i_putfr 23 0 17),
  (17, i_aload 0 18),
  (18, i_const (.int (nI 0)) 19),
  (19, i_putfn .byte 23 1 22),
  (22, i_goto 38),
  (25, i_aload 0 26),
  (26, i_iload 1 27),
  (27, i_no),
  (30, i_putfr 23 0 33),
  (33, i_aload 0 34),
  (34, i_const (.int (nI 1)) 35),
  (35, i_putfn .byte 23 1 38),
  (38, i_vret)]
theorem eJ13_init_0 {ev : xV} {v1 : Option Value} {x : Nat} {st : List Value} {h : xH} : exF ev cJ13_init 0 ([some (.ref x), v1], []) st h = exF ev cJ13_init 1 ([some (.ref x), v1], []) (.ref x :: st) h := exF_j (i := (i_aload 0 1)) rfl rfl
theorem eJ13_init_1 {ev : xV} {v0 v1 : Option Value} {a : Nat} (hx : 64 ≤ a) {h : xH} : exF ev cJ13_init 1 ([v0, v1], []) [.ref a] h = exF ev cJ13_init 4 ([v0, v1], []) [] h := exF_j (i := (i_oi 4)) rfl (if_pos ⟨hx, rfl⟩)
theorem eJ13_init_4 {ev : xV} {v0 v1 : Option Value} {st : List Value} {h : xH} : exF ev cJ13_init 4 ([v0, v1], []) st h = exF ev cJ13_init 7 ([v0, v1], []) (.int (nI 1) :: st) h := exF_j (i := (i_const (.int (nI 1)) 7)) rfl rfl
theorem eJ13_init_7 {ev : xV} {v0 v1 : Option Value} {x : Int32} {st : List Value} {h : xH} : exF ev cJ13_init 7 ([v0, v1], []) (.int x :: st) h = if x = 0 then exF ev cJ13_init 25 ([v0, v1], []) st h else exF ev cJ13_init 10 ([v0, v1], []) st h := exF_b (i := (i_if1 (fun x => x = 0) 25 10)) rfl rfl
theorem eJ13_init_10 {ev : xV} {v1 : Option Value} {x : Nat} {st : List Value} {h : xH} : exF ev cJ13_init 10 ([some (.ref x), v1], []) st h = exF ev cJ13_init 11 ([some (.ref x), v1], []) (.ref x :: st) h := exF_j (i := (i_aload 0 11)) rfl rfl
theorem eJ13_init_11 {ev : xV} {v0 : Option Value} {x : Int32} {st : List Value} {h : xH} : exF ev cJ13_init 11 ([v0, some (.int x)], []) st h = exF ev cJ13_init 12 ([v0, some (.int x)], []) (.int x :: st) h := exF_j (i := (i_iload 1 12)) rfl rfl
theorem eJ13_init_12 {ev : xV} {v0 v1 : Option Value} {x : Int32} {st : List Value} {h : xH} : exF ev cJ13_init 12 ([v0, v1], []) (.int x :: st) h = xO (xcnt x) (fun k => exF ev cJ13_init 14 ([v0, v1], []) (.ref h.2.1 :: st) (xnew h (.inl (1, k, .inl (fun _ => 0))) k)) := exF_o (i := (i_newa 1 (.inl (fun _ => 0)) 14)) rfl rfl
theorem eJ13_init_14 {ev : xV} {v0 v1 : Option Value} {x a : Nat} {st : List Value} {h : xH} : exF ev cJ13_init 14 ([v0, v1], []) (.ref x :: .ref a :: st) h = xO (xpf h a 23 0 (.ref x)) (fun h => exF ev cJ13_init 17 ([v0, v1], []) st h) := exF_o (i := (i_putfr 23 0 17)) rfl rfl
theorem eJ13_init_14n {ev : xV} {v0 v1 : Option Value} {a : Nat} {st : List Value} {h : xH} : exF ev cJ13_init 14 ([v0, v1], []) (.null :: .ref a :: st) h = xO (xpf h a 23 0 .null) (fun h => exF ev cJ13_init 17 ([v0, v1], []) st h) := exF_o (i := (i_putfr 23 0 17)) rfl rfl
theorem eJ13_init_17 {ev : xV} {v1 : Option Value} {x : Nat} {st : List Value} {h : xH} : exF ev cJ13_init 17 ([some (.ref x), v1], []) st h = exF ev cJ13_init 18 ([some (.ref x), v1], []) (.ref x :: st) h := exF_j (i := (i_aload 0 18)) rfl rfl
theorem eJ13_init_18 {ev : xV} {v0 v1 : Option Value} {st : List Value} {h : xH} : exF ev cJ13_init 18 ([v0, v1], []) st h = exF ev cJ13_init 19 ([v0, v1], []) (.int (nI 0) :: st) h := exF_j (i := (i_const (.int (nI 0)) 19)) rfl rfl
theorem eJ13_init_19 {ev : xV} {v0 v1 : Option Value} {x : Int32} {a : Nat} {st : List Value} {h : xH} : exF ev cJ13_init 19 ([v0, v1], []) (.int x :: .ref a :: st) h = xO (if narrow .byte (.int x) = .int x ∧ fits .byte (.int x) = true then xpf h a 23 1 (.int x) else none) (fun h => exF ev cJ13_init 22 ([v0, v1], []) st h) := exF_o (i := (i_putfn .byte 23 1 22)) rfl rfl
theorem eJ13_init_22 {ev : xV} {v0 v1 : Option Value} {st : List Value} {h : xH} : exF ev cJ13_init 22 ([v0, v1], []) st h = exF ev cJ13_init 38 ([v0, v1], []) st h := exF_j (i := (i_goto 38)) rfl rfl
theorem eJ13_init_25 {ev : xV} {v1 : Option Value} {x : Nat} {st : List Value} {h : xH} : exF ev cJ13_init 25 ([some (.ref x), v1], []) st h = exF ev cJ13_init 26 ([some (.ref x), v1], []) (.ref x :: st) h := exF_j (i := (i_aload 0 26)) rfl rfl
theorem eJ13_init_26 {ev : xV} {v0 : Option Value} {x : Int32} {st : List Value} {h : xH} : exF ev cJ13_init 26 ([v0, some (.int x)], []) st h = exF ev cJ13_init 27 ([v0, some (.int x)], []) (.int x :: st) h := exF_j (i := (i_iload 1 27)) rfl rfl
theorem eJ13_init_30 {ev : xV} {v0 v1 : Option Value} {x a : Nat} {st : List Value} {h : xH} : exF ev cJ13_init 30 ([v0, v1], []) (.ref x :: .ref a :: st) h = xO (xpf h a 23 0 (.ref x)) (fun h => exF ev cJ13_init 33 ([v0, v1], []) st h) := exF_o (i := (i_putfr 23 0 33)) rfl rfl
theorem eJ13_init_30n {ev : xV} {v0 v1 : Option Value} {a : Nat} {st : List Value} {h : xH} : exF ev cJ13_init 30 ([v0, v1], []) (.null :: .ref a :: st) h = xO (xpf h a 23 0 .null) (fun h => exF ev cJ13_init 33 ([v0, v1], []) st h) := exF_o (i := (i_putfr 23 0 33)) rfl rfl
theorem eJ13_init_33 {ev : xV} {v1 : Option Value} {x : Nat} {st : List Value} {h : xH} : exF ev cJ13_init 33 ([some (.ref x), v1], []) st h = exF ev cJ13_init 34 ([some (.ref x), v1], []) (.ref x :: st) h := exF_j (i := (i_aload 0 34)) rfl rfl
theorem eJ13_init_34 {ev : xV} {v0 v1 : Option Value} {st : List Value} {h : xH} : exF ev cJ13_init 34 ([v0, v1], []) st h = exF ev cJ13_init 35 ([v0, v1], []) (.int (nI 1) :: st) h := exF_j (i := (i_const (.int (nI 1)) 35)) rfl rfl
theorem eJ13_init_35 {ev : xV} {v0 v1 : Option Value} {x : Int32} {a : Nat} {st : List Value} {h : xH} : exF ev cJ13_init 35 ([v0, v1], []) (.int x :: .ref a :: st) h = xO (if narrow .byte (.int x) = .int x ∧ fits .byte (.int x) = true then xpf h a 23 1 (.int x) else none) (fun h => exF ev cJ13_init 38 ([v0, v1], []) st h) := exF_o (i := (i_putfn .byte 23 1 38)) rfl rfl
theorem eJ13_init_38 {ev : xV} {v0 v1 : Option Value} {h : xH} : exF ev cJ13_init 38 ([v0, v1], []) [] h = some (.inl none, h) := exF_r (i := (i_vret)) rfl rfl
noncomputable def cJ13_append : xC := [(0, i_aload 0 1),
  (1, i_aload 0 2),
  (2, i_getf 23 3 5),
  (5, i_const (.int (nI 1)) 6),
  (6, i_ii (fun x y => x + y) 7),
  (7, i_cvv 23 10 1 10),
  (10, i_aload 0 11),
  (11, i_cv 23 12 0 14),
  (14, i_if1 (fun x => x = 0) 45 17),
  (17, i_iload 1 18),
  (18, i_cs 59 1 21),
  (21, i_if1 (fun x => x = 0) 45 24),
  (24, i_aload 0 25),
  (25, i_getf 23 0 28),
  (28, i_aload 0 29),
  (29, i_dup 30),
  (30, i_getf 23 3 33),
  (33, i_dup_x1 34),
  (34, i_const (.int (nI 1)) 35),
  (35, i_ii (fun x y => x + y) 36),
  (36, i_putfi 23 3 39),
  (39, i_iload 1 40),
  (40, i_i1 (fun x => x.toInt8.toInt32) 41),
  (41, i_si (fun v => vp_nar .byte v) 1 42),
  (42, i_goto 75),
  (45, i_aload 0 46),
  (46, i_cv 23 12 0 49),
  (49, i_if1 (fun x => x = 0) 56 52),
  (52, i_aload 0 53),
  (53, i_no),
  (56, i_aload 0 57),
  (57, i_getf 23 0 60),
  (60, i_aload 0 61),
  (61, i_dup 62),
  (62, i_getf 23 3 65),
  (65, i_dup_x1 66),
  (66, i_const (.int (nI 1)) 67),
  (67, i_ii (fun x y => x + y) 68),
  (68, i_putfi 23 3 71),
  (71, i_iload 1 72),
  (72, i_no),
  (75, i_aload 0 76),
  (76, i_aret)]
theorem eJ13_append_0 {ev : xV} {v1 : Option Value} {x : Nat} {st : List Value} {h : xH} : exF ev cJ13_append 0 ([some (.ref x), v1], []) st h = exF ev cJ13_append 1 ([some (.ref x), v1], []) (.ref x :: st) h := exF_j (i := (i_aload 0 1)) rfl rfl
theorem eJ13_append_1 {ev : xV} {v1 : Option Value} {x : Nat} {st : List Value} {h : xH} : exF ev cJ13_append 1 ([some (.ref x), v1], []) st h = exF ev cJ13_append 2 ([some (.ref x), v1], []) (.ref x :: st) h := exF_j (i := (i_aload 0 2)) rfl rfl
theorem eJ13_append_2 {ev : xV} {v0 v1 : Option Value} {a : Nat} {st : List Value} {h : xH} : exF ev cJ13_append 2 ([v0, v1], []) (.ref a :: st) h = xO (xgf h a 23 3) (fun v => exF ev cJ13_append 5 ([v0, v1], []) (v :: st) h) := exF_o (i := (i_getf 23 3 5)) rfl rfl
theorem eJ13_append_5 {ev : xV} {v0 v1 : Option Value} {st : List Value} {h : xH} : exF ev cJ13_append 5 ([v0, v1], []) st h = exF ev cJ13_append 6 ([v0, v1], []) (.int (nI 1) :: st) h := exF_j (i := (i_const (.int (nI 1)) 6)) rfl rfl
theorem eJ13_append_6 {ev : xV} {v0 v1 : Option Value} {x y : Int32} {st : List Value} {h : xH} : exF ev cJ13_append 6 ([v0, v1], []) (.int y :: .int x :: st) h = exF ev cJ13_append 7 ([v0, v1], []) (.int (x + y) :: st) h := exF_j (i := (i_ii (fun x y => x + y) 7)) rfl rfl
theorem eJ13_append_7 {ev : xV} {v0 v1 : Option Value} {a0 : Value} {a : Nat} {h : xH} : exF ev cJ13_append 7 ([v0, v1], []) [a0, .ref a] h = xO (xck h a 23) (fun _ => xBv (ev 10 [.ref a, a0] h) (fun h => exF ev cJ13_append 10 ([v0, v1], []) [] h)) := exF_cdv (i := (i_cvv 23 10 1 10)) rfl rfl
theorem eJ13_append_10 {ev : xV} {v1 : Option Value} {x : Nat} {st : List Value} {h : xH} : exF ev cJ13_append 10 ([some (.ref x), v1], []) st h = exF ev cJ13_append 11 ([some (.ref x), v1], []) (.ref x :: st) h := exF_j (i := (i_aload 0 11)) rfl rfl
theorem eJ13_append_11 {ev : xV} {v0 v1 : Option Value} {a : Nat} {h : xH} : exF ev cJ13_append 11 ([v0, v1], []) [.ref a] h = xO (xck h a 23) (fun _ => xB (ev 12 [.ref a] h) (fun v h => exF ev cJ13_append 14 ([v0, v1], []) [v] h)) := exF_cd (i := (i_cv 23 12 0 14)) rfl rfl
theorem eJ13_append_14 {ev : xV} {v0 v1 : Option Value} {x : Int32} {st : List Value} {h : xH} : exF ev cJ13_append 14 ([v0, v1], []) (.int x :: st) h = if x = 0 then exF ev cJ13_append 45 ([v0, v1], []) st h else exF ev cJ13_append 17 ([v0, v1], []) st h := exF_b (i := (i_if1 (fun x => x = 0) 45 17)) rfl rfl
theorem eJ13_append_17 {ev : xV} {v0 : Option Value} {x : Int32} {st : List Value} {h : xH} : exF ev cJ13_append 17 ([v0, some (.int x)], []) st h = exF ev cJ13_append 18 ([v0, some (.int x)], []) (.int x :: st) h := exF_j (i := (i_iload 1 18)) rfl rfl
theorem eJ13_append_18 {ev : xV} {v0 v1 : Option Value} {a0 : Value} {h : xH} : exF ev cJ13_append 18 ([v0, v1], []) [a0] h = xB (ev 59 [a0] h) (fun v h => exF ev cJ13_append 21 ([v0, v1], []) [v] h) := exF_c (i := (i_cs 59 1 21)) rfl rfl
theorem eJ13_append_21 {ev : xV} {v0 v1 : Option Value} {x : Int32} {st : List Value} {h : xH} : exF ev cJ13_append 21 ([v0, v1], []) (.int x :: st) h = if x = 0 then exF ev cJ13_append 45 ([v0, v1], []) st h else exF ev cJ13_append 24 ([v0, v1], []) st h := exF_b (i := (i_if1 (fun x => x = 0) 45 24)) rfl rfl
theorem eJ13_append_24 {ev : xV} {v1 : Option Value} {x : Nat} {st : List Value} {h : xH} : exF ev cJ13_append 24 ([some (.ref x), v1], []) st h = exF ev cJ13_append 25 ([some (.ref x), v1], []) (.ref x :: st) h := exF_j (i := (i_aload 0 25)) rfl rfl
theorem eJ13_append_25 {ev : xV} {v0 v1 : Option Value} {a : Nat} {st : List Value} {h : xH} : exF ev cJ13_append 25 ([v0, v1], []) (.ref a :: st) h = xO (xgf h a 23 0) (fun v => exF ev cJ13_append 28 ([v0, v1], []) (v :: st) h) := exF_o (i := (i_getf 23 0 28)) rfl rfl
theorem eJ13_append_28 {ev : xV} {v1 : Option Value} {x : Nat} {st : List Value} {h : xH} : exF ev cJ13_append 28 ([some (.ref x), v1], []) st h = exF ev cJ13_append 29 ([some (.ref x), v1], []) (.ref x :: st) h := exF_j (i := (i_aload 0 29)) rfl rfl
theorem eJ13_append_29 {ev : xV} {v0 v1 : Option Value} {x : Nat} {st : List Value} {h : xH} : exF ev cJ13_append 29 ([v0, v1], []) (.ref x :: st) h = exF ev cJ13_append 30 ([v0, v1], []) (.ref x :: .ref x :: st) h := exF_j (i := (i_dup 30)) rfl rfl
theorem eJ13_append_30 {ev : xV} {v0 v1 : Option Value} {a : Nat} {st : List Value} {h : xH} : exF ev cJ13_append 30 ([v0, v1], []) (.ref a :: st) h = xO (xgf h a 23 3) (fun v => exF ev cJ13_append 33 ([v0, v1], []) (v :: st) h) := exF_o (i := (i_getf 23 3 33)) rfl rfl
theorem eJ13_append_33 {ev : xV} {v0 v1 : Option Value} {x : Int32} {y : Nat} {st : List Value} {h : xH} : exF ev cJ13_append 33 ([v0, v1], []) (.int x :: .ref y :: st) h = exF ev cJ13_append 34 ([v0, v1], []) (.int x :: .ref y :: .int x :: st) h := exF_j (i := (i_dup_x1 34)) rfl rfl
theorem eJ13_append_34 {ev : xV} {v0 v1 : Option Value} {st : List Value} {h : xH} : exF ev cJ13_append 34 ([v0, v1], []) st h = exF ev cJ13_append 35 ([v0, v1], []) (.int (nI 1) :: st) h := exF_j (i := (i_const (.int (nI 1)) 35)) rfl rfl
theorem eJ13_append_35 {ev : xV} {v0 v1 : Option Value} {x y : Int32} {st : List Value} {h : xH} : exF ev cJ13_append 35 ([v0, v1], []) (.int y :: .int x :: st) h = exF ev cJ13_append 36 ([v0, v1], []) (.int (x + y) :: st) h := exF_j (i := (i_ii (fun x y => x + y) 36)) rfl rfl
theorem eJ13_append_36 {ev : xV} {v0 v1 : Option Value} {x : Int32} {a : Nat} {st : List Value} {h : xH} : exF ev cJ13_append 36 ([v0, v1], []) (.int x :: .ref a :: st) h = xO (xpf h a 23 3 (.int x)) (fun h => exF ev cJ13_append 39 ([v0, v1], []) st h) := exF_o (i := (i_putfi 23 3 39)) rfl rfl
theorem eJ13_append_39 {ev : xV} {v0 : Option Value} {x : Int32} {st : List Value} {h : xH} : exF ev cJ13_append 39 ([v0, some (.int x)], []) st h = exF ev cJ13_append 40 ([v0, some (.int x)], []) (.int x :: st) h := exF_j (i := (i_iload 1 40)) rfl rfl
theorem eJ13_append_40 {ev : xV} {v0 v1 : Option Value} {x : Int32} {st : List Value} {h : xH} : exF ev cJ13_append 40 ([v0, v1], []) (.int x :: st) h = exF ev cJ13_append 41 ([v0, v1], []) (.int (x.toInt8.toInt32) :: st) h := exF_j (i := (i_i1 (fun x => x.toInt8.toInt32) 41)) rfl rfl
theorem eJ13_append_41 {ev : xV} {v0 v1 : Option Value} {v i : Int32} {a : Nat} {st : List Value} {h : xH} : exF ev cJ13_append 41 ([v0, v1], []) (.int v :: .int i :: .ref a :: st) h = xO (xsi h 1 a i (vp_nar .byte v)) (fun h => exF ev cJ13_append 42 ([v0, v1], []) st h) := exF_o (i := (i_si (fun v => vp_nar .byte v) 1 42)) rfl rfl
theorem eJ13_append_42 {ev : xV} {v0 v1 : Option Value} {st : List Value} {h : xH} : exF ev cJ13_append 42 ([v0, v1], []) st h = exF ev cJ13_append 75 ([v0, v1], []) st h := exF_j (i := (i_goto 75)) rfl rfl
theorem eJ13_append_45 {ev : xV} {v1 : Option Value} {x : Nat} {st : List Value} {h : xH} : exF ev cJ13_append 45 ([some (.ref x), v1], []) st h = exF ev cJ13_append 46 ([some (.ref x), v1], []) (.ref x :: st) h := exF_j (i := (i_aload 0 46)) rfl rfl
theorem eJ13_append_46 {ev : xV} {v0 v1 : Option Value} {a : Nat} {h : xH} : exF ev cJ13_append 46 ([v0, v1], []) [.ref a] h = xO (xck h a 23) (fun _ => xB (ev 12 [.ref a] h) (fun v h => exF ev cJ13_append 49 ([v0, v1], []) [v] h)) := exF_cd (i := (i_cv 23 12 0 49)) rfl rfl
theorem eJ13_append_49 {ev : xV} {v0 v1 : Option Value} {x : Int32} {st : List Value} {h : xH} : exF ev cJ13_append 49 ([v0, v1], []) (.int x :: st) h = if x = 0 then exF ev cJ13_append 56 ([v0, v1], []) st h else exF ev cJ13_append 52 ([v0, v1], []) st h := exF_b (i := (i_if1 (fun x => x = 0) 56 52)) rfl rfl
theorem eJ13_append_52 {ev : xV} {v1 : Option Value} {x : Nat} {st : List Value} {h : xH} : exF ev cJ13_append 52 ([some (.ref x), v1], []) st h = exF ev cJ13_append 53 ([some (.ref x), v1], []) (.ref x :: st) h := exF_j (i := (i_aload 0 53)) rfl rfl
theorem eJ13_append_56 {ev : xV} {v1 : Option Value} {x : Nat} {st : List Value} {h : xH} : exF ev cJ13_append 56 ([some (.ref x), v1], []) st h = exF ev cJ13_append 57 ([some (.ref x), v1], []) (.ref x :: st) h := exF_j (i := (i_aload 0 57)) rfl rfl
theorem eJ13_append_57 {ev : xV} {v0 v1 : Option Value} {a : Nat} {st : List Value} {h : xH} : exF ev cJ13_append 57 ([v0, v1], []) (.ref a :: st) h = xO (xgf h a 23 0) (fun v => exF ev cJ13_append 60 ([v0, v1], []) (v :: st) h) := exF_o (i := (i_getf 23 0 60)) rfl rfl
theorem eJ13_append_60 {ev : xV} {v1 : Option Value} {x : Nat} {st : List Value} {h : xH} : exF ev cJ13_append 60 ([some (.ref x), v1], []) st h = exF ev cJ13_append 61 ([some (.ref x), v1], []) (.ref x :: st) h := exF_j (i := (i_aload 0 61)) rfl rfl
theorem eJ13_append_61 {ev : xV} {v0 v1 : Option Value} {x : Nat} {st : List Value} {h : xH} : exF ev cJ13_append 61 ([v0, v1], []) (.ref x :: st) h = exF ev cJ13_append 62 ([v0, v1], []) (.ref x :: .ref x :: st) h := exF_j (i := (i_dup 62)) rfl rfl
theorem eJ13_append_62 {ev : xV} {v0 v1 : Option Value} {a : Nat} {st : List Value} {h : xH} : exF ev cJ13_append 62 ([v0, v1], []) (.ref a :: st) h = xO (xgf h a 23 3) (fun v => exF ev cJ13_append 65 ([v0, v1], []) (v :: st) h) := exF_o (i := (i_getf 23 3 65)) rfl rfl
theorem eJ13_append_65 {ev : xV} {v0 v1 : Option Value} {x : Int32} {y : Nat} {st : List Value} {h : xH} : exF ev cJ13_append 65 ([v0, v1], []) (.int x :: .ref y :: st) h = exF ev cJ13_append 66 ([v0, v1], []) (.int x :: .ref y :: .int x :: st) h := exF_j (i := (i_dup_x1 66)) rfl rfl
theorem eJ13_append_66 {ev : xV} {v0 v1 : Option Value} {st : List Value} {h : xH} : exF ev cJ13_append 66 ([v0, v1], []) st h = exF ev cJ13_append 67 ([v0, v1], []) (.int (nI 1) :: st) h := exF_j (i := (i_const (.int (nI 1)) 67)) rfl rfl
theorem eJ13_append_67 {ev : xV} {v0 v1 : Option Value} {x y : Int32} {st : List Value} {h : xH} : exF ev cJ13_append 67 ([v0, v1], []) (.int y :: .int x :: st) h = exF ev cJ13_append 68 ([v0, v1], []) (.int (x + y) :: st) h := exF_j (i := (i_ii (fun x y => x + y) 68)) rfl rfl
theorem eJ13_append_68 {ev : xV} {v0 v1 : Option Value} {x : Int32} {a : Nat} {st : List Value} {h : xH} : exF ev cJ13_append 68 ([v0, v1], []) (.int x :: .ref a :: st) h = xO (xpf h a 23 3 (.int x)) (fun h => exF ev cJ13_append 71 ([v0, v1], []) st h) := exF_o (i := (i_putfi 23 3 71)) rfl rfl
theorem eJ13_append_71 {ev : xV} {v0 : Option Value} {x : Int32} {st : List Value} {h : xH} : exF ev cJ13_append 71 ([v0, some (.int x)], []) st h = exF ev cJ13_append 72 ([v0, some (.int x)], []) (.int x :: st) h := exF_j (i := (i_iload 1 72)) rfl rfl
theorem eJ13_append_75 {ev : xV} {v1 : Option Value} {x : Nat} {st : List Value} {h : xH} : exF ev cJ13_append 75 ([some (.ref x), v1], []) st h = exF ev cJ13_append 76 ([some (.ref x), v1], []) (.ref x :: st) h := exF_j (i := (i_aload 0 76)) rfl rfl
theorem eJ13_append_76 {ev : xV} {v0 v1 : Option Value} {x : Nat} {h : xH} : exF ev cJ13_append 76 ([v0, v1], []) [.ref x] h = some (.inl (some (.ref x)), h) := exF_r (i := (i_aret)) rfl rfl
theorem eJ13_append_76n {ev : xV} {v0 v1 : Option Value} {h : xH} : exF ev cJ13_append 76 ([v0, v1], []) [.null] h = some (.inl (some .null), h) := exF_r (i := (i_aret)) rfl rfl
noncomputable def cJ13_ensureCapacityInternal : xC := [(0, i_aload 0 1),
  (1, i_getf 23 0 4),
  (4, i_len 5),
  (5, i_aload 0 6),
  (6, i_getf 23 1 9),
  (9, i_ii (fun x y => x >>> (y &&& 31)) 10),
  (10, i_istore 2 11),
  (11, i_iload 1 12),
  (12, i_iload 2 13),
  (13, i_ii (fun x y => x - y) 14),
  (14, i_if1 (fun x => x ≤ 0) 38 17),
  (17, i_aload 0 18),
  (18, i_aload 0 19),
  (19, i_getf 23 0 22),
  (22, i_aload 0 23),
  (23, i_iload 1 24),
  (24, i_no),
  (27, i_aload 0 28),
  (28, i_getf 23 1 31),
  (31, i_ii (fun x y => x <<< (y &&& 31)) 32),
  (32, i_no),
  (35, i_putfr 23 0 38),
  (38, i_vret)]
theorem eJ13_ensureCapacityInternal_0 {ev : xV} {v1 v2 : Option Value} {x : Nat} {st : List Value} {h : xH} : exF ev cJ13_ensureCapacityInternal 0 ([some (.ref x), v1, v2], []) st h = exF ev cJ13_ensureCapacityInternal 1 ([some (.ref x), v1, v2], []) (.ref x :: st) h := exF_j (i := (i_aload 0 1)) rfl rfl
theorem eJ13_ensureCapacityInternal_1 {ev : xV} {v0 v1 v2 : Option Value} {a : Nat} {st : List Value} {h : xH} : exF ev cJ13_ensureCapacityInternal 1 ([v0, v1, v2], []) (.ref a :: st) h = xO (xgf h a 23 0) (fun v => exF ev cJ13_ensureCapacityInternal 4 ([v0, v1, v2], []) (v :: st) h) := exF_o (i := (i_getf 23 0 4)) rfl rfl
theorem eJ13_ensureCapacityInternal_4 {ev : xV} {v0 v1 v2 : Option Value} {a : Nat} {st : List Value} {h : xH} : exF ev cJ13_ensureCapacityInternal 4 ([v0, v1, v2], []) (.ref a :: st) h = xO (xlen h a) (fun v => exF ev cJ13_ensureCapacityInternal 5 ([v0, v1, v2], []) (.int v :: st) h) := exF_o (i := (i_len 5)) rfl rfl
theorem eJ13_ensureCapacityInternal_5 {ev : xV} {v1 v2 : Option Value} {x : Nat} {st : List Value} {h : xH} : exF ev cJ13_ensureCapacityInternal 5 ([some (.ref x), v1, v2], []) st h = exF ev cJ13_ensureCapacityInternal 6 ([some (.ref x), v1, v2], []) (.ref x :: st) h := exF_j (i := (i_aload 0 6)) rfl rfl
theorem eJ13_ensureCapacityInternal_6 {ev : xV} {v0 v1 v2 : Option Value} {a : Nat} {st : List Value} {h : xH} : exF ev cJ13_ensureCapacityInternal 6 ([v0, v1, v2], []) (.ref a :: st) h = xO (xgf h a 23 1) (fun v => exF ev cJ13_ensureCapacityInternal 9 ([v0, v1, v2], []) (v :: st) h) := exF_o (i := (i_getf 23 1 9)) rfl rfl
theorem eJ13_ensureCapacityInternal_9 {ev : xV} {v0 v1 v2 : Option Value} {x y : Int32} {st : List Value} {h : xH} : exF ev cJ13_ensureCapacityInternal 9 ([v0, v1, v2], []) (.int y :: .int x :: st) h = exF ev cJ13_ensureCapacityInternal 10 ([v0, v1, v2], []) (.int (x >>> (y &&& 31)) :: st) h := exF_j (i := (i_ii (fun x y => x >>> (y &&& 31)) 10)) rfl rfl
theorem eJ13_ensureCapacityInternal_10 {ev : xV} {v0 v1 v2 : Option Value} {x : Int32} {st : List Value} {h : xH} : exF ev cJ13_ensureCapacityInternal 10 ([v0, v1, v2], []) (.int x :: st) h = exF ev cJ13_ensureCapacityInternal 11 ([v0, v1, some (.int x)], []) st h := exF_j (i := (i_istore 2 11)) rfl rfl
theorem eJ13_ensureCapacityInternal_11 {ev : xV} {v0 v2 : Option Value} {x : Int32} {st : List Value} {h : xH} : exF ev cJ13_ensureCapacityInternal 11 ([v0, some (.int x), v2], []) st h = exF ev cJ13_ensureCapacityInternal 12 ([v0, some (.int x), v2], []) (.int x :: st) h := exF_j (i := (i_iload 1 12)) rfl rfl
theorem eJ13_ensureCapacityInternal_12 {ev : xV} {v0 v1 : Option Value} {x : Int32} {st : List Value} {h : xH} : exF ev cJ13_ensureCapacityInternal 12 ([v0, v1, some (.int x)], []) st h = exF ev cJ13_ensureCapacityInternal 13 ([v0, v1, some (.int x)], []) (.int x :: st) h := exF_j (i := (i_iload 2 13)) rfl rfl
theorem eJ13_ensureCapacityInternal_13 {ev : xV} {v0 v1 v2 : Option Value} {x y : Int32} {st : List Value} {h : xH} : exF ev cJ13_ensureCapacityInternal 13 ([v0, v1, v2], []) (.int y :: .int x :: st) h = exF ev cJ13_ensureCapacityInternal 14 ([v0, v1, v2], []) (.int (x - y) :: st) h := exF_j (i := (i_ii (fun x y => x - y) 14)) rfl rfl
theorem eJ13_ensureCapacityInternal_14 {ev : xV} {v0 v1 v2 : Option Value} {x : Int32} {st : List Value} {h : xH} : exF ev cJ13_ensureCapacityInternal 14 ([v0, v1, v2], []) (.int x :: st) h = if x ≤ 0 then exF ev cJ13_ensureCapacityInternal 38 ([v0, v1, v2], []) st h else exF ev cJ13_ensureCapacityInternal 17 ([v0, v1, v2], []) st h := exF_b (i := (i_if1 (fun x => x ≤ 0) 38 17)) rfl rfl
theorem eJ13_ensureCapacityInternal_17 {ev : xV} {v1 v2 : Option Value} {x : Nat} {st : List Value} {h : xH} : exF ev cJ13_ensureCapacityInternal 17 ([some (.ref x), v1, v2], []) st h = exF ev cJ13_ensureCapacityInternal 18 ([some (.ref x), v1, v2], []) (.ref x :: st) h := exF_j (i := (i_aload 0 18)) rfl rfl
theorem eJ13_ensureCapacityInternal_18 {ev : xV} {v1 v2 : Option Value} {x : Nat} {st : List Value} {h : xH} : exF ev cJ13_ensureCapacityInternal 18 ([some (.ref x), v1, v2], []) st h = exF ev cJ13_ensureCapacityInternal 19 ([some (.ref x), v1, v2], []) (.ref x :: st) h := exF_j (i := (i_aload 0 19)) rfl rfl
theorem eJ13_ensureCapacityInternal_19 {ev : xV} {v0 v1 v2 : Option Value} {a : Nat} {st : List Value} {h : xH} : exF ev cJ13_ensureCapacityInternal 19 ([v0, v1, v2], []) (.ref a :: st) h = xO (xgf h a 23 0) (fun v => exF ev cJ13_ensureCapacityInternal 22 ([v0, v1, v2], []) (v :: st) h) := exF_o (i := (i_getf 23 0 22)) rfl rfl
theorem eJ13_ensureCapacityInternal_22 {ev : xV} {v1 v2 : Option Value} {x : Nat} {st : List Value} {h : xH} : exF ev cJ13_ensureCapacityInternal 22 ([some (.ref x), v1, v2], []) st h = exF ev cJ13_ensureCapacityInternal 23 ([some (.ref x), v1, v2], []) (.ref x :: st) h := exF_j (i := (i_aload 0 23)) rfl rfl
theorem eJ13_ensureCapacityInternal_23 {ev : xV} {v0 v2 : Option Value} {x : Int32} {st : List Value} {h : xH} : exF ev cJ13_ensureCapacityInternal 23 ([v0, some (.int x), v2], []) st h = exF ev cJ13_ensureCapacityInternal 24 ([v0, some (.int x), v2], []) (.int x :: st) h := exF_j (i := (i_iload 1 24)) rfl rfl
theorem eJ13_ensureCapacityInternal_27 {ev : xV} {v1 v2 : Option Value} {x : Nat} {st : List Value} {h : xH} : exF ev cJ13_ensureCapacityInternal 27 ([some (.ref x), v1, v2], []) st h = exF ev cJ13_ensureCapacityInternal 28 ([some (.ref x), v1, v2], []) (.ref x :: st) h := exF_j (i := (i_aload 0 28)) rfl rfl
theorem eJ13_ensureCapacityInternal_28 {ev : xV} {v0 v1 v2 : Option Value} {a : Nat} {st : List Value} {h : xH} : exF ev cJ13_ensureCapacityInternal 28 ([v0, v1, v2], []) (.ref a :: st) h = xO (xgf h a 23 1) (fun v => exF ev cJ13_ensureCapacityInternal 31 ([v0, v1, v2], []) (v :: st) h) := exF_o (i := (i_getf 23 1 31)) rfl rfl
theorem eJ13_ensureCapacityInternal_31 {ev : xV} {v0 v1 v2 : Option Value} {x y : Int32} {st : List Value} {h : xH} : exF ev cJ13_ensureCapacityInternal 31 ([v0, v1, v2], []) (.int y :: .int x :: st) h = exF ev cJ13_ensureCapacityInternal 32 ([v0, v1, v2], []) (.int (x <<< (y &&& 31)) :: st) h := exF_j (i := (i_ii (fun x y => x <<< (y &&& 31)) 32)) rfl rfl
theorem eJ13_ensureCapacityInternal_35 {ev : xV} {v0 v1 v2 : Option Value} {x a : Nat} {st : List Value} {h : xH} : exF ev cJ13_ensureCapacityInternal 35 ([v0, v1, v2], []) (.ref x :: .ref a :: st) h = xO (xpf h a 23 0 (.ref x)) (fun h => exF ev cJ13_ensureCapacityInternal 38 ([v0, v1, v2], []) st h) := exF_o (i := (i_putfr 23 0 38)) rfl rfl
theorem eJ13_ensureCapacityInternal_35n {ev : xV} {v0 v1 v2 : Option Value} {a : Nat} {st : List Value} {h : xH} : exF ev cJ13_ensureCapacityInternal 35 ([v0, v1, v2], []) (.null :: .ref a :: st) h = xO (xpf h a 23 0 .null) (fun h => exF ev cJ13_ensureCapacityInternal 38 ([v0, v1, v2], []) st h) := exF_o (i := (i_putfr 23 0 38)) rfl rfl
theorem eJ13_ensureCapacityInternal_38 {ev : xV} {v0 v1 v2 : Option Value} {h : xH} : exF ev cJ13_ensureCapacityInternal 38 ([v0, v1, v2], []) [] h = some (.inl none, h) := exF_r (i := (i_vret)) rfl rfl
noncomputable def cJ13_isLatin1 : xC := [(0, i_const (.int (nI 1)) 3),
  (3, i_if1 (fun x => x = 0) 17 6),
  (6, i_aload 0 7),
  (7, i_getf 23 1 10),
  (10, i_if1 (fun x => ¬ x = 0) 17 13),
  (13, i_const (.int (nI 1)) 14),
  (14, i_goto 18),
  (17, i_const (.int (nI 0)) 18),
  (18, i_zret)]
theorem eJ13_isLatin1_0 {ev : xV} {v0 : Option Value} {st : List Value} {h : xH} : exF ev cJ13_isLatin1 0 ([v0], []) st h = exF ev cJ13_isLatin1 3 ([v0], []) (.int (nI 1) :: st) h := exF_j (i := (i_const (.int (nI 1)) 3)) rfl rfl
theorem eJ13_isLatin1_3 {ev : xV} {v0 : Option Value} {x : Int32} {st : List Value} {h : xH} : exF ev cJ13_isLatin1 3 ([v0], []) (.int x :: st) h = if x = 0 then exF ev cJ13_isLatin1 17 ([v0], []) st h else exF ev cJ13_isLatin1 6 ([v0], []) st h := exF_b (i := (i_if1 (fun x => x = 0) 17 6)) rfl rfl
theorem eJ13_isLatin1_6 {ev : xV} {x : Nat} {st : List Value} {h : xH} : exF ev cJ13_isLatin1 6 ([some (.ref x)], []) st h = exF ev cJ13_isLatin1 7 ([some (.ref x)], []) (.ref x :: st) h := exF_j (i := (i_aload 0 7)) rfl rfl
theorem eJ13_isLatin1_7 {ev : xV} {v0 : Option Value} {a : Nat} {st : List Value} {h : xH} : exF ev cJ13_isLatin1 7 ([v0], []) (.ref a :: st) h = xO (xgf h a 23 1) (fun v => exF ev cJ13_isLatin1 10 ([v0], []) (v :: st) h) := exF_o (i := (i_getf 23 1 10)) rfl rfl
theorem eJ13_isLatin1_10 {ev : xV} {v0 : Option Value} {x : Int32} {st : List Value} {h : xH} : exF ev cJ13_isLatin1 10 ([v0], []) (.int x :: st) h = if ¬ x = 0 then exF ev cJ13_isLatin1 17 ([v0], []) st h else exF ev cJ13_isLatin1 13 ([v0], []) st h := exF_b (i := (i_if1 (fun x => ¬ x = 0) 17 13)) rfl rfl
theorem eJ13_isLatin1_13 {ev : xV} {v0 : Option Value} {st : List Value} {h : xH} : exF ev cJ13_isLatin1 13 ([v0], []) st h = exF ev cJ13_isLatin1 14 ([v0], []) (.int (nI 1) :: st) h := exF_j (i := (i_const (.int (nI 1)) 14)) rfl rfl
theorem eJ13_isLatin1_14 {ev : xV} {v0 : Option Value} {st : List Value} {h : xH} : exF ev cJ13_isLatin1 14 ([v0], []) st h = exF ev cJ13_isLatin1 18 ([v0], []) st h := exF_j (i := (i_goto 18)) rfl rfl
theorem eJ13_isLatin1_17 {ev : xV} {v0 : Option Value} {st : List Value} {h : xH} : exF ev cJ13_isLatin1 17 ([v0], []) st h = exF ev cJ13_isLatin1 18 ([v0], []) (.int (nI 0) :: st) h := exF_j (i := (i_const (.int (nI 0)) 18)) rfl rfl
theorem eJ13_isLatin1_18 {ev : xV} {v0 : Option Value} {x : Int32} {h : xH} : exF ev cJ13_isLatin1 18 ([v0], []) [.int x] h = if x = nI 0 ∨ x = nI 1 then some (.inl (some (.int x)), h) else none := exF_z (i := (i_zret)) rfl rfl
theorem eJ13_isLatin1_18b0 {ev : xV} {v0 : Option Value} {h : xH} : exF ev cJ13_isLatin1 18 ([v0], []) [.int (nI 0)] h = some (.inl (some (.int (nI 0))), h) := exF_r (i := (i_zret)) rfl i_zret_0
theorem eJ13_isLatin1_18b1 {ev : xV} {v0 : Option Value} {h : xH} : exF ev cJ13_isLatin1 18 ([v0], []) [.int (nI 1)] h = some (.inl (some (.int (nI 1))), h) := exF_r (i := (i_zret)) rfl i_zret_1
theorem eJ13_isLatin1_18b {ev : xV} {v0 : Option Value} {b : Bool} {h : xH} : exF ev cJ13_isLatin1 18 ([v0], []) [.int (bI b)] h = some (.inl (some (.int (bI b))), h) := exF_r (i := (i_zret)) rfl (i_zret_b b)
noncomputable def cJ13_getValue : xC := [(0, i_aload 0 1),
  (1, i_getf 23 0 4),
  (4, i_aret)]
theorem eJ13_getValue_0 {ev : xV} {x : Nat} {st : List Value} {h : xH} : exF ev cJ13_getValue 0 ([some (.ref x)], []) st h = exF ev cJ13_getValue 1 ([some (.ref x)], []) (.ref x :: st) h := exF_j (i := (i_aload 0 1)) rfl rfl
theorem eJ13_getValue_1 {ev : xV} {v0 : Option Value} {a : Nat} {st : List Value} {h : xH} : exF ev cJ13_getValue 1 ([v0], []) (.ref a :: st) h = xO (xgf h a 23 0) (fun v => exF ev cJ13_getValue 4 ([v0], []) (v :: st) h) := exF_o (i := (i_getf 23 0 4)) rfl rfl
theorem eJ13_getValue_4 {ev : xV} {v0 : Option Value} {x : Nat} {h : xH} : exF ev cJ13_getValue 4 ([v0], []) [.ref x] h = some (.inl (some (.ref x)), h) := exF_r (i := (i_aret)) rfl rfl
theorem eJ13_getValue_4n {ev : xV} {v0 : Option Value} {h : xH} : exF ev cJ13_getValue 4 ([v0], []) [.null] h = some (.inl (some .null), h) := exF_r (i := (i_aret)) rfl rfl
noncomputable def cJ13_length : xC := [(0, i_aload 0 1),
  (1, i_getf 23 3 4),
  (4, i_iret)]
theorem eJ13_length_0 {ev : xV} {x : Nat} {st : List Value} {h : xH} : exF ev cJ13_length 0 ([some (.ref x)], []) st h = exF ev cJ13_length 1 ([some (.ref x)], []) (.ref x :: st) h := exF_j (i := (i_aload 0 1)) rfl rfl
theorem eJ13_length_1 {ev : xV} {v0 : Option Value} {a : Nat} {st : List Value} {h : xH} : exF ev cJ13_length 1 ([v0], []) (.ref a :: st) h = xO (xgf h a 23 3) (fun v => exF ev cJ13_length 4 ([v0], []) (v :: st) h) := exF_o (i := (i_getf 23 3 4)) rfl rfl
theorem eJ13_length_4 {ev : xV} {v0 : Option Value} {x : Int32} {h : xH} : exF ev cJ13_length 4 ([v0], []) [.int x] h = some (.inl (some (.int x)), h) := exF_r (i := (i_iret)) rfl rfl
noncomputable def cJ14_init : xC := [(0, i_aload 0 1),
  (1, i_iload 1 2),
  (2, i_ci [23] 8 1 5),
  (5, i_vret)]
theorem eJ14_init_0 {ev : xV} {v1 : Option Value} {x : Nat} {st : List Value} {h : xH} : exF ev cJ14_init 0 ([some (.ref x), v1], []) st h = exF ev cJ14_init 1 ([some (.ref x), v1], []) (.ref x :: st) h := exF_j (i := (i_aload 0 1)) rfl rfl
theorem eJ14_init_1 {ev : xV} {v0 : Option Value} {x : Int32} {st : List Value} {h : xH} : exF ev cJ14_init 1 ([v0, some (.int x)], []) st h = exF ev cJ14_init 2 ([v0, some (.int x)], []) (.int x :: st) h := exF_j (i := (i_iload 1 2)) rfl rfl
theorem eJ14_init_2 {ev : xV} {v0 v1 : Option Value} {a0 : Value} {a : Nat} {h : xH} : exF ev cJ14_init 2 ([v0, v1], []) [a0, .ref a] h = xO (xckc h [23] a) (fun _ => xBv (ev 8 [.ref a, a0] h) (fun h => exF ev cJ14_init 5 ([v0, v1], []) [] h)) := exF_cdv (i := (i_ci [23] 8 1 5)) rfl rfl
theorem eJ14_init_5 {ev : xV} {v0 v1 : Option Value} {h : xH} : exF ev cJ14_init 5 ([v0, v1], []) [] h = some (.inl none, h) := exF_r (i := (i_vret)) rfl rfl
noncomputable def cJ14_append : xC := [(0, i_aload 0 1),
  (1, i_iload 1 2),
  (2, i_cir [23] 9 1 5),
  (5, i_pop 6),
  (6, i_aload 0 7),
  (7, i_aret)]
theorem eJ14_append_0 {ev : xV} {v1 : Option Value} {x : Nat} {st : List Value} {h : xH} : exF ev cJ14_append 0 ([some (.ref x), v1], []) st h = exF ev cJ14_append 1 ([some (.ref x), v1], []) (.ref x :: st) h := exF_j (i := (i_aload 0 1)) rfl rfl
theorem eJ14_append_1 {ev : xV} {v0 : Option Value} {x : Int32} {st : List Value} {h : xH} : exF ev cJ14_append 1 ([v0, some (.int x)], []) st h = exF ev cJ14_append 2 ([v0, some (.int x)], []) (.int x :: st) h := exF_j (i := (i_iload 1 2)) rfl rfl
theorem eJ14_append_2 {ev : xV} {v0 v1 : Option Value} {a0 : Value} {a : Nat} {h : xH} : exF ev cJ14_append 2 ([v0, v1], []) [a0, .ref a] h = xO (xckc h [23] a) (fun _ => xB (ev 9 [.ref a, a0] h) (fun v h => exF ev cJ14_append 5 ([v0, v1], []) [v] h)) := exF_cd (i := (i_cir [23] 9 1 5)) rfl rfl
theorem eJ14_append_5 {ev : xV} {v0 v1 : Option Value} {x : Nat} {st : List Value} {h : xH} : exF ev cJ14_append 5 ([v0, v1], []) (.ref x :: st) h = exF ev cJ14_append 6 ([v0, v1], []) st h := exF_j (i := (i_pop 6)) rfl rfl
theorem eJ14_append_6 {ev : xV} {v1 : Option Value} {x : Nat} {st : List Value} {h : xH} : exF ev cJ14_append 6 ([some (.ref x), v1], []) st h = exF ev cJ14_append 7 ([some (.ref x), v1], []) (.ref x :: st) h := exF_j (i := (i_aload 0 7)) rfl rfl
theorem eJ14_append_7 {ev : xV} {v0 v1 : Option Value} {x : Nat} {h : xH} : exF ev cJ14_append 7 ([v0, v1], []) [.ref x] h = some (.inl (some (.ref x)), h) := exF_r (i := (i_aret)) rfl rfl
theorem eJ14_append_7n {ev : xV} {v0 v1 : Option Value} {h : xH} : exF ev cJ14_append 7 ([v0, v1], []) [.null] h = some (.inl (some .null), h) := exF_r (i := (i_aret)) rfl rfl
noncomputable def cJ14_toString : xC := [(0, i_new 22 4 zJ5 3),
  (3, i_dup 4),
  (4, i_aload 0 5),
  (5, i_ci [22] 52 1 8),
  (8, i_aret)]
theorem eJ14_toString_0 {ev : xV} {v0 : Option Value} {st : List Value} {h : xH} : exF ev cJ14_toString 0 ([v0], []) st h = exF ev cJ14_toString 3 ([v0], []) (.ref h.2.1 :: st) (xnew h (.inr (22, zJ5)) 4) := exF_j (i := (i_new 22 4 zJ5 3)) rfl rfl
theorem eJ14_toString_3 {ev : xV} {v0 : Option Value} {x : Nat} {st : List Value} {h : xH} : exF ev cJ14_toString 3 ([v0], []) (.ref x :: st) h = exF ev cJ14_toString 4 ([v0], []) (.ref x :: .ref x :: st) h := exF_j (i := (i_dup 4)) rfl rfl
theorem eJ14_toString_4 {ev : xV} {x : Nat} {st : List Value} {h : xH} : exF ev cJ14_toString 4 ([some (.ref x)], []) st h = exF ev cJ14_toString 5 ([some (.ref x)], []) (.ref x :: st) h := exF_j (i := (i_aload 0 5)) rfl rfl
theorem eJ14_toString_5 {ev : xV} {v0 : Option Value} {a0 : Value} {r0 : Value} {a : Nat} {h : xH} : exF ev cJ14_toString 5 ([v0], []) [a0, .ref a, r0] h = xO (xckc h [22] a) (fun _ => xBv (ev 52 [.ref a, a0] h) (fun h => exF ev cJ14_toString 8 ([v0], []) [r0] h)) := exF_cdv (i := (i_ci [22] 52 1 8)) rfl rfl
theorem eJ14_toString_8 {ev : xV} {v0 : Option Value} {x : Nat} {h : xH} : exF ev cJ14_toString 8 ([v0], []) [.ref x] h = some (.inl (some (.ref x)), h) := exF_r (i := (i_aret)) rfl rfl
theorem eJ14_toString_8n {ev : xV} {v0 : Option Value} {h : xH} : exF ev cJ14_toString 8 ([v0], []) [.null] h = some (.inl (some .null), h) := exF_r (i := (i_aret)) rfl rfl
noncomputable def cJ14_length : xC := [(0, i_aload 0 1),
  (1, i_cir [23] 15 0 4),
  (4, i_iret)]
theorem eJ14_length_0 {ev : xV} {x : Nat} {st : List Value} {h : xH} : exF ev cJ14_length 0 ([some (.ref x)], []) st h = exF ev cJ14_length 1 ([some (.ref x)], []) (.ref x :: st) h := exF_j (i := (i_aload 0 1)) rfl rfl
theorem eJ14_length_1 {ev : xV} {v0 : Option Value} {a : Nat} {h : xH} : exF ev cJ14_length 1 ([v0], []) [.ref a] h = xO (xckc h [23] a) (fun _ => xB (ev 15 [.ref a] h) (fun v h => exF ev cJ14_length 4 ([v0], []) [v] h)) := exF_cd (i := (i_cir [23] 15 0 4)) rfl rfl
theorem eJ14_length_4 {ev : xV} {v0 : Option Value} {x : Int32} {h : xH} : exF ev cJ14_length 4 ([v0], []) [.int x] h = some (.inl (some (.int x)), h) := exF_r (i := (i_iret)) rfl rfl
noncomputable def cJ15_newLength : xC := [(0, i_iload 0 1),
  (1, i_iload 1 2),
  (2, i_iload 2 3),
  (3, i_cs 62 2 6),
  (6, i_ii (fun x y => x + y) 7),
  (7, i_istore 3 8),
  (8, i_const (.int (nI 0)) 9),
  (9, i_iload 3 10),
  (10, i_if2 (fun x y => y ≤ x) 21 13),
  (13, i_iload 3 14),
  (14, i_const (.int (nI 2147483639)) 16),
  (16, i_if2 (fun x y => y < x) 21 19),
  (19, i_iload 3 20),
  (20, i_iret),
  (21, i_iload 0 22),
  (22, i_iload 1 23),
  (23, i_no),
  (26, i_iret)]
theorem eJ15_newLength_0 {ev : xV} {v1 v2 v3 : Option Value} {x : Int32} {st : List Value} {h : xH} : exF ev cJ15_newLength 0 ([some (.int x), v1, v2, v3], []) st h = exF ev cJ15_newLength 1 ([some (.int x), v1, v2, v3], []) (.int x :: st) h := exF_j (i := (i_iload 0 1)) rfl rfl
theorem eJ15_newLength_1 {ev : xV} {v0 v2 v3 : Option Value} {x : Int32} {st : List Value} {h : xH} : exF ev cJ15_newLength 1 ([v0, some (.int x), v2, v3], []) st h = exF ev cJ15_newLength 2 ([v0, some (.int x), v2, v3], []) (.int x :: st) h := exF_j (i := (i_iload 1 2)) rfl rfl
theorem eJ15_newLength_2 {ev : xV} {v0 v1 v3 : Option Value} {x : Int32} {st : List Value} {h : xH} : exF ev cJ15_newLength 2 ([v0, v1, some (.int x), v3], []) st h = exF ev cJ15_newLength 3 ([v0, v1, some (.int x), v3], []) (.int x :: st) h := exF_j (i := (i_iload 2 3)) rfl rfl
theorem eJ15_newLength_3 {ev : xV} {v0 v1 v2 v3 : Option Value} {a0 : Value} {a1 : Value} {r0 : Value} {h : xH} : exF ev cJ15_newLength 3 ([v0, v1, v2, v3], []) [a1, a0, r0] h = xB (ev 62 [a0, a1] h) (fun v h => exF ev cJ15_newLength 6 ([v0, v1, v2, v3], []) [v, r0] h) := exF_c (i := (i_cs 62 2 6)) rfl rfl
theorem eJ15_newLength_6 {ev : xV} {v0 v1 v2 v3 : Option Value} {x y : Int32} {st : List Value} {h : xH} : exF ev cJ15_newLength 6 ([v0, v1, v2, v3], []) (.int y :: .int x :: st) h = exF ev cJ15_newLength 7 ([v0, v1, v2, v3], []) (.int (x + y) :: st) h := exF_j (i := (i_ii (fun x y => x + y) 7)) rfl rfl
theorem eJ15_newLength_7 {ev : xV} {v0 v1 v2 v3 : Option Value} {x : Int32} {st : List Value} {h : xH} : exF ev cJ15_newLength 7 ([v0, v1, v2, v3], []) (.int x :: st) h = exF ev cJ15_newLength 8 ([v0, v1, v2, some (.int x)], []) st h := exF_j (i := (i_istore 3 8)) rfl rfl
theorem eJ15_newLength_8 {ev : xV} {v0 v1 v2 v3 : Option Value} {st : List Value} {h : xH} : exF ev cJ15_newLength 8 ([v0, v1, v2, v3], []) st h = exF ev cJ15_newLength 9 ([v0, v1, v2, v3], []) (.int (nI 0) :: st) h := exF_j (i := (i_const (.int (nI 0)) 9)) rfl rfl
theorem eJ15_newLength_9 {ev : xV} {v0 v1 v2 : Option Value} {x : Int32} {st : List Value} {h : xH} : exF ev cJ15_newLength 9 ([v0, v1, v2, some (.int x)], []) st h = exF ev cJ15_newLength 10 ([v0, v1, v2, some (.int x)], []) (.int x :: st) h := exF_j (i := (i_iload 3 10)) rfl rfl
theorem eJ15_newLength_10 {ev : xV} {v0 v1 v2 v3 : Option Value} {x y : Int32} {st : List Value} {h : xH} : exF ev cJ15_newLength 10 ([v0, v1, v2, v3], []) (.int y :: .int x :: st) h = if y ≤ x then exF ev cJ15_newLength 21 ([v0, v1, v2, v3], []) st h else exF ev cJ15_newLength 13 ([v0, v1, v2, v3], []) st h := exF_b (i := (i_if2 (fun x y => y ≤ x) 21 13)) rfl rfl
theorem eJ15_newLength_13 {ev : xV} {v0 v1 v2 : Option Value} {x : Int32} {st : List Value} {h : xH} : exF ev cJ15_newLength 13 ([v0, v1, v2, some (.int x)], []) st h = exF ev cJ15_newLength 14 ([v0, v1, v2, some (.int x)], []) (.int x :: st) h := exF_j (i := (i_iload 3 14)) rfl rfl
theorem eJ15_newLength_14 {ev : xV} {v0 v1 v2 v3 : Option Value} {st : List Value} {h : xH} : exF ev cJ15_newLength 14 ([v0, v1, v2, v3], []) st h = exF ev cJ15_newLength 16 ([v0, v1, v2, v3], []) (.int (nI 2147483639) :: st) h := exF_j (i := (i_const (.int (nI 2147483639)) 16)) rfl rfl
theorem eJ15_newLength_16 {ev : xV} {v0 v1 v2 v3 : Option Value} {x y : Int32} {st : List Value} {h : xH} : exF ev cJ15_newLength 16 ([v0, v1, v2, v3], []) (.int y :: .int x :: st) h = if y < x then exF ev cJ15_newLength 21 ([v0, v1, v2, v3], []) st h else exF ev cJ15_newLength 19 ([v0, v1, v2, v3], []) st h := exF_b (i := (i_if2 (fun x y => y < x) 21 19)) rfl rfl
theorem eJ15_newLength_19 {ev : xV} {v0 v1 v2 : Option Value} {x : Int32} {st : List Value} {h : xH} : exF ev cJ15_newLength 19 ([v0, v1, v2, some (.int x)], []) st h = exF ev cJ15_newLength 20 ([v0, v1, v2, some (.int x)], []) (.int x :: st) h := exF_j (i := (i_iload 3 20)) rfl rfl
theorem eJ15_newLength_20 {ev : xV} {v0 v1 v2 v3 : Option Value} {x : Int32} {h : xH} : exF ev cJ15_newLength 20 ([v0, v1, v2, v3], []) [.int x] h = some (.inl (some (.int x)), h) := exF_r (i := (i_iret)) rfl rfl
theorem eJ15_newLength_21 {ev : xV} {v1 v2 v3 : Option Value} {x : Int32} {st : List Value} {h : xH} : exF ev cJ15_newLength 21 ([some (.int x), v1, v2, v3], []) st h = exF ev cJ15_newLength 22 ([some (.int x), v1, v2, v3], []) (.int x :: st) h := exF_j (i := (i_iload 0 22)) rfl rfl
theorem eJ15_newLength_22 {ev : xV} {v0 v2 v3 : Option Value} {x : Int32} {st : List Value} {h : xH} : exF ev cJ15_newLength 22 ([v0, some (.int x), v2, v3], []) st h = exF ev cJ15_newLength 23 ([v0, some (.int x), v2, v3], []) (.int x :: st) h := exF_j (i := (i_iload 1 23)) rfl rfl
theorem eJ15_newLength_26 {ev : xV} {v0 v1 v2 v3 : Option Value} {x : Int32} {h : xH} : exF ev cJ15_newLength 26 ([v0, v1, v2, v3], []) [.int x] h = some (.inl (some (.int x)), h) := exF_r (i := (i_iret)) rfl rfl
noncomputable def cJ16_copyOfRange : xC := [(0, i_iload 1 1),
  (1, i_if1 (fun x => ¬ x = 0) 10 4),
  (4, i_iload 2 5),
  (5, i_aload 0 6),
  (6, i_len 7),
  (7, i_if2 (fun x y => x = y) 17 10),
  (10, i_aload 0 11),
  (11, i_iload 1 12),
  (12, i_iload 2 13),
  (13, i_cs 24 3 16),
  (16, i_aret),
  (17, i_aload 0 18),
  (18, i_clone 21),
  (21, i_castB 24),
  (24, i_aret)]
theorem eJ16_copyOfRange_0 {ev : xV} {v0 v2 : Option Value} {x : Int32} {st : List Value} {h : xH} : exF ev cJ16_copyOfRange 0 ([v0, some (.int x), v2], []) st h = exF ev cJ16_copyOfRange 1 ([v0, some (.int x), v2], []) (.int x :: st) h := exF_j (i := (i_iload 1 1)) rfl rfl
theorem eJ16_copyOfRange_1 {ev : xV} {v0 v1 v2 : Option Value} {x : Int32} {st : List Value} {h : xH} : exF ev cJ16_copyOfRange 1 ([v0, v1, v2], []) (.int x :: st) h = if ¬ x = 0 then exF ev cJ16_copyOfRange 10 ([v0, v1, v2], []) st h else exF ev cJ16_copyOfRange 4 ([v0, v1, v2], []) st h := exF_b (i := (i_if1 (fun x => ¬ x = 0) 10 4)) rfl rfl
theorem eJ16_copyOfRange_4 {ev : xV} {v0 v1 : Option Value} {x : Int32} {st : List Value} {h : xH} : exF ev cJ16_copyOfRange 4 ([v0, v1, some (.int x)], []) st h = exF ev cJ16_copyOfRange 5 ([v0, v1, some (.int x)], []) (.int x :: st) h := exF_j (i := (i_iload 2 5)) rfl rfl
theorem eJ16_copyOfRange_5 {ev : xV} {v1 v2 : Option Value} {x : Nat} {st : List Value} {h : xH} : exF ev cJ16_copyOfRange 5 ([some (.ref x), v1, v2], []) st h = exF ev cJ16_copyOfRange 6 ([some (.ref x), v1, v2], []) (.ref x :: st) h := exF_j (i := (i_aload 0 6)) rfl rfl
theorem eJ16_copyOfRange_5n {ev : xV} {v1 v2 : Option Value} {st : List Value} {h : xH} : exF ev cJ16_copyOfRange 5 ([some .null, v1, v2], []) st h = exF ev cJ16_copyOfRange 6 ([some .null, v1, v2], []) (.null :: st) h := exF_j (i := (i_aload 0 6)) rfl rfl
theorem eJ16_copyOfRange_6 {ev : xV} {v0 v1 v2 : Option Value} {a : Nat} {st : List Value} {h : xH} : exF ev cJ16_copyOfRange 6 ([v0, v1, v2], []) (.ref a :: st) h = xO (xlen h a) (fun v => exF ev cJ16_copyOfRange 7 ([v0, v1, v2], []) (.int v :: st) h) := exF_o (i := (i_len 7)) rfl rfl
theorem eJ16_copyOfRange_7 {ev : xV} {v0 v1 v2 : Option Value} {x y : Int32} {st : List Value} {h : xH} : exF ev cJ16_copyOfRange 7 ([v0, v1, v2], []) (.int y :: .int x :: st) h = if x = y then exF ev cJ16_copyOfRange 17 ([v0, v1, v2], []) st h else exF ev cJ16_copyOfRange 10 ([v0, v1, v2], []) st h := exF_b (i := (i_if2 (fun x y => x = y) 17 10)) rfl rfl
theorem eJ16_copyOfRange_10 {ev : xV} {v1 v2 : Option Value} {x : Nat} {st : List Value} {h : xH} : exF ev cJ16_copyOfRange 10 ([some (.ref x), v1, v2], []) st h = exF ev cJ16_copyOfRange 11 ([some (.ref x), v1, v2], []) (.ref x :: st) h := exF_j (i := (i_aload 0 11)) rfl rfl
theorem eJ16_copyOfRange_10n {ev : xV} {v1 v2 : Option Value} {st : List Value} {h : xH} : exF ev cJ16_copyOfRange 10 ([some .null, v1, v2], []) st h = exF ev cJ16_copyOfRange 11 ([some .null, v1, v2], []) (.null :: st) h := exF_j (i := (i_aload 0 11)) rfl rfl
theorem eJ16_copyOfRange_11 {ev : xV} {v0 v2 : Option Value} {x : Int32} {st : List Value} {h : xH} : exF ev cJ16_copyOfRange 11 ([v0, some (.int x), v2], []) st h = exF ev cJ16_copyOfRange 12 ([v0, some (.int x), v2], []) (.int x :: st) h := exF_j (i := (i_iload 1 12)) rfl rfl
theorem eJ16_copyOfRange_12 {ev : xV} {v0 v1 : Option Value} {x : Int32} {st : List Value} {h : xH} : exF ev cJ16_copyOfRange 12 ([v0, v1, some (.int x)], []) st h = exF ev cJ16_copyOfRange 13 ([v0, v1, some (.int x)], []) (.int x :: st) h := exF_j (i := (i_iload 2 13)) rfl rfl
theorem eJ16_copyOfRange_13 {ev : xV} {v0 v1 v2 : Option Value} {a0 : Value} {a1 : Value} {a2 : Value} {h : xH} : exF ev cJ16_copyOfRange 13 ([v0, v1, v2], []) [a2, a1, a0] h = xB (ev 24 [a0, a1, a2] h) (fun v h => exF ev cJ16_copyOfRange 16 ([v0, v1, v2], []) [v] h) := exF_c (i := (i_cs 24 3 16)) rfl rfl
theorem eJ16_copyOfRange_16 {ev : xV} {v0 v1 v2 : Option Value} {x : Nat} {h : xH} : exF ev cJ16_copyOfRange 16 ([v0, v1, v2], []) [.ref x] h = some (.inl (some (.ref x)), h) := exF_r (i := (i_aret)) rfl rfl
theorem eJ16_copyOfRange_16n {ev : xV} {v0 v1 v2 : Option Value} {h : xH} : exF ev cJ16_copyOfRange 16 ([v0, v1, v2], []) [.null] h = some (.inl (some .null), h) := exF_r (i := (i_aret)) rfl rfl
theorem eJ16_copyOfRange_17 {ev : xV} {v1 v2 : Option Value} {x : Nat} {st : List Value} {h : xH} : exF ev cJ16_copyOfRange 17 ([some (.ref x), v1, v2], []) st h = exF ev cJ16_copyOfRange 18 ([some (.ref x), v1, v2], []) (.ref x :: st) h := exF_j (i := (i_aload 0 18)) rfl rfl
theorem eJ16_copyOfRange_17n {ev : xV} {v1 v2 : Option Value} {st : List Value} {h : xH} : exF ev cJ16_copyOfRange 17 ([some .null, v1, v2], []) st h = exF ev cJ16_copyOfRange 18 ([some .null, v1, v2], []) (.null :: st) h := exF_j (i := (i_aload 0 18)) rfl rfl
theorem eJ16_copyOfRange_18 {ev : xV} {v0 v1 v2 : Option Value} {a : Nat} {h : xH} : exF ev cJ16_copyOfRange 18 ([v0, v1, v2], []) [.ref a] h = xO (xcln h a) (fun q => exF ev cJ16_copyOfRange 21 ([v0, v1, v2], []) [.ref h.2.1] (xnew h (.inl (1, q.1, q.2)) q.1)) := exF_o (i := (i_clone 21)) rfl rfl
theorem eJ16_copyOfRange_21 {ev : xV} {v0 v1 v2 : Option Value} {a : Nat} {st : List Value} {h : xH} : exF ev cJ16_copyOfRange 21 ([v0, v1, v2], []) (.ref a :: st) h = xO (xkd h 1 a) (fun _ => exF ev cJ16_copyOfRange 24 ([v0, v1, v2], []) (.ref a :: st) h) := exF_o (i := (i_castB 24)) rfl rfl
theorem eJ16_copyOfRange_24 {ev : xV} {v0 v1 v2 : Option Value} {x : Nat} {h : xH} : exF ev cJ16_copyOfRange 24 ([v0, v1, v2], []) [.ref x] h = some (.inl (some (.ref x)), h) := exF_r (i := (i_aret)) rfl rfl
theorem eJ16_copyOfRange_24n {ev : xV} {v0 v1 v2 : Option Value} {h : xH} : exF ev cJ16_copyOfRange 24 ([v0, v1, v2], []) [.null] h = some (.inl (some .null), h) := exF_r (i := (i_aret)) rfl rfl
noncomputable def cJ16_copyOfRangeByte : xC := [(0, i_iload 1 1),
  (1, i_iload 2 2),
  (2, i_csv 25 2 5),
  (5, i_iload 2 6),
  (6, i_iload 1 7),
  (7, i_ii (fun x y => x - y) 8),
  (8, i_istore 3 9),
  (9, i_iload 3 10),
  (10, i_newa 1 (.inl (fun _ => 0)) 12),
  (12, i_astore 4 14),
  (14, i_aload 0 15),
  (15, i_iload 1 16),
  (16, i_aload 4 18),
  (18, i_const (.int (nI 0)) 19),
  (19, i_aload 0 20),
  (20, i_len 21),
  (21, i_iload 1 22),
  (22, i_ii (fun x y => x - y) 23),
  (23, i_iload 3 24),
  (24, i_cs 63 2 27),
  (27, i_cpb 30),
  (30, i_aload 4 32),
  (32, i_aret)]
theorem eJ16_copyOfRangeByte_0 {ev : xV} {v0 v2 v3 v4 : Option Value} {x : Int32} {st : List Value} {h : xH} : exF ev cJ16_copyOfRangeByte 0 ([v0, some (.int x), v2, v3, v4], []) st h = exF ev cJ16_copyOfRangeByte 1 ([v0, some (.int x), v2, v3, v4], []) (.int x :: st) h := exF_j (i := (i_iload 1 1)) rfl rfl
theorem eJ16_copyOfRangeByte_1 {ev : xV} {v0 v1 v3 v4 : Option Value} {x : Int32} {st : List Value} {h : xH} : exF ev cJ16_copyOfRangeByte 1 ([v0, v1, some (.int x), v3, v4], []) st h = exF ev cJ16_copyOfRangeByte 2 ([v0, v1, some (.int x), v3, v4], []) (.int x :: st) h := exF_j (i := (i_iload 2 2)) rfl rfl
theorem eJ16_copyOfRangeByte_2 {ev : xV} {v0 v1 v2 v3 v4 : Option Value} {a0 : Value} {a1 : Value} {h : xH} : exF ev cJ16_copyOfRangeByte 2 ([v0, v1, v2, v3, v4], []) [a1, a0] h = xBv (ev 25 [a0, a1] h) (fun h => exF ev cJ16_copyOfRangeByte 5 ([v0, v1, v2, v3, v4], []) [] h) := exF_cv (i := (i_csv 25 2 5)) rfl rfl
theorem eJ16_copyOfRangeByte_5 {ev : xV} {v0 v1 v3 v4 : Option Value} {x : Int32} {st : List Value} {h : xH} : exF ev cJ16_copyOfRangeByte 5 ([v0, v1, some (.int x), v3, v4], []) st h = exF ev cJ16_copyOfRangeByte 6 ([v0, v1, some (.int x), v3, v4], []) (.int x :: st) h := exF_j (i := (i_iload 2 6)) rfl rfl
theorem eJ16_copyOfRangeByte_6 {ev : xV} {v0 v2 v3 v4 : Option Value} {x : Int32} {st : List Value} {h : xH} : exF ev cJ16_copyOfRangeByte 6 ([v0, some (.int x), v2, v3, v4], []) st h = exF ev cJ16_copyOfRangeByte 7 ([v0, some (.int x), v2, v3, v4], []) (.int x :: st) h := exF_j (i := (i_iload 1 7)) rfl rfl
theorem eJ16_copyOfRangeByte_7 {ev : xV} {v0 v1 v2 v3 v4 : Option Value} {x y : Int32} {st : List Value} {h : xH} : exF ev cJ16_copyOfRangeByte 7 ([v0, v1, v2, v3, v4], []) (.int y :: .int x :: st) h = exF ev cJ16_copyOfRangeByte 8 ([v0, v1, v2, v3, v4], []) (.int (x - y) :: st) h := exF_j (i := (i_ii (fun x y => x - y) 8)) rfl rfl
theorem eJ16_copyOfRangeByte_8 {ev : xV} {v0 v1 v2 v3 v4 : Option Value} {x : Int32} {st : List Value} {h : xH} : exF ev cJ16_copyOfRangeByte 8 ([v0, v1, v2, v3, v4], []) (.int x :: st) h = exF ev cJ16_copyOfRangeByte 9 ([v0, v1, v2, some (.int x), v4], []) st h := exF_j (i := (i_istore 3 9)) rfl rfl
theorem eJ16_copyOfRangeByte_9 {ev : xV} {v0 v1 v2 v4 : Option Value} {x : Int32} {st : List Value} {h : xH} : exF ev cJ16_copyOfRangeByte 9 ([v0, v1, v2, some (.int x), v4], []) st h = exF ev cJ16_copyOfRangeByte 10 ([v0, v1, v2, some (.int x), v4], []) (.int x :: st) h := exF_j (i := (i_iload 3 10)) rfl rfl
theorem eJ16_copyOfRangeByte_10 {ev : xV} {v0 v1 v2 v3 v4 : Option Value} {x : Int32} {st : List Value} {h : xH} : exF ev cJ16_copyOfRangeByte 10 ([v0, v1, v2, v3, v4], []) (.int x :: st) h = xO (xcnt x) (fun k => exF ev cJ16_copyOfRangeByte 12 ([v0, v1, v2, v3, v4], []) (.ref h.2.1 :: st) (xnew h (.inl (1, k, .inl (fun _ => 0))) k)) := exF_o (i := (i_newa 1 (.inl (fun _ => 0)) 12)) rfl rfl
theorem eJ16_copyOfRangeByte_12 {ev : xV} {v0 v1 v2 v3 v4 : Option Value} {x : Nat} {st : List Value} {h : xH} : exF ev cJ16_copyOfRangeByte 12 ([v0, v1, v2, v3, v4], []) (.ref x :: st) h = exF ev cJ16_copyOfRangeByte 14 ([v0, v1, v2, v3, some (.ref x)], []) st h := exF_j (i := (i_astore 4 14)) rfl rfl
theorem eJ16_copyOfRangeByte_12n {ev : xV} {v0 v1 v2 v3 v4 : Option Value} {st : List Value} {h : xH} : exF ev cJ16_copyOfRangeByte 12 ([v0, v1, v2, v3, v4], []) (.null :: st) h = exF ev cJ16_copyOfRangeByte 14 ([v0, v1, v2, v3, some .null], []) st h := exF_j (i := (i_astore 4 14)) rfl rfl
theorem eJ16_copyOfRangeByte_14 {ev : xV} {v1 v2 v3 v4 : Option Value} {x : Nat} {st : List Value} {h : xH} : exF ev cJ16_copyOfRangeByte 14 ([some (.ref x), v1, v2, v3, v4], []) st h = exF ev cJ16_copyOfRangeByte 15 ([some (.ref x), v1, v2, v3, v4], []) (.ref x :: st) h := exF_j (i := (i_aload 0 15)) rfl rfl
theorem eJ16_copyOfRangeByte_14n {ev : xV} {v1 v2 v3 v4 : Option Value} {st : List Value} {h : xH} : exF ev cJ16_copyOfRangeByte 14 ([some .null, v1, v2, v3, v4], []) st h = exF ev cJ16_copyOfRangeByte 15 ([some .null, v1, v2, v3, v4], []) (.null :: st) h := exF_j (i := (i_aload 0 15)) rfl rfl
theorem eJ16_copyOfRangeByte_15 {ev : xV} {v0 v2 v3 v4 : Option Value} {x : Int32} {st : List Value} {h : xH} : exF ev cJ16_copyOfRangeByte 15 ([v0, some (.int x), v2, v3, v4], []) st h = exF ev cJ16_copyOfRangeByte 16 ([v0, some (.int x), v2, v3, v4], []) (.int x :: st) h := exF_j (i := (i_iload 1 16)) rfl rfl
theorem eJ16_copyOfRangeByte_16 {ev : xV} {v0 v1 v2 v3 : Option Value} {x : Nat} {st : List Value} {h : xH} : exF ev cJ16_copyOfRangeByte 16 ([v0, v1, v2, v3, some (.ref x)], []) st h = exF ev cJ16_copyOfRangeByte 18 ([v0, v1, v2, v3, some (.ref x)], []) (.ref x :: st) h := exF_j (i := (i_aload 4 18)) rfl rfl
theorem eJ16_copyOfRangeByte_16n {ev : xV} {v0 v1 v2 v3 : Option Value} {st : List Value} {h : xH} : exF ev cJ16_copyOfRangeByte 16 ([v0, v1, v2, v3, some .null], []) st h = exF ev cJ16_copyOfRangeByte 18 ([v0, v1, v2, v3, some .null], []) (.null :: st) h := exF_j (i := (i_aload 4 18)) rfl rfl
theorem eJ16_copyOfRangeByte_18 {ev : xV} {v0 v1 v2 v3 v4 : Option Value} {st : List Value} {h : xH} : exF ev cJ16_copyOfRangeByte 18 ([v0, v1, v2, v3, v4], []) st h = exF ev cJ16_copyOfRangeByte 19 ([v0, v1, v2, v3, v4], []) (.int (nI 0) :: st) h := exF_j (i := (i_const (.int (nI 0)) 19)) rfl rfl
theorem eJ16_copyOfRangeByte_19 {ev : xV} {v1 v2 v3 v4 : Option Value} {x : Nat} {st : List Value} {h : xH} : exF ev cJ16_copyOfRangeByte 19 ([some (.ref x), v1, v2, v3, v4], []) st h = exF ev cJ16_copyOfRangeByte 20 ([some (.ref x), v1, v2, v3, v4], []) (.ref x :: st) h := exF_j (i := (i_aload 0 20)) rfl rfl
theorem eJ16_copyOfRangeByte_19n {ev : xV} {v1 v2 v3 v4 : Option Value} {st : List Value} {h : xH} : exF ev cJ16_copyOfRangeByte 19 ([some .null, v1, v2, v3, v4], []) st h = exF ev cJ16_copyOfRangeByte 20 ([some .null, v1, v2, v3, v4], []) (.null :: st) h := exF_j (i := (i_aload 0 20)) rfl rfl
theorem eJ16_copyOfRangeByte_20 {ev : xV} {v0 v1 v2 v3 v4 : Option Value} {a : Nat} {st : List Value} {h : xH} : exF ev cJ16_copyOfRangeByte 20 ([v0, v1, v2, v3, v4], []) (.ref a :: st) h = xO (xlen h a) (fun v => exF ev cJ16_copyOfRangeByte 21 ([v0, v1, v2, v3, v4], []) (.int v :: st) h) := exF_o (i := (i_len 21)) rfl rfl
theorem eJ16_copyOfRangeByte_21 {ev : xV} {v0 v2 v3 v4 : Option Value} {x : Int32} {st : List Value} {h : xH} : exF ev cJ16_copyOfRangeByte 21 ([v0, some (.int x), v2, v3, v4], []) st h = exF ev cJ16_copyOfRangeByte 22 ([v0, some (.int x), v2, v3, v4], []) (.int x :: st) h := exF_j (i := (i_iload 1 22)) rfl rfl
theorem eJ16_copyOfRangeByte_22 {ev : xV} {v0 v1 v2 v3 v4 : Option Value} {x y : Int32} {st : List Value} {h : xH} : exF ev cJ16_copyOfRangeByte 22 ([v0, v1, v2, v3, v4], []) (.int y :: .int x :: st) h = exF ev cJ16_copyOfRangeByte 23 ([v0, v1, v2, v3, v4], []) (.int (x - y) :: st) h := exF_j (i := (i_ii (fun x y => x - y) 23)) rfl rfl
theorem eJ16_copyOfRangeByte_23 {ev : xV} {v0 v1 v2 v4 : Option Value} {x : Int32} {st : List Value} {h : xH} : exF ev cJ16_copyOfRangeByte 23 ([v0, v1, v2, some (.int x), v4], []) st h = exF ev cJ16_copyOfRangeByte 24 ([v0, v1, v2, some (.int x), v4], []) (.int x :: st) h := exF_j (i := (i_iload 3 24)) rfl rfl
theorem eJ16_copyOfRangeByte_24 {ev : xV} {v0 v1 v2 v3 v4 : Option Value} {a0 : Value} {a1 : Value} {r0 : Value} {r1 : Value} {r2 : Value} {r3 : Value} {h : xH} : exF ev cJ16_copyOfRangeByte 24 ([v0, v1, v2, v3, v4], []) [a1, a0, r0, r1, r2, r3] h = xB (ev 63 [a0, a1] h) (fun v h => exF ev cJ16_copyOfRangeByte 27 ([v0, v1, v2, v3, v4], []) [v, r0, r1, r2, r3] h) := exF_c (i := (i_cs 63 2 27)) rfl rfl
theorem eJ16_copyOfRangeByte_27 {ev : xV} {v0 v1 v2 v3 v4 : Option Value} {k dp sp : Int32} {d s : Nat} {h : xH} : exF ev cJ16_copyOfRangeByte 27 ([v0, v1, v2, v3, v4], []) [.int k, .int dp, .ref d, .int sp, .ref s] h = xO (xcpb h s sp d dp k) (fun h => exF ev cJ16_copyOfRangeByte 30 ([v0, v1, v2, v3, v4], []) [] h) := exF_o (i := (i_cpb 30)) rfl rfl
theorem eJ16_copyOfRangeByte_30 {ev : xV} {v0 v1 v2 v3 : Option Value} {x : Nat} {st : List Value} {h : xH} : exF ev cJ16_copyOfRangeByte 30 ([v0, v1, v2, v3, some (.ref x)], []) st h = exF ev cJ16_copyOfRangeByte 32 ([v0, v1, v2, v3, some (.ref x)], []) (.ref x :: st) h := exF_j (i := (i_aload 4 32)) rfl rfl
theorem eJ16_copyOfRangeByte_30n {ev : xV} {v0 v1 v2 v3 : Option Value} {st : List Value} {h : xH} : exF ev cJ16_copyOfRangeByte 30 ([v0, v1, v2, v3, some .null], []) st h = exF ev cJ16_copyOfRangeByte 32 ([v0, v1, v2, v3, some .null], []) (.null :: st) h := exF_j (i := (i_aload 4 32)) rfl rfl
theorem eJ16_copyOfRangeByte_32 {ev : xV} {v0 v1 v2 v3 v4 : Option Value} {x : Nat} {h : xH} : exF ev cJ16_copyOfRangeByte 32 ([v0, v1, v2, v3, v4], []) [.ref x] h = some (.inl (some (.ref x)), h) := exF_r (i := (i_aret)) rfl rfl
theorem eJ16_copyOfRangeByte_32n {ev : xV} {v0 v1 v2 v3 v4 : Option Value} {h : xH} : exF ev cJ16_copyOfRangeByte 32 ([v0, v1, v2, v3, v4], []) [.null] h = some (.inl (some .null), h) := exF_r (i := (i_aret)) rfl rfl
noncomputable def cJ16_checkLength : xC := [(0, i_iload 1 1),
  (1, i_iload 0 2),
  (2, i_if2 (fun x y => y ≤ x) 37 5),
  (5, i_no),
  (8, i_dup 9),
  (9, i_no),
  (12, i_dup 13),
  (13, i_no),
  (16, i_no),
  (17, i_no),
  (20, i_no),
  (23, i_no),
  (26, i_no),
  (27, i_no),
  (30, i_no),
  (33, i_no),
  (36, i_no),
  (37, i_vret)]
theorem eJ16_checkLength_0 {ev : xV} {v0 : Option Value} {x : Int32} {st : List Value} {h : xH} : exF ev cJ16_checkLength 0 ([v0, some (.int x)], []) st h = exF ev cJ16_checkLength 1 ([v0, some (.int x)], []) (.int x :: st) h := exF_j (i := (i_iload 1 1)) rfl rfl
theorem eJ16_checkLength_1 {ev : xV} {v1 : Option Value} {x : Int32} {st : List Value} {h : xH} : exF ev cJ16_checkLength 1 ([some (.int x), v1], []) st h = exF ev cJ16_checkLength 2 ([some (.int x), v1], []) (.int x :: st) h := exF_j (i := (i_iload 0 2)) rfl rfl
theorem eJ16_checkLength_2 {ev : xV} {v0 v1 : Option Value} {x y : Int32} {st : List Value} {h : xH} : exF ev cJ16_checkLength 2 ([v0, v1], []) (.int y :: .int x :: st) h = if y ≤ x then exF ev cJ16_checkLength 37 ([v0, v1], []) st h else exF ev cJ16_checkLength 5 ([v0, v1], []) st h := exF_b (i := (i_if2 (fun x y => y ≤ x) 37 5)) rfl rfl
theorem eJ16_checkLength_8 {ev : xV} {v0 v1 : Option Value} {x : Nat} {st : List Value} {h : xH} : exF ev cJ16_checkLength 8 ([v0, v1], []) (.ref x :: st) h = exF ev cJ16_checkLength 9 ([v0, v1], []) (.ref x :: .ref x :: st) h := exF_j (i := (i_dup 9)) rfl rfl
theorem eJ16_checkLength_12 {ev : xV} {v0 v1 : Option Value} {x : Nat} {st : List Value} {h : xH} : exF ev cJ16_checkLength 12 ([v0, v1], []) (.ref x :: st) h = exF ev cJ16_checkLength 13 ([v0, v1], []) (.ref x :: .ref x :: st) h := exF_j (i := (i_dup 13)) rfl rfl
theorem eJ16_checkLength_37 {ev : xV} {v0 v1 : Option Value} {h : xH} : exF ev cJ16_checkLength 37 ([v0, v1], []) [] h = some (.inl none, h) := exF_r (i := (i_vret)) rfl rfl
noncomputable def cJ16_copyOf_2 : xC := [(0, i_aload 0 1),
  (1, i_iload 1 2),
  (2, i_aload 0 3),
  (3, i_getC 6),
  (6, i_cs 27 3 9),
  (9, i_aret)]
theorem eJ16_copyOf_2_0 {ev : xV} {v1 : Option Value} {x : Nat} {st : List Value} {h : xH} : exF ev cJ16_copyOf_2 0 ([some (.ref x), v1], []) st h = exF ev cJ16_copyOf_2 1 ([some (.ref x), v1], []) (.ref x :: st) h := exF_j (i := (i_aload 0 1)) rfl rfl
theorem eJ16_copyOf_2_0n {ev : xV} {v1 : Option Value} {st : List Value} {h : xH} : exF ev cJ16_copyOf_2 0 ([some .null, v1], []) st h = exF ev cJ16_copyOf_2 1 ([some .null, v1], []) (.null :: st) h := exF_j (i := (i_aload 0 1)) rfl rfl
theorem eJ16_copyOf_2_1 {ev : xV} {v0 : Option Value} {x : Int32} {st : List Value} {h : xH} : exF ev cJ16_copyOf_2 1 ([v0, some (.int x)], []) st h = exF ev cJ16_copyOf_2 2 ([v0, some (.int x)], []) (.int x :: st) h := exF_j (i := (i_iload 1 2)) rfl rfl
theorem eJ16_copyOf_2_2 {ev : xV} {v1 : Option Value} {x : Nat} {st : List Value} {h : xH} : exF ev cJ16_copyOf_2 2 ([some (.ref x), v1], []) st h = exF ev cJ16_copyOf_2 3 ([some (.ref x), v1], []) (.ref x :: st) h := exF_j (i := (i_aload 0 3)) rfl rfl
theorem eJ16_copyOf_2_2n {ev : xV} {v1 : Option Value} {st : List Value} {h : xH} : exF ev cJ16_copyOf_2 2 ([some .null, v1], []) st h = exF ev cJ16_copyOf_2 3 ([some .null, v1], []) (.null :: st) h := exF_j (i := (i_aload 0 3)) rfl rfl
theorem eJ16_copyOf_2_3 {ev : xV} {v0 v1 : Option Value} {r0 : Value} {r1 : Value} {a : Nat} {h : xH} : exF ev cJ16_copyOf_2 3 ([v0, v1], []) [.ref a, r0, r1] h = xO (xkd h 4 a) (fun _ => exF ev cJ16_copyOf_2 6 ([v0, v1], []) [.ref 23, r0, r1] h) := exF_o (i := (i_getC 6)) rfl rfl
theorem eJ16_copyOf_2_6 {ev : xV} {v0 v1 : Option Value} {a0 : Value} {a1 : Value} {a2 : Value} {h : xH} : exF ev cJ16_copyOf_2 6 ([v0, v1], []) [a2, a1, a0] h = xB (ev 27 [a0, a1, a2] h) (fun v h => exF ev cJ16_copyOf_2 9 ([v0, v1], []) [v] h) := exF_c (i := (i_cs 27 3 9)) rfl rfl
theorem eJ16_copyOf_2_9 {ev : xV} {v0 v1 : Option Value} {x : Nat} {h : xH} : exF ev cJ16_copyOf_2 9 ([v0, v1], []) [.ref x] h = some (.inl (some (.ref x)), h) := exF_r (i := (i_aret)) rfl rfl
theorem eJ16_copyOf_2_9n {ev : xV} {v0 v1 : Option Value} {h : xH} : exF ev cJ16_copyOf_2 9 ([v0, v1], []) [.null] h = some (.inl (some .null), h) := exF_r (i := (i_aret)) rfl rfl
noncomputable def cJ16_copyOf_3 : xC := [(0, i_aload 2 1),
  (1, i_const (.ref 23) 3),
  (3, i_acmp false 13 6),
  (6, i_iload 1 7),
  (7, i_newa 4 (.inr (.inr (fun _ => none))) 10),
  (10, i_goto 24),
  (13, i_aload 2 14),
  (14, i_no),
  (17, i_no),
  (18, i_no),
  (21, i_no),
  (24, i_astore 3 25),
  (25, i_aload 0 26),
  (26, i_const (.int (nI 0)) 27),
  (27, i_aload 3 28),
  (28, i_const (.int (nI 0)) 29),
  (29, i_aload 0 30),
  (30, i_len 31),
  (31, i_iload 1 32),
  (32, i_cs 63 2 35),
  (35, i_cpq [22, 6, 15, 16, 17, 18, 19] 38),
  (38, i_aload 3 39),
  (39, i_aret)]
theorem eJ16_copyOf_3_0 {ev : xV} {v0 v1 v3 : Option Value} {x : Nat} {st : List Value} {h : xH} : exF ev cJ16_copyOf_3 0 ([v0, v1, some (.ref x), v3], []) st h = exF ev cJ16_copyOf_3 1 ([v0, v1, some (.ref x), v3], []) (.ref x :: st) h := exF_j (i := (i_aload 2 1)) rfl rfl
theorem eJ16_copyOf_3_0n {ev : xV} {v0 v1 v3 : Option Value} {st : List Value} {h : xH} : exF ev cJ16_copyOf_3 0 ([v0, v1, some .null, v3], []) st h = exF ev cJ16_copyOf_3 1 ([v0, v1, some .null, v3], []) (.null :: st) h := exF_j (i := (i_aload 2 1)) rfl rfl
theorem eJ16_copyOf_3_1 {ev : xV} {v0 v1 v2 v3 : Option Value} {st : List Value} {h : xH} : exF ev cJ16_copyOf_3 1 ([v0, v1, v2, v3], []) st h = exF ev cJ16_copyOf_3 3 ([v0, v1, v2, v3], []) (.ref 23 :: st) h := exF_j (i := (i_const (.ref 23) 3)) rfl rfl
theorem eJ16_copyOf_3_3 {ev : xV} {v0 v1 v2 v3 : Option Value} {a b : Nat} {st : List Value} {h : xH} : exF ev cJ16_copyOf_3 3 ([v0, v1, v2, v3], []) (.ref b :: .ref a :: st) h = xO (xaeq a b) (fun q => exF ev cJ16_copyOf_3 (bif q == false then 13 else 6) ([v0, v1, v2, v3], []) st h) := exF_a (i := (i_acmp false 13 6)) rfl rfl
theorem eJ16_copyOf_3_6 {ev : xV} {v0 v2 v3 : Option Value} {x : Int32} {st : List Value} {h : xH} : exF ev cJ16_copyOf_3 6 ([v0, some (.int x), v2, v3], []) st h = exF ev cJ16_copyOf_3 7 ([v0, some (.int x), v2, v3], []) (.int x :: st) h := exF_j (i := (i_iload 1 7)) rfl rfl
theorem eJ16_copyOf_3_7 {ev : xV} {v0 v1 v2 v3 : Option Value} {x : Int32} {st : List Value} {h : xH} : exF ev cJ16_copyOf_3 7 ([v0, v1, v2, v3], []) (.int x :: st) h = xO (xcnt x) (fun k => exF ev cJ16_copyOf_3 10 ([v0, v1, v2, v3], []) (.ref h.2.1 :: st) (xnew h (.inl (4, k, .inr (.inr (fun _ => none)))) k)) := exF_o (i := (i_newa 4 (.inr (.inr (fun _ => none))) 10)) rfl rfl
theorem eJ16_copyOf_3_10 {ev : xV} {v0 v1 v2 v3 : Option Value} {st : List Value} {h : xH} : exF ev cJ16_copyOf_3 10 ([v0, v1, v2, v3], []) st h = exF ev cJ16_copyOf_3 24 ([v0, v1, v2, v3], []) st h := exF_j (i := (i_goto 24)) rfl rfl
theorem eJ16_copyOf_3_13 {ev : xV} {v0 v1 v3 : Option Value} {x : Nat} {st : List Value} {h : xH} : exF ev cJ16_copyOf_3 13 ([v0, v1, some (.ref x), v3], []) st h = exF ev cJ16_copyOf_3 14 ([v0, v1, some (.ref x), v3], []) (.ref x :: st) h := exF_j (i := (i_aload 2 14)) rfl rfl
theorem eJ16_copyOf_3_13n {ev : xV} {v0 v1 v3 : Option Value} {st : List Value} {h : xH} : exF ev cJ16_copyOf_3 13 ([v0, v1, some .null, v3], []) st h = exF ev cJ16_copyOf_3 14 ([v0, v1, some .null, v3], []) (.null :: st) h := exF_j (i := (i_aload 2 14)) rfl rfl
theorem eJ16_copyOf_3_24 {ev : xV} {v0 v1 v2 v3 : Option Value} {x : Nat} {st : List Value} {h : xH} : exF ev cJ16_copyOf_3 24 ([v0, v1, v2, v3], []) (.ref x :: st) h = exF ev cJ16_copyOf_3 25 ([v0, v1, v2, some (.ref x)], []) st h := exF_j (i := (i_astore 3 25)) rfl rfl
theorem eJ16_copyOf_3_24n {ev : xV} {v0 v1 v2 v3 : Option Value} {st : List Value} {h : xH} : exF ev cJ16_copyOf_3 24 ([v0, v1, v2, v3], []) (.null :: st) h = exF ev cJ16_copyOf_3 25 ([v0, v1, v2, some .null], []) st h := exF_j (i := (i_astore 3 25)) rfl rfl
theorem eJ16_copyOf_3_25 {ev : xV} {v1 v2 v3 : Option Value} {x : Nat} {st : List Value} {h : xH} : exF ev cJ16_copyOf_3 25 ([some (.ref x), v1, v2, v3], []) st h = exF ev cJ16_copyOf_3 26 ([some (.ref x), v1, v2, v3], []) (.ref x :: st) h := exF_j (i := (i_aload 0 26)) rfl rfl
theorem eJ16_copyOf_3_25n {ev : xV} {v1 v2 v3 : Option Value} {st : List Value} {h : xH} : exF ev cJ16_copyOf_3 25 ([some .null, v1, v2, v3], []) st h = exF ev cJ16_copyOf_3 26 ([some .null, v1, v2, v3], []) (.null :: st) h := exF_j (i := (i_aload 0 26)) rfl rfl
theorem eJ16_copyOf_3_26 {ev : xV} {v0 v1 v2 v3 : Option Value} {st : List Value} {h : xH} : exF ev cJ16_copyOf_3 26 ([v0, v1, v2, v3], []) st h = exF ev cJ16_copyOf_3 27 ([v0, v1, v2, v3], []) (.int (nI 0) :: st) h := exF_j (i := (i_const (.int (nI 0)) 27)) rfl rfl
theorem eJ16_copyOf_3_27 {ev : xV} {v0 v1 v2 : Option Value} {x : Nat} {st : List Value} {h : xH} : exF ev cJ16_copyOf_3 27 ([v0, v1, v2, some (.ref x)], []) st h = exF ev cJ16_copyOf_3 28 ([v0, v1, v2, some (.ref x)], []) (.ref x :: st) h := exF_j (i := (i_aload 3 28)) rfl rfl
theorem eJ16_copyOf_3_27n {ev : xV} {v0 v1 v2 : Option Value} {st : List Value} {h : xH} : exF ev cJ16_copyOf_3 27 ([v0, v1, v2, some .null], []) st h = exF ev cJ16_copyOf_3 28 ([v0, v1, v2, some .null], []) (.null :: st) h := exF_j (i := (i_aload 3 28)) rfl rfl
theorem eJ16_copyOf_3_28 {ev : xV} {v0 v1 v2 v3 : Option Value} {st : List Value} {h : xH} : exF ev cJ16_copyOf_3 28 ([v0, v1, v2, v3], []) st h = exF ev cJ16_copyOf_3 29 ([v0, v1, v2, v3], []) (.int (nI 0) :: st) h := exF_j (i := (i_const (.int (nI 0)) 29)) rfl rfl
theorem eJ16_copyOf_3_29 {ev : xV} {v1 v2 v3 : Option Value} {x : Nat} {st : List Value} {h : xH} : exF ev cJ16_copyOf_3 29 ([some (.ref x), v1, v2, v3], []) st h = exF ev cJ16_copyOf_3 30 ([some (.ref x), v1, v2, v3], []) (.ref x :: st) h := exF_j (i := (i_aload 0 30)) rfl rfl
theorem eJ16_copyOf_3_29n {ev : xV} {v1 v2 v3 : Option Value} {st : List Value} {h : xH} : exF ev cJ16_copyOf_3 29 ([some .null, v1, v2, v3], []) st h = exF ev cJ16_copyOf_3 30 ([some .null, v1, v2, v3], []) (.null :: st) h := exF_j (i := (i_aload 0 30)) rfl rfl
theorem eJ16_copyOf_3_30 {ev : xV} {v0 v1 v2 v3 : Option Value} {a : Nat} {st : List Value} {h : xH} : exF ev cJ16_copyOf_3 30 ([v0, v1, v2, v3], []) (.ref a :: st) h = xO (xlen h a) (fun v => exF ev cJ16_copyOf_3 31 ([v0, v1, v2, v3], []) (.int v :: st) h) := exF_o (i := (i_len 31)) rfl rfl
theorem eJ16_copyOf_3_31 {ev : xV} {v0 v2 v3 : Option Value} {x : Int32} {st : List Value} {h : xH} : exF ev cJ16_copyOf_3 31 ([v0, some (.int x), v2, v3], []) st h = exF ev cJ16_copyOf_3 32 ([v0, some (.int x), v2, v3], []) (.int x :: st) h := exF_j (i := (i_iload 1 32)) rfl rfl
theorem eJ16_copyOf_3_32 {ev : xV} {v0 v1 v2 v3 : Option Value} {a0 : Value} {a1 : Value} {r0 : Value} {r1 : Value} {r2 : Value} {r3 : Value} {h : xH} : exF ev cJ16_copyOf_3 32 ([v0, v1, v2, v3], []) [a1, a0, r0, r1, r2, r3] h = xB (ev 63 [a0, a1] h) (fun v h => exF ev cJ16_copyOf_3 35 ([v0, v1, v2, v3], []) [v, r0, r1, r2, r3] h) := exF_c (i := (i_cs 63 2 35)) rfl rfl
theorem eJ16_copyOf_3_35 {ev : xV} {v0 v1 v2 v3 : Option Value} {k dp sp : Int32} {d s : Nat} {h : xH} : exF ev cJ16_copyOf_3 35 ([v0, v1, v2, v3], []) [.int k, .int dp, .ref d, .int sp, .ref s] h = xO (xcpq h [22, 6, 15, 16, 17, 18, 19] s sp d dp k) (fun h => exF ev cJ16_copyOf_3 38 ([v0, v1, v2, v3], []) [] h) := exF_o (i := (i_cpq [22, 6, 15, 16, 17, 18, 19] 38)) rfl rfl
theorem eJ16_copyOf_3_38 {ev : xV} {v0 v1 v2 : Option Value} {x : Nat} {st : List Value} {h : xH} : exF ev cJ16_copyOf_3 38 ([v0, v1, v2, some (.ref x)], []) st h = exF ev cJ16_copyOf_3 39 ([v0, v1, v2, some (.ref x)], []) (.ref x :: st) h := exF_j (i := (i_aload 3 39)) rfl rfl
theorem eJ16_copyOf_3_38n {ev : xV} {v0 v1 v2 : Option Value} {st : List Value} {h : xH} : exF ev cJ16_copyOf_3 38 ([v0, v1, v2, some .null], []) st h = exF ev cJ16_copyOf_3 39 ([v0, v1, v2, some .null], []) (.null :: st) h := exF_j (i := (i_aload 3 39)) rfl rfl
theorem eJ16_copyOf_3_39 {ev : xV} {v0 v1 v2 v3 : Option Value} {x : Nat} {h : xH} : exF ev cJ16_copyOf_3 39 ([v0, v1, v2, v3], []) [.ref x] h = some (.inl (some (.ref x)), h) := exF_r (i := (i_aret)) rfl rfl
theorem eJ16_copyOf_3_39n {ev : xV} {v0 v1 v2 v3 : Option Value} {h : xH} : exF ev cJ16_copyOf_3 39 ([v0, v1, v2, v3], []) [.null] h = some (.inl (some .null), h) := exF_r (i := (i_aret)) rfl rfl
noncomputable def cJ17_bitCount : xC := [(0, i_iload 0 1),
  (1, i_iload 0 2),
  (2, i_const (.int (nI 1)) 3),
  (3, i_ii (fun x y => (x.toUInt32 >>> (y.toUInt32 &&& Int32.toUInt32 31)).toInt32) 4),
  (4, i_const (.int (nI 1431655765)) 7),
  (7, i_ii (fun x y => x &&& y) 8),
  (8, i_ii (fun x y => x - y) 9),
  (9, i_istore 0 10),
  (10, i_iload 0 11),
  (11, i_const (.int (nI 858993459)) 14),
  (14, i_ii (fun x y => x &&& y) 15),
  (15, i_iload 0 16),
  (16, i_const (.int (nI 2)) 17),
  (17, i_ii (fun x y => (x.toUInt32 >>> (y.toUInt32 &&& Int32.toUInt32 31)).toInt32) 18),
  (18, i_const (.int (nI 858993459)) 21),
  (21, i_ii (fun x y => x &&& y) 22),
  (22, i_ii (fun x y => x + y) 23),
  (23, i_istore 0 24),
  (24, i_iload 0 25),
  (25, i_iload 0 26),
  (26, i_const (.int (nI 4)) 27),
  (27, i_ii (fun x y => (x.toUInt32 >>> (y.toUInt32 &&& Int32.toUInt32 31)).toInt32) 28),
  (28, i_ii (fun x y => x + y) 29),
  (29, i_const (.int (nI 252645135)) 32),
  (32, i_ii (fun x y => x &&& y) 33),
  (33, i_istore 0 34),
  (34, i_iload 0 35),
  (35, i_iload 0 36),
  (36, i_const (.int (nI 8)) 38),
  (38, i_ii (fun x y => (x.toUInt32 >>> (y.toUInt32 &&& Int32.toUInt32 31)).toInt32) 39),
  (39, i_ii (fun x y => x + y) 40),
  (40, i_istore 0 41),
  (41, i_iload 0 42),
  (42, i_iload 0 43),
  (43, i_const (.int (nI 16)) 45),
  (45, i_ii (fun x y => (x.toUInt32 >>> (y.toUInt32 &&& Int32.toUInt32 31)).toInt32) 46),
  (46, i_ii (fun x y => x + y) 47),
  (47, i_istore 0 48),
  (48, i_iload 0 49),
  (49, i_const (.int (nI 63)) 51),
  (51, i_ii (fun x y => x &&& y) 52),
  (52, i_iret)]
theorem eJ17_bitCount_0 {ev : xV} {x : Int32} {st : List Value} {h : xH} : exF ev cJ17_bitCount 0 ([some (.int x)], []) st h = exF ev cJ17_bitCount 1 ([some (.int x)], []) (.int x :: st) h := exF_j (i := (i_iload 0 1)) rfl rfl
theorem eJ17_bitCount_1 {ev : xV} {x : Int32} {st : List Value} {h : xH} : exF ev cJ17_bitCount 1 ([some (.int x)], []) st h = exF ev cJ17_bitCount 2 ([some (.int x)], []) (.int x :: st) h := exF_j (i := (i_iload 0 2)) rfl rfl
theorem eJ17_bitCount_2 {ev : xV} {v0 : Option Value} {st : List Value} {h : xH} : exF ev cJ17_bitCount 2 ([v0], []) st h = exF ev cJ17_bitCount 3 ([v0], []) (.int (nI 1) :: st) h := exF_j (i := (i_const (.int (nI 1)) 3)) rfl rfl
theorem eJ17_bitCount_3 {ev : xV} {v0 : Option Value} {x y : Int32} {st : List Value} {h : xH} : exF ev cJ17_bitCount 3 ([v0], []) (.int y :: .int x :: st) h = exF ev cJ17_bitCount 4 ([v0], []) (.int ((x.toUInt32 >>> (y.toUInt32 &&& Int32.toUInt32 31)).toInt32) :: st) h := exF_j (i := (i_ii (fun x y => (x.toUInt32 >>> (y.toUInt32 &&& Int32.toUInt32 31)).toInt32) 4)) rfl rfl
theorem eJ17_bitCount_4 {ev : xV} {v0 : Option Value} {st : List Value} {h : xH} : exF ev cJ17_bitCount 4 ([v0], []) st h = exF ev cJ17_bitCount 7 ([v0], []) (.int (nI 1431655765) :: st) h := exF_j (i := (i_const (.int (nI 1431655765)) 7)) rfl rfl
theorem eJ17_bitCount_7 {ev : xV} {v0 : Option Value} {x y : Int32} {st : List Value} {h : xH} : exF ev cJ17_bitCount 7 ([v0], []) (.int y :: .int x :: st) h = exF ev cJ17_bitCount 8 ([v0], []) (.int (x &&& y) :: st) h := exF_j (i := (i_ii (fun x y => x &&& y) 8)) rfl rfl
theorem eJ17_bitCount_8 {ev : xV} {v0 : Option Value} {x y : Int32} {st : List Value} {h : xH} : exF ev cJ17_bitCount 8 ([v0], []) (.int y :: .int x :: st) h = exF ev cJ17_bitCount 9 ([v0], []) (.int (x - y) :: st) h := exF_j (i := (i_ii (fun x y => x - y) 9)) rfl rfl
theorem eJ17_bitCount_9 {ev : xV} {v0 : Option Value} {x : Int32} {st : List Value} {h : xH} : exF ev cJ17_bitCount 9 ([v0], []) (.int x :: st) h = exF ev cJ17_bitCount 10 ([some (.int x)], []) st h := exF_j (i := (i_istore 0 10)) rfl rfl
theorem eJ17_bitCount_10 {ev : xV} {x : Int32} {st : List Value} {h : xH} : exF ev cJ17_bitCount 10 ([some (.int x)], []) st h = exF ev cJ17_bitCount 11 ([some (.int x)], []) (.int x :: st) h := exF_j (i := (i_iload 0 11)) rfl rfl
theorem eJ17_bitCount_11 {ev : xV} {v0 : Option Value} {st : List Value} {h : xH} : exF ev cJ17_bitCount 11 ([v0], []) st h = exF ev cJ17_bitCount 14 ([v0], []) (.int (nI 858993459) :: st) h := exF_j (i := (i_const (.int (nI 858993459)) 14)) rfl rfl
theorem eJ17_bitCount_14 {ev : xV} {v0 : Option Value} {x y : Int32} {st : List Value} {h : xH} : exF ev cJ17_bitCount 14 ([v0], []) (.int y :: .int x :: st) h = exF ev cJ17_bitCount 15 ([v0], []) (.int (x &&& y) :: st) h := exF_j (i := (i_ii (fun x y => x &&& y) 15)) rfl rfl
theorem eJ17_bitCount_15 {ev : xV} {x : Int32} {st : List Value} {h : xH} : exF ev cJ17_bitCount 15 ([some (.int x)], []) st h = exF ev cJ17_bitCount 16 ([some (.int x)], []) (.int x :: st) h := exF_j (i := (i_iload 0 16)) rfl rfl
theorem eJ17_bitCount_16 {ev : xV} {v0 : Option Value} {st : List Value} {h : xH} : exF ev cJ17_bitCount 16 ([v0], []) st h = exF ev cJ17_bitCount 17 ([v0], []) (.int (nI 2) :: st) h := exF_j (i := (i_const (.int (nI 2)) 17)) rfl rfl
theorem eJ17_bitCount_17 {ev : xV} {v0 : Option Value} {x y : Int32} {st : List Value} {h : xH} : exF ev cJ17_bitCount 17 ([v0], []) (.int y :: .int x :: st) h = exF ev cJ17_bitCount 18 ([v0], []) (.int ((x.toUInt32 >>> (y.toUInt32 &&& Int32.toUInt32 31)).toInt32) :: st) h := exF_j (i := (i_ii (fun x y => (x.toUInt32 >>> (y.toUInt32 &&& Int32.toUInt32 31)).toInt32) 18)) rfl rfl
theorem eJ17_bitCount_18 {ev : xV} {v0 : Option Value} {st : List Value} {h : xH} : exF ev cJ17_bitCount 18 ([v0], []) st h = exF ev cJ17_bitCount 21 ([v0], []) (.int (nI 858993459) :: st) h := exF_j (i := (i_const (.int (nI 858993459)) 21)) rfl rfl
theorem eJ17_bitCount_21 {ev : xV} {v0 : Option Value} {x y : Int32} {st : List Value} {h : xH} : exF ev cJ17_bitCount 21 ([v0], []) (.int y :: .int x :: st) h = exF ev cJ17_bitCount 22 ([v0], []) (.int (x &&& y) :: st) h := exF_j (i := (i_ii (fun x y => x &&& y) 22)) rfl rfl
theorem eJ17_bitCount_22 {ev : xV} {v0 : Option Value} {x y : Int32} {st : List Value} {h : xH} : exF ev cJ17_bitCount 22 ([v0], []) (.int y :: .int x :: st) h = exF ev cJ17_bitCount 23 ([v0], []) (.int (x + y) :: st) h := exF_j (i := (i_ii (fun x y => x + y) 23)) rfl rfl
theorem eJ17_bitCount_23 {ev : xV} {v0 : Option Value} {x : Int32} {st : List Value} {h : xH} : exF ev cJ17_bitCount 23 ([v0], []) (.int x :: st) h = exF ev cJ17_bitCount 24 ([some (.int x)], []) st h := exF_j (i := (i_istore 0 24)) rfl rfl
theorem eJ17_bitCount_24 {ev : xV} {x : Int32} {st : List Value} {h : xH} : exF ev cJ17_bitCount 24 ([some (.int x)], []) st h = exF ev cJ17_bitCount 25 ([some (.int x)], []) (.int x :: st) h := exF_j (i := (i_iload 0 25)) rfl rfl
theorem eJ17_bitCount_25 {ev : xV} {x : Int32} {st : List Value} {h : xH} : exF ev cJ17_bitCount 25 ([some (.int x)], []) st h = exF ev cJ17_bitCount 26 ([some (.int x)], []) (.int x :: st) h := exF_j (i := (i_iload 0 26)) rfl rfl
theorem eJ17_bitCount_26 {ev : xV} {v0 : Option Value} {st : List Value} {h : xH} : exF ev cJ17_bitCount 26 ([v0], []) st h = exF ev cJ17_bitCount 27 ([v0], []) (.int (nI 4) :: st) h := exF_j (i := (i_const (.int (nI 4)) 27)) rfl rfl
theorem eJ17_bitCount_27 {ev : xV} {v0 : Option Value} {x y : Int32} {st : List Value} {h : xH} : exF ev cJ17_bitCount 27 ([v0], []) (.int y :: .int x :: st) h = exF ev cJ17_bitCount 28 ([v0], []) (.int ((x.toUInt32 >>> (y.toUInt32 &&& Int32.toUInt32 31)).toInt32) :: st) h := exF_j (i := (i_ii (fun x y => (x.toUInt32 >>> (y.toUInt32 &&& Int32.toUInt32 31)).toInt32) 28)) rfl rfl
theorem eJ17_bitCount_28 {ev : xV} {v0 : Option Value} {x y : Int32} {st : List Value} {h : xH} : exF ev cJ17_bitCount 28 ([v0], []) (.int y :: .int x :: st) h = exF ev cJ17_bitCount 29 ([v0], []) (.int (x + y) :: st) h := exF_j (i := (i_ii (fun x y => x + y) 29)) rfl rfl
theorem eJ17_bitCount_29 {ev : xV} {v0 : Option Value} {st : List Value} {h : xH} : exF ev cJ17_bitCount 29 ([v0], []) st h = exF ev cJ17_bitCount 32 ([v0], []) (.int (nI 252645135) :: st) h := exF_j (i := (i_const (.int (nI 252645135)) 32)) rfl rfl
theorem eJ17_bitCount_32 {ev : xV} {v0 : Option Value} {x y : Int32} {st : List Value} {h : xH} : exF ev cJ17_bitCount 32 ([v0], []) (.int y :: .int x :: st) h = exF ev cJ17_bitCount 33 ([v0], []) (.int (x &&& y) :: st) h := exF_j (i := (i_ii (fun x y => x &&& y) 33)) rfl rfl
theorem eJ17_bitCount_33 {ev : xV} {v0 : Option Value} {x : Int32} {st : List Value} {h : xH} : exF ev cJ17_bitCount 33 ([v0], []) (.int x :: st) h = exF ev cJ17_bitCount 34 ([some (.int x)], []) st h := exF_j (i := (i_istore 0 34)) rfl rfl
theorem eJ17_bitCount_34 {ev : xV} {x : Int32} {st : List Value} {h : xH} : exF ev cJ17_bitCount 34 ([some (.int x)], []) st h = exF ev cJ17_bitCount 35 ([some (.int x)], []) (.int x :: st) h := exF_j (i := (i_iload 0 35)) rfl rfl
theorem eJ17_bitCount_35 {ev : xV} {x : Int32} {st : List Value} {h : xH} : exF ev cJ17_bitCount 35 ([some (.int x)], []) st h = exF ev cJ17_bitCount 36 ([some (.int x)], []) (.int x :: st) h := exF_j (i := (i_iload 0 36)) rfl rfl
theorem eJ17_bitCount_36 {ev : xV} {v0 : Option Value} {st : List Value} {h : xH} : exF ev cJ17_bitCount 36 ([v0], []) st h = exF ev cJ17_bitCount 38 ([v0], []) (.int (nI 8) :: st) h := exF_j (i := (i_const (.int (nI 8)) 38)) rfl rfl
theorem eJ17_bitCount_38 {ev : xV} {v0 : Option Value} {x y : Int32} {st : List Value} {h : xH} : exF ev cJ17_bitCount 38 ([v0], []) (.int y :: .int x :: st) h = exF ev cJ17_bitCount 39 ([v0], []) (.int ((x.toUInt32 >>> (y.toUInt32 &&& Int32.toUInt32 31)).toInt32) :: st) h := exF_j (i := (i_ii (fun x y => (x.toUInt32 >>> (y.toUInt32 &&& Int32.toUInt32 31)).toInt32) 39)) rfl rfl
theorem eJ17_bitCount_39 {ev : xV} {v0 : Option Value} {x y : Int32} {st : List Value} {h : xH} : exF ev cJ17_bitCount 39 ([v0], []) (.int y :: .int x :: st) h = exF ev cJ17_bitCount 40 ([v0], []) (.int (x + y) :: st) h := exF_j (i := (i_ii (fun x y => x + y) 40)) rfl rfl
theorem eJ17_bitCount_40 {ev : xV} {v0 : Option Value} {x : Int32} {st : List Value} {h : xH} : exF ev cJ17_bitCount 40 ([v0], []) (.int x :: st) h = exF ev cJ17_bitCount 41 ([some (.int x)], []) st h := exF_j (i := (i_istore 0 41)) rfl rfl
theorem eJ17_bitCount_41 {ev : xV} {x : Int32} {st : List Value} {h : xH} : exF ev cJ17_bitCount 41 ([some (.int x)], []) st h = exF ev cJ17_bitCount 42 ([some (.int x)], []) (.int x :: st) h := exF_j (i := (i_iload 0 42)) rfl rfl
theorem eJ17_bitCount_42 {ev : xV} {x : Int32} {st : List Value} {h : xH} : exF ev cJ17_bitCount 42 ([some (.int x)], []) st h = exF ev cJ17_bitCount 43 ([some (.int x)], []) (.int x :: st) h := exF_j (i := (i_iload 0 43)) rfl rfl
theorem eJ17_bitCount_43 {ev : xV} {v0 : Option Value} {st : List Value} {h : xH} : exF ev cJ17_bitCount 43 ([v0], []) st h = exF ev cJ17_bitCount 45 ([v0], []) (.int (nI 16) :: st) h := exF_j (i := (i_const (.int (nI 16)) 45)) rfl rfl
theorem eJ17_bitCount_45 {ev : xV} {v0 : Option Value} {x y : Int32} {st : List Value} {h : xH} : exF ev cJ17_bitCount 45 ([v0], []) (.int y :: .int x :: st) h = exF ev cJ17_bitCount 46 ([v0], []) (.int ((x.toUInt32 >>> (y.toUInt32 &&& Int32.toUInt32 31)).toInt32) :: st) h := exF_j (i := (i_ii (fun x y => (x.toUInt32 >>> (y.toUInt32 &&& Int32.toUInt32 31)).toInt32) 46)) rfl rfl
theorem eJ17_bitCount_46 {ev : xV} {v0 : Option Value} {x y : Int32} {st : List Value} {h : xH} : exF ev cJ17_bitCount 46 ([v0], []) (.int y :: .int x :: st) h = exF ev cJ17_bitCount 47 ([v0], []) (.int (x + y) :: st) h := exF_j (i := (i_ii (fun x y => x + y) 47)) rfl rfl
theorem eJ17_bitCount_47 {ev : xV} {v0 : Option Value} {x : Int32} {st : List Value} {h : xH} : exF ev cJ17_bitCount 47 ([v0], []) (.int x :: st) h = exF ev cJ17_bitCount 48 ([some (.int x)], []) st h := exF_j (i := (i_istore 0 48)) rfl rfl
theorem eJ17_bitCount_48 {ev : xV} {x : Int32} {st : List Value} {h : xH} : exF ev cJ17_bitCount 48 ([some (.int x)], []) st h = exF ev cJ17_bitCount 49 ([some (.int x)], []) (.int x :: st) h := exF_j (i := (i_iload 0 49)) rfl rfl
theorem eJ17_bitCount_49 {ev : xV} {v0 : Option Value} {st : List Value} {h : xH} : exF ev cJ17_bitCount 49 ([v0], []) st h = exF ev cJ17_bitCount 51 ([v0], []) (.int (nI 63) :: st) h := exF_j (i := (i_const (.int (nI 63)) 51)) rfl rfl
theorem eJ17_bitCount_51 {ev : xV} {v0 : Option Value} {x y : Int32} {st : List Value} {h : xH} : exF ev cJ17_bitCount 51 ([v0], []) (.int y :: .int x :: st) h = exF ev cJ17_bitCount 52 ([v0], []) (.int (x &&& y) :: st) h := exF_j (i := (i_ii (fun x y => x &&& y) 52)) rfl rfl
theorem eJ17_bitCount_52 {ev : xV} {v0 : Option Value} {x : Int32} {h : xH} : exF ev cJ17_bitCount 52 ([v0], []) [.int x] h = some (.inl (some (.int x)), h) := exF_r (i := (i_iret)) rfl rfl
noncomputable def cJ2_init : xC := [(0, i_aload 0 1),
  (1, i_ci [21] 1 0 4),
  (4, i_iload 1 5),
  (5, i_if1 (fun x => x ≤ 0) 19 8),
  (8, i_aload 0 9),
  (9, i_iload 1 10),
  (10, i_newa 4 (.inr (.inr (fun _ => none))) 13),
  (13, i_putfr 21 1 16),
  (16, i_goto 60),
  (19, i_iload 1 20),
  (20, i_if1 (fun x => ¬ x = 0) 33 23),
  (23, i_aload 0 24),
  (24, i_const (.ref 1) 27),
  (27, i_putfr 21 1 30),
  (30, i_goto 60),
  (33, i_no),
  (36, i_dup 37),
  (37, i_no),
  (40, i_dup 41),
  (41, i_no),
  (44, i_no),
  (46, i_no),
  (49, i_no),
  (50, i_no),
  (53, i_no),
  (56, i_no),
  (59, i_no),
  (60, i_vret)]
theorem eJ2_init_0 {ev : xV} {v1 : Option Value} {x : Nat} {st : List Value} {h : xH} : exF ev cJ2_init 0 ([some (.ref x), v1], []) st h = exF ev cJ2_init 1 ([some (.ref x), v1], []) (.ref x :: st) h := exF_j (i := (i_aload 0 1)) rfl rfl
theorem eJ2_init_1 {ev : xV} {v0 v1 : Option Value} {a : Nat} {h : xH} : exF ev cJ2_init 1 ([v0, v1], []) [.ref a] h = xO (xckc h [21] a) (fun _ => xBv (ev 1 [.ref a] h) (fun h => exF ev cJ2_init 4 ([v0, v1], []) [] h)) := exF_cdv (i := (i_ci [21] 1 0 4)) rfl rfl
theorem eJ2_init_4 {ev : xV} {v0 : Option Value} {x : Int32} {st : List Value} {h : xH} : exF ev cJ2_init 4 ([v0, some (.int x)], []) st h = exF ev cJ2_init 5 ([v0, some (.int x)], []) (.int x :: st) h := exF_j (i := (i_iload 1 5)) rfl rfl
theorem eJ2_init_5 {ev : xV} {v0 v1 : Option Value} {x : Int32} {st : List Value} {h : xH} : exF ev cJ2_init 5 ([v0, v1], []) (.int x :: st) h = if x ≤ 0 then exF ev cJ2_init 19 ([v0, v1], []) st h else exF ev cJ2_init 8 ([v0, v1], []) st h := exF_b (i := (i_if1 (fun x => x ≤ 0) 19 8)) rfl rfl
theorem eJ2_init_8 {ev : xV} {v1 : Option Value} {x : Nat} {st : List Value} {h : xH} : exF ev cJ2_init 8 ([some (.ref x), v1], []) st h = exF ev cJ2_init 9 ([some (.ref x), v1], []) (.ref x :: st) h := exF_j (i := (i_aload 0 9)) rfl rfl
theorem eJ2_init_9 {ev : xV} {v0 : Option Value} {x : Int32} {st : List Value} {h : xH} : exF ev cJ2_init 9 ([v0, some (.int x)], []) st h = exF ev cJ2_init 10 ([v0, some (.int x)], []) (.int x :: st) h := exF_j (i := (i_iload 1 10)) rfl rfl
theorem eJ2_init_10 {ev : xV} {v0 v1 : Option Value} {x : Int32} {st : List Value} {h : xH} : exF ev cJ2_init 10 ([v0, v1], []) (.int x :: st) h = xO (xcnt x) (fun k => exF ev cJ2_init 13 ([v0, v1], []) (.ref h.2.1 :: st) (xnew h (.inl (4, k, .inr (.inr (fun _ => none)))) k)) := exF_o (i := (i_newa 4 (.inr (.inr (fun _ => none))) 13)) rfl rfl
theorem eJ2_init_13 {ev : xV} {v0 v1 : Option Value} {x a : Nat} {st : List Value} {h : xH} : exF ev cJ2_init 13 ([v0, v1], []) (.ref x :: .ref a :: st) h = xO (xpf h a 21 1 (.ref x)) (fun h => exF ev cJ2_init 16 ([v0, v1], []) st h) := exF_o (i := (i_putfr 21 1 16)) rfl rfl
theorem eJ2_init_13n {ev : xV} {v0 v1 : Option Value} {a : Nat} {st : List Value} {h : xH} : exF ev cJ2_init 13 ([v0, v1], []) (.null :: .ref a :: st) h = xO (xpf h a 21 1 .null) (fun h => exF ev cJ2_init 16 ([v0, v1], []) st h) := exF_o (i := (i_putfr 21 1 16)) rfl rfl
theorem eJ2_init_16 {ev : xV} {v0 v1 : Option Value} {st : List Value} {h : xH} : exF ev cJ2_init 16 ([v0, v1], []) st h = exF ev cJ2_init 60 ([v0, v1], []) st h := exF_j (i := (i_goto 60)) rfl rfl
theorem eJ2_init_19 {ev : xV} {v0 : Option Value} {x : Int32} {st : List Value} {h : xH} : exF ev cJ2_init 19 ([v0, some (.int x)], []) st h = exF ev cJ2_init 20 ([v0, some (.int x)], []) (.int x :: st) h := exF_j (i := (i_iload 1 20)) rfl rfl
theorem eJ2_init_20 {ev : xV} {v0 v1 : Option Value} {x : Int32} {st : List Value} {h : xH} : exF ev cJ2_init 20 ([v0, v1], []) (.int x :: st) h = if ¬ x = 0 then exF ev cJ2_init 33 ([v0, v1], []) st h else exF ev cJ2_init 23 ([v0, v1], []) st h := exF_b (i := (i_if1 (fun x => ¬ x = 0) 33 23)) rfl rfl
theorem eJ2_init_23 {ev : xV} {v1 : Option Value} {x : Nat} {st : List Value} {h : xH} : exF ev cJ2_init 23 ([some (.ref x), v1], []) st h = exF ev cJ2_init 24 ([some (.ref x), v1], []) (.ref x :: st) h := exF_j (i := (i_aload 0 24)) rfl rfl
theorem eJ2_init_24 {ev : xV} {v0 v1 : Option Value} {st : List Value} {h : xH} : exF ev cJ2_init 24 ([v0, v1], []) st h = exF ev cJ2_init 27 ([v0, v1], []) (.ref 1 :: st) h := exF_j (i := (i_const (.ref 1) 27)) rfl rfl
theorem eJ2_init_27 {ev : xV} {v0 v1 : Option Value} {x a : Nat} {st : List Value} {h : xH} : exF ev cJ2_init 27 ([v0, v1], []) (.ref x :: .ref a :: st) h = xO (xpf h a 21 1 (.ref x)) (fun h => exF ev cJ2_init 30 ([v0, v1], []) st h) := exF_o (i := (i_putfr 21 1 30)) rfl rfl
theorem eJ2_init_27n {ev : xV} {v0 v1 : Option Value} {a : Nat} {st : List Value} {h : xH} : exF ev cJ2_init 27 ([v0, v1], []) (.null :: .ref a :: st) h = xO (xpf h a 21 1 .null) (fun h => exF ev cJ2_init 30 ([v0, v1], []) st h) := exF_o (i := (i_putfr 21 1 30)) rfl rfl
theorem eJ2_init_30 {ev : xV} {v0 v1 : Option Value} {st : List Value} {h : xH} : exF ev cJ2_init 30 ([v0, v1], []) st h = exF ev cJ2_init 60 ([v0, v1], []) st h := exF_j (i := (i_goto 60)) rfl rfl
theorem eJ2_init_36 {ev : xV} {v0 v1 : Option Value} {x : Nat} {st : List Value} {h : xH} : exF ev cJ2_init 36 ([v0, v1], []) (.ref x :: st) h = exF ev cJ2_init 37 ([v0, v1], []) (.ref x :: .ref x :: st) h := exF_j (i := (i_dup 37)) rfl rfl
theorem eJ2_init_40 {ev : xV} {v0 v1 : Option Value} {x : Nat} {st : List Value} {h : xH} : exF ev cJ2_init 40 ([v0, v1], []) (.ref x :: st) h = exF ev cJ2_init 41 ([v0, v1], []) (.ref x :: .ref x :: st) h := exF_j (i := (i_dup 41)) rfl rfl
theorem eJ2_init_60 {ev : xV} {v0 v1 : Option Value} {h : xH} : exF ev cJ2_init 60 ([v0, v1], []) [] h = some (.inl none, h) := exF_r (i := (i_vret)) rfl rfl
noncomputable def cJ2_size : xC := [(0, i_aload 0 1),
  (1, i_getf 21 2 4),
  (4, i_iret)]
theorem eJ2_size_0 {ev : xV} {x : Nat} {st : List Value} {h : xH} : exF ev cJ2_size 0 ([some (.ref x)], []) st h = exF ev cJ2_size 1 ([some (.ref x)], []) (.ref x :: st) h := exF_j (i := (i_aload 0 1)) rfl rfl
theorem eJ2_size_1 {ev : xV} {v0 : Option Value} {a : Nat} {st : List Value} {h : xH} : exF ev cJ2_size 1 ([v0], []) (.ref a :: st) h = xO (xgf h a 21 2) (fun v => exF ev cJ2_size 4 ([v0], []) (v :: st) h) := exF_o (i := (i_getf 21 2 4)) rfl rfl
theorem eJ2_size_4 {ev : xV} {v0 : Option Value} {x : Int32} {h : xH} : exF ev cJ2_size 4 ([v0], []) [.int x] h = some (.inl (some (.int x)), h) := exF_r (i := (i_iret)) rfl rfl
noncomputable def cJ2_get : xC := [(0, i_iload 1 1),
  (1, i_aload 0 2),
  (2, i_getf 21 2 5),
  (5, i_cs 39 2 8),
  (8, i_pop 9),
  (9, i_aload 0 10),
  (10, i_iload 1 11),
  (11, i_cv 21 34 1 14),
  (14, i_aret)]
theorem eJ2_get_0 {ev : xV} {v0 : Option Value} {x : Int32} {st : List Value} {h : xH} : exF ev cJ2_get 0 ([v0, some (.int x)], []) st h = exF ev cJ2_get 1 ([v0, some (.int x)], []) (.int x :: st) h := exF_j (i := (i_iload 1 1)) rfl rfl
theorem eJ2_get_1 {ev : xV} {v1 : Option Value} {x : Nat} {st : List Value} {h : xH} : exF ev cJ2_get 1 ([some (.ref x), v1], []) st h = exF ev cJ2_get 2 ([some (.ref x), v1], []) (.ref x :: st) h := exF_j (i := (i_aload 0 2)) rfl rfl
theorem eJ2_get_2 {ev : xV} {v0 v1 : Option Value} {a : Nat} {st : List Value} {h : xH} : exF ev cJ2_get 2 ([v0, v1], []) (.ref a :: st) h = xO (xgf h a 21 2) (fun v => exF ev cJ2_get 5 ([v0, v1], []) (v :: st) h) := exF_o (i := (i_getf 21 2 5)) rfl rfl
theorem eJ2_get_5 {ev : xV} {v0 v1 : Option Value} {a0 : Value} {a1 : Value} {h : xH} : exF ev cJ2_get 5 ([v0, v1], []) [a1, a0] h = xB (ev 39 [a0, a1] h) (fun v h => exF ev cJ2_get 8 ([v0, v1], []) [v] h) := exF_c (i := (i_cs 39 2 8)) rfl rfl
theorem eJ2_get_8 {ev : xV} {v0 v1 : Option Value} {x : Int32} {st : List Value} {h : xH} : exF ev cJ2_get 8 ([v0, v1], []) (.int x :: st) h = exF ev cJ2_get 9 ([v0, v1], []) st h := exF_j (i := (i_pop 9)) rfl rfl
theorem eJ2_get_9 {ev : xV} {v1 : Option Value} {x : Nat} {st : List Value} {h : xH} : exF ev cJ2_get 9 ([some (.ref x), v1], []) st h = exF ev cJ2_get 10 ([some (.ref x), v1], []) (.ref x :: st) h := exF_j (i := (i_aload 0 10)) rfl rfl
theorem eJ2_get_10 {ev : xV} {v0 : Option Value} {x : Int32} {st : List Value} {h : xH} : exF ev cJ2_get 10 ([v0, some (.int x)], []) st h = exF ev cJ2_get 11 ([v0, some (.int x)], []) (.int x :: st) h := exF_j (i := (i_iload 1 11)) rfl rfl
theorem eJ2_get_11 {ev : xV} {v0 v1 : Option Value} {a0 : Value} {a : Nat} {h : xH} : exF ev cJ2_get 11 ([v0, v1], []) [a0, .ref a] h = xO (xck h a 21) (fun _ => xB (ev 34 [.ref a, a0] h) (fun v h => exF ev cJ2_get 14 ([v0, v1], []) [v] h)) := exF_cd (i := (i_cv 21 34 1 14)) rfl rfl
theorem eJ2_get_14 {ev : xV} {v0 v1 : Option Value} {x : Nat} {h : xH} : exF ev cJ2_get 14 ([v0, v1], []) [.ref x] h = some (.inl (some (.ref x)), h) := exF_r (i := (i_aret)) rfl rfl
theorem eJ2_get_14n {ev : xV} {v0 v1 : Option Value} {h : xH} : exF ev cJ2_get 14 ([v0, v1], []) [.null] h = some (.inl (some .null), h) := exF_r (i := (i_aret)) rfl rfl
noncomputable def cJ2_elementData : xC := [(0, i_aload 0 1),
  (1, i_getf 21 1 4),
  (4, i_iload 1 5),
  (5, i_aq 4 6),
  (6, i_aret)]
theorem eJ2_elementData_0 {ev : xV} {v1 : Option Value} {x : Nat} {st : List Value} {h : xH} : exF ev cJ2_elementData 0 ([some (.ref x), v1], []) st h = exF ev cJ2_elementData 1 ([some (.ref x), v1], []) (.ref x :: st) h := exF_j (i := (i_aload 0 1)) rfl rfl
theorem eJ2_elementData_1 {ev : xV} {v0 v1 : Option Value} {a : Nat} {st : List Value} {h : xH} : exF ev cJ2_elementData 1 ([v0, v1], []) (.ref a :: st) h = xO (xgf h a 21 1) (fun v => exF ev cJ2_elementData 4 ([v0, v1], []) (v :: st) h) := exF_o (i := (i_getf 21 1 4)) rfl rfl
theorem eJ2_elementData_4 {ev : xV} {v0 : Option Value} {x : Int32} {st : List Value} {h : xH} : exF ev cJ2_elementData 4 ([v0, some (.int x)], []) st h = exF ev cJ2_elementData 5 ([v0, some (.int x)], []) (.int x :: st) h := exF_j (i := (i_iload 1 5)) rfl rfl
theorem eJ2_elementData_5 {ev : xV} {v0 v1 : Option Value} {i : Int32} {a : Nat} {st : List Value} {h : xH} : exF ev cJ2_elementData 5 ([v0, v1], []) (.int i :: .ref a :: st) h = xO (xaq h 4 a i) (fun v => exF ev cJ2_elementData 6 ([v0, v1], []) (va_rf v :: st) h) := exF_o (i := (i_aq 4 6)) rfl rfl
theorem eJ2_elementData_6 {ev : xV} {v0 v1 : Option Value} {x : Nat} {h : xH} : exF ev cJ2_elementData 6 ([v0, v1], []) [.ref x] h = some (.inl (some (.ref x)), h) := exF_r (i := (i_aret)) rfl rfl
theorem eJ2_elementData_6n {ev : xV} {v0 v1 : Option Value} {h : xH} : exF ev cJ2_elementData 6 ([v0, v1], []) [.null] h = some (.inl (some .null), h) := exF_r (i := (i_aret)) rfl rfl
noncomputable def cJ2_add : xC := [(0, i_aload 0 1),
  (1, i_dup 2),
  (2, i_getf 21 0 5),
  (5, i_const (.int (nI 1)) 6),
  (6, i_ii (fun x y => x + y) 7),
  (7, i_putfi 21 0 10),
  (10, i_aload 0 11),
  (11, i_aload 1 12),
  (12, i_aload 0 13),
  (13, i_getf 21 1 16),
  (16, i_aload 0 17),
  (17, i_getf 21 2 20),
  (20, i_cvv 21 36 3 23),
  (23, i_const (.int (nI 1)) 24),
  (24, i_zret)]
theorem eJ2_add_0 {ev : xV} {v1 : Option Value} {x : Nat} {st : List Value} {h : xH} : exF ev cJ2_add 0 ([some (.ref x), v1], []) st h = exF ev cJ2_add 1 ([some (.ref x), v1], []) (.ref x :: st) h := exF_j (i := (i_aload 0 1)) rfl rfl
theorem eJ2_add_1 {ev : xV} {v0 v1 : Option Value} {x : Nat} {st : List Value} {h : xH} : exF ev cJ2_add 1 ([v0, v1], []) (.ref x :: st) h = exF ev cJ2_add 2 ([v0, v1], []) (.ref x :: .ref x :: st) h := exF_j (i := (i_dup 2)) rfl rfl
theorem eJ2_add_2 {ev : xV} {v0 v1 : Option Value} {a : Nat} {st : List Value} {h : xH} : exF ev cJ2_add 2 ([v0, v1], []) (.ref a :: st) h = xO (xgf h a 21 0) (fun v => exF ev cJ2_add 5 ([v0, v1], []) (v :: st) h) := exF_o (i := (i_getf 21 0 5)) rfl rfl
theorem eJ2_add_5 {ev : xV} {v0 v1 : Option Value} {st : List Value} {h : xH} : exF ev cJ2_add 5 ([v0, v1], []) st h = exF ev cJ2_add 6 ([v0, v1], []) (.int (nI 1) :: st) h := exF_j (i := (i_const (.int (nI 1)) 6)) rfl rfl
theorem eJ2_add_6 {ev : xV} {v0 v1 : Option Value} {x y : Int32} {st : List Value} {h : xH} : exF ev cJ2_add 6 ([v0, v1], []) (.int y :: .int x :: st) h = exF ev cJ2_add 7 ([v0, v1], []) (.int (x + y) :: st) h := exF_j (i := (i_ii (fun x y => x + y) 7)) rfl rfl
theorem eJ2_add_7 {ev : xV} {v0 v1 : Option Value} {x : Int32} {a : Nat} {st : List Value} {h : xH} : exF ev cJ2_add 7 ([v0, v1], []) (.int x :: .ref a :: st) h = xO (xpf h a 21 0 (.int x)) (fun h => exF ev cJ2_add 10 ([v0, v1], []) st h) := exF_o (i := (i_putfi 21 0 10)) rfl rfl
theorem eJ2_add_10 {ev : xV} {v1 : Option Value} {x : Nat} {st : List Value} {h : xH} : exF ev cJ2_add 10 ([some (.ref x), v1], []) st h = exF ev cJ2_add 11 ([some (.ref x), v1], []) (.ref x :: st) h := exF_j (i := (i_aload 0 11)) rfl rfl
theorem eJ2_add_11 {ev : xV} {v0 : Option Value} {x : Nat} {st : List Value} {h : xH} : exF ev cJ2_add 11 ([v0, some (.ref x)], []) st h = exF ev cJ2_add 12 ([v0, some (.ref x)], []) (.ref x :: st) h := exF_j (i := (i_aload 1 12)) rfl rfl
theorem eJ2_add_11n {ev : xV} {v0 : Option Value} {st : List Value} {h : xH} : exF ev cJ2_add 11 ([v0, some .null], []) st h = exF ev cJ2_add 12 ([v0, some .null], []) (.null :: st) h := exF_j (i := (i_aload 1 12)) rfl rfl
theorem eJ2_add_12 {ev : xV} {v1 : Option Value} {x : Nat} {st : List Value} {h : xH} : exF ev cJ2_add 12 ([some (.ref x), v1], []) st h = exF ev cJ2_add 13 ([some (.ref x), v1], []) (.ref x :: st) h := exF_j (i := (i_aload 0 13)) rfl rfl
theorem eJ2_add_13 {ev : xV} {v0 v1 : Option Value} {a : Nat} {st : List Value} {h : xH} : exF ev cJ2_add 13 ([v0, v1], []) (.ref a :: st) h = xO (xgf h a 21 1) (fun v => exF ev cJ2_add 16 ([v0, v1], []) (v :: st) h) := exF_o (i := (i_getf 21 1 16)) rfl rfl
theorem eJ2_add_16 {ev : xV} {v1 : Option Value} {x : Nat} {st : List Value} {h : xH} : exF ev cJ2_add 16 ([some (.ref x), v1], []) st h = exF ev cJ2_add 17 ([some (.ref x), v1], []) (.ref x :: st) h := exF_j (i := (i_aload 0 17)) rfl rfl
theorem eJ2_add_17 {ev : xV} {v0 v1 : Option Value} {a : Nat} {st : List Value} {h : xH} : exF ev cJ2_add 17 ([v0, v1], []) (.ref a :: st) h = xO (xgf h a 21 2) (fun v => exF ev cJ2_add 20 ([v0, v1], []) (v :: st) h) := exF_o (i := (i_getf 21 2 20)) rfl rfl
theorem eJ2_add_20 {ev : xV} {v0 v1 : Option Value} {a0 : Value} {a1 : Value} {a2 : Value} {a : Nat} {h : xH} : exF ev cJ2_add 20 ([v0, v1], []) [a2, a1, a0, .ref a] h = xO (xck h a 21) (fun _ => xBv (ev 36 [.ref a, a0, a1, a2] h) (fun h => exF ev cJ2_add 23 ([v0, v1], []) [] h)) := exF_cdv (i := (i_cvv 21 36 3 23)) rfl rfl
theorem eJ2_add_23 {ev : xV} {v0 v1 : Option Value} {st : List Value} {h : xH} : exF ev cJ2_add 23 ([v0, v1], []) st h = exF ev cJ2_add 24 ([v0, v1], []) (.int (nI 1) :: st) h := exF_j (i := (i_const (.int (nI 1)) 24)) rfl rfl
theorem eJ2_add_24 {ev : xV} {v0 v1 : Option Value} {x : Int32} {h : xH} : exF ev cJ2_add 24 ([v0, v1], []) [.int x] h = if x = nI 0 ∨ x = nI 1 then some (.inl (some (.int x)), h) else none := exF_z (i := (i_zret)) rfl rfl
theorem eJ2_add_24b0 {ev : xV} {v0 v1 : Option Value} {h : xH} : exF ev cJ2_add 24 ([v0, v1], []) [.int (nI 0)] h = some (.inl (some (.int (nI 0))), h) := exF_r (i := (i_zret)) rfl i_zret_0
theorem eJ2_add_24b1 {ev : xV} {v0 v1 : Option Value} {h : xH} : exF ev cJ2_add 24 ([v0, v1], []) [.int (nI 1)] h = some (.inl (some (.int (nI 1))), h) := exF_r (i := (i_zret)) rfl i_zret_1
theorem eJ2_add_24b {ev : xV} {v0 v1 : Option Value} {b : Bool} {h : xH} : exF ev cJ2_add 24 ([v0, v1], []) [.int (bI b)] h = some (.inl (some (.int (bI b))), h) := exF_r (i := (i_zret)) rfl (i_zret_b b)
noncomputable def cJ2_add_2 : xC := [(0, i_iload 3 1),
  (1, i_aload 2 2),
  (2, i_len 3),
  (3, i_if2 (fun x y => ¬ x = y) 11 6),
  (6, i_aload 0 7),
  (7, i_cv 21 37 0 10),
  (10, i_astore 2 11),
  (11, i_aload 2 12),
  (12, i_iload 3 13),
  (13, i_aload 1 14),
  (14, i_sq [22, 6, 15, 16, 17, 18, 19] 4 15),
  (15, i_aload 0 16),
  (16, i_iload 3 17),
  (17, i_const (.int (nI 1)) 18),
  (18, i_ii (fun x y => x + y) 19),
  (19, i_putfi 21 2 22),
  (22, i_vret)]
theorem eJ2_add_2_0 {ev : xV} {v0 v1 v2 : Option Value} {x : Int32} {st : List Value} {h : xH} : exF ev cJ2_add_2 0 ([v0, v1, v2, some (.int x)], []) st h = exF ev cJ2_add_2 1 ([v0, v1, v2, some (.int x)], []) (.int x :: st) h := exF_j (i := (i_iload 3 1)) rfl rfl
theorem eJ2_add_2_1 {ev : xV} {v0 v1 v3 : Option Value} {x : Nat} {st : List Value} {h : xH} : exF ev cJ2_add_2 1 ([v0, v1, some (.ref x), v3], []) st h = exF ev cJ2_add_2 2 ([v0, v1, some (.ref x), v3], []) (.ref x :: st) h := exF_j (i := (i_aload 2 2)) rfl rfl
theorem eJ2_add_2_1n {ev : xV} {v0 v1 v3 : Option Value} {st : List Value} {h : xH} : exF ev cJ2_add_2 1 ([v0, v1, some .null, v3], []) st h = exF ev cJ2_add_2 2 ([v0, v1, some .null, v3], []) (.null :: st) h := exF_j (i := (i_aload 2 2)) rfl rfl
theorem eJ2_add_2_2 {ev : xV} {v0 v1 v2 v3 : Option Value} {a : Nat} {st : List Value} {h : xH} : exF ev cJ2_add_2 2 ([v0, v1, v2, v3], []) (.ref a :: st) h = xO (xlen h a) (fun v => exF ev cJ2_add_2 3 ([v0, v1, v2, v3], []) (.int v :: st) h) := exF_o (i := (i_len 3)) rfl rfl
theorem eJ2_add_2_3 {ev : xV} {v0 v1 v2 v3 : Option Value} {x y : Int32} {st : List Value} {h : xH} : exF ev cJ2_add_2 3 ([v0, v1, v2, v3], []) (.int y :: .int x :: st) h = if ¬ x = y then exF ev cJ2_add_2 11 ([v0, v1, v2, v3], []) st h else exF ev cJ2_add_2 6 ([v0, v1, v2, v3], []) st h := exF_b (i := (i_if2 (fun x y => ¬ x = y) 11 6)) rfl rfl
theorem eJ2_add_2_6 {ev : xV} {v1 v2 v3 : Option Value} {x : Nat} {st : List Value} {h : xH} : exF ev cJ2_add_2 6 ([some (.ref x), v1, v2, v3], []) st h = exF ev cJ2_add_2 7 ([some (.ref x), v1, v2, v3], []) (.ref x :: st) h := exF_j (i := (i_aload 0 7)) rfl rfl
theorem eJ2_add_2_7 {ev : xV} {v0 v1 v2 v3 : Option Value} {a : Nat} {h : xH} : exF ev cJ2_add_2 7 ([v0, v1, v2, v3], []) [.ref a] h = xO (xck h a 21) (fun _ => xB (ev 37 [.ref a] h) (fun v h => exF ev cJ2_add_2 10 ([v0, v1, v2, v3], []) [v] h)) := exF_cd (i := (i_cv 21 37 0 10)) rfl rfl
theorem eJ2_add_2_10 {ev : xV} {v0 v1 v2 v3 : Option Value} {x : Nat} {st : List Value} {h : xH} : exF ev cJ2_add_2 10 ([v0, v1, v2, v3], []) (.ref x :: st) h = exF ev cJ2_add_2 11 ([v0, v1, some (.ref x), v3], []) st h := exF_j (i := (i_astore 2 11)) rfl rfl
theorem eJ2_add_2_10n {ev : xV} {v0 v1 v2 v3 : Option Value} {st : List Value} {h : xH} : exF ev cJ2_add_2 10 ([v0, v1, v2, v3], []) (.null :: st) h = exF ev cJ2_add_2 11 ([v0, v1, some .null, v3], []) st h := exF_j (i := (i_astore 2 11)) rfl rfl
theorem eJ2_add_2_11 {ev : xV} {v0 v1 v3 : Option Value} {x : Nat} {st : List Value} {h : xH} : exF ev cJ2_add_2 11 ([v0, v1, some (.ref x), v3], []) st h = exF ev cJ2_add_2 12 ([v0, v1, some (.ref x), v3], []) (.ref x :: st) h := exF_j (i := (i_aload 2 12)) rfl rfl
theorem eJ2_add_2_11n {ev : xV} {v0 v1 v3 : Option Value} {st : List Value} {h : xH} : exF ev cJ2_add_2 11 ([v0, v1, some .null, v3], []) st h = exF ev cJ2_add_2 12 ([v0, v1, some .null, v3], []) (.null :: st) h := exF_j (i := (i_aload 2 12)) rfl rfl
theorem eJ2_add_2_12 {ev : xV} {v0 v1 v2 : Option Value} {x : Int32} {st : List Value} {h : xH} : exF ev cJ2_add_2 12 ([v0, v1, v2, some (.int x)], []) st h = exF ev cJ2_add_2 13 ([v0, v1, v2, some (.int x)], []) (.int x :: st) h := exF_j (i := (i_iload 3 13)) rfl rfl
theorem eJ2_add_2_13 {ev : xV} {v0 v2 v3 : Option Value} {x : Nat} {st : List Value} {h : xH} : exF ev cJ2_add_2 13 ([v0, some (.ref x), v2, v3], []) st h = exF ev cJ2_add_2 14 ([v0, some (.ref x), v2, v3], []) (.ref x :: st) h := exF_j (i := (i_aload 1 14)) rfl rfl
theorem eJ2_add_2_13n {ev : xV} {v0 v2 v3 : Option Value} {st : List Value} {h : xH} : exF ev cJ2_add_2 13 ([v0, some .null, v2, v3], []) st h = exF ev cJ2_add_2 14 ([v0, some .null, v2, v3], []) (.null :: st) h := exF_j (i := (i_aload 1 14)) rfl rfl
theorem eJ2_add_2_14 {ev : xV} {v0 v1 v2 v3 : Option Value} {v : Nat} {i : Int32} {a : Nat} {st : List Value} {h : xH} : exF ev cJ2_add_2 14 ([v0, v1, v2, v3], []) (.ref v :: .int i :: .ref a :: st) h = xO (xsqc h [22, 6, 15, 16, 17, 18, 19] 4 a i v) (fun h => exF ev cJ2_add_2 15 ([v0, v1, v2, v3], []) st h) := exF_o (i := (i_sq [22, 6, 15, 16, 17, 18, 19] 4 15)) rfl rfl
theorem eJ2_add_2_14n {ev : xV} {v0 v1 v2 v3 : Option Value} {i : Int32} {a : Nat} {st : List Value} {h : xH} : exF ev cJ2_add_2 14 ([v0, v1, v2, v3], []) (.null :: .int i :: .ref a :: st) h = xO (xsq h 4 a i none) (fun h => exF ev cJ2_add_2 15 ([v0, v1, v2, v3], []) st h) := exF_o (i := (i_sq [22, 6, 15, 16, 17, 18, 19] 4 15)) rfl rfl
theorem eJ2_add_2_15 {ev : xV} {v1 v2 v3 : Option Value} {x : Nat} {st : List Value} {h : xH} : exF ev cJ2_add_2 15 ([some (.ref x), v1, v2, v3], []) st h = exF ev cJ2_add_2 16 ([some (.ref x), v1, v2, v3], []) (.ref x :: st) h := exF_j (i := (i_aload 0 16)) rfl rfl
theorem eJ2_add_2_16 {ev : xV} {v0 v1 v2 : Option Value} {x : Int32} {st : List Value} {h : xH} : exF ev cJ2_add_2 16 ([v0, v1, v2, some (.int x)], []) st h = exF ev cJ2_add_2 17 ([v0, v1, v2, some (.int x)], []) (.int x :: st) h := exF_j (i := (i_iload 3 17)) rfl rfl
theorem eJ2_add_2_17 {ev : xV} {v0 v1 v2 v3 : Option Value} {st : List Value} {h : xH} : exF ev cJ2_add_2 17 ([v0, v1, v2, v3], []) st h = exF ev cJ2_add_2 18 ([v0, v1, v2, v3], []) (.int (nI 1) :: st) h := exF_j (i := (i_const (.int (nI 1)) 18)) rfl rfl
theorem eJ2_add_2_18 {ev : xV} {v0 v1 v2 v3 : Option Value} {x y : Int32} {st : List Value} {h : xH} : exF ev cJ2_add_2 18 ([v0, v1, v2, v3], []) (.int y :: .int x :: st) h = exF ev cJ2_add_2 19 ([v0, v1, v2, v3], []) (.int (x + y) :: st) h := exF_j (i := (i_ii (fun x y => x + y) 19)) rfl rfl
theorem eJ2_add_2_19 {ev : xV} {v0 v1 v2 v3 : Option Value} {x : Int32} {a : Nat} {st : List Value} {h : xH} : exF ev cJ2_add_2 19 ([v0, v1, v2, v3], []) (.int x :: .ref a :: st) h = xO (xpf h a 21 2 (.int x)) (fun h => exF ev cJ2_add_2 22 ([v0, v1, v2, v3], []) st h) := exF_o (i := (i_putfi 21 2 22)) rfl rfl
theorem eJ2_add_2_22 {ev : xV} {v0 v1 v2 v3 : Option Value} {h : xH} : exF ev cJ2_add_2 22 ([v0, v1, v2, v3], []) [] h = some (.inl none, h) := exF_r (i := (i_vret)) rfl rfl
noncomputable def cJ2_grow : xC := [(0, i_aload 0 1),
  (1, i_aload 0 2),
  (2, i_getf 21 2 5),
  (5, i_const (.int (nI 1)) 6),
  (6, i_ii (fun x y => x + y) 7),
  (7, i_cv 21 38 1 10),
  (10, i_aret)]
theorem eJ2_grow_0 {ev : xV} {x : Nat} {st : List Value} {h : xH} : exF ev cJ2_grow 0 ([some (.ref x)], []) st h = exF ev cJ2_grow 1 ([some (.ref x)], []) (.ref x :: st) h := exF_j (i := (i_aload 0 1)) rfl rfl
theorem eJ2_grow_1 {ev : xV} {x : Nat} {st : List Value} {h : xH} : exF ev cJ2_grow 1 ([some (.ref x)], []) st h = exF ev cJ2_grow 2 ([some (.ref x)], []) (.ref x :: st) h := exF_j (i := (i_aload 0 2)) rfl rfl
theorem eJ2_grow_2 {ev : xV} {v0 : Option Value} {a : Nat} {st : List Value} {h : xH} : exF ev cJ2_grow 2 ([v0], []) (.ref a :: st) h = xO (xgf h a 21 2) (fun v => exF ev cJ2_grow 5 ([v0], []) (v :: st) h) := exF_o (i := (i_getf 21 2 5)) rfl rfl
theorem eJ2_grow_5 {ev : xV} {v0 : Option Value} {st : List Value} {h : xH} : exF ev cJ2_grow 5 ([v0], []) st h = exF ev cJ2_grow 6 ([v0], []) (.int (nI 1) :: st) h := exF_j (i := (i_const (.int (nI 1)) 6)) rfl rfl
theorem eJ2_grow_6 {ev : xV} {v0 : Option Value} {x y : Int32} {st : List Value} {h : xH} : exF ev cJ2_grow 6 ([v0], []) (.int y :: .int x :: st) h = exF ev cJ2_grow 7 ([v0], []) (.int (x + y) :: st) h := exF_j (i := (i_ii (fun x y => x + y) 7)) rfl rfl
theorem eJ2_grow_7 {ev : xV} {v0 : Option Value} {a0 : Value} {a : Nat} {h : xH} : exF ev cJ2_grow 7 ([v0], []) [a0, .ref a] h = xO (xck h a 21) (fun _ => xB (ev 38 [.ref a, a0] h) (fun v h => exF ev cJ2_grow 10 ([v0], []) [v] h)) := exF_cd (i := (i_cv 21 38 1 10)) rfl rfl
theorem eJ2_grow_10 {ev : xV} {v0 : Option Value} {x : Nat} {h : xH} : exF ev cJ2_grow 10 ([v0], []) [.ref x] h = some (.inl (some (.ref x)), h) := exF_r (i := (i_aret)) rfl rfl
theorem eJ2_grow_10n {ev : xV} {v0 : Option Value} {h : xH} : exF ev cJ2_grow 10 ([v0], []) [.null] h = some (.inl (some .null), h) := exF_r (i := (i_aret)) rfl rfl
noncomputable def cJ2_grow_2 : xC := [(0, i_aload 0 1),
  (1, i_getf 21 1 4),
  (4, i_len 5),
  (5, i_istore 2 6),
  (6, i_iload 2 7),
  (7, i_if1 (fun x => 0 < x) 20 10),
  (10, i_aload 0 11),
  (11, i_getf 21 1 14),
  (14, i_const (.ref 22) 17),
  (17, i_acmp true 45 20),
  (20, i_iload 2 21),
  (21, i_iload 1 22),
  (22, i_iload 2 23),
  (23, i_ii (fun x y => x - y) 24),
  (24, i_iload 2 25),
  (25, i_const (.int (nI 1)) 26),
  (26, i_ii (fun x y => x >>> (y &&& 31)) 27),
  (27, i_cs 20 3 30),
  (30, i_istore 3 31),
  (31, i_aload 0 32),
  (32, i_aload 0 33),
  (33, i_getf 21 1 36),
  (36, i_iload 3 37),
  (37, i_cs 26 2 40),
  (40, i_dup_x1 41),
  (41, i_putfr 21 1 44),
  (44, i_aret),
  (45, i_aload 0 46),
  (46, i_const (.int (nI 10)) 48),
  (48, i_iload 1 49),
  (49, i_cs 62 2 52),
  (52, i_newa 4 (.inr (.inr (fun _ => none))) 55),
  (55, i_dup_x1 56),
  (56, i_putfr 21 1 59),
  (59, i_aret)]
theorem eJ2_grow_2_0 {ev : xV} {v1 v2 v3 : Option Value} {x : Nat} {st : List Value} {h : xH} : exF ev cJ2_grow_2 0 ([some (.ref x), v1, v2, v3], []) st h = exF ev cJ2_grow_2 1 ([some (.ref x), v1, v2, v3], []) (.ref x :: st) h := exF_j (i := (i_aload 0 1)) rfl rfl
theorem eJ2_grow_2_1 {ev : xV} {v0 v1 v2 v3 : Option Value} {a : Nat} {st : List Value} {h : xH} : exF ev cJ2_grow_2 1 ([v0, v1, v2, v3], []) (.ref a :: st) h = xO (xgf h a 21 1) (fun v => exF ev cJ2_grow_2 4 ([v0, v1, v2, v3], []) (v :: st) h) := exF_o (i := (i_getf 21 1 4)) rfl rfl
theorem eJ2_grow_2_4 {ev : xV} {v0 v1 v2 v3 : Option Value} {a : Nat} {st : List Value} {h : xH} : exF ev cJ2_grow_2 4 ([v0, v1, v2, v3], []) (.ref a :: st) h = xO (xlen h a) (fun v => exF ev cJ2_grow_2 5 ([v0, v1, v2, v3], []) (.int v :: st) h) := exF_o (i := (i_len 5)) rfl rfl
theorem eJ2_grow_2_5 {ev : xV} {v0 v1 v2 v3 : Option Value} {x : Int32} {st : List Value} {h : xH} : exF ev cJ2_grow_2 5 ([v0, v1, v2, v3], []) (.int x :: st) h = exF ev cJ2_grow_2 6 ([v0, v1, some (.int x), v3], []) st h := exF_j (i := (i_istore 2 6)) rfl rfl
theorem eJ2_grow_2_6 {ev : xV} {v0 v1 v3 : Option Value} {x : Int32} {st : List Value} {h : xH} : exF ev cJ2_grow_2 6 ([v0, v1, some (.int x), v3], []) st h = exF ev cJ2_grow_2 7 ([v0, v1, some (.int x), v3], []) (.int x :: st) h := exF_j (i := (i_iload 2 7)) rfl rfl
theorem eJ2_grow_2_7 {ev : xV} {v0 v1 v2 v3 : Option Value} {x : Int32} {st : List Value} {h : xH} : exF ev cJ2_grow_2 7 ([v0, v1, v2, v3], []) (.int x :: st) h = if 0 < x then exF ev cJ2_grow_2 20 ([v0, v1, v2, v3], []) st h else exF ev cJ2_grow_2 10 ([v0, v1, v2, v3], []) st h := exF_b (i := (i_if1 (fun x => 0 < x) 20 10)) rfl rfl
theorem eJ2_grow_2_10 {ev : xV} {v1 v2 v3 : Option Value} {x : Nat} {st : List Value} {h : xH} : exF ev cJ2_grow_2 10 ([some (.ref x), v1, v2, v3], []) st h = exF ev cJ2_grow_2 11 ([some (.ref x), v1, v2, v3], []) (.ref x :: st) h := exF_j (i := (i_aload 0 11)) rfl rfl
theorem eJ2_grow_2_11 {ev : xV} {v0 v1 v2 v3 : Option Value} {a : Nat} {st : List Value} {h : xH} : exF ev cJ2_grow_2 11 ([v0, v1, v2, v3], []) (.ref a :: st) h = xO (xgf h a 21 1) (fun v => exF ev cJ2_grow_2 14 ([v0, v1, v2, v3], []) (v :: st) h) := exF_o (i := (i_getf 21 1 14)) rfl rfl
theorem eJ2_grow_2_14 {ev : xV} {v0 v1 v2 v3 : Option Value} {st : List Value} {h : xH} : exF ev cJ2_grow_2 14 ([v0, v1, v2, v3], []) st h = exF ev cJ2_grow_2 17 ([v0, v1, v2, v3], []) (.ref 22 :: st) h := exF_j (i := (i_const (.ref 22) 17)) rfl rfl
theorem eJ2_grow_2_17 {ev : xV} {v0 v1 v2 v3 : Option Value} {a b : Nat} {st : List Value} {h : xH} : exF ev cJ2_grow_2 17 ([v0, v1, v2, v3], []) (.ref b :: .ref a :: st) h = xO (xaeq a b) (fun q => exF ev cJ2_grow_2 (bif q == true then 45 else 20) ([v0, v1, v2, v3], []) st h) := exF_a (i := (i_acmp true 45 20)) rfl rfl
theorem eJ2_grow_2_20 {ev : xV} {v0 v1 v3 : Option Value} {x : Int32} {st : List Value} {h : xH} : exF ev cJ2_grow_2 20 ([v0, v1, some (.int x), v3], []) st h = exF ev cJ2_grow_2 21 ([v0, v1, some (.int x), v3], []) (.int x :: st) h := exF_j (i := (i_iload 2 21)) rfl rfl
theorem eJ2_grow_2_21 {ev : xV} {v0 v2 v3 : Option Value} {x : Int32} {st : List Value} {h : xH} : exF ev cJ2_grow_2 21 ([v0, some (.int x), v2, v3], []) st h = exF ev cJ2_grow_2 22 ([v0, some (.int x), v2, v3], []) (.int x :: st) h := exF_j (i := (i_iload 1 22)) rfl rfl
theorem eJ2_grow_2_22 {ev : xV} {v0 v1 v3 : Option Value} {x : Int32} {st : List Value} {h : xH} : exF ev cJ2_grow_2 22 ([v0, v1, some (.int x), v3], []) st h = exF ev cJ2_grow_2 23 ([v0, v1, some (.int x), v3], []) (.int x :: st) h := exF_j (i := (i_iload 2 23)) rfl rfl
theorem eJ2_grow_2_23 {ev : xV} {v0 v1 v2 v3 : Option Value} {x y : Int32} {st : List Value} {h : xH} : exF ev cJ2_grow_2 23 ([v0, v1, v2, v3], []) (.int y :: .int x :: st) h = exF ev cJ2_grow_2 24 ([v0, v1, v2, v3], []) (.int (x - y) :: st) h := exF_j (i := (i_ii (fun x y => x - y) 24)) rfl rfl
theorem eJ2_grow_2_24 {ev : xV} {v0 v1 v3 : Option Value} {x : Int32} {st : List Value} {h : xH} : exF ev cJ2_grow_2 24 ([v0, v1, some (.int x), v3], []) st h = exF ev cJ2_grow_2 25 ([v0, v1, some (.int x), v3], []) (.int x :: st) h := exF_j (i := (i_iload 2 25)) rfl rfl
theorem eJ2_grow_2_25 {ev : xV} {v0 v1 v2 v3 : Option Value} {st : List Value} {h : xH} : exF ev cJ2_grow_2 25 ([v0, v1, v2, v3], []) st h = exF ev cJ2_grow_2 26 ([v0, v1, v2, v3], []) (.int (nI 1) :: st) h := exF_j (i := (i_const (.int (nI 1)) 26)) rfl rfl
theorem eJ2_grow_2_26 {ev : xV} {v0 v1 v2 v3 : Option Value} {x y : Int32} {st : List Value} {h : xH} : exF ev cJ2_grow_2 26 ([v0, v1, v2, v3], []) (.int y :: .int x :: st) h = exF ev cJ2_grow_2 27 ([v0, v1, v2, v3], []) (.int (x >>> (y &&& 31)) :: st) h := exF_j (i := (i_ii (fun x y => x >>> (y &&& 31)) 27)) rfl rfl
theorem eJ2_grow_2_27 {ev : xV} {v0 v1 v2 v3 : Option Value} {a0 : Value} {a1 : Value} {a2 : Value} {h : xH} : exF ev cJ2_grow_2 27 ([v0, v1, v2, v3], []) [a2, a1, a0] h = xB (ev 20 [a0, a1, a2] h) (fun v h => exF ev cJ2_grow_2 30 ([v0, v1, v2, v3], []) [v] h) := exF_c (i := (i_cs 20 3 30)) rfl rfl
theorem eJ2_grow_2_30 {ev : xV} {v0 v1 v2 v3 : Option Value} {x : Int32} {st : List Value} {h : xH} : exF ev cJ2_grow_2 30 ([v0, v1, v2, v3], []) (.int x :: st) h = exF ev cJ2_grow_2 31 ([v0, v1, v2, some (.int x)], []) st h := exF_j (i := (i_istore 3 31)) rfl rfl
theorem eJ2_grow_2_31 {ev : xV} {v1 v2 v3 : Option Value} {x : Nat} {st : List Value} {h : xH} : exF ev cJ2_grow_2 31 ([some (.ref x), v1, v2, v3], []) st h = exF ev cJ2_grow_2 32 ([some (.ref x), v1, v2, v3], []) (.ref x :: st) h := exF_j (i := (i_aload 0 32)) rfl rfl
theorem eJ2_grow_2_32 {ev : xV} {v1 v2 v3 : Option Value} {x : Nat} {st : List Value} {h : xH} : exF ev cJ2_grow_2 32 ([some (.ref x), v1, v2, v3], []) st h = exF ev cJ2_grow_2 33 ([some (.ref x), v1, v2, v3], []) (.ref x :: st) h := exF_j (i := (i_aload 0 33)) rfl rfl
theorem eJ2_grow_2_33 {ev : xV} {v0 v1 v2 v3 : Option Value} {a : Nat} {st : List Value} {h : xH} : exF ev cJ2_grow_2 33 ([v0, v1, v2, v3], []) (.ref a :: st) h = xO (xgf h a 21 1) (fun v => exF ev cJ2_grow_2 36 ([v0, v1, v2, v3], []) (v :: st) h) := exF_o (i := (i_getf 21 1 36)) rfl rfl
theorem eJ2_grow_2_36 {ev : xV} {v0 v1 v2 : Option Value} {x : Int32} {st : List Value} {h : xH} : exF ev cJ2_grow_2 36 ([v0, v1, v2, some (.int x)], []) st h = exF ev cJ2_grow_2 37 ([v0, v1, v2, some (.int x)], []) (.int x :: st) h := exF_j (i := (i_iload 3 37)) rfl rfl
theorem eJ2_grow_2_37 {ev : xV} {v0 v1 v2 v3 : Option Value} {a0 : Value} {a1 : Value} {r0 : Value} {h : xH} : exF ev cJ2_grow_2 37 ([v0, v1, v2, v3], []) [a1, a0, r0] h = xB (ev 26 [a0, a1] h) (fun v h => exF ev cJ2_grow_2 40 ([v0, v1, v2, v3], []) [v, r0] h) := exF_c (i := (i_cs 26 2 40)) rfl rfl
theorem eJ2_grow_2_40 {ev : xV} {v0 v1 v2 v3 : Option Value} {x y : Nat} {st : List Value} {h : xH} : exF ev cJ2_grow_2 40 ([v0, v1, v2, v3], []) (.ref x :: .ref y :: st) h = exF ev cJ2_grow_2 41 ([v0, v1, v2, v3], []) (.ref x :: .ref y :: .ref x :: st) h := exF_j (i := (i_dup_x1 41)) rfl rfl
theorem eJ2_grow_2_41 {ev : xV} {v0 v1 v2 v3 : Option Value} {x a : Nat} {st : List Value} {h : xH} : exF ev cJ2_grow_2 41 ([v0, v1, v2, v3], []) (.ref x :: .ref a :: st) h = xO (xpf h a 21 1 (.ref x)) (fun h => exF ev cJ2_grow_2 44 ([v0, v1, v2, v3], []) st h) := exF_o (i := (i_putfr 21 1 44)) rfl rfl
theorem eJ2_grow_2_41n {ev : xV} {v0 v1 v2 v3 : Option Value} {a : Nat} {st : List Value} {h : xH} : exF ev cJ2_grow_2 41 ([v0, v1, v2, v3], []) (.null :: .ref a :: st) h = xO (xpf h a 21 1 .null) (fun h => exF ev cJ2_grow_2 44 ([v0, v1, v2, v3], []) st h) := exF_o (i := (i_putfr 21 1 44)) rfl rfl
theorem eJ2_grow_2_44 {ev : xV} {v0 v1 v2 v3 : Option Value} {x : Nat} {h : xH} : exF ev cJ2_grow_2 44 ([v0, v1, v2, v3], []) [.ref x] h = some (.inl (some (.ref x)), h) := exF_r (i := (i_aret)) rfl rfl
theorem eJ2_grow_2_44n {ev : xV} {v0 v1 v2 v3 : Option Value} {h : xH} : exF ev cJ2_grow_2 44 ([v0, v1, v2, v3], []) [.null] h = some (.inl (some .null), h) := exF_r (i := (i_aret)) rfl rfl
theorem eJ2_grow_2_45 {ev : xV} {v1 v2 v3 : Option Value} {x : Nat} {st : List Value} {h : xH} : exF ev cJ2_grow_2 45 ([some (.ref x), v1, v2, v3], []) st h = exF ev cJ2_grow_2 46 ([some (.ref x), v1, v2, v3], []) (.ref x :: st) h := exF_j (i := (i_aload 0 46)) rfl rfl
theorem eJ2_grow_2_46 {ev : xV} {v0 v1 v2 v3 : Option Value} {st : List Value} {h : xH} : exF ev cJ2_grow_2 46 ([v0, v1, v2, v3], []) st h = exF ev cJ2_grow_2 48 ([v0, v1, v2, v3], []) (.int (nI 10) :: st) h := exF_j (i := (i_const (.int (nI 10)) 48)) rfl rfl
theorem eJ2_grow_2_48 {ev : xV} {v0 v2 v3 : Option Value} {x : Int32} {st : List Value} {h : xH} : exF ev cJ2_grow_2 48 ([v0, some (.int x), v2, v3], []) st h = exF ev cJ2_grow_2 49 ([v0, some (.int x), v2, v3], []) (.int x :: st) h := exF_j (i := (i_iload 1 49)) rfl rfl
theorem eJ2_grow_2_49 {ev : xV} {v0 v1 v2 v3 : Option Value} {a0 : Value} {a1 : Value} {r0 : Value} {h : xH} : exF ev cJ2_grow_2 49 ([v0, v1, v2, v3], []) [a1, a0, r0] h = xB (ev 62 [a0, a1] h) (fun v h => exF ev cJ2_grow_2 52 ([v0, v1, v2, v3], []) [v, r0] h) := exF_c (i := (i_cs 62 2 52)) rfl rfl
theorem eJ2_grow_2_52 {ev : xV} {v0 v1 v2 v3 : Option Value} {x : Int32} {st : List Value} {h : xH} : exF ev cJ2_grow_2 52 ([v0, v1, v2, v3], []) (.int x :: st) h = xO (xcnt x) (fun k => exF ev cJ2_grow_2 55 ([v0, v1, v2, v3], []) (.ref h.2.1 :: st) (xnew h (.inl (4, k, .inr (.inr (fun _ => none)))) k)) := exF_o (i := (i_newa 4 (.inr (.inr (fun _ => none))) 55)) rfl rfl
theorem eJ2_grow_2_55 {ev : xV} {v0 v1 v2 v3 : Option Value} {x y : Nat} {st : List Value} {h : xH} : exF ev cJ2_grow_2 55 ([v0, v1, v2, v3], []) (.ref x :: .ref y :: st) h = exF ev cJ2_grow_2 56 ([v0, v1, v2, v3], []) (.ref x :: .ref y :: .ref x :: st) h := exF_j (i := (i_dup_x1 56)) rfl rfl
theorem eJ2_grow_2_56 {ev : xV} {v0 v1 v2 v3 : Option Value} {x a : Nat} {st : List Value} {h : xH} : exF ev cJ2_grow_2 56 ([v0, v1, v2, v3], []) (.ref x :: .ref a :: st) h = xO (xpf h a 21 1 (.ref x)) (fun h => exF ev cJ2_grow_2 59 ([v0, v1, v2, v3], []) st h) := exF_o (i := (i_putfr 21 1 59)) rfl rfl
theorem eJ2_grow_2_56n {ev : xV} {v0 v1 v2 v3 : Option Value} {a : Nat} {st : List Value} {h : xH} : exF ev cJ2_grow_2 56 ([v0, v1, v2, v3], []) (.null :: .ref a :: st) h = xO (xpf h a 21 1 .null) (fun h => exF ev cJ2_grow_2 59 ([v0, v1, v2, v3], []) st h) := exF_o (i := (i_putfr 21 1 59)) rfl rfl
theorem eJ2_grow_2_59 {ev : xV} {v0 v1 v2 v3 : Option Value} {x : Nat} {h : xH} : exF ev cJ2_grow_2 59 ([v0, v1, v2, v3], []) [.ref x] h = some (.inl (some (.ref x)), h) := exF_r (i := (i_aret)) rfl rfl
theorem eJ2_grow_2_59n {ev : xV} {v0 v1 v2 v3 : Option Value} {h : xH} : exF ev cJ2_grow_2 59 ([v0, v1, v2, v3], []) [.null] h = some (.inl (some .null), h) := exF_r (i := (i_aret)) rfl rfl
noncomputable def cJ3_checkIndex : xC := [(0, i_iload 0 1),
  (1, i_iload 1 2),
  (2, i_const .null 3),
  (3, i_cs 40 3 6),
  (6, i_iret)]
theorem eJ3_checkIndex_0 {ev : xV} {v1 : Option Value} {x : Int32} {st : List Value} {h : xH} : exF ev cJ3_checkIndex 0 ([some (.int x), v1], []) st h = exF ev cJ3_checkIndex 1 ([some (.int x), v1], []) (.int x :: st) h := exF_j (i := (i_iload 0 1)) rfl rfl
theorem eJ3_checkIndex_1 {ev : xV} {v0 : Option Value} {x : Int32} {st : List Value} {h : xH} : exF ev cJ3_checkIndex 1 ([v0, some (.int x)], []) st h = exF ev cJ3_checkIndex 2 ([v0, some (.int x)], []) (.int x :: st) h := exF_j (i := (i_iload 1 2)) rfl rfl
theorem eJ3_checkIndex_2 {ev : xV} {v0 v1 : Option Value} {st : List Value} {h : xH} : exF ev cJ3_checkIndex 2 ([v0, v1], []) st h = exF ev cJ3_checkIndex 3 ([v0, v1], []) (.null :: st) h := exF_j (i := (i_const .null 3)) rfl rfl
theorem eJ3_checkIndex_3 {ev : xV} {v0 v1 : Option Value} {a0 : Value} {a1 : Value} {a2 : Value} {h : xH} : exF ev cJ3_checkIndex 3 ([v0, v1], []) [a2, a1, a0] h = xB (ev 40 [a0, a1, a2] h) (fun v h => exF ev cJ3_checkIndex 6 ([v0, v1], []) [v] h) := exF_c (i := (i_cs 40 3 6)) rfl rfl
theorem eJ3_checkIndex_6 {ev : xV} {v0 v1 : Option Value} {x : Int32} {h : xH} : exF ev cJ3_checkIndex 6 ([v0, v1], []) [.int x] h = some (.inl (some (.int x)), h) := exF_r (i := (i_iret)) rfl rfl
noncomputable def cJ4_checkIndex : xC := [(0, i_iload 0 1),
  (1, i_if1 (fun x => x < 0) 9 4),
  (4, i_iload 0 5),
  (5, i_iload 1 6),
  (6, i_if2 (fun x y => x < y) 16 9),
  (9, i_aload 2 10),
  (10, i_iload 0 11),
  (11, i_iload 1 12),
  (12, i_no),
  (15, i_no),
  (16, i_iload 0 17),
  (17, i_iret)]
theorem eJ4_checkIndex_0 {ev : xV} {v1 v2 : Option Value} {x : Int32} {st : List Value} {h : xH} : exF ev cJ4_checkIndex 0 ([some (.int x), v1, v2], []) st h = exF ev cJ4_checkIndex 1 ([some (.int x), v1, v2], []) (.int x :: st) h := exF_j (i := (i_iload 0 1)) rfl rfl
theorem eJ4_checkIndex_1 {ev : xV} {v0 v1 v2 : Option Value} {x : Int32} {st : List Value} {h : xH} : exF ev cJ4_checkIndex 1 ([v0, v1, v2], []) (.int x :: st) h = if x < 0 then exF ev cJ4_checkIndex 9 ([v0, v1, v2], []) st h else exF ev cJ4_checkIndex 4 ([v0, v1, v2], []) st h := exF_b (i := (i_if1 (fun x => x < 0) 9 4)) rfl rfl
theorem eJ4_checkIndex_4 {ev : xV} {v1 v2 : Option Value} {x : Int32} {st : List Value} {h : xH} : exF ev cJ4_checkIndex 4 ([some (.int x), v1, v2], []) st h = exF ev cJ4_checkIndex 5 ([some (.int x), v1, v2], []) (.int x :: st) h := exF_j (i := (i_iload 0 5)) rfl rfl
theorem eJ4_checkIndex_5 {ev : xV} {v0 v2 : Option Value} {x : Int32} {st : List Value} {h : xH} : exF ev cJ4_checkIndex 5 ([v0, some (.int x), v2], []) st h = exF ev cJ4_checkIndex 6 ([v0, some (.int x), v2], []) (.int x :: st) h := exF_j (i := (i_iload 1 6)) rfl rfl
theorem eJ4_checkIndex_6 {ev : xV} {v0 v1 v2 : Option Value} {x y : Int32} {st : List Value} {h : xH} : exF ev cJ4_checkIndex 6 ([v0, v1, v2], []) (.int y :: .int x :: st) h = if x < y then exF ev cJ4_checkIndex 16 ([v0, v1, v2], []) st h else exF ev cJ4_checkIndex 9 ([v0, v1, v2], []) st h := exF_b (i := (i_if2 (fun x y => x < y) 16 9)) rfl rfl
theorem eJ4_checkIndex_9 {ev : xV} {v0 v1 : Option Value} {x : Nat} {st : List Value} {h : xH} : exF ev cJ4_checkIndex 9 ([v0, v1, some (.ref x)], []) st h = exF ev cJ4_checkIndex 10 ([v0, v1, some (.ref x)], []) (.ref x :: st) h := exF_j (i := (i_aload 2 10)) rfl rfl
theorem eJ4_checkIndex_9n {ev : xV} {v0 v1 : Option Value} {st : List Value} {h : xH} : exF ev cJ4_checkIndex 9 ([v0, v1, some .null], []) st h = exF ev cJ4_checkIndex 10 ([v0, v1, some .null], []) (.null :: st) h := exF_j (i := (i_aload 2 10)) rfl rfl
theorem eJ4_checkIndex_10 {ev : xV} {v1 v2 : Option Value} {x : Int32} {st : List Value} {h : xH} : exF ev cJ4_checkIndex 10 ([some (.int x), v1, v2], []) st h = exF ev cJ4_checkIndex 11 ([some (.int x), v1, v2], []) (.int x :: st) h := exF_j (i := (i_iload 0 11)) rfl rfl
theorem eJ4_checkIndex_11 {ev : xV} {v0 v2 : Option Value} {x : Int32} {st : List Value} {h : xH} : exF ev cJ4_checkIndex 11 ([v0, some (.int x), v2], []) st h = exF ev cJ4_checkIndex 12 ([v0, some (.int x), v2], []) (.int x :: st) h := exF_j (i := (i_iload 1 12)) rfl rfl
theorem eJ4_checkIndex_16 {ev : xV} {v1 v2 : Option Value} {x : Int32} {st : List Value} {h : xH} : exF ev cJ4_checkIndex 16 ([some (.int x), v1, v2], []) st h = exF ev cJ4_checkIndex 17 ([some (.int x), v1, v2], []) (.int x :: st) h := exF_j (i := (i_iload 0 17)) rfl rfl
theorem eJ4_checkIndex_17 {ev : xV} {v0 v1 v2 : Option Value} {x : Int32} {h : xH} : exF ev cJ4_checkIndex 17 ([v0, v1, v2], []) [.int x] h = some (.inl (some (.int x)), h) := exF_r (i := (i_iret)) rfl rfl
noncomputable def cJ5_indexOf : xC := [(0, i_aload 0 1),
  (1, i_iload 1 2),
  (2, i_const (.int (nI 0)) 3),
  (3, i_cv 22 44 2 6),
  (6, i_iret)]
theorem eJ5_indexOf_0 {ev : xV} {v1 : Option Value} {x : Nat} {st : List Value} {h : xH} : exF ev cJ5_indexOf 0 ([some (.ref x), v1], []) st h = exF ev cJ5_indexOf 1 ([some (.ref x), v1], []) (.ref x :: st) h := exF_j (i := (i_aload 0 1)) rfl rfl
theorem eJ5_indexOf_1 {ev : xV} {v0 : Option Value} {x : Int32} {st : List Value} {h : xH} : exF ev cJ5_indexOf 1 ([v0, some (.int x)], []) st h = exF ev cJ5_indexOf 2 ([v0, some (.int x)], []) (.int x :: st) h := exF_j (i := (i_iload 1 2)) rfl rfl
theorem eJ5_indexOf_2 {ev : xV} {v0 v1 : Option Value} {st : List Value} {h : xH} : exF ev cJ5_indexOf 2 ([v0, v1], []) st h = exF ev cJ5_indexOf 3 ([v0, v1], []) (.int (nI 0) :: st) h := exF_j (i := (i_const (.int (nI 0)) 3)) rfl rfl
theorem eJ5_indexOf_3 {ev : xV} {v0 v1 : Option Value} {a0 : Value} {a1 : Value} {a : Nat} {h : xH} : exF ev cJ5_indexOf 3 ([v0, v1], []) [a1, a0, .ref a] h = xO (xck h a 22) (fun _ => xB (ev 44 [.ref a, a0, a1] h) (fun v h => exF ev cJ5_indexOf 6 ([v0, v1], []) [v] h)) := exF_cd (i := (i_cv 22 44 2 6)) rfl rfl
theorem eJ5_indexOf_6 {ev : xV} {v0 v1 : Option Value} {x : Int32} {h : xH} : exF ev cJ5_indexOf 6 ([v0, v1], []) [.int x] h = some (.inl (some (.int x)), h) := exF_r (i := (i_iret)) rfl rfl
noncomputable def cJ5_indexOf_2 : xC := [(0, i_aload 0 1),
  (1, i_cv 22 45 0 4),
  (4, i_if1 (fun x => x = 0) 23 7),
  (7, i_aload 0 8),
  (8, i_getf 22 0 11),
  (11, i_iload 1 12),
  (12, i_iload 2 13),
  (13, i_aload 0 14),
  (14, i_cv 22 46 0 17),
  (17, i_cs 55 4 20),
  (20, i_goto 36),
  (23, i_aload 0 24),
  (24, i_getf 22 0 27),
  (27, i_iload 1 28),
  (28, i_iload 2 29),
  (29, i_aload 0 30),
  (30, i_cv 22 46 0 33),
  (33, i_no),
  (36, i_iret)]
theorem eJ5_indexOf_2_0 {ev : xV} {v1 v2 : Option Value} {x : Nat} {st : List Value} {h : xH} : exF ev cJ5_indexOf_2 0 ([some (.ref x), v1, v2], []) st h = exF ev cJ5_indexOf_2 1 ([some (.ref x), v1, v2], []) (.ref x :: st) h := exF_j (i := (i_aload 0 1)) rfl rfl
theorem eJ5_indexOf_2_1 {ev : xV} {v0 v1 v2 : Option Value} {a : Nat} {h : xH} : exF ev cJ5_indexOf_2 1 ([v0, v1, v2], []) [.ref a] h = xO (xck h a 22) (fun _ => xB (ev 45 [.ref a] h) (fun v h => exF ev cJ5_indexOf_2 4 ([v0, v1, v2], []) [v] h)) := exF_cd (i := (i_cv 22 45 0 4)) rfl rfl
theorem eJ5_indexOf_2_4 {ev : xV} {v0 v1 v2 : Option Value} {x : Int32} {st : List Value} {h : xH} : exF ev cJ5_indexOf_2 4 ([v0, v1, v2], []) (.int x :: st) h = if x = 0 then exF ev cJ5_indexOf_2 23 ([v0, v1, v2], []) st h else exF ev cJ5_indexOf_2 7 ([v0, v1, v2], []) st h := exF_b (i := (i_if1 (fun x => x = 0) 23 7)) rfl rfl
theorem eJ5_indexOf_2_7 {ev : xV} {v1 v2 : Option Value} {x : Nat} {st : List Value} {h : xH} : exF ev cJ5_indexOf_2 7 ([some (.ref x), v1, v2], []) st h = exF ev cJ5_indexOf_2 8 ([some (.ref x), v1, v2], []) (.ref x :: st) h := exF_j (i := (i_aload 0 8)) rfl rfl
theorem eJ5_indexOf_2_8 {ev : xV} {v0 v1 v2 : Option Value} {a : Nat} {st : List Value} {h : xH} : exF ev cJ5_indexOf_2 8 ([v0, v1, v2], []) (.ref a :: st) h = xO (xgf h a 22 0) (fun v => exF ev cJ5_indexOf_2 11 ([v0, v1, v2], []) (v :: st) h) := exF_o (i := (i_getf 22 0 11)) rfl rfl
theorem eJ5_indexOf_2_11 {ev : xV} {v0 v2 : Option Value} {x : Int32} {st : List Value} {h : xH} : exF ev cJ5_indexOf_2 11 ([v0, some (.int x), v2], []) st h = exF ev cJ5_indexOf_2 12 ([v0, some (.int x), v2], []) (.int x :: st) h := exF_j (i := (i_iload 1 12)) rfl rfl
theorem eJ5_indexOf_2_12 {ev : xV} {v0 v1 : Option Value} {x : Int32} {st : List Value} {h : xH} : exF ev cJ5_indexOf_2 12 ([v0, v1, some (.int x)], []) st h = exF ev cJ5_indexOf_2 13 ([v0, v1, some (.int x)], []) (.int x :: st) h := exF_j (i := (i_iload 2 13)) rfl rfl
theorem eJ5_indexOf_2_13 {ev : xV} {v1 v2 : Option Value} {x : Nat} {st : List Value} {h : xH} : exF ev cJ5_indexOf_2 13 ([some (.ref x), v1, v2], []) st h = exF ev cJ5_indexOf_2 14 ([some (.ref x), v1, v2], []) (.ref x :: st) h := exF_j (i := (i_aload 0 14)) rfl rfl
theorem eJ5_indexOf_2_14 {ev : xV} {v0 v1 v2 : Option Value} {r0 : Value} {r1 : Value} {r2 : Value} {a : Nat} {h : xH} : exF ev cJ5_indexOf_2 14 ([v0, v1, v2], []) [.ref a, r0, r1, r2] h = xO (xck h a 22) (fun _ => xB (ev 46 [.ref a] h) (fun v h => exF ev cJ5_indexOf_2 17 ([v0, v1, v2], []) [v, r0, r1, r2] h)) := exF_cd (i := (i_cv 22 46 0 17)) rfl rfl
theorem eJ5_indexOf_2_17 {ev : xV} {v0 v1 v2 : Option Value} {a0 : Value} {a1 : Value} {a2 : Value} {a3 : Value} {h : xH} : exF ev cJ5_indexOf_2 17 ([v0, v1, v2], []) [a3, a2, a1, a0] h = xB (ev 55 [a0, a1, a2, a3] h) (fun v h => exF ev cJ5_indexOf_2 20 ([v0, v1, v2], []) [v] h) := exF_c (i := (i_cs 55 4 20)) rfl rfl
theorem eJ5_indexOf_2_20 {ev : xV} {v0 v1 v2 : Option Value} {st : List Value} {h : xH} : exF ev cJ5_indexOf_2 20 ([v0, v1, v2], []) st h = exF ev cJ5_indexOf_2 36 ([v0, v1, v2], []) st h := exF_j (i := (i_goto 36)) rfl rfl
theorem eJ5_indexOf_2_23 {ev : xV} {v1 v2 : Option Value} {x : Nat} {st : List Value} {h : xH} : exF ev cJ5_indexOf_2 23 ([some (.ref x), v1, v2], []) st h = exF ev cJ5_indexOf_2 24 ([some (.ref x), v1, v2], []) (.ref x :: st) h := exF_j (i := (i_aload 0 24)) rfl rfl
theorem eJ5_indexOf_2_24 {ev : xV} {v0 v1 v2 : Option Value} {a : Nat} {st : List Value} {h : xH} : exF ev cJ5_indexOf_2 24 ([v0, v1, v2], []) (.ref a :: st) h = xO (xgf h a 22 0) (fun v => exF ev cJ5_indexOf_2 27 ([v0, v1, v2], []) (v :: st) h) := exF_o (i := (i_getf 22 0 27)) rfl rfl
theorem eJ5_indexOf_2_27 {ev : xV} {v0 v2 : Option Value} {x : Int32} {st : List Value} {h : xH} : exF ev cJ5_indexOf_2 27 ([v0, some (.int x), v2], []) st h = exF ev cJ5_indexOf_2 28 ([v0, some (.int x), v2], []) (.int x :: st) h := exF_j (i := (i_iload 1 28)) rfl rfl
theorem eJ5_indexOf_2_28 {ev : xV} {v0 v1 : Option Value} {x : Int32} {st : List Value} {h : xH} : exF ev cJ5_indexOf_2 28 ([v0, v1, some (.int x)], []) st h = exF ev cJ5_indexOf_2 29 ([v0, v1, some (.int x)], []) (.int x :: st) h := exF_j (i := (i_iload 2 29)) rfl rfl
theorem eJ5_indexOf_2_29 {ev : xV} {v1 v2 : Option Value} {x : Nat} {st : List Value} {h : xH} : exF ev cJ5_indexOf_2 29 ([some (.ref x), v1, v2], []) st h = exF ev cJ5_indexOf_2 30 ([some (.ref x), v1, v2], []) (.ref x :: st) h := exF_j (i := (i_aload 0 30)) rfl rfl
theorem eJ5_indexOf_2_30 {ev : xV} {v0 v1 v2 : Option Value} {r0 : Value} {r1 : Value} {r2 : Value} {a : Nat} {h : xH} : exF ev cJ5_indexOf_2 30 ([v0, v1, v2], []) [.ref a, r0, r1, r2] h = xO (xck h a 22) (fun _ => xB (ev 46 [.ref a] h) (fun v h => exF ev cJ5_indexOf_2 33 ([v0, v1, v2], []) [v, r0, r1, r2] h)) := exF_cd (i := (i_cv 22 46 0 33)) rfl rfl
theorem eJ5_indexOf_2_36 {ev : xV} {v0 v1 v2 : Option Value} {x : Int32} {h : xH} : exF ev cJ5_indexOf_2 36 ([v0, v1, v2], []) [.int x] h = some (.inl (some (.int x)), h) := exF_r (i := (i_iret)) rfl rfl
noncomputable def cJ5_isLatin1 : xC := [(0, i_const (.int (nI 1)) 3),
  (3, i_if1 (fun x => x = 0) 17 6),
  (6, i_aload 0 7),
  (7, i_getf 22 1 10),
  (10, i_if1 (fun x => ¬ x = 0) 17 13),
  (13, i_const (.int (nI 1)) 14),
  (14, i_goto 18),
  (17, i_const (.int (nI 0)) 18),
  (18, i_zret)]
theorem eJ5_isLatin1_0 {ev : xV} {v0 : Option Value} {st : List Value} {h : xH} : exF ev cJ5_isLatin1 0 ([v0], []) st h = exF ev cJ5_isLatin1 3 ([v0], []) (.int (nI 1) :: st) h := exF_j (i := (i_const (.int (nI 1)) 3)) rfl rfl
theorem eJ5_isLatin1_3 {ev : xV} {v0 : Option Value} {x : Int32} {st : List Value} {h : xH} : exF ev cJ5_isLatin1 3 ([v0], []) (.int x :: st) h = if x = 0 then exF ev cJ5_isLatin1 17 ([v0], []) st h else exF ev cJ5_isLatin1 6 ([v0], []) st h := exF_b (i := (i_if1 (fun x => x = 0) 17 6)) rfl rfl
theorem eJ5_isLatin1_6 {ev : xV} {x : Nat} {st : List Value} {h : xH} : exF ev cJ5_isLatin1 6 ([some (.ref x)], []) st h = exF ev cJ5_isLatin1 7 ([some (.ref x)], []) (.ref x :: st) h := exF_j (i := (i_aload 0 7)) rfl rfl
theorem eJ5_isLatin1_7 {ev : xV} {v0 : Option Value} {a : Nat} {st : List Value} {h : xH} : exF ev cJ5_isLatin1 7 ([v0], []) (.ref a :: st) h = xO (xgf h a 22 1) (fun v => exF ev cJ5_isLatin1 10 ([v0], []) (v :: st) h) := exF_o (i := (i_getf 22 1 10)) rfl rfl
theorem eJ5_isLatin1_10 {ev : xV} {v0 : Option Value} {x : Int32} {st : List Value} {h : xH} : exF ev cJ5_isLatin1 10 ([v0], []) (.int x :: st) h = if ¬ x = 0 then exF ev cJ5_isLatin1 17 ([v0], []) st h else exF ev cJ5_isLatin1 13 ([v0], []) st h := exF_b (i := (i_if1 (fun x => ¬ x = 0) 17 13)) rfl rfl
theorem eJ5_isLatin1_13 {ev : xV} {v0 : Option Value} {st : List Value} {h : xH} : exF ev cJ5_isLatin1 13 ([v0], []) st h = exF ev cJ5_isLatin1 14 ([v0], []) (.int (nI 1) :: st) h := exF_j (i := (i_const (.int (nI 1)) 14)) rfl rfl
theorem eJ5_isLatin1_14 {ev : xV} {v0 : Option Value} {st : List Value} {h : xH} : exF ev cJ5_isLatin1 14 ([v0], []) st h = exF ev cJ5_isLatin1 18 ([v0], []) st h := exF_j (i := (i_goto 18)) rfl rfl
theorem eJ5_isLatin1_17 {ev : xV} {v0 : Option Value} {st : List Value} {h : xH} : exF ev cJ5_isLatin1 17 ([v0], []) st h = exF ev cJ5_isLatin1 18 ([v0], []) (.int (nI 0) :: st) h := exF_j (i := (i_const (.int (nI 0)) 18)) rfl rfl
theorem eJ5_isLatin1_18 {ev : xV} {v0 : Option Value} {x : Int32} {h : xH} : exF ev cJ5_isLatin1 18 ([v0], []) [.int x] h = if x = nI 0 ∨ x = nI 1 then some (.inl (some (.int x)), h) else none := exF_z (i := (i_zret)) rfl rfl
theorem eJ5_isLatin1_18b0 {ev : xV} {v0 : Option Value} {h : xH} : exF ev cJ5_isLatin1 18 ([v0], []) [.int (nI 0)] h = some (.inl (some (.int (nI 0))), h) := exF_r (i := (i_zret)) rfl i_zret_0
theorem eJ5_isLatin1_18b1 {ev : xV} {v0 : Option Value} {h : xH} : exF ev cJ5_isLatin1 18 ([v0], []) [.int (nI 1)] h = some (.inl (some (.int (nI 1))), h) := exF_r (i := (i_zret)) rfl i_zret_1
theorem eJ5_isLatin1_18b {ev : xV} {v0 : Option Value} {b : Bool} {h : xH} : exF ev cJ5_isLatin1 18 ([v0], []) [.int (bI b)] h = some (.inl (some (.int (bI b))), h) := exF_r (i := (i_zret)) rfl (i_zret_b b)
noncomputable def cJ5_length : xC := [(0, i_aload 0 1),
  (1, i_getf 22 0 4),
  (4, i_len 5),
  (5, i_aload 0 6),
  (6, i_cv 22 47 0 9),
  (9, i_ii (fun x y => x >>> (y &&& 31)) 10),
  (10, i_iret)]
theorem eJ5_length_0 {ev : xV} {x : Nat} {st : List Value} {h : xH} : exF ev cJ5_length 0 ([some (.ref x)], []) st h = exF ev cJ5_length 1 ([some (.ref x)], []) (.ref x :: st) h := exF_j (i := (i_aload 0 1)) rfl rfl
theorem eJ5_length_1 {ev : xV} {v0 : Option Value} {a : Nat} {st : List Value} {h : xH} : exF ev cJ5_length 1 ([v0], []) (.ref a :: st) h = xO (xgf h a 22 0) (fun v => exF ev cJ5_length 4 ([v0], []) (v :: st) h) := exF_o (i := (i_getf 22 0 4)) rfl rfl
theorem eJ5_length_4 {ev : xV} {v0 : Option Value} {a : Nat} {st : List Value} {h : xH} : exF ev cJ5_length 4 ([v0], []) (.ref a :: st) h = xO (xlen h a) (fun v => exF ev cJ5_length 5 ([v0], []) (.int v :: st) h) := exF_o (i := (i_len 5)) rfl rfl
theorem eJ5_length_5 {ev : xV} {x : Nat} {st : List Value} {h : xH} : exF ev cJ5_length 5 ([some (.ref x)], []) st h = exF ev cJ5_length 6 ([some (.ref x)], []) (.ref x :: st) h := exF_j (i := (i_aload 0 6)) rfl rfl
theorem eJ5_length_6 {ev : xV} {v0 : Option Value} {r0 : Value} {a : Nat} {h : xH} : exF ev cJ5_length 6 ([v0], []) [.ref a, r0] h = xO (xck h a 22) (fun _ => xB (ev 47 [.ref a] h) (fun v h => exF ev cJ5_length 9 ([v0], []) [v, r0] h)) := exF_cd (i := (i_cv 22 47 0 9)) rfl rfl
theorem eJ5_length_9 {ev : xV} {v0 : Option Value} {x y : Int32} {st : List Value} {h : xH} : exF ev cJ5_length 9 ([v0], []) (.int y :: .int x :: st) h = exF ev cJ5_length 10 ([v0], []) (.int (x >>> (y &&& 31)) :: st) h := exF_j (i := (i_ii (fun x y => x >>> (y &&& 31)) 10)) rfl rfl
theorem eJ5_length_10 {ev : xV} {v0 : Option Value} {x : Int32} {h : xH} : exF ev cJ5_length 10 ([v0], []) [.int x] h = some (.inl (some (.int x)), h) := exF_r (i := (i_iret)) rfl rfl
noncomputable def cJ5_coder : xC := [(0, i_const (.int (nI 1)) 3),
  (3, i_if1 (fun x => x = 0) 13 6),
  (6, i_aload 0 7),
  (7, i_getf 22 1 10),
  (10, i_goto 14),
  (13, i_const (.int (nI 1)) 14),
  (14, i_nret .byte)]
theorem eJ5_coder_0 {ev : xV} {v0 : Option Value} {st : List Value} {h : xH} : exF ev cJ5_coder 0 ([v0], []) st h = exF ev cJ5_coder 3 ([v0], []) (.int (nI 1) :: st) h := exF_j (i := (i_const (.int (nI 1)) 3)) rfl rfl
theorem eJ5_coder_3 {ev : xV} {v0 : Option Value} {x : Int32} {st : List Value} {h : xH} : exF ev cJ5_coder 3 ([v0], []) (.int x :: st) h = if x = 0 then exF ev cJ5_coder 13 ([v0], []) st h else exF ev cJ5_coder 6 ([v0], []) st h := exF_b (i := (i_if1 (fun x => x = 0) 13 6)) rfl rfl
theorem eJ5_coder_6 {ev : xV} {x : Nat} {st : List Value} {h : xH} : exF ev cJ5_coder 6 ([some (.ref x)], []) st h = exF ev cJ5_coder 7 ([some (.ref x)], []) (.ref x :: st) h := exF_j (i := (i_aload 0 7)) rfl rfl
theorem eJ5_coder_7 {ev : xV} {v0 : Option Value} {a : Nat} {st : List Value} {h : xH} : exF ev cJ5_coder 7 ([v0], []) (.ref a :: st) h = xO (xgf h a 22 1) (fun v => exF ev cJ5_coder 10 ([v0], []) (v :: st) h) := exF_o (i := (i_getf 22 1 10)) rfl rfl
theorem eJ5_coder_10 {ev : xV} {v0 : Option Value} {st : List Value} {h : xH} : exF ev cJ5_coder 10 ([v0], []) st h = exF ev cJ5_coder 14 ([v0], []) st h := exF_j (i := (i_goto 14)) rfl rfl
theorem eJ5_coder_13 {ev : xV} {v0 : Option Value} {st : List Value} {h : xH} : exF ev cJ5_coder 13 ([v0], []) st h = exF ev cJ5_coder 14 ([v0], []) (.int (nI 1) :: st) h := exF_j (i := (i_const (.int (nI 1)) 14)) rfl rfl
theorem eJ5_coder_14 {ev : xV} {v0 : Option Value} {x : Int32} {h : xH} : exF ev cJ5_coder 14 ([v0], []) [.int x] h = if narrow .byte (.int x) = .int x then some (.inl (some (.int x)), h) else none := exF_z (i := (i_nret .byte)) rfl rfl
noncomputable def cJ5_charAt : xC := [(0, i_aload 0 1),
  (1, i_cv 22 45 0 4),
  (4, i_if1 (fun x => x = 0) 16 7),
  (7, i_aload 0 8),
  (8, i_getf 22 0 11),
  (11, i_iload 1 12),
  (12, i_cs 58 2 15),
  (15, i_nret .char),
  (16, i_aload 0 17),
  (17, i_getf 22 0 20),
  (20, i_iload 1 21),
  (21, i_no),
  (24, i_nret .char)]
theorem eJ5_charAt_0 {ev : xV} {v1 : Option Value} {x : Nat} {st : List Value} {h : xH} : exF ev cJ5_charAt 0 ([some (.ref x), v1], []) st h = exF ev cJ5_charAt 1 ([some (.ref x), v1], []) (.ref x :: st) h := exF_j (i := (i_aload 0 1)) rfl rfl
theorem eJ5_charAt_1 {ev : xV} {v0 v1 : Option Value} {a : Nat} {h : xH} : exF ev cJ5_charAt 1 ([v0, v1], []) [.ref a] h = xO (xck h a 22) (fun _ => xB (ev 45 [.ref a] h) (fun v h => exF ev cJ5_charAt 4 ([v0, v1], []) [v] h)) := exF_cd (i := (i_cv 22 45 0 4)) rfl rfl
theorem eJ5_charAt_4 {ev : xV} {v0 v1 : Option Value} {x : Int32} {st : List Value} {h : xH} : exF ev cJ5_charAt 4 ([v0, v1], []) (.int x :: st) h = if x = 0 then exF ev cJ5_charAt 16 ([v0, v1], []) st h else exF ev cJ5_charAt 7 ([v0, v1], []) st h := exF_b (i := (i_if1 (fun x => x = 0) 16 7)) rfl rfl
theorem eJ5_charAt_7 {ev : xV} {v1 : Option Value} {x : Nat} {st : List Value} {h : xH} : exF ev cJ5_charAt 7 ([some (.ref x), v1], []) st h = exF ev cJ5_charAt 8 ([some (.ref x), v1], []) (.ref x :: st) h := exF_j (i := (i_aload 0 8)) rfl rfl
theorem eJ5_charAt_8 {ev : xV} {v0 v1 : Option Value} {a : Nat} {st : List Value} {h : xH} : exF ev cJ5_charAt 8 ([v0, v1], []) (.ref a :: st) h = xO (xgf h a 22 0) (fun v => exF ev cJ5_charAt 11 ([v0, v1], []) (v :: st) h) := exF_o (i := (i_getf 22 0 11)) rfl rfl
theorem eJ5_charAt_11 {ev : xV} {v0 : Option Value} {x : Int32} {st : List Value} {h : xH} : exF ev cJ5_charAt 11 ([v0, some (.int x)], []) st h = exF ev cJ5_charAt 12 ([v0, some (.int x)], []) (.int x :: st) h := exF_j (i := (i_iload 1 12)) rfl rfl
theorem eJ5_charAt_12 {ev : xV} {v0 v1 : Option Value} {a0 : Value} {a1 : Value} {h : xH} : exF ev cJ5_charAt 12 ([v0, v1], []) [a1, a0] h = xB (ev 58 [a0, a1] h) (fun v h => exF ev cJ5_charAt 15 ([v0, v1], []) [v] h) := exF_c (i := (i_cs 58 2 15)) rfl rfl
theorem eJ5_charAt_15 {ev : xV} {v0 v1 : Option Value} {x : Int32} {h : xH} : exF ev cJ5_charAt 15 ([v0, v1], []) [.int x] h = if narrow .char (.int x) = .int x then some (.inl (some (.int x)), h) else none := exF_z (i := (i_nret .char)) rfl rfl
theorem eJ5_charAt_16 {ev : xV} {v1 : Option Value} {x : Nat} {st : List Value} {h : xH} : exF ev cJ5_charAt 16 ([some (.ref x), v1], []) st h = exF ev cJ5_charAt 17 ([some (.ref x), v1], []) (.ref x :: st) h := exF_j (i := (i_aload 0 17)) rfl rfl
theorem eJ5_charAt_17 {ev : xV} {v0 v1 : Option Value} {a : Nat} {st : List Value} {h : xH} : exF ev cJ5_charAt 17 ([v0, v1], []) (.ref a :: st) h = xO (xgf h a 22 0) (fun v => exF ev cJ5_charAt 20 ([v0, v1], []) (v :: st) h) := exF_o (i := (i_getf 22 0 20)) rfl rfl
theorem eJ5_charAt_20 {ev : xV} {v0 : Option Value} {x : Int32} {st : List Value} {h : xH} : exF ev cJ5_charAt 20 ([v0, some (.int x)], []) st h = exF ev cJ5_charAt 21 ([v0, some (.int x)], []) (.int x :: st) h := exF_j (i := (i_iload 1 21)) rfl rfl
theorem eJ5_charAt_24 {ev : xV} {v0 v1 : Option Value} {x : Int32} {h : xH} : exF ev cJ5_charAt 24 ([v0, v1], []) [.int x] h = if narrow .char (.int x) = .int x then some (.inl (some (.int x)), h) else none := exF_z (i := (i_nret .char)) rfl rfl
noncomputable def cJ5_checkIndex : xC := [(0, i_iload 0 1),
  (1, i_iload 1 2),
  (2, i_const (.ref 35) 5),
  (5, i_cs 40 3 8),
  (8, i_pop 9),
  (9, i_vret)]
theorem eJ5_checkIndex_0 {ev : xV} {v1 : Option Value} {x : Int32} {st : List Value} {h : xH} : exF ev cJ5_checkIndex 0 ([some (.int x), v1], []) st h = exF ev cJ5_checkIndex 1 ([some (.int x), v1], []) (.int x :: st) h := exF_j (i := (i_iload 0 1)) rfl rfl
theorem eJ5_checkIndex_1 {ev : xV} {v0 : Option Value} {x : Int32} {st : List Value} {h : xH} : exF ev cJ5_checkIndex 1 ([v0, some (.int x)], []) st h = exF ev cJ5_checkIndex 2 ([v0, some (.int x)], []) (.int x :: st) h := exF_j (i := (i_iload 1 2)) rfl rfl
theorem eJ5_checkIndex_2 {ev : xV} {v0 v1 : Option Value} {st : List Value} {h : xH} : exF ev cJ5_checkIndex 2 ([v0, v1], []) st h = exF ev cJ5_checkIndex 5 ([v0, v1], []) (.ref 35 :: st) h := exF_j (i := (i_const (.ref 35) 5)) rfl rfl
theorem eJ5_checkIndex_5 {ev : xV} {v0 v1 : Option Value} {a0 : Value} {a1 : Value} {a2 : Value} {h : xH} : exF ev cJ5_checkIndex 5 ([v0, v1], []) [a2, a1, a0] h = xB (ev 40 [a0, a1, a2] h) (fun v h => exF ev cJ5_checkIndex 8 ([v0, v1], []) [v] h) := exF_c (i := (i_cs 40 3 8)) rfl rfl
theorem eJ5_checkIndex_8 {ev : xV} {v0 v1 : Option Value} {x : Int32} {st : List Value} {h : xH} : exF ev cJ5_checkIndex 8 ([v0, v1], []) (.int x :: st) h = exF ev cJ5_checkIndex 9 ([v0, v1], []) st h := exF_j (i := (i_pop 9)) rfl rfl
theorem eJ5_checkIndex_9 {ev : xV} {v0 v1 : Option Value} {h : xH} : exF ev cJ5_checkIndex 9 ([v0, v1], []) [] h = some (.inl none, h) := exF_r (i := (i_vret)) rfl rfl
noncomputable def cJ5_init : xC := [(0, i_aload 0 1),
  (1, i_aload 1 2),
  (2, i_const .null 3),
  (3, i_ci [22] 53 2 6),
  (6, i_vret)]
theorem eJ5_init_0 {ev : xV} {v1 : Option Value} {x : Nat} {st : List Value} {h : xH} : exF ev cJ5_init 0 ([some (.ref x), v1], []) st h = exF ev cJ5_init 1 ([some (.ref x), v1], []) (.ref x :: st) h := exF_j (i := (i_aload 0 1)) rfl rfl
theorem eJ5_init_1 {ev : xV} {v0 : Option Value} {x : Nat} {st : List Value} {h : xH} : exF ev cJ5_init 1 ([v0, some (.ref x)], []) st h = exF ev cJ5_init 2 ([v0, some (.ref x)], []) (.ref x :: st) h := exF_j (i := (i_aload 1 2)) rfl rfl
theorem eJ5_init_1n {ev : xV} {v0 : Option Value} {st : List Value} {h : xH} : exF ev cJ5_init 1 ([v0, some .null], []) st h = exF ev cJ5_init 2 ([v0, some .null], []) (.null :: st) h := exF_j (i := (i_aload 1 2)) rfl rfl
theorem eJ5_init_2 {ev : xV} {v0 v1 : Option Value} {st : List Value} {h : xH} : exF ev cJ5_init 2 ([v0, v1], []) st h = exF ev cJ5_init 3 ([v0, v1], []) (.null :: st) h := exF_j (i := (i_const .null 3)) rfl rfl
theorem eJ5_init_3 {ev : xV} {v0 v1 : Option Value} {a0 : Value} {a1 : Value} {a : Nat} {h : xH} : exF ev cJ5_init 3 ([v0, v1], []) [a1, a0, .ref a] h = xO (xckc h [22] a) (fun _ => xBv (ev 53 [.ref a, a0, a1] h) (fun h => exF ev cJ5_init 6 ([v0, v1], []) [] h)) := exF_cdv (i := (i_ci [22] 53 2 6)) rfl rfl
theorem eJ5_init_6 {ev : xV} {v0 v1 : Option Value} {h : xH} : exF ev cJ5_init 6 ([v0, v1], []) [] h = some (.inl none, h) := exF_r (i := (i_vret)) rfl rfl
noncomputable def cJ5_init_2 : xC := [(0, i_aload 0 1),
  (1, i_oi 4),
  (4, i_aload 1 5),
  (5, i_cv 23 14 0 8),
  (8, i_astore 3 9),
  (9, i_aload 1 10),
  (10, i_cv 23 19 0 13),
  (13, i_istore 4 15),
  (15, i_aload 1 16),
  (16, i_cv 23 12 0 19),
  (19, i_if1 (fun x => x = 0) 41 22),
  (22, i_aload 0 23),
  (23, i_const (.int (nI 0)) 24),
  (24, i_putfn .byte 22 1 27),
  (27, i_aload 0 28),
  (28, i_aload 3 29),
  (29, i_const (.int (nI 0)) 30),
  (30, i_iload 4 32),
  (32, i_cs 23 3 35),
  (35, i_putfr 22 0 38),
  (38, i_goto 97),
  (41, i_const (.int (nI 1)) 44),
  (44, i_if1 (fun x => x = 0) 79 47),
  (47, i_aload 1 48),
  (48, i_getf 23 2 51),
  (51, i_if1 (fun x => x = 0) 79 54),
  (54, i_aload 0 55),
  (55, i_aload 3 56),
  (56, i_const (.int (nI 0)) 57),
  (57, i_iload 4 59),
  (59, i_no),
  (62, i_putfr 22 0 65),
  (65, i_aload 0 66),
  (66, i_aload 0 67),
  (67, i_getf 22 0 70),
  (70, i_iload 4 72),
  (72, i_no),
  (75, i_putfn .byte 22 1 78),
  (78, i_vret),
  (79, i_aload 0 80),
  (80, i_const (.int (nI 1)) 81),
  (81, i_putfn .byte 22 1 84),
  (84, i_aload 0 85),
  (85, i_aload 3 86),
  (86, i_const (.int (nI 0)) 87),
  (87, i_iload 4 89),
  (89, i_const (.int (nI 1)) 90),
  (90, i_ii (fun x y => x <<< (y &&& 31)) 91),
  (91, i_cs 23 3 94),
  (94, i_putfr 22 0 97),
  (97, i_vret)]
theorem eJ5_init_2_0 {ev : xV} {v1 v2 v3 v4 : Option Value} {x : Nat} {st : List Value} {h : xH} : exF ev cJ5_init_2 0 ([some (.ref x), v1, v2, v3, v4], []) st h = exF ev cJ5_init_2 1 ([some (.ref x), v1, v2, v3, v4], []) (.ref x :: st) h := exF_j (i := (i_aload 0 1)) rfl rfl
theorem eJ5_init_2_1 {ev : xV} {v0 v1 v2 v3 v4 : Option Value} {a : Nat} (hx : 64 ≤ a) {h : xH} : exF ev cJ5_init_2 1 ([v0, v1, v2, v3, v4], []) [.ref a] h = exF ev cJ5_init_2 4 ([v0, v1, v2, v3, v4], []) [] h := exF_j (i := (i_oi 4)) rfl (if_pos ⟨hx, rfl⟩)
theorem eJ5_init_2_4 {ev : xV} {v0 v2 v3 v4 : Option Value} {x : Nat} {st : List Value} {h : xH} : exF ev cJ5_init_2 4 ([v0, some (.ref x), v2, v3, v4], []) st h = exF ev cJ5_init_2 5 ([v0, some (.ref x), v2, v3, v4], []) (.ref x :: st) h := exF_j (i := (i_aload 1 5)) rfl rfl
theorem eJ5_init_2_4n {ev : xV} {v0 v2 v3 v4 : Option Value} {st : List Value} {h : xH} : exF ev cJ5_init_2 4 ([v0, some .null, v2, v3, v4], []) st h = exF ev cJ5_init_2 5 ([v0, some .null, v2, v3, v4], []) (.null :: st) h := exF_j (i := (i_aload 1 5)) rfl rfl
theorem eJ5_init_2_5 {ev : xV} {v0 v1 v2 v3 v4 : Option Value} {a : Nat} {h : xH} : exF ev cJ5_init_2 5 ([v0, v1, v2, v3, v4], []) [.ref a] h = xO (xck h a 23) (fun _ => xB (ev 14 [.ref a] h) (fun v h => exF ev cJ5_init_2 8 ([v0, v1, v2, v3, v4], []) [v] h)) := exF_cd (i := (i_cv 23 14 0 8)) rfl rfl
theorem eJ5_init_2_8 {ev : xV} {v0 v1 v2 v3 v4 : Option Value} {x : Nat} {st : List Value} {h : xH} : exF ev cJ5_init_2 8 ([v0, v1, v2, v3, v4], []) (.ref x :: st) h = exF ev cJ5_init_2 9 ([v0, v1, v2, some (.ref x), v4], []) st h := exF_j (i := (i_astore 3 9)) rfl rfl
theorem eJ5_init_2_8n {ev : xV} {v0 v1 v2 v3 v4 : Option Value} {st : List Value} {h : xH} : exF ev cJ5_init_2 8 ([v0, v1, v2, v3, v4], []) (.null :: st) h = exF ev cJ5_init_2 9 ([v0, v1, v2, some .null, v4], []) st h := exF_j (i := (i_astore 3 9)) rfl rfl
theorem eJ5_init_2_9 {ev : xV} {v0 v2 v3 v4 : Option Value} {x : Nat} {st : List Value} {h : xH} : exF ev cJ5_init_2 9 ([v0, some (.ref x), v2, v3, v4], []) st h = exF ev cJ5_init_2 10 ([v0, some (.ref x), v2, v3, v4], []) (.ref x :: st) h := exF_j (i := (i_aload 1 10)) rfl rfl
theorem eJ5_init_2_9n {ev : xV} {v0 v2 v3 v4 : Option Value} {st : List Value} {h : xH} : exF ev cJ5_init_2 9 ([v0, some .null, v2, v3, v4], []) st h = exF ev cJ5_init_2 10 ([v0, some .null, v2, v3, v4], []) (.null :: st) h := exF_j (i := (i_aload 1 10)) rfl rfl
theorem eJ5_init_2_10 {ev : xV} {v0 v1 v2 v3 v4 : Option Value} {a : Nat} {h : xH} : exF ev cJ5_init_2 10 ([v0, v1, v2, v3, v4], []) [.ref a] h = xO (xck h a 23) (fun _ => xB (ev 19 [.ref a] h) (fun v h => exF ev cJ5_init_2 13 ([v0, v1, v2, v3, v4], []) [v] h)) := exF_cd (i := (i_cv 23 19 0 13)) rfl rfl
theorem eJ5_init_2_13 {ev : xV} {v0 v1 v2 v3 v4 : Option Value} {x : Int32} {st : List Value} {h : xH} : exF ev cJ5_init_2 13 ([v0, v1, v2, v3, v4], []) (.int x :: st) h = exF ev cJ5_init_2 15 ([v0, v1, v2, v3, some (.int x)], []) st h := exF_j (i := (i_istore 4 15)) rfl rfl
theorem eJ5_init_2_15 {ev : xV} {v0 v2 v3 v4 : Option Value} {x : Nat} {st : List Value} {h : xH} : exF ev cJ5_init_2 15 ([v0, some (.ref x), v2, v3, v4], []) st h = exF ev cJ5_init_2 16 ([v0, some (.ref x), v2, v3, v4], []) (.ref x :: st) h := exF_j (i := (i_aload 1 16)) rfl rfl
theorem eJ5_init_2_15n {ev : xV} {v0 v2 v3 v4 : Option Value} {st : List Value} {h : xH} : exF ev cJ5_init_2 15 ([v0, some .null, v2, v3, v4], []) st h = exF ev cJ5_init_2 16 ([v0, some .null, v2, v3, v4], []) (.null :: st) h := exF_j (i := (i_aload 1 16)) rfl rfl
theorem eJ5_init_2_16 {ev : xV} {v0 v1 v2 v3 v4 : Option Value} {a : Nat} {h : xH} : exF ev cJ5_init_2 16 ([v0, v1, v2, v3, v4], []) [.ref a] h = xO (xck h a 23) (fun _ => xB (ev 12 [.ref a] h) (fun v h => exF ev cJ5_init_2 19 ([v0, v1, v2, v3, v4], []) [v] h)) := exF_cd (i := (i_cv 23 12 0 19)) rfl rfl
theorem eJ5_init_2_19 {ev : xV} {v0 v1 v2 v3 v4 : Option Value} {x : Int32} {st : List Value} {h : xH} : exF ev cJ5_init_2 19 ([v0, v1, v2, v3, v4], []) (.int x :: st) h = if x = 0 then exF ev cJ5_init_2 41 ([v0, v1, v2, v3, v4], []) st h else exF ev cJ5_init_2 22 ([v0, v1, v2, v3, v4], []) st h := exF_b (i := (i_if1 (fun x => x = 0) 41 22)) rfl rfl
theorem eJ5_init_2_22 {ev : xV} {v1 v2 v3 v4 : Option Value} {x : Nat} {st : List Value} {h : xH} : exF ev cJ5_init_2 22 ([some (.ref x), v1, v2, v3, v4], []) st h = exF ev cJ5_init_2 23 ([some (.ref x), v1, v2, v3, v4], []) (.ref x :: st) h := exF_j (i := (i_aload 0 23)) rfl rfl
theorem eJ5_init_2_23 {ev : xV} {v0 v1 v2 v3 v4 : Option Value} {st : List Value} {h : xH} : exF ev cJ5_init_2 23 ([v0, v1, v2, v3, v4], []) st h = exF ev cJ5_init_2 24 ([v0, v1, v2, v3, v4], []) (.int (nI 0) :: st) h := exF_j (i := (i_const (.int (nI 0)) 24)) rfl rfl
theorem eJ5_init_2_24 {ev : xV} {v0 v1 v2 v3 v4 : Option Value} {x : Int32} {a : Nat} {st : List Value} {h : xH} : exF ev cJ5_init_2 24 ([v0, v1, v2, v3, v4], []) (.int x :: .ref a :: st) h = xO (if narrow .byte (.int x) = .int x ∧ fits .byte (.int x) = true then xpf h a 22 1 (.int x) else none) (fun h => exF ev cJ5_init_2 27 ([v0, v1, v2, v3, v4], []) st h) := exF_o (i := (i_putfn .byte 22 1 27)) rfl rfl
theorem eJ5_init_2_27 {ev : xV} {v1 v2 v3 v4 : Option Value} {x : Nat} {st : List Value} {h : xH} : exF ev cJ5_init_2 27 ([some (.ref x), v1, v2, v3, v4], []) st h = exF ev cJ5_init_2 28 ([some (.ref x), v1, v2, v3, v4], []) (.ref x :: st) h := exF_j (i := (i_aload 0 28)) rfl rfl
theorem eJ5_init_2_28 {ev : xV} {v0 v1 v2 v4 : Option Value} {x : Nat} {st : List Value} {h : xH} : exF ev cJ5_init_2 28 ([v0, v1, v2, some (.ref x), v4], []) st h = exF ev cJ5_init_2 29 ([v0, v1, v2, some (.ref x), v4], []) (.ref x :: st) h := exF_j (i := (i_aload 3 29)) rfl rfl
theorem eJ5_init_2_28n {ev : xV} {v0 v1 v2 v4 : Option Value} {st : List Value} {h : xH} : exF ev cJ5_init_2 28 ([v0, v1, v2, some .null, v4], []) st h = exF ev cJ5_init_2 29 ([v0, v1, v2, some .null, v4], []) (.null :: st) h := exF_j (i := (i_aload 3 29)) rfl rfl
theorem eJ5_init_2_29 {ev : xV} {v0 v1 v2 v3 v4 : Option Value} {st : List Value} {h : xH} : exF ev cJ5_init_2 29 ([v0, v1, v2, v3, v4], []) st h = exF ev cJ5_init_2 30 ([v0, v1, v2, v3, v4], []) (.int (nI 0) :: st) h := exF_j (i := (i_const (.int (nI 0)) 30)) rfl rfl
theorem eJ5_init_2_30 {ev : xV} {v0 v1 v2 v3 : Option Value} {x : Int32} {st : List Value} {h : xH} : exF ev cJ5_init_2 30 ([v0, v1, v2, v3, some (.int x)], []) st h = exF ev cJ5_init_2 32 ([v0, v1, v2, v3, some (.int x)], []) (.int x :: st) h := exF_j (i := (i_iload 4 32)) rfl rfl
theorem eJ5_init_2_32 {ev : xV} {v0 v1 v2 v3 v4 : Option Value} {a0 : Value} {a1 : Value} {a2 : Value} {r0 : Value} {h : xH} : exF ev cJ5_init_2 32 ([v0, v1, v2, v3, v4], []) [a2, a1, a0, r0] h = xB (ev 23 [a0, a1, a2] h) (fun v h => exF ev cJ5_init_2 35 ([v0, v1, v2, v3, v4], []) [v, r0] h) := exF_c (i := (i_cs 23 3 35)) rfl rfl
theorem eJ5_init_2_35 {ev : xV} {v0 v1 v2 v3 v4 : Option Value} {x a : Nat} {st : List Value} {h : xH} : exF ev cJ5_init_2 35 ([v0, v1, v2, v3, v4], []) (.ref x :: .ref a :: st) h = xO (xpf h a 22 0 (.ref x)) (fun h => exF ev cJ5_init_2 38 ([v0, v1, v2, v3, v4], []) st h) := exF_o (i := (i_putfr 22 0 38)) rfl rfl
theorem eJ5_init_2_35n {ev : xV} {v0 v1 v2 v3 v4 : Option Value} {a : Nat} {st : List Value} {h : xH} : exF ev cJ5_init_2 35 ([v0, v1, v2, v3, v4], []) (.null :: .ref a :: st) h = xO (xpf h a 22 0 .null) (fun h => exF ev cJ5_init_2 38 ([v0, v1, v2, v3, v4], []) st h) := exF_o (i := (i_putfr 22 0 38)) rfl rfl
theorem eJ5_init_2_38 {ev : xV} {v0 v1 v2 v3 v4 : Option Value} {st : List Value} {h : xH} : exF ev cJ5_init_2 38 ([v0, v1, v2, v3, v4], []) st h = exF ev cJ5_init_2 97 ([v0, v1, v2, v3, v4], []) st h := exF_j (i := (i_goto 97)) rfl rfl
theorem eJ5_init_2_41 {ev : xV} {v0 v1 v2 v3 v4 : Option Value} {st : List Value} {h : xH} : exF ev cJ5_init_2 41 ([v0, v1, v2, v3, v4], []) st h = exF ev cJ5_init_2 44 ([v0, v1, v2, v3, v4], []) (.int (nI 1) :: st) h := exF_j (i := (i_const (.int (nI 1)) 44)) rfl rfl
theorem eJ5_init_2_44 {ev : xV} {v0 v1 v2 v3 v4 : Option Value} {x : Int32} {st : List Value} {h : xH} : exF ev cJ5_init_2 44 ([v0, v1, v2, v3, v4], []) (.int x :: st) h = if x = 0 then exF ev cJ5_init_2 79 ([v0, v1, v2, v3, v4], []) st h else exF ev cJ5_init_2 47 ([v0, v1, v2, v3, v4], []) st h := exF_b (i := (i_if1 (fun x => x = 0) 79 47)) rfl rfl
theorem eJ5_init_2_47 {ev : xV} {v0 v2 v3 v4 : Option Value} {x : Nat} {st : List Value} {h : xH} : exF ev cJ5_init_2 47 ([v0, some (.ref x), v2, v3, v4], []) st h = exF ev cJ5_init_2 48 ([v0, some (.ref x), v2, v3, v4], []) (.ref x :: st) h := exF_j (i := (i_aload 1 48)) rfl rfl
theorem eJ5_init_2_47n {ev : xV} {v0 v2 v3 v4 : Option Value} {st : List Value} {h : xH} : exF ev cJ5_init_2 47 ([v0, some .null, v2, v3, v4], []) st h = exF ev cJ5_init_2 48 ([v0, some .null, v2, v3, v4], []) (.null :: st) h := exF_j (i := (i_aload 1 48)) rfl rfl
theorem eJ5_init_2_48 {ev : xV} {v0 v1 v2 v3 v4 : Option Value} {a : Nat} {st : List Value} {h : xH} : exF ev cJ5_init_2 48 ([v0, v1, v2, v3, v4], []) (.ref a :: st) h = xO (xgf h a 23 2) (fun v => exF ev cJ5_init_2 51 ([v0, v1, v2, v3, v4], []) (v :: st) h) := exF_o (i := (i_getf 23 2 51)) rfl rfl
theorem eJ5_init_2_51 {ev : xV} {v0 v1 v2 v3 v4 : Option Value} {x : Int32} {st : List Value} {h : xH} : exF ev cJ5_init_2 51 ([v0, v1, v2, v3, v4], []) (.int x :: st) h = if x = 0 then exF ev cJ5_init_2 79 ([v0, v1, v2, v3, v4], []) st h else exF ev cJ5_init_2 54 ([v0, v1, v2, v3, v4], []) st h := exF_b (i := (i_if1 (fun x => x = 0) 79 54)) rfl rfl
theorem eJ5_init_2_54 {ev : xV} {v1 v2 v3 v4 : Option Value} {x : Nat} {st : List Value} {h : xH} : exF ev cJ5_init_2 54 ([some (.ref x), v1, v2, v3, v4], []) st h = exF ev cJ5_init_2 55 ([some (.ref x), v1, v2, v3, v4], []) (.ref x :: st) h := exF_j (i := (i_aload 0 55)) rfl rfl
theorem eJ5_init_2_55 {ev : xV} {v0 v1 v2 v4 : Option Value} {x : Nat} {st : List Value} {h : xH} : exF ev cJ5_init_2 55 ([v0, v1, v2, some (.ref x), v4], []) st h = exF ev cJ5_init_2 56 ([v0, v1, v2, some (.ref x), v4], []) (.ref x :: st) h := exF_j (i := (i_aload 3 56)) rfl rfl
theorem eJ5_init_2_55n {ev : xV} {v0 v1 v2 v4 : Option Value} {st : List Value} {h : xH} : exF ev cJ5_init_2 55 ([v0, v1, v2, some .null, v4], []) st h = exF ev cJ5_init_2 56 ([v0, v1, v2, some .null, v4], []) (.null :: st) h := exF_j (i := (i_aload 3 56)) rfl rfl
theorem eJ5_init_2_56 {ev : xV} {v0 v1 v2 v3 v4 : Option Value} {st : List Value} {h : xH} : exF ev cJ5_init_2 56 ([v0, v1, v2, v3, v4], []) st h = exF ev cJ5_init_2 57 ([v0, v1, v2, v3, v4], []) (.int (nI 0) :: st) h := exF_j (i := (i_const (.int (nI 0)) 57)) rfl rfl
theorem eJ5_init_2_57 {ev : xV} {v0 v1 v2 v3 : Option Value} {x : Int32} {st : List Value} {h : xH} : exF ev cJ5_init_2 57 ([v0, v1, v2, v3, some (.int x)], []) st h = exF ev cJ5_init_2 59 ([v0, v1, v2, v3, some (.int x)], []) (.int x :: st) h := exF_j (i := (i_iload 4 59)) rfl rfl
theorem eJ5_init_2_62 {ev : xV} {v0 v1 v2 v3 v4 : Option Value} {x a : Nat} {st : List Value} {h : xH} : exF ev cJ5_init_2 62 ([v0, v1, v2, v3, v4], []) (.ref x :: .ref a :: st) h = xO (xpf h a 22 0 (.ref x)) (fun h => exF ev cJ5_init_2 65 ([v0, v1, v2, v3, v4], []) st h) := exF_o (i := (i_putfr 22 0 65)) rfl rfl
theorem eJ5_init_2_62n {ev : xV} {v0 v1 v2 v3 v4 : Option Value} {a : Nat} {st : List Value} {h : xH} : exF ev cJ5_init_2 62 ([v0, v1, v2, v3, v4], []) (.null :: .ref a :: st) h = xO (xpf h a 22 0 .null) (fun h => exF ev cJ5_init_2 65 ([v0, v1, v2, v3, v4], []) st h) := exF_o (i := (i_putfr 22 0 65)) rfl rfl
theorem eJ5_init_2_65 {ev : xV} {v1 v2 v3 v4 : Option Value} {x : Nat} {st : List Value} {h : xH} : exF ev cJ5_init_2 65 ([some (.ref x), v1, v2, v3, v4], []) st h = exF ev cJ5_init_2 66 ([some (.ref x), v1, v2, v3, v4], []) (.ref x :: st) h := exF_j (i := (i_aload 0 66)) rfl rfl
theorem eJ5_init_2_66 {ev : xV} {v1 v2 v3 v4 : Option Value} {x : Nat} {st : List Value} {h : xH} : exF ev cJ5_init_2 66 ([some (.ref x), v1, v2, v3, v4], []) st h = exF ev cJ5_init_2 67 ([some (.ref x), v1, v2, v3, v4], []) (.ref x :: st) h := exF_j (i := (i_aload 0 67)) rfl rfl
theorem eJ5_init_2_67 {ev : xV} {v0 v1 v2 v3 v4 : Option Value} {a : Nat} {st : List Value} {h : xH} : exF ev cJ5_init_2 67 ([v0, v1, v2, v3, v4], []) (.ref a :: st) h = xO (xgf h a 22 0) (fun v => exF ev cJ5_init_2 70 ([v0, v1, v2, v3, v4], []) (v :: st) h) := exF_o (i := (i_getf 22 0 70)) rfl rfl
theorem eJ5_init_2_70 {ev : xV} {v0 v1 v2 v3 : Option Value} {x : Int32} {st : List Value} {h : xH} : exF ev cJ5_init_2 70 ([v0, v1, v2, v3, some (.int x)], []) st h = exF ev cJ5_init_2 72 ([v0, v1, v2, v3, some (.int x)], []) (.int x :: st) h := exF_j (i := (i_iload 4 72)) rfl rfl
theorem eJ5_init_2_75 {ev : xV} {v0 v1 v2 v3 v4 : Option Value} {x : Int32} {a : Nat} {st : List Value} {h : xH} : exF ev cJ5_init_2 75 ([v0, v1, v2, v3, v4], []) (.int x :: .ref a :: st) h = xO (if narrow .byte (.int x) = .int x ∧ fits .byte (.int x) = true then xpf h a 22 1 (.int x) else none) (fun h => exF ev cJ5_init_2 78 ([v0, v1, v2, v3, v4], []) st h) := exF_o (i := (i_putfn .byte 22 1 78)) rfl rfl
theorem eJ5_init_2_78 {ev : xV} {v0 v1 v2 v3 v4 : Option Value} {h : xH} : exF ev cJ5_init_2 78 ([v0, v1, v2, v3, v4], []) [] h = some (.inl none, h) := exF_r (i := (i_vret)) rfl rfl
theorem eJ5_init_2_79 {ev : xV} {v1 v2 v3 v4 : Option Value} {x : Nat} {st : List Value} {h : xH} : exF ev cJ5_init_2 79 ([some (.ref x), v1, v2, v3, v4], []) st h = exF ev cJ5_init_2 80 ([some (.ref x), v1, v2, v3, v4], []) (.ref x :: st) h := exF_j (i := (i_aload 0 80)) rfl rfl
theorem eJ5_init_2_80 {ev : xV} {v0 v1 v2 v3 v4 : Option Value} {st : List Value} {h : xH} : exF ev cJ5_init_2 80 ([v0, v1, v2, v3, v4], []) st h = exF ev cJ5_init_2 81 ([v0, v1, v2, v3, v4], []) (.int (nI 1) :: st) h := exF_j (i := (i_const (.int (nI 1)) 81)) rfl rfl
theorem eJ5_init_2_81 {ev : xV} {v0 v1 v2 v3 v4 : Option Value} {x : Int32} {a : Nat} {st : List Value} {h : xH} : exF ev cJ5_init_2 81 ([v0, v1, v2, v3, v4], []) (.int x :: .ref a :: st) h = xO (if narrow .byte (.int x) = .int x ∧ fits .byte (.int x) = true then xpf h a 22 1 (.int x) else none) (fun h => exF ev cJ5_init_2 84 ([v0, v1, v2, v3, v4], []) st h) := exF_o (i := (i_putfn .byte 22 1 84)) rfl rfl
theorem eJ5_init_2_84 {ev : xV} {v1 v2 v3 v4 : Option Value} {x : Nat} {st : List Value} {h : xH} : exF ev cJ5_init_2 84 ([some (.ref x), v1, v2, v3, v4], []) st h = exF ev cJ5_init_2 85 ([some (.ref x), v1, v2, v3, v4], []) (.ref x :: st) h := exF_j (i := (i_aload 0 85)) rfl rfl
theorem eJ5_init_2_85 {ev : xV} {v0 v1 v2 v4 : Option Value} {x : Nat} {st : List Value} {h : xH} : exF ev cJ5_init_2 85 ([v0, v1, v2, some (.ref x), v4], []) st h = exF ev cJ5_init_2 86 ([v0, v1, v2, some (.ref x), v4], []) (.ref x :: st) h := exF_j (i := (i_aload 3 86)) rfl rfl
theorem eJ5_init_2_85n {ev : xV} {v0 v1 v2 v4 : Option Value} {st : List Value} {h : xH} : exF ev cJ5_init_2 85 ([v0, v1, v2, some .null, v4], []) st h = exF ev cJ5_init_2 86 ([v0, v1, v2, some .null, v4], []) (.null :: st) h := exF_j (i := (i_aload 3 86)) rfl rfl
theorem eJ5_init_2_86 {ev : xV} {v0 v1 v2 v3 v4 : Option Value} {st : List Value} {h : xH} : exF ev cJ5_init_2 86 ([v0, v1, v2, v3, v4], []) st h = exF ev cJ5_init_2 87 ([v0, v1, v2, v3, v4], []) (.int (nI 0) :: st) h := exF_j (i := (i_const (.int (nI 0)) 87)) rfl rfl
theorem eJ5_init_2_87 {ev : xV} {v0 v1 v2 v3 : Option Value} {x : Int32} {st : List Value} {h : xH} : exF ev cJ5_init_2 87 ([v0, v1, v2, v3, some (.int x)], []) st h = exF ev cJ5_init_2 89 ([v0, v1, v2, v3, some (.int x)], []) (.int x :: st) h := exF_j (i := (i_iload 4 89)) rfl rfl
theorem eJ5_init_2_89 {ev : xV} {v0 v1 v2 v3 v4 : Option Value} {st : List Value} {h : xH} : exF ev cJ5_init_2 89 ([v0, v1, v2, v3, v4], []) st h = exF ev cJ5_init_2 90 ([v0, v1, v2, v3, v4], []) (.int (nI 1) :: st) h := exF_j (i := (i_const (.int (nI 1)) 90)) rfl rfl
theorem eJ5_init_2_90 {ev : xV} {v0 v1 v2 v3 v4 : Option Value} {x y : Int32} {st : List Value} {h : xH} : exF ev cJ5_init_2 90 ([v0, v1, v2, v3, v4], []) (.int y :: .int x :: st) h = exF ev cJ5_init_2 91 ([v0, v1, v2, v3, v4], []) (.int (x <<< (y &&& 31)) :: st) h := exF_j (i := (i_ii (fun x y => x <<< (y &&& 31)) 91)) rfl rfl
theorem eJ5_init_2_91 {ev : xV} {v0 v1 v2 v3 v4 : Option Value} {a0 : Value} {a1 : Value} {a2 : Value} {r0 : Value} {h : xH} : exF ev cJ5_init_2 91 ([v0, v1, v2, v3, v4], []) [a2, a1, a0, r0] h = xB (ev 23 [a0, a1, a2] h) (fun v h => exF ev cJ5_init_2 94 ([v0, v1, v2, v3, v4], []) [v, r0] h) := exF_c (i := (i_cs 23 3 94)) rfl rfl
theorem eJ5_init_2_94 {ev : xV} {v0 v1 v2 v3 v4 : Option Value} {x a : Nat} {st : List Value} {h : xH} : exF ev cJ5_init_2 94 ([v0, v1, v2, v3, v4], []) (.ref x :: .ref a :: st) h = xO (xpf h a 22 0 (.ref x)) (fun h => exF ev cJ5_init_2 97 ([v0, v1, v2, v3, v4], []) st h) := exF_o (i := (i_putfr 22 0 97)) rfl rfl
theorem eJ5_init_2_94n {ev : xV} {v0 v1 v2 v3 v4 : Option Value} {a : Nat} {st : List Value} {h : xH} : exF ev cJ5_init_2 94 ([v0, v1, v2, v3, v4], []) (.null :: .ref a :: st) h = xO (xpf h a 22 0 .null) (fun h => exF ev cJ5_init_2 97 ([v0, v1, v2, v3, v4], []) st h) := exF_o (i := (i_putfr 22 0 97)) rfl rfl
theorem eJ5_init_2_97 {ev : xV} {v0 v1 v2 v3 v4 : Option Value} {h : xH} : exF ev cJ5_init_2 97 ([v0, v1, v2, v3, v4], []) [] h = some (.inl none, h) := exF_r (i := (i_vret)) rfl rfl
noncomputable def cJ5_equals : xC := [(0, i_aload 0 1),
  (1, i_aload 1 2),
  (2, i_acmp false 7 5),
  (5, i_const (.int (nI 1)) 6),
  (6, i_zret),
  (7, i_aload 1 8),
  (8, i_inst [22] 11),
  (11, i_if1 (fun x => x = 0) 54 14),
  (14, i_aload 1 15),
  (15, i_cast [22] 18),
  (18, i_astore 2 19),
  (19, i_const (.int (nI 1)) 22),
  (22, i_if1 (fun x => x = 0) 36 25),
  (25, i_aload 0 26),
  (26, i_getf 22 1 29),
  (29, i_aload 2 30),
  (30, i_getf 22 1 33),
  (33, i_if2 (fun x y => ¬ x = y) 54 36),
  (36, i_aload 0 37),
  (37, i_getf 22 0 40),
  (40, i_aload 2 41),
  (41, i_getf 22 0 44),
  (44, i_cs 61 2 47),
  (47, i_if1 (fun x => x = 0) 54 50),
  (50, i_const (.int (nI 1)) 51),
  (51, i_goto 55),
  (54, i_const (.int (nI 0)) 55),
  (55, i_zret)]
theorem eJ5_equals_0 {ev : xV} {v1 v2 : Option Value} {x : Nat} {st : List Value} {h : xH} : exF ev cJ5_equals 0 ([some (.ref x), v1, v2], []) st h = exF ev cJ5_equals 1 ([some (.ref x), v1, v2], []) (.ref x :: st) h := exF_j (i := (i_aload 0 1)) rfl rfl
theorem eJ5_equals_1 {ev : xV} {v0 v2 : Option Value} {x : Nat} {st : List Value} {h : xH} : exF ev cJ5_equals 1 ([v0, some (.ref x), v2], []) st h = exF ev cJ5_equals 2 ([v0, some (.ref x), v2], []) (.ref x :: st) h := exF_j (i := (i_aload 1 2)) rfl rfl
theorem eJ5_equals_1n {ev : xV} {v0 v2 : Option Value} {st : List Value} {h : xH} : exF ev cJ5_equals 1 ([v0, some .null, v2], []) st h = exF ev cJ5_equals 2 ([v0, some .null, v2], []) (.null :: st) h := exF_j (i := (i_aload 1 2)) rfl rfl
theorem eJ5_equals_2 {ev : xV} {v0 v1 v2 : Option Value} {a b : Nat} {st : List Value} {h : xH} : exF ev cJ5_equals 2 ([v0, v1, v2], []) (.ref b :: .ref a :: st) h = xO (xaeq a b) (fun q => exF ev cJ5_equals (bif q == false then 7 else 5) ([v0, v1, v2], []) st h) := exF_a (i := (i_acmp false 7 5)) rfl rfl
theorem eJ5_equals_5 {ev : xV} {v0 v1 v2 : Option Value} {st : List Value} {h : xH} : exF ev cJ5_equals 5 ([v0, v1, v2], []) st h = exF ev cJ5_equals 6 ([v0, v1, v2], []) (.int (nI 1) :: st) h := exF_j (i := (i_const (.int (nI 1)) 6)) rfl rfl
theorem eJ5_equals_6 {ev : xV} {v0 v1 v2 : Option Value} {x : Int32} {h : xH} : exF ev cJ5_equals 6 ([v0, v1, v2], []) [.int x] h = if x = nI 0 ∨ x = nI 1 then some (.inl (some (.int x)), h) else none := exF_z (i := (i_zret)) rfl rfl
theorem eJ5_equals_6b0 {ev : xV} {v0 v1 v2 : Option Value} {h : xH} : exF ev cJ5_equals 6 ([v0, v1, v2], []) [.int (nI 0)] h = some (.inl (some (.int (nI 0))), h) := exF_r (i := (i_zret)) rfl i_zret_0
theorem eJ5_equals_6b1 {ev : xV} {v0 v1 v2 : Option Value} {h : xH} : exF ev cJ5_equals 6 ([v0, v1, v2], []) [.int (nI 1)] h = some (.inl (some (.int (nI 1))), h) := exF_r (i := (i_zret)) rfl i_zret_1
theorem eJ5_equals_6b {ev : xV} {v0 v1 v2 : Option Value} {b : Bool} {h : xH} : exF ev cJ5_equals 6 ([v0, v1, v2], []) [.int (bI b)] h = some (.inl (some (.int (bI b))), h) := exF_r (i := (i_zret)) rfl (i_zret_b b)
theorem eJ5_equals_7 {ev : xV} {v0 v2 : Option Value} {x : Nat} {st : List Value} {h : xH} : exF ev cJ5_equals 7 ([v0, some (.ref x), v2], []) st h = exF ev cJ5_equals 8 ([v0, some (.ref x), v2], []) (.ref x :: st) h := exF_j (i := (i_aload 1 8)) rfl rfl
theorem eJ5_equals_7n {ev : xV} {v0 v2 : Option Value} {st : List Value} {h : xH} : exF ev cJ5_equals 7 ([v0, some .null, v2], []) st h = exF ev cJ5_equals 8 ([v0, some .null, v2], []) (.null :: st) h := exF_j (i := (i_aload 1 8)) rfl rfl
theorem eJ5_equals_8 {ev : xV} {v0 v1 v2 : Option Value} {a : Nat} {st : List Value} {h : xH} : exF ev cJ5_equals 8 ([v0, v1, v2], []) (.ref a :: st) h = xO (xckc h [22] a) (fun _ => exF ev cJ5_equals 11 ([v0, v1, v2], []) (.int (nI 1) :: st) h) := exF_o (i := (i_inst [22] 11)) rfl rfl
theorem eJ5_equals_11 {ev : xV} {v0 v1 v2 : Option Value} {x : Int32} {st : List Value} {h : xH} : exF ev cJ5_equals 11 ([v0, v1, v2], []) (.int x :: st) h = if x = 0 then exF ev cJ5_equals 54 ([v0, v1, v2], []) st h else exF ev cJ5_equals 14 ([v0, v1, v2], []) st h := exF_b (i := (i_if1 (fun x => x = 0) 54 14)) rfl rfl
theorem eJ5_equals_14 {ev : xV} {v0 v2 : Option Value} {x : Nat} {st : List Value} {h : xH} : exF ev cJ5_equals 14 ([v0, some (.ref x), v2], []) st h = exF ev cJ5_equals 15 ([v0, some (.ref x), v2], []) (.ref x :: st) h := exF_j (i := (i_aload 1 15)) rfl rfl
theorem eJ5_equals_14n {ev : xV} {v0 v2 : Option Value} {st : List Value} {h : xH} : exF ev cJ5_equals 14 ([v0, some .null, v2], []) st h = exF ev cJ5_equals 15 ([v0, some .null, v2], []) (.null :: st) h := exF_j (i := (i_aload 1 15)) rfl rfl
theorem eJ5_equals_15 {ev : xV} {v0 v1 v2 : Option Value} {a : Nat} {st : List Value} {h : xH} : exF ev cJ5_equals 15 ([v0, v1, v2], []) (.ref a :: st) h = xO (xckc h [22] a) (fun _ => exF ev cJ5_equals 18 ([v0, v1, v2], []) (.ref a :: st) h) := exF_o (i := (i_cast [22] 18)) rfl rfl
theorem eJ5_equals_18 {ev : xV} {v0 v1 v2 : Option Value} {x : Nat} {st : List Value} {h : xH} : exF ev cJ5_equals 18 ([v0, v1, v2], []) (.ref x :: st) h = exF ev cJ5_equals 19 ([v0, v1, some (.ref x)], []) st h := exF_j (i := (i_astore 2 19)) rfl rfl
theorem eJ5_equals_18n {ev : xV} {v0 v1 v2 : Option Value} {st : List Value} {h : xH} : exF ev cJ5_equals 18 ([v0, v1, v2], []) (.null :: st) h = exF ev cJ5_equals 19 ([v0, v1, some .null], []) st h := exF_j (i := (i_astore 2 19)) rfl rfl
theorem eJ5_equals_19 {ev : xV} {v0 v1 v2 : Option Value} {st : List Value} {h : xH} : exF ev cJ5_equals 19 ([v0, v1, v2], []) st h = exF ev cJ5_equals 22 ([v0, v1, v2], []) (.int (nI 1) :: st) h := exF_j (i := (i_const (.int (nI 1)) 22)) rfl rfl
theorem eJ5_equals_22 {ev : xV} {v0 v1 v2 : Option Value} {x : Int32} {st : List Value} {h : xH} : exF ev cJ5_equals 22 ([v0, v1, v2], []) (.int x :: st) h = if x = 0 then exF ev cJ5_equals 36 ([v0, v1, v2], []) st h else exF ev cJ5_equals 25 ([v0, v1, v2], []) st h := exF_b (i := (i_if1 (fun x => x = 0) 36 25)) rfl rfl
theorem eJ5_equals_25 {ev : xV} {v1 v2 : Option Value} {x : Nat} {st : List Value} {h : xH} : exF ev cJ5_equals 25 ([some (.ref x), v1, v2], []) st h = exF ev cJ5_equals 26 ([some (.ref x), v1, v2], []) (.ref x :: st) h := exF_j (i := (i_aload 0 26)) rfl rfl
theorem eJ5_equals_26 {ev : xV} {v0 v1 v2 : Option Value} {a : Nat} {st : List Value} {h : xH} : exF ev cJ5_equals 26 ([v0, v1, v2], []) (.ref a :: st) h = xO (xgf h a 22 1) (fun v => exF ev cJ5_equals 29 ([v0, v1, v2], []) (v :: st) h) := exF_o (i := (i_getf 22 1 29)) rfl rfl
theorem eJ5_equals_29 {ev : xV} {v0 v1 : Option Value} {x : Nat} {st : List Value} {h : xH} : exF ev cJ5_equals 29 ([v0, v1, some (.ref x)], []) st h = exF ev cJ5_equals 30 ([v0, v1, some (.ref x)], []) (.ref x :: st) h := exF_j (i := (i_aload 2 30)) rfl rfl
theorem eJ5_equals_29n {ev : xV} {v0 v1 : Option Value} {st : List Value} {h : xH} : exF ev cJ5_equals 29 ([v0, v1, some .null], []) st h = exF ev cJ5_equals 30 ([v0, v1, some .null], []) (.null :: st) h := exF_j (i := (i_aload 2 30)) rfl rfl
theorem eJ5_equals_30 {ev : xV} {v0 v1 v2 : Option Value} {a : Nat} {st : List Value} {h : xH} : exF ev cJ5_equals 30 ([v0, v1, v2], []) (.ref a :: st) h = xO (xgf h a 22 1) (fun v => exF ev cJ5_equals 33 ([v0, v1, v2], []) (v :: st) h) := exF_o (i := (i_getf 22 1 33)) rfl rfl
theorem eJ5_equals_33 {ev : xV} {v0 v1 v2 : Option Value} {x y : Int32} {st : List Value} {h : xH} : exF ev cJ5_equals 33 ([v0, v1, v2], []) (.int y :: .int x :: st) h = if ¬ x = y then exF ev cJ5_equals 54 ([v0, v1, v2], []) st h else exF ev cJ5_equals 36 ([v0, v1, v2], []) st h := exF_b (i := (i_if2 (fun x y => ¬ x = y) 54 36)) rfl rfl
theorem eJ5_equals_36 {ev : xV} {v1 v2 : Option Value} {x : Nat} {st : List Value} {h : xH} : exF ev cJ5_equals 36 ([some (.ref x), v1, v2], []) st h = exF ev cJ5_equals 37 ([some (.ref x), v1, v2], []) (.ref x :: st) h := exF_j (i := (i_aload 0 37)) rfl rfl
theorem eJ5_equals_37 {ev : xV} {v0 v1 v2 : Option Value} {a : Nat} {st : List Value} {h : xH} : exF ev cJ5_equals 37 ([v0, v1, v2], []) (.ref a :: st) h = xO (xgf h a 22 0) (fun v => exF ev cJ5_equals 40 ([v0, v1, v2], []) (v :: st) h) := exF_o (i := (i_getf 22 0 40)) rfl rfl
theorem eJ5_equals_40 {ev : xV} {v0 v1 : Option Value} {x : Nat} {st : List Value} {h : xH} : exF ev cJ5_equals 40 ([v0, v1, some (.ref x)], []) st h = exF ev cJ5_equals 41 ([v0, v1, some (.ref x)], []) (.ref x :: st) h := exF_j (i := (i_aload 2 41)) rfl rfl
theorem eJ5_equals_40n {ev : xV} {v0 v1 : Option Value} {st : List Value} {h : xH} : exF ev cJ5_equals 40 ([v0, v1, some .null], []) st h = exF ev cJ5_equals 41 ([v0, v1, some .null], []) (.null :: st) h := exF_j (i := (i_aload 2 41)) rfl rfl
theorem eJ5_equals_41 {ev : xV} {v0 v1 v2 : Option Value} {a : Nat} {st : List Value} {h : xH} : exF ev cJ5_equals 41 ([v0, v1, v2], []) (.ref a :: st) h = xO (xgf h a 22 0) (fun v => exF ev cJ5_equals 44 ([v0, v1, v2], []) (v :: st) h) := exF_o (i := (i_getf 22 0 44)) rfl rfl
theorem eJ5_equals_44 {ev : xV} {v0 v1 v2 : Option Value} {a0 : Value} {a1 : Value} {h : xH} : exF ev cJ5_equals 44 ([v0, v1, v2], []) [a1, a0] h = xB (ev 61 [a0, a1] h) (fun v h => exF ev cJ5_equals 47 ([v0, v1, v2], []) [v] h) := exF_c (i := (i_cs 61 2 47)) rfl rfl
theorem eJ5_equals_47 {ev : xV} {v0 v1 v2 : Option Value} {x : Int32} {st : List Value} {h : xH} : exF ev cJ5_equals 47 ([v0, v1, v2], []) (.int x :: st) h = if x = 0 then exF ev cJ5_equals 54 ([v0, v1, v2], []) st h else exF ev cJ5_equals 50 ([v0, v1, v2], []) st h := exF_b (i := (i_if1 (fun x => x = 0) 54 50)) rfl rfl
theorem eJ5_equals_50 {ev : xV} {v0 v1 v2 : Option Value} {st : List Value} {h : xH} : exF ev cJ5_equals 50 ([v0, v1, v2], []) st h = exF ev cJ5_equals 51 ([v0, v1, v2], []) (.int (nI 1) :: st) h := exF_j (i := (i_const (.int (nI 1)) 51)) rfl rfl
theorem eJ5_equals_51 {ev : xV} {v0 v1 v2 : Option Value} {st : List Value} {h : xH} : exF ev cJ5_equals 51 ([v0, v1, v2], []) st h = exF ev cJ5_equals 55 ([v0, v1, v2], []) st h := exF_j (i := (i_goto 55)) rfl rfl
theorem eJ5_equals_54 {ev : xV} {v0 v1 v2 : Option Value} {st : List Value} {h : xH} : exF ev cJ5_equals 54 ([v0, v1, v2], []) st h = exF ev cJ5_equals 55 ([v0, v1, v2], []) (.int (nI 0) :: st) h := exF_j (i := (i_const (.int (nI 0)) 55)) rfl rfl
theorem eJ5_equals_55 {ev : xV} {v0 v1 v2 : Option Value} {x : Int32} {h : xH} : exF ev cJ5_equals 55 ([v0, v1, v2], []) [.int x] h = if x = nI 0 ∨ x = nI 1 then some (.inl (some (.int x)), h) else none := exF_z (i := (i_zret)) rfl rfl
theorem eJ5_equals_55b0 {ev : xV} {v0 v1 v2 : Option Value} {h : xH} : exF ev cJ5_equals 55 ([v0, v1, v2], []) [.int (nI 0)] h = some (.inl (some (.int (nI 0))), h) := exF_r (i := (i_zret)) rfl i_zret_0
theorem eJ5_equals_55b1 {ev : xV} {v0 v1 v2 : Option Value} {h : xH} : exF ev cJ5_equals 55 ([v0, v1, v2], []) [.int (nI 1)] h = some (.inl (some (.int (nI 1))), h) := exF_r (i := (i_zret)) rfl i_zret_1
theorem eJ5_equals_55b {ev : xV} {v0 v1 v2 : Option Value} {b : Bool} {h : xH} : exF ev cJ5_equals 55 ([v0, v1, v2], []) [.int (bI b)] h = some (.inl (some (.int (bI b))), h) := exF_r (i := (i_zret)) rfl (i_zret_b b)
noncomputable def cJ6_indexOf : xC := [(0, i_iload 1 1),
  (1, i_cs 56 1 4),
  (4, i_if1 (fun x => ¬ x = 0) 9 7),
  (7, i_const (.int (-1)) 8),
  (8, i_iret),
  (9, i_iload 2 10),
  (10, i_const (.int (nI 0)) 11),
  (11, i_cs 62 2 14),
  (14, i_istore 2 15),
  (15, i_iload 3 16),
  (16, i_aload 0 17),
  (17, i_len 18),
  (18, i_cs 63 2 21),
  (21, i_istore 3 22),
  (22, i_iload 2 23),
  (23, i_iload 3 24),
  (24, i_if2 (fun x y => x < y) 29 27),
  (27, i_const (.int (-1)) 28),
  (28, i_iret),
  (29, i_aload 0 30),
  (30, i_iload 1 31),
  (31, i_iload 2 32),
  (32, i_iload 3 33),
  (33, i_cs 57 4 36),
  (36, i_iret)]
theorem eJ6_indexOf_0 {ev : xV} {v0 v2 v3 : Option Value} {x : Int32} {st : List Value} {h : xH} : exF ev cJ6_indexOf 0 ([v0, some (.int x), v2, v3], []) st h = exF ev cJ6_indexOf 1 ([v0, some (.int x), v2, v3], []) (.int x :: st) h := exF_j (i := (i_iload 1 1)) rfl rfl
theorem eJ6_indexOf_1 {ev : xV} {v0 v1 v2 v3 : Option Value} {a0 : Value} {h : xH} : exF ev cJ6_indexOf 1 ([v0, v1, v2, v3], []) [a0] h = xB (ev 56 [a0] h) (fun v h => exF ev cJ6_indexOf 4 ([v0, v1, v2, v3], []) [v] h) := exF_c (i := (i_cs 56 1 4)) rfl rfl
theorem eJ6_indexOf_4 {ev : xV} {v0 v1 v2 v3 : Option Value} {x : Int32} {st : List Value} {h : xH} : exF ev cJ6_indexOf 4 ([v0, v1, v2, v3], []) (.int x :: st) h = if ¬ x = 0 then exF ev cJ6_indexOf 9 ([v0, v1, v2, v3], []) st h else exF ev cJ6_indexOf 7 ([v0, v1, v2, v3], []) st h := exF_b (i := (i_if1 (fun x => ¬ x = 0) 9 7)) rfl rfl
theorem eJ6_indexOf_7 {ev : xV} {v0 v1 v2 v3 : Option Value} {st : List Value} {h : xH} : exF ev cJ6_indexOf 7 ([v0, v1, v2, v3], []) st h = exF ev cJ6_indexOf 8 ([v0, v1, v2, v3], []) (.int (-1) :: st) h := exF_j (i := (i_const (.int (-1)) 8)) rfl rfl
theorem eJ6_indexOf_8 {ev : xV} {v0 v1 v2 v3 : Option Value} {x : Int32} {h : xH} : exF ev cJ6_indexOf 8 ([v0, v1, v2, v3], []) [.int x] h = some (.inl (some (.int x)), h) := exF_r (i := (i_iret)) rfl rfl
theorem eJ6_indexOf_9 {ev : xV} {v0 v1 v3 : Option Value} {x : Int32} {st : List Value} {h : xH} : exF ev cJ6_indexOf 9 ([v0, v1, some (.int x), v3], []) st h = exF ev cJ6_indexOf 10 ([v0, v1, some (.int x), v3], []) (.int x :: st) h := exF_j (i := (i_iload 2 10)) rfl rfl
theorem eJ6_indexOf_10 {ev : xV} {v0 v1 v2 v3 : Option Value} {st : List Value} {h : xH} : exF ev cJ6_indexOf 10 ([v0, v1, v2, v3], []) st h = exF ev cJ6_indexOf 11 ([v0, v1, v2, v3], []) (.int (nI 0) :: st) h := exF_j (i := (i_const (.int (nI 0)) 11)) rfl rfl
theorem eJ6_indexOf_11 {ev : xV} {v0 v1 v2 v3 : Option Value} {a0 : Value} {a1 : Value} {h : xH} : exF ev cJ6_indexOf 11 ([v0, v1, v2, v3], []) [a1, a0] h = xB (ev 62 [a0, a1] h) (fun v h => exF ev cJ6_indexOf 14 ([v0, v1, v2, v3], []) [v] h) := exF_c (i := (i_cs 62 2 14)) rfl rfl
theorem eJ6_indexOf_14 {ev : xV} {v0 v1 v2 v3 : Option Value} {x : Int32} {st : List Value} {h : xH} : exF ev cJ6_indexOf 14 ([v0, v1, v2, v3], []) (.int x :: st) h = exF ev cJ6_indexOf 15 ([v0, v1, some (.int x), v3], []) st h := exF_j (i := (i_istore 2 15)) rfl rfl
theorem eJ6_indexOf_15 {ev : xV} {v0 v1 v2 : Option Value} {x : Int32} {st : List Value} {h : xH} : exF ev cJ6_indexOf 15 ([v0, v1, v2, some (.int x)], []) st h = exF ev cJ6_indexOf 16 ([v0, v1, v2, some (.int x)], []) (.int x :: st) h := exF_j (i := (i_iload 3 16)) rfl rfl
theorem eJ6_indexOf_16 {ev : xV} {v1 v2 v3 : Option Value} {x : Nat} {st : List Value} {h : xH} : exF ev cJ6_indexOf 16 ([some (.ref x), v1, v2, v3], []) st h = exF ev cJ6_indexOf 17 ([some (.ref x), v1, v2, v3], []) (.ref x :: st) h := exF_j (i := (i_aload 0 17)) rfl rfl
theorem eJ6_indexOf_16n {ev : xV} {v1 v2 v3 : Option Value} {st : List Value} {h : xH} : exF ev cJ6_indexOf 16 ([some .null, v1, v2, v3], []) st h = exF ev cJ6_indexOf 17 ([some .null, v1, v2, v3], []) (.null :: st) h := exF_j (i := (i_aload 0 17)) rfl rfl
theorem eJ6_indexOf_17 {ev : xV} {v0 v1 v2 v3 : Option Value} {a : Nat} {st : List Value} {h : xH} : exF ev cJ6_indexOf 17 ([v0, v1, v2, v3], []) (.ref a :: st) h = xO (xlen h a) (fun v => exF ev cJ6_indexOf 18 ([v0, v1, v2, v3], []) (.int v :: st) h) := exF_o (i := (i_len 18)) rfl rfl
theorem eJ6_indexOf_18 {ev : xV} {v0 v1 v2 v3 : Option Value} {a0 : Value} {a1 : Value} {h : xH} : exF ev cJ6_indexOf 18 ([v0, v1, v2, v3], []) [a1, a0] h = xB (ev 63 [a0, a1] h) (fun v h => exF ev cJ6_indexOf 21 ([v0, v1, v2, v3], []) [v] h) := exF_c (i := (i_cs 63 2 21)) rfl rfl
theorem eJ6_indexOf_21 {ev : xV} {v0 v1 v2 v3 : Option Value} {x : Int32} {st : List Value} {h : xH} : exF ev cJ6_indexOf 21 ([v0, v1, v2, v3], []) (.int x :: st) h = exF ev cJ6_indexOf 22 ([v0, v1, v2, some (.int x)], []) st h := exF_j (i := (i_istore 3 22)) rfl rfl
theorem eJ6_indexOf_22 {ev : xV} {v0 v1 v3 : Option Value} {x : Int32} {st : List Value} {h : xH} : exF ev cJ6_indexOf 22 ([v0, v1, some (.int x), v3], []) st h = exF ev cJ6_indexOf 23 ([v0, v1, some (.int x), v3], []) (.int x :: st) h := exF_j (i := (i_iload 2 23)) rfl rfl
theorem eJ6_indexOf_23 {ev : xV} {v0 v1 v2 : Option Value} {x : Int32} {st : List Value} {h : xH} : exF ev cJ6_indexOf 23 ([v0, v1, v2, some (.int x)], []) st h = exF ev cJ6_indexOf 24 ([v0, v1, v2, some (.int x)], []) (.int x :: st) h := exF_j (i := (i_iload 3 24)) rfl rfl
theorem eJ6_indexOf_24 {ev : xV} {v0 v1 v2 v3 : Option Value} {x y : Int32} {st : List Value} {h : xH} : exF ev cJ6_indexOf 24 ([v0, v1, v2, v3], []) (.int y :: .int x :: st) h = if x < y then exF ev cJ6_indexOf 29 ([v0, v1, v2, v3], []) st h else exF ev cJ6_indexOf 27 ([v0, v1, v2, v3], []) st h := exF_b (i := (i_if2 (fun x y => x < y) 29 27)) rfl rfl
theorem eJ6_indexOf_27 {ev : xV} {v0 v1 v2 v3 : Option Value} {st : List Value} {h : xH} : exF ev cJ6_indexOf 27 ([v0, v1, v2, v3], []) st h = exF ev cJ6_indexOf 28 ([v0, v1, v2, v3], []) (.int (-1) :: st) h := exF_j (i := (i_const (.int (-1)) 28)) rfl rfl
theorem eJ6_indexOf_28 {ev : xV} {v0 v1 v2 v3 : Option Value} {x : Int32} {h : xH} : exF ev cJ6_indexOf 28 ([v0, v1, v2, v3], []) [.int x] h = some (.inl (some (.int x)), h) := exF_r (i := (i_iret)) rfl rfl
theorem eJ6_indexOf_29 {ev : xV} {v1 v2 v3 : Option Value} {x : Nat} {st : List Value} {h : xH} : exF ev cJ6_indexOf 29 ([some (.ref x), v1, v2, v3], []) st h = exF ev cJ6_indexOf 30 ([some (.ref x), v1, v2, v3], []) (.ref x :: st) h := exF_j (i := (i_aload 0 30)) rfl rfl
theorem eJ6_indexOf_29n {ev : xV} {v1 v2 v3 : Option Value} {st : List Value} {h : xH} : exF ev cJ6_indexOf 29 ([some .null, v1, v2, v3], []) st h = exF ev cJ6_indexOf 30 ([some .null, v1, v2, v3], []) (.null :: st) h := exF_j (i := (i_aload 0 30)) rfl rfl
theorem eJ6_indexOf_30 {ev : xV} {v0 v2 v3 : Option Value} {x : Int32} {st : List Value} {h : xH} : exF ev cJ6_indexOf 30 ([v0, some (.int x), v2, v3], []) st h = exF ev cJ6_indexOf 31 ([v0, some (.int x), v2, v3], []) (.int x :: st) h := exF_j (i := (i_iload 1 31)) rfl rfl
theorem eJ6_indexOf_31 {ev : xV} {v0 v1 v3 : Option Value} {x : Int32} {st : List Value} {h : xH} : exF ev cJ6_indexOf 31 ([v0, v1, some (.int x), v3], []) st h = exF ev cJ6_indexOf 32 ([v0, v1, some (.int x), v3], []) (.int x :: st) h := exF_j (i := (i_iload 2 32)) rfl rfl
theorem eJ6_indexOf_32 {ev : xV} {v0 v1 v2 : Option Value} {x : Int32} {st : List Value} {h : xH} : exF ev cJ6_indexOf 32 ([v0, v1, v2, some (.int x)], []) st h = exF ev cJ6_indexOf 33 ([v0, v1, v2, some (.int x)], []) (.int x :: st) h := exF_j (i := (i_iload 3 33)) rfl rfl
theorem eJ6_indexOf_33 {ev : xV} {v0 v1 v2 v3 : Option Value} {a0 : Value} {a1 : Value} {a2 : Value} {a3 : Value} {h : xH} : exF ev cJ6_indexOf 33 ([v0, v1, v2, v3], []) [a3, a2, a1, a0] h = xB (ev 57 [a0, a1, a2, a3] h) (fun v h => exF ev cJ6_indexOf 36 ([v0, v1, v2, v3], []) [v] h) := exF_c (i := (i_cs 57 4 36)) rfl rfl
theorem eJ6_indexOf_36 {ev : xV} {v0 v1 v2 v3 : Option Value} {x : Int32} {h : xH} : exF ev cJ6_indexOf 36 ([v0, v1, v2, v3], []) [.int x] h = some (.inl (some (.int x)), h) := exF_r (i := (i_iret)) rfl rfl
noncomputable def cJ6_canEncode : xC := [(0, i_iload 0 1),
  (1, i_if1 (fun x => x < 0) 15 4),
  (4, i_iload 0 5),
  (5, i_const (.int (nI 255)) 8),
  (8, i_if2 (fun x y => y < x) 15 11),
  (11, i_const (.int (nI 1)) 12),
  (12, i_goto 16),
  (15, i_const (.int (nI 0)) 16),
  (16, i_zret)]
theorem eJ6_canEncode_0 {ev : xV} {x : Int32} {st : List Value} {h : xH} : exF ev cJ6_canEncode 0 ([some (.int x)], []) st h = exF ev cJ6_canEncode 1 ([some (.int x)], []) (.int x :: st) h := exF_j (i := (i_iload 0 1)) rfl rfl
theorem eJ6_canEncode_1 {ev : xV} {v0 : Option Value} {x : Int32} {st : List Value} {h : xH} : exF ev cJ6_canEncode 1 ([v0], []) (.int x :: st) h = if x < 0 then exF ev cJ6_canEncode 15 ([v0], []) st h else exF ev cJ6_canEncode 4 ([v0], []) st h := exF_b (i := (i_if1 (fun x => x < 0) 15 4)) rfl rfl
theorem eJ6_canEncode_4 {ev : xV} {x : Int32} {st : List Value} {h : xH} : exF ev cJ6_canEncode 4 ([some (.int x)], []) st h = exF ev cJ6_canEncode 5 ([some (.int x)], []) (.int x :: st) h := exF_j (i := (i_iload 0 5)) rfl rfl
theorem eJ6_canEncode_5 {ev : xV} {v0 : Option Value} {st : List Value} {h : xH} : exF ev cJ6_canEncode 5 ([v0], []) st h = exF ev cJ6_canEncode 8 ([v0], []) (.int (nI 255) :: st) h := exF_j (i := (i_const (.int (nI 255)) 8)) rfl rfl
theorem eJ6_canEncode_8 {ev : xV} {v0 : Option Value} {x y : Int32} {st : List Value} {h : xH} : exF ev cJ6_canEncode 8 ([v0], []) (.int y :: .int x :: st) h = if y < x then exF ev cJ6_canEncode 15 ([v0], []) st h else exF ev cJ6_canEncode 11 ([v0], []) st h := exF_b (i := (i_if2 (fun x y => y < x) 15 11)) rfl rfl
theorem eJ6_canEncode_11 {ev : xV} {v0 : Option Value} {st : List Value} {h : xH} : exF ev cJ6_canEncode 11 ([v0], []) st h = exF ev cJ6_canEncode 12 ([v0], []) (.int (nI 1) :: st) h := exF_j (i := (i_const (.int (nI 1)) 12)) rfl rfl
theorem eJ6_canEncode_12 {ev : xV} {v0 : Option Value} {st : List Value} {h : xH} : exF ev cJ6_canEncode 12 ([v0], []) st h = exF ev cJ6_canEncode 16 ([v0], []) st h := exF_j (i := (i_goto 16)) rfl rfl
theorem eJ6_canEncode_15 {ev : xV} {v0 : Option Value} {st : List Value} {h : xH} : exF ev cJ6_canEncode 15 ([v0], []) st h = exF ev cJ6_canEncode 16 ([v0], []) (.int (nI 0) :: st) h := exF_j (i := (i_const (.int (nI 0)) 16)) rfl rfl
theorem eJ6_canEncode_16 {ev : xV} {v0 : Option Value} {x : Int32} {h : xH} : exF ev cJ6_canEncode 16 ([v0], []) [.int x] h = if x = nI 0 ∨ x = nI 1 then some (.inl (some (.int x)), h) else none := exF_z (i := (i_zret)) rfl rfl
theorem eJ6_canEncode_16b0 {ev : xV} {v0 : Option Value} {h : xH} : exF ev cJ6_canEncode 16 ([v0], []) [.int (nI 0)] h = some (.inl (some (.int (nI 0))), h) := exF_r (i := (i_zret)) rfl i_zret_0
theorem eJ6_canEncode_16b1 {ev : xV} {v0 : Option Value} {h : xH} : exF ev cJ6_canEncode 16 ([v0], []) [.int (nI 1)] h = some (.inl (some (.int (nI 1))), h) := exF_r (i := (i_zret)) rfl i_zret_1
theorem eJ6_canEncode_16b {ev : xV} {v0 : Option Value} {b : Bool} {h : xH} : exF ev cJ6_canEncode 16 ([v0], []) [.int (bI b)] h = some (.inl (some (.int (bI b))), h) := exF_r (i := (i_zret)) rfl (i_zret_b b)
noncomputable def cJ6_indexOfChar : xC := [(0, i_iload 1 1),
  (1, i_i1 (fun x => x.toInt8.toInt32) 2),
  (2, i_istore 4 4),
  (4, i_iload 2 5),
  (5, i_istore 5 7),
  (7, i_iload 5 9),
  (9, i_iload 3 10),
  (10, i_if2 (fun x y => y ≤ x) 31 13),
  (13, i_aload 0 14),
  (14, i_iload 5 16),
  (16, i_ai 1 17),
  (17, i_iload 4 19),
  (19, i_if2 (fun x y => ¬ x = y) 25 22),
  (22, i_iload 5 24),
  (24, i_iret),
  (25, i_iinc 5 (nI 1) 28),
  (28, i_goto 7),
  (31, i_const (.int (-1)) 32),
  (32, i_iret)]
theorem eJ6_indexOfChar_0 {ev : xV} {v0 v2 v3 v4 v5 : Option Value} {x : Int32} {st : List Value} {h : xH} : exF ev cJ6_indexOfChar 0 ([v0, some (.int x), v2, v3, v4, v5], []) st h = exF ev cJ6_indexOfChar 1 ([v0, some (.int x), v2, v3, v4, v5], []) (.int x :: st) h := exF_j (i := (i_iload 1 1)) rfl rfl
theorem eJ6_indexOfChar_1 {ev : xV} {v0 v1 v2 v3 v4 v5 : Option Value} {x : Int32} {st : List Value} {h : xH} : exF ev cJ6_indexOfChar 1 ([v0, v1, v2, v3, v4, v5], []) (.int x :: st) h = exF ev cJ6_indexOfChar 2 ([v0, v1, v2, v3, v4, v5], []) (.int (x.toInt8.toInt32) :: st) h := exF_j (i := (i_i1 (fun x => x.toInt8.toInt32) 2)) rfl rfl
theorem eJ6_indexOfChar_2 {ev : xV} {v0 v1 v2 v3 v4 v5 : Option Value} {x : Int32} {st : List Value} {h : xH} : exF ev cJ6_indexOfChar 2 ([v0, v1, v2, v3, v4, v5], []) (.int x :: st) h = exF ev cJ6_indexOfChar 4 ([v0, v1, v2, v3, some (.int x), v5], []) st h := exF_j (i := (i_istore 4 4)) rfl rfl
theorem eJ6_indexOfChar_4 {ev : xV} {v0 v1 v3 v4 v5 : Option Value} {x : Int32} {st : List Value} {h : xH} : exF ev cJ6_indexOfChar 4 ([v0, v1, some (.int x), v3, v4, v5], []) st h = exF ev cJ6_indexOfChar 5 ([v0, v1, some (.int x), v3, v4, v5], []) (.int x :: st) h := exF_j (i := (i_iload 2 5)) rfl rfl
theorem eJ6_indexOfChar_5 {ev : xV} {v0 v1 v2 v3 v4 v5 : Option Value} {x : Int32} {st : List Value} {h : xH} : exF ev cJ6_indexOfChar 5 ([v0, v1, v2, v3, v4, v5], []) (.int x :: st) h = exF ev cJ6_indexOfChar 7 ([v0, v1, v2, v3, v4, some (.int x)], []) st h := exF_j (i := (i_istore 5 7)) rfl rfl
theorem eJ6_indexOfChar_7 {ev : xV} {v0 v1 v2 v3 v4 : Option Value} {x : Int32} {st : List Value} {h : xH} : exF ev cJ6_indexOfChar 7 ([v0, v1, v2, v3, v4, some (.int x)], []) st h = exF ev cJ6_indexOfChar 9 ([v0, v1, v2, v3, v4, some (.int x)], []) (.int x :: st) h := exF_j (i := (i_iload 5 9)) rfl rfl
theorem eJ6_indexOfChar_9 {ev : xV} {v0 v1 v2 v4 v5 : Option Value} {x : Int32} {st : List Value} {h : xH} : exF ev cJ6_indexOfChar 9 ([v0, v1, v2, some (.int x), v4, v5], []) st h = exF ev cJ6_indexOfChar 10 ([v0, v1, v2, some (.int x), v4, v5], []) (.int x :: st) h := exF_j (i := (i_iload 3 10)) rfl rfl
theorem eJ6_indexOfChar_10 {ev : xV} {v0 v1 v2 v3 v4 v5 : Option Value} {x y : Int32} {st : List Value} {h : xH} : exF ev cJ6_indexOfChar 10 ([v0, v1, v2, v3, v4, v5], []) (.int y :: .int x :: st) h = if y ≤ x then exF ev cJ6_indexOfChar 31 ([v0, v1, v2, v3, v4, v5], []) st h else exF ev cJ6_indexOfChar 13 ([v0, v1, v2, v3, v4, v5], []) st h := exF_b (i := (i_if2 (fun x y => y ≤ x) 31 13)) rfl rfl
theorem eJ6_indexOfChar_13 {ev : xV} {v1 v2 v3 v4 v5 : Option Value} {x : Nat} {st : List Value} {h : xH} : exF ev cJ6_indexOfChar 13 ([some (.ref x), v1, v2, v3, v4, v5], []) st h = exF ev cJ6_indexOfChar 14 ([some (.ref x), v1, v2, v3, v4, v5], []) (.ref x :: st) h := exF_j (i := (i_aload 0 14)) rfl rfl
theorem eJ6_indexOfChar_13n {ev : xV} {v1 v2 v3 v4 v5 : Option Value} {st : List Value} {h : xH} : exF ev cJ6_indexOfChar 13 ([some .null, v1, v2, v3, v4, v5], []) st h = exF ev cJ6_indexOfChar 14 ([some .null, v1, v2, v3, v4, v5], []) (.null :: st) h := exF_j (i := (i_aload 0 14)) rfl rfl
theorem eJ6_indexOfChar_14 {ev : xV} {v0 v1 v2 v3 v4 : Option Value} {x : Int32} {st : List Value} {h : xH} : exF ev cJ6_indexOfChar 14 ([v0, v1, v2, v3, v4, some (.int x)], []) st h = exF ev cJ6_indexOfChar 16 ([v0, v1, v2, v3, v4, some (.int x)], []) (.int x :: st) h := exF_j (i := (i_iload 5 16)) rfl rfl
theorem eJ6_indexOfChar_16 {ev : xV} {v0 v1 v2 v3 v4 v5 : Option Value} {i : Int32} {a : Nat} {st : List Value} {h : xH} : exF ev cJ6_indexOfChar 16 ([v0, v1, v2, v3, v4, v5], []) (.int i :: .ref a :: st) h = xO (xai h 1 a i) (fun v => exF ev cJ6_indexOfChar 17 ([v0, v1, v2, v3, v4, v5], []) (.int v :: st) h) := exF_o (i := (i_ai 1 17)) rfl rfl
theorem eJ6_indexOfChar_17 {ev : xV} {v0 v1 v2 v3 v5 : Option Value} {x : Int32} {st : List Value} {h : xH} : exF ev cJ6_indexOfChar 17 ([v0, v1, v2, v3, some (.int x), v5], []) st h = exF ev cJ6_indexOfChar 19 ([v0, v1, v2, v3, some (.int x), v5], []) (.int x :: st) h := exF_j (i := (i_iload 4 19)) rfl rfl
theorem eJ6_indexOfChar_19 {ev : xV} {v0 v1 v2 v3 v4 v5 : Option Value} {x y : Int32} {st : List Value} {h : xH} : exF ev cJ6_indexOfChar 19 ([v0, v1, v2, v3, v4, v5], []) (.int y :: .int x :: st) h = if ¬ x = y then exF ev cJ6_indexOfChar 25 ([v0, v1, v2, v3, v4, v5], []) st h else exF ev cJ6_indexOfChar 22 ([v0, v1, v2, v3, v4, v5], []) st h := exF_b (i := (i_if2 (fun x y => ¬ x = y) 25 22)) rfl rfl
theorem eJ6_indexOfChar_22 {ev : xV} {v0 v1 v2 v3 v4 : Option Value} {x : Int32} {st : List Value} {h : xH} : exF ev cJ6_indexOfChar 22 ([v0, v1, v2, v3, v4, some (.int x)], []) st h = exF ev cJ6_indexOfChar 24 ([v0, v1, v2, v3, v4, some (.int x)], []) (.int x :: st) h := exF_j (i := (i_iload 5 24)) rfl rfl
theorem eJ6_indexOfChar_24 {ev : xV} {v0 v1 v2 v3 v4 v5 : Option Value} {x : Int32} {h : xH} : exF ev cJ6_indexOfChar 24 ([v0, v1, v2, v3, v4, v5], []) [.int x] h = some (.inl (some (.int x)), h) := exF_r (i := (i_iret)) rfl rfl
theorem eJ6_indexOfChar_25 {ev : xV} {v0 v1 v2 v3 v4 : Option Value} {x : Int32} {st : List Value} {h : xH} : exF ev cJ6_indexOfChar 25 ([v0, v1, v2, v3, v4, some (.int x)], []) st h = exF ev cJ6_indexOfChar 28 ([v0, v1, v2, v3, v4, some (.int (x + (nI 1)))], []) st h := exF_j (i := (i_iinc 5 (nI 1) 28)) rfl rfl
theorem eJ6_indexOfChar_28 {ev : xV} {v0 v1 v2 v3 v4 v5 : Option Value} {st : List Value} {h : xH} : exF ev cJ6_indexOfChar 28 ([v0, v1, v2, v3, v4, v5], []) st h = exF ev cJ6_indexOfChar 7 ([v0, v1, v2, v3, v4, v5], []) st h := exF_j (i := (i_goto 7)) rfl rfl
theorem eJ6_indexOfChar_31 {ev : xV} {v0 v1 v2 v3 v4 v5 : Option Value} {st : List Value} {h : xH} : exF ev cJ6_indexOfChar 31 ([v0, v1, v2, v3, v4, v5], []) st h = exF ev cJ6_indexOfChar 32 ([v0, v1, v2, v3, v4, v5], []) (.int (-1) :: st) h := exF_j (i := (i_const (.int (-1)) 32)) rfl rfl
theorem eJ6_indexOfChar_32 {ev : xV} {v0 v1 v2 v3 v4 v5 : Option Value} {x : Int32} {h : xH} : exF ev cJ6_indexOfChar 32 ([v0, v1, v2, v3, v4, v5], []) [.int x] h = some (.inl (some (.int x)), h) := exF_r (i := (i_iret)) rfl rfl
noncomputable def cJ6_charAt : xC := [(0, i_iload 1 1),
  (1, i_aload 0 2),
  (2, i_len 3),
  (3, i_csv 50 2 6),
  (6, i_aload 0 7),
  (7, i_iload 1 8),
  (8, i_ai 1 9),
  (9, i_const (.int (nI 255)) 12),
  (12, i_ii (fun x y => x &&& y) 13),
  (13, i_i1 (fun x => (x.toUInt32 % 65536).toInt32) 14),
  (14, i_nret .char)]
theorem eJ6_charAt_0 {ev : xV} {v0 : Option Value} {x : Int32} {st : List Value} {h : xH} : exF ev cJ6_charAt 0 ([v0, some (.int x)], []) st h = exF ev cJ6_charAt 1 ([v0, some (.int x)], []) (.int x :: st) h := exF_j (i := (i_iload 1 1)) rfl rfl
theorem eJ6_charAt_1 {ev : xV} {v1 : Option Value} {x : Nat} {st : List Value} {h : xH} : exF ev cJ6_charAt 1 ([some (.ref x), v1], []) st h = exF ev cJ6_charAt 2 ([some (.ref x), v1], []) (.ref x :: st) h := exF_j (i := (i_aload 0 2)) rfl rfl
theorem eJ6_charAt_1n {ev : xV} {v1 : Option Value} {st : List Value} {h : xH} : exF ev cJ6_charAt 1 ([some .null, v1], []) st h = exF ev cJ6_charAt 2 ([some .null, v1], []) (.null :: st) h := exF_j (i := (i_aload 0 2)) rfl rfl
theorem eJ6_charAt_2 {ev : xV} {v0 v1 : Option Value} {a : Nat} {st : List Value} {h : xH} : exF ev cJ6_charAt 2 ([v0, v1], []) (.ref a :: st) h = xO (xlen h a) (fun v => exF ev cJ6_charAt 3 ([v0, v1], []) (.int v :: st) h) := exF_o (i := (i_len 3)) rfl rfl
theorem eJ6_charAt_3 {ev : xV} {v0 v1 : Option Value} {a0 : Value} {a1 : Value} {h : xH} : exF ev cJ6_charAt 3 ([v0, v1], []) [a1, a0] h = xBv (ev 50 [a0, a1] h) (fun h => exF ev cJ6_charAt 6 ([v0, v1], []) [] h) := exF_cv (i := (i_csv 50 2 6)) rfl rfl
theorem eJ6_charAt_6 {ev : xV} {v1 : Option Value} {x : Nat} {st : List Value} {h : xH} : exF ev cJ6_charAt 6 ([some (.ref x), v1], []) st h = exF ev cJ6_charAt 7 ([some (.ref x), v1], []) (.ref x :: st) h := exF_j (i := (i_aload 0 7)) rfl rfl
theorem eJ6_charAt_6n {ev : xV} {v1 : Option Value} {st : List Value} {h : xH} : exF ev cJ6_charAt 6 ([some .null, v1], []) st h = exF ev cJ6_charAt 7 ([some .null, v1], []) (.null :: st) h := exF_j (i := (i_aload 0 7)) rfl rfl
theorem eJ6_charAt_7 {ev : xV} {v0 : Option Value} {x : Int32} {st : List Value} {h : xH} : exF ev cJ6_charAt 7 ([v0, some (.int x)], []) st h = exF ev cJ6_charAt 8 ([v0, some (.int x)], []) (.int x :: st) h := exF_j (i := (i_iload 1 8)) rfl rfl
theorem eJ6_charAt_8 {ev : xV} {v0 v1 : Option Value} {i : Int32} {a : Nat} {st : List Value} {h : xH} : exF ev cJ6_charAt 8 ([v0, v1], []) (.int i :: .ref a :: st) h = xO (xai h 1 a i) (fun v => exF ev cJ6_charAt 9 ([v0, v1], []) (.int v :: st) h) := exF_o (i := (i_ai 1 9)) rfl rfl
theorem eJ6_charAt_9 {ev : xV} {v0 v1 : Option Value} {st : List Value} {h : xH} : exF ev cJ6_charAt 9 ([v0, v1], []) st h = exF ev cJ6_charAt 12 ([v0, v1], []) (.int (nI 255) :: st) h := exF_j (i := (i_const (.int (nI 255)) 12)) rfl rfl
theorem eJ6_charAt_12 {ev : xV} {v0 v1 : Option Value} {x y : Int32} {st : List Value} {h : xH} : exF ev cJ6_charAt 12 ([v0, v1], []) (.int y :: .int x :: st) h = exF ev cJ6_charAt 13 ([v0, v1], []) (.int (x &&& y) :: st) h := exF_j (i := (i_ii (fun x y => x &&& y) 13)) rfl rfl
theorem eJ6_charAt_13 {ev : xV} {v0 v1 : Option Value} {x : Int32} {st : List Value} {h : xH} : exF ev cJ6_charAt 13 ([v0, v1], []) (.int x :: st) h = exF ev cJ6_charAt 14 ([v0, v1], []) (.int ((x.toUInt32 % 65536).toInt32) :: st) h := exF_j (i := (i_i1 (fun x => (x.toUInt32 % 65536).toInt32) 14)) rfl rfl
theorem eJ6_charAt_14 {ev : xV} {v0 v1 : Option Value} {x : Int32} {h : xH} : exF ev cJ6_charAt 14 ([v0, v1], []) [.int x] h = if narrow .char (.int x) = .int x then some (.inl (some (.int x)), h) else none := exF_z (i := (i_nret .char)) rfl rfl
noncomputable def cJ6_canEncode_2 : xC := [(0, i_iload 0 1),
  (1, i_const (.int (nI 255)) 4),
  (4, i_if2 (fun x y => y < x) 11 7),
  (7, i_const (.int (nI 1)) 8),
  (8, i_goto 12),
  (11, i_const (.int (nI 0)) 12),
  (12, i_zret)]
theorem eJ6_canEncode_2_0 {ev : xV} {x : Int32} {st : List Value} {h : xH} : exF ev cJ6_canEncode_2 0 ([some (.int x)], []) st h = exF ev cJ6_canEncode_2 1 ([some (.int x)], []) (.int x :: st) h := exF_j (i := (i_iload 0 1)) rfl rfl
theorem eJ6_canEncode_2_1 {ev : xV} {v0 : Option Value} {st : List Value} {h : xH} : exF ev cJ6_canEncode_2 1 ([v0], []) st h = exF ev cJ6_canEncode_2 4 ([v0], []) (.int (nI 255) :: st) h := exF_j (i := (i_const (.int (nI 255)) 4)) rfl rfl
theorem eJ6_canEncode_2_4 {ev : xV} {v0 : Option Value} {x y : Int32} {st : List Value} {h : xH} : exF ev cJ6_canEncode_2 4 ([v0], []) (.int y :: .int x :: st) h = if y < x then exF ev cJ6_canEncode_2 11 ([v0], []) st h else exF ev cJ6_canEncode_2 7 ([v0], []) st h := exF_b (i := (i_if2 (fun x y => y < x) 11 7)) rfl rfl
theorem eJ6_canEncode_2_7 {ev : xV} {v0 : Option Value} {st : List Value} {h : xH} : exF ev cJ6_canEncode_2 7 ([v0], []) st h = exF ev cJ6_canEncode_2 8 ([v0], []) (.int (nI 1) :: st) h := exF_j (i := (i_const (.int (nI 1)) 8)) rfl rfl
theorem eJ6_canEncode_2_8 {ev : xV} {v0 : Option Value} {st : List Value} {h : xH} : exF ev cJ6_canEncode_2 8 ([v0], []) st h = exF ev cJ6_canEncode_2 12 ([v0], []) st h := exF_j (i := (i_goto 12)) rfl rfl
theorem eJ6_canEncode_2_11 {ev : xV} {v0 : Option Value} {st : List Value} {h : xH} : exF ev cJ6_canEncode_2 11 ([v0], []) st h = exF ev cJ6_canEncode_2 12 ([v0], []) (.int (nI 0) :: st) h := exF_j (i := (i_const (.int (nI 0)) 12)) rfl rfl
theorem eJ6_canEncode_2_12 {ev : xV} {v0 : Option Value} {x : Int32} {h : xH} : exF ev cJ6_canEncode_2 12 ([v0], []) [.int x] h = if x = nI 0 ∨ x = nI 1 then some (.inl (some (.int x)), h) else none := exF_z (i := (i_zret)) rfl rfl
theorem eJ6_canEncode_2_12b0 {ev : xV} {v0 : Option Value} {h : xH} : exF ev cJ6_canEncode_2 12 ([v0], []) [.int (nI 0)] h = some (.inl (some (.int (nI 0))), h) := exF_r (i := (i_zret)) rfl i_zret_0
theorem eJ6_canEncode_2_12b1 {ev : xV} {v0 : Option Value} {h : xH} : exF ev cJ6_canEncode_2 12 ([v0], []) [.int (nI 1)] h = some (.inl (some (.int (nI 1))), h) := exF_r (i := (i_zret)) rfl i_zret_1
theorem eJ6_canEncode_2_12b {ev : xV} {v0 : Option Value} {b : Bool} {h : xH} : exF ev cJ6_canEncode_2 12 ([v0], []) [.int (bI b)] h = some (.inl (some (.int (bI b))), h) := exF_r (i := (i_zret)) rfl (i_zret_b b)
noncomputable def cJ6_equals : xC := [(0, i_aload 0 1),
  (1, i_len 2),
  (2, i_aload 1 3),
  (3, i_len 4),
  (4, i_if2 (fun x y => ¬ x = y) 34 7),
  (7, i_const (.int (nI 0)) 8),
  (8, i_istore 2 9),
  (9, i_iload 2 10),
  (10, i_aload 0 11),
  (11, i_len 12),
  (12, i_if2 (fun x y => y ≤ x) 32 15),
  (15, i_aload 0 16),
  (16, i_iload 2 17),
  (17, i_ai 1 18),
  (18, i_aload 1 19),
  (19, i_iload 2 20),
  (20, i_ai 1 21),
  (21, i_if2 (fun x y => x = y) 26 24),
  (24, i_const (.int (nI 0)) 25),
  (25, i_zret),
  (26, i_iinc 2 (nI 1) 29),
  (29, i_goto 9),
  (32, i_const (.int (nI 1)) 33),
  (33, i_zret),
  (34, i_const (.int (nI 0)) 35),
  (35, i_zret)]
theorem eJ6_equals_0 {ev : xV} {v1 v2 : Option Value} {x : Nat} {st : List Value} {h : xH} : exF ev cJ6_equals 0 ([some (.ref x), v1, v2], []) st h = exF ev cJ6_equals 1 ([some (.ref x), v1, v2], []) (.ref x :: st) h := exF_j (i := (i_aload 0 1)) rfl rfl
theorem eJ6_equals_0n {ev : xV} {v1 v2 : Option Value} {st : List Value} {h : xH} : exF ev cJ6_equals 0 ([some .null, v1, v2], []) st h = exF ev cJ6_equals 1 ([some .null, v1, v2], []) (.null :: st) h := exF_j (i := (i_aload 0 1)) rfl rfl
theorem eJ6_equals_1 {ev : xV} {v0 v1 v2 : Option Value} {a : Nat} {st : List Value} {h : xH} : exF ev cJ6_equals 1 ([v0, v1, v2], []) (.ref a :: st) h = xO (xlen h a) (fun v => exF ev cJ6_equals 2 ([v0, v1, v2], []) (.int v :: st) h) := exF_o (i := (i_len 2)) rfl rfl
theorem eJ6_equals_2 {ev : xV} {v0 v2 : Option Value} {x : Nat} {st : List Value} {h : xH} : exF ev cJ6_equals 2 ([v0, some (.ref x), v2], []) st h = exF ev cJ6_equals 3 ([v0, some (.ref x), v2], []) (.ref x :: st) h := exF_j (i := (i_aload 1 3)) rfl rfl
theorem eJ6_equals_2n {ev : xV} {v0 v2 : Option Value} {st : List Value} {h : xH} : exF ev cJ6_equals 2 ([v0, some .null, v2], []) st h = exF ev cJ6_equals 3 ([v0, some .null, v2], []) (.null :: st) h := exF_j (i := (i_aload 1 3)) rfl rfl
theorem eJ6_equals_3 {ev : xV} {v0 v1 v2 : Option Value} {a : Nat} {st : List Value} {h : xH} : exF ev cJ6_equals 3 ([v0, v1, v2], []) (.ref a :: st) h = xO (xlen h a) (fun v => exF ev cJ6_equals 4 ([v0, v1, v2], []) (.int v :: st) h) := exF_o (i := (i_len 4)) rfl rfl
theorem eJ6_equals_4 {ev : xV} {v0 v1 v2 : Option Value} {x y : Int32} {st : List Value} {h : xH} : exF ev cJ6_equals 4 ([v0, v1, v2], []) (.int y :: .int x :: st) h = if ¬ x = y then exF ev cJ6_equals 34 ([v0, v1, v2], []) st h else exF ev cJ6_equals 7 ([v0, v1, v2], []) st h := exF_b (i := (i_if2 (fun x y => ¬ x = y) 34 7)) rfl rfl
theorem eJ6_equals_7 {ev : xV} {v0 v1 v2 : Option Value} {st : List Value} {h : xH} : exF ev cJ6_equals 7 ([v0, v1, v2], []) st h = exF ev cJ6_equals 8 ([v0, v1, v2], []) (.int (nI 0) :: st) h := exF_j (i := (i_const (.int (nI 0)) 8)) rfl rfl
theorem eJ6_equals_8 {ev : xV} {v0 v1 v2 : Option Value} {x : Int32} {st : List Value} {h : xH} : exF ev cJ6_equals 8 ([v0, v1, v2], []) (.int x :: st) h = exF ev cJ6_equals 9 ([v0, v1, some (.int x)], []) st h := exF_j (i := (i_istore 2 9)) rfl rfl
theorem eJ6_equals_9 {ev : xV} {v0 v1 : Option Value} {x : Int32} {st : List Value} {h : xH} : exF ev cJ6_equals 9 ([v0, v1, some (.int x)], []) st h = exF ev cJ6_equals 10 ([v0, v1, some (.int x)], []) (.int x :: st) h := exF_j (i := (i_iload 2 10)) rfl rfl
theorem eJ6_equals_10 {ev : xV} {v1 v2 : Option Value} {x : Nat} {st : List Value} {h : xH} : exF ev cJ6_equals 10 ([some (.ref x), v1, v2], []) st h = exF ev cJ6_equals 11 ([some (.ref x), v1, v2], []) (.ref x :: st) h := exF_j (i := (i_aload 0 11)) rfl rfl
theorem eJ6_equals_10n {ev : xV} {v1 v2 : Option Value} {st : List Value} {h : xH} : exF ev cJ6_equals 10 ([some .null, v1, v2], []) st h = exF ev cJ6_equals 11 ([some .null, v1, v2], []) (.null :: st) h := exF_j (i := (i_aload 0 11)) rfl rfl
theorem eJ6_equals_11 {ev : xV} {v0 v1 v2 : Option Value} {a : Nat} {st : List Value} {h : xH} : exF ev cJ6_equals 11 ([v0, v1, v2], []) (.ref a :: st) h = xO (xlen h a) (fun v => exF ev cJ6_equals 12 ([v0, v1, v2], []) (.int v :: st) h) := exF_o (i := (i_len 12)) rfl rfl
theorem eJ6_equals_12 {ev : xV} {v0 v1 v2 : Option Value} {x y : Int32} {st : List Value} {h : xH} : exF ev cJ6_equals 12 ([v0, v1, v2], []) (.int y :: .int x :: st) h = if y ≤ x then exF ev cJ6_equals 32 ([v0, v1, v2], []) st h else exF ev cJ6_equals 15 ([v0, v1, v2], []) st h := exF_b (i := (i_if2 (fun x y => y ≤ x) 32 15)) rfl rfl
theorem eJ6_equals_15 {ev : xV} {v1 v2 : Option Value} {x : Nat} {st : List Value} {h : xH} : exF ev cJ6_equals 15 ([some (.ref x), v1, v2], []) st h = exF ev cJ6_equals 16 ([some (.ref x), v1, v2], []) (.ref x :: st) h := exF_j (i := (i_aload 0 16)) rfl rfl
theorem eJ6_equals_15n {ev : xV} {v1 v2 : Option Value} {st : List Value} {h : xH} : exF ev cJ6_equals 15 ([some .null, v1, v2], []) st h = exF ev cJ6_equals 16 ([some .null, v1, v2], []) (.null :: st) h := exF_j (i := (i_aload 0 16)) rfl rfl
theorem eJ6_equals_16 {ev : xV} {v0 v1 : Option Value} {x : Int32} {st : List Value} {h : xH} : exF ev cJ6_equals 16 ([v0, v1, some (.int x)], []) st h = exF ev cJ6_equals 17 ([v0, v1, some (.int x)], []) (.int x :: st) h := exF_j (i := (i_iload 2 17)) rfl rfl
theorem eJ6_equals_17 {ev : xV} {v0 v1 v2 : Option Value} {i : Int32} {a : Nat} {st : List Value} {h : xH} : exF ev cJ6_equals 17 ([v0, v1, v2], []) (.int i :: .ref a :: st) h = xO (xai h 1 a i) (fun v => exF ev cJ6_equals 18 ([v0, v1, v2], []) (.int v :: st) h) := exF_o (i := (i_ai 1 18)) rfl rfl
theorem eJ6_equals_18 {ev : xV} {v0 v2 : Option Value} {x : Nat} {st : List Value} {h : xH} : exF ev cJ6_equals 18 ([v0, some (.ref x), v2], []) st h = exF ev cJ6_equals 19 ([v0, some (.ref x), v2], []) (.ref x :: st) h := exF_j (i := (i_aload 1 19)) rfl rfl
theorem eJ6_equals_18n {ev : xV} {v0 v2 : Option Value} {st : List Value} {h : xH} : exF ev cJ6_equals 18 ([v0, some .null, v2], []) st h = exF ev cJ6_equals 19 ([v0, some .null, v2], []) (.null :: st) h := exF_j (i := (i_aload 1 19)) rfl rfl
theorem eJ6_equals_19 {ev : xV} {v0 v1 : Option Value} {x : Int32} {st : List Value} {h : xH} : exF ev cJ6_equals 19 ([v0, v1, some (.int x)], []) st h = exF ev cJ6_equals 20 ([v0, v1, some (.int x)], []) (.int x :: st) h := exF_j (i := (i_iload 2 20)) rfl rfl
theorem eJ6_equals_20 {ev : xV} {v0 v1 v2 : Option Value} {i : Int32} {a : Nat} {st : List Value} {h : xH} : exF ev cJ6_equals 20 ([v0, v1, v2], []) (.int i :: .ref a :: st) h = xO (xai h 1 a i) (fun v => exF ev cJ6_equals 21 ([v0, v1, v2], []) (.int v :: st) h) := exF_o (i := (i_ai 1 21)) rfl rfl
theorem eJ6_equals_21 {ev : xV} {v0 v1 v2 : Option Value} {x y : Int32} {st : List Value} {h : xH} : exF ev cJ6_equals 21 ([v0, v1, v2], []) (.int y :: .int x :: st) h = if x = y then exF ev cJ6_equals 26 ([v0, v1, v2], []) st h else exF ev cJ6_equals 24 ([v0, v1, v2], []) st h := exF_b (i := (i_if2 (fun x y => x = y) 26 24)) rfl rfl
theorem eJ6_equals_24 {ev : xV} {v0 v1 v2 : Option Value} {st : List Value} {h : xH} : exF ev cJ6_equals 24 ([v0, v1, v2], []) st h = exF ev cJ6_equals 25 ([v0, v1, v2], []) (.int (nI 0) :: st) h := exF_j (i := (i_const (.int (nI 0)) 25)) rfl rfl
theorem eJ6_equals_25 {ev : xV} {v0 v1 v2 : Option Value} {x : Int32} {h : xH} : exF ev cJ6_equals 25 ([v0, v1, v2], []) [.int x] h = if x = nI 0 ∨ x = nI 1 then some (.inl (some (.int x)), h) else none := exF_z (i := (i_zret)) rfl rfl
theorem eJ6_equals_25b0 {ev : xV} {v0 v1 v2 : Option Value} {h : xH} : exF ev cJ6_equals 25 ([v0, v1, v2], []) [.int (nI 0)] h = some (.inl (some (.int (nI 0))), h) := exF_r (i := (i_zret)) rfl i_zret_0
theorem eJ6_equals_25b1 {ev : xV} {v0 v1 v2 : Option Value} {h : xH} : exF ev cJ6_equals 25 ([v0, v1, v2], []) [.int (nI 1)] h = some (.inl (some (.int (nI 1))), h) := exF_r (i := (i_zret)) rfl i_zret_1
theorem eJ6_equals_25b {ev : xV} {v0 v1 v2 : Option Value} {b : Bool} {h : xH} : exF ev cJ6_equals 25 ([v0, v1, v2], []) [.int (bI b)] h = some (.inl (some (.int (bI b))), h) := exF_r (i := (i_zret)) rfl (i_zret_b b)
theorem eJ6_equals_26 {ev : xV} {v0 v1 : Option Value} {x : Int32} {st : List Value} {h : xH} : exF ev cJ6_equals 26 ([v0, v1, some (.int x)], []) st h = exF ev cJ6_equals 29 ([v0, v1, some (.int (x + (nI 1)))], []) st h := exF_j (i := (i_iinc 2 (nI 1) 29)) rfl rfl
theorem eJ6_equals_29 {ev : xV} {v0 v1 v2 : Option Value} {st : List Value} {h : xH} : exF ev cJ6_equals 29 ([v0, v1, v2], []) st h = exF ev cJ6_equals 9 ([v0, v1, v2], []) st h := exF_j (i := (i_goto 9)) rfl rfl
theorem eJ6_equals_32 {ev : xV} {v0 v1 v2 : Option Value} {st : List Value} {h : xH} : exF ev cJ6_equals 32 ([v0, v1, v2], []) st h = exF ev cJ6_equals 33 ([v0, v1, v2], []) (.int (nI 1) :: st) h := exF_j (i := (i_const (.int (nI 1)) 33)) rfl rfl
theorem eJ6_equals_33 {ev : xV} {v0 v1 v2 : Option Value} {x : Int32} {h : xH} : exF ev cJ6_equals 33 ([v0, v1, v2], []) [.int x] h = if x = nI 0 ∨ x = nI 1 then some (.inl (some (.int x)), h) else none := exF_z (i := (i_zret)) rfl rfl
theorem eJ6_equals_33b0 {ev : xV} {v0 v1 v2 : Option Value} {h : xH} : exF ev cJ6_equals 33 ([v0, v1, v2], []) [.int (nI 0)] h = some (.inl (some (.int (nI 0))), h) := exF_r (i := (i_zret)) rfl i_zret_0
theorem eJ6_equals_33b1 {ev : xV} {v0 v1 v2 : Option Value} {h : xH} : exF ev cJ6_equals 33 ([v0, v1, v2], []) [.int (nI 1)] h = some (.inl (some (.int (nI 1))), h) := exF_r (i := (i_zret)) rfl i_zret_1
theorem eJ6_equals_33b {ev : xV} {v0 v1 v2 : Option Value} {b : Bool} {h : xH} : exF ev cJ6_equals 33 ([v0, v1, v2], []) [.int (bI b)] h = some (.inl (some (.int (bI b))), h) := exF_r (i := (i_zret)) rfl (i_zret_b b)
theorem eJ6_equals_34 {ev : xV} {v0 v1 v2 : Option Value} {st : List Value} {h : xH} : exF ev cJ6_equals 34 ([v0, v1, v2], []) st h = exF ev cJ6_equals 35 ([v0, v1, v2], []) (.int (nI 0) :: st) h := exF_j (i := (i_const (.int (nI 0)) 35)) rfl rfl
theorem eJ6_equals_35 {ev : xV} {v0 v1 v2 : Option Value} {x : Int32} {h : xH} : exF ev cJ6_equals 35 ([v0, v1, v2], []) [.int x] h = if x = nI 0 ∨ x = nI 1 then some (.inl (some (.int x)), h) else none := exF_z (i := (i_zret)) rfl rfl
theorem eJ6_equals_35b0 {ev : xV} {v0 v1 v2 : Option Value} {h : xH} : exF ev cJ6_equals 35 ([v0, v1, v2], []) [.int (nI 0)] h = some (.inl (some (.int (nI 0))), h) := exF_r (i := (i_zret)) rfl i_zret_0
theorem eJ6_equals_35b1 {ev : xV} {v0 v1 v2 : Option Value} {h : xH} : exF ev cJ6_equals 35 ([v0, v1, v2], []) [.int (nI 1)] h = some (.inl (some (.int (nI 1))), h) := exF_r (i := (i_zret)) rfl i_zret_1
theorem eJ6_equals_35b {ev : xV} {v0 v1 v2 : Option Value} {b : Bool} {h : xH} : exF ev cJ6_equals 35 ([v0, v1, v2], []) [.int (bI b)] h = some (.inl (some (.int (bI b))), h) := exF_r (i := (i_zret)) rfl (i_zret_b b)
noncomputable def cJ7_max : xC := [(0, i_iload 0 1),
  (1, i_iload 1 2),
  (2, i_if2 (fun x y => x < y) 9 5),
  (5, i_iload 0 6),
  (6, i_goto 10),
  (9, i_iload 1 10),
  (10, i_iret)]
theorem eJ7_max_0 {ev : xV} {v1 : Option Value} {x : Int32} {st : List Value} {h : xH} : exF ev cJ7_max 0 ([some (.int x), v1], []) st h = exF ev cJ7_max 1 ([some (.int x), v1], []) (.int x :: st) h := exF_j (i := (i_iload 0 1)) rfl rfl
theorem eJ7_max_1 {ev : xV} {v0 : Option Value} {x : Int32} {st : List Value} {h : xH} : exF ev cJ7_max 1 ([v0, some (.int x)], []) st h = exF ev cJ7_max 2 ([v0, some (.int x)], []) (.int x :: st) h := exF_j (i := (i_iload 1 2)) rfl rfl
theorem eJ7_max_2 {ev : xV} {v0 v1 : Option Value} {x y : Int32} {st : List Value} {h : xH} : exF ev cJ7_max 2 ([v0, v1], []) (.int y :: .int x :: st) h = if x < y then exF ev cJ7_max 9 ([v0, v1], []) st h else exF ev cJ7_max 5 ([v0, v1], []) st h := exF_b (i := (i_if2 (fun x y => x < y) 9 5)) rfl rfl
theorem eJ7_max_5 {ev : xV} {v1 : Option Value} {x : Int32} {st : List Value} {h : xH} : exF ev cJ7_max 5 ([some (.int x), v1], []) st h = exF ev cJ7_max 6 ([some (.int x), v1], []) (.int x :: st) h := exF_j (i := (i_iload 0 6)) rfl rfl
theorem eJ7_max_6 {ev : xV} {v0 v1 : Option Value} {st : List Value} {h : xH} : exF ev cJ7_max 6 ([v0, v1], []) st h = exF ev cJ7_max 10 ([v0, v1], []) st h := exF_j (i := (i_goto 10)) rfl rfl
theorem eJ7_max_9 {ev : xV} {v0 : Option Value} {x : Int32} {st : List Value} {h : xH} : exF ev cJ7_max 9 ([v0, some (.int x)], []) st h = exF ev cJ7_max 10 ([v0, some (.int x)], []) (.int x :: st) h := exF_j (i := (i_iload 1 10)) rfl rfl
theorem eJ7_max_10 {ev : xV} {v0 v1 : Option Value} {x : Int32} {h : xH} : exF ev cJ7_max 10 ([v0, v1], []) [.int x] h = some (.inl (some (.int x)), h) := exF_r (i := (i_iret)) rfl rfl
noncomputable def cJ7_min : xC := [(0, i_iload 0 1),
  (1, i_iload 1 2),
  (2, i_if2 (fun x y => y < x) 9 5),
  (5, i_iload 0 6),
  (6, i_goto 10),
  (9, i_iload 1 10),
  (10, i_iret)]
theorem eJ7_min_0 {ev : xV} {v1 : Option Value} {x : Int32} {st : List Value} {h : xH} : exF ev cJ7_min 0 ([some (.int x), v1], []) st h = exF ev cJ7_min 1 ([some (.int x), v1], []) (.int x :: st) h := exF_j (i := (i_iload 0 1)) rfl rfl
theorem eJ7_min_1 {ev : xV} {v0 : Option Value} {x : Int32} {st : List Value} {h : xH} : exF ev cJ7_min 1 ([v0, some (.int x)], []) st h = exF ev cJ7_min 2 ([v0, some (.int x)], []) (.int x :: st) h := exF_j (i := (i_iload 1 2)) rfl rfl
theorem eJ7_min_2 {ev : xV} {v0 v1 : Option Value} {x y : Int32} {st : List Value} {h : xH} : exF ev cJ7_min 2 ([v0, v1], []) (.int y :: .int x :: st) h = if y < x then exF ev cJ7_min 9 ([v0, v1], []) st h else exF ev cJ7_min 5 ([v0, v1], []) st h := exF_b (i := (i_if2 (fun x y => y < x) 9 5)) rfl rfl
theorem eJ7_min_5 {ev : xV} {v1 : Option Value} {x : Int32} {st : List Value} {h : xH} : exF ev cJ7_min 5 ([some (.int x), v1], []) st h = exF ev cJ7_min 6 ([some (.int x), v1], []) (.int x :: st) h := exF_j (i := (i_iload 0 6)) rfl rfl
theorem eJ7_min_6 {ev : xV} {v0 v1 : Option Value} {st : List Value} {h : xH} : exF ev cJ7_min 6 ([v0, v1], []) st h = exF ev cJ7_min 10 ([v0, v1], []) st h := exF_j (i := (i_goto 10)) rfl rfl
theorem eJ7_min_9 {ev : xV} {v0 : Option Value} {x : Int32} {st : List Value} {h : xH} : exF ev cJ7_min 9 ([v0, some (.int x)], []) st h = exF ev cJ7_min 10 ([v0, some (.int x)], []) (.int x :: st) h := exF_j (i := (i_iload 1 10)) rfl rfl
theorem eJ7_min_10 {ev : xV} {v0 v1 : Option Value} {x : Int32} {h : xH} : exF ev cJ7_min 10 ([v0, v1], []) [.int x] h = some (.inl (some (.int x)), h) := exF_r (i := (i_iret)) rfl rfl
noncomputable def cX0_rests : xC := [(0, i_aload 5 2),
  (2, i_const (.int (nI 0)) 3),
  (3, i_aload 0 4),
  (4, i_iload 1 5),
  (5, i_iload 2 6),
  (6, i_iload 3 7),
  (7, i_iload 4 9),
  (9, i_cvh [24] 17 0 163 4 12),
  (12, i_i2l 13),
  (13, i_sl 3 14),
  (14, i_goto 21),
  (17, i_astore 6 19),
  (19, i_const (.int (nI 1)) 20),
  (20, i_iret),
  (21, i_const (.int (nI 0)) 22),
  (22, i_iret)]
theorem eX0_rests_0 {ev : xV} {v0 v1 v2 v3 v4 v6 : Option Value} {x : Nat} {st : List Value} {h : xH} : exF ev cX0_rests 0 ([v0, v1, v2, v3, v4, some (.ref x), v6], []) st h = exF ev cX0_rests 2 ([v0, v1, v2, v3, v4, some (.ref x), v6], []) (.ref x :: st) h := exF_j (i := (i_aload 5 2)) rfl rfl
theorem eX0_rests_0n {ev : xV} {v0 v1 v2 v3 v4 v6 : Option Value} {st : List Value} {h : xH} : exF ev cX0_rests 0 ([v0, v1, v2, v3, v4, some .null, v6], []) st h = exF ev cX0_rests 2 ([v0, v1, v2, v3, v4, some .null, v6], []) (.null :: st) h := exF_j (i := (i_aload 5 2)) rfl rfl
theorem eX0_rests_2 {ev : xV} {v0 v1 v2 v3 v4 v5 v6 : Option Value} {st : List Value} {h : xH} : exF ev cX0_rests 2 ([v0, v1, v2, v3, v4, v5, v6], []) st h = exF ev cX0_rests 3 ([v0, v1, v2, v3, v4, v5, v6], []) (.int (nI 0) :: st) h := exF_j (i := (i_const (.int (nI 0)) 3)) rfl rfl
theorem eX0_rests_3 {ev : xV} {v1 v2 v3 v4 v5 v6 : Option Value} {x : Nat} {st : List Value} {h : xH} : exF ev cX0_rests 3 ([some (.ref x), v1, v2, v3, v4, v5, v6], []) st h = exF ev cX0_rests 4 ([some (.ref x), v1, v2, v3, v4, v5, v6], []) (.ref x :: st) h := exF_j (i := (i_aload 0 4)) rfl rfl
theorem eX0_rests_3n {ev : xV} {v1 v2 v3 v4 v5 v6 : Option Value} {st : List Value} {h : xH} : exF ev cX0_rests 3 ([some .null, v1, v2, v3, v4, v5, v6], []) st h = exF ev cX0_rests 4 ([some .null, v1, v2, v3, v4, v5, v6], []) (.null :: st) h := exF_j (i := (i_aload 0 4)) rfl rfl
theorem eX0_rests_4 {ev : xV} {v0 v2 v3 v4 v5 v6 : Option Value} {x : Int32} {st : List Value} {h : xH} : exF ev cX0_rests 4 ([v0, some (.int x), v2, v3, v4, v5, v6], []) st h = exF ev cX0_rests 5 ([v0, some (.int x), v2, v3, v4, v5, v6], []) (.int x :: st) h := exF_j (i := (i_iload 1 5)) rfl rfl
theorem eX0_rests_5 {ev : xV} {v0 v1 v3 v4 v5 v6 : Option Value} {x : Int32} {st : List Value} {h : xH} : exF ev cX0_rests 5 ([v0, v1, some (.int x), v3, v4, v5, v6], []) st h = exF ev cX0_rests 6 ([v0, v1, some (.int x), v3, v4, v5, v6], []) (.int x :: st) h := exF_j (i := (i_iload 2 6)) rfl rfl
theorem eX0_rests_6 {ev : xV} {v0 v1 v2 v4 v5 v6 : Option Value} {x : Int32} {st : List Value} {h : xH} : exF ev cX0_rests 6 ([v0, v1, v2, some (.int x), v4, v5, v6], []) st h = exF ev cX0_rests 7 ([v0, v1, v2, some (.int x), v4, v5, v6], []) (.int x :: st) h := exF_j (i := (i_iload 3 7)) rfl rfl
theorem eX0_rests_7 {ev : xV} {v0 v1 v2 v3 v5 v6 : Option Value} {x : Int32} {st : List Value} {h : xH} : exF ev cX0_rests 7 ([v0, v1, v2, v3, some (.int x), v5, v6], []) st h = exF ev cX0_rests 9 ([v0, v1, v2, v3, some (.int x), v5, v6], []) (.int x :: st) h := exF_j (i := (i_iload 4 9)) rfl rfl
theorem eX0_rests_9 {ev : xV} {v0 v1 v2 v3 v4 v5 v6 : Option Value} {a0 : Value} {a1 : Value} {a2 : Value} {a3 : Value} {r0 : Value} {r1 : Value} {a : Nat} {h : xH} : exF ev cX0_rests 9 ([v0, v1, v2, v3, v4, v5, v6], []) [a3, a2, a1, a0, .ref a, r0, r1] h = xO (xck h a 0) (fun _ => xBk (ev 163 [.ref a, a0, a1, a2, a3] h) [24] (fun v h => exF ev cX0_rests 12 ([v0, v1, v2, v3, v4, v5, v6], []) [v, r0, r1] h) (fun q h => exF ev cX0_rests 17 ([v0, v1, v2, v3, v4, v5, v6], []) [.ref q] h)) := exF_ch (i := (i_cvh [24] 17 0 163 4 12)) rfl rfl
theorem eX0_rests_12 {ev : xV} {v0 v1 v2 v3 v4 v5 v6 : Option Value} {x : Int32} {st : List Value} {h : xH} : exF ev cX0_rests 12 ([v0, v1, v2, v3, v4, v5, v6], []) (.int x :: st) h = exF ev cX0_rests 13 ([v0, v1, v2, v3, v4, v5, v6], []) (.long x.toInt64 :: st) h := exF_j (i := (i_i2l 13)) rfl rfl
theorem eX0_rests_13 {ev : xV} {v0 v1 v2 v3 v4 v5 v6 : Option Value} {v : Int64} {i : Int32} {a : Nat} {st : List Value} {h : xH} : exF ev cX0_rests 13 ([v0, v1, v2, v3, v4, v5, v6], []) (.long v :: .int i :: .ref a :: st) h = xO (xsl h 3 a i v) (fun h => exF ev cX0_rests 14 ([v0, v1, v2, v3, v4, v5, v6], []) st h) := exF_o (i := (i_sl 3 14)) rfl rfl
theorem eX0_rests_14 {ev : xV} {v0 v1 v2 v3 v4 v5 v6 : Option Value} {st : List Value} {h : xH} : exF ev cX0_rests 14 ([v0, v1, v2, v3, v4, v5, v6], []) st h = exF ev cX0_rests 21 ([v0, v1, v2, v3, v4, v5, v6], []) st h := exF_j (i := (i_goto 21)) rfl rfl
theorem eX0_rests_17 {ev : xV} {v0 v1 v2 v3 v4 v5 v6 : Option Value} {x : Nat} {st : List Value} {h : xH} : exF ev cX0_rests 17 ([v0, v1, v2, v3, v4, v5, v6], []) (.ref x :: st) h = exF ev cX0_rests 19 ([v0, v1, v2, v3, v4, v5, some (.ref x)], []) st h := exF_j (i := (i_astore 6 19)) rfl rfl
theorem eX0_rests_17n {ev : xV} {v0 v1 v2 v3 v4 v5 v6 : Option Value} {st : List Value} {h : xH} : exF ev cX0_rests 17 ([v0, v1, v2, v3, v4, v5, v6], []) (.null :: st) h = exF ev cX0_rests 19 ([v0, v1, v2, v3, v4, v5, some .null], []) st h := exF_j (i := (i_astore 6 19)) rfl rfl
theorem eX0_rests_19 {ev : xV} {v0 v1 v2 v3 v4 v5 v6 : Option Value} {st : List Value} {h : xH} : exF ev cX0_rests 19 ([v0, v1, v2, v3, v4, v5, v6], []) st h = exF ev cX0_rests 20 ([v0, v1, v2, v3, v4, v5, v6], []) (.int (nI 1) :: st) h := exF_j (i := (i_const (.int (nI 1)) 20)) rfl rfl
theorem eX0_rests_20 {ev : xV} {v0 v1 v2 v3 v4 v5 v6 : Option Value} {x : Int32} {h : xH} : exF ev cX0_rests 20 ([v0, v1, v2, v3, v4, v5, v6], []) [.int x] h = some (.inl (some (.int x)), h) := exF_r (i := (i_iret)) rfl rfl
theorem eX0_rests_21 {ev : xV} {v0 v1 v2 v3 v4 v5 v6 : Option Value} {st : List Value} {h : xH} : exF ev cX0_rests 21 ([v0, v1, v2, v3, v4, v5, v6], []) st h = exF ev cX0_rests 22 ([v0, v1, v2, v3, v4, v5, v6], []) (.int (nI 0) :: st) h := exF_j (i := (i_const (.int (nI 0)) 22)) rfl rfl
theorem eX0_rests_22 {ev : xV} {v0 v1 v2 v3 v4 v5 v6 : Option Value} {x : Int32} {h : xH} : exF ev cX0_rests 22 ([v0, v1, v2, v3, v4, v5, v6], []) [.int x] h = some (.inl (some (.int x)), h) := exF_r (i := (i_iret)) rfl rfl
noncomputable def cX10_init : xC := [(0, i_aload 0 1),
  (1, i_ci [7, 8, 9, 10] 370 0 4),
  (4, i_vret)]
theorem eX10_init_0 {ev : xV} {x : Nat} {st : List Value} {h : xH} : exF ev cX10_init 0 ([some (.ref x)], []) st h = exF ev cX10_init 1 ([some (.ref x)], []) (.ref x :: st) h := exF_j (i := (i_aload 0 1)) rfl rfl
theorem eX10_init_1 {ev : xV} {v0 : Option Value} {a : Nat} {h : xH} : exF ev cX10_init 1 ([v0], []) [.ref a] h = xO (xckc h [7, 8, 9, 10] a) (fun _ => xBv (ev 370 [.ref a] h) (fun h => exF ev cX10_init 4 ([v0], []) [] h)) := exF_cdv (i := (i_ci [7, 8, 9, 10] 370 0 4)) rfl rfl
theorem eX10_init_4 {ev : xV} {v0 : Option Value} {h : xH} : exF ev cX10_init 4 ([v0], []) [] h = some (.inl none, h) := exF_r (i := (i_vret)) rfl rfl
noncomputable def cX10_kind : xC := [(0, i_const (.int (nI 1)) 1),
  (1, i_iret)]
theorem eX10_kind_0 {ev : xV} {v0 : Option Value} {st : List Value} {h : xH} : exF ev cX10_kind 0 ([v0], []) st h = exF ev cX10_kind 1 ([v0], []) (.int (nI 1) :: st) h := exF_j (i := (i_const (.int (nI 1)) 1)) rfl rfl
theorem eX10_kind_1 {ev : xV} {v0 : Option Value} {x : Int32} {h : xH} : exF ev cX10_kind 1 ([v0], []) [.int x] h = some (.inl (some (.int x)), h) := exF_r (i := (i_iret)) rfl rfl
noncomputable def cX10_upper : xC := [(0, i_const (.int (nI 4)) 1),
  (1, i_iret)]
theorem eX10_upper_0 {ev : xV} {v0 : Option Value} {st : List Value} {h : xH} : exF ev cX10_upper 0 ([v0], []) st h = exF ev cX10_upper 1 ([v0], []) (.int (nI 4) :: st) h := exF_j (i := (i_const (.int (nI 4)) 1)) rfl rfl
theorem eX10_upper_1 {ev : xV} {v0 : Option Value} {x : Int32} {h : xH} : exF ev cX10_upper 1 ([v0], []) [.int x] h = some (.inl (some (.int x)), h) := exF_r (i := (i_iret)) rfl rfl
noncomputable def cX10_lower : xC := [(0, i_const (.int (nI 4)) 1),
  (1, i_iret)]
theorem eX10_lower_0 {ev : xV} {v0 : Option Value} {st : List Value} {h : xH} : exF ev cX10_lower 0 ([v0], []) st h = exF ev cX10_lower 1 ([v0], []) (.int (nI 4) :: st) h := exF_j (i := (i_const (.int (nI 4)) 1)) rfl rfl
theorem eX10_lower_1 {ev : xV} {v0 : Option Value} {x : Int32} {h : xH} : exF ev cX10_lower 1 ([v0], []) [.int x] h = some (.inl (some (.int x)), h) := exF_r (i := (i_iret)) rfl rfl
noncomputable def cX10_shrinks : xC := [(0, i_const (.int (nI 2)) 1),
  (1, i_iret)]
theorem eX10_shrinks_0 {ev : xV} {v0 : Option Value} {st : List Value} {h : xH} : exF ev cX10_shrinks 0 ([v0], []) st h = exF ev cX10_shrinks 1 ([v0], []) (.int (nI 2) :: st) h := exF_j (i := (i_const (.int (nI 2)) 1)) rfl rfl
theorem eX10_shrinks_1 {ev : xV} {v0 : Option Value} {x : Int32} {h : xH} : exF ev cX10_shrinks 1 ([v0], []) [.int x] h = some (.inl (some (.int x)), h) := exF_r (i := (i_iret)) rfl rfl
noncomputable def cX11_init : xC := [(0, i_aload 0 1),
  (1, i_ci [7, 8, 9, 10] 370 0 4),
  (4, i_vret)]
theorem eX11_init_0 {ev : xV} {x : Nat} {st : List Value} {h : xH} : exF ev cX11_init 0 ([some (.ref x)], []) st h = exF ev cX11_init 1 ([some (.ref x)], []) (.ref x :: st) h := exF_j (i := (i_aload 0 1)) rfl rfl
theorem eX11_init_1 {ev : xV} {v0 : Option Value} {a : Nat} {h : xH} : exF ev cX11_init 1 ([v0], []) [.ref a] h = xO (xckc h [7, 8, 9, 10] a) (fun _ => xBv (ev 370 [.ref a] h) (fun h => exF ev cX11_init 4 ([v0], []) [] h)) := exF_cdv (i := (i_ci [7, 8, 9, 10] 370 0 4)) rfl rfl
theorem eX11_init_4 {ev : xV} {v0 : Option Value} {h : xH} : exF ev cX11_init 4 ([v0], []) [] h = some (.inl none, h) := exF_r (i := (i_vret)) rfl rfl
noncomputable def cX11_kind : xC := [(0, i_const (.int (nI 2)) 1),
  (1, i_iret)]
theorem eX11_kind_0 {ev : xV} {v0 : Option Value} {st : List Value} {h : xH} : exF ev cX11_kind 0 ([v0], []) st h = exF ev cX11_kind 1 ([v0], []) (.int (nI 2) :: st) h := exF_j (i := (i_const (.int (nI 2)) 1)) rfl rfl
theorem eX11_kind_1 {ev : xV} {v0 : Option Value} {x : Int32} {h : xH} : exF ev cX11_kind 1 ([v0], []) [.int x] h = some (.inl (some (.int x)), h) := exF_r (i := (i_iret)) rfl rfl
noncomputable def cX11_upper : xC := [(0, i_const (.int (nI 5)) 1),
  (1, i_iret)]
theorem eX11_upper_0 {ev : xV} {v0 : Option Value} {st : List Value} {h : xH} : exF ev cX11_upper 0 ([v0], []) st h = exF ev cX11_upper 1 ([v0], []) (.int (nI 5) :: st) h := exF_j (i := (i_const (.int (nI 5)) 1)) rfl rfl
theorem eX11_upper_1 {ev : xV} {v0 : Option Value} {x : Int32} {h : xH} : exF ev cX11_upper 1 ([v0], []) [.int x] h = some (.inl (some (.int x)), h) := exF_r (i := (i_iret)) rfl rfl
noncomputable def cX11_lower : xC := [(0, i_const (.int (nI 1)) 1),
  (1, i_iret)]
theorem eX11_lower_0 {ev : xV} {v0 : Option Value} {st : List Value} {h : xH} : exF ev cX11_lower 0 ([v0], []) st h = exF ev cX11_lower 1 ([v0], []) (.int (nI 1) :: st) h := exF_j (i := (i_const (.int (nI 1)) 1)) rfl rfl
theorem eX11_lower_1 {ev : xV} {v0 : Option Value} {x : Int32} {h : xH} : exF ev cX11_lower 1 ([v0], []) [.int x] h = some (.inl (some (.int x)), h) := exF_r (i := (i_iret)) rfl rfl
noncomputable def cX11_shrinks : xC := [(0, i_const (.int (nI 3)) 1),
  (1, i_iret)]
theorem eX11_shrinks_0 {ev : xV} {v0 : Option Value} {st : List Value} {h : xH} : exF ev cX11_shrinks 0 ([v0], []) st h = exF ev cX11_shrinks 1 ([v0], []) (.int (nI 3) :: st) h := exF_j (i := (i_const (.int (nI 3)) 1)) rfl rfl
theorem eX11_shrinks_1 {ev : xV} {v0 : Option Value} {x : Int32} {h : xH} : exF ev cX11_shrinks 1 ([v0], []) [.int x] h = some (.inl (some (.int x)), h) := exF_r (i := (i_iret)) rfl rfl
noncomputable def cX12_init : xC := [(0, i_aload 0 1),
  (1, i_ci [7, 8, 9, 10] 370 0 4),
  (4, i_vret)]
theorem eX12_init_0 {ev : xV} {x : Nat} {st : List Value} {h : xH} : exF ev cX12_init 0 ([some (.ref x)], []) st h = exF ev cX12_init 1 ([some (.ref x)], []) (.ref x :: st) h := exF_j (i := (i_aload 0 1)) rfl rfl
theorem eX12_init_1 {ev : xV} {v0 : Option Value} {a : Nat} {h : xH} : exF ev cX12_init 1 ([v0], []) [.ref a] h = xO (xckc h [7, 8, 9, 10] a) (fun _ => xBv (ev 370 [.ref a] h) (fun h => exF ev cX12_init 4 ([v0], []) [] h)) := exF_cdv (i := (i_ci [7, 8, 9, 10] 370 0 4)) rfl rfl
theorem eX12_init_4 {ev : xV} {v0 : Option Value} {h : xH} : exF ev cX12_init 4 ([v0], []) [] h = some (.inl none, h) := exF_r (i := (i_vret)) rfl rfl
noncomputable def cX12_kind : xC := [(0, i_const (.int (nI 3)) 1),
  (1, i_iret)]
theorem eX12_kind_0 {ev : xV} {v0 : Option Value} {st : List Value} {h : xH} : exF ev cX12_kind 0 ([v0], []) st h = exF ev cX12_kind 1 ([v0], []) (.int (nI 3) :: st) h := exF_j (i := (i_const (.int (nI 3)) 1)) rfl rfl
theorem eX12_kind_1 {ev : xV} {v0 : Option Value} {x : Int32} {h : xH} : exF ev cX12_kind 1 ([v0], []) [.int x] h = some (.inl (some (.int x)), h) := exF_r (i := (i_iret)) rfl rfl
noncomputable def cX12_upper : xC := [(0, i_const (.int (nI 3)) 1),
  (1, i_iret)]
theorem eX12_upper_0 {ev : xV} {v0 : Option Value} {st : List Value} {h : xH} : exF ev cX12_upper 0 ([v0], []) st h = exF ev cX12_upper 1 ([v0], []) (.int (nI 3) :: st) h := exF_j (i := (i_const (.int (nI 3)) 1)) rfl rfl
theorem eX12_upper_1 {ev : xV} {v0 : Option Value} {x : Int32} {h : xH} : exF ev cX12_upper 1 ([v0], []) [.int x] h = some (.inl (some (.int x)), h) := exF_r (i := (i_iret)) rfl rfl
noncomputable def cX12_lower : xC := [(0, i_const (.int (nI 3)) 1),
  (1, i_iret)]
theorem eX12_lower_0 {ev : xV} {v0 : Option Value} {st : List Value} {h : xH} : exF ev cX12_lower 0 ([v0], []) st h = exF ev cX12_lower 1 ([v0], []) (.int (nI 3) :: st) h := exF_j (i := (i_const (.int (nI 3)) 1)) rfl rfl
theorem eX12_lower_1 {ev : xV} {v0 : Option Value} {x : Int32} {h : xH} : exF ev cX12_lower 1 ([v0], []) [.int x] h = some (.inl (some (.int x)), h) := exF_r (i := (i_iret)) rfl rfl
noncomputable def cX12_shrinks : xC := [(0, i_const (.int (nI 1)) 1),
  (1, i_iret)]
theorem eX12_shrinks_0 {ev : xV} {v0 : Option Value} {st : List Value} {h : xH} : exF ev cX12_shrinks 0 ([v0], []) st h = exF ev cX12_shrinks 1 ([v0], []) (.int (nI 1) :: st) h := exF_j (i := (i_const (.int (nI 1)) 1)) rfl rfl
theorem eX12_shrinks_1 {ev : xV} {v0 : Option Value} {x : Int32} {h : xH} : exF ev cX12_shrinks 1 ([v0], []) [.int x] h = some (.inl (some (.int x)), h) := exF_r (i := (i_iret)) rfl rfl
noncomputable def cX13_init : xC := [(0, i_aload 0 1),
  (1, i_oi 4),
  (4, i_vret)]
theorem eX13_init_0 {ev : xV} {x : Nat} {st : List Value} {h : xH} : exF ev cX13_init 0 ([some (.ref x)], []) st h = exF ev cX13_init 1 ([some (.ref x)], []) (.ref x :: st) h := exF_j (i := (i_aload 0 1)) rfl rfl
theorem eX13_init_1 {ev : xV} {v0 : Option Value} {a : Nat} (hx : 64 ≤ a) {h : xH} : exF ev cX13_init 1 ([v0], []) [.ref a] h = exF ev cX13_init 4 ([v0], []) [] h := exF_j (i := (i_oi 4)) rfl (if_pos ⟨hx, rfl⟩)
theorem eX13_init_4 {ev : xV} {v0 : Option Value} {h : xH} : exF ev cX13_init 4 ([v0], []) [] h = some (.inl none, h) := exF_r (i := (i_vret)) rfl rfl
noncomputable def cX14_init : xC := [(0, i_aload 0 1),
  (1, i_ci [11, 12, 13, 14] 181 0 4),
  (4, i_aload 0 5),
  (5, i_iload 1 6),
  (6, i_putfi 11 0 9),
  (9, i_vret)]
theorem eX14_init_0 {ev : xV} {v1 : Option Value} {x : Nat} {st : List Value} {h : xH} : exF ev cX14_init 0 ([some (.ref x), v1], []) st h = exF ev cX14_init 1 ([some (.ref x), v1], []) (.ref x :: st) h := exF_j (i := (i_aload 0 1)) rfl rfl
theorem eX14_init_1 {ev : xV} {v0 v1 : Option Value} {a : Nat} {h : xH} : exF ev cX14_init 1 ([v0, v1], []) [.ref a] h = xO (xckc h [11, 12, 13, 14] a) (fun _ => xBv (ev 181 [.ref a] h) (fun h => exF ev cX14_init 4 ([v0, v1], []) [] h)) := exF_cdv (i := (i_ci [11, 12, 13, 14] 181 0 4)) rfl rfl
theorem eX14_init_4 {ev : xV} {v1 : Option Value} {x : Nat} {st : List Value} {h : xH} : exF ev cX14_init 4 ([some (.ref x), v1], []) st h = exF ev cX14_init 5 ([some (.ref x), v1], []) (.ref x :: st) h := exF_j (i := (i_aload 0 5)) rfl rfl
theorem eX14_init_5 {ev : xV} {v0 : Option Value} {x : Int32} {st : List Value} {h : xH} : exF ev cX14_init 5 ([v0, some (.int x)], []) st h = exF ev cX14_init 6 ([v0, some (.int x)], []) (.int x :: st) h := exF_j (i := (i_iload 1 6)) rfl rfl
theorem eX14_init_6 {ev : xV} {v0 v1 : Option Value} {x : Int32} {a : Nat} {st : List Value} {h : xH} : exF ev cX14_init 6 ([v0, v1], []) (.int x :: .ref a :: st) h = xO (xpf h a 11 0 (.int x)) (fun h => exF ev cX14_init 9 ([v0, v1], []) st h) := exF_o (i := (i_putfi 11 0 9)) rfl rfl
theorem eX14_init_9 {ev : xV} {v0 v1 : Option Value} {h : xH} : exF ev cX14_init 9 ([v0, v1], []) [] h = some (.inl none, h) := exF_r (i := (i_vret)) rfl rfl
noncomputable def cX14_worked : xC := [(0, i_aload 0 1),
  (1, i_getf 11 0 4),
  (4, i_iret)]
theorem eX14_worked_0 {ev : xV} {v1 : Option Value} {x : Nat} {st : List Value} {h : xH} : exF ev cX14_worked 0 ([some (.ref x), v1], []) st h = exF ev cX14_worked 1 ([some (.ref x), v1], []) (.ref x :: st) h := exF_j (i := (i_aload 0 1)) rfl rfl
theorem eX14_worked_1 {ev : xV} {v0 v1 : Option Value} {a : Nat} {st : List Value} {h : xH} : exF ev cX14_worked 1 ([v0, v1], []) (.ref a :: st) h = xO (xgf h a 11 0) (fun v => exF ev cX14_worked 4 ([v0, v1], []) (v :: st) h) := exF_o (i := (i_getf 11 0 4)) rfl rfl
theorem eX14_worked_4 {ev : xV} {v0 v1 : Option Value} {x : Int32} {h : xH} : exF ev cX14_worked 4 ([v0, v1], []) [.int x] h = some (.inl (some (.int x)), h) := exF_r (i := (i_iret)) rfl rfl
noncomputable def cX15_init : xC := [(0, i_aload 0 1),
  (1, i_ci [11, 12, 13, 14] 181 0 4),
  (4, i_aload 0 5),
  (5, i_iload 1 6),
  (6, i_putfi 12 0 9),
  (9, i_vret)]
theorem eX15_init_0 {ev : xV} {v1 : Option Value} {x : Nat} {st : List Value} {h : xH} : exF ev cX15_init 0 ([some (.ref x), v1], []) st h = exF ev cX15_init 1 ([some (.ref x), v1], []) (.ref x :: st) h := exF_j (i := (i_aload 0 1)) rfl rfl
theorem eX15_init_1 {ev : xV} {v0 v1 : Option Value} {a : Nat} {h : xH} : exF ev cX15_init 1 ([v0, v1], []) [.ref a] h = xO (xckc h [11, 12, 13, 14] a) (fun _ => xBv (ev 181 [.ref a] h) (fun h => exF ev cX15_init 4 ([v0, v1], []) [] h)) := exF_cdv (i := (i_ci [11, 12, 13, 14] 181 0 4)) rfl rfl
theorem eX15_init_4 {ev : xV} {v1 : Option Value} {x : Nat} {st : List Value} {h : xH} : exF ev cX15_init 4 ([some (.ref x), v1], []) st h = exF ev cX15_init 5 ([some (.ref x), v1], []) (.ref x :: st) h := exF_j (i := (i_aload 0 5)) rfl rfl
theorem eX15_init_5 {ev : xV} {v0 : Option Value} {x : Int32} {st : List Value} {h : xH} : exF ev cX15_init 5 ([v0, some (.int x)], []) st h = exF ev cX15_init 6 ([v0, some (.int x)], []) (.int x :: st) h := exF_j (i := (i_iload 1 6)) rfl rfl
theorem eX15_init_6 {ev : xV} {v0 v1 : Option Value} {x : Int32} {a : Nat} {st : List Value} {h : xH} : exF ev cX15_init 6 ([v0, v1], []) (.int x :: .ref a :: st) h = xO (xpf h a 12 0 (.int x)) (fun h => exF ev cX15_init 9 ([v0, v1], []) st h) := exF_o (i := (i_putfi 12 0 9)) rfl rfl
theorem eX15_init_9 {ev : xV} {v0 v1 : Option Value} {h : xH} : exF ev cX15_init 9 ([v0, v1], []) [] h = some (.inl none, h) := exF_r (i := (i_vret)) rfl rfl
noncomputable def cX15_worked : xC := [(0, i_aload 1 1),
  (1, i_aload 0 2),
  (2, i_getf 12 0 5),
  (5, i_ai 0 6),
  (6, i_iret)]
theorem eX15_worked_0 {ev : xV} {v0 : Option Value} {x : Nat} {st : List Value} {h : xH} : exF ev cX15_worked 0 ([v0, some (.ref x)], []) st h = exF ev cX15_worked 1 ([v0, some (.ref x)], []) (.ref x :: st) h := exF_j (i := (i_aload 1 1)) rfl rfl
theorem eX15_worked_0n {ev : xV} {v0 : Option Value} {st : List Value} {h : xH} : exF ev cX15_worked 0 ([v0, some .null], []) st h = exF ev cX15_worked 1 ([v0, some .null], []) (.null :: st) h := exF_j (i := (i_aload 1 1)) rfl rfl
theorem eX15_worked_1 {ev : xV} {v1 : Option Value} {x : Nat} {st : List Value} {h : xH} : exF ev cX15_worked 1 ([some (.ref x), v1], []) st h = exF ev cX15_worked 2 ([some (.ref x), v1], []) (.ref x :: st) h := exF_j (i := (i_aload 0 2)) rfl rfl
theorem eX15_worked_2 {ev : xV} {v0 v1 : Option Value} {a : Nat} {st : List Value} {h : xH} : exF ev cX15_worked 2 ([v0, v1], []) (.ref a :: st) h = xO (xgf h a 12 0) (fun v => exF ev cX15_worked 5 ([v0, v1], []) (v :: st) h) := exF_o (i := (i_getf 12 0 5)) rfl rfl
theorem eX15_worked_5 {ev : xV} {v0 v1 : Option Value} {i : Int32} {a : Nat} {st : List Value} {h : xH} : exF ev cX15_worked 5 ([v0, v1], []) (.int i :: .ref a :: st) h = xO (xai h 0 a i) (fun v => exF ev cX15_worked 6 ([v0, v1], []) (.int v :: st) h) := exF_o (i := (i_ai 0 6)) rfl rfl
theorem eX15_worked_6 {ev : xV} {v0 v1 : Option Value} {x : Int32} {h : xH} : exF ev cX15_worked 6 ([v0, v1], []) [.int x] h = some (.inl (some (.int x)), h) := exF_r (i := (i_iret)) rfl rfl
noncomputable def cX16_init : xC := [(0, i_aload 0 1),
  (1, i_ci [11, 12, 13, 14] 181 0 4),
  (4, i_aload 0 5),
  (5, i_aload 1 6),
  (6, i_putfr 13 0 9),
  (9, i_vret)]
theorem eX16_init_0 {ev : xV} {v1 : Option Value} {x : Nat} {st : List Value} {h : xH} : exF ev cX16_init 0 ([some (.ref x), v1], []) st h = exF ev cX16_init 1 ([some (.ref x), v1], []) (.ref x :: st) h := exF_j (i := (i_aload 0 1)) rfl rfl
theorem eX16_init_1 {ev : xV} {v0 v1 : Option Value} {a : Nat} {h : xH} : exF ev cX16_init 1 ([v0, v1], []) [.ref a] h = xO (xckc h [11, 12, 13, 14] a) (fun _ => xBv (ev 181 [.ref a] h) (fun h => exF ev cX16_init 4 ([v0, v1], []) [] h)) := exF_cdv (i := (i_ci [11, 12, 13, 14] 181 0 4)) rfl rfl
theorem eX16_init_4 {ev : xV} {v1 : Option Value} {x : Nat} {st : List Value} {h : xH} : exF ev cX16_init 4 ([some (.ref x), v1], []) st h = exF ev cX16_init 5 ([some (.ref x), v1], []) (.ref x :: st) h := exF_j (i := (i_aload 0 5)) rfl rfl
theorem eX16_init_5 {ev : xV} {v0 : Option Value} {x : Nat} {st : List Value} {h : xH} : exF ev cX16_init 5 ([v0, some (.ref x)], []) st h = exF ev cX16_init 6 ([v0, some (.ref x)], []) (.ref x :: st) h := exF_j (i := (i_aload 1 6)) rfl rfl
theorem eX16_init_5n {ev : xV} {v0 : Option Value} {st : List Value} {h : xH} : exF ev cX16_init 5 ([v0, some .null], []) st h = exF ev cX16_init 6 ([v0, some .null], []) (.null :: st) h := exF_j (i := (i_aload 1 6)) rfl rfl
theorem eX16_init_6 {ev : xV} {v0 v1 : Option Value} {x a : Nat} {st : List Value} {h : xH} : exF ev cX16_init 6 ([v0, v1], []) (.ref x :: .ref a :: st) h = xO (xpf h a 13 0 (.ref x)) (fun h => exF ev cX16_init 9 ([v0, v1], []) st h) := exF_o (i := (i_putfr 13 0 9)) rfl rfl
theorem eX16_init_6n {ev : xV} {v0 v1 : Option Value} {a : Nat} {st : List Value} {h : xH} : exF ev cX16_init 6 ([v0, v1], []) (.null :: .ref a :: st) h = xO (xpf h a 13 0 .null) (fun h => exF ev cX16_init 9 ([v0, v1], []) st h) := exF_o (i := (i_putfr 13 0 9)) rfl rfl
theorem eX16_init_9 {ev : xV} {v0 v1 : Option Value} {h : xH} : exF ev cX16_init 9 ([v0, v1], []) [] h = some (.inl none, h) := exF_r (i := (i_vret)) rfl rfl
noncomputable def cX16_worked : xC := [(0, i_aload 0 1),
  (1, i_getf 13 0 4),
  (4, i_aload 1 5),
  (5, i_ca [(11, 183), (12, 185), (13, 187), (14, 189)] 1 8),
  (8, i_if1 (fun x => ¬ x = 0) 15 11),
  (11, i_const (.int (nI 1)) 12),
  (12, i_goto 16),
  (15, i_const (.int (nI 0)) 16),
  (16, i_iret)]
theorem eX16_worked_0 {ev : xV} {v1 : Option Value} {x : Nat} {st : List Value} {h : xH} : exF ev cX16_worked 0 ([some (.ref x), v1], []) st h = exF ev cX16_worked 1 ([some (.ref x), v1], []) (.ref x :: st) h := exF_j (i := (i_aload 0 1)) rfl rfl
theorem eX16_worked_1 {ev : xV} {v0 v1 : Option Value} {a : Nat} {st : List Value} {h : xH} : exF ev cX16_worked 1 ([v0, v1], []) (.ref a :: st) h = xO (xgf h a 13 0) (fun v => exF ev cX16_worked 4 ([v0, v1], []) (v :: st) h) := exF_o (i := (i_getf 13 0 4)) rfl rfl
theorem eX16_worked_4 {ev : xV} {v0 : Option Value} {x : Nat} {st : List Value} {h : xH} : exF ev cX16_worked 4 ([v0, some (.ref x)], []) st h = exF ev cX16_worked 5 ([v0, some (.ref x)], []) (.ref x :: st) h := exF_j (i := (i_aload 1 5)) rfl rfl
theorem eX16_worked_4n {ev : xV} {v0 : Option Value} {st : List Value} {h : xH} : exF ev cX16_worked 4 ([v0, some .null], []) st h = exF ev cX16_worked 5 ([v0, some .null], []) (.null :: st) h := exF_j (i := (i_aload 1 5)) rfl rfl
theorem eX16_worked_5 {ev : xV} {v0 v1 : Option Value} {a0 : Value} {a : Nat} {h : xH} : exF ev cX16_worked 5 ([v0, v1], []) [a0, .ref a] h = xO (xcl h a) (fun ci => xO (([(11, 183), (12, 185), (13, 187), (14, 189)] : List (Nat × Nat)).lookup ci) (fun k => xB (ev k [.ref a, a0] h) (fun v h => exF ev cX16_worked 8 ([v0, v1], []) [v] h))) := exF_ca (i := (i_ca [(11, 183), (12, 185), (13, 187), (14, 189)] 1 8)) rfl rfl
theorem eX16_worked_8 {ev : xV} {v0 v1 : Option Value} {x : Int32} {st : List Value} {h : xH} : exF ev cX16_worked 8 ([v0, v1], []) (.int x :: st) h = if ¬ x = 0 then exF ev cX16_worked 15 ([v0, v1], []) st h else exF ev cX16_worked 11 ([v0, v1], []) st h := exF_b (i := (i_if1 (fun x => ¬ x = 0) 15 11)) rfl rfl
theorem eX16_worked_11 {ev : xV} {v0 v1 : Option Value} {st : List Value} {h : xH} : exF ev cX16_worked 11 ([v0, v1], []) st h = exF ev cX16_worked 12 ([v0, v1], []) (.int (nI 1) :: st) h := exF_j (i := (i_const (.int (nI 1)) 12)) rfl rfl
theorem eX16_worked_12 {ev : xV} {v0 v1 : Option Value} {st : List Value} {h : xH} : exF ev cX16_worked 12 ([v0, v1], []) st h = exF ev cX16_worked 16 ([v0, v1], []) st h := exF_j (i := (i_goto 16)) rfl rfl
theorem eX16_worked_15 {ev : xV} {v0 v1 : Option Value} {st : List Value} {h : xH} : exF ev cX16_worked 15 ([v0, v1], []) st h = exF ev cX16_worked 16 ([v0, v1], []) (.int (nI 0) :: st) h := exF_j (i := (i_const (.int (nI 0)) 16)) rfl rfl
theorem eX16_worked_16 {ev : xV} {v0 v1 : Option Value} {x : Int32} {h : xH} : exF ev cX16_worked 16 ([v0, v1], []) [.int x] h = some (.inl (some (.int x)), h) := exF_r (i := (i_iret)) rfl rfl
noncomputable def cX17_init : xC := [(0, i_aload 0 1),
  (1, i_ci [11, 12, 13, 14] 181 0 4),
  (4, i_aload 0 5),
  (5, i_iload 1 6),
  (6, i_putfn .char 14 0 9),
  (9, i_aload 0 10),
  (10, i_aload 2 11),
  (11, i_putfr 14 1 14),
  (14, i_aload 0 15),
  (15, i_aload 3 16),
  (16, i_putfr 14 2 19),
  (19, i_vret)]
theorem eX17_init_0 {ev : xV} {v1 v2 v3 : Option Value} {x : Nat} {st : List Value} {h : xH} : exF ev cX17_init 0 ([some (.ref x), v1, v2, v3], []) st h = exF ev cX17_init 1 ([some (.ref x), v1, v2, v3], []) (.ref x :: st) h := exF_j (i := (i_aload 0 1)) rfl rfl
theorem eX17_init_1 {ev : xV} {v0 v1 v2 v3 : Option Value} {a : Nat} {h : xH} : exF ev cX17_init 1 ([v0, v1, v2, v3], []) [.ref a] h = xO (xckc h [11, 12, 13, 14] a) (fun _ => xBv (ev 181 [.ref a] h) (fun h => exF ev cX17_init 4 ([v0, v1, v2, v3], []) [] h)) := exF_cdv (i := (i_ci [11, 12, 13, 14] 181 0 4)) rfl rfl
theorem eX17_init_4 {ev : xV} {v1 v2 v3 : Option Value} {x : Nat} {st : List Value} {h : xH} : exF ev cX17_init 4 ([some (.ref x), v1, v2, v3], []) st h = exF ev cX17_init 5 ([some (.ref x), v1, v2, v3], []) (.ref x :: st) h := exF_j (i := (i_aload 0 5)) rfl rfl
theorem eX17_init_5 {ev : xV} {v0 v2 v3 : Option Value} {x : Int32} {st : List Value} {h : xH} : exF ev cX17_init 5 ([v0, some (.int x), v2, v3], []) st h = exF ev cX17_init 6 ([v0, some (.int x), v2, v3], []) (.int x :: st) h := exF_j (i := (i_iload 1 6)) rfl rfl
theorem eX17_init_6 {ev : xV} {v0 v1 v2 v3 : Option Value} {x : Int32} {a : Nat} {st : List Value} {h : xH} : exF ev cX17_init 6 ([v0, v1, v2, v3], []) (.int x :: .ref a :: st) h = xO (if narrow .char (.int x) = .int x ∧ fits .char (.int x) = true then xpf h a 14 0 (.int x) else none) (fun h => exF ev cX17_init 9 ([v0, v1, v2, v3], []) st h) := exF_o (i := (i_putfn .char 14 0 9)) rfl rfl
theorem eX17_init_9 {ev : xV} {v1 v2 v3 : Option Value} {x : Nat} {st : List Value} {h : xH} : exF ev cX17_init 9 ([some (.ref x), v1, v2, v3], []) st h = exF ev cX17_init 10 ([some (.ref x), v1, v2, v3], []) (.ref x :: st) h := exF_j (i := (i_aload 0 10)) rfl rfl
theorem eX17_init_10 {ev : xV} {v0 v1 v3 : Option Value} {x : Nat} {st : List Value} {h : xH} : exF ev cX17_init 10 ([v0, v1, some (.ref x), v3], []) st h = exF ev cX17_init 11 ([v0, v1, some (.ref x), v3], []) (.ref x :: st) h := exF_j (i := (i_aload 2 11)) rfl rfl
theorem eX17_init_10n {ev : xV} {v0 v1 v3 : Option Value} {st : List Value} {h : xH} : exF ev cX17_init 10 ([v0, v1, some .null, v3], []) st h = exF ev cX17_init 11 ([v0, v1, some .null, v3], []) (.null :: st) h := exF_j (i := (i_aload 2 11)) rfl rfl
theorem eX17_init_11 {ev : xV} {v0 v1 v2 v3 : Option Value} {x a : Nat} {st : List Value} {h : xH} : exF ev cX17_init 11 ([v0, v1, v2, v3], []) (.ref x :: .ref a :: st) h = xO (xpf h a 14 1 (.ref x)) (fun h => exF ev cX17_init 14 ([v0, v1, v2, v3], []) st h) := exF_o (i := (i_putfr 14 1 14)) rfl rfl
theorem eX17_init_11n {ev : xV} {v0 v1 v2 v3 : Option Value} {a : Nat} {st : List Value} {h : xH} : exF ev cX17_init 11 ([v0, v1, v2, v3], []) (.null :: .ref a :: st) h = xO (xpf h a 14 1 .null) (fun h => exF ev cX17_init 14 ([v0, v1, v2, v3], []) st h) := exF_o (i := (i_putfr 14 1 14)) rfl rfl
theorem eX17_init_14 {ev : xV} {v1 v2 v3 : Option Value} {x : Nat} {st : List Value} {h : xH} : exF ev cX17_init 14 ([some (.ref x), v1, v2, v3], []) st h = exF ev cX17_init 15 ([some (.ref x), v1, v2, v3], []) (.ref x :: st) h := exF_j (i := (i_aload 0 15)) rfl rfl
theorem eX17_init_15 {ev : xV} {v0 v1 v2 : Option Value} {x : Nat} {st : List Value} {h : xH} : exF ev cX17_init 15 ([v0, v1, v2, some (.ref x)], []) st h = exF ev cX17_init 16 ([v0, v1, v2, some (.ref x)], []) (.ref x :: st) h := exF_j (i := (i_aload 3 16)) rfl rfl
theorem eX17_init_15n {ev : xV} {v0 v1 v2 : Option Value} {st : List Value} {h : xH} : exF ev cX17_init 15 ([v0, v1, v2, some .null], []) st h = exF ev cX17_init 16 ([v0, v1, v2, some .null], []) (.null :: st) h := exF_j (i := (i_aload 3 16)) rfl rfl
theorem eX17_init_16 {ev : xV} {v0 v1 v2 v3 : Option Value} {x a : Nat} {st : List Value} {h : xH} : exF ev cX17_init 16 ([v0, v1, v2, v3], []) (.ref x :: .ref a :: st) h = xO (xpf h a 14 2 (.ref x)) (fun h => exF ev cX17_init 19 ([v0, v1, v2, v3], []) st h) := exF_o (i := (i_putfr 14 2 19)) rfl rfl
theorem eX17_init_16n {ev : xV} {v0 v1 v2 v3 : Option Value} {a : Nat} {st : List Value} {h : xH} : exF ev cX17_init 16 ([v0, v1, v2, v3], []) (.null :: .ref a :: st) h = xO (xpf h a 14 2 .null) (fun h => exF ev cX17_init 19 ([v0, v1, v2, v3], []) st h) := exF_o (i := (i_putfr 14 2 19)) rfl rfl
theorem eX17_init_19 {ev : xV} {v0 v1 v2 v3 : Option Value} {h : xH} : exF ev cX17_init 19 ([v0, v1, v2, v3], []) [] h = some (.inl none, h) := exF_r (i := (i_vret)) rfl rfl
noncomputable def cX17_worked : xC := [(0, i_aload 0 1),
  (1, i_getf 14 1 4),
  (4, i_aload 1 5),
  (5, i_ca [(11, 183), (12, 185), (13, 187), (14, 189)] 1 8),
  (8, i_istore 2 9),
  (9, i_aload 0 10),
  (10, i_getf 14 2 13),
  (13, i_aload 1 14),
  (14, i_ca [(11, 183), (12, 185), (13, 187), (14, 189)] 1 17),
  (17, i_istore 3 18),
  (18, i_aload 0 19),
  (19, i_getf 14 0 22),
  (22, i_lsw [(38, 114), (42, 88), (43, 80), (45, 84), (60, 92), (61, 103)] 128),
  (80, i_iload 2 81),
  (81, i_iload 3 82),
  (82, i_ii (fun x y => x + y) 83),
  (83, i_iret),
  (84, i_iload 2 85),
  (85, i_iload 3 86),
  (86, i_ii (fun x y => x - y) 87),
  (87, i_iret),
  (88, i_iload 2 89),
  (89, i_iload 3 90),
  (90, i_ii (fun x y => x * y) 91),
  (91, i_iret),
  (92, i_iload 2 93),
  (93, i_iload 3 94),
  (94, i_if2 (fun x y => y ≤ x) 101 97),
  (97, i_const (.int (nI 1)) 98),
  (98, i_goto 102),
  (101, i_const (.int (nI 0)) 102),
  (102, i_iret),
  (103, i_iload 2 104),
  (104, i_iload 3 105),
  (105, i_if2 (fun x y => ¬ x = y) 112 108),
  (108, i_const (.int (nI 1)) 109),
  (109, i_goto 113),
  (112, i_const (.int (nI 0)) 113),
  (113, i_iret),
  (114, i_iload 2 115),
  (115, i_if1 (fun x => x = 0) 126 118),
  (118, i_iload 3 119),
  (119, i_if1 (fun x => x = 0) 126 122),
  (122, i_const (.int (nI 1)) 123),
  (123, i_goto 127),
  (126, i_const (.int (nI 0)) 127),
  (127, i_iret),
  (128, i_iload 2 129),
  (129, i_if1 (fun x => ¬ x = 0) 136 132),
  (132, i_iload 3 133),
  (133, i_if1 (fun x => x = 0) 140 136),
  (136, i_const (.int (nI 1)) 137),
  (137, i_goto 141),
  (140, i_const (.int (nI 0)) 141),
  (141, i_iret)]
theorem eX17_worked_0 {ev : xV} {v1 v2 v3 : Option Value} {x : Nat} {st : List Value} {h : xH} : exF ev cX17_worked 0 ([some (.ref x), v1, v2, v3], []) st h = exF ev cX17_worked 1 ([some (.ref x), v1, v2, v3], []) (.ref x :: st) h := exF_j (i := (i_aload 0 1)) rfl rfl
theorem eX17_worked_1 {ev : xV} {v0 v1 v2 v3 : Option Value} {a : Nat} {st : List Value} {h : xH} : exF ev cX17_worked 1 ([v0, v1, v2, v3], []) (.ref a :: st) h = xO (xgf h a 14 1) (fun v => exF ev cX17_worked 4 ([v0, v1, v2, v3], []) (v :: st) h) := exF_o (i := (i_getf 14 1 4)) rfl rfl
theorem eX17_worked_4 {ev : xV} {v0 v2 v3 : Option Value} {x : Nat} {st : List Value} {h : xH} : exF ev cX17_worked 4 ([v0, some (.ref x), v2, v3], []) st h = exF ev cX17_worked 5 ([v0, some (.ref x), v2, v3], []) (.ref x :: st) h := exF_j (i := (i_aload 1 5)) rfl rfl
theorem eX17_worked_4n {ev : xV} {v0 v2 v3 : Option Value} {st : List Value} {h : xH} : exF ev cX17_worked 4 ([v0, some .null, v2, v3], []) st h = exF ev cX17_worked 5 ([v0, some .null, v2, v3], []) (.null :: st) h := exF_j (i := (i_aload 1 5)) rfl rfl
theorem eX17_worked_5 {ev : xV} {v0 v1 v2 v3 : Option Value} {a0 : Value} {a : Nat} {h : xH} : exF ev cX17_worked 5 ([v0, v1, v2, v3], []) [a0, .ref a] h = xO (xcl h a) (fun ci => xO (([(11, 183), (12, 185), (13, 187), (14, 189)] : List (Nat × Nat)).lookup ci) (fun k => xB (ev k [.ref a, a0] h) (fun v h => exF ev cX17_worked 8 ([v0, v1, v2, v3], []) [v] h))) := exF_ca (i := (i_ca [(11, 183), (12, 185), (13, 187), (14, 189)] 1 8)) rfl rfl
theorem eX17_worked_8 {ev : xV} {v0 v1 v2 v3 : Option Value} {x : Int32} {st : List Value} {h : xH} : exF ev cX17_worked 8 ([v0, v1, v2, v3], []) (.int x :: st) h = exF ev cX17_worked 9 ([v0, v1, some (.int x), v3], []) st h := exF_j (i := (i_istore 2 9)) rfl rfl
theorem eX17_worked_9 {ev : xV} {v1 v2 v3 : Option Value} {x : Nat} {st : List Value} {h : xH} : exF ev cX17_worked 9 ([some (.ref x), v1, v2, v3], []) st h = exF ev cX17_worked 10 ([some (.ref x), v1, v2, v3], []) (.ref x :: st) h := exF_j (i := (i_aload 0 10)) rfl rfl
theorem eX17_worked_10 {ev : xV} {v0 v1 v2 v3 : Option Value} {a : Nat} {st : List Value} {h : xH} : exF ev cX17_worked 10 ([v0, v1, v2, v3], []) (.ref a :: st) h = xO (xgf h a 14 2) (fun v => exF ev cX17_worked 13 ([v0, v1, v2, v3], []) (v :: st) h) := exF_o (i := (i_getf 14 2 13)) rfl rfl
theorem eX17_worked_13 {ev : xV} {v0 v2 v3 : Option Value} {x : Nat} {st : List Value} {h : xH} : exF ev cX17_worked 13 ([v0, some (.ref x), v2, v3], []) st h = exF ev cX17_worked 14 ([v0, some (.ref x), v2, v3], []) (.ref x :: st) h := exF_j (i := (i_aload 1 14)) rfl rfl
theorem eX17_worked_13n {ev : xV} {v0 v2 v3 : Option Value} {st : List Value} {h : xH} : exF ev cX17_worked 13 ([v0, some .null, v2, v3], []) st h = exF ev cX17_worked 14 ([v0, some .null, v2, v3], []) (.null :: st) h := exF_j (i := (i_aload 1 14)) rfl rfl
theorem eX17_worked_14 {ev : xV} {v0 v1 v2 v3 : Option Value} {a0 : Value} {a : Nat} {h : xH} : exF ev cX17_worked 14 ([v0, v1, v2, v3], []) [a0, .ref a] h = xO (xcl h a) (fun ci => xO (([(11, 183), (12, 185), (13, 187), (14, 189)] : List (Nat × Nat)).lookup ci) (fun k => xB (ev k [.ref a, a0] h) (fun v h => exF ev cX17_worked 17 ([v0, v1, v2, v3], []) [v] h))) := exF_ca (i := (i_ca [(11, 183), (12, 185), (13, 187), (14, 189)] 1 17)) rfl rfl
theorem eX17_worked_17 {ev : xV} {v0 v1 v2 v3 : Option Value} {x : Int32} {st : List Value} {h : xH} : exF ev cX17_worked 17 ([v0, v1, v2, v3], []) (.int x :: st) h = exF ev cX17_worked 18 ([v0, v1, v2, some (.int x)], []) st h := exF_j (i := (i_istore 3 18)) rfl rfl
theorem eX17_worked_18 {ev : xV} {v1 v2 v3 : Option Value} {x : Nat} {st : List Value} {h : xH} : exF ev cX17_worked 18 ([some (.ref x), v1, v2, v3], []) st h = exF ev cX17_worked 19 ([some (.ref x), v1, v2, v3], []) (.ref x :: st) h := exF_j (i := (i_aload 0 19)) rfl rfl
theorem eX17_worked_19 {ev : xV} {v0 v1 v2 v3 : Option Value} {a : Nat} {st : List Value} {h : xH} : exF ev cX17_worked 19 ([v0, v1, v2, v3], []) (.ref a :: st) h = xO (xgf h a 14 0) (fun v => exF ev cX17_worked 22 ([v0, v1, v2, v3], []) (v :: st) h) := exF_o (i := (i_getf 14 0 22)) rfl rfl
theorem eX17_worked_22 {ev : xV} {v0 v1 v2 v3 : Option Value} {x : Int32} {st : List Value} {h : xH} : exF ev cX17_worked 22 ([v0, v1, v2, v3], []) (.int x :: st) h = exF ev cX17_worked (xlsw [(38, 114), (42, 88), (43, 80), (45, 84), (60, 92), (61, 103)] 128 x) ([v0, v1, v2, v3], []) st h := exF_j (i := (i_lsw [(38, 114), (42, 88), (43, 80), (45, 84), (60, 92), (61, 103)] 128)) rfl rfl
theorem eX17_worked_80 {ev : xV} {v0 v1 v3 : Option Value} {x : Int32} {st : List Value} {h : xH} : exF ev cX17_worked 80 ([v0, v1, some (.int x), v3], []) st h = exF ev cX17_worked 81 ([v0, v1, some (.int x), v3], []) (.int x :: st) h := exF_j (i := (i_iload 2 81)) rfl rfl
theorem eX17_worked_81 {ev : xV} {v0 v1 v2 : Option Value} {x : Int32} {st : List Value} {h : xH} : exF ev cX17_worked 81 ([v0, v1, v2, some (.int x)], []) st h = exF ev cX17_worked 82 ([v0, v1, v2, some (.int x)], []) (.int x :: st) h := exF_j (i := (i_iload 3 82)) rfl rfl
theorem eX17_worked_82 {ev : xV} {v0 v1 v2 v3 : Option Value} {x y : Int32} {st : List Value} {h : xH} : exF ev cX17_worked 82 ([v0, v1, v2, v3], []) (.int y :: .int x :: st) h = exF ev cX17_worked 83 ([v0, v1, v2, v3], []) (.int (x + y) :: st) h := exF_j (i := (i_ii (fun x y => x + y) 83)) rfl rfl
theorem eX17_worked_83 {ev : xV} {v0 v1 v2 v3 : Option Value} {x : Int32} {h : xH} : exF ev cX17_worked 83 ([v0, v1, v2, v3], []) [.int x] h = some (.inl (some (.int x)), h) := exF_r (i := (i_iret)) rfl rfl
theorem eX17_worked_84 {ev : xV} {v0 v1 v3 : Option Value} {x : Int32} {st : List Value} {h : xH} : exF ev cX17_worked 84 ([v0, v1, some (.int x), v3], []) st h = exF ev cX17_worked 85 ([v0, v1, some (.int x), v3], []) (.int x :: st) h := exF_j (i := (i_iload 2 85)) rfl rfl
theorem eX17_worked_85 {ev : xV} {v0 v1 v2 : Option Value} {x : Int32} {st : List Value} {h : xH} : exF ev cX17_worked 85 ([v0, v1, v2, some (.int x)], []) st h = exF ev cX17_worked 86 ([v0, v1, v2, some (.int x)], []) (.int x :: st) h := exF_j (i := (i_iload 3 86)) rfl rfl
theorem eX17_worked_86 {ev : xV} {v0 v1 v2 v3 : Option Value} {x y : Int32} {st : List Value} {h : xH} : exF ev cX17_worked 86 ([v0, v1, v2, v3], []) (.int y :: .int x :: st) h = exF ev cX17_worked 87 ([v0, v1, v2, v3], []) (.int (x - y) :: st) h := exF_j (i := (i_ii (fun x y => x - y) 87)) rfl rfl
theorem eX17_worked_87 {ev : xV} {v0 v1 v2 v3 : Option Value} {x : Int32} {h : xH} : exF ev cX17_worked 87 ([v0, v1, v2, v3], []) [.int x] h = some (.inl (some (.int x)), h) := exF_r (i := (i_iret)) rfl rfl
theorem eX17_worked_88 {ev : xV} {v0 v1 v3 : Option Value} {x : Int32} {st : List Value} {h : xH} : exF ev cX17_worked 88 ([v0, v1, some (.int x), v3], []) st h = exF ev cX17_worked 89 ([v0, v1, some (.int x), v3], []) (.int x :: st) h := exF_j (i := (i_iload 2 89)) rfl rfl
theorem eX17_worked_89 {ev : xV} {v0 v1 v2 : Option Value} {x : Int32} {st : List Value} {h : xH} : exF ev cX17_worked 89 ([v0, v1, v2, some (.int x)], []) st h = exF ev cX17_worked 90 ([v0, v1, v2, some (.int x)], []) (.int x :: st) h := exF_j (i := (i_iload 3 90)) rfl rfl
theorem eX17_worked_90 {ev : xV} {v0 v1 v2 v3 : Option Value} {x y : Int32} {st : List Value} {h : xH} : exF ev cX17_worked 90 ([v0, v1, v2, v3], []) (.int y :: .int x :: st) h = exF ev cX17_worked 91 ([v0, v1, v2, v3], []) (.int (x * y) :: st) h := exF_j (i := (i_ii (fun x y => x * y) 91)) rfl rfl
theorem eX17_worked_91 {ev : xV} {v0 v1 v2 v3 : Option Value} {x : Int32} {h : xH} : exF ev cX17_worked 91 ([v0, v1, v2, v3], []) [.int x] h = some (.inl (some (.int x)), h) := exF_r (i := (i_iret)) rfl rfl
theorem eX17_worked_92 {ev : xV} {v0 v1 v3 : Option Value} {x : Int32} {st : List Value} {h : xH} : exF ev cX17_worked 92 ([v0, v1, some (.int x), v3], []) st h = exF ev cX17_worked 93 ([v0, v1, some (.int x), v3], []) (.int x :: st) h := exF_j (i := (i_iload 2 93)) rfl rfl
theorem eX17_worked_93 {ev : xV} {v0 v1 v2 : Option Value} {x : Int32} {st : List Value} {h : xH} : exF ev cX17_worked 93 ([v0, v1, v2, some (.int x)], []) st h = exF ev cX17_worked 94 ([v0, v1, v2, some (.int x)], []) (.int x :: st) h := exF_j (i := (i_iload 3 94)) rfl rfl
theorem eX17_worked_94 {ev : xV} {v0 v1 v2 v3 : Option Value} {x y : Int32} {st : List Value} {h : xH} : exF ev cX17_worked 94 ([v0, v1, v2, v3], []) (.int y :: .int x :: st) h = if y ≤ x then exF ev cX17_worked 101 ([v0, v1, v2, v3], []) st h else exF ev cX17_worked 97 ([v0, v1, v2, v3], []) st h := exF_b (i := (i_if2 (fun x y => y ≤ x) 101 97)) rfl rfl
theorem eX17_worked_97 {ev : xV} {v0 v1 v2 v3 : Option Value} {st : List Value} {h : xH} : exF ev cX17_worked 97 ([v0, v1, v2, v3], []) st h = exF ev cX17_worked 98 ([v0, v1, v2, v3], []) (.int (nI 1) :: st) h := exF_j (i := (i_const (.int (nI 1)) 98)) rfl rfl
theorem eX17_worked_98 {ev : xV} {v0 v1 v2 v3 : Option Value} {st : List Value} {h : xH} : exF ev cX17_worked 98 ([v0, v1, v2, v3], []) st h = exF ev cX17_worked 102 ([v0, v1, v2, v3], []) st h := exF_j (i := (i_goto 102)) rfl rfl
theorem eX17_worked_101 {ev : xV} {v0 v1 v2 v3 : Option Value} {st : List Value} {h : xH} : exF ev cX17_worked 101 ([v0, v1, v2, v3], []) st h = exF ev cX17_worked 102 ([v0, v1, v2, v3], []) (.int (nI 0) :: st) h := exF_j (i := (i_const (.int (nI 0)) 102)) rfl rfl
theorem eX17_worked_102 {ev : xV} {v0 v1 v2 v3 : Option Value} {x : Int32} {h : xH} : exF ev cX17_worked 102 ([v0, v1, v2, v3], []) [.int x] h = some (.inl (some (.int x)), h) := exF_r (i := (i_iret)) rfl rfl
theorem eX17_worked_103 {ev : xV} {v0 v1 v3 : Option Value} {x : Int32} {st : List Value} {h : xH} : exF ev cX17_worked 103 ([v0, v1, some (.int x), v3], []) st h = exF ev cX17_worked 104 ([v0, v1, some (.int x), v3], []) (.int x :: st) h := exF_j (i := (i_iload 2 104)) rfl rfl
theorem eX17_worked_104 {ev : xV} {v0 v1 v2 : Option Value} {x : Int32} {st : List Value} {h : xH} : exF ev cX17_worked 104 ([v0, v1, v2, some (.int x)], []) st h = exF ev cX17_worked 105 ([v0, v1, v2, some (.int x)], []) (.int x :: st) h := exF_j (i := (i_iload 3 105)) rfl rfl
theorem eX17_worked_105 {ev : xV} {v0 v1 v2 v3 : Option Value} {x y : Int32} {st : List Value} {h : xH} : exF ev cX17_worked 105 ([v0, v1, v2, v3], []) (.int y :: .int x :: st) h = if ¬ x = y then exF ev cX17_worked 112 ([v0, v1, v2, v3], []) st h else exF ev cX17_worked 108 ([v0, v1, v2, v3], []) st h := exF_b (i := (i_if2 (fun x y => ¬ x = y) 112 108)) rfl rfl
theorem eX17_worked_108 {ev : xV} {v0 v1 v2 v3 : Option Value} {st : List Value} {h : xH} : exF ev cX17_worked 108 ([v0, v1, v2, v3], []) st h = exF ev cX17_worked 109 ([v0, v1, v2, v3], []) (.int (nI 1) :: st) h := exF_j (i := (i_const (.int (nI 1)) 109)) rfl rfl
theorem eX17_worked_109 {ev : xV} {v0 v1 v2 v3 : Option Value} {st : List Value} {h : xH} : exF ev cX17_worked 109 ([v0, v1, v2, v3], []) st h = exF ev cX17_worked 113 ([v0, v1, v2, v3], []) st h := exF_j (i := (i_goto 113)) rfl rfl
theorem eX17_worked_112 {ev : xV} {v0 v1 v2 v3 : Option Value} {st : List Value} {h : xH} : exF ev cX17_worked 112 ([v0, v1, v2, v3], []) st h = exF ev cX17_worked 113 ([v0, v1, v2, v3], []) (.int (nI 0) :: st) h := exF_j (i := (i_const (.int (nI 0)) 113)) rfl rfl
theorem eX17_worked_113 {ev : xV} {v0 v1 v2 v3 : Option Value} {x : Int32} {h : xH} : exF ev cX17_worked 113 ([v0, v1, v2, v3], []) [.int x] h = some (.inl (some (.int x)), h) := exF_r (i := (i_iret)) rfl rfl
theorem eX17_worked_114 {ev : xV} {v0 v1 v3 : Option Value} {x : Int32} {st : List Value} {h : xH} : exF ev cX17_worked 114 ([v0, v1, some (.int x), v3], []) st h = exF ev cX17_worked 115 ([v0, v1, some (.int x), v3], []) (.int x :: st) h := exF_j (i := (i_iload 2 115)) rfl rfl
theorem eX17_worked_115 {ev : xV} {v0 v1 v2 v3 : Option Value} {x : Int32} {st : List Value} {h : xH} : exF ev cX17_worked 115 ([v0, v1, v2, v3], []) (.int x :: st) h = if x = 0 then exF ev cX17_worked 126 ([v0, v1, v2, v3], []) st h else exF ev cX17_worked 118 ([v0, v1, v2, v3], []) st h := exF_b (i := (i_if1 (fun x => x = 0) 126 118)) rfl rfl
theorem eX17_worked_118 {ev : xV} {v0 v1 v2 : Option Value} {x : Int32} {st : List Value} {h : xH} : exF ev cX17_worked 118 ([v0, v1, v2, some (.int x)], []) st h = exF ev cX17_worked 119 ([v0, v1, v2, some (.int x)], []) (.int x :: st) h := exF_j (i := (i_iload 3 119)) rfl rfl
theorem eX17_worked_119 {ev : xV} {v0 v1 v2 v3 : Option Value} {x : Int32} {st : List Value} {h : xH} : exF ev cX17_worked 119 ([v0, v1, v2, v3], []) (.int x :: st) h = if x = 0 then exF ev cX17_worked 126 ([v0, v1, v2, v3], []) st h else exF ev cX17_worked 122 ([v0, v1, v2, v3], []) st h := exF_b (i := (i_if1 (fun x => x = 0) 126 122)) rfl rfl
theorem eX17_worked_122 {ev : xV} {v0 v1 v2 v3 : Option Value} {st : List Value} {h : xH} : exF ev cX17_worked 122 ([v0, v1, v2, v3], []) st h = exF ev cX17_worked 123 ([v0, v1, v2, v3], []) (.int (nI 1) :: st) h := exF_j (i := (i_const (.int (nI 1)) 123)) rfl rfl
theorem eX17_worked_123 {ev : xV} {v0 v1 v2 v3 : Option Value} {st : List Value} {h : xH} : exF ev cX17_worked 123 ([v0, v1, v2, v3], []) st h = exF ev cX17_worked 127 ([v0, v1, v2, v3], []) st h := exF_j (i := (i_goto 127)) rfl rfl
theorem eX17_worked_126 {ev : xV} {v0 v1 v2 v3 : Option Value} {st : List Value} {h : xH} : exF ev cX17_worked 126 ([v0, v1, v2, v3], []) st h = exF ev cX17_worked 127 ([v0, v1, v2, v3], []) (.int (nI 0) :: st) h := exF_j (i := (i_const (.int (nI 0)) 127)) rfl rfl
theorem eX17_worked_127 {ev : xV} {v0 v1 v2 v3 : Option Value} {x : Int32} {h : xH} : exF ev cX17_worked 127 ([v0, v1, v2, v3], []) [.int x] h = some (.inl (some (.int x)), h) := exF_r (i := (i_iret)) rfl rfl
theorem eX17_worked_128 {ev : xV} {v0 v1 v3 : Option Value} {x : Int32} {st : List Value} {h : xH} : exF ev cX17_worked 128 ([v0, v1, some (.int x), v3], []) st h = exF ev cX17_worked 129 ([v0, v1, some (.int x), v3], []) (.int x :: st) h := exF_j (i := (i_iload 2 129)) rfl rfl
theorem eX17_worked_129 {ev : xV} {v0 v1 v2 v3 : Option Value} {x : Int32} {st : List Value} {h : xH} : exF ev cX17_worked 129 ([v0, v1, v2, v3], []) (.int x :: st) h = if ¬ x = 0 then exF ev cX17_worked 136 ([v0, v1, v2, v3], []) st h else exF ev cX17_worked 132 ([v0, v1, v2, v3], []) st h := exF_b (i := (i_if1 (fun x => ¬ x = 0) 136 132)) rfl rfl
theorem eX17_worked_132 {ev : xV} {v0 v1 v2 : Option Value} {x : Int32} {st : List Value} {h : xH} : exF ev cX17_worked 132 ([v0, v1, v2, some (.int x)], []) st h = exF ev cX17_worked 133 ([v0, v1, v2, some (.int x)], []) (.int x :: st) h := exF_j (i := (i_iload 3 133)) rfl rfl
theorem eX17_worked_133 {ev : xV} {v0 v1 v2 v3 : Option Value} {x : Int32} {st : List Value} {h : xH} : exF ev cX17_worked 133 ([v0, v1, v2, v3], []) (.int x :: st) h = if x = 0 then exF ev cX17_worked 140 ([v0, v1, v2, v3], []) st h else exF ev cX17_worked 136 ([v0, v1, v2, v3], []) st h := exF_b (i := (i_if1 (fun x => x = 0) 140 136)) rfl rfl
theorem eX17_worked_136 {ev : xV} {v0 v1 v2 v3 : Option Value} {st : List Value} {h : xH} : exF ev cX17_worked 136 ([v0, v1, v2, v3], []) st h = exF ev cX17_worked 137 ([v0, v1, v2, v3], []) (.int (nI 1) :: st) h := exF_j (i := (i_const (.int (nI 1)) 137)) rfl rfl
theorem eX17_worked_137 {ev : xV} {v0 v1 v2 v3 : Option Value} {st : List Value} {h : xH} : exF ev cX17_worked 137 ([v0, v1, v2, v3], []) st h = exF ev cX17_worked 141 ([v0, v1, v2, v3], []) st h := exF_j (i := (i_goto 141)) rfl rfl
theorem eX17_worked_140 {ev : xV} {v0 v1 v2 v3 : Option Value} {st : List Value} {h : xH} : exF ev cX17_worked 140 ([v0, v1, v2, v3], []) st h = exF ev cX17_worked 141 ([v0, v1, v2, v3], []) (.int (nI 0) :: st) h := exF_j (i := (i_const (.int (nI 0)) 141)) rfl rfl
theorem eX17_worked_141 {ev : xV} {v0 v1 v2 v3 : Option Value} {x : Int32} {h : xH} : exF ev cX17_worked 141 ([v0, v1, v2, v3], []) [.int x] h = some (.inl (some (.int x)), h) := exF_r (i := (i_iret)) rfl rfl
noncomputable def cX18_init : xC := [(0, i_aload 0 1),
  (1, i_oi 4),
  (4, i_vret)]
theorem eX18_init_0 {ev : xV} {x : Nat} {st : List Value} {h : xH} : exF ev cX18_init 0 ([some (.ref x)], []) st h = exF ev cX18_init 1 ([some (.ref x)], []) (.ref x :: st) h := exF_j (i := (i_aload 0 1)) rfl rfl
theorem eX18_init_1 {ev : xV} {v0 : Option Value} {a : Nat} (hx : 64 ≤ a) {h : xH} : exF ev cX18_init 1 ([v0], []) [.ref a] h = exF ev cX18_init 4 ([v0], []) [] h := exF_j (i := (i_oi 4)) rfl (if_pos ⟨hx, rfl⟩)
theorem eX18_init_4 {ev : xV} {v0 : Option Value} {h : xH} : exF ev cX18_init 4 ([v0], []) [] h = some (.inl none, h) := exF_r (i := (i_vret)) rfl rfl
noncomputable def cX19_init : xC := [(0, i_aload 0 1),
  (1, i_ci [15, 16, 17, 18, 19] 190 0 4),
  (4, i_vret)]
theorem eX19_init_0 {ev : xV} {x : Nat} {st : List Value} {h : xH} : exF ev cX19_init 0 ([some (.ref x)], []) st h = exF ev cX19_init 1 ([some (.ref x)], []) (.ref x :: st) h := exF_j (i := (i_aload 0 1)) rfl rfl
theorem eX19_init_1 {ev : xV} {v0 : Option Value} {a : Nat} {h : xH} : exF ev cX19_init 1 ([v0], []) [.ref a] h = xO (xckc h [15, 16, 17, 18, 19] a) (fun _ => xBv (ev 190 [.ref a] h) (fun h => exF ev cX19_init 4 ([v0], []) [] h)) := exF_cdv (i := (i_ci [15, 16, 17, 18, 19] 190 0 4)) rfl rfl
theorem eX19_init_4 {ev : xV} {v0 : Option Value} {h : xH} : exF ev cX19_init 4 ([v0], []) [] h = some (.inl none, h) := exF_r (i := (i_vret)) rfl rfl
noncomputable def cX19_isDone : xC := [(0, i_aload 1 1),
  (1, i_aload 2 2),
  (2, i_aload 1 3),
  (3, i_getf 0 2 6),
  (6, i_aload 2 7),
  (7, i_getf 3 4 10),
  (10, i_cv 2 235 1 13),
  (13, i_cvv 0 105 2 16),
  (16, i_const (.int (nI 1)) 17),
  (17, i_zret)]
theorem eX19_isDone_0 {ev : xV} {v0 v2 : Option Value} {x : Nat} {st : List Value} {h : xH} : exF ev cX19_isDone 0 ([v0, some (.ref x), v2], []) st h = exF ev cX19_isDone 1 ([v0, some (.ref x), v2], []) (.ref x :: st) h := exF_j (i := (i_aload 1 1)) rfl rfl
theorem eX19_isDone_0n {ev : xV} {v0 v2 : Option Value} {st : List Value} {h : xH} : exF ev cX19_isDone 0 ([v0, some .null, v2], []) st h = exF ev cX19_isDone 1 ([v0, some .null, v2], []) (.null :: st) h := exF_j (i := (i_aload 1 1)) rfl rfl
theorem eX19_isDone_1 {ev : xV} {v0 v1 : Option Value} {x : Nat} {st : List Value} {h : xH} : exF ev cX19_isDone 1 ([v0, v1, some (.ref x)], []) st h = exF ev cX19_isDone 2 ([v0, v1, some (.ref x)], []) (.ref x :: st) h := exF_j (i := (i_aload 2 2)) rfl rfl
theorem eX19_isDone_1n {ev : xV} {v0 v1 : Option Value} {st : List Value} {h : xH} : exF ev cX19_isDone 1 ([v0, v1, some .null], []) st h = exF ev cX19_isDone 2 ([v0, v1, some .null], []) (.null :: st) h := exF_j (i := (i_aload 2 2)) rfl rfl
theorem eX19_isDone_2 {ev : xV} {v0 v2 : Option Value} {x : Nat} {st : List Value} {h : xH} : exF ev cX19_isDone 2 ([v0, some (.ref x), v2], []) st h = exF ev cX19_isDone 3 ([v0, some (.ref x), v2], []) (.ref x :: st) h := exF_j (i := (i_aload 1 3)) rfl rfl
theorem eX19_isDone_2n {ev : xV} {v0 v2 : Option Value} {st : List Value} {h : xH} : exF ev cX19_isDone 2 ([v0, some .null, v2], []) st h = exF ev cX19_isDone 3 ([v0, some .null, v2], []) (.null :: st) h := exF_j (i := (i_aload 1 3)) rfl rfl
theorem eX19_isDone_3 {ev : xV} {v0 v1 v2 : Option Value} {a : Nat} {st : List Value} {h : xH} : exF ev cX19_isDone 3 ([v0, v1, v2], []) (.ref a :: st) h = xO (xgf h a 0 2) (fun v => exF ev cX19_isDone 6 ([v0, v1, v2], []) (v :: st) h) := exF_o (i := (i_getf 0 2 6)) rfl rfl
theorem eX19_isDone_6 {ev : xV} {v0 v1 : Option Value} {x : Nat} {st : List Value} {h : xH} : exF ev cX19_isDone 6 ([v0, v1, some (.ref x)], []) st h = exF ev cX19_isDone 7 ([v0, v1, some (.ref x)], []) (.ref x :: st) h := exF_j (i := (i_aload 2 7)) rfl rfl
theorem eX19_isDone_6n {ev : xV} {v0 v1 : Option Value} {st : List Value} {h : xH} : exF ev cX19_isDone 6 ([v0, v1, some .null], []) st h = exF ev cX19_isDone 7 ([v0, v1, some .null], []) (.null :: st) h := exF_j (i := (i_aload 2 7)) rfl rfl
theorem eX19_isDone_7 {ev : xV} {v0 v1 v2 : Option Value} {a : Nat} {st : List Value} {h : xH} : exF ev cX19_isDone 7 ([v0, v1, v2], []) (.ref a :: st) h = xO (xgf h a 3 4) (fun v => exF ev cX19_isDone 10 ([v0, v1, v2], []) (v :: st) h) := exF_o (i := (i_getf 3 4 10)) rfl rfl
theorem eX19_isDone_10 {ev : xV} {v0 v1 v2 : Option Value} {a0 : Value} {r0 : Value} {r1 : Value} {a : Nat} {h : xH} : exF ev cX19_isDone 10 ([v0, v1, v2], []) [a0, .ref a, r0, r1] h = xO (xck h a 2) (fun _ => xB (ev 235 [.ref a, a0] h) (fun v h => exF ev cX19_isDone 13 ([v0, v1, v2], []) [v, r0, r1] h)) := exF_cd (i := (i_cv 2 235 1 13)) rfl rfl
theorem eX19_isDone_13 {ev : xV} {v0 v1 v2 : Option Value} {a0 : Value} {a1 : Value} {a : Nat} {h : xH} : exF ev cX19_isDone 13 ([v0, v1, v2], []) [a1, a0, .ref a] h = xO (xck h a 0) (fun _ => xBv (ev 105 [.ref a, a0, a1] h) (fun h => exF ev cX19_isDone 16 ([v0, v1, v2], []) [] h)) := exF_cdv (i := (i_cvv 0 105 2 16)) rfl rfl
theorem eX19_isDone_16 {ev : xV} {v0 v1 v2 : Option Value} {st : List Value} {h : xH} : exF ev cX19_isDone 16 ([v0, v1, v2], []) st h = exF ev cX19_isDone 17 ([v0, v1, v2], []) (.int (nI 1) :: st) h := exF_j (i := (i_const (.int (nI 1)) 17)) rfl rfl
theorem eX19_isDone_17 {ev : xV} {v0 v1 v2 : Option Value} {x : Int32} {h : xH} : exF ev cX19_isDone 17 ([v0, v1, v2], []) [.int x] h = if x = nI 0 ∨ x = nI 1 then some (.inl (some (.int x)), h) else none := exF_z (i := (i_zret)) rfl rfl
theorem eX19_isDone_17b0 {ev : xV} {v0 v1 v2 : Option Value} {h : xH} : exF ev cX19_isDone 17 ([v0, v1, v2], []) [.int (nI 0)] h = some (.inl (some (.int (nI 0))), h) := exF_r (i := (i_zret)) rfl i_zret_0
theorem eX19_isDone_17b1 {ev : xV} {v0 v1 v2 : Option Value} {h : xH} : exF ev cX19_isDone 17 ([v0, v1, v2], []) [.int (nI 1)] h = some (.inl (some (.int (nI 1))), h) := exF_r (i := (i_zret)) rfl i_zret_1
theorem eX19_isDone_17b {ev : xV} {v0 v1 v2 : Option Value} {b : Bool} {h : xH} : exF ev cX19_isDone 17 ([v0, v1, v2], []) [.int (bI b)] h = some (.inl (some (.int (bI b))), h) := exF_r (i := (i_zret)) rfl (i_zret_b b)
noncomputable def cX20_init : xC := [(0, i_aload 0 1),
  (1, i_ci [15, 16, 17, 18, 19] 190 0 4),
  (4, i_aload 0 5),
  (5, i_iload 1 6),
  (6, i_putfi 16 0 9),
  (9, i_aload 0 10),
  (10, i_iload 2 11),
  (11, i_putfi 16 1 14),
  (14, i_vret)]
theorem eX20_init_0 {ev : xV} {v1 v2 : Option Value} {x : Nat} {st : List Value} {h : xH} : exF ev cX20_init 0 ([some (.ref x), v1, v2], []) st h = exF ev cX20_init 1 ([some (.ref x), v1, v2], []) (.ref x :: st) h := exF_j (i := (i_aload 0 1)) rfl rfl
theorem eX20_init_1 {ev : xV} {v0 v1 v2 : Option Value} {a : Nat} {h : xH} : exF ev cX20_init 1 ([v0, v1, v2], []) [.ref a] h = xO (xckc h [15, 16, 17, 18, 19] a) (fun _ => xBv (ev 190 [.ref a] h) (fun h => exF ev cX20_init 4 ([v0, v1, v2], []) [] h)) := exF_cdv (i := (i_ci [15, 16, 17, 18, 19] 190 0 4)) rfl rfl
theorem eX20_init_4 {ev : xV} {v1 v2 : Option Value} {x : Nat} {st : List Value} {h : xH} : exF ev cX20_init 4 ([some (.ref x), v1, v2], []) st h = exF ev cX20_init 5 ([some (.ref x), v1, v2], []) (.ref x :: st) h := exF_j (i := (i_aload 0 5)) rfl rfl
theorem eX20_init_5 {ev : xV} {v0 v2 : Option Value} {x : Int32} {st : List Value} {h : xH} : exF ev cX20_init 5 ([v0, some (.int x), v2], []) st h = exF ev cX20_init 6 ([v0, some (.int x), v2], []) (.int x :: st) h := exF_j (i := (i_iload 1 6)) rfl rfl
theorem eX20_init_6 {ev : xV} {v0 v1 v2 : Option Value} {x : Int32} {a : Nat} {st : List Value} {h : xH} : exF ev cX20_init 6 ([v0, v1, v2], []) (.int x :: .ref a :: st) h = xO (xpf h a 16 0 (.int x)) (fun h => exF ev cX20_init 9 ([v0, v1, v2], []) st h) := exF_o (i := (i_putfi 16 0 9)) rfl rfl
theorem eX20_init_9 {ev : xV} {v1 v2 : Option Value} {x : Nat} {st : List Value} {h : xH} : exF ev cX20_init 9 ([some (.ref x), v1, v2], []) st h = exF ev cX20_init 10 ([some (.ref x), v1, v2], []) (.ref x :: st) h := exF_j (i := (i_aload 0 10)) rfl rfl
theorem eX20_init_10 {ev : xV} {v0 v1 : Option Value} {x : Int32} {st : List Value} {h : xH} : exF ev cX20_init 10 ([v0, v1, some (.int x)], []) st h = exF ev cX20_init 11 ([v0, v1, some (.int x)], []) (.int x :: st) h := exF_j (i := (i_iload 2 11)) rfl rfl
theorem eX20_init_11 {ev : xV} {v0 v1 v2 : Option Value} {x : Int32} {a : Nat} {st : List Value} {h : xH} : exF ev cX20_init 11 ([v0, v1, v2], []) (.int x :: .ref a :: st) h = xO (xpf h a 16 1 (.int x)) (fun h => exF ev cX20_init 14 ([v0, v1, v2], []) st h) := exF_o (i := (i_putfi 16 1 14)) rfl rfl
theorem eX20_init_14 {ev : xV} {v0 v1 v2 : Option Value} {h : xH} : exF ev cX20_init 14 ([v0, v1, v2], []) [] h = some (.inl none, h) := exF_r (i := (i_vret)) rfl rfl
noncomputable def cX20_isDone : xC := [(0, i_aload 1 1),
  (1, i_aload 2 2),
  (2, i_aload 0 3),
  (3, i_getf 16 0 6),
  (6, i_aload 0 7),
  (7, i_getf 16 1 10),
  (10, i_cv 0 110 3 13),
  (13, i_zret)]
theorem eX20_isDone_0 {ev : xV} {v0 v2 : Option Value} {x : Nat} {st : List Value} {h : xH} : exF ev cX20_isDone 0 ([v0, some (.ref x), v2], []) st h = exF ev cX20_isDone 1 ([v0, some (.ref x), v2], []) (.ref x :: st) h := exF_j (i := (i_aload 1 1)) rfl rfl
theorem eX20_isDone_0n {ev : xV} {v0 v2 : Option Value} {st : List Value} {h : xH} : exF ev cX20_isDone 0 ([v0, some .null, v2], []) st h = exF ev cX20_isDone 1 ([v0, some .null, v2], []) (.null :: st) h := exF_j (i := (i_aload 1 1)) rfl rfl
theorem eX20_isDone_1 {ev : xV} {v0 v1 : Option Value} {x : Nat} {st : List Value} {h : xH} : exF ev cX20_isDone 1 ([v0, v1, some (.ref x)], []) st h = exF ev cX20_isDone 2 ([v0, v1, some (.ref x)], []) (.ref x :: st) h := exF_j (i := (i_aload 2 2)) rfl rfl
theorem eX20_isDone_1n {ev : xV} {v0 v1 : Option Value} {st : List Value} {h : xH} : exF ev cX20_isDone 1 ([v0, v1, some .null], []) st h = exF ev cX20_isDone 2 ([v0, v1, some .null], []) (.null :: st) h := exF_j (i := (i_aload 2 2)) rfl rfl
theorem eX20_isDone_2 {ev : xV} {v1 v2 : Option Value} {x : Nat} {st : List Value} {h : xH} : exF ev cX20_isDone 2 ([some (.ref x), v1, v2], []) st h = exF ev cX20_isDone 3 ([some (.ref x), v1, v2], []) (.ref x :: st) h := exF_j (i := (i_aload 0 3)) rfl rfl
theorem eX20_isDone_3 {ev : xV} {v0 v1 v2 : Option Value} {a : Nat} {st : List Value} {h : xH} : exF ev cX20_isDone 3 ([v0, v1, v2], []) (.ref a :: st) h = xO (xgf h a 16 0) (fun v => exF ev cX20_isDone 6 ([v0, v1, v2], []) (v :: st) h) := exF_o (i := (i_getf 16 0 6)) rfl rfl
theorem eX20_isDone_6 {ev : xV} {v1 v2 : Option Value} {x : Nat} {st : List Value} {h : xH} : exF ev cX20_isDone 6 ([some (.ref x), v1, v2], []) st h = exF ev cX20_isDone 7 ([some (.ref x), v1, v2], []) (.ref x :: st) h := exF_j (i := (i_aload 0 7)) rfl rfl
theorem eX20_isDone_7 {ev : xV} {v0 v1 v2 : Option Value} {a : Nat} {st : List Value} {h : xH} : exF ev cX20_isDone 7 ([v0, v1, v2], []) (.ref a :: st) h = xO (xgf h a 16 1) (fun v => exF ev cX20_isDone 10 ([v0, v1, v2], []) (v :: st) h) := exF_o (i := (i_getf 16 1 10)) rfl rfl
theorem eX20_isDone_10 {ev : xV} {v0 v1 v2 : Option Value} {a0 : Value} {a1 : Value} {a2 : Value} {a : Nat} {h : xH} : exF ev cX20_isDone 10 ([v0, v1, v2], []) [a2, a1, a0, .ref a] h = xO (xck h a 0) (fun _ => xB (ev 110 [.ref a, a0, a1, a2] h) (fun v h => exF ev cX20_isDone 13 ([v0, v1, v2], []) [v] h)) := exF_cd (i := (i_cv 0 110 3 13)) rfl rfl
theorem eX20_isDone_13 {ev : xV} {v0 v1 v2 : Option Value} {x : Int32} {h : xH} : exF ev cX20_isDone 13 ([v0, v1, v2], []) [.int x] h = if x = nI 0 ∨ x = nI 1 then some (.inl (some (.int x)), h) else none := exF_z (i := (i_zret)) rfl rfl
theorem eX20_isDone_13b0 {ev : xV} {v0 v1 v2 : Option Value} {h : xH} : exF ev cX20_isDone 13 ([v0, v1, v2], []) [.int (nI 0)] h = some (.inl (some (.int (nI 0))), h) := exF_r (i := (i_zret)) rfl i_zret_0
theorem eX20_isDone_13b1 {ev : xV} {v0 v1 v2 : Option Value} {h : xH} : exF ev cX20_isDone 13 ([v0, v1, v2], []) [.int (nI 1)] h = some (.inl (some (.int (nI 1))), h) := exF_r (i := (i_zret)) rfl i_zret_1
theorem eX20_isDone_13b {ev : xV} {v0 v1 v2 : Option Value} {b : Bool} {h : xH} : exF ev cX20_isDone 13 ([v0, v1, v2], []) [.int (bI b)] h = some (.inl (some (.int (bI b))), h) := exF_r (i := (i_zret)) rfl (i_zret_b b)
noncomputable def cX21_init : xC := [(0, i_aload 0 1),
  (1, i_ci [15, 16, 17, 18, 19] 190 0 4),
  (4, i_aload 0 5),
  (5, i_iload 1 6),
  (6, i_putfi 17 0 9),
  (9, i_vret)]
theorem eX21_init_0 {ev : xV} {v1 : Option Value} {x : Nat} {st : List Value} {h : xH} : exF ev cX21_init 0 ([some (.ref x), v1], []) st h = exF ev cX21_init 1 ([some (.ref x), v1], []) (.ref x :: st) h := exF_j (i := (i_aload 0 1)) rfl rfl
theorem eX21_init_1 {ev : xV} {v0 v1 : Option Value} {a : Nat} {h : xH} : exF ev cX21_init 1 ([v0, v1], []) [.ref a] h = xO (xckc h [15, 16, 17, 18, 19] a) (fun _ => xBv (ev 190 [.ref a] h) (fun h => exF ev cX21_init 4 ([v0, v1], []) [] h)) := exF_cdv (i := (i_ci [15, 16, 17, 18, 19] 190 0 4)) rfl rfl
theorem eX21_init_4 {ev : xV} {v1 : Option Value} {x : Nat} {st : List Value} {h : xH} : exF ev cX21_init 4 ([some (.ref x), v1], []) st h = exF ev cX21_init 5 ([some (.ref x), v1], []) (.ref x :: st) h := exF_j (i := (i_aload 0 5)) rfl rfl
theorem eX21_init_5 {ev : xV} {v0 : Option Value} {x : Int32} {st : List Value} {h : xH} : exF ev cX21_init 5 ([v0, some (.int x)], []) st h = exF ev cX21_init 6 ([v0, some (.int x)], []) (.int x :: st) h := exF_j (i := (i_iload 1 6)) rfl rfl
theorem eX21_init_6 {ev : xV} {v0 v1 : Option Value} {x : Int32} {a : Nat} {st : List Value} {h : xH} : exF ev cX21_init 6 ([v0, v1], []) (.int x :: .ref a :: st) h = xO (xpf h a 17 0 (.int x)) (fun h => exF ev cX21_init 9 ([v0, v1], []) st h) := exF_o (i := (i_putfi 17 0 9)) rfl rfl
theorem eX21_init_9 {ev : xV} {v0 v1 : Option Value} {h : xH} : exF ev cX21_init 9 ([v0, v1], []) [] h = some (.inl none, h) := exF_r (i := (i_vret)) rfl rfl
noncomputable def cX21_isDone : xC := [(0, i_aload 1 1),
  (1, i_aload 0 2),
  (2, i_getf 17 0 5),
  (5, i_cv 0 95 1 8),
  (8, i_if1 (fun x => x = 0) 22 11),
  (11, i_aload 2 12),
  (12, i_aload 0 13),
  (13, i_getf 17 0 16),
  (16, i_cv 3 240 1 19),
  (19, i_if1 (fun x => ¬ x = 0) 24 22),
  (22, i_const (.int (nI 0)) 23),
  (23, i_zret),
  (24, i_aload 2 25),
  (25, i_getf 3 1 28),
  (28, i_aload 0 29),
  (29, i_getf 17 0 32),
  (32, i_dup2 33),
  (33, i_ai 0 34),
  (34, i_const (.int (nI 1)) 35),
  (35, i_ii (fun x y => x + y) 36),
  (36, i_si (fun v => v) 0 37),
  (37, i_const (.int (nI 1)) 38),
  (38, i_zret)]
theorem eX21_isDone_0 {ev : xV} {v0 v2 : Option Value} {x : Nat} {st : List Value} {h : xH} : exF ev cX21_isDone 0 ([v0, some (.ref x), v2], []) st h = exF ev cX21_isDone 1 ([v0, some (.ref x), v2], []) (.ref x :: st) h := exF_j (i := (i_aload 1 1)) rfl rfl
theorem eX21_isDone_0n {ev : xV} {v0 v2 : Option Value} {st : List Value} {h : xH} : exF ev cX21_isDone 0 ([v0, some .null, v2], []) st h = exF ev cX21_isDone 1 ([v0, some .null, v2], []) (.null :: st) h := exF_j (i := (i_aload 1 1)) rfl rfl
theorem eX21_isDone_1 {ev : xV} {v1 v2 : Option Value} {x : Nat} {st : List Value} {h : xH} : exF ev cX21_isDone 1 ([some (.ref x), v1, v2], []) st h = exF ev cX21_isDone 2 ([some (.ref x), v1, v2], []) (.ref x :: st) h := exF_j (i := (i_aload 0 2)) rfl rfl
theorem eX21_isDone_2 {ev : xV} {v0 v1 v2 : Option Value} {a : Nat} {st : List Value} {h : xH} : exF ev cX21_isDone 2 ([v0, v1, v2], []) (.ref a :: st) h = xO (xgf h a 17 0) (fun v => exF ev cX21_isDone 5 ([v0, v1, v2], []) (v :: st) h) := exF_o (i := (i_getf 17 0 5)) rfl rfl
theorem eX21_isDone_5 {ev : xV} {v0 v1 v2 : Option Value} {a0 : Value} {a : Nat} {h : xH} : exF ev cX21_isDone 5 ([v0, v1, v2], []) [a0, .ref a] h = xO (xck h a 0) (fun _ => xB (ev 95 [.ref a, a0] h) (fun v h => exF ev cX21_isDone 8 ([v0, v1, v2], []) [v] h)) := exF_cd (i := (i_cv 0 95 1 8)) rfl rfl
theorem eX21_isDone_8 {ev : xV} {v0 v1 v2 : Option Value} {x : Int32} {st : List Value} {h : xH} : exF ev cX21_isDone 8 ([v0, v1, v2], []) (.int x :: st) h = if x = 0 then exF ev cX21_isDone 22 ([v0, v1, v2], []) st h else exF ev cX21_isDone 11 ([v0, v1, v2], []) st h := exF_b (i := (i_if1 (fun x => x = 0) 22 11)) rfl rfl
theorem eX21_isDone_11 {ev : xV} {v0 v1 : Option Value} {x : Nat} {st : List Value} {h : xH} : exF ev cX21_isDone 11 ([v0, v1, some (.ref x)], []) st h = exF ev cX21_isDone 12 ([v0, v1, some (.ref x)], []) (.ref x :: st) h := exF_j (i := (i_aload 2 12)) rfl rfl
theorem eX21_isDone_11n {ev : xV} {v0 v1 : Option Value} {st : List Value} {h : xH} : exF ev cX21_isDone 11 ([v0, v1, some .null], []) st h = exF ev cX21_isDone 12 ([v0, v1, some .null], []) (.null :: st) h := exF_j (i := (i_aload 2 12)) rfl rfl
theorem eX21_isDone_12 {ev : xV} {v1 v2 : Option Value} {x : Nat} {st : List Value} {h : xH} : exF ev cX21_isDone 12 ([some (.ref x), v1, v2], []) st h = exF ev cX21_isDone 13 ([some (.ref x), v1, v2], []) (.ref x :: st) h := exF_j (i := (i_aload 0 13)) rfl rfl
theorem eX21_isDone_13 {ev : xV} {v0 v1 v2 : Option Value} {a : Nat} {st : List Value} {h : xH} : exF ev cX21_isDone 13 ([v0, v1, v2], []) (.ref a :: st) h = xO (xgf h a 17 0) (fun v => exF ev cX21_isDone 16 ([v0, v1, v2], []) (v :: st) h) := exF_o (i := (i_getf 17 0 16)) rfl rfl
theorem eX21_isDone_16 {ev : xV} {v0 v1 v2 : Option Value} {a0 : Value} {a : Nat} {h : xH} : exF ev cX21_isDone 16 ([v0, v1, v2], []) [a0, .ref a] h = xO (xck h a 3) (fun _ => xB (ev 240 [.ref a, a0] h) (fun v h => exF ev cX21_isDone 19 ([v0, v1, v2], []) [v] h)) := exF_cd (i := (i_cv 3 240 1 19)) rfl rfl
theorem eX21_isDone_19 {ev : xV} {v0 v1 v2 : Option Value} {x : Int32} {st : List Value} {h : xH} : exF ev cX21_isDone 19 ([v0, v1, v2], []) (.int x :: st) h = if ¬ x = 0 then exF ev cX21_isDone 24 ([v0, v1, v2], []) st h else exF ev cX21_isDone 22 ([v0, v1, v2], []) st h := exF_b (i := (i_if1 (fun x => ¬ x = 0) 24 22)) rfl rfl
theorem eX21_isDone_22 {ev : xV} {v0 v1 v2 : Option Value} {st : List Value} {h : xH} : exF ev cX21_isDone 22 ([v0, v1, v2], []) st h = exF ev cX21_isDone 23 ([v0, v1, v2], []) (.int (nI 0) :: st) h := exF_j (i := (i_const (.int (nI 0)) 23)) rfl rfl
theorem eX21_isDone_23 {ev : xV} {v0 v1 v2 : Option Value} {x : Int32} {h : xH} : exF ev cX21_isDone 23 ([v0, v1, v2], []) [.int x] h = if x = nI 0 ∨ x = nI 1 then some (.inl (some (.int x)), h) else none := exF_z (i := (i_zret)) rfl rfl
theorem eX21_isDone_23b0 {ev : xV} {v0 v1 v2 : Option Value} {h : xH} : exF ev cX21_isDone 23 ([v0, v1, v2], []) [.int (nI 0)] h = some (.inl (some (.int (nI 0))), h) := exF_r (i := (i_zret)) rfl i_zret_0
theorem eX21_isDone_23b1 {ev : xV} {v0 v1 v2 : Option Value} {h : xH} : exF ev cX21_isDone 23 ([v0, v1, v2], []) [.int (nI 1)] h = some (.inl (some (.int (nI 1))), h) := exF_r (i := (i_zret)) rfl i_zret_1
theorem eX21_isDone_23b {ev : xV} {v0 v1 v2 : Option Value} {b : Bool} {h : xH} : exF ev cX21_isDone 23 ([v0, v1, v2], []) [.int (bI b)] h = some (.inl (some (.int (bI b))), h) := exF_r (i := (i_zret)) rfl (i_zret_b b)
theorem eX21_isDone_24 {ev : xV} {v0 v1 : Option Value} {x : Nat} {st : List Value} {h : xH} : exF ev cX21_isDone 24 ([v0, v1, some (.ref x)], []) st h = exF ev cX21_isDone 25 ([v0, v1, some (.ref x)], []) (.ref x :: st) h := exF_j (i := (i_aload 2 25)) rfl rfl
theorem eX21_isDone_24n {ev : xV} {v0 v1 : Option Value} {st : List Value} {h : xH} : exF ev cX21_isDone 24 ([v0, v1, some .null], []) st h = exF ev cX21_isDone 25 ([v0, v1, some .null], []) (.null :: st) h := exF_j (i := (i_aload 2 25)) rfl rfl
theorem eX21_isDone_25 {ev : xV} {v0 v1 v2 : Option Value} {a : Nat} {st : List Value} {h : xH} : exF ev cX21_isDone 25 ([v0, v1, v2], []) (.ref a :: st) h = xO (xgf h a 3 1) (fun v => exF ev cX21_isDone 28 ([v0, v1, v2], []) (v :: st) h) := exF_o (i := (i_getf 3 1 28)) rfl rfl
theorem eX21_isDone_28 {ev : xV} {v1 v2 : Option Value} {x : Nat} {st : List Value} {h : xH} : exF ev cX21_isDone 28 ([some (.ref x), v1, v2], []) st h = exF ev cX21_isDone 29 ([some (.ref x), v1, v2], []) (.ref x :: st) h := exF_j (i := (i_aload 0 29)) rfl rfl
theorem eX21_isDone_29 {ev : xV} {v0 v1 v2 : Option Value} {a : Nat} {st : List Value} {h : xH} : exF ev cX21_isDone 29 ([v0, v1, v2], []) (.ref a :: st) h = xO (xgf h a 17 0) (fun v => exF ev cX21_isDone 32 ([v0, v1, v2], []) (v :: st) h) := exF_o (i := (i_getf 17 0 32)) rfl rfl
theorem eX21_isDone_32 {ev : xV} {v0 v1 v2 : Option Value} {x : Int32} {y : Nat} {st : List Value} {h : xH} : exF ev cX21_isDone 32 ([v0, v1, v2], []) (.int x :: .ref y :: st) h = exF ev cX21_isDone 33 ([v0, v1, v2], []) (.int x :: .ref y :: .int x :: .ref y :: st) h := exF_j (i := (i_dup2 33)) rfl rfl
theorem eX21_isDone_33 {ev : xV} {v0 v1 v2 : Option Value} {i : Int32} {a : Nat} {st : List Value} {h : xH} : exF ev cX21_isDone 33 ([v0, v1, v2], []) (.int i :: .ref a :: st) h = xO (xai h 0 a i) (fun v => exF ev cX21_isDone 34 ([v0, v1, v2], []) (.int v :: st) h) := exF_o (i := (i_ai 0 34)) rfl rfl
theorem eX21_isDone_34 {ev : xV} {v0 v1 v2 : Option Value} {st : List Value} {h : xH} : exF ev cX21_isDone 34 ([v0, v1, v2], []) st h = exF ev cX21_isDone 35 ([v0, v1, v2], []) (.int (nI 1) :: st) h := exF_j (i := (i_const (.int (nI 1)) 35)) rfl rfl
theorem eX21_isDone_35 {ev : xV} {v0 v1 v2 : Option Value} {x y : Int32} {st : List Value} {h : xH} : exF ev cX21_isDone 35 ([v0, v1, v2], []) (.int y :: .int x :: st) h = exF ev cX21_isDone 36 ([v0, v1, v2], []) (.int (x + y) :: st) h := exF_j (i := (i_ii (fun x y => x + y) 36)) rfl rfl
theorem eX21_isDone_36 {ev : xV} {v0 v1 v2 : Option Value} {v i : Int32} {a : Nat} {st : List Value} {h : xH} : exF ev cX21_isDone 36 ([v0, v1, v2], []) (.int v :: .int i :: .ref a :: st) h = xO (xsi h 0 a i v) (fun h => exF ev cX21_isDone 37 ([v0, v1, v2], []) st h) := exF_o (i := (i_si (fun v => v) 0 37)) rfl rfl
theorem eX21_isDone_37 {ev : xV} {v0 v1 v2 : Option Value} {st : List Value} {h : xH} : exF ev cX21_isDone 37 ([v0, v1, v2], []) st h = exF ev cX21_isDone 38 ([v0, v1, v2], []) (.int (nI 1) :: st) h := exF_j (i := (i_const (.int (nI 1)) 38)) rfl rfl
theorem eX21_isDone_38 {ev : xV} {v0 v1 v2 : Option Value} {x : Int32} {h : xH} : exF ev cX21_isDone 38 ([v0, v1, v2], []) [.int x] h = if x = nI 0 ∨ x = nI 1 then some (.inl (some (.int x)), h) else none := exF_z (i := (i_zret)) rfl rfl
theorem eX21_isDone_38b0 {ev : xV} {v0 v1 v2 : Option Value} {h : xH} : exF ev cX21_isDone 38 ([v0, v1, v2], []) [.int (nI 0)] h = some (.inl (some (.int (nI 0))), h) := exF_r (i := (i_zret)) rfl i_zret_0
theorem eX21_isDone_38b1 {ev : xV} {v0 v1 v2 : Option Value} {h : xH} : exF ev cX21_isDone 38 ([v0, v1, v2], []) [.int (nI 1)] h = some (.inl (some (.int (nI 1))), h) := exF_r (i := (i_zret)) rfl i_zret_1
theorem eX21_isDone_38b {ev : xV} {v0 v1 v2 : Option Value} {b : Bool} {h : xH} : exF ev cX21_isDone 38 ([v0, v1, v2], []) [.int (bI b)] h = some (.inl (some (.int (bI b))), h) := exF_r (i := (i_zret)) rfl (i_zret_b b)
noncomputable def cX22_init : xC := [(0, i_aload 0 1),
  (1, i_ci [15, 16, 17, 18, 19] 190 0 4),
  (4, i_aload 0 5),
  (5, i_iload 1 6),
  (6, i_putfi 18 0 9),
  (9, i_vret)]
theorem eX22_init_0 {ev : xV} {v1 : Option Value} {x : Nat} {st : List Value} {h : xH} : exF ev cX22_init 0 ([some (.ref x), v1], []) st h = exF ev cX22_init 1 ([some (.ref x), v1], []) (.ref x :: st) h := exF_j (i := (i_aload 0 1)) rfl rfl
theorem eX22_init_1 {ev : xV} {v0 v1 : Option Value} {a : Nat} {h : xH} : exF ev cX22_init 1 ([v0, v1], []) [.ref a] h = xO (xckc h [15, 16, 17, 18, 19] a) (fun _ => xBv (ev 190 [.ref a] h) (fun h => exF ev cX22_init 4 ([v0, v1], []) [] h)) := exF_cdv (i := (i_ci [15, 16, 17, 18, 19] 190 0 4)) rfl rfl
theorem eX22_init_4 {ev : xV} {v1 : Option Value} {x : Nat} {st : List Value} {h : xH} : exF ev cX22_init 4 ([some (.ref x), v1], []) st h = exF ev cX22_init 5 ([some (.ref x), v1], []) (.ref x :: st) h := exF_j (i := (i_aload 0 5)) rfl rfl
theorem eX22_init_5 {ev : xV} {v0 : Option Value} {x : Int32} {st : List Value} {h : xH} : exF ev cX22_init 5 ([v0, some (.int x)], []) st h = exF ev cX22_init 6 ([v0, some (.int x)], []) (.int x :: st) h := exF_j (i := (i_iload 1 6)) rfl rfl
theorem eX22_init_6 {ev : xV} {v0 v1 : Option Value} {x : Int32} {a : Nat} {st : List Value} {h : xH} : exF ev cX22_init 6 ([v0, v1], []) (.int x :: .ref a :: st) h = xO (xpf h a 18 0 (.int x)) (fun h => exF ev cX22_init 9 ([v0, v1], []) st h) := exF_o (i := (i_putfi 18 0 9)) rfl rfl
theorem eX22_init_9 {ev : xV} {v0 v1 : Option Value} {h : xH} : exF ev cX22_init 9 ([v0, v1], []) [] h = some (.inl none, h) := exF_r (i := (i_vret)) rfl rfl
noncomputable def cX22_isDone : xC := [(0, i_aload 1 1),
  (1, i_aload 0 2),
  (2, i_getf 18 0 5),
  (5, i_cv 0 95 1 8),
  (8, i_if1 (fun x => x = 0) 22 11),
  (11, i_aload 2 12),
  (12, i_aload 0 13),
  (13, i_getf 18 0 16),
  (16, i_cv 3 241 1 19),
  (19, i_if1 (fun x => ¬ x = 0) 24 22),
  (22, i_const (.int (nI 0)) 23),
  (23, i_zret),
  (24, i_aload 2 25),
  (25, i_dup 26),
  (26, i_getf 3 3 29),
  (29, i_const (.int (nI 1)) 30),
  (30, i_aload 0 31),
  (31, i_getf 18 0 34),
  (34, i_ii (fun x y => x <<< (y &&& 31)) 35),
  (35, i_ii (fun x y => x ^^^ y) 36),
  (36, i_putfi 3 3 39),
  (39, i_const (.int (nI 1)) 40),
  (40, i_zret)]
theorem eX22_isDone_0 {ev : xV} {v0 v2 : Option Value} {x : Nat} {st : List Value} {h : xH} : exF ev cX22_isDone 0 ([v0, some (.ref x), v2], []) st h = exF ev cX22_isDone 1 ([v0, some (.ref x), v2], []) (.ref x :: st) h := exF_j (i := (i_aload 1 1)) rfl rfl
theorem eX22_isDone_0n {ev : xV} {v0 v2 : Option Value} {st : List Value} {h : xH} : exF ev cX22_isDone 0 ([v0, some .null, v2], []) st h = exF ev cX22_isDone 1 ([v0, some .null, v2], []) (.null :: st) h := exF_j (i := (i_aload 1 1)) rfl rfl
theorem eX22_isDone_1 {ev : xV} {v1 v2 : Option Value} {x : Nat} {st : List Value} {h : xH} : exF ev cX22_isDone 1 ([some (.ref x), v1, v2], []) st h = exF ev cX22_isDone 2 ([some (.ref x), v1, v2], []) (.ref x :: st) h := exF_j (i := (i_aload 0 2)) rfl rfl
theorem eX22_isDone_2 {ev : xV} {v0 v1 v2 : Option Value} {a : Nat} {st : List Value} {h : xH} : exF ev cX22_isDone 2 ([v0, v1, v2], []) (.ref a :: st) h = xO (xgf h a 18 0) (fun v => exF ev cX22_isDone 5 ([v0, v1, v2], []) (v :: st) h) := exF_o (i := (i_getf 18 0 5)) rfl rfl
theorem eX22_isDone_5 {ev : xV} {v0 v1 v2 : Option Value} {a0 : Value} {a : Nat} {h : xH} : exF ev cX22_isDone 5 ([v0, v1, v2], []) [a0, .ref a] h = xO (xck h a 0) (fun _ => xB (ev 95 [.ref a, a0] h) (fun v h => exF ev cX22_isDone 8 ([v0, v1, v2], []) [v] h)) := exF_cd (i := (i_cv 0 95 1 8)) rfl rfl
theorem eX22_isDone_8 {ev : xV} {v0 v1 v2 : Option Value} {x : Int32} {st : List Value} {h : xH} : exF ev cX22_isDone 8 ([v0, v1, v2], []) (.int x :: st) h = if x = 0 then exF ev cX22_isDone 22 ([v0, v1, v2], []) st h else exF ev cX22_isDone 11 ([v0, v1, v2], []) st h := exF_b (i := (i_if1 (fun x => x = 0) 22 11)) rfl rfl
theorem eX22_isDone_11 {ev : xV} {v0 v1 : Option Value} {x : Nat} {st : List Value} {h : xH} : exF ev cX22_isDone 11 ([v0, v1, some (.ref x)], []) st h = exF ev cX22_isDone 12 ([v0, v1, some (.ref x)], []) (.ref x :: st) h := exF_j (i := (i_aload 2 12)) rfl rfl
theorem eX22_isDone_11n {ev : xV} {v0 v1 : Option Value} {st : List Value} {h : xH} : exF ev cX22_isDone 11 ([v0, v1, some .null], []) st h = exF ev cX22_isDone 12 ([v0, v1, some .null], []) (.null :: st) h := exF_j (i := (i_aload 2 12)) rfl rfl
theorem eX22_isDone_12 {ev : xV} {v1 v2 : Option Value} {x : Nat} {st : List Value} {h : xH} : exF ev cX22_isDone 12 ([some (.ref x), v1, v2], []) st h = exF ev cX22_isDone 13 ([some (.ref x), v1, v2], []) (.ref x :: st) h := exF_j (i := (i_aload 0 13)) rfl rfl
theorem eX22_isDone_13 {ev : xV} {v0 v1 v2 : Option Value} {a : Nat} {st : List Value} {h : xH} : exF ev cX22_isDone 13 ([v0, v1, v2], []) (.ref a :: st) h = xO (xgf h a 18 0) (fun v => exF ev cX22_isDone 16 ([v0, v1, v2], []) (v :: st) h) := exF_o (i := (i_getf 18 0 16)) rfl rfl
theorem eX22_isDone_16 {ev : xV} {v0 v1 v2 : Option Value} {a0 : Value} {a : Nat} {h : xH} : exF ev cX22_isDone 16 ([v0, v1, v2], []) [a0, .ref a] h = xO (xck h a 3) (fun _ => xB (ev 241 [.ref a, a0] h) (fun v h => exF ev cX22_isDone 19 ([v0, v1, v2], []) [v] h)) := exF_cd (i := (i_cv 3 241 1 19)) rfl rfl
theorem eX22_isDone_19 {ev : xV} {v0 v1 v2 : Option Value} {x : Int32} {st : List Value} {h : xH} : exF ev cX22_isDone 19 ([v0, v1, v2], []) (.int x :: st) h = if ¬ x = 0 then exF ev cX22_isDone 24 ([v0, v1, v2], []) st h else exF ev cX22_isDone 22 ([v0, v1, v2], []) st h := exF_b (i := (i_if1 (fun x => ¬ x = 0) 24 22)) rfl rfl
theorem eX22_isDone_22 {ev : xV} {v0 v1 v2 : Option Value} {st : List Value} {h : xH} : exF ev cX22_isDone 22 ([v0, v1, v2], []) st h = exF ev cX22_isDone 23 ([v0, v1, v2], []) (.int (nI 0) :: st) h := exF_j (i := (i_const (.int (nI 0)) 23)) rfl rfl
theorem eX22_isDone_23 {ev : xV} {v0 v1 v2 : Option Value} {x : Int32} {h : xH} : exF ev cX22_isDone 23 ([v0, v1, v2], []) [.int x] h = if x = nI 0 ∨ x = nI 1 then some (.inl (some (.int x)), h) else none := exF_z (i := (i_zret)) rfl rfl
theorem eX22_isDone_23b0 {ev : xV} {v0 v1 v2 : Option Value} {h : xH} : exF ev cX22_isDone 23 ([v0, v1, v2], []) [.int (nI 0)] h = some (.inl (some (.int (nI 0))), h) := exF_r (i := (i_zret)) rfl i_zret_0
theorem eX22_isDone_23b1 {ev : xV} {v0 v1 v2 : Option Value} {h : xH} : exF ev cX22_isDone 23 ([v0, v1, v2], []) [.int (nI 1)] h = some (.inl (some (.int (nI 1))), h) := exF_r (i := (i_zret)) rfl i_zret_1
theorem eX22_isDone_23b {ev : xV} {v0 v1 v2 : Option Value} {b : Bool} {h : xH} : exF ev cX22_isDone 23 ([v0, v1, v2], []) [.int (bI b)] h = some (.inl (some (.int (bI b))), h) := exF_r (i := (i_zret)) rfl (i_zret_b b)
theorem eX22_isDone_24 {ev : xV} {v0 v1 : Option Value} {x : Nat} {st : List Value} {h : xH} : exF ev cX22_isDone 24 ([v0, v1, some (.ref x)], []) st h = exF ev cX22_isDone 25 ([v0, v1, some (.ref x)], []) (.ref x :: st) h := exF_j (i := (i_aload 2 25)) rfl rfl
theorem eX22_isDone_24n {ev : xV} {v0 v1 : Option Value} {st : List Value} {h : xH} : exF ev cX22_isDone 24 ([v0, v1, some .null], []) st h = exF ev cX22_isDone 25 ([v0, v1, some .null], []) (.null :: st) h := exF_j (i := (i_aload 2 25)) rfl rfl
theorem eX22_isDone_25 {ev : xV} {v0 v1 v2 : Option Value} {x : Nat} {st : List Value} {h : xH} : exF ev cX22_isDone 25 ([v0, v1, v2], []) (.ref x :: st) h = exF ev cX22_isDone 26 ([v0, v1, v2], []) (.ref x :: .ref x :: st) h := exF_j (i := (i_dup 26)) rfl rfl
theorem eX22_isDone_26 {ev : xV} {v0 v1 v2 : Option Value} {a : Nat} {st : List Value} {h : xH} : exF ev cX22_isDone 26 ([v0, v1, v2], []) (.ref a :: st) h = xO (xgf h a 3 3) (fun v => exF ev cX22_isDone 29 ([v0, v1, v2], []) (v :: st) h) := exF_o (i := (i_getf 3 3 29)) rfl rfl
theorem eX22_isDone_29 {ev : xV} {v0 v1 v2 : Option Value} {st : List Value} {h : xH} : exF ev cX22_isDone 29 ([v0, v1, v2], []) st h = exF ev cX22_isDone 30 ([v0, v1, v2], []) (.int (nI 1) :: st) h := exF_j (i := (i_const (.int (nI 1)) 30)) rfl rfl
theorem eX22_isDone_30 {ev : xV} {v1 v2 : Option Value} {x : Nat} {st : List Value} {h : xH} : exF ev cX22_isDone 30 ([some (.ref x), v1, v2], []) st h = exF ev cX22_isDone 31 ([some (.ref x), v1, v2], []) (.ref x :: st) h := exF_j (i := (i_aload 0 31)) rfl rfl
theorem eX22_isDone_31 {ev : xV} {v0 v1 v2 : Option Value} {a : Nat} {st : List Value} {h : xH} : exF ev cX22_isDone 31 ([v0, v1, v2], []) (.ref a :: st) h = xO (xgf h a 18 0) (fun v => exF ev cX22_isDone 34 ([v0, v1, v2], []) (v :: st) h) := exF_o (i := (i_getf 18 0 34)) rfl rfl
theorem eX22_isDone_34 {ev : xV} {v0 v1 v2 : Option Value} {x y : Int32} {st : List Value} {h : xH} : exF ev cX22_isDone 34 ([v0, v1, v2], []) (.int y :: .int x :: st) h = exF ev cX22_isDone 35 ([v0, v1, v2], []) (.int (x <<< (y &&& 31)) :: st) h := exF_j (i := (i_ii (fun x y => x <<< (y &&& 31)) 35)) rfl rfl
theorem eX22_isDone_35 {ev : xV} {v0 v1 v2 : Option Value} {x y : Int32} {st : List Value} {h : xH} : exF ev cX22_isDone 35 ([v0, v1, v2], []) (.int y :: .int x :: st) h = exF ev cX22_isDone 36 ([v0, v1, v2], []) (.int (x ^^^ y) :: st) h := exF_j (i := (i_ii (fun x y => x ^^^ y) 36)) rfl rfl
theorem eX22_isDone_36 {ev : xV} {v0 v1 v2 : Option Value} {x : Int32} {a : Nat} {st : List Value} {h : xH} : exF ev cX22_isDone 36 ([v0, v1, v2], []) (.int x :: .ref a :: st) h = xO (xpf h a 3 3 (.int x)) (fun h => exF ev cX22_isDone 39 ([v0, v1, v2], []) st h) := exF_o (i := (i_putfi 3 3 39)) rfl rfl
theorem eX22_isDone_39 {ev : xV} {v0 v1 v2 : Option Value} {st : List Value} {h : xH} : exF ev cX22_isDone 39 ([v0, v1, v2], []) st h = exF ev cX22_isDone 40 ([v0, v1, v2], []) (.int (nI 1) :: st) h := exF_j (i := (i_const (.int (nI 1)) 40)) rfl rfl
theorem eX22_isDone_40 {ev : xV} {v0 v1 v2 : Option Value} {x : Int32} {h : xH} : exF ev cX22_isDone 40 ([v0, v1, v2], []) [.int x] h = if x = nI 0 ∨ x = nI 1 then some (.inl (some (.int x)), h) else none := exF_z (i := (i_zret)) rfl rfl
theorem eX22_isDone_40b0 {ev : xV} {v0 v1 v2 : Option Value} {h : xH} : exF ev cX22_isDone 40 ([v0, v1, v2], []) [.int (nI 0)] h = some (.inl (some (.int (nI 0))), h) := exF_r (i := (i_zret)) rfl i_zret_0
theorem eX22_isDone_40b1 {ev : xV} {v0 v1 v2 : Option Value} {h : xH} : exF ev cX22_isDone 40 ([v0, v1, v2], []) [.int (nI 1)] h = some (.inl (some (.int (nI 1))), h) := exF_r (i := (i_zret)) rfl i_zret_1
theorem eX22_isDone_40b {ev : xV} {v0 v1 v2 : Option Value} {b : Bool} {h : xH} : exF ev cX22_isDone 40 ([v0, v1, v2], []) [.int (bI b)] h = some (.inl (some (.int (bI b))), h) := exF_r (i := (i_zret)) rfl (i_zret_b b)
noncomputable def cX23_init : xC := [(0, i_aload 0 1),
  (1, i_ci [15, 16, 17, 18, 19] 190 0 4),
  (4, i_aload 0 5),
  (5, i_iload 1 6),
  (6, i_putfi 19 0 9),
  (9, i_vret)]
theorem eX23_init_0 {ev : xV} {v1 : Option Value} {x : Nat} {st : List Value} {h : xH} : exF ev cX23_init 0 ([some (.ref x), v1], []) st h = exF ev cX23_init 1 ([some (.ref x), v1], []) (.ref x :: st) h := exF_j (i := (i_aload 0 1)) rfl rfl
theorem eX23_init_1 {ev : xV} {v0 v1 : Option Value} {a : Nat} {h : xH} : exF ev cX23_init 1 ([v0, v1], []) [.ref a] h = xO (xckc h [15, 16, 17, 18, 19] a) (fun _ => xBv (ev 190 [.ref a] h) (fun h => exF ev cX23_init 4 ([v0, v1], []) [] h)) := exF_cdv (i := (i_ci [15, 16, 17, 18, 19] 190 0 4)) rfl rfl
theorem eX23_init_4 {ev : xV} {v1 : Option Value} {x : Nat} {st : List Value} {h : xH} : exF ev cX23_init 4 ([some (.ref x), v1], []) st h = exF ev cX23_init 5 ([some (.ref x), v1], []) (.ref x :: st) h := exF_j (i := (i_aload 0 5)) rfl rfl
theorem eX23_init_5 {ev : xV} {v0 : Option Value} {x : Int32} {st : List Value} {h : xH} : exF ev cX23_init 5 ([v0, some (.int x)], []) st h = exF ev cX23_init 6 ([v0, some (.int x)], []) (.int x :: st) h := exF_j (i := (i_iload 1 6)) rfl rfl
theorem eX23_init_6 {ev : xV} {v0 v1 : Option Value} {x : Int32} {a : Nat} {st : List Value} {h : xH} : exF ev cX23_init 6 ([v0, v1], []) (.int x :: .ref a :: st) h = xO (xpf h a 19 0 (.int x)) (fun h => exF ev cX23_init 9 ([v0, v1], []) st h) := exF_o (i := (i_putfi 19 0 9)) rfl rfl
theorem eX23_init_9 {ev : xV} {v0 v1 : Option Value} {h : xH} : exF ev cX23_init 9 ([v0, v1], []) [] h = some (.inl none, h) := exF_r (i := (i_vret)) rfl rfl
noncomputable def cX23_isDone : xC := [(0, i_aload 1 1),
  (1, i_aload 0 2),
  (2, i_getf 19 0 5),
  (5, i_cv 0 95 1 8),
  (8, i_if1 (fun x => x = 0) 22 11),
  (11, i_aload 2 12),
  (12, i_aload 0 13),
  (13, i_getf 19 0 16),
  (16, i_cv 3 242 1 19),
  (19, i_if1 (fun x => ¬ x = 0) 24 22),
  (22, i_const (.int (nI 0)) 23),
  (23, i_zret),
  (24, i_aload 2 25),
  (25, i_getf 3 1 28),
  (28, i_aload 0 29),
  (29, i_getf 19 0 32),
  (32, i_aload 2 33),
  (33, i_getf 3 0 36),
  (36, i_aload 0 37),
  (37, i_getf 19 0 40),
  (40, i_ai 0 41),
  (41, i_si (fun v => v) 0 42),
  (42, i_const (.int (nI 1)) 43),
  (43, i_zret)]
theorem eX23_isDone_0 {ev : xV} {v0 v2 : Option Value} {x : Nat} {st : List Value} {h : xH} : exF ev cX23_isDone 0 ([v0, some (.ref x), v2], []) st h = exF ev cX23_isDone 1 ([v0, some (.ref x), v2], []) (.ref x :: st) h := exF_j (i := (i_aload 1 1)) rfl rfl
theorem eX23_isDone_0n {ev : xV} {v0 v2 : Option Value} {st : List Value} {h : xH} : exF ev cX23_isDone 0 ([v0, some .null, v2], []) st h = exF ev cX23_isDone 1 ([v0, some .null, v2], []) (.null :: st) h := exF_j (i := (i_aload 1 1)) rfl rfl
theorem eX23_isDone_1 {ev : xV} {v1 v2 : Option Value} {x : Nat} {st : List Value} {h : xH} : exF ev cX23_isDone 1 ([some (.ref x), v1, v2], []) st h = exF ev cX23_isDone 2 ([some (.ref x), v1, v2], []) (.ref x :: st) h := exF_j (i := (i_aload 0 2)) rfl rfl
theorem eX23_isDone_2 {ev : xV} {v0 v1 v2 : Option Value} {a : Nat} {st : List Value} {h : xH} : exF ev cX23_isDone 2 ([v0, v1, v2], []) (.ref a :: st) h = xO (xgf h a 19 0) (fun v => exF ev cX23_isDone 5 ([v0, v1, v2], []) (v :: st) h) := exF_o (i := (i_getf 19 0 5)) rfl rfl
theorem eX23_isDone_5 {ev : xV} {v0 v1 v2 : Option Value} {a0 : Value} {a : Nat} {h : xH} : exF ev cX23_isDone 5 ([v0, v1, v2], []) [a0, .ref a] h = xO (xck h a 0) (fun _ => xB (ev 95 [.ref a, a0] h) (fun v h => exF ev cX23_isDone 8 ([v0, v1, v2], []) [v] h)) := exF_cd (i := (i_cv 0 95 1 8)) rfl rfl
theorem eX23_isDone_8 {ev : xV} {v0 v1 v2 : Option Value} {x : Int32} {st : List Value} {h : xH} : exF ev cX23_isDone 8 ([v0, v1, v2], []) (.int x :: st) h = if x = 0 then exF ev cX23_isDone 22 ([v0, v1, v2], []) st h else exF ev cX23_isDone 11 ([v0, v1, v2], []) st h := exF_b (i := (i_if1 (fun x => x = 0) 22 11)) rfl rfl
theorem eX23_isDone_11 {ev : xV} {v0 v1 : Option Value} {x : Nat} {st : List Value} {h : xH} : exF ev cX23_isDone 11 ([v0, v1, some (.ref x)], []) st h = exF ev cX23_isDone 12 ([v0, v1, some (.ref x)], []) (.ref x :: st) h := exF_j (i := (i_aload 2 12)) rfl rfl
theorem eX23_isDone_11n {ev : xV} {v0 v1 : Option Value} {st : List Value} {h : xH} : exF ev cX23_isDone 11 ([v0, v1, some .null], []) st h = exF ev cX23_isDone 12 ([v0, v1, some .null], []) (.null :: st) h := exF_j (i := (i_aload 2 12)) rfl rfl
theorem eX23_isDone_12 {ev : xV} {v1 v2 : Option Value} {x : Nat} {st : List Value} {h : xH} : exF ev cX23_isDone 12 ([some (.ref x), v1, v2], []) st h = exF ev cX23_isDone 13 ([some (.ref x), v1, v2], []) (.ref x :: st) h := exF_j (i := (i_aload 0 13)) rfl rfl
theorem eX23_isDone_13 {ev : xV} {v0 v1 v2 : Option Value} {a : Nat} {st : List Value} {h : xH} : exF ev cX23_isDone 13 ([v0, v1, v2], []) (.ref a :: st) h = xO (xgf h a 19 0) (fun v => exF ev cX23_isDone 16 ([v0, v1, v2], []) (v :: st) h) := exF_o (i := (i_getf 19 0 16)) rfl rfl
theorem eX23_isDone_16 {ev : xV} {v0 v1 v2 : Option Value} {a0 : Value} {a : Nat} {h : xH} : exF ev cX23_isDone 16 ([v0, v1, v2], []) [a0, .ref a] h = xO (xck h a 3) (fun _ => xB (ev 242 [.ref a, a0] h) (fun v h => exF ev cX23_isDone 19 ([v0, v1, v2], []) [v] h)) := exF_cd (i := (i_cv 3 242 1 19)) rfl rfl
theorem eX23_isDone_19 {ev : xV} {v0 v1 v2 : Option Value} {x : Int32} {st : List Value} {h : xH} : exF ev cX23_isDone 19 ([v0, v1, v2], []) (.int x :: st) h = if ¬ x = 0 then exF ev cX23_isDone 24 ([v0, v1, v2], []) st h else exF ev cX23_isDone 22 ([v0, v1, v2], []) st h := exF_b (i := (i_if1 (fun x => ¬ x = 0) 24 22)) rfl rfl
theorem eX23_isDone_22 {ev : xV} {v0 v1 v2 : Option Value} {st : List Value} {h : xH} : exF ev cX23_isDone 22 ([v0, v1, v2], []) st h = exF ev cX23_isDone 23 ([v0, v1, v2], []) (.int (nI 0) :: st) h := exF_j (i := (i_const (.int (nI 0)) 23)) rfl rfl
theorem eX23_isDone_23 {ev : xV} {v0 v1 v2 : Option Value} {x : Int32} {h : xH} : exF ev cX23_isDone 23 ([v0, v1, v2], []) [.int x] h = if x = nI 0 ∨ x = nI 1 then some (.inl (some (.int x)), h) else none := exF_z (i := (i_zret)) rfl rfl
theorem eX23_isDone_23b0 {ev : xV} {v0 v1 v2 : Option Value} {h : xH} : exF ev cX23_isDone 23 ([v0, v1, v2], []) [.int (nI 0)] h = some (.inl (some (.int (nI 0))), h) := exF_r (i := (i_zret)) rfl i_zret_0
theorem eX23_isDone_23b1 {ev : xV} {v0 v1 v2 : Option Value} {h : xH} : exF ev cX23_isDone 23 ([v0, v1, v2], []) [.int (nI 1)] h = some (.inl (some (.int (nI 1))), h) := exF_r (i := (i_zret)) rfl i_zret_1
theorem eX23_isDone_23b {ev : xV} {v0 v1 v2 : Option Value} {b : Bool} {h : xH} : exF ev cX23_isDone 23 ([v0, v1, v2], []) [.int (bI b)] h = some (.inl (some (.int (bI b))), h) := exF_r (i := (i_zret)) rfl (i_zret_b b)
theorem eX23_isDone_24 {ev : xV} {v0 v1 : Option Value} {x : Nat} {st : List Value} {h : xH} : exF ev cX23_isDone 24 ([v0, v1, some (.ref x)], []) st h = exF ev cX23_isDone 25 ([v0, v1, some (.ref x)], []) (.ref x :: st) h := exF_j (i := (i_aload 2 25)) rfl rfl
theorem eX23_isDone_24n {ev : xV} {v0 v1 : Option Value} {st : List Value} {h : xH} : exF ev cX23_isDone 24 ([v0, v1, some .null], []) st h = exF ev cX23_isDone 25 ([v0, v1, some .null], []) (.null :: st) h := exF_j (i := (i_aload 2 25)) rfl rfl
theorem eX23_isDone_25 {ev : xV} {v0 v1 v2 : Option Value} {a : Nat} {st : List Value} {h : xH} : exF ev cX23_isDone 25 ([v0, v1, v2], []) (.ref a :: st) h = xO (xgf h a 3 1) (fun v => exF ev cX23_isDone 28 ([v0, v1, v2], []) (v :: st) h) := exF_o (i := (i_getf 3 1 28)) rfl rfl
theorem eX23_isDone_28 {ev : xV} {v1 v2 : Option Value} {x : Nat} {st : List Value} {h : xH} : exF ev cX23_isDone 28 ([some (.ref x), v1, v2], []) st h = exF ev cX23_isDone 29 ([some (.ref x), v1, v2], []) (.ref x :: st) h := exF_j (i := (i_aload 0 29)) rfl rfl
theorem eX23_isDone_29 {ev : xV} {v0 v1 v2 : Option Value} {a : Nat} {st : List Value} {h : xH} : exF ev cX23_isDone 29 ([v0, v1, v2], []) (.ref a :: st) h = xO (xgf h a 19 0) (fun v => exF ev cX23_isDone 32 ([v0, v1, v2], []) (v :: st) h) := exF_o (i := (i_getf 19 0 32)) rfl rfl
theorem eX23_isDone_32 {ev : xV} {v0 v1 : Option Value} {x : Nat} {st : List Value} {h : xH} : exF ev cX23_isDone 32 ([v0, v1, some (.ref x)], []) st h = exF ev cX23_isDone 33 ([v0, v1, some (.ref x)], []) (.ref x :: st) h := exF_j (i := (i_aload 2 33)) rfl rfl
theorem eX23_isDone_32n {ev : xV} {v0 v1 : Option Value} {st : List Value} {h : xH} : exF ev cX23_isDone 32 ([v0, v1, some .null], []) st h = exF ev cX23_isDone 33 ([v0, v1, some .null], []) (.null :: st) h := exF_j (i := (i_aload 2 33)) rfl rfl
theorem eX23_isDone_33 {ev : xV} {v0 v1 v2 : Option Value} {a : Nat} {st : List Value} {h : xH} : exF ev cX23_isDone 33 ([v0, v1, v2], []) (.ref a :: st) h = xO (xgf h a 3 0) (fun v => exF ev cX23_isDone 36 ([v0, v1, v2], []) (v :: st) h) := exF_o (i := (i_getf 3 0 36)) rfl rfl
theorem eX23_isDone_36 {ev : xV} {v1 v2 : Option Value} {x : Nat} {st : List Value} {h : xH} : exF ev cX23_isDone 36 ([some (.ref x), v1, v2], []) st h = exF ev cX23_isDone 37 ([some (.ref x), v1, v2], []) (.ref x :: st) h := exF_j (i := (i_aload 0 37)) rfl rfl
theorem eX23_isDone_37 {ev : xV} {v0 v1 v2 : Option Value} {a : Nat} {st : List Value} {h : xH} : exF ev cX23_isDone 37 ([v0, v1, v2], []) (.ref a :: st) h = xO (xgf h a 19 0) (fun v => exF ev cX23_isDone 40 ([v0, v1, v2], []) (v :: st) h) := exF_o (i := (i_getf 19 0 40)) rfl rfl
theorem eX23_isDone_40 {ev : xV} {v0 v1 v2 : Option Value} {i : Int32} {a : Nat} {st : List Value} {h : xH} : exF ev cX23_isDone 40 ([v0, v1, v2], []) (.int i :: .ref a :: st) h = xO (xai h 0 a i) (fun v => exF ev cX23_isDone 41 ([v0, v1, v2], []) (.int v :: st) h) := exF_o (i := (i_ai 0 41)) rfl rfl
theorem eX23_isDone_41 {ev : xV} {v0 v1 v2 : Option Value} {v i : Int32} {a : Nat} {st : List Value} {h : xH} : exF ev cX23_isDone 41 ([v0, v1, v2], []) (.int v :: .int i :: .ref a :: st) h = xO (xsi h 0 a i v) (fun h => exF ev cX23_isDone 42 ([v0, v1, v2], []) st h) := exF_o (i := (i_si (fun v => v) 0 42)) rfl rfl
theorem eX23_isDone_42 {ev : xV} {v0 v1 v2 : Option Value} {st : List Value} {h : xH} : exF ev cX23_isDone 42 ([v0, v1, v2], []) st h = exF ev cX23_isDone 43 ([v0, v1, v2], []) (.int (nI 1) :: st) h := exF_j (i := (i_const (.int (nI 1)) 43)) rfl rfl
theorem eX23_isDone_43 {ev : xV} {v0 v1 v2 : Option Value} {x : Int32} {h : xH} : exF ev cX23_isDone 43 ([v0, v1, v2], []) [.int x] h = if x = nI 0 ∨ x = nI 1 then some (.inl (some (.int x)), h) else none := exF_z (i := (i_zret)) rfl rfl
theorem eX23_isDone_43b0 {ev : xV} {v0 v1 v2 : Option Value} {h : xH} : exF ev cX23_isDone 43 ([v0, v1, v2], []) [.int (nI 0)] h = some (.inl (some (.int (nI 0))), h) := exF_r (i := (i_zret)) rfl i_zret_0
theorem eX23_isDone_43b1 {ev : xV} {v0 v1 v2 : Option Value} {h : xH} : exF ev cX23_isDone 43 ([v0, v1, v2], []) [.int (nI 1)] h = some (.inl (some (.int (nI 1))), h) := exF_r (i := (i_zret)) rfl i_zret_1
theorem eX23_isDone_43b {ev : xV} {v0 v1 v2 : Option Value} {b : Bool} {h : xH} : exF ev cX23_isDone 43 ([v0, v1, v2], []) [.int (bI b)] h = some (.inl (some (.int (bI b))), h) := exF_r (i := (i_zret)) rfl (i_zret_b b)
noncomputable def cX24_init : xC := [(0, i_aload 0 1),
  (1, i_oi 4),
  (4, i_aload 0 5),
  (5, i_new 3 5 zX4 8),
  (8, i_dup 9),
  (9, i_ci [3] 236 0 12),
  (12, i_putfr 20 0 15),
  (15, i_aload 0 16),
  (16, i_const (.int (nI 8)) 18),
  (18, i_newa 0 (.inl (fun _ => 0)) 20),
  (20, i_putfr 20 1 23),
  (23, i_aload 0 24),
  (24, i_const (.int (nI 8)) 26),
  (26, i_newa 0 (.inl (fun _ => 0)) 28),
  (28, i_putfr 20 2 31),
  (31, i_aload 0 32),
  (32, i_const (.int (nI 8)) 34),
  (34, i_newa 0 (.inl (fun _ => 0)) 36),
  (36, i_putfr 20 3 39),
  (39, i_aload 0 40),
  (40, i_const (.int (nI 8)) 42),
  (42, i_newa 0 (.inl (fun _ => 0)) 44),
  (44, i_putfr 20 4 47),
  (47, i_aload 0 48),
  (48, i_const (.int (nI 8)) 50),
  (50, i_newa 2 (.inl (fun _ => 0)) 52),
  (52, i_putfr 20 5 55),
  (55, i_vret)]
theorem eX24_init_0 {ev : xV} {x : Nat} {st : List Value} {h : xH} : exF ev cX24_init 0 ([some (.ref x)], []) st h = exF ev cX24_init 1 ([some (.ref x)], []) (.ref x :: st) h := exF_j (i := (i_aload 0 1)) rfl rfl
theorem eX24_init_1 {ev : xV} {v0 : Option Value} {a : Nat} (hx : 64 ≤ a) {h : xH} : exF ev cX24_init 1 ([v0], []) [.ref a] h = exF ev cX24_init 4 ([v0], []) [] h := exF_j (i := (i_oi 4)) rfl (if_pos ⟨hx, rfl⟩)
theorem eX24_init_4 {ev : xV} {x : Nat} {st : List Value} {h : xH} : exF ev cX24_init 4 ([some (.ref x)], []) st h = exF ev cX24_init 5 ([some (.ref x)], []) (.ref x :: st) h := exF_j (i := (i_aload 0 5)) rfl rfl
theorem eX24_init_5 {ev : xV} {v0 : Option Value} {st : List Value} {h : xH} : exF ev cX24_init 5 ([v0], []) st h = exF ev cX24_init 8 ([v0], []) (.ref h.2.1 :: st) (xnew h (.inr (3, zX4)) 5) := exF_j (i := (i_new 3 5 zX4 8)) rfl rfl
theorem eX24_init_8 {ev : xV} {v0 : Option Value} {x : Nat} {st : List Value} {h : xH} : exF ev cX24_init 8 ([v0], []) (.ref x :: st) h = exF ev cX24_init 9 ([v0], []) (.ref x :: .ref x :: st) h := exF_j (i := (i_dup 9)) rfl rfl
theorem eX24_init_9 {ev : xV} {v0 : Option Value} {r0 : Value} {r1 : Value} {a : Nat} {h : xH} : exF ev cX24_init 9 ([v0], []) [.ref a, r0, r1] h = xO (xckc h [3] a) (fun _ => xBv (ev 236 [.ref a] h) (fun h => exF ev cX24_init 12 ([v0], []) [r0, r1] h)) := exF_cdv (i := (i_ci [3] 236 0 12)) rfl rfl
theorem eX24_init_12 {ev : xV} {v0 : Option Value} {x a : Nat} {st : List Value} {h : xH} : exF ev cX24_init 12 ([v0], []) (.ref x :: .ref a :: st) h = xO (xpf h a 20 0 (.ref x)) (fun h => exF ev cX24_init 15 ([v0], []) st h) := exF_o (i := (i_putfr 20 0 15)) rfl rfl
theorem eX24_init_12n {ev : xV} {v0 : Option Value} {a : Nat} {st : List Value} {h : xH} : exF ev cX24_init 12 ([v0], []) (.null :: .ref a :: st) h = xO (xpf h a 20 0 .null) (fun h => exF ev cX24_init 15 ([v0], []) st h) := exF_o (i := (i_putfr 20 0 15)) rfl rfl
theorem eX24_init_15 {ev : xV} {x : Nat} {st : List Value} {h : xH} : exF ev cX24_init 15 ([some (.ref x)], []) st h = exF ev cX24_init 16 ([some (.ref x)], []) (.ref x :: st) h := exF_j (i := (i_aload 0 16)) rfl rfl
theorem eX24_init_16 {ev : xV} {v0 : Option Value} {st : List Value} {h : xH} : exF ev cX24_init 16 ([v0], []) st h = exF ev cX24_init 18 ([v0], []) (.int (nI 8) :: st) h := exF_j (i := (i_const (.int (nI 8)) 18)) rfl rfl
theorem eX24_init_18 {ev : xV} {v0 : Option Value} {x : Int32} {st : List Value} {h : xH} : exF ev cX24_init 18 ([v0], []) (.int x :: st) h = xO (xcnt x) (fun k => exF ev cX24_init 20 ([v0], []) (.ref h.2.1 :: st) (xnew h (.inl (0, k, .inl (fun _ => 0))) k)) := exF_o (i := (i_newa 0 (.inl (fun _ => 0)) 20)) rfl rfl
theorem eX24_init_20 {ev : xV} {v0 : Option Value} {x a : Nat} {st : List Value} {h : xH} : exF ev cX24_init 20 ([v0], []) (.ref x :: .ref a :: st) h = xO (xpf h a 20 1 (.ref x)) (fun h => exF ev cX24_init 23 ([v0], []) st h) := exF_o (i := (i_putfr 20 1 23)) rfl rfl
theorem eX24_init_20n {ev : xV} {v0 : Option Value} {a : Nat} {st : List Value} {h : xH} : exF ev cX24_init 20 ([v0], []) (.null :: .ref a :: st) h = xO (xpf h a 20 1 .null) (fun h => exF ev cX24_init 23 ([v0], []) st h) := exF_o (i := (i_putfr 20 1 23)) rfl rfl
theorem eX24_init_23 {ev : xV} {x : Nat} {st : List Value} {h : xH} : exF ev cX24_init 23 ([some (.ref x)], []) st h = exF ev cX24_init 24 ([some (.ref x)], []) (.ref x :: st) h := exF_j (i := (i_aload 0 24)) rfl rfl
theorem eX24_init_24 {ev : xV} {v0 : Option Value} {st : List Value} {h : xH} : exF ev cX24_init 24 ([v0], []) st h = exF ev cX24_init 26 ([v0], []) (.int (nI 8) :: st) h := exF_j (i := (i_const (.int (nI 8)) 26)) rfl rfl
theorem eX24_init_26 {ev : xV} {v0 : Option Value} {x : Int32} {st : List Value} {h : xH} : exF ev cX24_init 26 ([v0], []) (.int x :: st) h = xO (xcnt x) (fun k => exF ev cX24_init 28 ([v0], []) (.ref h.2.1 :: st) (xnew h (.inl (0, k, .inl (fun _ => 0))) k)) := exF_o (i := (i_newa 0 (.inl (fun _ => 0)) 28)) rfl rfl
theorem eX24_init_28 {ev : xV} {v0 : Option Value} {x a : Nat} {st : List Value} {h : xH} : exF ev cX24_init 28 ([v0], []) (.ref x :: .ref a :: st) h = xO (xpf h a 20 2 (.ref x)) (fun h => exF ev cX24_init 31 ([v0], []) st h) := exF_o (i := (i_putfr 20 2 31)) rfl rfl
theorem eX24_init_28n {ev : xV} {v0 : Option Value} {a : Nat} {st : List Value} {h : xH} : exF ev cX24_init 28 ([v0], []) (.null :: .ref a :: st) h = xO (xpf h a 20 2 .null) (fun h => exF ev cX24_init 31 ([v0], []) st h) := exF_o (i := (i_putfr 20 2 31)) rfl rfl
theorem eX24_init_31 {ev : xV} {x : Nat} {st : List Value} {h : xH} : exF ev cX24_init 31 ([some (.ref x)], []) st h = exF ev cX24_init 32 ([some (.ref x)], []) (.ref x :: st) h := exF_j (i := (i_aload 0 32)) rfl rfl
theorem eX24_init_32 {ev : xV} {v0 : Option Value} {st : List Value} {h : xH} : exF ev cX24_init 32 ([v0], []) st h = exF ev cX24_init 34 ([v0], []) (.int (nI 8) :: st) h := exF_j (i := (i_const (.int (nI 8)) 34)) rfl rfl
theorem eX24_init_34 {ev : xV} {v0 : Option Value} {x : Int32} {st : List Value} {h : xH} : exF ev cX24_init 34 ([v0], []) (.int x :: st) h = xO (xcnt x) (fun k => exF ev cX24_init 36 ([v0], []) (.ref h.2.1 :: st) (xnew h (.inl (0, k, .inl (fun _ => 0))) k)) := exF_o (i := (i_newa 0 (.inl (fun _ => 0)) 36)) rfl rfl
theorem eX24_init_36 {ev : xV} {v0 : Option Value} {x a : Nat} {st : List Value} {h : xH} : exF ev cX24_init 36 ([v0], []) (.ref x :: .ref a :: st) h = xO (xpf h a 20 3 (.ref x)) (fun h => exF ev cX24_init 39 ([v0], []) st h) := exF_o (i := (i_putfr 20 3 39)) rfl rfl
theorem eX24_init_36n {ev : xV} {v0 : Option Value} {a : Nat} {st : List Value} {h : xH} : exF ev cX24_init 36 ([v0], []) (.null :: .ref a :: st) h = xO (xpf h a 20 3 .null) (fun h => exF ev cX24_init 39 ([v0], []) st h) := exF_o (i := (i_putfr 20 3 39)) rfl rfl
theorem eX24_init_39 {ev : xV} {x : Nat} {st : List Value} {h : xH} : exF ev cX24_init 39 ([some (.ref x)], []) st h = exF ev cX24_init 40 ([some (.ref x)], []) (.ref x :: st) h := exF_j (i := (i_aload 0 40)) rfl rfl
theorem eX24_init_40 {ev : xV} {v0 : Option Value} {st : List Value} {h : xH} : exF ev cX24_init 40 ([v0], []) st h = exF ev cX24_init 42 ([v0], []) (.int (nI 8) :: st) h := exF_j (i := (i_const (.int (nI 8)) 42)) rfl rfl
theorem eX24_init_42 {ev : xV} {v0 : Option Value} {x : Int32} {st : List Value} {h : xH} : exF ev cX24_init 42 ([v0], []) (.int x :: st) h = xO (xcnt x) (fun k => exF ev cX24_init 44 ([v0], []) (.ref h.2.1 :: st) (xnew h (.inl (0, k, .inl (fun _ => 0))) k)) := exF_o (i := (i_newa 0 (.inl (fun _ => 0)) 44)) rfl rfl
theorem eX24_init_44 {ev : xV} {v0 : Option Value} {x a : Nat} {st : List Value} {h : xH} : exF ev cX24_init 44 ([v0], []) (.ref x :: .ref a :: st) h = xO (xpf h a 20 4 (.ref x)) (fun h => exF ev cX24_init 47 ([v0], []) st h) := exF_o (i := (i_putfr 20 4 47)) rfl rfl
theorem eX24_init_44n {ev : xV} {v0 : Option Value} {a : Nat} {st : List Value} {h : xH} : exF ev cX24_init 44 ([v0], []) (.null :: .ref a :: st) h = xO (xpf h a 20 4 .null) (fun h => exF ev cX24_init 47 ([v0], []) st h) := exF_o (i := (i_putfr 20 4 47)) rfl rfl
theorem eX24_init_47 {ev : xV} {x : Nat} {st : List Value} {h : xH} : exF ev cX24_init 47 ([some (.ref x)], []) st h = exF ev cX24_init 48 ([some (.ref x)], []) (.ref x :: st) h := exF_j (i := (i_aload 0 48)) rfl rfl
theorem eX24_init_48 {ev : xV} {v0 : Option Value} {st : List Value} {h : xH} : exF ev cX24_init 48 ([v0], []) st h = exF ev cX24_init 50 ([v0], []) (.int (nI 8) :: st) h := exF_j (i := (i_const (.int (nI 8)) 50)) rfl rfl
theorem eX24_init_50 {ev : xV} {v0 : Option Value} {x : Int32} {st : List Value} {h : xH} : exF ev cX24_init 50 ([v0], []) (.int x :: st) h = xO (xcnt x) (fun k => exF ev cX24_init 52 ([v0], []) (.ref h.2.1 :: st) (xnew h (.inl (2, k, .inl (fun _ => 0))) k)) := exF_o (i := (i_newa 2 (.inl (fun _ => 0)) 52)) rfl rfl
theorem eX24_init_52 {ev : xV} {v0 : Option Value} {x a : Nat} {st : List Value} {h : xH} : exF ev cX24_init 52 ([v0], []) (.ref x :: .ref a :: st) h = xO (xpf h a 20 5 (.ref x)) (fun h => exF ev cX24_init 55 ([v0], []) st h) := exF_o (i := (i_putfr 20 5 55)) rfl rfl
theorem eX24_init_52n {ev : xV} {v0 : Option Value} {a : Nat} {st : List Value} {h : xH} : exF ev cX24_init 52 ([v0], []) (.null :: .ref a :: st) h = xO (xpf h a 20 5 .null) (fun h => exF ev cX24_init 55 ([v0], []) st h) := exF_o (i := (i_putfr 20 5 55)) rfl rfl
theorem eX24_init_55 {ev : xV} {v0 : Option Value} {h : xH} : exF ev cX24_init 55 ([v0], []) [] h = some (.inl none, h) := exF_r (i := (i_vret)) rfl rfl
noncomputable def cX3_init : xC := [(0, i_aload 0 1),
  (1, i_oi 4),
  (4, i_aload 0 5),
  (5, i_new 21 3 zJ2 8),
  (8, i_dup 9),
  (9, i_const (.int (nI 2)) 10),
  (10, i_ci [21] 31 1 13),
  (13, i_putfr 2 0 16),
  (16, i_aload 0 17),
  (17, i_new 21 3 zJ2 20),
  (20, i_dup 21),
  (21, i_const (.int (nI 2)) 22),
  (22, i_ci [21] 31 1 25),
  (25, i_putfr 2 1 28),
  (28, i_aload 0 29),
  (29, i_new 21 3 zJ2 32),
  (32, i_dup 33),
  (33, i_const (.int (nI 2)) 34),
  (34, i_ci [21] 31 1 37),
  (37, i_putfr 2 2 40),
  (40, i_aload 0 41),
  (41, i_const (.int (nI 5)) 42),
  (42, i_newa 0 (.inl (fun _ => 0)) 44),
  (44, i_putfr 2 3 47),
  (47, i_aload 0 48),
  (48, i_const (.int (nI 12)) 50),
  (50, i_newa 0 (.inl (fun _ => 0)) 52),
  (52, i_putfr 2 4 55),
  (55, i_vret)]
theorem eX3_init_0 {ev : xV} {x : Nat} {st : List Value} {h : xH} : exF ev cX3_init 0 ([some (.ref x)], []) st h = exF ev cX3_init 1 ([some (.ref x)], []) (.ref x :: st) h := exF_j (i := (i_aload 0 1)) rfl rfl
theorem eX3_init_1 {ev : xV} {v0 : Option Value} {a : Nat} (hx : 64 ≤ a) {h : xH} : exF ev cX3_init 1 ([v0], []) [.ref a] h = exF ev cX3_init 4 ([v0], []) [] h := exF_j (i := (i_oi 4)) rfl (if_pos ⟨hx, rfl⟩)
theorem eX3_init_4 {ev : xV} {x : Nat} {st : List Value} {h : xH} : exF ev cX3_init 4 ([some (.ref x)], []) st h = exF ev cX3_init 5 ([some (.ref x)], []) (.ref x :: st) h := exF_j (i := (i_aload 0 5)) rfl rfl
theorem eX3_init_5 {ev : xV} {v0 : Option Value} {st : List Value} {h : xH} : exF ev cX3_init 5 ([v0], []) st h = exF ev cX3_init 8 ([v0], []) (.ref h.2.1 :: st) (xnew h (.inr (21, zJ2)) 3) := exF_j (i := (i_new 21 3 zJ2 8)) rfl rfl
theorem eX3_init_8 {ev : xV} {v0 : Option Value} {x : Nat} {st : List Value} {h : xH} : exF ev cX3_init 8 ([v0], []) (.ref x :: st) h = exF ev cX3_init 9 ([v0], []) (.ref x :: .ref x :: st) h := exF_j (i := (i_dup 9)) rfl rfl
theorem eX3_init_9 {ev : xV} {v0 : Option Value} {st : List Value} {h : xH} : exF ev cX3_init 9 ([v0], []) st h = exF ev cX3_init 10 ([v0], []) (.int (nI 2) :: st) h := exF_j (i := (i_const (.int (nI 2)) 10)) rfl rfl
theorem eX3_init_10 {ev : xV} {v0 : Option Value} {a0 : Value} {r0 : Value} {r1 : Value} {a : Nat} {h : xH} : exF ev cX3_init 10 ([v0], []) [a0, .ref a, r0, r1] h = xO (xckc h [21] a) (fun _ => xBv (ev 31 [.ref a, a0] h) (fun h => exF ev cX3_init 13 ([v0], []) [r0, r1] h)) := exF_cdv (i := (i_ci [21] 31 1 13)) rfl rfl
theorem eX3_init_13 {ev : xV} {v0 : Option Value} {x a : Nat} {st : List Value} {h : xH} : exF ev cX3_init 13 ([v0], []) (.ref x :: .ref a :: st) h = xO (xpf h a 2 0 (.ref x)) (fun h => exF ev cX3_init 16 ([v0], []) st h) := exF_o (i := (i_putfr 2 0 16)) rfl rfl
theorem eX3_init_13n {ev : xV} {v0 : Option Value} {a : Nat} {st : List Value} {h : xH} : exF ev cX3_init 13 ([v0], []) (.null :: .ref a :: st) h = xO (xpf h a 2 0 .null) (fun h => exF ev cX3_init 16 ([v0], []) st h) := exF_o (i := (i_putfr 2 0 16)) rfl rfl
theorem eX3_init_16 {ev : xV} {x : Nat} {st : List Value} {h : xH} : exF ev cX3_init 16 ([some (.ref x)], []) st h = exF ev cX3_init 17 ([some (.ref x)], []) (.ref x :: st) h := exF_j (i := (i_aload 0 17)) rfl rfl
theorem eX3_init_17 {ev : xV} {v0 : Option Value} {st : List Value} {h : xH} : exF ev cX3_init 17 ([v0], []) st h = exF ev cX3_init 20 ([v0], []) (.ref h.2.1 :: st) (xnew h (.inr (21, zJ2)) 3) := exF_j (i := (i_new 21 3 zJ2 20)) rfl rfl
theorem eX3_init_20 {ev : xV} {v0 : Option Value} {x : Nat} {st : List Value} {h : xH} : exF ev cX3_init 20 ([v0], []) (.ref x :: st) h = exF ev cX3_init 21 ([v0], []) (.ref x :: .ref x :: st) h := exF_j (i := (i_dup 21)) rfl rfl
theorem eX3_init_21 {ev : xV} {v0 : Option Value} {st : List Value} {h : xH} : exF ev cX3_init 21 ([v0], []) st h = exF ev cX3_init 22 ([v0], []) (.int (nI 2) :: st) h := exF_j (i := (i_const (.int (nI 2)) 22)) rfl rfl
theorem eX3_init_22 {ev : xV} {v0 : Option Value} {a0 : Value} {r0 : Value} {r1 : Value} {a : Nat} {h : xH} : exF ev cX3_init 22 ([v0], []) [a0, .ref a, r0, r1] h = xO (xckc h [21] a) (fun _ => xBv (ev 31 [.ref a, a0] h) (fun h => exF ev cX3_init 25 ([v0], []) [r0, r1] h)) := exF_cdv (i := (i_ci [21] 31 1 25)) rfl rfl
theorem eX3_init_25 {ev : xV} {v0 : Option Value} {x a : Nat} {st : List Value} {h : xH} : exF ev cX3_init 25 ([v0], []) (.ref x :: .ref a :: st) h = xO (xpf h a 2 1 (.ref x)) (fun h => exF ev cX3_init 28 ([v0], []) st h) := exF_o (i := (i_putfr 2 1 28)) rfl rfl
theorem eX3_init_25n {ev : xV} {v0 : Option Value} {a : Nat} {st : List Value} {h : xH} : exF ev cX3_init 25 ([v0], []) (.null :: .ref a :: st) h = xO (xpf h a 2 1 .null) (fun h => exF ev cX3_init 28 ([v0], []) st h) := exF_o (i := (i_putfr 2 1 28)) rfl rfl
theorem eX3_init_28 {ev : xV} {x : Nat} {st : List Value} {h : xH} : exF ev cX3_init 28 ([some (.ref x)], []) st h = exF ev cX3_init 29 ([some (.ref x)], []) (.ref x :: st) h := exF_j (i := (i_aload 0 29)) rfl rfl
theorem eX3_init_29 {ev : xV} {v0 : Option Value} {st : List Value} {h : xH} : exF ev cX3_init 29 ([v0], []) st h = exF ev cX3_init 32 ([v0], []) (.ref h.2.1 :: st) (xnew h (.inr (21, zJ2)) 3) := exF_j (i := (i_new 21 3 zJ2 32)) rfl rfl
theorem eX3_init_32 {ev : xV} {v0 : Option Value} {x : Nat} {st : List Value} {h : xH} : exF ev cX3_init 32 ([v0], []) (.ref x :: st) h = exF ev cX3_init 33 ([v0], []) (.ref x :: .ref x :: st) h := exF_j (i := (i_dup 33)) rfl rfl
theorem eX3_init_33 {ev : xV} {v0 : Option Value} {st : List Value} {h : xH} : exF ev cX3_init 33 ([v0], []) st h = exF ev cX3_init 34 ([v0], []) (.int (nI 2) :: st) h := exF_j (i := (i_const (.int (nI 2)) 34)) rfl rfl
theorem eX3_init_34 {ev : xV} {v0 : Option Value} {a0 : Value} {r0 : Value} {r1 : Value} {a : Nat} {h : xH} : exF ev cX3_init 34 ([v0], []) [a0, .ref a, r0, r1] h = xO (xckc h [21] a) (fun _ => xBv (ev 31 [.ref a, a0] h) (fun h => exF ev cX3_init 37 ([v0], []) [r0, r1] h)) := exF_cdv (i := (i_ci [21] 31 1 37)) rfl rfl
theorem eX3_init_37 {ev : xV} {v0 : Option Value} {x a : Nat} {st : List Value} {h : xH} : exF ev cX3_init 37 ([v0], []) (.ref x :: .ref a :: st) h = xO (xpf h a 2 2 (.ref x)) (fun h => exF ev cX3_init 40 ([v0], []) st h) := exF_o (i := (i_putfr 2 2 40)) rfl rfl
theorem eX3_init_37n {ev : xV} {v0 : Option Value} {a : Nat} {st : List Value} {h : xH} : exF ev cX3_init 37 ([v0], []) (.null :: .ref a :: st) h = xO (xpf h a 2 2 .null) (fun h => exF ev cX3_init 40 ([v0], []) st h) := exF_o (i := (i_putfr 2 2 40)) rfl rfl
theorem eX3_init_40 {ev : xV} {x : Nat} {st : List Value} {h : xH} : exF ev cX3_init 40 ([some (.ref x)], []) st h = exF ev cX3_init 41 ([some (.ref x)], []) (.ref x :: st) h := exF_j (i := (i_aload 0 41)) rfl rfl
theorem eX3_init_41 {ev : xV} {v0 : Option Value} {st : List Value} {h : xH} : exF ev cX3_init 41 ([v0], []) st h = exF ev cX3_init 42 ([v0], []) (.int (nI 5) :: st) h := exF_j (i := (i_const (.int (nI 5)) 42)) rfl rfl
theorem eX3_init_42 {ev : xV} {v0 : Option Value} {x : Int32} {st : List Value} {h : xH} : exF ev cX3_init 42 ([v0], []) (.int x :: st) h = xO (xcnt x) (fun k => exF ev cX3_init 44 ([v0], []) (.ref h.2.1 :: st) (xnew h (.inl (0, k, .inl (fun _ => 0))) k)) := exF_o (i := (i_newa 0 (.inl (fun _ => 0)) 44)) rfl rfl
theorem eX3_init_44 {ev : xV} {v0 : Option Value} {x a : Nat} {st : List Value} {h : xH} : exF ev cX3_init 44 ([v0], []) (.ref x :: .ref a :: st) h = xO (xpf h a 2 3 (.ref x)) (fun h => exF ev cX3_init 47 ([v0], []) st h) := exF_o (i := (i_putfr 2 3 47)) rfl rfl
theorem eX3_init_44n {ev : xV} {v0 : Option Value} {a : Nat} {st : List Value} {h : xH} : exF ev cX3_init 44 ([v0], []) (.null :: .ref a :: st) h = xO (xpf h a 2 3 .null) (fun h => exF ev cX3_init 47 ([v0], []) st h) := exF_o (i := (i_putfr 2 3 47)) rfl rfl
theorem eX3_init_47 {ev : xV} {x : Nat} {st : List Value} {h : xH} : exF ev cX3_init 47 ([some (.ref x)], []) st h = exF ev cX3_init 48 ([some (.ref x)], []) (.ref x :: st) h := exF_j (i := (i_aload 0 48)) rfl rfl
theorem eX3_init_48 {ev : xV} {v0 : Option Value} {st : List Value} {h : xH} : exF ev cX3_init 48 ([v0], []) st h = exF ev cX3_init 50 ([v0], []) (.int (nI 12) :: st) h := exF_j (i := (i_const (.int (nI 12)) 50)) rfl rfl
theorem eX3_init_50 {ev : xV} {v0 : Option Value} {x : Int32} {st : List Value} {h : xH} : exF ev cX3_init 50 ([v0], []) (.int x :: st) h = xO (xcnt x) (fun k => exF ev cX3_init 52 ([v0], []) (.ref h.2.1 :: st) (xnew h (.inl (0, k, .inl (fun _ => 0))) k)) := exF_o (i := (i_newa 0 (.inl (fun _ => 0)) 52)) rfl rfl
theorem eX3_init_52 {ev : xV} {v0 : Option Value} {x a : Nat} {st : List Value} {h : xH} : exF ev cX3_init 52 ([v0], []) (.ref x :: .ref a :: st) h = xO (xpf h a 2 4 (.ref x)) (fun h => exF ev cX3_init 55 ([v0], []) st h) := exF_o (i := (i_putfr 2 4 55)) rfl rfl
theorem eX3_init_52n {ev : xV} {v0 : Option Value} {a : Nat} {st : List Value} {h : xH} : exF ev cX3_init 52 ([v0], []) (.null :: .ref a :: st) h = xO (xpf h a 2 4 .null) (fun h => exF ev cX3_init 55 ([v0], []) st h) := exF_o (i := (i_putfr 2 4 55)) rfl rfl
theorem eX3_init_55 {ev : xV} {v0 : Option Value} {h : xH} : exF ev cX3_init 55 ([v0], []) [] h = some (.inl none, h) := exF_r (i := (i_vret)) rfl rfl
noncomputable def cX3_place : xC := [(0, i_const (.int (nI 0)) 1),
  (1, i_istore 2 2),
  (2, i_iload 2 3),
  (3, i_aload 0 4),
  (4, i_cv 21 32 0 7),
  (7, i_if2 (fun x y => y ≤ x) 33 10),
  (10, i_aload 0 11),
  (11, i_iload 2 12),
  (12, i_cv 21 33 1 15),
  (15, i_cast [22] 18),
  (18, i_aload 1 19),
  (19, i_cv 22 54 1 22),
  (22, i_if1 (fun x => x = 0) 27 25),
  (25, i_iload 2 26),
  (26, i_iret),
  (27, i_iinc 2 (nI 1) 30),
  (30, i_goto 2),
  (33, i_const (.int (-1)) 34),
  (34, i_iret)]
theorem eX3_place_0 {ev : xV} {v0 v1 v2 : Option Value} {st : List Value} {h : xH} : exF ev cX3_place 0 ([v0, v1, v2], []) st h = exF ev cX3_place 1 ([v0, v1, v2], []) (.int (nI 0) :: st) h := exF_j (i := (i_const (.int (nI 0)) 1)) rfl rfl
theorem eX3_place_1 {ev : xV} {v0 v1 v2 : Option Value} {x : Int32} {st : List Value} {h : xH} : exF ev cX3_place 1 ([v0, v1, v2], []) (.int x :: st) h = exF ev cX3_place 2 ([v0, v1, some (.int x)], []) st h := exF_j (i := (i_istore 2 2)) rfl rfl
theorem eX3_place_2 {ev : xV} {v0 v1 : Option Value} {x : Int32} {st : List Value} {h : xH} : exF ev cX3_place 2 ([v0, v1, some (.int x)], []) st h = exF ev cX3_place 3 ([v0, v1, some (.int x)], []) (.int x :: st) h := exF_j (i := (i_iload 2 3)) rfl rfl
theorem eX3_place_3 {ev : xV} {v1 v2 : Option Value} {x : Nat} {st : List Value} {h : xH} : exF ev cX3_place 3 ([some (.ref x), v1, v2], []) st h = exF ev cX3_place 4 ([some (.ref x), v1, v2], []) (.ref x :: st) h := exF_j (i := (i_aload 0 4)) rfl rfl
theorem eX3_place_3n {ev : xV} {v1 v2 : Option Value} {st : List Value} {h : xH} : exF ev cX3_place 3 ([some .null, v1, v2], []) st h = exF ev cX3_place 4 ([some .null, v1, v2], []) (.null :: st) h := exF_j (i := (i_aload 0 4)) rfl rfl
theorem eX3_place_4 {ev : xV} {v0 v1 v2 : Option Value} {r0 : Value} {a : Nat} {h : xH} : exF ev cX3_place 4 ([v0, v1, v2], []) [.ref a, r0] h = xO (xck h a 21) (fun _ => xB (ev 32 [.ref a] h) (fun v h => exF ev cX3_place 7 ([v0, v1, v2], []) [v, r0] h)) := exF_cd (i := (i_cv 21 32 0 7)) rfl rfl
theorem eX3_place_7 {ev : xV} {v0 v1 v2 : Option Value} {x y : Int32} {st : List Value} {h : xH} : exF ev cX3_place 7 ([v0, v1, v2], []) (.int y :: .int x :: st) h = if y ≤ x then exF ev cX3_place 33 ([v0, v1, v2], []) st h else exF ev cX3_place 10 ([v0, v1, v2], []) st h := exF_b (i := (i_if2 (fun x y => y ≤ x) 33 10)) rfl rfl
theorem eX3_place_10 {ev : xV} {v1 v2 : Option Value} {x : Nat} {st : List Value} {h : xH} : exF ev cX3_place 10 ([some (.ref x), v1, v2], []) st h = exF ev cX3_place 11 ([some (.ref x), v1, v2], []) (.ref x :: st) h := exF_j (i := (i_aload 0 11)) rfl rfl
theorem eX3_place_10n {ev : xV} {v1 v2 : Option Value} {st : List Value} {h : xH} : exF ev cX3_place 10 ([some .null, v1, v2], []) st h = exF ev cX3_place 11 ([some .null, v1, v2], []) (.null :: st) h := exF_j (i := (i_aload 0 11)) rfl rfl
theorem eX3_place_11 {ev : xV} {v0 v1 : Option Value} {x : Int32} {st : List Value} {h : xH} : exF ev cX3_place 11 ([v0, v1, some (.int x)], []) st h = exF ev cX3_place 12 ([v0, v1, some (.int x)], []) (.int x :: st) h := exF_j (i := (i_iload 2 12)) rfl rfl
theorem eX3_place_12 {ev : xV} {v0 v1 v2 : Option Value} {a0 : Value} {a : Nat} {h : xH} : exF ev cX3_place 12 ([v0, v1, v2], []) [a0, .ref a] h = xO (xck h a 21) (fun _ => xB (ev 33 [.ref a, a0] h) (fun v h => exF ev cX3_place 15 ([v0, v1, v2], []) [v] h)) := exF_cd (i := (i_cv 21 33 1 15)) rfl rfl
theorem eX3_place_15 {ev : xV} {v0 v1 v2 : Option Value} {a : Nat} {st : List Value} {h : xH} : exF ev cX3_place 15 ([v0, v1, v2], []) (.ref a :: st) h = xO (xckc h [22] a) (fun _ => exF ev cX3_place 18 ([v0, v1, v2], []) (.ref a :: st) h) := exF_o (i := (i_cast [22] 18)) rfl rfl
theorem eX3_place_18 {ev : xV} {v0 v2 : Option Value} {x : Nat} {st : List Value} {h : xH} : exF ev cX3_place 18 ([v0, some (.ref x), v2], []) st h = exF ev cX3_place 19 ([v0, some (.ref x), v2], []) (.ref x :: st) h := exF_j (i := (i_aload 1 19)) rfl rfl
theorem eX3_place_18n {ev : xV} {v0 v2 : Option Value} {st : List Value} {h : xH} : exF ev cX3_place 18 ([v0, some .null, v2], []) st h = exF ev cX3_place 19 ([v0, some .null, v2], []) (.null :: st) h := exF_j (i := (i_aload 1 19)) rfl rfl
theorem eX3_place_19 {ev : xV} {v0 v1 v2 : Option Value} {a0 : Value} {a : Nat} {h : xH} : exF ev cX3_place 19 ([v0, v1, v2], []) [a0, .ref a] h = xO (xck h a 22) (fun _ => xB (ev 54 [.ref a, a0] h) (fun v h => exF ev cX3_place 22 ([v0, v1, v2], []) [v] h)) := exF_cd (i := (i_cv 22 54 1 22)) rfl rfl
theorem eX3_place_22 {ev : xV} {v0 v1 v2 : Option Value} {x : Int32} {st : List Value} {h : xH} : exF ev cX3_place 22 ([v0, v1, v2], []) (.int x :: st) h = if x = 0 then exF ev cX3_place 27 ([v0, v1, v2], []) st h else exF ev cX3_place 25 ([v0, v1, v2], []) st h := exF_b (i := (i_if1 (fun x => x = 0) 27 25)) rfl rfl
theorem eX3_place_25 {ev : xV} {v0 v1 : Option Value} {x : Int32} {st : List Value} {h : xH} : exF ev cX3_place 25 ([v0, v1, some (.int x)], []) st h = exF ev cX3_place 26 ([v0, v1, some (.int x)], []) (.int x :: st) h := exF_j (i := (i_iload 2 26)) rfl rfl
theorem eX3_place_26 {ev : xV} {v0 v1 v2 : Option Value} {x : Int32} {h : xH} : exF ev cX3_place 26 ([v0, v1, v2], []) [.int x] h = some (.inl (some (.int x)), h) := exF_r (i := (i_iret)) rfl rfl
theorem eX3_place_27 {ev : xV} {v0 v1 : Option Value} {x : Int32} {st : List Value} {h : xH} : exF ev cX3_place 27 ([v0, v1, some (.int x)], []) st h = exF ev cX3_place 30 ([v0, v1, some (.int (x + (nI 1)))], []) st h := exF_j (i := (i_iinc 2 (nI 1) 30)) rfl rfl
theorem eX3_place_30 {ev : xV} {v0 v1 v2 : Option Value} {st : List Value} {h : xH} : exF ev cX3_place 30 ([v0, v1, v2], []) st h = exF ev cX3_place 2 ([v0, v1, v2], []) st h := exF_j (i := (i_goto 2)) rfl rfl
theorem eX3_place_33 {ev : xV} {v0 v1 v2 : Option Value} {st : List Value} {h : xH} : exF ev cX3_place 33 ([v0, v1, v2], []) st h = exF ev cX3_place 34 ([v0, v1, v2], []) (.int (-1) :: st) h := exF_j (i := (i_const (.int (-1)) 34)) rfl rfl
theorem eX3_place_34 {ev : xV} {v0 v1 v2 : Option Value} {x : Int32} {h : xH} : exF ev cX3_place 34 ([v0, v1, v2], []) [.int x] h = some (.inl (some (.int x)), h) := exF_r (i := (i_iret)) rfl rfl
noncomputable def cX3_areJoined : xC := [(0, i_const (.int (nI 0)) 1),
  (1, i_istore 3 2),
  (2, i_iload 3 3),
  (3, i_aload 0 4),
  (4, i_getf 2 2 7),
  (7, i_cv 21 32 0 10),
  (10, i_if2 (fun x y => y ≤ x) 57 13),
  (13, i_aload 0 14),
  (14, i_getf 2 2 17),
  (17, i_iload 3 18),
  (18, i_cv 21 33 1 21),
  (21, i_cast [6] 24),
  (24, i_iload 1 25),
  (25, i_cv 6 367 1 28),
  (28, i_if1 (fun x => x = 0) 51 31),
  (31, i_aload 0 32),
  (32, i_getf 2 2 35),
  (35, i_iload 3 36),
  (36, i_cv 21 33 1 39),
  (39, i_cast [6] 42),
  (42, i_iload 2 43),
  (43, i_cv 6 367 1 46),
  (46, i_if1 (fun x => x = 0) 51 49),
  (49, i_const (.int (nI 1)) 50),
  (50, i_zret),
  (51, i_iinc 3 (nI 1) 54),
  (54, i_goto 2),
  (57, i_const (.int (nI 0)) 58),
  (58, i_zret)]
theorem eX3_areJoined_0 {ev : xV} {v0 v1 v2 v3 : Option Value} {st : List Value} {h : xH} : exF ev cX3_areJoined 0 ([v0, v1, v2, v3], []) st h = exF ev cX3_areJoined 1 ([v0, v1, v2, v3], []) (.int (nI 0) :: st) h := exF_j (i := (i_const (.int (nI 0)) 1)) rfl rfl
theorem eX3_areJoined_1 {ev : xV} {v0 v1 v2 v3 : Option Value} {x : Int32} {st : List Value} {h : xH} : exF ev cX3_areJoined 1 ([v0, v1, v2, v3], []) (.int x :: st) h = exF ev cX3_areJoined 2 ([v0, v1, v2, some (.int x)], []) st h := exF_j (i := (i_istore 3 2)) rfl rfl
theorem eX3_areJoined_2 {ev : xV} {v0 v1 v2 : Option Value} {x : Int32} {st : List Value} {h : xH} : exF ev cX3_areJoined 2 ([v0, v1, v2, some (.int x)], []) st h = exF ev cX3_areJoined 3 ([v0, v1, v2, some (.int x)], []) (.int x :: st) h := exF_j (i := (i_iload 3 3)) rfl rfl
theorem eX3_areJoined_3 {ev : xV} {v1 v2 v3 : Option Value} {x : Nat} {st : List Value} {h : xH} : exF ev cX3_areJoined 3 ([some (.ref x), v1, v2, v3], []) st h = exF ev cX3_areJoined 4 ([some (.ref x), v1, v2, v3], []) (.ref x :: st) h := exF_j (i := (i_aload 0 4)) rfl rfl
theorem eX3_areJoined_4 {ev : xV} {v0 v1 v2 v3 : Option Value} {a : Nat} {st : List Value} {h : xH} : exF ev cX3_areJoined 4 ([v0, v1, v2, v3], []) (.ref a :: st) h = xO (xgf h a 2 2) (fun v => exF ev cX3_areJoined 7 ([v0, v1, v2, v3], []) (v :: st) h) := exF_o (i := (i_getf 2 2 7)) rfl rfl
theorem eX3_areJoined_7 {ev : xV} {v0 v1 v2 v3 : Option Value} {r0 : Value} {a : Nat} {h : xH} : exF ev cX3_areJoined 7 ([v0, v1, v2, v3], []) [.ref a, r0] h = xO (xck h a 21) (fun _ => xB (ev 32 [.ref a] h) (fun v h => exF ev cX3_areJoined 10 ([v0, v1, v2, v3], []) [v, r0] h)) := exF_cd (i := (i_cv 21 32 0 10)) rfl rfl
theorem eX3_areJoined_10 {ev : xV} {v0 v1 v2 v3 : Option Value} {x y : Int32} {st : List Value} {h : xH} : exF ev cX3_areJoined 10 ([v0, v1, v2, v3], []) (.int y :: .int x :: st) h = if y ≤ x then exF ev cX3_areJoined 57 ([v0, v1, v2, v3], []) st h else exF ev cX3_areJoined 13 ([v0, v1, v2, v3], []) st h := exF_b (i := (i_if2 (fun x y => y ≤ x) 57 13)) rfl rfl
theorem eX3_areJoined_13 {ev : xV} {v1 v2 v3 : Option Value} {x : Nat} {st : List Value} {h : xH} : exF ev cX3_areJoined 13 ([some (.ref x), v1, v2, v3], []) st h = exF ev cX3_areJoined 14 ([some (.ref x), v1, v2, v3], []) (.ref x :: st) h := exF_j (i := (i_aload 0 14)) rfl rfl
theorem eX3_areJoined_14 {ev : xV} {v0 v1 v2 v3 : Option Value} {a : Nat} {st : List Value} {h : xH} : exF ev cX3_areJoined 14 ([v0, v1, v2, v3], []) (.ref a :: st) h = xO (xgf h a 2 2) (fun v => exF ev cX3_areJoined 17 ([v0, v1, v2, v3], []) (v :: st) h) := exF_o (i := (i_getf 2 2 17)) rfl rfl
theorem eX3_areJoined_17 {ev : xV} {v0 v1 v2 : Option Value} {x : Int32} {st : List Value} {h : xH} : exF ev cX3_areJoined 17 ([v0, v1, v2, some (.int x)], []) st h = exF ev cX3_areJoined 18 ([v0, v1, v2, some (.int x)], []) (.int x :: st) h := exF_j (i := (i_iload 3 18)) rfl rfl
theorem eX3_areJoined_18 {ev : xV} {v0 v1 v2 v3 : Option Value} {a0 : Value} {a : Nat} {h : xH} : exF ev cX3_areJoined 18 ([v0, v1, v2, v3], []) [a0, .ref a] h = xO (xck h a 21) (fun _ => xB (ev 33 [.ref a, a0] h) (fun v h => exF ev cX3_areJoined 21 ([v0, v1, v2, v3], []) [v] h)) := exF_cd (i := (i_cv 21 33 1 21)) rfl rfl
theorem eX3_areJoined_21 {ev : xV} {v0 v1 v2 v3 : Option Value} {a : Nat} {st : List Value} {h : xH} : exF ev cX3_areJoined 21 ([v0, v1, v2, v3], []) (.ref a :: st) h = xO (xckc h [6] a) (fun _ => exF ev cX3_areJoined 24 ([v0, v1, v2, v3], []) (.ref a :: st) h) := exF_o (i := (i_cast [6] 24)) rfl rfl
theorem eX3_areJoined_24 {ev : xV} {v0 v2 v3 : Option Value} {x : Int32} {st : List Value} {h : xH} : exF ev cX3_areJoined 24 ([v0, some (.int x), v2, v3], []) st h = exF ev cX3_areJoined 25 ([v0, some (.int x), v2, v3], []) (.int x :: st) h := exF_j (i := (i_iload 1 25)) rfl rfl
theorem eX3_areJoined_25 {ev : xV} {v0 v1 v2 v3 : Option Value} {a0 : Value} {a : Nat} {h : xH} : exF ev cX3_areJoined 25 ([v0, v1, v2, v3], []) [a0, .ref a] h = xO (xck h a 6) (fun _ => xB (ev 367 [.ref a, a0] h) (fun v h => exF ev cX3_areJoined 28 ([v0, v1, v2, v3], []) [v] h)) := exF_cd (i := (i_cv 6 367 1 28)) rfl rfl
theorem eX3_areJoined_28 {ev : xV} {v0 v1 v2 v3 : Option Value} {x : Int32} {st : List Value} {h : xH} : exF ev cX3_areJoined 28 ([v0, v1, v2, v3], []) (.int x :: st) h = if x = 0 then exF ev cX3_areJoined 51 ([v0, v1, v2, v3], []) st h else exF ev cX3_areJoined 31 ([v0, v1, v2, v3], []) st h := exF_b (i := (i_if1 (fun x => x = 0) 51 31)) rfl rfl
theorem eX3_areJoined_31 {ev : xV} {v1 v2 v3 : Option Value} {x : Nat} {st : List Value} {h : xH} : exF ev cX3_areJoined 31 ([some (.ref x), v1, v2, v3], []) st h = exF ev cX3_areJoined 32 ([some (.ref x), v1, v2, v3], []) (.ref x :: st) h := exF_j (i := (i_aload 0 32)) rfl rfl
theorem eX3_areJoined_32 {ev : xV} {v0 v1 v2 v3 : Option Value} {a : Nat} {st : List Value} {h : xH} : exF ev cX3_areJoined 32 ([v0, v1, v2, v3], []) (.ref a :: st) h = xO (xgf h a 2 2) (fun v => exF ev cX3_areJoined 35 ([v0, v1, v2, v3], []) (v :: st) h) := exF_o (i := (i_getf 2 2 35)) rfl rfl
theorem eX3_areJoined_35 {ev : xV} {v0 v1 v2 : Option Value} {x : Int32} {st : List Value} {h : xH} : exF ev cX3_areJoined 35 ([v0, v1, v2, some (.int x)], []) st h = exF ev cX3_areJoined 36 ([v0, v1, v2, some (.int x)], []) (.int x :: st) h := exF_j (i := (i_iload 3 36)) rfl rfl
theorem eX3_areJoined_36 {ev : xV} {v0 v1 v2 v3 : Option Value} {a0 : Value} {a : Nat} {h : xH} : exF ev cX3_areJoined 36 ([v0, v1, v2, v3], []) [a0, .ref a] h = xO (xck h a 21) (fun _ => xB (ev 33 [.ref a, a0] h) (fun v h => exF ev cX3_areJoined 39 ([v0, v1, v2, v3], []) [v] h)) := exF_cd (i := (i_cv 21 33 1 39)) rfl rfl
theorem eX3_areJoined_39 {ev : xV} {v0 v1 v2 v3 : Option Value} {a : Nat} {st : List Value} {h : xH} : exF ev cX3_areJoined 39 ([v0, v1, v2, v3], []) (.ref a :: st) h = xO (xckc h [6] a) (fun _ => exF ev cX3_areJoined 42 ([v0, v1, v2, v3], []) (.ref a :: st) h) := exF_o (i := (i_cast [6] 42)) rfl rfl
theorem eX3_areJoined_42 {ev : xV} {v0 v1 v3 : Option Value} {x : Int32} {st : List Value} {h : xH} : exF ev cX3_areJoined 42 ([v0, v1, some (.int x), v3], []) st h = exF ev cX3_areJoined 43 ([v0, v1, some (.int x), v3], []) (.int x :: st) h := exF_j (i := (i_iload 2 43)) rfl rfl
theorem eX3_areJoined_43 {ev : xV} {v0 v1 v2 v3 : Option Value} {a0 : Value} {a : Nat} {h : xH} : exF ev cX3_areJoined 43 ([v0, v1, v2, v3], []) [a0, .ref a] h = xO (xck h a 6) (fun _ => xB (ev 367 [.ref a, a0] h) (fun v h => exF ev cX3_areJoined 46 ([v0, v1, v2, v3], []) [v] h)) := exF_cd (i := (i_cv 6 367 1 46)) rfl rfl
theorem eX3_areJoined_46 {ev : xV} {v0 v1 v2 v3 : Option Value} {x : Int32} {st : List Value} {h : xH} : exF ev cX3_areJoined 46 ([v0, v1, v2, v3], []) (.int x :: st) h = if x = 0 then exF ev cX3_areJoined 51 ([v0, v1, v2, v3], []) st h else exF ev cX3_areJoined 49 ([v0, v1, v2, v3], []) st h := exF_b (i := (i_if1 (fun x => x = 0) 51 49)) rfl rfl
theorem eX3_areJoined_49 {ev : xV} {v0 v1 v2 v3 : Option Value} {st : List Value} {h : xH} : exF ev cX3_areJoined 49 ([v0, v1, v2, v3], []) st h = exF ev cX3_areJoined 50 ([v0, v1, v2, v3], []) (.int (nI 1) :: st) h := exF_j (i := (i_const (.int (nI 1)) 50)) rfl rfl
theorem eX3_areJoined_50 {ev : xV} {v0 v1 v2 v3 : Option Value} {x : Int32} {h : xH} : exF ev cX3_areJoined 50 ([v0, v1, v2, v3], []) [.int x] h = if x = nI 0 ∨ x = nI 1 then some (.inl (some (.int x)), h) else none := exF_z (i := (i_zret)) rfl rfl
theorem eX3_areJoined_50b0 {ev : xV} {v0 v1 v2 v3 : Option Value} {h : xH} : exF ev cX3_areJoined 50 ([v0, v1, v2, v3], []) [.int (nI 0)] h = some (.inl (some (.int (nI 0))), h) := exF_r (i := (i_zret)) rfl i_zret_0
theorem eX3_areJoined_50b1 {ev : xV} {v0 v1 v2 v3 : Option Value} {h : xH} : exF ev cX3_areJoined 50 ([v0, v1, v2, v3], []) [.int (nI 1)] h = some (.inl (some (.int (nI 1))), h) := exF_r (i := (i_zret)) rfl i_zret_1
theorem eX3_areJoined_50b {ev : xV} {v0 v1 v2 v3 : Option Value} {b : Bool} {h : xH} : exF ev cX3_areJoined 50 ([v0, v1, v2, v3], []) [.int (bI b)] h = some (.inl (some (.int (bI b))), h) := exF_r (i := (i_zret)) rfl (i_zret_b b)
theorem eX3_areJoined_51 {ev : xV} {v0 v1 v2 : Option Value} {x : Int32} {st : List Value} {h : xH} : exF ev cX3_areJoined 51 ([v0, v1, v2, some (.int x)], []) st h = exF ev cX3_areJoined 54 ([v0, v1, v2, some (.int (x + (nI 1)))], []) st h := exF_j (i := (i_iinc 3 (nI 1) 54)) rfl rfl
theorem eX3_areJoined_54 {ev : xV} {v0 v1 v2 v3 : Option Value} {st : List Value} {h : xH} : exF ev cX3_areJoined 54 ([v0, v1, v2, v3], []) st h = exF ev cX3_areJoined 2 ([v0, v1, v2, v3], []) st h := exF_j (i := (i_goto 2)) rfl rfl
theorem eX3_areJoined_57 {ev : xV} {v0 v1 v2 v3 : Option Value} {st : List Value} {h : xH} : exF ev cX3_areJoined 57 ([v0, v1, v2, v3], []) st h = exF ev cX3_areJoined 58 ([v0, v1, v2, v3], []) (.int (nI 0) :: st) h := exF_j (i := (i_const (.int (nI 0)) 58)) rfl rfl
theorem eX3_areJoined_58 {ev : xV} {v0 v1 v2 v3 : Option Value} {x : Int32} {h : xH} : exF ev cX3_areJoined 58 ([v0, v1, v2, v3], []) [.int x] h = if x = nI 0 ∨ x = nI 1 then some (.inl (some (.int x)), h) else none := exF_z (i := (i_zret)) rfl rfl
theorem eX3_areJoined_58b0 {ev : xV} {v0 v1 v2 v3 : Option Value} {h : xH} : exF ev cX3_areJoined 58 ([v0, v1, v2, v3], []) [.int (nI 0)] h = some (.inl (some (.int (nI 0))), h) := exF_r (i := (i_zret)) rfl i_zret_0
theorem eX3_areJoined_58b1 {ev : xV} {v0 v1 v2 v3 : Option Value} {h : xH} : exF ev cX3_areJoined 58 ([v0, v1, v2, v3], []) [.int (nI 1)] h = some (.inl (some (.int (nI 1))), h) := exF_r (i := (i_zret)) rfl i_zret_1
theorem eX3_areJoined_58b {ev : xV} {v0 v1 v2 v3 : Option Value} {b : Bool} {h : xH} : exF ev cX3_areJoined 58 ([v0, v1, v2, v3], []) [.int (bI b)] h = some (.inl (some (.int (bI b))), h) := exF_r (i := (i_zret)) rfl (i_zret_b b)
noncomputable def cX3_damp : xC := [(0, i_aload 0 1),
  (1, i_getf 2 5 4),
  (4, i_if1 (fun x => ¬ x = 0) 11 7),
  (7, i_const (.int (nI 0)) 8),
  (8, i_goto 22),
  (11, i_aload 0 12),
  (12, i_getf 2 4 15),
  (15, i_iload 1 16),
  (16, i_aload 0 17),
  (17, i_getf 2 5 20),
  (20, i_iz (fun x y => x - x / y * y) 21),
  (21, i_ai 0 22),
  (22, i_iret)]
theorem eX3_damp_0 {ev : xV} {v1 : Option Value} {x : Nat} {st : List Value} {h : xH} : exF ev cX3_damp 0 ([some (.ref x), v1], []) st h = exF ev cX3_damp 1 ([some (.ref x), v1], []) (.ref x :: st) h := exF_j (i := (i_aload 0 1)) rfl rfl
theorem eX3_damp_1 {ev : xV} {v0 v1 : Option Value} {a : Nat} {st : List Value} {h : xH} : exF ev cX3_damp 1 ([v0, v1], []) (.ref a :: st) h = xO (xgf h a 2 5) (fun v => exF ev cX3_damp 4 ([v0, v1], []) (v :: st) h) := exF_o (i := (i_getf 2 5 4)) rfl rfl
theorem eX3_damp_4 {ev : xV} {v0 v1 : Option Value} {x : Int32} {st : List Value} {h : xH} : exF ev cX3_damp 4 ([v0, v1], []) (.int x :: st) h = if ¬ x = 0 then exF ev cX3_damp 11 ([v0, v1], []) st h else exF ev cX3_damp 7 ([v0, v1], []) st h := exF_b (i := (i_if1 (fun x => ¬ x = 0) 11 7)) rfl rfl
theorem eX3_damp_7 {ev : xV} {v0 v1 : Option Value} {st : List Value} {h : xH} : exF ev cX3_damp 7 ([v0, v1], []) st h = exF ev cX3_damp 8 ([v0, v1], []) (.int (nI 0) :: st) h := exF_j (i := (i_const (.int (nI 0)) 8)) rfl rfl
theorem eX3_damp_8 {ev : xV} {v0 v1 : Option Value} {st : List Value} {h : xH} : exF ev cX3_damp 8 ([v0, v1], []) st h = exF ev cX3_damp 22 ([v0, v1], []) st h := exF_j (i := (i_goto 22)) rfl rfl
theorem eX3_damp_11 {ev : xV} {v1 : Option Value} {x : Nat} {st : List Value} {h : xH} : exF ev cX3_damp 11 ([some (.ref x), v1], []) st h = exF ev cX3_damp 12 ([some (.ref x), v1], []) (.ref x :: st) h := exF_j (i := (i_aload 0 12)) rfl rfl
theorem eX3_damp_12 {ev : xV} {v0 v1 : Option Value} {a : Nat} {st : List Value} {h : xH} : exF ev cX3_damp 12 ([v0, v1], []) (.ref a :: st) h = xO (xgf h a 2 4) (fun v => exF ev cX3_damp 15 ([v0, v1], []) (v :: st) h) := exF_o (i := (i_getf 2 4 15)) rfl rfl
theorem eX3_damp_15 {ev : xV} {v0 : Option Value} {x : Int32} {st : List Value} {h : xH} : exF ev cX3_damp 15 ([v0, some (.int x)], []) st h = exF ev cX3_damp 16 ([v0, some (.int x)], []) (.int x :: st) h := exF_j (i := (i_iload 1 16)) rfl rfl
theorem eX3_damp_16 {ev : xV} {v1 : Option Value} {x : Nat} {st : List Value} {h : xH} : exF ev cX3_damp 16 ([some (.ref x), v1], []) st h = exF ev cX3_damp 17 ([some (.ref x), v1], []) (.ref x :: st) h := exF_j (i := (i_aload 0 17)) rfl rfl
theorem eX3_damp_17 {ev : xV} {v0 v1 : Option Value} {a : Nat} {st : List Value} {h : xH} : exF ev cX3_damp 17 ([v0, v1], []) (.ref a :: st) h = xO (xgf h a 2 5) (fun v => exF ev cX3_damp 20 ([v0, v1], []) (v :: st) h) := exF_o (i := (i_getf 2 5 20)) rfl rfl
theorem eX3_damp_20 {ev : xV} {v0 v1 : Option Value} {x y : Int32} {st : List Value} {h : xH} : exF ev cX3_damp 20 ([v0, v1], []) (.int y :: .int x :: st) h = xO (if y = 0 then none else some (x - x / y * y)) (fun v => exF ev cX3_damp 21 ([v0, v1], []) (.int v :: st) h) := exF_o (i := (i_iz (fun x y => x - x / y * y) 21)) rfl rfl
theorem eX3_damp_21 {ev : xV} {v0 v1 : Option Value} {i : Int32} {a : Nat} {st : List Value} {h : xH} : exF ev cX3_damp 21 ([v0, v1], []) (.int i :: .ref a :: st) h = xO (xai h 0 a i) (fun v => exF ev cX3_damp 22 ([v0, v1], []) (.int v :: st) h) := exF_o (i := (i_ai 0 22)) rfl rfl
theorem eX3_damp_22 {ev : xV} {v0 v1 : Option Value} {x : Int32} {h : xH} : exF ev cX3_damp 22 ([v0, v1], []) [.int x] h = some (.inl (some (.int x)), h) := exF_r (i := (i_iret)) rfl rfl
noncomputable def cX4_init : xC := [(0, i_aload 0 1),
  (1, i_oi 4),
  (4, i_aload 0 5),
  (5, i_const (.int (nI 8)) 7),
  (7, i_newa 0 (.inl (fun _ => 0)) 9),
  (9, i_putfr 3 0 12),
  (12, i_aload 0 13),
  (13, i_const (.int (nI 8)) 15),
  (15, i_newa 0 (.inl (fun _ => 0)) 17),
  (17, i_putfr 3 1 20),
  (20, i_aload 0 21),
  (21, i_const (.int (nI 5)) 22),
  (22, i_newa 0 (.inl (fun _ => 0)) 24),
  (24, i_putfr 3 2 27),
  (27, i_vret)]
theorem eX4_init_0 {ev : xV} {x : Nat} {st : List Value} {h : xH} : exF ev cX4_init 0 ([some (.ref x)], []) st h = exF ev cX4_init 1 ([some (.ref x)], []) (.ref x :: st) h := exF_j (i := (i_aload 0 1)) rfl rfl
theorem eX4_init_1 {ev : xV} {v0 : Option Value} {a : Nat} (hx : 64 ≤ a) {h : xH} : exF ev cX4_init 1 ([v0], []) [.ref a] h = exF ev cX4_init 4 ([v0], []) [] h := exF_j (i := (i_oi 4)) rfl (if_pos ⟨hx, rfl⟩)
theorem eX4_init_4 {ev : xV} {x : Nat} {st : List Value} {h : xH} : exF ev cX4_init 4 ([some (.ref x)], []) st h = exF ev cX4_init 5 ([some (.ref x)], []) (.ref x :: st) h := exF_j (i := (i_aload 0 5)) rfl rfl
theorem eX4_init_5 {ev : xV} {v0 : Option Value} {st : List Value} {h : xH} : exF ev cX4_init 5 ([v0], []) st h = exF ev cX4_init 7 ([v0], []) (.int (nI 8) :: st) h := exF_j (i := (i_const (.int (nI 8)) 7)) rfl rfl
theorem eX4_init_7 {ev : xV} {v0 : Option Value} {x : Int32} {st : List Value} {h : xH} : exF ev cX4_init 7 ([v0], []) (.int x :: st) h = xO (xcnt x) (fun k => exF ev cX4_init 9 ([v0], []) (.ref h.2.1 :: st) (xnew h (.inl (0, k, .inl (fun _ => 0))) k)) := exF_o (i := (i_newa 0 (.inl (fun _ => 0)) 9)) rfl rfl
theorem eX4_init_9 {ev : xV} {v0 : Option Value} {x a : Nat} {st : List Value} {h : xH} : exF ev cX4_init 9 ([v0], []) (.ref x :: .ref a :: st) h = xO (xpf h a 3 0 (.ref x)) (fun h => exF ev cX4_init 12 ([v0], []) st h) := exF_o (i := (i_putfr 3 0 12)) rfl rfl
theorem eX4_init_9n {ev : xV} {v0 : Option Value} {a : Nat} {st : List Value} {h : xH} : exF ev cX4_init 9 ([v0], []) (.null :: .ref a :: st) h = xO (xpf h a 3 0 .null) (fun h => exF ev cX4_init 12 ([v0], []) st h) := exF_o (i := (i_putfr 3 0 12)) rfl rfl
theorem eX4_init_12 {ev : xV} {x : Nat} {st : List Value} {h : xH} : exF ev cX4_init 12 ([some (.ref x)], []) st h = exF ev cX4_init 13 ([some (.ref x)], []) (.ref x :: st) h := exF_j (i := (i_aload 0 13)) rfl rfl
theorem eX4_init_13 {ev : xV} {v0 : Option Value} {st : List Value} {h : xH} : exF ev cX4_init 13 ([v0], []) st h = exF ev cX4_init 15 ([v0], []) (.int (nI 8) :: st) h := exF_j (i := (i_const (.int (nI 8)) 15)) rfl rfl
theorem eX4_init_15 {ev : xV} {v0 : Option Value} {x : Int32} {st : List Value} {h : xH} : exF ev cX4_init 15 ([v0], []) (.int x :: st) h = xO (xcnt x) (fun k => exF ev cX4_init 17 ([v0], []) (.ref h.2.1 :: st) (xnew h (.inl (0, k, .inl (fun _ => 0))) k)) := exF_o (i := (i_newa 0 (.inl (fun _ => 0)) 17)) rfl rfl
theorem eX4_init_17 {ev : xV} {v0 : Option Value} {x a : Nat} {st : List Value} {h : xH} : exF ev cX4_init 17 ([v0], []) (.ref x :: .ref a :: st) h = xO (xpf h a 3 1 (.ref x)) (fun h => exF ev cX4_init 20 ([v0], []) st h) := exF_o (i := (i_putfr 3 1 20)) rfl rfl
theorem eX4_init_17n {ev : xV} {v0 : Option Value} {a : Nat} {st : List Value} {h : xH} : exF ev cX4_init 17 ([v0], []) (.null :: .ref a :: st) h = xO (xpf h a 3 1 .null) (fun h => exF ev cX4_init 20 ([v0], []) st h) := exF_o (i := (i_putfr 3 1 20)) rfl rfl
theorem eX4_init_20 {ev : xV} {x : Nat} {st : List Value} {h : xH} : exF ev cX4_init 20 ([some (.ref x)], []) st h = exF ev cX4_init 21 ([some (.ref x)], []) (.ref x :: st) h := exF_j (i := (i_aload 0 21)) rfl rfl
theorem eX4_init_21 {ev : xV} {v0 : Option Value} {st : List Value} {h : xH} : exF ev cX4_init 21 ([v0], []) st h = exF ev cX4_init 22 ([v0], []) (.int (nI 5) :: st) h := exF_j (i := (i_const (.int (nI 5)) 22)) rfl rfl
theorem eX4_init_22 {ev : xV} {v0 : Option Value} {x : Int32} {st : List Value} {h : xH} : exF ev cX4_init 22 ([v0], []) (.int x :: st) h = xO (xcnt x) (fun k => exF ev cX4_init 24 ([v0], []) (.ref h.2.1 :: st) (xnew h (.inl (0, k, .inl (fun _ => 0))) k)) := exF_o (i := (i_newa 0 (.inl (fun _ => 0)) 24)) rfl rfl
theorem eX4_init_24 {ev : xV} {v0 : Option Value} {x a : Nat} {st : List Value} {h : xH} : exF ev cX4_init 24 ([v0], []) (.ref x :: .ref a :: st) h = xO (xpf h a 3 2 (.ref x)) (fun h => exF ev cX4_init 27 ([v0], []) st h) := exF_o (i := (i_putfr 3 2 27)) rfl rfl
theorem eX4_init_24n {ev : xV} {v0 : Option Value} {a : Nat} {st : List Value} {h : xH} : exF ev cX4_init 24 ([v0], []) (.null :: .ref a :: st) h = xO (xpf h a 3 2 .null) (fun h => exF ev cX4_init 27 ([v0], []) st h) := exF_o (i := (i_putfr 3 2 27)) rfl rfl
theorem eX4_init_27 {ev : xV} {v0 : Option Value} {h : xH} : exF ev cX4_init 27 ([v0], []) [] h = some (.inl none, h) := exF_r (i := (i_vret)) rfl rfl
noncomputable def cX4_begin : xC := [(0, i_const (.int (nI 0)) 1),
  (1, i_istore 2 2),
  (2, i_iload 2 3),
  (3, i_const (.int (nI 8)) 5),
  (5, i_if2 (fun x y => y ≤ x) 56 8),
  (8, i_aload 0 9),
  (9, i_getf 3 0 12),
  (12, i_iload 2 13),
  (13, i_const (.int (nI 0)) 14),
  (14, i_si (fun v => v) 0 15),
  (15, i_aload 0 16),
  (16, i_getf 3 1 19),
  (19, i_iload 2 20),
  (20, i_iload 2 21),
  (21, i_aload 1 22),
  (22, i_getf 2 2 25),
  (25, i_cv 21 32 0 28),
  (28, i_if2 (fun x y => y ≤ x) 48 31),
  (31, i_aload 1 32),
  (32, i_getf 2 2 35),
  (35, i_iload 2 36),
  (36, i_cv 21 33 1 39),
  (39, i_cast [6] 42),
  (42, i_getf 6 3 45),
  (45, i_goto 49),
  (48, i_const (.int (nI 0)) 49),
  (49, i_si (fun v => v) 0 50),
  (50, i_iinc 2 (nI 1) 53),
  (53, i_goto 2),
  (56, i_aload 1 57),
  (57, i_getf 2 3 60),
  (60, i_aload 0 61),
  (61, i_getf 3 2 64),
  (64, i_csv 88 2 67),
  (67, i_aload 0 68),
  (68, i_const (.int (nI 0)) 69),
  (69, i_putfi 3 3 72),
  (72, i_aload 0 73),
  (73, i_const (.int (nI 0)) 74),
  (74, i_putfi 3 4 77),
  (77, i_vret)]
theorem eX4_begin_0 {ev : xV} {v0 v1 v2 : Option Value} {st : List Value} {h : xH} : exF ev cX4_begin 0 ([v0, v1, v2], []) st h = exF ev cX4_begin 1 ([v0, v1, v2], []) (.int (nI 0) :: st) h := exF_j (i := (i_const (.int (nI 0)) 1)) rfl rfl
theorem eX4_begin_1 {ev : xV} {v0 v1 v2 : Option Value} {x : Int32} {st : List Value} {h : xH} : exF ev cX4_begin 1 ([v0, v1, v2], []) (.int x :: st) h = exF ev cX4_begin 2 ([v0, v1, some (.int x)], []) st h := exF_j (i := (i_istore 2 2)) rfl rfl
theorem eX4_begin_2 {ev : xV} {v0 v1 : Option Value} {x : Int32} {st : List Value} {h : xH} : exF ev cX4_begin 2 ([v0, v1, some (.int x)], []) st h = exF ev cX4_begin 3 ([v0, v1, some (.int x)], []) (.int x :: st) h := exF_j (i := (i_iload 2 3)) rfl rfl
theorem eX4_begin_3 {ev : xV} {v0 v1 v2 : Option Value} {st : List Value} {h : xH} : exF ev cX4_begin 3 ([v0, v1, v2], []) st h = exF ev cX4_begin 5 ([v0, v1, v2], []) (.int (nI 8) :: st) h := exF_j (i := (i_const (.int (nI 8)) 5)) rfl rfl
theorem eX4_begin_5 {ev : xV} {v0 v1 v2 : Option Value} {x y : Int32} {st : List Value} {h : xH} : exF ev cX4_begin 5 ([v0, v1, v2], []) (.int y :: .int x :: st) h = if y ≤ x then exF ev cX4_begin 56 ([v0, v1, v2], []) st h else exF ev cX4_begin 8 ([v0, v1, v2], []) st h := exF_b (i := (i_if2 (fun x y => y ≤ x) 56 8)) rfl rfl
theorem eX4_begin_8 {ev : xV} {v1 v2 : Option Value} {x : Nat} {st : List Value} {h : xH} : exF ev cX4_begin 8 ([some (.ref x), v1, v2], []) st h = exF ev cX4_begin 9 ([some (.ref x), v1, v2], []) (.ref x :: st) h := exF_j (i := (i_aload 0 9)) rfl rfl
theorem eX4_begin_9 {ev : xV} {v0 v1 v2 : Option Value} {a : Nat} {st : List Value} {h : xH} : exF ev cX4_begin 9 ([v0, v1, v2], []) (.ref a :: st) h = xO (xgf h a 3 0) (fun v => exF ev cX4_begin 12 ([v0, v1, v2], []) (v :: st) h) := exF_o (i := (i_getf 3 0 12)) rfl rfl
theorem eX4_begin_12 {ev : xV} {v0 v1 : Option Value} {x : Int32} {st : List Value} {h : xH} : exF ev cX4_begin 12 ([v0, v1, some (.int x)], []) st h = exF ev cX4_begin 13 ([v0, v1, some (.int x)], []) (.int x :: st) h := exF_j (i := (i_iload 2 13)) rfl rfl
theorem eX4_begin_13 {ev : xV} {v0 v1 v2 : Option Value} {st : List Value} {h : xH} : exF ev cX4_begin 13 ([v0, v1, v2], []) st h = exF ev cX4_begin 14 ([v0, v1, v2], []) (.int (nI 0) :: st) h := exF_j (i := (i_const (.int (nI 0)) 14)) rfl rfl
theorem eX4_begin_14 {ev : xV} {v0 v1 v2 : Option Value} {v i : Int32} {a : Nat} {st : List Value} {h : xH} : exF ev cX4_begin 14 ([v0, v1, v2], []) (.int v :: .int i :: .ref a :: st) h = xO (xsi h 0 a i v) (fun h => exF ev cX4_begin 15 ([v0, v1, v2], []) st h) := exF_o (i := (i_si (fun v => v) 0 15)) rfl rfl
theorem eX4_begin_15 {ev : xV} {v1 v2 : Option Value} {x : Nat} {st : List Value} {h : xH} : exF ev cX4_begin 15 ([some (.ref x), v1, v2], []) st h = exF ev cX4_begin 16 ([some (.ref x), v1, v2], []) (.ref x :: st) h := exF_j (i := (i_aload 0 16)) rfl rfl
theorem eX4_begin_16 {ev : xV} {v0 v1 v2 : Option Value} {a : Nat} {st : List Value} {h : xH} : exF ev cX4_begin 16 ([v0, v1, v2], []) (.ref a :: st) h = xO (xgf h a 3 1) (fun v => exF ev cX4_begin 19 ([v0, v1, v2], []) (v :: st) h) := exF_o (i := (i_getf 3 1 19)) rfl rfl
theorem eX4_begin_19 {ev : xV} {v0 v1 : Option Value} {x : Int32} {st : List Value} {h : xH} : exF ev cX4_begin 19 ([v0, v1, some (.int x)], []) st h = exF ev cX4_begin 20 ([v0, v1, some (.int x)], []) (.int x :: st) h := exF_j (i := (i_iload 2 20)) rfl rfl
theorem eX4_begin_20 {ev : xV} {v0 v1 : Option Value} {x : Int32} {st : List Value} {h : xH} : exF ev cX4_begin 20 ([v0, v1, some (.int x)], []) st h = exF ev cX4_begin 21 ([v0, v1, some (.int x)], []) (.int x :: st) h := exF_j (i := (i_iload 2 21)) rfl rfl
theorem eX4_begin_21 {ev : xV} {v0 v2 : Option Value} {x : Nat} {st : List Value} {h : xH} : exF ev cX4_begin 21 ([v0, some (.ref x), v2], []) st h = exF ev cX4_begin 22 ([v0, some (.ref x), v2], []) (.ref x :: st) h := exF_j (i := (i_aload 1 22)) rfl rfl
theorem eX4_begin_21n {ev : xV} {v0 v2 : Option Value} {st : List Value} {h : xH} : exF ev cX4_begin 21 ([v0, some .null, v2], []) st h = exF ev cX4_begin 22 ([v0, some .null, v2], []) (.null :: st) h := exF_j (i := (i_aload 1 22)) rfl rfl
theorem eX4_begin_22 {ev : xV} {v0 v1 v2 : Option Value} {a : Nat} {st : List Value} {h : xH} : exF ev cX4_begin 22 ([v0, v1, v2], []) (.ref a :: st) h = xO (xgf h a 2 2) (fun v => exF ev cX4_begin 25 ([v0, v1, v2], []) (v :: st) h) := exF_o (i := (i_getf 2 2 25)) rfl rfl
theorem eX4_begin_25 {ev : xV} {v0 v1 v2 : Option Value} {r0 : Value} {r1 : Value} {r2 : Value} {a : Nat} {h : xH} : exF ev cX4_begin 25 ([v0, v1, v2], []) [.ref a, r0, r1, r2] h = xO (xck h a 21) (fun _ => xB (ev 32 [.ref a] h) (fun v h => exF ev cX4_begin 28 ([v0, v1, v2], []) [v, r0, r1, r2] h)) := exF_cd (i := (i_cv 21 32 0 28)) rfl rfl
theorem eX4_begin_28 {ev : xV} {v0 v1 v2 : Option Value} {x y : Int32} {st : List Value} {h : xH} : exF ev cX4_begin 28 ([v0, v1, v2], []) (.int y :: .int x :: st) h = if y ≤ x then exF ev cX4_begin 48 ([v0, v1, v2], []) st h else exF ev cX4_begin 31 ([v0, v1, v2], []) st h := exF_b (i := (i_if2 (fun x y => y ≤ x) 48 31)) rfl rfl
theorem eX4_begin_31 {ev : xV} {v0 v2 : Option Value} {x : Nat} {st : List Value} {h : xH} : exF ev cX4_begin 31 ([v0, some (.ref x), v2], []) st h = exF ev cX4_begin 32 ([v0, some (.ref x), v2], []) (.ref x :: st) h := exF_j (i := (i_aload 1 32)) rfl rfl
theorem eX4_begin_31n {ev : xV} {v0 v2 : Option Value} {st : List Value} {h : xH} : exF ev cX4_begin 31 ([v0, some .null, v2], []) st h = exF ev cX4_begin 32 ([v0, some .null, v2], []) (.null :: st) h := exF_j (i := (i_aload 1 32)) rfl rfl
theorem eX4_begin_32 {ev : xV} {v0 v1 v2 : Option Value} {a : Nat} {st : List Value} {h : xH} : exF ev cX4_begin 32 ([v0, v1, v2], []) (.ref a :: st) h = xO (xgf h a 2 2) (fun v => exF ev cX4_begin 35 ([v0, v1, v2], []) (v :: st) h) := exF_o (i := (i_getf 2 2 35)) rfl rfl
theorem eX4_begin_35 {ev : xV} {v0 v1 : Option Value} {x : Int32} {st : List Value} {h : xH} : exF ev cX4_begin 35 ([v0, v1, some (.int x)], []) st h = exF ev cX4_begin 36 ([v0, v1, some (.int x)], []) (.int x :: st) h := exF_j (i := (i_iload 2 36)) rfl rfl
theorem eX4_begin_36 {ev : xV} {v0 v1 v2 : Option Value} {a0 : Value} {r0 : Value} {r1 : Value} {a : Nat} {h : xH} : exF ev cX4_begin 36 ([v0, v1, v2], []) [a0, .ref a, r0, r1] h = xO (xck h a 21) (fun _ => xB (ev 33 [.ref a, a0] h) (fun v h => exF ev cX4_begin 39 ([v0, v1, v2], []) [v, r0, r1] h)) := exF_cd (i := (i_cv 21 33 1 39)) rfl rfl
theorem eX4_begin_39 {ev : xV} {v0 v1 v2 : Option Value} {a : Nat} {st : List Value} {h : xH} : exF ev cX4_begin 39 ([v0, v1, v2], []) (.ref a :: st) h = xO (xckc h [6] a) (fun _ => exF ev cX4_begin 42 ([v0, v1, v2], []) (.ref a :: st) h) := exF_o (i := (i_cast [6] 42)) rfl rfl
theorem eX4_begin_42 {ev : xV} {v0 v1 v2 : Option Value} {a : Nat} {st : List Value} {h : xH} : exF ev cX4_begin 42 ([v0, v1, v2], []) (.ref a :: st) h = xO (xgf h a 6 3) (fun v => exF ev cX4_begin 45 ([v0, v1, v2], []) (v :: st) h) := exF_o (i := (i_getf 6 3 45)) rfl rfl
theorem eX4_begin_45 {ev : xV} {v0 v1 v2 : Option Value} {st : List Value} {h : xH} : exF ev cX4_begin 45 ([v0, v1, v2], []) st h = exF ev cX4_begin 49 ([v0, v1, v2], []) st h := exF_j (i := (i_goto 49)) rfl rfl
theorem eX4_begin_48 {ev : xV} {v0 v1 v2 : Option Value} {st : List Value} {h : xH} : exF ev cX4_begin 48 ([v0, v1, v2], []) st h = exF ev cX4_begin 49 ([v0, v1, v2], []) (.int (nI 0) :: st) h := exF_j (i := (i_const (.int (nI 0)) 49)) rfl rfl
theorem eX4_begin_49 {ev : xV} {v0 v1 v2 : Option Value} {v i : Int32} {a : Nat} {st : List Value} {h : xH} : exF ev cX4_begin 49 ([v0, v1, v2], []) (.int v :: .int i :: .ref a :: st) h = xO (xsi h 0 a i v) (fun h => exF ev cX4_begin 50 ([v0, v1, v2], []) st h) := exF_o (i := (i_si (fun v => v) 0 50)) rfl rfl
theorem eX4_begin_50 {ev : xV} {v0 v1 : Option Value} {x : Int32} {st : List Value} {h : xH} : exF ev cX4_begin 50 ([v0, v1, some (.int x)], []) st h = exF ev cX4_begin 53 ([v0, v1, some (.int (x + (nI 1)))], []) st h := exF_j (i := (i_iinc 2 (nI 1) 53)) rfl rfl
theorem eX4_begin_53 {ev : xV} {v0 v1 v2 : Option Value} {st : List Value} {h : xH} : exF ev cX4_begin 53 ([v0, v1, v2], []) st h = exF ev cX4_begin 2 ([v0, v1, v2], []) st h := exF_j (i := (i_goto 2)) rfl rfl
theorem eX4_begin_56 {ev : xV} {v0 v2 : Option Value} {x : Nat} {st : List Value} {h : xH} : exF ev cX4_begin 56 ([v0, some (.ref x), v2], []) st h = exF ev cX4_begin 57 ([v0, some (.ref x), v2], []) (.ref x :: st) h := exF_j (i := (i_aload 1 57)) rfl rfl
theorem eX4_begin_56n {ev : xV} {v0 v2 : Option Value} {st : List Value} {h : xH} : exF ev cX4_begin 56 ([v0, some .null, v2], []) st h = exF ev cX4_begin 57 ([v0, some .null, v2], []) (.null :: st) h := exF_j (i := (i_aload 1 57)) rfl rfl
theorem eX4_begin_57 {ev : xV} {v0 v1 v2 : Option Value} {a : Nat} {st : List Value} {h : xH} : exF ev cX4_begin 57 ([v0, v1, v2], []) (.ref a :: st) h = xO (xgf h a 2 3) (fun v => exF ev cX4_begin 60 ([v0, v1, v2], []) (v :: st) h) := exF_o (i := (i_getf 2 3 60)) rfl rfl
theorem eX4_begin_60 {ev : xV} {v1 v2 : Option Value} {x : Nat} {st : List Value} {h : xH} : exF ev cX4_begin 60 ([some (.ref x), v1, v2], []) st h = exF ev cX4_begin 61 ([some (.ref x), v1, v2], []) (.ref x :: st) h := exF_j (i := (i_aload 0 61)) rfl rfl
theorem eX4_begin_61 {ev : xV} {v0 v1 v2 : Option Value} {a : Nat} {st : List Value} {h : xH} : exF ev cX4_begin 61 ([v0, v1, v2], []) (.ref a :: st) h = xO (xgf h a 3 2) (fun v => exF ev cX4_begin 64 ([v0, v1, v2], []) (v :: st) h) := exF_o (i := (i_getf 3 2 64)) rfl rfl
theorem eX4_begin_64 {ev : xV} {v0 v1 v2 : Option Value} {a0 : Value} {a1 : Value} {h : xH} : exF ev cX4_begin 64 ([v0, v1, v2], []) [a1, a0] h = xBv (ev 88 [a0, a1] h) (fun h => exF ev cX4_begin 67 ([v0, v1, v2], []) [] h) := exF_cv (i := (i_csv 88 2 67)) rfl rfl
theorem eX4_begin_67 {ev : xV} {v1 v2 : Option Value} {x : Nat} {st : List Value} {h : xH} : exF ev cX4_begin 67 ([some (.ref x), v1, v2], []) st h = exF ev cX4_begin 68 ([some (.ref x), v1, v2], []) (.ref x :: st) h := exF_j (i := (i_aload 0 68)) rfl rfl
theorem eX4_begin_68 {ev : xV} {v0 v1 v2 : Option Value} {st : List Value} {h : xH} : exF ev cX4_begin 68 ([v0, v1, v2], []) st h = exF ev cX4_begin 69 ([v0, v1, v2], []) (.int (nI 0) :: st) h := exF_j (i := (i_const (.int (nI 0)) 69)) rfl rfl
theorem eX4_begin_69 {ev : xV} {v0 v1 v2 : Option Value} {x : Int32} {a : Nat} {st : List Value} {h : xH} : exF ev cX4_begin 69 ([v0, v1, v2], []) (.int x :: .ref a :: st) h = xO (xpf h a 3 3 (.int x)) (fun h => exF ev cX4_begin 72 ([v0, v1, v2], []) st h) := exF_o (i := (i_putfi 3 3 72)) rfl rfl
theorem eX4_begin_72 {ev : xV} {v1 v2 : Option Value} {x : Nat} {st : List Value} {h : xH} : exF ev cX4_begin 72 ([some (.ref x), v1, v2], []) st h = exF ev cX4_begin 73 ([some (.ref x), v1, v2], []) (.ref x :: st) h := exF_j (i := (i_aload 0 73)) rfl rfl
theorem eX4_begin_73 {ev : xV} {v0 v1 v2 : Option Value} {st : List Value} {h : xH} : exF ev cX4_begin 73 ([v0, v1, v2], []) st h = exF ev cX4_begin 74 ([v0, v1, v2], []) (.int (nI 0) :: st) h := exF_j (i := (i_const (.int (nI 0)) 74)) rfl rfl
theorem eX4_begin_74 {ev : xV} {v0 v1 v2 : Option Value} {x : Int32} {a : Nat} {st : List Value} {h : xH} : exF ev cX4_begin 74 ([v0, v1, v2], []) (.int x :: .ref a :: st) h = xO (xpf h a 3 4 (.int x)) (fun h => exF ev cX4_begin 77 ([v0, v1, v2], []) st h) := exF_o (i := (i_putfi 3 4 77)) rfl rfl
theorem eX4_begin_77 {ev : xV} {v0 v1 v2 : Option Value} {h : xH} : exF ev cX4_begin 77 ([v0, v1, v2], []) [] h = some (.inl none, h) := exF_r (i := (i_vret)) rfl rfl
noncomputable def cX4_sticks : xC := [(0, i_aload 0 1),
  (1, i_getf 3 0 4),
  (4, i_iload 1 5),
  (5, i_ai 0 6),
  (6, i_aload 0 7),
  (7, i_getf 3 1 10),
  (10, i_iload 1 11),
  (11, i_ai 0 12),
  (12, i_if2 (fun x y => x ≤ y) 30 15),
  (15, i_aload 0 16),
  (16, i_getf 3 3 19),
  (19, i_iload 1 20),
  (20, i_cs 98 2 23),
  (23, i_if1 (fun x => ¬ x = 0) 30 26),
  (26, i_const (.int (nI 1)) 27),
  (27, i_goto 31),
  (30, i_const (.int (nI 0)) 31),
  (31, i_zret)]
theorem eX4_sticks_0 {ev : xV} {v1 : Option Value} {x : Nat} {st : List Value} {h : xH} : exF ev cX4_sticks 0 ([some (.ref x), v1], []) st h = exF ev cX4_sticks 1 ([some (.ref x), v1], []) (.ref x :: st) h := exF_j (i := (i_aload 0 1)) rfl rfl
theorem eX4_sticks_1 {ev : xV} {v0 v1 : Option Value} {a : Nat} {st : List Value} {h : xH} : exF ev cX4_sticks 1 ([v0, v1], []) (.ref a :: st) h = xO (xgf h a 3 0) (fun v => exF ev cX4_sticks 4 ([v0, v1], []) (v :: st) h) := exF_o (i := (i_getf 3 0 4)) rfl rfl
theorem eX4_sticks_4 {ev : xV} {v0 : Option Value} {x : Int32} {st : List Value} {h : xH} : exF ev cX4_sticks 4 ([v0, some (.int x)], []) st h = exF ev cX4_sticks 5 ([v0, some (.int x)], []) (.int x :: st) h := exF_j (i := (i_iload 1 5)) rfl rfl
theorem eX4_sticks_5 {ev : xV} {v0 v1 : Option Value} {i : Int32} {a : Nat} {st : List Value} {h : xH} : exF ev cX4_sticks 5 ([v0, v1], []) (.int i :: .ref a :: st) h = xO (xai h 0 a i) (fun v => exF ev cX4_sticks 6 ([v0, v1], []) (.int v :: st) h) := exF_o (i := (i_ai 0 6)) rfl rfl
theorem eX4_sticks_6 {ev : xV} {v1 : Option Value} {x : Nat} {st : List Value} {h : xH} : exF ev cX4_sticks 6 ([some (.ref x), v1], []) st h = exF ev cX4_sticks 7 ([some (.ref x), v1], []) (.ref x :: st) h := exF_j (i := (i_aload 0 7)) rfl rfl
theorem eX4_sticks_7 {ev : xV} {v0 v1 : Option Value} {a : Nat} {st : List Value} {h : xH} : exF ev cX4_sticks 7 ([v0, v1], []) (.ref a :: st) h = xO (xgf h a 3 1) (fun v => exF ev cX4_sticks 10 ([v0, v1], []) (v :: st) h) := exF_o (i := (i_getf 3 1 10)) rfl rfl
theorem eX4_sticks_10 {ev : xV} {v0 : Option Value} {x : Int32} {st : List Value} {h : xH} : exF ev cX4_sticks 10 ([v0, some (.int x)], []) st h = exF ev cX4_sticks 11 ([v0, some (.int x)], []) (.int x :: st) h := exF_j (i := (i_iload 1 11)) rfl rfl
theorem eX4_sticks_11 {ev : xV} {v0 v1 : Option Value} {i : Int32} {a : Nat} {st : List Value} {h : xH} : exF ev cX4_sticks 11 ([v0, v1], []) (.int i :: .ref a :: st) h = xO (xai h 0 a i) (fun v => exF ev cX4_sticks 12 ([v0, v1], []) (.int v :: st) h) := exF_o (i := (i_ai 0 12)) rfl rfl
theorem eX4_sticks_12 {ev : xV} {v0 v1 : Option Value} {x y : Int32} {st : List Value} {h : xH} : exF ev cX4_sticks 12 ([v0, v1], []) (.int y :: .int x :: st) h = if x ≤ y then exF ev cX4_sticks 30 ([v0, v1], []) st h else exF ev cX4_sticks 15 ([v0, v1], []) st h := exF_b (i := (i_if2 (fun x y => x ≤ y) 30 15)) rfl rfl
theorem eX4_sticks_15 {ev : xV} {v1 : Option Value} {x : Nat} {st : List Value} {h : xH} : exF ev cX4_sticks 15 ([some (.ref x), v1], []) st h = exF ev cX4_sticks 16 ([some (.ref x), v1], []) (.ref x :: st) h := exF_j (i := (i_aload 0 16)) rfl rfl
theorem eX4_sticks_16 {ev : xV} {v0 v1 : Option Value} {a : Nat} {st : List Value} {h : xH} : exF ev cX4_sticks 16 ([v0, v1], []) (.ref a :: st) h = xO (xgf h a 3 3) (fun v => exF ev cX4_sticks 19 ([v0, v1], []) (v :: st) h) := exF_o (i := (i_getf 3 3 19)) rfl rfl
theorem eX4_sticks_19 {ev : xV} {v0 : Option Value} {x : Int32} {st : List Value} {h : xH} : exF ev cX4_sticks 19 ([v0, some (.int x)], []) st h = exF ev cX4_sticks 20 ([v0, some (.int x)], []) (.int x :: st) h := exF_j (i := (i_iload 1 20)) rfl rfl
theorem eX4_sticks_20 {ev : xV} {v0 v1 : Option Value} {a0 : Value} {a1 : Value} {h : xH} : exF ev cX4_sticks 20 ([v0, v1], []) [a1, a0] h = xB (ev 98 [a0, a1] h) (fun v h => exF ev cX4_sticks 23 ([v0, v1], []) [v] h) := exF_c (i := (i_cs 98 2 23)) rfl rfl
theorem eX4_sticks_23 {ev : xV} {v0 v1 : Option Value} {x : Int32} {st : List Value} {h : xH} : exF ev cX4_sticks 23 ([v0, v1], []) (.int x :: st) h = if ¬ x = 0 then exF ev cX4_sticks 30 ([v0, v1], []) st h else exF ev cX4_sticks 26 ([v0, v1], []) st h := exF_b (i := (i_if1 (fun x => ¬ x = 0) 30 26)) rfl rfl
theorem eX4_sticks_26 {ev : xV} {v0 v1 : Option Value} {st : List Value} {h : xH} : exF ev cX4_sticks 26 ([v0, v1], []) st h = exF ev cX4_sticks 27 ([v0, v1], []) (.int (nI 1) :: st) h := exF_j (i := (i_const (.int (nI 1)) 27)) rfl rfl
theorem eX4_sticks_27 {ev : xV} {v0 v1 : Option Value} {st : List Value} {h : xH} : exF ev cX4_sticks 27 ([v0, v1], []) st h = exF ev cX4_sticks 31 ([v0, v1], []) st h := exF_j (i := (i_goto 31)) rfl rfl
theorem eX4_sticks_30 {ev : xV} {v0 v1 : Option Value} {st : List Value} {h : xH} : exF ev cX4_sticks 30 ([v0, v1], []) st h = exF ev cX4_sticks 31 ([v0, v1], []) (.int (nI 0) :: st) h := exF_j (i := (i_const (.int (nI 0)) 31)) rfl rfl
theorem eX4_sticks_31 {ev : xV} {v0 v1 : Option Value} {x : Int32} {h : xH} : exF ev cX4_sticks 31 ([v0, v1], []) [.int x] h = if x = nI 0 ∨ x = nI 1 then some (.inl (some (.int x)), h) else none := exF_z (i := (i_zret)) rfl rfl
theorem eX4_sticks_31b0 {ev : xV} {v0 v1 : Option Value} {h : xH} : exF ev cX4_sticks 31 ([v0, v1], []) [.int (nI 0)] h = some (.inl (some (.int (nI 0))), h) := exF_r (i := (i_zret)) rfl i_zret_0
theorem eX4_sticks_31b1 {ev : xV} {v0 v1 : Option Value} {h : xH} : exF ev cX4_sticks 31 ([v0, v1], []) [.int (nI 1)] h = some (.inl (some (.int (nI 1))), h) := exF_r (i := (i_zret)) rfl i_zret_1
theorem eX4_sticks_31b {ev : xV} {v0 v1 : Option Value} {b : Bool} {h : xH} : exF ev cX4_sticks 31 ([v0, v1], []) [.int (bI b)] h = some (.inl (some (.int (bI b))), h) := exF_r (i := (i_zret)) rfl (i_zret_b b)
noncomputable def cX4_be : xC := [(0, i_aload 1 1),
  (1, i_getf 3 0 4),
  (4, i_aload 0 5),
  (5, i_getf 3 0 8),
  (8, i_csv 88 2 11),
  (11, i_aload 1 12),
  (12, i_getf 3 1 15),
  (15, i_aload 0 16),
  (16, i_getf 3 1 19),
  (19, i_csv 88 2 22),
  (22, i_aload 1 23),
  (23, i_getf 3 2 26),
  (26, i_aload 0 27),
  (27, i_getf 3 2 30),
  (30, i_csv 88 2 33),
  (33, i_aload 0 34),
  (34, i_aload 1 35),
  (35, i_getf 3 3 38),
  (38, i_putfi 3 3 41),
  (41, i_aload 0 42),
  (42, i_aload 1 43),
  (43, i_getf 3 4 46),
  (46, i_putfi 3 4 49),
  (49, i_vret)]
theorem eX4_be_0 {ev : xV} {v0 : Option Value} {x : Nat} {st : List Value} {h : xH} : exF ev cX4_be 0 ([v0, some (.ref x)], []) st h = exF ev cX4_be 1 ([v0, some (.ref x)], []) (.ref x :: st) h := exF_j (i := (i_aload 1 1)) rfl rfl
theorem eX4_be_0n {ev : xV} {v0 : Option Value} {st : List Value} {h : xH} : exF ev cX4_be 0 ([v0, some .null], []) st h = exF ev cX4_be 1 ([v0, some .null], []) (.null :: st) h := exF_j (i := (i_aload 1 1)) rfl rfl
theorem eX4_be_1 {ev : xV} {v0 v1 : Option Value} {a : Nat} {st : List Value} {h : xH} : exF ev cX4_be 1 ([v0, v1], []) (.ref a :: st) h = xO (xgf h a 3 0) (fun v => exF ev cX4_be 4 ([v0, v1], []) (v :: st) h) := exF_o (i := (i_getf 3 0 4)) rfl rfl
theorem eX4_be_4 {ev : xV} {v1 : Option Value} {x : Nat} {st : List Value} {h : xH} : exF ev cX4_be 4 ([some (.ref x), v1], []) st h = exF ev cX4_be 5 ([some (.ref x), v1], []) (.ref x :: st) h := exF_j (i := (i_aload 0 5)) rfl rfl
theorem eX4_be_5 {ev : xV} {v0 v1 : Option Value} {a : Nat} {st : List Value} {h : xH} : exF ev cX4_be 5 ([v0, v1], []) (.ref a :: st) h = xO (xgf h a 3 0) (fun v => exF ev cX4_be 8 ([v0, v1], []) (v :: st) h) := exF_o (i := (i_getf 3 0 8)) rfl rfl
theorem eX4_be_8 {ev : xV} {v0 v1 : Option Value} {a0 : Value} {a1 : Value} {h : xH} : exF ev cX4_be 8 ([v0, v1], []) [a1, a0] h = xBv (ev 88 [a0, a1] h) (fun h => exF ev cX4_be 11 ([v0, v1], []) [] h) := exF_cv (i := (i_csv 88 2 11)) rfl rfl
theorem eX4_be_11 {ev : xV} {v0 : Option Value} {x : Nat} {st : List Value} {h : xH} : exF ev cX4_be 11 ([v0, some (.ref x)], []) st h = exF ev cX4_be 12 ([v0, some (.ref x)], []) (.ref x :: st) h := exF_j (i := (i_aload 1 12)) rfl rfl
theorem eX4_be_11n {ev : xV} {v0 : Option Value} {st : List Value} {h : xH} : exF ev cX4_be 11 ([v0, some .null], []) st h = exF ev cX4_be 12 ([v0, some .null], []) (.null :: st) h := exF_j (i := (i_aload 1 12)) rfl rfl
theorem eX4_be_12 {ev : xV} {v0 v1 : Option Value} {a : Nat} {st : List Value} {h : xH} : exF ev cX4_be 12 ([v0, v1], []) (.ref a :: st) h = xO (xgf h a 3 1) (fun v => exF ev cX4_be 15 ([v0, v1], []) (v :: st) h) := exF_o (i := (i_getf 3 1 15)) rfl rfl
theorem eX4_be_15 {ev : xV} {v1 : Option Value} {x : Nat} {st : List Value} {h : xH} : exF ev cX4_be 15 ([some (.ref x), v1], []) st h = exF ev cX4_be 16 ([some (.ref x), v1], []) (.ref x :: st) h := exF_j (i := (i_aload 0 16)) rfl rfl
theorem eX4_be_16 {ev : xV} {v0 v1 : Option Value} {a : Nat} {st : List Value} {h : xH} : exF ev cX4_be 16 ([v0, v1], []) (.ref a :: st) h = xO (xgf h a 3 1) (fun v => exF ev cX4_be 19 ([v0, v1], []) (v :: st) h) := exF_o (i := (i_getf 3 1 19)) rfl rfl
theorem eX4_be_19 {ev : xV} {v0 v1 : Option Value} {a0 : Value} {a1 : Value} {h : xH} : exF ev cX4_be 19 ([v0, v1], []) [a1, a0] h = xBv (ev 88 [a0, a1] h) (fun h => exF ev cX4_be 22 ([v0, v1], []) [] h) := exF_cv (i := (i_csv 88 2 22)) rfl rfl
theorem eX4_be_22 {ev : xV} {v0 : Option Value} {x : Nat} {st : List Value} {h : xH} : exF ev cX4_be 22 ([v0, some (.ref x)], []) st h = exF ev cX4_be 23 ([v0, some (.ref x)], []) (.ref x :: st) h := exF_j (i := (i_aload 1 23)) rfl rfl
theorem eX4_be_22n {ev : xV} {v0 : Option Value} {st : List Value} {h : xH} : exF ev cX4_be 22 ([v0, some .null], []) st h = exF ev cX4_be 23 ([v0, some .null], []) (.null :: st) h := exF_j (i := (i_aload 1 23)) rfl rfl
theorem eX4_be_23 {ev : xV} {v0 v1 : Option Value} {a : Nat} {st : List Value} {h : xH} : exF ev cX4_be 23 ([v0, v1], []) (.ref a :: st) h = xO (xgf h a 3 2) (fun v => exF ev cX4_be 26 ([v0, v1], []) (v :: st) h) := exF_o (i := (i_getf 3 2 26)) rfl rfl
theorem eX4_be_26 {ev : xV} {v1 : Option Value} {x : Nat} {st : List Value} {h : xH} : exF ev cX4_be 26 ([some (.ref x), v1], []) st h = exF ev cX4_be 27 ([some (.ref x), v1], []) (.ref x :: st) h := exF_j (i := (i_aload 0 27)) rfl rfl
theorem eX4_be_27 {ev : xV} {v0 v1 : Option Value} {a : Nat} {st : List Value} {h : xH} : exF ev cX4_be 27 ([v0, v1], []) (.ref a :: st) h = xO (xgf h a 3 2) (fun v => exF ev cX4_be 30 ([v0, v1], []) (v :: st) h) := exF_o (i := (i_getf 3 2 30)) rfl rfl
theorem eX4_be_30 {ev : xV} {v0 v1 : Option Value} {a0 : Value} {a1 : Value} {h : xH} : exF ev cX4_be 30 ([v0, v1], []) [a1, a0] h = xBv (ev 88 [a0, a1] h) (fun h => exF ev cX4_be 33 ([v0, v1], []) [] h) := exF_cv (i := (i_csv 88 2 33)) rfl rfl
theorem eX4_be_33 {ev : xV} {v1 : Option Value} {x : Nat} {st : List Value} {h : xH} : exF ev cX4_be 33 ([some (.ref x), v1], []) st h = exF ev cX4_be 34 ([some (.ref x), v1], []) (.ref x :: st) h := exF_j (i := (i_aload 0 34)) rfl rfl
theorem eX4_be_34 {ev : xV} {v0 : Option Value} {x : Nat} {st : List Value} {h : xH} : exF ev cX4_be 34 ([v0, some (.ref x)], []) st h = exF ev cX4_be 35 ([v0, some (.ref x)], []) (.ref x :: st) h := exF_j (i := (i_aload 1 35)) rfl rfl
theorem eX4_be_34n {ev : xV} {v0 : Option Value} {st : List Value} {h : xH} : exF ev cX4_be 34 ([v0, some .null], []) st h = exF ev cX4_be 35 ([v0, some .null], []) (.null :: st) h := exF_j (i := (i_aload 1 35)) rfl rfl
theorem eX4_be_35 {ev : xV} {v0 v1 : Option Value} {a : Nat} {st : List Value} {h : xH} : exF ev cX4_be 35 ([v0, v1], []) (.ref a :: st) h = xO (xgf h a 3 3) (fun v => exF ev cX4_be 38 ([v0, v1], []) (v :: st) h) := exF_o (i := (i_getf 3 3 38)) rfl rfl
theorem eX4_be_38 {ev : xV} {v0 v1 : Option Value} {x : Int32} {a : Nat} {st : List Value} {h : xH} : exF ev cX4_be 38 ([v0, v1], []) (.int x :: .ref a :: st) h = xO (xpf h a 3 3 (.int x)) (fun h => exF ev cX4_be 41 ([v0, v1], []) st h) := exF_o (i := (i_putfi 3 3 41)) rfl rfl
theorem eX4_be_41 {ev : xV} {v1 : Option Value} {x : Nat} {st : List Value} {h : xH} : exF ev cX4_be 41 ([some (.ref x), v1], []) st h = exF ev cX4_be 42 ([some (.ref x), v1], []) (.ref x :: st) h := exF_j (i := (i_aload 0 42)) rfl rfl
theorem eX4_be_42 {ev : xV} {v0 : Option Value} {x : Nat} {st : List Value} {h : xH} : exF ev cX4_be 42 ([v0, some (.ref x)], []) st h = exF ev cX4_be 43 ([v0, some (.ref x)], []) (.ref x :: st) h := exF_j (i := (i_aload 1 43)) rfl rfl
theorem eX4_be_42n {ev : xV} {v0 : Option Value} {st : List Value} {h : xH} : exF ev cX4_be 42 ([v0, some .null], []) st h = exF ev cX4_be 43 ([v0, some .null], []) (.null :: st) h := exF_j (i := (i_aload 1 43)) rfl rfl
theorem eX4_be_43 {ev : xV} {v0 v1 : Option Value} {a : Nat} {st : List Value} {h : xH} : exF ev cX4_be 43 ([v0, v1], []) (.ref a :: st) h = xO (xgf h a 3 4) (fun v => exF ev cX4_be 46 ([v0, v1], []) (v :: st) h) := exF_o (i := (i_getf 3 4 46)) rfl rfl
theorem eX4_be_46 {ev : xV} {v0 v1 : Option Value} {x : Int32} {a : Nat} {st : List Value} {h : xH} : exF ev cX4_be 46 ([v0, v1], []) (.int x :: .ref a :: st) h = xO (xpf h a 3 4 (.int x)) (fun h => exF ev cX4_be 49 ([v0, v1], []) st h) := exF_o (i := (i_putfi 3 4 49)) rfl rfl
theorem eX4_be_49 {ev : xV} {v0 v1 : Option Value} {h : xH} : exF ev cX4_be 49 ([v0, v1], []) [] h = some (.inl none, h) := exF_r (i := (i_vret)) rfl rfl
noncomputable def cX4_canPlane : xC := [(0, i_aload 0 1),
  (1, i_getf 3 1 4),
  (4, i_iload 1 5),
  (5, i_ai 0 6),
  (6, i_const (.int (nI 20)) 8),
  (8, i_if2 (fun x y => y ≤ x) 15 11),
  (11, i_const (.int (nI 1)) 12),
  (12, i_goto 16),
  (15, i_const (.int (nI 0)) 16),
  (16, i_zret)]
theorem eX4_canPlane_0 {ev : xV} {v1 : Option Value} {x : Nat} {st : List Value} {h : xH} : exF ev cX4_canPlane 0 ([some (.ref x), v1], []) st h = exF ev cX4_canPlane 1 ([some (.ref x), v1], []) (.ref x :: st) h := exF_j (i := (i_aload 0 1)) rfl rfl
theorem eX4_canPlane_1 {ev : xV} {v0 v1 : Option Value} {a : Nat} {st : List Value} {h : xH} : exF ev cX4_canPlane 1 ([v0, v1], []) (.ref a :: st) h = xO (xgf h a 3 1) (fun v => exF ev cX4_canPlane 4 ([v0, v1], []) (v :: st) h) := exF_o (i := (i_getf 3 1 4)) rfl rfl
theorem eX4_canPlane_4 {ev : xV} {v0 : Option Value} {x : Int32} {st : List Value} {h : xH} : exF ev cX4_canPlane 4 ([v0, some (.int x)], []) st h = exF ev cX4_canPlane 5 ([v0, some (.int x)], []) (.int x :: st) h := exF_j (i := (i_iload 1 5)) rfl rfl
theorem eX4_canPlane_5 {ev : xV} {v0 v1 : Option Value} {i : Int32} {a : Nat} {st : List Value} {h : xH} : exF ev cX4_canPlane 5 ([v0, v1], []) (.int i :: .ref a :: st) h = xO (xai h 0 a i) (fun v => exF ev cX4_canPlane 6 ([v0, v1], []) (.int v :: st) h) := exF_o (i := (i_ai 0 6)) rfl rfl
theorem eX4_canPlane_6 {ev : xV} {v0 v1 : Option Value} {st : List Value} {h : xH} : exF ev cX4_canPlane 6 ([v0, v1], []) st h = exF ev cX4_canPlane 8 ([v0, v1], []) (.int (nI 20) :: st) h := exF_j (i := (i_const (.int (nI 20)) 8)) rfl rfl
theorem eX4_canPlane_8 {ev : xV} {v0 v1 : Option Value} {x y : Int32} {st : List Value} {h : xH} : exF ev cX4_canPlane 8 ([v0, v1], []) (.int y :: .int x :: st) h = if y ≤ x then exF ev cX4_canPlane 15 ([v0, v1], []) st h else exF ev cX4_canPlane 11 ([v0, v1], []) st h := exF_b (i := (i_if2 (fun x y => y ≤ x) 15 11)) rfl rfl
theorem eX4_canPlane_11 {ev : xV} {v0 v1 : Option Value} {st : List Value} {h : xH} : exF ev cX4_canPlane 11 ([v0, v1], []) st h = exF ev cX4_canPlane 12 ([v0, v1], []) (.int (nI 1) :: st) h := exF_j (i := (i_const (.int (nI 1)) 12)) rfl rfl
theorem eX4_canPlane_12 {ev : xV} {v0 v1 : Option Value} {st : List Value} {h : xH} : exF ev cX4_canPlane 12 ([v0, v1], []) st h = exF ev cX4_canPlane 16 ([v0, v1], []) st h := exF_j (i := (i_goto 16)) rfl rfl
theorem eX4_canPlane_15 {ev : xV} {v0 v1 : Option Value} {st : List Value} {h : xH} : exF ev cX4_canPlane 15 ([v0, v1], []) st h = exF ev cX4_canPlane 16 ([v0, v1], []) (.int (nI 0) :: st) h := exF_j (i := (i_const (.int (nI 0)) 16)) rfl rfl
theorem eX4_canPlane_16 {ev : xV} {v0 v1 : Option Value} {x : Int32} {h : xH} : exF ev cX4_canPlane 16 ([v0, v1], []) [.int x] h = if x = nI 0 ∨ x = nI 1 then some (.inl (some (.int x)), h) else none := exF_z (i := (i_zret)) rfl rfl
theorem eX4_canPlane_16b0 {ev : xV} {v0 v1 : Option Value} {h : xH} : exF ev cX4_canPlane 16 ([v0, v1], []) [.int (nI 0)] h = some (.inl (some (.int (nI 0))), h) := exF_r (i := (i_zret)) rfl i_zret_0
theorem eX4_canPlane_16b1 {ev : xV} {v0 v1 : Option Value} {h : xH} : exF ev cX4_canPlane 16 ([v0, v1], []) [.int (nI 1)] h = some (.inl (some (.int (nI 1))), h) := exF_r (i := (i_zret)) rfl i_zret_1
theorem eX4_canPlane_16b {ev : xV} {v0 v1 : Option Value} {b : Bool} {h : xH} : exF ev cX4_canPlane 16 ([v0, v1], []) [.int (bI b)] h = some (.inl (some (.int (bI b))), h) := exF_r (i := (i_zret)) rfl (i_zret_b b)
noncomputable def cX4_canWedge : xC := [(0, i_aload 0 1),
  (1, i_getf 3 3 4),
  (4, i_iload 1 5),
  (5, i_cs 98 2 8),
  (8, i_if1 (fun x => ¬ x = 0) 19 11),
  (11, i_aload 0 12),
  (12, i_iload 1 13),
  (13, i_cv 3 238 1 16),
  (16, i_if1 (fun x => ¬ x = 0) 23 19),
  (19, i_const (.int (nI 1)) 20),
  (20, i_goto 24),
  (23, i_const (.int (nI 0)) 24),
  (24, i_zret)]
theorem eX4_canWedge_0 {ev : xV} {v1 : Option Value} {x : Nat} {st : List Value} {h : xH} : exF ev cX4_canWedge 0 ([some (.ref x), v1], []) st h = exF ev cX4_canWedge 1 ([some (.ref x), v1], []) (.ref x :: st) h := exF_j (i := (i_aload 0 1)) rfl rfl
theorem eX4_canWedge_1 {ev : xV} {v0 v1 : Option Value} {a : Nat} {st : List Value} {h : xH} : exF ev cX4_canWedge 1 ([v0, v1], []) (.ref a :: st) h = xO (xgf h a 3 3) (fun v => exF ev cX4_canWedge 4 ([v0, v1], []) (v :: st) h) := exF_o (i := (i_getf 3 3 4)) rfl rfl
theorem eX4_canWedge_4 {ev : xV} {v0 : Option Value} {x : Int32} {st : List Value} {h : xH} : exF ev cX4_canWedge 4 ([v0, some (.int x)], []) st h = exF ev cX4_canWedge 5 ([v0, some (.int x)], []) (.int x :: st) h := exF_j (i := (i_iload 1 5)) rfl rfl
theorem eX4_canWedge_5 {ev : xV} {v0 v1 : Option Value} {a0 : Value} {a1 : Value} {h : xH} : exF ev cX4_canWedge 5 ([v0, v1], []) [a1, a0] h = xB (ev 98 [a0, a1] h) (fun v h => exF ev cX4_canWedge 8 ([v0, v1], []) [v] h) := exF_c (i := (i_cs 98 2 8)) rfl rfl
theorem eX4_canWedge_8 {ev : xV} {v0 v1 : Option Value} {x : Int32} {st : List Value} {h : xH} : exF ev cX4_canWedge 8 ([v0, v1], []) (.int x :: st) h = if ¬ x = 0 then exF ev cX4_canWedge 19 ([v0, v1], []) st h else exF ev cX4_canWedge 11 ([v0, v1], []) st h := exF_b (i := (i_if1 (fun x => ¬ x = 0) 19 11)) rfl rfl
theorem eX4_canWedge_11 {ev : xV} {v1 : Option Value} {x : Nat} {st : List Value} {h : xH} : exF ev cX4_canWedge 11 ([some (.ref x), v1], []) st h = exF ev cX4_canWedge 12 ([some (.ref x), v1], []) (.ref x :: st) h := exF_j (i := (i_aload 0 12)) rfl rfl
theorem eX4_canWedge_12 {ev : xV} {v0 : Option Value} {x : Int32} {st : List Value} {h : xH} : exF ev cX4_canWedge 12 ([v0, some (.int x)], []) st h = exF ev cX4_canWedge 13 ([v0, some (.int x)], []) (.int x :: st) h := exF_j (i := (i_iload 1 13)) rfl rfl
theorem eX4_canWedge_13 {ev : xV} {v0 v1 : Option Value} {a0 : Value} {a : Nat} {h : xH} : exF ev cX4_canWedge 13 ([v0, v1], []) [a0, .ref a] h = xO (xck h a 3) (fun _ => xB (ev 238 [.ref a, a0] h) (fun v h => exF ev cX4_canWedge 16 ([v0, v1], []) [v] h)) := exF_cd (i := (i_cv 3 238 1 16)) rfl rfl
theorem eX4_canWedge_16 {ev : xV} {v0 v1 : Option Value} {x : Int32} {st : List Value} {h : xH} : exF ev cX4_canWedge 16 ([v0, v1], []) (.int x :: st) h = if ¬ x = 0 then exF ev cX4_canWedge 23 ([v0, v1], []) st h else exF ev cX4_canWedge 19 ([v0, v1], []) st h := exF_b (i := (i_if1 (fun x => ¬ x = 0) 23 19)) rfl rfl
theorem eX4_canWedge_19 {ev : xV} {v0 v1 : Option Value} {st : List Value} {h : xH} : exF ev cX4_canWedge 19 ([v0, v1], []) st h = exF ev cX4_canWedge 20 ([v0, v1], []) (.int (nI 1) :: st) h := exF_j (i := (i_const (.int (nI 1)) 20)) rfl rfl
theorem eX4_canWedge_20 {ev : xV} {v0 v1 : Option Value} {st : List Value} {h : xH} : exF ev cX4_canWedge 20 ([v0, v1], []) st h = exF ev cX4_canWedge 24 ([v0, v1], []) st h := exF_j (i := (i_goto 24)) rfl rfl
theorem eX4_canWedge_23 {ev : xV} {v0 v1 : Option Value} {st : List Value} {h : xH} : exF ev cX4_canWedge 23 ([v0, v1], []) st h = exF ev cX4_canWedge 24 ([v0, v1], []) (.int (nI 0) :: st) h := exF_j (i := (i_const (.int (nI 0)) 24)) rfl rfl
theorem eX4_canWedge_24 {ev : xV} {v0 v1 : Option Value} {x : Int32} {h : xH} : exF ev cX4_canWedge 24 ([v0, v1], []) [.int x] h = if x = nI 0 ∨ x = nI 1 then some (.inl (some (.int x)), h) else none := exF_z (i := (i_zret)) rfl rfl
theorem eX4_canWedge_24b0 {ev : xV} {v0 v1 : Option Value} {h : xH} : exF ev cX4_canWedge 24 ([v0, v1], []) [.int (nI 0)] h = some (.inl (some (.int (nI 0))), h) := exF_r (i := (i_zret)) rfl i_zret_0
theorem eX4_canWedge_24b1 {ev : xV} {v0 v1 : Option Value} {h : xH} : exF ev cX4_canWedge 24 ([v0, v1], []) [.int (nI 1)] h = some (.inl (some (.int (nI 1))), h) := exF_r (i := (i_zret)) rfl i_zret_1
theorem eX4_canWedge_24b {ev : xV} {v0 v1 : Option Value} {b : Bool} {h : xH} : exF ev cX4_canWedge 24 ([v0, v1], []) [.int (bI b)] h = some (.inl (some (.int (bI b))), h) := exF_r (i := (i_zret)) rfl (i_zret_b b)
noncomputable def cX4_canForce : xC := [(0, i_aload 0 1),
  (1, i_iload 1 2),
  (2, i_cv 3 238 1 5),
  (5, i_if1 (fun x => x = 0) 29 8),
  (8, i_aload 0 9),
  (9, i_getf 3 0 12),
  (12, i_iload 1 13),
  (13, i_ai 0 14),
  (14, i_aload 0 15),
  (15, i_getf 3 1 18),
  (18, i_iload 1 19),
  (19, i_ai 0 20),
  (20, i_ii (fun x y => x - y) 21),
  (21, i_const (.int (nI 2)) 22),
  (22, i_if2 (fun x y => y < x) 29 25),
  (25, i_const (.int (nI 1)) 26),
  (26, i_goto 30),
  (29, i_const (.int (nI 0)) 30),
  (30, i_zret)]
theorem eX4_canForce_0 {ev : xV} {v1 : Option Value} {x : Nat} {st : List Value} {h : xH} : exF ev cX4_canForce 0 ([some (.ref x), v1], []) st h = exF ev cX4_canForce 1 ([some (.ref x), v1], []) (.ref x :: st) h := exF_j (i := (i_aload 0 1)) rfl rfl
theorem eX4_canForce_1 {ev : xV} {v0 : Option Value} {x : Int32} {st : List Value} {h : xH} : exF ev cX4_canForce 1 ([v0, some (.int x)], []) st h = exF ev cX4_canForce 2 ([v0, some (.int x)], []) (.int x :: st) h := exF_j (i := (i_iload 1 2)) rfl rfl
theorem eX4_canForce_2 {ev : xV} {v0 v1 : Option Value} {a0 : Value} {a : Nat} {h : xH} : exF ev cX4_canForce 2 ([v0, v1], []) [a0, .ref a] h = xO (xck h a 3) (fun _ => xB (ev 238 [.ref a, a0] h) (fun v h => exF ev cX4_canForce 5 ([v0, v1], []) [v] h)) := exF_cd (i := (i_cv 3 238 1 5)) rfl rfl
theorem eX4_canForce_5 {ev : xV} {v0 v1 : Option Value} {x : Int32} {st : List Value} {h : xH} : exF ev cX4_canForce 5 ([v0, v1], []) (.int x :: st) h = if x = 0 then exF ev cX4_canForce 29 ([v0, v1], []) st h else exF ev cX4_canForce 8 ([v0, v1], []) st h := exF_b (i := (i_if1 (fun x => x = 0) 29 8)) rfl rfl
theorem eX4_canForce_8 {ev : xV} {v1 : Option Value} {x : Nat} {st : List Value} {h : xH} : exF ev cX4_canForce 8 ([some (.ref x), v1], []) st h = exF ev cX4_canForce 9 ([some (.ref x), v1], []) (.ref x :: st) h := exF_j (i := (i_aload 0 9)) rfl rfl
theorem eX4_canForce_9 {ev : xV} {v0 v1 : Option Value} {a : Nat} {st : List Value} {h : xH} : exF ev cX4_canForce 9 ([v0, v1], []) (.ref a :: st) h = xO (xgf h a 3 0) (fun v => exF ev cX4_canForce 12 ([v0, v1], []) (v :: st) h) := exF_o (i := (i_getf 3 0 12)) rfl rfl
theorem eX4_canForce_12 {ev : xV} {v0 : Option Value} {x : Int32} {st : List Value} {h : xH} : exF ev cX4_canForce 12 ([v0, some (.int x)], []) st h = exF ev cX4_canForce 13 ([v0, some (.int x)], []) (.int x :: st) h := exF_j (i := (i_iload 1 13)) rfl rfl
theorem eX4_canForce_13 {ev : xV} {v0 v1 : Option Value} {i : Int32} {a : Nat} {st : List Value} {h : xH} : exF ev cX4_canForce 13 ([v0, v1], []) (.int i :: .ref a :: st) h = xO (xai h 0 a i) (fun v => exF ev cX4_canForce 14 ([v0, v1], []) (.int v :: st) h) := exF_o (i := (i_ai 0 14)) rfl rfl
theorem eX4_canForce_14 {ev : xV} {v1 : Option Value} {x : Nat} {st : List Value} {h : xH} : exF ev cX4_canForce 14 ([some (.ref x), v1], []) st h = exF ev cX4_canForce 15 ([some (.ref x), v1], []) (.ref x :: st) h := exF_j (i := (i_aload 0 15)) rfl rfl
theorem eX4_canForce_15 {ev : xV} {v0 v1 : Option Value} {a : Nat} {st : List Value} {h : xH} : exF ev cX4_canForce 15 ([v0, v1], []) (.ref a :: st) h = xO (xgf h a 3 1) (fun v => exF ev cX4_canForce 18 ([v0, v1], []) (v :: st) h) := exF_o (i := (i_getf 3 1 18)) rfl rfl
theorem eX4_canForce_18 {ev : xV} {v0 : Option Value} {x : Int32} {st : List Value} {h : xH} : exF ev cX4_canForce 18 ([v0, some (.int x)], []) st h = exF ev cX4_canForce 19 ([v0, some (.int x)], []) (.int x :: st) h := exF_j (i := (i_iload 1 19)) rfl rfl
theorem eX4_canForce_19 {ev : xV} {v0 v1 : Option Value} {i : Int32} {a : Nat} {st : List Value} {h : xH} : exF ev cX4_canForce 19 ([v0, v1], []) (.int i :: .ref a :: st) h = xO (xai h 0 a i) (fun v => exF ev cX4_canForce 20 ([v0, v1], []) (.int v :: st) h) := exF_o (i := (i_ai 0 20)) rfl rfl
theorem eX4_canForce_20 {ev : xV} {v0 v1 : Option Value} {x y : Int32} {st : List Value} {h : xH} : exF ev cX4_canForce 20 ([v0, v1], []) (.int y :: .int x :: st) h = exF ev cX4_canForce 21 ([v0, v1], []) (.int (x - y) :: st) h := exF_j (i := (i_ii (fun x y => x - y) 21)) rfl rfl
theorem eX4_canForce_21 {ev : xV} {v0 v1 : Option Value} {st : List Value} {h : xH} : exF ev cX4_canForce 21 ([v0, v1], []) st h = exF ev cX4_canForce 22 ([v0, v1], []) (.int (nI 2) :: st) h := exF_j (i := (i_const (.int (nI 2)) 22)) rfl rfl
theorem eX4_canForce_22 {ev : xV} {v0 v1 : Option Value} {x y : Int32} {st : List Value} {h : xH} : exF ev cX4_canForce 22 ([v0, v1], []) (.int y :: .int x :: st) h = if y < x then exF ev cX4_canForce 29 ([v0, v1], []) st h else exF ev cX4_canForce 25 ([v0, v1], []) st h := exF_b (i := (i_if2 (fun x y => y < x) 29 25)) rfl rfl
theorem eX4_canForce_25 {ev : xV} {v0 v1 : Option Value} {st : List Value} {h : xH} : exF ev cX4_canForce 25 ([v0, v1], []) st h = exF ev cX4_canForce 26 ([v0, v1], []) (.int (nI 1) :: st) h := exF_j (i := (i_const (.int (nI 1)) 26)) rfl rfl
theorem eX4_canForce_26 {ev : xV} {v0 v1 : Option Value} {st : List Value} {h : xH} : exF ev cX4_canForce 26 ([v0, v1], []) st h = exF ev cX4_canForce 30 ([v0, v1], []) st h := exF_j (i := (i_goto 30)) rfl rfl
theorem eX4_canForce_29 {ev : xV} {v0 v1 : Option Value} {st : List Value} {h : xH} : exF ev cX4_canForce 29 ([v0, v1], []) st h = exF ev cX4_canForce 30 ([v0, v1], []) (.int (nI 0) :: st) h := exF_j (i := (i_const (.int (nI 0)) 30)) rfl rfl
theorem eX4_canForce_30 {ev : xV} {v0 v1 : Option Value} {x : Int32} {h : xH} : exF ev cX4_canForce 30 ([v0, v1], []) [.int x] h = if x = nI 0 ∨ x = nI 1 then some (.inl (some (.int x)), h) else none := exF_z (i := (i_zret)) rfl rfl
theorem eX4_canForce_30b0 {ev : xV} {v0 v1 : Option Value} {h : xH} : exF ev cX4_canForce 30 ([v0, v1], []) [.int (nI 0)] h = some (.inl (some (.int (nI 0))), h) := exF_r (i := (i_zret)) rfl i_zret_0
theorem eX4_canForce_30b1 {ev : xV} {v0 v1 : Option Value} {h : xH} : exF ev cX4_canForce 30 ([v0, v1], []) [.int (nI 1)] h = some (.inl (some (.int (nI 1))), h) := exF_r (i := (i_zret)) rfl i_zret_1
theorem eX4_canForce_30b {ev : xV} {v0 v1 : Option Value} {b : Bool} {h : xH} : exF ev cX4_canForce 30 ([v0, v1], []) [.int (bI b)] h = some (.inl (some (.int (bI b))), h) := exF_r (i := (i_zret)) rfl (i_zret_b b)
noncomputable def cX6_init : xC := [(0, i_aload 0 1),
  (1, i_const .null 2),
  (2, i_const .null 3),
  (3, i_const (.int (nI 0)) 4),
  (4, i_const (.int (nI 0)) 5),
  (5, i_ci [5] 6 4 8),
  (8, i_aload 0 9),
  (9, i_iload 1 10),
  (10, i_const (.int (nI 16)) 12),
  (12, i_iload 2 13),
  (13, i_ii (fun x y => x * y) 14),
  (14, i_ii (fun x y => x + y) 15),
  (15, i_putfi 5 6 18),
  (18, i_vret)]
theorem eX6_init_0 {ev : xV} {v1 v2 : Option Value} {x : Nat} {st : List Value} {h : xH} : exF ev cX6_init 0 ([some (.ref x), v1, v2], []) st h = exF ev cX6_init 1 ([some (.ref x), v1, v2], []) (.ref x :: st) h := exF_j (i := (i_aload 0 1)) rfl rfl
theorem eX6_init_1 {ev : xV} {v0 v1 v2 : Option Value} {st : List Value} {h : xH} : exF ev cX6_init 1 ([v0, v1, v2], []) st h = exF ev cX6_init 2 ([v0, v1, v2], []) (.null :: st) h := exF_j (i := (i_const .null 2)) rfl rfl
theorem eX6_init_2 {ev : xV} {v0 v1 v2 : Option Value} {st : List Value} {h : xH} : exF ev cX6_init 2 ([v0, v1, v2], []) st h = exF ev cX6_init 3 ([v0, v1, v2], []) (.null :: st) h := exF_j (i := (i_const .null 3)) rfl rfl
theorem eX6_init_3 {ev : xV} {v0 v1 v2 : Option Value} {st : List Value} {h : xH} : exF ev cX6_init 3 ([v0, v1, v2], []) st h = exF ev cX6_init 4 ([v0, v1, v2], []) (.int (nI 0) :: st) h := exF_j (i := (i_const (.int (nI 0)) 4)) rfl rfl
theorem eX6_init_4 {ev : xV} {v0 v1 v2 : Option Value} {st : List Value} {h : xH} : exF ev cX6_init 4 ([v0, v1, v2], []) st h = exF ev cX6_init 5 ([v0, v1, v2], []) (.int (nI 0) :: st) h := exF_j (i := (i_const (.int (nI 0)) 5)) rfl rfl
theorem eX6_init_5 {ev : xV} {v0 v1 v2 : Option Value} {a0 : Value} {a1 : Value} {a2 : Value} {a3 : Value} {a : Nat} {h : xH} : exF ev cX6_init 5 ([v0, v1, v2], []) [a3, a2, a1, a0, .ref a] h = xO (xckc h [5] a) (fun _ => xBv (ev 6 [.ref a, a0, a1, a2, a3] h) (fun h => exF ev cX6_init 8 ([v0, v1, v2], []) [] h)) := exF_cdv (i := (i_ci [5] 6 4 8)) rfl rfl
theorem eX6_init_8 {ev : xV} {v1 v2 : Option Value} {x : Nat} {st : List Value} {h : xH} : exF ev cX6_init 8 ([some (.ref x), v1, v2], []) st h = exF ev cX6_init 9 ([some (.ref x), v1, v2], []) (.ref x :: st) h := exF_j (i := (i_aload 0 9)) rfl rfl
theorem eX6_init_9 {ev : xV} {v0 v2 : Option Value} {x : Int32} {st : List Value} {h : xH} : exF ev cX6_init 9 ([v0, some (.int x), v2], []) st h = exF ev cX6_init 10 ([v0, some (.int x), v2], []) (.int x :: st) h := exF_j (i := (i_iload 1 10)) rfl rfl
theorem eX6_init_10 {ev : xV} {v0 v1 v2 : Option Value} {st : List Value} {h : xH} : exF ev cX6_init 10 ([v0, v1, v2], []) st h = exF ev cX6_init 12 ([v0, v1, v2], []) (.int (nI 16) :: st) h := exF_j (i := (i_const (.int (nI 16)) 12)) rfl rfl
theorem eX6_init_12 {ev : xV} {v0 v1 : Option Value} {x : Int32} {st : List Value} {h : xH} : exF ev cX6_init 12 ([v0, v1, some (.int x)], []) st h = exF ev cX6_init 13 ([v0, v1, some (.int x)], []) (.int x :: st) h := exF_j (i := (i_iload 2 13)) rfl rfl
theorem eX6_init_13 {ev : xV} {v0 v1 v2 : Option Value} {x y : Int32} {st : List Value} {h : xH} : exF ev cX6_init 13 ([v0, v1, v2], []) (.int y :: .int x :: st) h = exF ev cX6_init 14 ([v0, v1, v2], []) (.int (x * y) :: st) h := exF_j (i := (i_ii (fun x y => x * y) 14)) rfl rfl
theorem eX6_init_14 {ev : xV} {v0 v1 v2 : Option Value} {x y : Int32} {st : List Value} {h : xH} : exF ev cX6_init 14 ([v0, v1, v2], []) (.int y :: .int x :: st) h = exF ev cX6_init 15 ([v0, v1, v2], []) (.int (x + y) :: st) h := exF_j (i := (i_ii (fun x y => x + y) 15)) rfl rfl
theorem eX6_init_15 {ev : xV} {v0 v1 v2 : Option Value} {x : Int32} {a : Nat} {st : List Value} {h : xH} : exF ev cX6_init 15 ([v0, v1, v2], []) (.int x :: .ref a :: st) h = xO (xpf h a 5 6 (.int x)) (fun h => exF ev cX6_init 18 ([v0, v1, v2], []) st h) := exF_o (i := (i_putfi 5 6 18)) rfl rfl
theorem eX6_init_18 {ev : xV} {v0 v1 v2 : Option Value} {h : xH} : exF ev cX6_init 18 ([v0, v1, v2], []) [] h = some (.inl none, h) := exF_r (i := (i_vret)) rfl rfl
noncomputable def cX7_isOf : xC := [(0, i_aload 0 1),
  (1, i_getf 6 0 4),
  (4, i_iload 1 5),
  (5, i_if2 (fun x y => x = y) 16 8),
  (8, i_aload 0 9),
  (9, i_getf 6 1 12),
  (12, i_iload 1 13),
  (13, i_if2 (fun x y => ¬ x = y) 20 16),
  (16, i_const (.int (nI 1)) 17),
  (17, i_goto 21),
  (20, i_const (.int (nI 0)) 21),
  (21, i_zret)]
theorem eX7_isOf_0 {ev : xV} {v1 : Option Value} {x : Nat} {st : List Value} {h : xH} : exF ev cX7_isOf 0 ([some (.ref x), v1], []) st h = exF ev cX7_isOf 1 ([some (.ref x), v1], []) (.ref x :: st) h := exF_j (i := (i_aload 0 1)) rfl rfl
theorem eX7_isOf_1 {ev : xV} {v0 v1 : Option Value} {a : Nat} {st : List Value} {h : xH} : exF ev cX7_isOf 1 ([v0, v1], []) (.ref a :: st) h = xO (xgf h a 6 0) (fun v => exF ev cX7_isOf 4 ([v0, v1], []) (v :: st) h) := exF_o (i := (i_getf 6 0 4)) rfl rfl
theorem eX7_isOf_4 {ev : xV} {v0 : Option Value} {x : Int32} {st : List Value} {h : xH} : exF ev cX7_isOf 4 ([v0, some (.int x)], []) st h = exF ev cX7_isOf 5 ([v0, some (.int x)], []) (.int x :: st) h := exF_j (i := (i_iload 1 5)) rfl rfl
theorem eX7_isOf_5 {ev : xV} {v0 v1 : Option Value} {x y : Int32} {st : List Value} {h : xH} : exF ev cX7_isOf 5 ([v0, v1], []) (.int y :: .int x :: st) h = if x = y then exF ev cX7_isOf 16 ([v0, v1], []) st h else exF ev cX7_isOf 8 ([v0, v1], []) st h := exF_b (i := (i_if2 (fun x y => x = y) 16 8)) rfl rfl
theorem eX7_isOf_8 {ev : xV} {v1 : Option Value} {x : Nat} {st : List Value} {h : xH} : exF ev cX7_isOf 8 ([some (.ref x), v1], []) st h = exF ev cX7_isOf 9 ([some (.ref x), v1], []) (.ref x :: st) h := exF_j (i := (i_aload 0 9)) rfl rfl
theorem eX7_isOf_9 {ev : xV} {v0 v1 : Option Value} {a : Nat} {st : List Value} {h : xH} : exF ev cX7_isOf 9 ([v0, v1], []) (.ref a :: st) h = xO (xgf h a 6 1) (fun v => exF ev cX7_isOf 12 ([v0, v1], []) (v :: st) h) := exF_o (i := (i_getf 6 1 12)) rfl rfl
theorem eX7_isOf_12 {ev : xV} {v0 : Option Value} {x : Int32} {st : List Value} {h : xH} : exF ev cX7_isOf 12 ([v0, some (.int x)], []) st h = exF ev cX7_isOf 13 ([v0, some (.int x)], []) (.int x :: st) h := exF_j (i := (i_iload 1 13)) rfl rfl
theorem eX7_isOf_13 {ev : xV} {v0 v1 : Option Value} {x y : Int32} {st : List Value} {h : xH} : exF ev cX7_isOf 13 ([v0, v1], []) (.int y :: .int x :: st) h = if ¬ x = y then exF ev cX7_isOf 20 ([v0, v1], []) st h else exF ev cX7_isOf 16 ([v0, v1], []) st h := exF_b (i := (i_if2 (fun x y => ¬ x = y) 20 16)) rfl rfl
theorem eX7_isOf_16 {ev : xV} {v0 v1 : Option Value} {st : List Value} {h : xH} : exF ev cX7_isOf 16 ([v0, v1], []) st h = exF ev cX7_isOf 17 ([v0, v1], []) (.int (nI 1) :: st) h := exF_j (i := (i_const (.int (nI 1)) 17)) rfl rfl
theorem eX7_isOf_17 {ev : xV} {v0 v1 : Option Value} {st : List Value} {h : xH} : exF ev cX7_isOf 17 ([v0, v1], []) st h = exF ev cX7_isOf 21 ([v0, v1], []) st h := exF_j (i := (i_goto 21)) rfl rfl
theorem eX7_isOf_20 {ev : xV} {v0 v1 : Option Value} {st : List Value} {h : xH} : exF ev cX7_isOf 20 ([v0, v1], []) st h = exF ev cX7_isOf 21 ([v0, v1], []) (.int (nI 0) :: st) h := exF_j (i := (i_const (.int (nI 0)) 21)) rfl rfl
theorem eX7_isOf_21 {ev : xV} {v0 v1 : Option Value} {x : Int32} {h : xH} : exF ev cX7_isOf 21 ([v0, v1], []) [.int x] h = if x = nI 0 ∨ x = nI 1 then some (.inl (some (.int x)), h) else none := exF_z (i := (i_zret)) rfl rfl
theorem eX7_isOf_21b0 {ev : xV} {v0 v1 : Option Value} {h : xH} : exF ev cX7_isOf 21 ([v0, v1], []) [.int (nI 0)] h = some (.inl (some (.int (nI 0))), h) := exF_r (i := (i_zret)) rfl i_zret_0
theorem eX7_isOf_21b1 {ev : xV} {v0 v1 : Option Value} {h : xH} : exF ev cX7_isOf 21 ([v0, v1], []) [.int (nI 1)] h = some (.inl (some (.int (nI 1))), h) := exF_r (i := (i_zret)) rfl i_zret_1
theorem eX7_isOf_21b {ev : xV} {v0 v1 : Option Value} {b : Bool} {h : xH} : exF ev cX7_isOf 21 ([v0, v1], []) [.int (bI b)] h = some (.inl (some (.int (bI b))), h) := exF_r (i := (i_zret)) rfl (i_zret_b b)
noncomputable def cX7_init : xC := [(0, i_aload 0 1),
  (1, i_oi 4),
  (4, i_aload 0 5),
  (5, i_iload 1 6),
  (6, i_putfi 6 0 9),
  (9, i_aload 0 10),
  (10, i_iload 2 11),
  (11, i_putfi 6 1 14),
  (14, i_vret)]
theorem eX7_init_0 {ev : xV} {v1 v2 : Option Value} {x : Nat} {st : List Value} {h : xH} : exF ev cX7_init 0 ([some (.ref x), v1, v2], []) st h = exF ev cX7_init 1 ([some (.ref x), v1, v2], []) (.ref x :: st) h := exF_j (i := (i_aload 0 1)) rfl rfl
theorem eX7_init_1 {ev : xV} {v0 v1 v2 : Option Value} {a : Nat} (hx : 64 ≤ a) {h : xH} : exF ev cX7_init 1 ([v0, v1, v2], []) [.ref a] h = exF ev cX7_init 4 ([v0, v1, v2], []) [] h := exF_j (i := (i_oi 4)) rfl (if_pos ⟨hx, rfl⟩)
theorem eX7_init_4 {ev : xV} {v1 v2 : Option Value} {x : Nat} {st : List Value} {h : xH} : exF ev cX7_init 4 ([some (.ref x), v1, v2], []) st h = exF ev cX7_init 5 ([some (.ref x), v1, v2], []) (.ref x :: st) h := exF_j (i := (i_aload 0 5)) rfl rfl
theorem eX7_init_5 {ev : xV} {v0 v2 : Option Value} {x : Int32} {st : List Value} {h : xH} : exF ev cX7_init 5 ([v0, some (.int x), v2], []) st h = exF ev cX7_init 6 ([v0, some (.int x), v2], []) (.int x :: st) h := exF_j (i := (i_iload 1 6)) rfl rfl
theorem eX7_init_6 {ev : xV} {v0 v1 v2 : Option Value} {x : Int32} {a : Nat} {st : List Value} {h : xH} : exF ev cX7_init 6 ([v0, v1, v2], []) (.int x :: .ref a :: st) h = xO (xpf h a 6 0 (.int x)) (fun h => exF ev cX7_init 9 ([v0, v1, v2], []) st h) := exF_o (i := (i_putfi 6 0 9)) rfl rfl
theorem eX7_init_9 {ev : xV} {v1 v2 : Option Value} {x : Nat} {st : List Value} {h : xH} : exF ev cX7_init 9 ([some (.ref x), v1, v2], []) st h = exF ev cX7_init 10 ([some (.ref x), v1, v2], []) (.ref x :: st) h := exF_j (i := (i_aload 0 10)) rfl rfl
theorem eX7_init_10 {ev : xV} {v0 v1 : Option Value} {x : Int32} {st : List Value} {h : xH} : exF ev cX7_init 10 ([v0, v1, some (.int x)], []) st h = exF ev cX7_init 11 ([v0, v1, some (.int x)], []) (.int x :: st) h := exF_j (i := (i_iload 2 11)) rfl rfl
theorem eX7_init_11 {ev : xV} {v0 v1 v2 : Option Value} {x : Int32} {a : Nat} {st : List Value} {h : xH} : exF ev cX7_init 11 ([v0, v1, v2], []) (.int x :: .ref a :: st) h = xO (xpf h a 6 1 (.int x)) (fun h => exF ev cX7_init 14 ([v0, v1, v2], []) st h) := exF_o (i := (i_putfi 6 1 14)) rfl rfl
theorem eX7_init_14 {ev : xV} {v0 v1 v2 : Option Value} {h : xH} : exF ev cX7_init 14 ([v0, v1, v2], []) [] h = some (.inl none, h) := exF_r (i := (i_vret)) rfl rfl
noncomputable def cX7_beyond : xC := [(0, i_iload 1 1),
  (1, i_aload 0 2),
  (2, i_getf 6 0 5),
  (5, i_if2 (fun x y => ¬ x = y) 15 8),
  (8, i_aload 0 9),
  (9, i_getf 6 1 12),
  (12, i_goto 19),
  (15, i_aload 0 16),
  (16, i_getf 6 0 19),
  (19, i_iret)]
theorem eX7_beyond_0 {ev : xV} {v0 : Option Value} {x : Int32} {st : List Value} {h : xH} : exF ev cX7_beyond 0 ([v0, some (.int x)], []) st h = exF ev cX7_beyond 1 ([v0, some (.int x)], []) (.int x :: st) h := exF_j (i := (i_iload 1 1)) rfl rfl
theorem eX7_beyond_1 {ev : xV} {v1 : Option Value} {x : Nat} {st : List Value} {h : xH} : exF ev cX7_beyond 1 ([some (.ref x), v1], []) st h = exF ev cX7_beyond 2 ([some (.ref x), v1], []) (.ref x :: st) h := exF_j (i := (i_aload 0 2)) rfl rfl
theorem eX7_beyond_2 {ev : xV} {v0 v1 : Option Value} {a : Nat} {st : List Value} {h : xH} : exF ev cX7_beyond 2 ([v0, v1], []) (.ref a :: st) h = xO (xgf h a 6 0) (fun v => exF ev cX7_beyond 5 ([v0, v1], []) (v :: st) h) := exF_o (i := (i_getf 6 0 5)) rfl rfl
theorem eX7_beyond_5 {ev : xV} {v0 v1 : Option Value} {x y : Int32} {st : List Value} {h : xH} : exF ev cX7_beyond 5 ([v0, v1], []) (.int y :: .int x :: st) h = if ¬ x = y then exF ev cX7_beyond 15 ([v0, v1], []) st h else exF ev cX7_beyond 8 ([v0, v1], []) st h := exF_b (i := (i_if2 (fun x y => ¬ x = y) 15 8)) rfl rfl
theorem eX7_beyond_8 {ev : xV} {v1 : Option Value} {x : Nat} {st : List Value} {h : xH} : exF ev cX7_beyond 8 ([some (.ref x), v1], []) st h = exF ev cX7_beyond 9 ([some (.ref x), v1], []) (.ref x :: st) h := exF_j (i := (i_aload 0 9)) rfl rfl
theorem eX7_beyond_9 {ev : xV} {v0 v1 : Option Value} {a : Nat} {st : List Value} {h : xH} : exF ev cX7_beyond 9 ([v0, v1], []) (.ref a :: st) h = xO (xgf h a 6 1) (fun v => exF ev cX7_beyond 12 ([v0, v1], []) (v :: st) h) := exF_o (i := (i_getf 6 1 12)) rfl rfl
theorem eX7_beyond_12 {ev : xV} {v0 v1 : Option Value} {st : List Value} {h : xH} : exF ev cX7_beyond 12 ([v0, v1], []) st h = exF ev cX7_beyond 19 ([v0, v1], []) st h := exF_j (i := (i_goto 19)) rfl rfl
theorem eX7_beyond_15 {ev : xV} {v1 : Option Value} {x : Nat} {st : List Value} {h : xH} : exF ev cX7_beyond 15 ([some (.ref x), v1], []) st h = exF ev cX7_beyond 16 ([some (.ref x), v1], []) (.ref x :: st) h := exF_j (i := (i_aload 0 16)) rfl rfl
theorem eX7_beyond_16 {ev : xV} {v0 v1 : Option Value} {a : Nat} {st : List Value} {h : xH} : exF ev cX7_beyond 16 ([v0, v1], []) (.ref a :: st) h = xO (xgf h a 6 0) (fun v => exF ev cX7_beyond 19 ([v0, v1], []) (v :: st) h) := exF_o (i := (i_getf 6 0 19)) rfl rfl
theorem eX7_beyond_19 {ev : xV} {v0 v1 : Option Value} {x : Int32} {h : xH} : exF ev cX7_beyond 19 ([v0, v1], []) [.int x] h = some (.inl (some (.int x)), h) := exF_r (i := (i_iret)) rfl rfl
noncomputable def cX8_init : xC := [(0, i_aload 0 1),
  (1, i_oi 4),
  (4, i_vret)]
theorem eX8_init_0 {ev : xV} {x : Nat} {st : List Value} {h : xH} : exF ev cX8_init 0 ([some (.ref x)], []) st h = exF ev cX8_init 1 ([some (.ref x)], []) (.ref x :: st) h := exF_j (i := (i_aload 0 1)) rfl rfl
theorem eX8_init_1 {ev : xV} {v0 : Option Value} {a : Nat} (hx : 64 ≤ a) {h : xH} : exF ev cX8_init 1 ([v0], []) [.ref a] h = exF ev cX8_init 4 ([v0], []) [] h := exF_j (i := (i_oi 4)) rfl (if_pos ⟨hx, rfl⟩)
theorem eX8_init_4 {ev : xV} {v0 : Option Value} {h : xH} : exF ev cX8_init 4 ([v0], []) [] h = some (.inl none, h) := exF_r (i := (i_vret)) rfl rfl
noncomputable def cX9_init : xC := [(0, i_aload 0 1),
  (1, i_ci [7, 8, 9, 10] 370 0 4),
  (4, i_vret)]
theorem eX9_init_0 {ev : xV} {x : Nat} {st : List Value} {h : xH} : exF ev cX9_init 0 ([some (.ref x)], []) st h = exF ev cX9_init 1 ([some (.ref x)], []) (.ref x :: st) h := exF_j (i := (i_aload 0 1)) rfl rfl
theorem eX9_init_1 {ev : xV} {v0 : Option Value} {a : Nat} {h : xH} : exF ev cX9_init 1 ([v0], []) [.ref a] h = xO (xckc h [7, 8, 9, 10] a) (fun _ => xBv (ev 370 [.ref a] h) (fun h => exF ev cX9_init 4 ([v0], []) [] h)) := exF_cdv (i := (i_ci [7, 8, 9, 10] 370 0 4)) rfl rfl
theorem eX9_init_4 {ev : xV} {v0 : Option Value} {h : xH} : exF ev cX9_init 4 ([v0], []) [] h = some (.inl none, h) := exF_r (i := (i_vret)) rfl rfl
noncomputable def cX9_kind : xC := [(0, i_const (.int (nI 0)) 1),
  (1, i_iret)]
theorem eX9_kind_0 {ev : xV} {v0 : Option Value} {st : List Value} {h : xH} : exF ev cX9_kind 0 ([v0], []) st h = exF ev cX9_kind 1 ([v0], []) (.int (nI 0) :: st) h := exF_j (i := (i_const (.int (nI 0)) 1)) rfl rfl
theorem eX9_kind_1 {ev : xV} {v0 : Option Value} {x : Int32} {h : xH} : exF ev cX9_kind 1 ([v0], []) [.int x] h = some (.inl (some (.int x)), h) := exF_r (i := (i_iret)) rfl rfl
noncomputable def cX9_upper : xC := [(0, i_const (.int (nI 6)) 2),
  (2, i_iret)]
theorem eX9_upper_0 {ev : xV} {v0 : Option Value} {st : List Value} {h : xH} : exF ev cX9_upper 0 ([v0], []) st h = exF ev cX9_upper 2 ([v0], []) (.int (nI 6) :: st) h := exF_j (i := (i_const (.int (nI 6)) 2)) rfl rfl
theorem eX9_upper_2 {ev : xV} {v0 : Option Value} {x : Int32} {h : xH} : exF ev cX9_upper 2 ([v0], []) [.int x] h = some (.inl (some (.int x)), h) := exF_r (i := (i_iret)) rfl rfl
noncomputable def cX9_lower : xC := [(0, i_const (.int (nI 2)) 1),
  (1, i_iret)]
theorem eX9_lower_0 {ev : xV} {v0 : Option Value} {st : List Value} {h : xH} : exF ev cX9_lower 0 ([v0], []) st h = exF ev cX9_lower 1 ([v0], []) (.int (nI 2) :: st) h := exF_j (i := (i_const (.int (nI 2)) 1)) rfl rfl
theorem eX9_lower_1 {ev : xV} {v0 : Option Value} {x : Int32} {h : xH} : exF ev cX9_lower 1 ([v0], []) [.int x] h = some (.inl (some (.int x)), h) := exF_r (i := (i_iret)) rfl rfl
noncomputable def cX9_shrinks : xC := [(0, i_const (.int (nI 1)) 1),
  (1, i_iret)]
theorem eX9_shrinks_0 {ev : xV} {v0 : Option Value} {st : List Value} {h : xH} : exF ev cX9_shrinks 0 ([v0], []) st h = exF ev cX9_shrinks 1 ([v0], []) (.int (nI 1) :: st) h := exF_j (i := (i_const (.int (nI 1)) 1)) rfl rfl
theorem eX9_shrinks_1 {ev : xV} {v0 : Option Value} {x : Int32} {h : xH} : exF ev cX9_shrinks 1 ([v0], []) [.int x] h = some (.inl (some (.int x)), h) := exF_r (i := (i_iret)) rfl rfl
