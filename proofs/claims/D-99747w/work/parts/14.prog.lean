set_option maxRecDepth 100000
/-- the program: of a method its locals, room for longs, code -/
noncomputable def xpg : List (Option (Nat × Nat × xC)) := [
some (1, 0, cJ0_init),
  some (1, 0, cJ1_init),
  none,
  some (5, 0, cJ10_init_2),
  some (5, 0, cJ11_init),
  none,
  some (5, 0, cJ12_init),
  none,
  some (2, 0, cJ13_init),
  some (2, 0, cJ13_append),
  some (3, 0, cJ13_ensureCapacityInternal),
  none,
  some (1, 0, cJ13_isLatin1),
  none,
  some (1, 0, cJ13_getValue),
  some (1, 0, cJ13_length),
  some (2, 0, cJ14_init),
  some (2, 0, cJ14_append),
  some (1, 0, cJ14_toString),
  some (1, 0, cJ14_length),
  some (4, 0, cJ15_newLength),
  none,
  none,
  some (3, 0, cJ16_copyOfRange),
  some (5, 0, cJ16_copyOfRangeByte),
  some (2, 0, cJ16_checkLength),
  some (2, 0, cJ16_copyOf_2),
  some (4, 0, cJ16_copyOf_3),
  some (1, 0, cJ17_bitCount),
  none,
  none,
  some (2, 0, cJ2_init),
  some (1, 0, cJ2_size),
  some (2, 0, cJ2_get),
  some (2, 0, cJ2_elementData),
  some (2, 0, cJ2_add),
  some (4, 0, cJ2_add_2),
  some (1, 0, cJ2_grow),
  some (4, 0, cJ2_grow_2),
  some (2, 0, cJ3_checkIndex),
  some (3, 0, cJ4_checkIndex),
  none,
  none,
  some (2, 0, cJ5_indexOf),
  some (3, 0, cJ5_indexOf_2),
  some (1, 0, cJ5_isLatin1),
  some (1, 0, cJ5_length),
  some (1, 0, cJ5_coder),
  none,
  some (2, 0, cJ5_charAt),
  some (2, 0, cJ5_checkIndex),
  none,
  some (2, 0, cJ5_init),
  some (5, 0, cJ5_init_2),
  some (3, 0, cJ5_equals),
  some (4, 0, cJ6_indexOf),
  some (1, 0, cJ6_canEncode),
  some (6, 0, cJ6_indexOfChar),
  some (2, 0, cJ6_charAt),
  some (1, 0, cJ6_canEncode_2),
  none,
  some (3, 0, cJ6_equals),
  some (2, 0, cJ7_max),
  some (2, 0, cJ7_min),
  none,
  none,
  none,
  none,
  none,
  none,
  none,
  none,
  none,
  none,
  none,
  none,
  none,
  none,
  none,
  none,
  none,
  none,
  none,
  none,
  none,
  some (7, 0, cL_law),
  some (7, 0, cX0_rests),
  some (1, 0, cX1_init),
  some (3, 0, cX1_copies),
  some (9, 9, cX1_feed),
  some (2, 0, cX1_house),
  some (1, 0, cX1_reads),
  some (3, 0, cX1_in),
  some (2, 0, cX1_days),
  some (3, 0, cX1_door),
  some (2, 0, cX1_isDoor),
  some (1, 0, cX1_doors),
  some (2, 0, cX1_door_2),
  some (2, 0, cX1_isIn),
  some (2, 0, cX1_person),
  some (2, 0, cX1_isPerson),
  some (1, 0, cX1_people),
  some (1, 0, cX1_day),
  some (3, 0, cX1_keeps),
  some (2, 0, cX1_passes),
  some (5, 0, cX1_passes_2),
  some (4, 0, cX1_swells),
  some (3, 0, cX1_between),
  some (4, 0, cX1_sticking),
  some (3, 0, cX1_walk),
  some (4, 0, cX1_isWalked),
  some (2, 0, cX1_plane),
  some (2, 0, cX1_wedge),
  some (2, 0, cX1_force),
  some (1, 0, cX1_undo),
  some (5, 0, cX1_judged),
  some (6, 0, cX1_shut),
  some (1, 0, cX1_shut_2),
  some (2, 0, cX1_range),
  some (2, 0, cX1_isRoom),
  some (1, 0, cX1_rooms),
  some (2, 0, cX1_open),
  some (5, 0, cX1_range_2),
  some (5, 0, cX1_next),
  some (2, 0, cX1_company),
  some (5, 0, cX1_companyOf),
  some (4, 0, cX1_parts),
  some (3, 0, cX1_alone),
  some (5, 0, cX1_bride),
  some (4, 0, cX1_deep),
  some (3, 0, cX1_later),
  some (3, 0, cX1_goesOn),
  some (2, 0, cX1_closes),
  some (4, 0, cX1_comes),
  some (2, 0, cX1_gives),
  some (2, 0, cX1_calm),
  some (5, 0, cX1_hard),
  some (3, 0, cX1_arrives),
  some (5, 0, cX1_arrival),
  some (5, 0, cX1_from),
  some (6, 0, cX1_both),
  some (6, 0, cX1_cut),
  some (4, 0, cX1_planed),
  some (6, 0, cX1_isPlaned),
  some (4, 0, cX1_areTogether),
  some (4, 0, cX1_feel),
  some (1, 0, cX1_wets),
  some (5, 0, cX1_laysWets),
  some (9, 0, cX1_tries),
  some (3, 0, cX1_say),
  some (5, 0, cX1_who),
  some (3, 0, cX1_rattles),
  some (3, 0, cX1_worst),
  some (4, 0, cX1_spared),
  some (5, 0, cX1_opened),
  some (5, 0, cX1_pairs),
  some (12, 12, cX1_chance),
  some (6, 0, cX1_years),
  some (5, 0, cX1_befalls),
  some (2, 0, cX1_draws),
  some (3, 0, cX1_sum),
  some (5, 0, cX1_mark),
  some (2, 0, cX1_count),
  some (9, 0, cX1_rests),
  some (1, 0, cX1_need),
  some (5, 0, cX1_gets),
  some (1, 0, cX10_init),
  some (1, 0, cX10_kind),
  some (1, 0, cX10_upper),
  some (1, 0, cX10_lower),
  some (1, 0, cX10_shrinks),
  some (1, 0, cX11_init),
  some (1, 0, cX11_kind),
  some (1, 0, cX11_upper),
  some (1, 0, cX11_lower),
  some (1, 0, cX11_shrinks),
  some (1, 0, cX12_init),
  some (1, 0, cX12_kind),
  some (1, 0, cX12_upper),
  some (1, 0, cX12_lower),
  some (1, 0, cX12_shrinks),
  some (1, 0, cX13_init),
  some (2, 0, cX14_init),
  some (2, 0, cX14_worked),
  some (2, 0, cX15_init),
  some (2, 0, cX15_worked),
  some (2, 0, cX16_init),
  some (2, 0, cX16_worked),
  some (4, 0, cX17_init),
  some (4, 0, cX17_worked),
  some (1, 0, cX18_init),
  some (1, 0, cX19_init),
  some (3, 0, cX19_isDone),
  some (1, 0, cX2_init),
  some (3, 0, cX2_begin),
  some (1, 0, cX2_next),
  some (2, 0, cX2_at),
  some (1, 0, cX2_isLetter),
  some (1, 0, cX2_isDigit),
  some (2, 0, cX2_house),
  some (7, 0, cX2_which),
  some (2, 0, cX2_wrong),
  some (2, 0, cX2_isFull),
  some (3, 0, cX2_line),
  some (2, 0, cX2_fresh),
  some (3, 0, cX2_name),
  some (5, 0, cX2_door),
  some (3, 0, cX2_passed),
  some (3, 0, cX2_told),
  some (3, 0, cX2_one),
  some (4, 0, cX2_number),
  some (2, 0, cX2_need),
  some (4, 0, cX2_number_2),
  some (5, 0, cX2_ahead),
  some (2, 0, cX2_isSign),
  some (3, 0, cX2_expression),
  some (3, 0, cX2_test),
  some (3, 0, cX2_sum),
  some (2, 0, cX2_product),
  some (5, 0, cX2_part),
  some (2, 0, cX2_need_2),
  some (4, 0, cX2_days),
  some (3, 0, cX2_done),
  some (3, 0, cX20_init),
  some (3, 0, cX20_isDone),
  some (2, 0, cX21_init),
  some (3, 0, cX21_isDone),
  some (2, 0, cX22_init),
  some (3, 0, cX22_isDone),
  some (2, 0, cX23_init),
  some (3, 0, cX23_isDone),
  some (1, 0, cX24_init),
  some (1, 0, cX3_init),
  some (3, 0, cX3_place),
  some (4, 0, cX3_areJoined),
  some (2, 0, cX3_damp),
  some (1, 0, cX4_init),
  some (3, 0, cX4_begin),
  some (2, 0, cX4_sticks),
  some (2, 0, cX4_be),
  some (2, 0, cX4_canPlane),
  some (2, 0, cX4_canWedge),
  some (2, 0, cX4_canForce),
  some (1, 0, cX5_thrown),
  some (7, 7, cX5_feed),
  some (5, 5, cX5_lay),
  some (1, 0, cX5_init),
  some (3, 0, cX5_standsAsAlways),
  some (2, 0, cX5_begins),
  some (3, 0, cX5_starts),
  some (1, 0, cX5_doors),
  some (3, 0, cX5_doorOf),
  some (1, 0, cX5_persons),
  some (2, 0, cX5_house),
  some (7, 7, cX5_cutAll),
  some (1, 0, cX5_isLetter),
  some (1, 0, cX5_rank),
  some (1, 0, cX5_isDigit),
  some (1, 0, cX5_isSignOf),
  some (3, 0, cX5_readLine),
  some (2, 0, cX5_isWord),
  some (5, 0, cX5_readName),
  some (2, 0, cX5_wrong),
  some (1, 0, cX5_isName),
  some (5, 0, cX5_wordHere),
  some (3, 0, cX5_nameAt),
  some (8, 0, cX5_readDoor),
  some (5, 0, cX5_takeTold),
  some (3, 0, cX5_within),
  some (4, 0, cX5_takeOne),
  some (4, 0, cX5_takeAfter),
  some (2, 0, cX5_takeWord),
  some (3, 0, cX5_hasWord),
  some (3, 0, cX5_takeNumber),
  some (2, 0, cX5_readOnce),
  some (3, 0, cX5_readDamp),
  some (3, 0, cX5_whole),
  some (3, 0, cX5_test),
  some (3, 0, cX5_sums),
  some (2, 0, cX5_products),
  some (4, 0, cX5_takePart),
  some (2, 0, cX5_isSign),
  some (3, 0, cX5_emit),
  some (3, 0, cX5_hasSign),
  some (2, 0, cX5_takeSign),
  some (4, 0, cX5_days),
  some (3, 0, cX5_door),
  some (2, 0, cX5_isDoor),
  some (3, 0, cX5_isWedged),
  some (3, 0, cX5_doesStick),
  some (3, 0, cX5_overOf),
  some (2, 0, cX5_person),
  some (2, 0, cX5_isPerson),
  some (1, 0, cX5_day),
  some (2, 0, cX5_keeps),
  some (5, 0, cX5_copies),
  some (2, 0, cX5_passes),
  some (2, 0, cX5_dampOn),
  some (5, 0, cX5_passes_2),
  some (8, 0, cX5_moves),
  some (5, 0, cX5_worthAt),
  some (3, 0, cX5_both),
  some (4, 0, cX5_sticking),
  some (3, 0, cX5_walk),
  some (4, 0, cX5_mayWalk),
  some (3, 0, cX5_behind),
  some (4, 0, cX5_walks),
  some (2, 0, cX5_plane),
  some (2, 0, cX5_wedge),
  some (3, 0, cX5_mayWedge),
  some (2, 0, cX5_force),
  some (3, 0, cX5_mayForce),
  some (1, 0, cX5_undo),
  some (9, 0, cX5_judged),
  some (4, 0, cX5_can),
  some (8, 0, cX5_shutIn),
  some (3, 0, cX5_bits),
  some (1, 0, cX5_shut),
  some (2, 0, cX5_range),
  some (2, 0, cX5_isRoom),
  some (1, 0, cX5_rooms),
  some (2, 0, cX5_openNow),
  some (5, 0, cX5_rangeBy),
  some (8, 0, cX5_onFrom),
  some (2, 0, cX5_company),
  some (6, 0, cX5_companyBy),
  some (3, 0, cX5_alone),
  some (5, 0, cX5_bride),
  some (3, 0, cX5_parts),
  some (4, 0, cX5_deep),
  some (6, 0, cX5_spared),
  some (6, 0, cX5_opened),
  some (4, 0, cX5_pairsBy),
  some (7, 0, cX5_cut),
  some (3, 0, cX5_rattles),
  some (5, 0, cX5_worst),
  some (4, 0, cX5_later),
  some (1, 0, cX5_triesNow),
  some (2, 0, cX5_closes),
  some (5, 0, cX5_behindHow),
  some (2, 0, cX5_gives),
  some (1, 0, cX5_calm),
  some (5, 0, cX5_hard),
  some (3, 0, cX5_arrives),
  some (2, 0, cX5_opensThen),
  some (5, 0, cX5_arrivesBy),
  some (6, 0, cX5_from),
  some (6, 0, cX5_both_2),
  some (4, 0, cX5_planed),
  some (7, 0, cX5_doesPlane),
  some (4, 0, cX5_areOne),
  some (5, 0, cX5_feel),
  some (1, 0, cX5_wets),
  some (6, 0, cX5_wetsNow),
  some (9, 0, cX5_tries),
  some (4, 0, cX5_say),
  some (6, 0, cX5_who),
  some (13, 13, cX5_chance),
  some (12, 0, cX5_rests),
  some (5, 0, cX5_getsBy),
  some (6, 0, cX5_years),
  some (4, 0, cX5_drawsDeed),
  some (2, 0, cX5_draw),
  some (5, 0, cX5_sumOf),
  some (3, 0, cX5_mark),
  some (2, 0, cX5_count),
  some (3, 0, cX6_init),
  some (2, 0, cX7_isOf),
  some (3, 0, cX7_init),
  some (2, 0, cX7_beyond),
  some (1, 0, cX8_init),
  some (1, 0, cX9_init),
  some (1, 0, cX9_kind),
  some (1, 0, cX9_upper),
  some (1, 0, cX9_lower),
  some (1, 0, cX9_shrinks)]
def xnd (v : Value) : Bool := match v with
  | .double _ => false
  | _ => true
def xEok (n : Nat) (as : List Value) : Bool := Nat.ble (xEnt1 as).length n && as.all xnd
/-- what a call of a method comes to, at most D frames deep -/
noncomputable def evD : Nat → xV
  | 0 => fun _ _ _ => none
  | D + 1 => fun k as h => match xpg[k]? with
    | some (some q) => if xEok q.1 as = true then exF (evD D) q.2.2 0 (xEnt q.1 q.2.1 as) [] h else none
    | _ => none
theorem evD_at {D k n m : Nat} {C : xC} {as : List Value} {h : xH} (hp : xpg[k]? = some (some (n, m, C))) (hn : xEok n as = true) : evD (D + 1) k as h = exF (evD D) C 0 (xEnt n m as) [] h := by
  show (match xpg[k]? with | some (some q) => if xEok q.1 as = true then exF (evD D) q.2.2 0 (xEnt q.1 q.2.1 as) [] h else none | _ => none) = _
  rw [hp]
  exact if_pos hn
theorem vJ0_init {D : Nat} {x0 : Nat} {h : xH} : evD (D + 1) 0 [.ref x0] h = exF (evD D) cJ0_init 0 ([some (.ref x0)], []) [] h := evD_at (n := 1) (m := 0) (C := cJ0_init) rfl rfl
theorem vJ1_init {D : Nat} {x0 : Nat} {h : xH} : evD (D + 1) 1 [.ref x0] h = exF (evD D) cJ1_init 0 ([some (.ref x0)], []) [] h := evD_at (n := 1) (m := 0) (C := cJ1_init) rfl rfl
theorem vJ10_init_2 {D : Nat} {x0 : Nat} {x1 : Nat} {x2 : Nat} {x3 : Int32} {x4 : Int32} {h : xH} : evD (D + 1) 3 [.ref x0, .ref x1, .ref x2, .int x3, .int x4] h = exF (evD D) cJ10_init_2 0 ([some (.ref x0), some (.ref x1), some (.ref x2), some (.int x3), some (.int x4)], []) [] h := evD_at (n := 5) (m := 0) (C := cJ10_init_2) rfl rfl
theorem vJ11_init {D : Nat} {x0 : Nat} {x1 : Nat} {x2 : Nat} {x3 : Int32} {x4 : Int32} {h : xH} : evD (D + 1) 4 [.ref x0, .ref x1, .ref x2, .int x3, .int x4] h = exF (evD D) cJ11_init 0 ([some (.ref x0), some (.ref x1), some (.ref x2), some (.int x3), some (.int x4)], []) [] h := evD_at (n := 5) (m := 0) (C := cJ11_init) rfl rfl
theorem vJ12_init {D : Nat} {x0 : Nat} {x1 : Nat} {x2 : Nat} {x3 : Int32} {x4 : Int32} {h : xH} : evD (D + 1) 6 [.ref x0, .ref x1, .ref x2, .int x3, .int x4] h = exF (evD D) cJ12_init 0 ([some (.ref x0), some (.ref x1), some (.ref x2), some (.int x3), some (.int x4)], []) [] h := evD_at (n := 5) (m := 0) (C := cJ12_init) rfl rfl
theorem vJ13_init {D : Nat} {x0 : Nat} {x1 : Int32} {h : xH} : evD (D + 1) 8 [.ref x0, .int x1] h = exF (evD D) cJ13_init 0 ([some (.ref x0), some (.int x1)], []) [] h := evD_at (n := 2) (m := 0) (C := cJ13_init) rfl rfl
theorem vJ13_append {D : Nat} {x0 : Nat} {x1 : Int32} {h : xH} : evD (D + 1) 9 [.ref x0, .int x1] h = exF (evD D) cJ13_append 0 ([some (.ref x0), some (.int x1)], []) [] h := evD_at (n := 2) (m := 0) (C := cJ13_append) rfl rfl
theorem vJ13_ensureCapacityInternal {D : Nat} {x0 : Nat} {x1 : Int32} {h : xH} : evD (D + 1) 10 [.ref x0, .int x1] h = exF (evD D) cJ13_ensureCapacityInternal 0 ([some (.ref x0), some (.int x1), none], []) [] h := evD_at (n := 3) (m := 0) (C := cJ13_ensureCapacityInternal) rfl rfl
theorem vJ13_isLatin1 {D : Nat} {x0 : Nat} {h : xH} : evD (D + 1) 12 [.ref x0] h = exF (evD D) cJ13_isLatin1 0 ([some (.ref x0)], []) [] h := evD_at (n := 1) (m := 0) (C := cJ13_isLatin1) rfl rfl
theorem vJ13_getValue {D : Nat} {x0 : Nat} {h : xH} : evD (D + 1) 14 [.ref x0] h = exF (evD D) cJ13_getValue 0 ([some (.ref x0)], []) [] h := evD_at (n := 1) (m := 0) (C := cJ13_getValue) rfl rfl
theorem vJ13_length {D : Nat} {x0 : Nat} {h : xH} : evD (D + 1) 15 [.ref x0] h = exF (evD D) cJ13_length 0 ([some (.ref x0)], []) [] h := evD_at (n := 1) (m := 0) (C := cJ13_length) rfl rfl
theorem vJ14_init {D : Nat} {x0 : Nat} {x1 : Int32} {h : xH} : evD (D + 1) 16 [.ref x0, .int x1] h = exF (evD D) cJ14_init 0 ([some (.ref x0), some (.int x1)], []) [] h := evD_at (n := 2) (m := 0) (C := cJ14_init) rfl rfl
theorem vJ14_append {D : Nat} {x0 : Nat} {x1 : Int32} {h : xH} : evD (D + 1) 17 [.ref x0, .int x1] h = exF (evD D) cJ14_append 0 ([some (.ref x0), some (.int x1)], []) [] h := evD_at (n := 2) (m := 0) (C := cJ14_append) rfl rfl
theorem vJ14_toString {D : Nat} {x0 : Nat} {h : xH} : evD (D + 1) 18 [.ref x0] h = exF (evD D) cJ14_toString 0 ([some (.ref x0)], []) [] h := evD_at (n := 1) (m := 0) (C := cJ14_toString) rfl rfl
theorem vJ14_length {D : Nat} {x0 : Nat} {h : xH} : evD (D + 1) 19 [.ref x0] h = exF (evD D) cJ14_length 0 ([some (.ref x0)], []) [] h := evD_at (n := 1) (m := 0) (C := cJ14_length) rfl rfl
theorem vJ15_newLength {D : Nat} {x0 : Int32} {x1 : Int32} {x2 : Int32} {h : xH} : evD (D + 1) 20 [.int x0, .int x1, .int x2] h = exF (evD D) cJ15_newLength 0 ([some (.int x0), some (.int x1), some (.int x2), none], []) [] h := evD_at (n := 4) (m := 0) (C := cJ15_newLength) rfl rfl
theorem vJ16_copyOfRange {D : Nat} {x0 : Nat} {x1 : Int32} {x2 : Int32} {h : xH} : evD (D + 1) 23 [.ref x0, .int x1, .int x2] h = exF (evD D) cJ16_copyOfRange 0 ([some (.ref x0), some (.int x1), some (.int x2)], []) [] h := evD_at (n := 3) (m := 0) (C := cJ16_copyOfRange) rfl rfl
theorem vJ16_copyOfRangeByte {D : Nat} {x0 : Nat} {x1 : Int32} {x2 : Int32} {h : xH} : evD (D + 1) 24 [.ref x0, .int x1, .int x2] h = exF (evD D) cJ16_copyOfRangeByte 0 ([some (.ref x0), some (.int x1), some (.int x2), none, none], []) [] h := evD_at (n := 5) (m := 0) (C := cJ16_copyOfRangeByte) rfl rfl
theorem vJ16_checkLength {D : Nat} {x0 : Int32} {x1 : Int32} {h : xH} : evD (D + 1) 25 [.int x0, .int x1] h = exF (evD D) cJ16_checkLength 0 ([some (.int x0), some (.int x1)], []) [] h := evD_at (n := 2) (m := 0) (C := cJ16_checkLength) rfl rfl
theorem vJ16_copyOf_2 {D : Nat} {x0 : Nat} {x1 : Int32} {h : xH} : evD (D + 1) 26 [.ref x0, .int x1] h = exF (evD D) cJ16_copyOf_2 0 ([some (.ref x0), some (.int x1)], []) [] h := evD_at (n := 2) (m := 0) (C := cJ16_copyOf_2) rfl rfl
theorem vJ16_copyOf_3 {D : Nat} {x0 : Nat} {x1 : Int32} {x2 : Nat} {h : xH} : evD (D + 1) 27 [.ref x0, .int x1, .ref x2] h = exF (evD D) cJ16_copyOf_3 0 ([some (.ref x0), some (.int x1), some (.ref x2), none], []) [] h := evD_at (n := 4) (m := 0) (C := cJ16_copyOf_3) rfl rfl
theorem vJ17_bitCount {D : Nat} {x0 : Int32} {h : xH} : evD (D + 1) 28 [.int x0] h = exF (evD D) cJ17_bitCount 0 ([some (.int x0)], []) [] h := evD_at (n := 1) (m := 0) (C := cJ17_bitCount) rfl rfl
theorem vJ2_init {D : Nat} {x0 : Nat} {x1 : Int32} {h : xH} : evD (D + 1) 31 [.ref x0, .int x1] h = exF (evD D) cJ2_init 0 ([some (.ref x0), some (.int x1)], []) [] h := evD_at (n := 2) (m := 0) (C := cJ2_init) rfl rfl
theorem vJ2_size {D : Nat} {x0 : Nat} {h : xH} : evD (D + 1) 32 [.ref x0] h = exF (evD D) cJ2_size 0 ([some (.ref x0)], []) [] h := evD_at (n := 1) (m := 0) (C := cJ2_size) rfl rfl
theorem vJ2_get {D : Nat} {x0 : Nat} {x1 : Int32} {h : xH} : evD (D + 1) 33 [.ref x0, .int x1] h = exF (evD D) cJ2_get 0 ([some (.ref x0), some (.int x1)], []) [] h := evD_at (n := 2) (m := 0) (C := cJ2_get) rfl rfl
theorem vJ2_elementData {D : Nat} {x0 : Nat} {x1 : Int32} {h : xH} : evD (D + 1) 34 [.ref x0, .int x1] h = exF (evD D) cJ2_elementData 0 ([some (.ref x0), some (.int x1)], []) [] h := evD_at (n := 2) (m := 0) (C := cJ2_elementData) rfl rfl
theorem vJ2_add {D : Nat} {x0 : Nat} {x1 : Nat} {h : xH} : evD (D + 1) 35 [.ref x0, .ref x1] h = exF (evD D) cJ2_add 0 ([some (.ref x0), some (.ref x1)], []) [] h := evD_at (n := 2) (m := 0) (C := cJ2_add) rfl rfl
theorem vJ2_add_2 {D : Nat} {x0 : Nat} {x1 : Nat} {x2 : Nat} {x3 : Int32} {h : xH} : evD (D + 1) 36 [.ref x0, .ref x1, .ref x2, .int x3] h = exF (evD D) cJ2_add_2 0 ([some (.ref x0), some (.ref x1), some (.ref x2), some (.int x3)], []) [] h := evD_at (n := 4) (m := 0) (C := cJ2_add_2) rfl rfl
theorem vJ2_grow {D : Nat} {x0 : Nat} {h : xH} : evD (D + 1) 37 [.ref x0] h = exF (evD D) cJ2_grow 0 ([some (.ref x0)], []) [] h := evD_at (n := 1) (m := 0) (C := cJ2_grow) rfl rfl
theorem vJ2_grow_2 {D : Nat} {x0 : Nat} {x1 : Int32} {h : xH} : evD (D + 1) 38 [.ref x0, .int x1] h = exF (evD D) cJ2_grow_2 0 ([some (.ref x0), some (.int x1), none, none], []) [] h := evD_at (n := 4) (m := 0) (C := cJ2_grow_2) rfl rfl
theorem vJ3_checkIndex {D : Nat} {x0 : Int32} {x1 : Int32} {h : xH} : evD (D + 1) 39 [.int x0, .int x1] h = exF (evD D) cJ3_checkIndex 0 ([some (.int x0), some (.int x1)], []) [] h := evD_at (n := 2) (m := 0) (C := cJ3_checkIndex) rfl rfl
theorem vJ4_checkIndex {D : Nat} {x0 : Int32} {x1 : Int32} {x2 : Nat} {h : xH} : evD (D + 1) 40 [.int x0, .int x1, .ref x2] h = exF (evD D) cJ4_checkIndex 0 ([some (.int x0), some (.int x1), some (.ref x2)], []) [] h := evD_at (n := 3) (m := 0) (C := cJ4_checkIndex) rfl rfl
theorem vJ5_indexOf {D : Nat} {x0 : Nat} {x1 : Int32} {h : xH} : evD (D + 1) 43 [.ref x0, .int x1] h = exF (evD D) cJ5_indexOf 0 ([some (.ref x0), some (.int x1)], []) [] h := evD_at (n := 2) (m := 0) (C := cJ5_indexOf) rfl rfl
theorem vJ5_indexOf_2 {D : Nat} {x0 : Nat} {x1 : Int32} {x2 : Int32} {h : xH} : evD (D + 1) 44 [.ref x0, .int x1, .int x2] h = exF (evD D) cJ5_indexOf_2 0 ([some (.ref x0), some (.int x1), some (.int x2)], []) [] h := evD_at (n := 3) (m := 0) (C := cJ5_indexOf_2) rfl rfl
theorem vJ5_isLatin1 {D : Nat} {x0 : Nat} {h : xH} : evD (D + 1) 45 [.ref x0] h = exF (evD D) cJ5_isLatin1 0 ([some (.ref x0)], []) [] h := evD_at (n := 1) (m := 0) (C := cJ5_isLatin1) rfl rfl
theorem vJ5_length {D : Nat} {x0 : Nat} {h : xH} : evD (D + 1) 46 [.ref x0] h = exF (evD D) cJ5_length 0 ([some (.ref x0)], []) [] h := evD_at (n := 1) (m := 0) (C := cJ5_length) rfl rfl
theorem vJ5_coder {D : Nat} {x0 : Nat} {h : xH} : evD (D + 1) 47 [.ref x0] h = exF (evD D) cJ5_coder 0 ([some (.ref x0)], []) [] h := evD_at (n := 1) (m := 0) (C := cJ5_coder) rfl rfl
theorem vJ5_charAt {D : Nat} {x0 : Nat} {x1 : Int32} {h : xH} : evD (D + 1) 49 [.ref x0, .int x1] h = exF (evD D) cJ5_charAt 0 ([some (.ref x0), some (.int x1)], []) [] h := evD_at (n := 2) (m := 0) (C := cJ5_charAt) rfl rfl
theorem vJ5_checkIndex {D : Nat} {x0 : Int32} {x1 : Int32} {h : xH} : evD (D + 1) 50 [.int x0, .int x1] h = exF (evD D) cJ5_checkIndex 0 ([some (.int x0), some (.int x1)], []) [] h := evD_at (n := 2) (m := 0) (C := cJ5_checkIndex) rfl rfl
theorem vJ5_init {D : Nat} {x0 : Nat} {x1 : Nat} {h : xH} : evD (D + 1) 52 [.ref x0, .ref x1] h = exF (evD D) cJ5_init 0 ([some (.ref x0), some (.ref x1)], []) [] h := evD_at (n := 2) (m := 0) (C := cJ5_init) rfl rfl
theorem vJ5_init_2 {D : Nat} {x0 : Nat} {x1 : Nat} {x2 : Nat} {h : xH} : evD (D + 1) 53 [.ref x0, .ref x1, .ref x2] h = exF (evD D) cJ5_init_2 0 ([some (.ref x0), some (.ref x1), some (.ref x2), none, none], []) [] h := evD_at (n := 5) (m := 0) (C := cJ5_init_2) rfl rfl
theorem vJ5_equals {D : Nat} {x0 : Nat} {x1 : Nat} {h : xH} : evD (D + 1) 54 [.ref x0, .ref x1] h = exF (evD D) cJ5_equals 0 ([some (.ref x0), some (.ref x1), none], []) [] h := evD_at (n := 3) (m := 0) (C := cJ5_equals) rfl rfl
theorem vJ6_indexOf {D : Nat} {x0 : Nat} {x1 : Int32} {x2 : Int32} {x3 : Int32} {h : xH} : evD (D + 1) 55 [.ref x0, .int x1, .int x2, .int x3] h = exF (evD D) cJ6_indexOf 0 ([some (.ref x0), some (.int x1), some (.int x2), some (.int x3)], []) [] h := evD_at (n := 4) (m := 0) (C := cJ6_indexOf) rfl rfl
theorem vJ6_canEncode {D : Nat} {x0 : Int32} {h : xH} : evD (D + 1) 56 [.int x0] h = exF (evD D) cJ6_canEncode 0 ([some (.int x0)], []) [] h := evD_at (n := 1) (m := 0) (C := cJ6_canEncode) rfl rfl
theorem vJ6_indexOfChar {D : Nat} {x0 : Nat} {x1 : Int32} {x2 : Int32} {x3 : Int32} {h : xH} : evD (D + 1) 57 [.ref x0, .int x1, .int x2, .int x3] h = exF (evD D) cJ6_indexOfChar 0 ([some (.ref x0), some (.int x1), some (.int x2), some (.int x3), none, none], []) [] h := evD_at (n := 6) (m := 0) (C := cJ6_indexOfChar) rfl rfl
theorem vJ6_charAt {D : Nat} {x0 : Nat} {x1 : Int32} {h : xH} : evD (D + 1) 58 [.ref x0, .int x1] h = exF (evD D) cJ6_charAt 0 ([some (.ref x0), some (.int x1)], []) [] h := evD_at (n := 2) (m := 0) (C := cJ6_charAt) rfl rfl
theorem vJ6_canEncode_2 {D : Nat} {x0 : Int32} {h : xH} : evD (D + 1) 59 [.int x0] h = exF (evD D) cJ6_canEncode_2 0 ([some (.int x0)], []) [] h := evD_at (n := 1) (m := 0) (C := cJ6_canEncode_2) rfl rfl
theorem vJ6_equals {D : Nat} {x0 : Nat} {x1 : Nat} {h : xH} : evD (D + 1) 61 [.ref x0, .ref x1] h = exF (evD D) cJ6_equals 0 ([some (.ref x0), some (.ref x1), none], []) [] h := evD_at (n := 3) (m := 0) (C := cJ6_equals) rfl rfl
theorem vJ7_max {D : Nat} {x0 : Int32} {x1 : Int32} {h : xH} : evD (D + 1) 62 [.int x0, .int x1] h = exF (evD D) cJ7_max 0 ([some (.int x0), some (.int x1)], []) [] h := evD_at (n := 2) (m := 0) (C := cJ7_max) rfl rfl
theorem vJ7_min {D : Nat} {x0 : Int32} {x1 : Int32} {h : xH} : evD (D + 1) 63 [.int x0, .int x1] h = exF (evD D) cJ7_min 0 ([some (.int x0), some (.int x1)], []) [] h := evD_at (n := 2) (m := 0) (C := cJ7_min) rfl rfl
theorem vL_law {D : Nat} {x0 : Nat} {h : xH} : evD (D + 1) 85 [.ref x0] h = exF (evD D) cL_law 0 ([some (.ref x0), none, none, none, none, none, none], []) [] h := evD_at (n := 7) (m := 0) (C := cL_law) rfl rfl
theorem vX0_rests {D : Nat} {x0 : Nat} {x1 : Int32} {x2 : Int32} {x3 : Int32} {x4 : Int32} {x5 : Nat} {h : xH} : evD (D + 1) 86 [.ref x0, .int x1, .int x2, .int x3, .int x4, .ref x5] h = exF (evD D) cX0_rests 0 ([some (.ref x0), some (.int x1), some (.int x2), some (.int x3), some (.int x4), some (.ref x5), none], []) [] h := evD_at (n := 7) (m := 0) (C := cX0_rests) rfl rfl
theorem vX1_init {D : Nat} {x0 : Nat} {h : xH} : evD (D + 1) 87 [.ref x0] h = exF (evD D) cX1_init 0 ([some (.ref x0)], []) [] h := evD_at (n := 1) (m := 0) (C := cX1_init) rfl rfl
theorem vX1_copies {D : Nat} {x0 : Nat} {x1 : Nat} {h : xH} : evD (D + 1) 88 [.ref x0, .ref x1] h = exF (evD D) cX1_copies 0 ([some (.ref x0), some (.ref x1), none], []) [] h := evD_at (n := 3) (m := 0) (C := cX1_copies) rfl rfl
theorem vX1_feed {D : Nat} {x0 : Nat} {x1 : Int64} {x2 : Int64} {x3 : Int64} {h : xH} : evD (D + 1) 89 [.ref x0, .long x1, .long x2, .long x3] h = exF (evD D) cX1_feed 0 ([some (.ref x0), none, none, none, none, none, none, none, none], [none, some x1, none, some x2, none, some x3, none, none, none]) [] h := evD_at (n := 9) (m := 9) (C := cX1_feed) rfl rfl
theorem vX1_house {D : Nat} {x0 : Nat} {h : xH} : evD (D + 1) 90 [.ref x0] h = exF (evD D) cX1_house 0 ([some (.ref x0), none], []) [] h := evD_at (n := 2) (m := 0) (C := cX1_house) rfl rfl
theorem vX1_reads {D : Nat} {x0 : Nat} {h : xH} : evD (D + 1) 91 [.ref x0] h = exF (evD D) cX1_reads 0 ([some (.ref x0)], []) [] h := evD_at (n := 1) (m := 0) (C := cX1_reads) rfl rfl
theorem vX1_in {D : Nat} {x0 : Int32} {x1 : Int32} {x2 : Int32} {h : xH} : evD (D + 1) 92 [.int x0, .int x1, .int x2] h = exF (evD D) cX1_in 0 ([some (.int x0), some (.int x1), some (.int x2)], []) [] h := evD_at (n := 3) (m := 0) (C := cX1_in) rfl rfl
theorem vX1_days {D : Nat} {x0 : Nat} {h : xH} : evD (D + 1) 93 [.ref x0] h = exF (evD D) cX1_days 0 ([some (.ref x0), none], []) [] h := evD_at (n := 2) (m := 0) (C := cX1_days) rfl rfl
theorem vX1_door {D : Nat} {x0 : Nat} {x1 : Int32} {x2 : Int32} {h : xH} : evD (D + 1) 94 [.ref x0, .int x1, .int x2] h = exF (evD D) cX1_door 0 ([some (.ref x0), some (.int x1), some (.int x2)], []) [] h := evD_at (n := 3) (m := 0) (C := cX1_door) rfl rfl
theorem vX1_isDoor {D : Nat} {x0 : Nat} {x1 : Int32} {h : xH} : evD (D + 1) 95 [.ref x0, .int x1] h = exF (evD D) cX1_isDoor 0 ([some (.ref x0), some (.int x1)], []) [] h := evD_at (n := 2) (m := 0) (C := cX1_isDoor) rfl rfl
theorem vX1_doors {D : Nat} {x0 : Nat} {h : xH} : evD (D + 1) 96 [.ref x0] h = exF (evD D) cX1_doors 0 ([some (.ref x0)], []) [] h := evD_at (n := 1) (m := 0) (C := cX1_doors) rfl rfl
theorem vX1_door_2 {D : Nat} {x0 : Nat} {x1 : Int32} {h : xH} : evD (D + 1) 97 [.ref x0, .int x1] h = exF (evD D) cX1_door_2 0 ([some (.ref x0), some (.int x1)], []) [] h := evD_at (n := 2) (m := 0) (C := cX1_door_2) rfl rfl
theorem vX1_isIn {D : Nat} {x0 : Int32} {x1 : Int32} {h : xH} : evD (D + 1) 98 [.int x0, .int x1] h = exF (evD D) cX1_isIn 0 ([some (.int x0), some (.int x1)], []) [] h := evD_at (n := 2) (m := 0) (C := cX1_isIn) rfl rfl
theorem vX1_person {D : Nat} {x0 : Nat} {x1 : Int32} {h : xH} : evD (D + 1) 99 [.ref x0, .int x1] h = exF (evD D) cX1_person 0 ([some (.ref x0), some (.int x1)], []) [] h := evD_at (n := 2) (m := 0) (C := cX1_person) rfl rfl
theorem vX1_isPerson {D : Nat} {x0 : Nat} {x1 : Int32} {h : xH} : evD (D + 1) 100 [.ref x0, .int x1] h = exF (evD D) cX1_isPerson 0 ([some (.ref x0), some (.int x1)], []) [] h := evD_at (n := 2) (m := 0) (C := cX1_isPerson) rfl rfl
theorem vX1_people {D : Nat} {x0 : Nat} {h : xH} : evD (D + 1) 101 [.ref x0] h = exF (evD D) cX1_people 0 ([some (.ref x0)], []) [] h := evD_at (n := 1) (m := 0) (C := cX1_people) rfl rfl
theorem vX1_day {D : Nat} {x0 : Nat} {h : xH} : evD (D + 1) 102 [.ref x0] h = exF (evD D) cX1_day 0 ([some (.ref x0)], []) [] h := evD_at (n := 1) (m := 0) (C := cX1_day) rfl rfl
theorem vX1_keeps {D : Nat} {x0 : Nat} {h : xH} : evD (D + 1) 103 [.ref x0] h = exF (evD D) cX1_keeps 0 ([some (.ref x0), none, none], []) [] h := evD_at (n := 3) (m := 0) (C := cX1_keeps) rfl rfl
theorem vX1_passes {D : Nat} {x0 : Nat} {x1 : Nat} {h : xH} : evD (D + 1) 104 [.ref x0, .ref x1] h = exF (evD D) cX1_passes 0 ([some (.ref x0), some (.ref x1)], []) [] h := evD_at (n := 2) (m := 0) (C := cX1_passes) rfl rfl
theorem vX1_passes_2 {D : Nat} {x0 : Nat} {x1 : Nat} {x2 : Int32} {h : xH} : evD (D + 1) 105 [.ref x0, .ref x1, .int x2] h = exF (evD D) cX1_passes_2 0 ([some (.ref x0), some (.ref x1), some (.int x2), none, none], []) [] h := evD_at (n := 5) (m := 0) (C := cX1_passes_2) rfl rfl
theorem vX1_swells {D : Nat} {x0 : Nat} {x1 : Nat} {x2 : Int32} {x3 : Int32} {h : xH} : evD (D + 1) 106 [.ref x0, .ref x1, .int x2, .int x3] h = exF (evD D) cX1_swells 0 ([some (.ref x0), some (.ref x1), some (.int x2), some (.int x3)], []) [] h := evD_at (n := 4) (m := 0) (C := cX1_swells) rfl rfl
theorem vX1_between {D : Nat} {x0 : Int32} {x1 : Int32} {x2 : Int32} {h : xH} : evD (D + 1) 107 [.int x0, .int x1, .int x2] h = exF (evD D) cX1_between 0 ([some (.int x0), some (.int x1), some (.int x2)], []) [] h := evD_at (n := 3) (m := 0) (C := cX1_between) rfl rfl
theorem vX1_sticking {D : Nat} {x0 : Nat} {x1 : Nat} {h : xH} : evD (D + 1) 108 [.ref x0, .ref x1] h = exF (evD D) cX1_sticking 0 ([some (.ref x0), some (.ref x1), none, none], []) [] h := evD_at (n := 4) (m := 0) (C := cX1_sticking) rfl rfl
theorem vX1_walk {D : Nat} {x0 : Nat} {x1 : Int32} {x2 : Int32} {h : xH} : evD (D + 1) 109 [.ref x0, .int x1, .int x2] h = exF (evD D) cX1_walk 0 ([some (.ref x0), some (.int x1), some (.int x2)], []) [] h := evD_at (n := 3) (m := 0) (C := cX1_walk) rfl rfl
theorem vX1_isWalked {D : Nat} {x0 : Nat} {x1 : Nat} {x2 : Int32} {x3 : Int32} {h : xH} : evD (D + 1) 110 [.ref x0, .ref x1, .int x2, .int x3] h = exF (evD D) cX1_isWalked 0 ([some (.ref x0), some (.ref x1), some (.int x2), some (.int x3)], []) [] h := evD_at (n := 4) (m := 0) (C := cX1_isWalked) rfl rfl
theorem vX1_plane {D : Nat} {x0 : Nat} {x1 : Int32} {h : xH} : evD (D + 1) 111 [.ref x0, .int x1] h = exF (evD D) cX1_plane 0 ([some (.ref x0), some (.int x1)], []) [] h := evD_at (n := 2) (m := 0) (C := cX1_plane) rfl rfl
theorem vX1_wedge {D : Nat} {x0 : Nat} {x1 : Int32} {h : xH} : evD (D + 1) 112 [.ref x0, .int x1] h = exF (evD D) cX1_wedge 0 ([some (.ref x0), some (.int x1)], []) [] h := evD_at (n := 2) (m := 0) (C := cX1_wedge) rfl rfl
theorem vX1_force {D : Nat} {x0 : Nat} {x1 : Int32} {h : xH} : evD (D + 1) 113 [.ref x0, .int x1] h = exF (evD D) cX1_force 0 ([some (.ref x0), some (.int x1)], []) [] h := evD_at (n := 2) (m := 0) (C := cX1_force) rfl rfl
theorem vX1_undo {D : Nat} {x0 : Nat} {h : xH} : evD (D + 1) 114 [.ref x0] h = exF (evD D) cX1_undo 0 ([some (.ref x0)], []) [] h := evD_at (n := 1) (m := 0) (C := cX1_undo) rfl rfl
theorem vX1_judged {D : Nat} {x0 : Nat} {x1 : Int32} {h : xH} : evD (D + 1) 115 [.ref x0, .int x1] h = exF (evD D) cX1_judged 0 ([some (.ref x0), some (.int x1), none, none, none], []) [] h := evD_at (n := 5) (m := 0) (C := cX1_judged) rfl rfl
theorem vX1_shut {D : Nat} {x0 : Nat} {x1 : Nat} {h : xH} : evD (D + 1) 116 [.ref x0, .ref x1] h = exF (evD D) cX1_shut 0 ([some (.ref x0), some (.ref x1), none, none, none, none], []) [] h := evD_at (n := 6) (m := 0) (C := cX1_shut) rfl rfl
theorem vX1_shut_2 {D : Nat} {x0 : Nat} {h : xH} : evD (D + 1) 117 [.ref x0] h = exF (evD D) cX1_shut_2 0 ([some (.ref x0)], []) [] h := evD_at (n := 1) (m := 0) (C := cX1_shut_2) rfl rfl
theorem vX1_range {D : Nat} {x0 : Nat} {x1 : Int32} {h : xH} : evD (D + 1) 118 [.ref x0, .int x1] h = exF (evD D) cX1_range 0 ([some (.ref x0), some (.int x1)], []) [] h := evD_at (n := 2) (m := 0) (C := cX1_range) rfl rfl
theorem vX1_isRoom {D : Nat} {x0 : Nat} {x1 : Int32} {h : xH} : evD (D + 1) 119 [.ref x0, .int x1] h = exF (evD D) cX1_isRoom 0 ([some (.ref x0), some (.int x1)], []) [] h := evD_at (n := 2) (m := 0) (C := cX1_isRoom) rfl rfl
theorem vX1_rooms {D : Nat} {x0 : Nat} {h : xH} : evD (D + 1) 120 [.ref x0] h = exF (evD D) cX1_rooms 0 ([some (.ref x0)], []) [] h := evD_at (n := 1) (m := 0) (C := cX1_rooms) rfl rfl
theorem vX1_open {D : Nat} {x0 : Nat} {x1 : Nat} {h : xH} : evD (D + 1) 121 [.ref x0, .ref x1] h = exF (evD D) cX1_open 0 ([some (.ref x0), some (.ref x1)], []) [] h := evD_at (n := 2) (m := 0) (C := cX1_open) rfl rfl
theorem vX1_range_2 {D : Nat} {x0 : Nat} {x1 : Int32} {x2 : Int32} {h : xH} : evD (D + 1) 122 [.ref x0, .int x1, .int x2] h = exF (evD D) cX1_range_2 0 ([some (.ref x0), some (.int x1), some (.int x2), none, none], []) [] h := evD_at (n := 5) (m := 0) (C := cX1_range_2) rfl rfl
theorem vX1_next {D : Nat} {x0 : Nat} {x1 : Int32} {x2 : Int32} {h : xH} : evD (D + 1) 123 [.ref x0, .int x1, .int x2] h = exF (evD D) cX1_next 0 ([some (.ref x0), some (.int x1), some (.int x2), none, none], []) [] h := evD_at (n := 5) (m := 0) (C := cX1_next) rfl rfl
theorem vX1_company {D : Nat} {x0 : Nat} {x1 : Int32} {h : xH} : evD (D + 1) 124 [.ref x0, .int x1] h = exF (evD D) cX1_company 0 ([some (.ref x0), some (.int x1)], []) [] h := evD_at (n := 2) (m := 0) (C := cX1_company) rfl rfl
theorem vX1_companyOf {D : Nat} {x0 : Nat} {x1 : Int32} {h : xH} : evD (D + 1) 125 [.ref x0, .int x1] h = exF (evD D) cX1_companyOf 0 ([some (.ref x0), some (.int x1), none, none, none], []) [] h := evD_at (n := 5) (m := 0) (C := cX1_companyOf) rfl rfl
theorem vX1_parts {D : Nat} {x0 : Nat} {h : xH} : evD (D + 1) 126 [.ref x0] h = exF (evD D) cX1_parts 0 ([some (.ref x0), none, none, none], []) [] h := evD_at (n := 4) (m := 0) (C := cX1_parts) rfl rfl
theorem vX1_alone {D : Nat} {x0 : Nat} {h : xH} : evD (D + 1) 127 [.ref x0] h = exF (evD D) cX1_alone 0 ([some (.ref x0), none, none], []) [] h := evD_at (n := 3) (m := 0) (C := cX1_alone) rfl rfl
theorem vX1_bride {D : Nat} {x0 : Nat} {h : xH} : evD (D + 1) 128 [.ref x0] h = exF (evD D) cX1_bride 0 ([some (.ref x0), none, none, none, none], []) [] h := evD_at (n := 5) (m := 0) (C := cX1_bride) rfl rfl
theorem vX1_deep {D : Nat} {x0 : Nat} {x1 : Int32} {h : xH} : evD (D + 1) 129 [.ref x0, .int x1] h = exF (evD D) cX1_deep 0 ([some (.ref x0), some (.int x1), none, none], []) [] h := evD_at (n := 4) (m := 0) (C := cX1_deep) rfl rfl
theorem vX1_later {D : Nat} {x0 : Nat} {x1 : Int32} {x2 : Int32} {h : xH} : evD (D + 1) 130 [.ref x0, .int x1, .int x2] h = exF (evD D) cX1_later 0 ([some (.ref x0), some (.int x1), some (.int x2)], []) [] h := evD_at (n := 3) (m := 0) (C := cX1_later) rfl rfl
theorem vX1_goesOn {D : Nat} {x0 : Nat} {x1 : Int32} {h : xH} : evD (D + 1) 131 [.ref x0, .int x1] h = exF (evD D) cX1_goesOn 0 ([some (.ref x0), some (.int x1), none], []) [] h := evD_at (n := 3) (m := 0) (C := cX1_goesOn) rfl rfl
theorem vX1_closes {D : Nat} {x0 : Nat} {x1 : Int32} {h : xH} : evD (D + 1) 132 [.ref x0, .int x1] h = exF (evD D) cX1_closes 0 ([some (.ref x0), some (.int x1)], []) [] h := evD_at (n := 2) (m := 0) (C := cX1_closes) rfl rfl
theorem vX1_comes {D : Nat} {x0 : Nat} {x1 : Int32} {x2 : Int32} {h : xH} : evD (D + 1) 133 [.ref x0, .int x1, .int x2] h = exF (evD D) cX1_comes 0 ([some (.ref x0), some (.int x1), some (.int x2), none], []) [] h := evD_at (n := 4) (m := 0) (C := cX1_comes) rfl rfl
theorem vX1_gives {D : Nat} {x0 : Nat} {x1 : Int32} {h : xH} : evD (D + 1) 134 [.ref x0, .int x1] h = exF (evD D) cX1_gives 0 ([some (.ref x0), some (.int x1)], []) [] h := evD_at (n := 2) (m := 0) (C := cX1_gives) rfl rfl
theorem vX1_calm {D : Nat} {x0 : Nat} {h : xH} : evD (D + 1) 135 [.ref x0] h = exF (evD D) cX1_calm 0 ([some (.ref x0), none], []) [] h := evD_at (n := 2) (m := 0) (C := cX1_calm) rfl rfl
theorem vX1_hard {D : Nat} {x0 : Nat} {h : xH} : evD (D + 1) 136 [.ref x0] h = exF (evD D) cX1_hard 0 ([some (.ref x0), none, none, none, none], []) [] h := evD_at (n := 5) (m := 0) (C := cX1_hard) rfl rfl
theorem vX1_arrives {D : Nat} {x0 : Nat} {x1 : Int32} {x2 : Int32} {h : xH} : evD (D + 1) 137 [.ref x0, .int x1, .int x2] h = exF (evD D) cX1_arrives 0 ([some (.ref x0), some (.int x1), some (.int x2)], []) [] h := evD_at (n := 3) (m := 0) (C := cX1_arrives) rfl rfl
theorem vX1_arrival {D : Nat} {x0 : Nat} {x1 : Int32} {x2 : Int32} {h : xH} : evD (D + 1) 138 [.ref x0, .int x1, .int x2] h = exF (evD D) cX1_arrival 0 ([some (.ref x0), some (.int x1), some (.int x2), none, none], []) [] h := evD_at (n := 5) (m := 0) (C := cX1_arrival) rfl rfl
theorem vX1_from {D : Nat} {x0 : Nat} {x1 : Int32} {x2 : Int32} {h : xH} : evD (D + 1) 139 [.ref x0, .int x1, .int x2] h = exF (evD D) cX1_from 0 ([some (.ref x0), some (.int x1), some (.int x2), none, none], []) [] h := evD_at (n := 5) (m := 0) (C := cX1_from) rfl rfl
theorem vX1_both {D : Nat} {x0 : Nat} {x1 : Int32} {x2 : Int32} {h : xH} : evD (D + 1) 140 [.ref x0, .int x1, .int x2] h = exF (evD D) cX1_both 0 ([some (.ref x0), some (.int x1), some (.int x2), none, none, none], []) [] h := evD_at (n := 6) (m := 0) (C := cX1_both) rfl rfl
theorem vX1_cut {D : Nat} {x0 : Nat} {x1 : Int32} {x2 : Int32} {h : xH} : evD (D + 1) 141 [.ref x0, .int x1, .int x2] h = exF (evD D) cX1_cut 0 ([some (.ref x0), some (.int x1), some (.int x2), none, none, none], []) [] h := evD_at (n := 6) (m := 0) (C := cX1_cut) rfl rfl
theorem vX1_planed {D : Nat} {x0 : Nat} {x1 : Int32} {x2 : Int32} {h : xH} : evD (D + 1) 142 [.ref x0, .int x1, .int x2] h = exF (evD D) cX1_planed 0 ([some (.ref x0), some (.int x1), some (.int x2), none], []) [] h := evD_at (n := 4) (m := 0) (C := cX1_planed) rfl rfl
theorem vX1_isPlaned {D : Nat} {x0 : Nat} {x1 : Int32} {x2 : Int32} {x3 : Int32} {x4 : Int32} {h : xH} : evD (D + 1) 143 [.ref x0, .int x1, .int x2, .int x3, .int x4] h = exF (evD D) cX1_isPlaned 0 ([some (.ref x0), some (.int x1), some (.int x2), some (.int x3), some (.int x4), none], []) [] h := evD_at (n := 6) (m := 0) (C := cX1_isPlaned) rfl rfl
theorem vX1_areTogether {D : Nat} {x0 : Nat} {x1 : Nat} {h : xH} : evD (D + 1) 144 [.ref x0, .ref x1] h = exF (evD D) cX1_areTogether 0 ([some (.ref x0), some (.ref x1), none, none], []) [] h := evD_at (n := 4) (m := 0) (C := cX1_areTogether) rfl rfl
theorem vX1_feel {D : Nat} {x0 : Nat} {x1 : Int32} {x2 : Int32} {x3 : Int32} {h : xH} : evD (D + 1) 145 [.ref x0, .int x1, .int x2, .int x3] h = exF (evD D) cX1_feel 0 ([some (.ref x0), some (.int x1), some (.int x2), some (.int x3)], []) [] h := evD_at (n := 4) (m := 0) (C := cX1_feel) rfl rfl
theorem vX1_wets {D : Nat} {x0 : Nat} {h : xH} : evD (D + 1) 146 [.ref x0] h = exF (evD D) cX1_wets 0 ([some (.ref x0)], []) [] h := evD_at (n := 1) (m := 0) (C := cX1_wets) rfl rfl
theorem vX1_laysWets {D : Nat} {x0 : Nat} {h : xH} : evD (D + 1) 147 [.ref x0] h = exF (evD D) cX1_laysWets 0 ([some (.ref x0), none, none, none, none], []) [] h := evD_at (n := 5) (m := 0) (C := cX1_laysWets) rfl rfl
theorem vX1_tries {D : Nat} {x0 : Nat} {h : xH} : evD (D + 1) 148 [.ref x0] h = exF (evD D) cX1_tries 0 ([some (.ref x0), none, none, none, none, none, none, none, none], []) [] h := evD_at (n := 9) (m := 0) (C := cX1_tries) rfl rfl
theorem vX1_say {D : Nat} {x0 : Nat} {x1 : Int32} {x2 : Int32} {h : xH} : evD (D + 1) 149 [.ref x0, .int x1, .int x2] h = exF (evD D) cX1_say 0 ([some (.ref x0), some (.int x1), some (.int x2)], []) [] h := evD_at (n := 3) (m := 0) (C := cX1_say) rfl rfl
theorem vX1_who {D : Nat} {x0 : Nat} {h : xH} : evD (D + 1) 150 [.ref x0] h = exF (evD D) cX1_who 0 ([some (.ref x0), none, none, none, none], []) [] h := evD_at (n := 5) (m := 0) (C := cX1_who) rfl rfl
theorem vX1_rattles {D : Nat} {x0 : Nat} {h : xH} : evD (D + 1) 151 [.ref x0] h = exF (evD D) cX1_rattles 0 ([some (.ref x0), none, none], []) [] h := evD_at (n := 3) (m := 0) (C := cX1_rattles) rfl rfl
theorem vX1_worst {D : Nat} {x0 : Nat} {h : xH} : evD (D + 1) 152 [.ref x0] h = exF (evD D) cX1_worst 0 ([some (.ref x0), none, none], []) [] h := evD_at (n := 3) (m := 0) (C := cX1_worst) rfl rfl
theorem vX1_spared {D : Nat} {x0 : Nat} {h : xH} : evD (D + 1) 153 [.ref x0] h = exF (evD D) cX1_spared 0 ([some (.ref x0), none, none, none], []) [] h := evD_at (n := 4) (m := 0) (C := cX1_spared) rfl rfl
theorem vX1_opened {D : Nat} {x0 : Nat} {h : xH} : evD (D + 1) 154 [.ref x0] h = exF (evD D) cX1_opened 0 ([some (.ref x0), none, none, none, none], []) [] h := evD_at (n := 5) (m := 0) (C := cX1_opened) rfl rfl
theorem vX1_pairs {D : Nat} {x0 : Nat} {x1 : Int32} {h : xH} : evD (D + 1) 155 [.ref x0, .int x1] h = exF (evD D) cX1_pairs 0 ([some (.ref x0), some (.int x1), none, none, none], []) [] h := evD_at (n := 5) (m := 0) (C := cX1_pairs) rfl rfl
theorem vX1_chance {D : Nat} {x0 : Nat} {x1 : Int32} {x2 : Int32} {x3 : Int32} {h : xH} : evD (D + 1) 156 [.ref x0, .int x1, .int x2, .int x3] h = exF (evD D) cX1_chance 0 ([some (.ref x0), some (.int x1), some (.int x2), some (.int x3), none, none, none, none, none, none, none, none], [none, none, none, none, none, none, none, none, none, none, none, none]) [] h := evD_at (n := 12) (m := 12) (C := cX1_chance) rfl rfl
theorem vX1_years {D : Nat} {x0 : Nat} {x1 : Int32} {x2 : Int32} {x3 : Int32} {h : xH} : evD (D + 1) 157 [.ref x0, .int x1, .int x2, .int x3] h = exF (evD D) cX1_years 0 ([some (.ref x0), some (.int x1), some (.int x2), some (.int x3), none, none], []) [] h := evD_at (n := 6) (m := 0) (C := cX1_years) rfl rfl
theorem vX1_befalls {D : Nat} {x0 : Nat} {x1 : Nat} {h : xH} : evD (D + 1) 158 [.ref x0, .ref x1] h = exF (evD D) cX1_befalls 0 ([some (.ref x0), some (.ref x1), none, none, none], []) [] h := evD_at (n := 5) (m := 0) (C := cX1_befalls) rfl rfl
theorem vX1_draws {D : Nat} {x0 : Nat} {x1 : Int32} {h : xH} : evD (D + 1) 159 [.ref x0, .int x1] h = exF (evD D) cX1_draws 0 ([some (.ref x0), some (.int x1)], []) [] h := evD_at (n := 2) (m := 0) (C := cX1_draws) rfl rfl
theorem vX1_sum {D : Nat} {x0 : Nat} {h : xH} : evD (D + 1) 160 [.ref x0] h = exF (evD D) cX1_sum 0 ([some (.ref x0), none, none], []) [] h := evD_at (n := 3) (m := 0) (C := cX1_sum) rfl rfl
theorem vX1_mark {D : Nat} {x0 : Nat} {x1 : Int32} {x2 : Int32} {h : xH} : evD (D + 1) 161 [.ref x0, .int x1, .int x2] h = exF (evD D) cX1_mark 0 ([some (.ref x0), some (.int x1), some (.int x2), none, none], []) [] h := evD_at (n := 5) (m := 0) (C := cX1_mark) rfl rfl
theorem vX1_count {D : Nat} {x0 : Nat} {x1 : Int32} {h : xH} : evD (D + 1) 162 [.ref x0, .int x1] h = exF (evD D) cX1_count 0 ([some (.ref x0), some (.int x1)], []) [] h := evD_at (n := 2) (m := 0) (C := cX1_count) rfl rfl
theorem vX1_rests {D : Nat} {x0 : Nat} {x1 : Int32} {x2 : Int32} {x3 : Int32} {x4 : Int32} {h : xH} : evD (D + 1) 163 [.ref x0, .int x1, .int x2, .int x3, .int x4] h = exF (evD D) cX1_rests 0 ([some (.ref x0), some (.int x1), some (.int x2), some (.int x3), some (.int x4), none, none, none, none], []) [] h := evD_at (n := 9) (m := 0) (C := cX1_rests) rfl rfl
theorem vX1_need {D : Nat} {x0 : Int32} {h : xH} : evD (D + 1) 164 [.int x0] h = exF (evD D) cX1_need 0 ([some (.int x0)], []) [] h := evD_at (n := 1) (m := 0) (C := cX1_need) rfl rfl
theorem vX1_gets {D : Nat} {x0 : Int32} {x1 : Int32} {x2 : Int32} {x3 : Int32} {x4 : Int32} {h : xH} : evD (D + 1) 165 [.int x0, .int x1, .int x2, .int x3, .int x4] h = exF (evD D) cX1_gets 0 ([some (.int x0), some (.int x1), some (.int x2), some (.int x3), some (.int x4)], []) [] h := evD_at (n := 5) (m := 0) (C := cX1_gets) rfl rfl
theorem vX10_init {D : Nat} {x0 : Nat} {h : xH} : evD (D + 1) 166 [.ref x0] h = exF (evD D) cX10_init 0 ([some (.ref x0)], []) [] h := evD_at (n := 1) (m := 0) (C := cX10_init) rfl rfl
theorem vX10_kind {D : Nat} {x0 : Nat} {h : xH} : evD (D + 1) 167 [.ref x0] h = exF (evD D) cX10_kind 0 ([some (.ref x0)], []) [] h := evD_at (n := 1) (m := 0) (C := cX10_kind) rfl rfl
theorem vX10_upper {D : Nat} {x0 : Nat} {h : xH} : evD (D + 1) 168 [.ref x0] h = exF (evD D) cX10_upper 0 ([some (.ref x0)], []) [] h := evD_at (n := 1) (m := 0) (C := cX10_upper) rfl rfl
theorem vX10_lower {D : Nat} {x0 : Nat} {h : xH} : evD (D + 1) 169 [.ref x0] h = exF (evD D) cX10_lower 0 ([some (.ref x0)], []) [] h := evD_at (n := 1) (m := 0) (C := cX10_lower) rfl rfl
theorem vX10_shrinks {D : Nat} {x0 : Nat} {h : xH} : evD (D + 1) 170 [.ref x0] h = exF (evD D) cX10_shrinks 0 ([some (.ref x0)], []) [] h := evD_at (n := 1) (m := 0) (C := cX10_shrinks) rfl rfl
theorem vX11_init {D : Nat} {x0 : Nat} {h : xH} : evD (D + 1) 171 [.ref x0] h = exF (evD D) cX11_init 0 ([some (.ref x0)], []) [] h := evD_at (n := 1) (m := 0) (C := cX11_init) rfl rfl
theorem vX11_kind {D : Nat} {x0 : Nat} {h : xH} : evD (D + 1) 172 [.ref x0] h = exF (evD D) cX11_kind 0 ([some (.ref x0)], []) [] h := evD_at (n := 1) (m := 0) (C := cX11_kind) rfl rfl
theorem vX11_upper {D : Nat} {x0 : Nat} {h : xH} : evD (D + 1) 173 [.ref x0] h = exF (evD D) cX11_upper 0 ([some (.ref x0)], []) [] h := evD_at (n := 1) (m := 0) (C := cX11_upper) rfl rfl
theorem vX11_lower {D : Nat} {x0 : Nat} {h : xH} : evD (D + 1) 174 [.ref x0] h = exF (evD D) cX11_lower 0 ([some (.ref x0)], []) [] h := evD_at (n := 1) (m := 0) (C := cX11_lower) rfl rfl
theorem vX11_shrinks {D : Nat} {x0 : Nat} {h : xH} : evD (D + 1) 175 [.ref x0] h = exF (evD D) cX11_shrinks 0 ([some (.ref x0)], []) [] h := evD_at (n := 1) (m := 0) (C := cX11_shrinks) rfl rfl
theorem vX12_init {D : Nat} {x0 : Nat} {h : xH} : evD (D + 1) 176 [.ref x0] h = exF (evD D) cX12_init 0 ([some (.ref x0)], []) [] h := evD_at (n := 1) (m := 0) (C := cX12_init) rfl rfl
theorem vX12_kind {D : Nat} {x0 : Nat} {h : xH} : evD (D + 1) 177 [.ref x0] h = exF (evD D) cX12_kind 0 ([some (.ref x0)], []) [] h := evD_at (n := 1) (m := 0) (C := cX12_kind) rfl rfl
theorem vX12_upper {D : Nat} {x0 : Nat} {h : xH} : evD (D + 1) 178 [.ref x0] h = exF (evD D) cX12_upper 0 ([some (.ref x0)], []) [] h := evD_at (n := 1) (m := 0) (C := cX12_upper) rfl rfl
theorem vX12_lower {D : Nat} {x0 : Nat} {h : xH} : evD (D + 1) 179 [.ref x0] h = exF (evD D) cX12_lower 0 ([some (.ref x0)], []) [] h := evD_at (n := 1) (m := 0) (C := cX12_lower) rfl rfl
theorem vX12_shrinks {D : Nat} {x0 : Nat} {h : xH} : evD (D + 1) 180 [.ref x0] h = exF (evD D) cX12_shrinks 0 ([some (.ref x0)], []) [] h := evD_at (n := 1) (m := 0) (C := cX12_shrinks) rfl rfl
theorem vX13_init {D : Nat} {x0 : Nat} {h : xH} : evD (D + 1) 181 [.ref x0] h = exF (evD D) cX13_init 0 ([some (.ref x0)], []) [] h := evD_at (n := 1) (m := 0) (C := cX13_init) rfl rfl
theorem vX14_init {D : Nat} {x0 : Nat} {x1 : Int32} {h : xH} : evD (D + 1) 182 [.ref x0, .int x1] h = exF (evD D) cX14_init 0 ([some (.ref x0), some (.int x1)], []) [] h := evD_at (n := 2) (m := 0) (C := cX14_init) rfl rfl
theorem vX14_worked {D : Nat} {x0 : Nat} {x1 : Nat} {h : xH} : evD (D + 1) 183 [.ref x0, .ref x1] h = exF (evD D) cX14_worked 0 ([some (.ref x0), some (.ref x1)], []) [] h := evD_at (n := 2) (m := 0) (C := cX14_worked) rfl rfl
theorem vX15_init {D : Nat} {x0 : Nat} {x1 : Int32} {h : xH} : evD (D + 1) 184 [.ref x0, .int x1] h = exF (evD D) cX15_init 0 ([some (.ref x0), some (.int x1)], []) [] h := evD_at (n := 2) (m := 0) (C := cX15_init) rfl rfl
theorem vX15_worked {D : Nat} {x0 : Nat} {x1 : Nat} {h : xH} : evD (D + 1) 185 [.ref x0, .ref x1] h = exF (evD D) cX15_worked 0 ([some (.ref x0), some (.ref x1)], []) [] h := evD_at (n := 2) (m := 0) (C := cX15_worked) rfl rfl
theorem vX16_init {D : Nat} {x0 : Nat} {x1 : Nat} {h : xH} : evD (D + 1) 186 [.ref x0, .ref x1] h = exF (evD D) cX16_init 0 ([some (.ref x0), some (.ref x1)], []) [] h := evD_at (n := 2) (m := 0) (C := cX16_init) rfl rfl
theorem vX16_worked {D : Nat} {x0 : Nat} {x1 : Nat} {h : xH} : evD (D + 1) 187 [.ref x0, .ref x1] h = exF (evD D) cX16_worked 0 ([some (.ref x0), some (.ref x1)], []) [] h := evD_at (n := 2) (m := 0) (C := cX16_worked) rfl rfl
theorem vX17_init {D : Nat} {x0 : Nat} {x1 : Int32} {x2 : Nat} {x3 : Nat} {h : xH} : evD (D + 1) 188 [.ref x0, .int x1, .ref x2, .ref x3] h = exF (evD D) cX17_init 0 ([some (.ref x0), some (.int x1), some (.ref x2), some (.ref x3)], []) [] h := evD_at (n := 4) (m := 0) (C := cX17_init) rfl rfl
theorem vX17_worked {D : Nat} {x0 : Nat} {x1 : Nat} {h : xH} : evD (D + 1) 189 [.ref x0, .ref x1] h = exF (evD D) cX17_worked 0 ([some (.ref x0), some (.ref x1), none, none], []) [] h := evD_at (n := 4) (m := 0) (C := cX17_worked) rfl rfl
theorem vX18_init {D : Nat} {x0 : Nat} {h : xH} : evD (D + 1) 190 [.ref x0] h = exF (evD D) cX18_init 0 ([some (.ref x0)], []) [] h := evD_at (n := 1) (m := 0) (C := cX18_init) rfl rfl
theorem vX19_init {D : Nat} {x0 : Nat} {h : xH} : evD (D + 1) 191 [.ref x0] h = exF (evD D) cX19_init 0 ([some (.ref x0)], []) [] h := evD_at (n := 1) (m := 0) (C := cX19_init) rfl rfl
theorem vX19_isDone {D : Nat} {x0 : Nat} {x1 : Nat} {x2 : Nat} {h : xH} : evD (D + 1) 192 [.ref x0, .ref x1, .ref x2] h = exF (evD D) cX19_isDone 0 ([some (.ref x0), some (.ref x1), some (.ref x2)], []) [] h := evD_at (n := 3) (m := 0) (C := cX19_isDone) rfl rfl
theorem vX2_init {D : Nat} {x0 : Nat} {h : xH} : evD (D + 1) 193 [.ref x0] h = exF (evD D) cX2_init 0 ([some (.ref x0)], []) [] h := evD_at (n := 1) (m := 0) (C := cX2_init) rfl rfl
theorem vX2_begin {D : Nat} {x0 : Nat} {x1 : Nat} {x2 : Int32} {h : xH} : evD (D + 1) 194 [.ref x0, .ref x1, .int x2] h = exF (evD D) cX2_begin 0 ([some (.ref x0), some (.ref x1), some (.int x2)], []) [] h := evD_at (n := 3) (m := 0) (C := cX2_begin) rfl rfl
theorem vX2_next {D : Nat} {x0 : Nat} {h : xH} : evD (D + 1) 195 [.ref x0] h = exF (evD D) cX2_next 0 ([some (.ref x0)], []) [] h := evD_at (n := 1) (m := 0) (C := cX2_next) rfl rfl
theorem vX2_at {D : Nat} {x0 : Nat} {x1 : Int32} {h : xH} : evD (D + 1) 196 [.ref x0, .int x1] h = exF (evD D) cX2_at 0 ([some (.ref x0), some (.int x1)], []) [] h := evD_at (n := 2) (m := 0) (C := cX2_at) rfl rfl
theorem vX2_isLetter {D : Nat} {x0 : Int32} {h : xH} : evD (D + 1) 197 [.int x0] h = exF (evD D) cX2_isLetter 0 ([some (.int x0)], []) [] h := evD_at (n := 1) (m := 0) (C := cX2_isLetter) rfl rfl
theorem vX2_isDigit {D : Nat} {x0 : Int32} {h : xH} : evD (D + 1) 198 [.int x0] h = exF (evD D) cX2_isDigit 0 ([some (.int x0)], []) [] h := evD_at (n := 1) (m := 0) (C := cX2_isDigit) rfl rfl
theorem vX2_house {D : Nat} {x0 : Nat} {h : xH} : evD (D + 1) 199 [.ref x0] h = exF (evD D) cX2_house 0 ([some (.ref x0), none], []) [] h := evD_at (n := 2) (m := 0) (C := cX2_house) rfl rfl
theorem vX2_which {D : Nat} {x0 : Nat} {x1 : Nat} {h : xH} : evD (D + 1) 200 [.ref x0, .ref x1] h = exF (evD D) cX2_which 0 ([some (.ref x0), some (.ref x1), none, none, none, none, none], []) [] h := evD_at (n := 7) (m := 0) (C := cX2_which) rfl rfl
theorem vX2_wrong {D : Nat} {x0 : Nat} {x1 : Int32} {h : xH} : evD (D + 1) 201 [.ref x0, .int x1] h = exF (evD D) cX2_wrong 0 ([some (.ref x0), some (.int x1)], []) [] h := evD_at (n := 2) (m := 0) (C := cX2_wrong) rfl rfl
theorem vX2_isFull {D : Nat} {x0 : Nat} {x1 : Int32} {h : xH} : evD (D + 1) 202 [.ref x0, .int x1] h = exF (evD D) cX2_isFull 0 ([some (.ref x0), some (.int x1)], []) [] h := evD_at (n := 2) (m := 0) (C := cX2_isFull) rfl rfl
theorem vX2_line {D : Nat} {x0 : Nat} {x1 : Int32} {h : xH} : evD (D + 1) 203 [.ref x0, .int x1] h = exF (evD D) cX2_line 0 ([some (.ref x0), some (.int x1), none], []) [] h := evD_at (n := 3) (m := 0) (C := cX2_line) rfl rfl
theorem vX2_fresh {D : Nat} {x0 : Nat} {h : xH} : evD (D + 1) 204 [.ref x0] h = exF (evD D) cX2_fresh 0 ([some (.ref x0), none], []) [] h := evD_at (n := 2) (m := 0) (C := cX2_fresh) rfl rfl
theorem vX2_name {D : Nat} {x0 : Nat} {h : xH} : evD (D + 1) 205 [.ref x0] h = exF (evD D) cX2_name 0 ([some (.ref x0), none, none], []) [] h := evD_at (n := 3) (m := 0) (C := cX2_name) rfl rfl
theorem vX2_door {D : Nat} {x0 : Nat} {h : xH} : evD (D + 1) 206 [.ref x0] h = exF (evD D) cX2_door 0 ([some (.ref x0), none, none, none, none], []) [] h := evD_at (n := 5) (m := 0) (C := cX2_door) rfl rfl
theorem vX2_passed {D : Nat} {x0 : Nat} {x1 : Nat} {h : xH} : evD (D + 1) 207 [.ref x0, .ref x1] h = exF (evD D) cX2_passed 0 ([some (.ref x0), some (.ref x1), none], []) [] h := evD_at (n := 3) (m := 0) (C := cX2_passed) rfl rfl
theorem vX2_told {D : Nat} {x0 : Nat} {x1 : Nat} {h : xH} : evD (D + 1) 208 [.ref x0, .ref x1] h = exF (evD D) cX2_told 0 ([some (.ref x0), some (.ref x1), none], []) [] h := evD_at (n := 3) (m := 0) (C := cX2_told) rfl rfl
theorem vX2_one {D : Nat} {x0 : Nat} {x1 : Nat} {h : xH} : evD (D + 1) 209 [.ref x0, .ref x1] h = exF (evD D) cX2_one 0 ([some (.ref x0), some (.ref x1), none], []) [] h := evD_at (n := 3) (m := 0) (C := cX2_one) rfl rfl
theorem vX2_number {D : Nat} {x0 : Nat} {x1 : Nat} {x2 : Int32} {x3 : Int32} {h : xH} : evD (D + 1) 210 [.ref x0, .ref x1, .int x2, .int x3] h = exF (evD D) cX2_number 0 ([some (.ref x0), some (.ref x1), some (.int x2), some (.int x3)], []) [] h := evD_at (n := 4) (m := 0) (C := cX2_number) rfl rfl
theorem vX2_need {D : Nat} {x0 : Nat} {x1 : Nat} {h : xH} : evD (D + 1) 211 [.ref x0, .ref x1] h = exF (evD D) cX2_need 0 ([some (.ref x0), some (.ref x1)], []) [] h := evD_at (n := 2) (m := 0) (C := cX2_need) rfl rfl
theorem vX2_number_2 {D : Nat} {x0 : Nat} {x1 : Int32} {x2 : Int32} {h : xH} : evD (D + 1) 212 [.ref x0, .int x1, .int x2] h = exF (evD D) cX2_number_2 0 ([some (.ref x0), some (.int x1), some (.int x2), none], []) [] h := evD_at (n := 4) (m := 0) (C := cX2_number_2) rfl rfl
theorem vX2_ahead {D : Nat} {x0 : Nat} {x1 : Int32} {x2 : Int32} {h : xH} : evD (D + 1) 213 [.ref x0, .int x1, .int x2] h = exF (evD D) cX2_ahead 0 ([some (.ref x0), some (.int x1), some (.int x2), none, none], []) [] h := evD_at (n := 5) (m := 0) (C := cX2_ahead) rfl rfl
theorem vX2_isSign {D : Nat} {x0 : Nat} {x1 : Int32} {h : xH} : evD (D + 1) 214 [.ref x0, .int x1] h = exF (evD D) cX2_isSign 0 ([some (.ref x0), some (.int x1)], []) [] h := evD_at (n := 2) (m := 0) (C := cX2_isSign) rfl rfl
theorem vX2_expression {D : Nat} {x0 : Nat} {h : xH} : evD (D + 1) 215 [.ref x0] h = exF (evD D) cX2_expression 0 ([some (.ref x0), none, none], []) [] h := evD_at (n := 3) (m := 0) (C := cX2_expression) rfl rfl
theorem vX2_test {D : Nat} {x0 : Nat} {h : xH} : evD (D + 1) 216 [.ref x0] h = exF (evD D) cX2_test 0 ([some (.ref x0), none, none], []) [] h := evD_at (n := 3) (m := 0) (C := cX2_test) rfl rfl
theorem vX2_sum {D : Nat} {x0 : Nat} {h : xH} : evD (D + 1) 217 [.ref x0] h = exF (evD D) cX2_sum 0 ([some (.ref x0), none, none], []) [] h := evD_at (n := 3) (m := 0) (C := cX2_sum) rfl rfl
theorem vX2_product {D : Nat} {x0 : Nat} {h : xH} : evD (D + 1) 218 [.ref x0] h = exF (evD D) cX2_product 0 ([some (.ref x0), none], []) [] h := evD_at (n := 2) (m := 0) (C := cX2_product) rfl rfl
theorem vX2_part {D : Nat} {x0 : Nat} {h : xH} : evD (D + 1) 219 [.ref x0] h = exF (evD D) cX2_part 0 ([some (.ref x0), none, none, none, none], []) [] h := evD_at (n := 5) (m := 0) (C := cX2_part) rfl rfl
theorem vX2_need_2 {D : Nat} {x0 : Nat} {x1 : Int32} {h : xH} : evD (D + 1) 220 [.ref x0, .int x1] h = exF (evD D) cX2_need_2 0 ([some (.ref x0), some (.int x1)], []) [] h := evD_at (n := 2) (m := 0) (C := cX2_need_2) rfl rfl
theorem vX2_days {D : Nat} {x0 : Nat} {x1 : Nat} {h : xH} : evD (D + 1) 221 [.ref x0, .ref x1] h = exF (evD D) cX2_days 0 ([some (.ref x0), some (.ref x1), none, none], []) [] h := evD_at (n := 4) (m := 0) (C := cX2_days) rfl rfl
theorem vX2_done {D : Nat} {x0 : Nat} {x1 : Int32} {h : xH} : evD (D + 1) 222 [.ref x0, .int x1] h = exF (evD D) cX2_done 0 ([some (.ref x0), some (.int x1), none], []) [] h := evD_at (n := 3) (m := 0) (C := cX2_done) rfl rfl
theorem vX20_init {D : Nat} {x0 : Nat} {x1 : Int32} {x2 : Int32} {h : xH} : evD (D + 1) 223 [.ref x0, .int x1, .int x2] h = exF (evD D) cX20_init 0 ([some (.ref x0), some (.int x1), some (.int x2)], []) [] h := evD_at (n := 3) (m := 0) (C := cX20_init) rfl rfl
theorem vX20_isDone {D : Nat} {x0 : Nat} {x1 : Nat} {x2 : Nat} {h : xH} : evD (D + 1) 224 [.ref x0, .ref x1, .ref x2] h = exF (evD D) cX20_isDone 0 ([some (.ref x0), some (.ref x1), some (.ref x2)], []) [] h := evD_at (n := 3) (m := 0) (C := cX20_isDone) rfl rfl
theorem vX21_init {D : Nat} {x0 : Nat} {x1 : Int32} {h : xH} : evD (D + 1) 225 [.ref x0, .int x1] h = exF (evD D) cX21_init 0 ([some (.ref x0), some (.int x1)], []) [] h := evD_at (n := 2) (m := 0) (C := cX21_init) rfl rfl
theorem vX21_isDone {D : Nat} {x0 : Nat} {x1 : Nat} {x2 : Nat} {h : xH} : evD (D + 1) 226 [.ref x0, .ref x1, .ref x2] h = exF (evD D) cX21_isDone 0 ([some (.ref x0), some (.ref x1), some (.ref x2)], []) [] h := evD_at (n := 3) (m := 0) (C := cX21_isDone) rfl rfl
theorem vX22_init {D : Nat} {x0 : Nat} {x1 : Int32} {h : xH} : evD (D + 1) 227 [.ref x0, .int x1] h = exF (evD D) cX22_init 0 ([some (.ref x0), some (.int x1)], []) [] h := evD_at (n := 2) (m := 0) (C := cX22_init) rfl rfl
theorem vX22_isDone {D : Nat} {x0 : Nat} {x1 : Nat} {x2 : Nat} {h : xH} : evD (D + 1) 228 [.ref x0, .ref x1, .ref x2] h = exF (evD D) cX22_isDone 0 ([some (.ref x0), some (.ref x1), some (.ref x2)], []) [] h := evD_at (n := 3) (m := 0) (C := cX22_isDone) rfl rfl
theorem vX23_init {D : Nat} {x0 : Nat} {x1 : Int32} {h : xH} : evD (D + 1) 229 [.ref x0, .int x1] h = exF (evD D) cX23_init 0 ([some (.ref x0), some (.int x1)], []) [] h := evD_at (n := 2) (m := 0) (C := cX23_init) rfl rfl
theorem vX23_isDone {D : Nat} {x0 : Nat} {x1 : Nat} {x2 : Nat} {h : xH} : evD (D + 1) 230 [.ref x0, .ref x1, .ref x2] h = exF (evD D) cX23_isDone 0 ([some (.ref x0), some (.ref x1), some (.ref x2)], []) [] h := evD_at (n := 3) (m := 0) (C := cX23_isDone) rfl rfl
theorem vX24_init {D : Nat} {x0 : Nat} {h : xH} : evD (D + 1) 231 [.ref x0] h = exF (evD D) cX24_init 0 ([some (.ref x0)], []) [] h := evD_at (n := 1) (m := 0) (C := cX24_init) rfl rfl
theorem vX3_init {D : Nat} {x0 : Nat} {h : xH} : evD (D + 1) 232 [.ref x0] h = exF (evD D) cX3_init 0 ([some (.ref x0)], []) [] h := evD_at (n := 1) (m := 0) (C := cX3_init) rfl rfl
theorem vX3_place {D : Nat} {x0 : Nat} {x1 : Nat} {h : xH} : evD (D + 1) 233 [.ref x0, .ref x1] h = exF (evD D) cX3_place 0 ([some (.ref x0), some (.ref x1), none], []) [] h := evD_at (n := 3) (m := 0) (C := cX3_place) rfl rfl
theorem vX3_areJoined {D : Nat} {x0 : Nat} {x1 : Int32} {x2 : Int32} {h : xH} : evD (D + 1) 234 [.ref x0, .int x1, .int x2] h = exF (evD D) cX3_areJoined 0 ([some (.ref x0), some (.int x1), some (.int x2), none], []) [] h := evD_at (n := 4) (m := 0) (C := cX3_areJoined) rfl rfl
theorem vX3_damp {D : Nat} {x0 : Nat} {x1 : Int32} {h : xH} : evD (D + 1) 235 [.ref x0, .int x1] h = exF (evD D) cX3_damp 0 ([some (.ref x0), some (.int x1)], []) [] h := evD_at (n := 2) (m := 0) (C := cX3_damp) rfl rfl
theorem vX4_init {D : Nat} {x0 : Nat} {h : xH} : evD (D + 1) 236 [.ref x0] h = exF (evD D) cX4_init 0 ([some (.ref x0)], []) [] h := evD_at (n := 1) (m := 0) (C := cX4_init) rfl rfl
theorem vX4_begin {D : Nat} {x0 : Nat} {x1 : Nat} {h : xH} : evD (D + 1) 237 [.ref x0, .ref x1] h = exF (evD D) cX4_begin 0 ([some (.ref x0), some (.ref x1), none], []) [] h := evD_at (n := 3) (m := 0) (C := cX4_begin) rfl rfl
theorem vX4_sticks {D : Nat} {x0 : Nat} {x1 : Int32} {h : xH} : evD (D + 1) 238 [.ref x0, .int x1] h = exF (evD D) cX4_sticks 0 ([some (.ref x0), some (.int x1)], []) [] h := evD_at (n := 2) (m := 0) (C := cX4_sticks) rfl rfl
theorem vX4_be {D : Nat} {x0 : Nat} {x1 : Nat} {h : xH} : evD (D + 1) 239 [.ref x0, .ref x1] h = exF (evD D) cX4_be 0 ([some (.ref x0), some (.ref x1)], []) [] h := evD_at (n := 2) (m := 0) (C := cX4_be) rfl rfl
theorem vX4_canPlane {D : Nat} {x0 : Nat} {x1 : Int32} {h : xH} : evD (D + 1) 240 [.ref x0, .int x1] h = exF (evD D) cX4_canPlane 0 ([some (.ref x0), some (.int x1)], []) [] h := evD_at (n := 2) (m := 0) (C := cX4_canPlane) rfl rfl
theorem vX4_canWedge {D : Nat} {x0 : Nat} {x1 : Int32} {h : xH} : evD (D + 1) 241 [.ref x0, .int x1] h = exF (evD D) cX4_canWedge 0 ([some (.ref x0), some (.int x1)], []) [] h := evD_at (n := 2) (m := 0) (C := cX4_canWedge) rfl rfl
theorem vX4_canForce {D : Nat} {x0 : Nat} {x1 : Int32} {h : xH} : evD (D + 1) 242 [.ref x0, .int x1] h = exF (evD D) cX4_canForce 0 ([some (.ref x0), some (.int x1)], []) [] h := evD_at (n := 2) (m := 0) (C := cX4_canForce) rfl rfl
theorem vX5_thrown {D : Nat} {x0 : Nat} {h : xH} : evD (D + 1) 243 [.ref x0] h = exF (evD D) cX5_thrown 0 ([some (.ref x0)], []) [] h := evD_at (n := 1) (m := 0) (C := cX5_thrown) rfl rfl
theorem vX5_feed {D : Nat} {x0 : Nat} {x1 : Int64} {x2 : Int64} {x3 : Int64} {h : xH} : evD (D + 1) 244 [.ref x0, .long x1, .long x2, .long x3] h = exF (evD D) cX5_feed 0 ([some (.ref x0), none, none, none, none, none, none], [none, some x1, none, some x2, none, some x3, none]) [] h := evD_at (n := 7) (m := 7) (C := cX5_feed) rfl rfl
theorem vX5_lay {D : Nat} {x0 : Nat} {x1 : Int64} {h : xH} : evD (D + 1) 245 [.ref x0, .long x1] h = exF (evD D) cX5_lay 0 ([some (.ref x0), none, none, none, none], [none, some x1, none, none, none]) [] h := evD_at (n := 5) (m := 5) (C := cX5_lay) rfl rfl
theorem vX5_init {D : Nat} {x0 : Nat} {h : xH} : evD (D + 1) 246 [.ref x0] h = exF (evD D) cX5_init 0 ([some (.ref x0)], []) [] h := evD_at (n := 1) (m := 0) (C := cX5_init) rfl rfl
theorem vX5_standsAsAlways {D : Nat} {x0 : Nat} {x1 : Int32} {h : xH} : evD (D + 1) 247 [.ref x0, .int x1] h = exF (evD D) cX5_standsAsAlways 0 ([some (.ref x0), some (.int x1), none], []) [] h := evD_at (n := 3) (m := 0) (C := cX5_standsAsAlways) rfl rfl
theorem vX5_begins {D : Nat} {x0 : Nat} {h : xH} : evD (D + 1) 248 [.ref x0] h = exF (evD D) cX5_begins 0 ([some (.ref x0), none], []) [] h := evD_at (n := 2) (m := 0) (C := cX5_begins) rfl rfl
theorem vX5_starts {D : Nat} {x0 : Nat} {x1 : Int32} {h : xH} : evD (D + 1) 249 [.ref x0, .int x1] h = exF (evD D) cX5_starts 0 ([some (.ref x0), some (.int x1), none], []) [] h := evD_at (n := 3) (m := 0) (C := cX5_starts) rfl rfl
theorem vX5_doors {D : Nat} {x0 : Nat} {h : xH} : evD (D + 1) 250 [.ref x0] h = exF (evD D) cX5_doors 0 ([some (.ref x0)], []) [] h := evD_at (n := 1) (m := 0) (C := cX5_doors) rfl rfl
theorem vX5_doorOf {D : Nat} {x0 : Nat} {x1 : Int32} {x2 : Int32} {h : xH} : evD (D + 1) 251 [.ref x0, .int x1, .int x2] h = exF (evD D) cX5_doorOf 0 ([some (.ref x0), some (.int x1), some (.int x2)], []) [] h := evD_at (n := 3) (m := 0) (C := cX5_doorOf) rfl rfl
theorem vX5_persons {D : Nat} {x0 : Nat} {h : xH} : evD (D + 1) 252 [.ref x0] h = exF (evD D) cX5_persons 0 ([some (.ref x0)], []) [] h := evD_at (n := 1) (m := 0) (C := cX5_persons) rfl rfl
theorem vX5_house {D : Nat} {x0 : Nat} {h : xH} : evD (D + 1) 253 [.ref x0] h = exF (evD D) cX5_house 0 ([some (.ref x0), none], []) [] h := evD_at (n := 2) (m := 0) (C := cX5_house) rfl rfl
theorem vX5_cutAll {D : Nat} {x0 : Nat} {h : xH} : evD (D + 1) 254 [.ref x0] h = exF (evD D) cX5_cutAll 0 ([some (.ref x0), none, none, none, none, none, none], [none, none, none, none, none, none, none]) [] h := evD_at (n := 7) (m := 7) (C := cX5_cutAll) rfl rfl
theorem vX5_isLetter {D : Nat} {x0 : Int32} {h : xH} : evD (D + 1) 255 [.int x0] h = exF (evD D) cX5_isLetter 0 ([some (.int x0)], []) [] h := evD_at (n := 1) (m := 0) (C := cX5_isLetter) rfl rfl
theorem vX5_rank {D : Nat} {x0 : Int32} {h : xH} : evD (D + 1) 256 [.int x0] h = exF (evD D) cX5_rank 0 ([some (.int x0)], []) [] h := evD_at (n := 1) (m := 0) (C := cX5_rank) rfl rfl
theorem vX5_isDigit {D : Nat} {x0 : Int32} {h : xH} : evD (D + 1) 257 [.int x0] h = exF (evD D) cX5_isDigit 0 ([some (.int x0)], []) [] h := evD_at (n := 1) (m := 0) (C := cX5_isDigit) rfl rfl
theorem vX5_isSignOf {D : Nat} {x0 : Int32} {h : xH} : evD (D + 1) 258 [.int x0] h = exF (evD D) cX5_isSignOf 0 ([some (.int x0)], []) [] h := evD_at (n := 1) (m := 0) (C := cX5_isSignOf) rfl rfl
theorem vX5_readLine {D : Nat} {x0 : Nat} {h : xH} : evD (D + 1) 259 [.ref x0] h = exF (evD D) cX5_readLine 0 ([some (.ref x0), none, none], []) [] h := evD_at (n := 3) (m := 0) (C := cX5_readLine) rfl rfl
theorem vX5_isWord {D : Nat} {x0 : Nat} {x1 : Int32} {h : xH} : evD (D + 1) 260 [.ref x0, .int x1] h = exF (evD D) cX5_isWord 0 ([some (.ref x0), some (.int x1)], []) [] h := evD_at (n := 2) (m := 0) (C := cX5_isWord) rfl rfl
theorem vX5_readName {D : Nat} {x0 : Nat} {x1 : Int32} {x2 : Int32} {x3 : Int32} {h : xH} : evD (D + 1) 261 [.ref x0, .int x1, .int x2, .int x3] h = exF (evD D) cX5_readName 0 ([some (.ref x0), some (.int x1), some (.int x2), some (.int x3), none], []) [] h := evD_at (n := 5) (m := 0) (C := cX5_readName) rfl rfl
theorem vX5_wrong {D : Nat} {x0 : Nat} {x1 : Int32} {h : xH} : evD (D + 1) 262 [.ref x0, .int x1] h = exF (evD D) cX5_wrong 0 ([some (.ref x0), some (.int x1)], []) [] h := evD_at (n := 2) (m := 0) (C := cX5_wrong) rfl rfl
theorem vX5_isName {D : Nat} {x0 : Nat} {h : xH} : evD (D + 1) 263 [.ref x0] h = exF (evD D) cX5_isName 0 ([some (.ref x0)], []) [] h := evD_at (n := 1) (m := 0) (C := cX5_isName) rfl rfl
theorem vX5_wordHere {D : Nat} {x0 : Nat} {x1 : Int32} {x2 : Int32} {h : xH} : evD (D + 1) 264 [.ref x0, .int x1, .int x2] h = exF (evD D) cX5_wordHere 0 ([some (.ref x0), some (.int x1), some (.int x2), none, none], []) [] h := evD_at (n := 5) (m := 0) (C := cX5_wordHere) rfl rfl
theorem vX5_nameAt {D : Nat} {x0 : Nat} {x1 : Int32} {h : xH} : evD (D + 1) 265 [.ref x0, .int x1] h = exF (evD D) cX5_nameAt 0 ([some (.ref x0), some (.int x1), none], []) [] h := evD_at (n := 3) (m := 0) (C := cX5_nameAt) rfl rfl
theorem vX5_readDoor {D : Nat} {x0 : Nat} {h : xH} : evD (D + 1) 266 [.ref x0] h = exF (evD D) cX5_readDoor 0 ([some (.ref x0), none, none, none, none, none, none, none], []) [] h := evD_at (n := 8) (m := 0) (C := cX5_readDoor) rfl rfl
theorem vX5_takeTold {D : Nat} {x0 : Nat} {x1 : Int32} {x2 : Int32} {x3 : Int32} {h : xH} : evD (D + 1) 267 [.ref x0, .int x1, .int x2, .int x3] h = exF (evD D) cX5_takeTold 0 ([some (.ref x0), some (.int x1), some (.int x2), some (.int x3), none], []) [] h := evD_at (n := 5) (m := 0) (C := cX5_takeTold) rfl rfl
theorem vX5_within {D : Nat} {x0 : Int32} {x1 : Int32} {x2 : Int32} {h : xH} : evD (D + 1) 268 [.int x0, .int x1, .int x2] h = exF (evD D) cX5_within 0 ([some (.int x0), some (.int x1), some (.int x2)], []) [] h := evD_at (n := 3) (m := 0) (C := cX5_within) rfl rfl
theorem vX5_takeOne {D : Nat} {x0 : Nat} {x1 : Int32} {x2 : Int32} {h : xH} : evD (D + 1) 269 [.ref x0, .int x1, .int x2] h = exF (evD D) cX5_takeOne 0 ([some (.ref x0), some (.int x1), some (.int x2), none], []) [] h := evD_at (n := 4) (m := 0) (C := cX5_takeOne) rfl rfl
theorem vX5_takeAfter {D : Nat} {x0 : Nat} {x1 : Int32} {x2 : Int32} {x3 : Int32} {h : xH} : evD (D + 1) 270 [.ref x0, .int x1, .int x2, .int x3] h = exF (evD D) cX5_takeAfter 0 ([some (.ref x0), some (.int x1), some (.int x2), some (.int x3)], []) [] h := evD_at (n := 4) (m := 0) (C := cX5_takeAfter) rfl rfl
theorem vX5_takeWord {D : Nat} {x0 : Nat} {x1 : Int32} {h : xH} : evD (D + 1) 271 [.ref x0, .int x1] h = exF (evD D) cX5_takeWord 0 ([some (.ref x0), some (.int x1)], []) [] h := evD_at (n := 2) (m := 0) (C := cX5_takeWord) rfl rfl
theorem vX5_hasWord {D : Nat} {x0 : Nat} {x1 : Int32} {h : xH} : evD (D + 1) 272 [.ref x0, .int x1] h = exF (evD D) cX5_hasWord 0 ([some (.ref x0), some (.int x1), none], []) [] h := evD_at (n := 3) (m := 0) (C := cX5_hasWord) rfl rfl
theorem vX5_takeNumber {D : Nat} {x0 : Nat} {x1 : Int32} {x2 : Int32} {h : xH} : evD (D + 1) 273 [.ref x0, .int x1, .int x2] h = exF (evD D) cX5_takeNumber 0 ([some (.ref x0), some (.int x1), some (.int x2)], []) [] h := evD_at (n := 3) (m := 0) (C := cX5_takeNumber) rfl rfl
theorem vX5_readOnce {D : Nat} {x0 : Nat} {h : xH} : evD (D + 1) 274 [.ref x0] h = exF (evD D) cX5_readOnce 0 ([some (.ref x0), none], []) [] h := evD_at (n := 2) (m := 0) (C := cX5_readOnce) rfl rfl
theorem vX5_readDamp {D : Nat} {x0 : Nat} {h : xH} : evD (D + 1) 275 [.ref x0] h = exF (evD D) cX5_readDamp 0 ([some (.ref x0), none, none], []) [] h := evD_at (n := 3) (m := 0) (C := cX5_readDamp) rfl rfl
theorem vX5_whole {D : Nat} {x0 : Nat} {x1 : Int32} {h : xH} : evD (D + 1) 276 [.ref x0, .int x1] h = exF (evD D) cX5_whole 0 ([some (.ref x0), some (.int x1), none], []) [] h := evD_at (n := 3) (m := 0) (C := cX5_whole) rfl rfl
theorem vX5_test {D : Nat} {x0 : Nat} {x1 : Int32} {h : xH} : evD (D + 1) 277 [.ref x0, .int x1] h = exF (evD D) cX5_test 0 ([some (.ref x0), some (.int x1), none], []) [] h := evD_at (n := 3) (m := 0) (C := cX5_test) rfl rfl
theorem vX5_sums {D : Nat} {x0 : Nat} {x1 : Int32} {h : xH} : evD (D + 1) 278 [.ref x0, .int x1] h = exF (evD D) cX5_sums 0 ([some (.ref x0), some (.int x1), none], []) [] h := evD_at (n := 3) (m := 0) (C := cX5_sums) rfl rfl
theorem vX5_products {D : Nat} {x0 : Nat} {x1 : Int32} {h : xH} : evD (D + 1) 279 [.ref x0, .int x1] h = exF (evD D) cX5_products 0 ([some (.ref x0), some (.int x1)], []) [] h := evD_at (n := 2) (m := 0) (C := cX5_products) rfl rfl
theorem vX5_takePart {D : Nat} {x0 : Nat} {x1 : Int32} {h : xH} : evD (D + 1) 280 [.ref x0, .int x1] h = exF (evD D) cX5_takePart 0 ([some (.ref x0), some (.int x1), none, none], []) [] h := evD_at (n := 4) (m := 0) (C := cX5_takePart) rfl rfl
theorem vX5_isSign {D : Nat} {x0 : Nat} {x1 : Int32} {h : xH} : evD (D + 1) 281 [.ref x0, .int x1] h = exF (evD D) cX5_isSign 0 ([some (.ref x0), some (.int x1)], []) [] h := evD_at (n := 2) (m := 0) (C := cX5_isSign) rfl rfl
theorem vX5_emit {D : Nat} {x0 : Nat} {x1 : Int32} {x2 : Int32} {h : xH} : evD (D + 1) 282 [.ref x0, .int x1, .int x2] h = exF (evD D) cX5_emit 0 ([some (.ref x0), some (.int x1), some (.int x2)], []) [] h := evD_at (n := 3) (m := 0) (C := cX5_emit) rfl rfl
theorem vX5_hasSign {D : Nat} {x0 : Nat} {x1 : Int32} {h : xH} : evD (D + 1) 283 [.ref x0, .int x1] h = exF (evD D) cX5_hasSign 0 ([some (.ref x0), some (.int x1), none], []) [] h := evD_at (n := 3) (m := 0) (C := cX5_hasSign) rfl rfl
theorem vX5_takeSign {D : Nat} {x0 : Nat} {x1 : Int32} {h : xH} : evD (D + 1) 284 [.ref x0, .int x1] h = exF (evD D) cX5_takeSign 0 ([some (.ref x0), some (.int x1)], []) [] h := evD_at (n := 2) (m := 0) (C := cX5_takeSign) rfl rfl
theorem vX5_days {D : Nat} {x0 : Nat} {h : xH} : evD (D + 1) 285 [.ref x0] h = exF (evD D) cX5_days 0 ([some (.ref x0), none, none, none], []) [] h := evD_at (n := 4) (m := 0) (C := cX5_days) rfl rfl
theorem vX5_door {D : Nat} {x0 : Nat} {x1 : Int32} {x2 : Int32} {h : xH} : evD (D + 1) 286 [.ref x0, .int x1, .int x2] h = exF (evD D) cX5_door 0 ([some (.ref x0), some (.int x1), some (.int x2)], []) [] h := evD_at (n := 3) (m := 0) (C := cX5_door) rfl rfl
theorem vX5_isDoor {D : Nat} {x0 : Nat} {x1 : Int32} {h : xH} : evD (D + 1) 287 [.ref x0, .int x1] h = exF (evD D) cX5_isDoor 0 ([some (.ref x0), some (.int x1)], []) [] h := evD_at (n := 2) (m := 0) (C := cX5_isDoor) rfl rfl
theorem vX5_isWedged {D : Nat} {x0 : Nat} {x1 : Int32} {x2 : Int32} {h : xH} : evD (D + 1) 288 [.ref x0, .int x1, .int x2] h = exF (evD D) cX5_isWedged 0 ([some (.ref x0), some (.int x1), some (.int x2)], []) [] h := evD_at (n := 3) (m := 0) (C := cX5_isWedged) rfl rfl
theorem vX5_doesStick {D : Nat} {x0 : Nat} {x1 : Int32} {x2 : Int32} {h : xH} : evD (D + 1) 289 [.ref x0, .int x1, .int x2] h = exF (evD D) cX5_doesStick 0 ([some (.ref x0), some (.int x1), some (.int x2)], []) [] h := evD_at (n := 3) (m := 0) (C := cX5_doesStick) rfl rfl
theorem vX5_overOf {D : Nat} {x0 : Nat} {x1 : Int32} {x2 : Int32} {h : xH} : evD (D + 1) 290 [.ref x0, .int x1, .int x2] h = exF (evD D) cX5_overOf 0 ([some (.ref x0), some (.int x1), some (.int x2)], []) [] h := evD_at (n := 3) (m := 0) (C := cX5_overOf) rfl rfl
theorem vX5_person {D : Nat} {x0 : Nat} {x1 : Int32} {h : xH} : evD (D + 1) 291 [.ref x0, .int x1] h = exF (evD D) cX5_person 0 ([some (.ref x0), some (.int x1)], []) [] h := evD_at (n := 2) (m := 0) (C := cX5_person) rfl rfl
theorem vX5_isPerson {D : Nat} {x0 : Nat} {x1 : Int32} {h : xH} : evD (D + 1) 292 [.ref x0, .int x1] h = exF (evD D) cX5_isPerson 0 ([some (.ref x0), some (.int x1)], []) [] h := evD_at (n := 2) (m := 0) (C := cX5_isPerson) rfl rfl
theorem vX5_day {D : Nat} {x0 : Nat} {h : xH} : evD (D + 1) 293 [.ref x0] h = exF (evD D) cX5_day 0 ([some (.ref x0)], []) [] h := evD_at (n := 1) (m := 0) (C := cX5_day) rfl rfl
theorem vX5_keeps {D : Nat} {x0 : Nat} {h : xH} : evD (D + 1) 294 [.ref x0] h = exF (evD D) cX5_keeps 0 ([some (.ref x0), none], []) [] h := evD_at (n := 2) (m := 0) (C := cX5_keeps) rfl rfl
theorem vX5_copies {D : Nat} {x0 : Nat} {x1 : Int32} {x2 : Int32} {x3 : Int32} {h : xH} : evD (D + 1) 295 [.ref x0, .int x1, .int x2, .int x3] h = exF (evD D) cX5_copies 0 ([some (.ref x0), some (.int x1), some (.int x2), some (.int x3), none], []) [] h := evD_at (n := 5) (m := 0) (C := cX5_copies) rfl rfl
theorem vX5_passes {D : Nat} {x0 : Nat} {x1 : Int32} {h : xH} : evD (D + 1) 296 [.ref x0, .int x1] h = exF (evD D) cX5_passes 0 ([some (.ref x0), some (.int x1)], []) [] h := evD_at (n := 2) (m := 0) (C := cX5_passes) rfl rfl
theorem vX5_dampOn {D : Nat} {x0 : Nat} {x1 : Int32} {h : xH} : evD (D + 1) 297 [.ref x0, .int x1] h = exF (evD D) cX5_dampOn 0 ([some (.ref x0), some (.int x1)], []) [] h := evD_at (n := 2) (m := 0) (C := cX5_dampOn) rfl rfl
theorem vX5_passes_2 {D : Nat} {x0 : Nat} {x1 : Int32} {x2 : Int32} {h : xH} : evD (D + 1) 298 [.ref x0, .int x1, .int x2] h = exF (evD D) cX5_passes_2 0 ([some (.ref x0), some (.int x1), some (.int x2), none, none], []) [] h := evD_at (n := 5) (m := 0) (C := cX5_passes_2) rfl rfl
theorem vX5_moves {D : Nat} {x0 : Nat} {x1 : Int32} {x2 : Int32} {x3 : Int32} {h : xH} : evD (D + 1) 299 [.ref x0, .int x1, .int x2, .int x3] h = exF (evD D) cX5_moves 0 ([some (.ref x0), some (.int x1), some (.int x2), some (.int x3), none, none, none, none], []) [] h := evD_at (n := 8) (m := 0) (C := cX5_moves) rfl rfl
theorem vX5_worthAt {D : Nat} {x0 : Nat} {x1 : Int32} {h : xH} : evD (D + 1) 300 [.ref x0, .int x1] h = exF (evD D) cX5_worthAt 0 ([some (.ref x0), some (.int x1), none, none, none], []) [] h := evD_at (n := 5) (m := 0) (C := cX5_worthAt) rfl rfl
theorem vX5_both {D : Nat} {x0 : Int32} {x1 : Int32} {x2 : Int32} {h : xH} : evD (D + 1) 301 [.int x0, .int x1, .int x2] h = exF (evD D) cX5_both 0 ([some (.int x0), some (.int x1), some (.int x2)], []) [] h := evD_at (n := 3) (m := 0) (C := cX5_both) rfl rfl
theorem vX5_sticking {D : Nat} {x0 : Nat} {x1 : Int32} {h : xH} : evD (D + 1) 302 [.ref x0, .int x1] h = exF (evD D) cX5_sticking 0 ([some (.ref x0), some (.int x1), none, none], []) [] h := evD_at (n := 4) (m := 0) (C := cX5_sticking) rfl rfl
theorem vX5_walk {D : Nat} {x0 : Nat} {x1 : Int32} {x2 : Int32} {h : xH} : evD (D + 1) 303 [.ref x0, .int x1, .int x2] h = exF (evD D) cX5_walk 0 ([some (.ref x0), some (.int x1), some (.int x2)], []) [] h := evD_at (n := 3) (m := 0) (C := cX5_walk) rfl rfl
theorem vX5_mayWalk {D : Nat} {x0 : Nat} {x1 : Int32} {x2 : Int32} {x3 : Int32} {h : xH} : evD (D + 1) 304 [.ref x0, .int x1, .int x2, .int x3] h = exF (evD D) cX5_mayWalk 0 ([some (.ref x0), some (.int x1), some (.int x2), some (.int x3)], []) [] h := evD_at (n := 4) (m := 0) (C := cX5_mayWalk) rfl rfl
theorem vX5_behind {D : Nat} {x0 : Nat} {x1 : Int32} {x2 : Int32} {h : xH} : evD (D + 1) 305 [.ref x0, .int x1, .int x2] h = exF (evD D) cX5_behind 0 ([some (.ref x0), some (.int x1), some (.int x2)], []) [] h := evD_at (n := 3) (m := 0) (C := cX5_behind) rfl rfl
theorem vX5_walks {D : Nat} {x0 : Nat} {x1 : Int32} {x2 : Int32} {x3 : Int32} {h : xH} : evD (D + 1) 306 [.ref x0, .int x1, .int x2, .int x3] h = exF (evD D) cX5_walks 0 ([some (.ref x0), some (.int x1), some (.int x2), some (.int x3)], []) [] h := evD_at (n := 4) (m := 0) (C := cX5_walks) rfl rfl
theorem vX5_plane {D : Nat} {x0 : Nat} {x1 : Int32} {h : xH} : evD (D + 1) 307 [.ref x0, .int x1] h = exF (evD D) cX5_plane 0 ([some (.ref x0), some (.int x1)], []) [] h := evD_at (n := 2) (m := 0) (C := cX5_plane) rfl rfl
theorem vX5_wedge {D : Nat} {x0 : Nat} {x1 : Int32} {h : xH} : evD (D + 1) 308 [.ref x0, .int x1] h = exF (evD D) cX5_wedge 0 ([some (.ref x0), some (.int x1)], []) [] h := evD_at (n := 2) (m := 0) (C := cX5_wedge) rfl rfl
theorem vX5_mayWedge {D : Nat} {x0 : Nat} {x1 : Int32} {x2 : Int32} {h : xH} : evD (D + 1) 309 [.ref x0, .int x1, .int x2] h = exF (evD D) cX5_mayWedge 0 ([some (.ref x0), some (.int x1), some (.int x2)], []) [] h := evD_at (n := 3) (m := 0) (C := cX5_mayWedge) rfl rfl
theorem vX5_force {D : Nat} {x0 : Nat} {x1 : Int32} {h : xH} : evD (D + 1) 310 [.ref x0, .int x1] h = exF (evD D) cX5_force 0 ([some (.ref x0), some (.int x1)], []) [] h := evD_at (n := 2) (m := 0) (C := cX5_force) rfl rfl
theorem vX5_mayForce {D : Nat} {x0 : Nat} {x1 : Int32} {x2 : Int32} {h : xH} : evD (D + 1) 311 [.ref x0, .int x1, .int x2] h = exF (evD D) cX5_mayForce 0 ([some (.ref x0), some (.int x1), some (.int x2)], []) [] h := evD_at (n := 3) (m := 0) (C := cX5_mayForce) rfl rfl
theorem vX5_undo {D : Nat} {x0 : Nat} {h : xH} : evD (D + 1) 312 [.ref x0] h = exF (evD D) cX5_undo 0 ([some (.ref x0)], []) [] h := evD_at (n := 1) (m := 0) (C := cX5_undo) rfl rfl
theorem vX5_judged {D : Nat} {x0 : Nat} {x1 : Int32} {h : xH} : evD (D + 1) 313 [.ref x0, .int x1] h = exF (evD D) cX5_judged 0 ([some (.ref x0), some (.int x1), none, none, none, none, none, none, none], []) [] h := evD_at (n := 9) (m := 0) (C := cX5_judged) rfl rfl
theorem vX5_can {D : Nat} {x0 : Nat} {x1 : Int32} {x2 : Int32} {x3 : Int32} {h : xH} : evD (D + 1) 314 [.ref x0, .int x1, .int x2, .int x3] h = exF (evD D) cX5_can 0 ([some (.ref x0), some (.int x1), some (.int x2), some (.int x3)], []) [] h := evD_at (n := 4) (m := 0) (C := cX5_can) rfl rfl
theorem vX5_shutIn {D : Nat} {x0 : Nat} {x1 : Int32} {h : xH} : evD (D + 1) 315 [.ref x0, .int x1] h = exF (evD D) cX5_shutIn 0 ([some (.ref x0), some (.int x1), none, none, none, none, none, none], []) [] h := evD_at (n := 8) (m := 0) (C := cX5_shutIn) rfl rfl
theorem vX5_bits {D : Nat} {x0 : Int32} {h : xH} : evD (D + 1) 316 [.int x0] h = exF (evD D) cX5_bits 0 ([some (.int x0), none, none], []) [] h := evD_at (n := 3) (m := 0) (C := cX5_bits) rfl rfl
theorem vX5_shut {D : Nat} {x0 : Nat} {h : xH} : evD (D + 1) 317 [.ref x0] h = exF (evD D) cX5_shut 0 ([some (.ref x0)], []) [] h := evD_at (n := 1) (m := 0) (C := cX5_shut) rfl rfl
theorem vX5_range {D : Nat} {x0 : Nat} {x1 : Int32} {h : xH} : evD (D + 1) 318 [.ref x0, .int x1] h = exF (evD D) cX5_range 0 ([some (.ref x0), some (.int x1)], []) [] h := evD_at (n := 2) (m := 0) (C := cX5_range) rfl rfl
theorem vX5_isRoom {D : Nat} {x0 : Nat} {x1 : Int32} {h : xH} : evD (D + 1) 319 [.ref x0, .int x1] h = exF (evD D) cX5_isRoom 0 ([some (.ref x0), some (.int x1)], []) [] h := evD_at (n := 2) (m := 0) (C := cX5_isRoom) rfl rfl
theorem vX5_rooms {D : Nat} {x0 : Nat} {h : xH} : evD (D + 1) 320 [.ref x0] h = exF (evD D) cX5_rooms 0 ([some (.ref x0)], []) [] h := evD_at (n := 1) (m := 0) (C := cX5_rooms) rfl rfl
theorem vX5_openNow {D : Nat} {x0 : Nat} {x1 : Int32} {h : xH} : evD (D + 1) 321 [.ref x0, .int x1] h = exF (evD D) cX5_openNow 0 ([some (.ref x0), some (.int x1)], []) [] h := evD_at (n := 2) (m := 0) (C := cX5_openNow) rfl rfl
theorem vX5_rangeBy {D : Nat} {x0 : Nat} {x1 : Int32} {x2 : Int32} {h : xH} : evD (D + 1) 322 [.ref x0, .int x1, .int x2] h = exF (evD D) cX5_rangeBy 0 ([some (.ref x0), some (.int x1), some (.int x2), none, none], []) [] h := evD_at (n := 5) (m := 0) (C := cX5_rangeBy) rfl rfl
theorem vX5_onFrom {D : Nat} {x0 : Nat} {x1 : Int32} {x2 : Int32} {h : xH} : evD (D + 1) 323 [.ref x0, .int x1, .int x2] h = exF (evD D) cX5_onFrom 0 ([some (.ref x0), some (.int x1), some (.int x2), none, none, none, none, none], []) [] h := evD_at (n := 8) (m := 0) (C := cX5_onFrom) rfl rfl
theorem vX5_company {D : Nat} {x0 : Nat} {x1 : Int32} {h : xH} : evD (D + 1) 324 [.ref x0, .int x1] h = exF (evD D) cX5_company 0 ([some (.ref x0), some (.int x1)], []) [] h := evD_at (n := 2) (m := 0) (C := cX5_company) rfl rfl
theorem vX5_companyBy {D : Nat} {x0 : Nat} {x1 : Int32} {x2 : Int32} {h : xH} : evD (D + 1) 325 [.ref x0, .int x1, .int x2] h = exF (evD D) cX5_companyBy 0 ([some (.ref x0), some (.int x1), some (.int x2), none, none, none], []) [] h := evD_at (n := 6) (m := 0) (C := cX5_companyBy) rfl rfl
theorem vX5_alone {D : Nat} {x0 : Nat} {h : xH} : evD (D + 1) 326 [.ref x0] h = exF (evD D) cX5_alone 0 ([some (.ref x0), none, none], []) [] h := evD_at (n := 3) (m := 0) (C := cX5_alone) rfl rfl
theorem vX5_bride {D : Nat} {x0 : Nat} {h : xH} : evD (D + 1) 327 [.ref x0] h = exF (evD D) cX5_bride 0 ([some (.ref x0), none, none, none, none], []) [] h := evD_at (n := 5) (m := 0) (C := cX5_bride) rfl rfl
theorem vX5_parts {D : Nat} {x0 : Nat} {h : xH} : evD (D + 1) 328 [.ref x0] h = exF (evD D) cX5_parts 0 ([some (.ref x0), none, none], []) [] h := evD_at (n := 3) (m := 0) (C := cX5_parts) rfl rfl
theorem vX5_deep {D : Nat} {x0 : Nat} {x1 : Int32} {h : xH} : evD (D + 1) 329 [.ref x0, .int x1] h = exF (evD D) cX5_deep 0 ([some (.ref x0), some (.int x1), none, none], []) [] h := evD_at (n := 4) (m := 0) (C := cX5_deep) rfl rfl
theorem vX5_spared {D : Nat} {x0 : Nat} {h : xH} : evD (D + 1) 330 [.ref x0] h = exF (evD D) cX5_spared 0 ([some (.ref x0), none, none, none, none, none], []) [] h := evD_at (n := 6) (m := 0) (C := cX5_spared) rfl rfl
theorem vX5_opened {D : Nat} {x0 : Nat} {h : xH} : evD (D + 1) 331 [.ref x0] h = exF (evD D) cX5_opened 0 ([some (.ref x0), none, none, none, none, none], []) [] h := evD_at (n := 6) (m := 0) (C := cX5_opened) rfl rfl
theorem vX5_pairsBy {D : Nat} {x0 : Nat} {x1 : Int32} {h : xH} : evD (D + 1) 332 [.ref x0, .int x1] h = exF (evD D) cX5_pairsBy 0 ([some (.ref x0), some (.int x1), none, none], []) [] h := evD_at (n := 4) (m := 0) (C := cX5_pairsBy) rfl rfl
theorem vX5_cut {D : Nat} {x0 : Nat} {x1 : Int32} {x2 : Int32} {h : xH} : evD (D + 1) 333 [.ref x0, .int x1, .int x2] h = exF (evD D) cX5_cut 0 ([some (.ref x0), some (.int x1), some (.int x2), none, none, none, none], []) [] h := evD_at (n := 7) (m := 0) (C := cX5_cut) rfl rfl
theorem vX5_rattles {D : Nat} {x0 : Nat} {h : xH} : evD (D + 1) 334 [.ref x0] h = exF (evD D) cX5_rattles 0 ([some (.ref x0), none, none], []) [] h := evD_at (n := 3) (m := 0) (C := cX5_rattles) rfl rfl
theorem vX5_worst {D : Nat} {x0 : Nat} {h : xH} : evD (D + 1) 335 [.ref x0] h = exF (evD D) cX5_worst 0 ([some (.ref x0), none, none, none, none], []) [] h := evD_at (n := 5) (m := 0) (C := cX5_worst) rfl rfl
theorem vX5_later {D : Nat} {x0 : Nat} {x1 : Int32} {x2 : Int32} {h : xH} : evD (D + 1) 336 [.ref x0, .int x1, .int x2] h = exF (evD D) cX5_later 0 ([some (.ref x0), some (.int x1), some (.int x2), none], []) [] h := evD_at (n := 4) (m := 0) (C := cX5_later) rfl rfl
theorem vX5_triesNow {D : Nat} {x0 : Nat} {h : xH} : evD (D + 1) 337 [.ref x0] h = exF (evD D) cX5_triesNow 0 ([some (.ref x0)], []) [] h := evD_at (n := 1) (m := 0) (C := cX5_triesNow) rfl rfl
theorem vX5_closes {D : Nat} {x0 : Nat} {x1 : Int32} {h : xH} : evD (D + 1) 338 [.ref x0, .int x1] h = exF (evD D) cX5_closes 0 ([some (.ref x0), some (.int x1)], []) [] h := evD_at (n := 2) (m := 0) (C := cX5_closes) rfl rfl
theorem vX5_behindHow {D : Nat} {x0 : Nat} {x1 : Int32} {x2 : Int32} {h : xH} : evD (D + 1) 339 [.ref x0, .int x1, .int x2] h = exF (evD D) cX5_behindHow 0 ([some (.ref x0), some (.int x1), some (.int x2), none, none], []) [] h := evD_at (n := 5) (m := 0) (C := cX5_behindHow) rfl rfl
theorem vX5_gives {D : Nat} {x0 : Nat} {x1 : Int32} {h : xH} : evD (D + 1) 340 [.ref x0, .int x1] h = exF (evD D) cX5_gives 0 ([some (.ref x0), some (.int x1)], []) [] h := evD_at (n := 2) (m := 0) (C := cX5_gives) rfl rfl
theorem vX5_calm {D : Nat} {x0 : Nat} {h : xH} : evD (D + 1) 341 [.ref x0] h = exF (evD D) cX5_calm 0 ([some (.ref x0)], []) [] h := evD_at (n := 1) (m := 0) (C := cX5_calm) rfl rfl
theorem vX5_hard {D : Nat} {x0 : Nat} {h : xH} : evD (D + 1) 342 [.ref x0] h = exF (evD D) cX5_hard 0 ([some (.ref x0), none, none, none, none], []) [] h := evD_at (n := 5) (m := 0) (C := cX5_hard) rfl rfl
theorem vX5_arrives {D : Nat} {x0 : Nat} {x1 : Int32} {x2 : Int32} {h : xH} : evD (D + 1) 343 [.ref x0, .int x1, .int x2] h = exF (evD D) cX5_arrives 0 ([some (.ref x0), some (.int x1), some (.int x2)], []) [] h := evD_at (n := 3) (m := 0) (C := cX5_arrives) rfl rfl
theorem vX5_opensThen {D : Nat} {x0 : Nat} {h : xH} : evD (D + 1) 344 [.ref x0] h = exF (evD D) cX5_opensThen 0 ([some (.ref x0), none], []) [] h := evD_at (n := 2) (m := 0) (C := cX5_opensThen) rfl rfl
theorem vX5_arrivesBy {D : Nat} {x0 : Nat} {x1 : Int32} {x2 : Int32} {h : xH} : evD (D + 1) 345 [.ref x0, .int x1, .int x2] h = exF (evD D) cX5_arrivesBy 0 ([some (.ref x0), some (.int x1), some (.int x2), none, none], []) [] h := evD_at (n := 5) (m := 0) (C := cX5_arrivesBy) rfl rfl
theorem vX5_from {D : Nat} {x0 : Nat} {x1 : Int32} {x2 : Int32} {h : xH} : evD (D + 1) 346 [.ref x0, .int x1, .int x2] h = exF (evD D) cX5_from 0 ([some (.ref x0), some (.int x1), some (.int x2), none, none, none], []) [] h := evD_at (n := 6) (m := 0) (C := cX5_from) rfl rfl
theorem vX5_both_2 {D : Nat} {x0 : Nat} {x1 : Int32} {x2 : Int32} {h : xH} : evD (D + 1) 347 [.ref x0, .int x1, .int x2] h = exF (evD D) cX5_both_2 0 ([some (.ref x0), some (.int x1), some (.int x2), none, none, none], []) [] h := evD_at (n := 6) (m := 0) (C := cX5_both_2) rfl rfl
theorem vX5_planed {D : Nat} {x0 : Nat} {x1 : Int32} {x2 : Int32} {h : xH} : evD (D + 1) 348 [.ref x0, .int x1, .int x2] h = exF (evD D) cX5_planed 0 ([some (.ref x0), some (.int x1), some (.int x2), none], []) [] h := evD_at (n := 4) (m := 0) (C := cX5_planed) rfl rfl
theorem vX5_doesPlane {D : Nat} {x0 : Nat} {x1 : Int32} {x2 : Int32} {x3 : Int32} {x4 : Int32} {h : xH} : evD (D + 1) 349 [.ref x0, .int x1, .int x2, .int x3, .int x4] h = exF (evD D) cX5_doesPlane 0 ([some (.ref x0), some (.int x1), some (.int x2), some (.int x3), some (.int x4), none, none], []) [] h := evD_at (n := 7) (m := 0) (C := cX5_doesPlane) rfl rfl
theorem vX5_areOne {D : Nat} {x0 : Nat} {x1 : Int32} {h : xH} : evD (D + 1) 350 [.ref x0, .int x1] h = exF (evD D) cX5_areOne 0 ([some (.ref x0), some (.int x1), none, none], []) [] h := evD_at (n := 4) (m := 0) (C := cX5_areOne) rfl rfl
theorem vX5_feel {D : Nat} {x0 : Nat} {x1 : Int32} {x2 : Int32} {x3 : Int32} {h : xH} : evD (D + 1) 351 [.ref x0, .int x1, .int x2, .int x3] h = exF (evD D) cX5_feel 0 ([some (.ref x0), some (.int x1), some (.int x2), some (.int x3), none], []) [] h := evD_at (n := 5) (m := 0) (C := cX5_feel) rfl rfl
theorem vX5_wets {D : Nat} {x0 : Nat} {h : xH} : evD (D + 1) 352 [.ref x0] h = exF (evD D) cX5_wets 0 ([some (.ref x0)], []) [] h := evD_at (n := 1) (m := 0) (C := cX5_wets) rfl rfl
theorem vX5_wetsNow {D : Nat} {x0 : Nat} {h : xH} : evD (D + 1) 353 [.ref x0] h = exF (evD D) cX5_wetsNow 0 ([some (.ref x0), none, none, none, none, none], []) [] h := evD_at (n := 6) (m := 0) (C := cX5_wetsNow) rfl rfl
theorem vX5_tries {D : Nat} {x0 : Nat} {h : xH} : evD (D + 1) 354 [.ref x0] h = exF (evD D) cX5_tries 0 ([some (.ref x0), none, none, none, none, none, none, none, none], []) [] h := evD_at (n := 9) (m := 0) (C := cX5_tries) rfl rfl
theorem vX5_say {D : Nat} {x0 : Nat} {x1 : Int32} {x2 : Int32} {h : xH} : evD (D + 1) 355 [.ref x0, .int x1, .int x2] h = exF (evD D) cX5_say 0 ([some (.ref x0), some (.int x1), some (.int x2), none], []) [] h := evD_at (n := 4) (m := 0) (C := cX5_say) rfl rfl
theorem vX5_who {D : Nat} {x0 : Nat} {h : xH} : evD (D + 1) 356 [.ref x0] h = exF (evD D) cX5_who 0 ([some (.ref x0), none, none, none, none, none], []) [] h := evD_at (n := 6) (m := 0) (C := cX5_who) rfl rfl
theorem vX5_chance {D : Nat} {x0 : Nat} {x1 : Int32} {x2 : Int32} {x3 : Int32} {h : xH} : evD (D + 1) 357 [.ref x0, .int x1, .int x2, .int x3] h = exF (evD D) cX5_chance 0 ([some (.ref x0), some (.int x1), some (.int x2), some (.int x3), none, none, none, none, none, none, none, none, none], [none, none, none, none, none, none, none, none, none, none, none, none, none]) [] h := evD_at (n := 13) (m := 13) (C := cX5_chance) rfl rfl
theorem vX5_rests {D : Nat} {x0 : Nat} {x1 : Int32} {x2 : Int32} {x3 : Int32} {x4 : Int32} {h : xH} : evD (D + 1) 358 [.ref x0, .int x1, .int x2, .int x3, .int x4] h = exF (evD D) cX5_rests 0 ([some (.ref x0), some (.int x1), some (.int x2), some (.int x3), some (.int x4), none, none, none, none, none, none, none], []) [] h := evD_at (n := 12) (m := 0) (C := cX5_rests) rfl rfl
theorem vX5_getsBy {D : Nat} {x0 : Int32} {x1 : Int32} {x2 : Int32} {x3 : Int32} {x4 : Int32} {h : xH} : evD (D + 1) 359 [.int x0, .int x1, .int x2, .int x3, .int x4] h = exF (evD D) cX5_getsBy 0 ([some (.int x0), some (.int x1), some (.int x2), some (.int x3), some (.int x4)], []) [] h := evD_at (n := 5) (m := 0) (C := cX5_getsBy) rfl rfl
theorem vX5_years {D : Nat} {x0 : Nat} {x1 : Int32} {x2 : Int32} {x3 : Int32} {h : xH} : evD (D + 1) 360 [.ref x0, .int x1, .int x2, .int x3] h = exF (evD D) cX5_years 0 ([some (.ref x0), some (.int x1), some (.int x2), some (.int x3), none, none], []) [] h := evD_at (n := 6) (m := 0) (C := cX5_years) rfl rfl
theorem vX5_drawsDeed {D : Nat} {x0 : Nat} {h : xH} : evD (D + 1) 361 [.ref x0] h = exF (evD D) cX5_drawsDeed 0 ([some (.ref x0), none, none, none], []) [] h := evD_at (n := 4) (m := 0) (C := cX5_drawsDeed) rfl rfl
theorem vX5_draw {D : Nat} {x0 : Nat} {x1 : Int32} {h : xH} : evD (D + 1) 362 [.ref x0, .int x1] h = exF (evD D) cX5_draw 0 ([some (.ref x0), some (.int x1)], []) [] h := evD_at (n := 2) (m := 0) (C := cX5_draw) rfl rfl
theorem vX5_sumOf {D : Nat} {x0 : Nat} {x1 : Int32} {x2 : Int32} {h : xH} : evD (D + 1) 363 [.ref x0, .int x1, .int x2] h = exF (evD D) cX5_sumOf 0 ([some (.ref x0), some (.int x1), some (.int x2), none, none], []) [] h := evD_at (n := 5) (m := 0) (C := cX5_sumOf) rfl rfl
theorem vX5_mark {D : Nat} {x0 : Nat} {x1 : Int32} {x2 : Int32} {h : xH} : evD (D + 1) 364 [.ref x0, .int x1, .int x2] h = exF (evD D) cX5_mark 0 ([some (.ref x0), some (.int x1), some (.int x2)], []) [] h := evD_at (n := 3) (m := 0) (C := cX5_mark) rfl rfl
theorem vX5_count {D : Nat} {x0 : Nat} {x1 : Int32} {h : xH} : evD (D + 1) 365 [.ref x0, .int x1] h = exF (evD D) cX5_count 0 ([some (.ref x0), some (.int x1)], []) [] h := evD_at (n := 2) (m := 0) (C := cX5_count) rfl rfl
theorem vX6_init {D : Nat} {x0 : Nat} {x1 : Int32} {x2 : Int32} {h : xH} : evD (D + 1) 366 [.ref x0, .int x1, .int x2] h = exF (evD D) cX6_init 0 ([some (.ref x0), some (.int x1), some (.int x2)], []) [] h := evD_at (n := 3) (m := 0) (C := cX6_init) rfl rfl
theorem vX7_isOf {D : Nat} {x0 : Nat} {x1 : Int32} {h : xH} : evD (D + 1) 367 [.ref x0, .int x1] h = exF (evD D) cX7_isOf 0 ([some (.ref x0), some (.int x1)], []) [] h := evD_at (n := 2) (m := 0) (C := cX7_isOf) rfl rfl
theorem vX7_init {D : Nat} {x0 : Nat} {x1 : Int32} {x2 : Int32} {h : xH} : evD (D + 1) 368 [.ref x0, .int x1, .int x2] h = exF (evD D) cX7_init 0 ([some (.ref x0), some (.int x1), some (.int x2)], []) [] h := evD_at (n := 3) (m := 0) (C := cX7_init) rfl rfl
theorem vX7_beyond {D : Nat} {x0 : Nat} {x1 : Int32} {h : xH} : evD (D + 1) 369 [.ref x0, .int x1] h = exF (evD D) cX7_beyond 0 ([some (.ref x0), some (.int x1)], []) [] h := evD_at (n := 2) (m := 0) (C := cX7_beyond) rfl rfl
theorem vX8_init {D : Nat} {x0 : Nat} {h : xH} : evD (D + 1) 370 [.ref x0] h = exF (evD D) cX8_init 0 ([some (.ref x0)], []) [] h := evD_at (n := 1) (m := 0) (C := cX8_init) rfl rfl
theorem vX9_init {D : Nat} {x0 : Nat} {h : xH} : evD (D + 1) 371 [.ref x0] h = exF (evD D) cX9_init 0 ([some (.ref x0)], []) [] h := evD_at (n := 1) (m := 0) (C := cX9_init) rfl rfl
theorem vX9_kind {D : Nat} {x0 : Nat} {h : xH} : evD (D + 1) 372 [.ref x0] h = exF (evD D) cX9_kind 0 ([some (.ref x0)], []) [] h := evD_at (n := 1) (m := 0) (C := cX9_kind) rfl rfl
theorem vX9_upper {D : Nat} {x0 : Nat} {h : xH} : evD (D + 1) 373 [.ref x0] h = exF (evD D) cX9_upper 0 ([some (.ref x0)], []) [] h := evD_at (n := 1) (m := 0) (C := cX9_upper) rfl rfl
theorem vX9_lower {D : Nat} {x0 : Nat} {h : xH} : evD (D + 1) 374 [.ref x0] h = exF (evD D) cX9_lower 0 ([some (.ref x0)], []) [] h := evD_at (n := 1) (m := 0) (C := cX9_lower) rfl rfl
theorem vX9_shrinks {D : Nat} {x0 : Nat} {h : xH} : evD (D + 1) 375 [.ref x0] h = exF (evD D) cX9_shrinks 0 ([some (.ref x0)], []) [] h := evD_at (n := 1) (m := 0) (C := cX9_shrinks) rfl rfl
