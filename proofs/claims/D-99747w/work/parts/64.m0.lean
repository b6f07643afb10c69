set_option maxRecDepth 100000
theorem dX5_thrown_0 : decode bcX5_thrown 0 = .ok (.aload_n 0, 1) := by decide +kernel
theorem dX5_thrown_1 : decode bcX5_thrown 1 = .ok (.getfield 1, 3) := by decide +kernel
theorem dX5_thrown_4 : decode bcX5_thrown 4 = .ok (.ireturn, 1) := by decide +kernel
abbrev SX5_thrown (pc : Nat) (i : xI) : Prop := Snd "SwollenHouseModel" "thrown" prog_25_method_1_code 1 (Option.some Jvm.ClassFile.FieldType.int) [] pc i
theorem oX5_thrown_0 : SX5_thrown 0 (i_aload 0 1) := snd_aload_n dX5_thrown_0 rfl
theorem oX5_thrown_1 : SX5_thrown 1 (i_getf 4 0 4) := snd_getf dX5_thrown_1 rfl (by decide) in_X5 (Or.inl q1698) (Or.inl rfl) (by decide)
theorem oX5_thrown_4 : SX5_thrown 4 (i_iret) := snd_iret dX5_thrown_4 rfl
theorem okX5_thrown : ∀ q ∈ cX5_thrown, SX5_thrown q.1 q.2 := List.forall_mem_cons.mpr ⟨oX5_thrown_0, List.forall_mem_cons.mpr ⟨oX5_thrown_1, List.forall_mem_cons.mpr ⟨oX5_thrown_4, fun _ h => absurd h List.not_mem_nil⟩⟩⟩
def dkwX5_feed_1 : List UInt8 := [180, 0, 11, 172]
abbrev dktX5_feed_1 : List UInt8 := dkwX5_feed_1 ++ []
def dkwX5_feed_0 : List UInt8 := [42, 3, 181, 0, 1, 42, 31, 182, 0, 7, 42, 33, 182, 0, 7, 42, 22, 5, 182, 0, 7, 42]
abbrev dktX5_feed_0 : List UInt8 := dkwX5_feed_0 ++ dktX5_feed_1
theorem dksX5_feed_0 : bcX5_feed.data.toList.drop 0 = dktX5_feed_0 := by decide +kernel
theorem dksX5_feed_1 : bcX5_feed.data.toList.drop 22 = dktX5_feed_1 := dk_seg dksX5_feed_0 22 rfl rfl
theorem dX5_feed_0 : decode bcX5_feed 0 = .ok (.aload_n 0, 1) := dk_42 (dk_at dksX5_feed_0 0 rfl rfl)
theorem dX5_feed_1 : decode bcX5_feed 1 = .ok (.iconst 0, 1) := dk_3 (dk_at dksX5_feed_0 1 rfl rfl)
theorem dX5_feed_2 : decode bcX5_feed 2 = .ok (.putfield 1, 3) := dk_181 0 1 (dk_at dksX5_feed_0 2 rfl rfl)
theorem dX5_feed_5 : decode bcX5_feed 5 = .ok (.aload_n 0, 1) := dk_42 (dk_at dksX5_feed_0 5 rfl rfl)
theorem dX5_feed_6 : decode bcX5_feed 6 = .ok (.lload_n 1, 1) := dk_31 (dk_at dksX5_feed_0 6 rfl rfl)
theorem dX5_feed_7 : decode bcX5_feed 7 = .ok (.invokevirtual 7, 3) := dk_182 0 7 (dk_at dksX5_feed_0 7 rfl rfl)
theorem dX5_feed_10 : decode bcX5_feed 10 = .ok (.aload_n 0, 1) := dk_42 (dk_at dksX5_feed_0 10 rfl rfl)
theorem dX5_feed_11 : decode bcX5_feed 11 = .ok (.lload_n 3, 1) := dk_33 (dk_at dksX5_feed_0 11 rfl rfl)
theorem dX5_feed_12 : decode bcX5_feed 12 = .ok (.invokevirtual 7, 3) := dk_182 0 7 (dk_at dksX5_feed_0 12 rfl rfl)
theorem dX5_feed_15 : decode bcX5_feed 15 = .ok (.aload_n 0, 1) := dk_42 (dk_at dksX5_feed_0 15 rfl rfl)
theorem dX5_feed_16 : decode bcX5_feed 16 = .ok (.lload 5, 2) := dk_22 5 (dk_at dksX5_feed_0 16 rfl rfl)
theorem dX5_feed_18 : decode bcX5_feed 18 = .ok (.invokevirtual 7, 3) := dk_182 0 7 (dk_at dksX5_feed_0 18 rfl rfl)
theorem dX5_feed_21 : decode bcX5_feed 21 = .ok (.aload_n 0, 1) := dk_42 (dk_at dksX5_feed_0 21 rfl rfl)
theorem dX5_feed_22 : decode bcX5_feed 22 = .ok (.getfield 11, 3) := dk_180 0 11 (dk_at dksX5_feed_1 0 rfl rfl)
theorem dX5_feed_25 : decode bcX5_feed 25 = .ok (.ireturn, 1) := dk_172 (dk_at dksX5_feed_1 3 rfl rfl)
abbrev SX5_feed (pc : Nat) (i : xI) : Prop := Snd "SwollenHouseModel" "feed" prog_25_method_2_code 7 (Option.some Jvm.ClassFile.FieldType.int) [] pc i
theorem oX5_feed_0 : SX5_feed 0 (i_aload 0 1) := snd_aload_n dX5_feed_0 rfl
theorem oX5_feed_1 : SX5_feed 1 (i_const (.int (nI 0)) 2) := snd_iconst dX5_feed_1 (by decide)
theorem oX5_feed_2 : SX5_feed 2 (i_putfi 4 0 5) := snd_putfi dX5_feed_2 rfl (by decide) in_X5 tyX5 tyX5_ok nmX5 (Or.inl ⟨rfl, q1698⟩) (Or.inl rfl) rfl
theorem oX5_feed_5 : SX5_feed 5 (i_aload 0 6) := snd_aload_n dX5_feed_5 rfl
theorem oX5_feed_6 : SX5_feed 6 (i_lload 1 7) := snd_lload_n dX5_feed_6 rfl
theorem oX5_feed_7 : SX5_feed 7 (i_cvv 4 245 1 10) := snd_cvv rfl infX5_lay (by decide) rfl (xVm_V dX5_feed_7 rfl q1641 q1643 qs56 q136 q1645 pdX5_lay)
theorem oX5_feed_10 : SX5_feed 10 (i_aload 0 11) := snd_aload_n dX5_feed_10 rfl
theorem oX5_feed_11 : SX5_feed 11 (i_lload 3 12) := snd_lload_n dX5_feed_11 rfl
theorem oX5_feed_12 : SX5_feed 12 (i_cvv 4 245 1 15) := snd_cvv rfl infX5_lay (by decide) rfl (xVm_V dX5_feed_12 rfl q1641 q1643 qs56 q136 q1645 pdX5_lay)
theorem oX5_feed_15 : SX5_feed 15 (i_aload 0 16) := snd_aload_n dX5_feed_15 rfl
theorem oX5_feed_16 : SX5_feed 16 (i_lload 5 18) := snd_lload dX5_feed_16
theorem oX5_feed_18 : SX5_feed 18 (i_cvv 4 245 1 21) := snd_cvv rfl infX5_lay (by decide) rfl (xVm_V dX5_feed_18 rfl q1641 q1643 qs56 q136 q1645 pdX5_lay)
theorem oX5_feed_21 : SX5_feed 21 (i_aload 0 22) := snd_aload_n dX5_feed_21 rfl
theorem oX5_feed_22 : SX5_feed 22 (i_getf 4 2 25) := snd_getf dX5_feed_22 rfl (by decide) in_X5 (Or.inl q1700) (Or.inl rfl) (by decide)
theorem oX5_feed_25 : SX5_feed 25 (i_iret) := snd_iret dX5_feed_25 rfl
theorem okX5_feed : ∀ q ∈ cX5_feed, SX5_feed q.1 q.2 := List.forall_mem_cons.mpr ⟨oX5_feed_0, List.forall_mem_cons.mpr ⟨oX5_feed_1, List.forall_mem_cons.mpr ⟨oX5_feed_2, List.forall_mem_cons.mpr ⟨oX5_feed_5, List.forall_mem_cons.mpr ⟨oX5_feed_6, List.forall_mem_cons.mpr ⟨oX5_feed_7, List.forall_mem_cons.mpr ⟨oX5_feed_10, List.forall_mem_cons.mpr ⟨oX5_feed_11, List.forall_mem_cons.mpr ⟨oX5_feed_12, List.forall_mem_cons.mpr ⟨oX5_feed_15, List.forall_mem_cons.mpr ⟨oX5_feed_16, List.forall_mem_cons.mpr ⟨oX5_feed_18, List.forall_mem_cons.mpr ⟨oX5_feed_21, List.forall_mem_cons.mpr ⟨oX5_feed_22, List.forall_mem_cons.mpr ⟨oX5_feed_25, fun _ h => absurd h List.not_mem_nil⟩⟩⟩⟩⟩⟩⟩⟩⟩⟩⟩⟩⟩⟩⟩
def dkwX5_lay_3 : List UInt8 := [167, 255, 187, 177]
abbrev dktX5_lay_3 : List UInt8 := dkwX5_lay_3 ++ []
def dkwX5_lay_2 : List UInt8 := [42, 180, 0, 14, 42, 180, 0, 11, 21, 4, 79, 42, 89, 180, 0, 11, 4, 96, 181, 0, 11, 132, 3, 248]
abbrev dktX5_lay_2 : List UInt8 := dkwX5_lay_2 ++ dktX5_lay_3
def dkwX5_lay_1 : List UInt8 := [21, 4, 16, 32, 161, 0, 41, 21, 4, 16, 126, 163, 0, 34, 42, 180, 0, 11, 17, 3, 232, 162, 0, 24]
abbrev dktX5_lay_1 : List UInt8 := dkwX5_lay_1 ++ dktX5_lay_2
def dkwX5_lay_0 : List UInt8 := [16, 56, 62, 29, 155, 0, 71, 31, 29, 123, 136, 17, 0, 255, 126, 54, 4, 21, 4, 16, 10, 159, 0, 17]
abbrev dktX5_lay_0 : List UInt8 := dkwX5_lay_0 ++ dktX5_lay_1
theorem dksX5_lay_0 : bcX5_lay.data.toList.drop 0 = dktX5_lay_0 := by decide +kernel
theorem dksX5_lay_1 : bcX5_lay.data.toList.drop 24 = dktX5_lay_1 := dk_seg dksX5_lay_0 24 rfl rfl
theorem dksX5_lay_2 : bcX5_lay.data.toList.drop 48 = dktX5_lay_2 := dk_seg dksX5_lay_1 24 rfl rfl
theorem dksX5_lay_3 : bcX5_lay.data.toList.drop 72 = dktX5_lay_3 := dk_seg dksX5_lay_2 24 rfl rfl
theorem dX5_lay_0 : decode bcX5_lay 0 = .ok (.bipush 56, 2) := dk_16 56 (dk_at dksX5_lay_0 0 rfl rfl)
theorem dX5_lay_2 : decode bcX5_lay 2 = .ok (.istore_n 3, 1) := dk_62 (dk_at dksX5_lay_0 2 rfl rfl)
theorem dX5_lay_3 : decode bcX5_lay 3 = .ok (.iload_n 3, 1) := dk_29 (dk_at dksX5_lay_0 3 rfl rfl)
theorem dX5_lay_4 : decode bcX5_lay 4 = .ok (.ifCond .lt 71, 3) := dk_155 0 71 (dk_at dksX5_lay_0 4 rfl rfl)
theorem dX5_lay_7 : decode bcX5_lay 7 = .ok (.lload_n 1, 1) := dk_31 (dk_at dksX5_lay_0 7 rfl rfl)
theorem dX5_lay_8 : decode bcX5_lay 8 = .ok (.iload_n 3, 1) := dk_29 (dk_at dksX5_lay_0 8 rfl rfl)
theorem dX5_lay_9 : decode bcX5_lay 9 = .ok (.lshr, 1) := dk_123 (dk_at dksX5_lay_0 9 rfl rfl)
theorem dX5_lay_10 : decode bcX5_lay 10 = .ok (.l2i, 1) := dk_136 (dk_at dksX5_lay_0 10 rfl rfl)
theorem dX5_lay_11 : decode bcX5_lay 11 = .ok (.sipush 255, 3) := dk_17 0 255 (dk_at dksX5_lay_0 11 rfl rfl)
theorem dX5_lay_14 : decode bcX5_lay 14 = .ok (.iand, 1) := dk_126 (dk_at dksX5_lay_0 14 rfl rfl)
theorem dX5_lay_15 : decode bcX5_lay 15 = .ok (.istore 4, 2) := dk_54 4 (dk_at dksX5_lay_0 15 rfl rfl)
theorem dX5_lay_17 : decode bcX5_lay 17 = .ok (.iload 4, 2) := dk_21 4 (dk_at dksX5_lay_0 17 rfl rfl)
theorem dX5_lay_19 : decode bcX5_lay 19 = .ok (.bipush 10, 2) := dk_16 10 (dk_at dksX5_lay_0 19 rfl rfl)
theorem dX5_lay_21 : decode bcX5_lay 21 = .ok (.if_icmp .eq 17, 3) := dk_159 0 17 (dk_at dksX5_lay_0 21 rfl rfl)
theorem dX5_lay_24 : decode bcX5_lay 24 = .ok (.iload 4, 2) := dk_21 4 (dk_at dksX5_lay_1 0 rfl rfl)
theorem dX5_lay_26 : decode bcX5_lay 26 = .ok (.bipush 32, 2) := dk_16 32 (dk_at dksX5_lay_1 2 rfl rfl)
theorem dX5_lay_28 : decode bcX5_lay 28 = .ok (.if_icmp .lt 41, 3) := dk_161 0 41 (dk_at dksX5_lay_1 4 rfl rfl)
theorem dX5_lay_31 : decode bcX5_lay 31 = .ok (.iload 4, 2) := dk_21 4 (dk_at dksX5_lay_1 7 rfl rfl)
theorem dX5_lay_33 : decode bcX5_lay 33 = .ok (.bipush 126, 2) := dk_16 126 (dk_at dksX5_lay_1 9 rfl rfl)
theorem dX5_lay_35 : decode bcX5_lay 35 = .ok (.if_icmp .gt 34, 3) := dk_163 0 34 (dk_at dksX5_lay_1 11 rfl rfl)
theorem dX5_lay_38 : decode bcX5_lay 38 = .ok (.aload_n 0, 1) := dk_42 (dk_at dksX5_lay_1 14 rfl rfl)
theorem dX5_lay_39 : decode bcX5_lay 39 = .ok (.getfield 11, 3) := dk_180 0 11 (dk_at dksX5_lay_1 15 rfl rfl)
theorem dX5_lay_42 : decode bcX5_lay 42 = .ok (.sipush 1000, 3) := dk_17 3 232 (dk_at dksX5_lay_1 18 rfl rfl)
theorem dX5_lay_45 : decode bcX5_lay 45 = .ok (.if_icmp .ge 24, 3) := dk_162 0 24 (dk_at dksX5_lay_1 21 rfl rfl)
theorem dX5_lay_48 : decode bcX5_lay 48 = .ok (.aload_n 0, 1) := dk_42 (dk_at dksX5_lay_2 0 rfl rfl)
theorem dX5_lay_49 : decode bcX5_lay 49 = .ok (.getfield 14, 3) := dk_180 0 14 (dk_at dksX5_lay_2 1 rfl rfl)
theorem dX5_lay_52 : decode bcX5_lay 52 = .ok (.aload_n 0, 1) := dk_42 (dk_at dksX5_lay_2 4 rfl rfl)
theorem dX5_lay_53 : decode bcX5_lay 53 = .ok (.getfield 11, 3) := dk_180 0 11 (dk_at dksX5_lay_2 5 rfl rfl)
theorem dX5_lay_56 : decode bcX5_lay 56 = .ok (.iload 4, 2) := dk_21 4 (dk_at dksX5_lay_2 8 rfl rfl)
theorem dX5_lay_58 : decode bcX5_lay 58 = .ok (.iastore, 1) := dk_79 (dk_at dksX5_lay_2 10 rfl rfl)
theorem dX5_lay_59 : decode bcX5_lay 59 = .ok (.aload_n 0, 1) := dk_42 (dk_at dksX5_lay_2 11 rfl rfl)
theorem dX5_lay_60 : decode bcX5_lay 60 = .ok (.dup, 1) := dk_89 (dk_at dksX5_lay_2 12 rfl rfl)
theorem dX5_lay_61 : decode bcX5_lay 61 = .ok (.getfield 11, 3) := dk_180 0 11 (dk_at dksX5_lay_2 13 rfl rfl)
theorem dX5_lay_64 : decode bcX5_lay 64 = .ok (.iconst 1, 1) := dk_4 (dk_at dksX5_lay_2 16 rfl rfl)
theorem dX5_lay_65 : decode bcX5_lay 65 = .ok (.iadd, 1) := dk_96 (dk_at dksX5_lay_2 17 rfl rfl)
theorem dX5_lay_66 : decode bcX5_lay 66 = .ok (.putfield 11, 3) := dk_181 0 11 (dk_at dksX5_lay_2 18 rfl rfl)
theorem dX5_lay_69 : decode bcX5_lay 69 = .ok (.iinc 3 (-8), 3) := dk_132 3 248 (dk_at dksX5_lay_2 21 rfl rfl)
theorem dX5_lay_72 : decode bcX5_lay 72 = .ok (.goto (-69), 3) := dk_167 255 187 (dk_at dksX5_lay_3 0 rfl rfl)
theorem dX5_lay_75 : decode bcX5_lay 75 = .ok (.return_, 1) := dk_177 (dk_at dksX5_lay_3 3 rfl rfl)
abbrev SX5_lay (pc : Nat) (i : xI) : Prop := Snd "SwollenHouseModel" "lay" prog_25_method_3_code 5 (Option.none : Option Jvm.ClassFile.FieldType) [] pc i
theorem oX5_lay_0 : SX5_lay 0 (i_const (.int (nI 56)) 2) := snd_bipush dX5_lay_0 (by decide)
theorem oX5_lay_2 : SX5_lay 2 (i_istore 3 3) := snd_istore_n dX5_lay_2 rfl (by decide)
theorem oX5_lay_3 : SX5_lay 3 (i_iload 3 4) := snd_iload_n dX5_lay_3 rfl
theorem oX5_lay_4 : SX5_lay 4 (i_if1 (fun x => x < 0) 75 7) := snd_if_lt dX5_lay_4 (by decide)
theorem oX5_lay_7 : SX5_lay 7 (i_lload 1 8) := snd_lload_n dX5_lay_7 rfl
theorem oX5_lay_8 : SX5_lay 8 (i_iload 3 9) := snd_iload_n dX5_lay_8 rfl
theorem oX5_lay_9 : SX5_lay 9 (i_li (fun x y => x >>> (y.toInt64 &&& 63)) 10) := snd_lshr dX5_lay_9
theorem oX5_lay_10 : SX5_lay 10 (i_l2i 11) := snd_l2i dX5_lay_10
theorem oX5_lay_11 : SX5_lay 11 (i_const (.int (nI 255)) 14) := snd_sipush dX5_lay_11 (by decide)
theorem oX5_lay_14 : SX5_lay 14 (i_ii (fun x y => x &&& y) 15) := snd_iand dX5_lay_14
theorem oX5_lay_15 : SX5_lay 15 (i_istore 4 17) := snd_istore dX5_lay_15 (by decide)
theorem oX5_lay_17 : SX5_lay 17 (i_iload 4 19) := snd_iload dX5_lay_17
theorem oX5_lay_19 : SX5_lay 19 (i_const (.int (nI 10)) 21) := snd_bipush dX5_lay_19 (by decide)
theorem oX5_lay_21 : SX5_lay 21 (i_if2 (fun x y => x = y) 38 24) := snd_icmp_eq dX5_lay_21 (by decide)
theorem oX5_lay_24 : SX5_lay 24 (i_iload 4 26) := snd_iload dX5_lay_24
theorem oX5_lay_26 : SX5_lay 26 (i_const (.int (nI 32)) 28) := snd_bipush dX5_lay_26 (by decide)
theorem oX5_lay_28 : SX5_lay 28 (i_if2 (fun x y => x < y) 69 31) := snd_icmp_lt dX5_lay_28 (by decide)
theorem oX5_lay_31 : SX5_lay 31 (i_iload 4 33) := snd_iload dX5_lay_31
theorem oX5_lay_33 : SX5_lay 33 (i_const (.int (nI 126)) 35) := snd_bipush dX5_lay_33 (by decide)
theorem oX5_lay_35 : SX5_lay 35 (i_if2 (fun x y => y < x) 69 38) := snd_icmp_gt dX5_lay_35 (by decide)
theorem oX5_lay_38 : SX5_lay 38 (i_aload 0 39) := snd_aload_n dX5_lay_38 rfl
theorem oX5_lay_39 : SX5_lay 39 (i_getf 4 2 42) := snd_getf dX5_lay_39 rfl (by decide) in_X5 (Or.inl q1700) (Or.inl rfl) (by decide)
theorem oX5_lay_42 : SX5_lay 42 (i_const (.int (nI 1000)) 45) := snd_sipush dX5_lay_42 (by decide)
theorem oX5_lay_45 : SX5_lay 45 (i_if2 (fun x y => y ≤ x) 69 48) := snd_icmp_ge dX5_lay_45 (by decide)
theorem oX5_lay_48 : SX5_lay 48 (i_aload 0 49) := snd_aload_n dX5_lay_48 rfl
theorem oX5_lay_49 : SX5_lay 49 (i_getf 4 1 52) := snd_getf dX5_lay_49 rfl (by decide) in_X5 (Or.inl q1699) (Or.inl rfl) (by decide)
theorem oX5_lay_52 : SX5_lay 52 (i_aload 0 53) := snd_aload_n dX5_lay_52 rfl
theorem oX5_lay_53 : SX5_lay 53 (i_getf 4 2 56) := snd_getf dX5_lay_53 rfl (by decide) in_X5 (Or.inl q1700) (Or.inl rfl) (by decide)
theorem oX5_lay_56 : SX5_lay 56 (i_iload 4 58) := snd_iload dX5_lay_56
theorem oX5_lay_58 : SX5_lay 58 (i_si (fun v => v) 0 59) := snd_si0 dX5_lay_58
theorem oX5_lay_59 : SX5_lay 59 (i_aload 0 60) := snd_aload_n dX5_lay_59 rfl
theorem oX5_lay_60 : SX5_lay 60 (i_dup 61) := snd_dup dX5_lay_60
theorem oX5_lay_61 : SX5_lay 61 (i_getf 4 2 64) := snd_getf dX5_lay_61 rfl (by decide) in_X5 (Or.inl q1700) (Or.inl rfl) (by decide)
theorem oX5_lay_64 : SX5_lay 64 (i_const (.int (nI 1)) 65) := snd_iconst dX5_lay_64 (by decide)
theorem oX5_lay_65 : SX5_lay 65 (i_ii (fun x y => x + y) 66) := snd_iadd dX5_lay_65
theorem oX5_lay_66 : SX5_lay 66 (i_putfi 4 2 69) := snd_putfi dX5_lay_66 rfl (by decide) in_X5 tyX5 tyX5_ok nmX5 (Or.inl ⟨rfl, q1700⟩) (Or.inl rfl) rfl
theorem oX5_lay_69 : SX5_lay 69 (i_iinc 3 (-8) 72) := snd_iinc dX5_lay_69 (by decide) (by decide)
theorem oX5_lay_72 : SX5_lay 72 (i_goto 3) := snd_goto dX5_lay_72 (by decide)
theorem oX5_lay_75 : SX5_lay 75 (i_vret) := snd_vret dX5_lay_75 rfl
theorem okX5_lay : ∀ q ∈ cX5_lay, SX5_lay q.1 q.2 := List.forall_mem_cons.mpr ⟨oX5_lay_0, List.forall_mem_cons.mpr ⟨oX5_lay_2, List.forall_mem_cons.mpr ⟨oX5_lay_3, List.forall_mem_cons.mpr ⟨oX5_lay_4, List.forall_mem_cons.mpr ⟨oX5_lay_7, List.forall_mem_cons.mpr ⟨oX5_lay_8, List.forall_mem_cons.mpr ⟨oX5_lay_9, List.forall_mem_cons.mpr ⟨oX5_lay_10, List.forall_mem_cons.mpr ⟨oX5_lay_11, List.forall_mem_cons.mpr ⟨oX5_lay_14, List.forall_mem_cons.mpr ⟨oX5_lay_15, List.forall_mem_cons.mpr ⟨oX5_lay_17, List.forall_mem_cons.mpr ⟨oX5_lay_19, List.forall_mem_cons.mpr ⟨oX5_lay_21, List.forall_mem_cons.mpr ⟨oX5_lay_24, List.forall_mem_cons.mpr ⟨oX5_lay_26, List.forall_mem_cons.mpr ⟨oX5_lay_28, List.forall_mem_cons.mpr ⟨oX5_lay_31, List.forall_mem_cons.mpr ⟨oX5_lay_33, List.forall_mem_cons.mpr ⟨oX5_lay_35, List.forall_mem_cons.mpr ⟨oX5_lay_38, List.forall_mem_cons.mpr ⟨oX5_lay_39, List.forall_mem_cons.mpr ⟨oX5_lay_42, List.forall_mem_cons.mpr ⟨oX5_lay_45, List.forall_mem_cons.mpr ⟨oX5_lay_48, List.forall_mem_cons.mpr ⟨oX5_lay_49, List.forall_mem_cons.mpr ⟨oX5_lay_52, List.forall_mem_cons.mpr ⟨oX5_lay_53, List.forall_mem_cons.mpr ⟨oX5_lay_56, List.forall_mem_cons.mpr ⟨oX5_lay_58, List.forall_mem_cons.mpr ⟨oX5_lay_59, List.forall_mem_cons.mpr ⟨oX5_lay_60, List.forall_mem_cons.mpr ⟨oX5_lay_61, List.forall_mem_cons.mpr ⟨oX5_lay_64, List.forall_mem_cons.mpr ⟨oX5_lay_65, List.forall_mem_cons.mpr ⟨oX5_lay_66, List.forall_mem_cons.mpr ⟨oX5_lay_69, List.forall_mem_cons.mpr ⟨oX5_lay_72, List.forall_mem_cons.mpr ⟨oX5_lay_75, fun _ h => absurd h List.not_mem_nil⟩⟩⟩⟩⟩⟩⟩⟩⟩⟩⟩⟩⟩⟩⟩⟩⟩⟩⟩⟩⟩⟩⟩⟩⟩⟩⟩⟩⟩⟩⟩⟩⟩⟩⟩⟩⟩⟩⟩
def dkwX5_init_14 : List UInt8 := [188, 10, 181, 0, 129, 42, 3, 182, 0, 132, 42, 182, 0, 136, 177]
abbrev dktX5_init_14 : List UInt8 := dkwX5_init_14 ++ []
def dkwX5_init_13 : List UInt8 := [188, 10, 181, 0, 120, 42, 6, 188, 10, 181, 0, 123, 42, 16, 8, 188, 10, 181, 0, 126, 42, 17, 1, 54]
abbrev dktX5_init_13 : List UInt8 := dkwX5_init_13 ++ dktX5_init_14
def dkwX5_init_12 : List UInt8 := [188, 10, 181, 0, 110, 42, 17, 5, 215, 188, 10, 181, 0, 113, 42, 7, 188, 4, 181, 0, 116, 42, 16, 41]
abbrev dktX5_init_12 : List UInt8 := dkwX5_init_12 ++ dktX5_init_13
def dkwX5_init_11 : List UInt8 := [181, 0, 101, 42, 17, 0, 250, 188, 10, 181, 0, 104, 42, 7, 188, 10, 181, 0, 107, 42, 17, 4, 76]
abbrev dktX5_init_11 : List UInt8 := dkwX5_init_11 ++ dktX5_init_12
def dkwX5_init_10 : List UInt8 := [181, 0, 92, 42, 16, 12, 188, 11, 181, 0, 95, 42, 16, 12, 188, 10, 181, 0, 98, 42, 16, 12, 188, 10]
abbrev dktX5_init_10 : List UInt8 := dkwX5_init_10 ++ dktX5_init_11
def dkwX5_init_9 : List UInt8 := [17, 8, 152, 188, 10, 181, 0, 86, 42, 17, 8, 152, 188, 10, 181, 0, 89, 42, 16, 12, 188, 11]
abbrev dktX5_init_9 : List UInt8 := dkwX5_init_9 ++ dktX5_init_10
def dkwX5_init_8 : List UInt8 := [20, 0, 76, 80, 89, 16, 22, 20, 0, 78, 80, 181, 0, 80, 42, 16, 120, 188, 10, 181, 0, 83, 42]
abbrev dktX5_init_8 : List UInt8 := dkwX5_init_8 ++ dktX5_init_9
def dkwX5_init_7 : List UInt8 := [16, 18, 20, 0, 70, 80, 89, 16, 19, 20, 0, 72, 80, 89, 16, 20, 20, 0, 74, 80, 89, 16, 21]
abbrev dktX5_init_7 : List UInt8 := dkwX5_init_7 ++ dktX5_init_8
def dkwX5_init_6 : List UInt8 := [80, 89, 16, 15, 20, 0, 64, 80, 89, 16, 16, 20, 0, 66, 80, 89, 16, 17, 20, 0, 68, 80, 89]
abbrev dktX5_init_6 : List UInt8 := dkwX5_init_6 ++ dktX5_init_7
def dkwX5_init_5 : List UInt8 := [20, 0, 56, 80, 89, 16, 12, 20, 0, 58, 80, 89, 16, 13, 20, 0, 60, 80, 89, 16, 14, 20, 0, 62]
abbrev dktX5_init_5 : List UInt8 := dkwX5_init_5 ++ dktX5_init_6
def dkwX5_init_4 : List UInt8 := [89, 16, 8, 20, 0, 50, 80, 89, 16, 9, 20, 0, 52, 80, 89, 16, 10, 20, 0, 54, 80, 89, 16, 11]
abbrev dktX5_init_4 : List UInt8 := dkwX5_init_4 ++ dktX5_init_5
def dkwX5_init_3 : List UInt8 := [20, 0, 42, 80, 89, 8, 20, 0, 44, 80, 89, 16, 6, 20, 0, 46, 80, 89, 16, 7, 20, 0, 48, 80]
abbrev dktX5_init_3 : List UInt8 := dkwX5_init_3 ++ dktX5_init_4
def dkwX5_init_2 : List UInt8 := [20, 0, 34, 80, 89, 4, 20, 0, 36, 80, 89, 5, 20, 0, 38, 80, 89, 6, 20, 0, 40, 80, 89, 7]
abbrev dktX5_init_2 : List UInt8 := dkwX5_init_2 ++ dktX5_init_3
def dkwX5_init_1 : List UInt8 := [17, 3, 234, 188, 10, 181, 0, 27, 42, 17, 3, 234, 188, 11, 181, 0, 30, 42, 16, 23, 188, 11, 89, 3]
abbrev dktX5_init_1 : List UInt8 := dkwX5_init_1 ++ dktX5_init_2
def dkwX5_init_0 : List UInt8 := [42, 183, 0, 18, 42, 17, 3, 232, 188, 10, 181, 0, 14, 42, 17, 3, 234, 188, 10, 181, 0, 24, 42]
abbrev dktX5_init_0 : List UInt8 := dkwX5_init_0 ++ dktX5_init_1
theorem dksX5_init_0 : bcX5_init.data.toList.drop 0 = dktX5_init_0 := by decide +kernel
theorem dksX5_init_1 : bcX5_init.data.toList.drop 23 = dktX5_init_1 := dk_seg dksX5_init_0 23 rfl rfl
theorem dksX5_init_2 : bcX5_init.data.toList.drop 47 = dktX5_init_2 := dk_seg dksX5_init_1 24 rfl rfl
theorem dksX5_init_3 : bcX5_init.data.toList.drop 71 = dktX5_init_3 := dk_seg dksX5_init_2 24 rfl rfl
theorem dksX5_init_4 : bcX5_init.data.toList.drop 95 = dktX5_init_4 := dk_seg dksX5_init_3 24 rfl rfl
theorem dksX5_init_5 : bcX5_init.data.toList.drop 119 = dktX5_init_5 := dk_seg dksX5_init_4 24 rfl rfl
theorem dksX5_init_6 : bcX5_init.data.toList.drop 143 = dktX5_init_6 := dk_seg dksX5_init_5 24 rfl rfl
theorem dksX5_init_7 : bcX5_init.data.toList.drop 166 = dktX5_init_7 := dk_seg dksX5_init_6 23 rfl rfl
theorem dksX5_init_8 : bcX5_init.data.toList.drop 189 = dktX5_init_8 := dk_seg dksX5_init_7 23 rfl rfl
theorem dksX5_init_9 : bcX5_init.data.toList.drop 212 = dktX5_init_9 := dk_seg dksX5_init_8 23 rfl rfl
theorem dksX5_init_10 : bcX5_init.data.toList.drop 234 = dktX5_init_10 := dk_seg dksX5_init_9 22 rfl rfl
theorem dksX5_init_11 : bcX5_init.data.toList.drop 258 = dktX5_init_11 := dk_seg dksX5_init_10 24 rfl rfl
theorem dksX5_init_12 : bcX5_init.data.toList.drop 281 = dktX5_init_12 := dk_seg dksX5_init_11 23 rfl rfl
theorem dksX5_init_13 : bcX5_init.data.toList.drop 305 = dktX5_init_13 := dk_seg dksX5_init_12 24 rfl rfl
theorem dksX5_init_14 : bcX5_init.data.toList.drop 329 = dktX5_init_14 := dk_seg dksX5_init_13 24 rfl rfl
theorem dX5_init_0 : decode bcX5_init 0 = .ok (.aload_n 0, 1) := dk_42 (dk_at dksX5_init_0 0 rfl rfl)
theorem dX5_init_1 : decode bcX5_init 1 = .ok (.invokespecial 18, 3) := dk_183 0 18 (dk_at dksX5_init_0 1 rfl rfl)
theorem dX5_init_4 : decode bcX5_init 4 = .ok (.aload_n 0, 1) := dk_42 (dk_at dksX5_init_0 4 rfl rfl)
theorem dX5_init_5 : decode bcX5_init 5 = .ok (.sipush 1000, 3) := dk_17 3 232 (dk_at dksX5_init_0 5 rfl rfl)
theorem dX5_init_8 : decode bcX5_init 8 = .ok (.newarray .int, 2) := dk_188_10 (dk_at dksX5_init_0 8 rfl rfl)
theorem dX5_init_10 : decode bcX5_init 10 = .ok (.putfield 14, 3) := dk_181 0 14 (dk_at dksX5_init_0 10 rfl rfl)
theorem dX5_init_13 : decode bcX5_init 13 = .ok (.aload_n 0, 1) := dk_42 (dk_at dksX5_init_0 13 rfl rfl)
theorem dX5_init_14 : decode bcX5_init 14 = .ok (.sipush 1002, 3) := dk_17 3 234 (dk_at dksX5_init_0 14 rfl rfl)
theorem dX5_init_17 : decode bcX5_init 17 = .ok (.newarray .int, 2) := dk_188_10 (dk_at dksX5_init_0 17 rfl rfl)
theorem dX5_init_19 : decode bcX5_init 19 = .ok (.putfield 24, 3) := dk_181 0 24 (dk_at dksX5_init_0 19 rfl rfl)
theorem dX5_init_22 : decode bcX5_init 22 = .ok (.aload_n 0, 1) := dk_42 (dk_at dksX5_init_0 22 rfl rfl)
theorem dX5_init_23 : decode bcX5_init 23 = .ok (.sipush 1002, 3) := dk_17 3 234 (dk_at dksX5_init_1 0 rfl rfl)
theorem dX5_init_26 : decode bcX5_init 26 = .ok (.newarray .int, 2) := dk_188_10 (dk_at dksX5_init_1 3 rfl rfl)
theorem dX5_init_28 : decode bcX5_init 28 = .ok (.putfield 27, 3) := dk_181 0 27 (dk_at dksX5_init_1 5 rfl rfl)
theorem dX5_init_31 : decode bcX5_init 31 = .ok (.aload_n 0, 1) := dk_42 (dk_at dksX5_init_1 8 rfl rfl)
theorem dX5_init_32 : decode bcX5_init 32 = .ok (.sipush 1002, 3) := dk_17 3 234 (dk_at dksX5_init_1 9 rfl rfl)
theorem dX5_init_35 : decode bcX5_init 35 = .ok (.newarray .long, 2) := dk_188_11 (dk_at dksX5_init_1 12 rfl rfl)
theorem dX5_init_37 : decode bcX5_init 37 = .ok (.putfield 30, 3) := dk_181 0 30 (dk_at dksX5_init_1 14 rfl rfl)
theorem dX5_init_40 : decode bcX5_init 40 = .ok (.aload_n 0, 1) := dk_42 (dk_at dksX5_init_1 17 rfl rfl)
theorem dX5_init_41 : decode bcX5_init 41 = .ok (.bipush 23, 2) := dk_16 23 (dk_at dksX5_init_1 18 rfl rfl)
theorem dX5_init_43 : decode bcX5_init 43 = .ok (.newarray .long, 2) := dk_188_11 (dk_at dksX5_init_1 20 rfl rfl)
theorem dX5_init_45 : decode bcX5_init 45 = .ok (.dup, 1) := dk_89 (dk_at dksX5_init_1 22 rfl rfl)
theorem dX5_init_46 : decode bcX5_init 46 = .ok (.iconst 0, 1) := dk_3 (dk_at dksX5_init_1 23 rfl rfl)
theorem dX5_init_47 : decode bcX5_init 47 = .ok (.ldc2_w 34, 3) := dk_20 0 34 (dk_at dksX5_init_2 0 rfl rfl)
theorem dX5_init_50 : decode bcX5_init 50 = .ok (.lastore, 1) := dk_80 (dk_at dksX5_init_2 3 rfl rfl)
theorem dX5_init_51 : decode bcX5_init 51 = .ok (.dup, 1) := dk_89 (dk_at dksX5_init_2 4 rfl rfl)
theorem dX5_init_52 : decode bcX5_init 52 = .ok (.iconst 1, 1) := dk_4 (dk_at dksX5_init_2 5 rfl rfl)
theorem dX5_init_53 : decode bcX5_init 53 = .ok (.ldc2_w 36, 3) := dk_20 0 36 (dk_at dksX5_init_2 6 rfl rfl)
theorem dX5_init_56 : decode bcX5_init 56 = .ok (.lastore, 1) := dk_80 (dk_at dksX5_init_2 9 rfl rfl)
theorem dX5_init_57 : decode bcX5_init 57 = .ok (.dup, 1) := dk_89 (dk_at dksX5_init_2 10 rfl rfl)
theorem dX5_init_58 : decode bcX5_init 58 = .ok (.iconst 2, 1) := dk_5 (dk_at dksX5_init_2 11 rfl rfl)
theorem dX5_init_59 : decode bcX5_init 59 = .ok (.ldc2_w 38, 3) := dk_20 0 38 (dk_at dksX5_init_2 12 rfl rfl)
theorem dX5_init_62 : decode bcX5_init 62 = .ok (.lastore, 1) := dk_80 (dk_at dksX5_init_2 15 rfl rfl)
theorem dX5_init_63 : decode bcX5_init 63 = .ok (.dup, 1) := dk_89 (dk_at dksX5_init_2 16 rfl rfl)
theorem dX5_init_64 : decode bcX5_init 64 = .ok (.iconst 3, 1) := dk_6 (dk_at dksX5_init_2 17 rfl rfl)
theorem dX5_init_65 : decode bcX5_init 65 = .ok (.ldc2_w 40, 3) := dk_20 0 40 (dk_at dksX5_init_2 18 rfl rfl)
theorem dX5_init_68 : decode bcX5_init 68 = .ok (.lastore, 1) := dk_80 (dk_at dksX5_init_2 21 rfl rfl)
theorem dX5_init_69 : decode bcX5_init 69 = .ok (.dup, 1) := dk_89 (dk_at dksX5_init_2 22 rfl rfl)
theorem dX5_init_70 : decode bcX5_init 70 = .ok (.iconst 4, 1) := dk_7 (dk_at dksX5_init_2 23 rfl rfl)
theorem dX5_init_71 : decode bcX5_init 71 = .ok (.ldc2_w 42, 3) := dk_20 0 42 (dk_at dksX5_init_3 0 rfl rfl)
theorem dX5_init_74 : decode bcX5_init 74 = .ok (.lastore, 1) := dk_80 (dk_at dksX5_init_3 3 rfl rfl)
theorem dX5_init_75 : decode bcX5_init 75 = .ok (.dup, 1) := dk_89 (dk_at dksX5_init_3 4 rfl rfl)
theorem dX5_init_76 : decode bcX5_init 76 = .ok (.iconst 5, 1) := dk_8 (dk_at dksX5_init_3 5 rfl rfl)
theorem dX5_init_77 : decode bcX5_init 77 = .ok (.ldc2_w 44, 3) := dk_20 0 44 (dk_at dksX5_init_3 6 rfl rfl)
theorem dX5_init_80 : decode bcX5_init 80 = .ok (.lastore, 1) := dk_80 (dk_at dksX5_init_3 9 rfl rfl)
theorem dX5_init_81 : decode bcX5_init 81 = .ok (.dup, 1) := dk_89 (dk_at dksX5_init_3 10 rfl rfl)
theorem dX5_init_82 : decode bcX5_init 82 = .ok (.bipush 6, 2) := dk_16 6 (dk_at dksX5_init_3 11 rfl rfl)
theorem dX5_init_84 : decode bcX5_init 84 = .ok (.ldc2_w 46, 3) := dk_20 0 46 (dk_at dksX5_init_3 13 rfl rfl)
theorem dX5_init_87 : decode bcX5_init 87 = .ok (.lastore, 1) := dk_80 (dk_at dksX5_init_3 16 rfl rfl)
theorem dX5_init_88 : decode bcX5_init 88 = .ok (.dup, 1) := dk_89 (dk_at dksX5_init_3 17 rfl rfl)
theorem dX5_init_89 : decode bcX5_init 89 = .ok (.bipush 7, 2) := dk_16 7 (dk_at dksX5_init_3 18 rfl rfl)
theorem dX5_init_91 : decode bcX5_init 91 = .ok (.ldc2_w 48, 3) := dk_20 0 48 (dk_at dksX5_init_3 20 rfl rfl)
theorem dX5_init_94 : decode bcX5_init 94 = .ok (.lastore, 1) := dk_80 (dk_at dksX5_init_3 23 rfl rfl)
theorem dX5_init_95 : decode bcX5_init 95 = .ok (.dup, 1) := dk_89 (dk_at dksX5_init_4 0 rfl rfl)
theorem dX5_init_96 : decode bcX5_init 96 = .ok (.bipush 8, 2) := dk_16 8 (dk_at dksX5_init_4 1 rfl rfl)
theorem dX5_init_98 : decode bcX5_init 98 = .ok (.ldc2_w 50, 3) := dk_20 0 50 (dk_at dksX5_init_4 3 rfl rfl)
theorem dX5_init_101 : decode bcX5_init 101 = .ok (.lastore, 1) := dk_80 (dk_at dksX5_init_4 6 rfl rfl)
theorem dX5_init_102 : decode bcX5_init 102 = .ok (.dup, 1) := dk_89 (dk_at dksX5_init_4 7 rfl rfl)
theorem dX5_init_103 : decode bcX5_init 103 = .ok (.bipush 9, 2) := dk_16 9 (dk_at dksX5_init_4 8 rfl rfl)
theorem dX5_init_105 : decode bcX5_init 105 = .ok (.ldc2_w 52, 3) := dk_20 0 52 (dk_at dksX5_init_4 10 rfl rfl)
theorem dX5_init_108 : decode bcX5_init 108 = .ok (.lastore, 1) := dk_80 (dk_at dksX5_init_4 13 rfl rfl)
theorem dX5_init_109 : decode bcX5_init 109 = .ok (.dup, 1) := dk_89 (dk_at dksX5_init_4 14 rfl rfl)
theorem dX5_init_110 : decode bcX5_init 110 = .ok (.bipush 10, 2) := dk_16 10 (dk_at dksX5_init_4 15 rfl rfl)
theorem dX5_init_112 : decode bcX5_init 112 = .ok (.ldc2_w 54, 3) := dk_20 0 54 (dk_at dksX5_init_4 17 rfl rfl)
theorem dX5_init_115 : decode bcX5_init 115 = .ok (.lastore, 1) := dk_80 (dk_at dksX5_init_4 20 rfl rfl)
theorem dX5_init_116 : decode bcX5_init 116 = .ok (.dup, 1) := dk_89 (dk_at dksX5_init_4 21 rfl rfl)
theorem dX5_init_117 : decode bcX5_init 117 = .ok (.bipush 11, 2) := dk_16 11 (dk_at dksX5_init_4 22 rfl rfl)
theorem dX5_init_119 : decode bcX5_init 119 = .ok (.ldc2_w 56, 3) := dk_20 0 56 (dk_at dksX5_init_5 0 rfl rfl)
theorem dX5_init_122 : decode bcX5_init 122 = .ok (.lastore, 1) := dk_80 (dk_at dksX5_init_5 3 rfl rfl)
theorem dX5_init_123 : decode bcX5_init 123 = .ok (.dup, 1) := dk_89 (dk_at dksX5_init_5 4 rfl rfl)
theorem dX5_init_124 : decode bcX5_init 124 = .ok (.bipush 12, 2) := dk_16 12 (dk_at dksX5_init_5 5 rfl rfl)
theorem dX5_init_126 : decode bcX5_init 126 = .ok (.ldc2_w 58, 3) := dk_20 0 58 (dk_at dksX5_init_5 7 rfl rfl)
theorem dX5_init_129 : decode bcX5_init 129 = .ok (.lastore, 1) := dk_80 (dk_at dksX5_init_5 10 rfl rfl)
theorem dX5_init_130 : decode bcX5_init 130 = .ok (.dup, 1) := dk_89 (dk_at dksX5_init_5 11 rfl rfl)
theorem dX5_init_131 : decode bcX5_init 131 = .ok (.bipush 13, 2) := dk_16 13 (dk_at dksX5_init_5 12 rfl rfl)
theorem dX5_init_133 : decode bcX5_init 133 = .ok (.ldc2_w 60, 3) := dk_20 0 60 (dk_at dksX5_init_5 14 rfl rfl)
theorem dX5_init_136 : decode bcX5_init 136 = .ok (.lastore, 1) := dk_80 (dk_at dksX5_init_5 17 rfl rfl)
theorem dX5_init_137 : decode bcX5_init 137 = .ok (.dup, 1) := dk_89 (dk_at dksX5_init_5 18 rfl rfl)
theorem dX5_init_138 : decode bcX5_init 138 = .ok (.bipush 14, 2) := dk_16 14 (dk_at dksX5_init_5 19 rfl rfl)
theorem dX5_init_140 : decode bcX5_init 140 = .ok (.ldc2_w 62, 3) := dk_20 0 62 (dk_at dksX5_init_5 21 rfl rfl)
theorem dX5_init_143 : decode bcX5_init 143 = .ok (.lastore, 1) := dk_80 (dk_at dksX5_init_6 0 rfl rfl)
theorem dX5_init_144 : decode bcX5_init 144 = .ok (.dup, 1) := dk_89 (dk_at dksX5_init_6 1 rfl rfl)
theorem dX5_init_145 : decode bcX5_init 145 = .ok (.bipush 15, 2) := dk_16 15 (dk_at dksX5_init_6 2 rfl rfl)
theorem dX5_init_147 : decode bcX5_init 147 = .ok (.ldc2_w 64, 3) := dk_20 0 64 (dk_at dksX5_init_6 4 rfl rfl)
theorem dX5_init_150 : decode bcX5_init 150 = .ok (.lastore, 1) := dk_80 (dk_at dksX5_init_6 7 rfl rfl)
theorem dX5_init_151 : decode bcX5_init 151 = .ok (.dup, 1) := dk_89 (dk_at dksX5_init_6 8 rfl rfl)
theorem dX5_init_152 : decode bcX5_init 152 = .ok (.bipush 16, 2) := dk_16 16 (dk_at dksX5_init_6 9 rfl rfl)
theorem dX5_init_154 : decode bcX5_init 154 = .ok (.ldc2_w 66, 3) := dk_20 0 66 (dk_at dksX5_init_6 11 rfl rfl)
theorem dX5_init_157 : decode bcX5_init 157 = .ok (.lastore, 1) := dk_80 (dk_at dksX5_init_6 14 rfl rfl)
theorem dX5_init_158 : decode bcX5_init 158 = .ok (.dup, 1) := dk_89 (dk_at dksX5_init_6 15 rfl rfl)
theorem dX5_init_159 : decode bcX5_init 159 = .ok (.bipush 17, 2) := dk_16 17 (dk_at dksX5_init_6 16 rfl rfl)
theorem dX5_init_161 : decode bcX5_init 161 = .ok (.ldc2_w 68, 3) := dk_20 0 68 (dk_at dksX5_init_6 18 rfl rfl)
theorem dX5_init_164 : decode bcX5_init 164 = .ok (.lastore, 1) := dk_80 (dk_at dksX5_init_6 21 rfl rfl)
theorem dX5_init_165 : decode bcX5_init 165 = .ok (.dup, 1) := dk_89 (dk_at dksX5_init_6 22 rfl rfl)
theorem dX5_init_166 : decode bcX5_init 166 = .ok (.bipush 18, 2) := dk_16 18 (dk_at dksX5_init_7 0 rfl rfl)
theorem dX5_init_168 : decode bcX5_init 168 = .ok (.ldc2_w 70, 3) := dk_20 0 70 (dk_at dksX5_init_7 2 rfl rfl)
theorem dX5_init_171 : decode bcX5_init 171 = .ok (.lastore, 1) := dk_80 (dk_at dksX5_init_7 5 rfl rfl)
theorem dX5_init_172 : decode bcX5_init 172 = .ok (.dup, 1) := dk_89 (dk_at dksX5_init_7 6 rfl rfl)
theorem dX5_init_173 : decode bcX5_init 173 = .ok (.bipush 19, 2) := dk_16 19 (dk_at dksX5_init_7 7 rfl rfl)
theorem dX5_init_175 : decode bcX5_init 175 = .ok (.ldc2_w 72, 3) := dk_20 0 72 (dk_at dksX5_init_7 9 rfl rfl)
theorem dX5_init_178 : decode bcX5_init 178 = .ok (.lastore, 1) := dk_80 (dk_at dksX5_init_7 12 rfl rfl)
theorem dX5_init_179 : decode bcX5_init 179 = .ok (.dup, 1) := dk_89 (dk_at dksX5_init_7 13 rfl rfl)
theorem dX5_init_180 : decode bcX5_init 180 = .ok (.bipush 20, 2) := dk_16 20 (dk_at dksX5_init_7 14 rfl rfl)
theorem dX5_init_182 : decode bcX5_init 182 = .ok (.ldc2_w 74, 3) := dk_20 0 74 (dk_at dksX5_init_7 16 rfl rfl)
theorem dX5_init_185 : decode bcX5_init 185 = .ok (.lastore, 1) := dk_80 (dk_at dksX5_init_7 19 rfl rfl)
theorem dX5_init_186 : decode bcX5_init 186 = .ok (.dup, 1) := dk_89 (dk_at dksX5_init_7 20 rfl rfl)
theorem dX5_init_187 : decode bcX5_init 187 = .ok (.bipush 21, 2) := dk_16 21 (dk_at dksX5_init_7 21 rfl rfl)
theorem dX5_init_189 : decode bcX5_init 189 = .ok (.ldc2_w 76, 3) := dk_20 0 76 (dk_at dksX5_init_8 0 rfl rfl)
theorem dX5_init_192 : decode bcX5_init 192 = .ok (.lastore, 1) := dk_80 (dk_at dksX5_init_8 3 rfl rfl)
theorem dX5_init_193 : decode bcX5_init 193 = .ok (.dup, 1) := dk_89 (dk_at dksX5_init_8 4 rfl rfl)
theorem dX5_init_194 : decode bcX5_init 194 = .ok (.bipush 22, 2) := dk_16 22 (dk_at dksX5_init_8 5 rfl rfl)
theorem dX5_init_196 : decode bcX5_init 196 = .ok (.ldc2_w 78, 3) := dk_20 0 78 (dk_at dksX5_init_8 7 rfl rfl)
theorem dX5_init_199 : decode bcX5_init 199 = .ok (.lastore, 1) := dk_80 (dk_at dksX5_init_8 10 rfl rfl)
theorem dX5_init_200 : decode bcX5_init 200 = .ok (.putfield 80, 3) := dk_181 0 80 (dk_at dksX5_init_8 11 rfl rfl)
theorem dX5_init_203 : decode bcX5_init 203 = .ok (.aload_n 0, 1) := dk_42 (dk_at dksX5_init_8 14 rfl rfl)
theorem dX5_init_204 : decode bcX5_init 204 = .ok (.bipush 120, 2) := dk_16 120 (dk_at dksX5_init_8 15 rfl rfl)
theorem dX5_init_206 : decode bcX5_init 206 = .ok (.newarray .int, 2) := dk_188_10 (dk_at dksX5_init_8 17 rfl rfl)
theorem dX5_init_208 : decode bcX5_init 208 = .ok (.putfield 83, 3) := dk_181 0 83 (dk_at dksX5_init_8 19 rfl rfl)
theorem dX5_init_211 : decode bcX5_init 211 = .ok (.aload_n 0, 1) := dk_42 (dk_at dksX5_init_8 22 rfl rfl)
theorem dX5_init_212 : decode bcX5_init 212 = .ok (.sipush 2200, 3) := dk_17 8 152 (dk_at dksX5_init_9 0 rfl rfl)
theorem dX5_init_215 : decode bcX5_init 215 = .ok (.newarray .int, 2) := dk_188_10 (dk_at dksX5_init_9 3 rfl rfl)
theorem dX5_init_217 : decode bcX5_init 217 = .ok (.putfield 86, 3) := dk_181 0 86 (dk_at dksX5_init_9 5 rfl rfl)
theorem dX5_init_220 : decode bcX5_init 220 = .ok (.aload_n 0, 1) := dk_42 (dk_at dksX5_init_9 8 rfl rfl)
theorem dX5_init_221 : decode bcX5_init 221 = .ok (.sipush 2200, 3) := dk_17 8 152 (dk_at dksX5_init_9 9 rfl rfl)
theorem dX5_init_224 : decode bcX5_init 224 = .ok (.newarray .int, 2) := dk_188_10 (dk_at dksX5_init_9 12 rfl rfl)
theorem dX5_init_226 : decode bcX5_init 226 = .ok (.putfield 89, 3) := dk_181 0 89 (dk_at dksX5_init_9 14 rfl rfl)
theorem dX5_init_229 : decode bcX5_init 229 = .ok (.aload_n 0, 1) := dk_42 (dk_at dksX5_init_9 17 rfl rfl)
theorem dX5_init_230 : decode bcX5_init 230 = .ok (.bipush 12, 2) := dk_16 12 (dk_at dksX5_init_9 18 rfl rfl)
theorem dX5_init_232 : decode bcX5_init 232 = .ok (.newarray .long, 2) := dk_188_11 (dk_at dksX5_init_9 20 rfl rfl)
theorem dX5_init_234 : decode bcX5_init 234 = .ok (.putfield 92, 3) := dk_181 0 92 (dk_at dksX5_init_10 0 rfl rfl)
theorem dX5_init_237 : decode bcX5_init 237 = .ok (.aload_n 0, 1) := dk_42 (dk_at dksX5_init_10 3 rfl rfl)
theorem dX5_init_238 : decode bcX5_init 238 = .ok (.bipush 12, 2) := dk_16 12 (dk_at dksX5_init_10 4 rfl rfl)
theorem dX5_init_240 : decode bcX5_init 240 = .ok (.newarray .long, 2) := dk_188_11 (dk_at dksX5_init_10 6 rfl rfl)
theorem dX5_init_242 : decode bcX5_init 242 = .ok (.putfield 95, 3) := dk_181 0 95 (dk_at dksX5_init_10 8 rfl rfl)
theorem dX5_init_245 : decode bcX5_init 245 = .ok (.aload_n 0, 1) := dk_42 (dk_at dksX5_init_10 11 rfl rfl)
theorem dX5_init_246 : decode bcX5_init 246 = .ok (.bipush 12, 2) := dk_16 12 (dk_at dksX5_init_10 12 rfl rfl)
theorem dX5_init_248 : decode bcX5_init 248 = .ok (.newarray .int, 2) := dk_188_10 (dk_at dksX5_init_10 14 rfl rfl)
theorem dX5_init_250 : decode bcX5_init 250 = .ok (.putfield 98, 3) := dk_181 0 98 (dk_at dksX5_init_10 16 rfl rfl)
theorem dX5_init_253 : decode bcX5_init 253 = .ok (.aload_n 0, 1) := dk_42 (dk_at dksX5_init_10 19 rfl rfl)
theorem dX5_init_254 : decode bcX5_init 254 = .ok (.bipush 12, 2) := dk_16 12 (dk_at dksX5_init_10 20 rfl rfl)
theorem dX5_init_256 : decode bcX5_init 256 = .ok (.newarray .int, 2) := dk_188_10 (dk_at dksX5_init_10 22 rfl rfl)
theorem dX5_init_258 : decode bcX5_init 258 = .ok (.putfield 101, 3) := dk_181 0 101 (dk_at dksX5_init_11 0 rfl rfl)
theorem dX5_init_261 : decode bcX5_init 261 = .ok (.aload_n 0, 1) := dk_42 (dk_at dksX5_init_11 3 rfl rfl)
theorem dX5_init_262 : decode bcX5_init 262 = .ok (.sipush 250, 3) := dk_17 0 250 (dk_at dksX5_init_11 4 rfl rfl)
theorem dX5_init_265 : decode bcX5_init 265 = .ok (.newarray .int, 2) := dk_188_10 (dk_at dksX5_init_11 7 rfl rfl)
theorem dX5_init_267 : decode bcX5_init 267 = .ok (.putfield 104, 3) := dk_181 0 104 (dk_at dksX5_init_11 9 rfl rfl)
theorem dX5_init_270 : decode bcX5_init 270 = .ok (.aload_n 0, 1) := dk_42 (dk_at dksX5_init_11 12 rfl rfl)
theorem dX5_init_271 : decode bcX5_init 271 = .ok (.iconst 4, 1) := dk_7 (dk_at dksX5_init_11 13 rfl rfl)
theorem dX5_init_272 : decode bcX5_init 272 = .ok (.newarray .int, 2) := dk_188_10 (dk_at dksX5_init_11 14 rfl rfl)
theorem dX5_init_274 : decode bcX5_init 274 = .ok (.putfield 107, 3) := dk_181 0 107 (dk_at dksX5_init_11 16 rfl rfl)
theorem dX5_init_277 : decode bcX5_init 277 = .ok (.aload_n 0, 1) := dk_42 (dk_at dksX5_init_11 19 rfl rfl)
theorem dX5_init_278 : decode bcX5_init 278 = .ok (.sipush 1100, 3) := dk_17 4 76 (dk_at dksX5_init_11 20 rfl rfl)
theorem dX5_init_281 : decode bcX5_init 281 = .ok (.newarray .int, 2) := dk_188_10 (dk_at dksX5_init_12 0 rfl rfl)
theorem dX5_init_283 : decode bcX5_init 283 = .ok (.putfield 110, 3) := dk_181 0 110 (dk_at dksX5_init_12 2 rfl rfl)
theorem dX5_init_286 : decode bcX5_init 286 = .ok (.aload_n 0, 1) := dk_42 (dk_at dksX5_init_12 5 rfl rfl)
theorem dX5_init_287 : decode bcX5_init 287 = .ok (.sipush 1495, 3) := dk_17 5 215 (dk_at dksX5_init_12 6 rfl rfl)
theorem dX5_init_290 : decode bcX5_init 290 = .ok (.newarray .int, 2) := dk_188_10 (dk_at dksX5_init_12 9 rfl rfl)
theorem dX5_init_292 : decode bcX5_init 292 = .ok (.putfield 113, 3) := dk_181 0 113 (dk_at dksX5_init_12 11 rfl rfl)
theorem dX5_init_295 : decode bcX5_init 295 = .ok (.aload_n 0, 1) := dk_42 (dk_at dksX5_init_12 14 rfl rfl)
theorem dX5_init_296 : decode bcX5_init 296 = .ok (.iconst 4, 1) := dk_7 (dk_at dksX5_init_12 15 rfl rfl)
theorem dX5_init_297 : decode bcX5_init 297 = .ok (.newarray .boolean, 2) := dk_188_4 (dk_at dksX5_init_12 16 rfl rfl)
theorem dX5_init_299 : decode bcX5_init 299 = .ok (.putfield 116, 3) := dk_181 0 116 (dk_at dksX5_init_12 18 rfl rfl)
theorem dX5_init_302 : decode bcX5_init 302 = .ok (.aload_n 0, 1) := dk_42 (dk_at dksX5_init_12 21 rfl rfl)
theorem dX5_init_303 : decode bcX5_init 303 = .ok (.bipush 41, 2) := dk_16 41 (dk_at dksX5_init_12 22 rfl rfl)
theorem dX5_init_305 : decode bcX5_init 305 = .ok (.newarray .int, 2) := dk_188_10 (dk_at dksX5_init_13 0 rfl rfl)
theorem dX5_init_307 : decode bcX5_init 307 = .ok (.putfield 120, 3) := dk_181 0 120 (dk_at dksX5_init_13 2 rfl rfl)
theorem dX5_init_310 : decode bcX5_init 310 = .ok (.aload_n 0, 1) := dk_42 (dk_at dksX5_init_13 5 rfl rfl)
theorem dX5_init_311 : decode bcX5_init 311 = .ok (.iconst 3, 1) := dk_6 (dk_at dksX5_init_13 6 rfl rfl)
theorem dX5_init_312 : decode bcX5_init 312 = .ok (.newarray .int, 2) := dk_188_10 (dk_at dksX5_init_13 7 rfl rfl)
theorem dX5_init_314 : decode bcX5_init 314 = .ok (.putfield 123, 3) := dk_181 0 123 (dk_at dksX5_init_13 9 rfl rfl)
theorem dX5_init_317 : decode bcX5_init 317 = .ok (.aload_n 0, 1) := dk_42 (dk_at dksX5_init_13 12 rfl rfl)
theorem dX5_init_318 : decode bcX5_init 318 = .ok (.bipush 8, 2) := dk_16 8 (dk_at dksX5_init_13 13 rfl rfl)
theorem dX5_init_320 : decode bcX5_init 320 = .ok (.newarray .int, 2) := dk_188_10 (dk_at dksX5_init_13 15 rfl rfl)
theorem dX5_init_322 : decode bcX5_init 322 = .ok (.putfield 126, 3) := dk_181 0 126 (dk_at dksX5_init_13 17 rfl rfl)
theorem dX5_init_325 : decode bcX5_init 325 = .ok (.aload_n 0, 1) := dk_42 (dk_at dksX5_init_13 20 rfl rfl)
theorem dX5_init_326 : decode bcX5_init 326 = .ok (.sipush 310, 3) := dk_17 1 54 (dk_at dksX5_init_13 21 rfl rfl)
theorem dX5_init_329 : decode bcX5_init 329 = .ok (.newarray .int, 2) := dk_188_10 (dk_at dksX5_init_14 0 rfl rfl)
theorem dX5_init_331 : decode bcX5_init 331 = .ok (.putfield 129, 3) := dk_181 0 129 (dk_at dksX5_init_14 2 rfl rfl)
theorem dX5_init_334 : decode bcX5_init 334 = .ok (.aload_n 0, 1) := dk_42 (dk_at dksX5_init_14 5 rfl rfl)
theorem dX5_init_335 : decode bcX5_init 335 = .ok (.iconst 0, 1) := dk_3 (dk_at dksX5_init_14 6 rfl rfl)
theorem dX5_init_336 : decode bcX5_init 336 = .ok (.invokevirtual 132, 3) := dk_182 0 132 (dk_at dksX5_init_14 7 rfl rfl)
theorem dX5_init_339 : decode bcX5_init 339 = .ok (.aload_n 0, 1) := dk_42 (dk_at dksX5_init_14 10 rfl rfl)
theorem dX5_init_340 : decode bcX5_init 340 = .ok (.invokevirtual 136, 3) := dk_182 0 136 (dk_at dksX5_init_14 11 rfl rfl)
theorem dX5_init_343 : decode bcX5_init 343 = .ok (.return_, 1) := dk_177 (dk_at dksX5_init_14 14 rfl rfl)
abbrev SX5_init (pc : Nat) (i : xI) : Prop := Snd "SwollenHouseModel" "<init>" prog_25_method_4_code 1 (Option.none : Option Jvm.ClassFile.FieldType) [] pc i
theorem oX5_init_0 : SX5_init 0 (i_aload 0 1) := snd_aload_n dX5_init_0 rfl
theorem oX5_init_1 : SX5_init 1 (i_oi 4) := snd_oi dX5_init_1 q1650 q177 q_oicode
theorem oX5_init_4 : SX5_init 4 (i_aload 0 5) := snd_aload_n dX5_init_4 rfl
theorem oX5_init_5 : SX5_init 5 (i_const (.int (nI 1000)) 8) := snd_sipush dX5_init_5 (by decide)
theorem oX5_init_8 : SX5_init 8 (i_newa 0 (.inl (fun _ => 0)) 10) := snd_na0 dX5_init_8
theorem oX5_init_10 : SX5_init 10 (i_putfr 4 1 13) := snd_putfr dX5_init_10 rfl (by decide) in_X5 tyX5 tyX5_ok nmX5 (Or.inr (Or.inl ⟨rfl, rfl, rfl, q1699⟩)) (Or.inl rfl) (Or.inr ⟨_, rfl⟩)
theorem oX5_init_13 : SX5_init 13 (i_aload 0 14) := snd_aload_n dX5_init_13 rfl
theorem oX5_init_14 : SX5_init 14 (i_const (.int (nI 1002)) 17) := snd_sipush dX5_init_14 (by decide)
theorem oX5_init_17 : SX5_init 17 (i_newa 0 (.inl (fun _ => 0)) 19) := snd_na0 dX5_init_17
theorem oX5_init_19 : SX5_init 19 (i_putfr 4 4 22) := snd_putfr dX5_init_19 rfl (by decide) in_X5 tyX5 tyX5_ok nmX5 (Or.inr (Or.inl ⟨rfl, rfl, rfl, q1702⟩)) (Or.inl rfl) (Or.inr ⟨_, rfl⟩)
theorem oX5_init_22 : SX5_init 22 (i_aload 0 23) := snd_aload_n dX5_init_22 rfl
theorem oX5_init_23 : SX5_init 23 (i_const (.int (nI 1002)) 26) := snd_sipush dX5_init_23 (by decide)
theorem oX5_init_26 : SX5_init 26 (i_newa 0 (.inl (fun _ => 0)) 28) := snd_na0 dX5_init_26
theorem oX5_init_28 : SX5_init 28 (i_putfr 4 5 31) := snd_putfr dX5_init_28 rfl (by decide) in_X5 tyX5 tyX5_ok nmX5 (Or.inr (Or.inl ⟨rfl, rfl, rfl, q1703⟩)) (Or.inl rfl) (Or.inr ⟨_, rfl⟩)
theorem oX5_init_31 : SX5_init 31 (i_aload 0 32) := snd_aload_n dX5_init_31 rfl
theorem oX5_init_32 : SX5_init 32 (i_const (.int (nI 1002)) 35) := snd_sipush dX5_init_32 (by decide)
theorem oX5_init_35 : SX5_init 35 (i_newa 3 (.inr (.inl (fun _ => 0))) 37) := snd_na3 dX5_init_35
theorem oX5_init_37 : SX5_init 37 (i_putfr 4 6 40) := snd_putfr dX5_init_37 rfl (by decide) in_X5 tyX5 tyX5_ok nmX5 (Or.inr (Or.inl ⟨rfl, rfl, rfl, q1704⟩)) (Or.inl rfl) (Or.inr ⟨_, rfl⟩)
theorem oX5_init_40 : SX5_init 40 (i_aload 0 41) := snd_aload_n dX5_init_40 rfl
theorem oX5_init_41 : SX5_init 41 (i_const (.int (nI 23)) 43) := snd_bipush dX5_init_41 (by decide)
theorem oX5_init_43 : SX5_init 43 (i_newa 3 (.inr (.inl (fun _ => 0))) 45) := snd_na3 dX5_init_43
theorem oX5_init_45 : SX5_init 45 (i_dup 46) := snd_dup dX5_init_45
theorem oX5_init_46 : SX5_init 46 (i_const (.int (nI 0)) 47) := snd_iconst dX5_init_46 (by decide)
theorem oX5_init_47 : SX5_init 47 (i_const (.long (lN 932857)) 50) := snd_ldc2 dX5_init_47 q1651
theorem oX5_init_50 : SX5_init 50 (i_sl 3 51) := snd_sl3 dX5_init_50
theorem oX5_init_51 : SX5_init 51 (i_dup 52) := snd_dup dX5_init_51
theorem oX5_init_52 : SX5_init 52 (i_const (.int (nI 1)) 53) := snd_iconst dX5_init_52 (by decide)
theorem oX5_init_53 : SX5_init 53 (i_const (.long (lN 223720)) 56) := snd_ldc2 dX5_init_53 q1652
theorem oX5_init_56 : SX5_init 56 (i_sl 3 57) := snd_sl3 dX5_init_56
theorem oX5_init_57 : SX5_init 57 (i_dup 58) := snd_dup dX5_init_57
theorem oX5_init_58 : SX5_init 58 (i_const (.int (nI 2)) 59) := snd_iconst dX5_init_58 (by decide)
theorem oX5_init_59 : SX5_init 59 (i_const (.long (lN 9636)) 62) := snd_ldc2 dX5_init_59 q1653
theorem oX5_init_62 : SX5_init 62 (i_sl 3 63) := snd_sl3 dX5_init_62
theorem oX5_init_63 : SX5_init 63 (i_dup 64) := snd_dup dX5_init_63
theorem oX5_init_64 : SX5_init 64 (i_const (.int (nI 3)) 65) := snd_iconst dX5_init_64 (by decide)
theorem oX5_init_65 : SX5_init 65 (i_const (.long (lN 1119812451)) 68) := snd_ldc2 dX5_init_65 q1654
theorem oX5_init_68 : SX5_init 68 (i_sl 3 69) := snd_sl3 dX5_init_68
theorem oX5_init_69 : SX5_init 69 (i_dup 70) := snd_dup dX5_init_69
theorem oX5_init_70 : SX5_init 70 (i_const (.int (nI 4)) 71) := snd_iconst dX5_init_70 (by decide)
theorem oX5_init_71 : SX5_init 71 (i_const (.long (lN 347)) 74) := snd_ldc2 dX5_init_71 q1655
theorem oX5_init_74 : SX5_init 74 (i_sl 3 75) := snd_sl3 dX5_init_74
theorem oX5_init_75 : SX5_init 75 (i_dup 76) := snd_dup dX5_init_75
theorem oX5_init_76 : SX5_init 76 (i_const (.int (nI 5)) 77) := snd_iconst dX5_init_76 (by decide)
theorem oX5_init_77 : SX5_init 77 (i_const (.long (lN 204478)) 80) := snd_ldc2 dX5_init_77 q1656
theorem oX5_init_80 : SX5_init 80 (i_sl 3 81) := snd_sl3 dX5_init_80
theorem oX5_init_81 : SX5_init 81 (i_dup 82) := snd_dup dX5_init_81
theorem oX5_init_82 : SX5_init 82 (i_const (.int (nI 6)) 84) := snd_bipush dX5_init_82 (by decide)
theorem oX5_init_84 : SX5_init 84 (i_const (.long (lN 1360911042)) 87) := snd_ldc2 dX5_init_84 q1657
theorem oX5_init_87 : SX5_init 87 (i_sl 3 88) := snd_sl3 dX5_init_87
theorem oX5_init_88 : SX5_init 88 (i_dup 89) := snd_dup dX5_init_88
theorem oX5_init_89 : SX5_init 89 (i_const (.int (nI 7)) 91) := snd_bipush dX5_init_89 (by decide)
theorem oX5_init_91 : SX5_init 91 (i_const (.long (lN 5538)) 94) := snd_ldc2 dX5_init_91 q1658
theorem oX5_init_94 : SX5_init 94 (i_sl 3 95) := snd_sl3 dX5_init_94
theorem oX5_init_95 : SX5_init 95 (i_dup 96) := snd_dup dX5_init_95
theorem oX5_init_96 : SX5_init 96 (i_const (.int (nI 8)) 98) := snd_bipush dX5_init_96 (by decide)
theorem oX5_init_98 : SX5_init 98 (i_const (.long (lN 1166843)) 101) := snd_ldc2 dX5_init_98 q1659
theorem oX5_init_101 : SX5_init 101 (i_sl 3 102) := snd_sl3 dX5_init_101
theorem oX5_init_102 : SX5_init 102 (i_dup 103) := snd_dup dX5_init_102
theorem oX5_init_103 : SX5_init 103 (i_const (.int (nI 9)) 105) := snd_bipush dX5_init_103 (by decide)
theorem oX5_init_105 : SX5_init 105 (i_const (.long (lN 30596304)) 108) := snd_ldc2 dX5_init_105 q1660
theorem oX5_init_108 : SX5_init 108 (i_sl 3 109) := snd_sl3 dX5_init_108
theorem oX5_init_109 : SX5_init 109 (i_dup 110) := snd_dup dX5_init_109
theorem oX5_init_110 : SX5_init 110 (i_const (.int (nI 10)) 112) := snd_bipush dX5_init_110 (by decide)
theorem oX5_init_112 : SX5_init 112 (i_const (.long (lN 43364708)) 115) := snd_ldc2 dX5_init_112 q1661
theorem oX5_init_115 : SX5_init 115 (i_sl 3 116) := snd_sl3 dX5_init_115
theorem oX5_init_116 : SX5_init 116 (i_dup 117) := snd_dup dX5_init_116
theorem oX5_init_117 : SX5_init 117 (i_const (.int (nI 11)) 119) := snd_bipush dX5_init_117 (by decide)
theorem oX5_init_119 : SX5_init 119 (i_const (.long (lN 12029519)) 122) := snd_ldc2 dX5_init_119 q1662
theorem oX5_init_122 : SX5_init 122 (i_sl 3 123) := snd_sl3 dX5_init_122
theorem oX5_init_123 : SX5_init 123 (i_dup 124) := snd_dup dX5_init_123
theorem oX5_init_124 : SX5_init 124 (i_const (.int (nI 12)) 126) := snd_bipush dX5_init_124 (by decide)
theorem oX5_init_126 : SX5_init 126 (i_const (.long (lN 20583)) 129) := snd_ldc2 dX5_init_126 q1663
theorem oX5_init_129 : SX5_init 129 (i_sl 3 130) := snd_sl3 dX5_init_129
theorem oX5_init_130 : SX5_init 130 (i_dup 131) := snd_dup dX5_init_130
theorem oX5_init_131 : SX5_init 131 (i_const (.int (nI 13)) 133) := snd_bipush dX5_init_131 (by decide)
theorem oX5_init_133 : SX5_init 133 (i_const (.long (lN 823292)) 136) := snd_ldc2 dX5_init_133 q1664
theorem oX5_init_136 : SX5_init 136 (i_sl 3 137) := snd_sl3 dX5_init_136
theorem oX5_init_137 : SX5_init 137 (i_dup 138) := snd_dup dX5_init_137
theorem oX5_init_138 : SX5_init 138 (i_const (.int (nI 14)) 140) := snd_bipush dX5_init_138 (by decide)
theorem oX5_init_140 : SX5_init 140 (i_const (.long (lN 7302)) 143) := snd_ldc2 dX5_init_140 q1665
theorem oX5_init_143 : SX5_init 143 (i_sl 3 144) := snd_sl3 dX5_init_143
theorem oX5_init_144 : SX5_init 144 (i_dup 145) := snd_dup dX5_init_144
theorem oX5_init_145 : SX5_init 145 (i_const (.int (nI 15)) 147) := snd_bipush dX5_init_145 (by decide)
theorem oX5_init_147 : SX5_init 147 (i_const (.long (lN 620643)) 150) := snd_ldc2 dX5_init_147 q1666
theorem oX5_init_150 : SX5_init 150 (i_sl 3 151) := snd_sl3 dX5_init_150
theorem oX5_init_151 : SX5_init 151 (i_dup 152) := snd_dup dX5_init_151
theorem oX5_init_152 : SX5_init 152 (i_const (.int (nI 16)) 154) := snd_bipush dX5_init_152 (by decide)
theorem oX5_init_154 : SX5_init 154 (i_const (.long (lN 19741)) 157) := snd_ldc2 dX5_init_154 q1667
theorem oX5_init_157 : SX5_init 157 (i_sl 3 158) := snd_sl3 dX5_init_157
theorem oX5_init_158 : SX5_init 158 (i_dup 159) := snd_dup dX5_init_158
theorem oX5_init_159 : SX5_init 159 (i_const (.int (nI 17)) 161) := snd_bipush dX5_init_159 (by decide)
theorem oX5_init_161 : SX5_init 161 (i_const (.long (lN 1891)) 164) := snd_ldc2 dX5_init_161 q1668
theorem oX5_init_164 : SX5_init 164 (i_sl 3 165) := snd_sl3 dX5_init_164
theorem oX5_init_165 : SX5_init 165 (i_dup 166) := snd_dup dX5_init_165
theorem oX5_init_166 : SX5_init 166 (i_const (.int (nI 18)) 168) := snd_bipush dX5_init_166 (by decide)
theorem oX5_init_168 : SX5_init 168 (i_const (.long (lN 573)) 171) := snd_ldc2 dX5_init_168 q1669
theorem oX5_init_171 : SX5_init 171 (i_sl 3 172) := snd_sl3 dX5_init_171
theorem oX5_init_172 : SX5_init 172 (i_dup 173) := snd_dup dX5_init_172
theorem oX5_init_173 : SX5_init 173 (i_const (.int (nI 19)) 175) := snd_bipush dX5_init_173 (by decide)
theorem oX5_init_175 : SX5_init 175 (i_const (.long (lN 31692)) 178) := snd_ldc2 dX5_init_175 q1670
theorem oX5_init_178 : SX5_init 178 (i_sl 3 179) := snd_sl3 dX5_init_178
theorem oX5_init_179 : SX5_init 179 (i_dup 180) := snd_dup dX5_init_179
theorem oX5_init_180 : SX5_init 180 (i_const (.int (nI 20)) 182) := snd_bipush dX5_init_180 (by decide)
theorem oX5_init_182 : SX5_init 182 (i_const (.long (lN 36781379)) 185) := snd_ldc2 dX5_init_182 q1671
theorem oX5_init_185 : SX5_init 185 (i_sl 3 186) := snd_sl3 dX5_init_185
theorem oX5_init_186 : SX5_init 186 (i_dup 187) := snd_dup dX5_init_186
theorem oX5_init_187 : SX5_init 187 (i_const (.int (nI 21)) 189) := snd_bipush dX5_init_187 (by decide)
theorem oX5_init_189 : SX5_init 189 (i_const (.long (lN 36420992)) 192) := snd_ldc2 dX5_init_189 q1672
theorem oX5_init_192 : SX5_init 192 (i_sl 3 193) := snd_sl3 dX5_init_192
theorem oX5_init_193 : SX5_init 193 (i_dup 194) := snd_dup dX5_init_193
theorem oX5_init_194 : SX5_init 194 (i_const (.int (nI 22)) 196) := snd_bipush dX5_init_194 (by decide)
theorem oX5_init_196 : SX5_init 196 (i_const (.long (lN 204726)) 199) := snd_ldc2 dX5_init_196 q1673
theorem oX5_init_199 : SX5_init 199 (i_sl 3 200) := snd_sl3 dX5_init_199
theorem oX5_init_200 : SX5_init 200 (i_putfr 4 9 203) := snd_putfr dX5_init_200 rfl (by decide) in_X5 tyX5 tyX5_ok nmX5 (Or.inr (Or.inl ⟨rfl, rfl, rfl, q1707⟩)) (Or.inl rfl) (Or.inr ⟨_, rfl⟩)
theorem oX5_init_203 : SX5_init 203 (i_aload 0 204) := snd_aload_n dX5_init_203 rfl
theorem oX5_init_204 : SX5_init 204 (i_const (.int (nI 120)) 206) := snd_bipush dX5_init_204 (by decide)
theorem oX5_init_206 : SX5_init 206 (i_newa 0 (.inl (fun _ => 0)) 208) := snd_na0 dX5_init_206
theorem oX5_init_208 : SX5_init 208 (i_putfr 4 10 211) := snd_putfr dX5_init_208 rfl (by decide) in_X5 tyX5 tyX5_ok nmX5 (Or.inr (Or.inl ⟨rfl, rfl, rfl, q1708⟩)) (Or.inl rfl) (Or.inr ⟨_, rfl⟩)
theorem oX5_init_211 : SX5_init 211 (i_aload 0 212) := snd_aload_n dX5_init_211 rfl
theorem oX5_init_212 : SX5_init 212 (i_const (.int (nI 2200)) 215) := snd_sipush dX5_init_212 (by decide)
theorem oX5_init_215 : SX5_init 215 (i_newa 0 (.inl (fun _ => 0)) 217) := snd_na0 dX5_init_215
theorem oX5_init_217 : SX5_init 217 (i_putfr 4 11 220) := snd_putfr dX5_init_217 rfl (by decide) in_X5 tyX5 tyX5_ok nmX5 (Or.inr (Or.inl ⟨rfl, rfl, rfl, q1709⟩)) (Or.inl rfl) (Or.inr ⟨_, rfl⟩)
theorem oX5_init_220 : SX5_init 220 (i_aload 0 221) := snd_aload_n dX5_init_220 rfl
theorem oX5_init_221 : SX5_init 221 (i_const (.int (nI 2200)) 224) := snd_sipush dX5_init_221 (by decide)
theorem oX5_init_224 : SX5_init 224 (i_newa 0 (.inl (fun _ => 0)) 226) := snd_na0 dX5_init_224
theorem oX5_init_226 : SX5_init 226 (i_putfr 4 12 229) := snd_putfr dX5_init_226 rfl (by decide) in_X5 tyX5 tyX5_ok nmX5 (Or.inr (Or.inl ⟨rfl, rfl, rfl, q1710⟩)) (Or.inl rfl) (Or.inr ⟨_, rfl⟩)
theorem oX5_init_229 : SX5_init 229 (i_aload 0 230) := snd_aload_n dX5_init_229 rfl
theorem oX5_init_230 : SX5_init 230 (i_const (.int (nI 12)) 232) := snd_bipush dX5_init_230 (by decide)
theorem oX5_init_232 : SX5_init 232 (i_newa 3 (.inr (.inl (fun _ => 0))) 234) := snd_na3 dX5_init_232
theorem oX5_init_234 : SX5_init 234 (i_putfr 4 14 237) := snd_putfr dX5_init_234 rfl (by decide) in_X5 tyX5 tyX5_ok nmX5 (Or.inr (Or.inl ⟨rfl, rfl, rfl, q1712⟩)) (Or.inl rfl) (Or.inr ⟨_, rfl⟩)
theorem oX5_init_237 : SX5_init 237 (i_aload 0 238) := snd_aload_n dX5_init_237 rfl
theorem oX5_init_238 : SX5_init 238 (i_const (.int (nI 12)) 240) := snd_bipush dX5_init_238 (by decide)
theorem oX5_init_240 : SX5_init 240 (i_newa 3 (.inr (.inl (fun _ => 0))) 242) := snd_na3 dX5_init_240
theorem oX5_init_242 : SX5_init 242 (i_putfr 4 15 245) := snd_putfr dX5_init_242 rfl (by decide) in_X5 tyX5 tyX5_ok nmX5 (Or.inr (Or.inl ⟨rfl, rfl, rfl, q1713⟩)) (Or.inl rfl) (Or.inr ⟨_, rfl⟩)
theorem oX5_init_245 : SX5_init 245 (i_aload 0 246) := snd_aload_n dX5_init_245 rfl
theorem oX5_init_246 : SX5_init 246 (i_const (.int (nI 12)) 248) := snd_bipush dX5_init_246 (by decide)
theorem oX5_init_248 : SX5_init 248 (i_newa 0 (.inl (fun _ => 0)) 250) := snd_na0 dX5_init_248
theorem oX5_init_250 : SX5_init 250 (i_putfr 4 16 253) := snd_putfr dX5_init_250 rfl (by decide) in_X5 tyX5 tyX5_ok nmX5 (Or.inr (Or.inl ⟨rfl, rfl, rfl, q1714⟩)) (Or.inl rfl) (Or.inr ⟨_, rfl⟩)
theorem oX5_init_253 : SX5_init 253 (i_aload 0 254) := snd_aload_n dX5_init_253 rfl
theorem oX5_init_254 : SX5_init 254 (i_const (.int (nI 12)) 256) := snd_bipush dX5_init_254 (by decide)
theorem oX5_init_256 : SX5_init 256 (i_newa 0 (.inl (fun _ => 0)) 258) := snd_na0 dX5_init_256
theorem oX5_init_258 : SX5_init 258 (i_putfr 4 17 261) := snd_putfr dX5_init_258 rfl (by decide) in_X5 tyX5 tyX5_ok nmX5 (Or.inr (Or.inl ⟨rfl, rfl, rfl, q1715⟩)) (Or.inl rfl) (Or.inr ⟨_, rfl⟩)
theorem oX5_init_261 : SX5_init 261 (i_aload 0 262) := snd_aload_n dX5_init_261 rfl
theorem oX5_init_262 : SX5_init 262 (i_const (.int (nI 250)) 265) := snd_sipush dX5_init_262 (by decide)
theorem oX5_init_265 : SX5_init 265 (i_newa 0 (.inl (fun _ => 0)) 267) := snd_na0 dX5_init_265
theorem oX5_init_267 : SX5_init 267 (i_putfr 4 21 270) := snd_putfr dX5_init_267 rfl (by decide) in_X5 tyX5 tyX5_ok nmX5 (Or.inr (Or.inl ⟨rfl, rfl, rfl, q1719⟩)) (Or.inl rfl) (Or.inr ⟨_, rfl⟩)
theorem oX5_init_270 : SX5_init 270 (i_aload 0 271) := snd_aload_n dX5_init_270 rfl
theorem oX5_init_271 : SX5_init 271 (i_const (.int (nI 4)) 272) := snd_iconst dX5_init_271 (by decide)
theorem oX5_init_272 : SX5_init 272 (i_newa 0 (.inl (fun _ => 0)) 274) := snd_na0 dX5_init_272
theorem oX5_init_274 : SX5_init 274 (i_putfr 4 22 277) := snd_putfr dX5_init_274 rfl (by decide) in_X5 tyX5 tyX5_ok nmX5 (Or.inr (Or.inl ⟨rfl, rfl, rfl, q1720⟩)) (Or.inl rfl) (Or.inr ⟨_, rfl⟩)
theorem oX5_init_277 : SX5_init 277 (i_aload 0 278) := snd_aload_n dX5_init_277 rfl
theorem oX5_init_278 : SX5_init 278 (i_const (.int (nI 1100)) 281) := snd_sipush dX5_init_278 (by decide)
theorem oX5_init_281 : SX5_init 281 (i_newa 0 (.inl (fun _ => 0)) 283) := snd_na0 dX5_init_281
theorem oX5_init_283 : SX5_init 283 (i_putfr 4 23 286) := snd_putfr dX5_init_283 rfl (by decide) in_X5 tyX5 tyX5_ok nmX5 (Or.inr (Or.inl ⟨rfl, rfl, rfl, q1721⟩)) (Or.inl rfl) (Or.inr ⟨_, rfl⟩)
theorem oX5_init_286 : SX5_init 286 (i_aload 0 287) := snd_aload_n dX5_init_286 rfl
theorem oX5_init_287 : SX5_init 287 (i_const (.int (nI 1495)) 290) := snd_sipush dX5_init_287 (by decide)
theorem oX5_init_290 : SX5_init 290 (i_newa 0 (.inl (fun _ => 0)) 292) := snd_na0 dX5_init_290
theorem oX5_init_292 : SX5_init 292 (i_putfr 4 24 295) := snd_putfr dX5_init_292 rfl (by decide) in_X5 tyX5 tyX5_ok nmX5 (Or.inr (Or.inl ⟨rfl, rfl, rfl, q1722⟩)) (Or.inl rfl) (Or.inr ⟨_, rfl⟩)
theorem oX5_init_295 : SX5_init 295 (i_aload 0 296) := snd_aload_n dX5_init_295 rfl
theorem oX5_init_296 : SX5_init 296 (i_const (.int (nI 4)) 297) := snd_iconst dX5_init_296 (by decide)
theorem oX5_init_297 : SX5_init 297 (i_newa 2 (.inl (fun _ => 0)) 299) := snd_na2 dX5_init_297
theorem oX5_init_299 : SX5_init 299 (i_putfr 4 26 302) := snd_putfr dX5_init_299 rfl (by decide) in_X5 tyX5 tyX5_ok nmX5 (Or.inr (Or.inl ⟨rfl, rfl, rfl, q1724⟩)) (Or.inl rfl) (Or.inr ⟨_, rfl⟩)
theorem oX5_init_302 : SX5_init 302 (i_aload 0 303) := snd_aload_n dX5_init_302 rfl
theorem oX5_init_303 : SX5_init 303 (i_const (.int (nI 41)) 305) := snd_bipush dX5_init_303 (by decide)
theorem oX5_init_305 : SX5_init 305 (i_newa 0 (.inl (fun _ => 0)) 307) := snd_na0 dX5_init_305
theorem oX5_init_307 : SX5_init 307 (i_putfr 4 27 310) := snd_putfr dX5_init_307 rfl (by decide) in_X5 tyX5 tyX5_ok nmX5 (Or.inr (Or.inl ⟨rfl, rfl, rfl, q1725⟩)) (Or.inl rfl) (Or.inr ⟨_, rfl⟩)
theorem oX5_init_310 : SX5_init 310 (i_aload 0 311) := snd_aload_n dX5_init_310 rfl
theorem oX5_init_311 : SX5_init 311 (i_const (.int (nI 3)) 312) := snd_iconst dX5_init_311 (by decide)
theorem oX5_init_312 : SX5_init 312 (i_newa 0 (.inl (fun _ => 0)) 314) := snd_na0 dX5_init_312
theorem oX5_init_314 : SX5_init 314 (i_putfr 4 28 317) := snd_putfr dX5_init_314 rfl (by decide) in_X5 tyX5 tyX5_ok nmX5 (Or.inr (Or.inl ⟨rfl, rfl, rfl, q1726⟩)) (Or.inl rfl) (Or.inr ⟨_, rfl⟩)
theorem oX5_init_317 : SX5_init 317 (i_aload 0 318) := snd_aload_n dX5_init_317 rfl
theorem oX5_init_318 : SX5_init 318 (i_const (.int (nI 8)) 320) := snd_bipush dX5_init_318 (by decide)
theorem oX5_init_320 : SX5_init 320 (i_newa 0 (.inl (fun _ => 0)) 322) := snd_na0 dX5_init_320
theorem oX5_init_322 : SX5_init 322 (i_putfr 4 29 325) := snd_putfr dX5_init_322 rfl (by decide) in_X5 tyX5 tyX5_ok nmX5 (Or.inr (Or.inl ⟨rfl, rfl, rfl, q1727⟩)) (Or.inl rfl) (Or.inr ⟨_, rfl⟩)
theorem oX5_init_325 : SX5_init 325 (i_aload 0 326) := snd_aload_n dX5_init_325 rfl
theorem oX5_init_326 : SX5_init 326 (i_const (.int (nI 310)) 329) := snd_sipush dX5_init_326 (by decide)
theorem oX5_init_329 : SX5_init 329 (i_newa 0 (.inl (fun _ => 0)) 331) := snd_na0 dX5_init_329
theorem oX5_init_331 : SX5_init 331 (i_putfr 4 30 334) := snd_putfr dX5_init_331 rfl (by decide) in_X5 tyX5 tyX5_ok nmX5 (Or.inr (Or.inl ⟨rfl, rfl, rfl, q1728⟩)) (Or.inl rfl) (Or.inr ⟨_, rfl⟩)
theorem oX5_init_334 : SX5_init 334 (i_aload 0 335) := snd_aload_n dX5_init_334 rfl
theorem oX5_init_335 : SX5_init 335 (i_const (.int (nI 0)) 336) := snd_iconst dX5_init_335 (by decide)
theorem oX5_init_336 : SX5_init 336 (i_cvv 4 247 1 339) := snd_cvv rfl infX5_standsAsAlways (by decide) rfl (xVm_V dX5_init_336 rfl q1674 q1676 qs57 q136 q1677 pdX5_standsAsAlways)
theorem oX5_init_339 : SX5_init 339 (i_aload 0 340) := snd_aload_n dX5_init_339 rfl
theorem oX5_init_340 : SX5_init 340 (i_cvv 4 248 0 343) := snd_cvv rfl infX5_begins (by decide) rfl (xVm_V dX5_init_340 rfl q1678 q1680 qs58 q136 q1681 pdX5_begins)
theorem oX5_init_343 : SX5_init 343 (i_vret) := snd_vret dX5_init_343 rfl
theorem okX5_init : ∀ q ∈ cX5_init, SX5_init q.1 q.2 := List.forall_mem_cons.mpr ⟨oX5_init_0, List.forall_mem_cons.mpr ⟨oX5_init_1, List.forall_mem_cons.mpr ⟨oX5_init_4, List.forall_mem_cons.mpr ⟨oX5_init_5, List.forall_mem_cons.mpr ⟨oX5_init_8, List.forall_mem_cons.mpr ⟨oX5_init_10, List.forall_mem_cons.mpr ⟨oX5_init_13, List.forall_mem_cons.mpr ⟨oX5_init_14, List.forall_mem_cons.mpr ⟨oX5_init_17, List.forall_mem_cons.mpr ⟨oX5_init_19, List.forall_mem_cons.mpr ⟨oX5_init_22, List.forall_mem_cons.mpr ⟨oX5_init_23, List.forall_mem_cons.mpr ⟨oX5_init_26, List.forall_mem_cons.mpr ⟨oX5_init_28, List.forall_mem_cons.mpr ⟨oX5_init_31, List.forall_mem_cons.mpr ⟨oX5_init_32, List.forall_mem_cons.mpr ⟨oX5_init_35, List.forall_mem_cons.mpr ⟨oX5_init_37, List.forall_mem_cons.mpr ⟨oX5_init_40, List.forall_mem_cons.mpr ⟨oX5_init_41, List.forall_mem_cons.mpr ⟨oX5_init_43, List.forall_mem_cons.mpr ⟨oX5_init_45, List.forall_mem_cons.mpr ⟨oX5_init_46, List.forall_mem_cons.mpr ⟨oX5_init_47, List.forall_mem_cons.mpr ⟨oX5_init_50, List.forall_mem_cons.mpr ⟨oX5_init_51, List.forall_mem_cons.mpr ⟨oX5_init_52, List.forall_mem_cons.mpr ⟨oX5_init_53, List.forall_mem_cons.mpr ⟨oX5_init_56, List.forall_mem_cons.mpr ⟨oX5_init_57, List.forall_mem_cons.mpr ⟨oX5_init_58, List.forall_mem_cons.mpr ⟨oX5_init_59, List.forall_mem_cons.mpr ⟨oX5_init_62, List.forall_mem_cons.mpr ⟨oX5_init_63, List.forall_mem_cons.mpr ⟨oX5_init_64, List.forall_mem_cons.mpr ⟨oX5_init_65, List.forall_mem_cons.mpr ⟨oX5_init_68, List.forall_mem_cons.mpr ⟨oX5_init_69, List.forall_mem_cons.mpr ⟨oX5_init_70, List.forall_mem_cons.mpr ⟨oX5_init_71, List.forall_mem_cons.mpr ⟨oX5_init_74, List.forall_mem_cons.mpr ⟨oX5_init_75, List.forall_mem_cons.mpr ⟨oX5_init_76, List.forall_mem_cons.mpr ⟨oX5_init_77, List.forall_mem_cons.mpr ⟨oX5_init_80, List.forall_mem_cons.mpr ⟨oX5_init_81, List.forall_mem_cons.mpr ⟨oX5_init_82, List.forall_mem_cons.mpr ⟨oX5_init_84, List.forall_mem_cons.mpr ⟨oX5_init_87, List.forall_mem_cons.mpr ⟨oX5_init_88, List.forall_mem_cons.mpr ⟨oX5_init_89, List.forall_mem_cons.mpr ⟨oX5_init_91, List.forall_mem_cons.mpr ⟨oX5_init_94, List.forall_mem_cons.mpr ⟨oX5_init_95, List.forall_mem_cons.mpr ⟨oX5_init_96, List.forall_mem_cons.mpr ⟨oX5_init_98, List.forall_mem_cons.mpr ⟨oX5_init_101, List.forall_mem_cons.mpr ⟨oX5_init_102, List.forall_mem_cons.mpr ⟨oX5_init_103, List.forall_mem_cons.mpr ⟨oX5_init_105, List.forall_mem_cons.mpr ⟨oX5_init_108, List.forall_mem_cons.mpr ⟨oX5_init_109, List.forall_mem_cons.mpr ⟨oX5_init_110, List.forall_mem_cons.mpr ⟨oX5_init_112, List.forall_mem_cons.mpr ⟨oX5_init_115, List.forall_mem_cons.mpr ⟨oX5_init_116, List.forall_mem_cons.mpr ⟨oX5_init_117, List.forall_mem_cons.mpr ⟨oX5_init_119, List.forall_mem_cons.mpr ⟨oX5_init_122, List.forall_mem_cons.mpr ⟨oX5_init_123, List.forall_mem_cons.mpr ⟨oX5_init_124, List.forall_mem_cons.mpr ⟨oX5_init_126, List.forall_mem_cons.mpr ⟨oX5_init_129, List.forall_mem_cons.mpr ⟨oX5_init_130, List.forall_mem_cons.mpr ⟨oX5_init_131, List.forall_mem_cons.mpr ⟨oX5_init_133, List.forall_mem_cons.mpr ⟨oX5_init_136, List.forall_mem_cons.mpr ⟨oX5_init_137, List.forall_mem_cons.mpr ⟨oX5_init_138, List.forall_mem_cons.mpr ⟨oX5_init_140, List.forall_mem_cons.mpr ⟨oX5_init_143, List.forall_mem_cons.mpr ⟨oX5_init_144, List.forall_mem_cons.mpr ⟨oX5_init_145, List.forall_mem_cons.mpr ⟨oX5_init_147, List.forall_mem_cons.mpr ⟨oX5_init_150, List.forall_mem_cons.mpr ⟨oX5_init_151, List.forall_mem_cons.mpr ⟨oX5_init_152, List.forall_mem_cons.mpr ⟨oX5_init_154, List.forall_mem_cons.mpr ⟨oX5_init_157, List.forall_mem_cons.mpr ⟨oX5_init_158, List.forall_mem_cons.mpr ⟨oX5_init_159, List.forall_mem_cons.mpr ⟨oX5_init_161, List.forall_mem_cons.mpr ⟨oX5_init_164, List.forall_mem_cons.mpr ⟨oX5_init_165, List.forall_mem_cons.mpr ⟨oX5_init_166, List.forall_mem_cons.mpr ⟨oX5_init_168, List.forall_mem_cons.mpr ⟨oX5_init_171, List.forall_mem_cons.mpr ⟨oX5_init_172, List.forall_mem_cons.mpr ⟨oX5_init_173, List.forall_mem_cons.mpr ⟨oX5_init_175, List.forall_mem_cons.mpr ⟨oX5_init_178, List.forall_mem_cons.mpr ⟨oX5_init_179, List.forall_mem_cons.mpr ⟨oX5_init_180, List.forall_mem_cons.mpr ⟨oX5_init_182, List.forall_mem_cons.mpr ⟨oX5_init_185, List.forall_mem_cons.mpr ⟨oX5_init_186, List.forall_mem_cons.mpr ⟨oX5_init_187, List.forall_mem_cons.mpr ⟨oX5_init_189, List.forall_mem_cons.mpr ⟨oX5_init_192, List.forall_mem_cons.mpr ⟨oX5_init_193, List.forall_mem_cons.mpr ⟨oX5_init_194, List.forall_mem_cons.mpr ⟨oX5_init_196, List.forall_mem_cons.mpr ⟨oX5_init_199, List.forall_mem_cons.mpr ⟨oX5_init_200, List.forall_mem_cons.mpr ⟨oX5_init_203, List.forall_mem_cons.mpr ⟨oX5_init_204, List.forall_mem_cons.mpr ⟨oX5_init_206, List.forall_mem_cons.mpr ⟨oX5_init_208, List.forall_mem_cons.mpr ⟨oX5_init_211, List.forall_mem_cons.mpr ⟨oX5_init_212, List.forall_mem_cons.mpr ⟨oX5_init_215, List.forall_mem_cons.mpr ⟨oX5_init_217, List.forall_mem_cons.mpr ⟨oX5_init_220, List.forall_mem_cons.mpr ⟨oX5_init_221, List.forall_mem_cons.mpr ⟨oX5_init_224, List.forall_mem_cons.mpr ⟨oX5_init_226, List.forall_mem_cons.mpr ⟨oX5_init_229, List.forall_mem_cons.mpr ⟨oX5_init_230, List.forall_mem_cons.mpr ⟨oX5_init_232, List.forall_mem_cons.mpr ⟨oX5_init_234, List.forall_mem_cons.mpr ⟨oX5_init_237, List.forall_mem_cons.mpr ⟨oX5_init_238, List.forall_mem_cons.mpr ⟨oX5_init_240, List.forall_mem_cons.mpr ⟨oX5_init_242, List.forall_mem_cons.mpr ⟨oX5_init_245, List.forall_mem_cons.mpr ⟨oX5_init_246, List.forall_mem_cons.mpr ⟨oX5_init_248, List.forall_mem_cons.mpr ⟨oX5_init_250, List.forall_mem_cons.mpr ⟨oX5_init_253, List.forall_mem_cons.mpr ⟨oX5_init_254, List.forall_mem_cons.mpr ⟨oX5_init_256, List.forall_mem_cons.mpr ⟨oX5_init_258, List.forall_mem_cons.mpr ⟨oX5_init_261, List.forall_mem_cons.mpr ⟨oX5_init_262, List.forall_mem_cons.mpr ⟨oX5_init_265, List.forall_mem_cons.mpr ⟨oX5_init_267, List.forall_mem_cons.mpr ⟨oX5_init_270, List.forall_mem_cons.mpr ⟨oX5_init_271, List.forall_mem_cons.mpr ⟨oX5_init_272, List.forall_mem_cons.mpr ⟨oX5_init_274, List.forall_mem_cons.mpr ⟨oX5_init_277, List.forall_mem_cons.mpr ⟨oX5_init_278, List.forall_mem_cons.mpr ⟨oX5_init_281, List.forall_mem_cons.mpr ⟨oX5_init_283, List.forall_mem_cons.mpr ⟨oX5_init_286, List.forall_mem_cons.mpr ⟨oX5_init_287, List.forall_mem_cons.mpr ⟨oX5_init_290, List.forall_mem_cons.mpr ⟨oX5_init_292, List.forall_mem_cons.mpr ⟨oX5_init_295, List.forall_mem_cons.mpr ⟨oX5_init_296, List.forall_mem_cons.mpr ⟨oX5_init_297, List.forall_mem_cons.mpr ⟨oX5_init_299, List.forall_mem_cons.mpr ⟨oX5_init_302, List.forall_mem_cons.mpr ⟨oX5_init_303, List.forall_mem_cons.mpr ⟨oX5_init_305, List.forall_mem_cons.mpr ⟨oX5_init_307, List.forall_mem_cons.mpr ⟨oX5_init_310, List.forall_mem_cons.mpr ⟨oX5_init_311, List.forall_mem_cons.mpr ⟨oX5_init_312, List.forall_mem_cons.mpr ⟨oX5_init_314, List.forall_mem_cons.mpr ⟨oX5_init_317, List.forall_mem_cons.mpr ⟨oX5_init_318, List.forall_mem_cons.mpr ⟨oX5_init_320, List.forall_mem_cons.mpr ⟨oX5_init_322, List.forall_mem_cons.mpr ⟨oX5_init_325, List.forall_mem_cons.mpr ⟨oX5_init_326, List.forall_mem_cons.mpr ⟨oX5_init_329, List.forall_mem_cons.mpr ⟨oX5_init_331, List.forall_mem_cons.mpr ⟨oX5_init_334, List.forall_mem_cons.mpr ⟨oX5_init_335, List.forall_mem_cons.mpr ⟨oX5_init_336, List.forall_mem_cons.mpr ⟨oX5_init_339, List.forall_mem_cons.mpr ⟨oX5_init_340, List.forall_mem_cons.mpr ⟨oX5_init_343, fun _ h => absurd h List.not_mem_nil⟩⟩⟩⟩⟩⟩⟩⟩⟩⟩⟩⟩⟩⟩⟩⟩⟩⟩⟩⟩⟩⟩⟩⟩⟩⟩⟩⟩⟩⟩⟩⟩⟩⟩⟩⟩⟩⟩⟩⟩⟩⟩⟩⟩⟩⟩⟩⟩⟩⟩⟩⟩⟩⟩⟩⟩⟩⟩⟩⟩⟩⟩⟩⟩⟩⟩⟩⟩⟩⟩⟩⟩⟩⟩⟩⟩⟩⟩⟩⟩⟩⟩⟩⟩⟩⟩⟩⟩⟩⟩⟩⟩⟩⟩⟩⟩⟩⟩⟩⟩⟩⟩⟩⟩⟩⟩⟩⟩⟩⟩⟩⟩⟩⟩⟩⟩⟩⟩⟩⟩⟩⟩⟩⟩⟩⟩⟩⟩⟩⟩⟩⟩⟩⟩⟩⟩⟩⟩⟩⟩⟩⟩⟩⟩⟩⟩⟩⟩⟩⟩⟩⟩⟩⟩⟩⟩⟩⟩⟩⟩⟩⟩⟩⟩⟩⟩⟩⟩⟩⟩⟩⟩⟩⟩⟩⟩⟩⟩⟩⟩⟩⟩⟩⟩
def dkwX5_standsAsAlways_1 : List UInt8 := [180, 0, 83, 27, 6, 96, 4, 79, 42, 180, 0, 83, 27, 7, 96, 2, 79, 177]
abbrev dktX5_standsAsAlways_1 : List UInt8 := dkwX5_standsAsAlways_1 ++ []
def dkwX5_standsAsAlways_0 : List UInt8 := [3, 61, 28, 16, 60, 162, 0, 18, 42, 180, 0, 83, 27, 28, 96, 3, 79, 132, 2, 1, 167, 255, 238, 42]
abbrev dktX5_standsAsAlways_0 : List UInt8 := dkwX5_standsAsAlways_0 ++ dktX5_standsAsAlways_1
theorem dksX5_standsAsAlways_0 : bcX5_standsAsAlways.data.toList.drop 0 = dktX5_standsAsAlways_0 := by decide +kernel
theorem dksX5_standsAsAlways_1 : bcX5_standsAsAlways.data.toList.drop 24 = dktX5_standsAsAlways_1 := dk_seg dksX5_standsAsAlways_0 24 rfl rfl
theorem dX5_standsAsAlways_0 : decode bcX5_standsAsAlways 0 = .ok (.iconst 0, 1) := dk_3 (dk_at dksX5_standsAsAlways_0 0 rfl rfl)
theorem dX5_standsAsAlways_1 : decode bcX5_standsAsAlways 1 = .ok (.istore_n 2, 1) := dk_61 (dk_at dksX5_standsAsAlways_0 1 rfl rfl)
theorem dX5_standsAsAlways_2 : decode bcX5_standsAsAlways 2 = .ok (.iload_n 2, 1) := dk_28 (dk_at dksX5_standsAsAlways_0 2 rfl rfl)
theorem dX5_standsAsAlways_3 : decode bcX5_standsAsAlways 3 = .ok (.bipush 60, 2) := dk_16 60 (dk_at dksX5_standsAsAlways_0 3 rfl rfl)
theorem dX5_standsAsAlways_5 : decode bcX5_standsAsAlways 5 = .ok (.if_icmp .ge 18, 3) := dk_162 0 18 (dk_at dksX5_standsAsAlways_0 5 rfl rfl)
theorem dX5_standsAsAlways_8 : decode bcX5_standsAsAlways 8 = .ok (.aload_n 0, 1) := dk_42 (dk_at dksX5_standsAsAlways_0 8 rfl rfl)
theorem dX5_standsAsAlways_9 : decode bcX5_standsAsAlways 9 = .ok (.getfield 83, 3) := dk_180 0 83 (dk_at dksX5_standsAsAlways_0 9 rfl rfl)
theorem dX5_standsAsAlways_12 : decode bcX5_standsAsAlways 12 = .ok (.iload_n 1, 1) := dk_27 (dk_at dksX5_standsAsAlways_0 12 rfl rfl)
theorem dX5_standsAsAlways_13 : decode bcX5_standsAsAlways 13 = .ok (.iload_n 2, 1) := dk_28 (dk_at dksX5_standsAsAlways_0 13 rfl rfl)
theorem dX5_standsAsAlways_14 : decode bcX5_standsAsAlways 14 = .ok (.iadd, 1) := dk_96 (dk_at dksX5_standsAsAlways_0 14 rfl rfl)
theorem dX5_standsAsAlways_15 : decode bcX5_standsAsAlways 15 = .ok (.iconst 0, 1) := dk_3 (dk_at dksX5_standsAsAlways_0 15 rfl rfl)
theorem dX5_standsAsAlways_16 : decode bcX5_standsAsAlways 16 = .ok (.iastore, 1) := dk_79 (dk_at dksX5_standsAsAlways_0 16 rfl rfl)
theorem dX5_standsAsAlways_17 : decode bcX5_standsAsAlways 17 = .ok (.iinc 2 1, 3) := dk_132 2 1 (dk_at dksX5_standsAsAlways_0 17 rfl rfl)
theorem dX5_standsAsAlways_20 : decode bcX5_standsAsAlways 20 = .ok (.goto (-18), 3) := dk_167 255 238 (dk_at dksX5_standsAsAlways_0 20 rfl rfl)
theorem dX5_standsAsAlways_23 : decode bcX5_standsAsAlways 23 = .ok (.aload_n 0, 1) := dk_42 (dk_at dksX5_standsAsAlways_0 23 rfl rfl)
theorem dX5_standsAsAlways_24 : decode bcX5_standsAsAlways 24 = .ok (.getfield 83, 3) := dk_180 0 83 (dk_at dksX5_standsAsAlways_1 0 rfl rfl)
theorem dX5_standsAsAlways_27 : decode bcX5_standsAsAlways 27 = .ok (.iload_n 1, 1) := dk_27 (dk_at dksX5_standsAsAlways_1 3 rfl rfl)
theorem dX5_standsAsAlways_28 : decode bcX5_standsAsAlways 28 = .ok (.iconst 3, 1) := dk_6 (dk_at dksX5_standsAsAlways_1 4 rfl rfl)
theorem dX5_standsAsAlways_29 : decode bcX5_standsAsAlways 29 = .ok (.iadd, 1) := dk_96 (dk_at dksX5_standsAsAlways_1 5 rfl rfl)
theorem dX5_standsAsAlways_30 : decode bcX5_standsAsAlways 30 = .ok (.iconst 1, 1) := dk_4 (dk_at dksX5_standsAsAlways_1 6 rfl rfl)
theorem dX5_standsAsAlways_31 : decode bcX5_standsAsAlways 31 = .ok (.iastore, 1) := dk_79 (dk_at dksX5_standsAsAlways_1 7 rfl rfl)
theorem dX5_standsAsAlways_32 : decode bcX5_standsAsAlways 32 = .ok (.aload_n 0, 1) := dk_42 (dk_at dksX5_standsAsAlways_1 8 rfl rfl)
theorem dX5_standsAsAlways_33 : decode bcX5_standsAsAlways 33 = .ok (.getfield 83, 3) := dk_180 0 83 (dk_at dksX5_standsAsAlways_1 9 rfl rfl)
theorem dX5_standsAsAlways_36 : decode bcX5_standsAsAlways 36 = .ok (.iload_n 1, 1) := dk_27 (dk_at dksX5_standsAsAlways_1 12 rfl rfl)
theorem dX5_standsAsAlways_37 : decode bcX5_standsAsAlways 37 = .ok (.iconst 4, 1) := dk_7 (dk_at dksX5_standsAsAlways_1 13 rfl rfl)
theorem dX5_standsAsAlways_38 : decode bcX5_standsAsAlways 38 = .ok (.iadd, 1) := dk_96 (dk_at dksX5_standsAsAlways_1 14 rfl rfl)
theorem dX5_standsAsAlways_39 : decode bcX5_standsAsAlways 39 = .ok (.iconst (-1), 1) := dk_2 (dk_at dksX5_standsAsAlways_1 15 rfl rfl)
theorem dX5_standsAsAlways_40 : decode bcX5_standsAsAlways 40 = .ok (.iastore, 1) := dk_79 (dk_at dksX5_standsAsAlways_1 16 rfl rfl)
theorem dX5_standsAsAlways_41 : decode bcX5_standsAsAlways 41 = .ok (.return_, 1) := dk_177 (dk_at dksX5_standsAsAlways_1 17 rfl rfl)
abbrev SX5_standsAsAlways (pc : Nat) (i : xI) : Prop := Snd "SwollenHouseModel" "standsAsAlways" prog_25_method_18_code 3 (Option.none : Option Jvm.ClassFile.FieldType) [] pc i
theorem oX5_standsAsAlways_0 : SX5_standsAsAlways 0 (i_const (.int (nI 0)) 1) := snd_iconst dX5_standsAsAlways_0 (by decide)
theorem oX5_standsAsAlways_1 : SX5_standsAsAlways 1 (i_istore 2 2) := snd_istore_n dX5_standsAsAlways_1 rfl (by decide)
theorem oX5_standsAsAlways_2 : SX5_standsAsAlways 2 (i_iload 2 3) := snd_iload_n dX5_standsAsAlways_2 rfl
theorem oX5_standsAsAlways_3 : SX5_standsAsAlways 3 (i_const (.int (nI 60)) 5) := snd_bipush dX5_standsAsAlways_3 (by decide)
theorem oX5_standsAsAlways_5 : SX5_standsAsAlways 5 (i_if2 (fun x y => y ≤ x) 23 8) := snd_icmp_ge dX5_standsAsAlways_5 (by decide)
theorem oX5_standsAsAlways_8 : SX5_standsAsAlways 8 (i_aload 0 9) := snd_aload_n dX5_standsAsAlways_8 rfl
theorem oX5_standsAsAlways_9 : SX5_standsAsAlways 9 (i_getf 4 10 12) := snd_getf dX5_standsAsAlways_9 rfl (by decide) in_X5 (Or.inl q1708) (Or.inl rfl) (by decide)
theorem oX5_standsAsAlways_12 : SX5_standsAsAlways 12 (i_iload 1 13) := snd_iload_n dX5_standsAsAlways_12 rfl
theorem oX5_standsAsAlways_13 : SX5_standsAsAlways 13 (i_iload 2 14) := snd_iload_n dX5_standsAsAlways_13 rfl
theorem oX5_standsAsAlways_14 : SX5_standsAsAlways 14 (i_ii (fun x y => x + y) 15) := snd_iadd dX5_standsAsAlways_14
theorem oX5_standsAsAlways_15 : SX5_standsAsAlways 15 (i_const (.int (nI 0)) 16) := snd_iconst dX5_standsAsAlways_15 (by decide)
theorem oX5_standsAsAlways_16 : SX5_standsAsAlways 16 (i_si (fun v => v) 0 17) := snd_si0 dX5_standsAsAlways_16
theorem oX5_standsAsAlways_17 : SX5_standsAsAlways 17 (i_iinc 2 (nI 1) 20) := snd_iinc dX5_standsAsAlways_17 (by decide) (by decide)
theorem oX5_standsAsAlways_20 : SX5_standsAsAlways 20 (i_goto 2) := snd_goto dX5_standsAsAlways_20 (by decide)
theorem oX5_standsAsAlways_23 : SX5_standsAsAlways 23 (i_aload 0 24) := snd_aload_n dX5_standsAsAlways_23 rfl
theorem oX5_standsAsAlways_24 : SX5_standsAsAlways 24 (i_getf 4 10 27) := snd_getf dX5_standsAsAlways_24 rfl (by decide) in_X5 (Or.inl q1708) (Or.inl rfl) (by decide)
theorem oX5_standsAsAlways_27 : SX5_standsAsAlways 27 (i_iload 1 28) := snd_iload_n dX5_standsAsAlways_27 rfl
theorem oX5_standsAsAlways_28 : SX5_standsAsAlways 28 (i_const (.int (nI 3)) 29) := snd_iconst dX5_standsAsAlways_28 (by decide)
theorem oX5_standsAsAlways_29 : SX5_standsAsAlways 29 (i_ii (fun x y => x + y) 30) := snd_iadd dX5_standsAsAlways_29
theorem oX5_standsAsAlways_30 : SX5_standsAsAlways 30 (i_const (.int (nI 1)) 31) := snd_iconst dX5_standsAsAlways_30 (by decide)
theorem oX5_standsAsAlways_31 : SX5_standsAsAlways 31 (i_si (fun v => v) 0 32) := snd_si0 dX5_standsAsAlways_31
theorem oX5_standsAsAlways_32 : SX5_standsAsAlways 32 (i_aload 0 33) := snd_aload_n dX5_standsAsAlways_32 rfl
theorem oX5_standsAsAlways_33 : SX5_standsAsAlways 33 (i_getf 4 10 36) := snd_getf dX5_standsAsAlways_33 rfl (by decide) in_X5 (Or.inl q1708) (Or.inl rfl) (by decide)
theorem oX5_standsAsAlways_36 : SX5_standsAsAlways 36 (i_iload 1 37) := snd_iload_n dX5_standsAsAlways_36 rfl
theorem oX5_standsAsAlways_37 : SX5_standsAsAlways 37 (i_const (.int (nI 4)) 38) := snd_iconst dX5_standsAsAlways_37 (by decide)
theorem oX5_standsAsAlways_38 : SX5_standsAsAlways 38 (i_ii (fun x y => x + y) 39) := snd_iadd dX5_standsAsAlways_38
theorem oX5_standsAsAlways_39 : SX5_standsAsAlways 39 (i_const (.int (-1)) 40) := snd_iconst dX5_standsAsAlways_39 (by decide)
theorem oX5_standsAsAlways_40 : SX5_standsAsAlways 40 (i_si (fun v => v) 0 41) := snd_si0 dX5_standsAsAlways_40
theorem oX5_standsAsAlways_41 : SX5_standsAsAlways 41 (i_vret) := snd_vret dX5_standsAsAlways_41 rfl
theorem okX5_standsAsAlways : ∀ q ∈ cX5_standsAsAlways, SX5_standsAsAlways q.1 q.2 := List.forall_mem_cons.mpr ⟨oX5_standsAsAlways_0, List.forall_mem_cons.mpr ⟨oX5_standsAsAlways_1, List.forall_mem_cons.mpr ⟨oX5_standsAsAlways_2, List.forall_mem_cons.mpr ⟨oX5_standsAsAlways_3, List.forall_mem_cons.mpr ⟨oX5_standsAsAlways_5, List.forall_mem_cons.mpr ⟨oX5_standsAsAlways_8, List.forall_mem_cons.mpr ⟨oX5_standsAsAlways_9, List.forall_mem_cons.mpr ⟨oX5_standsAsAlways_12, List.forall_mem_cons.mpr ⟨oX5_standsAsAlways_13, List.forall_mem_cons.mpr ⟨oX5_standsAsAlways_14, List.forall_mem_cons.mpr ⟨oX5_standsAsAlways_15, List.forall_mem_cons.mpr ⟨oX5_standsAsAlways_16, List.forall_mem_cons.mpr ⟨oX5_standsAsAlways_17, List.forall_mem_cons.mpr ⟨oX5_standsAsAlways_20, List.forall_mem_cons.mpr ⟨oX5_standsAsAlways_23, List.forall_mem_cons.mpr ⟨oX5_standsAsAlways_24, List.forall_mem_cons.mpr ⟨oX5_standsAsAlways_27, List.forall_mem_cons.mpr ⟨oX5_standsAsAlways_28, List.forall_mem_cons.mpr ⟨oX5_standsAsAlways_29, List.forall_mem_cons.mpr ⟨oX5_standsAsAlways_30, List.forall_mem_cons.mpr ⟨oX5_standsAsAlways_31, List.forall_mem_cons.mpr ⟨oX5_standsAsAlways_32, List.forall_mem_cons.mpr ⟨oX5_standsAsAlways_33, List.forall_mem_cons.mpr ⟨oX5_standsAsAlways_36, List.forall_mem_cons.mpr ⟨oX5_standsAsAlways_37, List.forall_mem_cons.mpr ⟨oX5_standsAsAlways_38, List.forall_mem_cons.mpr ⟨oX5_standsAsAlways_39, List.forall_mem_cons.mpr ⟨oX5_standsAsAlways_40, List.forall_mem_cons.mpr ⟨oX5_standsAsAlways_41, fun _ h => absurd h List.not_mem_nil⟩⟩⟩⟩⟩⟩⟩⟩⟩⟩⟩⟩⟩⟩⟩⟩⟩⟩⟩⟩⟩⟩⟩⟩⟩⟩⟩⟩⟩
def dkwX5_begins_2 : List UInt8 := [84, 132, 1, 1, 167, 255, 241, 177]
abbrev dktX5_begins_2 : List UInt8 := dkwX5_begins_2 ++ []
def dkwX5_begins_1 : List UInt8 := [180, 0, 104, 3, 3, 79, 42, 3, 181, 1, 29, 3, 60, 27, 7, 162, 0, 16, 42, 180, 0, 116, 27, 3]
abbrev dktX5_begins_1 : List UInt8 := dkwX5_begins_1 ++ dktX5_begins_2
def dkwX5_begins_0 : List UInt8 := [42, 3, 182, 1, 26, 42, 180, 0, 113, 16, 23, 3, 79, 42, 180, 0, 113, 16, 48, 3, 79, 42]
abbrev dktX5_begins_0 : List UInt8 := dkwX5_begins_0 ++ dktX5_begins_1
theorem dksX5_begins_0 : bcX5_begins.data.toList.drop 0 = dktX5_begins_0 := by decide +kernel
theorem dksX5_begins_1 : bcX5_begins.data.toList.drop 22 = dktX5_begins_1 := dk_seg dksX5_begins_0 22 rfl rfl
theorem dksX5_begins_2 : bcX5_begins.data.toList.drop 46 = dktX5_begins_2 := dk_seg dksX5_begins_1 24 rfl rfl
theorem dX5_begins_0 : decode bcX5_begins 0 = .ok (.aload_n 0, 1) := dk_42 (dk_at dksX5_begins_0 0 rfl rfl)
theorem dX5_begins_1 : decode bcX5_begins 1 = .ok (.iconst 0, 1) := dk_3 (dk_at dksX5_begins_0 1 rfl rfl)
theorem dX5_begins_2 : decode bcX5_begins 2 = .ok (.invokevirtual 282, 3) := dk_182 1 26 (dk_at dksX5_begins_0 2 rfl rfl)
theorem dX5_begins_5 : decode bcX5_begins 5 = .ok (.aload_n 0, 1) := dk_42 (dk_at dksX5_begins_0 5 rfl rfl)
theorem dX5_begins_6 : decode bcX5_begins 6 = .ok (.getfield 113, 3) := dk_180 0 113 (dk_at dksX5_begins_0 6 rfl rfl)
theorem dX5_begins_9 : decode bcX5_begins 9 = .ok (.bipush 23, 2) := dk_16 23 (dk_at dksX5_begins_0 9 rfl rfl)
theorem dX5_begins_11 : decode bcX5_begins 11 = .ok (.iconst 0, 1) := dk_3 (dk_at dksX5_begins_0 11 rfl rfl)
theorem dX5_begins_12 : decode bcX5_begins 12 = .ok (.iastore, 1) := dk_79 (dk_at dksX5_begins_0 12 rfl rfl)
theorem dX5_begins_13 : decode bcX5_begins 13 = .ok (.aload_n 0, 1) := dk_42 (dk_at dksX5_begins_0 13 rfl rfl)
theorem dX5_begins_14 : decode bcX5_begins 14 = .ok (.getfield 113, 3) := dk_180 0 113 (dk_at dksX5_begins_0 14 rfl rfl)
theorem dX5_begins_17 : decode bcX5_begins 17 = .ok (.bipush 48, 2) := dk_16 48 (dk_at dksX5_begins_0 17 rfl rfl)
theorem dX5_begins_19 : decode bcX5_begins 19 = .ok (.iconst 0, 1) := dk_3 (dk_at dksX5_begins_0 19 rfl rfl)
theorem dX5_begins_20 : decode bcX5_begins 20 = .ok (.iastore, 1) := dk_79 (dk_at dksX5_begins_0 20 rfl rfl)
theorem dX5_begins_21 : decode bcX5_begins 21 = .ok (.aload_n 0, 1) := dk_42 (dk_at dksX5_begins_0 21 rfl rfl)
theorem dX5_begins_22 : decode bcX5_begins 22 = .ok (.getfield 104, 3) := dk_180 0 104 (dk_at dksX5_begins_1 0 rfl rfl)
theorem dX5_begins_25 : decode bcX5_begins 25 = .ok (.iconst 0, 1) := dk_3 (dk_at dksX5_begins_1 3 rfl rfl)
theorem dX5_begins_26 : decode bcX5_begins 26 = .ok (.iconst 0, 1) := dk_3 (dk_at dksX5_begins_1 4 rfl rfl)
theorem dX5_begins_27 : decode bcX5_begins 27 = .ok (.iastore, 1) := dk_79 (dk_at dksX5_begins_1 5 rfl rfl)
theorem dX5_begins_28 : decode bcX5_begins 28 = .ok (.aload_n 0, 1) := dk_42 (dk_at dksX5_begins_1 6 rfl rfl)
theorem dX5_begins_29 : decode bcX5_begins 29 = .ok (.iconst 0, 1) := dk_3 (dk_at dksX5_begins_1 7 rfl rfl)
theorem dX5_begins_30 : decode bcX5_begins 30 = .ok (.putfield 285, 3) := dk_181 1 29 (dk_at dksX5_begins_1 8 rfl rfl)
theorem dX5_begins_33 : decode bcX5_begins 33 = .ok (.iconst 0, 1) := dk_3 (dk_at dksX5_begins_1 11 rfl rfl)
theorem dX5_begins_34 : decode bcX5_begins 34 = .ok (.istore_n 1, 1) := dk_60 (dk_at dksX5_begins_1 12 rfl rfl)
theorem dX5_begins_35 : decode bcX5_begins 35 = .ok (.iload_n 1, 1) := dk_27 (dk_at dksX5_begins_1 13 rfl rfl)
theorem dX5_begins_36 : decode bcX5_begins 36 = .ok (.iconst 4, 1) := dk_7 (dk_at dksX5_begins_1 14 rfl rfl)
theorem dX5_begins_37 : decode bcX5_begins 37 = .ok (.if_icmp .ge 16, 3) := dk_162 0 16 (dk_at dksX5_begins_1 15 rfl rfl)
theorem dX5_begins_40 : decode bcX5_begins 40 = .ok (.aload_n 0, 1) := dk_42 (dk_at dksX5_begins_1 18 rfl rfl)
theorem dX5_begins_41 : decode bcX5_begins 41 = .ok (.getfield 116, 3) := dk_180 0 116 (dk_at dksX5_begins_1 19 rfl rfl)
theorem dX5_begins_44 : decode bcX5_begins 44 = .ok (.iload_n 1, 1) := dk_27 (dk_at dksX5_begins_1 22 rfl rfl)
theorem dX5_begins_45 : decode bcX5_begins 45 = .ok (.iconst 0, 1) := dk_3 (dk_at dksX5_begins_1 23 rfl rfl)
theorem dX5_begins_46 : decode bcX5_begins 46 = .ok (.bastore, 1) := dk_84 (dk_at dksX5_begins_2 0 rfl rfl)
theorem dX5_begins_47 : decode bcX5_begins 47 = .ok (.iinc 1 1, 3) := dk_132 1 1 (dk_at dksX5_begins_2 1 rfl rfl)
theorem dX5_begins_50 : decode bcX5_begins 50 = .ok (.goto (-15), 3) := dk_167 255 241 (dk_at dksX5_begins_2 4 rfl rfl)
theorem dX5_begins_53 : decode bcX5_begins 53 = .ok (.return_, 1) := dk_177 (dk_at dksX5_begins_2 7 rfl rfl)
abbrev SX5_begins (pc : Nat) (i : xI) : Prop := Snd "SwollenHouseModel" "begins" prog_25_method_43_code 2 (Option.none : Option Jvm.ClassFile.FieldType) [] pc i
theorem oX5_begins_0 : SX5_begins 0 (i_aload 0 1) := snd_aload_n dX5_begins_0 rfl
theorem oX5_begins_1 : SX5_begins 1 (i_const (.int (nI 0)) 2) := snd_iconst dX5_begins_1 (by decide)
theorem oX5_begins_2 : SX5_begins 2 (i_cvv 4 249 1 5) := snd_cvv rfl infX5_starts (by decide) rfl (xVm_V dX5_begins_2 rfl q1682 q1684 qs59 q136 q1685 pdX5_starts)
theorem oX5_begins_5 : SX5_begins 5 (i_aload 0 6) := snd_aload_n dX5_begins_5 rfl
theorem oX5_begins_6 : SX5_begins 6 (i_getf 4 24 9) := snd_getf dX5_begins_6 rfl (by decide) in_X5 (Or.inl q1722) (Or.inl rfl) (by decide)
theorem oX5_begins_9 : SX5_begins 9 (i_const (.int (nI 23)) 11) := snd_bipush dX5_begins_9 (by decide)
theorem oX5_begins_11 : SX5_begins 11 (i_const (.int (nI 0)) 12) := snd_iconst dX5_begins_11 (by decide)
theorem oX5_begins_12 : SX5_begins 12 (i_si (fun v => v) 0 13) := snd_si0 dX5_begins_12
theorem oX5_begins_13 : SX5_begins 13 (i_aload 0 14) := snd_aload_n dX5_begins_13 rfl
theorem oX5_begins_14 : SX5_begins 14 (i_getf 4 24 17) := snd_getf dX5_begins_14 rfl (by decide) in_X5 (Or.inl q1722) (Or.inl rfl) (by decide)
theorem oX5_begins_17 : SX5_begins 17 (i_const (.int (nI 48)) 19) := snd_bipush dX5_begins_17 (by decide)
theorem oX5_begins_19 : SX5_begins 19 (i_const (.int (nI 0)) 20) := snd_iconst dX5_begins_19 (by decide)
theorem oX5_begins_20 : SX5_begins 20 (i_si (fun v => v) 0 21) := snd_si0 dX5_begins_20
theorem oX5_begins_21 : SX5_begins 21 (i_aload 0 22) := snd_aload_n dX5_begins_21 rfl
theorem oX5_begins_22 : SX5_begins 22 (i_getf 4 21 25) := snd_getf dX5_begins_22 rfl (by decide) in_X5 (Or.inl q1719) (Or.inl rfl) (by decide)
theorem oX5_begins_25 : SX5_begins 25 (i_const (.int (nI 0)) 26) := snd_iconst dX5_begins_25 (by decide)
theorem oX5_begins_26 : SX5_begins 26 (i_const (.int (nI 0)) 27) := snd_iconst dX5_begins_26 (by decide)
theorem oX5_begins_27 : SX5_begins 27 (i_si (fun v => v) 0 28) := snd_si0 dX5_begins_27
theorem oX5_begins_28 : SX5_begins 28 (i_aload 0 29) := snd_aload_n dX5_begins_28 rfl
theorem oX5_begins_29 : SX5_begins 29 (i_const (.int (nI 0)) 30) := snd_iconst dX5_begins_29 (by decide)
theorem oX5_begins_30 : SX5_begins 30 (i_putfi 4 25 33) := snd_putfi dX5_begins_30 rfl (by decide) in_X5 tyX5 tyX5_ok nmX5 (Or.inl ⟨rfl, q1723⟩) (Or.inl rfl) rfl
theorem oX5_begins_33 : SX5_begins 33 (i_const (.int (nI 0)) 34) := snd_iconst dX5_begins_33 (by decide)
theorem oX5_begins_34 : SX5_begins 34 (i_istore 1 35) := snd_istore_n dX5_begins_34 rfl (by decide)
theorem oX5_begins_35 : SX5_begins 35 (i_iload 1 36) := snd_iload_n dX5_begins_35 rfl
theorem oX5_begins_36 : SX5_begins 36 (i_const (.int (nI 4)) 37) := snd_iconst dX5_begins_36 (by decide)
theorem oX5_begins_37 : SX5_begins 37 (i_if2 (fun x y => y ≤ x) 53 40) := snd_icmp_ge dX5_begins_37 (by decide)
theorem oX5_begins_40 : SX5_begins 40 (i_aload 0 41) := snd_aload_n dX5_begins_40 rfl
theorem oX5_begins_41 : SX5_begins 41 (i_getf 4 26 44) := snd_getf dX5_begins_41 rfl (by decide) in_X5 (Or.inl q1724) (Or.inl rfl) (by decide)
theorem oX5_begins_44 : SX5_begins 44 (i_iload 1 45) := snd_iload_n dX5_begins_44 rfl
theorem oX5_begins_45 : SX5_begins 45 (i_const (.int (nI 0)) 46) := snd_iconst dX5_begins_45 (by decide)
theorem oX5_begins_46 : SX5_begins 46 (i_si (fun v => vp_nar .boolean v) 2 47) := snd_si2 dX5_begins_46
theorem oX5_begins_47 : SX5_begins 47 (i_iinc 1 (nI 1) 50) := snd_iinc dX5_begins_47 (by decide) (by decide)
theorem oX5_begins_50 : SX5_begins 50 (i_goto 35) := snd_goto dX5_begins_50 (by decide)
theorem oX5_begins_53 : SX5_begins 53 (i_vret) := snd_vret dX5_begins_53 rfl
theorem okX5_begins : ∀ q ∈ cX5_begins, SX5_begins q.1 q.2 := List.forall_mem_cons.mpr ⟨oX5_begins_0, List.forall_mem_cons.mpr ⟨oX5_begins_1, List.forall_mem_cons.mpr ⟨oX5_begins_2, List.forall_mem_cons.mpr ⟨oX5_begins_5, List.forall_mem_cons.mpr ⟨oX5_begins_6, List.forall_mem_cons.mpr ⟨oX5_begins_9, List.forall_mem_cons.mpr ⟨oX5_begins_11, List.forall_mem_cons.mpr ⟨oX5_begins_12, List.forall_mem_cons.mpr ⟨oX5_begins_13, List.forall_mem_cons.mpr ⟨oX5_begins_14, List.forall_mem_cons.mpr ⟨oX5_begins_17, List.forall_mem_cons.mpr ⟨oX5_begins_19, List.forall_mem_cons.mpr ⟨oX5_begins_20, List.forall_mem_cons.mpr ⟨oX5_begins_21, List.forall_mem_cons.mpr ⟨oX5_begins_22, List.forall_mem_cons.mpr ⟨oX5_begins_25, List.forall_mem_cons.mpr ⟨oX5_begins_26, List.forall_mem_cons.mpr ⟨oX5_begins_27, List.forall_mem_cons.mpr ⟨oX5_begins_28, List.forall_mem_cons.mpr ⟨oX5_begins_29, List.forall_mem_cons.mpr ⟨oX5_begins_30, List.forall_mem_cons.mpr ⟨oX5_begins_33, List.forall_mem_cons.mpr ⟨oX5_begins_34, List.forall_mem_cons.mpr ⟨oX5_begins_35, List.forall_mem_cons.mpr ⟨oX5_begins_36, List.forall_mem_cons.mpr ⟨oX5_begins_37, List.forall_mem_cons.mpr ⟨oX5_begins_40, List.forall_mem_cons.mpr ⟨oX5_begins_41, List.forall_mem_cons.mpr ⟨oX5_begins_44, List.forall_mem_cons.mpr ⟨oX5_begins_45, List.forall_mem_cons.mpr ⟨oX5_begins_46, List.forall_mem_cons.mpr ⟨oX5_begins_47, List.forall_mem_cons.mpr ⟨oX5_begins_50, List.forall_mem_cons.mpr ⟨oX5_begins_53, fun _ h => absurd h List.not_mem_nil⟩⟩⟩⟩⟩⟩⟩⟩⟩⟩⟩⟩⟩⟩⟩⟩⟩⟩⟩⟩⟩⟩⟩⟩⟩⟩⟩⟩⟩⟩⟩⟩⟩⟩
def dkwX5_starts_3 : List UInt8 := [96, 28, 96, 42, 180, 0, 83, 16, 37, 28, 96, 46, 79, 132, 2, 1, 167, 255, 225, 177]
abbrev dktX5_starts_3 : List UInt8 := dkwX5_starts_3 ++ []
def dkwX5_starts_2 : List UInt8 := [79, 132, 2, 1, 167, 255, 229, 3, 61, 28, 42, 182, 1, 23, 162, 0, 29, 42, 180, 0, 113, 27, 16, 18]
abbrev dktX5_starts_2 : List UInt8 := dkwX5_starts_2 ++ dktX5_starts_3
def dkwX5_starts_1 : List UInt8 := [61, 28, 42, 182, 1, 16, 162, 0, 25, 42, 180, 0, 113, 27, 5, 96, 28, 96, 42, 28, 6, 182, 1, 20]
abbrev dktX5_starts_1 : List UInt8 := dkwX5_starts_1 ++ dktX5_starts_2
def dkwX5_starts_0 : List UInt8 := [3, 61, 28, 16, 23, 162, 0, 18, 42, 180, 0, 113, 27, 28, 96, 3, 79, 132, 2, 1, 167, 255, 238, 3]
abbrev dktX5_starts_0 : List UInt8 := dkwX5_starts_0 ++ dktX5_starts_1
theorem dksX5_starts_0 : bcX5_starts.data.toList.drop 0 = dktX5_starts_0 := by decide +kernel
theorem dksX5_starts_1 : bcX5_starts.data.toList.drop 24 = dktX5_starts_1 := dk_seg dksX5_starts_0 24 rfl rfl
theorem dksX5_starts_2 : bcX5_starts.data.toList.drop 48 = dktX5_starts_2 := dk_seg dksX5_starts_1 24 rfl rfl
theorem dksX5_starts_3 : bcX5_starts.data.toList.drop 72 = dktX5_starts_3 := dk_seg dksX5_starts_2 24 rfl rfl
theorem dX5_starts_0 : decode bcX5_starts 0 = .ok (.iconst 0, 1) := dk_3 (dk_at dksX5_starts_0 0 rfl rfl)
theorem dX5_starts_1 : decode bcX5_starts 1 = .ok (.istore_n 2, 1) := dk_61 (dk_at dksX5_starts_0 1 rfl rfl)
theorem dX5_starts_2 : decode bcX5_starts 2 = .ok (.iload_n 2, 1) := dk_28 (dk_at dksX5_starts_0 2 rfl rfl)
theorem dX5_starts_3 : decode bcX5_starts 3 = .ok (.bipush 23, 2) := dk_16 23 (dk_at dksX5_starts_0 3 rfl rfl)
theorem dX5_starts_5 : decode bcX5_starts 5 = .ok (.if_icmp .ge 18, 3) := dk_162 0 18 (dk_at dksX5_starts_0 5 rfl rfl)
theorem dX5_starts_8 : decode bcX5_starts 8 = .ok (.aload_n 0, 1) := dk_42 (dk_at dksX5_starts_0 8 rfl rfl)
theorem dX5_starts_9 : decode bcX5_starts 9 = .ok (.getfield 113, 3) := dk_180 0 113 (dk_at dksX5_starts_0 9 rfl rfl)
theorem dX5_starts_12 : decode bcX5_starts 12 = .ok (.iload_n 1, 1) := dk_27 (dk_at dksX5_starts_0 12 rfl rfl)
theorem dX5_starts_13 : decode bcX5_starts 13 = .ok (.iload_n 2, 1) := dk_28 (dk_at dksX5_starts_0 13 rfl rfl)
theorem dX5_starts_14 : decode bcX5_starts 14 = .ok (.iadd, 1) := dk_96 (dk_at dksX5_starts_0 14 rfl rfl)
theorem dX5_starts_15 : decode bcX5_starts 15 = .ok (.iconst 0, 1) := dk_3 (dk_at dksX5_starts_0 15 rfl rfl)
theorem dX5_starts_16 : decode bcX5_starts 16 = .ok (.iastore, 1) := dk_79 (dk_at dksX5_starts_0 16 rfl rfl)
theorem dX5_starts_17 : decode bcX5_starts 17 = .ok (.iinc 2 1, 3) := dk_132 2 1 (dk_at dksX5_starts_0 17 rfl rfl)
theorem dX5_starts_20 : decode bcX5_starts 20 = .ok (.goto (-18), 3) := dk_167 255 238 (dk_at dksX5_starts_0 20 rfl rfl)
theorem dX5_starts_23 : decode bcX5_starts 23 = .ok (.iconst 0, 1) := dk_3 (dk_at dksX5_starts_0 23 rfl rfl)
theorem dX5_starts_24 : decode bcX5_starts 24 = .ok (.istore_n 2, 1) := dk_61 (dk_at dksX5_starts_1 0 rfl rfl)
theorem dX5_starts_25 : decode bcX5_starts 25 = .ok (.iload_n 2, 1) := dk_28 (dk_at dksX5_starts_1 1 rfl rfl)
theorem dX5_starts_26 : decode bcX5_starts 26 = .ok (.aload_n 0, 1) := dk_42 (dk_at dksX5_starts_1 2 rfl rfl)
theorem dX5_starts_27 : decode bcX5_starts 27 = .ok (.invokevirtual 272, 3) := dk_182 1 16 (dk_at dksX5_starts_1 3 rfl rfl)
theorem dX5_starts_30 : decode bcX5_starts 30 = .ok (.if_icmp .ge 25, 3) := dk_162 0 25 (dk_at dksX5_starts_1 6 rfl rfl)
theorem dX5_starts_33 : decode bcX5_starts 33 = .ok (.aload_n 0, 1) := dk_42 (dk_at dksX5_starts_1 9 rfl rfl)
theorem dX5_starts_34 : decode bcX5_starts 34 = .ok (.getfield 113, 3) := dk_180 0 113 (dk_at dksX5_starts_1 10 rfl rfl)
theorem dX5_starts_37 : decode bcX5_starts 37 = .ok (.iload_n 1, 1) := dk_27 (dk_at dksX5_starts_1 13 rfl rfl)
theorem dX5_starts_38 : decode bcX5_starts 38 = .ok (.iconst 2, 1) := dk_5 (dk_at dksX5_starts_1 14 rfl rfl)
theorem dX5_starts_39 : decode bcX5_starts 39 = .ok (.iadd, 1) := dk_96 (dk_at dksX5_starts_1 15 rfl rfl)
theorem dX5_starts_40 : decode bcX5_starts 40 = .ok (.iload_n 2, 1) := dk_28 (dk_at dksX5_starts_1 16 rfl rfl)
theorem dX5_starts_41 : decode bcX5_starts 41 = .ok (.iadd, 1) := dk_96 (dk_at dksX5_starts_1 17 rfl rfl)
theorem dX5_starts_42 : decode bcX5_starts 42 = .ok (.aload_n 0, 1) := dk_42 (dk_at dksX5_starts_1 18 rfl rfl)
theorem dX5_starts_43 : decode bcX5_starts 43 = .ok (.iload_n 2, 1) := dk_28 (dk_at dksX5_starts_1 19 rfl rfl)
theorem dX5_starts_44 : decode bcX5_starts 44 = .ok (.iconst 3, 1) := dk_6 (dk_at dksX5_starts_1 20 rfl rfl)
theorem dX5_starts_45 : decode bcX5_starts 45 = .ok (.invokevirtual 276, 3) := dk_182 1 20 (dk_at dksX5_starts_1 21 rfl rfl)
theorem dX5_starts_48 : decode bcX5_starts 48 = .ok (.iastore, 1) := dk_79 (dk_at dksX5_starts_2 0 rfl rfl)
theorem dX5_starts_49 : decode bcX5_starts 49 = .ok (.iinc 2 1, 3) := dk_132 2 1 (dk_at dksX5_starts_2 1 rfl rfl)
theorem dX5_starts_52 : decode bcX5_starts 52 = .ok (.goto (-27), 3) := dk_167 255 229 (dk_at dksX5_starts_2 4 rfl rfl)
theorem dX5_starts_55 : decode bcX5_starts 55 = .ok (.iconst 0, 1) := dk_3 (dk_at dksX5_starts_2 7 rfl rfl)
theorem dX5_starts_56 : decode bcX5_starts 56 = .ok (.istore_n 2, 1) := dk_61 (dk_at dksX5_starts_2 8 rfl rfl)
theorem dX5_starts_57 : decode bcX5_starts 57 = .ok (.iload_n 2, 1) := dk_28 (dk_at dksX5_starts_2 9 rfl rfl)
theorem dX5_starts_58 : decode bcX5_starts 58 = .ok (.aload_n 0, 1) := dk_42 (dk_at dksX5_starts_2 10 rfl rfl)
theorem dX5_starts_59 : decode bcX5_starts 59 = .ok (.invokevirtual 279, 3) := dk_182 1 23 (dk_at dksX5_starts_2 11 rfl rfl)
theorem dX5_starts_62 : decode bcX5_starts 62 = .ok (.if_icmp .ge 29, 3) := dk_162 0 29 (dk_at dksX5_starts_2 14 rfl rfl)
theorem dX5_starts_65 : decode bcX5_starts 65 = .ok (.aload_n 0, 1) := dk_42 (dk_at dksX5_starts_2 17 rfl rfl)
theorem dX5_starts_66 : decode bcX5_starts 66 = .ok (.getfield 113, 3) := dk_180 0 113 (dk_at dksX5_starts_2 18 rfl rfl)
theorem dX5_starts_69 : decode bcX5_starts 69 = .ok (.iload_n 1, 1) := dk_27 (dk_at dksX5_starts_2 21 rfl rfl)
theorem dX5_starts_70 : decode bcX5_starts 70 = .ok (.bipush 18, 2) := dk_16 18 (dk_at dksX5_starts_2 22 rfl rfl)
theorem dX5_starts_72 : decode bcX5_starts 72 = .ok (.iadd, 1) := dk_96 (dk_at dksX5_starts_3 0 rfl rfl)
theorem dX5_starts_73 : decode bcX5_starts 73 = .ok (.iload_n 2, 1) := dk_28 (dk_at dksX5_starts_3 1 rfl rfl)
theorem dX5_starts_74 : decode bcX5_starts 74 = .ok (.iadd, 1) := dk_96 (dk_at dksX5_starts_3 2 rfl rfl)
theorem dX5_starts_75 : decode bcX5_starts 75 = .ok (.aload_n 0, 1) := dk_42 (dk_at dksX5_starts_3 3 rfl rfl)
theorem dX5_starts_76 : decode bcX5_starts 76 = .ok (.getfield 83, 3) := dk_180 0 83 (dk_at dksX5_starts_3 4 rfl rfl)
theorem dX5_starts_79 : decode bcX5_starts 79 = .ok (.bipush 37, 2) := dk_16 37 (dk_at dksX5_starts_3 7 rfl rfl)
theorem dX5_starts_81 : decode bcX5_starts 81 = .ok (.iload_n 2, 1) := dk_28 (dk_at dksX5_starts_3 9 rfl rfl)
theorem dX5_starts_82 : decode bcX5_starts 82 = .ok (.iadd, 1) := dk_96 (dk_at dksX5_starts_3 10 rfl rfl)
theorem dX5_starts_83 : decode bcX5_starts 83 = .ok (.iaload, 1) := dk_46 (dk_at dksX5_starts_3 11 rfl rfl)
theorem dX5_starts_84 : decode bcX5_starts 84 = .ok (.iastore, 1) := dk_79 (dk_at dksX5_starts_3 12 rfl rfl)
theorem dX5_starts_85 : decode bcX5_starts 85 = .ok (.iinc 2 1, 3) := dk_132 2 1 (dk_at dksX5_starts_3 13 rfl rfl)
theorem dX5_starts_88 : decode bcX5_starts 88 = .ok (.goto (-31), 3) := dk_167 255 225 (dk_at dksX5_starts_3 16 rfl rfl)
theorem dX5_starts_91 : decode bcX5_starts 91 = .ok (.return_, 1) := dk_177 (dk_at dksX5_starts_3 19 rfl rfl)
abbrev SX5_starts (pc : Nat) (i : xI) : Prop := Snd "SwollenHouseModel" "starts" prog_25_method_42_code 3 (Option.none : Option Jvm.ClassFile.FieldType) [] pc i
theorem oX5_starts_0 : SX5_starts 0 (i_const (.int (nI 0)) 1) := snd_iconst dX5_starts_0 (by decide)
theorem oX5_starts_1 : SX5_starts 1 (i_istore 2 2) := snd_istore_n dX5_starts_1 rfl (by decide)
theorem oX5_starts_2 : SX5_starts 2 (i_iload 2 3) := snd_iload_n dX5_starts_2 rfl
theorem oX5_starts_3 : SX5_starts 3 (i_const (.int (nI 23)) 5) := snd_bipush dX5_starts_3 (by decide)
theorem oX5_starts_5 : SX5_starts 5 (i_if2 (fun x y => y ≤ x) 23 8) := snd_icmp_ge dX5_starts_5 (by decide)
theorem oX5_starts_8 : SX5_starts 8 (i_aload 0 9) := snd_aload_n dX5_starts_8 rfl
theorem oX5_starts_9 : SX5_starts 9 (i_getf 4 24 12) := snd_getf dX5_starts_9 rfl (by decide) in_X5 (Or.inl q1722) (Or.inl rfl) (by decide)
theorem oX5_starts_12 : SX5_starts 12 (i_iload 1 13) := snd_iload_n dX5_starts_12 rfl
theorem oX5_starts_13 : SX5_starts 13 (i_iload 2 14) := snd_iload_n dX5_starts_13 rfl
theorem oX5_starts_14 : SX5_starts 14 (i_ii (fun x y => x + y) 15) := snd_iadd dX5_starts_14
theorem oX5_starts_15 : SX5_starts 15 (i_const (.int (nI 0)) 16) := snd_iconst dX5_starts_15 (by decide)
theorem oX5_starts_16 : SX5_starts 16 (i_si (fun v => v) 0 17) := snd_si0 dX5_starts_16
theorem oX5_starts_17 : SX5_starts 17 (i_iinc 2 (nI 1) 20) := snd_iinc dX5_starts_17 (by decide) (by decide)
theorem oX5_starts_20 : SX5_starts 20 (i_goto 2) := snd_goto dX5_starts_20 (by decide)
theorem oX5_starts_23 : SX5_starts 23 (i_const (.int (nI 0)) 24) := snd_iconst dX5_starts_23 (by decide)
theorem oX5_starts_24 : SX5_starts 24 (i_istore 2 25) := snd_istore_n dX5_starts_24 rfl (by decide)
theorem oX5_starts_25 : SX5_starts 25 (i_iload 2 26) := snd_iload_n dX5_starts_25 rfl
theorem oX5_starts_26 : SX5_starts 26 (i_aload 0 27) := snd_aload_n dX5_starts_26 rfl
theorem oX5_starts_27 : SX5_starts 27 (i_cv 4 250 0 30) := snd_cv rfl infX5_doors (by decide) rfl (xVm_V dX5_starts_27 rfl q1686 q1688 qs60 q136 q1689 pdX5_doors)
theorem oX5_starts_30 : SX5_starts 30 (i_if2 (fun x y => y ≤ x) 55 33) := snd_icmp_ge dX5_starts_30 (by decide)
theorem oX5_starts_33 : SX5_starts 33 (i_aload 0 34) := snd_aload_n dX5_starts_33 rfl
theorem oX5_starts_34 : SX5_starts 34 (i_getf 4 24 37) := snd_getf dX5_starts_34 rfl (by decide) in_X5 (Or.inl q1722) (Or.inl rfl) (by decide)
theorem oX5_starts_37 : SX5_starts 37 (i_iload 1 38) := snd_iload_n dX5_starts_37 rfl
theorem oX5_starts_38 : SX5_starts 38 (i_const (.int (nI 2)) 39) := snd_iconst dX5_starts_38 (by decide)
theorem oX5_starts_39 : SX5_starts 39 (i_ii (fun x y => x + y) 40) := snd_iadd dX5_starts_39
theorem oX5_starts_40 : SX5_starts 40 (i_iload 2 41) := snd_iload_n dX5_starts_40 rfl
theorem oX5_starts_41 : SX5_starts 41 (i_ii (fun x y => x + y) 42) := snd_iadd dX5_starts_41
theorem oX5_starts_42 : SX5_starts 42 (i_aload 0 43) := snd_aload_n dX5_starts_42 rfl
theorem oX5_starts_43 : SX5_starts 43 (i_iload 2 44) := snd_iload_n dX5_starts_43 rfl
theorem oX5_starts_44 : SX5_starts 44 (i_const (.int (nI 3)) 45) := snd_iconst dX5_starts_44 (by decide)
theorem oX5_starts_45 : SX5_starts 45 (i_cv 4 251 2 48) := snd_cv rfl infX5_doorOf (by decide) rfl (xVm_V dX5_starts_45 rfl q1690 q1692 qs61 q136 q1693 pdX5_doorOf)
theorem oX5_starts_48 : SX5_starts 48 (i_si (fun v => v) 0 49) := snd_si0 dX5_starts_48
theorem oX5_starts_49 : SX5_starts 49 (i_iinc 2 (nI 1) 52) := snd_iinc dX5_starts_49 (by decide) (by decide)
theorem oX5_starts_52 : SX5_starts 52 (i_goto 25) := snd_goto dX5_starts_52 (by decide)
theorem oX5_starts_55 : SX5_starts 55 (i_const (.int (nI 0)) 56) := snd_iconst dX5_starts_55 (by decide)
theorem oX5_starts_56 : SX5_starts 56 (i_istore 2 57) := snd_istore_n dX5_starts_56 rfl (by decide)
theorem oX5_starts_57 : SX5_starts 57 (i_iload 2 58) := snd_iload_n dX5_starts_57 rfl
theorem oX5_starts_58 : SX5_starts 58 (i_aload 0 59) := snd_aload_n dX5_starts_58 rfl
theorem oX5_starts_59 : SX5_starts 59 (i_cv 4 252 0 62) := snd_cv rfl infX5_persons (by decide) rfl (xVm_V dX5_starts_59 rfl q1694 q1696 qs62 q136 q1697 pdX5_persons)
theorem oX5_starts_62 : SX5_starts 62 (i_if2 (fun x y => y ≤ x) 91 65) := snd_icmp_ge dX5_starts_62 (by decide)
theorem oX5_starts_65 : SX5_starts 65 (i_aload 0 66) := snd_aload_n dX5_starts_65 rfl
theorem oX5_starts_66 : SX5_starts 66 (i_getf 4 24 69) := snd_getf dX5_starts_66 rfl (by decide) in_X5 (Or.inl q1722) (Or.inl rfl) (by decide)
theorem oX5_starts_69 : SX5_starts 69 (i_iload 1 70) := snd_iload_n dX5_starts_69 rfl
theorem oX5_starts_70 : SX5_starts 70 (i_const (.int (nI 18)) 72) := snd_bipush dX5_starts_70 (by decide)
theorem oX5_starts_72 : SX5_starts 72 (i_ii (fun x y => x + y) 73) := snd_iadd dX5_starts_72
theorem oX5_starts_73 : SX5_starts 73 (i_iload 2 74) := snd_iload_n dX5_starts_73 rfl
theorem oX5_starts_74 : SX5_starts 74 (i_ii (fun x y => x + y) 75) := snd_iadd dX5_starts_74
theorem oX5_starts_75 : SX5_starts 75 (i_aload 0 76) := snd_aload_n dX5_starts_75 rfl
theorem oX5_starts_76 : SX5_starts 76 (i_getf 4 10 79) := snd_getf dX5_starts_76 rfl (by decide) in_X5 (Or.inl q1708) (Or.inl rfl) (by decide)
theorem oX5_starts_79 : SX5_starts 79 (i_const (.int (nI 37)) 81) := snd_bipush dX5_starts_79 (by decide)
theorem oX5_starts_81 : SX5_starts 81 (i_iload 2 82) := snd_iload_n dX5_starts_81 rfl
theorem oX5_starts_82 : SX5_starts 82 (i_ii (fun x y => x + y) 83) := snd_iadd dX5_starts_82
theorem oX5_starts_83 : SX5_starts 83 (i_ai 0 84) := snd_ai0 dX5_starts_83
theorem oX5_starts_84 : SX5_starts 84 (i_si (fun v => v) 0 85) := snd_si0 dX5_starts_84
theorem oX5_starts_85 : SX5_starts 85 (i_iinc 2 (nI 1) 88) := snd_iinc dX5_starts_85 (by decide) (by decide)
theorem oX5_starts_88 : SX5_starts 88 (i_goto 57) := snd_goto dX5_starts_88 (by decide)
theorem oX5_starts_91 : SX5_starts 91 (i_vret) := snd_vret dX5_starts_91 rfl
theorem okX5_starts : ∀ q ∈ cX5_starts, SX5_starts q.1 q.2 := List.forall_mem_cons.mpr ⟨oX5_starts_0, List.forall_mem_cons.mpr ⟨oX5_starts_1, List.forall_mem_cons.mpr ⟨oX5_starts_2, List.forall_mem_cons.mpr ⟨oX5_starts_3, List.forall_mem_cons.mpr ⟨oX5_starts_5, List.forall_mem_cons.mpr ⟨oX5_starts_8, List.forall_mem_cons.mpr ⟨oX5_starts_9, List.forall_mem_cons.mpr ⟨oX5_starts_12, List.forall_mem_cons.mpr ⟨oX5_starts_13, List.forall_mem_cons.mpr ⟨oX5_starts_14, List.forall_mem_cons.mpr ⟨oX5_starts_15, List.forall_mem_cons.mpr ⟨oX5_starts_16, List.forall_mem_cons.mpr ⟨oX5_starts_17, List.forall_mem_cons.mpr ⟨oX5_starts_20, List.forall_mem_cons.mpr ⟨oX5_starts_23, List.forall_mem_cons.mpr ⟨oX5_starts_24, List.forall_mem_cons.mpr ⟨oX5_starts_25, List.forall_mem_cons.mpr ⟨oX5_starts_26, List.forall_mem_cons.mpr ⟨oX5_starts_27, List.forall_mem_cons.mpr ⟨oX5_starts_30, List.forall_mem_cons.mpr ⟨oX5_starts_33, List.forall_mem_cons.mpr ⟨oX5_starts_34, List.forall_mem_cons.mpr ⟨oX5_starts_37, List.forall_mem_cons.mpr ⟨oX5_starts_38, List.forall_mem_cons.mpr ⟨oX5_starts_39, List.forall_mem_cons.mpr ⟨oX5_starts_40, List.forall_mem_cons.mpr ⟨oX5_starts_41, List.forall_mem_cons.mpr ⟨oX5_starts_42, List.forall_mem_cons.mpr ⟨oX5_starts_43, List.forall_mem_cons.mpr ⟨oX5_starts_44, List.forall_mem_cons.mpr ⟨oX5_starts_45, List.forall_mem_cons.mpr ⟨oX5_starts_48, List.forall_mem_cons.mpr ⟨oX5_starts_49, List.forall_mem_cons.mpr ⟨oX5_starts_52, List.forall_mem_cons.mpr ⟨oX5_starts_55, List.forall_mem_cons.mpr ⟨oX5_starts_56, List.forall_mem_cons.mpr ⟨oX5_starts_57, List.forall_mem_cons.mpr ⟨oX5_starts_58, List.forall_mem_cons.mpr ⟨oX5_starts_59, List.forall_mem_cons.mpr ⟨oX5_starts_62, List.forall_mem_cons.mpr ⟨oX5_starts_65, List.forall_mem_cons.mpr ⟨oX5_starts_66, List.forall_mem_cons.mpr ⟨oX5_starts_69, List.forall_mem_cons.mpr ⟨oX5_starts_70, List.forall_mem_cons.mpr ⟨oX5_starts_72, List.forall_mem_cons.mpr ⟨oX5_starts_73, List.forall_mem_cons.mpr ⟨oX5_starts_74, List.forall_mem_cons.mpr ⟨oX5_starts_75, List.forall_mem_cons.mpr ⟨oX5_starts_76, List.forall_mem_cons.mpr ⟨oX5_starts_79, List.forall_mem_cons.mpr ⟨oX5_starts_81, List.forall_mem_cons.mpr ⟨oX5_starts_82, List.forall_mem_cons.mpr ⟨oX5_starts_83, List.forall_mem_cons.mpr ⟨oX5_starts_84, List.forall_mem_cons.mpr ⟨oX5_starts_85, List.forall_mem_cons.mpr ⟨oX5_starts_88, List.forall_mem_cons.mpr ⟨oX5_starts_91, fun _ h => absurd h List.not_mem_nil⟩⟩⟩⟩⟩⟩⟩⟩⟩⟩⟩⟩⟩⟩⟩⟩⟩⟩⟩⟩⟩⟩⟩⟩⟩⟩⟩⟩⟩⟩⟩⟩⟩⟩⟩⟩⟩⟩⟩⟩⟩⟩⟩⟩⟩⟩⟩⟩⟩⟩⟩⟩⟩⟩⟩⟩⟩
def dkwX5_doors_0 : List UInt8 := [42, 180, 0, 83, 4, 46, 172]
abbrev dktX5_doors_0 : List UInt8 := dkwX5_doors_0 ++ []
theorem dksX5_doors_0 : bcX5_doors.data.toList.drop 0 = dktX5_doors_0 := by decide +kernel
theorem dX5_doors_0 : decode bcX5_doors 0 = .ok (.aload_n 0, 1) := dk_42 (dk_at dksX5_doors_0 0 rfl rfl)
theorem dX5_doors_1 : decode bcX5_doors 1 = .ok (.getfield 83, 3) := dk_180 0 83 (dk_at dksX5_doors_0 1 rfl rfl)
theorem dX5_doors_4 : decode bcX5_doors 4 = .ok (.iconst 1, 1) := dk_4 (dk_at dksX5_doors_0 4 rfl rfl)
theorem dX5_doors_5 : decode bcX5_doors 5 = .ok (.iaload, 1) := dk_46 (dk_at dksX5_doors_0 5 rfl rfl)
theorem dX5_doors_6 : decode bcX5_doors 6 = .ok (.ireturn, 1) := dk_172 (dk_at dksX5_doors_0 6 rfl rfl)
abbrev SX5_doors (pc : Nat) (i : xI) : Prop := Snd "SwollenHouseModel" "doors" prog_25_method_46_code 1 (Option.some Jvm.ClassFile.FieldType.int) [] pc i
theorem oX5_doors_0 : SX5_doors 0 (i_aload 0 1) := snd_aload_n dX5_doors_0 rfl
theorem oX5_doors_1 : SX5_doors 1 (i_getf 4 10 4) := snd_getf dX5_doors_1 rfl (by decide) in_X5 (Or.inl q1708) (Or.inl rfl) (by decide)
theorem oX5_doors_4 : SX5_doors 4 (i_const (.int (nI 1)) 5) := snd_iconst dX5_doors_4 (by decide)
theorem oX5_doors_5 : SX5_doors 5 (i_ai 0 6) := snd_ai0 dX5_doors_5
theorem oX5_doors_6 : SX5_doors 6 (i_iret) := snd_iret dX5_doors_6 rfl
theorem okX5_doors : ∀ q ∈ cX5_doors, SX5_doors q.1 q.2 := List.forall_mem_cons.mpr ⟨oX5_doors_0, List.forall_mem_cons.mpr ⟨oX5_doors_1, List.forall_mem_cons.mpr ⟨oX5_doors_4, List.forall_mem_cons.mpr ⟨oX5_doors_5, List.forall_mem_cons.mpr ⟨oX5_doors_6, fun _ h => absurd h List.not_mem_nil⟩⟩⟩⟩⟩
def dkwX5_doorOf_0 : List UInt8 := [42, 180, 0, 83, 8, 7, 27, 104, 96, 28, 96, 46, 172]
abbrev dktX5_doorOf_0 : List UInt8 := dkwX5_doorOf_0 ++ []
theorem dksX5_doorOf_0 : bcX5_doorOf.data.toList.drop 0 = dktX5_doorOf_0 := by decide +kernel
theorem dX5_doorOf_0 : decode bcX5_doorOf 0 = .ok (.aload_n 0, 1) := dk_42 (dk_at dksX5_doorOf_0 0 rfl rfl)
theorem dX5_doorOf_1 : decode bcX5_doorOf 1 = .ok (.getfield 83, 3) := dk_180 0 83 (dk_at dksX5_doorOf_0 1 rfl rfl)
theorem dX5_doorOf_4 : decode bcX5_doorOf 4 = .ok (.iconst 5, 1) := dk_8 (dk_at dksX5_doorOf_0 4 rfl rfl)
theorem dX5_doorOf_5 : decode bcX5_doorOf 5 = .ok (.iconst 4, 1) := dk_7 (dk_at dksX5_doorOf_0 5 rfl rfl)
theorem dX5_doorOf_6 : decode bcX5_doorOf 6 = .ok (.iload_n 1, 1) := dk_27 (dk_at dksX5_doorOf_0 6 rfl rfl)
theorem dX5_doorOf_7 : decode bcX5_doorOf 7 = .ok (.imul, 1) := dk_104 (dk_at dksX5_doorOf_0 7 rfl rfl)
theorem dX5_doorOf_8 : decode bcX5_doorOf 8 = .ok (.iadd, 1) := dk_96 (dk_at dksX5_doorOf_0 8 rfl rfl)
theorem dX5_doorOf_9 : decode bcX5_doorOf 9 = .ok (.iload_n 2, 1) := dk_28 (dk_at dksX5_doorOf_0 9 rfl rfl)
theorem dX5_doorOf_10 : decode bcX5_doorOf 10 = .ok (.iadd, 1) := dk_96 (dk_at dksX5_doorOf_0 10 rfl rfl)
theorem dX5_doorOf_11 : decode bcX5_doorOf 11 = .ok (.iaload, 1) := dk_46 (dk_at dksX5_doorOf_0 11 rfl rfl)
theorem dX5_doorOf_12 : decode bcX5_doorOf 12 = .ok (.ireturn, 1) := dk_172 (dk_at dksX5_doorOf_0 12 rfl rfl)
abbrev SX5_doorOf (pc : Nat) (i : xI) : Prop := Snd "SwollenHouseModel" "doorOf" prog_25_method_48_code 3 (Option.some Jvm.ClassFile.FieldType.int) [] pc i
theorem oX5_doorOf_0 : SX5_doorOf 0 (i_aload 0 1) := snd_aload_n dX5_doorOf_0 rfl
theorem oX5_doorOf_1 : SX5_doorOf 1 (i_getf 4 10 4) := snd_getf dX5_doorOf_1 rfl (by decide) in_X5 (Or.inl q1708) (Or.inl rfl) (by decide)
theorem oX5_doorOf_4 : SX5_doorOf 4 (i_const (.int (nI 5)) 5) := snd_iconst dX5_doorOf_4 (by decide)
theorem oX5_doorOf_5 : SX5_doorOf 5 (i_const (.int (nI 4)) 6) := snd_iconst dX5_doorOf_5 (by decide)
theorem oX5_doorOf_6 : SX5_doorOf 6 (i_iload 1 7) := snd_iload_n dX5_doorOf_6 rfl
theorem oX5_doorOf_7 : SX5_doorOf 7 (i_ii (fun x y => x * y) 8) := snd_imul dX5_doorOf_7
theorem oX5_doorOf_8 : SX5_doorOf 8 (i_ii (fun x y => x + y) 9) := snd_iadd dX5_doorOf_8
theorem oX5_doorOf_9 : SX5_doorOf 9 (i_iload 2 10) := snd_iload_n dX5_doorOf_9 rfl
theorem oX5_doorOf_10 : SX5_doorOf 10 (i_ii (fun x y => x + y) 11) := snd_iadd dX5_doorOf_10
theorem oX5_doorOf_11 : SX5_doorOf 11 (i_ai 0 12) := snd_ai0 dX5_doorOf_11
theorem oX5_doorOf_12 : SX5_doorOf 12 (i_iret) := snd_iret dX5_doorOf_12 rfl
theorem okX5_doorOf : ∀ q ∈ cX5_doorOf, SX5_doorOf q.1 q.2 := List.forall_mem_cons.mpr ⟨oX5_doorOf_0, List.forall_mem_cons.mpr ⟨oX5_doorOf_1, List.forall_mem_cons.mpr ⟨oX5_doorOf_4, List.forall_mem_cons.mpr ⟨oX5_doorOf_5, List.forall_mem_cons.mpr ⟨oX5_doorOf_6, List.forall_mem_cons.mpr ⟨oX5_doorOf_7, List.forall_mem_cons.mpr ⟨oX5_doorOf_8, List.forall_mem_cons.mpr ⟨oX5_doorOf_9, List.forall_mem_cons.mpr ⟨oX5_doorOf_10, List.forall_mem_cons.mpr ⟨oX5_doorOf_11, List.forall_mem_cons.mpr ⟨oX5_doorOf_12, fun _ h => absurd h List.not_mem_nil⟩⟩⟩⟩⟩⟩⟩⟩⟩⟩⟩
def dkwX5_persons_0 : List UInt8 := [42, 180, 0, 83, 5, 46, 172]
abbrev dktX5_persons_0 : List UInt8 := dkwX5_persons_0 ++ []
theorem dksX5_persons_0 : bcX5_persons.data.toList.drop 0 = dktX5_persons_0 := by decide +kernel
theorem dX5_persons_0 : decode bcX5_persons 0 = .ok (.aload_n 0, 1) := dk_42 (dk_at dksX5_persons_0 0 rfl rfl)
theorem dX5_persons_1 : decode bcX5_persons 1 = .ok (.getfield 83, 3) := dk_180 0 83 (dk_at dksX5_persons_0 1 rfl rfl)
theorem dX5_persons_4 : decode bcX5_persons 4 = .ok (.iconst 2, 1) := dk_5 (dk_at dksX5_persons_0 4 rfl rfl)
theorem dX5_persons_5 : decode bcX5_persons 5 = .ok (.iaload, 1) := dk_46 (dk_at dksX5_persons_0 5 rfl rfl)
theorem dX5_persons_6 : decode bcX5_persons 6 = .ok (.ireturn, 1) := dk_172 (dk_at dksX5_persons_0 6 rfl rfl)
abbrev SX5_persons (pc : Nat) (i : xI) : Prop := Snd "SwollenHouseModel" "persons" prog_25_method_47_code 1 (Option.some Jvm.ClassFile.FieldType.int) [] pc i
theorem oX5_persons_0 : SX5_persons 0 (i_aload 0 1) := snd_aload_n dX5_persons_0 rfl
theorem oX5_persons_1 : SX5_persons 1 (i_getf 4 10 4) := snd_getf dX5_persons_1 rfl (by decide) in_X5 (Or.inl q1708) (Or.inl rfl) (by decide)
theorem oX5_persons_4 : SX5_persons 4 (i_const (.int (nI 2)) 5) := snd_iconst dX5_persons_4 (by decide)
theorem oX5_persons_5 : SX5_persons 5 (i_ai 0 6) := snd_ai0 dX5_persons_5
theorem oX5_persons_6 : SX5_persons 6 (i_iret) := snd_iret dX5_persons_6 rfl
theorem okX5_persons : ∀ q ∈ cX5_persons, SX5_persons q.1 q.2 := List.forall_mem_cons.mpr ⟨oX5_persons_0, List.forall_mem_cons.mpr ⟨oX5_persons_1, List.forall_mem_cons.mpr ⟨oX5_persons_4, List.forall_mem_cons.mpr ⟨oX5_persons_5, List.forall_mem_cons.mpr ⟨oX5_persons_6, fun _ h => absurd h List.not_mem_nil⟩⟩⟩⟩⟩
def dkwX5_house_8 : List UInt8 := [167, 255, 221, 42, 42, 180, 0, 190, 181, 0, 193, 42, 182, 0, 136, 3, 172]
abbrev dktX5_house_8 : List UInt8 := dkwX5_house_8 ++ []
def dkwX5_house_7 : List UInt8 := [42, 180, 0, 95, 27, 47, 80, 42, 180, 0, 98, 27, 42, 180, 0, 101, 27, 46, 79, 132, 1, 1]
abbrev dktX5_house_7 : List UInt8 := dkwX5_house_7 ++ dktX5_house_8
def dkwX5_house_6 : List UInt8 := [96, 46, 79, 132, 1, 1, 167, 255, 213, 3, 60, 27, 42, 180, 0, 190, 162, 0, 33, 42, 180, 0, 92, 27]
abbrev dktX5_house_6 : List UInt8 := dkwX5_house_6 ++ dktX5_house_7
def dkwX5_house_5 : List UInt8 := [42, 180, 0, 86, 17, 4, 76, 27, 96, 46, 79, 42, 180, 0, 89, 27, 42, 180, 0, 89, 17, 4, 76, 27]
abbrev dktX5_house_5 : List UInt8 := dkwX5_house_5 ++ dktX5_house_6
def dkwX5_house_4 : List UInt8 := [96, 46, 79, 132, 1, 1, 167, 255, 232, 3, 60, 27, 42, 180, 0, 211, 162, 0, 41, 42, 180, 0, 86, 27]
abbrev dktX5_house_4 : List UInt8 := dkwX5_house_4 ++ dktX5_house_5
def dkwX5_house_3 : List UInt8 := [180, 0, 165, 172, 3, 60, 27, 16, 60, 162, 0, 24, 42, 180, 0, 83, 27, 42, 180, 0, 83, 16, 60, 27]
abbrev dktX5_house_3 : List UInt8 := dkwX5_house_3 ++ dktX5_house_4
def dkwX5_house_2 : List UInt8 := [153, 0, 16, 42, 182, 0, 217, 42, 16, 59, 182, 0, 220, 167, 255, 227, 42, 180, 0, 165, 158, 0, 8, 42]
abbrev dktX5_house_2 : List UInt8 := dkwX5_house_2 ++ dktX5_house_3
def dkwX5_house_1 : List UInt8 := [42, 16, 60, 182, 0, 132, 42, 180, 0, 165, 154, 0, 28, 42, 180, 0, 24, 42, 180, 0, 162, 46]
abbrev dktX5_house_1 : List UInt8 := dkwX5_house_1 ++ dktX5_house_2
def dkwX5_house_0 : List UInt8 := [42, 3, 181, 0, 1, 42, 182, 0, 208, 42, 3, 181, 0, 211, 42, 3, 181, 0, 190, 42, 3, 181, 0, 214]
abbrev dktX5_house_0 : List UInt8 := dkwX5_house_0 ++ dktX5_house_1
theorem dksX5_house_0 : bcX5_house.data.toList.drop 0 = dktX5_house_0 := by decide +kernel
theorem dksX5_house_1 : bcX5_house.data.toList.drop 24 = dktX5_house_1 := dk_seg dksX5_house_0 24 rfl rfl
theorem dksX5_house_2 : bcX5_house.data.toList.drop 46 = dktX5_house_2 := dk_seg dksX5_house_1 22 rfl rfl
theorem dksX5_house_3 : bcX5_house.data.toList.drop 70 = dktX5_house_3 := dk_seg dksX5_house_2 24 rfl rfl
theorem dksX5_house_4 : bcX5_house.data.toList.drop 94 = dktX5_house_4 := dk_seg dksX5_house_3 24 rfl rfl
theorem dksX5_house_5 : bcX5_house.data.toList.drop 118 = dktX5_house_5 := dk_seg dksX5_house_4 24 rfl rfl
theorem dksX5_house_6 : bcX5_house.data.toList.drop 142 = dktX5_house_6 := dk_seg dksX5_house_5 24 rfl rfl
theorem dksX5_house_7 : bcX5_house.data.toList.drop 166 = dktX5_house_7 := dk_seg dksX5_house_6 24 rfl rfl
theorem dksX5_house_8 : bcX5_house.data.toList.drop 188 = dktX5_house_8 := dk_seg dksX5_house_7 22 rfl rfl
theorem dX5_house_0 : decode bcX5_house 0 = .ok (.aload_n 0, 1) := dk_42 (dk_at dksX5_house_0 0 rfl rfl)
theorem dX5_house_1 : decode bcX5_house 1 = .ok (.iconst 0, 1) := dk_3 (dk_at dksX5_house_0 1 rfl rfl)
theorem dX5_house_2 : decode bcX5_house 2 = .ok (.putfield 1, 3) := dk_181 0 1 (dk_at dksX5_house_0 2 rfl rfl)
theorem dX5_house_5 : decode bcX5_house 5 = .ok (.aload_n 0, 1) := dk_42 (dk_at dksX5_house_0 5 rfl rfl)
theorem dX5_house_6 : decode bcX5_house 6 = .ok (.invokevirtual 208, 3) := dk_182 0 208 (dk_at dksX5_house_0 6 rfl rfl)
theorem dX5_house_9 : decode bcX5_house 9 = .ok (.aload_n 0, 1) := dk_42 (dk_at dksX5_house_0 9 rfl rfl)
theorem dX5_house_10 : decode bcX5_house 10 = .ok (.iconst 0, 1) := dk_3 (dk_at dksX5_house_0 10 rfl rfl)
theorem dX5_house_11 : decode bcX5_house 11 = .ok (.putfield 211, 3) := dk_181 0 211 (dk_at dksX5_house_0 11 rfl rfl)
theorem dX5_house_14 : decode bcX5_house 14 = .ok (.aload_n 0, 1) := dk_42 (dk_at dksX5_house_0 14 rfl rfl)
theorem dX5_house_15 : decode bcX5_house 15 = .ok (.iconst 0, 1) := dk_3 (dk_at dksX5_house_0 15 rfl rfl)
theorem dX5_house_16 : decode bcX5_house 16 = .ok (.putfield 190, 3) := dk_181 0 190 (dk_at dksX5_house_0 16 rfl rfl)
theorem dX5_house_19 : decode bcX5_house 19 = .ok (.aload_n 0, 1) := dk_42 (dk_at dksX5_house_0 19 rfl rfl)
theorem dX5_house_20 : decode bcX5_house 20 = .ok (.iconst 0, 1) := dk_3 (dk_at dksX5_house_0 20 rfl rfl)
theorem dX5_house_21 : decode bcX5_house 21 = .ok (.putfield 214, 3) := dk_181 0 214 (dk_at dksX5_house_0 21 rfl rfl)
theorem dX5_house_24 : decode bcX5_house 24 = .ok (.aload_n 0, 1) := dk_42 (dk_at dksX5_house_1 0 rfl rfl)
theorem dX5_house_25 : decode bcX5_house 25 = .ok (.bipush 60, 2) := dk_16 60 (dk_at dksX5_house_1 1 rfl rfl)
theorem dX5_house_27 : decode bcX5_house 27 = .ok (.invokevirtual 132, 3) := dk_182 0 132 (dk_at dksX5_house_1 3 rfl rfl)
theorem dX5_house_30 : decode bcX5_house 30 = .ok (.aload_n 0, 1) := dk_42 (dk_at dksX5_house_1 6 rfl rfl)
theorem dX5_house_31 : decode bcX5_house 31 = .ok (.getfield 165, 3) := dk_180 0 165 (dk_at dksX5_house_1 7 rfl rfl)
theorem dX5_house_34 : decode bcX5_house 34 = .ok (.ifCond .ne 28, 3) := dk_154 0 28 (dk_at dksX5_house_1 10 rfl rfl)
theorem dX5_house_37 : decode bcX5_house 37 = .ok (.aload_n 0, 1) := dk_42 (dk_at dksX5_house_1 13 rfl rfl)
theorem dX5_house_38 : decode bcX5_house 38 = .ok (.getfield 24, 3) := dk_180 0 24 (dk_at dksX5_house_1 14 rfl rfl)
theorem dX5_house_41 : decode bcX5_house 41 = .ok (.aload_n 0, 1) := dk_42 (dk_at dksX5_house_1 17 rfl rfl)
theorem dX5_house_42 : decode bcX5_house 42 = .ok (.getfield 162, 3) := dk_180 0 162 (dk_at dksX5_house_1 18 rfl rfl)
theorem dX5_house_45 : decode bcX5_house 45 = .ok (.iaload, 1) := dk_46 (dk_at dksX5_house_1 21 rfl rfl)
theorem dX5_house_46 : decode bcX5_house 46 = .ok (.ifCond .eq 16, 3) := dk_153 0 16 (dk_at dksX5_house_2 0 rfl rfl)
theorem dX5_house_49 : decode bcX5_house 49 = .ok (.aload_n 0, 1) := dk_42 (dk_at dksX5_house_2 3 rfl rfl)
theorem dX5_house_50 : decode bcX5_house 50 = .ok (.invokevirtual 217, 3) := dk_182 0 217 (dk_at dksX5_house_2 4 rfl rfl)
theorem dX5_house_53 : decode bcX5_house 53 = .ok (.aload_n 0, 1) := dk_42 (dk_at dksX5_house_2 7 rfl rfl)
theorem dX5_house_54 : decode bcX5_house 54 = .ok (.bipush 59, 2) := dk_16 59 (dk_at dksX5_house_2 8 rfl rfl)
theorem dX5_house_56 : decode bcX5_house 56 = .ok (.invokevirtual 220, 3) := dk_182 0 220 (dk_at dksX5_house_2 10 rfl rfl)
theorem dX5_house_59 : decode bcX5_house 59 = .ok (.goto (-29), 3) := dk_167 255 227 (dk_at dksX5_house_2 13 rfl rfl)
theorem dX5_house_62 : decode bcX5_house 62 = .ok (.aload_n 0, 1) := dk_42 (dk_at dksX5_house_2 16 rfl rfl)
theorem dX5_house_63 : decode bcX5_house 63 = .ok (.getfield 165, 3) := dk_180 0 165 (dk_at dksX5_house_2 17 rfl rfl)
theorem dX5_house_66 : decode bcX5_house 66 = .ok (.ifCond .le 8, 3) := dk_158 0 8 (dk_at dksX5_house_2 20 rfl rfl)
theorem dX5_house_69 : decode bcX5_house 69 = .ok (.aload_n 0, 1) := dk_42 (dk_at dksX5_house_2 23 rfl rfl)
theorem dX5_house_70 : decode bcX5_house 70 = .ok (.getfield 165, 3) := dk_180 0 165 (dk_at dksX5_house_3 0 rfl rfl)
theorem dX5_house_73 : decode bcX5_house 73 = .ok (.ireturn, 1) := dk_172 (dk_at dksX5_house_3 3 rfl rfl)
theorem dX5_house_74 : decode bcX5_house 74 = .ok (.iconst 0, 1) := dk_3 (dk_at dksX5_house_3 4 rfl rfl)
theorem dX5_house_75 : decode bcX5_house 75 = .ok (.istore_n 1, 1) := dk_60 (dk_at dksX5_house_3 5 rfl rfl)
theorem dX5_house_76 : decode bcX5_house 76 = .ok (.iload_n 1, 1) := dk_27 (dk_at dksX5_house_3 6 rfl rfl)
theorem dX5_house_77 : decode bcX5_house 77 = .ok (.bipush 60, 2) := dk_16 60 (dk_at dksX5_house_3 7 rfl rfl)
theorem dX5_house_79 : decode bcX5_house 79 = .ok (.if_icmp .ge 24, 3) := dk_162 0 24 (dk_at dksX5_house_3 9 rfl rfl)
theorem dX5_house_82 : decode bcX5_house 82 = .ok (.aload_n 0, 1) := dk_42 (dk_at dksX5_house_3 12 rfl rfl)
theorem dX5_house_83 : decode bcX5_house 83 = .ok (.getfield 83, 3) := dk_180 0 83 (dk_at dksX5_house_3 13 rfl rfl)
theorem dX5_house_86 : decode bcX5_house 86 = .ok (.iload_n 1, 1) := dk_27 (dk_at dksX5_house_3 16 rfl rfl)
theorem dX5_house_87 : decode bcX5_house 87 = .ok (.aload_n 0, 1) := dk_42 (dk_at dksX5_house_3 17 rfl rfl)
theorem dX5_house_88 : decode bcX5_house 88 = .ok (.getfield 83, 3) := dk_180 0 83 (dk_at dksX5_house_3 18 rfl rfl)
theorem dX5_house_91 : decode bcX5_house 91 = .ok (.bipush 60, 2) := dk_16 60 (dk_at dksX5_house_3 21 rfl rfl)
theorem dX5_house_93 : decode bcX5_house 93 = .ok (.iload_n 1, 1) := dk_27 (dk_at dksX5_house_3 23 rfl rfl)
theorem dX5_house_94 : decode bcX5_house 94 = .ok (.iadd, 1) := dk_96 (dk_at dksX5_house_4 0 rfl rfl)
theorem dX5_house_95 : decode bcX5_house 95 = .ok (.iaload, 1) := dk_46 (dk_at dksX5_house_4 1 rfl rfl)
theorem dX5_house_96 : decode bcX5_house 96 = .ok (.iastore, 1) := dk_79 (dk_at dksX5_house_4 2 rfl rfl)
theorem dX5_house_97 : decode bcX5_house 97 = .ok (.iinc 1 1, 3) := dk_132 1 1 (dk_at dksX5_house_4 3 rfl rfl)
theorem dX5_house_100 : decode bcX5_house 100 = .ok (.goto (-24), 3) := dk_167 255 232 (dk_at dksX5_house_4 6 rfl rfl)
theorem dX5_house_103 : decode bcX5_house 103 = .ok (.iconst 0, 1) := dk_3 (dk_at dksX5_house_4 9 rfl rfl)
theorem dX5_house_104 : decode bcX5_house 104 = .ok (.istore_n 1, 1) := dk_60 (dk_at dksX5_house_4 10 rfl rfl)
theorem dX5_house_105 : decode bcX5_house 105 = .ok (.iload_n 1, 1) := dk_27 (dk_at dksX5_house_4 11 rfl rfl)
theorem dX5_house_106 : decode bcX5_house 106 = .ok (.aload_n 0, 1) := dk_42 (dk_at dksX5_house_4 12 rfl rfl)
theorem dX5_house_107 : decode bcX5_house 107 = .ok (.getfield 211, 3) := dk_180 0 211 (dk_at dksX5_house_4 13 rfl rfl)
theorem dX5_house_110 : decode bcX5_house 110 = .ok (.if_icmp .ge 41, 3) := dk_162 0 41 (dk_at dksX5_house_4 16 rfl rfl)
theorem dX5_house_113 : decode bcX5_house 113 = .ok (.aload_n 0, 1) := dk_42 (dk_at dksX5_house_4 19 rfl rfl)
theorem dX5_house_114 : decode bcX5_house 114 = .ok (.getfield 86, 3) := dk_180 0 86 (dk_at dksX5_house_4 20 rfl rfl)
theorem dX5_house_117 : decode bcX5_house 117 = .ok (.iload_n 1, 1) := dk_27 (dk_at dksX5_house_4 23 rfl rfl)
theorem dX5_house_118 : decode bcX5_house 118 = .ok (.aload_n 0, 1) := dk_42 (dk_at dksX5_house_5 0 rfl rfl)
theorem dX5_house_119 : decode bcX5_house 119 = .ok (.getfield 86, 3) := dk_180 0 86 (dk_at dksX5_house_5 1 rfl rfl)
theorem dX5_house_122 : decode bcX5_house 122 = .ok (.sipush 1100, 3) := dk_17 4 76 (dk_at dksX5_house_5 4 rfl rfl)
theorem dX5_house_125 : decode bcX5_house 125 = .ok (.iload_n 1, 1) := dk_27 (dk_at dksX5_house_5 7 rfl rfl)
theorem dX5_house_126 : decode bcX5_house 126 = .ok (.iadd, 1) := dk_96 (dk_at dksX5_house_5 8 rfl rfl)
theorem dX5_house_127 : decode bcX5_house 127 = .ok (.iaload, 1) := dk_46 (dk_at dksX5_house_5 9 rfl rfl)
theorem dX5_house_128 : decode bcX5_house 128 = .ok (.iastore, 1) := dk_79 (dk_at dksX5_house_5 10 rfl rfl)
theorem dX5_house_129 : decode bcX5_house 129 = .ok (.aload_n 0, 1) := dk_42 (dk_at dksX5_house_5 11 rfl rfl)
theorem dX5_house_130 : decode bcX5_house 130 = .ok (.getfield 89, 3) := dk_180 0 89 (dk_at dksX5_house_5 12 rfl rfl)
theorem dX5_house_133 : decode bcX5_house 133 = .ok (.iload_n 1, 1) := dk_27 (dk_at dksX5_house_5 15 rfl rfl)
theorem dX5_house_134 : decode bcX5_house 134 = .ok (.aload_n 0, 1) := dk_42 (dk_at dksX5_house_5 16 rfl rfl)
theorem dX5_house_135 : decode bcX5_house 135 = .ok (.getfield 89, 3) := dk_180 0 89 (dk_at dksX5_house_5 17 rfl rfl)
theorem dX5_house_138 : decode bcX5_house 138 = .ok (.sipush 1100, 3) := dk_17 4 76 (dk_at dksX5_house_5 20 rfl rfl)
theorem dX5_house_141 : decode bcX5_house 141 = .ok (.iload_n 1, 1) := dk_27 (dk_at dksX5_house_5 23 rfl rfl)
theorem dX5_house_142 : decode bcX5_house 142 = .ok (.iadd, 1) := dk_96 (dk_at dksX5_house_6 0 rfl rfl)
theorem dX5_house_143 : decode bcX5_house 143 = .ok (.iaload, 1) := dk_46 (dk_at dksX5_house_6 1 rfl rfl)
theorem dX5_house_144 : decode bcX5_house 144 = .ok (.iastore, 1) := dk_79 (dk_at dksX5_house_6 2 rfl rfl)
theorem dX5_house_145 : decode bcX5_house 145 = .ok (.iinc 1 1, 3) := dk_132 1 1 (dk_at dksX5_house_6 3 rfl rfl)
theorem dX5_house_148 : decode bcX5_house 148 = .ok (.goto (-43), 3) := dk_167 255 213 (dk_at dksX5_house_6 6 rfl rfl)
theorem dX5_house_151 : decode bcX5_house 151 = .ok (.iconst 0, 1) := dk_3 (dk_at dksX5_house_6 9 rfl rfl)
theorem dX5_house_152 : decode bcX5_house 152 = .ok (.istore_n 1, 1) := dk_60 (dk_at dksX5_house_6 10 rfl rfl)
theorem dX5_house_153 : decode bcX5_house 153 = .ok (.iload_n 1, 1) := dk_27 (dk_at dksX5_house_6 11 rfl rfl)
theorem dX5_house_154 : decode bcX5_house 154 = .ok (.aload_n 0, 1) := dk_42 (dk_at dksX5_house_6 12 rfl rfl)
theorem dX5_house_155 : decode bcX5_house 155 = .ok (.getfield 190, 3) := dk_180 0 190 (dk_at dksX5_house_6 13 rfl rfl)
theorem dX5_house_158 : decode bcX5_house 158 = .ok (.if_icmp .ge 33, 3) := dk_162 0 33 (dk_at dksX5_house_6 16 rfl rfl)
theorem dX5_house_161 : decode bcX5_house 161 = .ok (.aload_n 0, 1) := dk_42 (dk_at dksX5_house_6 19 rfl rfl)
theorem dX5_house_162 : decode bcX5_house 162 = .ok (.getfield 92, 3) := dk_180 0 92 (dk_at dksX5_house_6 20 rfl rfl)
theorem dX5_house_165 : decode bcX5_house 165 = .ok (.iload_n 1, 1) := dk_27 (dk_at dksX5_house_6 23 rfl rfl)
theorem dX5_house_166 : decode bcX5_house 166 = .ok (.aload_n 0, 1) := dk_42 (dk_at dksX5_house_7 0 rfl rfl)
theorem dX5_house_167 : decode bcX5_house 167 = .ok (.getfield 95, 3) := dk_180 0 95 (dk_at dksX5_house_7 1 rfl rfl)
theorem dX5_house_170 : decode bcX5_house 170 = .ok (.iload_n 1, 1) := dk_27 (dk_at dksX5_house_7 4 rfl rfl)
theorem dX5_house_171 : decode bcX5_house 171 = .ok (.laload, 1) := dk_47 (dk_at dksX5_house_7 5 rfl rfl)
theorem dX5_house_172 : decode bcX5_house 172 = .ok (.lastore, 1) := dk_80 (dk_at dksX5_house_7 6 rfl rfl)
theorem dX5_house_173 : decode bcX5_house 173 = .ok (.aload_n 0, 1) := dk_42 (dk_at dksX5_house_7 7 rfl rfl)
theorem dX5_house_174 : decode bcX5_house 174 = .ok (.getfield 98, 3) := dk_180 0 98 (dk_at dksX5_house_7 8 rfl rfl)
theorem dX5_house_177 : decode bcX5_house 177 = .ok (.iload_n 1, 1) := dk_27 (dk_at dksX5_house_7 11 rfl rfl)
theorem dX5_house_178 : decode bcX5_house 178 = .ok (.aload_n 0, 1) := dk_42 (dk_at dksX5_house_7 12 rfl rfl)
theorem dX5_house_179 : decode bcX5_house 179 = .ok (.getfield 101, 3) := dk_180 0 101 (dk_at dksX5_house_7 13 rfl rfl)
theorem dX5_house_182 : decode bcX5_house 182 = .ok (.iload_n 1, 1) := dk_27 (dk_at dksX5_house_7 16 rfl rfl)
theorem dX5_house_183 : decode bcX5_house 183 = .ok (.iaload, 1) := dk_46 (dk_at dksX5_house_7 17 rfl rfl)
theorem dX5_house_184 : decode bcX5_house 184 = .ok (.iastore, 1) := dk_79 (dk_at dksX5_house_7 18 rfl rfl)
theorem dX5_house_185 : decode bcX5_house 185 = .ok (.iinc 1 1, 3) := dk_132 1 1 (dk_at dksX5_house_7 19 rfl rfl)
theorem dX5_house_188 : decode bcX5_house 188 = .ok (.goto (-35), 3) := dk_167 255 221 (dk_at dksX5_house_8 0 rfl rfl)
theorem dX5_house_191 : decode bcX5_house 191 = .ok (.aload_n 0, 1) := dk_42 (dk_at dksX5_house_8 3 rfl rfl)
theorem dX5_house_192 : decode bcX5_house 192 = .ok (.aload_n 0, 1) := dk_42 (dk_at dksX5_house_8 4 rfl rfl)
theorem dX5_house_193 : decode bcX5_house 193 = .ok (.getfield 190, 3) := dk_180 0 190 (dk_at dksX5_house_8 5 rfl rfl)
theorem dX5_house_196 : decode bcX5_house 196 = .ok (.putfield 193, 3) := dk_181 0 193 (dk_at dksX5_house_8 8 rfl rfl)
theorem dX5_house_199 : decode bcX5_house 199 = .ok (.aload_n 0, 1) := dk_42 (dk_at dksX5_house_8 11 rfl rfl)
theorem dX5_house_200 : decode bcX5_house 200 = .ok (.invokevirtual 136, 3) := dk_182 0 136 (dk_at dksX5_house_8 12 rfl rfl)
theorem dX5_house_203 : decode bcX5_house 203 = .ok (.iconst 0, 1) := dk_3 (dk_at dksX5_house_8 15 rfl rfl)
theorem dX5_house_204 : decode bcX5_house 204 = .ok (.ireturn, 1) := dk_172 (dk_at dksX5_house_8 16 rfl rfl)
abbrev SX5_house (pc : Nat) (i : xI) : Prop := Snd "SwollenHouseModel" "house" prog_25_method_26_code 2 (Option.some Jvm.ClassFile.FieldType.int) [] pc i
theorem oX5_house_0 : SX5_house 0 (i_aload 0 1) := snd_aload_n dX5_house_0 rfl
theorem oX5_house_1 : SX5_house 1 (i_const (.int (nI 0)) 2) := snd_iconst dX5_house_1 (by decide)
theorem oX5_house_2 : SX5_house 2 (i_putfi 4 0 5) := snd_putfi dX5_house_2 rfl (by decide) in_X5 tyX5 tyX5_ok nmX5 (Or.inl ⟨rfl, q1698⟩) (Or.inl rfl) rfl
theorem oX5_house_5 : SX5_house 5 (i_aload 0 6) := snd_aload_n dX5_house_5 rfl
theorem oX5_house_6 : SX5_house 6 (i_cvv 4 254 0 9) := snd_cvv rfl infX5_cutAll (by decide) rfl (xVm_V dX5_house_6 rfl q1800 q1802 qs63 q136 q1803 pdX5_cutAll)
theorem oX5_house_9 : SX5_house 9 (i_aload 0 10) := snd_aload_n dX5_house_9 rfl
theorem oX5_house_10 : SX5_house 10 (i_const (.int (nI 0)) 11) := snd_iconst dX5_house_10 (by decide)
theorem oX5_house_11 : SX5_house 11 (i_putfi 4 13 14) := snd_putfi dX5_house_11 rfl (by decide) in_X5 tyX5 tyX5_ok nmX5 (Or.inl ⟨rfl, q1711⟩) (Or.inl rfl) rfl
theorem oX5_house_14 : SX5_house 14 (i_aload 0 15) := snd_aload_n dX5_house_14 rfl
theorem oX5_house_15 : SX5_house 15 (i_const (.int (nI 0)) 16) := snd_iconst dX5_house_15 (by decide)
theorem oX5_house_16 : SX5_house 16 (i_putfi 4 19 19) := snd_putfi dX5_house_16 rfl (by decide) in_X5 tyX5 tyX5_ok nmX5 (Or.inl ⟨rfl, q1717⟩) (Or.inl rfl) rfl
theorem oX5_house_19 : SX5_house 19 (i_aload 0 20) := snd_aload_n dX5_house_19 rfl
theorem oX5_house_20 : SX5_house 20 (i_const (.int (nI 0)) 21) := snd_iconst dX5_house_20 (by decide)
theorem oX5_house_21 : SX5_house 21 (i_putfi 4 20 24) := snd_putfi dX5_house_21 rfl (by decide) in_X5 tyX5 tyX5_ok nmX5 (Or.inl ⟨rfl, q1718⟩) (Or.inl rfl) rfl
theorem oX5_house_24 : SX5_house 24 (i_aload 0 25) := snd_aload_n dX5_house_24 rfl
theorem oX5_house_25 : SX5_house 25 (i_const (.int (nI 60)) 27) := snd_bipush dX5_house_25 (by decide)
theorem oX5_house_27 : SX5_house 27 (i_cvv 4 247 1 30) := snd_cvv rfl infX5_standsAsAlways (by decide) rfl (xVm_V dX5_house_27 rfl q1674 q1676 qs57 q136 q1677 pdX5_standsAsAlways)
theorem oX5_house_30 : SX5_house 30 (i_aload 0 31) := snd_aload_n dX5_house_30 rfl
theorem oX5_house_31 : SX5_house 31 (i_getf 4 8 34) := snd_getf dX5_house_31 rfl (by decide) in_X5 (Or.inl q1706) (Or.inl rfl) (by decide)
theorem oX5_house_34 : SX5_house 34 (i_if1 (fun x => ¬ x = 0) 62 37) := snd_if_ne dX5_house_34 (by decide)
theorem oX5_house_37 : SX5_house 37 (i_aload 0 38) := snd_aload_n dX5_house_37 rfl
theorem oX5_house_38 : SX5_house 38 (i_getf 4 4 41) := snd_getf dX5_house_38 rfl (by decide) in_X5 (Or.inl q1702) (Or.inl rfl) (by decide)
theorem oX5_house_41 : SX5_house 41 (i_aload 0 42) := snd_aload_n dX5_house_41 rfl
theorem oX5_house_42 : SX5_house 42 (i_getf 4 7 45) := snd_getf dX5_house_42 rfl (by decide) in_X5 (Or.inl q1705) (Or.inl rfl) (by decide)
theorem oX5_house_45 : SX5_house 45 (i_ai 0 46) := snd_ai0 dX5_house_45
theorem oX5_house_46 : SX5_house 46 (i_if1 (fun x => x = 0) 62 49) := snd_if_eq dX5_house_46 (by decide)
theorem oX5_house_49 : SX5_house 49 (i_aload 0 50) := snd_aload_n dX5_house_49 rfl
theorem oX5_house_50 : SX5_house 50 (i_cvv 4 259 0 53) := snd_cvv rfl infX5_readLine (by decide) rfl (xVm_V dX5_house_50 rfl q1819 q1821 qs64 q136 q1822 pdX5_readLine)
theorem oX5_house_53 : SX5_house 53 (i_aload 0 54) := snd_aload_n dX5_house_53 rfl
theorem oX5_house_54 : SX5_house 54 (i_const (.int (nI 59)) 56) := snd_bipush dX5_house_54 (by decide)
theorem oX5_house_56 : SX5_house 56 (i_cvv 4 284 1 59) := snd_cvv rfl infX5_takeSign (by decide) rfl (xVm_V dX5_house_56 rfl q1918 q1920 qs88 q136 q1921 pdX5_takeSign)
theorem oX5_house_59 : SX5_house 59 (i_goto 30) := snd_goto dX5_house_59 (by decide)
theorem oX5_house_62 : SX5_house 62 (i_aload 0 63) := snd_aload_n dX5_house_62 rfl
theorem oX5_house_63 : SX5_house 63 (i_getf 4 8 66) := snd_getf dX5_house_63 rfl (by decide) in_X5 (Or.inl q1706) (Or.inl rfl) (by decide)
theorem oX5_house_66 : SX5_house 66 (i_if1 (fun x => x ≤ 0) 74 69) := snd_if_le dX5_house_66 (by decide)
theorem oX5_house_69 : SX5_house 69 (i_aload 0 70) := snd_aload_n dX5_house_69 rfl
theorem oX5_house_70 : SX5_house 70 (i_getf 4 8 73) := snd_getf dX5_house_70 rfl (by decide) in_X5 (Or.inl q1706) (Or.inl rfl) (by decide)
theorem oX5_house_73 : SX5_house 73 (i_iret) := snd_iret dX5_house_73 rfl
theorem oX5_house_74 : SX5_house 74 (i_const (.int (nI 0)) 75) := snd_iconst dX5_house_74 (by decide)
theorem oX5_house_75 : SX5_house 75 (i_istore 1 76) := snd_istore_n dX5_house_75 rfl (by decide)
theorem oX5_house_76 : SX5_house 76 (i_iload 1 77) := snd_iload_n dX5_house_76 rfl
theorem oX5_house_77 : SX5_house 77 (i_const (.int (nI 60)) 79) := snd_bipush dX5_house_77 (by decide)
theorem oX5_house_79 : SX5_house 79 (i_if2 (fun x y => y ≤ x) 103 82) := snd_icmp_ge dX5_house_79 (by decide)
theorem oX5_house_82 : SX5_house 82 (i_aload 0 83) := snd_aload_n dX5_house_82 rfl
theorem oX5_house_83 : SX5_house 83 (i_getf 4 10 86) := snd_getf dX5_house_83 rfl (by decide) in_X5 (Or.inl q1708) (Or.inl rfl) (by decide)
theorem oX5_house_86 : SX5_house 86 (i_iload 1 87) := snd_iload_n dX5_house_86 rfl
theorem oX5_house_87 : SX5_house 87 (i_aload 0 88) := snd_aload_n dX5_house_87 rfl
theorem oX5_house_88 : SX5_house 88 (i_getf 4 10 91) := snd_getf dX5_house_88 rfl (by decide) in_X5 (Or.inl q1708) (Or.inl rfl) (by decide)
theorem oX5_house_91 : SX5_house 91 (i_const (.int (nI 60)) 93) := snd_bipush dX5_house_91 (by decide)
theorem oX5_house_93 : SX5_house 93 (i_iload 1 94) := snd_iload_n dX5_house_93 rfl
theorem oX5_house_94 : SX5_house 94 (i_ii (fun x y => x + y) 95) := snd_iadd dX5_house_94
theorem oX5_house_95 : SX5_house 95 (i_ai 0 96) := snd_ai0 dX5_house_95
theorem oX5_house_96 : SX5_house 96 (i_si (fun v => v) 0 97) := snd_si0 dX5_house_96
theorem oX5_house_97 : SX5_house 97 (i_iinc 1 (nI 1) 100) := snd_iinc dX5_house_97 (by decide) (by decide)
theorem oX5_house_100 : SX5_house 100 (i_goto 76) := snd_goto dX5_house_100 (by decide)
theorem oX5_house_103 : SX5_house 103 (i_const (.int (nI 0)) 104) := snd_iconst dX5_house_103 (by decide)
theorem oX5_house_104 : SX5_house 104 (i_istore 1 105) := snd_istore_n dX5_house_104 rfl (by decide)
theorem oX5_house_105 : SX5_house 105 (i_iload 1 106) := snd_iload_n dX5_house_105 rfl
theorem oX5_house_106 : SX5_house 106 (i_aload 0 107) := snd_aload_n dX5_house_106 rfl
theorem oX5_house_107 : SX5_house 107 (i_getf 4 13 110) := snd_getf dX5_house_107 rfl (by decide) in_X5 (Or.inl q1711) (Or.inl rfl) (by decide)
theorem oX5_house_110 : SX5_house 110 (i_if2 (fun x y => y ≤ x) 151 113) := snd_icmp_ge dX5_house_110 (by decide)
theorem oX5_house_113 : SX5_house 113 (i_aload 0 114) := snd_aload_n dX5_house_113 rfl
theorem oX5_house_114 : SX5_house 114 (i_getf 4 11 117) := snd_getf dX5_house_114 rfl (by decide) in_X5 (Or.inl q1709) (Or.inl rfl) (by decide)
theorem oX5_house_117 : SX5_house 117 (i_iload 1 118) := snd_iload_n dX5_house_117 rfl
theorem oX5_house_118 : SX5_house 118 (i_aload 0 119) := snd_aload_n dX5_house_118 rfl
theorem oX5_house_119 : SX5_house 119 (i_getf 4 11 122) := snd_getf dX5_house_119 rfl (by decide) in_X5 (Or.inl q1709) (Or.inl rfl) (by decide)
theorem oX5_house_122 : SX5_house 122 (i_const (.int (nI 1100)) 125) := snd_sipush dX5_house_122 (by decide)
theorem oX5_house_125 : SX5_house 125 (i_iload 1 126) := snd_iload_n dX5_house_125 rfl
theorem oX5_house_126 : SX5_house 126 (i_ii (fun x y => x + y) 127) := snd_iadd dX5_house_126
theorem oX5_house_127 : SX5_house 127 (i_ai 0 128) := snd_ai0 dX5_house_127
theorem oX5_house_128 : SX5_house 128 (i_si (fun v => v) 0 129) := snd_si0 dX5_house_128
theorem oX5_house_129 : SX5_house 129 (i_aload 0 130) := snd_aload_n dX5_house_129 rfl
theorem oX5_house_130 : SX5_house 130 (i_getf 4 12 133) := snd_getf dX5_house_130 rfl (by decide) in_X5 (Or.inl q1710) (Or.inl rfl) (by decide)
theorem oX5_house_133 : SX5_house 133 (i_iload 1 134) := snd_iload_n dX5_house_133 rfl
theorem oX5_house_134 : SX5_house 134 (i_aload 0 135) := snd_aload_n dX5_house_134 rfl
theorem oX5_house_135 : SX5_house 135 (i_getf 4 12 138) := snd_getf dX5_house_135 rfl (by decide) in_X5 (Or.inl q1710) (Or.inl rfl) (by decide)
theorem oX5_house_138 : SX5_house 138 (i_const (.int (nI 1100)) 141) := snd_sipush dX5_house_138 (by decide)
theorem oX5_house_141 : SX5_house 141 (i_iload 1 142) := snd_iload_n dX5_house_141 rfl
theorem oX5_house_142 : SX5_house 142 (i_ii (fun x y => x + y) 143) := snd_iadd dX5_house_142
theorem oX5_house_143 : SX5_house 143 (i_ai 0 144) := snd_ai0 dX5_house_143
theorem oX5_house_144 : SX5_house 144 (i_si (fun v => v) 0 145) := snd_si0 dX5_house_144
theorem oX5_house_145 : SX5_house 145 (i_iinc 1 (nI 1) 148) := snd_iinc dX5_house_145 (by decide) (by decide)
theorem oX5_house_148 : SX5_house 148 (i_goto 105) := snd_goto dX5_house_148 (by decide)
theorem oX5_house_151 : SX5_house 151 (i_const (.int (nI 0)) 152) := snd_iconst dX5_house_151 (by decide)
theorem oX5_house_152 : SX5_house 152 (i_istore 1 153) := snd_istore_n dX5_house_152 rfl (by decide)
theorem oX5_house_153 : SX5_house 153 (i_iload 1 154) := snd_iload_n dX5_house_153 rfl
theorem oX5_house_154 : SX5_house 154 (i_aload 0 155) := snd_aload_n dX5_house_154 rfl
theorem oX5_house_155 : SX5_house 155 (i_getf 4 19 158) := snd_getf dX5_house_155 rfl (by decide) in_X5 (Or.inl q1717) (Or.inl rfl) (by decide)
theorem oX5_house_158 : SX5_house 158 (i_if2 (fun x y => y ≤ x) 191 161) := snd_icmp_ge dX5_house_158 (by decide)
theorem oX5_house_161 : SX5_house 161 (i_aload 0 162) := snd_aload_n dX5_house_161 rfl
theorem oX5_house_162 : SX5_house 162 (i_getf 4 14 165) := snd_getf dX5_house_162 rfl (by decide) in_X5 (Or.inl q1712) (Or.inl rfl) (by decide)
theorem oX5_house_165 : SX5_house 165 (i_iload 1 166) := snd_iload_n dX5_house_165 rfl
theorem oX5_house_166 : SX5_house 166 (i_aload 0 167) := snd_aload_n dX5_house_166 rfl
theorem oX5_house_167 : SX5_house 167 (i_getf 4 15 170) := snd_getf dX5_house_167 rfl (by decide) in_X5 (Or.inl q1713) (Or.inl rfl) (by decide)
theorem oX5_house_170 : SX5_house 170 (i_iload 1 171) := snd_iload_n dX5_house_170 rfl
theorem oX5_house_171 : SX5_house 171 (i_al 3 172) := snd_al3 dX5_house_171
theorem oX5_house_172 : SX5_house 172 (i_sl 3 173) := snd_sl3 dX5_house_172
theorem oX5_house_173 : SX5_house 173 (i_aload 0 174) := snd_aload_n dX5_house_173 rfl
theorem oX5_house_174 : SX5_house 174 (i_getf 4 16 177) := snd_getf dX5_house_174 rfl (by decide) in_X5 (Or.inl q1714) (Or.inl rfl) (by decide)
theorem oX5_house_177 : SX5_house 177 (i_iload 1 178) := snd_iload_n dX5_house_177 rfl
theorem oX5_house_178 : SX5_house 178 (i_aload 0 179) := snd_aload_n dX5_house_178 rfl
theorem oX5_house_179 : SX5_house 179 (i_getf 4 17 182) := snd_getf dX5_house_179 rfl (by decide) in_X5 (Or.inl q1715) (Or.inl rfl) (by decide)
theorem oX5_house_182 : SX5_house 182 (i_iload 1 183) := snd_iload_n dX5_house_182 rfl
theorem oX5_house_183 : SX5_house 183 (i_ai 0 184) := snd_ai0 dX5_house_183
theorem oX5_house_184 : SX5_house 184 (i_si (fun v => v) 0 185) := snd_si0 dX5_house_184
theorem oX5_house_185 : SX5_house 185 (i_iinc 1 (nI 1) 188) := snd_iinc dX5_house_185 (by decide) (by decide)
theorem oX5_house_188 : SX5_house 188 (i_goto 153) := snd_goto dX5_house_188 (by decide)
theorem oX5_house_191 : SX5_house 191 (i_aload 0 192) := snd_aload_n dX5_house_191 rfl
theorem oX5_house_192 : SX5_house 192 (i_aload 0 193) := snd_aload_n dX5_house_192 rfl
theorem oX5_house_193 : SX5_house 193 (i_getf 4 19 196) := snd_getf dX5_house_193 rfl (by decide) in_X5 (Or.inl q1717) (Or.inl rfl) (by decide)
theorem oX5_house_196 : SX5_house 196 (i_putfi 4 18 199) := snd_putfi dX5_house_196 rfl (by decide) in_X5 tyX5 tyX5_ok nmX5 (Or.inl ⟨rfl, q1716⟩) (Or.inl rfl) rfl
theorem oX5_house_199 : SX5_house 199 (i_aload 0 200) := snd_aload_n dX5_house_199 rfl
theorem oX5_house_200 : SX5_house 200 (i_cvv 4 248 0 203) := snd_cvv rfl infX5_begins (by decide) rfl (xVm_V dX5_house_200 rfl q1678 q1680 qs58 q136 q1681 pdX5_begins)
theorem oX5_house_203 : SX5_house 203 (i_const (.int (nI 0)) 204) := snd_iconst dX5_house_203 (by decide)
theorem oX5_house_204 : SX5_house 204 (i_iret) := snd_iret dX5_house_204 rfl
theorem okX5_house : ∀ q ∈ cX5_house, SX5_house q.1 q.2 := List.forall_mem_cons.mpr ⟨oX5_house_0, List.forall_mem_cons.mpr ⟨oX5_house_1, List.forall_mem_cons.mpr ⟨oX5_house_2, List.forall_mem_cons.mpr ⟨oX5_house_5, List.forall_mem_cons.mpr ⟨oX5_house_6, List.forall_mem_cons.mpr ⟨oX5_house_9, List.forall_mem_cons.mpr ⟨oX5_house_10, List.forall_mem_cons.mpr ⟨oX5_house_11, List.forall_mem_cons.mpr ⟨oX5_house_14, List.forall_mem_cons.mpr ⟨oX5_house_15, List.forall_mem_cons.mpr ⟨oX5_house_16, List.forall_mem_cons.mpr ⟨oX5_house_19, List.forall_mem_cons.mpr ⟨oX5_house_20, List.forall_mem_cons.mpr ⟨oX5_house_21, List.forall_mem_cons.mpr ⟨oX5_house_24, List.forall_mem_cons.mpr ⟨oX5_house_25, List.forall_mem_cons.mpr ⟨oX5_house_27, List.forall_mem_cons.mpr ⟨oX5_house_30, List.forall_mem_cons.mpr ⟨oX5_house_31, List.forall_mem_cons.mpr ⟨oX5_house_34, List.forall_mem_cons.mpr ⟨oX5_house_37, List.forall_mem_cons.mpr ⟨oX5_house_38, List.forall_mem_cons.mpr ⟨oX5_house_41, List.forall_mem_cons.mpr ⟨oX5_house_42, List.forall_mem_cons.mpr ⟨oX5_house_45, List.forall_mem_cons.mpr ⟨oX5_house_46, List.forall_mem_cons.mpr ⟨oX5_house_49, List.forall_mem_cons.mpr ⟨oX5_house_50, List.forall_mem_cons.mpr ⟨oX5_house_53, List.forall_mem_cons.mpr ⟨oX5_house_54, List.forall_mem_cons.mpr ⟨oX5_house_56, List.forall_mem_cons.mpr ⟨oX5_house_59, List.forall_mem_cons.mpr ⟨oX5_house_62, List.forall_mem_cons.mpr ⟨oX5_house_63, List.forall_mem_cons.mpr ⟨oX5_house_66, List.forall_mem_cons.mpr ⟨oX5_house_69, List.forall_mem_cons.mpr ⟨oX5_house_70, List.forall_mem_cons.mpr ⟨oX5_house_73, List.forall_mem_cons.mpr ⟨oX5_house_74, List.forall_mem_cons.mpr ⟨oX5_house_75, List.forall_mem_cons.mpr ⟨oX5_house_76, List.forall_mem_cons.mpr ⟨oX5_house_77, List.forall_mem_cons.mpr ⟨oX5_house_79, List.forall_mem_cons.mpr ⟨oX5_house_82, List.forall_mem_cons.mpr ⟨oX5_house_83, List.forall_mem_cons.mpr ⟨oX5_house_86, List.forall_mem_cons.mpr ⟨oX5_house_87, List.forall_mem_cons.mpr ⟨oX5_house_88, List.forall_mem_cons.mpr ⟨oX5_house_91, List.forall_mem_cons.mpr ⟨oX5_house_93, List.forall_mem_cons.mpr ⟨oX5_house_94, List.forall_mem_cons.mpr ⟨oX5_house_95, List.forall_mem_cons.mpr ⟨oX5_house_96, List.forall_mem_cons.mpr ⟨oX5_house_97, List.forall_mem_cons.mpr ⟨oX5_house_100, List.forall_mem_cons.mpr ⟨oX5_house_103, List.forall_mem_cons.mpr ⟨oX5_house_104, List.forall_mem_cons.mpr ⟨oX5_house_105, List.forall_mem_cons.mpr ⟨oX5_house_106, List.forall_mem_cons.mpr ⟨oX5_house_107, List.forall_mem_cons.mpr ⟨oX5_house_110, List.forall_mem_cons.mpr ⟨oX5_house_113, List.forall_mem_cons.mpr ⟨oX5_house_114, List.forall_mem_cons.mpr ⟨oX5_house_117, List.forall_mem_cons.mpr ⟨oX5_house_118, List.forall_mem_cons.mpr ⟨oX5_house_119, List.forall_mem_cons.mpr ⟨oX5_house_122, List.forall_mem_cons.mpr ⟨oX5_house_125, List.forall_mem_cons.mpr ⟨oX5_house_126, List.forall_mem_cons.mpr ⟨oX5_house_127, List.forall_mem_cons.mpr ⟨oX5_house_128, List.forall_mem_cons.mpr ⟨oX5_house_129, List.forall_mem_cons.mpr ⟨oX5_house_130, List.forall_mem_cons.mpr ⟨oX5_house_133, List.forall_mem_cons.mpr ⟨oX5_house_134, List.forall_mem_cons.mpr ⟨oX5_house_135, List.forall_mem_cons.mpr ⟨oX5_house_138, List.forall_mem_cons.mpr ⟨oX5_house_141, List.forall_mem_cons.mpr ⟨oX5_house_142, List.forall_mem_cons.mpr ⟨oX5_house_143, List.forall_mem_cons.mpr ⟨oX5_house_144, List.forall_mem_cons.mpr ⟨oX5_house_145, List.forall_mem_cons.mpr ⟨oX5_house_148, List.forall_mem_cons.mpr ⟨oX5_house_151, List.forall_mem_cons.mpr ⟨oX5_house_152, List.forall_mem_cons.mpr ⟨oX5_house_153, List.forall_mem_cons.mpr ⟨oX5_house_154, List.forall_mem_cons.mpr ⟨oX5_house_155, List.forall_mem_cons.mpr ⟨oX5_house_158, List.forall_mem_cons.mpr ⟨oX5_house_161, List.forall_mem_cons.mpr ⟨oX5_house_162, List.forall_mem_cons.mpr ⟨oX5_house_165, List.forall_mem_cons.mpr ⟨oX5_house_166, List.forall_mem_cons.mpr ⟨oX5_house_167, List.forall_mem_cons.mpr ⟨oX5_house_170, List.forall_mem_cons.mpr ⟨oX5_house_171, List.forall_mem_cons.mpr ⟨oX5_house_172, List.forall_mem_cons.mpr ⟨oX5_house_173, List.forall_mem_cons.mpr ⟨oX5_house_174, List.forall_mem_cons.mpr ⟨oX5_house_177, List.forall_mem_cons.mpr ⟨oX5_house_178, List.forall_mem_cons.mpr ⟨oX5_house_179, List.forall_mem_cons.mpr ⟨oX5_house_182, List.forall_mem_cons.mpr ⟨oX5_house_183, List.forall_mem_cons.mpr ⟨oX5_house_184, List.forall_mem_cons.mpr ⟨oX5_house_185, List.forall_mem_cons.mpr ⟨oX5_house_188, List.forall_mem_cons.mpr ⟨oX5_house_191, List.forall_mem_cons.mpr ⟨oX5_house_192, List.forall_mem_cons.mpr ⟨oX5_house_193, List.forall_mem_cons.mpr ⟨oX5_house_196, List.forall_mem_cons.mpr ⟨oX5_house_199, List.forall_mem_cons.mpr ⟨oX5_house_200, List.forall_mem_cons.mpr ⟨oX5_house_203, List.forall_mem_cons.mpr ⟨oX5_house_204, fun _ h => absurd h List.not_mem_nil⟩⟩⟩⟩⟩⟩⟩⟩⟩⟩⟩⟩⟩⟩⟩⟩⟩⟩⟩⟩⟩⟩⟩⟩⟩⟩⟩⟩⟩⟩⟩⟩⟩⟩⟩⟩⟩⟩⟩⟩⟩⟩⟩⟩⟩⟩⟩⟩⟩⟩⟩⟩⟩⟩⟩⟩⟩⟩⟩⟩⟩⟩⟩⟩⟩⟩⟩⟩⟩⟩⟩⟩⟩⟩⟩⟩⟩⟩⟩⟩⟩⟩⟩⟩⟩⟩⟩⟩⟩⟩⟩⟩⟩⟩⟩⟩⟩⟩⟩⟩⟩⟩⟩⟩⟩⟩⟩⟩⟩⟩⟩⟩⟩⟩⟩
def dkwX5_cutAll_13 : List UInt8 := [181, 0, 165, 177]
abbrev dktX5_cutAll_13 : List UInt8 := dkwX5_cutAll_13 ++ []
def dkwX5_cutAll_12 : List UInt8 := [180, 0, 24, 27, 3, 79, 42, 180, 0, 27, 27, 42, 180, 0, 143, 79, 42, 3, 181, 0, 162, 42, 3]
abbrev dktX5_cutAll_12 : List UInt8 := dkwX5_cutAll_12 ++ dktX5_cutAll_13
def dkwX5_cutAll_11 : List UInt8 := [6, 167, 0, 4, 7, 79, 132, 2, 1, 42, 180, 0, 30, 27, 22, 5, 80, 132, 1, 1, 167, 254, 253, 42]
abbrev dktX5_cutAll_11 : List UInt8 := dkwX5_cutAll_11 ++ dktX5_cutAll_12
def dkwX5_cutAll_10 : List UInt8 := [167, 0, 4, 5, 79, 167, 0, 28, 29, 133, 55, 5, 42, 180, 0, 24, 27, 29, 184, 0, 159, 153, 0, 7]
abbrev dktX5_cutAll_10 : List UInt8 := dkwX5_cutAll_10 ++ dktX5_cutAll_11
def dkwX5_cutAll_9 : List UInt8 := [22, 5, 55, 5, 132, 2, 1, 167, 255, 200, 42, 180, 0, 24, 27, 28, 21, 4, 100, 7, 164, 0, 7, 7]
abbrev dktX5_cutAll_9 : List UInt8 := dkwX5_cutAll_9 ++ dktX5_cutAll_10
def dkwX5_cutAll_8 : List UInt8 := [162, 0, 24, 20, 0, 155, 22, 5, 105, 42, 180, 0, 14, 28, 46, 133, 97, 20, 0, 157, 101, 167, 0, 5]
abbrev dktX5_cutAll_8 : List UInt8 := dkwX5_cutAll_8 ++ dktX5_cutAll_9
def dkwX5_cutAll_7 : List UInt8 := [180, 0, 143, 162, 0, 54, 42, 180, 0, 14, 28, 46, 184, 0, 152, 153, 0, 42, 28, 21, 4, 100, 7]
abbrev dktX5_cutAll_7 : List UInt8 := dkwX5_cutAll_7 ++ dktX5_cutAll_8
def dkwX5_cutAll_6 : List UInt8 := [16, 8, 164, 0, 7, 7, 167, 0, 4, 4, 79, 167, 0, 116, 29, 184, 0, 152, 153, 0, 84, 28, 42]
abbrev dktX5_cutAll_6 : List UInt8 := dkwX5_cutAll_6 ++ dktX5_cutAll_7
def dkwX5_cutAll_5 : List UInt8 := [97, 167, 0, 5, 22, 5, 55, 5, 132, 2, 1, 167, 255, 200, 42, 180, 0, 24, 27, 28, 21, 4, 100]
abbrev dktX5_cutAll_5 : List UInt8 := dkwX5_cutAll_5 ++ dktX5_cutAll_6
def dkwX5_cutAll_4 : List UInt8 := [21, 4, 100, 16, 8, 162, 0, 23, 20, 0, 146, 22, 5, 105, 42, 180, 0, 14, 28, 46, 184, 0, 148, 133]
abbrev dktX5_cutAll_4 : List UInt8 := dkwX5_cutAll_4 ++ dktX5_cutAll_5
def dkwX5_cutAll_3 : List UInt8 := [153, 0, 85, 28, 42, 180, 0, 143, 162, 0, 54, 42, 180, 0, 14, 28, 46, 184, 0, 139, 153, 0, 42, 28]
abbrev dktX5_cutAll_3 : List UInt8 := dkwX5_cutAll_3 ++ dktX5_cutAll_4
def dkwX5_cutAll_2 : List UInt8 := [132, 2, 1, 167, 255, 226, 28, 54, 4, 9, 55, 5, 42, 180, 0, 27, 27, 28, 79, 29, 184, 0, 139]
abbrev dktX5_cutAll_2 : List UInt8 := dkwX5_cutAll_2 ++ dktX5_cutAll_3
def dkwX5_cutAll_1 : List UInt8 := [162, 1, 1, 42, 180, 0, 14, 28, 46, 62, 29, 16, 10, 159, 0, 9, 29, 16, 32, 160, 0, 9]
abbrev dktX5_cutAll_1 : List UInt8 := dkwX5_cutAll_1 ++ dktX5_cutAll_2
def dkwX5_cutAll_0 : List UInt8 := [42, 42, 180, 0, 11, 181, 0, 143, 42, 3, 181, 0, 11, 3, 60, 3, 61, 28, 42, 180, 0, 143]
abbrev dktX5_cutAll_0 : List UInt8 := dkwX5_cutAll_0 ++ dktX5_cutAll_1
theorem dksX5_cutAll_0 : bcX5_cutAll.data.toList.drop 0 = dktX5_cutAll_0 := by decide +kernel
theorem dksX5_cutAll_1 : bcX5_cutAll.data.toList.drop 22 = dktX5_cutAll_1 := dk_seg dksX5_cutAll_0 22 rfl rfl
theorem dksX5_cutAll_2 : bcX5_cutAll.data.toList.drop 44 = dktX5_cutAll_2 := dk_seg dksX5_cutAll_1 22 rfl rfl
theorem dksX5_cutAll_3 : bcX5_cutAll.data.toList.drop 67 = dktX5_cutAll_3 := dk_seg dksX5_cutAll_2 23 rfl rfl
theorem dksX5_cutAll_4 : bcX5_cutAll.data.toList.drop 91 = dktX5_cutAll_4 := dk_seg dksX5_cutAll_3 24 rfl rfl
theorem dksX5_cutAll_5 : bcX5_cutAll.data.toList.drop 115 = dktX5_cutAll_5 := dk_seg dksX5_cutAll_4 24 rfl rfl
theorem dksX5_cutAll_6 : bcX5_cutAll.data.toList.drop 138 = dktX5_cutAll_6 := dk_seg dksX5_cutAll_5 23 rfl rfl
theorem dksX5_cutAll_7 : bcX5_cutAll.data.toList.drop 161 = dktX5_cutAll_7 := dk_seg dksX5_cutAll_6 23 rfl rfl
theorem dksX5_cutAll_8 : bcX5_cutAll.data.toList.drop 184 = dktX5_cutAll_8 := dk_seg dksX5_cutAll_7 23 rfl rfl
theorem dksX5_cutAll_9 : bcX5_cutAll.data.toList.drop 208 = dktX5_cutAll_9 := dk_seg dksX5_cutAll_8 24 rfl rfl
theorem dksX5_cutAll_10 : bcX5_cutAll.data.toList.drop 232 = dktX5_cutAll_10 := dk_seg dksX5_cutAll_9 24 rfl rfl
theorem dksX5_cutAll_11 : bcX5_cutAll.data.toList.drop 256 = dktX5_cutAll_11 := dk_seg dksX5_cutAll_10 24 rfl rfl
theorem dksX5_cutAll_12 : bcX5_cutAll.data.toList.drop 280 = dktX5_cutAll_12 := dk_seg dksX5_cutAll_11 24 rfl rfl
theorem dksX5_cutAll_13 : bcX5_cutAll.data.toList.drop 303 = dktX5_cutAll_13 := dk_seg dksX5_cutAll_12 23 rfl rfl
theorem dX5_cutAll_0 : decode bcX5_cutAll 0 = .ok (.aload_n 0, 1) := dk_42 (dk_at dksX5_cutAll_0 0 rfl rfl)
theorem dX5_cutAll_1 : decode bcX5_cutAll 1 = .ok (.aload_n 0, 1) := dk_42 (dk_at dksX5_cutAll_0 1 rfl rfl)
theorem dX5_cutAll_2 : decode bcX5_cutAll 2 = .ok (.getfield 11, 3) := dk_180 0 11 (dk_at dksX5_cutAll_0 2 rfl rfl)
theorem dX5_cutAll_5 : decode bcX5_cutAll 5 = .ok (.putfield 143, 3) := dk_181 0 143 (dk_at dksX5_cutAll_0 5 rfl rfl)
theorem dX5_cutAll_8 : decode bcX5_cutAll 8 = .ok (.aload_n 0, 1) := dk_42 (dk_at dksX5_cutAll_0 8 rfl rfl)
theorem dX5_cutAll_9 : decode bcX5_cutAll 9 = .ok (.iconst 0, 1) := dk_3 (dk_at dksX5_cutAll_0 9 rfl rfl)
theorem dX5_cutAll_10 : decode bcX5_cutAll 10 = .ok (.putfield 11, 3) := dk_181 0 11 (dk_at dksX5_cutAll_0 10 rfl rfl)
theorem dX5_cutAll_13 : decode bcX5_cutAll 13 = .ok (.iconst 0, 1) := dk_3 (dk_at dksX5_cutAll_0 13 rfl rfl)
theorem dX5_cutAll_14 : decode bcX5_cutAll 14 = .ok (.istore_n 1, 1) := dk_60 (dk_at dksX5_cutAll_0 14 rfl rfl)
theorem dX5_cutAll_15 : decode bcX5_cutAll 15 = .ok (.iconst 0, 1) := dk_3 (dk_at dksX5_cutAll_0 15 rfl rfl)
theorem dX5_cutAll_16 : decode bcX5_cutAll 16 = .ok (.istore_n 2, 1) := dk_61 (dk_at dksX5_cutAll_0 16 rfl rfl)
theorem dX5_cutAll_17 : decode bcX5_cutAll 17 = .ok (.iload_n 2, 1) := dk_28 (dk_at dksX5_cutAll_0 17 rfl rfl)
theorem dX5_cutAll_18 : decode bcX5_cutAll 18 = .ok (.aload_n 0, 1) := dk_42 (dk_at dksX5_cutAll_0 18 rfl rfl)
theorem dX5_cutAll_19 : decode bcX5_cutAll 19 = .ok (.getfield 143, 3) := dk_180 0 143 (dk_at dksX5_cutAll_0 19 rfl rfl)
theorem dX5_cutAll_22 : decode bcX5_cutAll 22 = .ok (.if_icmp .ge 257, 3) := dk_162 1 1 (dk_at dksX5_cutAll_1 0 rfl rfl)
theorem dX5_cutAll_25 : decode bcX5_cutAll 25 = .ok (.aload_n 0, 1) := dk_42 (dk_at dksX5_cutAll_1 3 rfl rfl)
theorem dX5_cutAll_26 : decode bcX5_cutAll 26 = .ok (.getfield 14, 3) := dk_180 0 14 (dk_at dksX5_cutAll_1 4 rfl rfl)
theorem dX5_cutAll_29 : decode bcX5_cutAll 29 = .ok (.iload_n 2, 1) := dk_28 (dk_at dksX5_cutAll_1 7 rfl rfl)
theorem dX5_cutAll_30 : decode bcX5_cutAll 30 = .ok (.iaload, 1) := dk_46 (dk_at dksX5_cutAll_1 8 rfl rfl)
theorem dX5_cutAll_31 : decode bcX5_cutAll 31 = .ok (.istore_n 3, 1) := dk_62 (dk_at dksX5_cutAll_1 9 rfl rfl)
theorem dX5_cutAll_32 : decode bcX5_cutAll 32 = .ok (.iload_n 3, 1) := dk_29 (dk_at dksX5_cutAll_1 10 rfl rfl)
theorem dX5_cutAll_33 : decode bcX5_cutAll 33 = .ok (.bipush 10, 2) := dk_16 10 (dk_at dksX5_cutAll_1 11 rfl rfl)
theorem dX5_cutAll_35 : decode bcX5_cutAll 35 = .ok (.if_icmp .eq 9, 3) := dk_159 0 9 (dk_at dksX5_cutAll_1 13 rfl rfl)
theorem dX5_cutAll_38 : decode bcX5_cutAll 38 = .ok (.iload_n 3, 1) := dk_29 (dk_at dksX5_cutAll_1 16 rfl rfl)
theorem dX5_cutAll_39 : decode bcX5_cutAll 39 = .ok (.bipush 32, 2) := dk_16 32 (dk_at dksX5_cutAll_1 17 rfl rfl)
theorem dX5_cutAll_41 : decode bcX5_cutAll 41 = .ok (.if_icmp .ne 9, 3) := dk_160 0 9 (dk_at dksX5_cutAll_1 19 rfl rfl)
theorem dX5_cutAll_44 : decode bcX5_cutAll 44 = .ok (.iinc 2 1, 3) := dk_132 2 1 (dk_at dksX5_cutAll_2 0 rfl rfl)
theorem dX5_cutAll_47 : decode bcX5_cutAll 47 = .ok (.goto (-30), 3) := dk_167 255 226 (dk_at dksX5_cutAll_2 3 rfl rfl)
theorem dX5_cutAll_50 : decode bcX5_cutAll 50 = .ok (.iload_n 2, 1) := dk_28 (dk_at dksX5_cutAll_2 6 rfl rfl)
theorem dX5_cutAll_51 : decode bcX5_cutAll 51 = .ok (.istore 4, 2) := dk_54 4 (dk_at dksX5_cutAll_2 7 rfl rfl)
theorem dX5_cutAll_53 : decode bcX5_cutAll 53 = .ok (.lconst 0, 1) := dk_9 (dk_at dksX5_cutAll_2 9 rfl rfl)
theorem dX5_cutAll_54 : decode bcX5_cutAll 54 = .ok (.lstore 5, 2) := dk_55 5 (dk_at dksX5_cutAll_2 10 rfl rfl)
theorem dX5_cutAll_56 : decode bcX5_cutAll 56 = .ok (.aload_n 0, 1) := dk_42 (dk_at dksX5_cutAll_2 12 rfl rfl)
theorem dX5_cutAll_57 : decode bcX5_cutAll 57 = .ok (.getfield 27, 3) := dk_180 0 27 (dk_at dksX5_cutAll_2 13 rfl rfl)
theorem dX5_cutAll_60 : decode bcX5_cutAll 60 = .ok (.iload_n 1, 1) := dk_27 (dk_at dksX5_cutAll_2 16 rfl rfl)
theorem dX5_cutAll_61 : decode bcX5_cutAll 61 = .ok (.iload_n 2, 1) := dk_28 (dk_at dksX5_cutAll_2 17 rfl rfl)
theorem dX5_cutAll_62 : decode bcX5_cutAll 62 = .ok (.iastore, 1) := dk_79 (dk_at dksX5_cutAll_2 18 rfl rfl)
theorem dX5_cutAll_63 : decode bcX5_cutAll 63 = .ok (.iload_n 3, 1) := dk_29 (dk_at dksX5_cutAll_2 19 rfl rfl)
theorem dX5_cutAll_64 : decode bcX5_cutAll 64 = .ok (.invokestatic 139, 3) := dk_184 0 139 (dk_at dksX5_cutAll_2 20 rfl rfl)
theorem dX5_cutAll_67 : decode bcX5_cutAll 67 = .ok (.ifCond .eq 85, 3) := dk_153 0 85 (dk_at dksX5_cutAll_3 0 rfl rfl)
theorem dX5_cutAll_70 : decode bcX5_cutAll 70 = .ok (.iload_n 2, 1) := dk_28 (dk_at dksX5_cutAll_3 3 rfl rfl)
theorem dX5_cutAll_71 : decode bcX5_cutAll 71 = .ok (.aload_n 0, 1) := dk_42 (dk_at dksX5_cutAll_3 4 rfl rfl)
theorem dX5_cutAll_72 : decode bcX5_cutAll 72 = .ok (.getfield 143, 3) := dk_180 0 143 (dk_at dksX5_cutAll_3 5 rfl rfl)
theorem dX5_cutAll_75 : decode bcX5_cutAll 75 = .ok (.if_icmp .ge 54, 3) := dk_162 0 54 (dk_at dksX5_cutAll_3 8 rfl rfl)
theorem dX5_cutAll_78 : decode bcX5_cutAll 78 = .ok (.aload_n 0, 1) := dk_42 (dk_at dksX5_cutAll_3 11 rfl rfl)
theorem dX5_cutAll_79 : decode bcX5_cutAll 79 = .ok (.getfield 14, 3) := dk_180 0 14 (dk_at dksX5_cutAll_3 12 rfl rfl)
theorem dX5_cutAll_82 : decode bcX5_cutAll 82 = .ok (.iload_n 2, 1) := dk_28 (dk_at dksX5_cutAll_3 15 rfl rfl)
theorem dX5_cutAll_83 : decode bcX5_cutAll 83 = .ok (.iaload, 1) := dk_46 (dk_at dksX5_cutAll_3 16 rfl rfl)
theorem dX5_cutAll_84 : decode bcX5_cutAll 84 = .ok (.invokestatic 139, 3) := dk_184 0 139 (dk_at dksX5_cutAll_3 17 rfl rfl)
theorem dX5_cutAll_87 : decode bcX5_cutAll 87 = .ok (.ifCond .eq 42, 3) := dk_153 0 42 (dk_at dksX5_cutAll_3 20 rfl rfl)
theorem dX5_cutAll_90 : decode bcX5_cutAll 90 = .ok (.iload_n 2, 1) := dk_28 (dk_at dksX5_cutAll_3 23 rfl rfl)
theorem dX5_cutAll_91 : decode bcX5_cutAll 91 = .ok (.iload 4, 2) := dk_21 4 (dk_at dksX5_cutAll_4 0 rfl rfl)
theorem dX5_cutAll_93 : decode bcX5_cutAll 93 = .ok (.isub, 1) := dk_100 (dk_at dksX5_cutAll_4 2 rfl rfl)
theorem dX5_cutAll_94 : decode bcX5_cutAll 94 = .ok (.bipush 8, 2) := dk_16 8 (dk_at dksX5_cutAll_4 3 rfl rfl)
theorem dX5_cutAll_96 : decode bcX5_cutAll 96 = .ok (.if_icmp .ge 23, 3) := dk_162 0 23 (dk_at dksX5_cutAll_4 5 rfl rfl)
theorem dX5_cutAll_99 : decode bcX5_cutAll 99 = .ok (.ldc2_w 146, 3) := dk_20 0 146 (dk_at dksX5_cutAll_4 8 rfl rfl)
theorem dX5_cutAll_102 : decode bcX5_cutAll 102 = .ok (.lload 5, 2) := dk_22 5 (dk_at dksX5_cutAll_4 11 rfl rfl)
theorem dX5_cutAll_104 : decode bcX5_cutAll 104 = .ok (.lmul, 1) := dk_105 (dk_at dksX5_cutAll_4 13 rfl rfl)
theorem dX5_cutAll_105 : decode bcX5_cutAll 105 = .ok (.aload_n 0, 1) := dk_42 (dk_at dksX5_cutAll_4 14 rfl rfl)
theorem dX5_cutAll_106 : decode bcX5_cutAll 106 = .ok (.getfield 14, 3) := dk_180 0 14 (dk_at dksX5_cutAll_4 15 rfl rfl)
theorem dX5_cutAll_109 : decode bcX5_cutAll 109 = .ok (.iload_n 2, 1) := dk_28 (dk_at dksX5_cutAll_4 18 rfl rfl)
theorem dX5_cutAll_110 : decode bcX5_cutAll 110 = .ok (.iaload, 1) := dk_46 (dk_at dksX5_cutAll_4 19 rfl rfl)
theorem dX5_cutAll_111 : decode bcX5_cutAll 111 = .ok (.invokestatic 148, 3) := dk_184 0 148 (dk_at dksX5_cutAll_4 20 rfl rfl)
theorem dX5_cutAll_114 : decode bcX5_cutAll 114 = .ok (.i2l, 1) := dk_133 (dk_at dksX5_cutAll_4 23 rfl rfl)
theorem dX5_cutAll_115 : decode bcX5_cutAll 115 = .ok (.ladd, 1) := dk_97 (dk_at dksX5_cutAll_5 0 rfl rfl)
theorem dX5_cutAll_116 : decode bcX5_cutAll 116 = .ok (.goto 5, 3) := dk_167 0 5 (dk_at dksX5_cutAll_5 1 rfl rfl)
theorem dX5_cutAll_119 : decode bcX5_cutAll 119 = .ok (.lload 5, 2) := dk_22 5 (dk_at dksX5_cutAll_5 4 rfl rfl)
theorem dX5_cutAll_121 : decode bcX5_cutAll 121 = .ok (.lstore 5, 2) := dk_55 5 (dk_at dksX5_cutAll_5 6 rfl rfl)
theorem dX5_cutAll_123 : decode bcX5_cutAll 123 = .ok (.iinc 2 1, 3) := dk_132 2 1 (dk_at dksX5_cutAll_5 8 rfl rfl)
theorem dX5_cutAll_126 : decode bcX5_cutAll 126 = .ok (.goto (-56), 3) := dk_167 255 200 (dk_at dksX5_cutAll_5 11 rfl rfl)
theorem dX5_cutAll_129 : decode bcX5_cutAll 129 = .ok (.aload_n 0, 1) := dk_42 (dk_at dksX5_cutAll_5 14 rfl rfl)
theorem dX5_cutAll_130 : decode bcX5_cutAll 130 = .ok (.getfield 24, 3) := dk_180 0 24 (dk_at dksX5_cutAll_5 15 rfl rfl)
theorem dX5_cutAll_133 : decode bcX5_cutAll 133 = .ok (.iload_n 1, 1) := dk_27 (dk_at dksX5_cutAll_5 18 rfl rfl)
theorem dX5_cutAll_134 : decode bcX5_cutAll 134 = .ok (.iload_n 2, 1) := dk_28 (dk_at dksX5_cutAll_5 19 rfl rfl)
theorem dX5_cutAll_135 : decode bcX5_cutAll 135 = .ok (.iload 4, 2) := dk_21 4 (dk_at dksX5_cutAll_5 20 rfl rfl)
theorem dX5_cutAll_137 : decode bcX5_cutAll 137 = .ok (.isub, 1) := dk_100 (dk_at dksX5_cutAll_5 22 rfl rfl)
theorem dX5_cutAll_138 : decode bcX5_cutAll 138 = .ok (.bipush 8, 2) := dk_16 8 (dk_at dksX5_cutAll_6 0 rfl rfl)
theorem dX5_cutAll_140 : decode bcX5_cutAll 140 = .ok (.if_icmp .le 7, 3) := dk_164 0 7 (dk_at dksX5_cutAll_6 2 rfl rfl)
theorem dX5_cutAll_143 : decode bcX5_cutAll 143 = .ok (.iconst 4, 1) := dk_7 (dk_at dksX5_cutAll_6 5 rfl rfl)
theorem dX5_cutAll_144 : decode bcX5_cutAll 144 = .ok (.goto 4, 3) := dk_167 0 4 (dk_at dksX5_cutAll_6 6 rfl rfl)
theorem dX5_cutAll_147 : decode bcX5_cutAll 147 = .ok (.iconst 1, 1) := dk_4 (dk_at dksX5_cutAll_6 9 rfl rfl)
theorem dX5_cutAll_148 : decode bcX5_cutAll 148 = .ok (.iastore, 1) := dk_79 (dk_at dksX5_cutAll_6 10 rfl rfl)
theorem dX5_cutAll_149 : decode bcX5_cutAll 149 = .ok (.goto 116, 3) := dk_167 0 116 (dk_at dksX5_cutAll_6 11 rfl rfl)
theorem dX5_cutAll_152 : decode bcX5_cutAll 152 = .ok (.iload_n 3, 1) := dk_29 (dk_at dksX5_cutAll_6 14 rfl rfl)
theorem dX5_cutAll_153 : decode bcX5_cutAll 153 = .ok (.invokestatic 152, 3) := dk_184 0 152 (dk_at dksX5_cutAll_6 15 rfl rfl)
theorem dX5_cutAll_156 : decode bcX5_cutAll 156 = .ok (.ifCond .eq 84, 3) := dk_153 0 84 (dk_at dksX5_cutAll_6 18 rfl rfl)
theorem dX5_cutAll_159 : decode bcX5_cutAll 159 = .ok (.iload_n 2, 1) := dk_28 (dk_at dksX5_cutAll_6 21 rfl rfl)
theorem dX5_cutAll_160 : decode bcX5_cutAll 160 = .ok (.aload_n 0, 1) := dk_42 (dk_at dksX5_cutAll_6 22 rfl rfl)
theorem dX5_cutAll_161 : decode bcX5_cutAll 161 = .ok (.getfield 143, 3) := dk_180 0 143 (dk_at dksX5_cutAll_7 0 rfl rfl)
theorem dX5_cutAll_164 : decode bcX5_cutAll 164 = .ok (.if_icmp .ge 54, 3) := dk_162 0 54 (dk_at dksX5_cutAll_7 3 rfl rfl)
theorem dX5_cutAll_167 : decode bcX5_cutAll 167 = .ok (.aload_n 0, 1) := dk_42 (dk_at dksX5_cutAll_7 6 rfl rfl)
theorem dX5_cutAll_168 : decode bcX5_cutAll 168 = .ok (.getfield 14, 3) := dk_180 0 14 (dk_at dksX5_cutAll_7 7 rfl rfl)
theorem dX5_cutAll_171 : decode bcX5_cutAll 171 = .ok (.iload_n 2, 1) := dk_28 (dk_at dksX5_cutAll_7 10 rfl rfl)
theorem dX5_cutAll_172 : decode bcX5_cutAll 172 = .ok (.iaload, 1) := dk_46 (dk_at dksX5_cutAll_7 11 rfl rfl)
theorem dX5_cutAll_173 : decode bcX5_cutAll 173 = .ok (.invokestatic 152, 3) := dk_184 0 152 (dk_at dksX5_cutAll_7 12 rfl rfl)
theorem dX5_cutAll_176 : decode bcX5_cutAll 176 = .ok (.ifCond .eq 42, 3) := dk_153 0 42 (dk_at dksX5_cutAll_7 15 rfl rfl)
theorem dX5_cutAll_179 : decode bcX5_cutAll 179 = .ok (.iload_n 2, 1) := dk_28 (dk_at dksX5_cutAll_7 18 rfl rfl)
theorem dX5_cutAll_180 : decode bcX5_cutAll 180 = .ok (.iload 4, 2) := dk_21 4 (dk_at dksX5_cutAll_7 19 rfl rfl)
theorem dX5_cutAll_182 : decode bcX5_cutAll 182 = .ok (.isub, 1) := dk_100 (dk_at dksX5_cutAll_7 21 rfl rfl)
theorem dX5_cutAll_183 : decode bcX5_cutAll 183 = .ok (.iconst 4, 1) := dk_7 (dk_at dksX5_cutAll_7 22 rfl rfl)
theorem dX5_cutAll_184 : decode bcX5_cutAll 184 = .ok (.if_icmp .ge 24, 3) := dk_162 0 24 (dk_at dksX5_cutAll_8 0 rfl rfl)
theorem dX5_cutAll_187 : decode bcX5_cutAll 187 = .ok (.ldc2_w 155, 3) := dk_20 0 155 (dk_at dksX5_cutAll_8 3 rfl rfl)
theorem dX5_cutAll_190 : decode bcX5_cutAll 190 = .ok (.lload 5, 2) := dk_22 5 (dk_at dksX5_cutAll_8 6 rfl rfl)
theorem dX5_cutAll_192 : decode bcX5_cutAll 192 = .ok (.lmul, 1) := dk_105 (dk_at dksX5_cutAll_8 8 rfl rfl)
theorem dX5_cutAll_193 : decode bcX5_cutAll 193 = .ok (.aload_n 0, 1) := dk_42 (dk_at dksX5_cutAll_8 9 rfl rfl)
theorem dX5_cutAll_194 : decode bcX5_cutAll 194 = .ok (.getfield 14, 3) := dk_180 0 14 (dk_at dksX5_cutAll_8 10 rfl rfl)
theorem dX5_cutAll_197 : decode bcX5_cutAll 197 = .ok (.iload_n 2, 1) := dk_28 (dk_at dksX5_cutAll_8 13 rfl rfl)
theorem dX5_cutAll_198 : decode bcX5_cutAll 198 = .ok (.iaload, 1) := dk_46 (dk_at dksX5_cutAll_8 14 rfl rfl)
theorem dX5_cutAll_199 : decode bcX5_cutAll 199 = .ok (.i2l, 1) := dk_133 (dk_at dksX5_cutAll_8 15 rfl rfl)
theorem dX5_cutAll_200 : decode bcX5_cutAll 200 = .ok (.ladd, 1) := dk_97 (dk_at dksX5_cutAll_8 16 rfl rfl)
theorem dX5_cutAll_201 : decode bcX5_cutAll 201 = .ok (.ldc2_w 157, 3) := dk_20 0 157 (dk_at dksX5_cutAll_8 17 rfl rfl)
theorem dX5_cutAll_204 : decode bcX5_cutAll 204 = .ok (.lsub, 1) := dk_101 (dk_at dksX5_cutAll_8 20 rfl rfl)
theorem dX5_cutAll_205 : decode bcX5_cutAll 205 = .ok (.goto 5, 3) := dk_167 0 5 (dk_at dksX5_cutAll_8 21 rfl rfl)
theorem dX5_cutAll_208 : decode bcX5_cutAll 208 = .ok (.lload 5, 2) := dk_22 5 (dk_at dksX5_cutAll_9 0 rfl rfl)
theorem dX5_cutAll_210 : decode bcX5_cutAll 210 = .ok (.lstore 5, 2) := dk_55 5 (dk_at dksX5_cutAll_9 2 rfl rfl)
theorem dX5_cutAll_212 : decode bcX5_cutAll 212 = .ok (.iinc 2 1, 3) := dk_132 2 1 (dk_at dksX5_cutAll_9 4 rfl rfl)
theorem dX5_cutAll_215 : decode bcX5_cutAll 215 = .ok (.goto (-56), 3) := dk_167 255 200 (dk_at dksX5_cutAll_9 7 rfl rfl)
theorem dX5_cutAll_218 : decode bcX5_cutAll 218 = .ok (.aload_n 0, 1) := dk_42 (dk_at dksX5_cutAll_9 10 rfl rfl)
theorem dX5_cutAll_219 : decode bcX5_cutAll 219 = .ok (.getfield 24, 3) := dk_180 0 24 (dk_at dksX5_cutAll_9 11 rfl rfl)
theorem dX5_cutAll_222 : decode bcX5_cutAll 222 = .ok (.iload_n 1, 1) := dk_27 (dk_at dksX5_cutAll_9 14 rfl rfl)
theorem dX5_cutAll_223 : decode bcX5_cutAll 223 = .ok (.iload_n 2, 1) := dk_28 (dk_at dksX5_cutAll_9 15 rfl rfl)
theorem dX5_cutAll_224 : decode bcX5_cutAll 224 = .ok (.iload 4, 2) := dk_21 4 (dk_at dksX5_cutAll_9 16 rfl rfl)
theorem dX5_cutAll_226 : decode bcX5_cutAll 226 = .ok (.isub, 1) := dk_100 (dk_at dksX5_cutAll_9 18 rfl rfl)
theorem dX5_cutAll_227 : decode bcX5_cutAll 227 = .ok (.iconst 4, 1) := dk_7 (dk_at dksX5_cutAll_9 19 rfl rfl)
theorem dX5_cutAll_228 : decode bcX5_cutAll 228 = .ok (.if_icmp .le 7, 3) := dk_164 0 7 (dk_at dksX5_cutAll_9 20 rfl rfl)
theorem dX5_cutAll_231 : decode bcX5_cutAll 231 = .ok (.iconst 4, 1) := dk_7 (dk_at dksX5_cutAll_9 23 rfl rfl)
theorem dX5_cutAll_232 : decode bcX5_cutAll 232 = .ok (.goto 4, 3) := dk_167 0 4 (dk_at dksX5_cutAll_10 0 rfl rfl)
theorem dX5_cutAll_235 : decode bcX5_cutAll 235 = .ok (.iconst 2, 1) := dk_5 (dk_at dksX5_cutAll_10 3 rfl rfl)
theorem dX5_cutAll_236 : decode bcX5_cutAll 236 = .ok (.iastore, 1) := dk_79 (dk_at dksX5_cutAll_10 4 rfl rfl)
theorem dX5_cutAll_237 : decode bcX5_cutAll 237 = .ok (.goto 28, 3) := dk_167 0 28 (dk_at dksX5_cutAll_10 5 rfl rfl)
theorem dX5_cutAll_240 : decode bcX5_cutAll 240 = .ok (.iload_n 3, 1) := dk_29 (dk_at dksX5_cutAll_10 8 rfl rfl)
theorem dX5_cutAll_241 : decode bcX5_cutAll 241 = .ok (.i2l, 1) := dk_133 (dk_at dksX5_cutAll_10 9 rfl rfl)
theorem dX5_cutAll_242 : decode bcX5_cutAll 242 = .ok (.lstore 5, 2) := dk_55 5 (dk_at dksX5_cutAll_10 10 rfl rfl)
theorem dX5_cutAll_244 : decode bcX5_cutAll 244 = .ok (.aload_n 0, 1) := dk_42 (dk_at dksX5_cutAll_10 12 rfl rfl)
theorem dX5_cutAll_245 : decode bcX5_cutAll 245 = .ok (.getfield 24, 3) := dk_180 0 24 (dk_at dksX5_cutAll_10 13 rfl rfl)
theorem dX5_cutAll_248 : decode bcX5_cutAll 248 = .ok (.iload_n 1, 1) := dk_27 (dk_at dksX5_cutAll_10 16 rfl rfl)
theorem dX5_cutAll_249 : decode bcX5_cutAll 249 = .ok (.iload_n 3, 1) := dk_29 (dk_at dksX5_cutAll_10 17 rfl rfl)
theorem dX5_cutAll_250 : decode bcX5_cutAll 250 = .ok (.invokestatic 159, 3) := dk_184 0 159 (dk_at dksX5_cutAll_10 18 rfl rfl)
theorem dX5_cutAll_253 : decode bcX5_cutAll 253 = .ok (.ifCond .eq 7, 3) := dk_153 0 7 (dk_at dksX5_cutAll_10 21 rfl rfl)
theorem dX5_cutAll_256 : decode bcX5_cutAll 256 = .ok (.iconst 3, 1) := dk_6 (dk_at dksX5_cutAll_11 0 rfl rfl)
theorem dX5_cutAll_257 : decode bcX5_cutAll 257 = .ok (.goto 4, 3) := dk_167 0 4 (dk_at dksX5_cutAll_11 1 rfl rfl)
theorem dX5_cutAll_260 : decode bcX5_cutAll 260 = .ok (.iconst 4, 1) := dk_7 (dk_at dksX5_cutAll_11 4 rfl rfl)
theorem dX5_cutAll_261 : decode bcX5_cutAll 261 = .ok (.iastore, 1) := dk_79 (dk_at dksX5_cutAll_11 5 rfl rfl)
theorem dX5_cutAll_262 : decode bcX5_cutAll 262 = .ok (.iinc 2 1, 3) := dk_132 2 1 (dk_at dksX5_cutAll_11 6 rfl rfl)
theorem dX5_cutAll_265 : decode bcX5_cutAll 265 = .ok (.aload_n 0, 1) := dk_42 (dk_at dksX5_cutAll_11 9 rfl rfl)
theorem dX5_cutAll_266 : decode bcX5_cutAll 266 = .ok (.getfield 30, 3) := dk_180 0 30 (dk_at dksX5_cutAll_11 10 rfl rfl)
theorem dX5_cutAll_269 : decode bcX5_cutAll 269 = .ok (.iload_n 1, 1) := dk_27 (dk_at dksX5_cutAll_11 13 rfl rfl)
theorem dX5_cutAll_270 : decode bcX5_cutAll 270 = .ok (.lload 5, 2) := dk_22 5 (dk_at dksX5_cutAll_11 14 rfl rfl)
theorem dX5_cutAll_272 : decode bcX5_cutAll 272 = .ok (.lastore, 1) := dk_80 (dk_at dksX5_cutAll_11 16 rfl rfl)
theorem dX5_cutAll_273 : decode bcX5_cutAll 273 = .ok (.iinc 1 1, 3) := dk_132 1 1 (dk_at dksX5_cutAll_11 17 rfl rfl)
theorem dX5_cutAll_276 : decode bcX5_cutAll 276 = .ok (.goto (-259), 3) := dk_167 254 253 (dk_at dksX5_cutAll_11 20 rfl rfl)
theorem dX5_cutAll_279 : decode bcX5_cutAll 279 = .ok (.aload_n 0, 1) := dk_42 (dk_at dksX5_cutAll_11 23 rfl rfl)
theorem dX5_cutAll_280 : decode bcX5_cutAll 280 = .ok (.getfield 24, 3) := dk_180 0 24 (dk_at dksX5_cutAll_12 0 rfl rfl)
theorem dX5_cutAll_283 : decode bcX5_cutAll 283 = .ok (.iload_n 1, 1) := dk_27 (dk_at dksX5_cutAll_12 3 rfl rfl)
theorem dX5_cutAll_284 : decode bcX5_cutAll 284 = .ok (.iconst 0, 1) := dk_3 (dk_at dksX5_cutAll_12 4 rfl rfl)
theorem dX5_cutAll_285 : decode bcX5_cutAll 285 = .ok (.iastore, 1) := dk_79 (dk_at dksX5_cutAll_12 5 rfl rfl)
theorem dX5_cutAll_286 : decode bcX5_cutAll 286 = .ok (.aload_n 0, 1) := dk_42 (dk_at dksX5_cutAll_12 6 rfl rfl)
theorem dX5_cutAll_287 : decode bcX5_cutAll 287 = .ok (.getfield 27, 3) := dk_180 0 27 (dk_at dksX5_cutAll_12 7 rfl rfl)
theorem dX5_cutAll_290 : decode bcX5_cutAll 290 = .ok (.iload_n 1, 1) := dk_27 (dk_at dksX5_cutAll_12 10 rfl rfl)
theorem dX5_cutAll_291 : decode bcX5_cutAll 291 = .ok (.aload_n 0, 1) := dk_42 (dk_at dksX5_cutAll_12 11 rfl rfl)
theorem dX5_cutAll_292 : decode bcX5_cutAll 292 = .ok (.getfield 143, 3) := dk_180 0 143 (dk_at dksX5_cutAll_12 12 rfl rfl)
theorem dX5_cutAll_295 : decode bcX5_cutAll 295 = .ok (.iastore, 1) := dk_79 (dk_at dksX5_cutAll_12 15 rfl rfl)
theorem dX5_cutAll_296 : decode bcX5_cutAll 296 = .ok (.aload_n 0, 1) := dk_42 (dk_at dksX5_cutAll_12 16 rfl rfl)
theorem dX5_cutAll_297 : decode bcX5_cutAll 297 = .ok (.iconst 0, 1) := dk_3 (dk_at dksX5_cutAll_12 17 rfl rfl)
theorem dX5_cutAll_298 : decode bcX5_cutAll 298 = .ok (.putfield 162, 3) := dk_181 0 162 (dk_at dksX5_cutAll_12 18 rfl rfl)
theorem dX5_cutAll_301 : decode bcX5_cutAll 301 = .ok (.aload_n 0, 1) := dk_42 (dk_at dksX5_cutAll_12 21 rfl rfl)
theorem dX5_cutAll_302 : decode bcX5_cutAll 302 = .ok (.iconst 0, 1) := dk_3 (dk_at dksX5_cutAll_12 22 rfl rfl)
theorem dX5_cutAll_303 : decode bcX5_cutAll 303 = .ok (.putfield 165, 3) := dk_181 0 165 (dk_at dksX5_cutAll_13 0 rfl rfl)
theorem dX5_cutAll_306 : decode bcX5_cutAll 306 = .ok (.return_, 1) := dk_177 (dk_at dksX5_cutAll_13 3 rfl rfl)
abbrev SX5_cutAll (pc : Nat) (i : xI) : Prop := Snd "SwollenHouseModel" "cutAll" prog_25_method_9_code 7 (Option.none : Option Jvm.ClassFile.FieldType) [] pc i
theorem oX5_cutAll_0 : SX5_cutAll 0 (i_aload 0 1) := snd_aload_n dX5_cutAll_0 rfl
theorem oX5_cutAll_1 : SX5_cutAll 1 (i_aload 0 2) := snd_aload_n dX5_cutAll_1 rfl
theorem oX5_cutAll_2 : SX5_cutAll 2 (i_getf 4 2 5) := snd_getf dX5_cutAll_2 rfl (by decide) in_X5 (Or.inl q1700) (Or.inl rfl) (by decide)
theorem oX5_cutAll_5 : SX5_cutAll 5 (i_putfi 4 3 8) := snd_putfi dX5_cutAll_5 rfl (by decide) in_X5 tyX5 tyX5_ok nmX5 (Or.inl ⟨rfl, q1701⟩) (Or.inl rfl) rfl
theorem oX5_cutAll_8 : SX5_cutAll 8 (i_aload 0 9) := snd_aload_n dX5_cutAll_8 rfl
theorem oX5_cutAll_9 : SX5_cutAll 9 (i_const (.int (nI 0)) 10) := snd_iconst dX5_cutAll_9 (by decide)
theorem oX5_cutAll_10 : SX5_cutAll 10 (i_putfi 4 2 13) := snd_putfi dX5_cutAll_10 rfl (by decide) in_X5 tyX5 tyX5_ok nmX5 (Or.inl ⟨rfl, q1700⟩) (Or.inl rfl) rfl
theorem oX5_cutAll_13 : SX5_cutAll 13 (i_const (.int (nI 0)) 14) := snd_iconst dX5_cutAll_13 (by decide)
theorem oX5_cutAll_14 : SX5_cutAll 14 (i_istore 1 15) := snd_istore_n dX5_cutAll_14 rfl (by decide)
theorem oX5_cutAll_15 : SX5_cutAll 15 (i_const (.int (nI 0)) 16) := snd_iconst dX5_cutAll_15 (by decide)
theorem oX5_cutAll_16 : SX5_cutAll 16 (i_istore 2 17) := snd_istore_n dX5_cutAll_16 rfl (by decide)
theorem oX5_cutAll_17 : SX5_cutAll 17 (i_iload 2 18) := snd_iload_n dX5_cutAll_17 rfl
theorem oX5_cutAll_18 : SX5_cutAll 18 (i_aload 0 19) := snd_aload_n dX5_cutAll_18 rfl
theorem oX5_cutAll_19 : SX5_cutAll 19 (i_getf 4 3 22) := snd_getf dX5_cutAll_19 rfl (by decide) in_X5 (Or.inl q1701) (Or.inl rfl) (by decide)
theorem oX5_cutAll_22 : SX5_cutAll 22 (i_if2 (fun x y => y ≤ x) 279 25) := snd_icmp_ge dX5_cutAll_22 (by decide)
theorem oX5_cutAll_25 : SX5_cutAll 25 (i_aload 0 26) := snd_aload_n dX5_cutAll_25 rfl
theorem oX5_cutAll_26 : SX5_cutAll 26 (i_getf 4 1 29) := snd_getf dX5_cutAll_26 rfl (by decide) in_X5 (Or.inl q1699) (Or.inl rfl) (by decide)
theorem oX5_cutAll_29 : SX5_cutAll 29 (i_iload 2 30) := snd_iload_n dX5_cutAll_29 rfl
theorem oX5_cutAll_30 : SX5_cutAll 30 (i_ai 0 31) := snd_ai0 dX5_cutAll_30
theorem oX5_cutAll_31 : SX5_cutAll 31 (i_istore 3 32) := snd_istore_n dX5_cutAll_31 rfl (by decide)
theorem oX5_cutAll_32 : SX5_cutAll 32 (i_iload 3 33) := snd_iload_n dX5_cutAll_32 rfl
theorem oX5_cutAll_33 : SX5_cutAll 33 (i_const (.int (nI 10)) 35) := snd_bipush dX5_cutAll_33 (by decide)
theorem oX5_cutAll_35 : SX5_cutAll 35 (i_if2 (fun x y => x = y) 44 38) := snd_icmp_eq dX5_cutAll_35 (by decide)
theorem oX5_cutAll_38 : SX5_cutAll 38 (i_iload 3 39) := snd_iload_n dX5_cutAll_38 rfl
theorem oX5_cutAll_39 : SX5_cutAll 39 (i_const (.int (nI 32)) 41) := snd_bipush dX5_cutAll_39 (by decide)
theorem oX5_cutAll_41 : SX5_cutAll 41 (i_if2 (fun x y => ¬ x = y) 50 44) := snd_icmp_ne dX5_cutAll_41 (by decide)
theorem oX5_cutAll_44 : SX5_cutAll 44 (i_iinc 2 (nI 1) 47) := snd_iinc dX5_cutAll_44 (by decide) (by decide)
theorem oX5_cutAll_47 : SX5_cutAll 47 (i_goto 17) := snd_goto dX5_cutAll_47 (by decide)
theorem oX5_cutAll_50 : SX5_cutAll 50 (i_iload 2 51) := snd_iload_n dX5_cutAll_50 rfl
theorem oX5_cutAll_51 : SX5_cutAll 51 (i_istore 4 53) := snd_istore dX5_cutAll_51 (by decide)
theorem oX5_cutAll_53 : SX5_cutAll 53 (i_const (.long (lN 0)) 54) := snd_lconst dX5_cutAll_53 (by decide)
theorem oX5_cutAll_54 : SX5_cutAll 54 (i_lstore 5 56) := snd_lstore dX5_cutAll_54 (by decide)
theorem oX5_cutAll_56 : SX5_cutAll 56 (i_aload 0 57) := snd_aload_n dX5_cutAll_56 rfl
theorem oX5_cutAll_57 : SX5_cutAll 57 (i_getf 4 5 60) := snd_getf dX5_cutAll_57 rfl (by decide) in_X5 (Or.inl q1703) (Or.inl rfl) (by decide)
theorem oX5_cutAll_60 : SX5_cutAll 60 (i_iload 1 61) := snd_iload_n dX5_cutAll_60 rfl
theorem oX5_cutAll_61 : SX5_cutAll 61 (i_iload 2 62) := snd_iload_n dX5_cutAll_61 rfl
theorem oX5_cutAll_62 : SX5_cutAll 62 (i_si (fun v => v) 0 63) := snd_si0 dX5_cutAll_62
theorem oX5_cutAll_63 : SX5_cutAll 63 (i_iload 3 64) := snd_iload_n dX5_cutAll_63 rfl
theorem oX5_cutAll_64 : SX5_cutAll 64 (i_cs 255 1 67) := snd_cs rfl infX5_isLetter (by decide) (xSm_S dX5_cutAll_64 q1804 q1805 q136 q1806 pdX5_isLetter)
theorem oX5_cutAll_67 : SX5_cutAll 67 (i_if1 (fun x => x = 0) 152 70) := snd_if_eq dX5_cutAll_67 (by decide)
theorem oX5_cutAll_70 : SX5_cutAll 70 (i_iload 2 71) := snd_iload_n dX5_cutAll_70 rfl
theorem oX5_cutAll_71 : SX5_cutAll 71 (i_aload 0 72) := snd_aload_n dX5_cutAll_71 rfl
theorem oX5_cutAll_72 : SX5_cutAll 72 (i_getf 4 3 75) := snd_getf dX5_cutAll_72 rfl (by decide) in_X5 (Or.inl q1701) (Or.inl rfl) (by decide)
theorem oX5_cutAll_75 : SX5_cutAll 75 (i_if2 (fun x y => y ≤ x) 129 78) := snd_icmp_ge dX5_cutAll_75 (by decide)
theorem oX5_cutAll_78 : SX5_cutAll 78 (i_aload 0 79) := snd_aload_n dX5_cutAll_78 rfl
theorem oX5_cutAll_79 : SX5_cutAll 79 (i_getf 4 1 82) := snd_getf dX5_cutAll_79 rfl (by decide) in_X5 (Or.inl q1699) (Or.inl rfl) (by decide)
theorem oX5_cutAll_82 : SX5_cutAll 82 (i_iload 2 83) := snd_iload_n dX5_cutAll_82 rfl
theorem oX5_cutAll_83 : SX5_cutAll 83 (i_ai 0 84) := snd_ai0 dX5_cutAll_83
theorem oX5_cutAll_84 : SX5_cutAll 84 (i_cs 255 1 87) := snd_cs rfl infX5_isLetter (by decide) (xSm_S dX5_cutAll_84 q1804 q1805 q136 q1806 pdX5_isLetter)
theorem oX5_cutAll_87 : SX5_cutAll 87 (i_if1 (fun x => x = 0) 129 90) := snd_if_eq dX5_cutAll_87 (by decide)
theorem oX5_cutAll_90 : SX5_cutAll 90 (i_iload 2 91) := snd_iload_n dX5_cutAll_90 rfl
theorem oX5_cutAll_91 : SX5_cutAll 91 (i_iload 4 93) := snd_iload dX5_cutAll_91
theorem oX5_cutAll_93 : SX5_cutAll 93 (i_ii (fun x y => x - y) 94) := snd_isub dX5_cutAll_93
theorem oX5_cutAll_94 : SX5_cutAll 94 (i_const (.int (nI 8)) 96) := snd_bipush dX5_cutAll_94 (by decide)
theorem oX5_cutAll_96 : SX5_cutAll 96 (i_if2 (fun x y => y ≤ x) 119 99) := snd_icmp_ge dX5_cutAll_96 (by decide)
theorem oX5_cutAll_99 : SX5_cutAll 99 (i_const (.long (lN 37)) 102) := snd_ldc2 dX5_cutAll_99 q1807
theorem oX5_cutAll_102 : SX5_cutAll 102 (i_lload 5 104) := snd_lload dX5_cutAll_102
theorem oX5_cutAll_104 : SX5_cutAll 104 (i_ll (fun x y => x * y) 105) := snd_lmul dX5_cutAll_104
theorem oX5_cutAll_105 : SX5_cutAll 105 (i_aload 0 106) := snd_aload_n dX5_cutAll_105 rfl
theorem oX5_cutAll_106 : SX5_cutAll 106 (i_getf 4 1 109) := snd_getf dX5_cutAll_106 rfl (by decide) in_X5 (Or.inl q1699) (Or.inl rfl) (by decide)
theorem oX5_cutAll_109 : SX5_cutAll 109 (i_iload 2 110) := snd_iload_n dX5_cutAll_109 rfl
theorem oX5_cutAll_110 : SX5_cutAll 110 (i_ai 0 111) := snd_ai0 dX5_cutAll_110
theorem oX5_cutAll_111 : SX5_cutAll 111 (i_cs 256 1 114) := snd_cs rfl infX5_rank (by decide) (xSm_S dX5_cutAll_111 q1808 q1809 q136 q1810 pdX5_rank)
theorem oX5_cutAll_114 : SX5_cutAll 114 (i_i2l 115) := snd_i2l dX5_cutAll_114
theorem oX5_cutAll_115 : SX5_cutAll 115 (i_ll (fun x y => x + y) 116) := snd_ladd dX5_cutAll_115
theorem oX5_cutAll_116 : SX5_cutAll 116 (i_goto 121) := snd_goto dX5_cutAll_116 (by decide)
theorem oX5_cutAll_119 : SX5_cutAll 119 (i_lload 5 121) := snd_lload dX5_cutAll_119
theorem oX5_cutAll_121 : SX5_cutAll 121 (i_lstore 5 123) := snd_lstore dX5_cutAll_121 (by decide)
theorem oX5_cutAll_123 : SX5_cutAll 123 (i_iinc 2 (nI 1) 126) := snd_iinc dX5_cutAll_123 (by decide) (by decide)
theorem oX5_cutAll_126 : SX5_cutAll 126 (i_goto 70) := snd_goto dX5_cutAll_126 (by decide)
theorem oX5_cutAll_129 : SX5_cutAll 129 (i_aload 0 130) := snd_aload_n dX5_cutAll_129 rfl
theorem oX5_cutAll_130 : SX5_cutAll 130 (i_getf 4 4 133) := snd_getf dX5_cutAll_130 rfl (by decide) in_X5 (Or.inl q1702) (Or.inl rfl) (by decide)
theorem oX5_cutAll_133 : SX5_cutAll 133 (i_iload 1 134) := snd_iload_n dX5_cutAll_133 rfl
theorem oX5_cutAll_134 : SX5_cutAll 134 (i_iload 2 135) := snd_iload_n dX5_cutAll_134 rfl
theorem oX5_cutAll_135 : SX5_cutAll 135 (i_iload 4 137) := snd_iload dX5_cutAll_135
theorem oX5_cutAll_137 : SX5_cutAll 137 (i_ii (fun x y => x - y) 138) := snd_isub dX5_cutAll_137
theorem oX5_cutAll_138 : SX5_cutAll 138 (i_const (.int (nI 8)) 140) := snd_bipush dX5_cutAll_138 (by decide)
theorem oX5_cutAll_140 : SX5_cutAll 140 (i_if2 (fun x y => x ≤ y) 147 143) := snd_icmp_le dX5_cutAll_140 (by decide)
theorem oX5_cutAll_143 : SX5_cutAll 143 (i_const (.int (nI 4)) 144) := snd_iconst dX5_cutAll_143 (by decide)
theorem oX5_cutAll_144 : SX5_cutAll 144 (i_goto 148) := snd_goto dX5_cutAll_144 (by decide)
theorem oX5_cutAll_147 : SX5_cutAll 147 (i_const (.int (nI 1)) 148) := snd_iconst dX5_cutAll_147 (by decide)
theorem oX5_cutAll_148 : SX5_cutAll 148 (i_si (fun v => v) 0 149) := snd_si0 dX5_cutAll_148
theorem oX5_cutAll_149 : SX5_cutAll 149 (i_goto 265) := snd_goto dX5_cutAll_149 (by decide)
theorem oX5_cutAll_152 : SX5_cutAll 152 (i_iload 3 153) := snd_iload_n dX5_cutAll_152 rfl
theorem oX5_cutAll_153 : SX5_cutAll 153 (i_cs 257 1 156) := snd_cs rfl infX5_isDigit (by decide) (xSm_S dX5_cutAll_153 q1811 q1812 q136 q1813 pdX5_isDigit)
theorem oX5_cutAll_156 : SX5_cutAll 156 (i_if1 (fun x => x = 0) 240 159) := snd_if_eq dX5_cutAll_156 (by decide)
theorem oX5_cutAll_159 : SX5_cutAll 159 (i_iload 2 160) := snd_iload_n dX5_cutAll_159 rfl
theorem oX5_cutAll_160 : SX5_cutAll 160 (i_aload 0 161) := snd_aload_n dX5_cutAll_160 rfl
theorem oX5_cutAll_161 : SX5_cutAll 161 (i_getf 4 3 164) := snd_getf dX5_cutAll_161 rfl (by decide) in_X5 (Or.inl q1701) (Or.inl rfl) (by decide)
theorem oX5_cutAll_164 : SX5_cutAll 164 (i_if2 (fun x y => y ≤ x) 218 167) := snd_icmp_ge dX5_cutAll_164 (by decide)
theorem oX5_cutAll_167 : SX5_cutAll 167 (i_aload 0 168) := snd_aload_n dX5_cutAll_167 rfl
theorem oX5_cutAll_168 : SX5_cutAll 168 (i_getf 4 1 171) := snd_getf dX5_cutAll_168 rfl (by decide) in_X5 (Or.inl q1699) (Or.inl rfl) (by decide)
theorem oX5_cutAll_171 : SX5_cutAll 171 (i_iload 2 172) := snd_iload_n dX5_cutAll_171 rfl
theorem oX5_cutAll_172 : SX5_cutAll 172 (i_ai 0 173) := snd_ai0 dX5_cutAll_172
theorem oX5_cutAll_173 : SX5_cutAll 173 (i_cs 257 1 176) := snd_cs rfl infX5_isDigit (by decide) (xSm_S dX5_cutAll_173 q1811 q1812 q136 q1813 pdX5_isDigit)
theorem oX5_cutAll_176 : SX5_cutAll 176 (i_if1 (fun x => x = 0) 218 179) := snd_if_eq dX5_cutAll_176 (by decide)
theorem oX5_cutAll_179 : SX5_cutAll 179 (i_iload 2 180) := snd_iload_n dX5_cutAll_179 rfl
theorem oX5_cutAll_180 : SX5_cutAll 180 (i_iload 4 182) := snd_iload dX5_cutAll_180
theorem oX5_cutAll_182 : SX5_cutAll 182 (i_ii (fun x y => x - y) 183) := snd_isub dX5_cutAll_182
theorem oX5_cutAll_183 : SX5_cutAll 183 (i_const (.int (nI 4)) 184) := snd_iconst dX5_cutAll_183 (by decide)
theorem oX5_cutAll_184 : SX5_cutAll 184 (i_if2 (fun x y => y ≤ x) 208 187) := snd_icmp_ge dX5_cutAll_184 (by decide)
theorem oX5_cutAll_187 : SX5_cutAll 187 (i_const (.long (lN 10)) 190) := snd_ldc2 dX5_cutAll_187 q1814
theorem oX5_cutAll_190 : SX5_cutAll 190 (i_lload 5 192) := snd_lload dX5_cutAll_190
theorem oX5_cutAll_192 : SX5_cutAll 192 (i_ll (fun x y => x * y) 193) := snd_lmul dX5_cutAll_192
theorem oX5_cutAll_193 : SX5_cutAll 193 (i_aload 0 194) := snd_aload_n dX5_cutAll_193 rfl
theorem oX5_cutAll_194 : SX5_cutAll 194 (i_getf 4 1 197) := snd_getf dX5_cutAll_194 rfl (by decide) in_X5 (Or.inl q1699) (Or.inl rfl) (by decide)
theorem oX5_cutAll_197 : SX5_cutAll 197 (i_iload 2 198) := snd_iload_n dX5_cutAll_197 rfl
theorem oX5_cutAll_198 : SX5_cutAll 198 (i_ai 0 199) := snd_ai0 dX5_cutAll_198
theorem oX5_cutAll_199 : SX5_cutAll 199 (i_i2l 200) := snd_i2l dX5_cutAll_199
theorem oX5_cutAll_200 : SX5_cutAll 200 (i_ll (fun x y => x + y) 201) := snd_ladd dX5_cutAll_200
theorem oX5_cutAll_201 : SX5_cutAll 201 (i_const (.long (lN 48)) 204) := snd_ldc2 dX5_cutAll_201 q1815
theorem oX5_cutAll_204 : SX5_cutAll 204 (i_ll (fun x y => x - y) 205) := snd_lsub dX5_cutAll_204
theorem oX5_cutAll_205 : SX5_cutAll 205 (i_goto 210) := snd_goto dX5_cutAll_205 (by decide)
theorem oX5_cutAll_208 : SX5_cutAll 208 (i_lload 5 210) := snd_lload dX5_cutAll_208
theorem oX5_cutAll_210 : SX5_cutAll 210 (i_lstore 5 212) := snd_lstore dX5_cutAll_210 (by decide)
theorem oX5_cutAll_212 : SX5_cutAll 212 (i_iinc 2 (nI 1) 215) := snd_iinc dX5_cutAll_212 (by decide) (by decide)
theorem oX5_cutAll_215 : SX5_cutAll 215 (i_goto 159) := snd_goto dX5_cutAll_215 (by decide)
theorem oX5_cutAll_218 : SX5_cutAll 218 (i_aload 0 219) := snd_aload_n dX5_cutAll_218 rfl
theorem oX5_cutAll_219 : SX5_cutAll 219 (i_getf 4 4 222) := snd_getf dX5_cutAll_219 rfl (by decide) in_X5 (Or.inl q1702) (Or.inl rfl) (by decide)
theorem oX5_cutAll_222 : SX5_cutAll 222 (i_iload 1 223) := snd_iload_n dX5_cutAll_222 rfl
theorem oX5_cutAll_223 : SX5_cutAll 223 (i_iload 2 224) := snd_iload_n dX5_cutAll_223 rfl
theorem oX5_cutAll_224 : SX5_cutAll 224 (i_iload 4 226) := snd_iload dX5_cutAll_224
theorem oX5_cutAll_226 : SX5_cutAll 226 (i_ii (fun x y => x - y) 227) := snd_isub dX5_cutAll_226
theorem oX5_cutAll_227 : SX5_cutAll 227 (i_const (.int (nI 4)) 228) := snd_iconst dX5_cutAll_227 (by decide)
theorem oX5_cutAll_228 : SX5_cutAll 228 (i_if2 (fun x y => x ≤ y) 235 231) := snd_icmp_le dX5_cutAll_228 (by decide)
theorem oX5_cutAll_231 : SX5_cutAll 231 (i_const (.int (nI 4)) 232) := snd_iconst dX5_cutAll_231 (by decide)
theorem oX5_cutAll_232 : SX5_cutAll 232 (i_goto 236) := snd_goto dX5_cutAll_232 (by decide)
theorem oX5_cutAll_235 : SX5_cutAll 235 (i_const (.int (nI 2)) 236) := snd_iconst dX5_cutAll_235 (by decide)
theorem oX5_cutAll_236 : SX5_cutAll 236 (i_si (fun v => v) 0 237) := snd_si0 dX5_cutAll_236
theorem oX5_cutAll_237 : SX5_cutAll 237 (i_goto 265) := snd_goto dX5_cutAll_237 (by decide)
theorem oX5_cutAll_240 : SX5_cutAll 240 (i_iload 3 241) := snd_iload_n dX5_cutAll_240 rfl
theorem oX5_cutAll_241 : SX5_cutAll 241 (i_i2l 242) := snd_i2l dX5_cutAll_241
theorem oX5_cutAll_242 : SX5_cutAll 242 (i_lstore 5 244) := snd_lstore dX5_cutAll_242 (by decide)
theorem oX5_cutAll_244 : SX5_cutAll 244 (i_aload 0 245) := snd_aload_n dX5_cutAll_244 rfl
theorem oX5_cutAll_245 : SX5_cutAll 245 (i_getf 4 4 248) := snd_getf dX5_cutAll_245 rfl (by decide) in_X5 (Or.inl q1702) (Or.inl rfl) (by decide)
theorem oX5_cutAll_248 : SX5_cutAll 248 (i_iload 1 249) := snd_iload_n dX5_cutAll_248 rfl
theorem oX5_cutAll_249 : SX5_cutAll 249 (i_iload 3 250) := snd_iload_n dX5_cutAll_249 rfl
theorem oX5_cutAll_250 : SX5_cutAll 250 (i_cs 258 1 253) := snd_cs rfl infX5_isSignOf (by decide) (xSm_S dX5_cutAll_250 q1816 q1817 q136 q1818 pdX5_isSignOf)
theorem oX5_cutAll_253 : SX5_cutAll 253 (i_if1 (fun x => x = 0) 260 256) := snd_if_eq dX5_cutAll_253 (by decide)
theorem oX5_cutAll_256 : SX5_cutAll 256 (i_const (.int (nI 3)) 257) := snd_iconst dX5_cutAll_256 (by decide)
theorem oX5_cutAll_257 : SX5_cutAll 257 (i_goto 261) := snd_goto dX5_cutAll_257 (by decide)
theorem oX5_cutAll_260 : SX5_cutAll 260 (i_const (.int (nI 4)) 261) := snd_iconst dX5_cutAll_260 (by decide)
theorem oX5_cutAll_261 : SX5_cutAll 261 (i_si (fun v => v) 0 262) := snd_si0 dX5_cutAll_261
theorem oX5_cutAll_262 : SX5_cutAll 262 (i_iinc 2 (nI 1) 265) := snd_iinc dX5_cutAll_262 (by decide) (by decide)
theorem oX5_cutAll_265 : SX5_cutAll 265 (i_aload 0 266) := snd_aload_n dX5_cutAll_265 rfl
theorem oX5_cutAll_266 : SX5_cutAll 266 (i_getf 4 6 269) := snd_getf dX5_cutAll_266 rfl (by decide) in_X5 (Or.inl q1704) (Or.inl rfl) (by decide)
theorem oX5_cutAll_269 : SX5_cutAll 269 (i_iload 1 270) := snd_iload_n dX5_cutAll_269 rfl
theorem oX5_cutAll_270 : SX5_cutAll 270 (i_lload 5 272) := snd_lload dX5_cutAll_270
theorem oX5_cutAll_272 : SX5_cutAll 272 (i_sl 3 273) := snd_sl3 dX5_cutAll_272
theorem oX5_cutAll_273 : SX5_cutAll 273 (i_iinc 1 (nI 1) 276) := snd_iinc dX5_cutAll_273 (by decide) (by decide)
theorem oX5_cutAll_276 : SX5_cutAll 276 (i_goto 17) := snd_goto dX5_cutAll_276 (by decide)
theorem oX5_cutAll_279 : SX5_cutAll 279 (i_aload 0 280) := snd_aload_n dX5_cutAll_279 rfl
theorem oX5_cutAll_280 : SX5_cutAll 280 (i_getf 4 4 283) := snd_getf dX5_cutAll_280 rfl (by decide) in_X5 (Or.inl q1702) (Or.inl rfl) (by decide)
theorem oX5_cutAll_283 : SX5_cutAll 283 (i_iload 1 284) := snd_iload_n dX5_cutAll_283 rfl
theorem oX5_cutAll_284 : SX5_cutAll 284 (i_const (.int (nI 0)) 285) := snd_iconst dX5_cutAll_284 (by decide)
theorem oX5_cutAll_285 : SX5_cutAll 285 (i_si (fun v => v) 0 286) := snd_si0 dX5_cutAll_285
theorem oX5_cutAll_286 : SX5_cutAll 286 (i_aload 0 287) := snd_aload_n dX5_cutAll_286 rfl
theorem oX5_cutAll_287 : SX5_cutAll 287 (i_getf 4 5 290) := snd_getf dX5_cutAll_287 rfl (by decide) in_X5 (Or.inl q1703) (Or.inl rfl) (by decide)
theorem oX5_cutAll_290 : SX5_cutAll 290 (i_iload 1 291) := snd_iload_n dX5_cutAll_290 rfl
theorem oX5_cutAll_291 : SX5_cutAll 291 (i_aload 0 292) := snd_aload_n dX5_cutAll_291 rfl
theorem oX5_cutAll_292 : SX5_cutAll 292 (i_getf 4 3 295) := snd_getf dX5_cutAll_292 rfl (by decide) in_X5 (Or.inl q1701) (Or.inl rfl) (by decide)
theorem oX5_cutAll_295 : SX5_cutAll 295 (i_si (fun v => v) 0 296) := snd_si0 dX5_cutAll_295
theorem oX5_cutAll_296 : SX5_cutAll 296 (i_aload 0 297) := snd_aload_n dX5_cutAll_296 rfl
theorem oX5_cutAll_297 : SX5_cutAll 297 (i_const (.int (nI 0)) 298) := snd_iconst dX5_cutAll_297 (by decide)
theorem oX5_cutAll_298 : SX5_cutAll 298 (i_putfi 4 7 301) := snd_putfi dX5_cutAll_298 rfl (by decide) in_X5 tyX5 tyX5_ok nmX5 (Or.inl ⟨rfl, q1705⟩) (Or.inl rfl) rfl
theorem oX5_cutAll_301 : SX5_cutAll 301 (i_aload 0 302) := snd_aload_n dX5_cutAll_301 rfl
theorem oX5_cutAll_302 : SX5_cutAll 302 (i_const (.int (nI 0)) 303) := snd_iconst dX5_cutAll_302 (by decide)
theorem oX5_cutAll_303 : SX5_cutAll 303 (i_putfi 4 8 306) := snd_putfi dX5_cutAll_303 rfl (by decide) in_X5 tyX5 tyX5_ok nmX5 (Or.inl ⟨rfl, q1706⟩) (Or.inl rfl) rfl
theorem oX5_cutAll_306 : SX5_cutAll 306 (i_vret) := snd_vret dX5_cutAll_306 rfl
theorem okX5_cutAll : ∀ q ∈ cX5_cutAll, SX5_cutAll q.1 q.2 := List.forall_mem_cons.mpr ⟨oX5_cutAll_0, List.forall_mem_cons.mpr ⟨oX5_cutAll_1, List.forall_mem_cons.mpr ⟨oX5_cutAll_2, List.forall_mem_cons.mpr ⟨oX5_cutAll_5, List.forall_mem_cons.mpr ⟨oX5_cutAll_8, List.forall_mem_cons.mpr ⟨oX5_cutAll_9, List.forall_mem_cons.mpr ⟨oX5_cutAll_10, List.forall_mem_cons.mpr ⟨oX5_cutAll_13, List.forall_mem_cons.mpr ⟨oX5_cutAll_14, List.forall_mem_cons.mpr ⟨oX5_cutAll_15, List.forall_mem_cons.mpr ⟨oX5_cutAll_16, List.forall_mem_cons.mpr ⟨oX5_cutAll_17, List.forall_mem_cons.mpr ⟨oX5_cutAll_18, List.forall_mem_cons.mpr ⟨oX5_cutAll_19, List.forall_mem_cons.mpr ⟨oX5_cutAll_22, List.forall_mem_cons.mpr ⟨oX5_cutAll_25, List.forall_mem_cons.mpr ⟨oX5_cutAll_26, List.forall_mem_cons.mpr ⟨oX5_cutAll_29, List.forall_mem_cons.mpr ⟨oX5_cutAll_30, List.forall_mem_cons.mpr ⟨oX5_cutAll_31, List.forall_mem_cons.mpr ⟨oX5_cutAll_32, List.forall_mem_cons.mpr ⟨oX5_cutAll_33, List.forall_mem_cons.mpr ⟨oX5_cutAll_35, List.forall_mem_cons.mpr ⟨oX5_cutAll_38, List.forall_mem_cons.mpr ⟨oX5_cutAll_39, List.forall_mem_cons.mpr ⟨oX5_cutAll_41, List.forall_mem_cons.mpr ⟨oX5_cutAll_44, List.forall_mem_cons.mpr ⟨oX5_cutAll_47, List.forall_mem_cons.mpr ⟨oX5_cutAll_50, List.forall_mem_cons.mpr ⟨oX5_cutAll_51, List.forall_mem_cons.mpr ⟨oX5_cutAll_53, List.forall_mem_cons.mpr ⟨oX5_cutAll_54, List.forall_mem_cons.mpr ⟨oX5_cutAll_56, List.forall_mem_cons.mpr ⟨oX5_cutAll_57, List.forall_mem_cons.mpr ⟨oX5_cutAll_60, List.forall_mem_cons.mpr ⟨oX5_cutAll_61, List.forall_mem_cons.mpr ⟨oX5_cutAll_62, List.forall_mem_cons.mpr ⟨oX5_cutAll_63, List.forall_mem_cons.mpr ⟨oX5_cutAll_64, List.forall_mem_cons.mpr ⟨oX5_cutAll_67, List.forall_mem_cons.mpr ⟨oX5_cutAll_70, List.forall_mem_cons.mpr ⟨oX5_cutAll_71, List.forall_mem_cons.mpr ⟨oX5_cutAll_72, List.forall_mem_cons.mpr ⟨oX5_cutAll_75, List.forall_mem_cons.mpr ⟨oX5_cutAll_78, List.forall_mem_cons.mpr ⟨oX5_cutAll_79, List.forall_mem_cons.mpr ⟨oX5_cutAll_82, List.forall_mem_cons.mpr ⟨oX5_cutAll_83, List.forall_mem_cons.mpr ⟨oX5_cutAll_84, List.forall_mem_cons.mpr ⟨oX5_cutAll_87, List.forall_mem_cons.mpr ⟨oX5_cutAll_90, List.forall_mem_cons.mpr ⟨oX5_cutAll_91, List.forall_mem_cons.mpr ⟨oX5_cutAll_93, List.forall_mem_cons.mpr ⟨oX5_cutAll_94, List.forall_mem_cons.mpr ⟨oX5_cutAll_96, List.forall_mem_cons.mpr ⟨oX5_cutAll_99, List.forall_mem_cons.mpr ⟨oX5_cutAll_102, List.forall_mem_cons.mpr ⟨oX5_cutAll_104, List.forall_mem_cons.mpr ⟨oX5_cutAll_105, List.forall_mem_cons.mpr ⟨oX5_cutAll_106, List.forall_mem_cons.mpr ⟨oX5_cutAll_109, List.forall_mem_cons.mpr ⟨oX5_cutAll_110, List.forall_mem_cons.mpr ⟨oX5_cutAll_111, List.forall_mem_cons.mpr ⟨oX5_cutAll_114, List.forall_mem_cons.mpr ⟨oX5_cutAll_115, List.forall_mem_cons.mpr ⟨oX5_cutAll_116, List.forall_mem_cons.mpr ⟨oX5_cutAll_119, List.forall_mem_cons.mpr ⟨oX5_cutAll_121, List.forall_mem_cons.mpr ⟨oX5_cutAll_123, List.forall_mem_cons.mpr ⟨oX5_cutAll_126, List.forall_mem_cons.mpr ⟨oX5_cutAll_129, List.forall_mem_cons.mpr ⟨oX5_cutAll_130, List.forall_mem_cons.mpr ⟨oX5_cutAll_133, List.forall_mem_cons.mpr ⟨oX5_cutAll_134, List.forall_mem_cons.mpr ⟨oX5_cutAll_135, List.forall_mem_cons.mpr ⟨oX5_cutAll_137, List.forall_mem_cons.mpr ⟨oX5_cutAll_138, List.forall_mem_cons.mpr ⟨oX5_cutAll_140, List.forall_mem_cons.mpr ⟨oX5_cutAll_143, List.forall_mem_cons.mpr ⟨oX5_cutAll_144, List.forall_mem_cons.mpr ⟨oX5_cutAll_147, List.forall_mem_cons.mpr ⟨oX5_cutAll_148, List.forall_mem_cons.mpr ⟨oX5_cutAll_149, List.forall_mem_cons.mpr ⟨oX5_cutAll_152, List.forall_mem_cons.mpr ⟨oX5_cutAll_153, List.forall_mem_cons.mpr ⟨oX5_cutAll_156, List.forall_mem_cons.mpr ⟨oX5_cutAll_159, List.forall_mem_cons.mpr ⟨oX5_cutAll_160, List.forall_mem_cons.mpr ⟨oX5_cutAll_161, List.forall_mem_cons.mpr ⟨oX5_cutAll_164, List.forall_mem_cons.mpr ⟨oX5_cutAll_167, List.forall_mem_cons.mpr ⟨oX5_cutAll_168, List.forall_mem_cons.mpr ⟨oX5_cutAll_171, List.forall_mem_cons.mpr ⟨oX5_cutAll_172, List.forall_mem_cons.mpr ⟨oX5_cutAll_173, List.forall_mem_cons.mpr ⟨oX5_cutAll_176, List.forall_mem_cons.mpr ⟨oX5_cutAll_179, List.forall_mem_cons.mpr ⟨oX5_cutAll_180, List.forall_mem_cons.mpr ⟨oX5_cutAll_182, List.forall_mem_cons.mpr ⟨oX5_cutAll_183, List.forall_mem_cons.mpr ⟨oX5_cutAll_184, List.forall_mem_cons.mpr ⟨oX5_cutAll_187, List.forall_mem_cons.mpr ⟨oX5_cutAll_190, List.forall_mem_cons.mpr ⟨oX5_cutAll_192, List.forall_mem_cons.mpr ⟨oX5_cutAll_193, List.forall_mem_cons.mpr ⟨oX5_cutAll_194, List.forall_mem_cons.mpr ⟨oX5_cutAll_197, List.forall_mem_cons.mpr ⟨oX5_cutAll_198, List.forall_mem_cons.mpr ⟨oX5_cutAll_199, List.forall_mem_cons.mpr ⟨oX5_cutAll_200, List.forall_mem_cons.mpr ⟨oX5_cutAll_201, List.forall_mem_cons.mpr ⟨oX5_cutAll_204, List.forall_mem_cons.mpr ⟨oX5_cutAll_205, List.forall_mem_cons.mpr ⟨oX5_cutAll_208, List.forall_mem_cons.mpr ⟨oX5_cutAll_210, List.forall_mem_cons.mpr ⟨oX5_cutAll_212, List.forall_mem_cons.mpr ⟨oX5_cutAll_215, List.forall_mem_cons.mpr ⟨oX5_cutAll_218, List.forall_mem_cons.mpr ⟨oX5_cutAll_219, List.forall_mem_cons.mpr ⟨oX5_cutAll_222, List.forall_mem_cons.mpr ⟨oX5_cutAll_223, List.forall_mem_cons.mpr ⟨oX5_cutAll_224, List.forall_mem_cons.mpr ⟨oX5_cutAll_226, List.forall_mem_cons.mpr ⟨oX5_cutAll_227, List.forall_mem_cons.mpr ⟨oX5_cutAll_228, List.forall_mem_cons.mpr ⟨oX5_cutAll_231, List.forall_mem_cons.mpr ⟨oX5_cutAll_232, List.forall_mem_cons.mpr ⟨oX5_cutAll_235, List.forall_mem_cons.mpr ⟨oX5_cutAll_236, List.forall_mem_cons.mpr ⟨oX5_cutAll_237, List.forall_mem_cons.mpr ⟨oX5_cutAll_240, List.forall_mem_cons.mpr ⟨oX5_cutAll_241, List.forall_mem_cons.mpr ⟨oX5_cutAll_242, List.forall_mem_cons.mpr ⟨oX5_cutAll_244, List.forall_mem_cons.mpr ⟨oX5_cutAll_245, List.forall_mem_cons.mpr ⟨oX5_cutAll_248, List.forall_mem_cons.mpr ⟨oX5_cutAll_249, List.forall_mem_cons.mpr ⟨oX5_cutAll_250, List.forall_mem_cons.mpr ⟨oX5_cutAll_253, List.forall_mem_cons.mpr ⟨oX5_cutAll_256, List.forall_mem_cons.mpr ⟨oX5_cutAll_257, List.forall_mem_cons.mpr ⟨oX5_cutAll_260, List.forall_mem_cons.mpr ⟨oX5_cutAll_261, List.forall_mem_cons.mpr ⟨oX5_cutAll_262, List.forall_mem_cons.mpr ⟨oX5_cutAll_265, List.forall_mem_cons.mpr ⟨oX5_cutAll_266, List.forall_mem_cons.mpr ⟨oX5_cutAll_269, List.forall_mem_cons.mpr ⟨oX5_cutAll_270, List.forall_mem_cons.mpr ⟨oX5_cutAll_272, List.forall_mem_cons.mpr ⟨oX5_cutAll_273, List.forall_mem_cons.mpr ⟨oX5_cutAll_276, List.forall_mem_cons.mpr ⟨oX5_cutAll_279, List.forall_mem_cons.mpr ⟨oX5_cutAll_280, List.forall_mem_cons.mpr ⟨oX5_cutAll_283, List.forall_mem_cons.mpr ⟨oX5_cutAll_284, List.forall_mem_cons.mpr ⟨oX5_cutAll_285, List.forall_mem_cons.mpr ⟨oX5_cutAll_286, List.forall_mem_cons.mpr ⟨oX5_cutAll_287, List.forall_mem_cons.mpr ⟨oX5_cutAll_290, List.forall_mem_cons.mpr ⟨oX5_cutAll_291, List.forall_mem_cons.mpr ⟨oX5_cutAll_292, List.forall_mem_cons.mpr ⟨oX5_cutAll_295, List.forall_mem_cons.mpr ⟨oX5_cutAll_296, List.forall_mem_cons.mpr ⟨oX5_cutAll_297, List.forall_mem_cons.mpr ⟨oX5_cutAll_298, List.forall_mem_cons.mpr ⟨oX5_cutAll_301, List.forall_mem_cons.mpr ⟨oX5_cutAll_302, List.forall_mem_cons.mpr ⟨oX5_cutAll_303, List.forall_mem_cons.mpr ⟨oX5_cutAll_306, fun _ h => absurd h List.not_mem_nil⟩⟩⟩⟩⟩⟩⟩⟩⟩⟩⟩⟩⟩⟩⟩⟩⟩⟩⟩⟩⟩⟩⟩⟩⟩⟩⟩⟩⟩⟩⟩⟩⟩⟩⟩⟩⟩⟩⟩⟩⟩⟩⟩⟩⟩⟩⟩⟩⟩⟩⟩⟩⟩⟩⟩⟩⟩⟩⟩⟩⟩⟩⟩⟩⟩⟩⟩⟩⟩⟩⟩⟩⟩⟩⟩⟩⟩⟩⟩⟩⟩⟩⟩⟩⟩⟩⟩⟩⟩⟩⟩⟩⟩⟩⟩⟩⟩⟩⟩⟩⟩⟩⟩⟩⟩⟩⟩⟩⟩⟩⟩⟩⟩⟩⟩⟩⟩⟩⟩⟩⟩⟩⟩⟩⟩⟩⟩⟩⟩⟩⟩⟩⟩⟩⟩⟩⟩⟩⟩⟩⟩⟩⟩⟩⟩⟩⟩⟩⟩⟩⟩⟩⟩⟩⟩⟩⟩⟩⟩⟩⟩⟩⟩⟩⟩⟩⟩⟩⟩
def dkwX5_isLetter_0 : List UInt8 := [26, 16, 97, 161, 0, 13, 26, 16, 122, 163, 0, 7, 4, 167, 0, 4, 3, 172]
abbrev dktX5_isLetter_0 : List UInt8 := dkwX5_isLetter_0 ++ []
theorem dksX5_isLetter_0 : bcX5_isLetter.data.toList.drop 0 = dktX5_isLetter_0 := by decide +kernel
theorem dX5_isLetter_0 : decode bcX5_isLetter 0 = .ok (.iload_n 0, 1) := dk_26 (dk_at dksX5_isLetter_0 0 rfl rfl)
theorem dX5_isLetter_1 : decode bcX5_isLetter 1 = .ok (.bipush 97, 2) := dk_16 97 (dk_at dksX5_isLetter_0 1 rfl rfl)
theorem dX5_isLetter_3 : decode bcX5_isLetter 3 = .ok (.if_icmp .lt 13, 3) := dk_161 0 13 (dk_at dksX5_isLetter_0 3 rfl rfl)
theorem dX5_isLetter_6 : decode bcX5_isLetter 6 = .ok (.iload_n 0, 1) := dk_26 (dk_at dksX5_isLetter_0 6 rfl rfl)
theorem dX5_isLetter_7 : decode bcX5_isLetter 7 = .ok (.bipush 122, 2) := dk_16 122 (dk_at dksX5_isLetter_0 7 rfl rfl)
theorem dX5_isLetter_9 : decode bcX5_isLetter 9 = .ok (.if_icmp .gt 7, 3) := dk_163 0 7 (dk_at dksX5_isLetter_0 9 rfl rfl)
theorem dX5_isLetter_12 : decode bcX5_isLetter 12 = .ok (.iconst 1, 1) := dk_4 (dk_at dksX5_isLetter_0 12 rfl rfl)
theorem dX5_isLetter_13 : decode bcX5_isLetter 13 = .ok (.goto 4, 3) := dk_167 0 4 (dk_at dksX5_isLetter_0 13 rfl rfl)
theorem dX5_isLetter_16 : decode bcX5_isLetter 16 = .ok (.iconst 0, 1) := dk_3 (dk_at dksX5_isLetter_0 16 rfl rfl)
theorem dX5_isLetter_17 : decode bcX5_isLetter 17 = .ok (.ireturn, 1) := dk_172 (dk_at dksX5_isLetter_0 17 rfl rfl)
abbrev SX5_isLetter (pc : Nat) (i : xI) : Prop := Snd "SwollenHouseModel" "isLetter" prog_25_method_5_code 1 (Option.some Jvm.ClassFile.FieldType.boolean) [] pc i
theorem oX5_isLetter_0 : SX5_isLetter 0 (i_iload 0 1) := snd_iload_n dX5_isLetter_0 rfl
theorem oX5_isLetter_1 : SX5_isLetter 1 (i_const (.int (nI 97)) 3) := snd_bipush dX5_isLetter_1 (by decide)
theorem oX5_isLetter_3 : SX5_isLetter 3 (i_if2 (fun x y => x < y) 16 6) := snd_icmp_lt dX5_isLetter_3 (by decide)
theorem oX5_isLetter_6 : SX5_isLetter 6 (i_iload 0 7) := snd_iload_n dX5_isLetter_6 rfl
theorem oX5_isLetter_7 : SX5_isLetter 7 (i_const (.int (nI 122)) 9) := snd_bipush dX5_isLetter_7 (by decide)
theorem oX5_isLetter_9 : SX5_isLetter 9 (i_if2 (fun x y => y < x) 16 12) := snd_icmp_gt dX5_isLetter_9 (by decide)
theorem oX5_isLetter_12 : SX5_isLetter 12 (i_const (.int (nI 1)) 13) := snd_iconst dX5_isLetter_12 (by decide)
theorem oX5_isLetter_13 : SX5_isLetter 13 (i_goto 17) := snd_goto dX5_isLetter_13 (by decide)
theorem oX5_isLetter_16 : SX5_isLetter 16 (i_const (.int (nI 0)) 17) := snd_iconst dX5_isLetter_16 (by decide)
theorem oX5_isLetter_17 : SX5_isLetter 17 (i_zret) := snd_zret dX5_isLetter_17 rfl
theorem okX5_isLetter : ∀ q ∈ cX5_isLetter, SX5_isLetter q.1 q.2 := List.forall_mem_cons.mpr ⟨oX5_isLetter_0, List.forall_mem_cons.mpr ⟨oX5_isLetter_1, List.forall_mem_cons.mpr ⟨oX5_isLetter_3, List.forall_mem_cons.mpr ⟨oX5_isLetter_6, List.forall_mem_cons.mpr ⟨oX5_isLetter_7, List.forall_mem_cons.mpr ⟨oX5_isLetter_9, List.forall_mem_cons.mpr ⟨oX5_isLetter_12, List.forall_mem_cons.mpr ⟨oX5_isLetter_13, List.forall_mem_cons.mpr ⟨oX5_isLetter_16, List.forall_mem_cons.mpr ⟨oX5_isLetter_17, fun _ h => absurd h List.not_mem_nil⟩⟩⟩⟩⟩⟩⟩⟩⟩⟩
def dkwX5_rank_0 : List UInt8 := [26, 184, 0, 139, 153, 0, 10, 26, 16, 96, 100, 167, 0, 7, 26, 16, 21, 100, 172]
abbrev dktX5_rank_0 : List UInt8 := dkwX5_rank_0 ++ []
theorem dksX5_rank_0 : bcX5_rank.data.toList.drop 0 = dktX5_rank_0 := by decide +kernel
theorem dX5_rank_0 : decode bcX5_rank 0 = .ok (.iload_n 0, 1) := dk_26 (dk_at dksX5_rank_0 0 rfl rfl)
theorem dX5_rank_1 : decode bcX5_rank 1 = .ok (.invokestatic 139, 3) := dk_184 0 139 (dk_at dksX5_rank_0 1 rfl rfl)
theorem dX5_rank_4 : decode bcX5_rank 4 = .ok (.ifCond .eq 10, 3) := dk_153 0 10 (dk_at dksX5_rank_0 4 rfl rfl)
theorem dX5_rank_7 : decode bcX5_rank 7 = .ok (.iload_n 0, 1) := dk_26 (dk_at dksX5_rank_0 7 rfl rfl)
theorem dX5_rank_8 : decode bcX5_rank 8 = .ok (.bipush 96, 2) := dk_16 96 (dk_at dksX5_rank_0 8 rfl rfl)
theorem dX5_rank_10 : decode bcX5_rank 10 = .ok (.isub, 1) := dk_100 (dk_at dksX5_rank_0 10 rfl rfl)
theorem dX5_rank_11 : decode bcX5_rank 11 = .ok (.goto 7, 3) := dk_167 0 7 (dk_at dksX5_rank_0 11 rfl rfl)
theorem dX5_rank_14 : decode bcX5_rank 14 = .ok (.iload_n 0, 1) := dk_26 (dk_at dksX5_rank_0 14 rfl rfl)
theorem dX5_rank_15 : decode bcX5_rank 15 = .ok (.bipush 21, 2) := dk_16 21 (dk_at dksX5_rank_0 15 rfl rfl)
theorem dX5_rank_17 : decode bcX5_rank 17 = .ok (.isub, 1) := dk_100 (dk_at dksX5_rank_0 17 rfl rfl)
theorem dX5_rank_18 : decode bcX5_rank 18 = .ok (.ireturn, 1) := dk_172 (dk_at dksX5_rank_0 18 rfl rfl)
abbrev SX5_rank (pc : Nat) (i : xI) : Prop := Snd "SwollenHouseModel" "rank" prog_25_method_7_code 1 (Option.some Jvm.ClassFile.FieldType.int) [] pc i
theorem oX5_rank_0 : SX5_rank 0 (i_iload 0 1) := snd_iload_n dX5_rank_0 rfl
theorem oX5_rank_1 : SX5_rank 1 (i_cs 255 1 4) := snd_cs rfl infX5_isLetter (by decide) (xSm_S dX5_rank_1 q1804 q1805 q136 q1806 pdX5_isLetter)
theorem oX5_rank_4 : SX5_rank 4 (i_if1 (fun x => x = 0) 14 7) := snd_if_eq dX5_rank_4 (by decide)
theorem oX5_rank_7 : SX5_rank 7 (i_iload 0 8) := snd_iload_n dX5_rank_7 rfl
theorem oX5_rank_8 : SX5_rank 8 (i_const (.int (nI 96)) 10) := snd_bipush dX5_rank_8 (by decide)
theorem oX5_rank_10 : SX5_rank 10 (i_ii (fun x y => x - y) 11) := snd_isub dX5_rank_10
theorem oX5_rank_11 : SX5_rank 11 (i_goto 18) := snd_goto dX5_rank_11 (by decide)
theorem oX5_rank_14 : SX5_rank 14 (i_iload 0 15) := snd_iload_n dX5_rank_14 rfl
theorem oX5_rank_15 : SX5_rank 15 (i_const (.int (nI 21)) 17) := snd_bipush dX5_rank_15 (by decide)
theorem oX5_rank_17 : SX5_rank 17 (i_ii (fun x y => x - y) 18) := snd_isub dX5_rank_17
theorem oX5_rank_18 : SX5_rank 18 (i_iret) := snd_iret dX5_rank_18 rfl
theorem okX5_rank : ∀ q ∈ cX5_rank, SX5_rank q.1 q.2 := List.forall_mem_cons.mpr ⟨oX5_rank_0, List.forall_mem_cons.mpr ⟨oX5_rank_1, List.forall_mem_cons.mpr ⟨oX5_rank_4, List.forall_mem_cons.mpr ⟨oX5_rank_7, List.forall_mem_cons.mpr ⟨oX5_rank_8, List.forall_mem_cons.mpr ⟨oX5_rank_10, List.forall_mem_cons.mpr ⟨oX5_rank_11, List.forall_mem_cons.mpr ⟨oX5_rank_14, List.forall_mem_cons.mpr ⟨oX5_rank_15, List.forall_mem_cons.mpr ⟨oX5_rank_17, List.forall_mem_cons.mpr ⟨oX5_rank_18, fun _ h => absurd h List.not_mem_nil⟩⟩⟩⟩⟩⟩⟩⟩⟩⟩⟩
def dkwX5_isDigit_0 : List UInt8 := [26, 16, 48, 161, 0, 13, 26, 16, 57, 163, 0, 7, 4, 167, 0, 4, 3, 172]
abbrev dktX5_isDigit_0 : List UInt8 := dkwX5_isDigit_0 ++ []
theorem dksX5_isDigit_0 : bcX5_isDigit.data.toList.drop 0 = dktX5_isDigit_0 := by decide +kernel
theorem dX5_isDigit_0 : decode bcX5_isDigit 0 = .ok (.iload_n 0, 1) := dk_26 (dk_at dksX5_isDigit_0 0 rfl rfl)
theorem dX5_isDigit_1 : decode bcX5_isDigit 1 = .ok (.bipush 48, 2) := dk_16 48 (dk_at dksX5_isDigit_0 1 rfl rfl)
theorem dX5_isDigit_3 : decode bcX5_isDigit 3 = .ok (.if_icmp .lt 13, 3) := dk_161 0 13 (dk_at dksX5_isDigit_0 3 rfl rfl)
theorem dX5_isDigit_6 : decode bcX5_isDigit 6 = .ok (.iload_n 0, 1) := dk_26 (dk_at dksX5_isDigit_0 6 rfl rfl)
theorem dX5_isDigit_7 : decode bcX5_isDigit 7 = .ok (.bipush 57, 2) := dk_16 57 (dk_at dksX5_isDigit_0 7 rfl rfl)
theorem dX5_isDigit_9 : decode bcX5_isDigit 9 = .ok (.if_icmp .gt 7, 3) := dk_163 0 7 (dk_at dksX5_isDigit_0 9 rfl rfl)
theorem dX5_isDigit_12 : decode bcX5_isDigit 12 = .ok (.iconst 1, 1) := dk_4 (dk_at dksX5_isDigit_0 12 rfl rfl)
theorem dX5_isDigit_13 : decode bcX5_isDigit 13 = .ok (.goto 4, 3) := dk_167 0 4 (dk_at dksX5_isDigit_0 13 rfl rfl)
theorem dX5_isDigit_16 : decode bcX5_isDigit 16 = .ok (.iconst 0, 1) := dk_3 (dk_at dksX5_isDigit_0 16 rfl rfl)
theorem dX5_isDigit_17 : decode bcX5_isDigit 17 = .ok (.ireturn, 1) := dk_172 (dk_at dksX5_isDigit_0 17 rfl rfl)
abbrev SX5_isDigit (pc : Nat) (i : xI) : Prop := Snd "SwollenHouseModel" "isDigit" prog_25_method_6_code 1 (Option.some Jvm.ClassFile.FieldType.boolean) [] pc i
theorem oX5_isDigit_0 : SX5_isDigit 0 (i_iload 0 1) := snd_iload_n dX5_isDigit_0 rfl
theorem oX5_isDigit_1 : SX5_isDigit 1 (i_const (.int (nI 48)) 3) := snd_bipush dX5_isDigit_1 (by decide)
theorem oX5_isDigit_3 : SX5_isDigit 3 (i_if2 (fun x y => x < y) 16 6) := snd_icmp_lt dX5_isDigit_3 (by decide)
theorem oX5_isDigit_6 : SX5_isDigit 6 (i_iload 0 7) := snd_iload_n dX5_isDigit_6 rfl
theorem oX5_isDigit_7 : SX5_isDigit 7 (i_const (.int (nI 57)) 9) := snd_bipush dX5_isDigit_7 (by decide)
theorem oX5_isDigit_9 : SX5_isDigit 9 (i_if2 (fun x y => y < x) 16 12) := snd_icmp_gt dX5_isDigit_9 (by decide)
theorem oX5_isDigit_12 : SX5_isDigit 12 (i_const (.int (nI 1)) 13) := snd_iconst dX5_isDigit_12 (by decide)
theorem oX5_isDigit_13 : SX5_isDigit 13 (i_goto 17) := snd_goto dX5_isDigit_13 (by decide)
theorem oX5_isDigit_16 : SX5_isDigit 16 (i_const (.int (nI 0)) 17) := snd_iconst dX5_isDigit_16 (by decide)
theorem oX5_isDigit_17 : SX5_isDigit 17 (i_zret) := snd_zret dX5_isDigit_17 rfl
theorem okX5_isDigit : ∀ q ∈ cX5_isDigit, SX5_isDigit q.1 q.2 := List.forall_mem_cons.mpr ⟨oX5_isDigit_0, List.forall_mem_cons.mpr ⟨oX5_isDigit_1, List.forall_mem_cons.mpr ⟨oX5_isDigit_3, List.forall_mem_cons.mpr ⟨oX5_isDigit_6, List.forall_mem_cons.mpr ⟨oX5_isDigit_7, List.forall_mem_cons.mpr ⟨oX5_isDigit_9, List.forall_mem_cons.mpr ⟨oX5_isDigit_12, List.forall_mem_cons.mpr ⟨oX5_isDigit_13, List.forall_mem_cons.mpr ⟨oX5_isDigit_16, List.forall_mem_cons.mpr ⟨oX5_isDigit_17, fun _ h => absurd h List.not_mem_nil⟩⟩⟩⟩⟩⟩⟩⟩⟩⟩
def dkwX5_isSignOf_2 : List UInt8 := [4, 167, 0, 4, 3, 172]
abbrev dktX5_isSignOf_2 : List UInt8 := dkwX5_isSignOf_2 ++ []
def dkwX5_isSignOf_1 : List UInt8 := [26, 16, 60, 159, 0, 21, 26, 16, 43, 159, 0, 15, 26, 16, 45, 159, 0, 9, 26, 16, 42, 160, 0, 7]
abbrev dktX5_isSignOf_1 : List UInt8 := dkwX5_isSignOf_1 ++ dktX5_isSignOf_2
def dkwX5_isSignOf_0 : List UInt8 := [26, 16, 40, 159, 0, 45, 26, 16, 41, 159, 0, 39, 26, 16, 59, 159, 0, 33, 26, 16, 61, 159, 0, 27]
abbrev dktX5_isSignOf_0 : List UInt8 := dkwX5_isSignOf_0 ++ dktX5_isSignOf_1
theorem dksX5_isSignOf_0 : bcX5_isSignOf.data.toList.drop 0 = dktX5_isSignOf_0 := by decide +kernel
theorem dksX5_isSignOf_1 : bcX5_isSignOf.data.toList.drop 24 = dktX5_isSignOf_1 := dk_seg dksX5_isSignOf_0 24 rfl rfl
theorem dksX5_isSignOf_2 : bcX5_isSignOf.data.toList.drop 48 = dktX5_isSignOf_2 := dk_seg dksX5_isSignOf_1 24 rfl rfl
theorem dX5_isSignOf_0 : decode bcX5_isSignOf 0 = .ok (.iload_n 0, 1) := dk_26 (dk_at dksX5_isSignOf_0 0 rfl rfl)
theorem dX5_isSignOf_1 : decode bcX5_isSignOf 1 = .ok (.bipush 40, 2) := dk_16 40 (dk_at dksX5_isSignOf_0 1 rfl rfl)
theorem dX5_isSignOf_3 : decode bcX5_isSignOf 3 = .ok (.if_icmp .eq 45, 3) := dk_159 0 45 (dk_at dksX5_isSignOf_0 3 rfl rfl)
theorem dX5_isSignOf_6 : decode bcX5_isSignOf 6 = .ok (.iload_n 0, 1) := dk_26 (dk_at dksX5_isSignOf_0 6 rfl rfl)
theorem dX5_isSignOf_7 : decode bcX5_isSignOf 7 = .ok (.bipush 41, 2) := dk_16 41 (dk_at dksX5_isSignOf_0 7 rfl rfl)
theorem dX5_isSignOf_9 : decode bcX5_isSignOf 9 = .ok (.if_icmp .eq 39, 3) := dk_159 0 39 (dk_at dksX5_isSignOf_0 9 rfl rfl)
theorem dX5_isSignOf_12 : decode bcX5_isSignOf 12 = .ok (.iload_n 0, 1) := dk_26 (dk_at dksX5_isSignOf_0 12 rfl rfl)
theorem dX5_isSignOf_13 : decode bcX5_isSignOf 13 = .ok (.bipush 59, 2) := dk_16 59 (dk_at dksX5_isSignOf_0 13 rfl rfl)
theorem dX5_isSignOf_15 : decode bcX5_isSignOf 15 = .ok (.if_icmp .eq 33, 3) := dk_159 0 33 (dk_at dksX5_isSignOf_0 15 rfl rfl)
theorem dX5_isSignOf_18 : decode bcX5_isSignOf 18 = .ok (.iload_n 0, 1) := dk_26 (dk_at dksX5_isSignOf_0 18 rfl rfl)
theorem dX5_isSignOf_19 : decode bcX5_isSignOf 19 = .ok (.bipush 61, 2) := dk_16 61 (dk_at dksX5_isSignOf_0 19 rfl rfl)
theorem dX5_isSignOf_21 : decode bcX5_isSignOf 21 = .ok (.if_icmp .eq 27, 3) := dk_159 0 27 (dk_at dksX5_isSignOf_0 21 rfl rfl)
theorem dX5_isSignOf_24 : decode bcX5_isSignOf 24 = .ok (.iload_n 0, 1) := dk_26 (dk_at dksX5_isSignOf_1 0 rfl rfl)
theorem dX5_isSignOf_25 : decode bcX5_isSignOf 25 = .ok (.bipush 60, 2) := dk_16 60 (dk_at dksX5_isSignOf_1 1 rfl rfl)
theorem dX5_isSignOf_27 : decode bcX5_isSignOf 27 = .ok (.if_icmp .eq 21, 3) := dk_159 0 21 (dk_at dksX5_isSignOf_1 3 rfl rfl)
theorem dX5_isSignOf_30 : decode bcX5_isSignOf 30 = .ok (.iload_n 0, 1) := dk_26 (dk_at dksX5_isSignOf_1 6 rfl rfl)
theorem dX5_isSignOf_31 : decode bcX5_isSignOf 31 = .ok (.bipush 43, 2) := dk_16 43 (dk_at dksX5_isSignOf_1 7 rfl rfl)
theorem dX5_isSignOf_33 : decode bcX5_isSignOf 33 = .ok (.if_icmp .eq 15, 3) := dk_159 0 15 (dk_at dksX5_isSignOf_1 9 rfl rfl)
theorem dX5_isSignOf_36 : decode bcX5_isSignOf 36 = .ok (.iload_n 0, 1) := dk_26 (dk_at dksX5_isSignOf_1 12 rfl rfl)
theorem dX5_isSignOf_37 : decode bcX5_isSignOf 37 = .ok (.bipush 45, 2) := dk_16 45 (dk_at dksX5_isSignOf_1 13 rfl rfl)
theorem dX5_isSignOf_39 : decode bcX5_isSignOf 39 = .ok (.if_icmp .eq 9, 3) := dk_159 0 9 (dk_at dksX5_isSignOf_1 15 rfl rfl)
theorem dX5_isSignOf_42 : decode bcX5_isSignOf 42 = .ok (.iload_n 0, 1) := dk_26 (dk_at dksX5_isSignOf_1 18 rfl rfl)
theorem dX5_isSignOf_43 : decode bcX5_isSignOf 43 = .ok (.bipush 42, 2) := dk_16 42 (dk_at dksX5_isSignOf_1 19 rfl rfl)
theorem dX5_isSignOf_45 : decode bcX5_isSignOf 45 = .ok (.if_icmp .ne 7, 3) := dk_160 0 7 (dk_at dksX5_isSignOf_1 21 rfl rfl)
theorem dX5_isSignOf_48 : decode bcX5_isSignOf 48 = .ok (.iconst 1, 1) := dk_4 (dk_at dksX5_isSignOf_2 0 rfl rfl)
theorem dX5_isSignOf_49 : decode bcX5_isSignOf 49 = .ok (.goto 4, 3) := dk_167 0 4 (dk_at dksX5_isSignOf_2 1 rfl rfl)
theorem dX5_isSignOf_52 : decode bcX5_isSignOf 52 = .ok (.iconst 0, 1) := dk_3 (dk_at dksX5_isSignOf_2 4 rfl rfl)
theorem dX5_isSignOf_53 : decode bcX5_isSignOf 53 = .ok (.ireturn, 1) := dk_172 (dk_at dksX5_isSignOf_2 5 rfl rfl)
abbrev SX5_isSignOf (pc : Nat) (i : xI) : Prop := Snd "SwollenHouseModel" "isSignOf" prog_25_method_8_code 1 (Option.some Jvm.ClassFile.FieldType.boolean) [] pc i
theorem oX5_isSignOf_0 : SX5_isSignOf 0 (i_iload 0 1) := snd_iload_n dX5_isSignOf_0 rfl
theorem oX5_isSignOf_1 : SX5_isSignOf 1 (i_const (.int (nI 40)) 3) := snd_bipush dX5_isSignOf_1 (by decide)
theorem oX5_isSignOf_3 : SX5_isSignOf 3 (i_if2 (fun x y => x = y) 48 6) := snd_icmp_eq dX5_isSignOf_3 (by decide)
theorem oX5_isSignOf_6 : SX5_isSignOf 6 (i_iload 0 7) := snd_iload_n dX5_isSignOf_6 rfl
theorem oX5_isSignOf_7 : SX5_isSignOf 7 (i_const (.int (nI 41)) 9) := snd_bipush dX5_isSignOf_7 (by decide)
theorem oX5_isSignOf_9 : SX5_isSignOf 9 (i_if2 (fun x y => x = y) 48 12) := snd_icmp_eq dX5_isSignOf_9 (by decide)
theorem oX5_isSignOf_12 : SX5_isSignOf 12 (i_iload 0 13) := snd_iload_n dX5_isSignOf_12 rfl
theorem oX5_isSignOf_13 : SX5_isSignOf 13 (i_const (.int (nI 59)) 15) := snd_bipush dX5_isSignOf_13 (by decide)
theorem oX5_isSignOf_15 : SX5_isSignOf 15 (i_if2 (fun x y => x = y) 48 18) := snd_icmp_eq dX5_isSignOf_15 (by decide)
theorem oX5_isSignOf_18 : SX5_isSignOf 18 (i_iload 0 19) := snd_iload_n dX5_isSignOf_18 rfl
theorem oX5_isSignOf_19 : SX5_isSignOf 19 (i_const (.int (nI 61)) 21) := snd_bipush dX5_isSignOf_19 (by decide)
theorem oX5_isSignOf_21 : SX5_isSignOf 21 (i_if2 (fun x y => x = y) 48 24) := snd_icmp_eq dX5_isSignOf_21 (by decide)
theorem oX5_isSignOf_24 : SX5_isSignOf 24 (i_iload 0 25) := snd_iload_n dX5_isSignOf_24 rfl
theorem oX5_isSignOf_25 : SX5_isSignOf 25 (i_const (.int (nI 60)) 27) := snd_bipush dX5_isSignOf_25 (by decide)
theorem oX5_isSignOf_27 : SX5_isSignOf 27 (i_if2 (fun x y => x = y) 48 30) := snd_icmp_eq dX5_isSignOf_27 (by decide)
theorem oX5_isSignOf_30 : SX5_isSignOf 30 (i_iload 0 31) := snd_iload_n dX5_isSignOf_30 rfl
theorem oX5_isSignOf_31 : SX5_isSignOf 31 (i_const (.int (nI 43)) 33) := snd_bipush dX5_isSignOf_31 (by decide)
theorem oX5_isSignOf_33 : SX5_isSignOf 33 (i_if2 (fun x y => x = y) 48 36) := snd_icmp_eq dX5_isSignOf_33 (by decide)
theorem oX5_isSignOf_36 : SX5_isSignOf 36 (i_iload 0 37) := snd_iload_n dX5_isSignOf_36 rfl
theorem oX5_isSignOf_37 : SX5_isSignOf 37 (i_const (.int (nI 45)) 39) := snd_bipush dX5_isSignOf_37 (by decide)
theorem oX5_isSignOf_39 : SX5_isSignOf 39 (i_if2 (fun x y => x = y) 48 42) := snd_icmp_eq dX5_isSignOf_39 (by decide)
theorem oX5_isSignOf_42 : SX5_isSignOf 42 (i_iload 0 43) := snd_iload_n dX5_isSignOf_42 rfl
theorem oX5_isSignOf_43 : SX5_isSignOf 43 (i_const (.int (nI 42)) 45) := snd_bipush dX5_isSignOf_43 (by decide)
theorem oX5_isSignOf_45 : SX5_isSignOf 45 (i_if2 (fun x y => ¬ x = y) 52 48) := snd_icmp_ne dX5_isSignOf_45 (by decide)
theorem oX5_isSignOf_48 : SX5_isSignOf 48 (i_const (.int (nI 1)) 49) := snd_iconst dX5_isSignOf_48 (by decide)
theorem oX5_isSignOf_49 : SX5_isSignOf 49 (i_goto 53) := snd_goto dX5_isSignOf_49 (by decide)
theorem oX5_isSignOf_52 : SX5_isSignOf 52 (i_const (.int (nI 0)) 53) := snd_iconst dX5_isSignOf_52 (by decide)
theorem oX5_isSignOf_53 : SX5_isSignOf 53 (i_zret) := snd_zret dX5_isSignOf_53 rfl
theorem okX5_isSignOf : ∀ q ∈ cX5_isSignOf, SX5_isSignOf q.1 q.2 := List.forall_mem_cons.mpr ⟨oX5_isSignOf_0, List.forall_mem_cons.mpr ⟨oX5_isSignOf_1, List.forall_mem_cons.mpr ⟨oX5_isSignOf_3, List.forall_mem_cons.mpr ⟨oX5_isSignOf_6, List.forall_mem_cons.mpr ⟨oX5_isSignOf_7, List.forall_mem_cons.mpr ⟨oX5_isSignOf_9, List.forall_mem_cons.mpr ⟨oX5_isSignOf_12, List.forall_mem_cons.mpr ⟨oX5_isSignOf_13, List.forall_mem_cons.mpr ⟨oX5_isSignOf_15, List.forall_mem_cons.mpr ⟨oX5_isSignOf_18, List.forall_mem_cons.mpr ⟨oX5_isSignOf_19, List.forall_mem_cons.mpr ⟨oX5_isSignOf_21, List.forall_mem_cons.mpr ⟨oX5_isSignOf_24, List.forall_mem_cons.mpr ⟨oX5_isSignOf_25, List.forall_mem_cons.mpr ⟨oX5_isSignOf_27, List.forall_mem_cons.mpr ⟨oX5_isSignOf_30, List.forall_mem_cons.mpr ⟨oX5_isSignOf_31, List.forall_mem_cons.mpr ⟨oX5_isSignOf_33, List.forall_mem_cons.mpr ⟨oX5_isSignOf_36, List.forall_mem_cons.mpr ⟨oX5_isSignOf_37, List.forall_mem_cons.mpr ⟨oX5_isSignOf_39, List.forall_mem_cons.mpr ⟨oX5_isSignOf_42, List.forall_mem_cons.mpr ⟨oX5_isSignOf_43, List.forall_mem_cons.mpr ⟨oX5_isSignOf_45, List.forall_mem_cons.mpr ⟨oX5_isSignOf_48, List.forall_mem_cons.mpr ⟨oX5_isSignOf_49, List.forall_mem_cons.mpr ⟨oX5_isSignOf_52, List.forall_mem_cons.mpr ⟨oX5_isSignOf_53, fun _ h => absurd h List.not_mem_nil⟩⟩⟩⟩⟩⟩⟩⟩⟩⟩⟩⟩⟩⟩⟩⟩⟩⟩⟩⟩⟩⟩⟩⟩⟩⟩⟩⟩
def dkwX5_readLine_4 : List UInt8 := [182, 0, 234, 177]
abbrev dktX5_readLine_4 : List UInt8 := dkwX5_readLine_4 ++ []
def dkwX5_readLine_3 : List UInt8 := [182, 0, 230, 61, 42, 180, 0, 165, 154, 0, 10, 42, 180, 0, 83, 27, 28, 79, 167, 0, 7, 42]
abbrev dktX5_readLine_3 : List UInt8 := dkwX5_readLine_3 ++ dktX5_readLine_4
def dkwX5_readLine_2 : List UInt8 := [16, 62, 46, 96, 60, 42, 5, 8, 16, 20, 182, 0, 223, 42, 7, 182, 0, 180, 42, 4, 3, 3]
abbrev dktX5_readLine_2 : List UInt8 := dkwX5_readLine_2 ++ dktX5_readLine_3
def dkwX5_readLine_1 : List UInt8 := [153, 0, 10, 42, 182, 0, 227, 167, 0, 64, 42, 6, 182, 0, 174, 153, 0, 52, 16, 97, 42, 180, 0, 83]
abbrev dktX5_readLine_1 : List UInt8 := dkwX5_readLine_1 ++ dktX5_readLine_2
def dkwX5_readLine_0 : List UInt8 := [42, 3, 182, 0, 174, 153, 0, 14, 42, 3, 16, 7, 3, 182, 0, 223, 167, 0, 79, 42, 4, 182, 0, 174]
abbrev dktX5_readLine_0 : List UInt8 := dkwX5_readLine_0 ++ dktX5_readLine_1
theorem dksX5_readLine_0 : bcX5_readLine.data.toList.drop 0 = dktX5_readLine_0 := by decide +kernel
theorem dksX5_readLine_1 : bcX5_readLine.data.toList.drop 24 = dktX5_readLine_1 := dk_seg dksX5_readLine_0 24 rfl rfl
theorem dksX5_readLine_2 : bcX5_readLine.data.toList.drop 48 = dktX5_readLine_2 := dk_seg dksX5_readLine_1 24 rfl rfl
theorem dksX5_readLine_3 : bcX5_readLine.data.toList.drop 70 = dktX5_readLine_3 := dk_seg dksX5_readLine_2 22 rfl rfl
theorem dksX5_readLine_4 : bcX5_readLine.data.toList.drop 92 = dktX5_readLine_4 := dk_seg dksX5_readLine_3 22 rfl rfl
theorem dX5_readLine_0 : decode bcX5_readLine 0 = .ok (.aload_n 0, 1) := dk_42 (dk_at dksX5_readLine_0 0 rfl rfl)
theorem dX5_readLine_1 : decode bcX5_readLine 1 = .ok (.iconst 0, 1) := dk_3 (dk_at dksX5_readLine_0 1 rfl rfl)
theorem dX5_readLine_2 : decode bcX5_readLine 2 = .ok (.invokevirtual 174, 3) := dk_182 0 174 (dk_at dksX5_readLine_0 2 rfl rfl)
theorem dX5_readLine_5 : decode bcX5_readLine 5 = .ok (.ifCond .eq 14, 3) := dk_153 0 14 (dk_at dksX5_readLine_0 5 rfl rfl)
theorem dX5_readLine_8 : decode bcX5_readLine 8 = .ok (.aload_n 0, 1) := dk_42 (dk_at dksX5_readLine_0 8 rfl rfl)
theorem dX5_readLine_9 : decode bcX5_readLine 9 = .ok (.iconst 0, 1) := dk_3 (dk_at dksX5_readLine_0 9 rfl rfl)
theorem dX5_readLine_10 : decode bcX5_readLine 10 = .ok (.bipush 7, 2) := dk_16 7 (dk_at dksX5_readLine_0 10 rfl rfl)
theorem dX5_readLine_12 : decode bcX5_readLine 12 = .ok (.iconst 0, 1) := dk_3 (dk_at dksX5_readLine_0 12 rfl rfl)
theorem dX5_readLine_13 : decode bcX5_readLine 13 = .ok (.invokevirtual 223, 3) := dk_182 0 223 (dk_at dksX5_readLine_0 13 rfl rfl)
theorem dX5_readLine_16 : decode bcX5_readLine 16 = .ok (.goto 79, 3) := dk_167 0 79 (dk_at dksX5_readLine_0 16 rfl rfl)
theorem dX5_readLine_19 : decode bcX5_readLine 19 = .ok (.aload_n 0, 1) := dk_42 (dk_at dksX5_readLine_0 19 rfl rfl)
theorem dX5_readLine_20 : decode bcX5_readLine 20 = .ok (.iconst 1, 1) := dk_4 (dk_at dksX5_readLine_0 20 rfl rfl)
theorem dX5_readLine_21 : decode bcX5_readLine 21 = .ok (.invokevirtual 174, 3) := dk_182 0 174 (dk_at dksX5_readLine_0 21 rfl rfl)
theorem dX5_readLine_24 : decode bcX5_readLine 24 = .ok (.ifCond .eq 10, 3) := dk_153 0 10 (dk_at dksX5_readLine_1 0 rfl rfl)
theorem dX5_readLine_27 : decode bcX5_readLine 27 = .ok (.aload_n 0, 1) := dk_42 (dk_at dksX5_readLine_1 3 rfl rfl)
theorem dX5_readLine_28 : decode bcX5_readLine 28 = .ok (.invokevirtual 227, 3) := dk_182 0 227 (dk_at dksX5_readLine_1 4 rfl rfl)
theorem dX5_readLine_31 : decode bcX5_readLine 31 = .ok (.goto 64, 3) := dk_167 0 64 (dk_at dksX5_readLine_1 7 rfl rfl)
theorem dX5_readLine_34 : decode bcX5_readLine 34 = .ok (.aload_n 0, 1) := dk_42 (dk_at dksX5_readLine_1 10 rfl rfl)
theorem dX5_readLine_35 : decode bcX5_readLine 35 = .ok (.iconst 3, 1) := dk_6 (dk_at dksX5_readLine_1 11 rfl rfl)
theorem dX5_readLine_36 : decode bcX5_readLine 36 = .ok (.invokevirtual 174, 3) := dk_182 0 174 (dk_at dksX5_readLine_1 12 rfl rfl)
theorem dX5_readLine_39 : decode bcX5_readLine 39 = .ok (.ifCond .eq 52, 3) := dk_153 0 52 (dk_at dksX5_readLine_1 15 rfl rfl)
theorem dX5_readLine_42 : decode bcX5_readLine 42 = .ok (.bipush 97, 2) := dk_16 97 (dk_at dksX5_readLine_1 18 rfl rfl)
theorem dX5_readLine_44 : decode bcX5_readLine 44 = .ok (.aload_n 0, 1) := dk_42 (dk_at dksX5_readLine_1 20 rfl rfl)
theorem dX5_readLine_45 : decode bcX5_readLine 45 = .ok (.getfield 83, 3) := dk_180 0 83 (dk_at dksX5_readLine_1 21 rfl rfl)
theorem dX5_readLine_48 : decode bcX5_readLine 48 = .ok (.bipush 62, 2) := dk_16 62 (dk_at dksX5_readLine_2 0 rfl rfl)
theorem dX5_readLine_50 : decode bcX5_readLine 50 = .ok (.iaload, 1) := dk_46 (dk_at dksX5_readLine_2 2 rfl rfl)
theorem dX5_readLine_51 : decode bcX5_readLine 51 = .ok (.iadd, 1) := dk_96 (dk_at dksX5_readLine_2 3 rfl rfl)
theorem dX5_readLine_52 : decode bcX5_readLine 52 = .ok (.istore_n 1, 1) := dk_60 (dk_at dksX5_readLine_2 4 rfl rfl)
theorem dX5_readLine_53 : decode bcX5_readLine 53 = .ok (.aload_n 0, 1) := dk_42 (dk_at dksX5_readLine_2 5 rfl rfl)
theorem dX5_readLine_54 : decode bcX5_readLine 54 = .ok (.iconst 2, 1) := dk_5 (dk_at dksX5_readLine_2 6 rfl rfl)
theorem dX5_readLine_55 : decode bcX5_readLine 55 = .ok (.iconst 5, 1) := dk_8 (dk_at dksX5_readLine_2 7 rfl rfl)
theorem dX5_readLine_56 : decode bcX5_readLine 56 = .ok (.bipush 20, 2) := dk_16 20 (dk_at dksX5_readLine_2 8 rfl rfl)
theorem dX5_readLine_58 : decode bcX5_readLine 58 = .ok (.invokevirtual 223, 3) := dk_182 0 223 (dk_at dksX5_readLine_2 10 rfl rfl)
theorem dX5_readLine_61 : decode bcX5_readLine 61 = .ok (.aload_n 0, 1) := dk_42 (dk_at dksX5_readLine_2 13 rfl rfl)
theorem dX5_readLine_62 : decode bcX5_readLine 62 = .ok (.iconst 4, 1) := dk_7 (dk_at dksX5_readLine_2 14 rfl rfl)
theorem dX5_readLine_63 : decode bcX5_readLine 63 = .ok (.invokevirtual 180, 3) := dk_182 0 180 (dk_at dksX5_readLine_2 15 rfl rfl)
theorem dX5_readLine_66 : decode bcX5_readLine 66 = .ok (.aload_n 0, 1) := dk_42 (dk_at dksX5_readLine_2 18 rfl rfl)
theorem dX5_readLine_67 : decode bcX5_readLine 67 = .ok (.iconst 1, 1) := dk_4 (dk_at dksX5_readLine_2 19 rfl rfl)
theorem dX5_readLine_68 : decode bcX5_readLine 68 = .ok (.iconst 0, 1) := dk_3 (dk_at dksX5_readLine_2 20 rfl rfl)
theorem dX5_readLine_69 : decode bcX5_readLine 69 = .ok (.iconst 0, 1) := dk_3 (dk_at dksX5_readLine_2 21 rfl rfl)
theorem dX5_readLine_70 : decode bcX5_readLine 70 = .ok (.invokevirtual 230, 3) := dk_182 0 230 (dk_at dksX5_readLine_3 0 rfl rfl)
theorem dX5_readLine_73 : decode bcX5_readLine 73 = .ok (.istore_n 2, 1) := dk_61 (dk_at dksX5_readLine_3 3 rfl rfl)
theorem dX5_readLine_74 : decode bcX5_readLine 74 = .ok (.aload_n 0, 1) := dk_42 (dk_at dksX5_readLine_3 4 rfl rfl)
theorem dX5_readLine_75 : decode bcX5_readLine 75 = .ok (.getfield 165, 3) := dk_180 0 165 (dk_at dksX5_readLine_3 5 rfl rfl)
theorem dX5_readLine_78 : decode bcX5_readLine 78 = .ok (.ifCond .ne 10, 3) := dk_154 0 10 (dk_at dksX5_readLine_3 8 rfl rfl)
theorem dX5_readLine_81 : decode bcX5_readLine 81 = .ok (.aload_n 0, 1) := dk_42 (dk_at dksX5_readLine_3 11 rfl rfl)
theorem dX5_readLine_82 : decode bcX5_readLine 82 = .ok (.getfield 83, 3) := dk_180 0 83 (dk_at dksX5_readLine_3 12 rfl rfl)
theorem dX5_readLine_85 : decode bcX5_readLine 85 = .ok (.iload_n 1, 1) := dk_27 (dk_at dksX5_readLine_3 15 rfl rfl)
theorem dX5_readLine_86 : decode bcX5_readLine 86 = .ok (.iload_n 2, 1) := dk_28 (dk_at dksX5_readLine_3 16 rfl rfl)
theorem dX5_readLine_87 : decode bcX5_readLine 87 = .ok (.iastore, 1) := dk_79 (dk_at dksX5_readLine_3 17 rfl rfl)
theorem dX5_readLine_88 : decode bcX5_readLine 88 = .ok (.goto 7, 3) := dk_167 0 7 (dk_at dksX5_readLine_3 18 rfl rfl)
theorem dX5_readLine_91 : decode bcX5_readLine 91 = .ok (.aload_n 0, 1) := dk_42 (dk_at dksX5_readLine_3 21 rfl rfl)
theorem dX5_readLine_92 : decode bcX5_readLine 92 = .ok (.invokevirtual 234, 3) := dk_182 0 234 (dk_at dksX5_readLine_4 0 rfl rfl)
theorem dX5_readLine_95 : decode bcX5_readLine 95 = .ok (.return_, 1) := dk_177 (dk_at dksX5_readLine_4 3 rfl rfl)
abbrev SX5_readLine (pc : Nat) (i : xI) : Prop := Snd "SwollenHouseModel" "readLine" prog_25_method_27_code 3 (Option.none : Option Jvm.ClassFile.FieldType) [] pc i
theorem oX5_readLine_0 : SX5_readLine 0 (i_aload 0 1) := snd_aload_n dX5_readLine_0 rfl
theorem oX5_readLine_1 : SX5_readLine 1 (i_const (.int (nI 0)) 2) := snd_iconst dX5_readLine_1 (by decide)
theorem oX5_readLine_2 : SX5_readLine 2 (i_cv 4 260 1 5) := snd_cv rfl infX5_isWord (by decide) rfl (xVm_V dX5_readLine_2 rfl q1823 q1825 qs65 q136 q1826 pdX5_isWord)
theorem oX5_readLine_5 : SX5_readLine 5 (i_if1 (fun x => x = 0) 19 8) := snd_if_eq dX5_readLine_5 (by decide)
theorem oX5_readLine_8 : SX5_readLine 8 (i_aload 0 9) := snd_aload_n dX5_readLine_8 rfl
theorem oX5_readLine_9 : SX5_readLine 9 (i_const (.int (nI 0)) 10) := snd_iconst dX5_readLine_9 (by decide)
theorem oX5_readLine_10 : SX5_readLine 10 (i_const (.int (nI 7)) 12) := snd_bipush dX5_readLine_10 (by decide)
theorem oX5_readLine_12 : SX5_readLine 12 (i_const (.int (nI 0)) 13) := snd_iconst dX5_readLine_12 (by decide)
theorem oX5_readLine_13 : SX5_readLine 13 (i_cvv 4 261 3 16) := snd_cvv rfl infX5_readName (by decide) rfl (xVm_V dX5_readLine_13 rfl q1827 q1829 qs66 q136 q1830 pdX5_readName)
theorem oX5_readLine_16 : SX5_readLine 16 (i_goto 95) := snd_goto dX5_readLine_16 (by decide)
theorem oX5_readLine_19 : SX5_readLine 19 (i_aload 0 20) := snd_aload_n dX5_readLine_19 rfl
theorem oX5_readLine_20 : SX5_readLine 20 (i_const (.int (nI 1)) 21) := snd_iconst dX5_readLine_20 (by decide)
theorem oX5_readLine_21 : SX5_readLine 21 (i_cv 4 260 1 24) := snd_cv rfl infX5_isWord (by decide) rfl (xVm_V dX5_readLine_21 rfl q1823 q1825 qs65 q136 q1826 pdX5_isWord)
theorem oX5_readLine_24 : SX5_readLine 24 (i_if1 (fun x => x = 0) 34 27) := snd_if_eq dX5_readLine_24 (by decide)
theorem oX5_readLine_27 : SX5_readLine 27 (i_aload 0 28) := snd_aload_n dX5_readLine_27 rfl
theorem oX5_readLine_28 : SX5_readLine 28 (i_cvv 4 266 0 31) := snd_cvv rfl infX5_readDoor (by decide) rfl (xVm_V dX5_readLine_28 rfl q1847 q1849 qs71 q136 q1850 pdX5_readDoor)
theorem oX5_readLine_31 : SX5_readLine 31 (i_goto 95) := snd_goto dX5_readLine_31 (by decide)
theorem oX5_readLine_34 : SX5_readLine 34 (i_aload 0 35) := snd_aload_n dX5_readLine_34 rfl
theorem oX5_readLine_35 : SX5_readLine 35 (i_const (.int (nI 3)) 36) := snd_iconst dX5_readLine_35 (by decide)
theorem oX5_readLine_36 : SX5_readLine 36 (i_cv 4 260 1 39) := snd_cv rfl infX5_isWord (by decide) rfl (xVm_V dX5_readLine_36 rfl q1823 q1825 qs65 q136 q1826 pdX5_isWord)
theorem oX5_readLine_39 : SX5_readLine 39 (i_if1 (fun x => x = 0) 91 42) := snd_if_eq dX5_readLine_39 (by decide)
theorem oX5_readLine_42 : SX5_readLine 42 (i_const (.int (nI 97)) 44) := snd_bipush dX5_readLine_42 (by decide)
theorem oX5_readLine_44 : SX5_readLine 44 (i_aload 0 45) := snd_aload_n dX5_readLine_44 rfl
theorem oX5_readLine_45 : SX5_readLine 45 (i_getf 4 10 48) := snd_getf dX5_readLine_45 rfl (by decide) in_X5 (Or.inl q1708) (Or.inl rfl) (by decide)
theorem oX5_readLine_48 : SX5_readLine 48 (i_const (.int (nI 62)) 50) := snd_bipush dX5_readLine_48 (by decide)
theorem oX5_readLine_50 : SX5_readLine 50 (i_ai 0 51) := snd_ai0 dX5_readLine_50
theorem oX5_readLine_51 : SX5_readLine 51 (i_ii (fun x y => x + y) 52) := snd_iadd dX5_readLine_51
theorem oX5_readLine_52 : SX5_readLine 52 (i_istore 1 53) := snd_istore_n dX5_readLine_52 rfl (by decide)
theorem oX5_readLine_53 : SX5_readLine 53 (i_aload 0 54) := snd_aload_n dX5_readLine_53 rfl
theorem oX5_readLine_54 : SX5_readLine 54 (i_const (.int (nI 2)) 55) := snd_iconst dX5_readLine_54 (by decide)
theorem oX5_readLine_55 : SX5_readLine 55 (i_const (.int (nI 5)) 56) := snd_iconst dX5_readLine_55 (by decide)
theorem oX5_readLine_56 : SX5_readLine 56 (i_const (.int (nI 20)) 58) := snd_bipush dX5_readLine_56 (by decide)
theorem oX5_readLine_58 : SX5_readLine 58 (i_cvv 4 261 3 61) := snd_cvv rfl infX5_readName (by decide) rfl (xVm_V dX5_readLine_58 rfl q1827 q1829 qs66 q136 q1830 pdX5_readName)
theorem oX5_readLine_61 : SX5_readLine 61 (i_aload 0 62) := snd_aload_n dX5_readLine_61 rfl
theorem oX5_readLine_62 : SX5_readLine 62 (i_const (.int (nI 4)) 63) := snd_iconst dX5_readLine_62 (by decide)
theorem oX5_readLine_63 : SX5_readLine 63 (i_cvv 4 271 1 66) := snd_cvv rfl infX5_takeWord (by decide) rfl (xVm_V dX5_readLine_63 rfl q1866 q1868 qs75 q136 q1869 pdX5_takeWord)
theorem oX5_readLine_66 : SX5_readLine 66 (i_aload 0 67) := snd_aload_n dX5_readLine_66 rfl
theorem oX5_readLine_67 : SX5_readLine 67 (i_const (.int (nI 1)) 68) := snd_iconst dX5_readLine_67 (by decide)
theorem oX5_readLine_68 : SX5_readLine 68 (i_const (.int (nI 0)) 69) := snd_iconst dX5_readLine_68 (by decide)
theorem oX5_readLine_69 : SX5_readLine 69 (i_const (.int (nI 0)) 70) := snd_iconst dX5_readLine_69 (by decide)
theorem oX5_readLine_70 : SX5_readLine 70 (i_cv 4 267 3 73) := snd_cv rfl infX5_takeTold (by decide) rfl (xVm_V dX5_readLine_70 rfl q1851 q1853 qs72 q136 q1854 pdX5_takeTold)
theorem oX5_readLine_73 : SX5_readLine 73 (i_istore 2 74) := snd_istore_n dX5_readLine_73 rfl (by decide)
theorem oX5_readLine_74 : SX5_readLine 74 (i_aload 0 75) := snd_aload_n dX5_readLine_74 rfl
theorem oX5_readLine_75 : SX5_readLine 75 (i_getf 4 8 78) := snd_getf dX5_readLine_75 rfl (by decide) in_X5 (Or.inl q1706) (Or.inl rfl) (by decide)
theorem oX5_readLine_78 : SX5_readLine 78 (i_if1 (fun x => ¬ x = 0) 88 81) := snd_if_ne dX5_readLine_78 (by decide)
theorem oX5_readLine_81 : SX5_readLine 81 (i_aload 0 82) := snd_aload_n dX5_readLine_81 rfl
theorem oX5_readLine_82 : SX5_readLine 82 (i_getf 4 10 85) := snd_getf dX5_readLine_82 rfl (by decide) in_X5 (Or.inl q1708) (Or.inl rfl) (by decide)
theorem oX5_readLine_85 : SX5_readLine 85 (i_iload 1 86) := snd_iload_n dX5_readLine_85 rfl
theorem oX5_readLine_86 : SX5_readLine 86 (i_iload 2 87) := snd_iload_n dX5_readLine_86 rfl
theorem oX5_readLine_87 : SX5_readLine 87 (i_si (fun v => v) 0 88) := snd_si0 dX5_readLine_87
theorem oX5_readLine_88 : SX5_readLine 88 (i_goto 95) := snd_goto dX5_readLine_88 (by decide)
theorem oX5_readLine_91 : SX5_readLine 91 (i_aload 0 92) := snd_aload_n dX5_readLine_91 rfl
theorem oX5_readLine_92 : SX5_readLine 92 (i_cvv 4 274 0 95) := snd_cvv rfl infX5_readOnce (by decide) rfl (xVm_V dX5_readLine_92 rfl q1878 q1880 qs78 q136 q1881 pdX5_readOnce)
theorem oX5_readLine_95 : SX5_readLine 95 (i_vret) := snd_vret dX5_readLine_95 rfl
theorem okX5_readLine : ∀ q ∈ cX5_readLine, SX5_readLine q.1 q.2 := List.forall_mem_cons.mpr ⟨oX5_readLine_0, List.forall_mem_cons.mpr ⟨oX5_readLine_1, List.forall_mem_cons.mpr ⟨oX5_readLine_2, List.forall_mem_cons.mpr ⟨oX5_readLine_5, List.forall_mem_cons.mpr ⟨oX5_readLine_8, List.forall_mem_cons.mpr ⟨oX5_readLine_9, List.forall_mem_cons.mpr ⟨oX5_readLine_10, List.forall_mem_cons.mpr ⟨oX5_readLine_12, List.forall_mem_cons.mpr ⟨oX5_readLine_13, List.forall_mem_cons.mpr ⟨oX5_readLine_16, List.forall_mem_cons.mpr ⟨oX5_readLine_19, List.forall_mem_cons.mpr ⟨oX5_readLine_20, List.forall_mem_cons.mpr ⟨oX5_readLine_21, List.forall_mem_cons.mpr ⟨oX5_readLine_24, List.forall_mem_cons.mpr ⟨oX5_readLine_27, List.forall_mem_cons.mpr ⟨oX5_readLine_28, List.forall_mem_cons.mpr ⟨oX5_readLine_31, List.forall_mem_cons.mpr ⟨oX5_readLine_34, List.forall_mem_cons.mpr ⟨oX5_readLine_35, List.forall_mem_cons.mpr ⟨oX5_readLine_36, List.forall_mem_cons.mpr ⟨oX5_readLine_39, List.forall_mem_cons.mpr ⟨oX5_readLine_42, List.forall_mem_cons.mpr ⟨oX5_readLine_44, List.forall_mem_cons.mpr ⟨oX5_readLine_45, List.forall_mem_cons.mpr ⟨oX5_readLine_48, List.forall_mem_cons.mpr ⟨oX5_readLine_50, List.forall_mem_cons.mpr ⟨oX5_readLine_51, List.forall_mem_cons.mpr ⟨oX5_readLine_52, List.forall_mem_cons.mpr ⟨oX5_readLine_53, List.forall_mem_cons.mpr ⟨oX5_readLine_54, List.forall_mem_cons.mpr ⟨oX5_readLine_55, List.forall_mem_cons.mpr ⟨oX5_readLine_56, List.forall_mem_cons.mpr ⟨oX5_readLine_58, List.forall_mem_cons.mpr ⟨oX5_readLine_61, List.forall_mem_cons.mpr ⟨oX5_readLine_62, List.forall_mem_cons.mpr ⟨oX5_readLine_63, List.forall_mem_cons.mpr ⟨oX5_readLine_66, List.forall_mem_cons.mpr ⟨oX5_readLine_67, List.forall_mem_cons.mpr ⟨oX5_readLine_68, List.forall_mem_cons.mpr ⟨oX5_readLine_69, List.forall_mem_cons.mpr ⟨oX5_readLine_70, List.forall_mem_cons.mpr ⟨oX5_readLine_73, List.forall_mem_cons.mpr ⟨oX5_readLine_74, List.forall_mem_cons.mpr ⟨oX5_readLine_75, List.forall_mem_cons.mpr ⟨oX5_readLine_78, List.forall_mem_cons.mpr ⟨oX5_readLine_81, List.forall_mem_cons.mpr ⟨oX5_readLine_82, List.forall_mem_cons.mpr ⟨oX5_readLine_85, List.forall_mem_cons.mpr ⟨oX5_readLine_86, List.forall_mem_cons.mpr ⟨oX5_readLine_87, List.forall_mem_cons.mpr ⟨oX5_readLine_88, List.forall_mem_cons.mpr ⟨oX5_readLine_91, List.forall_mem_cons.mpr ⟨oX5_readLine_92, List.forall_mem_cons.mpr ⟨oX5_readLine_95, fun _ h => absurd h List.not_mem_nil⟩⟩⟩⟩⟩⟩⟩⟩⟩⟩⟩⟩⟩⟩⟩⟩⟩⟩⟩⟩⟩⟩⟩⟩⟩⟩⟩⟩⟩⟩⟩⟩⟩⟩⟩⟩⟩⟩⟩⟩⟩⟩⟩⟩⟩⟩⟩⟩⟩⟩⟩⟩⟩⟩
def dkwX5_isWord_1 : List UInt8 := [42, 180, 0, 162, 47, 42, 180, 0, 80, 27, 47, 148, 154, 0, 7, 4, 167, 0, 4, 3, 172]
abbrev dktX5_isWord_1 : List UInt8 := dkwX5_isWord_1 ++ []
def dkwX5_isWord_0 : List UInt8 := [42, 180, 0, 165, 154, 0, 39, 42, 180, 0, 24, 42, 180, 0, 162, 46, 4, 160, 0, 26, 42, 180, 0, 30]
abbrev dktX5_isWord_0 : List UInt8 := dkwX5_isWord_0 ++ dktX5_isWord_1
theorem dksX5_isWord_0 : bcX5_isWord.data.toList.drop 0 = dktX5_isWord_0 := by decide +kernel
theorem dksX5_isWord_1 : bcX5_isWord.data.toList.drop 24 = dktX5_isWord_1 := dk_seg dksX5_isWord_0 24 rfl rfl
theorem dX5_isWord_0 : decode bcX5_isWord 0 = .ok (.aload_n 0, 1) := dk_42 (dk_at dksX5_isWord_0 0 rfl rfl)
theorem dX5_isWord_1 : decode bcX5_isWord 1 = .ok (.getfield 165, 3) := dk_180 0 165 (dk_at dksX5_isWord_0 1 rfl rfl)
theorem dX5_isWord_4 : decode bcX5_isWord 4 = .ok (.ifCond .ne 39, 3) := dk_154 0 39 (dk_at dksX5_isWord_0 4 rfl rfl)
theorem dX5_isWord_7 : decode bcX5_isWord 7 = .ok (.aload_n 0, 1) := dk_42 (dk_at dksX5_isWord_0 7 rfl rfl)
theorem dX5_isWord_8 : decode bcX5_isWord 8 = .ok (.getfield 24, 3) := dk_180 0 24 (dk_at dksX5_isWord_0 8 rfl rfl)
theorem dX5_isWord_11 : decode bcX5_isWord 11 = .ok (.aload_n 0, 1) := dk_42 (dk_at dksX5_isWord_0 11 rfl rfl)
theorem dX5_isWord_12 : decode bcX5_isWord 12 = .ok (.getfield 162, 3) := dk_180 0 162 (dk_at dksX5_isWord_0 12 rfl rfl)
theorem dX5_isWord_15 : decode bcX5_isWord 15 = .ok (.iaload, 1) := dk_46 (dk_at dksX5_isWord_0 15 rfl rfl)
theorem dX5_isWord_16 : decode bcX5_isWord 16 = .ok (.iconst 1, 1) := dk_4 (dk_at dksX5_isWord_0 16 rfl rfl)
theorem dX5_isWord_17 : decode bcX5_isWord 17 = .ok (.if_icmp .ne 26, 3) := dk_160 0 26 (dk_at dksX5_isWord_0 17 rfl rfl)
theorem dX5_isWord_20 : decode bcX5_isWord 20 = .ok (.aload_n 0, 1) := dk_42 (dk_at dksX5_isWord_0 20 rfl rfl)
theorem dX5_isWord_21 : decode bcX5_isWord 21 = .ok (.getfield 30, 3) := dk_180 0 30 (dk_at dksX5_isWord_0 21 rfl rfl)
theorem dX5_isWord_24 : decode bcX5_isWord 24 = .ok (.aload_n 0, 1) := dk_42 (dk_at dksX5_isWord_1 0 rfl rfl)
theorem dX5_isWord_25 : decode bcX5_isWord 25 = .ok (.getfield 162, 3) := dk_180 0 162 (dk_at dksX5_isWord_1 1 rfl rfl)
theorem dX5_isWord_28 : decode bcX5_isWord 28 = .ok (.laload, 1) := dk_47 (dk_at dksX5_isWord_1 4 rfl rfl)
theorem dX5_isWord_29 : decode bcX5_isWord 29 = .ok (.aload_n 0, 1) := dk_42 (dk_at dksX5_isWord_1 5 rfl rfl)
theorem dX5_isWord_30 : decode bcX5_isWord 30 = .ok (.getfield 80, 3) := dk_180 0 80 (dk_at dksX5_isWord_1 6 rfl rfl)
theorem dX5_isWord_33 : decode bcX5_isWord 33 = .ok (.iload_n 1, 1) := dk_27 (dk_at dksX5_isWord_1 9 rfl rfl)
theorem dX5_isWord_34 : decode bcX5_isWord 34 = .ok (.laload, 1) := dk_47 (dk_at dksX5_isWord_1 10 rfl rfl)
theorem dX5_isWord_35 : decode bcX5_isWord 35 = .ok (.lcmp, 1) := dk_148 (dk_at dksX5_isWord_1 11 rfl rfl)
theorem dX5_isWord_36 : decode bcX5_isWord 36 = .ok (.ifCond .ne 7, 3) := dk_154 0 7 (dk_at dksX5_isWord_1 12 rfl rfl)
theorem dX5_isWord_39 : decode bcX5_isWord 39 = .ok (.iconst 1, 1) := dk_4 (dk_at dksX5_isWord_1 15 rfl rfl)
theorem dX5_isWord_40 : decode bcX5_isWord 40 = .ok (.goto 4, 3) := dk_167 0 4 (dk_at dksX5_isWord_1 16 rfl rfl)
theorem dX5_isWord_43 : decode bcX5_isWord 43 = .ok (.iconst 0, 1) := dk_3 (dk_at dksX5_isWord_1 19 rfl rfl)
theorem dX5_isWord_44 : decode bcX5_isWord 44 = .ok (.ireturn, 1) := dk_172 (dk_at dksX5_isWord_1 20 rfl rfl)
abbrev SX5_isWord (pc : Nat) (i : xI) : Prop := Snd "SwollenHouseModel" "isWord" prog_25_method_12_code 2 (Option.some Jvm.ClassFile.FieldType.boolean) [] pc i
theorem oX5_isWord_0 : SX5_isWord 0 (i_aload 0 1) := snd_aload_n dX5_isWord_0 rfl
theorem oX5_isWord_1 : SX5_isWord 1 (i_getf 4 8 4) := snd_getf dX5_isWord_1 rfl (by decide) in_X5 (Or.inl q1706) (Or.inl rfl) (by decide)
theorem oX5_isWord_4 : SX5_isWord 4 (i_if1 (fun x => ¬ x = 0) 43 7) := snd_if_ne dX5_isWord_4 (by decide)
theorem oX5_isWord_7 : SX5_isWord 7 (i_aload 0 8) := snd_aload_n dX5_isWord_7 rfl
theorem oX5_isWord_8 : SX5_isWord 8 (i_getf 4 4 11) := snd_getf dX5_isWord_8 rfl (by decide) in_X5 (Or.inl q1702) (Or.inl rfl) (by decide)
theorem oX5_isWord_11 : SX5_isWord 11 (i_aload 0 12) := snd_aload_n dX5_isWord_11 rfl
theorem oX5_isWord_12 : SX5_isWord 12 (i_getf 4 7 15) := snd_getf dX5_isWord_12 rfl (by decide) in_X5 (Or.inl q1705) (Or.inl rfl) (by decide)
theorem oX5_isWord_15 : SX5_isWord 15 (i_ai 0 16) := snd_ai0 dX5_isWord_15
theorem oX5_isWord_16 : SX5_isWord 16 (i_const (.int (nI 1)) 17) := snd_iconst dX5_isWord_16 (by decide)
theorem oX5_isWord_17 : SX5_isWord 17 (i_if2 (fun x y => ¬ x = y) 43 20) := snd_icmp_ne dX5_isWord_17 (by decide)
theorem oX5_isWord_20 : SX5_isWord 20 (i_aload 0 21) := snd_aload_n dX5_isWord_20 rfl
theorem oX5_isWord_21 : SX5_isWord 21 (i_getf 4 6 24) := snd_getf dX5_isWord_21 rfl (by decide) in_X5 (Or.inl q1704) (Or.inl rfl) (by decide)
theorem oX5_isWord_24 : SX5_isWord 24 (i_aload 0 25) := snd_aload_n dX5_isWord_24 rfl
theorem oX5_isWord_25 : SX5_isWord 25 (i_getf 4 7 28) := snd_getf dX5_isWord_25 rfl (by decide) in_X5 (Or.inl q1705) (Or.inl rfl) (by decide)
theorem oX5_isWord_28 : SX5_isWord 28 (i_al 3 29) := snd_al3 dX5_isWord_28
theorem oX5_isWord_29 : SX5_isWord 29 (i_aload 0 30) := snd_aload_n dX5_isWord_29 rfl
theorem oX5_isWord_30 : SX5_isWord 30 (i_getf 4 9 33) := snd_getf dX5_isWord_30 rfl (by decide) in_X5 (Or.inl q1707) (Or.inl rfl) (by decide)
theorem oX5_isWord_33 : SX5_isWord 33 (i_iload 1 34) := snd_iload_n dX5_isWord_33 rfl
theorem oX5_isWord_34 : SX5_isWord 34 (i_al 3 35) := snd_al3 dX5_isWord_34
theorem oX5_isWord_35 : SX5_isWord 35 (i_lcmp 36) := snd_lcmp dX5_isWord_35
theorem oX5_isWord_36 : SX5_isWord 36 (i_if1 (fun x => ¬ x = 0) 43 39) := snd_if_ne dX5_isWord_36 (by decide)
theorem oX5_isWord_39 : SX5_isWord 39 (i_const (.int (nI 1)) 40) := snd_iconst dX5_isWord_39 (by decide)
theorem oX5_isWord_40 : SX5_isWord 40 (i_goto 44) := snd_goto dX5_isWord_40 (by decide)
theorem oX5_isWord_43 : SX5_isWord 43 (i_const (.int (nI 0)) 44) := snd_iconst dX5_isWord_43 (by decide)
theorem oX5_isWord_44 : SX5_isWord 44 (i_zret) := snd_zret dX5_isWord_44 rfl
theorem okX5_isWord : ∀ q ∈ cX5_isWord, SX5_isWord q.1 q.2 := List.forall_mem_cons.mpr ⟨oX5_isWord_0, List.forall_mem_cons.mpr ⟨oX5_isWord_1, List.forall_mem_cons.mpr ⟨oX5_isWord_4, List.forall_mem_cons.mpr ⟨oX5_isWord_7, List.forall_mem_cons.mpr ⟨oX5_isWord_8, List.forall_mem_cons.mpr ⟨oX5_isWord_11, List.forall_mem_cons.mpr ⟨oX5_isWord_12, List.forall_mem_cons.mpr ⟨oX5_isWord_15, List.forall_mem_cons.mpr ⟨oX5_isWord_16, List.forall_mem_cons.mpr ⟨oX5_isWord_17, List.forall_mem_cons.mpr ⟨oX5_isWord_20, List.forall_mem_cons.mpr ⟨oX5_isWord_21, List.forall_mem_cons.mpr ⟨oX5_isWord_24, List.forall_mem_cons.mpr ⟨oX5_isWord_25, List.forall_mem_cons.mpr ⟨oX5_isWord_28, List.forall_mem_cons.mpr ⟨oX5_isWord_29, List.forall_mem_cons.mpr ⟨oX5_isWord_30, List.forall_mem_cons.mpr ⟨oX5_isWord_33, List.forall_mem_cons.mpr ⟨oX5_isWord_34, List.forall_mem_cons.mpr ⟨oX5_isWord_35, List.forall_mem_cons.mpr ⟨oX5_isWord_36, List.forall_mem_cons.mpr ⟨oX5_isWord_39, List.forall_mem_cons.mpr ⟨oX5_isWord_40, List.forall_mem_cons.mpr ⟨oX5_isWord_43, List.forall_mem_cons.mpr ⟨oX5_isWord_44, fun _ h => absurd h List.not_mem_nil⟩⟩⟩⟩⟩⟩⟩⟩⟩⟩⟩⟩⟩⟩⟩⟩⟩⟩⟩⟩⟩⟩⟩⟩⟩
def dkwX5_readName_5 : List UInt8 := [42, 180, 0, 83, 16, 60, 27, 96, 92, 46, 4, 96, 79, 177]
abbrev dktX5_readName_5 : List UInt8 := dkwX5_readName_5 ++ []
def dkwX5_readName_4 : List UInt8 := [21, 4, 96, 79, 42, 89, 180, 0, 190, 4, 96, 181, 0, 190, 42, 89, 180, 0, 162, 4, 96, 181, 0, 162]
abbrev dktX5_readName_4 : List UInt8 := dkwX5_readName_4 ++ dktX5_readName_5
def dkwX5_readName_3 : List UInt8 := [42, 180, 0, 190, 42, 180, 0, 30, 42, 180, 0, 162, 47, 80, 42, 180, 0, 101, 42, 180, 0, 190, 29]
abbrev dktX5_readName_3 : List UInt8 := dkwX5_readName_3 ++ dktX5_readName_4
def dkwX5_readName_2 : List UInt8 := [42, 4, 182, 0, 200, 155, 0, 8, 42, 6, 182, 0, 171, 42, 180, 0, 165, 154, 0, 67, 42, 180, 0, 95]
abbrev dktX5_readName_2 : List UInt8 := dkwX5_readName_2 ++ dktX5_readName_3
def dkwX5_readName_1 : List UInt8 := [89, 180, 0, 162, 4, 96, 181, 0, 162, 42, 182, 0, 196, 154, 0, 11, 42, 4, 182, 0, 171, 167, 0, 16]
abbrev dktX5_readName_1 : List UInt8 := dkwX5_readName_1 ++ dktX5_readName_2
def dkwX5_readName_0 : List UInt8 := [42, 180, 0, 83, 16, 60, 27, 96, 46, 54, 4, 21, 4, 28, 160, 0, 9, 42, 8, 182, 0, 171, 177, 42]
abbrev dktX5_readName_0 : List UInt8 := dkwX5_readName_0 ++ dktX5_readName_1
theorem dksX5_readName_0 : bcX5_readName.data.toList.drop 0 = dktX5_readName_0 := by decide +kernel
theorem dksX5_readName_1 : bcX5_readName.data.toList.drop 24 = dktX5_readName_1 := dk_seg dksX5_readName_0 24 rfl rfl
theorem dksX5_readName_2 : bcX5_readName.data.toList.drop 48 = dktX5_readName_2 := dk_seg dksX5_readName_1 24 rfl rfl
theorem dksX5_readName_3 : bcX5_readName.data.toList.drop 72 = dktX5_readName_3 := dk_seg dksX5_readName_2 24 rfl rfl
theorem dksX5_readName_4 : bcX5_readName.data.toList.drop 95 = dktX5_readName_4 := dk_seg dksX5_readName_3 23 rfl rfl
theorem dksX5_readName_5 : bcX5_readName.data.toList.drop 119 = dktX5_readName_5 := dk_seg dksX5_readName_4 24 rfl rfl
theorem dX5_readName_0 : decode bcX5_readName 0 = .ok (.aload_n 0, 1) := dk_42 (dk_at dksX5_readName_0 0 rfl rfl)
theorem dX5_readName_1 : decode bcX5_readName 1 = .ok (.getfield 83, 3) := dk_180 0 83 (dk_at dksX5_readName_0 1 rfl rfl)
theorem dX5_readName_4 : decode bcX5_readName 4 = .ok (.bipush 60, 2) := dk_16 60 (dk_at dksX5_readName_0 4 rfl rfl)
theorem dX5_readName_6 : decode bcX5_readName 6 = .ok (.iload_n 1, 1) := dk_27 (dk_at dksX5_readName_0 6 rfl rfl)
theorem dX5_readName_7 : decode bcX5_readName 7 = .ok (.iadd, 1) := dk_96 (dk_at dksX5_readName_0 7 rfl rfl)
theorem dX5_readName_8 : decode bcX5_readName 8 = .ok (.iaload, 1) := dk_46 (dk_at dksX5_readName_0 8 rfl rfl)
theorem dX5_readName_9 : decode bcX5_readName 9 = .ok (.istore 4, 2) := dk_54 4 (dk_at dksX5_readName_0 9 rfl rfl)
theorem dX5_readName_11 : decode bcX5_readName 11 = .ok (.iload 4, 2) := dk_21 4 (dk_at dksX5_readName_0 11 rfl rfl)
theorem dX5_readName_13 : decode bcX5_readName 13 = .ok (.iload_n 2, 1) := dk_28 (dk_at dksX5_readName_0 13 rfl rfl)
theorem dX5_readName_14 : decode bcX5_readName 14 = .ok (.if_icmp .ne 9, 3) := dk_160 0 9 (dk_at dksX5_readName_0 14 rfl rfl)
theorem dX5_readName_17 : decode bcX5_readName 17 = .ok (.aload_n 0, 1) := dk_42 (dk_at dksX5_readName_0 17 rfl rfl)
theorem dX5_readName_18 : decode bcX5_readName 18 = .ok (.iconst 5, 1) := dk_8 (dk_at dksX5_readName_0 18 rfl rfl)
theorem dX5_readName_19 : decode bcX5_readName 19 = .ok (.invokevirtual 171, 3) := dk_182 0 171 (dk_at dksX5_readName_0 19 rfl rfl)
theorem dX5_readName_22 : decode bcX5_readName 22 = .ok (.return_, 1) := dk_177 (dk_at dksX5_readName_0 22 rfl rfl)
theorem dX5_readName_23 : decode bcX5_readName 23 = .ok (.aload_n 0, 1) := dk_42 (dk_at dksX5_readName_0 23 rfl rfl)
theorem dX5_readName_24 : decode bcX5_readName 24 = .ok (.dup, 1) := dk_89 (dk_at dksX5_readName_1 0 rfl rfl)
theorem dX5_readName_25 : decode bcX5_readName 25 = .ok (.getfield 162, 3) := dk_180 0 162 (dk_at dksX5_readName_1 1 rfl rfl)
theorem dX5_readName_28 : decode bcX5_readName 28 = .ok (.iconst 1, 1) := dk_4 (dk_at dksX5_readName_1 4 rfl rfl)
theorem dX5_readName_29 : decode bcX5_readName 29 = .ok (.iadd, 1) := dk_96 (dk_at dksX5_readName_1 5 rfl rfl)
theorem dX5_readName_30 : decode bcX5_readName 30 = .ok (.putfield 162, 3) := dk_181 0 162 (dk_at dksX5_readName_1 6 rfl rfl)
theorem dX5_readName_33 : decode bcX5_readName 33 = .ok (.aload_n 0, 1) := dk_42 (dk_at dksX5_readName_1 9 rfl rfl)
theorem dX5_readName_34 : decode bcX5_readName 34 = .ok (.invokevirtual 196, 3) := dk_182 0 196 (dk_at dksX5_readName_1 10 rfl rfl)
theorem dX5_readName_37 : decode bcX5_readName 37 = .ok (.ifCond .ne 11, 3) := dk_154 0 11 (dk_at dksX5_readName_1 13 rfl rfl)
theorem dX5_readName_40 : decode bcX5_readName 40 = .ok (.aload_n 0, 1) := dk_42 (dk_at dksX5_readName_1 16 rfl rfl)
theorem dX5_readName_41 : decode bcX5_readName 41 = .ok (.iconst 1, 1) := dk_4 (dk_at dksX5_readName_1 17 rfl rfl)
theorem dX5_readName_42 : decode bcX5_readName 42 = .ok (.invokevirtual 171, 3) := dk_182 0 171 (dk_at dksX5_readName_1 18 rfl rfl)
theorem dX5_readName_45 : decode bcX5_readName 45 = .ok (.goto 16, 3) := dk_167 0 16 (dk_at dksX5_readName_1 21 rfl rfl)
theorem dX5_readName_48 : decode bcX5_readName 48 = .ok (.aload_n 0, 1) := dk_42 (dk_at dksX5_readName_2 0 rfl rfl)
theorem dX5_readName_49 : decode bcX5_readName 49 = .ok (.iconst 1, 1) := dk_4 (dk_at dksX5_readName_2 1 rfl rfl)
theorem dX5_readName_50 : decode bcX5_readName 50 = .ok (.invokevirtual 200, 3) := dk_182 0 200 (dk_at dksX5_readName_2 2 rfl rfl)
theorem dX5_readName_53 : decode bcX5_readName 53 = .ok (.ifCond .lt 8, 3) := dk_155 0 8 (dk_at dksX5_readName_2 5 rfl rfl)
theorem dX5_readName_56 : decode bcX5_readName 56 = .ok (.aload_n 0, 1) := dk_42 (dk_at dksX5_readName_2 8 rfl rfl)
theorem dX5_readName_57 : decode bcX5_readName 57 = .ok (.iconst 3, 1) := dk_6 (dk_at dksX5_readName_2 9 rfl rfl)
theorem dX5_readName_58 : decode bcX5_readName 58 = .ok (.invokevirtual 171, 3) := dk_182 0 171 (dk_at dksX5_readName_2 10 rfl rfl)
theorem dX5_readName_61 : decode bcX5_readName 61 = .ok (.aload_n 0, 1) := dk_42 (dk_at dksX5_readName_2 13 rfl rfl)
theorem dX5_readName_62 : decode bcX5_readName 62 = .ok (.getfield 165, 3) := dk_180 0 165 (dk_at dksX5_readName_2 14 rfl rfl)
theorem dX5_readName_65 : decode bcX5_readName 65 = .ok (.ifCond .ne 67, 3) := dk_154 0 67 (dk_at dksX5_readName_2 17 rfl rfl)
theorem dX5_readName_68 : decode bcX5_readName 68 = .ok (.aload_n 0, 1) := dk_42 (dk_at dksX5_readName_2 20 rfl rfl)
theorem dX5_readName_69 : decode bcX5_readName 69 = .ok (.getfield 95, 3) := dk_180 0 95 (dk_at dksX5_readName_2 21 rfl rfl)
theorem dX5_readName_72 : decode bcX5_readName 72 = .ok (.aload_n 0, 1) := dk_42 (dk_at dksX5_readName_3 0 rfl rfl)
theorem dX5_readName_73 : decode bcX5_readName 73 = .ok (.getfield 190, 3) := dk_180 0 190 (dk_at dksX5_readName_3 1 rfl rfl)
theorem dX5_readName_76 : decode bcX5_readName 76 = .ok (.aload_n 0, 1) := dk_42 (dk_at dksX5_readName_3 4 rfl rfl)
theorem dX5_readName_77 : decode bcX5_readName 77 = .ok (.getfield 30, 3) := dk_180 0 30 (dk_at dksX5_readName_3 5 rfl rfl)
theorem dX5_readName_80 : decode bcX5_readName 80 = .ok (.aload_n 0, 1) := dk_42 (dk_at dksX5_readName_3 8 rfl rfl)
theorem dX5_readName_81 : decode bcX5_readName 81 = .ok (.getfield 162, 3) := dk_180 0 162 (dk_at dksX5_readName_3 9 rfl rfl)
theorem dX5_readName_84 : decode bcX5_readName 84 = .ok (.laload, 1) := dk_47 (dk_at dksX5_readName_3 12 rfl rfl)
theorem dX5_readName_85 : decode bcX5_readName 85 = .ok (.lastore, 1) := dk_80 (dk_at dksX5_readName_3 13 rfl rfl)
theorem dX5_readName_86 : decode bcX5_readName 86 = .ok (.aload_n 0, 1) := dk_42 (dk_at dksX5_readName_3 14 rfl rfl)
theorem dX5_readName_87 : decode bcX5_readName 87 = .ok (.getfield 101, 3) := dk_180 0 101 (dk_at dksX5_readName_3 15 rfl rfl)
theorem dX5_readName_90 : decode bcX5_readName 90 = .ok (.aload_n 0, 1) := dk_42 (dk_at dksX5_readName_3 18 rfl rfl)
theorem dX5_readName_91 : decode bcX5_readName 91 = .ok (.getfield 190, 3) := dk_180 0 190 (dk_at dksX5_readName_3 19 rfl rfl)
theorem dX5_readName_94 : decode bcX5_readName 94 = .ok (.iload_n 3, 1) := dk_29 (dk_at dksX5_readName_3 22 rfl rfl)
theorem dX5_readName_95 : decode bcX5_readName 95 = .ok (.iload 4, 2) := dk_21 4 (dk_at dksX5_readName_4 0 rfl rfl)
theorem dX5_readName_97 : decode bcX5_readName 97 = .ok (.iadd, 1) := dk_96 (dk_at dksX5_readName_4 2 rfl rfl)
theorem dX5_readName_98 : decode bcX5_readName 98 = .ok (.iastore, 1) := dk_79 (dk_at dksX5_readName_4 3 rfl rfl)
theorem dX5_readName_99 : decode bcX5_readName 99 = .ok (.aload_n 0, 1) := dk_42 (dk_at dksX5_readName_4 4 rfl rfl)
theorem dX5_readName_100 : decode bcX5_readName 100 = .ok (.dup, 1) := dk_89 (dk_at dksX5_readName_4 5 rfl rfl)
theorem dX5_readName_101 : decode bcX5_readName 101 = .ok (.getfield 190, 3) := dk_180 0 190 (dk_at dksX5_readName_4 6 rfl rfl)
theorem dX5_readName_104 : decode bcX5_readName 104 = .ok (.iconst 1, 1) := dk_4 (dk_at dksX5_readName_4 9 rfl rfl)
theorem dX5_readName_105 : decode bcX5_readName 105 = .ok (.iadd, 1) := dk_96 (dk_at dksX5_readName_4 10 rfl rfl)
theorem dX5_readName_106 : decode bcX5_readName 106 = .ok (.putfield 190, 3) := dk_181 0 190 (dk_at dksX5_readName_4 11 rfl rfl)
theorem dX5_readName_109 : decode bcX5_readName 109 = .ok (.aload_n 0, 1) := dk_42 (dk_at dksX5_readName_4 14 rfl rfl)
theorem dX5_readName_110 : decode bcX5_readName 110 = .ok (.dup, 1) := dk_89 (dk_at dksX5_readName_4 15 rfl rfl)
theorem dX5_readName_111 : decode bcX5_readName 111 = .ok (.getfield 162, 3) := dk_180 0 162 (dk_at dksX5_readName_4 16 rfl rfl)
theorem dX5_readName_114 : decode bcX5_readName 114 = .ok (.iconst 1, 1) := dk_4 (dk_at dksX5_readName_4 19 rfl rfl)
theorem dX5_readName_115 : decode bcX5_readName 115 = .ok (.iadd, 1) := dk_96 (dk_at dksX5_readName_4 20 rfl rfl)
theorem dX5_readName_116 : decode bcX5_readName 116 = .ok (.putfield 162, 3) := dk_181 0 162 (dk_at dksX5_readName_4 21 rfl rfl)
theorem dX5_readName_119 : decode bcX5_readName 119 = .ok (.aload_n 0, 1) := dk_42 (dk_at dksX5_readName_5 0 rfl rfl)
theorem dX5_readName_120 : decode bcX5_readName 120 = .ok (.getfield 83, 3) := dk_180 0 83 (dk_at dksX5_readName_5 1 rfl rfl)
theorem dX5_readName_123 : decode bcX5_readName 123 = .ok (.bipush 60, 2) := dk_16 60 (dk_at dksX5_readName_5 4 rfl rfl)
theorem dX5_readName_125 : decode bcX5_readName 125 = .ok (.iload_n 1, 1) := dk_27 (dk_at dksX5_readName_5 6 rfl rfl)
theorem dX5_readName_126 : decode bcX5_readName 126 = .ok (.iadd, 1) := dk_96 (dk_at dksX5_readName_5 7 rfl rfl)
theorem dX5_readName_127 : decode bcX5_readName 127 = .ok (.dup2, 1) := dk_92 (dk_at dksX5_readName_5 8 rfl rfl)
theorem dX5_readName_128 : decode bcX5_readName 128 = .ok (.iaload, 1) := dk_46 (dk_at dksX5_readName_5 9 rfl rfl)
theorem dX5_readName_129 : decode bcX5_readName 129 = .ok (.iconst 1, 1) := dk_4 (dk_at dksX5_readName_5 10 rfl rfl)
theorem dX5_readName_130 : decode bcX5_readName 130 = .ok (.iadd, 1) := dk_96 (dk_at dksX5_readName_5 11 rfl rfl)
theorem dX5_readName_131 : decode bcX5_readName 131 = .ok (.iastore, 1) := dk_79 (dk_at dksX5_readName_5 12 rfl rfl)
theorem dX5_readName_132 : decode bcX5_readName 132 = .ok (.return_, 1) := dk_177 (dk_at dksX5_readName_5 13 rfl rfl)
abbrev SX5_readName (pc : Nat) (i : xI) : Prop := Snd "SwollenHouseModel" "readName" prog_25_method_28_code 5 (Option.none : Option Jvm.ClassFile.FieldType) [] pc i
theorem oX5_readName_0 : SX5_readName 0 (i_aload 0 1) := snd_aload_n dX5_readName_0 rfl
theorem oX5_readName_1 : SX5_readName 1 (i_getf 4 10 4) := snd_getf dX5_readName_1 rfl (by decide) in_X5 (Or.inl q1708) (Or.inl rfl) (by decide)
theorem oX5_readName_4 : SX5_readName 4 (i_const (.int (nI 60)) 6) := snd_bipush dX5_readName_4 (by decide)
theorem oX5_readName_6 : SX5_readName 6 (i_iload 1 7) := snd_iload_n dX5_readName_6 rfl
theorem oX5_readName_7 : SX5_readName 7 (i_ii (fun x y => x + y) 8) := snd_iadd dX5_readName_7
theorem oX5_readName_8 : SX5_readName 8 (i_ai 0 9) := snd_ai0 dX5_readName_8
theorem oX5_readName_9 : SX5_readName 9 (i_istore 4 11) := snd_istore dX5_readName_9 (by decide)
theorem oX5_readName_11 : SX5_readName 11 (i_iload 4 13) := snd_iload dX5_readName_11
theorem oX5_readName_13 : SX5_readName 13 (i_iload 2 14) := snd_iload_n dX5_readName_13 rfl
theorem oX5_readName_14 : SX5_readName 14 (i_if2 (fun x y => ¬ x = y) 23 17) := snd_icmp_ne dX5_readName_14 (by decide)
theorem oX5_readName_17 : SX5_readName 17 (i_aload 0 18) := snd_aload_n dX5_readName_17 rfl
theorem oX5_readName_18 : SX5_readName 18 (i_const (.int (nI 5)) 19) := snd_iconst dX5_readName_18 (by decide)
theorem oX5_readName_19 : SX5_readName 19 (i_cvv 4 262 1 22) := snd_cvv rfl infX5_wrong (by decide) rfl (xVm_V dX5_readName_19 rfl q1831 q1833 qs67 q136 q1834 pdX5_wrong)
theorem oX5_readName_22 : SX5_readName 22 (i_vret) := snd_vret dX5_readName_22 rfl
theorem oX5_readName_23 : SX5_readName 23 (i_aload 0 24) := snd_aload_n dX5_readName_23 rfl
theorem oX5_readName_24 : SX5_readName 24 (i_dup 25) := snd_dup dX5_readName_24
theorem oX5_readName_25 : SX5_readName 25 (i_getf 4 7 28) := snd_getf dX5_readName_25 rfl (by decide) in_X5 (Or.inl q1705) (Or.inl rfl) (by decide)
theorem oX5_readName_28 : SX5_readName 28 (i_const (.int (nI 1)) 29) := snd_iconst dX5_readName_28 (by decide)
theorem oX5_readName_29 : SX5_readName 29 (i_ii (fun x y => x + y) 30) := snd_iadd dX5_readName_29
theorem oX5_readName_30 : SX5_readName 30 (i_putfi 4 7 33) := snd_putfi dX5_readName_30 rfl (by decide) in_X5 tyX5 tyX5_ok nmX5 (Or.inl ⟨rfl, q1705⟩) (Or.inl rfl) rfl
theorem oX5_readName_33 : SX5_readName 33 (i_aload 0 34) := snd_aload_n dX5_readName_33 rfl
theorem oX5_readName_34 : SX5_readName 34 (i_cv 4 263 0 37) := snd_cv rfl infX5_isName (by decide) rfl (xVm_V dX5_readName_34 rfl q1835 q1837 qs68 q136 q1838 pdX5_isName)
theorem oX5_readName_37 : SX5_readName 37 (i_if1 (fun x => ¬ x = 0) 48 40) := snd_if_ne dX5_readName_37 (by decide)
theorem oX5_readName_40 : SX5_readName 40 (i_aload 0 41) := snd_aload_n dX5_readName_40 rfl
theorem oX5_readName_41 : SX5_readName 41 (i_const (.int (nI 1)) 42) := snd_iconst dX5_readName_41 (by decide)
theorem oX5_readName_42 : SX5_readName 42 (i_cvv 4 262 1 45) := snd_cvv rfl infX5_wrong (by decide) rfl (xVm_V dX5_readName_42 rfl q1831 q1833 qs67 q136 q1834 pdX5_wrong)
theorem oX5_readName_45 : SX5_readName 45 (i_goto 61) := snd_goto dX5_readName_45 (by decide)
theorem oX5_readName_48 : SX5_readName 48 (i_aload 0 49) := snd_aload_n dX5_readName_48 rfl
theorem oX5_readName_49 : SX5_readName 49 (i_const (.int (nI 1)) 50) := snd_iconst dX5_readName_49 (by decide)
theorem oX5_readName_50 : SX5_readName 50 (i_cv 4 265 1 53) := snd_cv rfl infX5_nameAt (by decide) rfl (xVm_V dX5_readName_50 rfl q1843 q1845 qs70 q136 q1846 pdX5_nameAt)
theorem oX5_readName_53 : SX5_readName 53 (i_if1 (fun x => x < 0) 61 56) := snd_if_lt dX5_readName_53 (by decide)
theorem oX5_readName_56 : SX5_readName 56 (i_aload 0 57) := snd_aload_n dX5_readName_56 rfl
theorem oX5_readName_57 : SX5_readName 57 (i_const (.int (nI 3)) 58) := snd_iconst dX5_readName_57 (by decide)
theorem oX5_readName_58 : SX5_readName 58 (i_cvv 4 262 1 61) := snd_cvv rfl infX5_wrong (by decide) rfl (xVm_V dX5_readName_58 rfl q1831 q1833 qs67 q136 q1834 pdX5_wrong)
theorem oX5_readName_61 : SX5_readName 61 (i_aload 0 62) := snd_aload_n dX5_readName_61 rfl
theorem oX5_readName_62 : SX5_readName 62 (i_getf 4 8 65) := snd_getf dX5_readName_62 rfl (by decide) in_X5 (Or.inl q1706) (Or.inl rfl) (by decide)
theorem oX5_readName_65 : SX5_readName 65 (i_if1 (fun x => ¬ x = 0) 132 68) := snd_if_ne dX5_readName_65 (by decide)
theorem oX5_readName_68 : SX5_readName 68 (i_aload 0 69) := snd_aload_n dX5_readName_68 rfl
theorem oX5_readName_69 : SX5_readName 69 (i_getf 4 15 72) := snd_getf dX5_readName_69 rfl (by decide) in_X5 (Or.inl q1713) (Or.inl rfl) (by decide)
theorem oX5_readName_72 : SX5_readName 72 (i_aload 0 73) := snd_aload_n dX5_readName_72 rfl
theorem oX5_readName_73 : SX5_readName 73 (i_getf 4 19 76) := snd_getf dX5_readName_73 rfl (by decide) in_X5 (Or.inl q1717) (Or.inl rfl) (by decide)
theorem oX5_readName_76 : SX5_readName 76 (i_aload 0 77) := snd_aload_n dX5_readName_76 rfl
theorem oX5_readName_77 : SX5_readName 77 (i_getf 4 6 80) := snd_getf dX5_readName_77 rfl (by decide) in_X5 (Or.inl q1704) (Or.inl rfl) (by decide)
theorem oX5_readName_80 : SX5_readName 80 (i_aload 0 81) := snd_aload_n dX5_readName_80 rfl
theorem oX5_readName_81 : SX5_readName 81 (i_getf 4 7 84) := snd_getf dX5_readName_81 rfl (by decide) in_X5 (Or.inl q1705) (Or.inl rfl) (by decide)
theorem oX5_readName_84 : SX5_readName 84 (i_al 3 85) := snd_al3 dX5_readName_84
theorem oX5_readName_85 : SX5_readName 85 (i_sl 3 86) := snd_sl3 dX5_readName_85
theorem oX5_readName_86 : SX5_readName 86 (i_aload 0 87) := snd_aload_n dX5_readName_86 rfl
theorem oX5_readName_87 : SX5_readName 87 (i_getf 4 17 90) := snd_getf dX5_readName_87 rfl (by decide) in_X5 (Or.inl q1715) (Or.inl rfl) (by decide)
theorem oX5_readName_90 : SX5_readName 90 (i_aload 0 91) := snd_aload_n dX5_readName_90 rfl
theorem oX5_readName_91 : SX5_readName 91 (i_getf 4 19 94) := snd_getf dX5_readName_91 rfl (by decide) in_X5 (Or.inl q1717) (Or.inl rfl) (by decide)
theorem oX5_readName_94 : SX5_readName 94 (i_iload 3 95) := snd_iload_n dX5_readName_94 rfl
theorem oX5_readName_95 : SX5_readName 95 (i_iload 4 97) := snd_iload dX5_readName_95
theorem oX5_readName_97 : SX5_readName 97 (i_ii (fun x y => x + y) 98) := snd_iadd dX5_readName_97
theorem oX5_readName_98 : SX5_readName 98 (i_si (fun v => v) 0 99) := snd_si0 dX5_readName_98
theorem oX5_readName_99 : SX5_readName 99 (i_aload 0 100) := snd_aload_n dX5_readName_99 rfl
theorem oX5_readName_100 : SX5_readName 100 (i_dup 101) := snd_dup dX5_readName_100
theorem oX5_readName_101 : SX5_readName 101 (i_getf 4 19 104) := snd_getf dX5_readName_101 rfl (by decide) in_X5 (Or.inl q1717) (Or.inl rfl) (by decide)
theorem oX5_readName_104 : SX5_readName 104 (i_const (.int (nI 1)) 105) := snd_iconst dX5_readName_104 (by decide)
theorem oX5_readName_105 : SX5_readName 105 (i_ii (fun x y => x + y) 106) := snd_iadd dX5_readName_105
theorem oX5_readName_106 : SX5_readName 106 (i_putfi 4 19 109) := snd_putfi dX5_readName_106 rfl (by decide) in_X5 tyX5 tyX5_ok nmX5 (Or.inl ⟨rfl, q1717⟩) (Or.inl rfl) rfl
theorem oX5_readName_109 : SX5_readName 109 (i_aload 0 110) := snd_aload_n dX5_readName_109 rfl
theorem oX5_readName_110 : SX5_readName 110 (i_dup 111) := snd_dup dX5_readName_110
theorem oX5_readName_111 : SX5_readName 111 (i_getf 4 7 114) := snd_getf dX5_readName_111 rfl (by decide) in_X5 (Or.inl q1705) (Or.inl rfl) (by decide)
theorem oX5_readName_114 : SX5_readName 114 (i_const (.int (nI 1)) 115) := snd_iconst dX5_readName_114 (by decide)
theorem oX5_readName_115 : SX5_readName 115 (i_ii (fun x y => x + y) 116) := snd_iadd dX5_readName_115
theorem oX5_readName_116 : SX5_readName 116 (i_putfi 4 7 119) := snd_putfi dX5_readName_116 rfl (by decide) in_X5 tyX5 tyX5_ok nmX5 (Or.inl ⟨rfl, q1705⟩) (Or.inl rfl) rfl
theorem oX5_readName_119 : SX5_readName 119 (i_aload 0 120) := snd_aload_n dX5_readName_119 rfl
theorem oX5_readName_120 : SX5_readName 120 (i_getf 4 10 123) := snd_getf dX5_readName_120 rfl (by decide) in_X5 (Or.inl q1708) (Or.inl rfl) (by decide)
theorem oX5_readName_123 : SX5_readName 123 (i_const (.int (nI 60)) 125) := snd_bipush dX5_readName_123 (by decide)
theorem oX5_readName_125 : SX5_readName 125 (i_iload 1 126) := snd_iload_n dX5_readName_125 rfl
theorem oX5_readName_126 : SX5_readName 126 (i_ii (fun x y => x + y) 127) := snd_iadd dX5_readName_126
theorem oX5_readName_127 : SX5_readName 127 (i_dup2 128) := snd_dup2 dX5_readName_127
theorem oX5_readName_128 : SX5_readName 128 (i_ai 0 129) := snd_ai0 dX5_readName_128
theorem oX5_readName_129 : SX5_readName 129 (i_const (.int (nI 1)) 130) := snd_iconst dX5_readName_129 (by decide)
theorem oX5_readName_130 : SX5_readName 130 (i_ii (fun x y => x + y) 131) := snd_iadd dX5_readName_130
theorem oX5_readName_131 : SX5_readName 131 (i_si (fun v => v) 0 132) := snd_si0 dX5_readName_131
theorem oX5_readName_132 : SX5_readName 132 (i_vret) := snd_vret dX5_readName_132 rfl
theorem okX5_readName : ∀ q ∈ cX5_readName, SX5_readName q.1 q.2 := List.forall_mem_cons.mpr ⟨oX5_readName_0, List.forall_mem_cons.mpr ⟨oX5_readName_1, List.forall_mem_cons.mpr ⟨oX5_readName_4, List.forall_mem_cons.mpr ⟨oX5_readName_6, List.forall_mem_cons.mpr ⟨oX5_readName_7, List.forall_mem_cons.mpr ⟨oX5_readName_8, List.forall_mem_cons.mpr ⟨oX5_readName_9, List.forall_mem_cons.mpr ⟨oX5_readName_11, List.forall_mem_cons.mpr ⟨oX5_readName_13, List.forall_mem_cons.mpr ⟨oX5_readName_14, List.forall_mem_cons.mpr ⟨oX5_readName_17, List.forall_mem_cons.mpr ⟨oX5_readName_18, List.forall_mem_cons.mpr ⟨oX5_readName_19, List.forall_mem_cons.mpr ⟨oX5_readName_22, List.forall_mem_cons.mpr ⟨oX5_readName_23, List.forall_mem_cons.mpr ⟨oX5_readName_24, List.forall_mem_cons.mpr ⟨oX5_readName_25, List.forall_mem_cons.mpr ⟨oX5_readName_28, List.forall_mem_cons.mpr ⟨oX5_readName_29, List.forall_mem_cons.mpr ⟨oX5_readName_30, List.forall_mem_cons.mpr ⟨oX5_readName_33, List.forall_mem_cons.mpr ⟨oX5_readName_34, List.forall_mem_cons.mpr ⟨oX5_readName_37, List.forall_mem_cons.mpr ⟨oX5_readName_40, List.forall_mem_cons.mpr ⟨oX5_readName_41, List.forall_mem_cons.mpr ⟨oX5_readName_42, List.forall_mem_cons.mpr ⟨oX5_readName_45, List.forall_mem_cons.mpr ⟨oX5_readName_48, List.forall_mem_cons.mpr ⟨oX5_readName_49, List.forall_mem_cons.mpr ⟨oX5_readName_50, List.forall_mem_cons.mpr ⟨oX5_readName_53, List.forall_mem_cons.mpr ⟨oX5_readName_56, List.forall_mem_cons.mpr ⟨oX5_readName_57, List.forall_mem_cons.mpr ⟨oX5_readName_58, List.forall_mem_cons.mpr ⟨oX5_readName_61, List.forall_mem_cons.mpr ⟨oX5_readName_62, List.forall_mem_cons.mpr ⟨oX5_readName_65, List.forall_mem_cons.mpr ⟨oX5_readName_68, List.forall_mem_cons.mpr ⟨oX5_readName_69, List.forall_mem_cons.mpr ⟨oX5_readName_72, List.forall_mem_cons.mpr ⟨oX5_readName_73, List.forall_mem_cons.mpr ⟨oX5_readName_76, List.forall_mem_cons.mpr ⟨oX5_readName_77, List.forall_mem_cons.mpr ⟨oX5_readName_80, List.forall_mem_cons.mpr ⟨oX5_readName_81, List.forall_mem_cons.mpr ⟨oX5_readName_84, List.forall_mem_cons.mpr ⟨oX5_readName_85, List.forall_mem_cons.mpr ⟨oX5_readName_86, List.forall_mem_cons.mpr ⟨oX5_readName_87, List.forall_mem_cons.mpr ⟨oX5_readName_90, List.forall_mem_cons.mpr ⟨oX5_readName_91, List.forall_mem_cons.mpr ⟨oX5_readName_94, List.forall_mem_cons.mpr ⟨oX5_readName_95, List.forall_mem_cons.mpr ⟨oX5_readName_97, List.forall_mem_cons.mpr ⟨oX5_readName_98, List.forall_mem_cons.mpr ⟨oX5_readName_99, List.forall_mem_cons.mpr ⟨oX5_readName_100, List.forall_mem_cons.mpr ⟨oX5_readName_101, List.forall_mem_cons.mpr ⟨oX5_readName_104, List.forall_mem_cons.mpr ⟨oX5_readName_105, List.forall_mem_cons.mpr ⟨oX5_readName_106, List.forall_mem_cons.mpr ⟨oX5_readName_109, List.forall_mem_cons.mpr ⟨oX5_readName_110, List.forall_mem_cons.mpr ⟨oX5_readName_111, List.forall_mem_cons.mpr ⟨oX5_readName_114, List.forall_mem_cons.mpr ⟨oX5_readName_115, List.forall_mem_cons.mpr ⟨oX5_readName_116, List.forall_mem_cons.mpr ⟨oX5_readName_119, List.forall_mem_cons.mpr ⟨oX5_readName_120, List.forall_mem_cons.mpr ⟨oX5_readName_123, List.forall_mem_cons.mpr ⟨oX5_readName_125, List.forall_mem_cons.mpr ⟨oX5_readName_126, List.forall_mem_cons.mpr ⟨oX5_readName_127, List.forall_mem_cons.mpr ⟨oX5_readName_128, List.forall_mem_cons.mpr ⟨oX5_readName_129, List.forall_mem_cons.mpr ⟨oX5_readName_130, List.forall_mem_cons.mpr ⟨oX5_readName_131, List.forall_mem_cons.mpr ⟨oX5_readName_132, fun _ h => absurd h List.not_mem_nil⟩⟩⟩⟩⟩⟩⟩⟩⟩⟩⟩⟩⟩⟩⟩⟩⟩⟩⟩⟩⟩⟩⟩⟩⟩⟩⟩⟩⟩⟩⟩⟩⟩⟩⟩⟩⟩⟩⟩⟩⟩⟩⟩⟩⟩⟩⟩⟩⟩⟩⟩⟩⟩⟩⟩⟩⟩⟩⟩⟩⟩⟩⟩⟩⟩⟩⟩⟩⟩⟩⟩⟩⟩⟩⟩⟩⟩⟩
def dkwX5_wrong_1 : List UInt8 := [181, 0, 165, 177]
abbrev dktX5_wrong_1 : List UInt8 := dkwX5_wrong_1 ++ []
def dkwX5_wrong_0 : List UInt8 := [42, 180, 0, 165, 154, 0, 21, 42, 27, 16, 16, 42, 180, 0, 27, 42, 180, 0, 162, 46, 104, 96]
abbrev dktX5_wrong_0 : List UInt8 := dkwX5_wrong_0 ++ dktX5_wrong_1
theorem dksX5_wrong_0 : bcX5_wrong.data.toList.drop 0 = dktX5_wrong_0 := by decide +kernel
theorem dksX5_wrong_1 : bcX5_wrong.data.toList.drop 22 = dktX5_wrong_1 := dk_seg dksX5_wrong_0 22 rfl rfl
theorem dX5_wrong_0 : decode bcX5_wrong 0 = .ok (.aload_n 0, 1) := dk_42 (dk_at dksX5_wrong_0 0 rfl rfl)
theorem dX5_wrong_1 : decode bcX5_wrong 1 = .ok (.getfield 165, 3) := dk_180 0 165 (dk_at dksX5_wrong_0 1 rfl rfl)
theorem dX5_wrong_4 : decode bcX5_wrong 4 = .ok (.ifCond .ne 21, 3) := dk_154 0 21 (dk_at dksX5_wrong_0 4 rfl rfl)
theorem dX5_wrong_7 : decode bcX5_wrong 7 = .ok (.aload_n 0, 1) := dk_42 (dk_at dksX5_wrong_0 7 rfl rfl)
theorem dX5_wrong_8 : decode bcX5_wrong 8 = .ok (.iload_n 1, 1) := dk_27 (dk_at dksX5_wrong_0 8 rfl rfl)
theorem dX5_wrong_9 : decode bcX5_wrong 9 = .ok (.bipush 16, 2) := dk_16 16 (dk_at dksX5_wrong_0 9 rfl rfl)
theorem dX5_wrong_11 : decode bcX5_wrong 11 = .ok (.aload_n 0, 1) := dk_42 (dk_at dksX5_wrong_0 11 rfl rfl)
theorem dX5_wrong_12 : decode bcX5_wrong 12 = .ok (.getfield 27, 3) := dk_180 0 27 (dk_at dksX5_wrong_0 12 rfl rfl)
theorem dX5_wrong_15 : decode bcX5_wrong 15 = .ok (.aload_n 0, 1) := dk_42 (dk_at dksX5_wrong_0 15 rfl rfl)
theorem dX5_wrong_16 : decode bcX5_wrong 16 = .ok (.getfield 162, 3) := dk_180 0 162 (dk_at dksX5_wrong_0 16 rfl rfl)
theorem dX5_wrong_19 : decode bcX5_wrong 19 = .ok (.iaload, 1) := dk_46 (dk_at dksX5_wrong_0 19 rfl rfl)
theorem dX5_wrong_20 : decode bcX5_wrong 20 = .ok (.imul, 1) := dk_104 (dk_at dksX5_wrong_0 20 rfl rfl)
theorem dX5_wrong_21 : decode bcX5_wrong 21 = .ok (.iadd, 1) := dk_96 (dk_at dksX5_wrong_0 21 rfl rfl)
theorem dX5_wrong_22 : decode bcX5_wrong 22 = .ok (.putfield 165, 3) := dk_181 0 165 (dk_at dksX5_wrong_1 0 rfl rfl)
theorem dX5_wrong_25 : decode bcX5_wrong 25 = .ok (.return_, 1) := dk_177 (dk_at dksX5_wrong_1 3 rfl rfl)
abbrev SX5_wrong (pc : Nat) (i : xI) : Prop := Snd "SwollenHouseModel" "wrong" prog_25_method_10_code 2 (Option.none : Option Jvm.ClassFile.FieldType) [] pc i
theorem oX5_wrong_0 : SX5_wrong 0 (i_aload 0 1) := snd_aload_n dX5_wrong_0 rfl
theorem oX5_wrong_1 : SX5_wrong 1 (i_getf 4 8 4) := snd_getf dX5_wrong_1 rfl (by decide) in_X5 (Or.inl q1706) (Or.inl rfl) (by decide)
theorem oX5_wrong_4 : SX5_wrong 4 (i_if1 (fun x => ¬ x = 0) 25 7) := snd_if_ne dX5_wrong_4 (by decide)
theorem oX5_wrong_7 : SX5_wrong 7 (i_aload 0 8) := snd_aload_n dX5_wrong_7 rfl
theorem oX5_wrong_8 : SX5_wrong 8 (i_iload 1 9) := snd_iload_n dX5_wrong_8 rfl
theorem oX5_wrong_9 : SX5_wrong 9 (i_const (.int (nI 16)) 11) := snd_bipush dX5_wrong_9 (by decide)
theorem oX5_wrong_11 : SX5_wrong 11 (i_aload 0 12) := snd_aload_n dX5_wrong_11 rfl
theorem oX5_wrong_12 : SX5_wrong 12 (i_getf 4 5 15) := snd_getf dX5_wrong_12 rfl (by decide) in_X5 (Or.inl q1703) (Or.inl rfl) (by decide)
theorem oX5_wrong_15 : SX5_wrong 15 (i_aload 0 16) := snd_aload_n dX5_wrong_15 rfl
theorem oX5_wrong_16 : SX5_wrong 16 (i_getf 4 7 19) := snd_getf dX5_wrong_16 rfl (by decide) in_X5 (Or.inl q1705) (Or.inl rfl) (by decide)
theorem oX5_wrong_19 : SX5_wrong 19 (i_ai 0 20) := snd_ai0 dX5_wrong_19
theorem oX5_wrong_20 : SX5_wrong 20 (i_ii (fun x y => x * y) 21) := snd_imul dX5_wrong_20
theorem oX5_wrong_21 : SX5_wrong 21 (i_ii (fun x y => x + y) 22) := snd_iadd dX5_wrong_21
theorem oX5_wrong_22 : SX5_wrong 22 (i_putfi 4 8 25) := snd_putfi dX5_wrong_22 rfl (by decide) in_X5 tyX5 tyX5_ok nmX5 (Or.inl ⟨rfl, q1706⟩) (Or.inl rfl) rfl
theorem oX5_wrong_25 : SX5_wrong 25 (i_vret) := snd_vret dX5_wrong_25 rfl
theorem okX5_wrong : ∀ q ∈ cX5_wrong, SX5_wrong q.1 q.2 := List.forall_mem_cons.mpr ⟨oX5_wrong_0, List.forall_mem_cons.mpr ⟨oX5_wrong_1, List.forall_mem_cons.mpr ⟨oX5_wrong_4, List.forall_mem_cons.mpr ⟨oX5_wrong_7, List.forall_mem_cons.mpr ⟨oX5_wrong_8, List.forall_mem_cons.mpr ⟨oX5_wrong_9, List.forall_mem_cons.mpr ⟨oX5_wrong_11, List.forall_mem_cons.mpr ⟨oX5_wrong_12, List.forall_mem_cons.mpr ⟨oX5_wrong_15, List.forall_mem_cons.mpr ⟨oX5_wrong_16, List.forall_mem_cons.mpr ⟨oX5_wrong_19, List.forall_mem_cons.mpr ⟨oX5_wrong_20, List.forall_mem_cons.mpr ⟨oX5_wrong_21, List.forall_mem_cons.mpr ⟨oX5_wrong_22, List.forall_mem_cons.mpr ⟨oX5_wrong_25, fun _ h => absurd h List.not_mem_nil⟩⟩⟩⟩⟩⟩⟩⟩⟩⟩⟩⟩⟩⟩⟩
def dkwX5_isName_1 : List UInt8 := [182, 0, 187, 156, 0, 7, 4, 167, 0, 4, 3, 172]
abbrev dktX5_isName_1 : List UInt8 := dkwX5_isName_1 ++ []
def dkwX5_isName_0 : List UInt8 := [42, 180, 0, 165, 154, 0, 30, 42, 180, 0, 24, 42, 180, 0, 162, 46, 4, 160, 0, 17, 42, 3, 16, 19]
abbrev dktX5_isName_0 : List UInt8 := dkwX5_isName_0 ++ dktX5_isName_1
theorem dksX5_isName_0 : bcX5_isName.data.toList.drop 0 = dktX5_isName_0 := by decide +kernel
theorem dksX5_isName_1 : bcX5_isName.data.toList.drop 24 = dktX5_isName_1 := dk_seg dksX5_isName_0 24 rfl rfl
theorem dX5_isName_0 : decode bcX5_isName 0 = .ok (.aload_n 0, 1) := dk_42 (dk_at dksX5_isName_0 0 rfl rfl)
theorem dX5_isName_1 : decode bcX5_isName 1 = .ok (.getfield 165, 3) := dk_180 0 165 (dk_at dksX5_isName_0 1 rfl rfl)
theorem dX5_isName_4 : decode bcX5_isName 4 = .ok (.ifCond .ne 30, 3) := dk_154 0 30 (dk_at dksX5_isName_0 4 rfl rfl)
theorem dX5_isName_7 : decode bcX5_isName 7 = .ok (.aload_n 0, 1) := dk_42 (dk_at dksX5_isName_0 7 rfl rfl)
theorem dX5_isName_8 : decode bcX5_isName 8 = .ok (.getfield 24, 3) := dk_180 0 24 (dk_at dksX5_isName_0 8 rfl rfl)
theorem dX5_isName_11 : decode bcX5_isName 11 = .ok (.aload_n 0, 1) := dk_42 (dk_at dksX5_isName_0 11 rfl rfl)
theorem dX5_isName_12 : decode bcX5_isName 12 = .ok (.getfield 162, 3) := dk_180 0 162 (dk_at dksX5_isName_0 12 rfl rfl)
theorem dX5_isName_15 : decode bcX5_isName 15 = .ok (.iaload, 1) := dk_46 (dk_at dksX5_isName_0 15 rfl rfl)
theorem dX5_isName_16 : decode bcX5_isName 16 = .ok (.iconst 1, 1) := dk_4 (dk_at dksX5_isName_0 16 rfl rfl)
theorem dX5_isName_17 : decode bcX5_isName 17 = .ok (.if_icmp .ne 17, 3) := dk_160 0 17 (dk_at dksX5_isName_0 17 rfl rfl)
theorem dX5_isName_20 : decode bcX5_isName 20 = .ok (.aload_n 0, 1) := dk_42 (dk_at dksX5_isName_0 20 rfl rfl)
theorem dX5_isName_21 : decode bcX5_isName 21 = .ok (.iconst 0, 1) := dk_3 (dk_at dksX5_isName_0 21 rfl rfl)
theorem dX5_isName_22 : decode bcX5_isName 22 = .ok (.bipush 19, 2) := dk_16 19 (dk_at dksX5_isName_0 22 rfl rfl)
theorem dX5_isName_24 : decode bcX5_isName 24 = .ok (.invokevirtual 187, 3) := dk_182 0 187 (dk_at dksX5_isName_1 0 rfl rfl)
theorem dX5_isName_27 : decode bcX5_isName 27 = .ok (.ifCond .ge 7, 3) := dk_156 0 7 (dk_at dksX5_isName_1 3 rfl rfl)
theorem dX5_isName_30 : decode bcX5_isName 30 = .ok (.iconst 1, 1) := dk_4 (dk_at dksX5_isName_1 6 rfl rfl)
theorem dX5_isName_31 : decode bcX5_isName 31 = .ok (.goto 4, 3) := dk_167 0 4 (dk_at dksX5_isName_1 7 rfl rfl)
theorem dX5_isName_34 : decode bcX5_isName 34 = .ok (.iconst 0, 1) := dk_3 (dk_at dksX5_isName_1 10 rfl rfl)
theorem dX5_isName_35 : decode bcX5_isName 35 = .ok (.ireturn, 1) := dk_172 (dk_at dksX5_isName_1 11 rfl rfl)
abbrev SX5_isName (pc : Nat) (i : xI) : Prop := Snd "SwollenHouseModel" "isName" prog_25_method_23_code 1 (Option.some Jvm.ClassFile.FieldType.boolean) [] pc i
theorem oX5_isName_0 : SX5_isName 0 (i_aload 0 1) := snd_aload_n dX5_isName_0 rfl
theorem oX5_isName_1 : SX5_isName 1 (i_getf 4 8 4) := snd_getf dX5_isName_1 rfl (by decide) in_X5 (Or.inl q1706) (Or.inl rfl) (by decide)
theorem oX5_isName_4 : SX5_isName 4 (i_if1 (fun x => ¬ x = 0) 34 7) := snd_if_ne dX5_isName_4 (by decide)
theorem oX5_isName_7 : SX5_isName 7 (i_aload 0 8) := snd_aload_n dX5_isName_7 rfl
theorem oX5_isName_8 : SX5_isName 8 (i_getf 4 4 11) := snd_getf dX5_isName_8 rfl (by decide) in_X5 (Or.inl q1702) (Or.inl rfl) (by decide)
theorem oX5_isName_11 : SX5_isName 11 (i_aload 0 12) := snd_aload_n dX5_isName_11 rfl
theorem oX5_isName_12 : SX5_isName 12 (i_getf 4 7 15) := snd_getf dX5_isName_12 rfl (by decide) in_X5 (Or.inl q1705) (Or.inl rfl) (by decide)
theorem oX5_isName_15 : SX5_isName 15 (i_ai 0 16) := snd_ai0 dX5_isName_15
theorem oX5_isName_16 : SX5_isName 16 (i_const (.int (nI 1)) 17) := snd_iconst dX5_isName_16 (by decide)
theorem oX5_isName_17 : SX5_isName 17 (i_if2 (fun x y => ¬ x = y) 34 20) := snd_icmp_ne dX5_isName_17 (by decide)
theorem oX5_isName_20 : SX5_isName 20 (i_aload 0 21) := snd_aload_n dX5_isName_20 rfl
theorem oX5_isName_21 : SX5_isName 21 (i_const (.int (nI 0)) 22) := snd_iconst dX5_isName_21 (by decide)
theorem oX5_isName_22 : SX5_isName 22 (i_const (.int (nI 19)) 24) := snd_bipush dX5_isName_22 (by decide)
theorem oX5_isName_24 : SX5_isName 24 (i_cv 4 264 2 27) := snd_cv rfl infX5_wordHere (by decide) rfl (xVm_V dX5_isName_24 rfl q1839 q1841 qs69 q136 q1842 pdX5_wordHere)
theorem oX5_isName_27 : SX5_isName 27 (i_if1 (fun x => 0 ≤ x) 34 30) := snd_if_ge dX5_isName_27 (by decide)
theorem oX5_isName_30 : SX5_isName 30 (i_const (.int (nI 1)) 31) := snd_iconst dX5_isName_30 (by decide)
theorem oX5_isName_31 : SX5_isName 31 (i_goto 35) := snd_goto dX5_isName_31 (by decide)
theorem oX5_isName_34 : SX5_isName 34 (i_const (.int (nI 0)) 35) := snd_iconst dX5_isName_34 (by decide)
theorem oX5_isName_35 : SX5_isName 35 (i_zret) := snd_zret dX5_isName_35 rfl
theorem okX5_isName : ∀ q ∈ cX5_isName, SX5_isName q.1 q.2 := List.forall_mem_cons.mpr ⟨oX5_isName_0, List.forall_mem_cons.mpr ⟨oX5_isName_1, List.forall_mem_cons.mpr ⟨oX5_isName_4, List.forall_mem_cons.mpr ⟨oX5_isName_7, List.forall_mem_cons.mpr ⟨oX5_isName_8, List.forall_mem_cons.mpr ⟨oX5_isName_11, List.forall_mem_cons.mpr ⟨oX5_isName_12, List.forall_mem_cons.mpr ⟨oX5_isName_15, List.forall_mem_cons.mpr ⟨oX5_isName_16, List.forall_mem_cons.mpr ⟨oX5_isName_17, List.forall_mem_cons.mpr ⟨oX5_isName_20, List.forall_mem_cons.mpr ⟨oX5_isName_21, List.forall_mem_cons.mpr ⟨oX5_isName_22, List.forall_mem_cons.mpr ⟨oX5_isName_24, List.forall_mem_cons.mpr ⟨oX5_isName_27, List.forall_mem_cons.mpr ⟨oX5_isName_30, List.forall_mem_cons.mpr ⟨oX5_isName_31, List.forall_mem_cons.mpr ⟨oX5_isName_34, List.forall_mem_cons.mpr ⟨oX5_isName_35, fun _ h => absurd h List.not_mem_nil⟩⟩⟩⟩⟩⟩⟩⟩⟩⟩⟩⟩⟩⟩⟩⟩⟩⟩⟩
def dkwX5_wordHere_1 : List UInt8 := [167, 0, 4, 29, 62, 132, 4, 1, 167, 255, 229, 29, 172]
abbrev dktX5_wordHere_1 : List UInt8 := dkwX5_wordHere_1 ++ []
def dkwX5_wordHere_0 : List UInt8 := [2, 62, 3, 54, 4, 21, 4, 28, 162, 0, 27, 42, 27, 21, 4, 96, 182, 0, 174, 153, 0, 8, 21, 4]
abbrev dktX5_wordHere_0 : List UInt8 := dkwX5_wordHere_0 ++ dktX5_wordHere_1
theorem dksX5_wordHere_0 : bcX5_wordHere.data.toList.drop 0 = dktX5_wordHere_0 := by decide +kernel
theorem dksX5_wordHere_1 : bcX5_wordHere.data.toList.drop 24 = dktX5_wordHere_1 := dk_seg dksX5_wordHere_0 24 rfl rfl
theorem dX5_wordHere_0 : decode bcX5_wordHere 0 = .ok (.iconst (-1), 1) := dk_2 (dk_at dksX5_wordHere_0 0 rfl rfl)
theorem dX5_wordHere_1 : decode bcX5_wordHere 1 = .ok (.istore_n 3, 1) := dk_62 (dk_at dksX5_wordHere_0 1 rfl rfl)
theorem dX5_wordHere_2 : decode bcX5_wordHere 2 = .ok (.iconst 0, 1) := dk_3 (dk_at dksX5_wordHere_0 2 rfl rfl)
theorem dX5_wordHere_3 : decode bcX5_wordHere 3 = .ok (.istore 4, 2) := dk_54 4 (dk_at dksX5_wordHere_0 3 rfl rfl)
theorem dX5_wordHere_5 : decode bcX5_wordHere 5 = .ok (.iload 4, 2) := dk_21 4 (dk_at dksX5_wordHere_0 5 rfl rfl)
theorem dX5_wordHere_7 : decode bcX5_wordHere 7 = .ok (.iload_n 2, 1) := dk_28 (dk_at dksX5_wordHere_0 7 rfl rfl)
theorem dX5_wordHere_8 : decode bcX5_wordHere 8 = .ok (.if_icmp .ge 27, 3) := dk_162 0 27 (dk_at dksX5_wordHere_0 8 rfl rfl)
theorem dX5_wordHere_11 : decode bcX5_wordHere 11 = .ok (.aload_n 0, 1) := dk_42 (dk_at dksX5_wordHere_0 11 rfl rfl)
theorem dX5_wordHere_12 : decode bcX5_wordHere 12 = .ok (.iload_n 1, 1) := dk_27 (dk_at dksX5_wordHere_0 12 rfl rfl)
theorem dX5_wordHere_13 : decode bcX5_wordHere 13 = .ok (.iload 4, 2) := dk_21 4 (dk_at dksX5_wordHere_0 13 rfl rfl)
theorem dX5_wordHere_15 : decode bcX5_wordHere 15 = .ok (.iadd, 1) := dk_96 (dk_at dksX5_wordHere_0 15 rfl rfl)
theorem dX5_wordHere_16 : decode bcX5_wordHere 16 = .ok (.invokevirtual 174, 3) := dk_182 0 174 (dk_at dksX5_wordHere_0 16 rfl rfl)
theorem dX5_wordHere_19 : decode bcX5_wordHere 19 = .ok (.ifCond .eq 8, 3) := dk_153 0 8 (dk_at dksX5_wordHere_0 19 rfl rfl)
theorem dX5_wordHere_22 : decode bcX5_wordHere 22 = .ok (.iload 4, 2) := dk_21 4 (dk_at dksX5_wordHere_0 22 rfl rfl)
theorem dX5_wordHere_24 : decode bcX5_wordHere 24 = .ok (.goto 4, 3) := dk_167 0 4 (dk_at dksX5_wordHere_1 0 rfl rfl)
theorem dX5_wordHere_27 : decode bcX5_wordHere 27 = .ok (.iload_n 3, 1) := dk_29 (dk_at dksX5_wordHere_1 3 rfl rfl)
theorem dX5_wordHere_28 : decode bcX5_wordHere 28 = .ok (.istore_n 3, 1) := dk_62 (dk_at dksX5_wordHere_1 4 rfl rfl)
theorem dX5_wordHere_29 : decode bcX5_wordHere 29 = .ok (.iinc 4 1, 3) := dk_132 4 1 (dk_at dksX5_wordHere_1 5 rfl rfl)
theorem dX5_wordHere_32 : decode bcX5_wordHere 32 = .ok (.goto (-27), 3) := dk_167 255 229 (dk_at dksX5_wordHere_1 8 rfl rfl)
theorem dX5_wordHere_35 : decode bcX5_wordHere 35 = .ok (.iload_n 3, 1) := dk_29 (dk_at dksX5_wordHere_1 11 rfl rfl)
theorem dX5_wordHere_36 : decode bcX5_wordHere 36 = .ok (.ireturn, 1) := dk_172 (dk_at dksX5_wordHere_1 12 rfl rfl)
abbrev SX5_wordHere (pc : Nat) (i : xI) : Prop := Snd "SwollenHouseModel" "wordHere" prog_25_method_21_code 5 (Option.some Jvm.ClassFile.FieldType.int) [] pc i
theorem oX5_wordHere_0 : SX5_wordHere 0 (i_const (.int (-1)) 1) := snd_iconst dX5_wordHere_0 (by decide)
theorem oX5_wordHere_1 : SX5_wordHere 1 (i_istore 3 2) := snd_istore_n dX5_wordHere_1 rfl (by decide)
theorem oX5_wordHere_2 : SX5_wordHere 2 (i_const (.int (nI 0)) 3) := snd_iconst dX5_wordHere_2 (by decide)
theorem oX5_wordHere_3 : SX5_wordHere 3 (i_istore 4 5) := snd_istore dX5_wordHere_3 (by decide)
theorem oX5_wordHere_5 : SX5_wordHere 5 (i_iload 4 7) := snd_iload dX5_wordHere_5
theorem oX5_wordHere_7 : SX5_wordHere 7 (i_iload 2 8) := snd_iload_n dX5_wordHere_7 rfl
theorem oX5_wordHere_8 : SX5_wordHere 8 (i_if2 (fun x y => y ≤ x) 35 11) := snd_icmp_ge dX5_wordHere_8 (by decide)
theorem oX5_wordHere_11 : SX5_wordHere 11 (i_aload 0 12) := snd_aload_n dX5_wordHere_11 rfl
theorem oX5_wordHere_12 : SX5_wordHere 12 (i_iload 1 13) := snd_iload_n dX5_wordHere_12 rfl
theorem oX5_wordHere_13 : SX5_wordHere 13 (i_iload 4 15) := snd_iload dX5_wordHere_13
theorem oX5_wordHere_15 : SX5_wordHere 15 (i_ii (fun x y => x + y) 16) := snd_iadd dX5_wordHere_15
theorem oX5_wordHere_16 : SX5_wordHere 16 (i_cv 4 260 1 19) := snd_cv rfl infX5_isWord (by decide) rfl (xVm_V dX5_wordHere_16 rfl q1823 q1825 qs65 q136 q1826 pdX5_isWord)
theorem oX5_wordHere_19 : SX5_wordHere 19 (i_if1 (fun x => x = 0) 27 22) := snd_if_eq dX5_wordHere_19 (by decide)
theorem oX5_wordHere_22 : SX5_wordHere 22 (i_iload 4 24) := snd_iload dX5_wordHere_22
theorem oX5_wordHere_24 : SX5_wordHere 24 (i_goto 28) := snd_goto dX5_wordHere_24 (by decide)
theorem oX5_wordHere_27 : SX5_wordHere 27 (i_iload 3 28) := snd_iload_n dX5_wordHere_27 rfl
theorem oX5_wordHere_28 : SX5_wordHere 28 (i_istore 3 29) := snd_istore_n dX5_wordHere_28 rfl (by decide)
theorem oX5_wordHere_29 : SX5_wordHere 29 (i_iinc 4 (nI 1) 32) := snd_iinc dX5_wordHere_29 (by decide) (by decide)
theorem oX5_wordHere_32 : SX5_wordHere 32 (i_goto 5) := snd_goto dX5_wordHere_32 (by decide)
theorem oX5_wordHere_35 : SX5_wordHere 35 (i_iload 3 36) := snd_iload_n dX5_wordHere_35 rfl
theorem oX5_wordHere_36 : SX5_wordHere 36 (i_iret) := snd_iret dX5_wordHere_36 rfl
theorem okX5_wordHere : ∀ q ∈ cX5_wordHere, SX5_wordHere q.1 q.2 := List.forall_mem_cons.mpr ⟨oX5_wordHere_0, List.forall_mem_cons.mpr ⟨oX5_wordHere_1, List.forall_mem_cons.mpr ⟨oX5_wordHere_2, List.forall_mem_cons.mpr ⟨oX5_wordHere_3, List.forall_mem_cons.mpr ⟨oX5_wordHere_5, List.forall_mem_cons.mpr ⟨oX5_wordHere_7, List.forall_mem_cons.mpr ⟨oX5_wordHere_8, List.forall_mem_cons.mpr ⟨oX5_wordHere_11, List.forall_mem_cons.mpr ⟨oX5_wordHere_12, List.forall_mem_cons.mpr ⟨oX5_wordHere_13, List.forall_mem_cons.mpr ⟨oX5_wordHere_15, List.forall_mem_cons.mpr ⟨oX5_wordHere_16, List.forall_mem_cons.mpr ⟨oX5_wordHere_19, List.forall_mem_cons.mpr ⟨oX5_wordHere_22, List.forall_mem_cons.mpr ⟨oX5_wordHere_24, List.forall_mem_cons.mpr ⟨oX5_wordHere_27, List.forall_mem_cons.mpr ⟨oX5_wordHere_28, List.forall_mem_cons.mpr ⟨oX5_wordHere_29, List.forall_mem_cons.mpr ⟨oX5_wordHere_32, List.forall_mem_cons.mpr ⟨oX5_wordHere_35, List.forall_mem_cons.mpr ⟨oX5_wordHere_36, fun _ h => absurd h List.not_mem_nil⟩⟩⟩⟩⟩⟩⟩⟩⟩⟩⟩⟩⟩⟩⟩⟩⟩⟩⟩⟩⟩
def dkwX5_nameAt_3 : List UInt8 := [180, 0, 98, 28, 46, 172, 132, 2, 1, 167, 255, 182, 2, 172]
abbrev dktX5_nameAt_3 : List UInt8 := dkwX5_nameAt_3 ++ []
def dkwX5_nameAt_2 : List UInt8 := [180, 0, 162, 47, 148, 154, 0, 23, 27, 153, 0, 12, 42, 180, 0, 101, 28, 46, 167, 0, 9, 42]
abbrev dktX5_nameAt_2 : List UInt8 := dkwX5_nameAt_2 ++ dktX5_nameAt_3
def dkwX5_nameAt_1 : List UInt8 := [153, 0, 12, 42, 180, 0, 95, 28, 47, 167, 0, 9, 42, 180, 0, 92, 28, 47, 42, 180, 0, 30, 42]
abbrev dktX5_nameAt_1 : List UInt8 := dkwX5_nameAt_1 ++ dktX5_nameAt_2
def dkwX5_nameAt_0 : List UInt8 := [3, 61, 28, 27, 153, 0, 10, 42, 180, 0, 190, 167, 0, 7, 42, 180, 0, 193, 162, 0, 61, 27]
abbrev dktX5_nameAt_0 : List UInt8 := dkwX5_nameAt_0 ++ dktX5_nameAt_1
theorem dksX5_nameAt_0 : bcX5_nameAt.data.toList.drop 0 = dktX5_nameAt_0 := by decide +kernel
theorem dksX5_nameAt_1 : bcX5_nameAt.data.toList.drop 22 = dktX5_nameAt_1 := dk_seg dksX5_nameAt_0 22 rfl rfl
theorem dksX5_nameAt_2 : bcX5_nameAt.data.toList.drop 45 = dktX5_nameAt_2 := dk_seg dksX5_nameAt_1 23 rfl rfl
theorem dksX5_nameAt_3 : bcX5_nameAt.data.toList.drop 67 = dktX5_nameAt_3 := dk_seg dksX5_nameAt_2 22 rfl rfl
theorem dX5_nameAt_0 : decode bcX5_nameAt 0 = .ok (.iconst 0, 1) := dk_3 (dk_at dksX5_nameAt_0 0 rfl rfl)
theorem dX5_nameAt_1 : decode bcX5_nameAt 1 = .ok (.istore_n 2, 1) := dk_61 (dk_at dksX5_nameAt_0 1 rfl rfl)
theorem dX5_nameAt_2 : decode bcX5_nameAt 2 = .ok (.iload_n 2, 1) := dk_28 (dk_at dksX5_nameAt_0 2 rfl rfl)
theorem dX5_nameAt_3 : decode bcX5_nameAt 3 = .ok (.iload_n 1, 1) := dk_27 (dk_at dksX5_nameAt_0 3 rfl rfl)
theorem dX5_nameAt_4 : decode bcX5_nameAt 4 = .ok (.ifCond .eq 10, 3) := dk_153 0 10 (dk_at dksX5_nameAt_0 4 rfl rfl)
theorem dX5_nameAt_7 : decode bcX5_nameAt 7 = .ok (.aload_n 0, 1) := dk_42 (dk_at dksX5_nameAt_0 7 rfl rfl)
theorem dX5_nameAt_8 : decode bcX5_nameAt 8 = .ok (.getfield 190, 3) := dk_180 0 190 (dk_at dksX5_nameAt_0 8 rfl rfl)
theorem dX5_nameAt_11 : decode bcX5_nameAt 11 = .ok (.goto 7, 3) := dk_167 0 7 (dk_at dksX5_nameAt_0 11 rfl rfl)
theorem dX5_nameAt_14 : decode bcX5_nameAt 14 = .ok (.aload_n 0, 1) := dk_42 (dk_at dksX5_nameAt_0 14 rfl rfl)
theorem dX5_nameAt_15 : decode bcX5_nameAt 15 = .ok (.getfield 193, 3) := dk_180 0 193 (dk_at dksX5_nameAt_0 15 rfl rfl)
theorem dX5_nameAt_18 : decode bcX5_nameAt 18 = .ok (.if_icmp .ge 61, 3) := dk_162 0 61 (dk_at dksX5_nameAt_0 18 rfl rfl)
theorem dX5_nameAt_21 : decode bcX5_nameAt 21 = .ok (.iload_n 1, 1) := dk_27 (dk_at dksX5_nameAt_0 21 rfl rfl)
theorem dX5_nameAt_22 : decode bcX5_nameAt 22 = .ok (.ifCond .eq 12, 3) := dk_153 0 12 (dk_at dksX5_nameAt_1 0 rfl rfl)
theorem dX5_nameAt_25 : decode bcX5_nameAt 25 = .ok (.aload_n 0, 1) := dk_42 (dk_at dksX5_nameAt_1 3 rfl rfl)
theorem dX5_nameAt_26 : decode bcX5_nameAt 26 = .ok (.getfield 95, 3) := dk_180 0 95 (dk_at dksX5_nameAt_1 4 rfl rfl)
theorem dX5_nameAt_29 : decode bcX5_nameAt 29 = .ok (.iload_n 2, 1) := dk_28 (dk_at dksX5_nameAt_1 7 rfl rfl)
theorem dX5_nameAt_30 : decode bcX5_nameAt 30 = .ok (.laload, 1) := dk_47 (dk_at dksX5_nameAt_1 8 rfl rfl)
theorem dX5_nameAt_31 : decode bcX5_nameAt 31 = .ok (.goto 9, 3) := dk_167 0 9 (dk_at dksX5_nameAt_1 9 rfl rfl)
theorem dX5_nameAt_34 : decode bcX5_nameAt 34 = .ok (.aload_n 0, 1) := dk_42 (dk_at dksX5_nameAt_1 12 rfl rfl)
theorem dX5_nameAt_35 : decode bcX5_nameAt 35 = .ok (.getfield 92, 3) := dk_180 0 92 (dk_at dksX5_nameAt_1 13 rfl rfl)
theorem dX5_nameAt_38 : decode bcX5_nameAt 38 = .ok (.iload_n 2, 1) := dk_28 (dk_at dksX5_nameAt_1 16 rfl rfl)
theorem dX5_nameAt_39 : decode bcX5_nameAt 39 = .ok (.laload, 1) := dk_47 (dk_at dksX5_nameAt_1 17 rfl rfl)
theorem dX5_nameAt_40 : decode bcX5_nameAt 40 = .ok (.aload_n 0, 1) := dk_42 (dk_at dksX5_nameAt_1 18 rfl rfl)
theorem dX5_nameAt_41 : decode bcX5_nameAt 41 = .ok (.getfield 30, 3) := dk_180 0 30 (dk_at dksX5_nameAt_1 19 rfl rfl)
theorem dX5_nameAt_44 : decode bcX5_nameAt 44 = .ok (.aload_n 0, 1) := dk_42 (dk_at dksX5_nameAt_1 22 rfl rfl)
theorem dX5_nameAt_45 : decode bcX5_nameAt 45 = .ok (.getfield 162, 3) := dk_180 0 162 (dk_at dksX5_nameAt_2 0 rfl rfl)
theorem dX5_nameAt_48 : decode bcX5_nameAt 48 = .ok (.laload, 1) := dk_47 (dk_at dksX5_nameAt_2 3 rfl rfl)
theorem dX5_nameAt_49 : decode bcX5_nameAt 49 = .ok (.lcmp, 1) := dk_148 (dk_at dksX5_nameAt_2 4 rfl rfl)
theorem dX5_nameAt_50 : decode bcX5_nameAt 50 = .ok (.ifCond .ne 23, 3) := dk_154 0 23 (dk_at dksX5_nameAt_2 5 rfl rfl)
theorem dX5_nameAt_53 : decode bcX5_nameAt 53 = .ok (.iload_n 1, 1) := dk_27 (dk_at dksX5_nameAt_2 8 rfl rfl)
theorem dX5_nameAt_54 : decode bcX5_nameAt 54 = .ok (.ifCond .eq 12, 3) := dk_153 0 12 (dk_at dksX5_nameAt_2 9 rfl rfl)
theorem dX5_nameAt_57 : decode bcX5_nameAt 57 = .ok (.aload_n 0, 1) := dk_42 (dk_at dksX5_nameAt_2 12 rfl rfl)
theorem dX5_nameAt_58 : decode bcX5_nameAt 58 = .ok (.getfield 101, 3) := dk_180 0 101 (dk_at dksX5_nameAt_2 13 rfl rfl)
theorem dX5_nameAt_61 : decode bcX5_nameAt 61 = .ok (.iload_n 2, 1) := dk_28 (dk_at dksX5_nameAt_2 16 rfl rfl)
theorem dX5_nameAt_62 : decode bcX5_nameAt 62 = .ok (.iaload, 1) := dk_46 (dk_at dksX5_nameAt_2 17 rfl rfl)
theorem dX5_nameAt_63 : decode bcX5_nameAt 63 = .ok (.goto 9, 3) := dk_167 0 9 (dk_at dksX5_nameAt_2 18 rfl rfl)
theorem dX5_nameAt_66 : decode bcX5_nameAt 66 = .ok (.aload_n 0, 1) := dk_42 (dk_at dksX5_nameAt_2 21 rfl rfl)
theorem dX5_nameAt_67 : decode bcX5_nameAt 67 = .ok (.getfield 98, 3) := dk_180 0 98 (dk_at dksX5_nameAt_3 0 rfl rfl)
theorem dX5_nameAt_70 : decode bcX5_nameAt 70 = .ok (.iload_n 2, 1) := dk_28 (dk_at dksX5_nameAt_3 3 rfl rfl)
theorem dX5_nameAt_71 : decode bcX5_nameAt 71 = .ok (.iaload, 1) := dk_46 (dk_at dksX5_nameAt_3 4 rfl rfl)
theorem dX5_nameAt_72 : decode bcX5_nameAt 72 = .ok (.ireturn, 1) := dk_172 (dk_at dksX5_nameAt_3 5 rfl rfl)
theorem dX5_nameAt_73 : decode bcX5_nameAt 73 = .ok (.iinc 2 1, 3) := dk_132 2 1 (dk_at dksX5_nameAt_3 6 rfl rfl)
theorem dX5_nameAt_76 : decode bcX5_nameAt 76 = .ok (.goto (-74), 3) := dk_167 255 182 (dk_at dksX5_nameAt_3 9 rfl rfl)
theorem dX5_nameAt_79 : decode bcX5_nameAt 79 = .ok (.iconst (-1), 1) := dk_2 (dk_at dksX5_nameAt_3 12 rfl rfl)
theorem dX5_nameAt_80 : decode bcX5_nameAt 80 = .ok (.ireturn, 1) := dk_172 (dk_at dksX5_nameAt_3 13 rfl rfl)
abbrev SX5_nameAt (pc : Nat) (i : xI) : Prop := Snd "SwollenHouseModel" "nameAt" prog_25_method_24_code 3 (Option.some Jvm.ClassFile.FieldType.int) [] pc i
theorem oX5_nameAt_0 : SX5_nameAt 0 (i_const (.int (nI 0)) 1) := snd_iconst dX5_nameAt_0 (by decide)
theorem oX5_nameAt_1 : SX5_nameAt 1 (i_istore 2 2) := snd_istore_n dX5_nameAt_1 rfl (by decide)
theorem oX5_nameAt_2 : SX5_nameAt 2 (i_iload 2 3) := snd_iload_n dX5_nameAt_2 rfl
theorem oX5_nameAt_3 : SX5_nameAt 3 (i_iload 1 4) := snd_iload_n dX5_nameAt_3 rfl
theorem oX5_nameAt_4 : SX5_nameAt 4 (i_if1 (fun x => x = 0) 14 7) := snd_if_eq dX5_nameAt_4 (by decide)
theorem oX5_nameAt_7 : SX5_nameAt 7 (i_aload 0 8) := snd_aload_n dX5_nameAt_7 rfl
theorem oX5_nameAt_8 : SX5_nameAt 8 (i_getf 4 19 11) := snd_getf dX5_nameAt_8 rfl (by decide) in_X5 (Or.inl q1717) (Or.inl rfl) (by decide)
theorem oX5_nameAt_11 : SX5_nameAt 11 (i_goto 18) := snd_goto dX5_nameAt_11 (by decide)
theorem oX5_nameAt_14 : SX5_nameAt 14 (i_aload 0 15) := snd_aload_n dX5_nameAt_14 rfl
theorem oX5_nameAt_15 : SX5_nameAt 15 (i_getf 4 18 18) := snd_getf dX5_nameAt_15 rfl (by decide) in_X5 (Or.inl q1716) (Or.inl rfl) (by decide)
theorem oX5_nameAt_18 : SX5_nameAt 18 (i_if2 (fun x y => y ≤ x) 79 21) := snd_icmp_ge dX5_nameAt_18 (by decide)
theorem oX5_nameAt_21 : SX5_nameAt 21 (i_iload 1 22) := snd_iload_n dX5_nameAt_21 rfl
theorem oX5_nameAt_22 : SX5_nameAt 22 (i_if1 (fun x => x = 0) 34 25) := snd_if_eq dX5_nameAt_22 (by decide)
theorem oX5_nameAt_25 : SX5_nameAt 25 (i_aload 0 26) := snd_aload_n dX5_nameAt_25 rfl
theorem oX5_nameAt_26 : SX5_nameAt 26 (i_getf 4 15 29) := snd_getf dX5_nameAt_26 rfl (by decide) in_X5 (Or.inl q1713) (Or.inl rfl) (by decide)
theorem oX5_nameAt_29 : SX5_nameAt 29 (i_iload 2 30) := snd_iload_n dX5_nameAt_29 rfl
theorem oX5_nameAt_30 : SX5_nameAt 30 (i_al 3 31) := snd_al3 dX5_nameAt_30
theorem oX5_nameAt_31 : SX5_nameAt 31 (i_goto 40) := snd_goto dX5_nameAt_31 (by decide)
theorem oX5_nameAt_34 : SX5_nameAt 34 (i_aload 0 35) := snd_aload_n dX5_nameAt_34 rfl
theorem oX5_nameAt_35 : SX5_nameAt 35 (i_getf 4 14 38) := snd_getf dX5_nameAt_35 rfl (by decide) in_X5 (Or.inl q1712) (Or.inl rfl) (by decide)
theorem oX5_nameAt_38 : SX5_nameAt 38 (i_iload 2 39) := snd_iload_n dX5_nameAt_38 rfl
theorem oX5_nameAt_39 : SX5_nameAt 39 (i_al 3 40) := snd_al3 dX5_nameAt_39
theorem oX5_nameAt_40 : SX5_nameAt 40 (i_aload 0 41) := snd_aload_n dX5_nameAt_40 rfl
theorem oX5_nameAt_41 : SX5_nameAt 41 (i_getf 4 6 44) := snd_getf dX5_nameAt_41 rfl (by decide) in_X5 (Or.inl q1704) (Or.inl rfl) (by decide)
theorem oX5_nameAt_44 : SX5_nameAt 44 (i_aload 0 45) := snd_aload_n dX5_nameAt_44 rfl
theorem oX5_nameAt_45 : SX5_nameAt 45 (i_getf 4 7 48) := snd_getf dX5_nameAt_45 rfl (by decide) in_X5 (Or.inl q1705) (Or.inl rfl) (by decide)
theorem oX5_nameAt_48 : SX5_nameAt 48 (i_al 3 49) := snd_al3 dX5_nameAt_48
theorem oX5_nameAt_49 : SX5_nameAt 49 (i_lcmp 50) := snd_lcmp dX5_nameAt_49
theorem oX5_nameAt_50 : SX5_nameAt 50 (i_if1 (fun x => ¬ x = 0) 73 53) := snd_if_ne dX5_nameAt_50 (by decide)
theorem oX5_nameAt_53 : SX5_nameAt 53 (i_iload 1 54) := snd_iload_n dX5_nameAt_53 rfl
theorem oX5_nameAt_54 : SX5_nameAt 54 (i_if1 (fun x => x = 0) 66 57) := snd_if_eq dX5_nameAt_54 (by decide)
theorem oX5_nameAt_57 : SX5_nameAt 57 (i_aload 0 58) := snd_aload_n dX5_nameAt_57 rfl
theorem oX5_nameAt_58 : SX5_nameAt 58 (i_getf 4 17 61) := snd_getf dX5_nameAt_58 rfl (by decide) in_X5 (Or.inl q1715) (Or.inl rfl) (by decide)
theorem oX5_nameAt_61 : SX5_nameAt 61 (i_iload 2 62) := snd_iload_n dX5_nameAt_61 rfl
theorem oX5_nameAt_62 : SX5_nameAt 62 (i_ai 0 63) := snd_ai0 dX5_nameAt_62
theorem oX5_nameAt_63 : SX5_nameAt 63 (i_goto 72) := snd_goto dX5_nameAt_63 (by decide)
theorem oX5_nameAt_66 : SX5_nameAt 66 (i_aload 0 67) := snd_aload_n dX5_nameAt_66 rfl
theorem oX5_nameAt_67 : SX5_nameAt 67 (i_getf 4 16 70) := snd_getf dX5_nameAt_67 rfl (by decide) in_X5 (Or.inl q1714) (Or.inl rfl) (by decide)
theorem oX5_nameAt_70 : SX5_nameAt 70 (i_iload 2 71) := snd_iload_n dX5_nameAt_70 rfl
theorem oX5_nameAt_71 : SX5_nameAt 71 (i_ai 0 72) := snd_ai0 dX5_nameAt_71
theorem oX5_nameAt_72 : SX5_nameAt 72 (i_iret) := snd_iret dX5_nameAt_72 rfl
theorem oX5_nameAt_73 : SX5_nameAt 73 (i_iinc 2 (nI 1) 76) := snd_iinc dX5_nameAt_73 (by decide) (by decide)
theorem oX5_nameAt_76 : SX5_nameAt 76 (i_goto 2) := snd_goto dX5_nameAt_76 (by decide)
theorem oX5_nameAt_79 : SX5_nameAt 79 (i_const (.int (-1)) 80) := snd_iconst dX5_nameAt_79 (by decide)
theorem oX5_nameAt_80 : SX5_nameAt 80 (i_iret) := snd_iret dX5_nameAt_80 rfl
theorem okX5_nameAt : ∀ q ∈ cX5_nameAt, SX5_nameAt q.1 q.2 := List.forall_mem_cons.mpr ⟨oX5_nameAt_0, List.forall_mem_cons.mpr ⟨oX5_nameAt_1, List.forall_mem_cons.mpr ⟨oX5_nameAt_2, List.forall_mem_cons.mpr ⟨oX5_nameAt_3, List.forall_mem_cons.mpr ⟨oX5_nameAt_4, List.forall_mem_cons.mpr ⟨oX5_nameAt_7, List.forall_mem_cons.mpr ⟨oX5_nameAt_8, List.forall_mem_cons.mpr ⟨oX5_nameAt_11, List.forall_mem_cons.mpr ⟨oX5_nameAt_14, List.forall_mem_cons.mpr ⟨oX5_nameAt_15, List.forall_mem_cons.mpr ⟨oX5_nameAt_18, List.forall_mem_cons.mpr ⟨oX5_nameAt_21, List.forall_mem_cons.mpr ⟨oX5_nameAt_22, List.forall_mem_cons.mpr ⟨oX5_nameAt_25, List.forall_mem_cons.mpr ⟨oX5_nameAt_26, List.forall_mem_cons.mpr ⟨oX5_nameAt_29, List.forall_mem_cons.mpr ⟨oX5_nameAt_30, List.forall_mem_cons.mpr ⟨oX5_nameAt_31, List.forall_mem_cons.mpr ⟨oX5_nameAt_34, List.forall_mem_cons.mpr ⟨oX5_nameAt_35, List.forall_mem_cons.mpr ⟨oX5_nameAt_38, List.forall_mem_cons.mpr ⟨oX5_nameAt_39, List.forall_mem_cons.mpr ⟨oX5_nameAt_40, List.forall_mem_cons.mpr ⟨oX5_nameAt_41, List.forall_mem_cons.mpr ⟨oX5_nameAt_44, List.forall_mem_cons.mpr ⟨oX5_nameAt_45, List.forall_mem_cons.mpr ⟨oX5_nameAt_48, List.forall_mem_cons.mpr ⟨oX5_nameAt_49, List.forall_mem_cons.mpr ⟨oX5_nameAt_50, List.forall_mem_cons.mpr ⟨oX5_nameAt_53, List.forall_mem_cons.mpr ⟨oX5_nameAt_54, List.forall_mem_cons.mpr ⟨oX5_nameAt_57, List.forall_mem_cons.mpr ⟨oX5_nameAt_58, List.forall_mem_cons.mpr ⟨oX5_nameAt_61, List.forall_mem_cons.mpr ⟨oX5_nameAt_62, List.forall_mem_cons.mpr ⟨oX5_nameAt_63, List.forall_mem_cons.mpr ⟨oX5_nameAt_66, List.forall_mem_cons.mpr ⟨oX5_nameAt_67, List.forall_mem_cons.mpr ⟨oX5_nameAt_70, List.forall_mem_cons.mpr ⟨oX5_nameAt_71, List.forall_mem_cons.mpr ⟨oX5_nameAt_72, List.forall_mem_cons.mpr ⟨oX5_nameAt_73, List.forall_mem_cons.mpr ⟨oX5_nameAt_76, List.forall_mem_cons.mpr ⟨oX5_nameAt_79, List.forall_mem_cons.mpr ⟨oX5_nameAt_80, fun _ h => absurd h List.not_mem_nil⟩⟩⟩⟩⟩⟩⟩⟩⟩⟩⟩⟩⟩⟩⟩⟩⟩⟩⟩⟩⟩⟩⟩⟩⟩⟩⟩⟩⟩⟩⟩⟩⟩⟩⟩⟩⟩⟩⟩⟩⟩⟩⟩⟩⟩
def dkwX5_readDoor_9 : List UInt8 := [4, 96, 79, 177]
abbrev dktX5_readDoor_9 : List UInt8 := dkwX5_readDoor_9 ++ []
def dkwX5_readDoor_8 : List UInt8 := [5, 96, 21, 5, 79, 42, 180, 0, 83, 21, 7, 6, 96, 21, 6, 79, 42, 180, 0, 83, 16, 61, 92, 46]
abbrev dktX5_readDoor_8 : List UInt8 := dkwX5_readDoor_8 ++ dktX5_readDoor_9
def dkwX5_readDoor_7 : List UInt8 := [180, 0, 83, 21, 7, 28, 79, 42, 180, 0, 83, 21, 7, 4, 96, 21, 4, 79, 42, 180, 0, 83, 21, 7]
abbrev dktX5_readDoor_7 : List UInt8 := dkwX5_readDoor_7 ++ dktX5_readDoor_8
def dkwX5_readDoor_6 : List UInt8 := [16, 12, 182, 0, 240, 54, 6, 42, 180, 0, 165, 154, 0, 63, 16, 65, 7, 27, 104, 96, 54, 7, 42]
abbrev dktX5_readDoor_6 : List UInt8 := dkwX5_readDoor_6 ++ dktX5_readDoor_7
def dkwX5_readDoor_5 : List UInt8 := [167, 255, 184, 42, 4, 3, 29, 182, 0, 230, 54, 4, 42, 16, 12, 7, 182, 0, 237, 54, 5, 42, 5, 3]
abbrev dktX5_readDoor_5 : List UInt8 := dkwX5_readDoor_5 ++ dktX5_readDoor_6
def dkwX5_readDoor_4 : List UInt8 := [96, 46, 28, 160, 0, 15, 4, 42, 180, 0, 83, 21, 5, 46, 120, 167, 0, 4, 3, 128, 62, 132, 4, 1]
abbrev dktX5_readDoor_4 : List UInt8 := dkwX5_readDoor_4 ++ dktX5_readDoor_5
def dkwX5_readDoor_3 : List UInt8 := [160, 0, 17, 4, 42, 180, 0, 83, 21, 5, 4, 96, 46, 120, 167, 0, 29, 42, 180, 0, 83, 21, 5, 4]
abbrev dktX5_readDoor_3 : List UInt8 := dkwX5_readDoor_3 ++ dktX5_readDoor_4
def dkwX5_readDoor_2 : List UInt8 := [21, 4, 27, 162, 0, 72, 16, 65, 7, 21, 4, 104, 96, 54, 5, 29, 42, 180, 0, 83, 21, 5, 46, 28]
abbrev dktX5_readDoor_2 : List UInt8 := dkwX5_readDoor_2 ++ dktX5_readDoor_3
def dkwX5_readDoor_1 : List UInt8 := [180, 0, 162, 4, 96, 181, 0, 162, 42, 4, 3, 3, 182, 0, 230, 61, 4, 28, 120, 62, 3, 54, 4]
abbrev dktX5_readDoor_1 : List UInt8 := dkwX5_readDoor_1 ++ dktX5_readDoor_2
def dkwX5_readDoor_0 : List UInt8 := [42, 180, 0, 83, 16, 61, 46, 60, 27, 16, 8, 160, 0, 9, 42, 8, 182, 0, 171, 177, 42, 89]
abbrev dktX5_readDoor_0 : List UInt8 := dkwX5_readDoor_0 ++ dktX5_readDoor_1
theorem dksX5_readDoor_0 : bcX5_readDoor.data.toList.drop 0 = dktX5_readDoor_0 := by decide +kernel
theorem dksX5_readDoor_1 : bcX5_readDoor.data.toList.drop 22 = dktX5_readDoor_1 := dk_seg dksX5_readDoor_0 22 rfl rfl
theorem dksX5_readDoor_2 : bcX5_readDoor.data.toList.drop 45 = dktX5_readDoor_2 := dk_seg dksX5_readDoor_1 23 rfl rfl
theorem dksX5_readDoor_3 : bcX5_readDoor.data.toList.drop 69 = dktX5_readDoor_3 := dk_seg dksX5_readDoor_2 24 rfl rfl
theorem dksX5_readDoor_4 : bcX5_readDoor.data.toList.drop 93 = dktX5_readDoor_4 := dk_seg dksX5_readDoor_3 24 rfl rfl
theorem dksX5_readDoor_5 : bcX5_readDoor.data.toList.drop 117 = dktX5_readDoor_5 := dk_seg dksX5_readDoor_4 24 rfl rfl
theorem dksX5_readDoor_6 : bcX5_readDoor.data.toList.drop 141 = dktX5_readDoor_6 := dk_seg dksX5_readDoor_5 24 rfl rfl
theorem dksX5_readDoor_7 : bcX5_readDoor.data.toList.drop 164 = dktX5_readDoor_7 := dk_seg dksX5_readDoor_6 23 rfl rfl
theorem dksX5_readDoor_8 : bcX5_readDoor.data.toList.drop 188 = dktX5_readDoor_8 := dk_seg dksX5_readDoor_7 24 rfl rfl
theorem dksX5_readDoor_9 : bcX5_readDoor.data.toList.drop 212 = dktX5_readDoor_9 := dk_seg dksX5_readDoor_8 24 rfl rfl
theorem dX5_readDoor_0 : decode bcX5_readDoor 0 = .ok (.aload_n 0, 1) := dk_42 (dk_at dksX5_readDoor_0 0 rfl rfl)
theorem dX5_readDoor_1 : decode bcX5_readDoor 1 = .ok (.getfield 83, 3) := dk_180 0 83 (dk_at dksX5_readDoor_0 1 rfl rfl)
theorem dX5_readDoor_4 : decode bcX5_readDoor 4 = .ok (.bipush 61, 2) := dk_16 61 (dk_at dksX5_readDoor_0 4 rfl rfl)
theorem dX5_readDoor_6 : decode bcX5_readDoor 6 = .ok (.iaload, 1) := dk_46 (dk_at dksX5_readDoor_0 6 rfl rfl)
theorem dX5_readDoor_7 : decode bcX5_readDoor 7 = .ok (.istore_n 1, 1) := dk_60 (dk_at dksX5_readDoor_0 7 rfl rfl)
theorem dX5_readDoor_8 : decode bcX5_readDoor 8 = .ok (.iload_n 1, 1) := dk_27 (dk_at dksX5_readDoor_0 8 rfl rfl)
theorem dX5_readDoor_9 : decode bcX5_readDoor 9 = .ok (.bipush 8, 2) := dk_16 8 (dk_at dksX5_readDoor_0 9 rfl rfl)
theorem dX5_readDoor_11 : decode bcX5_readDoor 11 = .ok (.if_icmp .ne 9, 3) := dk_160 0 9 (dk_at dksX5_readDoor_0 11 rfl rfl)
theorem dX5_readDoor_14 : decode bcX5_readDoor 14 = .ok (.aload_n 0, 1) := dk_42 (dk_at dksX5_readDoor_0 14 rfl rfl)
theorem dX5_readDoor_15 : decode bcX5_readDoor 15 = .ok (.iconst 5, 1) := dk_8 (dk_at dksX5_readDoor_0 15 rfl rfl)
theorem dX5_readDoor_16 : decode bcX5_readDoor 16 = .ok (.invokevirtual 171, 3) := dk_182 0 171 (dk_at dksX5_readDoor_0 16 rfl rfl)
theorem dX5_readDoor_19 : decode bcX5_readDoor 19 = .ok (.return_, 1) := dk_177 (dk_at dksX5_readDoor_0 19 rfl rfl)
theorem dX5_readDoor_20 : decode bcX5_readDoor 20 = .ok (.aload_n 0, 1) := dk_42 (dk_at dksX5_readDoor_0 20 rfl rfl)
theorem dX5_readDoor_21 : decode bcX5_readDoor 21 = .ok (.dup, 1) := dk_89 (dk_at dksX5_readDoor_0 21 rfl rfl)
theorem dX5_readDoor_22 : decode bcX5_readDoor 22 = .ok (.getfield 162, 3) := dk_180 0 162 (dk_at dksX5_readDoor_1 0 rfl rfl)
theorem dX5_readDoor_25 : decode bcX5_readDoor 25 = .ok (.iconst 1, 1) := dk_4 (dk_at dksX5_readDoor_1 3 rfl rfl)
theorem dX5_readDoor_26 : decode bcX5_readDoor 26 = .ok (.iadd, 1) := dk_96 (dk_at dksX5_readDoor_1 4 rfl rfl)
theorem dX5_readDoor_27 : decode bcX5_readDoor 27 = .ok (.putfield 162, 3) := dk_181 0 162 (dk_at dksX5_readDoor_1 5 rfl rfl)
theorem dX5_readDoor_30 : decode bcX5_readDoor 30 = .ok (.aload_n 0, 1) := dk_42 (dk_at dksX5_readDoor_1 8 rfl rfl)
theorem dX5_readDoor_31 : decode bcX5_readDoor 31 = .ok (.iconst 1, 1) := dk_4 (dk_at dksX5_readDoor_1 9 rfl rfl)
theorem dX5_readDoor_32 : decode bcX5_readDoor 32 = .ok (.iconst 0, 1) := dk_3 (dk_at dksX5_readDoor_1 10 rfl rfl)
theorem dX5_readDoor_33 : decode bcX5_readDoor 33 = .ok (.iconst 0, 1) := dk_3 (dk_at dksX5_readDoor_1 11 rfl rfl)
theorem dX5_readDoor_34 : decode bcX5_readDoor 34 = .ok (.invokevirtual 230, 3) := dk_182 0 230 (dk_at dksX5_readDoor_1 12 rfl rfl)
theorem dX5_readDoor_37 : decode bcX5_readDoor 37 = .ok (.istore_n 2, 1) := dk_61 (dk_at dksX5_readDoor_1 15 rfl rfl)
theorem dX5_readDoor_38 : decode bcX5_readDoor 38 = .ok (.iconst 1, 1) := dk_4 (dk_at dksX5_readDoor_1 16 rfl rfl)
theorem dX5_readDoor_39 : decode bcX5_readDoor 39 = .ok (.iload_n 2, 1) := dk_28 (dk_at dksX5_readDoor_1 17 rfl rfl)
theorem dX5_readDoor_40 : decode bcX5_readDoor 40 = .ok (.ishl, 1) := dk_120 (dk_at dksX5_readDoor_1 18 rfl rfl)
theorem dX5_readDoor_41 : decode bcX5_readDoor 41 = .ok (.istore_n 3, 1) := dk_62 (dk_at dksX5_readDoor_1 19 rfl rfl)
theorem dX5_readDoor_42 : decode bcX5_readDoor 42 = .ok (.iconst 0, 1) := dk_3 (dk_at dksX5_readDoor_1 20 rfl rfl)
theorem dX5_readDoor_43 : decode bcX5_readDoor 43 = .ok (.istore 4, 2) := dk_54 4 (dk_at dksX5_readDoor_1 21 rfl rfl)
theorem dX5_readDoor_45 : decode bcX5_readDoor 45 = .ok (.iload 4, 2) := dk_21 4 (dk_at dksX5_readDoor_2 0 rfl rfl)
theorem dX5_readDoor_47 : decode bcX5_readDoor 47 = .ok (.iload_n 1, 1) := dk_27 (dk_at dksX5_readDoor_2 2 rfl rfl)
theorem dX5_readDoor_48 : decode bcX5_readDoor 48 = .ok (.if_icmp .ge 72, 3) := dk_162 0 72 (dk_at dksX5_readDoor_2 3 rfl rfl)
theorem dX5_readDoor_51 : decode bcX5_readDoor 51 = .ok (.bipush 65, 2) := dk_16 65 (dk_at dksX5_readDoor_2 6 rfl rfl)
theorem dX5_readDoor_53 : decode bcX5_readDoor 53 = .ok (.iconst 4, 1) := dk_7 (dk_at dksX5_readDoor_2 8 rfl rfl)
theorem dX5_readDoor_54 : decode bcX5_readDoor 54 = .ok (.iload 4, 2) := dk_21 4 (dk_at dksX5_readDoor_2 9 rfl rfl)
theorem dX5_readDoor_56 : decode bcX5_readDoor 56 = .ok (.imul, 1) := dk_104 (dk_at dksX5_readDoor_2 11 rfl rfl)
theorem dX5_readDoor_57 : decode bcX5_readDoor 57 = .ok (.iadd, 1) := dk_96 (dk_at dksX5_readDoor_2 12 rfl rfl)
theorem dX5_readDoor_58 : decode bcX5_readDoor 58 = .ok (.istore 5, 2) := dk_54 5 (dk_at dksX5_readDoor_2 13 rfl rfl)
theorem dX5_readDoor_60 : decode bcX5_readDoor 60 = .ok (.iload_n 3, 1) := dk_29 (dk_at dksX5_readDoor_2 15 rfl rfl)
theorem dX5_readDoor_61 : decode bcX5_readDoor 61 = .ok (.aload_n 0, 1) := dk_42 (dk_at dksX5_readDoor_2 16 rfl rfl)
theorem dX5_readDoor_62 : decode bcX5_readDoor 62 = .ok (.getfield 83, 3) := dk_180 0 83 (dk_at dksX5_readDoor_2 17 rfl rfl)
theorem dX5_readDoor_65 : decode bcX5_readDoor 65 = .ok (.iload 5, 2) := dk_21 5 (dk_at dksX5_readDoor_2 20 rfl rfl)
theorem dX5_readDoor_67 : decode bcX5_readDoor 67 = .ok (.iaload, 1) := dk_46 (dk_at dksX5_readDoor_2 22 rfl rfl)
theorem dX5_readDoor_68 : decode bcX5_readDoor 68 = .ok (.iload_n 2, 1) := dk_28 (dk_at dksX5_readDoor_2 23 rfl rfl)
theorem dX5_readDoor_69 : decode bcX5_readDoor 69 = .ok (.if_icmp .ne 17, 3) := dk_160 0 17 (dk_at dksX5_readDoor_3 0 rfl rfl)
theorem dX5_readDoor_72 : decode bcX5_readDoor 72 = .ok (.iconst 1, 1) := dk_4 (dk_at dksX5_readDoor_3 3 rfl rfl)
theorem dX5_readDoor_73 : decode bcX5_readDoor 73 = .ok (.aload_n 0, 1) := dk_42 (dk_at dksX5_readDoor_3 4 rfl rfl)
theorem dX5_readDoor_74 : decode bcX5_readDoor 74 = .ok (.getfield 83, 3) := dk_180 0 83 (dk_at dksX5_readDoor_3 5 rfl rfl)
theorem dX5_readDoor_77 : decode bcX5_readDoor 77 = .ok (.iload 5, 2) := dk_21 5 (dk_at dksX5_readDoor_3 8 rfl rfl)
theorem dX5_readDoor_79 : decode bcX5_readDoor 79 = .ok (.iconst 1, 1) := dk_4 (dk_at dksX5_readDoor_3 10 rfl rfl)
theorem dX5_readDoor_80 : decode bcX5_readDoor 80 = .ok (.iadd, 1) := dk_96 (dk_at dksX5_readDoor_3 11 rfl rfl)
theorem dX5_readDoor_81 : decode bcX5_readDoor 81 = .ok (.iaload, 1) := dk_46 (dk_at dksX5_readDoor_3 12 rfl rfl)
theorem dX5_readDoor_82 : decode bcX5_readDoor 82 = .ok (.ishl, 1) := dk_120 (dk_at dksX5_readDoor_3 13 rfl rfl)
theorem dX5_readDoor_83 : decode bcX5_readDoor 83 = .ok (.goto 29, 3) := dk_167 0 29 (dk_at dksX5_readDoor_3 14 rfl rfl)
theorem dX5_readDoor_86 : decode bcX5_readDoor 86 = .ok (.aload_n 0, 1) := dk_42 (dk_at dksX5_readDoor_3 17 rfl rfl)
theorem dX5_readDoor_87 : decode bcX5_readDoor 87 = .ok (.getfield 83, 3) := dk_180 0 83 (dk_at dksX5_readDoor_3 18 rfl rfl)
theorem dX5_readDoor_90 : decode bcX5_readDoor 90 = .ok (.iload 5, 2) := dk_21 5 (dk_at dksX5_readDoor_3 21 rfl rfl)
theorem dX5_readDoor_92 : decode bcX5_readDoor 92 = .ok (.iconst 1, 1) := dk_4 (dk_at dksX5_readDoor_3 23 rfl rfl)
theorem dX5_readDoor_93 : decode bcX5_readDoor 93 = .ok (.iadd, 1) := dk_96 (dk_at dksX5_readDoor_4 0 rfl rfl)
theorem dX5_readDoor_94 : decode bcX5_readDoor 94 = .ok (.iaload, 1) := dk_46 (dk_at dksX5_readDoor_4 1 rfl rfl)
theorem dX5_readDoor_95 : decode bcX5_readDoor 95 = .ok (.iload_n 2, 1) := dk_28 (dk_at dksX5_readDoor_4 2 rfl rfl)
theorem dX5_readDoor_96 : decode bcX5_readDoor 96 = .ok (.if_icmp .ne 15, 3) := dk_160 0 15 (dk_at dksX5_readDoor_4 3 rfl rfl)
theorem dX5_readDoor_99 : decode bcX5_readDoor 99 = .ok (.iconst 1, 1) := dk_4 (dk_at dksX5_readDoor_4 6 rfl rfl)
theorem dX5_readDoor_100 : decode bcX5_readDoor 100 = .ok (.aload_n 0, 1) := dk_42 (dk_at dksX5_readDoor_4 7 rfl rfl)
theorem dX5_readDoor_101 : decode bcX5_readDoor 101 = .ok (.getfield 83, 3) := dk_180 0 83 (dk_at dksX5_readDoor_4 8 rfl rfl)
theorem dX5_readDoor_104 : decode bcX5_readDoor 104 = .ok (.iload 5, 2) := dk_21 5 (dk_at dksX5_readDoor_4 11 rfl rfl)
theorem dX5_readDoor_106 : decode bcX5_readDoor 106 = .ok (.iaload, 1) := dk_46 (dk_at dksX5_readDoor_4 13 rfl rfl)
theorem dX5_readDoor_107 : decode bcX5_readDoor 107 = .ok (.ishl, 1) := dk_120 (dk_at dksX5_readDoor_4 14 rfl rfl)
theorem dX5_readDoor_108 : decode bcX5_readDoor 108 = .ok (.goto 4, 3) := dk_167 0 4 (dk_at dksX5_readDoor_4 15 rfl rfl)
theorem dX5_readDoor_111 : decode bcX5_readDoor 111 = .ok (.iconst 0, 1) := dk_3 (dk_at dksX5_readDoor_4 18 rfl rfl)
theorem dX5_readDoor_112 : decode bcX5_readDoor 112 = .ok (.ior, 1) := dk_128 (dk_at dksX5_readDoor_4 19 rfl rfl)
theorem dX5_readDoor_113 : decode bcX5_readDoor 113 = .ok (.istore_n 3, 1) := dk_62 (dk_at dksX5_readDoor_4 20 rfl rfl)
theorem dX5_readDoor_114 : decode bcX5_readDoor 114 = .ok (.iinc 4 1, 3) := dk_132 4 1 (dk_at dksX5_readDoor_4 21 rfl rfl)
theorem dX5_readDoor_117 : decode bcX5_readDoor 117 = .ok (.goto (-72), 3) := dk_167 255 184 (dk_at dksX5_readDoor_5 0 rfl rfl)
theorem dX5_readDoor_120 : decode bcX5_readDoor 120 = .ok (.aload_n 0, 1) := dk_42 (dk_at dksX5_readDoor_5 3 rfl rfl)
theorem dX5_readDoor_121 : decode bcX5_readDoor 121 = .ok (.iconst 1, 1) := dk_4 (dk_at dksX5_readDoor_5 4 rfl rfl)
theorem dX5_readDoor_122 : decode bcX5_readDoor 122 = .ok (.iconst 0, 1) := dk_3 (dk_at dksX5_readDoor_5 5 rfl rfl)
theorem dX5_readDoor_123 : decode bcX5_readDoor 123 = .ok (.iload_n 3, 1) := dk_29 (dk_at dksX5_readDoor_5 6 rfl rfl)
theorem dX5_readDoor_124 : decode bcX5_readDoor 124 = .ok (.invokevirtual 230, 3) := dk_182 0 230 (dk_at dksX5_readDoor_5 7 rfl rfl)
theorem dX5_readDoor_127 : decode bcX5_readDoor 127 = .ok (.istore 4, 2) := dk_54 4 (dk_at dksX5_readDoor_5 10 rfl rfl)
theorem dX5_readDoor_129 : decode bcX5_readDoor 129 = .ok (.aload_n 0, 1) := dk_42 (dk_at dksX5_readDoor_5 12 rfl rfl)
theorem dX5_readDoor_130 : decode bcX5_readDoor 130 = .ok (.bipush 12, 2) := dk_16 12 (dk_at dksX5_readDoor_5 13 rfl rfl)
theorem dX5_readDoor_132 : decode bcX5_readDoor 132 = .ok (.iconst 4, 1) := dk_7 (dk_at dksX5_readDoor_5 15 rfl rfl)
theorem dX5_readDoor_133 : decode bcX5_readDoor 133 = .ok (.invokevirtual 237, 3) := dk_182 0 237 (dk_at dksX5_readDoor_5 16 rfl rfl)
theorem dX5_readDoor_136 : decode bcX5_readDoor 136 = .ok (.istore 5, 2) := dk_54 5 (dk_at dksX5_readDoor_5 19 rfl rfl)
theorem dX5_readDoor_138 : decode bcX5_readDoor 138 = .ok (.aload_n 0, 1) := dk_42 (dk_at dksX5_readDoor_5 21 rfl rfl)
theorem dX5_readDoor_139 : decode bcX5_readDoor 139 = .ok (.iconst 2, 1) := dk_5 (dk_at dksX5_readDoor_5 22 rfl rfl)
theorem dX5_readDoor_140 : decode bcX5_readDoor 140 = .ok (.iconst 0, 1) := dk_3 (dk_at dksX5_readDoor_5 23 rfl rfl)
theorem dX5_readDoor_141 : decode bcX5_readDoor 141 = .ok (.bipush 12, 2) := dk_16 12 (dk_at dksX5_readDoor_6 0 rfl rfl)
theorem dX5_readDoor_143 : decode bcX5_readDoor 143 = .ok (.invokevirtual 240, 3) := dk_182 0 240 (dk_at dksX5_readDoor_6 2 rfl rfl)
theorem dX5_readDoor_146 : decode bcX5_readDoor 146 = .ok (.istore 6, 2) := dk_54 6 (dk_at dksX5_readDoor_6 5 rfl rfl)
theorem dX5_readDoor_148 : decode bcX5_readDoor 148 = .ok (.aload_n 0, 1) := dk_42 (dk_at dksX5_readDoor_6 7 rfl rfl)
theorem dX5_readDoor_149 : decode bcX5_readDoor 149 = .ok (.getfield 165, 3) := dk_180 0 165 (dk_at dksX5_readDoor_6 8 rfl rfl)
theorem dX5_readDoor_152 : decode bcX5_readDoor 152 = .ok (.ifCond .ne 63, 3) := dk_154 0 63 (dk_at dksX5_readDoor_6 11 rfl rfl)
theorem dX5_readDoor_155 : decode bcX5_readDoor 155 = .ok (.bipush 65, 2) := dk_16 65 (dk_at dksX5_readDoor_6 14 rfl rfl)
theorem dX5_readDoor_157 : decode bcX5_readDoor 157 = .ok (.iconst 4, 1) := dk_7 (dk_at dksX5_readDoor_6 16 rfl rfl)
theorem dX5_readDoor_158 : decode bcX5_readDoor 158 = .ok (.iload_n 1, 1) := dk_27 (dk_at dksX5_readDoor_6 17 rfl rfl)
theorem dX5_readDoor_159 : decode bcX5_readDoor 159 = .ok (.imul, 1) := dk_104 (dk_at dksX5_readDoor_6 18 rfl rfl)
theorem dX5_readDoor_160 : decode bcX5_readDoor 160 = .ok (.iadd, 1) := dk_96 (dk_at dksX5_readDoor_6 19 rfl rfl)
theorem dX5_readDoor_161 : decode bcX5_readDoor 161 = .ok (.istore 7, 2) := dk_54 7 (dk_at dksX5_readDoor_6 20 rfl rfl)
theorem dX5_readDoor_163 : decode bcX5_readDoor 163 = .ok (.aload_n 0, 1) := dk_42 (dk_at dksX5_readDoor_6 22 rfl rfl)
theorem dX5_readDoor_164 : decode bcX5_readDoor 164 = .ok (.getfield 83, 3) := dk_180 0 83 (dk_at dksX5_readDoor_7 0 rfl rfl)
theorem dX5_readDoor_167 : decode bcX5_readDoor 167 = .ok (.iload 7, 2) := dk_21 7 (dk_at dksX5_readDoor_7 3 rfl rfl)
theorem dX5_readDoor_169 : decode bcX5_readDoor 169 = .ok (.iload_n 2, 1) := dk_28 (dk_at dksX5_readDoor_7 5 rfl rfl)
theorem dX5_readDoor_170 : decode bcX5_readDoor 170 = .ok (.iastore, 1) := dk_79 (dk_at dksX5_readDoor_7 6 rfl rfl)
theorem dX5_readDoor_171 : decode bcX5_readDoor 171 = .ok (.aload_n 0, 1) := dk_42 (dk_at dksX5_readDoor_7 7 rfl rfl)
theorem dX5_readDoor_172 : decode bcX5_readDoor 172 = .ok (.getfield 83, 3) := dk_180 0 83 (dk_at dksX5_readDoor_7 8 rfl rfl)
theorem dX5_readDoor_175 : decode bcX5_readDoor 175 = .ok (.iload 7, 2) := dk_21 7 (dk_at dksX5_readDoor_7 11 rfl rfl)
theorem dX5_readDoor_177 : decode bcX5_readDoor 177 = .ok (.iconst 1, 1) := dk_4 (dk_at dksX5_readDoor_7 13 rfl rfl)
theorem dX5_readDoor_178 : decode bcX5_readDoor 178 = .ok (.iadd, 1) := dk_96 (dk_at dksX5_readDoor_7 14 rfl rfl)
theorem dX5_readDoor_179 : decode bcX5_readDoor 179 = .ok (.iload 4, 2) := dk_21 4 (dk_at dksX5_readDoor_7 15 rfl rfl)
theorem dX5_readDoor_181 : decode bcX5_readDoor 181 = .ok (.iastore, 1) := dk_79 (dk_at dksX5_readDoor_7 17 rfl rfl)
theorem dX5_readDoor_182 : decode bcX5_readDoor 182 = .ok (.aload_n 0, 1) := dk_42 (dk_at dksX5_readDoor_7 18 rfl rfl)
theorem dX5_readDoor_183 : decode bcX5_readDoor 183 = .ok (.getfield 83, 3) := dk_180 0 83 (dk_at dksX5_readDoor_7 19 rfl rfl)
theorem dX5_readDoor_186 : decode bcX5_readDoor 186 = .ok (.iload 7, 2) := dk_21 7 (dk_at dksX5_readDoor_7 22 rfl rfl)
theorem dX5_readDoor_188 : decode bcX5_readDoor 188 = .ok (.iconst 2, 1) := dk_5 (dk_at dksX5_readDoor_8 0 rfl rfl)
theorem dX5_readDoor_189 : decode bcX5_readDoor 189 = .ok (.iadd, 1) := dk_96 (dk_at dksX5_readDoor_8 1 rfl rfl)
theorem dX5_readDoor_190 : decode bcX5_readDoor 190 = .ok (.iload 5, 2) := dk_21 5 (dk_at dksX5_readDoor_8 2 rfl rfl)
theorem dX5_readDoor_192 : decode bcX5_readDoor 192 = .ok (.iastore, 1) := dk_79 (dk_at dksX5_readDoor_8 4 rfl rfl)
theorem dX5_readDoor_193 : decode bcX5_readDoor 193 = .ok (.aload_n 0, 1) := dk_42 (dk_at dksX5_readDoor_8 5 rfl rfl)
theorem dX5_readDoor_194 : decode bcX5_readDoor 194 = .ok (.getfield 83, 3) := dk_180 0 83 (dk_at dksX5_readDoor_8 6 rfl rfl)
theorem dX5_readDoor_197 : decode bcX5_readDoor 197 = .ok (.iload 7, 2) := dk_21 7 (dk_at dksX5_readDoor_8 9 rfl rfl)
theorem dX5_readDoor_199 : decode bcX5_readDoor 199 = .ok (.iconst 3, 1) := dk_6 (dk_at dksX5_readDoor_8 11 rfl rfl)
theorem dX5_readDoor_200 : decode bcX5_readDoor 200 = .ok (.iadd, 1) := dk_96 (dk_at dksX5_readDoor_8 12 rfl rfl)
theorem dX5_readDoor_201 : decode bcX5_readDoor 201 = .ok (.iload 6, 2) := dk_21 6 (dk_at dksX5_readDoor_8 13 rfl rfl)
theorem dX5_readDoor_203 : decode bcX5_readDoor 203 = .ok (.iastore, 1) := dk_79 (dk_at dksX5_readDoor_8 15 rfl rfl)
theorem dX5_readDoor_204 : decode bcX5_readDoor 204 = .ok (.aload_n 0, 1) := dk_42 (dk_at dksX5_readDoor_8 16 rfl rfl)
theorem dX5_readDoor_205 : decode bcX5_readDoor 205 = .ok (.getfield 83, 3) := dk_180 0 83 (dk_at dksX5_readDoor_8 17 rfl rfl)
theorem dX5_readDoor_208 : decode bcX5_readDoor 208 = .ok (.bipush 61, 2) := dk_16 61 (dk_at dksX5_readDoor_8 20 rfl rfl)
theorem dX5_readDoor_210 : decode bcX5_readDoor 210 = .ok (.dup2, 1) := dk_92 (dk_at dksX5_readDoor_8 22 rfl rfl)
theorem dX5_readDoor_211 : decode bcX5_readDoor 211 = .ok (.iaload, 1) := dk_46 (dk_at dksX5_readDoor_8 23 rfl rfl)
theorem dX5_readDoor_212 : decode bcX5_readDoor 212 = .ok (.iconst 1, 1) := dk_4 (dk_at dksX5_readDoor_9 0 rfl rfl)
theorem dX5_readDoor_213 : decode bcX5_readDoor 213 = .ok (.iadd, 1) := dk_96 (dk_at dksX5_readDoor_9 1 rfl rfl)
theorem dX5_readDoor_214 : decode bcX5_readDoor 214 = .ok (.iastore, 1) := dk_79 (dk_at dksX5_readDoor_9 2 rfl rfl)
theorem dX5_readDoor_215 : decode bcX5_readDoor 215 = .ok (.return_, 1) := dk_177 (dk_at dksX5_readDoor_9 3 rfl rfl)
abbrev SX5_readDoor (pc : Nat) (i : xI) : Prop := Snd "SwollenHouseModel" "readDoor" prog_25_method_29_code 8 (Option.none : Option Jvm.ClassFile.FieldType) [] pc i
theorem oX5_readDoor_0 : SX5_readDoor 0 (i_aload 0 1) := snd_aload_n dX5_readDoor_0 rfl
theorem oX5_readDoor_1 : SX5_readDoor 1 (i_getf 4 10 4) := snd_getf dX5_readDoor_1 rfl (by decide) in_X5 (Or.inl q1708) (Or.inl rfl) (by decide)
theorem oX5_readDoor_4 : SX5_readDoor 4 (i_const (.int (nI 61)) 6) := snd_bipush dX5_readDoor_4 (by decide)
theorem oX5_readDoor_6 : SX5_readDoor 6 (i_ai 0 7) := snd_ai0 dX5_readDoor_6
theorem oX5_readDoor_7 : SX5_readDoor 7 (i_istore 1 8) := snd_istore_n dX5_readDoor_7 rfl (by decide)
theorem oX5_readDoor_8 : SX5_readDoor 8 (i_iload 1 9) := snd_iload_n dX5_readDoor_8 rfl
theorem oX5_readDoor_9 : SX5_readDoor 9 (i_const (.int (nI 8)) 11) := snd_bipush dX5_readDoor_9 (by decide)
theorem oX5_readDoor_11 : SX5_readDoor 11 (i_if2 (fun x y => ¬ x = y) 20 14) := snd_icmp_ne dX5_readDoor_11 (by decide)
theorem oX5_readDoor_14 : SX5_readDoor 14 (i_aload 0 15) := snd_aload_n dX5_readDoor_14 rfl
theorem oX5_readDoor_15 : SX5_readDoor 15 (i_const (.int (nI 5)) 16) := snd_iconst dX5_readDoor_15 (by decide)
theorem oX5_readDoor_16 : SX5_readDoor 16 (i_cvv 4 262 1 19) := snd_cvv rfl infX5_wrong (by decide) rfl (xVm_V dX5_readDoor_16 rfl q1831 q1833 qs67 q136 q1834 pdX5_wrong)
theorem oX5_readDoor_19 : SX5_readDoor 19 (i_vret) := snd_vret dX5_readDoor_19 rfl
theorem oX5_readDoor_20 : SX5_readDoor 20 (i_aload 0 21) := snd_aload_n dX5_readDoor_20 rfl
theorem oX5_readDoor_21 : SX5_readDoor 21 (i_dup 22) := snd_dup dX5_readDoor_21
theorem oX5_readDoor_22 : SX5_readDoor 22 (i_getf 4 7 25) := snd_getf dX5_readDoor_22 rfl (by decide) in_X5 (Or.inl q1705) (Or.inl rfl) (by decide)
theorem oX5_readDoor_25 : SX5_readDoor 25 (i_const (.int (nI 1)) 26) := snd_iconst dX5_readDoor_25 (by decide)
theorem oX5_readDoor_26 : SX5_readDoor 26 (i_ii (fun x y => x + y) 27) := snd_iadd dX5_readDoor_26
theorem oX5_readDoor_27 : SX5_readDoor 27 (i_putfi 4 7 30) := snd_putfi dX5_readDoor_27 rfl (by decide) in_X5 tyX5 tyX5_ok nmX5 (Or.inl ⟨rfl, q1705⟩) (Or.inl rfl) rfl
theorem oX5_readDoor_30 : SX5_readDoor 30 (i_aload 0 31) := snd_aload_n dX5_readDoor_30 rfl
theorem oX5_readDoor_31 : SX5_readDoor 31 (i_const (.int (nI 1)) 32) := snd_iconst dX5_readDoor_31 (by decide)
theorem oX5_readDoor_32 : SX5_readDoor 32 (i_const (.int (nI 0)) 33) := snd_iconst dX5_readDoor_32 (by decide)
theorem oX5_readDoor_33 : SX5_readDoor 33 (i_const (.int (nI 0)) 34) := snd_iconst dX5_readDoor_33 (by decide)
theorem oX5_readDoor_34 : SX5_readDoor 34 (i_cv 4 267 3 37) := snd_cv rfl infX5_takeTold (by decide) rfl (xVm_V dX5_readDoor_34 rfl q1851 q1853 qs72 q136 q1854 pdX5_takeTold)
theorem oX5_readDoor_37 : SX5_readDoor 37 (i_istore 2 38) := snd_istore_n dX5_readDoor_37 rfl (by decide)
theorem oX5_readDoor_38 : SX5_readDoor 38 (i_const (.int (nI 1)) 39) := snd_iconst dX5_readDoor_38 (by decide)
theorem oX5_readDoor_39 : SX5_readDoor 39 (i_iload 2 40) := snd_iload_n dX5_readDoor_39 rfl
theorem oX5_readDoor_40 : SX5_readDoor 40 (i_ii (fun x y => x <<< (y &&& 31)) 41) := snd_ishl dX5_readDoor_40
theorem oX5_readDoor_41 : SX5_readDoor 41 (i_istore 3 42) := snd_istore_n dX5_readDoor_41 rfl (by decide)
theorem oX5_readDoor_42 : SX5_readDoor 42 (i_const (.int (nI 0)) 43) := snd_iconst dX5_readDoor_42 (by decide)
theorem oX5_readDoor_43 : SX5_readDoor 43 (i_istore 4 45) := snd_istore dX5_readDoor_43 (by decide)
theorem oX5_readDoor_45 : SX5_readDoor 45 (i_iload 4 47) := snd_iload dX5_readDoor_45
theorem oX5_readDoor_47 : SX5_readDoor 47 (i_iload 1 48) := snd_iload_n dX5_readDoor_47 rfl
theorem oX5_readDoor_48 : SX5_readDoor 48 (i_if2 (fun x y => y ≤ x) 120 51) := snd_icmp_ge dX5_readDoor_48 (by decide)
theorem oX5_readDoor_51 : SX5_readDoor 51 (i_const (.int (nI 65)) 53) := snd_bipush dX5_readDoor_51 (by decide)
theorem oX5_readDoor_53 : SX5_readDoor 53 (i_const (.int (nI 4)) 54) := snd_iconst dX5_readDoor_53 (by decide)
theorem oX5_readDoor_54 : SX5_readDoor 54 (i_iload 4 56) := snd_iload dX5_readDoor_54
theorem oX5_readDoor_56 : SX5_readDoor 56 (i_ii (fun x y => x * y) 57) := snd_imul dX5_readDoor_56
theorem oX5_readDoor_57 : SX5_readDoor 57 (i_ii (fun x y => x + y) 58) := snd_iadd dX5_readDoor_57
theorem oX5_readDoor_58 : SX5_readDoor 58 (i_istore 5 60) := snd_istore dX5_readDoor_58 (by decide)
theorem oX5_readDoor_60 : SX5_readDoor 60 (i_iload 3 61) := snd_iload_n dX5_readDoor_60 rfl
theorem oX5_readDoor_61 : SX5_readDoor 61 (i_aload 0 62) := snd_aload_n dX5_readDoor_61 rfl
theorem oX5_readDoor_62 : SX5_readDoor 62 (i_getf 4 10 65) := snd_getf dX5_readDoor_62 rfl (by decide) in_X5 (Or.inl q1708) (Or.inl rfl) (by decide)
theorem oX5_readDoor_65 : SX5_readDoor 65 (i_iload 5 67) := snd_iload dX5_readDoor_65
theorem oX5_readDoor_67 : SX5_readDoor 67 (i_ai 0 68) := snd_ai0 dX5_readDoor_67
theorem oX5_readDoor_68 : SX5_readDoor 68 (i_iload 2 69) := snd_iload_n dX5_readDoor_68 rfl
theorem oX5_readDoor_69 : SX5_readDoor 69 (i_if2 (fun x y => ¬ x = y) 86 72) := snd_icmp_ne dX5_readDoor_69 (by decide)
theorem oX5_readDoor_72 : SX5_readDoor 72 (i_const (.int (nI 1)) 73) := snd_iconst dX5_readDoor_72 (by decide)
theorem oX5_readDoor_73 : SX5_readDoor 73 (i_aload 0 74) := snd_aload_n dX5_readDoor_73 rfl
theorem oX5_readDoor_74 : SX5_readDoor 74 (i_getf 4 10 77) := snd_getf dX5_readDoor_74 rfl (by decide) in_X5 (Or.inl q1708) (Or.inl rfl) (by decide)
theorem oX5_readDoor_77 : SX5_readDoor 77 (i_iload 5 79) := snd_iload dX5_readDoor_77
theorem oX5_readDoor_79 : SX5_readDoor 79 (i_const (.int (nI 1)) 80) := snd_iconst dX5_readDoor_79 (by decide)
theorem oX5_readDoor_80 : SX5_readDoor 80 (i_ii (fun x y => x + y) 81) := snd_iadd dX5_readDoor_80
theorem oX5_readDoor_81 : SX5_readDoor 81 (i_ai 0 82) := snd_ai0 dX5_readDoor_81
theorem oX5_readDoor_82 : SX5_readDoor 82 (i_ii (fun x y => x <<< (y &&& 31)) 83) := snd_ishl dX5_readDoor_82
theorem oX5_readDoor_83 : SX5_readDoor 83 (i_goto 112) := snd_goto dX5_readDoor_83 (by decide)
theorem oX5_readDoor_86 : SX5_readDoor 86 (i_aload 0 87) := snd_aload_n dX5_readDoor_86 rfl
theorem oX5_readDoor_87 : SX5_readDoor 87 (i_getf 4 10 90) := snd_getf dX5_readDoor_87 rfl (by decide) in_X5 (Or.inl q1708) (Or.inl rfl) (by decide)
theorem oX5_readDoor_90 : SX5_readDoor 90 (i_iload 5 92) := snd_iload dX5_readDoor_90
theorem oX5_readDoor_92 : SX5_readDoor 92 (i_const (.int (nI 1)) 93) := snd_iconst dX5_readDoor_92 (by decide)
theorem oX5_readDoor_93 : SX5_readDoor 93 (i_ii (fun x y => x + y) 94) := snd_iadd dX5_readDoor_93
theorem oX5_readDoor_94 : SX5_readDoor 94 (i_ai 0 95) := snd_ai0 dX5_readDoor_94
theorem oX5_readDoor_95 : SX5_readDoor 95 (i_iload 2 96) := snd_iload_n dX5_readDoor_95 rfl
theorem oX5_readDoor_96 : SX5_readDoor 96 (i_if2 (fun x y => ¬ x = y) 111 99) := snd_icmp_ne dX5_readDoor_96 (by decide)
theorem oX5_readDoor_99 : SX5_readDoor 99 (i_const (.int (nI 1)) 100) := snd_iconst dX5_readDoor_99 (by decide)
theorem oX5_readDoor_100 : SX5_readDoor 100 (i_aload 0 101) := snd_aload_n dX5_readDoor_100 rfl
theorem oX5_readDoor_101 : SX5_readDoor 101 (i_getf 4 10 104) := snd_getf dX5_readDoor_101 rfl (by decide) in_X5 (Or.inl q1708) (Or.inl rfl) (by decide)
theorem oX5_readDoor_104 : SX5_readDoor 104 (i_iload 5 106) := snd_iload dX5_readDoor_104
theorem oX5_readDoor_106 : SX5_readDoor 106 (i_ai 0 107) := snd_ai0 dX5_readDoor_106
theorem oX5_readDoor_107 : SX5_readDoor 107 (i_ii (fun x y => x <<< (y &&& 31)) 108) := snd_ishl dX5_readDoor_107
theorem oX5_readDoor_108 : SX5_readDoor 108 (i_goto 112) := snd_goto dX5_readDoor_108 (by decide)
theorem oX5_readDoor_111 : SX5_readDoor 111 (i_const (.int (nI 0)) 112) := snd_iconst dX5_readDoor_111 (by decide)
theorem oX5_readDoor_112 : SX5_readDoor 112 (i_ii (fun x y => x ||| y) 113) := snd_ior dX5_readDoor_112
theorem oX5_readDoor_113 : SX5_readDoor 113 (i_istore 3 114) := snd_istore_n dX5_readDoor_113 rfl (by decide)
theorem oX5_readDoor_114 : SX5_readDoor 114 (i_iinc 4 (nI 1) 117) := snd_iinc dX5_readDoor_114 (by decide) (by decide)
theorem oX5_readDoor_117 : SX5_readDoor 117 (i_goto 45) := snd_goto dX5_readDoor_117 (by decide)
theorem oX5_readDoor_120 : SX5_readDoor 120 (i_aload 0 121) := snd_aload_n dX5_readDoor_120 rfl
theorem oX5_readDoor_121 : SX5_readDoor 121 (i_const (.int (nI 1)) 122) := snd_iconst dX5_readDoor_121 (by decide)
theorem oX5_readDoor_122 : SX5_readDoor 122 (i_const (.int (nI 0)) 123) := snd_iconst dX5_readDoor_122 (by decide)
theorem oX5_readDoor_123 : SX5_readDoor 123 (i_iload 3 124) := snd_iload_n dX5_readDoor_123 rfl
theorem oX5_readDoor_124 : SX5_readDoor 124 (i_cv 4 267 3 127) := snd_cv rfl infX5_takeTold (by decide) rfl (xVm_V dX5_readDoor_124 rfl q1851 q1853 qs72 q136 q1854 pdX5_takeTold)
theorem oX5_readDoor_127 : SX5_readDoor 127 (i_istore 4 129) := snd_istore dX5_readDoor_127 (by decide)
theorem oX5_readDoor_129 : SX5_readDoor 129 (i_aload 0 130) := snd_aload_n dX5_readDoor_129 rfl
theorem oX5_readDoor_130 : SX5_readDoor 130 (i_const (.int (nI 12)) 132) := snd_bipush dX5_readDoor_130 (by decide)
theorem oX5_readDoor_132 : SX5_readDoor 132 (i_const (.int (nI 4)) 133) := snd_iconst dX5_readDoor_132 (by decide)
theorem oX5_readDoor_133 : SX5_readDoor 133 (i_cv 4 269 2 136) := snd_cv rfl infX5_takeOne (by decide) rfl (xVm_V dX5_readDoor_133 rfl q1858 q1860 qs73 q136 q1861 pdX5_takeOne)
theorem oX5_readDoor_136 : SX5_readDoor 136 (i_istore 5 138) := snd_istore dX5_readDoor_136 (by decide)
theorem oX5_readDoor_138 : SX5_readDoor 138 (i_aload 0 139) := snd_aload_n dX5_readDoor_138 rfl
theorem oX5_readDoor_139 : SX5_readDoor 139 (i_const (.int (nI 2)) 140) := snd_iconst dX5_readDoor_139 (by decide)
theorem oX5_readDoor_140 : SX5_readDoor 140 (i_const (.int (nI 0)) 141) := snd_iconst dX5_readDoor_140 (by decide)
theorem oX5_readDoor_141 : SX5_readDoor 141 (i_const (.int (nI 12)) 143) := snd_bipush dX5_readDoor_141 (by decide)
theorem oX5_readDoor_143 : SX5_readDoor 143 (i_cv 4 270 3 146) := snd_cv rfl infX5_takeAfter (by decide) rfl (xVm_V dX5_readDoor_143 rfl q1862 q1864 qs74 q136 q1865 pdX5_takeAfter)
theorem oX5_readDoor_146 : SX5_readDoor 146 (i_istore 6 148) := snd_istore dX5_readDoor_146 (by decide)
theorem oX5_readDoor_148 : SX5_readDoor 148 (i_aload 0 149) := snd_aload_n dX5_readDoor_148 rfl
theorem oX5_readDoor_149 : SX5_readDoor 149 (i_getf 4 8 152) := snd_getf dX5_readDoor_149 rfl (by decide) in_X5 (Or.inl q1706) (Or.inl rfl) (by decide)
theorem oX5_readDoor_152 : SX5_readDoor 152 (i_if1 (fun x => ¬ x = 0) 215 155) := snd_if_ne dX5_readDoor_152 (by decide)
theorem oX5_readDoor_155 : SX5_readDoor 155 (i_const (.int (nI 65)) 157) := snd_bipush dX5_readDoor_155 (by decide)
theorem oX5_readDoor_157 : SX5_readDoor 157 (i_const (.int (nI 4)) 158) := snd_iconst dX5_readDoor_157 (by decide)
theorem oX5_readDoor_158 : SX5_readDoor 158 (i_iload 1 159) := snd_iload_n dX5_readDoor_158 rfl
theorem oX5_readDoor_159 : SX5_readDoor 159 (i_ii (fun x y => x * y) 160) := snd_imul dX5_readDoor_159
theorem oX5_readDoor_160 : SX5_readDoor 160 (i_ii (fun x y => x + y) 161) := snd_iadd dX5_readDoor_160
theorem oX5_readDoor_161 : SX5_readDoor 161 (i_istore 7 163) := snd_istore dX5_readDoor_161 (by decide)
theorem oX5_readDoor_163 : SX5_readDoor 163 (i_aload 0 164) := snd_aload_n dX5_readDoor_163 rfl
theorem oX5_readDoor_164 : SX5_readDoor 164 (i_getf 4 10 167) := snd_getf dX5_readDoor_164 rfl (by decide) in_X5 (Or.inl q1708) (Or.inl rfl) (by decide)
theorem oX5_readDoor_167 : SX5_readDoor 167 (i_iload 7 169) := snd_iload dX5_readDoor_167
theorem oX5_readDoor_169 : SX5_readDoor 169 (i_iload 2 170) := snd_iload_n dX5_readDoor_169 rfl
theorem oX5_readDoor_170 : SX5_readDoor 170 (i_si (fun v => v) 0 171) := snd_si0 dX5_readDoor_170
theorem oX5_readDoor_171 : SX5_readDoor 171 (i_aload 0 172) := snd_aload_n dX5_readDoor_171 rfl
theorem oX5_readDoor_172 : SX5_readDoor 172 (i_getf 4 10 175) := snd_getf dX5_readDoor_172 rfl (by decide) in_X5 (Or.inl q1708) (Or.inl rfl) (by decide)
theorem oX5_readDoor_175 : SX5_readDoor 175 (i_iload 7 177) := snd_iload dX5_readDoor_175
theorem oX5_readDoor_177 : SX5_readDoor 177 (i_const (.int (nI 1)) 178) := snd_iconst dX5_readDoor_177 (by decide)
theorem oX5_readDoor_178 : SX5_readDoor 178 (i_ii (fun x y => x + y) 179) := snd_iadd dX5_readDoor_178
theorem oX5_readDoor_179 : SX5_readDoor 179 (i_iload 4 181) := snd_iload dX5_readDoor_179
theorem oX5_readDoor_181 : SX5_readDoor 181 (i_si (fun v => v) 0 182) := snd_si0 dX5_readDoor_181
theorem oX5_readDoor_182 : SX5_readDoor 182 (i_aload 0 183) := snd_aload_n dX5_readDoor_182 rfl
theorem oX5_readDoor_183 : SX5_readDoor 183 (i_getf 4 10 186) := snd_getf dX5_readDoor_183 rfl (by decide) in_X5 (Or.inl q1708) (Or.inl rfl) (by decide)
theorem oX5_readDoor_186 : SX5_readDoor 186 (i_iload 7 188) := snd_iload dX5_readDoor_186
theorem oX5_readDoor_188 : SX5_readDoor 188 (i_const (.int (nI 2)) 189) := snd_iconst dX5_readDoor_188 (by decide)
theorem oX5_readDoor_189 : SX5_readDoor 189 (i_ii (fun x y => x + y) 190) := snd_iadd dX5_readDoor_189
theorem oX5_readDoor_190 : SX5_readDoor 190 (i_iload 5 192) := snd_iload dX5_readDoor_190
theorem oX5_readDoor_192 : SX5_readDoor 192 (i_si (fun v => v) 0 193) := snd_si0 dX5_readDoor_192
theorem oX5_readDoor_193 : SX5_readDoor 193 (i_aload 0 194) := snd_aload_n dX5_readDoor_193 rfl
theorem oX5_readDoor_194 : SX5_readDoor 194 (i_getf 4 10 197) := snd_getf dX5_readDoor_194 rfl (by decide) in_X5 (Or.inl q1708) (Or.inl rfl) (by decide)
theorem oX5_readDoor_197 : SX5_readDoor 197 (i_iload 7 199) := snd_iload dX5_readDoor_197
theorem oX5_readDoor_199 : SX5_readDoor 199 (i_const (.int (nI 3)) 200) := snd_iconst dX5_readDoor_199 (by decide)
theorem oX5_readDoor_200 : SX5_readDoor 200 (i_ii (fun x y => x + y) 201) := snd_iadd dX5_readDoor_200
theorem oX5_readDoor_201 : SX5_readDoor 201 (i_iload 6 203) := snd_iload dX5_readDoor_201
theorem oX5_readDoor_203 : SX5_readDoor 203 (i_si (fun v => v) 0 204) := snd_si0 dX5_readDoor_203
theorem oX5_readDoor_204 : SX5_readDoor 204 (i_aload 0 205) := snd_aload_n dX5_readDoor_204 rfl
theorem oX5_readDoor_205 : SX5_readDoor 205 (i_getf 4 10 208) := snd_getf dX5_readDoor_205 rfl (by decide) in_X5 (Or.inl q1708) (Or.inl rfl) (by decide)
theorem oX5_readDoor_208 : SX5_readDoor 208 (i_const (.int (nI 61)) 210) := snd_bipush dX5_readDoor_208 (by decide)
theorem oX5_readDoor_210 : SX5_readDoor 210 (i_dup2 211) := snd_dup2 dX5_readDoor_210
theorem oX5_readDoor_211 : SX5_readDoor 211 (i_ai 0 212) := snd_ai0 dX5_readDoor_211
theorem oX5_readDoor_212 : SX5_readDoor 212 (i_const (.int (nI 1)) 213) := snd_iconst dX5_readDoor_212 (by decide)
theorem oX5_readDoor_213 : SX5_readDoor 213 (i_ii (fun x y => x + y) 214) := snd_iadd dX5_readDoor_213
theorem oX5_readDoor_214 : SX5_readDoor 214 (i_si (fun v => v) 0 215) := snd_si0 dX5_readDoor_214
theorem oX5_readDoor_215 : SX5_readDoor 215 (i_vret) := snd_vret dX5_readDoor_215 rfl
theorem okX5_readDoor : ∀ q ∈ cX5_readDoor, SX5_readDoor q.1 q.2 := List.forall_mem_cons.mpr ⟨oX5_readDoor_0, List.forall_mem_cons.mpr ⟨oX5_readDoor_1, List.forall_mem_cons.mpr ⟨oX5_readDoor_4, List.forall_mem_cons.mpr ⟨oX5_readDoor_6, List.forall_mem_cons.mpr ⟨oX5_readDoor_7, List.forall_mem_cons.mpr ⟨oX5_readDoor_8, List.forall_mem_cons.mpr ⟨oX5_readDoor_9, List.forall_mem_cons.mpr ⟨oX5_readDoor_11, List.forall_mem_cons.mpr ⟨oX5_readDoor_14, List.forall_mem_cons.mpr ⟨oX5_readDoor_15, List.forall_mem_cons.mpr ⟨oX5_readDoor_16, List.forall_mem_cons.mpr ⟨oX5_readDoor_19, List.forall_mem_cons.mpr ⟨oX5_readDoor_20, List.forall_mem_cons.mpr ⟨oX5_readDoor_21, List.forall_mem_cons.mpr ⟨oX5_readDoor_22, List.forall_mem_cons.mpr ⟨oX5_readDoor_25, List.forall_mem_cons.mpr ⟨oX5_readDoor_26, List.forall_mem_cons.mpr ⟨oX5_readDoor_27, List.forall_mem_cons.mpr ⟨oX5_readDoor_30, List.forall_mem_cons.mpr ⟨oX5_readDoor_31, List.forall_mem_cons.mpr ⟨oX5_readDoor_32, List.forall_mem_cons.mpr ⟨oX5_readDoor_33, List.forall_mem_cons.mpr ⟨oX5_readDoor_34, List.forall_mem_cons.mpr ⟨oX5_readDoor_37, List.forall_mem_cons.mpr ⟨oX5_readDoor_38, List.forall_mem_cons.mpr ⟨oX5_readDoor_39, List.forall_mem_cons.mpr ⟨oX5_readDoor_40, List.forall_mem_cons.mpr ⟨oX5_readDoor_41, List.forall_mem_cons.mpr ⟨oX5_readDoor_42, List.forall_mem_cons.mpr ⟨oX5_readDoor_43, List.forall_mem_cons.mpr ⟨oX5_readDoor_45, List.forall_mem_cons.mpr ⟨oX5_readDoor_47, List.forall_mem_cons.mpr ⟨oX5_readDoor_48, List.forall_mem_cons.mpr ⟨oX5_readDoor_51, List.forall_mem_cons.mpr ⟨oX5_readDoor_53, List.forall_mem_cons.mpr ⟨oX5_readDoor_54, List.forall_mem_cons.mpr ⟨oX5_readDoor_56, List.forall_mem_cons.mpr ⟨oX5_readDoor_57, List.forall_mem_cons.mpr ⟨oX5_readDoor_58, List.forall_mem_cons.mpr ⟨oX5_readDoor_60, List.forall_mem_cons.mpr ⟨oX5_readDoor_61, List.forall_mem_cons.mpr ⟨oX5_readDoor_62, List.forall_mem_cons.mpr ⟨oX5_readDoor_65, List.forall_mem_cons.mpr ⟨oX5_readDoor_67, List.forall_mem_cons.mpr ⟨oX5_readDoor_68, List.forall_mem_cons.mpr ⟨oX5_readDoor_69, List.forall_mem_cons.mpr ⟨oX5_readDoor_72, List.forall_mem_cons.mpr ⟨oX5_readDoor_73, List.forall_mem_cons.mpr ⟨oX5_readDoor_74, List.forall_mem_cons.mpr ⟨oX5_readDoor_77, List.forall_mem_cons.mpr ⟨oX5_readDoor_79, List.forall_mem_cons.mpr ⟨oX5_readDoor_80, List.forall_mem_cons.mpr ⟨oX5_readDoor_81, List.forall_mem_cons.mpr ⟨oX5_readDoor_82, List.forall_mem_cons.mpr ⟨oX5_readDoor_83, List.forall_mem_cons.mpr ⟨oX5_readDoor_86, List.forall_mem_cons.mpr ⟨oX5_readDoor_87, List.forall_mem_cons.mpr ⟨oX5_readDoor_90, List.forall_mem_cons.mpr ⟨oX5_readDoor_92, List.forall_mem_cons.mpr ⟨oX5_readDoor_93, List.forall_mem_cons.mpr ⟨oX5_readDoor_94, List.forall_mem_cons.mpr ⟨oX5_readDoor_95, List.forall_mem_cons.mpr ⟨oX5_readDoor_96, List.forall_mem_cons.mpr ⟨oX5_readDoor_99, List.forall_mem_cons.mpr ⟨oX5_readDoor_100, List.forall_mem_cons.mpr ⟨oX5_readDoor_101, List.forall_mem_cons.mpr ⟨oX5_readDoor_104, List.forall_mem_cons.mpr ⟨oX5_readDoor_106, List.forall_mem_cons.mpr ⟨oX5_readDoor_107, List.forall_mem_cons.mpr ⟨oX5_readDoor_108, List.forall_mem_cons.mpr ⟨oX5_readDoor_111, List.forall_mem_cons.mpr ⟨oX5_readDoor_112, List.forall_mem_cons.mpr ⟨oX5_readDoor_113, List.forall_mem_cons.mpr ⟨oX5_readDoor_114, List.forall_mem_cons.mpr ⟨oX5_readDoor_117, List.forall_mem_cons.mpr ⟨oX5_readDoor_120, List.forall_mem_cons.mpr ⟨oX5_readDoor_121, List.forall_mem_cons.mpr ⟨oX5_readDoor_122, List.forall_mem_cons.mpr ⟨oX5_readDoor_123, List.forall_mem_cons.mpr ⟨oX5_readDoor_124, List.forall_mem_cons.mpr ⟨oX5_readDoor_127, List.forall_mem_cons.mpr ⟨oX5_readDoor_129, List.forall_mem_cons.mpr ⟨oX5_readDoor_130, List.forall_mem_cons.mpr ⟨oX5_readDoor_132, List.forall_mem_cons.mpr ⟨oX5_readDoor_133, List.forall_mem_cons.mpr ⟨oX5_readDoor_136, List.forall_mem_cons.mpr ⟨oX5_readDoor_138, List.forall_mem_cons.mpr ⟨oX5_readDoor_139, List.forall_mem_cons.mpr ⟨oX5_readDoor_140, List.forall_mem_cons.mpr ⟨oX5_readDoor_141, List.forall_mem_cons.mpr ⟨oX5_readDoor_143, List.forall_mem_cons.mpr ⟨oX5_readDoor_146, List.forall_mem_cons.mpr ⟨oX5_readDoor_148, List.forall_mem_cons.mpr ⟨oX5_readDoor_149, List.forall_mem_cons.mpr ⟨oX5_readDoor_152, List.forall_mem_cons.mpr ⟨oX5_readDoor_155, List.forall_mem_cons.mpr ⟨oX5_readDoor_157, List.forall_mem_cons.mpr ⟨oX5_readDoor_158, List.forall_mem_cons.mpr ⟨oX5_readDoor_159, List.forall_mem_cons.mpr ⟨oX5_readDoor_160, List.forall_mem_cons.mpr ⟨oX5_readDoor_161, List.forall_mem_cons.mpr ⟨oX5_readDoor_163, List.forall_mem_cons.mpr ⟨oX5_readDoor_164, List.forall_mem_cons.mpr ⟨oX5_readDoor_167, List.forall_mem_cons.mpr ⟨oX5_readDoor_169, List.forall_mem_cons.mpr ⟨oX5_readDoor_170, List.forall_mem_cons.mpr ⟨oX5_readDoor_171, List.forall_mem_cons.mpr ⟨oX5_readDoor_172, List.forall_mem_cons.mpr ⟨oX5_readDoor_175, List.forall_mem_cons.mpr ⟨oX5_readDoor_177, List.forall_mem_cons.mpr ⟨oX5_readDoor_178, List.forall_mem_cons.mpr ⟨oX5_readDoor_179, List.forall_mem_cons.mpr ⟨oX5_readDoor_181, List.forall_mem_cons.mpr ⟨oX5_readDoor_182, List.forall_mem_cons.mpr ⟨oX5_readDoor_183, List.forall_mem_cons.mpr ⟨oX5_readDoor_186, List.forall_mem_cons.mpr ⟨oX5_readDoor_188, List.forall_mem_cons.mpr ⟨oX5_readDoor_189, List.forall_mem_cons.mpr ⟨oX5_readDoor_190, List.forall_mem_cons.mpr ⟨oX5_readDoor_192, List.forall_mem_cons.mpr ⟨oX5_readDoor_193, List.forall_mem_cons.mpr ⟨oX5_readDoor_194, List.forall_mem_cons.mpr ⟨oX5_readDoor_197, List.forall_mem_cons.mpr ⟨oX5_readDoor_199, List.forall_mem_cons.mpr ⟨oX5_readDoor_200, List.forall_mem_cons.mpr ⟨oX5_readDoor_201, List.forall_mem_cons.mpr ⟨oX5_readDoor_203, List.forall_mem_cons.mpr ⟨oX5_readDoor_204, List.forall_mem_cons.mpr ⟨oX5_readDoor_205, List.forall_mem_cons.mpr ⟨oX5_readDoor_208, List.forall_mem_cons.mpr ⟨oX5_readDoor_210, List.forall_mem_cons.mpr ⟨oX5_readDoor_211, List.forall_mem_cons.mpr ⟨oX5_readDoor_212, List.forall_mem_cons.mpr ⟨oX5_readDoor_213, List.forall_mem_cons.mpr ⟨oX5_readDoor_214, List.forall_mem_cons.mpr ⟨oX5_readDoor_215, fun _ h => absurd h List.not_mem_nil⟩⟩⟩⟩⟩⟩⟩⟩⟩⟩⟩⟩⟩⟩⟩⟩⟩⟩⟩⟩⟩⟩⟩⟩⟩⟩⟩⟩⟩⟩⟩⟩⟩⟩⟩⟩⟩⟩⟩⟩⟩⟩⟩⟩⟩⟩⟩⟩⟩⟩⟩⟩⟩⟩⟩⟩⟩⟩⟩⟩⟩⟩⟩⟩⟩⟩⟩⟩⟩⟩⟩⟩⟩⟩⟩⟩⟩⟩⟩⟩⟩⟩⟩⟩⟩⟩⟩⟩⟩⟩⟩⟩⟩⟩⟩⟩⟩⟩⟩⟩⟩⟩⟩⟩⟩⟩⟩⟩⟩⟩⟩⟩⟩⟩⟩⟩⟩⟩⟩⟩⟩⟩⟩⟩⟩⟩⟩⟩⟩⟩⟩⟩⟩⟩⟩⟩
def dkwX5_takeTold_5 : List UInt8 := [167, 0, 5, 21, 4, 172]
abbrev dktX5_takeTold_5 : List UInt8 := dkwX5_takeTold_5 ++ []
def dkwX5_takeTold_4 : List UInt8 := [180, 0, 165, 158, 0, 7, 3, 167, 0, 4, 4, 96, 181, 0, 162, 42, 180, 0, 165, 158, 0, 7, 3]
abbrev dktX5_takeTold_4 : List UInt8 := dkwX5_takeTold_4 ++ dktX5_takeTold_5
def dkwX5_takeTold_3 : List UInt8 := [154, 0, 18, 29, 21, 4, 122, 4, 126, 4, 160, 0, 8, 42, 6, 182, 0, 171, 42, 89, 180, 0, 162, 42]
abbrev dktX5_takeTold_3 : List UInt8 := dkwX5_takeTold_3 ++ dktX5_takeTold_4
def dkwX5_takeTold_2 : List UInt8 := [21, 4, 3, 16, 6, 184, 0, 204, 154, 0, 11, 42, 5, 182, 0, 171, 167, 0, 25, 42, 180, 0, 165]
abbrev dktX5_takeTold_2 : List UInt8 := dkwX5_takeTold_2 ++ dktX5_takeTold_3
def dkwX5_takeTold_1 : List UInt8 := [158, 0, 7, 2, 167, 0, 10, 42, 27, 182, 0, 200, 28, 100, 54, 4, 42, 180, 0, 165, 154, 0, 22]
abbrev dktX5_takeTold_1 : List UInt8 := dkwX5_takeTold_1 ++ dktX5_takeTold_2
def dkwX5_takeTold_0 : List UInt8 := [42, 180, 0, 165, 154, 0, 15, 42, 182, 0, 196, 154, 0, 8, 42, 4, 182, 0, 171, 42, 180, 0, 165]
abbrev dktX5_takeTold_0 : List UInt8 := dkwX5_takeTold_0 ++ dktX5_takeTold_1
theorem dksX5_takeTold_0 : bcX5_takeTold.data.toList.drop 0 = dktX5_takeTold_0 := by decide +kernel
theorem dksX5_takeTold_1 : bcX5_takeTold.data.toList.drop 23 = dktX5_takeTold_1 := dk_seg dksX5_takeTold_0 23 rfl rfl
theorem dksX5_takeTold_2 : bcX5_takeTold.data.toList.drop 46 = dktX5_takeTold_2 := dk_seg dksX5_takeTold_1 23 rfl rfl
theorem dksX5_takeTold_3 : bcX5_takeTold.data.toList.drop 69 = dktX5_takeTold_3 := dk_seg dksX5_takeTold_2 23 rfl rfl
theorem dksX5_takeTold_4 : bcX5_takeTold.data.toList.drop 93 = dktX5_takeTold_4 := dk_seg dksX5_takeTold_3 24 rfl rfl
theorem dksX5_takeTold_5 : bcX5_takeTold.data.toList.drop 116 = dktX5_takeTold_5 := dk_seg dksX5_takeTold_4 23 rfl rfl
theorem dX5_takeTold_0 : decode bcX5_takeTold 0 = .ok (.aload_n 0, 1) := dk_42 (dk_at dksX5_takeTold_0 0 rfl rfl)
theorem dX5_takeTold_1 : decode bcX5_takeTold 1 = .ok (.getfield 165, 3) := dk_180 0 165 (dk_at dksX5_takeTold_0 1 rfl rfl)
theorem dX5_takeTold_4 : decode bcX5_takeTold 4 = .ok (.ifCond .ne 15, 3) := dk_154 0 15 (dk_at dksX5_takeTold_0 4 rfl rfl)
theorem dX5_takeTold_7 : decode bcX5_takeTold 7 = .ok (.aload_n 0, 1) := dk_42 (dk_at dksX5_takeTold_0 7 rfl rfl)
theorem dX5_takeTold_8 : decode bcX5_takeTold 8 = .ok (.invokevirtual 196, 3) := dk_182 0 196 (dk_at dksX5_takeTold_0 8 rfl rfl)
theorem dX5_takeTold_11 : decode bcX5_takeTold 11 = .ok (.ifCond .ne 8, 3) := dk_154 0 8 (dk_at dksX5_takeTold_0 11 rfl rfl)
theorem dX5_takeTold_14 : decode bcX5_takeTold 14 = .ok (.aload_n 0, 1) := dk_42 (dk_at dksX5_takeTold_0 14 rfl rfl)
theorem dX5_takeTold_15 : decode bcX5_takeTold 15 = .ok (.iconst 1, 1) := dk_4 (dk_at dksX5_takeTold_0 15 rfl rfl)
theorem dX5_takeTold_16 : decode bcX5_takeTold 16 = .ok (.invokevirtual 171, 3) := dk_182 0 171 (dk_at dksX5_takeTold_0 16 rfl rfl)
theorem dX5_takeTold_19 : decode bcX5_takeTold 19 = .ok (.aload_n 0, 1) := dk_42 (dk_at dksX5_takeTold_0 19 rfl rfl)
theorem dX5_takeTold_20 : decode bcX5_takeTold 20 = .ok (.getfield 165, 3) := dk_180 0 165 (dk_at dksX5_takeTold_0 20 rfl rfl)
theorem dX5_takeTold_23 : decode bcX5_takeTold 23 = .ok (.ifCond .le 7, 3) := dk_158 0 7 (dk_at dksX5_takeTold_1 0 rfl rfl)
theorem dX5_takeTold_26 : decode bcX5_takeTold 26 = .ok (.iconst (-1), 1) := dk_2 (dk_at dksX5_takeTold_1 3 rfl rfl)
theorem dX5_takeTold_27 : decode bcX5_takeTold 27 = .ok (.goto 10, 3) := dk_167 0 10 (dk_at dksX5_takeTold_1 4 rfl rfl)
theorem dX5_takeTold_30 : decode bcX5_takeTold 30 = .ok (.aload_n 0, 1) := dk_42 (dk_at dksX5_takeTold_1 7 rfl rfl)
theorem dX5_takeTold_31 : decode bcX5_takeTold 31 = .ok (.iload_n 1, 1) := dk_27 (dk_at dksX5_takeTold_1 8 rfl rfl)
theorem dX5_takeTold_32 : decode bcX5_takeTold 32 = .ok (.invokevirtual 200, 3) := dk_182 0 200 (dk_at dksX5_takeTold_1 9 rfl rfl)
theorem dX5_takeTold_35 : decode bcX5_takeTold 35 = .ok (.iload_n 2, 1) := dk_28 (dk_at dksX5_takeTold_1 12 rfl rfl)
theorem dX5_takeTold_36 : decode bcX5_takeTold 36 = .ok (.isub, 1) := dk_100 (dk_at dksX5_takeTold_1 13 rfl rfl)
theorem dX5_takeTold_37 : decode bcX5_takeTold 37 = .ok (.istore 4, 2) := dk_54 4 (dk_at dksX5_takeTold_1 14 rfl rfl)
theorem dX5_takeTold_39 : decode bcX5_takeTold 39 = .ok (.aload_n 0, 1) := dk_42 (dk_at dksX5_takeTold_1 16 rfl rfl)
theorem dX5_takeTold_40 : decode bcX5_takeTold 40 = .ok (.getfield 165, 3) := dk_180 0 165 (dk_at dksX5_takeTold_1 17 rfl rfl)
theorem dX5_takeTold_43 : decode bcX5_takeTold 43 = .ok (.ifCond .ne 22, 3) := dk_154 0 22 (dk_at dksX5_takeTold_1 20 rfl rfl)
theorem dX5_takeTold_46 : decode bcX5_takeTold 46 = .ok (.iload 4, 2) := dk_21 4 (dk_at dksX5_takeTold_2 0 rfl rfl)
theorem dX5_takeTold_48 : decode bcX5_takeTold 48 = .ok (.iconst 0, 1) := dk_3 (dk_at dksX5_takeTold_2 2 rfl rfl)
theorem dX5_takeTold_49 : decode bcX5_takeTold 49 = .ok (.bipush 6, 2) := dk_16 6 (dk_at dksX5_takeTold_2 3 rfl rfl)
theorem dX5_takeTold_51 : decode bcX5_takeTold 51 = .ok (.invokestatic 204, 3) := dk_184 0 204 (dk_at dksX5_takeTold_2 5 rfl rfl)
theorem dX5_takeTold_54 : decode bcX5_takeTold 54 = .ok (.ifCond .ne 11, 3) := dk_154 0 11 (dk_at dksX5_takeTold_2 8 rfl rfl)
theorem dX5_takeTold_57 : decode bcX5_takeTold 57 = .ok (.aload_n 0, 1) := dk_42 (dk_at dksX5_takeTold_2 11 rfl rfl)
theorem dX5_takeTold_58 : decode bcX5_takeTold 58 = .ok (.iconst 2, 1) := dk_5 (dk_at dksX5_takeTold_2 12 rfl rfl)
theorem dX5_takeTold_59 : decode bcX5_takeTold 59 = .ok (.invokevirtual 171, 3) := dk_182 0 171 (dk_at dksX5_takeTold_2 13 rfl rfl)
theorem dX5_takeTold_62 : decode bcX5_takeTold 62 = .ok (.goto 25, 3) := dk_167 0 25 (dk_at dksX5_takeTold_2 16 rfl rfl)
theorem dX5_takeTold_65 : decode bcX5_takeTold 65 = .ok (.aload_n 0, 1) := dk_42 (dk_at dksX5_takeTold_2 19 rfl rfl)
theorem dX5_takeTold_66 : decode bcX5_takeTold 66 = .ok (.getfield 165, 3) := dk_180 0 165 (dk_at dksX5_takeTold_2 20 rfl rfl)
theorem dX5_takeTold_69 : decode bcX5_takeTold 69 = .ok (.ifCond .ne 18, 3) := dk_154 0 18 (dk_at dksX5_takeTold_3 0 rfl rfl)
theorem dX5_takeTold_72 : decode bcX5_takeTold 72 = .ok (.iload_n 3, 1) := dk_29 (dk_at dksX5_takeTold_3 3 rfl rfl)
theorem dX5_takeTold_73 : decode bcX5_takeTold 73 = .ok (.iload 4, 2) := dk_21 4 (dk_at dksX5_takeTold_3 4 rfl rfl)
theorem dX5_takeTold_75 : decode bcX5_takeTold 75 = .ok (.ishr, 1) := dk_122 (dk_at dksX5_takeTold_3 6 rfl rfl)
theorem dX5_takeTold_76 : decode bcX5_takeTold 76 = .ok (.iconst 1, 1) := dk_4 (dk_at dksX5_takeTold_3 7 rfl rfl)
theorem dX5_takeTold_77 : decode bcX5_takeTold 77 = .ok (.iand, 1) := dk_126 (dk_at dksX5_takeTold_3 8 rfl rfl)
theorem dX5_takeTold_78 : decode bcX5_takeTold 78 = .ok (.iconst 1, 1) := dk_4 (dk_at dksX5_takeTold_3 9 rfl rfl)
theorem dX5_takeTold_79 : decode bcX5_takeTold 79 = .ok (.if_icmp .ne 8, 3) := dk_160 0 8 (dk_at dksX5_takeTold_3 10 rfl rfl)
theorem dX5_takeTold_82 : decode bcX5_takeTold 82 = .ok (.aload_n 0, 1) := dk_42 (dk_at dksX5_takeTold_3 13 rfl rfl)
theorem dX5_takeTold_83 : decode bcX5_takeTold 83 = .ok (.iconst 3, 1) := dk_6 (dk_at dksX5_takeTold_3 14 rfl rfl)
theorem dX5_takeTold_84 : decode bcX5_takeTold 84 = .ok (.invokevirtual 171, 3) := dk_182 0 171 (dk_at dksX5_takeTold_3 15 rfl rfl)
theorem dX5_takeTold_87 : decode bcX5_takeTold 87 = .ok (.aload_n 0, 1) := dk_42 (dk_at dksX5_takeTold_3 18 rfl rfl)
theorem dX5_takeTold_88 : decode bcX5_takeTold 88 = .ok (.dup, 1) := dk_89 (dk_at dksX5_takeTold_3 19 rfl rfl)
theorem dX5_takeTold_89 : decode bcX5_takeTold 89 = .ok (.getfield 162, 3) := dk_180 0 162 (dk_at dksX5_takeTold_3 20 rfl rfl)
theorem dX5_takeTold_92 : decode bcX5_takeTold 92 = .ok (.aload_n 0, 1) := dk_42 (dk_at dksX5_takeTold_3 23 rfl rfl)
theorem dX5_takeTold_93 : decode bcX5_takeTold 93 = .ok (.getfield 165, 3) := dk_180 0 165 (dk_at dksX5_takeTold_4 0 rfl rfl)
theorem dX5_takeTold_96 : decode bcX5_takeTold 96 = .ok (.ifCond .le 7, 3) := dk_158 0 7 (dk_at dksX5_takeTold_4 3 rfl rfl)
theorem dX5_takeTold_99 : decode bcX5_takeTold 99 = .ok (.iconst 0, 1) := dk_3 (dk_at dksX5_takeTold_4 6 rfl rfl)
theorem dX5_takeTold_100 : decode bcX5_takeTold 100 = .ok (.goto 4, 3) := dk_167 0 4 (dk_at dksX5_takeTold_4 7 rfl rfl)
theorem dX5_takeTold_103 : decode bcX5_takeTold 103 = .ok (.iconst 1, 1) := dk_4 (dk_at dksX5_takeTold_4 10 rfl rfl)
theorem dX5_takeTold_104 : decode bcX5_takeTold 104 = .ok (.iadd, 1) := dk_96 (dk_at dksX5_takeTold_4 11 rfl rfl)
theorem dX5_takeTold_105 : decode bcX5_takeTold 105 = .ok (.putfield 162, 3) := dk_181 0 162 (dk_at dksX5_takeTold_4 12 rfl rfl)
theorem dX5_takeTold_108 : decode bcX5_takeTold 108 = .ok (.aload_n 0, 1) := dk_42 (dk_at dksX5_takeTold_4 15 rfl rfl)
theorem dX5_takeTold_109 : decode bcX5_takeTold 109 = .ok (.getfield 165, 3) := dk_180 0 165 (dk_at dksX5_takeTold_4 16 rfl rfl)
theorem dX5_takeTold_112 : decode bcX5_takeTold 112 = .ok (.ifCond .le 7, 3) := dk_158 0 7 (dk_at dksX5_takeTold_4 19 rfl rfl)
theorem dX5_takeTold_115 : decode bcX5_takeTold 115 = .ok (.iconst 0, 1) := dk_3 (dk_at dksX5_takeTold_4 22 rfl rfl)
theorem dX5_takeTold_116 : decode bcX5_takeTold 116 = .ok (.goto 5, 3) := dk_167 0 5 (dk_at dksX5_takeTold_5 0 rfl rfl)
theorem dX5_takeTold_119 : decode bcX5_takeTold 119 = .ok (.iload 4, 2) := dk_21 4 (dk_at dksX5_takeTold_5 3 rfl rfl)
theorem dX5_takeTold_121 : decode bcX5_takeTold 121 = .ok (.ireturn, 1) := dk_172 (dk_at dksX5_takeTold_5 5 rfl rfl)
abbrev SX5_takeTold (pc : Nat) (i : xI) : Prop := Snd "SwollenHouseModel" "takeTold" prog_25_method_25_code 5 (Option.some Jvm.ClassFile.FieldType.int) [] pc i
theorem oX5_takeTold_0 : SX5_takeTold 0 (i_aload 0 1) := snd_aload_n dX5_takeTold_0 rfl
theorem oX5_takeTold_1 : SX5_takeTold 1 (i_getf 4 8 4) := snd_getf dX5_takeTold_1 rfl (by decide) in_X5 (Or.inl q1706) (Or.inl rfl) (by decide)
theorem oX5_takeTold_4 : SX5_takeTold 4 (i_if1 (fun x => ¬ x = 0) 19 7) := snd_if_ne dX5_takeTold_4 (by decide)
theorem oX5_takeTold_7 : SX5_takeTold 7 (i_aload 0 8) := snd_aload_n dX5_takeTold_7 rfl
theorem oX5_takeTold_8 : SX5_takeTold 8 (i_cv 4 263 0 11) := snd_cv rfl infX5_isName (by decide) rfl (xVm_V dX5_takeTold_8 rfl q1835 q1837 qs68 q136 q1838 pdX5_isName)
theorem oX5_takeTold_11 : SX5_takeTold 11 (i_if1 (fun x => ¬ x = 0) 19 14) := snd_if_ne dX5_takeTold_11 (by decide)
theorem oX5_takeTold_14 : SX5_takeTold 14 (i_aload 0 15) := snd_aload_n dX5_takeTold_14 rfl
theorem oX5_takeTold_15 : SX5_takeTold 15 (i_const (.int (nI 1)) 16) := snd_iconst dX5_takeTold_15 (by decide)
theorem oX5_takeTold_16 : SX5_takeTold 16 (i_cvv 4 262 1 19) := snd_cvv rfl infX5_wrong (by decide) rfl (xVm_V dX5_takeTold_16 rfl q1831 q1833 qs67 q136 q1834 pdX5_wrong)
theorem oX5_takeTold_19 : SX5_takeTold 19 (i_aload 0 20) := snd_aload_n dX5_takeTold_19 rfl
theorem oX5_takeTold_20 : SX5_takeTold 20 (i_getf 4 8 23) := snd_getf dX5_takeTold_20 rfl (by decide) in_X5 (Or.inl q1706) (Or.inl rfl) (by decide)
theorem oX5_takeTold_23 : SX5_takeTold 23 (i_if1 (fun x => x ≤ 0) 30 26) := snd_if_le dX5_takeTold_23 (by decide)
theorem oX5_takeTold_26 : SX5_takeTold 26 (i_const (.int (-1)) 27) := snd_iconst dX5_takeTold_26 (by decide)
theorem oX5_takeTold_27 : SX5_takeTold 27 (i_goto 37) := snd_goto dX5_takeTold_27 (by decide)
theorem oX5_takeTold_30 : SX5_takeTold 30 (i_aload 0 31) := snd_aload_n dX5_takeTold_30 rfl
theorem oX5_takeTold_31 : SX5_takeTold 31 (i_iload 1 32) := snd_iload_n dX5_takeTold_31 rfl
theorem oX5_takeTold_32 : SX5_takeTold 32 (i_cv 4 265 1 35) := snd_cv rfl infX5_nameAt (by decide) rfl (xVm_V dX5_takeTold_32 rfl q1843 q1845 qs70 q136 q1846 pdX5_nameAt)
theorem oX5_takeTold_35 : SX5_takeTold 35 (i_iload 2 36) := snd_iload_n dX5_takeTold_35 rfl
theorem oX5_takeTold_36 : SX5_takeTold 36 (i_ii (fun x y => x - y) 37) := snd_isub dX5_takeTold_36
theorem oX5_takeTold_37 : SX5_takeTold 37 (i_istore 4 39) := snd_istore dX5_takeTold_37 (by decide)
theorem oX5_takeTold_39 : SX5_takeTold 39 (i_aload 0 40) := snd_aload_n dX5_takeTold_39 rfl
theorem oX5_takeTold_40 : SX5_takeTold 40 (i_getf 4 8 43) := snd_getf dX5_takeTold_40 rfl (by decide) in_X5 (Or.inl q1706) (Or.inl rfl) (by decide)
theorem oX5_takeTold_43 : SX5_takeTold 43 (i_if1 (fun x => ¬ x = 0) 65 46) := snd_if_ne dX5_takeTold_43 (by decide)
theorem oX5_takeTold_46 : SX5_takeTold 46 (i_iload 4 48) := snd_iload dX5_takeTold_46
theorem oX5_takeTold_48 : SX5_takeTold 48 (i_const (.int (nI 0)) 49) := snd_iconst dX5_takeTold_48 (by decide)
theorem oX5_takeTold_49 : SX5_takeTold 49 (i_const (.int (nI 6)) 51) := snd_bipush dX5_takeTold_49 (by decide)
theorem oX5_takeTold_51 : SX5_takeTold 51 (i_cs 268 3 54) := snd_cs rfl infX5_within (by decide) (xSm_S dX5_takeTold_51 q1855 q1856 q136 q1857 pdX5_within)
theorem oX5_takeTold_54 : SX5_takeTold 54 (i_if1 (fun x => ¬ x = 0) 65 57) := snd_if_ne dX5_takeTold_54 (by decide)
theorem oX5_takeTold_57 : SX5_takeTold 57 (i_aload 0 58) := snd_aload_n dX5_takeTold_57 rfl
theorem oX5_takeTold_58 : SX5_takeTold 58 (i_const (.int (nI 2)) 59) := snd_iconst dX5_takeTold_58 (by decide)
theorem oX5_takeTold_59 : SX5_takeTold 59 (i_cvv 4 262 1 62) := snd_cvv rfl infX5_wrong (by decide) rfl (xVm_V dX5_takeTold_59 rfl q1831 q1833 qs67 q136 q1834 pdX5_wrong)
theorem oX5_takeTold_62 : SX5_takeTold 62 (i_goto 87) := snd_goto dX5_takeTold_62 (by decide)
theorem oX5_takeTold_65 : SX5_takeTold 65 (i_aload 0 66) := snd_aload_n dX5_takeTold_65 rfl
theorem oX5_takeTold_66 : SX5_takeTold 66 (i_getf 4 8 69) := snd_getf dX5_takeTold_66 rfl (by decide) in_X5 (Or.inl q1706) (Or.inl rfl) (by decide)
theorem oX5_takeTold_69 : SX5_takeTold 69 (i_if1 (fun x => ¬ x = 0) 87 72) := snd_if_ne dX5_takeTold_69 (by decide)
theorem oX5_takeTold_72 : SX5_takeTold 72 (i_iload 3 73) := snd_iload_n dX5_takeTold_72 rfl
theorem oX5_takeTold_73 : SX5_takeTold 73 (i_iload 4 75) := snd_iload dX5_takeTold_73
theorem oX5_takeTold_75 : SX5_takeTold 75 (i_ii (fun x y => x >>> (y &&& 31)) 76) := snd_ishr dX5_takeTold_75
theorem oX5_takeTold_76 : SX5_takeTold 76 (i_const (.int (nI 1)) 77) := snd_iconst dX5_takeTold_76 (by decide)
theorem oX5_takeTold_77 : SX5_takeTold 77 (i_ii (fun x y => x &&& y) 78) := snd_iand dX5_takeTold_77
theorem oX5_takeTold_78 : SX5_takeTold 78 (i_const (.int (nI 1)) 79) := snd_iconst dX5_takeTold_78 (by decide)
theorem oX5_takeTold_79 : SX5_takeTold 79 (i_if2 (fun x y => ¬ x = y) 87 82) := snd_icmp_ne dX5_takeTold_79 (by decide)
theorem oX5_takeTold_82 : SX5_takeTold 82 (i_aload 0 83) := snd_aload_n dX5_takeTold_82 rfl
theorem oX5_takeTold_83 : SX5_takeTold 83 (i_const (.int (nI 3)) 84) := snd_iconst dX5_takeTold_83 (by decide)
theorem oX5_takeTold_84 : SX5_takeTold 84 (i_cvv 4 262 1 87) := snd_cvv rfl infX5_wrong (by decide) rfl (xVm_V dX5_takeTold_84 rfl q1831 q1833 qs67 q136 q1834 pdX5_wrong)
theorem oX5_takeTold_87 : SX5_takeTold 87 (i_aload 0 88) := snd_aload_n dX5_takeTold_87 rfl
theorem oX5_takeTold_88 : SX5_takeTold 88 (i_dup 89) := snd_dup dX5_takeTold_88
theorem oX5_takeTold_89 : SX5_takeTold 89 (i_getf 4 7 92) := snd_getf dX5_takeTold_89 rfl (by decide) in_X5 (Or.inl q1705) (Or.inl rfl) (by decide)
theorem oX5_takeTold_92 : SX5_takeTold 92 (i_aload 0 93) := snd_aload_n dX5_takeTold_92 rfl
theorem oX5_takeTold_93 : SX5_takeTold 93 (i_getf 4 8 96) := snd_getf dX5_takeTold_93 rfl (by decide) in_X5 (Or.inl q1706) (Or.inl rfl) (by decide)
theorem oX5_takeTold_96 : SX5_takeTold 96 (i_if1 (fun x => x ≤ 0) 103 99) := snd_if_le dX5_takeTold_96 (by decide)
theorem oX5_takeTold_99 : SX5_takeTold 99 (i_const (.int (nI 0)) 100) := snd_iconst dX5_takeTold_99 (by decide)
theorem oX5_takeTold_100 : SX5_takeTold 100 (i_goto 104) := snd_goto dX5_takeTold_100 (by decide)
theorem oX5_takeTold_103 : SX5_takeTold 103 (i_const (.int (nI 1)) 104) := snd_iconst dX5_takeTold_103 (by decide)
theorem oX5_takeTold_104 : SX5_takeTold 104 (i_ii (fun x y => x + y) 105) := snd_iadd dX5_takeTold_104
theorem oX5_takeTold_105 : SX5_takeTold 105 (i_putfi 4 7 108) := snd_putfi dX5_takeTold_105 rfl (by decide) in_X5 tyX5 tyX5_ok nmX5 (Or.inl ⟨rfl, q1705⟩) (Or.inl rfl) rfl
theorem oX5_takeTold_108 : SX5_takeTold 108 (i_aload 0 109) := snd_aload_n dX5_takeTold_108 rfl
theorem oX5_takeTold_109 : SX5_takeTold 109 (i_getf 4 8 112) := snd_getf dX5_takeTold_109 rfl (by decide) in_X5 (Or.inl q1706) (Or.inl rfl) (by decide)
theorem oX5_takeTold_112 : SX5_takeTold 112 (i_if1 (fun x => x ≤ 0) 119 115) := snd_if_le dX5_takeTold_112 (by decide)
theorem oX5_takeTold_115 : SX5_takeTold 115 (i_const (.int (nI 0)) 116) := snd_iconst dX5_takeTold_115 (by decide)
theorem oX5_takeTold_116 : SX5_takeTold 116 (i_goto 121) := snd_goto dX5_takeTold_116 (by decide)
theorem oX5_takeTold_119 : SX5_takeTold 119 (i_iload 4 121) := snd_iload dX5_takeTold_119
theorem oX5_takeTold_121 : SX5_takeTold 121 (i_iret) := snd_iret dX5_takeTold_121 rfl
theorem okX5_takeTold : ∀ q ∈ cX5_takeTold, SX5_takeTold q.1 q.2 := List.forall_mem_cons.mpr ⟨oX5_takeTold_0, List.forall_mem_cons.mpr ⟨oX5_takeTold_1, List.forall_mem_cons.mpr ⟨oX5_takeTold_4, List.forall_mem_cons.mpr ⟨oX5_takeTold_7, List.forall_mem_cons.mpr ⟨oX5_takeTold_8, List.forall_mem_cons.mpr ⟨oX5_takeTold_11, List.forall_mem_cons.mpr ⟨oX5_takeTold_14, List.forall_mem_cons.mpr ⟨oX5_takeTold_15, List.forall_mem_cons.mpr ⟨oX5_takeTold_16, List.forall_mem_cons.mpr ⟨oX5_takeTold_19, List.forall_mem_cons.mpr ⟨oX5_takeTold_20, List.forall_mem_cons.mpr ⟨oX5_takeTold_23, List.forall_mem_cons.mpr ⟨oX5_takeTold_26, List.forall_mem_cons.mpr ⟨oX5_takeTold_27, List.forall_mem_cons.mpr ⟨oX5_takeTold_30, List.forall_mem_cons.mpr ⟨oX5_takeTold_31, List.forall_mem_cons.mpr ⟨oX5_takeTold_32, List.forall_mem_cons.mpr ⟨oX5_takeTold_35, List.forall_mem_cons.mpr ⟨oX5_takeTold_36, List.forall_mem_cons.mpr ⟨oX5_takeTold_37, List.forall_mem_cons.mpr ⟨oX5_takeTold_39, List.forall_mem_cons.mpr ⟨oX5_takeTold_40, List.forall_mem_cons.mpr ⟨oX5_takeTold_43, List.forall_mem_cons.mpr ⟨oX5_takeTold_46, List.forall_mem_cons.mpr ⟨oX5_takeTold_48, List.forall_mem_cons.mpr ⟨oX5_takeTold_49, List.forall_mem_cons.mpr ⟨oX5_takeTold_51, List.forall_mem_cons.mpr ⟨oX5_takeTold_54, List.forall_mem_cons.mpr ⟨oX5_takeTold_57, List.forall_mem_cons.mpr ⟨oX5_takeTold_58, List.forall_mem_cons.mpr ⟨oX5_takeTold_59, List.forall_mem_cons.mpr ⟨oX5_takeTold_62, List.forall_mem_cons.mpr ⟨oX5_takeTold_65, List.forall_mem_cons.mpr ⟨oX5_takeTold_66, List.forall_mem_cons.mpr ⟨oX5_takeTold_69, List.forall_mem_cons.mpr ⟨oX5_takeTold_72, List.forall_mem_cons.mpr ⟨oX5_takeTold_73, List.forall_mem_cons.mpr ⟨oX5_takeTold_75, List.forall_mem_cons.mpr ⟨oX5_takeTold_76, List.forall_mem_cons.mpr ⟨oX5_takeTold_77, List.forall_mem_cons.mpr ⟨oX5_takeTold_78, List.forall_mem_cons.mpr ⟨oX5_takeTold_79, List.forall_mem_cons.mpr ⟨oX5_takeTold_82, List.forall_mem_cons.mpr ⟨oX5_takeTold_83, List.forall_mem_cons.mpr ⟨oX5_takeTold_84, List.forall_mem_cons.mpr ⟨oX5_takeTold_87, List.forall_mem_cons.mpr ⟨oX5_takeTold_88, List.forall_mem_cons.mpr ⟨oX5_takeTold_89, List.forall_mem_cons.mpr ⟨oX5_takeTold_92, List.forall_mem_cons.mpr ⟨oX5_takeTold_93, List.forall_mem_cons.mpr ⟨oX5_takeTold_96, List.forall_mem_cons.mpr ⟨oX5_takeTold_99, List.forall_mem_cons.mpr ⟨oX5_takeTold_100, List.forall_mem_cons.mpr ⟨oX5_takeTold_103, List.forall_mem_cons.mpr ⟨oX5_takeTold_104, List.forall_mem_cons.mpr ⟨oX5_takeTold_105, List.forall_mem_cons.mpr ⟨oX5_takeTold_108, List.forall_mem_cons.mpr ⟨oX5_takeTold_109, List.forall_mem_cons.mpr ⟨oX5_takeTold_112, List.forall_mem_cons.mpr ⟨oX5_takeTold_115, List.forall_mem_cons.mpr ⟨oX5_takeTold_116, List.forall_mem_cons.mpr ⟨oX5_takeTold_119, List.forall_mem_cons.mpr ⟨oX5_takeTold_121, fun _ h => absurd h List.not_mem_nil⟩⟩⟩⟩⟩⟩⟩⟩⟩⟩⟩⟩⟩⟩⟩⟩⟩⟩⟩⟩⟩⟩⟩⟩⟩⟩⟩⟩⟩⟩⟩⟩⟩⟩⟩⟩⟩⟩⟩⟩⟩⟩⟩⟩⟩⟩⟩⟩⟩⟩⟩⟩⟩⟩⟩⟩⟩⟩⟩⟩⟩⟩⟩
def dkwX5_within_0 : List UInt8 := [26, 27, 161, 0, 12, 26, 28, 163, 0, 7, 4, 167, 0, 4, 3, 172]
abbrev dktX5_within_0 : List UInt8 := dkwX5_within_0 ++ []
theorem dksX5_within_0 : bcX5_within.data.toList.drop 0 = dktX5_within_0 := by decide +kernel
theorem dX5_within_0 : decode bcX5_within 0 = .ok (.iload_n 0, 1) := dk_26 (dk_at dksX5_within_0 0 rfl rfl)
theorem dX5_within_1 : decode bcX5_within 1 = .ok (.iload_n 1, 1) := dk_27 (dk_at dksX5_within_0 1 rfl rfl)
theorem dX5_within_2 : decode bcX5_within 2 = .ok (.if_icmp .lt 12, 3) := dk_161 0 12 (dk_at dksX5_within_0 2 rfl rfl)
theorem dX5_within_5 : decode bcX5_within 5 = .ok (.iload_n 0, 1) := dk_26 (dk_at dksX5_within_0 5 rfl rfl)
theorem dX5_within_6 : decode bcX5_within 6 = .ok (.iload_n 2, 1) := dk_28 (dk_at dksX5_within_0 6 rfl rfl)
theorem dX5_within_7 : decode bcX5_within 7 = .ok (.if_icmp .gt 7, 3) := dk_163 0 7 (dk_at dksX5_within_0 7 rfl rfl)
theorem dX5_within_10 : decode bcX5_within 10 = .ok (.iconst 1, 1) := dk_4 (dk_at dksX5_within_0 10 rfl rfl)
theorem dX5_within_11 : decode bcX5_within 11 = .ok (.goto 4, 3) := dk_167 0 4 (dk_at dksX5_within_0 11 rfl rfl)
theorem dX5_within_14 : decode bcX5_within 14 = .ok (.iconst 0, 1) := dk_3 (dk_at dksX5_within_0 14 rfl rfl)
theorem dX5_within_15 : decode bcX5_within 15 = .ok (.ireturn, 1) := dk_172 (dk_at dksX5_within_0 15 rfl rfl)
abbrev SX5_within (pc : Nat) (i : xI) : Prop := Snd "SwollenHouseModel" "within" prog_25_method_17_code 3 (Option.some Jvm.ClassFile.FieldType.boolean) [] pc i
theorem oX5_within_0 : SX5_within 0 (i_iload 0 1) := snd_iload_n dX5_within_0 rfl
theorem oX5_within_1 : SX5_within 1 (i_iload 1 2) := snd_iload_n dX5_within_1 rfl
theorem oX5_within_2 : SX5_within 2 (i_if2 (fun x y => x < y) 14 5) := snd_icmp_lt dX5_within_2 (by decide)
theorem oX5_within_5 : SX5_within 5 (i_iload 0 6) := snd_iload_n dX5_within_5 rfl
theorem oX5_within_6 : SX5_within 6 (i_iload 2 7) := snd_iload_n dX5_within_6 rfl
theorem oX5_within_7 : SX5_within 7 (i_if2 (fun x y => y < x) 14 10) := snd_icmp_gt dX5_within_7 (by decide)
theorem oX5_within_10 : SX5_within 10 (i_const (.int (nI 1)) 11) := snd_iconst dX5_within_10 (by decide)
theorem oX5_within_11 : SX5_within 11 (i_goto 15) := snd_goto dX5_within_11 (by decide)
theorem oX5_within_14 : SX5_within 14 (i_const (.int (nI 0)) 15) := snd_iconst dX5_within_14 (by decide)
theorem oX5_within_15 : SX5_within 15 (i_zret) := snd_zret dX5_within_15 rfl
theorem okX5_within : ∀ q ∈ cX5_within, SX5_within q.1 q.2 := List.forall_mem_cons.mpr ⟨oX5_within_0, List.forall_mem_cons.mpr ⟨oX5_within_1, List.forall_mem_cons.mpr ⟨oX5_within_2, List.forall_mem_cons.mpr ⟨oX5_within_5, List.forall_mem_cons.mpr ⟨oX5_within_6, List.forall_mem_cons.mpr ⟨oX5_within_7, List.forall_mem_cons.mpr ⟨oX5_within_10, List.forall_mem_cons.mpr ⟨oX5_within_11, List.forall_mem_cons.mpr ⟨oX5_within_14, List.forall_mem_cons.mpr ⟨oX5_within_15, fun _ h => absurd h List.not_mem_nil⟩⟩⟩⟩⟩⟩⟩⟩⟩⟩
def dkwX5_takeOne_2 : List UInt8 := [3, 167, 0, 4, 4, 96, 181, 0, 162, 42, 180, 0, 165, 158, 0, 7, 3, 167, 0, 4, 29, 172]
abbrev dktX5_takeOne_2 : List UInt8 := dkwX5_takeOne_2 ++ []
def dkwX5_takeOne_1 : List UInt8 := [154, 0, 12, 29, 156, 0, 8, 42, 4, 182, 0, 171, 42, 89, 180, 0, 162, 42, 180, 0, 165, 158, 0, 7]
abbrev dktX5_takeOne_1 : List UInt8 := dkwX5_takeOne_1 ++ dktX5_takeOne_2
def dkwX5_takeOne_0 : List UInt8 := [42, 180, 0, 165, 158, 0, 7, 2, 167, 0, 9, 42, 27, 28, 182, 0, 187, 62, 42, 180, 0, 165]
abbrev dktX5_takeOne_0 : List UInt8 := dkwX5_takeOne_0 ++ dktX5_takeOne_1
theorem dksX5_takeOne_0 : bcX5_takeOne.data.toList.drop 0 = dktX5_takeOne_0 := by decide +kernel
theorem dksX5_takeOne_1 : bcX5_takeOne.data.toList.drop 22 = dktX5_takeOne_1 := dk_seg dksX5_takeOne_0 22 rfl rfl
theorem dksX5_takeOne_2 : bcX5_takeOne.data.toList.drop 46 = dktX5_takeOne_2 := dk_seg dksX5_takeOne_1 24 rfl rfl
theorem dX5_takeOne_0 : decode bcX5_takeOne 0 = .ok (.aload_n 0, 1) := dk_42 (dk_at dksX5_takeOne_0 0 rfl rfl)
theorem dX5_takeOne_1 : decode bcX5_takeOne 1 = .ok (.getfield 165, 3) := dk_180 0 165 (dk_at dksX5_takeOne_0 1 rfl rfl)
theorem dX5_takeOne_4 : decode bcX5_takeOne 4 = .ok (.ifCond .le 7, 3) := dk_158 0 7 (dk_at dksX5_takeOne_0 4 rfl rfl)
theorem dX5_takeOne_7 : decode bcX5_takeOne 7 = .ok (.iconst (-1), 1) := dk_2 (dk_at dksX5_takeOne_0 7 rfl rfl)
theorem dX5_takeOne_8 : decode bcX5_takeOne 8 = .ok (.goto 9, 3) := dk_167 0 9 (dk_at dksX5_takeOne_0 8 rfl rfl)
theorem dX5_takeOne_11 : decode bcX5_takeOne 11 = .ok (.aload_n 0, 1) := dk_42 (dk_at dksX5_takeOne_0 11 rfl rfl)
theorem dX5_takeOne_12 : decode bcX5_takeOne 12 = .ok (.iload_n 1, 1) := dk_27 (dk_at dksX5_takeOne_0 12 rfl rfl)
theorem dX5_takeOne_13 : decode bcX5_takeOne 13 = .ok (.iload_n 2, 1) := dk_28 (dk_at dksX5_takeOne_0 13 rfl rfl)
theorem dX5_takeOne_14 : decode bcX5_takeOne 14 = .ok (.invokevirtual 187, 3) := dk_182 0 187 (dk_at dksX5_takeOne_0 14 rfl rfl)
theorem dX5_takeOne_17 : decode bcX5_takeOne 17 = .ok (.istore_n 3, 1) := dk_62 (dk_at dksX5_takeOne_0 17 rfl rfl)
theorem dX5_takeOne_18 : decode bcX5_takeOne 18 = .ok (.aload_n 0, 1) := dk_42 (dk_at dksX5_takeOne_0 18 rfl rfl)
theorem dX5_takeOne_19 : decode bcX5_takeOne 19 = .ok (.getfield 165, 3) := dk_180 0 165 (dk_at dksX5_takeOne_0 19 rfl rfl)
theorem dX5_takeOne_22 : decode bcX5_takeOne 22 = .ok (.ifCond .ne 12, 3) := dk_154 0 12 (dk_at dksX5_takeOne_1 0 rfl rfl)
theorem dX5_takeOne_25 : decode bcX5_takeOne 25 = .ok (.iload_n 3, 1) := dk_29 (dk_at dksX5_takeOne_1 3 rfl rfl)
theorem dX5_takeOne_26 : decode bcX5_takeOne 26 = .ok (.ifCond .ge 8, 3) := dk_156 0 8 (dk_at dksX5_takeOne_1 4 rfl rfl)
theorem dX5_takeOne_29 : decode bcX5_takeOne 29 = .ok (.aload_n 0, 1) := dk_42 (dk_at dksX5_takeOne_1 7 rfl rfl)
theorem dX5_takeOne_30 : decode bcX5_takeOne 30 = .ok (.iconst 1, 1) := dk_4 (dk_at dksX5_takeOne_1 8 rfl rfl)
theorem dX5_takeOne_31 : decode bcX5_takeOne 31 = .ok (.invokevirtual 171, 3) := dk_182 0 171 (dk_at dksX5_takeOne_1 9 rfl rfl)
theorem dX5_takeOne_34 : decode bcX5_takeOne 34 = .ok (.aload_n 0, 1) := dk_42 (dk_at dksX5_takeOne_1 12 rfl rfl)
theorem dX5_takeOne_35 : decode bcX5_takeOne 35 = .ok (.dup, 1) := dk_89 (dk_at dksX5_takeOne_1 13 rfl rfl)
theorem dX5_takeOne_36 : decode bcX5_takeOne 36 = .ok (.getfield 162, 3) := dk_180 0 162 (dk_at dksX5_takeOne_1 14 rfl rfl)
theorem dX5_takeOne_39 : decode bcX5_takeOne 39 = .ok (.aload_n 0, 1) := dk_42 (dk_at dksX5_takeOne_1 17 rfl rfl)
theorem dX5_takeOne_40 : decode bcX5_takeOne 40 = .ok (.getfield 165, 3) := dk_180 0 165 (dk_at dksX5_takeOne_1 18 rfl rfl)
theorem dX5_takeOne_43 : decode bcX5_takeOne 43 = .ok (.ifCond .le 7, 3) := dk_158 0 7 (dk_at dksX5_takeOne_1 21 rfl rfl)
theorem dX5_takeOne_46 : decode bcX5_takeOne 46 = .ok (.iconst 0, 1) := dk_3 (dk_at dksX5_takeOne_2 0 rfl rfl)
theorem dX5_takeOne_47 : decode bcX5_takeOne 47 = .ok (.goto 4, 3) := dk_167 0 4 (dk_at dksX5_takeOne_2 1 rfl rfl)
theorem dX5_takeOne_50 : decode bcX5_takeOne 50 = .ok (.iconst 1, 1) := dk_4 (dk_at dksX5_takeOne_2 4 rfl rfl)
theorem dX5_takeOne_51 : decode bcX5_takeOne 51 = .ok (.iadd, 1) := dk_96 (dk_at dksX5_takeOne_2 5 rfl rfl)
theorem dX5_takeOne_52 : decode bcX5_takeOne 52 = .ok (.putfield 162, 3) := dk_181 0 162 (dk_at dksX5_takeOne_2 6 rfl rfl)
theorem dX5_takeOne_55 : decode bcX5_takeOne 55 = .ok (.aload_n 0, 1) := dk_42 (dk_at dksX5_takeOne_2 9 rfl rfl)
theorem dX5_takeOne_56 : decode bcX5_takeOne 56 = .ok (.getfield 165, 3) := dk_180 0 165 (dk_at dksX5_takeOne_2 10 rfl rfl)
theorem dX5_takeOne_59 : decode bcX5_takeOne 59 = .ok (.ifCond .le 7, 3) := dk_158 0 7 (dk_at dksX5_takeOne_2 13 rfl rfl)
theorem dX5_takeOne_62 : decode bcX5_takeOne 62 = .ok (.iconst 0, 1) := dk_3 (dk_at dksX5_takeOne_2 16 rfl rfl)
theorem dX5_takeOne_63 : decode bcX5_takeOne 63 = .ok (.goto 4, 3) := dk_167 0 4 (dk_at dksX5_takeOne_2 17 rfl rfl)
theorem dX5_takeOne_66 : decode bcX5_takeOne 66 = .ok (.iload_n 3, 1) := dk_29 (dk_at dksX5_takeOne_2 20 rfl rfl)
theorem dX5_takeOne_67 : decode bcX5_takeOne 67 = .ok (.ireturn, 1) := dk_172 (dk_at dksX5_takeOne_2 21 rfl rfl)
abbrev SX5_takeOne (pc : Nat) (i : xI) : Prop := Snd "SwollenHouseModel" "takeOne" prog_25_method_22_code 4 (Option.some Jvm.ClassFile.FieldType.int) [] pc i
theorem oX5_takeOne_0 : SX5_takeOne 0 (i_aload 0 1) := snd_aload_n dX5_takeOne_0 rfl
theorem oX5_takeOne_1 : SX5_takeOne 1 (i_getf 4 8 4) := snd_getf dX5_takeOne_1 rfl (by decide) in_X5 (Or.inl q1706) (Or.inl rfl) (by decide)
theorem oX5_takeOne_4 : SX5_takeOne 4 (i_if1 (fun x => x ≤ 0) 11 7) := snd_if_le dX5_takeOne_4 (by decide)
theorem oX5_takeOne_7 : SX5_takeOne 7 (i_const (.int (-1)) 8) := snd_iconst dX5_takeOne_7 (by decide)
theorem oX5_takeOne_8 : SX5_takeOne 8 (i_goto 17) := snd_goto dX5_takeOne_8 (by decide)
theorem oX5_takeOne_11 : SX5_takeOne 11 (i_aload 0 12) := snd_aload_n dX5_takeOne_11 rfl
theorem oX5_takeOne_12 : SX5_takeOne 12 (i_iload 1 13) := snd_iload_n dX5_takeOne_12 rfl
theorem oX5_takeOne_13 : SX5_takeOne 13 (i_iload 2 14) := snd_iload_n dX5_takeOne_13 rfl
theorem oX5_takeOne_14 : SX5_takeOne 14 (i_cv 4 264 2 17) := snd_cv rfl infX5_wordHere (by decide) rfl (xVm_V dX5_takeOne_14 rfl q1839 q1841 qs69 q136 q1842 pdX5_wordHere)
theorem oX5_takeOne_17 : SX5_takeOne 17 (i_istore 3 18) := snd_istore_n dX5_takeOne_17 rfl (by decide)
theorem oX5_takeOne_18 : SX5_takeOne 18 (i_aload 0 19) := snd_aload_n dX5_takeOne_18 rfl
theorem oX5_takeOne_19 : SX5_takeOne 19 (i_getf 4 8 22) := snd_getf dX5_takeOne_19 rfl (by decide) in_X5 (Or.inl q1706) (Or.inl rfl) (by decide)
theorem oX5_takeOne_22 : SX5_takeOne 22 (i_if1 (fun x => ¬ x = 0) 34 25) := snd_if_ne dX5_takeOne_22 (by decide)
theorem oX5_takeOne_25 : SX5_takeOne 25 (i_iload 3 26) := snd_iload_n dX5_takeOne_25 rfl
theorem oX5_takeOne_26 : SX5_takeOne 26 (i_if1 (fun x => 0 ≤ x) 34 29) := snd_if_ge dX5_takeOne_26 (by decide)
theorem oX5_takeOne_29 : SX5_takeOne 29 (i_aload 0 30) := snd_aload_n dX5_takeOne_29 rfl
theorem oX5_takeOne_30 : SX5_takeOne 30 (i_const (.int (nI 1)) 31) := snd_iconst dX5_takeOne_30 (by decide)
theorem oX5_takeOne_31 : SX5_takeOne 31 (i_cvv 4 262 1 34) := snd_cvv rfl infX5_wrong (by decide) rfl (xVm_V dX5_takeOne_31 rfl q1831 q1833 qs67 q136 q1834 pdX5_wrong)
theorem oX5_takeOne_34 : SX5_takeOne 34 (i_aload 0 35) := snd_aload_n dX5_takeOne_34 rfl
theorem oX5_takeOne_35 : SX5_takeOne 35 (i_dup 36) := snd_dup dX5_takeOne_35
theorem oX5_takeOne_36 : SX5_takeOne 36 (i_getf 4 7 39) := snd_getf dX5_takeOne_36 rfl (by decide) in_X5 (Or.inl q1705) (Or.inl rfl) (by decide)
theorem oX5_takeOne_39 : SX5_takeOne 39 (i_aload 0 40) := snd_aload_n dX5_takeOne_39 rfl
theorem oX5_takeOne_40 : SX5_takeOne 40 (i_getf 4 8 43) := snd_getf dX5_takeOne_40 rfl (by decide) in_X5 (Or.inl q1706) (Or.inl rfl) (by decide)
theorem oX5_takeOne_43 : SX5_takeOne 43 (i_if1 (fun x => x ≤ 0) 50 46) := snd_if_le dX5_takeOne_43 (by decide)
theorem oX5_takeOne_46 : SX5_takeOne 46 (i_const (.int (nI 0)) 47) := snd_iconst dX5_takeOne_46 (by decide)
theorem oX5_takeOne_47 : SX5_takeOne 47 (i_goto 51) := snd_goto dX5_takeOne_47 (by decide)
theorem oX5_takeOne_50 : SX5_takeOne 50 (i_const (.int (nI 1)) 51) := snd_iconst dX5_takeOne_50 (by decide)
theorem oX5_takeOne_51 : SX5_takeOne 51 (i_ii (fun x y => x + y) 52) := snd_iadd dX5_takeOne_51
theorem oX5_takeOne_52 : SX5_takeOne 52 (i_putfi 4 7 55) := snd_putfi dX5_takeOne_52 rfl (by decide) in_X5 tyX5 tyX5_ok nmX5 (Or.inl ⟨rfl, q1705⟩) (Or.inl rfl) rfl
theorem oX5_takeOne_55 : SX5_takeOne 55 (i_aload 0 56) := snd_aload_n dX5_takeOne_55 rfl
theorem oX5_takeOne_56 : SX5_takeOne 56 (i_getf 4 8 59) := snd_getf dX5_takeOne_56 rfl (by decide) in_X5 (Or.inl q1706) (Or.inl rfl) (by decide)
theorem oX5_takeOne_59 : SX5_takeOne 59 (i_if1 (fun x => x ≤ 0) 66 62) := snd_if_le dX5_takeOne_59 (by decide)
theorem oX5_takeOne_62 : SX5_takeOne 62 (i_const (.int (nI 0)) 63) := snd_iconst dX5_takeOne_62 (by decide)
theorem oX5_takeOne_63 : SX5_takeOne 63 (i_goto 67) := snd_goto dX5_takeOne_63 (by decide)
theorem oX5_takeOne_66 : SX5_takeOne 66 (i_iload 3 67) := snd_iload_n dX5_takeOne_66 rfl
theorem oX5_takeOne_67 : SX5_takeOne 67 (i_iret) := snd_iret dX5_takeOne_67 rfl
theorem okX5_takeOne : ∀ q ∈ cX5_takeOne, SX5_takeOne q.1 q.2 := List.forall_mem_cons.mpr ⟨oX5_takeOne_0, List.forall_mem_cons.mpr ⟨oX5_takeOne_1, List.forall_mem_cons.mpr ⟨oX5_takeOne_4, List.forall_mem_cons.mpr ⟨oX5_takeOne_7, List.forall_mem_cons.mpr ⟨oX5_takeOne_8, List.forall_mem_cons.mpr ⟨oX5_takeOne_11, List.forall_mem_cons.mpr ⟨oX5_takeOne_12, List.forall_mem_cons.mpr ⟨oX5_takeOne_13, List.forall_mem_cons.mpr ⟨oX5_takeOne_14, List.forall_mem_cons.mpr ⟨oX5_takeOne_17, List.forall_mem_cons.mpr ⟨oX5_takeOne_18, List.forall_mem_cons.mpr ⟨oX5_takeOne_19, List.forall_mem_cons.mpr ⟨oX5_takeOne_22, List.forall_mem_cons.mpr ⟨oX5_takeOne_25, List.forall_mem_cons.mpr ⟨oX5_takeOne_26, List.forall_mem_cons.mpr ⟨oX5_takeOne_29, List.forall_mem_cons.mpr ⟨oX5_takeOne_30, List.forall_mem_cons.mpr ⟨oX5_takeOne_31, List.forall_mem_cons.mpr ⟨oX5_takeOne_34, List.forall_mem_cons.mpr ⟨oX5_takeOne_35, List.forall_mem_cons.mpr ⟨oX5_takeOne_36, List.forall_mem_cons.mpr ⟨oX5_takeOne_39, List.forall_mem_cons.mpr ⟨oX5_takeOne_40, List.forall_mem_cons.mpr ⟨oX5_takeOne_43, List.forall_mem_cons.mpr ⟨oX5_takeOne_46, List.forall_mem_cons.mpr ⟨oX5_takeOne_47, List.forall_mem_cons.mpr ⟨oX5_takeOne_50, List.forall_mem_cons.mpr ⟨oX5_takeOne_51, List.forall_mem_cons.mpr ⟨oX5_takeOne_52, List.forall_mem_cons.mpr ⟨oX5_takeOne_55, List.forall_mem_cons.mpr ⟨oX5_takeOne_56, List.forall_mem_cons.mpr ⟨oX5_takeOne_59, List.forall_mem_cons.mpr ⟨oX5_takeOne_62, List.forall_mem_cons.mpr ⟨oX5_takeOne_63, List.forall_mem_cons.mpr ⟨oX5_takeOne_66, List.forall_mem_cons.mpr ⟨oX5_takeOne_67, fun _ h => absurd h List.not_mem_nil⟩⟩⟩⟩⟩⟩⟩⟩⟩⟩⟩⟩⟩⟩⟩⟩⟩⟩⟩⟩⟩⟩⟩⟩⟩⟩⟩⟩⟩⟩⟩⟩⟩⟩⟩⟩
def dkwX5_takeAfter_0 : List UInt8 := [42, 27, 182, 0, 180, 42, 28, 29, 182, 0, 183, 172]
abbrev dktX5_takeAfter_0 : List UInt8 := dkwX5_takeAfter_0 ++ []
theorem dksX5_takeAfter_0 : bcX5_takeAfter.data.toList.drop 0 = dktX5_takeAfter_0 := by decide +kernel
theorem dX5_takeAfter_0 : decode bcX5_takeAfter 0 = .ok (.aload_n 0, 1) := dk_42 (dk_at dksX5_takeAfter_0 0 rfl rfl)
theorem dX5_takeAfter_1 : decode bcX5_takeAfter 1 = .ok (.iload_n 1, 1) := dk_27 (dk_at dksX5_takeAfter_0 1 rfl rfl)
theorem dX5_takeAfter_2 : decode bcX5_takeAfter 2 = .ok (.invokevirtual 180, 3) := dk_182 0 180 (dk_at dksX5_takeAfter_0 2 rfl rfl)
theorem dX5_takeAfter_5 : decode bcX5_takeAfter 5 = .ok (.aload_n 0, 1) := dk_42 (dk_at dksX5_takeAfter_0 5 rfl rfl)
theorem dX5_takeAfter_6 : decode bcX5_takeAfter 6 = .ok (.iload_n 2, 1) := dk_28 (dk_at dksX5_takeAfter_0 6 rfl rfl)
theorem dX5_takeAfter_7 : decode bcX5_takeAfter 7 = .ok (.iload_n 3, 1) := dk_29 (dk_at dksX5_takeAfter_0 7 rfl rfl)
theorem dX5_takeAfter_8 : decode bcX5_takeAfter 8 = .ok (.invokevirtual 183, 3) := dk_182 0 183 (dk_at dksX5_takeAfter_0 8 rfl rfl)
theorem dX5_takeAfter_11 : decode bcX5_takeAfter 11 = .ok (.ireturn, 1) := dk_172 (dk_at dksX5_takeAfter_0 11 rfl rfl)
abbrev SX5_takeAfter (pc : Nat) (i : xI) : Prop := Snd "SwollenHouseModel" "takeAfter" prog_25_method_20_code 4 (Option.some Jvm.ClassFile.FieldType.int) [] pc i
theorem oX5_takeAfter_0 : SX5_takeAfter 0 (i_aload 0 1) := snd_aload_n dX5_takeAfter_0 rfl
theorem oX5_takeAfter_1 : SX5_takeAfter 1 (i_iload 1 2) := snd_iload_n dX5_takeAfter_1 rfl
theorem oX5_takeAfter_2 : SX5_takeAfter 2 (i_cvv 4 271 1 5) := snd_cvv rfl infX5_takeWord (by decide) rfl (xVm_V dX5_takeAfter_2 rfl q1866 q1868 qs75 q136 q1869 pdX5_takeWord)
theorem oX5_takeAfter_5 : SX5_takeAfter 5 (i_aload 0 6) := snd_aload_n dX5_takeAfter_5 rfl
theorem oX5_takeAfter_6 : SX5_takeAfter 6 (i_iload 2 7) := snd_iload_n dX5_takeAfter_6 rfl
theorem oX5_takeAfter_7 : SX5_takeAfter 7 (i_iload 3 8) := snd_iload_n dX5_takeAfter_7 rfl
theorem oX5_takeAfter_8 : SX5_takeAfter 8 (i_cv 4 273 2 11) := snd_cv rfl infX5_takeNumber (by decide) rfl (xVm_V dX5_takeAfter_8 rfl q1874 q1876 qs77 q136 q1877 pdX5_takeNumber)
theorem oX5_takeAfter_11 : SX5_takeAfter 11 (i_iret) := snd_iret dX5_takeAfter_11 rfl
theorem okX5_takeAfter : ∀ q ∈ cX5_takeAfter, SX5_takeAfter q.1 q.2 := List.forall_mem_cons.mpr ⟨oX5_takeAfter_0, List.forall_mem_cons.mpr ⟨oX5_takeAfter_1, List.forall_mem_cons.mpr ⟨oX5_takeAfter_2, List.forall_mem_cons.mpr ⟨oX5_takeAfter_5, List.forall_mem_cons.mpr ⟨oX5_takeAfter_6, List.forall_mem_cons.mpr ⟨oX5_takeAfter_7, List.forall_mem_cons.mpr ⟨oX5_takeAfter_8, List.forall_mem_cons.mpr ⟨oX5_takeAfter_11, fun _ h => absurd h List.not_mem_nil⟩⟩⟩⟩⟩⟩⟩⟩
def dkwX5_takeWord_0 : List UInt8 := [42, 27, 182, 0, 177, 154, 0, 8, 42, 4, 182, 0, 171, 177]
abbrev dktX5_takeWord_0 : List UInt8 := dkwX5_takeWord_0 ++ []
theorem dksX5_takeWord_0 : bcX5_takeWord.data.toList.drop 0 = dktX5_takeWord_0 := by decide +kernel
theorem dX5_takeWord_0 : decode bcX5_takeWord 0 = .ok (.aload_n 0, 1) := dk_42 (dk_at dksX5_takeWord_0 0 rfl rfl)
theorem dX5_takeWord_1 : decode bcX5_takeWord 1 = .ok (.iload_n 1, 1) := dk_27 (dk_at dksX5_takeWord_0 1 rfl rfl)
theorem dX5_takeWord_2 : decode bcX5_takeWord 2 = .ok (.invokevirtual 177, 3) := dk_182 0 177 (dk_at dksX5_takeWord_0 2 rfl rfl)
theorem dX5_takeWord_5 : decode bcX5_takeWord 5 = .ok (.ifCond .ne 8, 3) := dk_154 0 8 (dk_at dksX5_takeWord_0 5 rfl rfl)
theorem dX5_takeWord_8 : decode bcX5_takeWord 8 = .ok (.aload_n 0, 1) := dk_42 (dk_at dksX5_takeWord_0 8 rfl rfl)
theorem dX5_takeWord_9 : decode bcX5_takeWord 9 = .ok (.iconst 1, 1) := dk_4 (dk_at dksX5_takeWord_0 9 rfl rfl)
theorem dX5_takeWord_10 : decode bcX5_takeWord 10 = .ok (.invokevirtual 171, 3) := dk_182 0 171 (dk_at dksX5_takeWord_0 10 rfl rfl)
theorem dX5_takeWord_13 : decode bcX5_takeWord 13 = .ok (.return_, 1) := dk_177 (dk_at dksX5_takeWord_0 13 rfl rfl)
abbrev SX5_takeWord (pc : Nat) (i : xI) : Prop := Snd "SwollenHouseModel" "takeWord" prog_25_method_16_code 2 (Option.none : Option Jvm.ClassFile.FieldType) [] pc i
theorem oX5_takeWord_0 : SX5_takeWord 0 (i_aload 0 1) := snd_aload_n dX5_takeWord_0 rfl
theorem oX5_takeWord_1 : SX5_takeWord 1 (i_iload 1 2) := snd_iload_n dX5_takeWord_1 rfl
theorem oX5_takeWord_2 : SX5_takeWord 2 (i_cv 4 272 1 5) := snd_cv rfl infX5_hasWord (by decide) rfl (xVm_V dX5_takeWord_2 rfl q1870 q1872 qs76 q136 q1873 pdX5_hasWord)
theorem oX5_takeWord_5 : SX5_takeWord 5 (i_if1 (fun x => ¬ x = 0) 13 8) := snd_if_ne dX5_takeWord_5 (by decide)
theorem oX5_takeWord_8 : SX5_takeWord 8 (i_aload 0 9) := snd_aload_n dX5_takeWord_8 rfl
theorem oX5_takeWord_9 : SX5_takeWord 9 (i_const (.int (nI 1)) 10) := snd_iconst dX5_takeWord_9 (by decide)
theorem oX5_takeWord_10 : SX5_takeWord 10 (i_cvv 4 262 1 13) := snd_cvv rfl infX5_wrong (by decide) rfl (xVm_V dX5_takeWord_10 rfl q1831 q1833 qs67 q136 q1834 pdX5_wrong)
theorem oX5_takeWord_13 : SX5_takeWord 13 (i_vret) := snd_vret dX5_takeWord_13 rfl
theorem okX5_takeWord : ∀ q ∈ cX5_takeWord, SX5_takeWord q.1 q.2 := List.forall_mem_cons.mpr ⟨oX5_takeWord_0, List.forall_mem_cons.mpr ⟨oX5_takeWord_1, List.forall_mem_cons.mpr ⟨oX5_takeWord_2, List.forall_mem_cons.mpr ⟨oX5_takeWord_5, List.forall_mem_cons.mpr ⟨oX5_takeWord_8, List.forall_mem_cons.mpr ⟨oX5_takeWord_9, List.forall_mem_cons.mpr ⟨oX5_takeWord_10, List.forall_mem_cons.mpr ⟨oX5_takeWord_13, fun _ h => absurd h List.not_mem_nil⟩⟩⟩⟩⟩⟩⟩⟩
def dkwX5_hasWord_1 : List UInt8 := [28, 172]
abbrev dktX5_hasWord_1 : List UInt8 := dkwX5_hasWord_1 ++ []
def dkwX5_hasWord_0 : List UInt8 := [42, 27, 182, 0, 174, 61, 42, 89, 180, 0, 162, 28, 153, 0, 7, 4, 167, 0, 4, 3, 96, 181, 0, 162]
abbrev dktX5_hasWord_0 : List UInt8 := dkwX5_hasWord_0 ++ dktX5_hasWord_1
theorem dksX5_hasWord_0 : bcX5_hasWord.data.toList.drop 0 = dktX5_hasWord_0 := by decide +kernel
theorem dksX5_hasWord_1 : bcX5_hasWord.data.toList.drop 24 = dktX5_hasWord_1 := dk_seg dksX5_hasWord_0 24 rfl rfl
theorem dX5_hasWord_0 : decode bcX5_hasWord 0 = .ok (.aload_n 0, 1) := dk_42 (dk_at dksX5_hasWord_0 0 rfl rfl)
theorem dX5_hasWord_1 : decode bcX5_hasWord 1 = .ok (.iload_n 1, 1) := dk_27 (dk_at dksX5_hasWord_0 1 rfl rfl)
theorem dX5_hasWord_2 : decode bcX5_hasWord 2 = .ok (.invokevirtual 174, 3) := dk_182 0 174 (dk_at dksX5_hasWord_0 2 rfl rfl)
theorem dX5_hasWord_5 : decode bcX5_hasWord 5 = .ok (.istore_n 2, 1) := dk_61 (dk_at dksX5_hasWord_0 5 rfl rfl)
theorem dX5_hasWord_6 : decode bcX5_hasWord 6 = .ok (.aload_n 0, 1) := dk_42 (dk_at dksX5_hasWord_0 6 rfl rfl)
theorem dX5_hasWord_7 : decode bcX5_hasWord 7 = .ok (.dup, 1) := dk_89 (dk_at dksX5_hasWord_0 7 rfl rfl)
theorem dX5_hasWord_8 : decode bcX5_hasWord 8 = .ok (.getfield 162, 3) := dk_180 0 162 (dk_at dksX5_hasWord_0 8 rfl rfl)
theorem dX5_hasWord_11 : decode bcX5_hasWord 11 = .ok (.iload_n 2, 1) := dk_28 (dk_at dksX5_hasWord_0 11 rfl rfl)
theorem dX5_hasWord_12 : decode bcX5_hasWord 12 = .ok (.ifCond .eq 7, 3) := dk_153 0 7 (dk_at dksX5_hasWord_0 12 rfl rfl)
theorem dX5_hasWord_15 : decode bcX5_hasWord 15 = .ok (.iconst 1, 1) := dk_4 (dk_at dksX5_hasWord_0 15 rfl rfl)
theorem dX5_hasWord_16 : decode bcX5_hasWord 16 = .ok (.goto 4, 3) := dk_167 0 4 (dk_at dksX5_hasWord_0 16 rfl rfl)
theorem dX5_hasWord_19 : decode bcX5_hasWord 19 = .ok (.iconst 0, 1) := dk_3 (dk_at dksX5_hasWord_0 19 rfl rfl)
theorem dX5_hasWord_20 : decode bcX5_hasWord 20 = .ok (.iadd, 1) := dk_96 (dk_at dksX5_hasWord_0 20 rfl rfl)
theorem dX5_hasWord_21 : decode bcX5_hasWord 21 = .ok (.putfield 162, 3) := dk_181 0 162 (dk_at dksX5_hasWord_0 21 rfl rfl)
theorem dX5_hasWord_24 : decode bcX5_hasWord 24 = .ok (.iload_n 2, 1) := dk_28 (dk_at dksX5_hasWord_1 0 rfl rfl)
theorem dX5_hasWord_25 : decode bcX5_hasWord 25 = .ok (.ireturn, 1) := dk_172 (dk_at dksX5_hasWord_1 1 rfl rfl)
abbrev SX5_hasWord (pc : Nat) (i : xI) : Prop := Snd "SwollenHouseModel" "hasWord" prog_25_method_15_code 3 (Option.some Jvm.ClassFile.FieldType.boolean) [] pc i
theorem oX5_hasWord_0 : SX5_hasWord 0 (i_aload 0 1) := snd_aload_n dX5_hasWord_0 rfl
theorem oX5_hasWord_1 : SX5_hasWord 1 (i_iload 1 2) := snd_iload_n dX5_hasWord_1 rfl
theorem oX5_hasWord_2 : SX5_hasWord 2 (i_cv 4 260 1 5) := snd_cv rfl infX5_isWord (by decide) rfl (xVm_V dX5_hasWord_2 rfl q1823 q1825 qs65 q136 q1826 pdX5_isWord)
theorem oX5_hasWord_5 : SX5_hasWord 5 (i_istore 2 6) := snd_istore_n dX5_hasWord_5 rfl (by decide)
theorem oX5_hasWord_6 : SX5_hasWord 6 (i_aload 0 7) := snd_aload_n dX5_hasWord_6 rfl
theorem oX5_hasWord_7 : SX5_hasWord 7 (i_dup 8) := snd_dup dX5_hasWord_7
theorem oX5_hasWord_8 : SX5_hasWord 8 (i_getf 4 7 11) := snd_getf dX5_hasWord_8 rfl (by decide) in_X5 (Or.inl q1705) (Or.inl rfl) (by decide)
theorem oX5_hasWord_11 : SX5_hasWord 11 (i_iload 2 12) := snd_iload_n dX5_hasWord_11 rfl
theorem oX5_hasWord_12 : SX5_hasWord 12 (i_if1 (fun x => x = 0) 19 15) := snd_if_eq dX5_hasWord_12 (by decide)
theorem oX5_hasWord_15 : SX5_hasWord 15 (i_const (.int (nI 1)) 16) := snd_iconst dX5_hasWord_15 (by decide)
theorem oX5_hasWord_16 : SX5_hasWord 16 (i_goto 20) := snd_goto dX5_hasWord_16 (by decide)
theorem oX5_hasWord_19 : SX5_hasWord 19 (i_const (.int (nI 0)) 20) := snd_iconst dX5_hasWord_19 (by decide)
theorem oX5_hasWord_20 : SX5_hasWord 20 (i_ii (fun x y => x + y) 21) := snd_iadd dX5_hasWord_20
theorem oX5_hasWord_21 : SX5_hasWord 21 (i_putfi 4 7 24) := snd_putfi dX5_hasWord_21 rfl (by decide) in_X5 tyX5 tyX5_ok nmX5 (Or.inl ⟨rfl, q1705⟩) (Or.inl rfl) rfl
theorem oX5_hasWord_24 : SX5_hasWord 24 (i_iload 2 25) := snd_iload_n dX5_hasWord_24 rfl
theorem oX5_hasWord_25 : SX5_hasWord 25 (i_zret) := snd_zret dX5_hasWord_25 rfl
theorem okX5_hasWord : ∀ q ∈ cX5_hasWord, SX5_hasWord q.1 q.2 := List.forall_mem_cons.mpr ⟨oX5_hasWord_0, List.forall_mem_cons.mpr ⟨oX5_hasWord_1, List.forall_mem_cons.mpr ⟨oX5_hasWord_2, List.forall_mem_cons.mpr ⟨oX5_hasWord_5, List.forall_mem_cons.mpr ⟨oX5_hasWord_6, List.forall_mem_cons.mpr ⟨oX5_hasWord_7, List.forall_mem_cons.mpr ⟨oX5_hasWord_8, List.forall_mem_cons.mpr ⟨oX5_hasWord_11, List.forall_mem_cons.mpr ⟨oX5_hasWord_12, List.forall_mem_cons.mpr ⟨oX5_hasWord_15, List.forall_mem_cons.mpr ⟨oX5_hasWord_16, List.forall_mem_cons.mpr ⟨oX5_hasWord_19, List.forall_mem_cons.mpr ⟨oX5_hasWord_20, List.forall_mem_cons.mpr ⟨oX5_hasWord_21, List.forall_mem_cons.mpr ⟨oX5_hasWord_24, List.forall_mem_cons.mpr ⟨oX5_hasWord_25, fun _ h => absurd h List.not_mem_nil⟩⟩⟩⟩⟩⟩⟩⟩⟩⟩⟩⟩⟩⟩⟩⟩
def dkwX5_takeNumber_4 : List UInt8 := [180, 0, 162, 4, 100, 47, 136, 172]
abbrev dktX5_takeNumber_4 : List UInt8 := dkwX5_takeNumber_4 ++ []
def dkwX5_takeNumber_3 : List UInt8 := [42, 180, 0, 165, 158, 0, 5, 3, 172, 42, 89, 180, 0, 162, 4, 96, 181, 0, 162, 42, 180, 0, 30, 42]
abbrev dktX5_takeNumber_3 : List UInt8 := dkwX5_takeNumber_3 ++ dktX5_takeNumber_4
def dkwX5_takeNumber_2 : List UInt8 := [148, 155, 0, 18, 42, 180, 0, 30, 42, 180, 0, 162, 47, 28, 133, 148, 158, 0, 8, 42, 7, 182, 0, 171]
abbrev dktX5_takeNumber_2 : List UInt8 := dkwX5_takeNumber_2 ++ dktX5_takeNumber_3
def dkwX5_takeNumber_1 : List UInt8 := [182, 0, 171, 167, 0, 45, 42, 180, 0, 165, 154, 0, 38, 42, 180, 0, 30, 42, 180, 0, 162, 47, 27, 133]
abbrev dktX5_takeNumber_1 : List UInt8 := dkwX5_takeNumber_1 ++ dktX5_takeNumber_2
def dkwX5_takeNumber_0 : List UInt8 := [42, 180, 0, 165, 154, 0, 24, 42, 180, 0, 24, 42, 180, 0, 162, 46, 5, 159, 0, 11, 42, 4]
abbrev dktX5_takeNumber_0 : List UInt8 := dkwX5_takeNumber_0 ++ dktX5_takeNumber_1
theorem dksX5_takeNumber_0 : bcX5_takeNumber.data.toList.drop 0 = dktX5_takeNumber_0 := by decide +kernel
theorem dksX5_takeNumber_1 : bcX5_takeNumber.data.toList.drop 22 = dktX5_takeNumber_1 := dk_seg dksX5_takeNumber_0 22 rfl rfl
theorem dksX5_takeNumber_2 : bcX5_takeNumber.data.toList.drop 46 = dktX5_takeNumber_2 := dk_seg dksX5_takeNumber_1 24 rfl rfl
theorem dksX5_takeNumber_3 : bcX5_takeNumber.data.toList.drop 70 = dktX5_takeNumber_3 := dk_seg dksX5_takeNumber_2 24 rfl rfl
theorem dksX5_takeNumber_4 : bcX5_takeNumber.data.toList.drop 94 = dktX5_takeNumber_4 := dk_seg dksX5_takeNumber_3 24 rfl rfl
theorem dX5_takeNumber_0 : decode bcX5_takeNumber 0 = .ok (.aload_n 0, 1) := dk_42 (dk_at dksX5_takeNumber_0 0 rfl rfl)
theorem dX5_takeNumber_1 : decode bcX5_takeNumber 1 = .ok (.getfield 165, 3) := dk_180 0 165 (dk_at dksX5_takeNumber_0 1 rfl rfl)
theorem dX5_takeNumber_4 : decode bcX5_takeNumber 4 = .ok (.ifCond .ne 24, 3) := dk_154 0 24 (dk_at dksX5_takeNumber_0 4 rfl rfl)
theorem dX5_takeNumber_7 : decode bcX5_takeNumber 7 = .ok (.aload_n 0, 1) := dk_42 (dk_at dksX5_takeNumber_0 7 rfl rfl)
theorem dX5_takeNumber_8 : decode bcX5_takeNumber 8 = .ok (.getfield 24, 3) := dk_180 0 24 (dk_at dksX5_takeNumber_0 8 rfl rfl)
theorem dX5_takeNumber_11 : decode bcX5_takeNumber 11 = .ok (.aload_n 0, 1) := dk_42 (dk_at dksX5_takeNumber_0 11 rfl rfl)
theorem dX5_takeNumber_12 : decode bcX5_takeNumber 12 = .ok (.getfield 162, 3) := dk_180 0 162 (dk_at dksX5_takeNumber_0 12 rfl rfl)
theorem dX5_takeNumber_15 : decode bcX5_takeNumber 15 = .ok (.iaload, 1) := dk_46 (dk_at dksX5_takeNumber_0 15 rfl rfl)
theorem dX5_takeNumber_16 : decode bcX5_takeNumber 16 = .ok (.iconst 2, 1) := dk_5 (dk_at dksX5_takeNumber_0 16 rfl rfl)
theorem dX5_takeNumber_17 : decode bcX5_takeNumber 17 = .ok (.if_icmp .eq 11, 3) := dk_159 0 11 (dk_at dksX5_takeNumber_0 17 rfl rfl)
theorem dX5_takeNumber_20 : decode bcX5_takeNumber 20 = .ok (.aload_n 0, 1) := dk_42 (dk_at dksX5_takeNumber_0 20 rfl rfl)
theorem dX5_takeNumber_21 : decode bcX5_takeNumber 21 = .ok (.iconst 1, 1) := dk_4 (dk_at dksX5_takeNumber_0 21 rfl rfl)
theorem dX5_takeNumber_22 : decode bcX5_takeNumber 22 = .ok (.invokevirtual 171, 3) := dk_182 0 171 (dk_at dksX5_takeNumber_1 0 rfl rfl)
theorem dX5_takeNumber_25 : decode bcX5_takeNumber 25 = .ok (.goto 45, 3) := dk_167 0 45 (dk_at dksX5_takeNumber_1 3 rfl rfl)
theorem dX5_takeNumber_28 : decode bcX5_takeNumber 28 = .ok (.aload_n 0, 1) := dk_42 (dk_at dksX5_takeNumber_1 6 rfl rfl)
theorem dX5_takeNumber_29 : decode bcX5_takeNumber 29 = .ok (.getfield 165, 3) := dk_180 0 165 (dk_at dksX5_takeNumber_1 7 rfl rfl)
theorem dX5_takeNumber_32 : decode bcX5_takeNumber 32 = .ok (.ifCond .ne 38, 3) := dk_154 0 38 (dk_at dksX5_takeNumber_1 10 rfl rfl)
theorem dX5_takeNumber_35 : decode bcX5_takeNumber 35 = .ok (.aload_n 0, 1) := dk_42 (dk_at dksX5_takeNumber_1 13 rfl rfl)
theorem dX5_takeNumber_36 : decode bcX5_takeNumber 36 = .ok (.getfield 30, 3) := dk_180 0 30 (dk_at dksX5_takeNumber_1 14 rfl rfl)
theorem dX5_takeNumber_39 : decode bcX5_takeNumber 39 = .ok (.aload_n 0, 1) := dk_42 (dk_at dksX5_takeNumber_1 17 rfl rfl)
theorem dX5_takeNumber_40 : decode bcX5_takeNumber 40 = .ok (.getfield 162, 3) := dk_180 0 162 (dk_at dksX5_takeNumber_1 18 rfl rfl)
theorem dX5_takeNumber_43 : decode bcX5_takeNumber 43 = .ok (.laload, 1) := dk_47 (dk_at dksX5_takeNumber_1 21 rfl rfl)
theorem dX5_takeNumber_44 : decode bcX5_takeNumber 44 = .ok (.iload_n 1, 1) := dk_27 (dk_at dksX5_takeNumber_1 22 rfl rfl)
theorem dX5_takeNumber_45 : decode bcX5_takeNumber 45 = .ok (.i2l, 1) := dk_133 (dk_at dksX5_takeNumber_1 23 rfl rfl)
theorem dX5_takeNumber_46 : decode bcX5_takeNumber 46 = .ok (.lcmp, 1) := dk_148 (dk_at dksX5_takeNumber_2 0 rfl rfl)
theorem dX5_takeNumber_47 : decode bcX5_takeNumber 47 = .ok (.ifCond .lt 18, 3) := dk_155 0 18 (dk_at dksX5_takeNumber_2 1 rfl rfl)
theorem dX5_takeNumber_50 : decode bcX5_takeNumber 50 = .ok (.aload_n 0, 1) := dk_42 (dk_at dksX5_takeNumber_2 4 rfl rfl)
theorem dX5_takeNumber_51 : decode bcX5_takeNumber 51 = .ok (.getfield 30, 3) := dk_180 0 30 (dk_at dksX5_takeNumber_2 5 rfl rfl)
theorem dX5_takeNumber_54 : decode bcX5_takeNumber 54 = .ok (.aload_n 0, 1) := dk_42 (dk_at dksX5_takeNumber_2 8 rfl rfl)
theorem dX5_takeNumber_55 : decode bcX5_takeNumber 55 = .ok (.getfield 162, 3) := dk_180 0 162 (dk_at dksX5_takeNumber_2 9 rfl rfl)
theorem dX5_takeNumber_58 : decode bcX5_takeNumber 58 = .ok (.laload, 1) := dk_47 (dk_at dksX5_takeNumber_2 12 rfl rfl)
theorem dX5_takeNumber_59 : decode bcX5_takeNumber 59 = .ok (.iload_n 2, 1) := dk_28 (dk_at dksX5_takeNumber_2 13 rfl rfl)
theorem dX5_takeNumber_60 : decode bcX5_takeNumber 60 = .ok (.i2l, 1) := dk_133 (dk_at dksX5_takeNumber_2 14 rfl rfl)
theorem dX5_takeNumber_61 : decode bcX5_takeNumber 61 = .ok (.lcmp, 1) := dk_148 (dk_at dksX5_takeNumber_2 15 rfl rfl)
theorem dX5_takeNumber_62 : decode bcX5_takeNumber 62 = .ok (.ifCond .le 8, 3) := dk_158 0 8 (dk_at dksX5_takeNumber_2 16 rfl rfl)
theorem dX5_takeNumber_65 : decode bcX5_takeNumber 65 = .ok (.aload_n 0, 1) := dk_42 (dk_at dksX5_takeNumber_2 19 rfl rfl)
theorem dX5_takeNumber_66 : decode bcX5_takeNumber 66 = .ok (.iconst 4, 1) := dk_7 (dk_at dksX5_takeNumber_2 20 rfl rfl)
theorem dX5_takeNumber_67 : decode bcX5_takeNumber 67 = .ok (.invokevirtual 171, 3) := dk_182 0 171 (dk_at dksX5_takeNumber_2 21 rfl rfl)
theorem dX5_takeNumber_70 : decode bcX5_takeNumber 70 = .ok (.aload_n 0, 1) := dk_42 (dk_at dksX5_takeNumber_3 0 rfl rfl)
theorem dX5_takeNumber_71 : decode bcX5_takeNumber 71 = .ok (.getfield 165, 3) := dk_180 0 165 (dk_at dksX5_takeNumber_3 1 rfl rfl)
theorem dX5_takeNumber_74 : decode bcX5_takeNumber 74 = .ok (.ifCond .le 5, 3) := dk_158 0 5 (dk_at dksX5_takeNumber_3 4 rfl rfl)
theorem dX5_takeNumber_77 : decode bcX5_takeNumber 77 = .ok (.iconst 0, 1) := dk_3 (dk_at dksX5_takeNumber_3 7 rfl rfl)
theorem dX5_takeNumber_78 : decode bcX5_takeNumber 78 = .ok (.ireturn, 1) := dk_172 (dk_at dksX5_takeNumber_3 8 rfl rfl)
theorem dX5_takeNumber_79 : decode bcX5_takeNumber 79 = .ok (.aload_n 0, 1) := dk_42 (dk_at dksX5_takeNumber_3 9 rfl rfl)
theorem dX5_takeNumber_80 : decode bcX5_takeNumber 80 = .ok (.dup, 1) := dk_89 (dk_at dksX5_takeNumber_3 10 rfl rfl)
theorem dX5_takeNumber_81 : decode bcX5_takeNumber 81 = .ok (.getfield 162, 3) := dk_180 0 162 (dk_at dksX5_takeNumber_3 11 rfl rfl)
theorem dX5_takeNumber_84 : decode bcX5_takeNumber 84 = .ok (.iconst 1, 1) := dk_4 (dk_at dksX5_takeNumber_3 14 rfl rfl)
theorem dX5_takeNumber_85 : decode bcX5_takeNumber 85 = .ok (.iadd, 1) := dk_96 (dk_at dksX5_takeNumber_3 15 rfl rfl)
theorem dX5_takeNumber_86 : decode bcX5_takeNumber 86 = .ok (.putfield 162, 3) := dk_181 0 162 (dk_at dksX5_takeNumber_3 16 rfl rfl)
theorem dX5_takeNumber_89 : decode bcX5_takeNumber 89 = .ok (.aload_n 0, 1) := dk_42 (dk_at dksX5_takeNumber_3 19 rfl rfl)
theorem dX5_takeNumber_90 : decode bcX5_takeNumber 90 = .ok (.getfield 30, 3) := dk_180 0 30 (dk_at dksX5_takeNumber_3 20 rfl rfl)
theorem dX5_takeNumber_93 : decode bcX5_takeNumber 93 = .ok (.aload_n 0, 1) := dk_42 (dk_at dksX5_takeNumber_3 23 rfl rfl)
theorem dX5_takeNumber_94 : decode bcX5_takeNumber 94 = .ok (.getfield 162, 3) := dk_180 0 162 (dk_at dksX5_takeNumber_4 0 rfl rfl)
theorem dX5_takeNumber_97 : decode bcX5_takeNumber 97 = .ok (.iconst 1, 1) := dk_4 (dk_at dksX5_takeNumber_4 3 rfl rfl)
theorem dX5_takeNumber_98 : decode bcX5_takeNumber 98 = .ok (.isub, 1) := dk_100 (dk_at dksX5_takeNumber_4 4 rfl rfl)
theorem dX5_takeNumber_99 : decode bcX5_takeNumber 99 = .ok (.laload, 1) := dk_47 (dk_at dksX5_takeNumber_4 5 rfl rfl)
theorem dX5_takeNumber_100 : decode bcX5_takeNumber 100 = .ok (.l2i, 1) := dk_136 (dk_at dksX5_takeNumber_4 6 rfl rfl)
theorem dX5_takeNumber_101 : decode bcX5_takeNumber 101 = .ok (.ireturn, 1) := dk_172 (dk_at dksX5_takeNumber_4 7 rfl rfl)
abbrev SX5_takeNumber (pc : Nat) (i : xI) : Prop := Snd "SwollenHouseModel" "takeNumber" prog_25_method_19_code 3 (Option.some Jvm.ClassFile.FieldType.int) [] pc i
theorem oX5_takeNumber_0 : SX5_takeNumber 0 (i_aload 0 1) := snd_aload_n dX5_takeNumber_0 rfl
theorem oX5_takeNumber_1 : SX5_takeNumber 1 (i_getf 4 8 4) := snd_getf dX5_takeNumber_1 rfl (by decide) in_X5 (Or.inl q1706) (Or.inl rfl) (by decide)
theorem oX5_takeNumber_4 : SX5_takeNumber 4 (i_if1 (fun x => ¬ x = 0) 28 7) := snd_if_ne dX5_takeNumber_4 (by decide)
theorem oX5_takeNumber_7 : SX5_takeNumber 7 (i_aload 0 8) := snd_aload_n dX5_takeNumber_7 rfl
theorem oX5_takeNumber_8 : SX5_takeNumber 8 (i_getf 4 4 11) := snd_getf dX5_takeNumber_8 rfl (by decide) in_X5 (Or.inl q1702) (Or.inl rfl) (by decide)
theorem oX5_takeNumber_11 : SX5_takeNumber 11 (i_aload 0 12) := snd_aload_n dX5_takeNumber_11 rfl
theorem oX5_takeNumber_12 : SX5_takeNumber 12 (i_getf 4 7 15) := snd_getf dX5_takeNumber_12 rfl (by decide) in_X5 (Or.inl q1705) (Or.inl rfl) (by decide)
theorem oX5_takeNumber_15 : SX5_takeNumber 15 (i_ai 0 16) := snd_ai0 dX5_takeNumber_15
theorem oX5_takeNumber_16 : SX5_takeNumber 16 (i_const (.int (nI 2)) 17) := snd_iconst dX5_takeNumber_16 (by decide)
theorem oX5_takeNumber_17 : SX5_takeNumber 17 (i_if2 (fun x y => x = y) 28 20) := snd_icmp_eq dX5_takeNumber_17 (by decide)
theorem oX5_takeNumber_20 : SX5_takeNumber 20 (i_aload 0 21) := snd_aload_n dX5_takeNumber_20 rfl
theorem oX5_takeNumber_21 : SX5_takeNumber 21 (i_const (.int (nI 1)) 22) := snd_iconst dX5_takeNumber_21 (by decide)
theorem oX5_takeNumber_22 : SX5_takeNumber 22 (i_cvv 4 262 1 25) := snd_cvv rfl infX5_wrong (by decide) rfl (xVm_V dX5_takeNumber_22 rfl q1831 q1833 qs67 q136 q1834 pdX5_wrong)
theorem oX5_takeNumber_25 : SX5_takeNumber 25 (i_goto 70) := snd_goto dX5_takeNumber_25 (by decide)
theorem oX5_takeNumber_28 : SX5_takeNumber 28 (i_aload 0 29) := snd_aload_n dX5_takeNumber_28 rfl
theorem oX5_takeNumber_29 : SX5_takeNumber 29 (i_getf 4 8 32) := snd_getf dX5_takeNumber_29 rfl (by decide) in_X5 (Or.inl q1706) (Or.inl rfl) (by decide)
theorem oX5_takeNumber_32 : SX5_takeNumber 32 (i_if1 (fun x => ¬ x = 0) 70 35) := snd_if_ne dX5_takeNumber_32 (by decide)
theorem oX5_takeNumber_35 : SX5_takeNumber 35 (i_aload 0 36) := snd_aload_n dX5_takeNumber_35 rfl
theorem oX5_takeNumber_36 : SX5_takeNumber 36 (i_getf 4 6 39) := snd_getf dX5_takeNumber_36 rfl (by decide) in_X5 (Or.inl q1704) (Or.inl rfl) (by decide)
theorem oX5_takeNumber_39 : SX5_takeNumber 39 (i_aload 0 40) := snd_aload_n dX5_takeNumber_39 rfl
theorem oX5_takeNumber_40 : SX5_takeNumber 40 (i_getf 4 7 43) := snd_getf dX5_takeNumber_40 rfl (by decide) in_X5 (Or.inl q1705) (Or.inl rfl) (by decide)
theorem oX5_takeNumber_43 : SX5_takeNumber 43 (i_al 3 44) := snd_al3 dX5_takeNumber_43
theorem oX5_takeNumber_44 : SX5_takeNumber 44 (i_iload 1 45) := snd_iload_n dX5_takeNumber_44 rfl
theorem oX5_takeNumber_45 : SX5_takeNumber 45 (i_i2l 46) := snd_i2l dX5_takeNumber_45
theorem oX5_takeNumber_46 : SX5_takeNumber 46 (i_lcmp 47) := snd_lcmp dX5_takeNumber_46
theorem oX5_takeNumber_47 : SX5_takeNumber 47 (i_if1 (fun x => x < 0) 65 50) := snd_if_lt dX5_takeNumber_47 (by decide)
theorem oX5_takeNumber_50 : SX5_takeNumber 50 (i_aload 0 51) := snd_aload_n dX5_takeNumber_50 rfl
theorem oX5_takeNumber_51 : SX5_takeNumber 51 (i_getf 4 6 54) := snd_getf dX5_takeNumber_51 rfl (by decide) in_X5 (Or.inl q1704) (Or.inl rfl) (by decide)
theorem oX5_takeNumber_54 : SX5_takeNumber 54 (i_aload 0 55) := snd_aload_n dX5_takeNumber_54 rfl
theorem oX5_takeNumber_55 : SX5_takeNumber 55 (i_getf 4 7 58) := snd_getf dX5_takeNumber_55 rfl (by decide) in_X5 (Or.inl q1705) (Or.inl rfl) (by decide)
theorem oX5_takeNumber_58 : SX5_takeNumber 58 (i_al 3 59) := snd_al3 dX5_takeNumber_58
theorem oX5_takeNumber_59 : SX5_takeNumber 59 (i_iload 2 60) := snd_iload_n dX5_takeNumber_59 rfl
theorem oX5_takeNumber_60 : SX5_takeNumber 60 (i_i2l 61) := snd_i2l dX5_takeNumber_60
theorem oX5_takeNumber_61 : SX5_takeNumber 61 (i_lcmp 62) := snd_lcmp dX5_takeNumber_61
theorem oX5_takeNumber_62 : SX5_takeNumber 62 (i_if1 (fun x => x ≤ 0) 70 65) := snd_if_le dX5_takeNumber_62 (by decide)
theorem oX5_takeNumber_65 : SX5_takeNumber 65 (i_aload 0 66) := snd_aload_n dX5_takeNumber_65 rfl
theorem oX5_takeNumber_66 : SX5_takeNumber 66 (i_const (.int (nI 4)) 67) := snd_iconst dX5_takeNumber_66 (by decide)
theorem oX5_takeNumber_67 : SX5_takeNumber 67 (i_cvv 4 262 1 70) := snd_cvv rfl infX5_wrong (by decide) rfl (xVm_V dX5_takeNumber_67 rfl q1831 q1833 qs67 q136 q1834 pdX5_wrong)
theorem oX5_takeNumber_70 : SX5_takeNumber 70 (i_aload 0 71) := snd_aload_n dX5_takeNumber_70 rfl
theorem oX5_takeNumber_71 : SX5_takeNumber 71 (i_getf 4 8 74) := snd_getf dX5_takeNumber_71 rfl (by decide) in_X5 (Or.inl q1706) (Or.inl rfl) (by decide)
theorem oX5_takeNumber_74 : SX5_takeNumber 74 (i_if1 (fun x => x ≤ 0) 79 77) := snd_if_le dX5_takeNumber_74 (by decide)
theorem oX5_takeNumber_77 : SX5_takeNumber 77 (i_const (.int (nI 0)) 78) := snd_iconst dX5_takeNumber_77 (by decide)
theorem oX5_takeNumber_78 : SX5_takeNumber 78 (i_iret) := snd_iret dX5_takeNumber_78 rfl
theorem oX5_takeNumber_79 : SX5_takeNumber 79 (i_aload 0 80) := snd_aload_n dX5_takeNumber_79 rfl
theorem oX5_takeNumber_80 : SX5_takeNumber 80 (i_dup 81) := snd_dup dX5_takeNumber_80
theorem oX5_takeNumber_81 : SX5_takeNumber 81 (i_getf 4 7 84) := snd_getf dX5_takeNumber_81 rfl (by decide) in_X5 (Or.inl q1705) (Or.inl rfl) (by decide)
theorem oX5_takeNumber_84 : SX5_takeNumber 84 (i_const (.int (nI 1)) 85) := snd_iconst dX5_takeNumber_84 (by decide)
theorem oX5_takeNumber_85 : SX5_takeNumber 85 (i_ii (fun x y => x + y) 86) := snd_iadd dX5_takeNumber_85
theorem oX5_takeNumber_86 : SX5_takeNumber 86 (i_putfi 4 7 89) := snd_putfi dX5_takeNumber_86 rfl (by decide) in_X5 tyX5 tyX5_ok nmX5 (Or.inl ⟨rfl, q1705⟩) (Or.inl rfl) rfl
theorem oX5_takeNumber_89 : SX5_takeNumber 89 (i_aload 0 90) := snd_aload_n dX5_takeNumber_89 rfl
theorem oX5_takeNumber_90 : SX5_takeNumber 90 (i_getf 4 6 93) := snd_getf dX5_takeNumber_90 rfl (by decide) in_X5 (Or.inl q1704) (Or.inl rfl) (by decide)
theorem oX5_takeNumber_93 : SX5_takeNumber 93 (i_aload 0 94) := snd_aload_n dX5_takeNumber_93 rfl
theorem oX5_takeNumber_94 : SX5_takeNumber 94 (i_getf 4 7 97) := snd_getf dX5_takeNumber_94 rfl (by decide) in_X5 (Or.inl q1705) (Or.inl rfl) (by decide)
theorem oX5_takeNumber_97 : SX5_takeNumber 97 (i_const (.int (nI 1)) 98) := snd_iconst dX5_takeNumber_97 (by decide)
theorem oX5_takeNumber_98 : SX5_takeNumber 98 (i_ii (fun x y => x - y) 99) := snd_isub dX5_takeNumber_98
theorem oX5_takeNumber_99 : SX5_takeNumber 99 (i_al 3 100) := snd_al3 dX5_takeNumber_99
theorem oX5_takeNumber_100 : SX5_takeNumber 100 (i_l2i 101) := snd_l2i dX5_takeNumber_100
theorem oX5_takeNumber_101 : SX5_takeNumber 101 (i_iret) := snd_iret dX5_takeNumber_101 rfl
theorem okX5_takeNumber : ∀ q ∈ cX5_takeNumber, SX5_takeNumber q.1 q.2 := List.forall_mem_cons.mpr ⟨oX5_takeNumber_0, List.forall_mem_cons.mpr ⟨oX5_takeNumber_1, List.forall_mem_cons.mpr ⟨oX5_takeNumber_4, List.forall_mem_cons.mpr ⟨oX5_takeNumber_7, List.forall_mem_cons.mpr ⟨oX5_takeNumber_8, List.forall_mem_cons.mpr ⟨oX5_takeNumber_11, List.forall_mem_cons.mpr ⟨oX5_takeNumber_12, List.forall_mem_cons.mpr ⟨oX5_takeNumber_15, List.forall_mem_cons.mpr ⟨oX5_takeNumber_16, List.forall_mem_cons.mpr ⟨oX5_takeNumber_17, List.forall_mem_cons.mpr ⟨oX5_takeNumber_20, List.forall_mem_cons.mpr ⟨oX5_takeNumber_21, List.forall_mem_cons.mpr ⟨oX5_takeNumber_22, List.forall_mem_cons.mpr ⟨oX5_takeNumber_25, List.forall_mem_cons.mpr ⟨oX5_takeNumber_28, List.forall_mem_cons.mpr ⟨oX5_takeNumber_29, List.forall_mem_cons.mpr ⟨oX5_takeNumber_32, List.forall_mem_cons.mpr ⟨oX5_takeNumber_35, List.forall_mem_cons.mpr ⟨oX5_takeNumber_36, List.forall_mem_cons.mpr ⟨oX5_takeNumber_39, List.forall_mem_cons.mpr ⟨oX5_takeNumber_40, List.forall_mem_cons.mpr ⟨oX5_takeNumber_43, List.forall_mem_cons.mpr ⟨oX5_takeNumber_44, List.forall_mem_cons.mpr ⟨oX5_takeNumber_45, List.forall_mem_cons.mpr ⟨oX5_takeNumber_46, List.forall_mem_cons.mpr ⟨oX5_takeNumber_47, List.forall_mem_cons.mpr ⟨oX5_takeNumber_50, List.forall_mem_cons.mpr ⟨oX5_takeNumber_51, List.forall_mem_cons.mpr ⟨oX5_takeNumber_54, List.forall_mem_cons.mpr ⟨oX5_takeNumber_55, List.forall_mem_cons.mpr ⟨oX5_takeNumber_58, List.forall_mem_cons.mpr ⟨oX5_takeNumber_59, List.forall_mem_cons.mpr ⟨oX5_takeNumber_60, List.forall_mem_cons.mpr ⟨oX5_takeNumber_61, List.forall_mem_cons.mpr ⟨oX5_takeNumber_62, List.forall_mem_cons.mpr ⟨oX5_takeNumber_65, List.forall_mem_cons.mpr ⟨oX5_takeNumber_66, List.forall_mem_cons.mpr ⟨oX5_takeNumber_67, List.forall_mem_cons.mpr ⟨oX5_takeNumber_70, List.forall_mem_cons.mpr ⟨oX5_takeNumber_71, List.forall_mem_cons.mpr ⟨oX5_takeNumber_74, List.forall_mem_cons.mpr ⟨oX5_takeNumber_77, List.forall_mem_cons.mpr ⟨oX5_takeNumber_78, List.forall_mem_cons.mpr ⟨oX5_takeNumber_79, List.forall_mem_cons.mpr ⟨oX5_takeNumber_80, List.forall_mem_cons.mpr ⟨oX5_takeNumber_81, List.forall_mem_cons.mpr ⟨oX5_takeNumber_84, List.forall_mem_cons.mpr ⟨oX5_takeNumber_85, List.forall_mem_cons.mpr ⟨oX5_takeNumber_86, List.forall_mem_cons.mpr ⟨oX5_takeNumber_89, List.forall_mem_cons.mpr ⟨oX5_takeNumber_90, List.forall_mem_cons.mpr ⟨oX5_takeNumber_93, List.forall_mem_cons.mpr ⟨oX5_takeNumber_94, List.forall_mem_cons.mpr ⟨oX5_takeNumber_97, List.forall_mem_cons.mpr ⟨oX5_takeNumber_98, List.forall_mem_cons.mpr ⟨oX5_takeNumber_99, List.forall_mem_cons.mpr ⟨oX5_takeNumber_100, List.forall_mem_cons.mpr ⟨oX5_takeNumber_101, fun _ h => absurd h List.not_mem_nil⟩⟩⟩⟩⟩⟩⟩⟩⟩⟩⟩⟩⟩⟩⟩⟩⟩⟩⟩⟩⟩⟩⟩⟩⟩⟩⟩⟩⟩⟩⟩⟩⟩⟩⟩⟩⟩⟩⟩⟩⟩⟩⟩⟩⟩⟩⟩⟩⟩⟩⟩⟩⟩⟩⟩⟩⟩⟩
