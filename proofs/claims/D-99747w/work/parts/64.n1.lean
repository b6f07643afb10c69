set_option maxRecDepth 100000
def dkwX1_arrival_2 : List UInt8 := [182, 1, 34, 62, 42, 42, 180, 0, 55, 182, 0, 216, 132, 4, 1, 167, 255, 213, 2, 172]
abbrev dktX1_arrival_2 : List UInt8 := dkwX1_arrival_2 ++ []
def dkwX1_arrival_1 : List UInt8 := [163, 0, 42, 29, 28, 184, 1, 30, 153, 0, 6, 21, 4, 172, 42, 29, 42, 42, 180, 0, 55, 182, 1, 40]
abbrev dktX1_arrival_1 : List UInt8 := dkwX1_arrival_1 ++ dktX1_arrival_2
def dkwX1_arrival_0 : List UInt8 := [42, 180, 0, 55, 42, 180, 0, 51, 182, 0, 253, 4, 27, 120, 62, 3, 54, 4, 21, 4, 16, 40]
abbrev dktX1_arrival_0 : List UInt8 := dkwX1_arrival_0 ++ dktX1_arrival_1
theorem dksX1_arrival_0 : bcX1_arrival.data.toList.drop 0 = dktX1_arrival_0 := by decide +kernel
theorem dksX1_arrival_1 : bcX1_arrival.data.toList.drop 22 = dktX1_arrival_1 := dk_seg dksX1_arrival_0 22 rfl rfl
theorem dksX1_arrival_2 : bcX1_arrival.data.toList.drop 46 = dktX1_arrival_2 := dk_seg dksX1_arrival_1 24 rfl rfl
theorem dX1_arrival_0 : decode bcX1_arrival 0 = .ok (.aload_n 0, 1) := dk_42 (dk_at dksX1_arrival_0 0 rfl rfl)
theorem dX1_arrival_1 : decode bcX1_arrival 1 = .ok (.getfield 55, 3) := dk_180 0 55 (dk_at dksX1_arrival_0 1 rfl rfl)
theorem dX1_arrival_4 : decode bcX1_arrival 4 = .ok (.aload_n 0, 1) := dk_42 (dk_at dksX1_arrival_0 4 rfl rfl)
theorem dX1_arrival_5 : decode bcX1_arrival 5 = .ok (.getfield 51, 3) := dk_180 0 51 (dk_at dksX1_arrival_0 5 rfl rfl)
theorem dX1_arrival_8 : decode bcX1_arrival 8 = .ok (.invokevirtual 253, 3) := dk_182 0 253 (dk_at dksX1_arrival_0 8 rfl rfl)
theorem dX1_arrival_11 : decode bcX1_arrival 11 = .ok (.iconst 1, 1) := dk_4 (dk_at dksX1_arrival_0 11 rfl rfl)
theorem dX1_arrival_12 : decode bcX1_arrival 12 = .ok (.iload_n 1, 1) := dk_27 (dk_at dksX1_arrival_0 12 rfl rfl)
theorem dX1_arrival_13 : decode bcX1_arrival 13 = .ok (.ishl, 1) := dk_120 (dk_at dksX1_arrival_0 13 rfl rfl)
theorem dX1_arrival_14 : decode bcX1_arrival 14 = .ok (.istore_n 3, 1) := dk_62 (dk_at dksX1_arrival_0 14 rfl rfl)
theorem dX1_arrival_15 : decode bcX1_arrival 15 = .ok (.iconst 0, 1) := dk_3 (dk_at dksX1_arrival_0 15 rfl rfl)
theorem dX1_arrival_16 : decode bcX1_arrival 16 = .ok (.istore 4, 2) := dk_54 4 (dk_at dksX1_arrival_0 16 rfl rfl)
theorem dX1_arrival_18 : decode bcX1_arrival 18 = .ok (.iload 4, 2) := dk_21 4 (dk_at dksX1_arrival_0 18 rfl rfl)
theorem dX1_arrival_20 : decode bcX1_arrival 20 = .ok (.bipush 40, 2) := dk_16 40 (dk_at dksX1_arrival_0 20 rfl rfl)
theorem dX1_arrival_22 : decode bcX1_arrival 22 = .ok (.if_icmp .gt 42, 3) := dk_163 0 42 (dk_at dksX1_arrival_1 0 rfl rfl)
theorem dX1_arrival_25 : decode bcX1_arrival 25 = .ok (.iload_n 3, 1) := dk_29 (dk_at dksX1_arrival_1 3 rfl rfl)
theorem dX1_arrival_26 : decode bcX1_arrival 26 = .ok (.iload_n 2, 1) := dk_28 (dk_at dksX1_arrival_1 4 rfl rfl)
theorem dX1_arrival_27 : decode bcX1_arrival 27 = .ok (.invokestatic 286, 3) := dk_184 1 30 (dk_at dksX1_arrival_1 5 rfl rfl)
theorem dX1_arrival_30 : decode bcX1_arrival 30 = .ok (.ifCond .eq 6, 3) := dk_153 0 6 (dk_at dksX1_arrival_1 8 rfl rfl)
theorem dX1_arrival_33 : decode bcX1_arrival 33 = .ok (.iload 4, 2) := dk_21 4 (dk_at dksX1_arrival_1 11 rfl rfl)
theorem dX1_arrival_35 : decode bcX1_arrival 35 = .ok (.ireturn, 1) := dk_172 (dk_at dksX1_arrival_1 13 rfl rfl)
theorem dX1_arrival_36 : decode bcX1_arrival 36 = .ok (.aload_n 0, 1) := dk_42 (dk_at dksX1_arrival_1 14 rfl rfl)
theorem dX1_arrival_37 : decode bcX1_arrival 37 = .ok (.iload_n 3, 1) := dk_29 (dk_at dksX1_arrival_1 15 rfl rfl)
theorem dX1_arrival_38 : decode bcX1_arrival 38 = .ok (.aload_n 0, 1) := dk_42 (dk_at dksX1_arrival_1 16 rfl rfl)
theorem dX1_arrival_39 : decode bcX1_arrival 39 = .ok (.aload_n 0, 1) := dk_42 (dk_at dksX1_arrival_1 17 rfl rfl)
theorem dX1_arrival_40 : decode bcX1_arrival 40 = .ok (.getfield 55, 3) := dk_180 0 55 (dk_at dksX1_arrival_1 18 rfl rfl)
theorem dX1_arrival_43 : decode bcX1_arrival 43 = .ok (.invokevirtual 296, 3) := dk_182 1 40 (dk_at dksX1_arrival_1 21 rfl rfl)
theorem dX1_arrival_46 : decode bcX1_arrival 46 = .ok (.invokevirtual 290, 3) := dk_182 1 34 (dk_at dksX1_arrival_2 0 rfl rfl)
theorem dX1_arrival_49 : decode bcX1_arrival 49 = .ok (.istore_n 3, 1) := dk_62 (dk_at dksX1_arrival_2 3 rfl rfl)
theorem dX1_arrival_50 : decode bcX1_arrival 50 = .ok (.aload_n 0, 1) := dk_42 (dk_at dksX1_arrival_2 4 rfl rfl)
theorem dX1_arrival_51 : decode bcX1_arrival 51 = .ok (.aload_n 0, 1) := dk_42 (dk_at dksX1_arrival_2 5 rfl rfl)
theorem dX1_arrival_52 : decode bcX1_arrival 52 = .ok (.getfield 55, 3) := dk_180 0 55 (dk_at dksX1_arrival_2 6 rfl rfl)
theorem dX1_arrival_55 : decode bcX1_arrival 55 = .ok (.invokevirtual 216, 3) := dk_182 0 216 (dk_at dksX1_arrival_2 9 rfl rfl)
theorem dX1_arrival_58 : decode bcX1_arrival 58 = .ok (.iinc 4 1, 3) := dk_132 4 1 (dk_at dksX1_arrival_2 12 rfl rfl)
theorem dX1_arrival_61 : decode bcX1_arrival 61 = .ok (.goto (-43), 3) := dk_167 255 213 (dk_at dksX1_arrival_2 15 rfl rfl)
theorem dX1_arrival_64 : decode bcX1_arrival 64 = .ok (.iconst (-1), 1) := dk_2 (dk_at dksX1_arrival_2 18 rfl rfl)
theorem dX1_arrival_65 : decode bcX1_arrival 65 = .ok (.ireturn, 1) := dk_172 (dk_at dksX1_arrival_2 19 rfl rfl)
abbrev SX1_arrival (pc : Nat) (i : xI) : Prop := Snd "SwollenHouse" "arrival" prog_1_method_53_code 5 (Option.some Jvm.ClassFile.FieldType.int) [] pc i
theorem oX1_arrival_0 : SX1_arrival 0 (i_aload 0 1) := snd_aload_n dX1_arrival_0 rfl
theorem oX1_arrival_1 : SX1_arrival 1 (i_getf 0 5 4) := snd_getf dX1_arrival_1 rfl (by decide) in_X1 (Or.inl q351) (Or.inl rfl) (by decide)
theorem oX1_arrival_4 : SX1_arrival 4 (i_aload 0 5) := snd_aload_n dX1_arrival_4 rfl
theorem oX1_arrival_5 : SX1_arrival 5 (i_getf 0 4 8) := snd_getf dX1_arrival_5 rfl (by decide) in_X1 (Or.inl q350) (Or.inl rfl) (by decide)
theorem oX1_arrival_8 : SX1_arrival 8 (i_cvv 3 239 1 11) := snd_cvv rfl infX4_be (by decide) rfl (xVm_V dX1_arrival_8 rfl q1194 q1195 q1196 q133 q1197 pdX4_be)
theorem oX1_arrival_11 : SX1_arrival 11 (i_const (.int (nI 1)) 12) := snd_iconst dX1_arrival_11 (by decide)
theorem oX1_arrival_12 : SX1_arrival 12 (i_iload 1 13) := snd_iload_n dX1_arrival_12 rfl
theorem oX1_arrival_13 : SX1_arrival 13 (i_ii (fun x y => x <<< (y &&& 31)) 14) := snd_ishl dX1_arrival_13
theorem oX1_arrival_14 : SX1_arrival 14 (i_istore 3 15) := snd_istore_n dX1_arrival_14 rfl (by decide)
theorem oX1_arrival_15 : SX1_arrival 15 (i_const (.int (nI 0)) 16) := snd_iconst dX1_arrival_15 (by decide)
theorem oX1_arrival_16 : SX1_arrival 16 (i_istore 4 18) := snd_istore dX1_arrival_16 (by decide)
theorem oX1_arrival_18 : SX1_arrival 18 (i_iload 4 20) := snd_iload dX1_arrival_18
theorem oX1_arrival_20 : SX1_arrival 20 (i_const (.int (nI 40)) 22) := snd_bipush dX1_arrival_20 (by decide)
theorem oX1_arrival_22 : SX1_arrival 22 (i_if2 (fun x y => y < x) 64 25) := snd_icmp_gt dX1_arrival_22 (by decide)
theorem oX1_arrival_25 : SX1_arrival 25 (i_iload 3 26) := snd_iload_n dX1_arrival_25 rfl
theorem oX1_arrival_26 : SX1_arrival 26 (i_iload 2 27) := snd_iload_n dX1_arrival_26 rfl
theorem oX1_arrival_27 : SX1_arrival 27 (i_cs 98 2 30) := snd_cs rfl infX1_isIn (by decide) (xSm_S dX1_arrival_27 q1397 q1172 q127 q1173 pdX1_isIn)
theorem oX1_arrival_30 : SX1_arrival 30 (i_if1 (fun x => x = 0) 36 33) := snd_if_eq dX1_arrival_30 (by decide)
theorem oX1_arrival_33 : SX1_arrival 33 (i_iload 4 35) := snd_iload dX1_arrival_33
theorem oX1_arrival_35 : SX1_arrival 35 (i_iret) := snd_iret dX1_arrival_35 rfl
theorem oX1_arrival_36 : SX1_arrival 36 (i_aload 0 37) := snd_aload_n dX1_arrival_36 rfl
theorem oX1_arrival_37 : SX1_arrival 37 (i_iload 3 38) := snd_iload_n dX1_arrival_37 rfl
theorem oX1_arrival_38 : SX1_arrival 38 (i_aload 0 39) := snd_aload_n dX1_arrival_38 rfl
theorem oX1_arrival_39 : SX1_arrival 39 (i_aload 0 40) := snd_aload_n dX1_arrival_39 rfl
theorem oX1_arrival_40 : SX1_arrival 40 (i_getf 0 5 43) := snd_getf dX1_arrival_40 rfl (by decide) in_X1 (Or.inl q351) (Or.inl rfl) (by decide)
theorem oX1_arrival_43 : SX1_arrival 43 (i_cv 0 121 1 46) := snd_cv rfl infX1_open (by decide) rfl (xVm_V dX1_arrival_43 rfl q1385 q1387 qs43 q127 q1388 pdX1_open)
theorem oX1_arrival_46 : SX1_arrival 46 (i_cv 0 123 2 49) := snd_cv rfl infX1_next (by decide) rfl (xVm_V dX1_arrival_46 rfl q1393 q1395 qs45 q127 q1396 pdX1_next)
theorem oX1_arrival_49 : SX1_arrival 49 (i_istore 3 50) := snd_istore_n dX1_arrival_49 rfl (by decide)
theorem oX1_arrival_50 : SX1_arrival 50 (i_aload 0 51) := snd_aload_n dX1_arrival_50 rfl
theorem oX1_arrival_51 : SX1_arrival 51 (i_aload 0 52) := snd_aload_n dX1_arrival_51 rfl
theorem oX1_arrival_52 : SX1_arrival 52 (i_getf 0 5 55) := snd_getf dX1_arrival_52 rfl (by decide) in_X1 (Or.inl q351) (Or.inl rfl) (by decide)
theorem oX1_arrival_55 : SX1_arrival 55 (i_cvv 0 104 1 58) := snd_cvv rfl infX1_passes (by decide) rfl (xVm_V dX1_arrival_55 rfl q1198 q1200 qs35 q127 q1201 pdX1_passes)
theorem oX1_arrival_58 : SX1_arrival 58 (i_iinc 4 (nI 1) 61) := snd_iinc dX1_arrival_58 (by decide) (by decide)
theorem oX1_arrival_61 : SX1_arrival 61 (i_goto 18) := snd_goto dX1_arrival_61 (by decide)
theorem oX1_arrival_64 : SX1_arrival 64 (i_const (.int (-1)) 65) := snd_iconst dX1_arrival_64 (by decide)
theorem oX1_arrival_65 : SX1_arrival 65 (i_iret) := snd_iret dX1_arrival_65 rfl
theorem okX1_arrival : ∀ q ∈ cX1_arrival, SX1_arrival q.1 q.2 := List.forall_mem_cons.mpr ⟨oX1_arrival_0, List.forall_mem_cons.mpr ⟨oX1_arrival_1, List.forall_mem_cons.mpr ⟨oX1_arrival_4, List.forall_mem_cons.mpr ⟨oX1_arrival_5, List.forall_mem_cons.mpr ⟨oX1_arrival_8, List.forall_mem_cons.mpr ⟨oX1_arrival_11, List.forall_mem_cons.mpr ⟨oX1_arrival_12, List.forall_mem_cons.mpr ⟨oX1_arrival_13, List.forall_mem_cons.mpr ⟨oX1_arrival_14, List.forall_mem_cons.mpr ⟨oX1_arrival_15, List.forall_mem_cons.mpr ⟨oX1_arrival_16, List.forall_mem_cons.mpr ⟨oX1_arrival_18, List.forall_mem_cons.mpr ⟨oX1_arrival_20, List.forall_mem_cons.mpr ⟨oX1_arrival_22, List.forall_mem_cons.mpr ⟨oX1_arrival_25, List.forall_mem_cons.mpr ⟨oX1_arrival_26, List.forall_mem_cons.mpr ⟨oX1_arrival_27, List.forall_mem_cons.mpr ⟨oX1_arrival_30, List.forall_mem_cons.mpr ⟨oX1_arrival_33, List.forall_mem_cons.mpr ⟨oX1_arrival_35, List.forall_mem_cons.mpr ⟨oX1_arrival_36, List.forall_mem_cons.mpr ⟨oX1_arrival_37, List.forall_mem_cons.mpr ⟨oX1_arrival_38, List.forall_mem_cons.mpr ⟨oX1_arrival_39, List.forall_mem_cons.mpr ⟨oX1_arrival_40, List.forall_mem_cons.mpr ⟨oX1_arrival_43, List.forall_mem_cons.mpr ⟨oX1_arrival_46, List.forall_mem_cons.mpr ⟨oX1_arrival_49, List.forall_mem_cons.mpr ⟨oX1_arrival_50, List.forall_mem_cons.mpr ⟨oX1_arrival_51, List.forall_mem_cons.mpr ⟨oX1_arrival_52, List.forall_mem_cons.mpr ⟨oX1_arrival_55, List.forall_mem_cons.mpr ⟨oX1_arrival_58, List.forall_mem_cons.mpr ⟨oX1_arrival_61, List.forall_mem_cons.mpr ⟨oX1_arrival_64, List.forall_mem_cons.mpr ⟨oX1_arrival_65, fun _ h => absurd h List.not_mem_nil⟩⟩⟩⟩⟩⟩⟩⟩⟩⟩⟩⟩⟩⟩⟩⟩⟩⟩⟩⟩⟩⟩⟩⟩⟩⟩⟩⟩⟩⟩⟩⟩⟩⟩⟩⟩
def dkwX1_from_2 : List UInt8 := [153, 0, 10, 29, 4, 21, 4, 120, 128, 62, 132, 4, 1, 167, 255, 222, 29, 172]
abbrev dktX1_from_2 : List UInt8 := dkwX1_from_2 ++ []
def dkwX1_from_1 : List UInt8 := [54, 4, 21, 4, 42, 182, 0, 153, 162, 0, 31, 42, 21, 4, 27, 182, 1, 56, 3, 28, 184, 0, 155]
abbrev dktX1_from_1 : List UInt8 := dkwX1_from_1 ++ dktX1_from_2
def dkwX1_from_0 : List UInt8 := [42, 27, 182, 1, 37, 153, 0, 13, 28, 3, 16, 40, 184, 0, 155, 154, 0, 5, 2, 172, 3, 62, 3]
abbrev dktX1_from_0 : List UInt8 := dkwX1_from_0 ++ dktX1_from_1
theorem dksX1_from_0 : bcX1_from.data.toList.drop 0 = dktX1_from_0 := by decide +kernel
theorem dksX1_from_1 : bcX1_from.data.toList.drop 23 = dktX1_from_1 := dk_seg dksX1_from_0 23 rfl rfl
theorem dksX1_from_2 : bcX1_from.data.toList.drop 46 = dktX1_from_2 := dk_seg dksX1_from_1 23 rfl rfl
theorem dX1_from_0 : decode bcX1_from 0 = .ok (.aload_n 0, 1) := dk_42 (dk_at dksX1_from_0 0 rfl rfl)
theorem dX1_from_1 : decode bcX1_from 1 = .ok (.iload_n 1, 1) := dk_27 (dk_at dksX1_from_0 1 rfl rfl)
theorem dX1_from_2 : decode bcX1_from 2 = .ok (.invokevirtual 293, 3) := dk_182 1 37 (dk_at dksX1_from_0 2 rfl rfl)
theorem dX1_from_5 : decode bcX1_from 5 = .ok (.ifCond .eq 13, 3) := dk_153 0 13 (dk_at dksX1_from_0 5 rfl rfl)
theorem dX1_from_8 : decode bcX1_from 8 = .ok (.iload_n 2, 1) := dk_28 (dk_at dksX1_from_0 8 rfl rfl)
theorem dX1_from_9 : decode bcX1_from 9 = .ok (.iconst 0, 1) := dk_3 (dk_at dksX1_from_0 9 rfl rfl)
theorem dX1_from_10 : decode bcX1_from 10 = .ok (.bipush 40, 2) := dk_16 40 (dk_at dksX1_from_0 10 rfl rfl)
theorem dX1_from_12 : decode bcX1_from 12 = .ok (.invokestatic 155, 3) := dk_184 0 155 (dk_at dksX1_from_0 12 rfl rfl)
theorem dX1_from_15 : decode bcX1_from 15 = .ok (.ifCond .ne 5, 3) := dk_154 0 5 (dk_at dksX1_from_0 15 rfl rfl)
theorem dX1_from_18 : decode bcX1_from 18 = .ok (.iconst (-1), 1) := dk_2 (dk_at dksX1_from_0 18 rfl rfl)
theorem dX1_from_19 : decode bcX1_from 19 = .ok (.ireturn, 1) := dk_172 (dk_at dksX1_from_0 19 rfl rfl)
theorem dX1_from_20 : decode bcX1_from 20 = .ok (.iconst 0, 1) := dk_3 (dk_at dksX1_from_0 20 rfl rfl)
theorem dX1_from_21 : decode bcX1_from 21 = .ok (.istore_n 3, 1) := dk_62 (dk_at dksX1_from_0 21 rfl rfl)
theorem dX1_from_22 : decode bcX1_from 22 = .ok (.iconst 0, 1) := dk_3 (dk_at dksX1_from_0 22 rfl rfl)
theorem dX1_from_23 : decode bcX1_from 23 = .ok (.istore 4, 2) := dk_54 4 (dk_at dksX1_from_1 0 rfl rfl)
theorem dX1_from_25 : decode bcX1_from 25 = .ok (.iload 4, 2) := dk_21 4 (dk_at dksX1_from_1 2 rfl rfl)
theorem dX1_from_27 : decode bcX1_from 27 = .ok (.aload_n 0, 1) := dk_42 (dk_at dksX1_from_1 4 rfl rfl)
theorem dX1_from_28 : decode bcX1_from 28 = .ok (.invokevirtual 153, 3) := dk_182 0 153 (dk_at dksX1_from_1 5 rfl rfl)
theorem dX1_from_31 : decode bcX1_from 31 = .ok (.if_icmp .ge 31, 3) := dk_162 0 31 (dk_at dksX1_from_1 8 rfl rfl)
theorem dX1_from_34 : decode bcX1_from 34 = .ok (.aload_n 0, 1) := dk_42 (dk_at dksX1_from_1 11 rfl rfl)
theorem dX1_from_35 : decode bcX1_from 35 = .ok (.iload 4, 2) := dk_21 4 (dk_at dksX1_from_1 12 rfl rfl)
theorem dX1_from_37 : decode bcX1_from 37 = .ok (.iload_n 1, 1) := dk_27 (dk_at dksX1_from_1 14 rfl rfl)
theorem dX1_from_38 : decode bcX1_from 38 = .ok (.invokevirtual 312, 3) := dk_182 1 56 (dk_at dksX1_from_1 15 rfl rfl)
theorem dX1_from_41 : decode bcX1_from 41 = .ok (.iconst 0, 1) := dk_3 (dk_at dksX1_from_1 18 rfl rfl)
theorem dX1_from_42 : decode bcX1_from 42 = .ok (.iload_n 2, 1) := dk_28 (dk_at dksX1_from_1 19 rfl rfl)
theorem dX1_from_43 : decode bcX1_from 43 = .ok (.invokestatic 155, 3) := dk_184 0 155 (dk_at dksX1_from_1 20 rfl rfl)
theorem dX1_from_46 : decode bcX1_from 46 = .ok (.ifCond .eq 10, 3) := dk_153 0 10 (dk_at dksX1_from_2 0 rfl rfl)
theorem dX1_from_49 : decode bcX1_from 49 = .ok (.iload_n 3, 1) := dk_29 (dk_at dksX1_from_2 3 rfl rfl)
theorem dX1_from_50 : decode bcX1_from 50 = .ok (.iconst 1, 1) := dk_4 (dk_at dksX1_from_2 4 rfl rfl)
theorem dX1_from_51 : decode bcX1_from 51 = .ok (.iload 4, 2) := dk_21 4 (dk_at dksX1_from_2 5 rfl rfl)
theorem dX1_from_53 : decode bcX1_from 53 = .ok (.ishl, 1) := dk_120 (dk_at dksX1_from_2 7 rfl rfl)
theorem dX1_from_54 : decode bcX1_from 54 = .ok (.ior, 1) := dk_128 (dk_at dksX1_from_2 8 rfl rfl)
theorem dX1_from_55 : decode bcX1_from 55 = .ok (.istore_n 3, 1) := dk_62 (dk_at dksX1_from_2 9 rfl rfl)
theorem dX1_from_56 : decode bcX1_from 56 = .ok (.iinc 4 1, 3) := dk_132 4 1 (dk_at dksX1_from_2 10 rfl rfl)
theorem dX1_from_59 : decode bcX1_from 59 = .ok (.goto (-34), 3) := dk_167 255 222 (dk_at dksX1_from_2 13 rfl rfl)
theorem dX1_from_62 : decode bcX1_from 62 = .ok (.iload_n 3, 1) := dk_29 (dk_at dksX1_from_2 16 rfl rfl)
theorem dX1_from_63 : decode bcX1_from 63 = .ok (.ireturn, 1) := dk_172 (dk_at dksX1_from_2 17 rfl rfl)
abbrev SX1_from (pc : Nat) (i : xI) : Prop := Snd "SwollenHouse" "from" prog_1_method_55_code 5 (Option.some Jvm.ClassFile.FieldType.int) [] pc i
theorem oX1_from_0 : SX1_from 0 (i_aload 0 1) := snd_aload_n dX1_from_0 rfl
theorem oX1_from_1 : SX1_from 1 (i_iload 1 2) := snd_iload_n dX1_from_1 rfl
theorem oX1_from_2 : SX1_from 2 (i_cv 0 119 1 5) := snd_cv rfl infX1_isRoom (by decide) rfl (xVm_V dX1_from_2 rfl q1377 q1379 qs41 q127 q1380 pdX1_isRoom)
theorem oX1_from_5 : SX1_from 5 (i_if1 (fun x => x = 0) 18 8) := snd_if_eq dX1_from_5 (by decide)
theorem oX1_from_8 : SX1_from 8 (i_iload 2 9) := snd_iload_n dX1_from_8 rfl
theorem oX1_from_9 : SX1_from 9 (i_const (.int (nI 0)) 10) := snd_iconst dX1_from_9 (by decide)
theorem oX1_from_10 : SX1_from 10 (i_const (.int (nI 40)) 12) := snd_bipush dX1_from_10 (by decide)
theorem oX1_from_12 : SX1_from 12 (i_cs 92 3 15) := snd_cs rfl infX1_in (by decide) (xSm_S dX1_from_12 q1145 q982 q127 q983 pdX1_in)
theorem oX1_from_15 : SX1_from 15 (i_if1 (fun x => ¬ x = 0) 20 18) := snd_if_ne dX1_from_15 (by decide)
theorem oX1_from_18 : SX1_from 18 (i_const (.int (-1)) 19) := snd_iconst dX1_from_18 (by decide)
theorem oX1_from_19 : SX1_from 19 (i_iret) := snd_iret dX1_from_19 rfl
theorem oX1_from_20 : SX1_from 20 (i_const (.int (nI 0)) 21) := snd_iconst dX1_from_20 (by decide)
theorem oX1_from_21 : SX1_from 21 (i_istore 3 22) := snd_istore_n dX1_from_21 rfl (by decide)
theorem oX1_from_22 : SX1_from 22 (i_const (.int (nI 0)) 23) := snd_iconst dX1_from_22 (by decide)
theorem oX1_from_23 : SX1_from 23 (i_istore 4 25) := snd_istore dX1_from_23 (by decide)
theorem oX1_from_25 : SX1_from 25 (i_iload 4 27) := snd_iload dX1_from_25
theorem oX1_from_27 : SX1_from 27 (i_aload 0 28) := snd_aload_n dX1_from_27 rfl
theorem oX1_from_28 : SX1_from 28 (i_cv 0 120 0 31) := snd_cv rfl infX1_rooms (by decide) rfl (xVm_V dX1_from_28 rfl q1381 q1383 qs42 q127 q1384 pdX1_rooms)
theorem oX1_from_31 : SX1_from 31 (i_if2 (fun x y => y ≤ x) 62 34) := snd_icmp_ge dX1_from_31 (by decide)
theorem oX1_from_34 : SX1_from 34 (i_aload 0 35) := snd_aload_n dX1_from_34 rfl
theorem oX1_from_35 : SX1_from 35 (i_iload 4 37) := snd_iload dX1_from_35
theorem oX1_from_37 : SX1_from 37 (i_iload 1 38) := snd_iload_n dX1_from_37 rfl
theorem oX1_from_38 : SX1_from 38 (i_cv 0 138 2 41) := snd_cv rfl infX1_arrival (by decide) rfl (xVm_V dX1_from_38 rfl q1454 q1456 qs49 q127 q1457 pdX1_arrival)
theorem oX1_from_41 : SX1_from 41 (i_const (.int (nI 0)) 42) := snd_iconst dX1_from_41 (by decide)
theorem oX1_from_42 : SX1_from 42 (i_iload 2 43) := snd_iload_n dX1_from_42 rfl
theorem oX1_from_43 : SX1_from 43 (i_cs 92 3 46) := snd_cs rfl infX1_in (by decide) (xSm_S dX1_from_43 q1145 q982 q127 q983 pdX1_in)
theorem oX1_from_46 : SX1_from 46 (i_if1 (fun x => x = 0) 56 49) := snd_if_eq dX1_from_46 (by decide)
theorem oX1_from_49 : SX1_from 49 (i_iload 3 50) := snd_iload_n dX1_from_49 rfl
theorem oX1_from_50 : SX1_from 50 (i_const (.int (nI 1)) 51) := snd_iconst dX1_from_50 (by decide)
theorem oX1_from_51 : SX1_from 51 (i_iload 4 53) := snd_iload dX1_from_51
theorem oX1_from_53 : SX1_from 53 (i_ii (fun x y => x <<< (y &&& 31)) 54) := snd_ishl dX1_from_53
theorem oX1_from_54 : SX1_from 54 (i_ii (fun x y => x ||| y) 55) := snd_ior dX1_from_54
theorem oX1_from_55 : SX1_from 55 (i_istore 3 56) := snd_istore_n dX1_from_55 rfl (by decide)
theorem oX1_from_56 : SX1_from 56 (i_iinc 4 (nI 1) 59) := snd_iinc dX1_from_56 (by decide) (by decide)
theorem oX1_from_59 : SX1_from 59 (i_goto 25) := snd_goto dX1_from_59 (by decide)
theorem oX1_from_62 : SX1_from 62 (i_iload 3 63) := snd_iload_n dX1_from_62 rfl
theorem oX1_from_63 : SX1_from 63 (i_iret) := snd_iret dX1_from_63 rfl
theorem okX1_from : ∀ q ∈ cX1_from, SX1_from q.1 q.2 := List.forall_mem_cons.mpr ⟨oX1_from_0, List.forall_mem_cons.mpr ⟨oX1_from_1, List.forall_mem_cons.mpr ⟨oX1_from_2, List.forall_mem_cons.mpr ⟨oX1_from_5, List.forall_mem_cons.mpr ⟨oX1_from_8, List.forall_mem_cons.mpr ⟨oX1_from_9, List.forall_mem_cons.mpr ⟨oX1_from_10, List.forall_mem_cons.mpr ⟨oX1_from_12, List.forall_mem_cons.mpr ⟨oX1_from_15, List.forall_mem_cons.mpr ⟨oX1_from_18, List.forall_mem_cons.mpr ⟨oX1_from_19, List.forall_mem_cons.mpr ⟨oX1_from_20, List.forall_mem_cons.mpr ⟨oX1_from_21, List.forall_mem_cons.mpr ⟨oX1_from_22, List.forall_mem_cons.mpr ⟨oX1_from_23, List.forall_mem_cons.mpr ⟨oX1_from_25, List.forall_mem_cons.mpr ⟨oX1_from_27, List.forall_mem_cons.mpr ⟨oX1_from_28, List.forall_mem_cons.mpr ⟨oX1_from_31, List.forall_mem_cons.mpr ⟨oX1_from_34, List.forall_mem_cons.mpr ⟨oX1_from_35, List.forall_mem_cons.mpr ⟨oX1_from_37, List.forall_mem_cons.mpr ⟨oX1_from_38, List.forall_mem_cons.mpr ⟨oX1_from_41, List.forall_mem_cons.mpr ⟨oX1_from_42, List.forall_mem_cons.mpr ⟨oX1_from_43, List.forall_mem_cons.mpr ⟨oX1_from_46, List.forall_mem_cons.mpr ⟨oX1_from_49, List.forall_mem_cons.mpr ⟨oX1_from_50, List.forall_mem_cons.mpr ⟨oX1_from_51, List.forall_mem_cons.mpr ⟨oX1_from_53, List.forall_mem_cons.mpr ⟨oX1_from_54, List.forall_mem_cons.mpr ⟨oX1_from_55, List.forall_mem_cons.mpr ⟨oX1_from_56, List.forall_mem_cons.mpr ⟨oX1_from_59, List.forall_mem_cons.mpr ⟨oX1_from_62, List.forall_mem_cons.mpr ⟨oX1_from_63, fun _ h => absurd h List.not_mem_nil⟩⟩⟩⟩⟩⟩⟩⟩⟩⟩⟩⟩⟩⟩⟩⟩⟩⟩⟩⟩⟩⟩⟩⟩⟩⟩⟩⟩⟩⟩⟩⟩⟩⟩⟩⟩⟩
def dkwX1_both_5 : List UInt8 := [167, 255, 198, 2, 172]
abbrev dktX1_both_5 : List UInt8 := dkwX1_both_5 ++ []
def dkwX1_both_4 : List UInt8 := [42, 42, 180, 0, 55, 182, 1, 40, 182, 1, 34, 54, 4, 42, 42, 180, 0, 55, 182, 0, 216, 132, 5, 1]
abbrev dktX1_both_4 : List UInt8 := dkwX1_both_4 ++ dktX1_both_5
def dkwX1_both_3 : List UInt8 := [126, 153, 0, 6, 21, 5, 172, 42, 29, 42, 42, 180, 0, 55, 182, 1, 40, 182, 1, 34, 62, 42, 21, 4]
abbrev dktX1_both_3 : List UInt8 := dkwX1_both_3 ++ dktX1_both_4
def dkwX1_both_2 : List UInt8 := [180, 0, 51, 180, 0, 229, 28, 46, 120, 54, 4, 3, 54, 5, 21, 5, 16, 40, 163, 0, 57, 29, 21, 4]
abbrev dktX1_both_2 : List UInt8 := dkwX1_both_2 ++ dktX1_both_3
def dkwX1_both_1 : List UInt8 := [180, 0, 55, 42, 180, 0, 51, 182, 0, 253, 4, 42, 180, 0, 51, 180, 0, 229, 27, 46, 120, 62, 4, 42]
abbrev dktX1_both_1 : List UInt8 := dkwX1_both_1 ++ dktX1_both_2
def dkwX1_both_0 : List UInt8 := [42, 27, 182, 0, 250, 153, 0, 16, 42, 28, 182, 0, 250, 153, 0, 8, 27, 28, 160, 0, 5, 2, 172, 42]
abbrev dktX1_both_0 : List UInt8 := dkwX1_both_0 ++ dktX1_both_1
theorem dksX1_both_0 : bcX1_both.data.toList.drop 0 = dktX1_both_0 := by decide +kernel
theorem dksX1_both_1 : bcX1_both.data.toList.drop 24 = dktX1_both_1 := dk_seg dksX1_both_0 24 rfl rfl
theorem dksX1_both_2 : bcX1_both.data.toList.drop 48 = dktX1_both_2 := dk_seg dksX1_both_1 24 rfl rfl
theorem dksX1_both_3 : bcX1_both.data.toList.drop 72 = dktX1_both_3 := dk_seg dksX1_both_2 24 rfl rfl
theorem dksX1_both_4 : bcX1_both.data.toList.drop 96 = dktX1_both_4 := dk_seg dksX1_both_3 24 rfl rfl
theorem dksX1_both_5 : bcX1_both.data.toList.drop 120 = dktX1_both_5 := dk_seg dksX1_both_4 24 rfl rfl
theorem dX1_both_0 : decode bcX1_both 0 = .ok (.aload_n 0, 1) := dk_42 (dk_at dksX1_both_0 0 rfl rfl)
theorem dX1_both_1 : decode bcX1_both 1 = .ok (.iload_n 1, 1) := dk_27 (dk_at dksX1_both_0 1 rfl rfl)
theorem dX1_both_2 : decode bcX1_both 2 = .ok (.invokevirtual 250, 3) := dk_182 0 250 (dk_at dksX1_both_0 2 rfl rfl)
theorem dX1_both_5 : decode bcX1_both 5 = .ok (.ifCond .eq 16, 3) := dk_153 0 16 (dk_at dksX1_both_0 5 rfl rfl)
theorem dX1_both_8 : decode bcX1_both 8 = .ok (.aload_n 0, 1) := dk_42 (dk_at dksX1_both_0 8 rfl rfl)
theorem dX1_both_9 : decode bcX1_both 9 = .ok (.iload_n 2, 1) := dk_28 (dk_at dksX1_both_0 9 rfl rfl)
theorem dX1_both_10 : decode bcX1_both 10 = .ok (.invokevirtual 250, 3) := dk_182 0 250 (dk_at dksX1_both_0 10 rfl rfl)
theorem dX1_both_13 : decode bcX1_both 13 = .ok (.ifCond .eq 8, 3) := dk_153 0 8 (dk_at dksX1_both_0 13 rfl rfl)
theorem dX1_both_16 : decode bcX1_both 16 = .ok (.iload_n 1, 1) := dk_27 (dk_at dksX1_both_0 16 rfl rfl)
theorem dX1_both_17 : decode bcX1_both 17 = .ok (.iload_n 2, 1) := dk_28 (dk_at dksX1_both_0 17 rfl rfl)
theorem dX1_both_18 : decode bcX1_both 18 = .ok (.if_icmp .ne 5, 3) := dk_160 0 5 (dk_at dksX1_both_0 18 rfl rfl)
theorem dX1_both_21 : decode bcX1_both 21 = .ok (.iconst (-1), 1) := dk_2 (dk_at dksX1_both_0 21 rfl rfl)
theorem dX1_both_22 : decode bcX1_both 22 = .ok (.ireturn, 1) := dk_172 (dk_at dksX1_both_0 22 rfl rfl)
theorem dX1_both_23 : decode bcX1_both 23 = .ok (.aload_n 0, 1) := dk_42 (dk_at dksX1_both_0 23 rfl rfl)
theorem dX1_both_24 : decode bcX1_both 24 = .ok (.getfield 55, 3) := dk_180 0 55 (dk_at dksX1_both_1 0 rfl rfl)
theorem dX1_both_27 : decode bcX1_both 27 = .ok (.aload_n 0, 1) := dk_42 (dk_at dksX1_both_1 3 rfl rfl)
theorem dX1_both_28 : decode bcX1_both 28 = .ok (.getfield 51, 3) := dk_180 0 51 (dk_at dksX1_both_1 4 rfl rfl)
theorem dX1_both_31 : decode bcX1_both 31 = .ok (.invokevirtual 253, 3) := dk_182 0 253 (dk_at dksX1_both_1 7 rfl rfl)
theorem dX1_both_34 : decode bcX1_both 34 = .ok (.iconst 1, 1) := dk_4 (dk_at dksX1_both_1 10 rfl rfl)
theorem dX1_both_35 : decode bcX1_both 35 = .ok (.aload_n 0, 1) := dk_42 (dk_at dksX1_both_1 11 rfl rfl)
theorem dX1_both_36 : decode bcX1_both 36 = .ok (.getfield 51, 3) := dk_180 0 51 (dk_at dksX1_both_1 12 rfl rfl)
theorem dX1_both_39 : decode bcX1_both 39 = .ok (.getfield 229, 3) := dk_180 0 229 (dk_at dksX1_both_1 15 rfl rfl)
theorem dX1_both_42 : decode bcX1_both 42 = .ok (.iload_n 1, 1) := dk_27 (dk_at dksX1_both_1 18 rfl rfl)
theorem dX1_both_43 : decode bcX1_both 43 = .ok (.iaload, 1) := dk_46 (dk_at dksX1_both_1 19 rfl rfl)
theorem dX1_both_44 : decode bcX1_both 44 = .ok (.ishl, 1) := dk_120 (dk_at dksX1_both_1 20 rfl rfl)
theorem dX1_both_45 : decode bcX1_both 45 = .ok (.istore_n 3, 1) := dk_62 (dk_at dksX1_both_1 21 rfl rfl)
theorem dX1_both_46 : decode bcX1_both 46 = .ok (.iconst 1, 1) := dk_4 (dk_at dksX1_both_1 22 rfl rfl)
theorem dX1_both_47 : decode bcX1_both 47 = .ok (.aload_n 0, 1) := dk_42 (dk_at dksX1_both_1 23 rfl rfl)
theorem dX1_both_48 : decode bcX1_both 48 = .ok (.getfield 51, 3) := dk_180 0 51 (dk_at dksX1_both_2 0 rfl rfl)
theorem dX1_both_51 : decode bcX1_both 51 = .ok (.getfield 229, 3) := dk_180 0 229 (dk_at dksX1_both_2 3 rfl rfl)
theorem dX1_both_54 : decode bcX1_both 54 = .ok (.iload_n 2, 1) := dk_28 (dk_at dksX1_both_2 6 rfl rfl)
theorem dX1_both_55 : decode bcX1_both 55 = .ok (.iaload, 1) := dk_46 (dk_at dksX1_both_2 7 rfl rfl)
theorem dX1_both_56 : decode bcX1_both 56 = .ok (.ishl, 1) := dk_120 (dk_at dksX1_both_2 8 rfl rfl)
theorem dX1_both_57 : decode bcX1_both 57 = .ok (.istore 4, 2) := dk_54 4 (dk_at dksX1_both_2 9 rfl rfl)
theorem dX1_both_59 : decode bcX1_both 59 = .ok (.iconst 0, 1) := dk_3 (dk_at dksX1_both_2 11 rfl rfl)
theorem dX1_both_60 : decode bcX1_both 60 = .ok (.istore 5, 2) := dk_54 5 (dk_at dksX1_both_2 12 rfl rfl)
theorem dX1_both_62 : decode bcX1_both 62 = .ok (.iload 5, 2) := dk_21 5 (dk_at dksX1_both_2 14 rfl rfl)
theorem dX1_both_64 : decode bcX1_both 64 = .ok (.bipush 40, 2) := dk_16 40 (dk_at dksX1_both_2 16 rfl rfl)
theorem dX1_both_66 : decode bcX1_both 66 = .ok (.if_icmp .gt 57, 3) := dk_163 0 57 (dk_at dksX1_both_2 18 rfl rfl)
theorem dX1_both_69 : decode bcX1_both 69 = .ok (.iload_n 3, 1) := dk_29 (dk_at dksX1_both_2 21 rfl rfl)
theorem dX1_both_70 : decode bcX1_both 70 = .ok (.iload 4, 2) := dk_21 4 (dk_at dksX1_both_2 22 rfl rfl)
theorem dX1_both_72 : decode bcX1_both 72 = .ok (.iand, 1) := dk_126 (dk_at dksX1_both_3 0 rfl rfl)
theorem dX1_both_73 : decode bcX1_both 73 = .ok (.ifCond .eq 6, 3) := dk_153 0 6 (dk_at dksX1_both_3 1 rfl rfl)
theorem dX1_both_76 : decode bcX1_both 76 = .ok (.iload 5, 2) := dk_21 5 (dk_at dksX1_both_3 4 rfl rfl)
theorem dX1_both_78 : decode bcX1_both 78 = .ok (.ireturn, 1) := dk_172 (dk_at dksX1_both_3 6 rfl rfl)
theorem dX1_both_79 : decode bcX1_both 79 = .ok (.aload_n 0, 1) := dk_42 (dk_at dksX1_both_3 7 rfl rfl)
theorem dX1_both_80 : decode bcX1_both 80 = .ok (.iload_n 3, 1) := dk_29 (dk_at dksX1_both_3 8 rfl rfl)
theorem dX1_both_81 : decode bcX1_both 81 = .ok (.aload_n 0, 1) := dk_42 (dk_at dksX1_both_3 9 rfl rfl)
theorem dX1_both_82 : decode bcX1_both 82 = .ok (.aload_n 0, 1) := dk_42 (dk_at dksX1_both_3 10 rfl rfl)
theorem dX1_both_83 : decode bcX1_both 83 = .ok (.getfield 55, 3) := dk_180 0 55 (dk_at dksX1_both_3 11 rfl rfl)
theorem dX1_both_86 : decode bcX1_both 86 = .ok (.invokevirtual 296, 3) := dk_182 1 40 (dk_at dksX1_both_3 14 rfl rfl)
theorem dX1_both_89 : decode bcX1_both 89 = .ok (.invokevirtual 290, 3) := dk_182 1 34 (dk_at dksX1_both_3 17 rfl rfl)
theorem dX1_both_92 : decode bcX1_both 92 = .ok (.istore_n 3, 1) := dk_62 (dk_at dksX1_both_3 20 rfl rfl)
theorem dX1_both_93 : decode bcX1_both 93 = .ok (.aload_n 0, 1) := dk_42 (dk_at dksX1_both_3 21 rfl rfl)
theorem dX1_both_94 : decode bcX1_both 94 = .ok (.iload 4, 2) := dk_21 4 (dk_at dksX1_both_3 22 rfl rfl)
theorem dX1_both_96 : decode bcX1_both 96 = .ok (.aload_n 0, 1) := dk_42 (dk_at dksX1_both_4 0 rfl rfl)
theorem dX1_both_97 : decode bcX1_both 97 = .ok (.aload_n 0, 1) := dk_42 (dk_at dksX1_both_4 1 rfl rfl)
theorem dX1_both_98 : decode bcX1_both 98 = .ok (.getfield 55, 3) := dk_180 0 55 (dk_at dksX1_both_4 2 rfl rfl)
theorem dX1_both_101 : decode bcX1_both 101 = .ok (.invokevirtual 296, 3) := dk_182 1 40 (dk_at dksX1_both_4 5 rfl rfl)
theorem dX1_both_104 : decode bcX1_both 104 = .ok (.invokevirtual 290, 3) := dk_182 1 34 (dk_at dksX1_both_4 8 rfl rfl)
theorem dX1_both_107 : decode bcX1_both 107 = .ok (.istore 4, 2) := dk_54 4 (dk_at dksX1_both_4 11 rfl rfl)
theorem dX1_both_109 : decode bcX1_both 109 = .ok (.aload_n 0, 1) := dk_42 (dk_at dksX1_both_4 13 rfl rfl)
theorem dX1_both_110 : decode bcX1_both 110 = .ok (.aload_n 0, 1) := dk_42 (dk_at dksX1_both_4 14 rfl rfl)
theorem dX1_both_111 : decode bcX1_both 111 = .ok (.getfield 55, 3) := dk_180 0 55 (dk_at dksX1_both_4 15 rfl rfl)
theorem dX1_both_114 : decode bcX1_both 114 = .ok (.invokevirtual 216, 3) := dk_182 0 216 (dk_at dksX1_both_4 18 rfl rfl)
theorem dX1_both_117 : decode bcX1_both 117 = .ok (.iinc 5 1, 3) := dk_132 5 1 (dk_at dksX1_both_4 21 rfl rfl)
theorem dX1_both_120 : decode bcX1_both 120 = .ok (.goto (-58), 3) := dk_167 255 198 (dk_at dksX1_both_5 0 rfl rfl)
theorem dX1_both_123 : decode bcX1_both 123 = .ok (.iconst (-1), 1) := dk_2 (dk_at dksX1_both_5 3 rfl rfl)
theorem dX1_both_124 : decode bcX1_both 124 = .ok (.ireturn, 1) := dk_172 (dk_at dksX1_both_5 4 rfl rfl)
abbrev SX1_both (pc : Nat) (i : xI) : Prop := Snd "SwollenHouse" "both" prog_1_method_56_code 6 (Option.some Jvm.ClassFile.FieldType.int) [] pc i
theorem oX1_both_0 : SX1_both 0 (i_aload 0 1) := snd_aload_n dX1_both_0 rfl
theorem oX1_both_1 : SX1_both 1 (i_iload 1 2) := snd_iload_n dX1_both_1 rfl
theorem oX1_both_2 : SX1_both 2 (i_cv 0 100 1 5) := snd_cv rfl infX1_isPerson (by decide) rfl (xVm_V dX1_both_2 rfl q1178 q1180 qs32 q127 q1181 pdX1_isPerson)
theorem oX1_both_5 : SX1_both 5 (i_if1 (fun x => x = 0) 21 8) := snd_if_eq dX1_both_5 (by decide)
theorem oX1_both_8 : SX1_both 8 (i_aload 0 9) := snd_aload_n dX1_both_8 rfl
theorem oX1_both_9 : SX1_both 9 (i_iload 2 10) := snd_iload_n dX1_both_9 rfl
theorem oX1_both_10 : SX1_both 10 (i_cv 0 100 1 13) := snd_cv rfl infX1_isPerson (by decide) rfl (xVm_V dX1_both_10 rfl q1178 q1180 qs32 q127 q1181 pdX1_isPerson)
theorem oX1_both_13 : SX1_both 13 (i_if1 (fun x => x = 0) 21 16) := snd_if_eq dX1_both_13 (by decide)
theorem oX1_both_16 : SX1_both 16 (i_iload 1 17) := snd_iload_n dX1_both_16 rfl
theorem oX1_both_17 : SX1_both 17 (i_iload 2 18) := snd_iload_n dX1_both_17 rfl
theorem oX1_both_18 : SX1_both 18 (i_if2 (fun x y => ¬ x = y) 23 21) := snd_icmp_ne dX1_both_18 (by decide)
theorem oX1_both_21 : SX1_both 21 (i_const (.int (-1)) 22) := snd_iconst dX1_both_21 (by decide)
theorem oX1_both_22 : SX1_both 22 (i_iret) := snd_iret dX1_both_22 rfl
theorem oX1_both_23 : SX1_both 23 (i_aload 0 24) := snd_aload_n dX1_both_23 rfl
theorem oX1_both_24 : SX1_both 24 (i_getf 0 5 27) := snd_getf dX1_both_24 rfl (by decide) in_X1 (Or.inl q351) (Or.inl rfl) (by decide)
theorem oX1_both_27 : SX1_both 27 (i_aload 0 28) := snd_aload_n dX1_both_27 rfl
theorem oX1_both_28 : SX1_both 28 (i_getf 0 4 31) := snd_getf dX1_both_28 rfl (by decide) in_X1 (Or.inl q350) (Or.inl rfl) (by decide)
theorem oX1_both_31 : SX1_both 31 (i_cvv 3 239 1 34) := snd_cvv rfl infX4_be (by decide) rfl (xVm_V dX1_both_31 rfl q1194 q1195 q1196 q133 q1197 pdX4_be)
theorem oX1_both_34 : SX1_both 34 (i_const (.int (nI 1)) 35) := snd_iconst dX1_both_34 (by decide)
theorem oX1_both_35 : SX1_both 35 (i_aload 0 36) := snd_aload_n dX1_both_35 rfl
theorem oX1_both_36 : SX1_both 36 (i_getf 0 4 39) := snd_getf dX1_both_36 rfl (by decide) in_X1 (Or.inl q350) (Or.inl rfl) (by decide)
theorem oX1_both_39 : SX1_both 39 (i_getf 3 2 42) := snd_getf dX1_both_39 rfl (by decide) in_X4 (Or.inr ⟨_, q296⟩) (Or.inl rfl) (by decide)
theorem oX1_both_42 : SX1_both 42 (i_iload 1 43) := snd_iload_n dX1_both_42 rfl
theorem oX1_both_43 : SX1_both 43 (i_ai 0 44) := snd_ai0 dX1_both_43
theorem oX1_both_44 : SX1_both 44 (i_ii (fun x y => x <<< (y &&& 31)) 45) := snd_ishl dX1_both_44
theorem oX1_both_45 : SX1_both 45 (i_istore 3 46) := snd_istore_n dX1_both_45 rfl (by decide)
theorem oX1_both_46 : SX1_both 46 (i_const (.int (nI 1)) 47) := snd_iconst dX1_both_46 (by decide)
theorem oX1_both_47 : SX1_both 47 (i_aload 0 48) := snd_aload_n dX1_both_47 rfl
theorem oX1_both_48 : SX1_both 48 (i_getf 0 4 51) := snd_getf dX1_both_48 rfl (by decide) in_X1 (Or.inl q350) (Or.inl rfl) (by decide)
theorem oX1_both_51 : SX1_both 51 (i_getf 3 2 54) := snd_getf dX1_both_51 rfl (by decide) in_X4 (Or.inr ⟨_, q296⟩) (Or.inl rfl) (by decide)
theorem oX1_both_54 : SX1_both 54 (i_iload 2 55) := snd_iload_n dX1_both_54 rfl
theorem oX1_both_55 : SX1_both 55 (i_ai 0 56) := snd_ai0 dX1_both_55
theorem oX1_both_56 : SX1_both 56 (i_ii (fun x y => x <<< (y &&& 31)) 57) := snd_ishl dX1_both_56
theorem oX1_both_57 : SX1_both 57 (i_istore 4 59) := snd_istore dX1_both_57 (by decide)
theorem oX1_both_59 : SX1_both 59 (i_const (.int (nI 0)) 60) := snd_iconst dX1_both_59 (by decide)
theorem oX1_both_60 : SX1_both 60 (i_istore 5 62) := snd_istore dX1_both_60 (by decide)
theorem oX1_both_62 : SX1_both 62 (i_iload 5 64) := snd_iload dX1_both_62
theorem oX1_both_64 : SX1_both 64 (i_const (.int (nI 40)) 66) := snd_bipush dX1_both_64 (by decide)
theorem oX1_both_66 : SX1_both 66 (i_if2 (fun x y => y < x) 123 69) := snd_icmp_gt dX1_both_66 (by decide)
theorem oX1_both_69 : SX1_both 69 (i_iload 3 70) := snd_iload_n dX1_both_69 rfl
theorem oX1_both_70 : SX1_both 70 (i_iload 4 72) := snd_iload dX1_both_70
theorem oX1_both_72 : SX1_both 72 (i_ii (fun x y => x &&& y) 73) := snd_iand dX1_both_72
theorem oX1_both_73 : SX1_both 73 (i_if1 (fun x => x = 0) 79 76) := snd_if_eq dX1_both_73 (by decide)
theorem oX1_both_76 : SX1_both 76 (i_iload 5 78) := snd_iload dX1_both_76
theorem oX1_both_78 : SX1_both 78 (i_iret) := snd_iret dX1_both_78 rfl
theorem oX1_both_79 : SX1_both 79 (i_aload 0 80) := snd_aload_n dX1_both_79 rfl
theorem oX1_both_80 : SX1_both 80 (i_iload 3 81) := snd_iload_n dX1_both_80 rfl
theorem oX1_both_81 : SX1_both 81 (i_aload 0 82) := snd_aload_n dX1_both_81 rfl
theorem oX1_both_82 : SX1_both 82 (i_aload 0 83) := snd_aload_n dX1_both_82 rfl
theorem oX1_both_83 : SX1_both 83 (i_getf 0 5 86) := snd_getf dX1_both_83 rfl (by decide) in_X1 (Or.inl q351) (Or.inl rfl) (by decide)
theorem oX1_both_86 : SX1_both 86 (i_cv 0 121 1 89) := snd_cv rfl infX1_open (by decide) rfl (xVm_V dX1_both_86 rfl q1385 q1387 qs43 q127 q1388 pdX1_open)
theorem oX1_both_89 : SX1_both 89 (i_cv 0 123 2 92) := snd_cv rfl infX1_next (by decide) rfl (xVm_V dX1_both_89 rfl q1393 q1395 qs45 q127 q1396 pdX1_next)
theorem oX1_both_92 : SX1_both 92 (i_istore 3 93) := snd_istore_n dX1_both_92 rfl (by decide)
theorem oX1_both_93 : SX1_both 93 (i_aload 0 94) := snd_aload_n dX1_both_93 rfl
theorem oX1_both_94 : SX1_both 94 (i_iload 4 96) := snd_iload dX1_both_94
theorem oX1_both_96 : SX1_both 96 (i_aload 0 97) := snd_aload_n dX1_both_96 rfl
theorem oX1_both_97 : SX1_both 97 (i_aload 0 98) := snd_aload_n dX1_both_97 rfl
theorem oX1_both_98 : SX1_both 98 (i_getf 0 5 101) := snd_getf dX1_both_98 rfl (by decide) in_X1 (Or.inl q351) (Or.inl rfl) (by decide)
theorem oX1_both_101 : SX1_both 101 (i_cv 0 121 1 104) := snd_cv rfl infX1_open (by decide) rfl (xVm_V dX1_both_101 rfl q1385 q1387 qs43 q127 q1388 pdX1_open)
theorem oX1_both_104 : SX1_both 104 (i_cv 0 123 2 107) := snd_cv rfl infX1_next (by decide) rfl (xVm_V dX1_both_104 rfl q1393 q1395 qs45 q127 q1396 pdX1_next)
theorem oX1_both_107 : SX1_both 107 (i_istore 4 109) := snd_istore dX1_both_107 (by decide)
theorem oX1_both_109 : SX1_both 109 (i_aload 0 110) := snd_aload_n dX1_both_109 rfl
theorem oX1_both_110 : SX1_both 110 (i_aload 0 111) := snd_aload_n dX1_both_110 rfl
theorem oX1_both_111 : SX1_both 111 (i_getf 0 5 114) := snd_getf dX1_both_111 rfl (by decide) in_X1 (Or.inl q351) (Or.inl rfl) (by decide)
theorem oX1_both_114 : SX1_both 114 (i_cvv 0 104 1 117) := snd_cvv rfl infX1_passes (by decide) rfl (xVm_V dX1_both_114 rfl q1198 q1200 qs35 q127 q1201 pdX1_passes)
theorem oX1_both_117 : SX1_both 117 (i_iinc 5 (nI 1) 120) := snd_iinc dX1_both_117 (by decide) (by decide)
theorem oX1_both_120 : SX1_both 120 (i_goto 62) := snd_goto dX1_both_120 (by decide)
theorem oX1_both_123 : SX1_both 123 (i_const (.int (-1)) 124) := snd_iconst dX1_both_123 (by decide)
theorem oX1_both_124 : SX1_both 124 (i_iret) := snd_iret dX1_both_124 rfl
theorem okX1_both : ∀ q ∈ cX1_both, SX1_both q.1 q.2 := List.forall_mem_cons.mpr ⟨oX1_both_0, List.forall_mem_cons.mpr ⟨oX1_both_1, List.forall_mem_cons.mpr ⟨oX1_both_2, List.forall_mem_cons.mpr ⟨oX1_both_5, List.forall_mem_cons.mpr ⟨oX1_both_8, List.forall_mem_cons.mpr ⟨oX1_both_9, List.forall_mem_cons.mpr ⟨oX1_both_10, List.forall_mem_cons.mpr ⟨oX1_both_13, List.forall_mem_cons.mpr ⟨oX1_both_16, List.forall_mem_cons.mpr ⟨oX1_both_17, List.forall_mem_cons.mpr ⟨oX1_both_18, List.forall_mem_cons.mpr ⟨oX1_both_21, List.forall_mem_cons.mpr ⟨oX1_both_22, List.forall_mem_cons.mpr ⟨oX1_both_23, List.forall_mem_cons.mpr ⟨oX1_both_24, List.forall_mem_cons.mpr ⟨oX1_both_27, List.forall_mem_cons.mpr ⟨oX1_both_28, List.forall_mem_cons.mpr ⟨oX1_both_31, List.forall_mem_cons.mpr ⟨oX1_both_34, List.forall_mem_cons.mpr ⟨oX1_both_35, List.forall_mem_cons.mpr ⟨oX1_both_36, List.forall_mem_cons.mpr ⟨oX1_both_39, List.forall_mem_cons.mpr ⟨oX1_both_42, List.forall_mem_cons.mpr ⟨oX1_both_43, List.forall_mem_cons.mpr ⟨oX1_both_44, List.forall_mem_cons.mpr ⟨oX1_both_45, List.forall_mem_cons.mpr ⟨oX1_both_46, List.forall_mem_cons.mpr ⟨oX1_both_47, List.forall_mem_cons.mpr ⟨oX1_both_48, List.forall_mem_cons.mpr ⟨oX1_both_51, List.forall_mem_cons.mpr ⟨oX1_both_54, List.forall_mem_cons.mpr ⟨oX1_both_55, List.forall_mem_cons.mpr ⟨oX1_both_56, List.forall_mem_cons.mpr ⟨oX1_both_57, List.forall_mem_cons.mpr ⟨oX1_both_59, List.forall_mem_cons.mpr ⟨oX1_both_60, List.forall_mem_cons.mpr ⟨oX1_both_62, List.forall_mem_cons.mpr ⟨oX1_both_64, List.forall_mem_cons.mpr ⟨oX1_both_66, List.forall_mem_cons.mpr ⟨oX1_both_69, List.forall_mem_cons.mpr ⟨oX1_both_70, List.forall_mem_cons.mpr ⟨oX1_both_72, List.forall_mem_cons.mpr ⟨oX1_both_73, List.forall_mem_cons.mpr ⟨oX1_both_76, List.forall_mem_cons.mpr ⟨oX1_both_78, List.forall_mem_cons.mpr ⟨oX1_both_79, List.forall_mem_cons.mpr ⟨oX1_both_80, List.forall_mem_cons.mpr ⟨oX1_both_81, List.forall_mem_cons.mpr ⟨oX1_both_82, List.forall_mem_cons.mpr ⟨oX1_both_83, List.forall_mem_cons.mpr ⟨oX1_both_86, List.forall_mem_cons.mpr ⟨oX1_both_89, List.forall_mem_cons.mpr ⟨oX1_both_92, List.forall_mem_cons.mpr ⟨oX1_both_93, List.forall_mem_cons.mpr ⟨oX1_both_94, List.forall_mem_cons.mpr ⟨oX1_both_96, List.forall_mem_cons.mpr ⟨oX1_both_97, List.forall_mem_cons.mpr ⟨oX1_both_98, List.forall_mem_cons.mpr ⟨oX1_both_101, List.forall_mem_cons.mpr ⟨oX1_both_104, List.forall_mem_cons.mpr ⟨oX1_both_107, List.forall_mem_cons.mpr ⟨oX1_both_109, List.forall_mem_cons.mpr ⟨oX1_both_110, List.forall_mem_cons.mpr ⟨oX1_both_111, List.forall_mem_cons.mpr ⟨oX1_both_114, List.forall_mem_cons.mpr ⟨oX1_both_117, List.forall_mem_cons.mpr ⟨oX1_both_120, List.forall_mem_cons.mpr ⟨oX1_both_123, List.forall_mem_cons.mpr ⟨oX1_both_124, fun _ h => absurd h List.not_mem_nil⟩⟩⟩⟩⟩⟩⟩⟩⟩⟩⟩⟩⟩⟩⟩⟩⟩⟩⟩⟩⟩⟩⟩⟩⟩⟩⟩⟩⟩⟩⟩⟩⟩⟩⟩⟩⟩⟩⟩⟩⟩⟩⟩⟩⟩⟩⟩⟩⟩⟩⟩⟩⟩⟩⟩⟩⟩⟩⟩⟩⟩⟩⟩⟩⟩⟩⟩⟩⟩
def dkwX1_cut_4 : List UInt8 := [184, 1, 30, 154, 0, 6, 21, 5, 62, 132, 5, 1, 167, 255, 191, 29, 172]
abbrev dktX1_cut_4 : List UInt8 := dkwX1_cut_4 ++ []
def dkwX1_cut_3 : List UInt8 := [184, 1, 25, 161, 0, 6, 167, 0, 25, 42, 27, 21, 4, 21, 5, 2, 130, 126, 182, 1, 43, 28]
abbrev dktX1_cut_3 : List UInt8 := dkwX1_cut_3 ++ dktX1_cut_4
def dkwX1_cut_2 : List UInt8 := [162, 0, 60, 21, 5, 21, 4, 2, 130, 126, 154, 0, 44, 29, 155, 0, 18, 21, 5, 184, 1, 25, 29]
abbrev dktX1_cut_2 : List UInt8 := dkwX1_cut_2 ++ dktX1_cut_3
def dkwX1_cut_1 : List UInt8 := [62, 42, 42, 180, 0, 51, 182, 1, 40, 54, 4, 3, 54, 5, 21, 5, 4, 42, 182, 0, 159, 120]
abbrev dktX1_cut_1 : List UInt8 := dkwX1_cut_1 ++ dktX1_cut_2
def dkwX1_cut_0 : List UInt8 := [42, 27, 182, 1, 37, 153, 0, 16, 42, 28, 182, 1, 37, 153, 0, 8, 27, 28, 160, 0, 5, 2, 172, 2]
abbrev dktX1_cut_0 : List UInt8 := dkwX1_cut_0 ++ dktX1_cut_1
theorem dksX1_cut_0 : bcX1_cut.data.toList.drop 0 = dktX1_cut_0 := by decide +kernel
theorem dksX1_cut_1 : bcX1_cut.data.toList.drop 24 = dktX1_cut_1 := dk_seg dksX1_cut_0 24 rfl rfl
theorem dksX1_cut_2 : bcX1_cut.data.toList.drop 46 = dktX1_cut_2 := dk_seg dksX1_cut_1 22 rfl rfl
theorem dksX1_cut_3 : bcX1_cut.data.toList.drop 69 = dktX1_cut_3 := dk_seg dksX1_cut_2 23 rfl rfl
theorem dksX1_cut_4 : bcX1_cut.data.toList.drop 91 = dktX1_cut_4 := dk_seg dksX1_cut_3 22 rfl rfl
theorem dX1_cut_0 : decode bcX1_cut 0 = .ok (.aload_n 0, 1) := dk_42 (dk_at dksX1_cut_0 0 rfl rfl)
theorem dX1_cut_1 : decode bcX1_cut 1 = .ok (.iload_n 1, 1) := dk_27 (dk_at dksX1_cut_0 1 rfl rfl)
theorem dX1_cut_2 : decode bcX1_cut 2 = .ok (.invokevirtual 293, 3) := dk_182 1 37 (dk_at dksX1_cut_0 2 rfl rfl)
theorem dX1_cut_5 : decode bcX1_cut 5 = .ok (.ifCond .eq 16, 3) := dk_153 0 16 (dk_at dksX1_cut_0 5 rfl rfl)
theorem dX1_cut_8 : decode bcX1_cut 8 = .ok (.aload_n 0, 1) := dk_42 (dk_at dksX1_cut_0 8 rfl rfl)
theorem dX1_cut_9 : decode bcX1_cut 9 = .ok (.iload_n 2, 1) := dk_28 (dk_at dksX1_cut_0 9 rfl rfl)
theorem dX1_cut_10 : decode bcX1_cut 10 = .ok (.invokevirtual 293, 3) := dk_182 1 37 (dk_at dksX1_cut_0 10 rfl rfl)
theorem dX1_cut_13 : decode bcX1_cut 13 = .ok (.ifCond .eq 8, 3) := dk_153 0 8 (dk_at dksX1_cut_0 13 rfl rfl)
theorem dX1_cut_16 : decode bcX1_cut 16 = .ok (.iload_n 1, 1) := dk_27 (dk_at dksX1_cut_0 16 rfl rfl)
theorem dX1_cut_17 : decode bcX1_cut 17 = .ok (.iload_n 2, 1) := dk_28 (dk_at dksX1_cut_0 17 rfl rfl)
theorem dX1_cut_18 : decode bcX1_cut 18 = .ok (.if_icmp .ne 5, 3) := dk_160 0 5 (dk_at dksX1_cut_0 18 rfl rfl)
theorem dX1_cut_21 : decode bcX1_cut 21 = .ok (.iconst (-1), 1) := dk_2 (dk_at dksX1_cut_0 21 rfl rfl)
theorem dX1_cut_22 : decode bcX1_cut 22 = .ok (.ireturn, 1) := dk_172 (dk_at dksX1_cut_0 22 rfl rfl)
theorem dX1_cut_23 : decode bcX1_cut 23 = .ok (.iconst (-1), 1) := dk_2 (dk_at dksX1_cut_0 23 rfl rfl)
theorem dX1_cut_24 : decode bcX1_cut 24 = .ok (.istore_n 3, 1) := dk_62 (dk_at dksX1_cut_1 0 rfl rfl)
theorem dX1_cut_25 : decode bcX1_cut 25 = .ok (.aload_n 0, 1) := dk_42 (dk_at dksX1_cut_1 1 rfl rfl)
theorem dX1_cut_26 : decode bcX1_cut 26 = .ok (.aload_n 0, 1) := dk_42 (dk_at dksX1_cut_1 2 rfl rfl)
theorem dX1_cut_27 : decode bcX1_cut 27 = .ok (.getfield 51, 3) := dk_180 0 51 (dk_at dksX1_cut_1 3 rfl rfl)
theorem dX1_cut_30 : decode bcX1_cut 30 = .ok (.invokevirtual 296, 3) := dk_182 1 40 (dk_at dksX1_cut_1 6 rfl rfl)
theorem dX1_cut_33 : decode bcX1_cut 33 = .ok (.istore 4, 2) := dk_54 4 (dk_at dksX1_cut_1 9 rfl rfl)
theorem dX1_cut_35 : decode bcX1_cut 35 = .ok (.iconst 0, 1) := dk_3 (dk_at dksX1_cut_1 11 rfl rfl)
theorem dX1_cut_36 : decode bcX1_cut 36 = .ok (.istore 5, 2) := dk_54 5 (dk_at dksX1_cut_1 12 rfl rfl)
theorem dX1_cut_38 : decode bcX1_cut 38 = .ok (.iload 5, 2) := dk_21 5 (dk_at dksX1_cut_1 14 rfl rfl)
theorem dX1_cut_40 : decode bcX1_cut 40 = .ok (.iconst 1, 1) := dk_4 (dk_at dksX1_cut_1 16 rfl rfl)
theorem dX1_cut_41 : decode bcX1_cut 41 = .ok (.aload_n 0, 1) := dk_42 (dk_at dksX1_cut_1 17 rfl rfl)
theorem dX1_cut_42 : decode bcX1_cut 42 = .ok (.invokevirtual 159, 3) := dk_182 0 159 (dk_at dksX1_cut_1 18 rfl rfl)
theorem dX1_cut_45 : decode bcX1_cut 45 = .ok (.ishl, 1) := dk_120 (dk_at dksX1_cut_1 21 rfl rfl)
theorem dX1_cut_46 : decode bcX1_cut 46 = .ok (.if_icmp .ge 60, 3) := dk_162 0 60 (dk_at dksX1_cut_2 0 rfl rfl)
theorem dX1_cut_49 : decode bcX1_cut 49 = .ok (.iload 5, 2) := dk_21 5 (dk_at dksX1_cut_2 3 rfl rfl)
theorem dX1_cut_51 : decode bcX1_cut 51 = .ok (.iload 4, 2) := dk_21 4 (dk_at dksX1_cut_2 5 rfl rfl)
theorem dX1_cut_53 : decode bcX1_cut 53 = .ok (.iconst (-1), 1) := dk_2 (dk_at dksX1_cut_2 7 rfl rfl)
theorem dX1_cut_54 : decode bcX1_cut 54 = .ok (.ixor, 1) := dk_130 (dk_at dksX1_cut_2 8 rfl rfl)
theorem dX1_cut_55 : decode bcX1_cut 55 = .ok (.iand, 1) := dk_126 (dk_at dksX1_cut_2 9 rfl rfl)
theorem dX1_cut_56 : decode bcX1_cut 56 = .ok (.ifCond .ne 44, 3) := dk_154 0 44 (dk_at dksX1_cut_2 10 rfl rfl)
theorem dX1_cut_59 : decode bcX1_cut 59 = .ok (.iload_n 3, 1) := dk_29 (dk_at dksX1_cut_2 13 rfl rfl)
theorem dX1_cut_60 : decode bcX1_cut 60 = .ok (.ifCond .lt 18, 3) := dk_155 0 18 (dk_at dksX1_cut_2 14 rfl rfl)
theorem dX1_cut_63 : decode bcX1_cut 63 = .ok (.iload 5, 2) := dk_21 5 (dk_at dksX1_cut_2 17 rfl rfl)
theorem dX1_cut_65 : decode bcX1_cut 65 = .ok (.invokestatic 281, 3) := dk_184 1 25 (dk_at dksX1_cut_2 19 rfl rfl)
theorem dX1_cut_68 : decode bcX1_cut 68 = .ok (.iload_n 3, 1) := dk_29 (dk_at dksX1_cut_2 22 rfl rfl)
theorem dX1_cut_69 : decode bcX1_cut 69 = .ok (.invokestatic 281, 3) := dk_184 1 25 (dk_at dksX1_cut_3 0 rfl rfl)
theorem dX1_cut_72 : decode bcX1_cut 72 = .ok (.if_icmp .lt 6, 3) := dk_161 0 6 (dk_at dksX1_cut_3 3 rfl rfl)
theorem dX1_cut_75 : decode bcX1_cut 75 = .ok (.goto 25, 3) := dk_167 0 25 (dk_at dksX1_cut_3 6 rfl rfl)
theorem dX1_cut_78 : decode bcX1_cut 78 = .ok (.aload_n 0, 1) := dk_42 (dk_at dksX1_cut_3 9 rfl rfl)
theorem dX1_cut_79 : decode bcX1_cut 79 = .ok (.iload_n 1, 1) := dk_27 (dk_at dksX1_cut_3 10 rfl rfl)
theorem dX1_cut_80 : decode bcX1_cut 80 = .ok (.iload 4, 2) := dk_21 4 (dk_at dksX1_cut_3 11 rfl rfl)
theorem dX1_cut_82 : decode bcX1_cut 82 = .ok (.iload 5, 2) := dk_21 5 (dk_at dksX1_cut_3 13 rfl rfl)
theorem dX1_cut_84 : decode bcX1_cut 84 = .ok (.iconst (-1), 1) := dk_2 (dk_at dksX1_cut_3 15 rfl rfl)
theorem dX1_cut_85 : decode bcX1_cut 85 = .ok (.ixor, 1) := dk_130 (dk_at dksX1_cut_3 16 rfl rfl)
theorem dX1_cut_86 : decode bcX1_cut 86 = .ok (.iand, 1) := dk_126 (dk_at dksX1_cut_3 17 rfl rfl)
theorem dX1_cut_87 : decode bcX1_cut 87 = .ok (.invokevirtual 299, 3) := dk_182 1 43 (dk_at dksX1_cut_3 18 rfl rfl)
theorem dX1_cut_90 : decode bcX1_cut 90 = .ok (.iload_n 2, 1) := dk_28 (dk_at dksX1_cut_3 21 rfl rfl)
theorem dX1_cut_91 : decode bcX1_cut 91 = .ok (.invokestatic 286, 3) := dk_184 1 30 (dk_at dksX1_cut_4 0 rfl rfl)
theorem dX1_cut_94 : decode bcX1_cut 94 = .ok (.ifCond .ne 6, 3) := dk_154 0 6 (dk_at dksX1_cut_4 3 rfl rfl)
theorem dX1_cut_97 : decode bcX1_cut 97 = .ok (.iload 5, 2) := dk_21 5 (dk_at dksX1_cut_4 6 rfl rfl)
theorem dX1_cut_99 : decode bcX1_cut 99 = .ok (.istore_n 3, 1) := dk_62 (dk_at dksX1_cut_4 8 rfl rfl)
theorem dX1_cut_100 : decode bcX1_cut 100 = .ok (.iinc 5 1, 3) := dk_132 5 1 (dk_at dksX1_cut_4 9 rfl rfl)
theorem dX1_cut_103 : decode bcX1_cut 103 = .ok (.goto (-65), 3) := dk_167 255 191 (dk_at dksX1_cut_4 12 rfl rfl)
theorem dX1_cut_106 : decode bcX1_cut 106 = .ok (.iload_n 3, 1) := dk_29 (dk_at dksX1_cut_4 15 rfl rfl)
theorem dX1_cut_107 : decode bcX1_cut 107 = .ok (.ireturn, 1) := dk_172 (dk_at dksX1_cut_4 16 rfl rfl)
abbrev SX1_cut (pc : Nat) (i : xI) : Prop := Snd "SwollenHouse" "cut" prog_1_method_57_code 6 (Option.some Jvm.ClassFile.FieldType.int) [] pc i
theorem oX1_cut_0 : SX1_cut 0 (i_aload 0 1) := snd_aload_n dX1_cut_0 rfl
theorem oX1_cut_1 : SX1_cut 1 (i_iload 1 2) := snd_iload_n dX1_cut_1 rfl
theorem oX1_cut_2 : SX1_cut 2 (i_cv 0 119 1 5) := snd_cv rfl infX1_isRoom (by decide) rfl (xVm_V dX1_cut_2 rfl q1377 q1379 qs41 q127 q1380 pdX1_isRoom)
theorem oX1_cut_5 : SX1_cut 5 (i_if1 (fun x => x = 0) 21 8) := snd_if_eq dX1_cut_5 (by decide)
theorem oX1_cut_8 : SX1_cut 8 (i_aload 0 9) := snd_aload_n dX1_cut_8 rfl
theorem oX1_cut_9 : SX1_cut 9 (i_iload 2 10) := snd_iload_n dX1_cut_9 rfl
theorem oX1_cut_10 : SX1_cut 10 (i_cv 0 119 1 13) := snd_cv rfl infX1_isRoom (by decide) rfl (xVm_V dX1_cut_10 rfl q1377 q1379 qs41 q127 q1380 pdX1_isRoom)
theorem oX1_cut_13 : SX1_cut 13 (i_if1 (fun x => x = 0) 21 16) := snd_if_eq dX1_cut_13 (by decide)
theorem oX1_cut_16 : SX1_cut 16 (i_iload 1 17) := snd_iload_n dX1_cut_16 rfl
theorem oX1_cut_17 : SX1_cut 17 (i_iload 2 18) := snd_iload_n dX1_cut_17 rfl
theorem oX1_cut_18 : SX1_cut 18 (i_if2 (fun x y => ¬ x = y) 23 21) := snd_icmp_ne dX1_cut_18 (by decide)
theorem oX1_cut_21 : SX1_cut 21 (i_const (.int (-1)) 22) := snd_iconst dX1_cut_21 (by decide)
theorem oX1_cut_22 : SX1_cut 22 (i_iret) := snd_iret dX1_cut_22 rfl
theorem oX1_cut_23 : SX1_cut 23 (i_const (.int (-1)) 24) := snd_iconst dX1_cut_23 (by decide)
theorem oX1_cut_24 : SX1_cut 24 (i_istore 3 25) := snd_istore_n dX1_cut_24 rfl (by decide)
theorem oX1_cut_25 : SX1_cut 25 (i_aload 0 26) := snd_aload_n dX1_cut_25 rfl
theorem oX1_cut_26 : SX1_cut 26 (i_aload 0 27) := snd_aload_n dX1_cut_26 rfl
theorem oX1_cut_27 : SX1_cut 27 (i_getf 0 4 30) := snd_getf dX1_cut_27 rfl (by decide) in_X1 (Or.inl q350) (Or.inl rfl) (by decide)
theorem oX1_cut_30 : SX1_cut 30 (i_cv 0 121 1 33) := snd_cv rfl infX1_open (by decide) rfl (xVm_V dX1_cut_30 rfl q1385 q1387 qs43 q127 q1388 pdX1_open)
theorem oX1_cut_33 : SX1_cut 33 (i_istore 4 35) := snd_istore dX1_cut_33 (by decide)
theorem oX1_cut_35 : SX1_cut 35 (i_const (.int (nI 0)) 36) := snd_iconst dX1_cut_35 (by decide)
theorem oX1_cut_36 : SX1_cut 36 (i_istore 5 38) := snd_istore dX1_cut_36 (by decide)
theorem oX1_cut_38 : SX1_cut 38 (i_iload 5 40) := snd_iload dX1_cut_38
theorem oX1_cut_40 : SX1_cut 40 (i_const (.int (nI 1)) 41) := snd_iconst dX1_cut_40 (by decide)
theorem oX1_cut_41 : SX1_cut 41 (i_aload 0 42) := snd_aload_n dX1_cut_41 rfl
theorem oX1_cut_42 : SX1_cut 42 (i_cv 0 96 0 45) := snd_cv rfl infX1_doors (by decide) rfl (xVm_V dX1_cut_42 rfl q1140 q1142 qs30 q127 q1143 pdX1_doors)
theorem oX1_cut_45 : SX1_cut 45 (i_ii (fun x y => x <<< (y &&& 31)) 46) := snd_ishl dX1_cut_45
theorem oX1_cut_46 : SX1_cut 46 (i_if2 (fun x y => y ≤ x) 106 49) := snd_icmp_ge dX1_cut_46 (by decide)
theorem oX1_cut_49 : SX1_cut 49 (i_iload 5 51) := snd_iload dX1_cut_49
theorem oX1_cut_51 : SX1_cut 51 (i_iload 4 53) := snd_iload dX1_cut_51
theorem oX1_cut_53 : SX1_cut 53 (i_const (.int (-1)) 54) := snd_iconst dX1_cut_53 (by decide)
theorem oX1_cut_54 : SX1_cut 54 (i_ii (fun x y => x ^^^ y) 55) := snd_ixor dX1_cut_54
theorem oX1_cut_55 : SX1_cut 55 (i_ii (fun x y => x &&& y) 56) := snd_iand dX1_cut_55
theorem oX1_cut_56 : SX1_cut 56 (i_if1 (fun x => ¬ x = 0) 100 59) := snd_if_ne dX1_cut_56 (by decide)
theorem oX1_cut_59 : SX1_cut 59 (i_iload 3 60) := snd_iload_n dX1_cut_59 rfl
theorem oX1_cut_60 : SX1_cut 60 (i_if1 (fun x => x < 0) 78 63) := snd_if_lt dX1_cut_60 (by decide)
theorem oX1_cut_63 : SX1_cut 63 (i_iload 5 65) := snd_iload dX1_cut_63
theorem oX1_cut_65 : SX1_cut 65 (i_cs 28 1 68) := snd_cs rfl infJ17_bitCount (by decide) (xSm_S dX1_cut_65 q1363 q1364 q168 q1365 pdJ17_bitCount)
theorem oX1_cut_68 : SX1_cut 68 (i_iload 3 69) := snd_iload_n dX1_cut_68 rfl
theorem oX1_cut_69 : SX1_cut 69 (i_cs 28 1 72) := snd_cs rfl infJ17_bitCount (by decide) (xSm_S dX1_cut_69 q1363 q1364 q168 q1365 pdJ17_bitCount)
theorem oX1_cut_72 : SX1_cut 72 (i_if2 (fun x y => x < y) 78 75) := snd_icmp_lt dX1_cut_72 (by decide)
theorem oX1_cut_75 : SX1_cut 75 (i_goto 100) := snd_goto dX1_cut_75 (by decide)
theorem oX1_cut_78 : SX1_cut 78 (i_aload 0 79) := snd_aload_n dX1_cut_78 rfl
theorem oX1_cut_79 : SX1_cut 79 (i_iload 1 80) := snd_iload_n dX1_cut_79 rfl
theorem oX1_cut_80 : SX1_cut 80 (i_iload 4 82) := snd_iload dX1_cut_80
theorem oX1_cut_82 : SX1_cut 82 (i_iload 5 84) := snd_iload dX1_cut_82
theorem oX1_cut_84 : SX1_cut 84 (i_const (.int (-1)) 85) := snd_iconst dX1_cut_84 (by decide)
theorem oX1_cut_85 : SX1_cut 85 (i_ii (fun x y => x ^^^ y) 86) := snd_ixor dX1_cut_85
theorem oX1_cut_86 : SX1_cut 86 (i_ii (fun x y => x &&& y) 87) := snd_iand dX1_cut_86
theorem oX1_cut_87 : SX1_cut 87 (i_cv 0 122 2 90) := snd_cv rfl infX1_range_2 (by decide) rfl (xVm_V dX1_cut_87 rfl q1389 q1391 qs44 q127 q1392 pdX1_range_2)
theorem oX1_cut_90 : SX1_cut 90 (i_iload 2 91) := snd_iload_n dX1_cut_90 rfl
theorem oX1_cut_91 : SX1_cut 91 (i_cs 98 2 94) := snd_cs rfl infX1_isIn (by decide) (xSm_S dX1_cut_91 q1397 q1172 q127 q1173 pdX1_isIn)
theorem oX1_cut_94 : SX1_cut 94 (i_if1 (fun x => ¬ x = 0) 100 97) := snd_if_ne dX1_cut_94 (by decide)
theorem oX1_cut_97 : SX1_cut 97 (i_iload 5 99) := snd_iload dX1_cut_97
theorem oX1_cut_99 : SX1_cut 99 (i_istore 3 100) := snd_istore_n dX1_cut_99 rfl (by decide)
theorem oX1_cut_100 : SX1_cut 100 (i_iinc 5 (nI 1) 103) := snd_iinc dX1_cut_100 (by decide) (by decide)
theorem oX1_cut_103 : SX1_cut 103 (i_goto 38) := snd_goto dX1_cut_103 (by decide)
theorem oX1_cut_106 : SX1_cut 106 (i_iload 3 107) := snd_iload_n dX1_cut_106 rfl
theorem oX1_cut_107 : SX1_cut 107 (i_iret) := snd_iret dX1_cut_107 rfl
theorem okX1_cut : ∀ q ∈ cX1_cut, SX1_cut q.1 q.2 := List.forall_mem_cons.mpr ⟨oX1_cut_0, List.forall_mem_cons.mpr ⟨oX1_cut_1, List.forall_mem_cons.mpr ⟨oX1_cut_2, List.forall_mem_cons.mpr ⟨oX1_cut_5, List.forall_mem_cons.mpr ⟨oX1_cut_8, List.forall_mem_cons.mpr ⟨oX1_cut_9, List.forall_mem_cons.mpr ⟨oX1_cut_10, List.forall_mem_cons.mpr ⟨oX1_cut_13, List.forall_mem_cons.mpr ⟨oX1_cut_16, List.forall_mem_cons.mpr ⟨oX1_cut_17, List.forall_mem_cons.mpr ⟨oX1_cut_18, List.forall_mem_cons.mpr ⟨oX1_cut_21, List.forall_mem_cons.mpr ⟨oX1_cut_22, List.forall_mem_cons.mpr ⟨oX1_cut_23, List.forall_mem_cons.mpr ⟨oX1_cut_24, List.forall_mem_cons.mpr ⟨oX1_cut_25, List.forall_mem_cons.mpr ⟨oX1_cut_26, List.forall_mem_cons.mpr ⟨oX1_cut_27, List.forall_mem_cons.mpr ⟨oX1_cut_30, List.forall_mem_cons.mpr ⟨oX1_cut_33, List.forall_mem_cons.mpr ⟨oX1_cut_35, List.forall_mem_cons.mpr ⟨oX1_cut_36, List.forall_mem_cons.mpr ⟨oX1_cut_38, List.forall_mem_cons.mpr ⟨oX1_cut_40, List.forall_mem_cons.mpr ⟨oX1_cut_41, List.forall_mem_cons.mpr ⟨oX1_cut_42, List.forall_mem_cons.mpr ⟨oX1_cut_45, List.forall_mem_cons.mpr ⟨oX1_cut_46, List.forall_mem_cons.mpr ⟨oX1_cut_49, List.forall_mem_cons.mpr ⟨oX1_cut_51, List.forall_mem_cons.mpr ⟨oX1_cut_53, List.forall_mem_cons.mpr ⟨oX1_cut_54, List.forall_mem_cons.mpr ⟨oX1_cut_55, List.forall_mem_cons.mpr ⟨oX1_cut_56, List.forall_mem_cons.mpr ⟨oX1_cut_59, List.forall_mem_cons.mpr ⟨oX1_cut_60, List.forall_mem_cons.mpr ⟨oX1_cut_63, List.forall_mem_cons.mpr ⟨oX1_cut_65, List.forall_mem_cons.mpr ⟨oX1_cut_68, List.forall_mem_cons.mpr ⟨oX1_cut_69, List.forall_mem_cons.mpr ⟨oX1_cut_72, List.forall_mem_cons.mpr ⟨oX1_cut_75, List.forall_mem_cons.mpr ⟨oX1_cut_78, List.forall_mem_cons.mpr ⟨oX1_cut_79, List.forall_mem_cons.mpr ⟨oX1_cut_80, List.forall_mem_cons.mpr ⟨oX1_cut_82, List.forall_mem_cons.mpr ⟨oX1_cut_84, List.forall_mem_cons.mpr ⟨oX1_cut_85, List.forall_mem_cons.mpr ⟨oX1_cut_86, List.forall_mem_cons.mpr ⟨oX1_cut_87, List.forall_mem_cons.mpr ⟨oX1_cut_90, List.forall_mem_cons.mpr ⟨oX1_cut_91, List.forall_mem_cons.mpr ⟨oX1_cut_94, List.forall_mem_cons.mpr ⟨oX1_cut_97, List.forall_mem_cons.mpr ⟨oX1_cut_99, List.forall_mem_cons.mpr ⟨oX1_cut_100, List.forall_mem_cons.mpr ⟨oX1_cut_103, List.forall_mem_cons.mpr ⟨oX1_cut_106, List.forall_mem_cons.mpr ⟨oX1_cut_107, fun _ h => absurd h List.not_mem_nil⟩⟩⟩⟩⟩⟩⟩⟩⟩⟩⟩⟩⟩⟩⟩⟩⟩⟩⟩⟩⟩⟩⟩⟩⟩⟩⟩⟩⟩⟩⟩⟩⟩⟩⟩⟩⟩⟩⟩⟩⟩⟩⟩⟩⟩⟩⟩⟩⟩⟩⟩⟩⟩⟩⟩⟩⟩⟩⟩
def dkwX1_planed_3 : List UInt8 := [167, 0, 5, 16, 254, 172, 132, 3, 1, 167, 255, 200, 16, 254, 172]
abbrev dktX1_planed_3 : List UInt8 := dkwX1_planed_3 ++ []
def dkwX1_planed_2 : List UInt8 := [153, 0, 29, 28, 2, 160, 0, 7, 29, 167, 0, 19, 28, 29, 162, 0, 12, 42, 180, 0, 66, 28, 46]
abbrev dktX1_planed_2 : List UInt8 := dkwX1_planed_2 ++ dktX1_planed_3
def dkwX1_planed_1 : List UInt8 := [29, 6, 163, 0, 57, 42, 180, 0, 69, 42, 180, 0, 51, 182, 0, 253, 42, 3, 3, 29, 27, 182, 1, 63]
abbrev dktX1_planed_1 : List UInt8 := dkwX1_planed_1 ++ dktX1_planed_2
def dkwX1_planed_0 : List UInt8 := [27, 3, 16, 30, 184, 0, 155, 153, 0, 12, 28, 2, 5, 184, 0, 155, 154, 0, 6, 16, 254, 172, 3, 62]
abbrev dktX1_planed_0 : List UInt8 := dkwX1_planed_0 ++ dktX1_planed_1
theorem dksX1_planed_0 : bcX1_planed.data.toList.drop 0 = dktX1_planed_0 := by decide +kernel
theorem dksX1_planed_1 : bcX1_planed.data.toList.drop 24 = dktX1_planed_1 := dk_seg dksX1_planed_0 24 rfl rfl
theorem dksX1_planed_2 : bcX1_planed.data.toList.drop 48 = dktX1_planed_2 := dk_seg dksX1_planed_1 24 rfl rfl
theorem dksX1_planed_3 : bcX1_planed.data.toList.drop 71 = dktX1_planed_3 := dk_seg dksX1_planed_2 23 rfl rfl
theorem dX1_planed_0 : decode bcX1_planed 0 = .ok (.iload_n 1, 1) := dk_27 (dk_at dksX1_planed_0 0 rfl rfl)
theorem dX1_planed_1 : decode bcX1_planed 1 = .ok (.iconst 0, 1) := dk_3 (dk_at dksX1_planed_0 1 rfl rfl)
theorem dX1_planed_2 : decode bcX1_planed 2 = .ok (.bipush 30, 2) := dk_16 30 (dk_at dksX1_planed_0 2 rfl rfl)
theorem dX1_planed_4 : decode bcX1_planed 4 = .ok (.invokestatic 155, 3) := dk_184 0 155 (dk_at dksX1_planed_0 4 rfl rfl)
theorem dX1_planed_7 : decode bcX1_planed 7 = .ok (.ifCond .eq 12, 3) := dk_153 0 12 (dk_at dksX1_planed_0 7 rfl rfl)
theorem dX1_planed_10 : decode bcX1_planed 10 = .ok (.iload_n 2, 1) := dk_28 (dk_at dksX1_planed_0 10 rfl rfl)
theorem dX1_planed_11 : decode bcX1_planed 11 = .ok (.iconst (-1), 1) := dk_2 (dk_at dksX1_planed_0 11 rfl rfl)
theorem dX1_planed_12 : decode bcX1_planed 12 = .ok (.iconst 2, 1) := dk_5 (dk_at dksX1_planed_0 12 rfl rfl)
theorem dX1_planed_13 : decode bcX1_planed 13 = .ok (.invokestatic 155, 3) := dk_184 0 155 (dk_at dksX1_planed_0 13 rfl rfl)
theorem dX1_planed_16 : decode bcX1_planed 16 = .ok (.ifCond .ne 6, 3) := dk_154 0 6 (dk_at dksX1_planed_0 16 rfl rfl)
theorem dX1_planed_19 : decode bcX1_planed 19 = .ok (.bipush (-2), 2) := dk_16 254 (dk_at dksX1_planed_0 19 rfl rfl)
theorem dX1_planed_21 : decode bcX1_planed 21 = .ok (.ireturn, 1) := dk_172 (dk_at dksX1_planed_0 21 rfl rfl)
theorem dX1_planed_22 : decode bcX1_planed 22 = .ok (.iconst 0, 1) := dk_3 (dk_at dksX1_planed_0 22 rfl rfl)
theorem dX1_planed_23 : decode bcX1_planed 23 = .ok (.istore_n 3, 1) := dk_62 (dk_at dksX1_planed_0 23 rfl rfl)
theorem dX1_planed_24 : decode bcX1_planed 24 = .ok (.iload_n 3, 1) := dk_29 (dk_at dksX1_planed_1 0 rfl rfl)
theorem dX1_planed_25 : decode bcX1_planed 25 = .ok (.iconst 3, 1) := dk_6 (dk_at dksX1_planed_1 1 rfl rfl)
theorem dX1_planed_26 : decode bcX1_planed 26 = .ok (.if_icmp .gt 57, 3) := dk_163 0 57 (dk_at dksX1_planed_1 2 rfl rfl)
theorem dX1_planed_29 : decode bcX1_planed 29 = .ok (.aload_n 0, 1) := dk_42 (dk_at dksX1_planed_1 5 rfl rfl)
theorem dX1_planed_30 : decode bcX1_planed 30 = .ok (.getfield 69, 3) := dk_180 0 69 (dk_at dksX1_planed_1 6 rfl rfl)
theorem dX1_planed_33 : decode bcX1_planed 33 = .ok (.aload_n 0, 1) := dk_42 (dk_at dksX1_planed_1 9 rfl rfl)
theorem dX1_planed_34 : decode bcX1_planed 34 = .ok (.getfield 51, 3) := dk_180 0 51 (dk_at dksX1_planed_1 10 rfl rfl)
theorem dX1_planed_37 : decode bcX1_planed 37 = .ok (.invokevirtual 253, 3) := dk_182 0 253 (dk_at dksX1_planed_1 13 rfl rfl)
theorem dX1_planed_40 : decode bcX1_planed 40 = .ok (.aload_n 0, 1) := dk_42 (dk_at dksX1_planed_1 16 rfl rfl)
theorem dX1_planed_41 : decode bcX1_planed 41 = .ok (.iconst 0, 1) := dk_3 (dk_at dksX1_planed_1 17 rfl rfl)
theorem dX1_planed_42 : decode bcX1_planed 42 = .ok (.iconst 0, 1) := dk_3 (dk_at dksX1_planed_1 18 rfl rfl)
theorem dX1_planed_43 : decode bcX1_planed 43 = .ok (.iload_n 3, 1) := dk_29 (dk_at dksX1_planed_1 19 rfl rfl)
theorem dX1_planed_44 : decode bcX1_planed 44 = .ok (.iload_n 1, 1) := dk_27 (dk_at dksX1_planed_1 20 rfl rfl)
theorem dX1_planed_45 : decode bcX1_planed 45 = .ok (.invokevirtual 319, 3) := dk_182 1 63 (dk_at dksX1_planed_1 21 rfl rfl)
theorem dX1_planed_48 : decode bcX1_planed 48 = .ok (.ifCond .eq 29, 3) := dk_153 0 29 (dk_at dksX1_planed_2 0 rfl rfl)
theorem dX1_planed_51 : decode bcX1_planed 51 = .ok (.iload_n 2, 1) := dk_28 (dk_at dksX1_planed_2 3 rfl rfl)
theorem dX1_planed_52 : decode bcX1_planed 52 = .ok (.iconst (-1), 1) := dk_2 (dk_at dksX1_planed_2 4 rfl rfl)
theorem dX1_planed_53 : decode bcX1_planed 53 = .ok (.if_icmp .ne 7, 3) := dk_160 0 7 (dk_at dksX1_planed_2 5 rfl rfl)
theorem dX1_planed_56 : decode bcX1_planed 56 = .ok (.iload_n 3, 1) := dk_29 (dk_at dksX1_planed_2 8 rfl rfl)
theorem dX1_planed_57 : decode bcX1_planed 57 = .ok (.goto 19, 3) := dk_167 0 19 (dk_at dksX1_planed_2 9 rfl rfl)
theorem dX1_planed_60 : decode bcX1_planed 60 = .ok (.iload_n 2, 1) := dk_28 (dk_at dksX1_planed_2 12 rfl rfl)
theorem dX1_planed_61 : decode bcX1_planed 61 = .ok (.iload_n 3, 1) := dk_29 (dk_at dksX1_planed_2 13 rfl rfl)
theorem dX1_planed_62 : decode bcX1_planed 62 = .ok (.if_icmp .ge 12, 3) := dk_162 0 12 (dk_at dksX1_planed_2 14 rfl rfl)
theorem dX1_planed_65 : decode bcX1_planed 65 = .ok (.aload_n 0, 1) := dk_42 (dk_at dksX1_planed_2 17 rfl rfl)
theorem dX1_planed_66 : decode bcX1_planed 66 = .ok (.getfield 66, 3) := dk_180 0 66 (dk_at dksX1_planed_2 18 rfl rfl)
theorem dX1_planed_69 : decode bcX1_planed 69 = .ok (.iload_n 2, 1) := dk_28 (dk_at dksX1_planed_2 21 rfl rfl)
theorem dX1_planed_70 : decode bcX1_planed 70 = .ok (.iaload, 1) := dk_46 (dk_at dksX1_planed_2 22 rfl rfl)
theorem dX1_planed_71 : decode bcX1_planed 71 = .ok (.goto 5, 3) := dk_167 0 5 (dk_at dksX1_planed_3 0 rfl rfl)
theorem dX1_planed_74 : decode bcX1_planed 74 = .ok (.bipush (-2), 2) := dk_16 254 (dk_at dksX1_planed_3 3 rfl rfl)
theorem dX1_planed_76 : decode bcX1_planed 76 = .ok (.ireturn, 1) := dk_172 (dk_at dksX1_planed_3 5 rfl rfl)
theorem dX1_planed_77 : decode bcX1_planed 77 = .ok (.iinc 3 1, 3) := dk_132 3 1 (dk_at dksX1_planed_3 6 rfl rfl)
theorem dX1_planed_80 : decode bcX1_planed 80 = .ok (.goto (-56), 3) := dk_167 255 200 (dk_at dksX1_planed_3 9 rfl rfl)
theorem dX1_planed_83 : decode bcX1_planed 83 = .ok (.bipush (-2), 2) := dk_16 254 (dk_at dksX1_planed_3 12 rfl rfl)
theorem dX1_planed_85 : decode bcX1_planed 85 = .ok (.ireturn, 1) := dk_172 (dk_at dksX1_planed_3 14 rfl rfl)
abbrev SX1_planed (pc : Nat) (i : xI) : Prop := Snd "SwollenHouse" "planed" prog_1_method_60_code 4 (Option.some Jvm.ClassFile.FieldType.int) [] pc i
theorem oX1_planed_0 : SX1_planed 0 (i_iload 1 1) := snd_iload_n dX1_planed_0 rfl
theorem oX1_planed_1 : SX1_planed 1 (i_const (.int (nI 0)) 2) := snd_iconst dX1_planed_1 (by decide)
theorem oX1_planed_2 : SX1_planed 2 (i_const (.int (nI 30)) 4) := snd_bipush dX1_planed_2 (by decide)
theorem oX1_planed_4 : SX1_planed 4 (i_cs 92 3 7) := snd_cs rfl infX1_in (by decide) (xSm_S dX1_planed_4 q1145 q982 q127 q983 pdX1_in)
theorem oX1_planed_7 : SX1_planed 7 (i_if1 (fun x => x = 0) 19 10) := snd_if_eq dX1_planed_7 (by decide)
theorem oX1_planed_10 : SX1_planed 10 (i_iload 2 11) := snd_iload_n dX1_planed_10 rfl
theorem oX1_planed_11 : SX1_planed 11 (i_const (.int (-1)) 12) := snd_iconst dX1_planed_11 (by decide)
theorem oX1_planed_12 : SX1_planed 12 (i_const (.int (nI 2)) 13) := snd_iconst dX1_planed_12 (by decide)
theorem oX1_planed_13 : SX1_planed 13 (i_cs 92 3 16) := snd_cs rfl infX1_in (by decide) (xSm_S dX1_planed_13 q1145 q982 q127 q983 pdX1_in)
theorem oX1_planed_16 : SX1_planed 16 (i_if1 (fun x => ¬ x = 0) 22 19) := snd_if_ne dX1_planed_16 (by decide)
theorem oX1_planed_19 : SX1_planed 19 (i_const (.int (-2)) 21) := snd_bipush dX1_planed_19 (by decide)
theorem oX1_planed_21 : SX1_planed 21 (i_iret) := snd_iret dX1_planed_21 rfl
theorem oX1_planed_22 : SX1_planed 22 (i_const (.int (nI 0)) 23) := snd_iconst dX1_planed_22 (by decide)
theorem oX1_planed_23 : SX1_planed 23 (i_istore 3 24) := snd_istore_n dX1_planed_23 rfl (by decide)
theorem oX1_planed_24 : SX1_planed 24 (i_iload 3 25) := snd_iload_n dX1_planed_24 rfl
theorem oX1_planed_25 : SX1_planed 25 (i_const (.int (nI 3)) 26) := snd_iconst dX1_planed_25 (by decide)
theorem oX1_planed_26 : SX1_planed 26 (i_if2 (fun x y => y < x) 83 29) := snd_icmp_gt dX1_planed_26 (by decide)
theorem oX1_planed_29 : SX1_planed 29 (i_aload 0 30) := snd_aload_n dX1_planed_29 rfl
theorem oX1_planed_30 : SX1_planed 30 (i_getf 0 11 33) := snd_getf dX1_planed_30 rfl (by decide) in_X1 (Or.inl q357) (Or.inl rfl) (by decide)
theorem oX1_planed_33 : SX1_planed 33 (i_aload 0 34) := snd_aload_n dX1_planed_33 rfl
theorem oX1_planed_34 : SX1_planed 34 (i_getf 0 4 37) := snd_getf dX1_planed_34 rfl (by decide) in_X1 (Or.inl q350) (Or.inl rfl) (by decide)
theorem oX1_planed_37 : SX1_planed 37 (i_cvv 3 239 1 40) := snd_cvv rfl infX4_be (by decide) rfl (xVm_V dX1_planed_37 rfl q1194 q1195 q1196 q133 q1197 pdX4_be)
theorem oX1_planed_40 : SX1_planed 40 (i_aload 0 41) := snd_aload_n dX1_planed_40 rfl
theorem oX1_planed_41 : SX1_planed 41 (i_const (.int (nI 0)) 42) := snd_iconst dX1_planed_41 (by decide)
theorem oX1_planed_42 : SX1_planed 42 (i_const (.int (nI 0)) 43) := snd_iconst dX1_planed_42 (by decide)
theorem oX1_planed_43 : SX1_planed 43 (i_iload 3 44) := snd_iload_n dX1_planed_43 rfl
theorem oX1_planed_44 : SX1_planed 44 (i_iload 1 45) := snd_iload_n dX1_planed_44 rfl
theorem oX1_planed_45 : SX1_planed 45 (i_cv 0 143 4 48) := snd_cv rfl infX1_isPlaned (by decide) rfl (xVm_V dX1_planed_45 rfl q1474 q1476 qs50 q127 q1477 pdX1_isPlaned)
theorem oX1_planed_48 : SX1_planed 48 (i_if1 (fun x => x = 0) 77 51) := snd_if_eq dX1_planed_48 (by decide)
theorem oX1_planed_51 : SX1_planed 51 (i_iload 2 52) := snd_iload_n dX1_planed_51 rfl
theorem oX1_planed_52 : SX1_planed 52 (i_const (.int (-1)) 53) := snd_iconst dX1_planed_52 (by decide)
theorem oX1_planed_53 : SX1_planed 53 (i_if2 (fun x y => ¬ x = y) 60 56) := snd_icmp_ne dX1_planed_53 (by decide)
theorem oX1_planed_56 : SX1_planed 56 (i_iload 3 57) := snd_iload_n dX1_planed_56 rfl
theorem oX1_planed_57 : SX1_planed 57 (i_goto 76) := snd_goto dX1_planed_57 (by decide)
theorem oX1_planed_60 : SX1_planed 60 (i_iload 2 61) := snd_iload_n dX1_planed_60 rfl
theorem oX1_planed_61 : SX1_planed 61 (i_iload 3 62) := snd_iload_n dX1_planed_61 rfl
theorem oX1_planed_62 : SX1_planed 62 (i_if2 (fun x y => y ≤ x) 74 65) := snd_icmp_ge dX1_planed_62 (by decide)
theorem oX1_planed_65 : SX1_planed 65 (i_aload 0 66) := snd_aload_n dX1_planed_65 rfl
theorem oX1_planed_66 : SX1_planed 66 (i_getf 0 10 69) := snd_getf dX1_planed_66 rfl (by decide) in_X1 (Or.inl q356) (Or.inl rfl) (by decide)
theorem oX1_planed_69 : SX1_planed 69 (i_iload 2 70) := snd_iload_n dX1_planed_69 rfl
theorem oX1_planed_70 : SX1_planed 70 (i_ai 0 71) := snd_ai0 dX1_planed_70
theorem oX1_planed_71 : SX1_planed 71 (i_goto 76) := snd_goto dX1_planed_71 (by decide)
theorem oX1_planed_74 : SX1_planed 74 (i_const (.int (-2)) 76) := snd_bipush dX1_planed_74 (by decide)
theorem oX1_planed_76 : SX1_planed 76 (i_iret) := snd_iret dX1_planed_76 rfl
theorem oX1_planed_77 : SX1_planed 77 (i_iinc 3 (nI 1) 80) := snd_iinc dX1_planed_77 (by decide) (by decide)
theorem oX1_planed_80 : SX1_planed 80 (i_goto 24) := snd_goto dX1_planed_80 (by decide)
theorem oX1_planed_83 : SX1_planed 83 (i_const (.int (-2)) 85) := snd_bipush dX1_planed_83 (by decide)
theorem oX1_planed_85 : SX1_planed 85 (i_iret) := snd_iret dX1_planed_85 rfl
theorem okX1_planed : ∀ q ∈ cX1_planed, SX1_planed q.1 q.2 := List.forall_mem_cons.mpr ⟨oX1_planed_0, List.forall_mem_cons.mpr ⟨oX1_planed_1, List.forall_mem_cons.mpr ⟨oX1_planed_2, List.forall_mem_cons.mpr ⟨oX1_planed_4, List.forall_mem_cons.mpr ⟨oX1_planed_7, List.forall_mem_cons.mpr ⟨oX1_planed_10, List.forall_mem_cons.mpr ⟨oX1_planed_11, List.forall_mem_cons.mpr ⟨oX1_planed_12, List.forall_mem_cons.mpr ⟨oX1_planed_13, List.forall_mem_cons.mpr ⟨oX1_planed_16, List.forall_mem_cons.mpr ⟨oX1_planed_19, List.forall_mem_cons.mpr ⟨oX1_planed_21, List.forall_mem_cons.mpr ⟨oX1_planed_22, List.forall_mem_cons.mpr ⟨oX1_planed_23, List.forall_mem_cons.mpr ⟨oX1_planed_24, List.forall_mem_cons.mpr ⟨oX1_planed_25, List.forall_mem_cons.mpr ⟨oX1_planed_26, List.forall_mem_cons.mpr ⟨oX1_planed_29, List.forall_mem_cons.mpr ⟨oX1_planed_30, List.forall_mem_cons.mpr ⟨oX1_planed_33, List.forall_mem_cons.mpr ⟨oX1_planed_34, List.forall_mem_cons.mpr ⟨oX1_planed_37, List.forall_mem_cons.mpr ⟨oX1_planed_40, List.forall_mem_cons.mpr ⟨oX1_planed_41, List.forall_mem_cons.mpr ⟨oX1_planed_42, List.forall_mem_cons.mpr ⟨oX1_planed_43, List.forall_mem_cons.mpr ⟨oX1_planed_44, List.forall_mem_cons.mpr ⟨oX1_planed_45, List.forall_mem_cons.mpr ⟨oX1_planed_48, List.forall_mem_cons.mpr ⟨oX1_planed_51, List.forall_mem_cons.mpr ⟨oX1_planed_52, List.forall_mem_cons.mpr ⟨oX1_planed_53, List.forall_mem_cons.mpr ⟨oX1_planed_56, List.forall_mem_cons.mpr ⟨oX1_planed_57, List.forall_mem_cons.mpr ⟨oX1_planed_60, List.forall_mem_cons.mpr ⟨oX1_planed_61, List.forall_mem_cons.mpr ⟨oX1_planed_62, List.forall_mem_cons.mpr ⟨oX1_planed_65, List.forall_mem_cons.mpr ⟨oX1_planed_66, List.forall_mem_cons.mpr ⟨oX1_planed_69, List.forall_mem_cons.mpr ⟨oX1_planed_70, List.forall_mem_cons.mpr ⟨oX1_planed_71, List.forall_mem_cons.mpr ⟨oX1_planed_74, List.forall_mem_cons.mpr ⟨oX1_planed_76, List.forall_mem_cons.mpr ⟨oX1_planed_77, List.forall_mem_cons.mpr ⟨oX1_planed_80, List.forall_mem_cons.mpr ⟨oX1_planed_83, List.forall_mem_cons.mpr ⟨oX1_planed_85, fun _ h => absurd h List.not_mem_nil⟩⟩⟩⟩⟩⟩⟩⟩⟩⟩⟩⟩⟩⟩⟩⟩⟩⟩⟩⟩⟩⟩⟩⟩⟩⟩⟩⟩⟩⟩⟩⟩⟩⟩⟩⟩⟩⟩⟩⟩⟩⟩⟩⟩⟩⟩⟩⟩
def dkwX1_isPlaned_4 : List UInt8 := [4, 172, 42, 180, 0, 69, 180, 0, 195, 21, 5, 92, 46, 4, 100, 79, 132, 5, 1, 167, 255, 176, 3, 172]
abbrev dktX1_isPlaned_4 : List UInt8 := dkwX1_isPlaned_4 ++ []
def dkwX1_isPlaned_3 : List UInt8 := [79, 42, 180, 0, 66, 28, 21, 5, 79, 42, 21, 5, 28, 4, 96, 29, 21, 4, 182, 1, 63, 153, 0, 5]
abbrev dktX1_isPlaned_3 : List UInt8 := dkwX1_isPlaned_3 ++ dktX1_isPlaned_4
def dkwX1_isPlaned_2 : List UInt8 := [21, 5, 182, 1, 7, 154, 0, 6, 167, 0, 56, 42, 180, 0, 69, 180, 0, 195, 21, 5, 92, 46, 4, 96]
abbrev dktX1_isPlaned_2 : List UInt8 := dkwX1_isPlaned_2 ++ dktX1_isPlaned_3
def dkwX1_isPlaned_1 : List UInt8 := [180, 0, 55, 182, 1, 59, 172, 27, 54, 5, 21, 5, 42, 182, 0, 159, 162, 0, 77, 42, 180, 0, 69]
abbrev dktX1_isPlaned_1 : List UInt8 := dkwX1_isPlaned_1 ++ dktX1_isPlaned_2
def dkwX1_isPlaned_0 : List UInt8 := [28, 29, 160, 0, 29, 42, 180, 0, 55, 42, 180, 0, 69, 182, 0, 253, 42, 21, 4, 182, 1, 49, 42, 42]
abbrev dktX1_isPlaned_0 : List UInt8 := dkwX1_isPlaned_0 ++ dktX1_isPlaned_1
theorem dksX1_isPlaned_0 : bcX1_isPlaned.data.toList.drop 0 = dktX1_isPlaned_0 := by decide +kernel
theorem dksX1_isPlaned_1 : bcX1_isPlaned.data.toList.drop 24 = dktX1_isPlaned_1 := dk_seg dksX1_isPlaned_0 24 rfl rfl
theorem dksX1_isPlaned_2 : bcX1_isPlaned.data.toList.drop 47 = dktX1_isPlaned_2 := dk_seg dksX1_isPlaned_1 23 rfl rfl
theorem dksX1_isPlaned_3 : bcX1_isPlaned.data.toList.drop 71 = dktX1_isPlaned_3 := dk_seg dksX1_isPlaned_2 24 rfl rfl
theorem dksX1_isPlaned_4 : bcX1_isPlaned.data.toList.drop 95 = dktX1_isPlaned_4 := dk_seg dksX1_isPlaned_3 24 rfl rfl
theorem dX1_isPlaned_0 : decode bcX1_isPlaned 0 = .ok (.iload_n 2, 1) := dk_28 (dk_at dksX1_isPlaned_0 0 rfl rfl)
theorem dX1_isPlaned_1 : decode bcX1_isPlaned 1 = .ok (.iload_n 3, 1) := dk_29 (dk_at dksX1_isPlaned_0 1 rfl rfl)
theorem dX1_isPlaned_2 : decode bcX1_isPlaned 2 = .ok (.if_icmp .ne 29, 3) := dk_160 0 29 (dk_at dksX1_isPlaned_0 2 rfl rfl)
theorem dX1_isPlaned_5 : decode bcX1_isPlaned 5 = .ok (.aload_n 0, 1) := dk_42 (dk_at dksX1_isPlaned_0 5 rfl rfl)
theorem dX1_isPlaned_6 : decode bcX1_isPlaned 6 = .ok (.getfield 55, 3) := dk_180 0 55 (dk_at dksX1_isPlaned_0 6 rfl rfl)
theorem dX1_isPlaned_9 : decode bcX1_isPlaned 9 = .ok (.aload_n 0, 1) := dk_42 (dk_at dksX1_isPlaned_0 9 rfl rfl)
theorem dX1_isPlaned_10 : decode bcX1_isPlaned 10 = .ok (.getfield 69, 3) := dk_180 0 69 (dk_at dksX1_isPlaned_0 10 rfl rfl)
theorem dX1_isPlaned_13 : decode bcX1_isPlaned 13 = .ok (.invokevirtual 253, 3) := dk_182 0 253 (dk_at dksX1_isPlaned_0 13 rfl rfl)
theorem dX1_isPlaned_16 : decode bcX1_isPlaned 16 = .ok (.aload_n 0, 1) := dk_42 (dk_at dksX1_isPlaned_0 16 rfl rfl)
theorem dX1_isPlaned_17 : decode bcX1_isPlaned 17 = .ok (.iload 4, 2) := dk_21 4 (dk_at dksX1_isPlaned_0 17 rfl rfl)
theorem dX1_isPlaned_19 : decode bcX1_isPlaned 19 = .ok (.invokevirtual 305, 3) := dk_182 1 49 (dk_at dksX1_isPlaned_0 19 rfl rfl)
theorem dX1_isPlaned_22 : decode bcX1_isPlaned 22 = .ok (.aload_n 0, 1) := dk_42 (dk_at dksX1_isPlaned_0 22 rfl rfl)
theorem dX1_isPlaned_23 : decode bcX1_isPlaned 23 = .ok (.aload_n 0, 1) := dk_42 (dk_at dksX1_isPlaned_0 23 rfl rfl)
theorem dX1_isPlaned_24 : decode bcX1_isPlaned 24 = .ok (.getfield 55, 3) := dk_180 0 55 (dk_at dksX1_isPlaned_1 0 rfl rfl)
theorem dX1_isPlaned_27 : decode bcX1_isPlaned 27 = .ok (.invokevirtual 315, 3) := dk_182 1 59 (dk_at dksX1_isPlaned_1 3 rfl rfl)
theorem dX1_isPlaned_30 : decode bcX1_isPlaned 30 = .ok (.ireturn, 1) := dk_172 (dk_at dksX1_isPlaned_1 6 rfl rfl)
theorem dX1_isPlaned_31 : decode bcX1_isPlaned 31 = .ok (.iload_n 1, 1) := dk_27 (dk_at dksX1_isPlaned_1 7 rfl rfl)
theorem dX1_isPlaned_32 : decode bcX1_isPlaned 32 = .ok (.istore 5, 2) := dk_54 5 (dk_at dksX1_isPlaned_1 8 rfl rfl)
theorem dX1_isPlaned_34 : decode bcX1_isPlaned 34 = .ok (.iload 5, 2) := dk_21 5 (dk_at dksX1_isPlaned_1 10 rfl rfl)
theorem dX1_isPlaned_36 : decode bcX1_isPlaned 36 = .ok (.aload_n 0, 1) := dk_42 (dk_at dksX1_isPlaned_1 12 rfl rfl)
theorem dX1_isPlaned_37 : decode bcX1_isPlaned 37 = .ok (.invokevirtual 159, 3) := dk_182 0 159 (dk_at dksX1_isPlaned_1 13 rfl rfl)
theorem dX1_isPlaned_40 : decode bcX1_isPlaned 40 = .ok (.if_icmp .ge 77, 3) := dk_162 0 77 (dk_at dksX1_isPlaned_1 16 rfl rfl)
theorem dX1_isPlaned_43 : decode bcX1_isPlaned 43 = .ok (.aload_n 0, 1) := dk_42 (dk_at dksX1_isPlaned_1 19 rfl rfl)
theorem dX1_isPlaned_44 : decode bcX1_isPlaned 44 = .ok (.getfield 69, 3) := dk_180 0 69 (dk_at dksX1_isPlaned_1 20 rfl rfl)
theorem dX1_isPlaned_47 : decode bcX1_isPlaned 47 = .ok (.iload 5, 2) := dk_21 5 (dk_at dksX1_isPlaned_2 0 rfl rfl)
theorem dX1_isPlaned_49 : decode bcX1_isPlaned 49 = .ok (.invokevirtual 263, 3) := dk_182 1 7 (dk_at dksX1_isPlaned_2 2 rfl rfl)
theorem dX1_isPlaned_52 : decode bcX1_isPlaned 52 = .ok (.ifCond .ne 6, 3) := dk_154 0 6 (dk_at dksX1_isPlaned_2 5 rfl rfl)
theorem dX1_isPlaned_55 : decode bcX1_isPlaned 55 = .ok (.goto 56, 3) := dk_167 0 56 (dk_at dksX1_isPlaned_2 8 rfl rfl)
theorem dX1_isPlaned_58 : decode bcX1_isPlaned 58 = .ok (.aload_n 0, 1) := dk_42 (dk_at dksX1_isPlaned_2 11 rfl rfl)
theorem dX1_isPlaned_59 : decode bcX1_isPlaned 59 = .ok (.getfield 69, 3) := dk_180 0 69 (dk_at dksX1_isPlaned_2 12 rfl rfl)
theorem dX1_isPlaned_62 : decode bcX1_isPlaned 62 = .ok (.getfield 195, 3) := dk_180 0 195 (dk_at dksX1_isPlaned_2 15 rfl rfl)
theorem dX1_isPlaned_65 : decode bcX1_isPlaned 65 = .ok (.iload 5, 2) := dk_21 5 (dk_at dksX1_isPlaned_2 18 rfl rfl)
theorem dX1_isPlaned_67 : decode bcX1_isPlaned 67 = .ok (.dup2, 1) := dk_92 (dk_at dksX1_isPlaned_2 20 rfl rfl)
theorem dX1_isPlaned_68 : decode bcX1_isPlaned 68 = .ok (.iaload, 1) := dk_46 (dk_at dksX1_isPlaned_2 21 rfl rfl)
theorem dX1_isPlaned_69 : decode bcX1_isPlaned 69 = .ok (.iconst 1, 1) := dk_4 (dk_at dksX1_isPlaned_2 22 rfl rfl)
theorem dX1_isPlaned_70 : decode bcX1_isPlaned 70 = .ok (.iadd, 1) := dk_96 (dk_at dksX1_isPlaned_2 23 rfl rfl)
theorem dX1_isPlaned_71 : decode bcX1_isPlaned 71 = .ok (.iastore, 1) := dk_79 (dk_at dksX1_isPlaned_3 0 rfl rfl)
theorem dX1_isPlaned_72 : decode bcX1_isPlaned 72 = .ok (.aload_n 0, 1) := dk_42 (dk_at dksX1_isPlaned_3 1 rfl rfl)
theorem dX1_isPlaned_73 : decode bcX1_isPlaned 73 = .ok (.getfield 66, 3) := dk_180 0 66 (dk_at dksX1_isPlaned_3 2 rfl rfl)
theorem dX1_isPlaned_76 : decode bcX1_isPlaned 76 = .ok (.iload_n 2, 1) := dk_28 (dk_at dksX1_isPlaned_3 5 rfl rfl)
theorem dX1_isPlaned_77 : decode bcX1_isPlaned 77 = .ok (.iload 5, 2) := dk_21 5 (dk_at dksX1_isPlaned_3 6 rfl rfl)
theorem dX1_isPlaned_79 : decode bcX1_isPlaned 79 = .ok (.iastore, 1) := dk_79 (dk_at dksX1_isPlaned_3 8 rfl rfl)
theorem dX1_isPlaned_80 : decode bcX1_isPlaned 80 = .ok (.aload_n 0, 1) := dk_42 (dk_at dksX1_isPlaned_3 9 rfl rfl)
theorem dX1_isPlaned_81 : decode bcX1_isPlaned 81 = .ok (.iload 5, 2) := dk_21 5 (dk_at dksX1_isPlaned_3 10 rfl rfl)
theorem dX1_isPlaned_83 : decode bcX1_isPlaned 83 = .ok (.iload_n 2, 1) := dk_28 (dk_at dksX1_isPlaned_3 12 rfl rfl)
theorem dX1_isPlaned_84 : decode bcX1_isPlaned 84 = .ok (.iconst 1, 1) := dk_4 (dk_at dksX1_isPlaned_3 13 rfl rfl)
theorem dX1_isPlaned_85 : decode bcX1_isPlaned 85 = .ok (.iadd, 1) := dk_96 (dk_at dksX1_isPlaned_3 14 rfl rfl)
theorem dX1_isPlaned_86 : decode bcX1_isPlaned 86 = .ok (.iload_n 3, 1) := dk_29 (dk_at dksX1_isPlaned_3 15 rfl rfl)
theorem dX1_isPlaned_87 : decode bcX1_isPlaned 87 = .ok (.iload 4, 2) := dk_21 4 (dk_at dksX1_isPlaned_3 16 rfl rfl)
theorem dX1_isPlaned_89 : decode bcX1_isPlaned 89 = .ok (.invokevirtual 319, 3) := dk_182 1 63 (dk_at dksX1_isPlaned_3 18 rfl rfl)
theorem dX1_isPlaned_92 : decode bcX1_isPlaned 92 = .ok (.ifCond .eq 5, 3) := dk_153 0 5 (dk_at dksX1_isPlaned_3 21 rfl rfl)
theorem dX1_isPlaned_95 : decode bcX1_isPlaned 95 = .ok (.iconst 1, 1) := dk_4 (dk_at dksX1_isPlaned_4 0 rfl rfl)
theorem dX1_isPlaned_96 : decode bcX1_isPlaned 96 = .ok (.ireturn, 1) := dk_172 (dk_at dksX1_isPlaned_4 1 rfl rfl)
theorem dX1_isPlaned_97 : decode bcX1_isPlaned 97 = .ok (.aload_n 0, 1) := dk_42 (dk_at dksX1_isPlaned_4 2 rfl rfl)
theorem dX1_isPlaned_98 : decode bcX1_isPlaned 98 = .ok (.getfield 69, 3) := dk_180 0 69 (dk_at dksX1_isPlaned_4 3 rfl rfl)
theorem dX1_isPlaned_101 : decode bcX1_isPlaned 101 = .ok (.getfield 195, 3) := dk_180 0 195 (dk_at dksX1_isPlaned_4 6 rfl rfl)
theorem dX1_isPlaned_104 : decode bcX1_isPlaned 104 = .ok (.iload 5, 2) := dk_21 5 (dk_at dksX1_isPlaned_4 9 rfl rfl)
theorem dX1_isPlaned_106 : decode bcX1_isPlaned 106 = .ok (.dup2, 1) := dk_92 (dk_at dksX1_isPlaned_4 11 rfl rfl)
theorem dX1_isPlaned_107 : decode bcX1_isPlaned 107 = .ok (.iaload, 1) := dk_46 (dk_at dksX1_isPlaned_4 12 rfl rfl)
theorem dX1_isPlaned_108 : decode bcX1_isPlaned 108 = .ok (.iconst 1, 1) := dk_4 (dk_at dksX1_isPlaned_4 13 rfl rfl)
theorem dX1_isPlaned_109 : decode bcX1_isPlaned 109 = .ok (.isub, 1) := dk_100 (dk_at dksX1_isPlaned_4 14 rfl rfl)
theorem dX1_isPlaned_110 : decode bcX1_isPlaned 110 = .ok (.iastore, 1) := dk_79 (dk_at dksX1_isPlaned_4 15 rfl rfl)
theorem dX1_isPlaned_111 : decode bcX1_isPlaned 111 = .ok (.iinc 5 1, 3) := dk_132 5 1 (dk_at dksX1_isPlaned_4 16 rfl rfl)
theorem dX1_isPlaned_114 : decode bcX1_isPlaned 114 = .ok (.goto (-80), 3) := dk_167 255 176 (dk_at dksX1_isPlaned_4 19 rfl rfl)
theorem dX1_isPlaned_117 : decode bcX1_isPlaned 117 = .ok (.iconst 0, 1) := dk_3 (dk_at dksX1_isPlaned_4 22 rfl rfl)
theorem dX1_isPlaned_118 : decode bcX1_isPlaned 118 = .ok (.ireturn, 1) := dk_172 (dk_at dksX1_isPlaned_4 23 rfl rfl)
abbrev SX1_isPlaned (pc : Nat) (i : xI) : Prop := Snd "SwollenHouse" "isPlaned" prog_1_method_59_code 6 (Option.some Jvm.ClassFile.FieldType.boolean) [] pc i
theorem oX1_isPlaned_0 : SX1_isPlaned 0 (i_iload 2 1) := snd_iload_n dX1_isPlaned_0 rfl
theorem oX1_isPlaned_1 : SX1_isPlaned 1 (i_iload 3 2) := snd_iload_n dX1_isPlaned_1 rfl
theorem oX1_isPlaned_2 : SX1_isPlaned 2 (i_if2 (fun x y => ¬ x = y) 31 5) := snd_icmp_ne dX1_isPlaned_2 (by decide)
theorem oX1_isPlaned_5 : SX1_isPlaned 5 (i_aload 0 6) := snd_aload_n dX1_isPlaned_5 rfl
theorem oX1_isPlaned_6 : SX1_isPlaned 6 (i_getf 0 5 9) := snd_getf dX1_isPlaned_6 rfl (by decide) in_X1 (Or.inl q351) (Or.inl rfl) (by decide)
theorem oX1_isPlaned_9 : SX1_isPlaned 9 (i_aload 0 10) := snd_aload_n dX1_isPlaned_9 rfl
theorem oX1_isPlaned_10 : SX1_isPlaned 10 (i_getf 0 11 13) := snd_getf dX1_isPlaned_10 rfl (by decide) in_X1 (Or.inl q357) (Or.inl rfl) (by decide)
theorem oX1_isPlaned_13 : SX1_isPlaned 13 (i_cvv 3 239 1 16) := snd_cvv rfl infX4_be (by decide) rfl (xVm_V dX1_isPlaned_13 rfl q1194 q1195 q1196 q133 q1197 pdX4_be)
theorem oX1_isPlaned_16 : SX1_isPlaned 16 (i_aload 0 17) := snd_aload_n dX1_isPlaned_16 rfl
theorem oX1_isPlaned_17 : SX1_isPlaned 17 (i_iload 4 19) := snd_iload dX1_isPlaned_17
theorem oX1_isPlaned_19 : SX1_isPlaned 19 (i_cvv 0 131 1 22) := snd_cvv rfl infX1_goesOn (by decide) rfl (xVm_V dX1_isPlaned_19 rfl q1426 q1428 qs47 q127 q1429 pdX1_goesOn)
theorem oX1_isPlaned_22 : SX1_isPlaned 22 (i_aload 0 23) := snd_aload_n dX1_isPlaned_22 rfl
theorem oX1_isPlaned_23 : SX1_isPlaned 23 (i_aload 0 24) := snd_aload_n dX1_isPlaned_23 rfl
theorem oX1_isPlaned_24 : SX1_isPlaned 24 (i_getf 0 5 27) := snd_getf dX1_isPlaned_24 rfl (by decide) in_X1 (Or.inl q351) (Or.inl rfl) (by decide)
theorem oX1_isPlaned_27 : SX1_isPlaned 27 (i_cv 0 144 1 30) := snd_cv rfl infX1_areTogether (by decide) rfl (xVm_V dX1_isPlaned_27 rfl q1478 q1480 qs51 q127 q1481 pdX1_areTogether)
theorem oX1_isPlaned_30 : SX1_isPlaned 30 (i_zret) := snd_zret dX1_isPlaned_30 rfl
theorem oX1_isPlaned_31 : SX1_isPlaned 31 (i_iload 1 32) := snd_iload_n dX1_isPlaned_31 rfl
theorem oX1_isPlaned_32 : SX1_isPlaned 32 (i_istore 5 34) := snd_istore dX1_isPlaned_32 (by decide)
theorem oX1_isPlaned_34 : SX1_isPlaned 34 (i_iload 5 36) := snd_iload dX1_isPlaned_34
theorem oX1_isPlaned_36 : SX1_isPlaned 36 (i_aload 0 37) := snd_aload_n dX1_isPlaned_36 rfl
theorem oX1_isPlaned_37 : SX1_isPlaned 37 (i_cv 0 96 0 40) := snd_cv rfl infX1_doors (by decide) rfl (xVm_V dX1_isPlaned_37 rfl q1140 q1142 qs30 q127 q1143 pdX1_doors)
theorem oX1_isPlaned_40 : SX1_isPlaned 40 (i_if2 (fun x y => y ≤ x) 117 43) := snd_icmp_ge dX1_isPlaned_40 (by decide)
theorem oX1_isPlaned_43 : SX1_isPlaned 43 (i_aload 0 44) := snd_aload_n dX1_isPlaned_43 rfl
theorem oX1_isPlaned_44 : SX1_isPlaned 44 (i_getf 0 11 47) := snd_getf dX1_isPlaned_44 rfl (by decide) in_X1 (Or.inl q357) (Or.inl rfl) (by decide)
theorem oX1_isPlaned_47 : SX1_isPlaned 47 (i_iload 5 49) := snd_iload dX1_isPlaned_47
theorem oX1_isPlaned_49 : SX1_isPlaned 49 (i_cv 3 240 1 52) := snd_cv rfl infX4_canPlane (by decide) rfl (xVm_V dX1_isPlaned_49 rfl q1302 q1303 q1304 q133 q1305 pdX4_canPlane)
theorem oX1_isPlaned_52 : SX1_isPlaned 52 (i_if1 (fun x => ¬ x = 0) 58 55) := snd_if_ne dX1_isPlaned_52 (by decide)
theorem oX1_isPlaned_55 : SX1_isPlaned 55 (i_goto 111) := snd_goto dX1_isPlaned_55 (by decide)
theorem oX1_isPlaned_58 : SX1_isPlaned 58 (i_aload 0 59) := snd_aload_n dX1_isPlaned_58 rfl
theorem oX1_isPlaned_59 : SX1_isPlaned 59 (i_getf 0 11 62) := snd_getf dX1_isPlaned_59 rfl (by decide) in_X1 (Or.inl q357) (Or.inl rfl) (by decide)
theorem oX1_isPlaned_62 : SX1_isPlaned 62 (i_getf 3 1 65) := snd_getf dX1_isPlaned_62 rfl (by decide) in_X4 (Or.inr ⟨_, q294⟩) (Or.inl rfl) (by decide)
theorem oX1_isPlaned_65 : SX1_isPlaned 65 (i_iload 5 67) := snd_iload dX1_isPlaned_65
theorem oX1_isPlaned_67 : SX1_isPlaned 67 (i_dup2 68) := snd_dup2 dX1_isPlaned_67
theorem oX1_isPlaned_68 : SX1_isPlaned 68 (i_ai 0 69) := snd_ai0 dX1_isPlaned_68
theorem oX1_isPlaned_69 : SX1_isPlaned 69 (i_const (.int (nI 1)) 70) := snd_iconst dX1_isPlaned_69 (by decide)
theorem oX1_isPlaned_70 : SX1_isPlaned 70 (i_ii (fun x y => x + y) 71) := snd_iadd dX1_isPlaned_70
theorem oX1_isPlaned_71 : SX1_isPlaned 71 (i_si (fun v => v) 0 72) := snd_si0 dX1_isPlaned_71
theorem oX1_isPlaned_72 : SX1_isPlaned 72 (i_aload 0 73) := snd_aload_n dX1_isPlaned_72 rfl
theorem oX1_isPlaned_73 : SX1_isPlaned 73 (i_getf 0 10 76) := snd_getf dX1_isPlaned_73 rfl (by decide) in_X1 (Or.inl q356) (Or.inl rfl) (by decide)
theorem oX1_isPlaned_76 : SX1_isPlaned 76 (i_iload 2 77) := snd_iload_n dX1_isPlaned_76 rfl
theorem oX1_isPlaned_77 : SX1_isPlaned 77 (i_iload 5 79) := snd_iload dX1_isPlaned_77
theorem oX1_isPlaned_79 : SX1_isPlaned 79 (i_si (fun v => v) 0 80) := snd_si0 dX1_isPlaned_79
theorem oX1_isPlaned_80 : SX1_isPlaned 80 (i_aload 0 81) := snd_aload_n dX1_isPlaned_80 rfl
theorem oX1_isPlaned_81 : SX1_isPlaned 81 (i_iload 5 83) := snd_iload dX1_isPlaned_81
theorem oX1_isPlaned_83 : SX1_isPlaned 83 (i_iload 2 84) := snd_iload_n dX1_isPlaned_83 rfl
theorem oX1_isPlaned_84 : SX1_isPlaned 84 (i_const (.int (nI 1)) 85) := snd_iconst dX1_isPlaned_84 (by decide)
theorem oX1_isPlaned_85 : SX1_isPlaned 85 (i_ii (fun x y => x + y) 86) := snd_iadd dX1_isPlaned_85
theorem oX1_isPlaned_86 : SX1_isPlaned 86 (i_iload 3 87) := snd_iload_n dX1_isPlaned_86 rfl
theorem oX1_isPlaned_87 : SX1_isPlaned 87 (i_iload 4 89) := snd_iload dX1_isPlaned_87
theorem oX1_isPlaned_89 : SX1_isPlaned 89 (i_cv 0 143 4 92) := snd_cv rfl infX1_isPlaned (by decide) rfl (xVm_V dX1_isPlaned_89 rfl q1474 q1476 qs50 q127 q1477 pdX1_isPlaned)
theorem oX1_isPlaned_92 : SX1_isPlaned 92 (i_if1 (fun x => x = 0) 97 95) := snd_if_eq dX1_isPlaned_92 (by decide)
theorem oX1_isPlaned_95 : SX1_isPlaned 95 (i_const (.int (nI 1)) 96) := snd_iconst dX1_isPlaned_95 (by decide)
theorem oX1_isPlaned_96 : SX1_isPlaned 96 (i_zret) := snd_zret dX1_isPlaned_96 rfl
theorem oX1_isPlaned_97 : SX1_isPlaned 97 (i_aload 0 98) := snd_aload_n dX1_isPlaned_97 rfl
theorem oX1_isPlaned_98 : SX1_isPlaned 98 (i_getf 0 11 101) := snd_getf dX1_isPlaned_98 rfl (by decide) in_X1 (Or.inl q357) (Or.inl rfl) (by decide)
theorem oX1_isPlaned_101 : SX1_isPlaned 101 (i_getf 3 1 104) := snd_getf dX1_isPlaned_101 rfl (by decide) in_X4 (Or.inr ⟨_, q294⟩) (Or.inl rfl) (by decide)
theorem oX1_isPlaned_104 : SX1_isPlaned 104 (i_iload 5 106) := snd_iload dX1_isPlaned_104
theorem oX1_isPlaned_106 : SX1_isPlaned 106 (i_dup2 107) := snd_dup2 dX1_isPlaned_106
theorem oX1_isPlaned_107 : SX1_isPlaned 107 (i_ai 0 108) := snd_ai0 dX1_isPlaned_107
theorem oX1_isPlaned_108 : SX1_isPlaned 108 (i_const (.int (nI 1)) 109) := snd_iconst dX1_isPlaned_108 (by decide)
theorem oX1_isPlaned_109 : SX1_isPlaned 109 (i_ii (fun x y => x - y) 110) := snd_isub dX1_isPlaned_109
theorem oX1_isPlaned_110 : SX1_isPlaned 110 (i_si (fun v => v) 0 111) := snd_si0 dX1_isPlaned_110
theorem oX1_isPlaned_111 : SX1_isPlaned 111 (i_iinc 5 (nI 1) 114) := snd_iinc dX1_isPlaned_111 (by decide) (by decide)
theorem oX1_isPlaned_114 : SX1_isPlaned 114 (i_goto 34) := snd_goto dX1_isPlaned_114 (by decide)
theorem oX1_isPlaned_117 : SX1_isPlaned 117 (i_const (.int (nI 0)) 118) := snd_iconst dX1_isPlaned_117 (by decide)
theorem oX1_isPlaned_118 : SX1_isPlaned 118 (i_zret) := snd_zret dX1_isPlaned_118 rfl
theorem okX1_isPlaned : ∀ q ∈ cX1_isPlaned, SX1_isPlaned q.1 q.2 := List.forall_mem_cons.mpr ⟨oX1_isPlaned_0, List.forall_mem_cons.mpr ⟨oX1_isPlaned_1, List.forall_mem_cons.mpr ⟨oX1_isPlaned_2, List.forall_mem_cons.mpr ⟨oX1_isPlaned_5, List.forall_mem_cons.mpr ⟨oX1_isPlaned_6, List.forall_mem_cons.mpr ⟨oX1_isPlaned_9, List.forall_mem_cons.mpr ⟨oX1_isPlaned_10, List.forall_mem_cons.mpr ⟨oX1_isPlaned_13, List.forall_mem_cons.mpr ⟨oX1_isPlaned_16, List.forall_mem_cons.mpr ⟨oX1_isPlaned_17, List.forall_mem_cons.mpr ⟨oX1_isPlaned_19, List.forall_mem_cons.mpr ⟨oX1_isPlaned_22, List.forall_mem_cons.mpr ⟨oX1_isPlaned_23, List.forall_mem_cons.mpr ⟨oX1_isPlaned_24, List.forall_mem_cons.mpr ⟨oX1_isPlaned_27, List.forall_mem_cons.mpr ⟨oX1_isPlaned_30, List.forall_mem_cons.mpr ⟨oX1_isPlaned_31, List.forall_mem_cons.mpr ⟨oX1_isPlaned_32, List.forall_mem_cons.mpr ⟨oX1_isPlaned_34, List.forall_mem_cons.mpr ⟨oX1_isPlaned_36, List.forall_mem_cons.mpr ⟨oX1_isPlaned_37, List.forall_mem_cons.mpr ⟨oX1_isPlaned_40, List.forall_mem_cons.mpr ⟨oX1_isPlaned_43, List.forall_mem_cons.mpr ⟨oX1_isPlaned_44, List.forall_mem_cons.mpr ⟨oX1_isPlaned_47, List.forall_mem_cons.mpr ⟨oX1_isPlaned_49, List.forall_mem_cons.mpr ⟨oX1_isPlaned_52, List.forall_mem_cons.mpr ⟨oX1_isPlaned_55, List.forall_mem_cons.mpr ⟨oX1_isPlaned_58, List.forall_mem_cons.mpr ⟨oX1_isPlaned_59, List.forall_mem_cons.mpr ⟨oX1_isPlaned_62, List.forall_mem_cons.mpr ⟨oX1_isPlaned_65, List.forall_mem_cons.mpr ⟨oX1_isPlaned_67, List.forall_mem_cons.mpr ⟨oX1_isPlaned_68, List.forall_mem_cons.mpr ⟨oX1_isPlaned_69, List.forall_mem_cons.mpr ⟨oX1_isPlaned_70, List.forall_mem_cons.mpr ⟨oX1_isPlaned_71, List.forall_mem_cons.mpr ⟨oX1_isPlaned_72, List.forall_mem_cons.mpr ⟨oX1_isPlaned_73, List.forall_mem_cons.mpr ⟨oX1_isPlaned_76, List.forall_mem_cons.mpr ⟨oX1_isPlaned_77, List.forall_mem_cons.mpr ⟨oX1_isPlaned_79, List.forall_mem_cons.mpr ⟨oX1_isPlaned_80, List.forall_mem_cons.mpr ⟨oX1_isPlaned_81, List.forall_mem_cons.mpr ⟨oX1_isPlaned_83, List.forall_mem_cons.mpr ⟨oX1_isPlaned_84, List.forall_mem_cons.mpr ⟨oX1_isPlaned_85, List.forall_mem_cons.mpr ⟨oX1_isPlaned_86, List.forall_mem_cons.mpr ⟨oX1_isPlaned_87, List.forall_mem_cons.mpr ⟨oX1_isPlaned_89, List.forall_mem_cons.mpr ⟨oX1_isPlaned_92, List.forall_mem_cons.mpr ⟨oX1_isPlaned_95, List.forall_mem_cons.mpr ⟨oX1_isPlaned_96, List.forall_mem_cons.mpr ⟨oX1_isPlaned_97, List.forall_mem_cons.mpr ⟨oX1_isPlaned_98, List.forall_mem_cons.mpr ⟨oX1_isPlaned_101, List.forall_mem_cons.mpr ⟨oX1_isPlaned_104, List.forall_mem_cons.mpr ⟨oX1_isPlaned_106, List.forall_mem_cons.mpr ⟨oX1_isPlaned_107, List.forall_mem_cons.mpr ⟨oX1_isPlaned_108, List.forall_mem_cons.mpr ⟨oX1_isPlaned_109, List.forall_mem_cons.mpr ⟨oX1_isPlaned_110, List.forall_mem_cons.mpr ⟨oX1_isPlaned_111, List.forall_mem_cons.mpr ⟨oX1_isPlaned_114, List.forall_mem_cons.mpr ⟨oX1_isPlaned_117, List.forall_mem_cons.mpr ⟨oX1_isPlaned_118, fun _ h => absurd h List.not_mem_nil⟩⟩⟩⟩⟩⟩⟩⟩⟩⟩⟩⟩⟩⟩⟩⟩⟩⟩⟩⟩⟩⟩⟩⟩⟩⟩⟩⟩⟩⟩⟩⟩⟩⟩⟩⟩⟩⟩⟩⟩⟩⟩⟩⟩⟩⟩⟩⟩⟩⟩⟩⟩⟩⟩⟩⟩⟩⟩⟩⟩⟩⟩⟩⟩⟩⟩
def dkwX1_areTogether_2 : List UInt8 := [154, 0, 5, 3, 172, 132, 3, 1, 167, 255, 230, 4, 172]
abbrev dktX1_areTogether_2 : List UInt8 := dkwX1_areTogether_2 ++ []
def dkwX1_areTogether_1 : List UInt8 := [182, 1, 43, 61, 3, 62, 29, 42, 182, 0, 161, 162, 0, 24, 28, 43, 180, 0, 229, 29, 46, 184, 1, 30]
abbrev dktX1_areTogether_1 : List UInt8 := dkwX1_areTogether_1 ++ dktX1_areTogether_2
def dkwX1_areTogether_0 : List UInt8 := [42, 182, 0, 161, 154, 0, 7, 3, 167, 0, 18, 42, 43, 180, 0, 229, 3, 46, 42, 43, 182, 1, 40]
abbrev dktX1_areTogether_0 : List UInt8 := dkwX1_areTogether_0 ++ dktX1_areTogether_1
theorem dksX1_areTogether_0 : bcX1_areTogether.data.toList.drop 0 = dktX1_areTogether_0 := by decide +kernel
theorem dksX1_areTogether_1 : bcX1_areTogether.data.toList.drop 23 = dktX1_areTogether_1 := dk_seg dksX1_areTogether_0 23 rfl rfl
theorem dksX1_areTogether_2 : bcX1_areTogether.data.toList.drop 47 = dktX1_areTogether_2 := dk_seg dksX1_areTogether_1 24 rfl rfl
theorem dX1_areTogether_0 : decode bcX1_areTogether 0 = .ok (.aload_n 0, 1) := dk_42 (dk_at dksX1_areTogether_0 0 rfl rfl)
theorem dX1_areTogether_1 : decode bcX1_areTogether 1 = .ok (.invokevirtual 161, 3) := dk_182 0 161 (dk_at dksX1_areTogether_0 1 rfl rfl)
theorem dX1_areTogether_4 : decode bcX1_areTogether 4 = .ok (.ifCond .ne 7, 3) := dk_154 0 7 (dk_at dksX1_areTogether_0 4 rfl rfl)
theorem dX1_areTogether_7 : decode bcX1_areTogether 7 = .ok (.iconst 0, 1) := dk_3 (dk_at dksX1_areTogether_0 7 rfl rfl)
theorem dX1_areTogether_8 : decode bcX1_areTogether 8 = .ok (.goto 18, 3) := dk_167 0 18 (dk_at dksX1_areTogether_0 8 rfl rfl)
theorem dX1_areTogether_11 : decode bcX1_areTogether 11 = .ok (.aload_n 0, 1) := dk_42 (dk_at dksX1_areTogether_0 11 rfl rfl)
theorem dX1_areTogether_12 : decode bcX1_areTogether 12 = .ok (.aload_n 1, 1) := dk_43 (dk_at dksX1_areTogether_0 12 rfl rfl)
theorem dX1_areTogether_13 : decode bcX1_areTogether 13 = .ok (.getfield 229, 3) := dk_180 0 229 (dk_at dksX1_areTogether_0 13 rfl rfl)
theorem dX1_areTogether_16 : decode bcX1_areTogether 16 = .ok (.iconst 0, 1) := dk_3 (dk_at dksX1_areTogether_0 16 rfl rfl)
theorem dX1_areTogether_17 : decode bcX1_areTogether 17 = .ok (.iaload, 1) := dk_46 (dk_at dksX1_areTogether_0 17 rfl rfl)
theorem dX1_areTogether_18 : decode bcX1_areTogether 18 = .ok (.aload_n 0, 1) := dk_42 (dk_at dksX1_areTogether_0 18 rfl rfl)
theorem dX1_areTogether_19 : decode bcX1_areTogether 19 = .ok (.aload_n 1, 1) := dk_43 (dk_at dksX1_areTogether_0 19 rfl rfl)
theorem dX1_areTogether_20 : decode bcX1_areTogether 20 = .ok (.invokevirtual 296, 3) := dk_182 1 40 (dk_at dksX1_areTogether_0 20 rfl rfl)
theorem dX1_areTogether_23 : decode bcX1_areTogether 23 = .ok (.invokevirtual 299, 3) := dk_182 1 43 (dk_at dksX1_areTogether_1 0 rfl rfl)
theorem dX1_areTogether_26 : decode bcX1_areTogether 26 = .ok (.istore_n 2, 1) := dk_61 (dk_at dksX1_areTogether_1 3 rfl rfl)
theorem dX1_areTogether_27 : decode bcX1_areTogether 27 = .ok (.iconst 0, 1) := dk_3 (dk_at dksX1_areTogether_1 4 rfl rfl)
theorem dX1_areTogether_28 : decode bcX1_areTogether 28 = .ok (.istore_n 3, 1) := dk_62 (dk_at dksX1_areTogether_1 5 rfl rfl)
theorem dX1_areTogether_29 : decode bcX1_areTogether 29 = .ok (.iload_n 3, 1) := dk_29 (dk_at dksX1_areTogether_1 6 rfl rfl)
theorem dX1_areTogether_30 : decode bcX1_areTogether 30 = .ok (.aload_n 0, 1) := dk_42 (dk_at dksX1_areTogether_1 7 rfl rfl)
theorem dX1_areTogether_31 : decode bcX1_areTogether 31 = .ok (.invokevirtual 161, 3) := dk_182 0 161 (dk_at dksX1_areTogether_1 8 rfl rfl)
theorem dX1_areTogether_34 : decode bcX1_areTogether 34 = .ok (.if_icmp .ge 24, 3) := dk_162 0 24 (dk_at dksX1_areTogether_1 11 rfl rfl)
theorem dX1_areTogether_37 : decode bcX1_areTogether 37 = .ok (.iload_n 2, 1) := dk_28 (dk_at dksX1_areTogether_1 14 rfl rfl)
theorem dX1_areTogether_38 : decode bcX1_areTogether 38 = .ok (.aload_n 1, 1) := dk_43 (dk_at dksX1_areTogether_1 15 rfl rfl)
theorem dX1_areTogether_39 : decode bcX1_areTogether 39 = .ok (.getfield 229, 3) := dk_180 0 229 (dk_at dksX1_areTogether_1 16 rfl rfl)
theorem dX1_areTogether_42 : decode bcX1_areTogether 42 = .ok (.iload_n 3, 1) := dk_29 (dk_at dksX1_areTogether_1 19 rfl rfl)
theorem dX1_areTogether_43 : decode bcX1_areTogether 43 = .ok (.iaload, 1) := dk_46 (dk_at dksX1_areTogether_1 20 rfl rfl)
theorem dX1_areTogether_44 : decode bcX1_areTogether 44 = .ok (.invokestatic 286, 3) := dk_184 1 30 (dk_at dksX1_areTogether_1 21 rfl rfl)
theorem dX1_areTogether_47 : decode bcX1_areTogether 47 = .ok (.ifCond .ne 5, 3) := dk_154 0 5 (dk_at dksX1_areTogether_2 0 rfl rfl)
theorem dX1_areTogether_50 : decode bcX1_areTogether 50 = .ok (.iconst 0, 1) := dk_3 (dk_at dksX1_areTogether_2 3 rfl rfl)
theorem dX1_areTogether_51 : decode bcX1_areTogether 51 = .ok (.ireturn, 1) := dk_172 (dk_at dksX1_areTogether_2 4 rfl rfl)
theorem dX1_areTogether_52 : decode bcX1_areTogether 52 = .ok (.iinc 3 1, 3) := dk_132 3 1 (dk_at dksX1_areTogether_2 5 rfl rfl)
theorem dX1_areTogether_55 : decode bcX1_areTogether 55 = .ok (.goto (-26), 3) := dk_167 255 230 (dk_at dksX1_areTogether_2 8 rfl rfl)
theorem dX1_areTogether_58 : decode bcX1_areTogether 58 = .ok (.iconst 1, 1) := dk_4 (dk_at dksX1_areTogether_2 11 rfl rfl)
theorem dX1_areTogether_59 : decode bcX1_areTogether 59 = .ok (.ireturn, 1) := dk_172 (dk_at dksX1_areTogether_2 12 rfl rfl)
abbrev SX1_areTogether (pc : Nat) (i : xI) : Prop := Snd "SwollenHouse" "areTogether" prog_1_method_58_code 4 (Option.some Jvm.ClassFile.FieldType.boolean) [] pc i
theorem oX1_areTogether_0 : SX1_areTogether 0 (i_aload 0 1) := snd_aload_n dX1_areTogether_0 rfl
theorem oX1_areTogether_1 : SX1_areTogether 1 (i_cv 0 101 0 4) := snd_cv rfl infX1_people (by decide) rfl (xVm_V dX1_areTogether_1 rfl q1182 q1184 qs33 q127 q1185 pdX1_people)
theorem oX1_areTogether_4 : SX1_areTogether 4 (i_if1 (fun x => ¬ x = 0) 11 7) := snd_if_ne dX1_areTogether_4 (by decide)
theorem oX1_areTogether_7 : SX1_areTogether 7 (i_const (.int (nI 0)) 8) := snd_iconst dX1_areTogether_7 (by decide)
theorem oX1_areTogether_8 : SX1_areTogether 8 (i_goto 26) := snd_goto dX1_areTogether_8 (by decide)
theorem oX1_areTogether_11 : SX1_areTogether 11 (i_aload 0 12) := snd_aload_n dX1_areTogether_11 rfl
theorem oX1_areTogether_12 : SX1_areTogether 12 (i_aload 1 13) := snd_aload_n dX1_areTogether_12 rfl
theorem oX1_areTogether_13 : SX1_areTogether 13 (i_getf 3 2 16) := snd_getf dX1_areTogether_13 rfl (by decide) in_X4 (Or.inr ⟨_, q296⟩) (Or.inl rfl) (by decide)
theorem oX1_areTogether_16 : SX1_areTogether 16 (i_const (.int (nI 0)) 17) := snd_iconst dX1_areTogether_16 (by decide)
theorem oX1_areTogether_17 : SX1_areTogether 17 (i_ai 0 18) := snd_ai0 dX1_areTogether_17
theorem oX1_areTogether_18 : SX1_areTogether 18 (i_aload 0 19) := snd_aload_n dX1_areTogether_18 rfl
theorem oX1_areTogether_19 : SX1_areTogether 19 (i_aload 1 20) := snd_aload_n dX1_areTogether_19 rfl
theorem oX1_areTogether_20 : SX1_areTogether 20 (i_cv 0 121 1 23) := snd_cv rfl infX1_open (by decide) rfl (xVm_V dX1_areTogether_20 rfl q1385 q1387 qs43 q127 q1388 pdX1_open)
theorem oX1_areTogether_23 : SX1_areTogether 23 (i_cv 0 122 2 26) := snd_cv rfl infX1_range_2 (by decide) rfl (xVm_V dX1_areTogether_23 rfl q1389 q1391 qs44 q127 q1392 pdX1_range_2)
theorem oX1_areTogether_26 : SX1_areTogether 26 (i_istore 2 27) := snd_istore_n dX1_areTogether_26 rfl (by decide)
theorem oX1_areTogether_27 : SX1_areTogether 27 (i_const (.int (nI 0)) 28) := snd_iconst dX1_areTogether_27 (by decide)
theorem oX1_areTogether_28 : SX1_areTogether 28 (i_istore 3 29) := snd_istore_n dX1_areTogether_28 rfl (by decide)
theorem oX1_areTogether_29 : SX1_areTogether 29 (i_iload 3 30) := snd_iload_n dX1_areTogether_29 rfl
theorem oX1_areTogether_30 : SX1_areTogether 30 (i_aload 0 31) := snd_aload_n dX1_areTogether_30 rfl
theorem oX1_areTogether_31 : SX1_areTogether 31 (i_cv 0 101 0 34) := snd_cv rfl infX1_people (by decide) rfl (xVm_V dX1_areTogether_31 rfl q1182 q1184 qs33 q127 q1185 pdX1_people)
theorem oX1_areTogether_34 : SX1_areTogether 34 (i_if2 (fun x y => y ≤ x) 58 37) := snd_icmp_ge dX1_areTogether_34 (by decide)
theorem oX1_areTogether_37 : SX1_areTogether 37 (i_iload 2 38) := snd_iload_n dX1_areTogether_37 rfl
theorem oX1_areTogether_38 : SX1_areTogether 38 (i_aload 1 39) := snd_aload_n dX1_areTogether_38 rfl
theorem oX1_areTogether_39 : SX1_areTogether 39 (i_getf 3 2 42) := snd_getf dX1_areTogether_39 rfl (by decide) in_X4 (Or.inr ⟨_, q296⟩) (Or.inl rfl) (by decide)
theorem oX1_areTogether_42 : SX1_areTogether 42 (i_iload 3 43) := snd_iload_n dX1_areTogether_42 rfl
theorem oX1_areTogether_43 : SX1_areTogether 43 (i_ai 0 44) := snd_ai0 dX1_areTogether_43
theorem oX1_areTogether_44 : SX1_areTogether 44 (i_cs 98 2 47) := snd_cs rfl infX1_isIn (by decide) (xSm_S dX1_areTogether_44 q1397 q1172 q127 q1173 pdX1_isIn)
theorem oX1_areTogether_47 : SX1_areTogether 47 (i_if1 (fun x => ¬ x = 0) 52 50) := snd_if_ne dX1_areTogether_47 (by decide)
theorem oX1_areTogether_50 : SX1_areTogether 50 (i_const (.int (nI 0)) 51) := snd_iconst dX1_areTogether_50 (by decide)
theorem oX1_areTogether_51 : SX1_areTogether 51 (i_zret) := snd_zret dX1_areTogether_51 rfl
theorem oX1_areTogether_52 : SX1_areTogether 52 (i_iinc 3 (nI 1) 55) := snd_iinc dX1_areTogether_52 (by decide) (by decide)
theorem oX1_areTogether_55 : SX1_areTogether 55 (i_goto 29) := snd_goto dX1_areTogether_55 (by decide)
theorem oX1_areTogether_58 : SX1_areTogether 58 (i_const (.int (nI 1)) 59) := snd_iconst dX1_areTogether_58 (by decide)
theorem oX1_areTogether_59 : SX1_areTogether 59 (i_zret) := snd_zret dX1_areTogether_59 rfl
theorem okX1_areTogether : ∀ q ∈ cX1_areTogether, SX1_areTogether q.1 q.2 := List.forall_mem_cons.mpr ⟨oX1_areTogether_0, List.forall_mem_cons.mpr ⟨oX1_areTogether_1, List.forall_mem_cons.mpr ⟨oX1_areTogether_4, List.forall_mem_cons.mpr ⟨oX1_areTogether_7, List.forall_mem_cons.mpr ⟨oX1_areTogether_8, List.forall_mem_cons.mpr ⟨oX1_areTogether_11, List.forall_mem_cons.mpr ⟨oX1_areTogether_12, List.forall_mem_cons.mpr ⟨oX1_areTogether_13, List.forall_mem_cons.mpr ⟨oX1_areTogether_16, List.forall_mem_cons.mpr ⟨oX1_areTogether_17, List.forall_mem_cons.mpr ⟨oX1_areTogether_18, List.forall_mem_cons.mpr ⟨oX1_areTogether_19, List.forall_mem_cons.mpr ⟨oX1_areTogether_20, List.forall_mem_cons.mpr ⟨oX1_areTogether_23, List.forall_mem_cons.mpr ⟨oX1_areTogether_26, List.forall_mem_cons.mpr ⟨oX1_areTogether_27, List.forall_mem_cons.mpr ⟨oX1_areTogether_28, List.forall_mem_cons.mpr ⟨oX1_areTogether_29, List.forall_mem_cons.mpr ⟨oX1_areTogether_30, List.forall_mem_cons.mpr ⟨oX1_areTogether_31, List.forall_mem_cons.mpr ⟨oX1_areTogether_34, List.forall_mem_cons.mpr ⟨oX1_areTogether_37, List.forall_mem_cons.mpr ⟨oX1_areTogether_38, List.forall_mem_cons.mpr ⟨oX1_areTogether_39, List.forall_mem_cons.mpr ⟨oX1_areTogether_42, List.forall_mem_cons.mpr ⟨oX1_areTogether_43, List.forall_mem_cons.mpr ⟨oX1_areTogether_44, List.forall_mem_cons.mpr ⟨oX1_areTogether_47, List.forall_mem_cons.mpr ⟨oX1_areTogether_50, List.forall_mem_cons.mpr ⟨oX1_areTogether_51, List.forall_mem_cons.mpr ⟨oX1_areTogether_52, List.forall_mem_cons.mpr ⟨oX1_areTogether_55, List.forall_mem_cons.mpr ⟨oX1_areTogether_58, List.forall_mem_cons.mpr ⟨oX1_areTogether_59, fun _ h => absurd h List.not_mem_nil⟩⟩⟩⟩⟩⟩⟩⟩⟩⟩⟩⟩⟩⟩⟩⟩⟩⟩⟩⟩⟩⟩⟩⟩⟩⟩⟩⟩⟩⟩⟩⟩⟩⟩
def dkwX1_feel_2 : List UInt8 := [79, 42, 180, 0, 78, 42, 89, 180, 0, 121, 90, 4, 96, 181, 0, 121, 29, 84, 4, 172]
abbrev dktX1_feel_2 : List UInt8 := dkwX1_feel_2 ++ []
def dkwX1_feel_1 : List UInt8 := [160, 0, 5, 3, 172, 42, 180, 0, 72, 42, 180, 0, 121, 27, 79, 42, 180, 0, 75, 42, 180, 0, 121, 28]
abbrev dktX1_feel_1 : List UInt8 := dkwX1_feel_1 ++ dktX1_feel_2
def dkwX1_feel_0 : List UInt8 := [42, 27, 182, 0, 226, 153, 0, 22, 28, 4, 16, 30, 184, 0, 155, 153, 0, 12, 42, 180, 0, 121, 16, 8]
abbrev dktX1_feel_0 : List UInt8 := dkwX1_feel_0 ++ dktX1_feel_1
theorem dksX1_feel_0 : bcX1_feel.data.toList.drop 0 = dktX1_feel_0 := by decide +kernel
theorem dksX1_feel_1 : bcX1_feel.data.toList.drop 24 = dktX1_feel_1 := dk_seg dksX1_feel_0 24 rfl rfl
theorem dksX1_feel_2 : bcX1_feel.data.toList.drop 48 = dktX1_feel_2 := dk_seg dksX1_feel_1 24 rfl rfl
theorem dX1_feel_0 : decode bcX1_feel 0 = .ok (.aload_n 0, 1) := dk_42 (dk_at dksX1_feel_0 0 rfl rfl)
theorem dX1_feel_1 : decode bcX1_feel 1 = .ok (.iload_n 1, 1) := dk_27 (dk_at dksX1_feel_0 1 rfl rfl)
theorem dX1_feel_2 : decode bcX1_feel 2 = .ok (.invokevirtual 226, 3) := dk_182 0 226 (dk_at dksX1_feel_0 2 rfl rfl)
theorem dX1_feel_5 : decode bcX1_feel 5 = .ok (.ifCond .eq 22, 3) := dk_153 0 22 (dk_at dksX1_feel_0 5 rfl rfl)
theorem dX1_feel_8 : decode bcX1_feel 8 = .ok (.iload_n 2, 1) := dk_28 (dk_at dksX1_feel_0 8 rfl rfl)
theorem dX1_feel_9 : decode bcX1_feel 9 = .ok (.iconst 1, 1) := dk_4 (dk_at dksX1_feel_0 9 rfl rfl)
theorem dX1_feel_10 : decode bcX1_feel 10 = .ok (.bipush 30, 2) := dk_16 30 (dk_at dksX1_feel_0 10 rfl rfl)
theorem dX1_feel_12 : decode bcX1_feel 12 = .ok (.invokestatic 155, 3) := dk_184 0 155 (dk_at dksX1_feel_0 12 rfl rfl)
theorem dX1_feel_15 : decode bcX1_feel 15 = .ok (.ifCond .eq 12, 3) := dk_153 0 12 (dk_at dksX1_feel_0 15 rfl rfl)
theorem dX1_feel_18 : decode bcX1_feel 18 = .ok (.aload_n 0, 1) := dk_42 (dk_at dksX1_feel_0 18 rfl rfl)
theorem dX1_feel_19 : decode bcX1_feel 19 = .ok (.getfield 121, 3) := dk_180 0 121 (dk_at dksX1_feel_0 19 rfl rfl)
theorem dX1_feel_22 : decode bcX1_feel 22 = .ok (.bipush 8, 2) := dk_16 8 (dk_at dksX1_feel_0 22 rfl rfl)
theorem dX1_feel_24 : decode bcX1_feel 24 = .ok (.if_icmp .ne 5, 3) := dk_160 0 5 (dk_at dksX1_feel_1 0 rfl rfl)
theorem dX1_feel_27 : decode bcX1_feel 27 = .ok (.iconst 0, 1) := dk_3 (dk_at dksX1_feel_1 3 rfl rfl)
theorem dX1_feel_28 : decode bcX1_feel 28 = .ok (.ireturn, 1) := dk_172 (dk_at dksX1_feel_1 4 rfl rfl)
theorem dX1_feel_29 : decode bcX1_feel 29 = .ok (.aload_n 0, 1) := dk_42 (dk_at dksX1_feel_1 5 rfl rfl)
theorem dX1_feel_30 : decode bcX1_feel 30 = .ok (.getfield 72, 3) := dk_180 0 72 (dk_at dksX1_feel_1 6 rfl rfl)
theorem dX1_feel_33 : decode bcX1_feel 33 = .ok (.aload_n 0, 1) := dk_42 (dk_at dksX1_feel_1 9 rfl rfl)
theorem dX1_feel_34 : decode bcX1_feel 34 = .ok (.getfield 121, 3) := dk_180 0 121 (dk_at dksX1_feel_1 10 rfl rfl)
theorem dX1_feel_37 : decode bcX1_feel 37 = .ok (.iload_n 1, 1) := dk_27 (dk_at dksX1_feel_1 13 rfl rfl)
theorem dX1_feel_38 : decode bcX1_feel 38 = .ok (.iastore, 1) := dk_79 (dk_at dksX1_feel_1 14 rfl rfl)
theorem dX1_feel_39 : decode bcX1_feel 39 = .ok (.aload_n 0, 1) := dk_42 (dk_at dksX1_feel_1 15 rfl rfl)
theorem dX1_feel_40 : decode bcX1_feel 40 = .ok (.getfield 75, 3) := dk_180 0 75 (dk_at dksX1_feel_1 16 rfl rfl)
theorem dX1_feel_43 : decode bcX1_feel 43 = .ok (.aload_n 0, 1) := dk_42 (dk_at dksX1_feel_1 19 rfl rfl)
theorem dX1_feel_44 : decode bcX1_feel 44 = .ok (.getfield 121, 3) := dk_180 0 121 (dk_at dksX1_feel_1 20 rfl rfl)
theorem dX1_feel_47 : decode bcX1_feel 47 = .ok (.iload_n 2, 1) := dk_28 (dk_at dksX1_feel_1 23 rfl rfl)
theorem dX1_feel_48 : decode bcX1_feel 48 = .ok (.iastore, 1) := dk_79 (dk_at dksX1_feel_2 0 rfl rfl)
theorem dX1_feel_49 : decode bcX1_feel 49 = .ok (.aload_n 0, 1) := dk_42 (dk_at dksX1_feel_2 1 rfl rfl)
theorem dX1_feel_50 : decode bcX1_feel 50 = .ok (.getfield 78, 3) := dk_180 0 78 (dk_at dksX1_feel_2 2 rfl rfl)
theorem dX1_feel_53 : decode bcX1_feel 53 = .ok (.aload_n 0, 1) := dk_42 (dk_at dksX1_feel_2 5 rfl rfl)
theorem dX1_feel_54 : decode bcX1_feel 54 = .ok (.dup, 1) := dk_89 (dk_at dksX1_feel_2 6 rfl rfl)
theorem dX1_feel_55 : decode bcX1_feel 55 = .ok (.getfield 121, 3) := dk_180 0 121 (dk_at dksX1_feel_2 7 rfl rfl)
theorem dX1_feel_58 : decode bcX1_feel 58 = .ok (.dup_x1, 1) := dk_90 (dk_at dksX1_feel_2 10 rfl rfl)
theorem dX1_feel_59 : decode bcX1_feel 59 = .ok (.iconst 1, 1) := dk_4 (dk_at dksX1_feel_2 11 rfl rfl)
theorem dX1_feel_60 : decode bcX1_feel 60 = .ok (.iadd, 1) := dk_96 (dk_at dksX1_feel_2 12 rfl rfl)
theorem dX1_feel_61 : decode bcX1_feel 61 = .ok (.putfield 121, 3) := dk_181 0 121 (dk_at dksX1_feel_2 13 rfl rfl)
theorem dX1_feel_64 : decode bcX1_feel 64 = .ok (.iload_n 3, 1) := dk_29 (dk_at dksX1_feel_2 16 rfl rfl)
theorem dX1_feel_65 : decode bcX1_feel 65 = .ok (.bastore, 1) := dk_84 (dk_at dksX1_feel_2 17 rfl rfl)
theorem dX1_feel_66 : decode bcX1_feel 66 = .ok (.iconst 1, 1) := dk_4 (dk_at dksX1_feel_2 18 rfl rfl)
theorem dX1_feel_67 : decode bcX1_feel 67 = .ok (.ireturn, 1) := dk_172 (dk_at dksX1_feel_2 19 rfl rfl)
abbrev SX1_feel (pc : Nat) (i : xI) : Prop := Snd "SwollenHouse" "feel" prog_1_method_61_code 4 (Option.some Jvm.ClassFile.FieldType.boolean) [] pc i
theorem oX1_feel_0 : SX1_feel 0 (i_aload 0 1) := snd_aload_n dX1_feel_0 rfl
theorem oX1_feel_1 : SX1_feel 1 (i_iload 1 2) := snd_iload_n dX1_feel_1 rfl
theorem oX1_feel_2 : SX1_feel 2 (i_cv 0 95 1 5) := snd_cv rfl infX1_isDoor (by decide) rfl (xVm_V dX1_feel_2 rfl q1136 q1138 qs29 q127 q1139 pdX1_isDoor)
theorem oX1_feel_5 : SX1_feel 5 (i_if1 (fun x => x = 0) 27 8) := snd_if_eq dX1_feel_5 (by decide)
theorem oX1_feel_8 : SX1_feel 8 (i_iload 2 9) := snd_iload_n dX1_feel_8 rfl
theorem oX1_feel_9 : SX1_feel 9 (i_const (.int (nI 1)) 10) := snd_iconst dX1_feel_9 (by decide)
theorem oX1_feel_10 : SX1_feel 10 (i_const (.int (nI 30)) 12) := snd_bipush dX1_feel_10 (by decide)
theorem oX1_feel_12 : SX1_feel 12 (i_cs 92 3 15) := snd_cs rfl infX1_in (by decide) (xSm_S dX1_feel_12 q1145 q982 q127 q983 pdX1_in)
theorem oX1_feel_15 : SX1_feel 15 (i_if1 (fun x => x = 0) 27 18) := snd_if_eq dX1_feel_15 (by decide)
theorem oX1_feel_18 : SX1_feel 18 (i_aload 0 19) := snd_aload_n dX1_feel_18 rfl
theorem oX1_feel_19 : SX1_feel 19 (i_getf 0 15 22) := snd_getf dX1_feel_19 rfl (by decide) in_X1 (Or.inl q361) (Or.inl rfl) (by decide)
theorem oX1_feel_22 : SX1_feel 22 (i_const (.int (nI 8)) 24) := snd_bipush dX1_feel_22 (by decide)
theorem oX1_feel_24 : SX1_feel 24 (i_if2 (fun x y => ¬ x = y) 29 27) := snd_icmp_ne dX1_feel_24 (by decide)
theorem oX1_feel_27 : SX1_feel 27 (i_const (.int (nI 0)) 28) := snd_iconst dX1_feel_27 (by decide)
theorem oX1_feel_28 : SX1_feel 28 (i_zret) := snd_zret dX1_feel_28 rfl
theorem oX1_feel_29 : SX1_feel 29 (i_aload 0 30) := snd_aload_n dX1_feel_29 rfl
theorem oX1_feel_30 : SX1_feel 30 (i_getf 0 12 33) := snd_getf dX1_feel_30 rfl (by decide) in_X1 (Or.inl q358) (Or.inl rfl) (by decide)
theorem oX1_feel_33 : SX1_feel 33 (i_aload 0 34) := snd_aload_n dX1_feel_33 rfl
theorem oX1_feel_34 : SX1_feel 34 (i_getf 0 15 37) := snd_getf dX1_feel_34 rfl (by decide) in_X1 (Or.inl q361) (Or.inl rfl) (by decide)
theorem oX1_feel_37 : SX1_feel 37 (i_iload 1 38) := snd_iload_n dX1_feel_37 rfl
theorem oX1_feel_38 : SX1_feel 38 (i_si (fun v => v) 0 39) := snd_si0 dX1_feel_38
theorem oX1_feel_39 : SX1_feel 39 (i_aload 0 40) := snd_aload_n dX1_feel_39 rfl
theorem oX1_feel_40 : SX1_feel 40 (i_getf 0 13 43) := snd_getf dX1_feel_40 rfl (by decide) in_X1 (Or.inl q359) (Or.inl rfl) (by decide)
theorem oX1_feel_43 : SX1_feel 43 (i_aload 0 44) := snd_aload_n dX1_feel_43 rfl
theorem oX1_feel_44 : SX1_feel 44 (i_getf 0 15 47) := snd_getf dX1_feel_44 rfl (by decide) in_X1 (Or.inl q361) (Or.inl rfl) (by decide)
theorem oX1_feel_47 : SX1_feel 47 (i_iload 2 48) := snd_iload_n dX1_feel_47 rfl
theorem oX1_feel_48 : SX1_feel 48 (i_si (fun v => v) 0 49) := snd_si0 dX1_feel_48
theorem oX1_feel_49 : SX1_feel 49 (i_aload 0 50) := snd_aload_n dX1_feel_49 rfl
theorem oX1_feel_50 : SX1_feel 50 (i_getf 0 14 53) := snd_getf dX1_feel_50 rfl (by decide) in_X1 (Or.inl q360) (Or.inl rfl) (by decide)
theorem oX1_feel_53 : SX1_feel 53 (i_aload 0 54) := snd_aload_n dX1_feel_53 rfl
theorem oX1_feel_54 : SX1_feel 54 (i_dup 55) := snd_dup dX1_feel_54
theorem oX1_feel_55 : SX1_feel 55 (i_getf 0 15 58) := snd_getf dX1_feel_55 rfl (by decide) in_X1 (Or.inl q361) (Or.inl rfl) (by decide)
theorem oX1_feel_58 : SX1_feel 58 (i_dup_x1 59) := snd_dup_x1 dX1_feel_58
theorem oX1_feel_59 : SX1_feel 59 (i_const (.int (nI 1)) 60) := snd_iconst dX1_feel_59 (by decide)
theorem oX1_feel_60 : SX1_feel 60 (i_ii (fun x y => x + y) 61) := snd_iadd dX1_feel_60
theorem oX1_feel_61 : SX1_feel 61 (i_putfi 0 15 64) := snd_putfi dX1_feel_61 rfl (by decide) in_X1 tyX1 tyX1_ok nmX1 (Or.inl ⟨rfl, q361⟩) (Or.inl rfl) rfl
theorem oX1_feel_64 : SX1_feel 64 (i_iload 3 65) := snd_iload_n dX1_feel_64 rfl
theorem oX1_feel_65 : SX1_feel 65 (i_si (fun v => vp_nar .boolean v) 2 66) := snd_si2 dX1_feel_65
theorem oX1_feel_66 : SX1_feel 66 (i_const (.int (nI 1)) 67) := snd_iconst dX1_feel_66 (by decide)
theorem oX1_feel_67 : SX1_feel 67 (i_zret) := snd_zret dX1_feel_67 rfl
theorem okX1_feel : ∀ q ∈ cX1_feel, SX1_feel q.1 q.2 := List.forall_mem_cons.mpr ⟨oX1_feel_0, List.forall_mem_cons.mpr ⟨oX1_feel_1, List.forall_mem_cons.mpr ⟨oX1_feel_2, List.forall_mem_cons.mpr ⟨oX1_feel_5, List.forall_mem_cons.mpr ⟨oX1_feel_8, List.forall_mem_cons.mpr ⟨oX1_feel_9, List.forall_mem_cons.mpr ⟨oX1_feel_10, List.forall_mem_cons.mpr ⟨oX1_feel_12, List.forall_mem_cons.mpr ⟨oX1_feel_15, List.forall_mem_cons.mpr ⟨oX1_feel_18, List.forall_mem_cons.mpr ⟨oX1_feel_19, List.forall_mem_cons.mpr ⟨oX1_feel_22, List.forall_mem_cons.mpr ⟨oX1_feel_24, List.forall_mem_cons.mpr ⟨oX1_feel_27, List.forall_mem_cons.mpr ⟨oX1_feel_28, List.forall_mem_cons.mpr ⟨oX1_feel_29, List.forall_mem_cons.mpr ⟨oX1_feel_30, List.forall_mem_cons.mpr ⟨oX1_feel_33, List.forall_mem_cons.mpr ⟨oX1_feel_34, List.forall_mem_cons.mpr ⟨oX1_feel_37, List.forall_mem_cons.mpr ⟨oX1_feel_38, List.forall_mem_cons.mpr ⟨oX1_feel_39, List.forall_mem_cons.mpr ⟨oX1_feel_40, List.forall_mem_cons.mpr ⟨oX1_feel_43, List.forall_mem_cons.mpr ⟨oX1_feel_44, List.forall_mem_cons.mpr ⟨oX1_feel_47, List.forall_mem_cons.mpr ⟨oX1_feel_48, List.forall_mem_cons.mpr ⟨oX1_feel_49, List.forall_mem_cons.mpr ⟨oX1_feel_50, List.forall_mem_cons.mpr ⟨oX1_feel_53, List.forall_mem_cons.mpr ⟨oX1_feel_54, List.forall_mem_cons.mpr ⟨oX1_feel_55, List.forall_mem_cons.mpr ⟨oX1_feel_58, List.forall_mem_cons.mpr ⟨oX1_feel_59, List.forall_mem_cons.mpr ⟨oX1_feel_60, List.forall_mem_cons.mpr ⟨oX1_feel_61, List.forall_mem_cons.mpr ⟨oX1_feel_64, List.forall_mem_cons.mpr ⟨oX1_feel_65, List.forall_mem_cons.mpr ⟨oX1_feel_66, List.forall_mem_cons.mpr ⟨oX1_feel_67, fun _ h => absurd h List.not_mem_nil⟩⟩⟩⟩⟩⟩⟩⟩⟩⟩⟩⟩⟩⟩⟩⟩⟩⟩⟩⟩⟩⟩⟩⟩⟩⟩⟩⟩⟩⟩⟩⟩⟩⟩⟩⟩⟩⟩⟩⟩
theorem dX1_wets_0 : decode bcX1_wets 0 = .ok (.aload_n 0, 1) := by decide +kernel
theorem dX1_wets_1 : decode bcX1_wets 1 = .ok (.invokevirtual 323, 3) := by decide +kernel
theorem dX1_wets_4 : decode bcX1_wets 4 = .ok (.ireturn, 1) := by decide +kernel
abbrev SX1_wets (pc : Nat) (i : xI) : Prop := Snd "SwollenHouse" "wets" prog_1_method_63_code 1 (Option.some Jvm.ClassFile.FieldType.int) [] pc i
theorem oX1_wets_0 : SX1_wets 0 (i_aload 0 1) := snd_aload_n dX1_wets_0 rfl
theorem oX1_wets_1 : SX1_wets 1 (i_cv 0 147 0 4) := snd_cv rfl infX1_laysWets (by decide) rfl (xVm_V dX1_wets_1 rfl q1490 q1492 qs52 q127 q1493 pdX1_laysWets)
theorem oX1_wets_4 : SX1_wets 4 (i_iret) := snd_iret dX1_wets_4 rfl
theorem okX1_wets : ∀ q ∈ cX1_wets, SX1_wets q.1 q.2 := List.forall_mem_cons.mpr ⟨oX1_wets_0, List.forall_mem_cons.mpr ⟨oX1_wets_1, List.forall_mem_cons.mpr ⟨oX1_wets_4, fun _ h => absurd h List.not_mem_nil⟩⟩⟩
def dkwX1_laysWets_6 : List UInt8 := [172]
abbrev dktX1_laysWets_6 : List UInt8 := dkwX1_laysWets_6 ++ []
def dkwX1_laysWets_5 : List UInt8 := [62, 132, 4, 1, 167, 255, 200, 29, 153, 0, 9, 27, 4, 28, 120, 128, 60, 132, 2, 1, 167, 255, 123, 27]
abbrev dktX1_laysWets_5 : List UInt8 := dkwX1_laysWets_5 ++ dktX1_laysWets_6
def dkwX1_laysWets_4 : List UInt8 := [180, 0, 72, 21, 4, 46, 184, 1, 30, 42, 180, 0, 78, 21, 4, 51, 160, 0, 7, 4, 167, 0, 4, 3]
abbrev dktX1_laysWets_4 : List UInt8 := dkwX1_laysWets_4 ++ dktX1_laysWets_5
def dkwX1_laysWets_3 : List UInt8 := [162, 0, 53, 29, 153, 0, 41, 42, 180, 0, 84, 28, 50, 42, 180, 0, 75, 21, 4, 46, 46, 42]
abbrev dktX1_laysWets_3 : List UInt8 := dkwX1_laysWets_3 ++ dktX1_laysWets_4
def dkwX1_laysWets_2 : List UInt8 := [180, 0, 55, 182, 0, 222, 79, 132, 3, 1, 167, 255, 222, 4, 62, 3, 54, 4, 21, 4, 42, 180, 0, 121]
abbrev dktX1_laysWets_2 : List UInt8 := dkwX1_laysWets_2 ++ dktX1_laysWets_3
def dkwX1_laysWets_1 : List UInt8 := [16, 30, 163, 0, 34, 42, 42, 180, 0, 55, 28, 182, 0, 212, 42, 180, 0, 84, 28, 50, 29, 42, 42]
abbrev dktX1_laysWets_1 : List UInt8 := dkwX1_laysWets_1 ++ dktX1_laysWets_2
def dkwX1_laysWets_0 : List UInt8 := [3, 60, 3, 61, 28, 16, 9, 163, 0, 133, 42, 180, 0, 55, 42, 180, 0, 51, 182, 0, 253, 4, 62, 29]
abbrev dktX1_laysWets_0 : List UInt8 := dkwX1_laysWets_0 ++ dktX1_laysWets_1
theorem dksX1_laysWets_0 : bcX1_laysWets.data.toList.drop 0 = dktX1_laysWets_0 := by decide +kernel
theorem dksX1_laysWets_1 : bcX1_laysWets.data.toList.drop 24 = dktX1_laysWets_1 := dk_seg dksX1_laysWets_0 24 rfl rfl
theorem dksX1_laysWets_2 : bcX1_laysWets.data.toList.drop 47 = dktX1_laysWets_2 := dk_seg dksX1_laysWets_1 23 rfl rfl
theorem dksX1_laysWets_3 : bcX1_laysWets.data.toList.drop 71 = dktX1_laysWets_3 := dk_seg dksX1_laysWets_2 24 rfl rfl
theorem dksX1_laysWets_4 : bcX1_laysWets.data.toList.drop 93 = dktX1_laysWets_4 := dk_seg dksX1_laysWets_3 22 rfl rfl
theorem dksX1_laysWets_5 : bcX1_laysWets.data.toList.drop 117 = dktX1_laysWets_5 := dk_seg dksX1_laysWets_4 24 rfl rfl
theorem dksX1_laysWets_6 : bcX1_laysWets.data.toList.drop 141 = dktX1_laysWets_6 := dk_seg dksX1_laysWets_5 24 rfl rfl
theorem dX1_laysWets_0 : decode bcX1_laysWets 0 = .ok (.iconst 0, 1) := dk_3 (dk_at dksX1_laysWets_0 0 rfl rfl)
theorem dX1_laysWets_1 : decode bcX1_laysWets 1 = .ok (.istore_n 1, 1) := dk_60 (dk_at dksX1_laysWets_0 1 rfl rfl)
theorem dX1_laysWets_2 : decode bcX1_laysWets 2 = .ok (.iconst 0, 1) := dk_3 (dk_at dksX1_laysWets_0 2 rfl rfl)
theorem dX1_laysWets_3 : decode bcX1_laysWets 3 = .ok (.istore_n 2, 1) := dk_61 (dk_at dksX1_laysWets_0 3 rfl rfl)
theorem dX1_laysWets_4 : decode bcX1_laysWets 4 = .ok (.iload_n 2, 1) := dk_28 (dk_at dksX1_laysWets_0 4 rfl rfl)
theorem dX1_laysWets_5 : decode bcX1_laysWets 5 = .ok (.bipush 9, 2) := dk_16 9 (dk_at dksX1_laysWets_0 5 rfl rfl)
theorem dX1_laysWets_7 : decode bcX1_laysWets 7 = .ok (.if_icmp .gt 133, 3) := dk_163 0 133 (dk_at dksX1_laysWets_0 7 rfl rfl)
theorem dX1_laysWets_10 : decode bcX1_laysWets 10 = .ok (.aload_n 0, 1) := dk_42 (dk_at dksX1_laysWets_0 10 rfl rfl)
theorem dX1_laysWets_11 : decode bcX1_laysWets 11 = .ok (.getfield 55, 3) := dk_180 0 55 (dk_at dksX1_laysWets_0 11 rfl rfl)
theorem dX1_laysWets_14 : decode bcX1_laysWets 14 = .ok (.aload_n 0, 1) := dk_42 (dk_at dksX1_laysWets_0 14 rfl rfl)
theorem dX1_laysWets_15 : decode bcX1_laysWets 15 = .ok (.getfield 51, 3) := dk_180 0 51 (dk_at dksX1_laysWets_0 15 rfl rfl)
theorem dX1_laysWets_18 : decode bcX1_laysWets 18 = .ok (.invokevirtual 253, 3) := dk_182 0 253 (dk_at dksX1_laysWets_0 18 rfl rfl)
theorem dX1_laysWets_21 : decode bcX1_laysWets 21 = .ok (.iconst 1, 1) := dk_4 (dk_at dksX1_laysWets_0 21 rfl rfl)
theorem dX1_laysWets_22 : decode bcX1_laysWets 22 = .ok (.istore_n 3, 1) := dk_62 (dk_at dksX1_laysWets_0 22 rfl rfl)
theorem dX1_laysWets_23 : decode bcX1_laysWets 23 = .ok (.iload_n 3, 1) := dk_29 (dk_at dksX1_laysWets_0 23 rfl rfl)
theorem dX1_laysWets_24 : decode bcX1_laysWets 24 = .ok (.bipush 30, 2) := dk_16 30 (dk_at dksX1_laysWets_1 0 rfl rfl)
theorem dX1_laysWets_26 : decode bcX1_laysWets 26 = .ok (.if_icmp .gt 34, 3) := dk_163 0 34 (dk_at dksX1_laysWets_1 2 rfl rfl)
theorem dX1_laysWets_29 : decode bcX1_laysWets 29 = .ok (.aload_n 0, 1) := dk_42 (dk_at dksX1_laysWets_1 5 rfl rfl)
theorem dX1_laysWets_30 : decode bcX1_laysWets 30 = .ok (.aload_n 0, 1) := dk_42 (dk_at dksX1_laysWets_1 6 rfl rfl)
theorem dX1_laysWets_31 : decode bcX1_laysWets 31 = .ok (.getfield 55, 3) := dk_180 0 55 (dk_at dksX1_laysWets_1 7 rfl rfl)
theorem dX1_laysWets_34 : decode bcX1_laysWets 34 = .ok (.iload_n 2, 1) := dk_28 (dk_at dksX1_laysWets_1 10 rfl rfl)
theorem dX1_laysWets_35 : decode bcX1_laysWets 35 = .ok (.invokevirtual 212, 3) := dk_182 0 212 (dk_at dksX1_laysWets_1 11 rfl rfl)
theorem dX1_laysWets_38 : decode bcX1_laysWets 38 = .ok (.aload_n 0, 1) := dk_42 (dk_at dksX1_laysWets_1 14 rfl rfl)
theorem dX1_laysWets_39 : decode bcX1_laysWets 39 = .ok (.getfield 84, 3) := dk_180 0 84 (dk_at dksX1_laysWets_1 15 rfl rfl)
theorem dX1_laysWets_42 : decode bcX1_laysWets 42 = .ok (.iload_n 2, 1) := dk_28 (dk_at dksX1_laysWets_1 18 rfl rfl)
theorem dX1_laysWets_43 : decode bcX1_laysWets 43 = .ok (.aaload, 1) := dk_50 (dk_at dksX1_laysWets_1 19 rfl rfl)
theorem dX1_laysWets_44 : decode bcX1_laysWets 44 = .ok (.iload_n 3, 1) := dk_29 (dk_at dksX1_laysWets_1 20 rfl rfl)
theorem dX1_laysWets_45 : decode bcX1_laysWets 45 = .ok (.aload_n 0, 1) := dk_42 (dk_at dksX1_laysWets_1 21 rfl rfl)
theorem dX1_laysWets_46 : decode bcX1_laysWets 46 = .ok (.aload_n 0, 1) := dk_42 (dk_at dksX1_laysWets_1 22 rfl rfl)
theorem dX1_laysWets_47 : decode bcX1_laysWets 47 = .ok (.getfield 55, 3) := dk_180 0 55 (dk_at dksX1_laysWets_2 0 rfl rfl)
theorem dX1_laysWets_50 : decode bcX1_laysWets 50 = .ok (.invokevirtual 222, 3) := dk_182 0 222 (dk_at dksX1_laysWets_2 3 rfl rfl)
theorem dX1_laysWets_53 : decode bcX1_laysWets 53 = .ok (.iastore, 1) := dk_79 (dk_at dksX1_laysWets_2 6 rfl rfl)
theorem dX1_laysWets_54 : decode bcX1_laysWets 54 = .ok (.iinc 3 1, 3) := dk_132 3 1 (dk_at dksX1_laysWets_2 7 rfl rfl)
theorem dX1_laysWets_57 : decode bcX1_laysWets 57 = .ok (.goto (-34), 3) := dk_167 255 222 (dk_at dksX1_laysWets_2 10 rfl rfl)
theorem dX1_laysWets_60 : decode bcX1_laysWets 60 = .ok (.iconst 1, 1) := dk_4 (dk_at dksX1_laysWets_2 13 rfl rfl)
theorem dX1_laysWets_61 : decode bcX1_laysWets 61 = .ok (.istore_n 3, 1) := dk_62 (dk_at dksX1_laysWets_2 14 rfl rfl)
theorem dX1_laysWets_62 : decode bcX1_laysWets 62 = .ok (.iconst 0, 1) := dk_3 (dk_at dksX1_laysWets_2 15 rfl rfl)
theorem dX1_laysWets_63 : decode bcX1_laysWets 63 = .ok (.istore 4, 2) := dk_54 4 (dk_at dksX1_laysWets_2 16 rfl rfl)
theorem dX1_laysWets_65 : decode bcX1_laysWets 65 = .ok (.iload 4, 2) := dk_21 4 (dk_at dksX1_laysWets_2 18 rfl rfl)
theorem dX1_laysWets_67 : decode bcX1_laysWets 67 = .ok (.aload_n 0, 1) := dk_42 (dk_at dksX1_laysWets_2 20 rfl rfl)
theorem dX1_laysWets_68 : decode bcX1_laysWets 68 = .ok (.getfield 121, 3) := dk_180 0 121 (dk_at dksX1_laysWets_2 21 rfl rfl)
theorem dX1_laysWets_71 : decode bcX1_laysWets 71 = .ok (.if_icmp .ge 53, 3) := dk_162 0 53 (dk_at dksX1_laysWets_3 0 rfl rfl)
theorem dX1_laysWets_74 : decode bcX1_laysWets 74 = .ok (.iload_n 3, 1) := dk_29 (dk_at dksX1_laysWets_3 3 rfl rfl)
theorem dX1_laysWets_75 : decode bcX1_laysWets 75 = .ok (.ifCond .eq 41, 3) := dk_153 0 41 (dk_at dksX1_laysWets_3 4 rfl rfl)
theorem dX1_laysWets_78 : decode bcX1_laysWets 78 = .ok (.aload_n 0, 1) := dk_42 (dk_at dksX1_laysWets_3 7 rfl rfl)
theorem dX1_laysWets_79 : decode bcX1_laysWets 79 = .ok (.getfield 84, 3) := dk_180 0 84 (dk_at dksX1_laysWets_3 8 rfl rfl)
theorem dX1_laysWets_82 : decode bcX1_laysWets 82 = .ok (.iload_n 2, 1) := dk_28 (dk_at dksX1_laysWets_3 11 rfl rfl)
theorem dX1_laysWets_83 : decode bcX1_laysWets 83 = .ok (.aaload, 1) := dk_50 (dk_at dksX1_laysWets_3 12 rfl rfl)
theorem dX1_laysWets_84 : decode bcX1_laysWets 84 = .ok (.aload_n 0, 1) := dk_42 (dk_at dksX1_laysWets_3 13 rfl rfl)
theorem dX1_laysWets_85 : decode bcX1_laysWets 85 = .ok (.getfield 75, 3) := dk_180 0 75 (dk_at dksX1_laysWets_3 14 rfl rfl)
theorem dX1_laysWets_88 : decode bcX1_laysWets 88 = .ok (.iload 4, 2) := dk_21 4 (dk_at dksX1_laysWets_3 17 rfl rfl)
theorem dX1_laysWets_90 : decode bcX1_laysWets 90 = .ok (.iaload, 1) := dk_46 (dk_at dksX1_laysWets_3 19 rfl rfl)
theorem dX1_laysWets_91 : decode bcX1_laysWets 91 = .ok (.iaload, 1) := dk_46 (dk_at dksX1_laysWets_3 20 rfl rfl)
theorem dX1_laysWets_92 : decode bcX1_laysWets 92 = .ok (.aload_n 0, 1) := dk_42 (dk_at dksX1_laysWets_3 21 rfl rfl)
theorem dX1_laysWets_93 : decode bcX1_laysWets 93 = .ok (.getfield 72, 3) := dk_180 0 72 (dk_at dksX1_laysWets_4 0 rfl rfl)
theorem dX1_laysWets_96 : decode bcX1_laysWets 96 = .ok (.iload 4, 2) := dk_21 4 (dk_at dksX1_laysWets_4 3 rfl rfl)
theorem dX1_laysWets_98 : decode bcX1_laysWets 98 = .ok (.iaload, 1) := dk_46 (dk_at dksX1_laysWets_4 5 rfl rfl)
theorem dX1_laysWets_99 : decode bcX1_laysWets 99 = .ok (.invokestatic 286, 3) := dk_184 1 30 (dk_at dksX1_laysWets_4 6 rfl rfl)
theorem dX1_laysWets_102 : decode bcX1_laysWets 102 = .ok (.aload_n 0, 1) := dk_42 (dk_at dksX1_laysWets_4 9 rfl rfl)
theorem dX1_laysWets_103 : decode bcX1_laysWets 103 = .ok (.getfield 78, 3) := dk_180 0 78 (dk_at dksX1_laysWets_4 10 rfl rfl)
theorem dX1_laysWets_106 : decode bcX1_laysWets 106 = .ok (.iload 4, 2) := dk_21 4 (dk_at dksX1_laysWets_4 13 rfl rfl)
theorem dX1_laysWets_108 : decode bcX1_laysWets 108 = .ok (.baload, 1) := dk_51 (dk_at dksX1_laysWets_4 15 rfl rfl)
theorem dX1_laysWets_109 : decode bcX1_laysWets 109 = .ok (.if_icmp .ne 7, 3) := dk_160 0 7 (dk_at dksX1_laysWets_4 16 rfl rfl)
theorem dX1_laysWets_112 : decode bcX1_laysWets 112 = .ok (.iconst 1, 1) := dk_4 (dk_at dksX1_laysWets_4 19 rfl rfl)
theorem dX1_laysWets_113 : decode bcX1_laysWets 113 = .ok (.goto 4, 3) := dk_167 0 4 (dk_at dksX1_laysWets_4 20 rfl rfl)
theorem dX1_laysWets_116 : decode bcX1_laysWets 116 = .ok (.iconst 0, 1) := dk_3 (dk_at dksX1_laysWets_4 23 rfl rfl)
theorem dX1_laysWets_117 : decode bcX1_laysWets 117 = .ok (.istore_n 3, 1) := dk_62 (dk_at dksX1_laysWets_5 0 rfl rfl)
theorem dX1_laysWets_118 : decode bcX1_laysWets 118 = .ok (.iinc 4 1, 3) := dk_132 4 1 (dk_at dksX1_laysWets_5 1 rfl rfl)
theorem dX1_laysWets_121 : decode bcX1_laysWets 121 = .ok (.goto (-56), 3) := dk_167 255 200 (dk_at dksX1_laysWets_5 4 rfl rfl)
theorem dX1_laysWets_124 : decode bcX1_laysWets 124 = .ok (.iload_n 3, 1) := dk_29 (dk_at dksX1_laysWets_5 7 rfl rfl)
theorem dX1_laysWets_125 : decode bcX1_laysWets 125 = .ok (.ifCond .eq 9, 3) := dk_153 0 9 (dk_at dksX1_laysWets_5 8 rfl rfl)
theorem dX1_laysWets_128 : decode bcX1_laysWets 128 = .ok (.iload_n 1, 1) := dk_27 (dk_at dksX1_laysWets_5 11 rfl rfl)
theorem dX1_laysWets_129 : decode bcX1_laysWets 129 = .ok (.iconst 1, 1) := dk_4 (dk_at dksX1_laysWets_5 12 rfl rfl)
theorem dX1_laysWets_130 : decode bcX1_laysWets 130 = .ok (.iload_n 2, 1) := dk_28 (dk_at dksX1_laysWets_5 13 rfl rfl)
theorem dX1_laysWets_131 : decode bcX1_laysWets 131 = .ok (.ishl, 1) := dk_120 (dk_at dksX1_laysWets_5 14 rfl rfl)
theorem dX1_laysWets_132 : decode bcX1_laysWets 132 = .ok (.ior, 1) := dk_128 (dk_at dksX1_laysWets_5 15 rfl rfl)
theorem dX1_laysWets_133 : decode bcX1_laysWets 133 = .ok (.istore_n 1, 1) := dk_60 (dk_at dksX1_laysWets_5 16 rfl rfl)
theorem dX1_laysWets_134 : decode bcX1_laysWets 134 = .ok (.iinc 2 1, 3) := dk_132 2 1 (dk_at dksX1_laysWets_5 17 rfl rfl)
theorem dX1_laysWets_137 : decode bcX1_laysWets 137 = .ok (.goto (-133), 3) := dk_167 255 123 (dk_at dksX1_laysWets_5 20 rfl rfl)
theorem dX1_laysWets_140 : decode bcX1_laysWets 140 = .ok (.iload_n 1, 1) := dk_27 (dk_at dksX1_laysWets_5 23 rfl rfl)
theorem dX1_laysWets_141 : decode bcX1_laysWets 141 = .ok (.ireturn, 1) := dk_172 (dk_at dksX1_laysWets_6 0 rfl rfl)
abbrev SX1_laysWets (pc : Nat) (i : xI) : Prop := Snd "SwollenHouse" "laysWets" prog_1_method_62_code 5 (Option.some Jvm.ClassFile.FieldType.int) [] pc i
theorem oX1_laysWets_0 : SX1_laysWets 0 (i_const (.int (nI 0)) 1) := snd_iconst dX1_laysWets_0 (by decide)
theorem oX1_laysWets_1 : SX1_laysWets 1 (i_istore 1 2) := snd_istore_n dX1_laysWets_1 rfl (by decide)
theorem oX1_laysWets_2 : SX1_laysWets 2 (i_const (.int (nI 0)) 3) := snd_iconst dX1_laysWets_2 (by decide)
theorem oX1_laysWets_3 : SX1_laysWets 3 (i_istore 2 4) := snd_istore_n dX1_laysWets_3 rfl (by decide)
theorem oX1_laysWets_4 : SX1_laysWets 4 (i_iload 2 5) := snd_iload_n dX1_laysWets_4 rfl
theorem oX1_laysWets_5 : SX1_laysWets 5 (i_const (.int (nI 9)) 7) := snd_bipush dX1_laysWets_5 (by decide)
theorem oX1_laysWets_7 : SX1_laysWets 7 (i_if2 (fun x y => y < x) 140 10) := snd_icmp_gt dX1_laysWets_7 (by decide)
theorem oX1_laysWets_10 : SX1_laysWets 10 (i_aload 0 11) := snd_aload_n dX1_laysWets_10 rfl
theorem oX1_laysWets_11 : SX1_laysWets 11 (i_getf 0 5 14) := snd_getf dX1_laysWets_11 rfl (by decide) in_X1 (Or.inl q351) (Or.inl rfl) (by decide)
theorem oX1_laysWets_14 : SX1_laysWets 14 (i_aload 0 15) := snd_aload_n dX1_laysWets_14 rfl
theorem oX1_laysWets_15 : SX1_laysWets 15 (i_getf 0 4 18) := snd_getf dX1_laysWets_15 rfl (by decide) in_X1 (Or.inl q350) (Or.inl rfl) (by decide)
theorem oX1_laysWets_18 : SX1_laysWets 18 (i_cvv 3 239 1 21) := snd_cvv rfl infX4_be (by decide) rfl (xVm_V dX1_laysWets_18 rfl q1194 q1195 q1196 q133 q1197 pdX4_be)
theorem oX1_laysWets_21 : SX1_laysWets 21 (i_const (.int (nI 1)) 22) := snd_iconst dX1_laysWets_21 (by decide)
theorem oX1_laysWets_22 : SX1_laysWets 22 (i_istore 3 23) := snd_istore_n dX1_laysWets_22 rfl (by decide)
theorem oX1_laysWets_23 : SX1_laysWets 23 (i_iload 3 24) := snd_iload_n dX1_laysWets_23 rfl
theorem oX1_laysWets_24 : SX1_laysWets 24 (i_const (.int (nI 30)) 26) := snd_bipush dX1_laysWets_24 (by decide)
theorem oX1_laysWets_26 : SX1_laysWets 26 (i_if2 (fun x y => y < x) 60 29) := snd_icmp_gt dX1_laysWets_26 (by decide)
theorem oX1_laysWets_29 : SX1_laysWets 29 (i_aload 0 30) := snd_aload_n dX1_laysWets_29 rfl
theorem oX1_laysWets_30 : SX1_laysWets 30 (i_aload 0 31) := snd_aload_n dX1_laysWets_30 rfl
theorem oX1_laysWets_31 : SX1_laysWets 31 (i_getf 0 5 34) := snd_getf dX1_laysWets_31 rfl (by decide) in_X1 (Or.inl q351) (Or.inl rfl) (by decide)
theorem oX1_laysWets_34 : SX1_laysWets 34 (i_iload 2 35) := snd_iload_n dX1_laysWets_34 rfl
theorem oX1_laysWets_35 : SX1_laysWets 35 (i_cvv 0 105 2 38) := snd_cvv rfl infX1_passes_2 (by decide) rfl (xVm_V dX1_laysWets_35 rfl q1206 q1208 qs36 q127 q1209 pdX1_passes_2)
theorem oX1_laysWets_38 : SX1_laysWets 38 (i_aload 0 39) := snd_aload_n dX1_laysWets_38 rfl
theorem oX1_laysWets_39 : SX1_laysWets 39 (i_getf 0 16 42) := snd_getf dX1_laysWets_39 rfl (by decide) in_X1 (Or.inl q362) (Or.inl rfl) (by decide)
theorem oX1_laysWets_42 : SX1_laysWets 42 (i_iload 2 43) := snd_iload_n dX1_laysWets_42 rfl
theorem oX1_laysWets_43 : SX1_laysWets 43 (i_aq 6 44) := snd_aq dX1_laysWets_43 (fun _ => rfl) rfl
theorem oX1_laysWets_44 : SX1_laysWets 44 (i_iload 3 45) := snd_iload_n dX1_laysWets_44 rfl
theorem oX1_laysWets_45 : SX1_laysWets 45 (i_aload 0 46) := snd_aload_n dX1_laysWets_45 rfl
theorem oX1_laysWets_46 : SX1_laysWets 46 (i_aload 0 47) := snd_aload_n dX1_laysWets_46 rfl
theorem oX1_laysWets_47 : SX1_laysWets 47 (i_getf 0 5 50) := snd_getf dX1_laysWets_47 rfl (by decide) in_X1 (Or.inl q351) (Or.inl rfl) (by decide)
theorem oX1_laysWets_50 : SX1_laysWets 50 (i_cv 0 108 1 53) := snd_cv rfl infX1_sticking (by decide) rfl (xVm_V dX1_laysWets_50 rfl q1281 q1283 qs38 q127 q1284 pdX1_sticking)
theorem oX1_laysWets_53 : SX1_laysWets 53 (i_si (fun v => v) 0 54) := snd_si0 dX1_laysWets_53
theorem oX1_laysWets_54 : SX1_laysWets 54 (i_iinc 3 (nI 1) 57) := snd_iinc dX1_laysWets_54 (by decide) (by decide)
theorem oX1_laysWets_57 : SX1_laysWets 57 (i_goto 23) := snd_goto dX1_laysWets_57 (by decide)
theorem oX1_laysWets_60 : SX1_laysWets 60 (i_const (.int (nI 1)) 61) := snd_iconst dX1_laysWets_60 (by decide)
theorem oX1_laysWets_61 : SX1_laysWets 61 (i_istore 3 62) := snd_istore_n dX1_laysWets_61 rfl (by decide)
theorem oX1_laysWets_62 : SX1_laysWets 62 (i_const (.int (nI 0)) 63) := snd_iconst dX1_laysWets_62 (by decide)
theorem oX1_laysWets_63 : SX1_laysWets 63 (i_istore 4 65) := snd_istore dX1_laysWets_63 (by decide)
theorem oX1_laysWets_65 : SX1_laysWets 65 (i_iload 4 67) := snd_iload dX1_laysWets_65
theorem oX1_laysWets_67 : SX1_laysWets 67 (i_aload 0 68) := snd_aload_n dX1_laysWets_67 rfl
theorem oX1_laysWets_68 : SX1_laysWets 68 (i_getf 0 15 71) := snd_getf dX1_laysWets_68 rfl (by decide) in_X1 (Or.inl q361) (Or.inl rfl) (by decide)
theorem oX1_laysWets_71 : SX1_laysWets 71 (i_if2 (fun x y => y ≤ x) 124 74) := snd_icmp_ge dX1_laysWets_71 (by decide)
theorem oX1_laysWets_74 : SX1_laysWets 74 (i_iload 3 75) := snd_iload_n dX1_laysWets_74 rfl
theorem oX1_laysWets_75 : SX1_laysWets 75 (i_if1 (fun x => x = 0) 116 78) := snd_if_eq dX1_laysWets_75 (by decide)
theorem oX1_laysWets_78 : SX1_laysWets 78 (i_aload 0 79) := snd_aload_n dX1_laysWets_78 rfl
theorem oX1_laysWets_79 : SX1_laysWets 79 (i_getf 0 16 82) := snd_getf dX1_laysWets_79 rfl (by decide) in_X1 (Or.inl q362) (Or.inl rfl) (by decide)
theorem oX1_laysWets_82 : SX1_laysWets 82 (i_iload 2 83) := snd_iload_n dX1_laysWets_82 rfl
theorem oX1_laysWets_83 : SX1_laysWets 83 (i_aq 6 84) := snd_aq dX1_laysWets_83 (fun _ => rfl) rfl
theorem oX1_laysWets_84 : SX1_laysWets 84 (i_aload 0 85) := snd_aload_n dX1_laysWets_84 rfl
theorem oX1_laysWets_85 : SX1_laysWets 85 (i_getf 0 13 88) := snd_getf dX1_laysWets_85 rfl (by decide) in_X1 (Or.inl q359) (Or.inl rfl) (by decide)
theorem oX1_laysWets_88 : SX1_laysWets 88 (i_iload 4 90) := snd_iload dX1_laysWets_88
theorem oX1_laysWets_90 : SX1_laysWets 90 (i_ai 0 91) := snd_ai0 dX1_laysWets_90
theorem oX1_laysWets_91 : SX1_laysWets 91 (i_ai 0 92) := snd_ai0 dX1_laysWets_91
theorem oX1_laysWets_92 : SX1_laysWets 92 (i_aload 0 93) := snd_aload_n dX1_laysWets_92 rfl
theorem oX1_laysWets_93 : SX1_laysWets 93 (i_getf 0 12 96) := snd_getf dX1_laysWets_93 rfl (by decide) in_X1 (Or.inl q358) (Or.inl rfl) (by decide)
theorem oX1_laysWets_96 : SX1_laysWets 96 (i_iload 4 98) := snd_iload dX1_laysWets_96
theorem oX1_laysWets_98 : SX1_laysWets 98 (i_ai 0 99) := snd_ai0 dX1_laysWets_98
theorem oX1_laysWets_99 : SX1_laysWets 99 (i_cs 98 2 102) := snd_cs rfl infX1_isIn (by decide) (xSm_S dX1_laysWets_99 q1397 q1172 q127 q1173 pdX1_isIn)
theorem oX1_laysWets_102 : SX1_laysWets 102 (i_aload 0 103) := snd_aload_n dX1_laysWets_102 rfl
theorem oX1_laysWets_103 : SX1_laysWets 103 (i_getf 0 14 106) := snd_getf dX1_laysWets_103 rfl (by decide) in_X1 (Or.inl q360) (Or.inl rfl) (by decide)
theorem oX1_laysWets_106 : SX1_laysWets 106 (i_iload 4 108) := snd_iload dX1_laysWets_106
theorem oX1_laysWets_108 : SX1_laysWets 108 (i_ai 2 109) := snd_ai2 dX1_laysWets_108
theorem oX1_laysWets_109 : SX1_laysWets 109 (i_if2 (fun x y => ¬ x = y) 116 112) := snd_icmp_ne dX1_laysWets_109 (by decide)
theorem oX1_laysWets_112 : SX1_laysWets 112 (i_const (.int (nI 1)) 113) := snd_iconst dX1_laysWets_112 (by decide)
theorem oX1_laysWets_113 : SX1_laysWets 113 (i_goto 117) := snd_goto dX1_laysWets_113 (by decide)
theorem oX1_laysWets_116 : SX1_laysWets 116 (i_const (.int (nI 0)) 117) := snd_iconst dX1_laysWets_116 (by decide)
theorem oX1_laysWets_117 : SX1_laysWets 117 (i_istore 3 118) := snd_istore_n dX1_laysWets_117 rfl (by decide)
theorem oX1_laysWets_118 : SX1_laysWets 118 (i_iinc 4 (nI 1) 121) := snd_iinc dX1_laysWets_118 (by decide) (by decide)
theorem oX1_laysWets_121 : SX1_laysWets 121 (i_goto 65) := snd_goto dX1_laysWets_121 (by decide)
theorem oX1_laysWets_124 : SX1_laysWets 124 (i_iload 3 125) := snd_iload_n dX1_laysWets_124 rfl
theorem oX1_laysWets_125 : SX1_laysWets 125 (i_if1 (fun x => x = 0) 134 128) := snd_if_eq dX1_laysWets_125 (by decide)
theorem oX1_laysWets_128 : SX1_laysWets 128 (i_iload 1 129) := snd_iload_n dX1_laysWets_128 rfl
theorem oX1_laysWets_129 : SX1_laysWets 129 (i_const (.int (nI 1)) 130) := snd_iconst dX1_laysWets_129 (by decide)
theorem oX1_laysWets_130 : SX1_laysWets 130 (i_iload 2 131) := snd_iload_n dX1_laysWets_130 rfl
theorem oX1_laysWets_131 : SX1_laysWets 131 (i_ii (fun x y => x <<< (y &&& 31)) 132) := snd_ishl dX1_laysWets_131
theorem oX1_laysWets_132 : SX1_laysWets 132 (i_ii (fun x y => x ||| y) 133) := snd_ior dX1_laysWets_132
theorem oX1_laysWets_133 : SX1_laysWets 133 (i_istore 1 134) := snd_istore_n dX1_laysWets_133 rfl (by decide)
theorem oX1_laysWets_134 : SX1_laysWets 134 (i_iinc 2 (nI 1) 137) := snd_iinc dX1_laysWets_134 (by decide) (by decide)
theorem oX1_laysWets_137 : SX1_laysWets 137 (i_goto 4) := snd_goto dX1_laysWets_137 (by decide)
theorem oX1_laysWets_140 : SX1_laysWets 140 (i_iload 1 141) := snd_iload_n dX1_laysWets_140 rfl
theorem oX1_laysWets_141 : SX1_laysWets 141 (i_iret) := snd_iret dX1_laysWets_141 rfl
theorem okX1_laysWets : ∀ q ∈ cX1_laysWets, SX1_laysWets q.1 q.2 := List.forall_mem_cons.mpr ⟨oX1_laysWets_0, List.forall_mem_cons.mpr ⟨oX1_laysWets_1, List.forall_mem_cons.mpr ⟨oX1_laysWets_2, List.forall_mem_cons.mpr ⟨oX1_laysWets_3, List.forall_mem_cons.mpr ⟨oX1_laysWets_4, List.forall_mem_cons.mpr ⟨oX1_laysWets_5, List.forall_mem_cons.mpr ⟨oX1_laysWets_7, List.forall_mem_cons.mpr ⟨oX1_laysWets_10, List.forall_mem_cons.mpr ⟨oX1_laysWets_11, List.forall_mem_cons.mpr ⟨oX1_laysWets_14, List.forall_mem_cons.mpr ⟨oX1_laysWets_15, List.forall_mem_cons.mpr ⟨oX1_laysWets_18, List.forall_mem_cons.mpr ⟨oX1_laysWets_21, List.forall_mem_cons.mpr ⟨oX1_laysWets_22, List.forall_mem_cons.mpr ⟨oX1_laysWets_23, List.forall_mem_cons.mpr ⟨oX1_laysWets_24, List.forall_mem_cons.mpr ⟨oX1_laysWets_26, List.forall_mem_cons.mpr ⟨oX1_laysWets_29, List.forall_mem_cons.mpr ⟨oX1_laysWets_30, List.forall_mem_cons.mpr ⟨oX1_laysWets_31, List.forall_mem_cons.mpr ⟨oX1_laysWets_34, List.forall_mem_cons.mpr ⟨oX1_laysWets_35, List.forall_mem_cons.mpr ⟨oX1_laysWets_38, List.forall_mem_cons.mpr ⟨oX1_laysWets_39, List.forall_mem_cons.mpr ⟨oX1_laysWets_42, List.forall_mem_cons.mpr ⟨oX1_laysWets_43, List.forall_mem_cons.mpr ⟨oX1_laysWets_44, List.forall_mem_cons.mpr ⟨oX1_laysWets_45, List.forall_mem_cons.mpr ⟨oX1_laysWets_46, List.forall_mem_cons.mpr ⟨oX1_laysWets_47, List.forall_mem_cons.mpr ⟨oX1_laysWets_50, List.forall_mem_cons.mpr ⟨oX1_laysWets_53, List.forall_mem_cons.mpr ⟨oX1_laysWets_54, List.forall_mem_cons.mpr ⟨oX1_laysWets_57, List.forall_mem_cons.mpr ⟨oX1_laysWets_60, List.forall_mem_cons.mpr ⟨oX1_laysWets_61, List.forall_mem_cons.mpr ⟨oX1_laysWets_62, List.forall_mem_cons.mpr ⟨oX1_laysWets_63, List.forall_mem_cons.mpr ⟨oX1_laysWets_65, List.forall_mem_cons.mpr ⟨oX1_laysWets_67, List.forall_mem_cons.mpr ⟨oX1_laysWets_68, List.forall_mem_cons.mpr ⟨oX1_laysWets_71, List.forall_mem_cons.mpr ⟨oX1_laysWets_74, List.forall_mem_cons.mpr ⟨oX1_laysWets_75, List.forall_mem_cons.mpr ⟨oX1_laysWets_78, List.forall_mem_cons.mpr ⟨oX1_laysWets_79, List.forall_mem_cons.mpr ⟨oX1_laysWets_82, List.forall_mem_cons.mpr ⟨oX1_laysWets_83, List.forall_mem_cons.mpr ⟨oX1_laysWets_84, List.forall_mem_cons.mpr ⟨oX1_laysWets_85, List.forall_mem_cons.mpr ⟨oX1_laysWets_88, List.forall_mem_cons.mpr ⟨oX1_laysWets_90, List.forall_mem_cons.mpr ⟨oX1_laysWets_91, List.forall_mem_cons.mpr ⟨oX1_laysWets_92, List.forall_mem_cons.mpr ⟨oX1_laysWets_93, List.forall_mem_cons.mpr ⟨oX1_laysWets_96, List.forall_mem_cons.mpr ⟨oX1_laysWets_98, List.forall_mem_cons.mpr ⟨oX1_laysWets_99, List.forall_mem_cons.mpr ⟨oX1_laysWets_102, List.forall_mem_cons.mpr ⟨oX1_laysWets_103, List.forall_mem_cons.mpr ⟨oX1_laysWets_106, List.forall_mem_cons.mpr ⟨oX1_laysWets_108, List.forall_mem_cons.mpr ⟨oX1_laysWets_109, List.forall_mem_cons.mpr ⟨oX1_laysWets_112, List.forall_mem_cons.mpr ⟨oX1_laysWets_113, List.forall_mem_cons.mpr ⟨oX1_laysWets_116, List.forall_mem_cons.mpr ⟨oX1_laysWets_117, List.forall_mem_cons.mpr ⟨oX1_laysWets_118, List.forall_mem_cons.mpr ⟨oX1_laysWets_121, List.forall_mem_cons.mpr ⟨oX1_laysWets_124, List.forall_mem_cons.mpr ⟨oX1_laysWets_125, List.forall_mem_cons.mpr ⟨oX1_laysWets_128, List.forall_mem_cons.mpr ⟨oX1_laysWets_129, List.forall_mem_cons.mpr ⟨oX1_laysWets_130, List.forall_mem_cons.mpr ⟨oX1_laysWets_131, List.forall_mem_cons.mpr ⟨oX1_laysWets_132, List.forall_mem_cons.mpr ⟨oX1_laysWets_133, List.forall_mem_cons.mpr ⟨oX1_laysWets_134, List.forall_mem_cons.mpr ⟨oX1_laysWets_137, List.forall_mem_cons.mpr ⟨oX1_laysWets_140, List.forall_mem_cons.mpr ⟨oX1_laysWets_141, fun _ h => absurd h List.not_mem_nil⟩⟩⟩⟩⟩⟩⟩⟩⟩⟩⟩⟩⟩⟩⟩⟩⟩⟩⟩⟩⟩⟩⟩⟩⟩⟩⟩⟩⟩⟩⟩⟩⟩⟩⟩⟩⟩⟩⟩⟩⟩⟩⟩⟩⟩⟩⟩⟩⟩⟩⟩⟩⟩⟩⟩⟩⟩⟩⟩⟩⟩⟩⟩⟩⟩⟩⟩⟩⟩⟩⟩⟩⟩⟩⟩⟩⟩⟩⟩⟩⟩
def dkwX1_tries_5 : List UInt8 := [96, 54, 4, 132, 6, 1, 167, 255, 162, 132, 5, 1, 167, 255, 146, 21, 4, 172]
abbrev dktX1_tries_5 : List UInt8 := dkwX1_tries_5 ++ []
def dkwX1_tries_4 : List UInt8 := [184, 0, 7, 54, 7, 21, 7, 29, 161, 0, 6, 167, 0, 16, 21, 7, 62, 21, 5, 16, 8, 104, 21, 6]
abbrev dktX1_tries_4 : List UInt8 := dkwX1_tries_4 ++ dktX1_tries_5
def dkwX1_tries_3 : List UInt8 := [21, 6, 184, 1, 30, 153, 0, 6, 132, 7, 1, 132, 8, 1, 167, 255, 216, 21, 7, 28, 21, 7, 100]
abbrev dktX1_tries_3 : List UInt8 := dkwX1_tries_3 ++ dktX1_tries_4
def dkwX1_tries_2 : List UInt8 := [16, 9, 163, 0, 39, 27, 21, 8, 184, 1, 30, 153, 0, 24, 42, 180, 0, 84, 21, 8, 50, 21, 5, 46]
abbrev dktX1_tries_2 : List UInt8 := dkwX1_tries_2 ++ dktX1_tries_3
def dkwX1_tries_1 : List UInt8 := [163, 0, 109, 3, 54, 6, 21, 6, 42, 182, 0, 159, 162, 0, 91, 3, 54, 7, 3, 54, 8, 21, 8]
abbrev dktX1_tries_1 : List UInt8 := dkwX1_tries_1 ++ dktX1_tries_2
def dkwX1_tries_0 : List UInt8 := [42, 182, 1, 67, 60, 27, 184, 1, 25, 61, 28, 62, 2, 54, 4, 4, 54, 5, 21, 5, 16, 30]
abbrev dktX1_tries_0 : List UInt8 := dkwX1_tries_0 ++ dktX1_tries_1
theorem dksX1_tries_0 : bcX1_tries.data.toList.drop 0 = dktX1_tries_0 := by decide +kernel
theorem dksX1_tries_1 : bcX1_tries.data.toList.drop 22 = dktX1_tries_1 := dk_seg dksX1_tries_0 22 rfl rfl
theorem dksX1_tries_2 : bcX1_tries.data.toList.drop 45 = dktX1_tries_2 := dk_seg dksX1_tries_1 23 rfl rfl
theorem dksX1_tries_3 : bcX1_tries.data.toList.drop 69 = dktX1_tries_3 := dk_seg dksX1_tries_2 24 rfl rfl
theorem dksX1_tries_4 : bcX1_tries.data.toList.drop 92 = dktX1_tries_4 := dk_seg dksX1_tries_3 23 rfl rfl
theorem dksX1_tries_5 : bcX1_tries.data.toList.drop 116 = dktX1_tries_5 := dk_seg dksX1_tries_4 24 rfl rfl
theorem dX1_tries_0 : decode bcX1_tries 0 = .ok (.aload_n 0, 1) := dk_42 (dk_at dksX1_tries_0 0 rfl rfl)
theorem dX1_tries_1 : decode bcX1_tries 1 = .ok (.invokevirtual 323, 3) := dk_182 1 67 (dk_at dksX1_tries_0 1 rfl rfl)
theorem dX1_tries_4 : decode bcX1_tries 4 = .ok (.istore_n 1, 1) := dk_60 (dk_at dksX1_tries_0 4 rfl rfl)
theorem dX1_tries_5 : decode bcX1_tries 5 = .ok (.iload_n 1, 1) := dk_27 (dk_at dksX1_tries_0 5 rfl rfl)
theorem dX1_tries_6 : decode bcX1_tries 6 = .ok (.invokestatic 281, 3) := dk_184 1 25 (dk_at dksX1_tries_0 6 rfl rfl)
theorem dX1_tries_9 : decode bcX1_tries 9 = .ok (.istore_n 2, 1) := dk_61 (dk_at dksX1_tries_0 9 rfl rfl)
theorem dX1_tries_10 : decode bcX1_tries 10 = .ok (.iload_n 2, 1) := dk_28 (dk_at dksX1_tries_0 10 rfl rfl)
theorem dX1_tries_11 : decode bcX1_tries 11 = .ok (.istore_n 3, 1) := dk_62 (dk_at dksX1_tries_0 11 rfl rfl)
theorem dX1_tries_12 : decode bcX1_tries 12 = .ok (.iconst (-1), 1) := dk_2 (dk_at dksX1_tries_0 12 rfl rfl)
theorem dX1_tries_13 : decode bcX1_tries 13 = .ok (.istore 4, 2) := dk_54 4 (dk_at dksX1_tries_0 13 rfl rfl)
theorem dX1_tries_15 : decode bcX1_tries 15 = .ok (.iconst 1, 1) := dk_4 (dk_at dksX1_tries_0 15 rfl rfl)
theorem dX1_tries_16 : decode bcX1_tries 16 = .ok (.istore 5, 2) := dk_54 5 (dk_at dksX1_tries_0 16 rfl rfl)
theorem dX1_tries_18 : decode bcX1_tries 18 = .ok (.iload 5, 2) := dk_21 5 (dk_at dksX1_tries_0 18 rfl rfl)
theorem dX1_tries_20 : decode bcX1_tries 20 = .ok (.bipush 30, 2) := dk_16 30 (dk_at dksX1_tries_0 20 rfl rfl)
theorem dX1_tries_22 : decode bcX1_tries 22 = .ok (.if_icmp .gt 109, 3) := dk_163 0 109 (dk_at dksX1_tries_1 0 rfl rfl)
theorem dX1_tries_25 : decode bcX1_tries 25 = .ok (.iconst 0, 1) := dk_3 (dk_at dksX1_tries_1 3 rfl rfl)
theorem dX1_tries_26 : decode bcX1_tries 26 = .ok (.istore 6, 2) := dk_54 6 (dk_at dksX1_tries_1 4 rfl rfl)
theorem dX1_tries_28 : decode bcX1_tries 28 = .ok (.iload 6, 2) := dk_21 6 (dk_at dksX1_tries_1 6 rfl rfl)
theorem dX1_tries_30 : decode bcX1_tries 30 = .ok (.aload_n 0, 1) := dk_42 (dk_at dksX1_tries_1 8 rfl rfl)
theorem dX1_tries_31 : decode bcX1_tries 31 = .ok (.invokevirtual 159, 3) := dk_182 0 159 (dk_at dksX1_tries_1 9 rfl rfl)
theorem dX1_tries_34 : decode bcX1_tries 34 = .ok (.if_icmp .ge 91, 3) := dk_162 0 91 (dk_at dksX1_tries_1 12 rfl rfl)
theorem dX1_tries_37 : decode bcX1_tries 37 = .ok (.iconst 0, 1) := dk_3 (dk_at dksX1_tries_1 15 rfl rfl)
theorem dX1_tries_38 : decode bcX1_tries 38 = .ok (.istore 7, 2) := dk_54 7 (dk_at dksX1_tries_1 16 rfl rfl)
theorem dX1_tries_40 : decode bcX1_tries 40 = .ok (.iconst 0, 1) := dk_3 (dk_at dksX1_tries_1 18 rfl rfl)
theorem dX1_tries_41 : decode bcX1_tries 41 = .ok (.istore 8, 2) := dk_54 8 (dk_at dksX1_tries_1 19 rfl rfl)
theorem dX1_tries_43 : decode bcX1_tries 43 = .ok (.iload 8, 2) := dk_21 8 (dk_at dksX1_tries_1 21 rfl rfl)
theorem dX1_tries_45 : decode bcX1_tries 45 = .ok (.bipush 9, 2) := dk_16 9 (dk_at dksX1_tries_2 0 rfl rfl)
theorem dX1_tries_47 : decode bcX1_tries 47 = .ok (.if_icmp .gt 39, 3) := dk_163 0 39 (dk_at dksX1_tries_2 2 rfl rfl)
theorem dX1_tries_50 : decode bcX1_tries 50 = .ok (.iload_n 1, 1) := dk_27 (dk_at dksX1_tries_2 5 rfl rfl)
theorem dX1_tries_51 : decode bcX1_tries 51 = .ok (.iload 8, 2) := dk_21 8 (dk_at dksX1_tries_2 6 rfl rfl)
theorem dX1_tries_53 : decode bcX1_tries 53 = .ok (.invokestatic 286, 3) := dk_184 1 30 (dk_at dksX1_tries_2 8 rfl rfl)
theorem dX1_tries_56 : decode bcX1_tries 56 = .ok (.ifCond .eq 24, 3) := dk_153 0 24 (dk_at dksX1_tries_2 11 rfl rfl)
theorem dX1_tries_59 : decode bcX1_tries 59 = .ok (.aload_n 0, 1) := dk_42 (dk_at dksX1_tries_2 14 rfl rfl)
theorem dX1_tries_60 : decode bcX1_tries 60 = .ok (.getfield 84, 3) := dk_180 0 84 (dk_at dksX1_tries_2 15 rfl rfl)
theorem dX1_tries_63 : decode bcX1_tries 63 = .ok (.iload 8, 2) := dk_21 8 (dk_at dksX1_tries_2 18 rfl rfl)
theorem dX1_tries_65 : decode bcX1_tries 65 = .ok (.aaload, 1) := dk_50 (dk_at dksX1_tries_2 20 rfl rfl)
theorem dX1_tries_66 : decode bcX1_tries 66 = .ok (.iload 5, 2) := dk_21 5 (dk_at dksX1_tries_2 21 rfl rfl)
theorem dX1_tries_68 : decode bcX1_tries 68 = .ok (.iaload, 1) := dk_46 (dk_at dksX1_tries_2 23 rfl rfl)
theorem dX1_tries_69 : decode bcX1_tries 69 = .ok (.iload 6, 2) := dk_21 6 (dk_at dksX1_tries_3 0 rfl rfl)
theorem dX1_tries_71 : decode bcX1_tries 71 = .ok (.invokestatic 286, 3) := dk_184 1 30 (dk_at dksX1_tries_3 2 rfl rfl)
theorem dX1_tries_74 : decode bcX1_tries 74 = .ok (.ifCond .eq 6, 3) := dk_153 0 6 (dk_at dksX1_tries_3 5 rfl rfl)
theorem dX1_tries_77 : decode bcX1_tries 77 = .ok (.iinc 7 1, 3) := dk_132 7 1 (dk_at dksX1_tries_3 8 rfl rfl)
theorem dX1_tries_80 : decode bcX1_tries 80 = .ok (.iinc 8 1, 3) := dk_132 8 1 (dk_at dksX1_tries_3 11 rfl rfl)
theorem dX1_tries_83 : decode bcX1_tries 83 = .ok (.goto (-40), 3) := dk_167 255 216 (dk_at dksX1_tries_3 14 rfl rfl)
theorem dX1_tries_86 : decode bcX1_tries 86 = .ok (.iload 7, 2) := dk_21 7 (dk_at dksX1_tries_3 17 rfl rfl)
theorem dX1_tries_88 : decode bcX1_tries 88 = .ok (.iload_n 2, 1) := dk_28 (dk_at dksX1_tries_3 19 rfl rfl)
theorem dX1_tries_89 : decode bcX1_tries 89 = .ok (.iload 7, 2) := dk_21 7 (dk_at dksX1_tries_3 20 rfl rfl)
theorem dX1_tries_91 : decode bcX1_tries 91 = .ok (.isub, 1) := dk_100 (dk_at dksX1_tries_3 22 rfl rfl)
theorem dX1_tries_92 : decode bcX1_tries 92 = .ok (.invokestatic 7, 3) := dk_184 0 7 (dk_at dksX1_tries_4 0 rfl rfl)
theorem dX1_tries_95 : decode bcX1_tries 95 = .ok (.istore 7, 2) := dk_54 7 (dk_at dksX1_tries_4 3 rfl rfl)
theorem dX1_tries_97 : decode bcX1_tries 97 = .ok (.iload 7, 2) := dk_21 7 (dk_at dksX1_tries_4 5 rfl rfl)
theorem dX1_tries_99 : decode bcX1_tries 99 = .ok (.iload_n 3, 1) := dk_29 (dk_at dksX1_tries_4 7 rfl rfl)
theorem dX1_tries_100 : decode bcX1_tries 100 = .ok (.if_icmp .lt 6, 3) := dk_161 0 6 (dk_at dksX1_tries_4 8 rfl rfl)
theorem dX1_tries_103 : decode bcX1_tries 103 = .ok (.goto 16, 3) := dk_167 0 16 (dk_at dksX1_tries_4 11 rfl rfl)
theorem dX1_tries_106 : decode bcX1_tries 106 = .ok (.iload 7, 2) := dk_21 7 (dk_at dksX1_tries_4 14 rfl rfl)
theorem dX1_tries_108 : decode bcX1_tries 108 = .ok (.istore_n 3, 1) := dk_62 (dk_at dksX1_tries_4 16 rfl rfl)
theorem dX1_tries_109 : decode bcX1_tries 109 = .ok (.iload 5, 2) := dk_21 5 (dk_at dksX1_tries_4 17 rfl rfl)
theorem dX1_tries_111 : decode bcX1_tries 111 = .ok (.bipush 8, 2) := dk_16 8 (dk_at dksX1_tries_4 19 rfl rfl)
theorem dX1_tries_113 : decode bcX1_tries 113 = .ok (.imul, 1) := dk_104 (dk_at dksX1_tries_4 21 rfl rfl)
theorem dX1_tries_114 : decode bcX1_tries 114 = .ok (.iload 6, 2) := dk_21 6 (dk_at dksX1_tries_4 22 rfl rfl)
theorem dX1_tries_116 : decode bcX1_tries 116 = .ok (.iadd, 1) := dk_96 (dk_at dksX1_tries_5 0 rfl rfl)
theorem dX1_tries_117 : decode bcX1_tries 117 = .ok (.istore 4, 2) := dk_54 4 (dk_at dksX1_tries_5 1 rfl rfl)
theorem dX1_tries_119 : decode bcX1_tries 119 = .ok (.iinc 6 1, 3) := dk_132 6 1 (dk_at dksX1_tries_5 3 rfl rfl)
theorem dX1_tries_122 : decode bcX1_tries 122 = .ok (.goto (-94), 3) := dk_167 255 162 (dk_at dksX1_tries_5 6 rfl rfl)
theorem dX1_tries_125 : decode bcX1_tries 125 = .ok (.iinc 5 1, 3) := dk_132 5 1 (dk_at dksX1_tries_5 9 rfl rfl)
theorem dX1_tries_128 : decode bcX1_tries 128 = .ok (.goto (-110), 3) := dk_167 255 146 (dk_at dksX1_tries_5 12 rfl rfl)
theorem dX1_tries_131 : decode bcX1_tries 131 = .ok (.iload 4, 2) := dk_21 4 (dk_at dksX1_tries_5 15 rfl rfl)
theorem dX1_tries_133 : decode bcX1_tries 133 = .ok (.ireturn, 1) := dk_172 (dk_at dksX1_tries_5 17 rfl rfl)
abbrev SX1_tries (pc : Nat) (i : xI) : Prop := Snd "SwollenHouse" "tries" prog_1_method_64_code 9 (Option.some Jvm.ClassFile.FieldType.int) [] pc i
theorem oX1_tries_0 : SX1_tries 0 (i_aload 0 1) := snd_aload_n dX1_tries_0 rfl
theorem oX1_tries_1 : SX1_tries 1 (i_cv 0 147 0 4) := snd_cv rfl infX1_laysWets (by decide) rfl (xVm_V dX1_tries_1 rfl q1490 q1492 qs52 q127 q1493 pdX1_laysWets)
theorem oX1_tries_4 : SX1_tries 4 (i_istore 1 5) := snd_istore_n dX1_tries_4 rfl (by decide)
theorem oX1_tries_5 : SX1_tries 5 (i_iload 1 6) := snd_iload_n dX1_tries_5 rfl
theorem oX1_tries_6 : SX1_tries 6 (i_cs 28 1 9) := snd_cs rfl infJ17_bitCount (by decide) (xSm_S dX1_tries_6 q1363 q1364 q168 q1365 pdJ17_bitCount)
theorem oX1_tries_9 : SX1_tries 9 (i_istore 2 10) := snd_istore_n dX1_tries_9 rfl (by decide)
theorem oX1_tries_10 : SX1_tries 10 (i_iload 2 11) := snd_iload_n dX1_tries_10 rfl
theorem oX1_tries_11 : SX1_tries 11 (i_istore 3 12) := snd_istore_n dX1_tries_11 rfl (by decide)
theorem oX1_tries_12 : SX1_tries 12 (i_const (.int (-1)) 13) := snd_iconst dX1_tries_12 (by decide)
theorem oX1_tries_13 : SX1_tries 13 (i_istore 4 15) := snd_istore dX1_tries_13 (by decide)
theorem oX1_tries_15 : SX1_tries 15 (i_const (.int (nI 1)) 16) := snd_iconst dX1_tries_15 (by decide)
theorem oX1_tries_16 : SX1_tries 16 (i_istore 5 18) := snd_istore dX1_tries_16 (by decide)
theorem oX1_tries_18 : SX1_tries 18 (i_iload 5 20) := snd_iload dX1_tries_18
theorem oX1_tries_20 : SX1_tries 20 (i_const (.int (nI 30)) 22) := snd_bipush dX1_tries_20 (by decide)
theorem oX1_tries_22 : SX1_tries 22 (i_if2 (fun x y => y < x) 131 25) := snd_icmp_gt dX1_tries_22 (by decide)
theorem oX1_tries_25 : SX1_tries 25 (i_const (.int (nI 0)) 26) := snd_iconst dX1_tries_25 (by decide)
theorem oX1_tries_26 : SX1_tries 26 (i_istore 6 28) := snd_istore dX1_tries_26 (by decide)
theorem oX1_tries_28 : SX1_tries 28 (i_iload 6 30) := snd_iload dX1_tries_28
theorem oX1_tries_30 : SX1_tries 30 (i_aload 0 31) := snd_aload_n dX1_tries_30 rfl
theorem oX1_tries_31 : SX1_tries 31 (i_cv 0 96 0 34) := snd_cv rfl infX1_doors (by decide) rfl (xVm_V dX1_tries_31 rfl q1140 q1142 qs30 q127 q1143 pdX1_doors)
theorem oX1_tries_34 : SX1_tries 34 (i_if2 (fun x y => y ≤ x) 125 37) := snd_icmp_ge dX1_tries_34 (by decide)
theorem oX1_tries_37 : SX1_tries 37 (i_const (.int (nI 0)) 38) := snd_iconst dX1_tries_37 (by decide)
theorem oX1_tries_38 : SX1_tries 38 (i_istore 7 40) := snd_istore dX1_tries_38 (by decide)
theorem oX1_tries_40 : SX1_tries 40 (i_const (.int (nI 0)) 41) := snd_iconst dX1_tries_40 (by decide)
theorem oX1_tries_41 : SX1_tries 41 (i_istore 8 43) := snd_istore dX1_tries_41 (by decide)
theorem oX1_tries_43 : SX1_tries 43 (i_iload 8 45) := snd_iload dX1_tries_43
theorem oX1_tries_45 : SX1_tries 45 (i_const (.int (nI 9)) 47) := snd_bipush dX1_tries_45 (by decide)
theorem oX1_tries_47 : SX1_tries 47 (i_if2 (fun x y => y < x) 86 50) := snd_icmp_gt dX1_tries_47 (by decide)
theorem oX1_tries_50 : SX1_tries 50 (i_iload 1 51) := snd_iload_n dX1_tries_50 rfl
theorem oX1_tries_51 : SX1_tries 51 (i_iload 8 53) := snd_iload dX1_tries_51
theorem oX1_tries_53 : SX1_tries 53 (i_cs 98 2 56) := snd_cs rfl infX1_isIn (by decide) (xSm_S dX1_tries_53 q1397 q1172 q127 q1173 pdX1_isIn)
theorem oX1_tries_56 : SX1_tries 56 (i_if1 (fun x => x = 0) 80 59) := snd_if_eq dX1_tries_56 (by decide)
theorem oX1_tries_59 : SX1_tries 59 (i_aload 0 60) := snd_aload_n dX1_tries_59 rfl
theorem oX1_tries_60 : SX1_tries 60 (i_getf 0 16 63) := snd_getf dX1_tries_60 rfl (by decide) in_X1 (Or.inl q362) (Or.inl rfl) (by decide)
theorem oX1_tries_63 : SX1_tries 63 (i_iload 8 65) := snd_iload dX1_tries_63
theorem oX1_tries_65 : SX1_tries 65 (i_aq 6 66) := snd_aq dX1_tries_65 (fun _ => rfl) rfl
theorem oX1_tries_66 : SX1_tries 66 (i_iload 5 68) := snd_iload dX1_tries_66
theorem oX1_tries_68 : SX1_tries 68 (i_ai 0 69) := snd_ai0 dX1_tries_68
theorem oX1_tries_69 : SX1_tries 69 (i_iload 6 71) := snd_iload dX1_tries_69
theorem oX1_tries_71 : SX1_tries 71 (i_cs 98 2 74) := snd_cs rfl infX1_isIn (by decide) (xSm_S dX1_tries_71 q1397 q1172 q127 q1173 pdX1_isIn)
theorem oX1_tries_74 : SX1_tries 74 (i_if1 (fun x => x = 0) 80 77) := snd_if_eq dX1_tries_74 (by decide)
theorem oX1_tries_77 : SX1_tries 77 (i_iinc 7 (nI 1) 80) := snd_iinc dX1_tries_77 (by decide) (by decide)
theorem oX1_tries_80 : SX1_tries 80 (i_iinc 8 (nI 1) 83) := snd_iinc dX1_tries_80 (by decide) (by decide)
theorem oX1_tries_83 : SX1_tries 83 (i_goto 43) := snd_goto dX1_tries_83 (by decide)
theorem oX1_tries_86 : SX1_tries 86 (i_iload 7 88) := snd_iload dX1_tries_86
theorem oX1_tries_88 : SX1_tries 88 (i_iload 2 89) := snd_iload_n dX1_tries_88 rfl
theorem oX1_tries_89 : SX1_tries 89 (i_iload 7 91) := snd_iload dX1_tries_89
theorem oX1_tries_91 : SX1_tries 91 (i_ii (fun x y => x - y) 92) := snd_isub dX1_tries_91
theorem oX1_tries_92 : SX1_tries 92 (i_cs 62 2 95) := snd_cs rfl infJ7_max (by decide) (xSm_S dX1_tries_92 q1250 q475 q139 q476 pdJ7_max)
theorem oX1_tries_95 : SX1_tries 95 (i_istore 7 97) := snd_istore dX1_tries_95 (by decide)
theorem oX1_tries_97 : SX1_tries 97 (i_iload 7 99) := snd_iload dX1_tries_97
theorem oX1_tries_99 : SX1_tries 99 (i_iload 3 100) := snd_iload_n dX1_tries_99 rfl
theorem oX1_tries_100 : SX1_tries 100 (i_if2 (fun x y => x < y) 106 103) := snd_icmp_lt dX1_tries_100 (by decide)
theorem oX1_tries_103 : SX1_tries 103 (i_goto 119) := snd_goto dX1_tries_103 (by decide)
theorem oX1_tries_106 : SX1_tries 106 (i_iload 7 108) := snd_iload dX1_tries_106
theorem oX1_tries_108 : SX1_tries 108 (i_istore 3 109) := snd_istore_n dX1_tries_108 rfl (by decide)
theorem oX1_tries_109 : SX1_tries 109 (i_iload 5 111) := snd_iload dX1_tries_109
theorem oX1_tries_111 : SX1_tries 111 (i_const (.int (nI 8)) 113) := snd_bipush dX1_tries_111 (by decide)
theorem oX1_tries_113 : SX1_tries 113 (i_ii (fun x y => x * y) 114) := snd_imul dX1_tries_113
theorem oX1_tries_114 : SX1_tries 114 (i_iload 6 116) := snd_iload dX1_tries_114
theorem oX1_tries_116 : SX1_tries 116 (i_ii (fun x y => x + y) 117) := snd_iadd dX1_tries_116
theorem oX1_tries_117 : SX1_tries 117 (i_istore 4 119) := snd_istore dX1_tries_117 (by decide)
theorem oX1_tries_119 : SX1_tries 119 (i_iinc 6 (nI 1) 122) := snd_iinc dX1_tries_119 (by decide) (by decide)
theorem oX1_tries_122 : SX1_tries 122 (i_goto 28) := snd_goto dX1_tries_122 (by decide)
theorem oX1_tries_125 : SX1_tries 125 (i_iinc 5 (nI 1) 128) := snd_iinc dX1_tries_125 (by decide) (by decide)
theorem oX1_tries_128 : SX1_tries 128 (i_goto 18) := snd_goto dX1_tries_128 (by decide)
theorem oX1_tries_131 : SX1_tries 131 (i_iload 4 133) := snd_iload dX1_tries_131
theorem oX1_tries_133 : SX1_tries 133 (i_iret) := snd_iret dX1_tries_133 rfl
theorem okX1_tries : ∀ q ∈ cX1_tries, SX1_tries q.1 q.2 := List.forall_mem_cons.mpr ⟨oX1_tries_0, List.forall_mem_cons.mpr ⟨oX1_tries_1, List.forall_mem_cons.mpr ⟨oX1_tries_4, List.forall_mem_cons.mpr ⟨oX1_tries_5, List.forall_mem_cons.mpr ⟨oX1_tries_6, List.forall_mem_cons.mpr ⟨oX1_tries_9, List.forall_mem_cons.mpr ⟨oX1_tries_10, List.forall_mem_cons.mpr ⟨oX1_tries_11, List.forall_mem_cons.mpr ⟨oX1_tries_12, List.forall_mem_cons.mpr ⟨oX1_tries_13, List.forall_mem_cons.mpr ⟨oX1_tries_15, List.forall_mem_cons.mpr ⟨oX1_tries_16, List.forall_mem_cons.mpr ⟨oX1_tries_18, List.forall_mem_cons.mpr ⟨oX1_tries_20, List.forall_mem_cons.mpr ⟨oX1_tries_22, List.forall_mem_cons.mpr ⟨oX1_tries_25, List.forall_mem_cons.mpr ⟨oX1_tries_26, List.forall_mem_cons.mpr ⟨oX1_tries_28, List.forall_mem_cons.mpr ⟨oX1_tries_30, List.forall_mem_cons.mpr ⟨oX1_tries_31, List.forall_mem_cons.mpr ⟨oX1_tries_34, List.forall_mem_cons.mpr ⟨oX1_tries_37, List.forall_mem_cons.mpr ⟨oX1_tries_38, List.forall_mem_cons.mpr ⟨oX1_tries_40, List.forall_mem_cons.mpr ⟨oX1_tries_41, List.forall_mem_cons.mpr ⟨oX1_tries_43, List.forall_mem_cons.mpr ⟨oX1_tries_45, List.forall_mem_cons.mpr ⟨oX1_tries_47, List.forall_mem_cons.mpr ⟨oX1_tries_50, List.forall_mem_cons.mpr ⟨oX1_tries_51, List.forall_mem_cons.mpr ⟨oX1_tries_53, List.forall_mem_cons.mpr ⟨oX1_tries_56, List.forall_mem_cons.mpr ⟨oX1_tries_59, List.forall_mem_cons.mpr ⟨oX1_tries_60, List.forall_mem_cons.mpr ⟨oX1_tries_63, List.forall_mem_cons.mpr ⟨oX1_tries_65, List.forall_mem_cons.mpr ⟨oX1_tries_66, List.forall_mem_cons.mpr ⟨oX1_tries_68, List.forall_mem_cons.mpr ⟨oX1_tries_69, List.forall_mem_cons.mpr ⟨oX1_tries_71, List.forall_mem_cons.mpr ⟨oX1_tries_74, List.forall_mem_cons.mpr ⟨oX1_tries_77, List.forall_mem_cons.mpr ⟨oX1_tries_80, List.forall_mem_cons.mpr ⟨oX1_tries_83, List.forall_mem_cons.mpr ⟨oX1_tries_86, List.forall_mem_cons.mpr ⟨oX1_tries_88, List.forall_mem_cons.mpr ⟨oX1_tries_89, List.forall_mem_cons.mpr ⟨oX1_tries_91, List.forall_mem_cons.mpr ⟨oX1_tries_92, List.forall_mem_cons.mpr ⟨oX1_tries_95, List.forall_mem_cons.mpr ⟨oX1_tries_97, List.forall_mem_cons.mpr ⟨oX1_tries_99, List.forall_mem_cons.mpr ⟨oX1_tries_100, List.forall_mem_cons.mpr ⟨oX1_tries_103, List.forall_mem_cons.mpr ⟨oX1_tries_106, List.forall_mem_cons.mpr ⟨oX1_tries_108, List.forall_mem_cons.mpr ⟨oX1_tries_109, List.forall_mem_cons.mpr ⟨oX1_tries_111, List.forall_mem_cons.mpr ⟨oX1_tries_113, List.forall_mem_cons.mpr ⟨oX1_tries_114, List.forall_mem_cons.mpr ⟨oX1_tries_116, List.forall_mem_cons.mpr ⟨oX1_tries_117, List.forall_mem_cons.mpr ⟨oX1_tries_119, List.forall_mem_cons.mpr ⟨oX1_tries_122, List.forall_mem_cons.mpr ⟨oX1_tries_125, List.forall_mem_cons.mpr ⟨oX1_tries_128, List.forall_mem_cons.mpr ⟨oX1_tries_131, List.forall_mem_cons.mpr ⟨oX1_tries_133, fun _ h => absurd h List.not_mem_nil⟩⟩⟩⟩⟩⟩⟩⟩⟩⟩⟩⟩⟩⟩⟩⟩⟩⟩⟩⟩⟩⟩⟩⟩⟩⟩⟩⟩⟩⟩⟩⟩⟩⟩⟩⟩⟩⟩⟩⟩⟩⟩⟩⟩⟩⟩⟩⟩⟩⟩⟩⟩⟩⟩⟩⟩⟩⟩⟩⟩⟩⟩⟩⟩⟩⟩⟩⟩
def dkwX1_say_2 : List UInt8 := [90, 4, 96, 181, 0, 124, 28, 79, 4, 172]
abbrev dktX1_say_2 : List UInt8 := dkwX1_say_2 ++ []
def dkwX1_say_1 : List UInt8 := [160, 0, 5, 3, 172, 42, 180, 0, 87, 42, 180, 0, 124, 27, 79, 42, 180, 0, 90, 42, 89, 180, 0, 124]
abbrev dktX1_say_1 : List UInt8 := dkwX1_say_1 ++ dktX1_say_2
def dkwX1_say_0 : List UInt8 := [42, 27, 182, 1, 37, 153, 0, 22, 28, 3, 16, 40, 184, 0, 155, 153, 0, 12, 42, 180, 0, 124, 16, 8]
abbrev dktX1_say_0 : List UInt8 := dkwX1_say_0 ++ dktX1_say_1
theorem dksX1_say_0 : bcX1_say.data.toList.drop 0 = dktX1_say_0 := by decide +kernel
theorem dksX1_say_1 : bcX1_say.data.toList.drop 24 = dktX1_say_1 := dk_seg dksX1_say_0 24 rfl rfl
theorem dksX1_say_2 : bcX1_say.data.toList.drop 48 = dktX1_say_2 := dk_seg dksX1_say_1 24 rfl rfl
theorem dX1_say_0 : decode bcX1_say 0 = .ok (.aload_n 0, 1) := dk_42 (dk_at dksX1_say_0 0 rfl rfl)
theorem dX1_say_1 : decode bcX1_say 1 = .ok (.iload_n 1, 1) := dk_27 (dk_at dksX1_say_0 1 rfl rfl)
theorem dX1_say_2 : decode bcX1_say 2 = .ok (.invokevirtual 293, 3) := dk_182 1 37 (dk_at dksX1_say_0 2 rfl rfl)
theorem dX1_say_5 : decode bcX1_say 5 = .ok (.ifCond .eq 22, 3) := dk_153 0 22 (dk_at dksX1_say_0 5 rfl rfl)
theorem dX1_say_8 : decode bcX1_say 8 = .ok (.iload_n 2, 1) := dk_28 (dk_at dksX1_say_0 8 rfl rfl)
theorem dX1_say_9 : decode bcX1_say 9 = .ok (.iconst 0, 1) := dk_3 (dk_at dksX1_say_0 9 rfl rfl)
theorem dX1_say_10 : decode bcX1_say 10 = .ok (.bipush 40, 2) := dk_16 40 (dk_at dksX1_say_0 10 rfl rfl)
theorem dX1_say_12 : decode bcX1_say 12 = .ok (.invokestatic 155, 3) := dk_184 0 155 (dk_at dksX1_say_0 12 rfl rfl)
theorem dX1_say_15 : decode bcX1_say 15 = .ok (.ifCond .eq 12, 3) := dk_153 0 12 (dk_at dksX1_say_0 15 rfl rfl)
theorem dX1_say_18 : decode bcX1_say 18 = .ok (.aload_n 0, 1) := dk_42 (dk_at dksX1_say_0 18 rfl rfl)
theorem dX1_say_19 : decode bcX1_say 19 = .ok (.getfield 124, 3) := dk_180 0 124 (dk_at dksX1_say_0 19 rfl rfl)
theorem dX1_say_22 : decode bcX1_say 22 = .ok (.bipush 8, 2) := dk_16 8 (dk_at dksX1_say_0 22 rfl rfl)
theorem dX1_say_24 : decode bcX1_say 24 = .ok (.if_icmp .ne 5, 3) := dk_160 0 5 (dk_at dksX1_say_1 0 rfl rfl)
theorem dX1_say_27 : decode bcX1_say 27 = .ok (.iconst 0, 1) := dk_3 (dk_at dksX1_say_1 3 rfl rfl)
theorem dX1_say_28 : decode bcX1_say 28 = .ok (.ireturn, 1) := dk_172 (dk_at dksX1_say_1 4 rfl rfl)
theorem dX1_say_29 : decode bcX1_say 29 = .ok (.aload_n 0, 1) := dk_42 (dk_at dksX1_say_1 5 rfl rfl)
theorem dX1_say_30 : decode bcX1_say 30 = .ok (.getfield 87, 3) := dk_180 0 87 (dk_at dksX1_say_1 6 rfl rfl)
theorem dX1_say_33 : decode bcX1_say 33 = .ok (.aload_n 0, 1) := dk_42 (dk_at dksX1_say_1 9 rfl rfl)
theorem dX1_say_34 : decode bcX1_say 34 = .ok (.getfield 124, 3) := dk_180 0 124 (dk_at dksX1_say_1 10 rfl rfl)
theorem dX1_say_37 : decode bcX1_say 37 = .ok (.iload_n 1, 1) := dk_27 (dk_at dksX1_say_1 13 rfl rfl)
theorem dX1_say_38 : decode bcX1_say 38 = .ok (.iastore, 1) := dk_79 (dk_at dksX1_say_1 14 rfl rfl)
theorem dX1_say_39 : decode bcX1_say 39 = .ok (.aload_n 0, 1) := dk_42 (dk_at dksX1_say_1 15 rfl rfl)
theorem dX1_say_40 : decode bcX1_say 40 = .ok (.getfield 90, 3) := dk_180 0 90 (dk_at dksX1_say_1 16 rfl rfl)
theorem dX1_say_43 : decode bcX1_say 43 = .ok (.aload_n 0, 1) := dk_42 (dk_at dksX1_say_1 19 rfl rfl)
theorem dX1_say_44 : decode bcX1_say 44 = .ok (.dup, 1) := dk_89 (dk_at dksX1_say_1 20 rfl rfl)
theorem dX1_say_45 : decode bcX1_say 45 = .ok (.getfield 124, 3) := dk_180 0 124 (dk_at dksX1_say_1 21 rfl rfl)
theorem dX1_say_48 : decode bcX1_say 48 = .ok (.dup_x1, 1) := dk_90 (dk_at dksX1_say_2 0 rfl rfl)
theorem dX1_say_49 : decode bcX1_say 49 = .ok (.iconst 1, 1) := dk_4 (dk_at dksX1_say_2 1 rfl rfl)
theorem dX1_say_50 : decode bcX1_say 50 = .ok (.iadd, 1) := dk_96 (dk_at dksX1_say_2 2 rfl rfl)
theorem dX1_say_51 : decode bcX1_say 51 = .ok (.putfield 124, 3) := dk_181 0 124 (dk_at dksX1_say_2 3 rfl rfl)
theorem dX1_say_54 : decode bcX1_say 54 = .ok (.iload_n 2, 1) := dk_28 (dk_at dksX1_say_2 6 rfl rfl)
theorem dX1_say_55 : decode bcX1_say 55 = .ok (.iastore, 1) := dk_79 (dk_at dksX1_say_2 7 rfl rfl)
theorem dX1_say_56 : decode bcX1_say 56 = .ok (.iconst 1, 1) := dk_4 (dk_at dksX1_say_2 8 rfl rfl)
theorem dX1_say_57 : decode bcX1_say 57 = .ok (.ireturn, 1) := dk_172 (dk_at dksX1_say_2 9 rfl rfl)
abbrev SX1_say (pc : Nat) (i : xI) : Prop := Snd "SwollenHouse" "say" prog_1_method_65_code 3 (Option.some Jvm.ClassFile.FieldType.boolean) [] pc i
theorem oX1_say_0 : SX1_say 0 (i_aload 0 1) := snd_aload_n dX1_say_0 rfl
theorem oX1_say_1 : SX1_say 1 (i_iload 1 2) := snd_iload_n dX1_say_1 rfl
theorem oX1_say_2 : SX1_say 2 (i_cv 0 119 1 5) := snd_cv rfl infX1_isRoom (by decide) rfl (xVm_V dX1_say_2 rfl q1377 q1379 qs41 q127 q1380 pdX1_isRoom)
theorem oX1_say_5 : SX1_say 5 (i_if1 (fun x => x = 0) 27 8) := snd_if_eq dX1_say_5 (by decide)
theorem oX1_say_8 : SX1_say 8 (i_iload 2 9) := snd_iload_n dX1_say_8 rfl
theorem oX1_say_9 : SX1_say 9 (i_const (.int (nI 0)) 10) := snd_iconst dX1_say_9 (by decide)
theorem oX1_say_10 : SX1_say 10 (i_const (.int (nI 40)) 12) := snd_bipush dX1_say_10 (by decide)
theorem oX1_say_12 : SX1_say 12 (i_cs 92 3 15) := snd_cs rfl infX1_in (by decide) (xSm_S dX1_say_12 q1145 q982 q127 q983 pdX1_in)
theorem oX1_say_15 : SX1_say 15 (i_if1 (fun x => x = 0) 27 18) := snd_if_eq dX1_say_15 (by decide)
theorem oX1_say_18 : SX1_say 18 (i_aload 0 19) := snd_aload_n dX1_say_18 rfl
theorem oX1_say_19 : SX1_say 19 (i_getf 0 19 22) := snd_getf dX1_say_19 rfl (by decide) in_X1 (Or.inl q365) (Or.inl rfl) (by decide)
theorem oX1_say_22 : SX1_say 22 (i_const (.int (nI 8)) 24) := snd_bipush dX1_say_22 (by decide)
theorem oX1_say_24 : SX1_say 24 (i_if2 (fun x y => ¬ x = y) 29 27) := snd_icmp_ne dX1_say_24 (by decide)
theorem oX1_say_27 : SX1_say 27 (i_const (.int (nI 0)) 28) := snd_iconst dX1_say_27 (by decide)
theorem oX1_say_28 : SX1_say 28 (i_zret) := snd_zret dX1_say_28 rfl
theorem oX1_say_29 : SX1_say 29 (i_aload 0 30) := snd_aload_n dX1_say_29 rfl
theorem oX1_say_30 : SX1_say 30 (i_getf 0 17 33) := snd_getf dX1_say_30 rfl (by decide) in_X1 (Or.inl q363) (Or.inl rfl) (by decide)
theorem oX1_say_33 : SX1_say 33 (i_aload 0 34) := snd_aload_n dX1_say_33 rfl
theorem oX1_say_34 : SX1_say 34 (i_getf 0 19 37) := snd_getf dX1_say_34 rfl (by decide) in_X1 (Or.inl q365) (Or.inl rfl) (by decide)
theorem oX1_say_37 : SX1_say 37 (i_iload 1 38) := snd_iload_n dX1_say_37 rfl
theorem oX1_say_38 : SX1_say 38 (i_si (fun v => v) 0 39) := snd_si0 dX1_say_38
theorem oX1_say_39 : SX1_say 39 (i_aload 0 40) := snd_aload_n dX1_say_39 rfl
theorem oX1_say_40 : SX1_say 40 (i_getf 0 18 43) := snd_getf dX1_say_40 rfl (by decide) in_X1 (Or.inl q364) (Or.inl rfl) (by decide)
theorem oX1_say_43 : SX1_say 43 (i_aload 0 44) := snd_aload_n dX1_say_43 rfl
theorem oX1_say_44 : SX1_say 44 (i_dup 45) := snd_dup dX1_say_44
theorem oX1_say_45 : SX1_say 45 (i_getf 0 19 48) := snd_getf dX1_say_45 rfl (by decide) in_X1 (Or.inl q365) (Or.inl rfl) (by decide)
theorem oX1_say_48 : SX1_say 48 (i_dup_x1 49) := snd_dup_x1 dX1_say_48
theorem oX1_say_49 : SX1_say 49 (i_const (.int (nI 1)) 50) := snd_iconst dX1_say_49 (by decide)
theorem oX1_say_50 : SX1_say 50 (i_ii (fun x y => x + y) 51) := snd_iadd dX1_say_50
theorem oX1_say_51 : SX1_say 51 (i_putfi 0 19 54) := snd_putfi dX1_say_51 rfl (by decide) in_X1 tyX1 tyX1_ok nmX1 (Or.inl ⟨rfl, q365⟩) (Or.inl rfl) rfl
theorem oX1_say_54 : SX1_say 54 (i_iload 2 55) := snd_iload_n dX1_say_54 rfl
theorem oX1_say_55 : SX1_say 55 (i_si (fun v => v) 0 56) := snd_si0 dX1_say_55
theorem oX1_say_56 : SX1_say 56 (i_const (.int (nI 1)) 57) := snd_iconst dX1_say_56 (by decide)
theorem oX1_say_57 : SX1_say 57 (i_zret) := snd_zret dX1_say_57 rfl
theorem okX1_say : ∀ q ∈ cX1_say, SX1_say q.1 q.2 := List.forall_mem_cons.mpr ⟨oX1_say_0, List.forall_mem_cons.mpr ⟨oX1_say_1, List.forall_mem_cons.mpr ⟨oX1_say_2, List.forall_mem_cons.mpr ⟨oX1_say_5, List.forall_mem_cons.mpr ⟨oX1_say_8, List.forall_mem_cons.mpr ⟨oX1_say_9, List.forall_mem_cons.mpr ⟨oX1_say_10, List.forall_mem_cons.mpr ⟨oX1_say_12, List.forall_mem_cons.mpr ⟨oX1_say_15, List.forall_mem_cons.mpr ⟨oX1_say_18, List.forall_mem_cons.mpr ⟨oX1_say_19, List.forall_mem_cons.mpr ⟨oX1_say_22, List.forall_mem_cons.mpr ⟨oX1_say_24, List.forall_mem_cons.mpr ⟨oX1_say_27, List.forall_mem_cons.mpr ⟨oX1_say_28, List.forall_mem_cons.mpr ⟨oX1_say_29, List.forall_mem_cons.mpr ⟨oX1_say_30, List.forall_mem_cons.mpr ⟨oX1_say_33, List.forall_mem_cons.mpr ⟨oX1_say_34, List.forall_mem_cons.mpr ⟨oX1_say_37, List.forall_mem_cons.mpr ⟨oX1_say_38, List.forall_mem_cons.mpr ⟨oX1_say_39, List.forall_mem_cons.mpr ⟨oX1_say_40, List.forall_mem_cons.mpr ⟨oX1_say_43, List.forall_mem_cons.mpr ⟨oX1_say_44, List.forall_mem_cons.mpr ⟨oX1_say_45, List.forall_mem_cons.mpr ⟨oX1_say_48, List.forall_mem_cons.mpr ⟨oX1_say_49, List.forall_mem_cons.mpr ⟨oX1_say_50, List.forall_mem_cons.mpr ⟨oX1_say_51, List.forall_mem_cons.mpr ⟨oX1_say_54, List.forall_mem_cons.mpr ⟨oX1_say_55, List.forall_mem_cons.mpr ⟨oX1_say_56, List.forall_mem_cons.mpr ⟨oX1_say_57, fun _ h => absurd h List.not_mem_nil⟩⟩⟩⟩⟩⟩⟩⟩⟩⟩⟩⟩⟩⟩⟩⟩⟩⟩⟩⟩⟩⟩⟩⟩⟩⟩⟩⟩⟩⟩⟩⟩⟩⟩
def dkwX1_who_3 : List UInt8 := [132, 4, 1, 167, 255, 200, 29, 153, 0, 9, 27, 4, 28, 120, 128, 60, 132, 2, 1, 167, 255, 171, 27, 172]
abbrev dktX1_who_3 : List UInt8 := dkwX1_who_3 ++ []
def dkwX1_who_2 : List UInt8 := [182, 1, 56, 3, 42, 180, 0, 90, 21, 4, 46, 184, 0, 155, 153, 0, 7, 4, 167, 0, 4, 3, 62]
abbrev dktX1_who_2 : List UInt8 := dkwX1_who_2 ++ dktX1_who_3
def dkwX1_who_1 : List UInt8 := [162, 0, 53, 29, 153, 0, 41, 42, 42, 180, 0, 51, 180, 0, 229, 28, 46, 42, 180, 0, 87, 21, 4, 46]
abbrev dktX1_who_1 : List UInt8 := dkwX1_who_1 ++ dktX1_who_2
def dkwX1_who_0 : List UInt8 := [3, 60, 3, 61, 28, 42, 182, 0, 161, 162, 0, 83, 4, 62, 3, 54, 4, 21, 4, 42, 180, 0, 124]
abbrev dktX1_who_0 : List UInt8 := dkwX1_who_0 ++ dktX1_who_1
theorem dksX1_who_0 : bcX1_who.data.toList.drop 0 = dktX1_who_0 := by decide +kernel
theorem dksX1_who_1 : bcX1_who.data.toList.drop 23 = dktX1_who_1 := dk_seg dksX1_who_0 23 rfl rfl
theorem dksX1_who_2 : bcX1_who.data.toList.drop 47 = dktX1_who_2 := dk_seg dksX1_who_1 24 rfl rfl
theorem dksX1_who_3 : bcX1_who.data.toList.drop 70 = dktX1_who_3 := dk_seg dksX1_who_2 23 rfl rfl
theorem dX1_who_0 : decode bcX1_who 0 = .ok (.iconst 0, 1) := dk_3 (dk_at dksX1_who_0 0 rfl rfl)
theorem dX1_who_1 : decode bcX1_who 1 = .ok (.istore_n 1, 1) := dk_60 (dk_at dksX1_who_0 1 rfl rfl)
theorem dX1_who_2 : decode bcX1_who 2 = .ok (.iconst 0, 1) := dk_3 (dk_at dksX1_who_0 2 rfl rfl)
theorem dX1_who_3 : decode bcX1_who 3 = .ok (.istore_n 2, 1) := dk_61 (dk_at dksX1_who_0 3 rfl rfl)
theorem dX1_who_4 : decode bcX1_who 4 = .ok (.iload_n 2, 1) := dk_28 (dk_at dksX1_who_0 4 rfl rfl)
theorem dX1_who_5 : decode bcX1_who 5 = .ok (.aload_n 0, 1) := dk_42 (dk_at dksX1_who_0 5 rfl rfl)
theorem dX1_who_6 : decode bcX1_who 6 = .ok (.invokevirtual 161, 3) := dk_182 0 161 (dk_at dksX1_who_0 6 rfl rfl)
theorem dX1_who_9 : decode bcX1_who 9 = .ok (.if_icmp .ge 83, 3) := dk_162 0 83 (dk_at dksX1_who_0 9 rfl rfl)
theorem dX1_who_12 : decode bcX1_who 12 = .ok (.iconst 1, 1) := dk_4 (dk_at dksX1_who_0 12 rfl rfl)
theorem dX1_who_13 : decode bcX1_who 13 = .ok (.istore_n 3, 1) := dk_62 (dk_at dksX1_who_0 13 rfl rfl)
theorem dX1_who_14 : decode bcX1_who 14 = .ok (.iconst 0, 1) := dk_3 (dk_at dksX1_who_0 14 rfl rfl)
theorem dX1_who_15 : decode bcX1_who 15 = .ok (.istore 4, 2) := dk_54 4 (dk_at dksX1_who_0 15 rfl rfl)
theorem dX1_who_17 : decode bcX1_who 17 = .ok (.iload 4, 2) := dk_21 4 (dk_at dksX1_who_0 17 rfl rfl)
theorem dX1_who_19 : decode bcX1_who 19 = .ok (.aload_n 0, 1) := dk_42 (dk_at dksX1_who_0 19 rfl rfl)
theorem dX1_who_20 : decode bcX1_who 20 = .ok (.getfield 124, 3) := dk_180 0 124 (dk_at dksX1_who_0 20 rfl rfl)
theorem dX1_who_23 : decode bcX1_who 23 = .ok (.if_icmp .ge 53, 3) := dk_162 0 53 (dk_at dksX1_who_1 0 rfl rfl)
theorem dX1_who_26 : decode bcX1_who 26 = .ok (.iload_n 3, 1) := dk_29 (dk_at dksX1_who_1 3 rfl rfl)
theorem dX1_who_27 : decode bcX1_who 27 = .ok (.ifCond .eq 41, 3) := dk_153 0 41 (dk_at dksX1_who_1 4 rfl rfl)
theorem dX1_who_30 : decode bcX1_who 30 = .ok (.aload_n 0, 1) := dk_42 (dk_at dksX1_who_1 7 rfl rfl)
theorem dX1_who_31 : decode bcX1_who 31 = .ok (.aload_n 0, 1) := dk_42 (dk_at dksX1_who_1 8 rfl rfl)
theorem dX1_who_32 : decode bcX1_who 32 = .ok (.getfield 51, 3) := dk_180 0 51 (dk_at dksX1_who_1 9 rfl rfl)
theorem dX1_who_35 : decode bcX1_who 35 = .ok (.getfield 229, 3) := dk_180 0 229 (dk_at dksX1_who_1 12 rfl rfl)
theorem dX1_who_38 : decode bcX1_who 38 = .ok (.iload_n 2, 1) := dk_28 (dk_at dksX1_who_1 15 rfl rfl)
theorem dX1_who_39 : decode bcX1_who 39 = .ok (.iaload, 1) := dk_46 (dk_at dksX1_who_1 16 rfl rfl)
theorem dX1_who_40 : decode bcX1_who 40 = .ok (.aload_n 0, 1) := dk_42 (dk_at dksX1_who_1 17 rfl rfl)
theorem dX1_who_41 : decode bcX1_who 41 = .ok (.getfield 87, 3) := dk_180 0 87 (dk_at dksX1_who_1 18 rfl rfl)
theorem dX1_who_44 : decode bcX1_who 44 = .ok (.iload 4, 2) := dk_21 4 (dk_at dksX1_who_1 21 rfl rfl)
theorem dX1_who_46 : decode bcX1_who 46 = .ok (.iaload, 1) := dk_46 (dk_at dksX1_who_1 23 rfl rfl)
theorem dX1_who_47 : decode bcX1_who 47 = .ok (.invokevirtual 312, 3) := dk_182 1 56 (dk_at dksX1_who_2 0 rfl rfl)
theorem dX1_who_50 : decode bcX1_who 50 = .ok (.iconst 0, 1) := dk_3 (dk_at dksX1_who_2 3 rfl rfl)
theorem dX1_who_51 : decode bcX1_who 51 = .ok (.aload_n 0, 1) := dk_42 (dk_at dksX1_who_2 4 rfl rfl)
theorem dX1_who_52 : decode bcX1_who 52 = .ok (.getfield 90, 3) := dk_180 0 90 (dk_at dksX1_who_2 5 rfl rfl)
theorem dX1_who_55 : decode bcX1_who 55 = .ok (.iload 4, 2) := dk_21 4 (dk_at dksX1_who_2 8 rfl rfl)
theorem dX1_who_57 : decode bcX1_who 57 = .ok (.iaload, 1) := dk_46 (dk_at dksX1_who_2 10 rfl rfl)
theorem dX1_who_58 : decode bcX1_who 58 = .ok (.invokestatic 155, 3) := dk_184 0 155 (dk_at dksX1_who_2 11 rfl rfl)
theorem dX1_who_61 : decode bcX1_who 61 = .ok (.ifCond .eq 7, 3) := dk_153 0 7 (dk_at dksX1_who_2 14 rfl rfl)
theorem dX1_who_64 : decode bcX1_who 64 = .ok (.iconst 1, 1) := dk_4 (dk_at dksX1_who_2 17 rfl rfl)
theorem dX1_who_65 : decode bcX1_who 65 = .ok (.goto 4, 3) := dk_167 0 4 (dk_at dksX1_who_2 18 rfl rfl)
theorem dX1_who_68 : decode bcX1_who 68 = .ok (.iconst 0, 1) := dk_3 (dk_at dksX1_who_2 21 rfl rfl)
theorem dX1_who_69 : decode bcX1_who 69 = .ok (.istore_n 3, 1) := dk_62 (dk_at dksX1_who_2 22 rfl rfl)
theorem dX1_who_70 : decode bcX1_who 70 = .ok (.iinc 4 1, 3) := dk_132 4 1 (dk_at dksX1_who_3 0 rfl rfl)
theorem dX1_who_73 : decode bcX1_who 73 = .ok (.goto (-56), 3) := dk_167 255 200 (dk_at dksX1_who_3 3 rfl rfl)
theorem dX1_who_76 : decode bcX1_who 76 = .ok (.iload_n 3, 1) := dk_29 (dk_at dksX1_who_3 6 rfl rfl)
theorem dX1_who_77 : decode bcX1_who 77 = .ok (.ifCond .eq 9, 3) := dk_153 0 9 (dk_at dksX1_who_3 7 rfl rfl)
theorem dX1_who_80 : decode bcX1_who 80 = .ok (.iload_n 1, 1) := dk_27 (dk_at dksX1_who_3 10 rfl rfl)
theorem dX1_who_81 : decode bcX1_who 81 = .ok (.iconst 1, 1) := dk_4 (dk_at dksX1_who_3 11 rfl rfl)
theorem dX1_who_82 : decode bcX1_who 82 = .ok (.iload_n 2, 1) := dk_28 (dk_at dksX1_who_3 12 rfl rfl)
theorem dX1_who_83 : decode bcX1_who 83 = .ok (.ishl, 1) := dk_120 (dk_at dksX1_who_3 13 rfl rfl)
theorem dX1_who_84 : decode bcX1_who 84 = .ok (.ior, 1) := dk_128 (dk_at dksX1_who_3 14 rfl rfl)
theorem dX1_who_85 : decode bcX1_who 85 = .ok (.istore_n 1, 1) := dk_60 (dk_at dksX1_who_3 15 rfl rfl)
theorem dX1_who_86 : decode bcX1_who 86 = .ok (.iinc 2 1, 3) := dk_132 2 1 (dk_at dksX1_who_3 16 rfl rfl)
theorem dX1_who_89 : decode bcX1_who 89 = .ok (.goto (-85), 3) := dk_167 255 171 (dk_at dksX1_who_3 19 rfl rfl)
theorem dX1_who_92 : decode bcX1_who 92 = .ok (.iload_n 1, 1) := dk_27 (dk_at dksX1_who_3 22 rfl rfl)
theorem dX1_who_93 : decode bcX1_who 93 = .ok (.ireturn, 1) := dk_172 (dk_at dksX1_who_3 23 rfl rfl)
abbrev SX1_who (pc : Nat) (i : xI) : Prop := Snd "SwollenHouse" "who" prog_1_method_66_code 5 (Option.some Jvm.ClassFile.FieldType.int) [] pc i
theorem oX1_who_0 : SX1_who 0 (i_const (.int (nI 0)) 1) := snd_iconst dX1_who_0 (by decide)
theorem oX1_who_1 : SX1_who 1 (i_istore 1 2) := snd_istore_n dX1_who_1 rfl (by decide)
theorem oX1_who_2 : SX1_who 2 (i_const (.int (nI 0)) 3) := snd_iconst dX1_who_2 (by decide)
theorem oX1_who_3 : SX1_who 3 (i_istore 2 4) := snd_istore_n dX1_who_3 rfl (by decide)
theorem oX1_who_4 : SX1_who 4 (i_iload 2 5) := snd_iload_n dX1_who_4 rfl
theorem oX1_who_5 : SX1_who 5 (i_aload 0 6) := snd_aload_n dX1_who_5 rfl
theorem oX1_who_6 : SX1_who 6 (i_cv 0 101 0 9) := snd_cv rfl infX1_people (by decide) rfl (xVm_V dX1_who_6 rfl q1182 q1184 qs33 q127 q1185 pdX1_people)
theorem oX1_who_9 : SX1_who 9 (i_if2 (fun x y => y ≤ x) 92 12) := snd_icmp_ge dX1_who_9 (by decide)
theorem oX1_who_12 : SX1_who 12 (i_const (.int (nI 1)) 13) := snd_iconst dX1_who_12 (by decide)
theorem oX1_who_13 : SX1_who 13 (i_istore 3 14) := snd_istore_n dX1_who_13 rfl (by decide)
theorem oX1_who_14 : SX1_who 14 (i_const (.int (nI 0)) 15) := snd_iconst dX1_who_14 (by decide)
theorem oX1_who_15 : SX1_who 15 (i_istore 4 17) := snd_istore dX1_who_15 (by decide)
theorem oX1_who_17 : SX1_who 17 (i_iload 4 19) := snd_iload dX1_who_17
theorem oX1_who_19 : SX1_who 19 (i_aload 0 20) := snd_aload_n dX1_who_19 rfl
theorem oX1_who_20 : SX1_who 20 (i_getf 0 19 23) := snd_getf dX1_who_20 rfl (by decide) in_X1 (Or.inl q365) (Or.inl rfl) (by decide)
theorem oX1_who_23 : SX1_who 23 (i_if2 (fun x y => y ≤ x) 76 26) := snd_icmp_ge dX1_who_23 (by decide)
theorem oX1_who_26 : SX1_who 26 (i_iload 3 27) := snd_iload_n dX1_who_26 rfl
theorem oX1_who_27 : SX1_who 27 (i_if1 (fun x => x = 0) 68 30) := snd_if_eq dX1_who_27 (by decide)
theorem oX1_who_30 : SX1_who 30 (i_aload 0 31) := snd_aload_n dX1_who_30 rfl
theorem oX1_who_31 : SX1_who 31 (i_aload 0 32) := snd_aload_n dX1_who_31 rfl
theorem oX1_who_32 : SX1_who 32 (i_getf 0 4 35) := snd_getf dX1_who_32 rfl (by decide) in_X1 (Or.inl q350) (Or.inl rfl) (by decide)
theorem oX1_who_35 : SX1_who 35 (i_getf 3 2 38) := snd_getf dX1_who_35 rfl (by decide) in_X4 (Or.inr ⟨_, q296⟩) (Or.inl rfl) (by decide)
theorem oX1_who_38 : SX1_who 38 (i_iload 2 39) := snd_iload_n dX1_who_38 rfl
theorem oX1_who_39 : SX1_who 39 (i_ai 0 40) := snd_ai0 dX1_who_39
theorem oX1_who_40 : SX1_who 40 (i_aload 0 41) := snd_aload_n dX1_who_40 rfl
theorem oX1_who_41 : SX1_who 41 (i_getf 0 17 44) := snd_getf dX1_who_41 rfl (by decide) in_X1 (Or.inl q363) (Or.inl rfl) (by decide)
theorem oX1_who_44 : SX1_who 44 (i_iload 4 46) := snd_iload dX1_who_44
theorem oX1_who_46 : SX1_who 46 (i_ai 0 47) := snd_ai0 dX1_who_46
theorem oX1_who_47 : SX1_who 47 (i_cv 0 138 2 50) := snd_cv rfl infX1_arrival (by decide) rfl (xVm_V dX1_who_47 rfl q1454 q1456 qs49 q127 q1457 pdX1_arrival)
theorem oX1_who_50 : SX1_who 50 (i_const (.int (nI 0)) 51) := snd_iconst dX1_who_50 (by decide)
theorem oX1_who_51 : SX1_who 51 (i_aload 0 52) := snd_aload_n dX1_who_51 rfl
theorem oX1_who_52 : SX1_who 52 (i_getf 0 18 55) := snd_getf dX1_who_52 rfl (by decide) in_X1 (Or.inl q364) (Or.inl rfl) (by decide)
theorem oX1_who_55 : SX1_who 55 (i_iload 4 57) := snd_iload dX1_who_55
theorem oX1_who_57 : SX1_who 57 (i_ai 0 58) := snd_ai0 dX1_who_57
theorem oX1_who_58 : SX1_who 58 (i_cs 92 3 61) := snd_cs rfl infX1_in (by decide) (xSm_S dX1_who_58 q1145 q982 q127 q983 pdX1_in)
theorem oX1_who_61 : SX1_who 61 (i_if1 (fun x => x = 0) 68 64) := snd_if_eq dX1_who_61 (by decide)
theorem oX1_who_64 : SX1_who 64 (i_const (.int (nI 1)) 65) := snd_iconst dX1_who_64 (by decide)
theorem oX1_who_65 : SX1_who 65 (i_goto 69) := snd_goto dX1_who_65 (by decide)
theorem oX1_who_68 : SX1_who 68 (i_const (.int (nI 0)) 69) := snd_iconst dX1_who_68 (by decide)
theorem oX1_who_69 : SX1_who 69 (i_istore 3 70) := snd_istore_n dX1_who_69 rfl (by decide)
theorem oX1_who_70 : SX1_who 70 (i_iinc 4 (nI 1) 73) := snd_iinc dX1_who_70 (by decide) (by decide)
theorem oX1_who_73 : SX1_who 73 (i_goto 17) := snd_goto dX1_who_73 (by decide)
theorem oX1_who_76 : SX1_who 76 (i_iload 3 77) := snd_iload_n dX1_who_76 rfl
theorem oX1_who_77 : SX1_who 77 (i_if1 (fun x => x = 0) 86 80) := snd_if_eq dX1_who_77 (by decide)
theorem oX1_who_80 : SX1_who 80 (i_iload 1 81) := snd_iload_n dX1_who_80 rfl
theorem oX1_who_81 : SX1_who 81 (i_const (.int (nI 1)) 82) := snd_iconst dX1_who_81 (by decide)
theorem oX1_who_82 : SX1_who 82 (i_iload 2 83) := snd_iload_n dX1_who_82 rfl
theorem oX1_who_83 : SX1_who 83 (i_ii (fun x y => x <<< (y &&& 31)) 84) := snd_ishl dX1_who_83
theorem oX1_who_84 : SX1_who 84 (i_ii (fun x y => x ||| y) 85) := snd_ior dX1_who_84
theorem oX1_who_85 : SX1_who 85 (i_istore 1 86) := snd_istore_n dX1_who_85 rfl (by decide)
theorem oX1_who_86 : SX1_who 86 (i_iinc 2 (nI 1) 89) := snd_iinc dX1_who_86 (by decide) (by decide)
theorem oX1_who_89 : SX1_who 89 (i_goto 4) := snd_goto dX1_who_89 (by decide)
theorem oX1_who_92 : SX1_who 92 (i_iload 1 93) := snd_iload_n dX1_who_92 rfl
theorem oX1_who_93 : SX1_who 93 (i_iret) := snd_iret dX1_who_93 rfl
theorem okX1_who : ∀ q ∈ cX1_who, SX1_who q.1 q.2 := List.forall_mem_cons.mpr ⟨oX1_who_0, List.forall_mem_cons.mpr ⟨oX1_who_1, List.forall_mem_cons.mpr ⟨oX1_who_2, List.forall_mem_cons.mpr ⟨oX1_who_3, List.forall_mem_cons.mpr ⟨oX1_who_4, List.forall_mem_cons.mpr ⟨oX1_who_5, List.forall_mem_cons.mpr ⟨oX1_who_6, List.forall_mem_cons.mpr ⟨oX1_who_9, List.forall_mem_cons.mpr ⟨oX1_who_12, List.forall_mem_cons.mpr ⟨oX1_who_13, List.forall_mem_cons.mpr ⟨oX1_who_14, List.forall_mem_cons.mpr ⟨oX1_who_15, List.forall_mem_cons.mpr ⟨oX1_who_17, List.forall_mem_cons.mpr ⟨oX1_who_19, List.forall_mem_cons.mpr ⟨oX1_who_20, List.forall_mem_cons.mpr ⟨oX1_who_23, List.forall_mem_cons.mpr ⟨oX1_who_26, List.forall_mem_cons.mpr ⟨oX1_who_27, List.forall_mem_cons.mpr ⟨oX1_who_30, List.forall_mem_cons.mpr ⟨oX1_who_31, List.forall_mem_cons.mpr ⟨oX1_who_32, List.forall_mem_cons.mpr ⟨oX1_who_35, List.forall_mem_cons.mpr ⟨oX1_who_38, List.forall_mem_cons.mpr ⟨oX1_who_39, List.forall_mem_cons.mpr ⟨oX1_who_40, List.forall_mem_cons.mpr ⟨oX1_who_41, List.forall_mem_cons.mpr ⟨oX1_who_44, List.forall_mem_cons.mpr ⟨oX1_who_46, List.forall_mem_cons.mpr ⟨oX1_who_47, List.forall_mem_cons.mpr ⟨oX1_who_50, List.forall_mem_cons.mpr ⟨oX1_who_51, List.forall_mem_cons.mpr ⟨oX1_who_52, List.forall_mem_cons.mpr ⟨oX1_who_55, List.forall_mem_cons.mpr ⟨oX1_who_57, List.forall_mem_cons.mpr ⟨oX1_who_58, List.forall_mem_cons.mpr ⟨oX1_who_61, List.forall_mem_cons.mpr ⟨oX1_who_64, List.forall_mem_cons.mpr ⟨oX1_who_65, List.forall_mem_cons.mpr ⟨oX1_who_68, List.forall_mem_cons.mpr ⟨oX1_who_69, List.forall_mem_cons.mpr ⟨oX1_who_70, List.forall_mem_cons.mpr ⟨oX1_who_73, List.forall_mem_cons.mpr ⟨oX1_who_76, List.forall_mem_cons.mpr ⟨oX1_who_77, List.forall_mem_cons.mpr ⟨oX1_who_80, List.forall_mem_cons.mpr ⟨oX1_who_81, List.forall_mem_cons.mpr ⟨oX1_who_82, List.forall_mem_cons.mpr ⟨oX1_who_83, List.forall_mem_cons.mpr ⟨oX1_who_84, List.forall_mem_cons.mpr ⟨oX1_who_85, List.forall_mem_cons.mpr ⟨oX1_who_86, List.forall_mem_cons.mpr ⟨oX1_who_89, List.forall_mem_cons.mpr ⟨oX1_who_92, List.forall_mem_cons.mpr ⟨oX1_who_93, fun _ h => absurd h List.not_mem_nil⟩⟩⟩⟩⟩⟩⟩⟩⟩⟩⟩⟩⟩⟩⟩⟩⟩⟩⟩⟩⟩⟩⟩⟩⟩⟩⟩⟩⟩⟩⟩⟩⟩⟩⟩⟩⟩⟩⟩⟩⟩⟩⟩⟩⟩⟩⟩⟩⟩⟩⟩⟩⟩⟩
def dkwX1_rattles_2 : List UInt8 := [167, 255, 215, 27, 172]
abbrev dktX1_rattles_2 : List UInt8 := dkwX1_rattles_2 ++ []
def dkwX1_rattles_1 : List UInt8 := [180, 0, 51, 180, 0, 176, 28, 46, 100, 16, 6, 161, 0, 9, 27, 4, 28, 120, 128, 60, 132, 2, 1]
abbrev dktX1_rattles_1 : List UInt8 := dkwX1_rattles_1 ++ dktX1_rattles_2
def dkwX1_rattles_0 : List UInt8 := [3, 60, 3, 61, 28, 42, 182, 0, 159, 162, 0, 39, 42, 180, 0, 51, 180, 0, 195, 28, 46, 42]
abbrev dktX1_rattles_0 : List UInt8 := dkwX1_rattles_0 ++ dktX1_rattles_1
theorem dksX1_rattles_0 : bcX1_rattles.data.toList.drop 0 = dktX1_rattles_0 := by decide +kernel
theorem dksX1_rattles_1 : bcX1_rattles.data.toList.drop 22 = dktX1_rattles_1 := dk_seg dksX1_rattles_0 22 rfl rfl
theorem dksX1_rattles_2 : bcX1_rattles.data.toList.drop 45 = dktX1_rattles_2 := dk_seg dksX1_rattles_1 23 rfl rfl
theorem dX1_rattles_0 : decode bcX1_rattles 0 = .ok (.iconst 0, 1) := dk_3 (dk_at dksX1_rattles_0 0 rfl rfl)
theorem dX1_rattles_1 : decode bcX1_rattles 1 = .ok (.istore_n 1, 1) := dk_60 (dk_at dksX1_rattles_0 1 rfl rfl)
theorem dX1_rattles_2 : decode bcX1_rattles 2 = .ok (.iconst 0, 1) := dk_3 (dk_at dksX1_rattles_0 2 rfl rfl)
theorem dX1_rattles_3 : decode bcX1_rattles 3 = .ok (.istore_n 2, 1) := dk_61 (dk_at dksX1_rattles_0 3 rfl rfl)
theorem dX1_rattles_4 : decode bcX1_rattles 4 = .ok (.iload_n 2, 1) := dk_28 (dk_at dksX1_rattles_0 4 rfl rfl)
theorem dX1_rattles_5 : decode bcX1_rattles 5 = .ok (.aload_n 0, 1) := dk_42 (dk_at dksX1_rattles_0 5 rfl rfl)
theorem dX1_rattles_6 : decode bcX1_rattles 6 = .ok (.invokevirtual 159, 3) := dk_182 0 159 (dk_at dksX1_rattles_0 6 rfl rfl)
theorem dX1_rattles_9 : decode bcX1_rattles 9 = .ok (.if_icmp .ge 39, 3) := dk_162 0 39 (dk_at dksX1_rattles_0 9 rfl rfl)
theorem dX1_rattles_12 : decode bcX1_rattles 12 = .ok (.aload_n 0, 1) := dk_42 (dk_at dksX1_rattles_0 12 rfl rfl)
theorem dX1_rattles_13 : decode bcX1_rattles 13 = .ok (.getfield 51, 3) := dk_180 0 51 (dk_at dksX1_rattles_0 13 rfl rfl)
theorem dX1_rattles_16 : decode bcX1_rattles 16 = .ok (.getfield 195, 3) := dk_180 0 195 (dk_at dksX1_rattles_0 16 rfl rfl)
theorem dX1_rattles_19 : decode bcX1_rattles 19 = .ok (.iload_n 2, 1) := dk_28 (dk_at dksX1_rattles_0 19 rfl rfl)
theorem dX1_rattles_20 : decode bcX1_rattles 20 = .ok (.iaload, 1) := dk_46 (dk_at dksX1_rattles_0 20 rfl rfl)
theorem dX1_rattles_21 : decode bcX1_rattles 21 = .ok (.aload_n 0, 1) := dk_42 (dk_at dksX1_rattles_0 21 rfl rfl)
theorem dX1_rattles_22 : decode bcX1_rattles 22 = .ok (.getfield 51, 3) := dk_180 0 51 (dk_at dksX1_rattles_1 0 rfl rfl)
theorem dX1_rattles_25 : decode bcX1_rattles 25 = .ok (.getfield 176, 3) := dk_180 0 176 (dk_at dksX1_rattles_1 3 rfl rfl)
theorem dX1_rattles_28 : decode bcX1_rattles 28 = .ok (.iload_n 2, 1) := dk_28 (dk_at dksX1_rattles_1 6 rfl rfl)
theorem dX1_rattles_29 : decode bcX1_rattles 29 = .ok (.iaload, 1) := dk_46 (dk_at dksX1_rattles_1 7 rfl rfl)
theorem dX1_rattles_30 : decode bcX1_rattles 30 = .ok (.isub, 1) := dk_100 (dk_at dksX1_rattles_1 8 rfl rfl)
theorem dX1_rattles_31 : decode bcX1_rattles 31 = .ok (.bipush 6, 2) := dk_16 6 (dk_at dksX1_rattles_1 9 rfl rfl)
theorem dX1_rattles_33 : decode bcX1_rattles 33 = .ok (.if_icmp .lt 9, 3) := dk_161 0 9 (dk_at dksX1_rattles_1 11 rfl rfl)
theorem dX1_rattles_36 : decode bcX1_rattles 36 = .ok (.iload_n 1, 1) := dk_27 (dk_at dksX1_rattles_1 14 rfl rfl)
theorem dX1_rattles_37 : decode bcX1_rattles 37 = .ok (.iconst 1, 1) := dk_4 (dk_at dksX1_rattles_1 15 rfl rfl)
theorem dX1_rattles_38 : decode bcX1_rattles 38 = .ok (.iload_n 2, 1) := dk_28 (dk_at dksX1_rattles_1 16 rfl rfl)
theorem dX1_rattles_39 : decode bcX1_rattles 39 = .ok (.ishl, 1) := dk_120 (dk_at dksX1_rattles_1 17 rfl rfl)
theorem dX1_rattles_40 : decode bcX1_rattles 40 = .ok (.ior, 1) := dk_128 (dk_at dksX1_rattles_1 18 rfl rfl)
theorem dX1_rattles_41 : decode bcX1_rattles 41 = .ok (.istore_n 1, 1) := dk_60 (dk_at dksX1_rattles_1 19 rfl rfl)
theorem dX1_rattles_42 : decode bcX1_rattles 42 = .ok (.iinc 2 1, 3) := dk_132 2 1 (dk_at dksX1_rattles_1 20 rfl rfl)
theorem dX1_rattles_45 : decode bcX1_rattles 45 = .ok (.goto (-41), 3) := dk_167 255 215 (dk_at dksX1_rattles_2 0 rfl rfl)
theorem dX1_rattles_48 : decode bcX1_rattles 48 = .ok (.iload_n 1, 1) := dk_27 (dk_at dksX1_rattles_2 3 rfl rfl)
theorem dX1_rattles_49 : decode bcX1_rattles 49 = .ok (.ireturn, 1) := dk_172 (dk_at dksX1_rattles_2 4 rfl rfl)
abbrev SX1_rattles (pc : Nat) (i : xI) : Prop := Snd "SwollenHouse" "rattles" prog_1_method_67_code 3 (Option.some Jvm.ClassFile.FieldType.int) [] pc i
theorem oX1_rattles_0 : SX1_rattles 0 (i_const (.int (nI 0)) 1) := snd_iconst dX1_rattles_0 (by decide)
theorem oX1_rattles_1 : SX1_rattles 1 (i_istore 1 2) := snd_istore_n dX1_rattles_1 rfl (by decide)
theorem oX1_rattles_2 : SX1_rattles 2 (i_const (.int (nI 0)) 3) := snd_iconst dX1_rattles_2 (by decide)
theorem oX1_rattles_3 : SX1_rattles 3 (i_istore 2 4) := snd_istore_n dX1_rattles_3 rfl (by decide)
theorem oX1_rattles_4 : SX1_rattles 4 (i_iload 2 5) := snd_iload_n dX1_rattles_4 rfl
theorem oX1_rattles_5 : SX1_rattles 5 (i_aload 0 6) := snd_aload_n dX1_rattles_5 rfl
theorem oX1_rattles_6 : SX1_rattles 6 (i_cv 0 96 0 9) := snd_cv rfl infX1_doors (by decide) rfl (xVm_V dX1_rattles_6 rfl q1140 q1142 qs30 q127 q1143 pdX1_doors)
theorem oX1_rattles_9 : SX1_rattles 9 (i_if2 (fun x y => y ≤ x) 48 12) := snd_icmp_ge dX1_rattles_9 (by decide)
theorem oX1_rattles_12 : SX1_rattles 12 (i_aload 0 13) := snd_aload_n dX1_rattles_12 rfl
theorem oX1_rattles_13 : SX1_rattles 13 (i_getf 0 4 16) := snd_getf dX1_rattles_13 rfl (by decide) in_X1 (Or.inl q350) (Or.inl rfl) (by decide)
theorem oX1_rattles_16 : SX1_rattles 16 (i_getf 3 1 19) := snd_getf dX1_rattles_16 rfl (by decide) in_X4 (Or.inr ⟨_, q294⟩) (Or.inl rfl) (by decide)
theorem oX1_rattles_19 : SX1_rattles 19 (i_iload 2 20) := snd_iload_n dX1_rattles_19 rfl
theorem oX1_rattles_20 : SX1_rattles 20 (i_ai 0 21) := snd_ai0 dX1_rattles_20
theorem oX1_rattles_21 : SX1_rattles 21 (i_aload 0 22) := snd_aload_n dX1_rattles_21 rfl
theorem oX1_rattles_22 : SX1_rattles 22 (i_getf 0 4 25) := snd_getf dX1_rattles_22 rfl (by decide) in_X1 (Or.inl q350) (Or.inl rfl) (by decide)
theorem oX1_rattles_25 : SX1_rattles 25 (i_getf 3 0 28) := snd_getf dX1_rattles_25 rfl (by decide) in_X4 (Or.inr ⟨_, q290⟩) (Or.inl rfl) (by decide)
theorem oX1_rattles_28 : SX1_rattles 28 (i_iload 2 29) := snd_iload_n dX1_rattles_28 rfl
theorem oX1_rattles_29 : SX1_rattles 29 (i_ai 0 30) := snd_ai0 dX1_rattles_29
theorem oX1_rattles_30 : SX1_rattles 30 (i_ii (fun x y => x - y) 31) := snd_isub dX1_rattles_30
theorem oX1_rattles_31 : SX1_rattles 31 (i_const (.int (nI 6)) 33) := snd_bipush dX1_rattles_31 (by decide)
theorem oX1_rattles_33 : SX1_rattles 33 (i_if2 (fun x y => x < y) 42 36) := snd_icmp_lt dX1_rattles_33 (by decide)
theorem oX1_rattles_36 : SX1_rattles 36 (i_iload 1 37) := snd_iload_n dX1_rattles_36 rfl
theorem oX1_rattles_37 : SX1_rattles 37 (i_const (.int (nI 1)) 38) := snd_iconst dX1_rattles_37 (by decide)
theorem oX1_rattles_38 : SX1_rattles 38 (i_iload 2 39) := snd_iload_n dX1_rattles_38 rfl
theorem oX1_rattles_39 : SX1_rattles 39 (i_ii (fun x y => x <<< (y &&& 31)) 40) := snd_ishl dX1_rattles_39
theorem oX1_rattles_40 : SX1_rattles 40 (i_ii (fun x y => x ||| y) 41) := snd_ior dX1_rattles_40
theorem oX1_rattles_41 : SX1_rattles 41 (i_istore 1 42) := snd_istore_n dX1_rattles_41 rfl (by decide)
theorem oX1_rattles_42 : SX1_rattles 42 (i_iinc 2 (nI 1) 45) := snd_iinc dX1_rattles_42 (by decide) (by decide)
theorem oX1_rattles_45 : SX1_rattles 45 (i_goto 4) := snd_goto dX1_rattles_45 (by decide)
theorem oX1_rattles_48 : SX1_rattles 48 (i_iload 1 49) := snd_iload_n dX1_rattles_48 rfl
theorem oX1_rattles_49 : SX1_rattles 49 (i_iret) := snd_iret dX1_rattles_49 rfl
theorem okX1_rattles : ∀ q ∈ cX1_rattles, SX1_rattles q.1 q.2 := List.forall_mem_cons.mpr ⟨oX1_rattles_0, List.forall_mem_cons.mpr ⟨oX1_rattles_1, List.forall_mem_cons.mpr ⟨oX1_rattles_2, List.forall_mem_cons.mpr ⟨oX1_rattles_3, List.forall_mem_cons.mpr ⟨oX1_rattles_4, List.forall_mem_cons.mpr ⟨oX1_rattles_5, List.forall_mem_cons.mpr ⟨oX1_rattles_6, List.forall_mem_cons.mpr ⟨oX1_rattles_9, List.forall_mem_cons.mpr ⟨oX1_rattles_12, List.forall_mem_cons.mpr ⟨oX1_rattles_13, List.forall_mem_cons.mpr ⟨oX1_rattles_16, List.forall_mem_cons.mpr ⟨oX1_rattles_19, List.forall_mem_cons.mpr ⟨oX1_rattles_20, List.forall_mem_cons.mpr ⟨oX1_rattles_21, List.forall_mem_cons.mpr ⟨oX1_rattles_22, List.forall_mem_cons.mpr ⟨oX1_rattles_25, List.forall_mem_cons.mpr ⟨oX1_rattles_28, List.forall_mem_cons.mpr ⟨oX1_rattles_29, List.forall_mem_cons.mpr ⟨oX1_rattles_30, List.forall_mem_cons.mpr ⟨oX1_rattles_31, List.forall_mem_cons.mpr ⟨oX1_rattles_33, List.forall_mem_cons.mpr ⟨oX1_rattles_36, List.forall_mem_cons.mpr ⟨oX1_rattles_37, List.forall_mem_cons.mpr ⟨oX1_rattles_38, List.forall_mem_cons.mpr ⟨oX1_rattles_39, List.forall_mem_cons.mpr ⟨oX1_rattles_40, List.forall_mem_cons.mpr ⟨oX1_rattles_41, List.forall_mem_cons.mpr ⟨oX1_rattles_42, List.forall_mem_cons.mpr ⟨oX1_rattles_45, List.forall_mem_cons.mpr ⟨oX1_rattles_48, List.forall_mem_cons.mpr ⟨oX1_rattles_49, fun _ h => absurd h List.not_mem_nil⟩⟩⟩⟩⟩⟩⟩⟩⟩⟩⟩⟩⟩⟩⟩⟩⟩⟩⟩⟩⟩⟩⟩⟩⟩⟩⟩⟩⟩⟩⟩
def dkwX1_worst_3 : List UInt8 := [132, 2, 1, 167, 255, 187, 27, 172]
abbrev dktX1_worst_3 : List UInt8 := dkwX1_worst_3 ++ []
def dkwX1_worst_2 : List UInt8 := [180, 0, 51, 180, 0, 176, 27, 46, 42, 180, 0, 51, 180, 0, 195, 27, 46, 100, 164, 0, 5, 28, 60]
abbrev dktX1_worst_2 : List UInt8 := dkwX1_worst_2 ++ dktX1_worst_3
def dkwX1_worst_1 : List UInt8 := [155, 0, 44, 42, 180, 0, 51, 180, 0, 176, 28, 46, 42, 180, 0, 51, 180, 0, 195, 28, 46, 100, 42]
abbrev dktX1_worst_1 : List UInt8 := dkwX1_worst_1 ++ dktX1_worst_2
def dkwX1_worst_0 : List UInt8 := [2, 60, 3, 61, 28, 42, 182, 0, 159, 162, 0, 67, 42, 180, 0, 51, 28, 182, 0, 219, 153, 0, 50, 27]
abbrev dktX1_worst_0 : List UInt8 := dkwX1_worst_0 ++ dktX1_worst_1
theorem dksX1_worst_0 : bcX1_worst.data.toList.drop 0 = dktX1_worst_0 := by decide +kernel
theorem dksX1_worst_1 : bcX1_worst.data.toList.drop 24 = dktX1_worst_1 := dk_seg dksX1_worst_0 24 rfl rfl
theorem dksX1_worst_2 : bcX1_worst.data.toList.drop 47 = dktX1_worst_2 := dk_seg dksX1_worst_1 23 rfl rfl
theorem dksX1_worst_3 : bcX1_worst.data.toList.drop 70 = dktX1_worst_3 := dk_seg dksX1_worst_2 23 rfl rfl
theorem dX1_worst_0 : decode bcX1_worst 0 = .ok (.iconst (-1), 1) := dk_2 (dk_at dksX1_worst_0 0 rfl rfl)
theorem dX1_worst_1 : decode bcX1_worst 1 = .ok (.istore_n 1, 1) := dk_60 (dk_at dksX1_worst_0 1 rfl rfl)
theorem dX1_worst_2 : decode bcX1_worst 2 = .ok (.iconst 0, 1) := dk_3 (dk_at dksX1_worst_0 2 rfl rfl)
theorem dX1_worst_3 : decode bcX1_worst 3 = .ok (.istore_n 2, 1) := dk_61 (dk_at dksX1_worst_0 3 rfl rfl)
theorem dX1_worst_4 : decode bcX1_worst 4 = .ok (.iload_n 2, 1) := dk_28 (dk_at dksX1_worst_0 4 rfl rfl)
theorem dX1_worst_5 : decode bcX1_worst 5 = .ok (.aload_n 0, 1) := dk_42 (dk_at dksX1_worst_0 5 rfl rfl)
theorem dX1_worst_6 : decode bcX1_worst 6 = .ok (.invokevirtual 159, 3) := dk_182 0 159 (dk_at dksX1_worst_0 6 rfl rfl)
theorem dX1_worst_9 : decode bcX1_worst 9 = .ok (.if_icmp .ge 67, 3) := dk_162 0 67 (dk_at dksX1_worst_0 9 rfl rfl)
theorem dX1_worst_12 : decode bcX1_worst 12 = .ok (.aload_n 0, 1) := dk_42 (dk_at dksX1_worst_0 12 rfl rfl)
theorem dX1_worst_13 : decode bcX1_worst 13 = .ok (.getfield 51, 3) := dk_180 0 51 (dk_at dksX1_worst_0 13 rfl rfl)
theorem dX1_worst_16 : decode bcX1_worst 16 = .ok (.iload_n 2, 1) := dk_28 (dk_at dksX1_worst_0 16 rfl rfl)
theorem dX1_worst_17 : decode bcX1_worst 17 = .ok (.invokevirtual 219, 3) := dk_182 0 219 (dk_at dksX1_worst_0 17 rfl rfl)
theorem dX1_worst_20 : decode bcX1_worst 20 = .ok (.ifCond .eq 50, 3) := dk_153 0 50 (dk_at dksX1_worst_0 20 rfl rfl)
theorem dX1_worst_23 : decode bcX1_worst 23 = .ok (.iload_n 1, 1) := dk_27 (dk_at dksX1_worst_0 23 rfl rfl)
theorem dX1_worst_24 : decode bcX1_worst 24 = .ok (.ifCond .lt 44, 3) := dk_155 0 44 (dk_at dksX1_worst_1 0 rfl rfl)
theorem dX1_worst_27 : decode bcX1_worst 27 = .ok (.aload_n 0, 1) := dk_42 (dk_at dksX1_worst_1 3 rfl rfl)
theorem dX1_worst_28 : decode bcX1_worst 28 = .ok (.getfield 51, 3) := dk_180 0 51 (dk_at dksX1_worst_1 4 rfl rfl)
theorem dX1_worst_31 : decode bcX1_worst 31 = .ok (.getfield 176, 3) := dk_180 0 176 (dk_at dksX1_worst_1 7 rfl rfl)
theorem dX1_worst_34 : decode bcX1_worst 34 = .ok (.iload_n 2, 1) := dk_28 (dk_at dksX1_worst_1 10 rfl rfl)
theorem dX1_worst_35 : decode bcX1_worst 35 = .ok (.iaload, 1) := dk_46 (dk_at dksX1_worst_1 11 rfl rfl)
theorem dX1_worst_36 : decode bcX1_worst 36 = .ok (.aload_n 0, 1) := dk_42 (dk_at dksX1_worst_1 12 rfl rfl)
theorem dX1_worst_37 : decode bcX1_worst 37 = .ok (.getfield 51, 3) := dk_180 0 51 (dk_at dksX1_worst_1 13 rfl rfl)
theorem dX1_worst_40 : decode bcX1_worst 40 = .ok (.getfield 195, 3) := dk_180 0 195 (dk_at dksX1_worst_1 16 rfl rfl)
theorem dX1_worst_43 : decode bcX1_worst 43 = .ok (.iload_n 2, 1) := dk_28 (dk_at dksX1_worst_1 19 rfl rfl)
theorem dX1_worst_44 : decode bcX1_worst 44 = .ok (.iaload, 1) := dk_46 (dk_at dksX1_worst_1 20 rfl rfl)
theorem dX1_worst_45 : decode bcX1_worst 45 = .ok (.isub, 1) := dk_100 (dk_at dksX1_worst_1 21 rfl rfl)
theorem dX1_worst_46 : decode bcX1_worst 46 = .ok (.aload_n 0, 1) := dk_42 (dk_at dksX1_worst_1 22 rfl rfl)
theorem dX1_worst_47 : decode bcX1_worst 47 = .ok (.getfield 51, 3) := dk_180 0 51 (dk_at dksX1_worst_2 0 rfl rfl)
theorem dX1_worst_50 : decode bcX1_worst 50 = .ok (.getfield 176, 3) := dk_180 0 176 (dk_at dksX1_worst_2 3 rfl rfl)
theorem dX1_worst_53 : decode bcX1_worst 53 = .ok (.iload_n 1, 1) := dk_27 (dk_at dksX1_worst_2 6 rfl rfl)
theorem dX1_worst_54 : decode bcX1_worst 54 = .ok (.iaload, 1) := dk_46 (dk_at dksX1_worst_2 7 rfl rfl)
theorem dX1_worst_55 : decode bcX1_worst 55 = .ok (.aload_n 0, 1) := dk_42 (dk_at dksX1_worst_2 8 rfl rfl)
theorem dX1_worst_56 : decode bcX1_worst 56 = .ok (.getfield 51, 3) := dk_180 0 51 (dk_at dksX1_worst_2 9 rfl rfl)
theorem dX1_worst_59 : decode bcX1_worst 59 = .ok (.getfield 195, 3) := dk_180 0 195 (dk_at dksX1_worst_2 12 rfl rfl)
theorem dX1_worst_62 : decode bcX1_worst 62 = .ok (.iload_n 1, 1) := dk_27 (dk_at dksX1_worst_2 15 rfl rfl)
theorem dX1_worst_63 : decode bcX1_worst 63 = .ok (.iaload, 1) := dk_46 (dk_at dksX1_worst_2 16 rfl rfl)
theorem dX1_worst_64 : decode bcX1_worst 64 = .ok (.isub, 1) := dk_100 (dk_at dksX1_worst_2 17 rfl rfl)
theorem dX1_worst_65 : decode bcX1_worst 65 = .ok (.if_icmp .le 5, 3) := dk_164 0 5 (dk_at dksX1_worst_2 18 rfl rfl)
theorem dX1_worst_68 : decode bcX1_worst 68 = .ok (.iload_n 2, 1) := dk_28 (dk_at dksX1_worst_2 21 rfl rfl)
theorem dX1_worst_69 : decode bcX1_worst 69 = .ok (.istore_n 1, 1) := dk_60 (dk_at dksX1_worst_2 22 rfl rfl)
theorem dX1_worst_70 : decode bcX1_worst 70 = .ok (.iinc 2 1, 3) := dk_132 2 1 (dk_at dksX1_worst_3 0 rfl rfl)
theorem dX1_worst_73 : decode bcX1_worst 73 = .ok (.goto (-69), 3) := dk_167 255 187 (dk_at dksX1_worst_3 3 rfl rfl)
theorem dX1_worst_76 : decode bcX1_worst 76 = .ok (.iload_n 1, 1) := dk_27 (dk_at dksX1_worst_3 6 rfl rfl)
theorem dX1_worst_77 : decode bcX1_worst 77 = .ok (.ireturn, 1) := dk_172 (dk_at dksX1_worst_3 7 rfl rfl)
abbrev SX1_worst (pc : Nat) (i : xI) : Prop := Snd "SwollenHouse" "worst" prog_1_method_68_code 3 (Option.some Jvm.ClassFile.FieldType.int) [] pc i
theorem oX1_worst_0 : SX1_worst 0 (i_const (.int (-1)) 1) := snd_iconst dX1_worst_0 (by decide)
theorem oX1_worst_1 : SX1_worst 1 (i_istore 1 2) := snd_istore_n dX1_worst_1 rfl (by decide)
theorem oX1_worst_2 : SX1_worst 2 (i_const (.int (nI 0)) 3) := snd_iconst dX1_worst_2 (by decide)
theorem oX1_worst_3 : SX1_worst 3 (i_istore 2 4) := snd_istore_n dX1_worst_3 rfl (by decide)
theorem oX1_worst_4 : SX1_worst 4 (i_iload 2 5) := snd_iload_n dX1_worst_4 rfl
theorem oX1_worst_5 : SX1_worst 5 (i_aload 0 6) := snd_aload_n dX1_worst_5 rfl
theorem oX1_worst_6 : SX1_worst 6 (i_cv 0 96 0 9) := snd_cv rfl infX1_doors (by decide) rfl (xVm_V dX1_worst_6 rfl q1140 q1142 qs30 q127 q1143 pdX1_doors)
theorem oX1_worst_9 : SX1_worst 9 (i_if2 (fun x y => y ≤ x) 76 12) := snd_icmp_ge dX1_worst_9 (by decide)
theorem oX1_worst_12 : SX1_worst 12 (i_aload 0 13) := snd_aload_n dX1_worst_12 rfl
theorem oX1_worst_13 : SX1_worst 13 (i_getf 0 4 16) := snd_getf dX1_worst_13 rfl (by decide) in_X1 (Or.inl q350) (Or.inl rfl) (by decide)
theorem oX1_worst_16 : SX1_worst 16 (i_iload 2 17) := snd_iload_n dX1_worst_16 rfl
theorem oX1_worst_17 : SX1_worst 17 (i_cv 3 238 1 20) := snd_cv rfl infX4_sticks (by decide) rfl (xVm_V dX1_worst_17 rfl q1167 q1168 q1169 q133 q1170 pdX4_sticks)
theorem oX1_worst_20 : SX1_worst 20 (i_if1 (fun x => x = 0) 70 23) := snd_if_eq dX1_worst_20 (by decide)
theorem oX1_worst_23 : SX1_worst 23 (i_iload 1 24) := snd_iload_n dX1_worst_23 rfl
theorem oX1_worst_24 : SX1_worst 24 (i_if1 (fun x => x < 0) 68 27) := snd_if_lt dX1_worst_24 (by decide)
theorem oX1_worst_27 : SX1_worst 27 (i_aload 0 28) := snd_aload_n dX1_worst_27 rfl
theorem oX1_worst_28 : SX1_worst 28 (i_getf 0 4 31) := snd_getf dX1_worst_28 rfl (by decide) in_X1 (Or.inl q350) (Or.inl rfl) (by decide)
theorem oX1_worst_31 : SX1_worst 31 (i_getf 3 0 34) := snd_getf dX1_worst_31 rfl (by decide) in_X4 (Or.inr ⟨_, q290⟩) (Or.inl rfl) (by decide)
theorem oX1_worst_34 : SX1_worst 34 (i_iload 2 35) := snd_iload_n dX1_worst_34 rfl
theorem oX1_worst_35 : SX1_worst 35 (i_ai 0 36) := snd_ai0 dX1_worst_35
theorem oX1_worst_36 : SX1_worst 36 (i_aload 0 37) := snd_aload_n dX1_worst_36 rfl
theorem oX1_worst_37 : SX1_worst 37 (i_getf 0 4 40) := snd_getf dX1_worst_37 rfl (by decide) in_X1 (Or.inl q350) (Or.inl rfl) (by decide)
theorem oX1_worst_40 : SX1_worst 40 (i_getf 3 1 43) := snd_getf dX1_worst_40 rfl (by decide) in_X4 (Or.inr ⟨_, q294⟩) (Or.inl rfl) (by decide)
theorem oX1_worst_43 : SX1_worst 43 (i_iload 2 44) := snd_iload_n dX1_worst_43 rfl
theorem oX1_worst_44 : SX1_worst 44 (i_ai 0 45) := snd_ai0 dX1_worst_44
theorem oX1_worst_45 : SX1_worst 45 (i_ii (fun x y => x - y) 46) := snd_isub dX1_worst_45
theorem oX1_worst_46 : SX1_worst 46 (i_aload 0 47) := snd_aload_n dX1_worst_46 rfl
theorem oX1_worst_47 : SX1_worst 47 (i_getf 0 4 50) := snd_getf dX1_worst_47 rfl (by decide) in_X1 (Or.inl q350) (Or.inl rfl) (by decide)
theorem oX1_worst_50 : SX1_worst 50 (i_getf 3 0 53) := snd_getf dX1_worst_50 rfl (by decide) in_X4 (Or.inr ⟨_, q290⟩) (Or.inl rfl) (by decide)
theorem oX1_worst_53 : SX1_worst 53 (i_iload 1 54) := snd_iload_n dX1_worst_53 rfl
theorem oX1_worst_54 : SX1_worst 54 (i_ai 0 55) := snd_ai0 dX1_worst_54
theorem oX1_worst_55 : SX1_worst 55 (i_aload 0 56) := snd_aload_n dX1_worst_55 rfl
theorem oX1_worst_56 : SX1_worst 56 (i_getf 0 4 59) := snd_getf dX1_worst_56 rfl (by decide) in_X1 (Or.inl q350) (Or.inl rfl) (by decide)
theorem oX1_worst_59 : SX1_worst 59 (i_getf 3 1 62) := snd_getf dX1_worst_59 rfl (by decide) in_X4 (Or.inr ⟨_, q294⟩) (Or.inl rfl) (by decide)
theorem oX1_worst_62 : SX1_worst 62 (i_iload 1 63) := snd_iload_n dX1_worst_62 rfl
theorem oX1_worst_63 : SX1_worst 63 (i_ai 0 64) := snd_ai0 dX1_worst_63
theorem oX1_worst_64 : SX1_worst 64 (i_ii (fun x y => x - y) 65) := snd_isub dX1_worst_64
theorem oX1_worst_65 : SX1_worst 65 (i_if2 (fun x y => x ≤ y) 70 68) := snd_icmp_le dX1_worst_65 (by decide)
theorem oX1_worst_68 : SX1_worst 68 (i_iload 2 69) := snd_iload_n dX1_worst_68 rfl
theorem oX1_worst_69 : SX1_worst 69 (i_istore 1 70) := snd_istore_n dX1_worst_69 rfl (by decide)
theorem oX1_worst_70 : SX1_worst 70 (i_iinc 2 (nI 1) 73) := snd_iinc dX1_worst_70 (by decide) (by decide)
theorem oX1_worst_73 : SX1_worst 73 (i_goto 4) := snd_goto dX1_worst_73 (by decide)
theorem oX1_worst_76 : SX1_worst 76 (i_iload 1 77) := snd_iload_n dX1_worst_76 rfl
theorem oX1_worst_77 : SX1_worst 77 (i_iret) := snd_iret dX1_worst_77 rfl
theorem okX1_worst : ∀ q ∈ cX1_worst, SX1_worst q.1 q.2 := List.forall_mem_cons.mpr ⟨oX1_worst_0, List.forall_mem_cons.mpr ⟨oX1_worst_1, List.forall_mem_cons.mpr ⟨oX1_worst_2, List.forall_mem_cons.mpr ⟨oX1_worst_3, List.forall_mem_cons.mpr ⟨oX1_worst_4, List.forall_mem_cons.mpr ⟨oX1_worst_5, List.forall_mem_cons.mpr ⟨oX1_worst_6, List.forall_mem_cons.mpr ⟨oX1_worst_9, List.forall_mem_cons.mpr ⟨oX1_worst_12, List.forall_mem_cons.mpr ⟨oX1_worst_13, List.forall_mem_cons.mpr ⟨oX1_worst_16, List.forall_mem_cons.mpr ⟨oX1_worst_17, List.forall_mem_cons.mpr ⟨oX1_worst_20, List.forall_mem_cons.mpr ⟨oX1_worst_23, List.forall_mem_cons.mpr ⟨oX1_worst_24, List.forall_mem_cons.mpr ⟨oX1_worst_27, List.forall_mem_cons.mpr ⟨oX1_worst_28, List.forall_mem_cons.mpr ⟨oX1_worst_31, List.forall_mem_cons.mpr ⟨oX1_worst_34, List.forall_mem_cons.mpr ⟨oX1_worst_35, List.forall_mem_cons.mpr ⟨oX1_worst_36, List.forall_mem_cons.mpr ⟨oX1_worst_37, List.forall_mem_cons.mpr ⟨oX1_worst_40, List.forall_mem_cons.mpr ⟨oX1_worst_43, List.forall_mem_cons.mpr ⟨oX1_worst_44, List.forall_mem_cons.mpr ⟨oX1_worst_45, List.forall_mem_cons.mpr ⟨oX1_worst_46, List.forall_mem_cons.mpr ⟨oX1_worst_47, List.forall_mem_cons.mpr ⟨oX1_worst_50, List.forall_mem_cons.mpr ⟨oX1_worst_53, List.forall_mem_cons.mpr ⟨oX1_worst_54, List.forall_mem_cons.mpr ⟨oX1_worst_55, List.forall_mem_cons.mpr ⟨oX1_worst_56, List.forall_mem_cons.mpr ⟨oX1_worst_59, List.forall_mem_cons.mpr ⟨oX1_worst_62, List.forall_mem_cons.mpr ⟨oX1_worst_63, List.forall_mem_cons.mpr ⟨oX1_worst_64, List.forall_mem_cons.mpr ⟨oX1_worst_65, List.forall_mem_cons.mpr ⟨oX1_worst_68, List.forall_mem_cons.mpr ⟨oX1_worst_69, List.forall_mem_cons.mpr ⟨oX1_worst_70, List.forall_mem_cons.mpr ⟨oX1_worst_73, List.forall_mem_cons.mpr ⟨oX1_worst_76, List.forall_mem_cons.mpr ⟨oX1_worst_77, fun _ h => absurd h List.not_mem_nil⟩⟩⟩⟩⟩⟩⟩⟩⟩⟩⟩⟩⟩⟩⟩⟩⟩⟩⟩⟩⟩⟩⟩⟩⟩⟩⟩⟩⟩⟩⟩⟩⟩⟩⟩⟩⟩⟩⟩⟩⟩⟩⟩⟩
def dkwX1_spared_3 : List UInt8 := [132, 3, 1, 167, 255, 198, 27, 172]
abbrev dktX1_spared_3 : List UInt8 := dkwX1_spared_3 ++ []
def dkwX1_spared_2 : List UInt8 := [182, 1, 43, 42, 29, 182, 0, 163, 180, 0, 241, 184, 1, 30, 153, 0, 9, 27, 4, 29, 120, 128, 60]
abbrev dktX1_spared_2 : List UInt8 := dkwX1_spared_2 ++ dktX1_spared_3
def dkwX1_spared_1 : List UInt8 := [184, 1, 30, 153, 0, 42, 42, 42, 29, 182, 0, 163, 180, 0, 238, 28, 4, 29, 120, 2, 130, 126]
abbrev dktX1_spared_1 : List UInt8 := dkwX1_spared_1 ++ dktX1_spared_2
def dkwX1_spared_0 : List UInt8 := [3, 60, 42, 42, 180, 0, 51, 182, 1, 40, 61, 3, 62, 29, 42, 182, 0, 159, 162, 0, 56, 28, 29]
abbrev dktX1_spared_0 : List UInt8 := dkwX1_spared_0 ++ dktX1_spared_1
theorem dksX1_spared_0 : bcX1_spared.data.toList.drop 0 = dktX1_spared_0 := by decide +kernel
theorem dksX1_spared_1 : bcX1_spared.data.toList.drop 23 = dktX1_spared_1 := dk_seg dksX1_spared_0 23 rfl rfl
theorem dksX1_spared_2 : bcX1_spared.data.toList.drop 45 = dktX1_spared_2 := dk_seg dksX1_spared_1 22 rfl rfl
theorem dksX1_spared_3 : bcX1_spared.data.toList.drop 68 = dktX1_spared_3 := dk_seg dksX1_spared_2 23 rfl rfl
theorem dX1_spared_0 : decode bcX1_spared 0 = .ok (.iconst 0, 1) := dk_3 (dk_at dksX1_spared_0 0 rfl rfl)
theorem dX1_spared_1 : decode bcX1_spared 1 = .ok (.istore_n 1, 1) := dk_60 (dk_at dksX1_spared_0 1 rfl rfl)
theorem dX1_spared_2 : decode bcX1_spared 2 = .ok (.aload_n 0, 1) := dk_42 (dk_at dksX1_spared_0 2 rfl rfl)
theorem dX1_spared_3 : decode bcX1_spared 3 = .ok (.aload_n 0, 1) := dk_42 (dk_at dksX1_spared_0 3 rfl rfl)
theorem dX1_spared_4 : decode bcX1_spared 4 = .ok (.getfield 51, 3) := dk_180 0 51 (dk_at dksX1_spared_0 4 rfl rfl)
theorem dX1_spared_7 : decode bcX1_spared 7 = .ok (.invokevirtual 296, 3) := dk_182 1 40 (dk_at dksX1_spared_0 7 rfl rfl)
theorem dX1_spared_10 : decode bcX1_spared 10 = .ok (.istore_n 2, 1) := dk_61 (dk_at dksX1_spared_0 10 rfl rfl)
theorem dX1_spared_11 : decode bcX1_spared 11 = .ok (.iconst 0, 1) := dk_3 (dk_at dksX1_spared_0 11 rfl rfl)
theorem dX1_spared_12 : decode bcX1_spared 12 = .ok (.istore_n 3, 1) := dk_62 (dk_at dksX1_spared_0 12 rfl rfl)
theorem dX1_spared_13 : decode bcX1_spared 13 = .ok (.iload_n 3, 1) := dk_29 (dk_at dksX1_spared_0 13 rfl rfl)
theorem dX1_spared_14 : decode bcX1_spared 14 = .ok (.aload_n 0, 1) := dk_42 (dk_at dksX1_spared_0 14 rfl rfl)
theorem dX1_spared_15 : decode bcX1_spared 15 = .ok (.invokevirtual 159, 3) := dk_182 0 159 (dk_at dksX1_spared_0 15 rfl rfl)
theorem dX1_spared_18 : decode bcX1_spared 18 = .ok (.if_icmp .ge 56, 3) := dk_162 0 56 (dk_at dksX1_spared_0 18 rfl rfl)
theorem dX1_spared_21 : decode bcX1_spared 21 = .ok (.iload_n 2, 1) := dk_28 (dk_at dksX1_spared_0 21 rfl rfl)
theorem dX1_spared_22 : decode bcX1_spared 22 = .ok (.iload_n 3, 1) := dk_29 (dk_at dksX1_spared_0 22 rfl rfl)
theorem dX1_spared_23 : decode bcX1_spared 23 = .ok (.invokestatic 286, 3) := dk_184 1 30 (dk_at dksX1_spared_1 0 rfl rfl)
theorem dX1_spared_26 : decode bcX1_spared 26 = .ok (.ifCond .eq 42, 3) := dk_153 0 42 (dk_at dksX1_spared_1 3 rfl rfl)
theorem dX1_spared_29 : decode bcX1_spared 29 = .ok (.aload_n 0, 1) := dk_42 (dk_at dksX1_spared_1 6 rfl rfl)
theorem dX1_spared_30 : decode bcX1_spared 30 = .ok (.aload_n 0, 1) := dk_42 (dk_at dksX1_spared_1 7 rfl rfl)
theorem dX1_spared_31 : decode bcX1_spared 31 = .ok (.iload_n 3, 1) := dk_29 (dk_at dksX1_spared_1 8 rfl rfl)
theorem dX1_spared_32 : decode bcX1_spared 32 = .ok (.invokevirtual 163, 3) := dk_182 0 163 (dk_at dksX1_spared_1 9 rfl rfl)
theorem dX1_spared_35 : decode bcX1_spared 35 = .ok (.getfield 238, 3) := dk_180 0 238 (dk_at dksX1_spared_1 12 rfl rfl)
theorem dX1_spared_38 : decode bcX1_spared 38 = .ok (.iload_n 2, 1) := dk_28 (dk_at dksX1_spared_1 15 rfl rfl)
theorem dX1_spared_39 : decode bcX1_spared 39 = .ok (.iconst 1, 1) := dk_4 (dk_at dksX1_spared_1 16 rfl rfl)
theorem dX1_spared_40 : decode bcX1_spared 40 = .ok (.iload_n 3, 1) := dk_29 (dk_at dksX1_spared_1 17 rfl rfl)
theorem dX1_spared_41 : decode bcX1_spared 41 = .ok (.ishl, 1) := dk_120 (dk_at dksX1_spared_1 18 rfl rfl)
theorem dX1_spared_42 : decode bcX1_spared 42 = .ok (.iconst (-1), 1) := dk_2 (dk_at dksX1_spared_1 19 rfl rfl)
theorem dX1_spared_43 : decode bcX1_spared 43 = .ok (.ixor, 1) := dk_130 (dk_at dksX1_spared_1 20 rfl rfl)
theorem dX1_spared_44 : decode bcX1_spared 44 = .ok (.iand, 1) := dk_126 (dk_at dksX1_spared_1 21 rfl rfl)
theorem dX1_spared_45 : decode bcX1_spared 45 = .ok (.invokevirtual 299, 3) := dk_182 1 43 (dk_at dksX1_spared_2 0 rfl rfl)
theorem dX1_spared_48 : decode bcX1_spared 48 = .ok (.aload_n 0, 1) := dk_42 (dk_at dksX1_spared_2 3 rfl rfl)
theorem dX1_spared_49 : decode bcX1_spared 49 = .ok (.iload_n 3, 1) := dk_29 (dk_at dksX1_spared_2 4 rfl rfl)
theorem dX1_spared_50 : decode bcX1_spared 50 = .ok (.invokevirtual 163, 3) := dk_182 0 163 (dk_at dksX1_spared_2 5 rfl rfl)
theorem dX1_spared_53 : decode bcX1_spared 53 = .ok (.getfield 241, 3) := dk_180 0 241 (dk_at dksX1_spared_2 8 rfl rfl)
theorem dX1_spared_56 : decode bcX1_spared 56 = .ok (.invokestatic 286, 3) := dk_184 1 30 (dk_at dksX1_spared_2 11 rfl rfl)
theorem dX1_spared_59 : decode bcX1_spared 59 = .ok (.ifCond .eq 9, 3) := dk_153 0 9 (dk_at dksX1_spared_2 14 rfl rfl)
theorem dX1_spared_62 : decode bcX1_spared 62 = .ok (.iload_n 1, 1) := dk_27 (dk_at dksX1_spared_2 17 rfl rfl)
theorem dX1_spared_63 : decode bcX1_spared 63 = .ok (.iconst 1, 1) := dk_4 (dk_at dksX1_spared_2 18 rfl rfl)
theorem dX1_spared_64 : decode bcX1_spared 64 = .ok (.iload_n 3, 1) := dk_29 (dk_at dksX1_spared_2 19 rfl rfl)
theorem dX1_spared_65 : decode bcX1_spared 65 = .ok (.ishl, 1) := dk_120 (dk_at dksX1_spared_2 20 rfl rfl)
theorem dX1_spared_66 : decode bcX1_spared 66 = .ok (.ior, 1) := dk_128 (dk_at dksX1_spared_2 21 rfl rfl)
theorem dX1_spared_67 : decode bcX1_spared 67 = .ok (.istore_n 1, 1) := dk_60 (dk_at dksX1_spared_2 22 rfl rfl)
theorem dX1_spared_68 : decode bcX1_spared 68 = .ok (.iinc 3 1, 3) := dk_132 3 1 (dk_at dksX1_spared_3 0 rfl rfl)
theorem dX1_spared_71 : decode bcX1_spared 71 = .ok (.goto (-58), 3) := dk_167 255 198 (dk_at dksX1_spared_3 3 rfl rfl)
theorem dX1_spared_74 : decode bcX1_spared 74 = .ok (.iload_n 1, 1) := dk_27 (dk_at dksX1_spared_3 6 rfl rfl)
theorem dX1_spared_75 : decode bcX1_spared 75 = .ok (.ireturn, 1) := dk_172 (dk_at dksX1_spared_3 7 rfl rfl)
abbrev SX1_spared (pc : Nat) (i : xI) : Prop := Snd "SwollenHouse" "spared" prog_1_method_69_code 4 (Option.some Jvm.ClassFile.FieldType.int) [] pc i
theorem oX1_spared_0 : SX1_spared 0 (i_const (.int (nI 0)) 1) := snd_iconst dX1_spared_0 (by decide)
theorem oX1_spared_1 : SX1_spared 1 (i_istore 1 2) := snd_istore_n dX1_spared_1 rfl (by decide)
theorem oX1_spared_2 : SX1_spared 2 (i_aload 0 3) := snd_aload_n dX1_spared_2 rfl
theorem oX1_spared_3 : SX1_spared 3 (i_aload 0 4) := snd_aload_n dX1_spared_3 rfl
theorem oX1_spared_4 : SX1_spared 4 (i_getf 0 4 7) := snd_getf dX1_spared_4 rfl (by decide) in_X1 (Or.inl q350) (Or.inl rfl) (by decide)
theorem oX1_spared_7 : SX1_spared 7 (i_cv 0 121 1 10) := snd_cv rfl infX1_open (by decide) rfl (xVm_V dX1_spared_7 rfl q1385 q1387 qs43 q127 q1388 pdX1_open)
theorem oX1_spared_10 : SX1_spared 10 (i_istore 2 11) := snd_istore_n dX1_spared_10 rfl (by decide)
theorem oX1_spared_11 : SX1_spared 11 (i_const (.int (nI 0)) 12) := snd_iconst dX1_spared_11 (by decide)
theorem oX1_spared_12 : SX1_spared 12 (i_istore 3 13) := snd_istore_n dX1_spared_12 rfl (by decide)
theorem oX1_spared_13 : SX1_spared 13 (i_iload 3 14) := snd_iload_n dX1_spared_13 rfl
theorem oX1_spared_14 : SX1_spared 14 (i_aload 0 15) := snd_aload_n dX1_spared_14 rfl
theorem oX1_spared_15 : SX1_spared 15 (i_cv 0 96 0 18) := snd_cv rfl infX1_doors (by decide) rfl (xVm_V dX1_spared_15 rfl q1140 q1142 qs30 q127 q1143 pdX1_doors)
theorem oX1_spared_18 : SX1_spared 18 (i_if2 (fun x y => y ≤ x) 74 21) := snd_icmp_ge dX1_spared_18 (by decide)
theorem oX1_spared_21 : SX1_spared 21 (i_iload 2 22) := snd_iload_n dX1_spared_21 rfl
theorem oX1_spared_22 : SX1_spared 22 (i_iload 3 23) := snd_iload_n dX1_spared_22 rfl
theorem oX1_spared_23 : SX1_spared 23 (i_cs 98 2 26) := snd_cs rfl infX1_isIn (by decide) (xSm_S dX1_spared_23 q1397 q1172 q127 q1173 pdX1_isIn)
theorem oX1_spared_26 : SX1_spared 26 (i_if1 (fun x => x = 0) 68 29) := snd_if_eq dX1_spared_26 (by decide)
theorem oX1_spared_29 : SX1_spared 29 (i_aload 0 30) := snd_aload_n dX1_spared_29 rfl
theorem oX1_spared_30 : SX1_spared 30 (i_aload 0 31) := snd_aload_n dX1_spared_30 rfl
theorem oX1_spared_31 : SX1_spared 31 (i_iload 3 32) := snd_iload_n dX1_spared_31 rfl
theorem oX1_spared_32 : SX1_spared 32 (i_cv 0 97 1 35) := snd_cv rfl infX1_door_2 (by decide) rfl (xVm_V dX1_spared_32 rfl q1146 q1148 qs31 q127 q1149 pdX1_door_2)
theorem oX1_spared_35 : SX1_spared 35 (i_getf 6 0 38) := snd_getf dX1_spared_35 rfl (by decide) in_X7 (Or.inr ⟨_, q911⟩) (Or.inl rfl) (by decide)
theorem oX1_spared_38 : SX1_spared 38 (i_iload 2 39) := snd_iload_n dX1_spared_38 rfl
theorem oX1_spared_39 : SX1_spared 39 (i_const (.int (nI 1)) 40) := snd_iconst dX1_spared_39 (by decide)
theorem oX1_spared_40 : SX1_spared 40 (i_iload 3 41) := snd_iload_n dX1_spared_40 rfl
theorem oX1_spared_41 : SX1_spared 41 (i_ii (fun x y => x <<< (y &&& 31)) 42) := snd_ishl dX1_spared_41
theorem oX1_spared_42 : SX1_spared 42 (i_const (.int (-1)) 43) := snd_iconst dX1_spared_42 (by decide)
theorem oX1_spared_43 : SX1_spared 43 (i_ii (fun x y => x ^^^ y) 44) := snd_ixor dX1_spared_43
theorem oX1_spared_44 : SX1_spared 44 (i_ii (fun x y => x &&& y) 45) := snd_iand dX1_spared_44
theorem oX1_spared_45 : SX1_spared 45 (i_cv 0 122 2 48) := snd_cv rfl infX1_range_2 (by decide) rfl (xVm_V dX1_spared_45 rfl q1389 q1391 qs44 q127 q1392 pdX1_range_2)
theorem oX1_spared_48 : SX1_spared 48 (i_aload 0 49) := snd_aload_n dX1_spared_48 rfl
theorem oX1_spared_49 : SX1_spared 49 (i_iload 3 50) := snd_iload_n dX1_spared_49 rfl
theorem oX1_spared_50 : SX1_spared 50 (i_cv 0 97 1 53) := snd_cv rfl infX1_door_2 (by decide) rfl (xVm_V dX1_spared_50 rfl q1146 q1148 qs31 q127 q1149 pdX1_door_2)
theorem oX1_spared_53 : SX1_spared 53 (i_getf 6 1 56) := snd_getf dX1_spared_53 rfl (by decide) in_X7 (Or.inr ⟨_, q913⟩) (Or.inl rfl) (by decide)
theorem oX1_spared_56 : SX1_spared 56 (i_cs 98 2 59) := snd_cs rfl infX1_isIn (by decide) (xSm_S dX1_spared_56 q1397 q1172 q127 q1173 pdX1_isIn)
theorem oX1_spared_59 : SX1_spared 59 (i_if1 (fun x => x = 0) 68 62) := snd_if_eq dX1_spared_59 (by decide)
theorem oX1_spared_62 : SX1_spared 62 (i_iload 1 63) := snd_iload_n dX1_spared_62 rfl
theorem oX1_spared_63 : SX1_spared 63 (i_const (.int (nI 1)) 64) := snd_iconst dX1_spared_63 (by decide)
theorem oX1_spared_64 : SX1_spared 64 (i_iload 3 65) := snd_iload_n dX1_spared_64 rfl
theorem oX1_spared_65 : SX1_spared 65 (i_ii (fun x y => x <<< (y &&& 31)) 66) := snd_ishl dX1_spared_65
theorem oX1_spared_66 : SX1_spared 66 (i_ii (fun x y => x ||| y) 67) := snd_ior dX1_spared_66
theorem oX1_spared_67 : SX1_spared 67 (i_istore 1 68) := snd_istore_n dX1_spared_67 rfl (by decide)
theorem oX1_spared_68 : SX1_spared 68 (i_iinc 3 (nI 1) 71) := snd_iinc dX1_spared_68 (by decide) (by decide)
theorem oX1_spared_71 : SX1_spared 71 (i_goto 13) := snd_goto dX1_spared_71 (by decide)
theorem oX1_spared_74 : SX1_spared 74 (i_iload 1 75) := snd_iload_n dX1_spared_74 rfl
theorem oX1_spared_75 : SX1_spared 75 (i_iret) := snd_iret dX1_spared_75 rfl
theorem okX1_spared : ∀ q ∈ cX1_spared, SX1_spared q.1 q.2 := List.forall_mem_cons.mpr ⟨oX1_spared_0, List.forall_mem_cons.mpr ⟨oX1_spared_1, List.forall_mem_cons.mpr ⟨oX1_spared_2, List.forall_mem_cons.mpr ⟨oX1_spared_3, List.forall_mem_cons.mpr ⟨oX1_spared_4, List.forall_mem_cons.mpr ⟨oX1_spared_7, List.forall_mem_cons.mpr ⟨oX1_spared_10, List.forall_mem_cons.mpr ⟨oX1_spared_11, List.forall_mem_cons.mpr ⟨oX1_spared_12, List.forall_mem_cons.mpr ⟨oX1_spared_13, List.forall_mem_cons.mpr ⟨oX1_spared_14, List.forall_mem_cons.mpr ⟨oX1_spared_15, List.forall_mem_cons.mpr ⟨oX1_spared_18, List.forall_mem_cons.mpr ⟨oX1_spared_21, List.forall_mem_cons.mpr ⟨oX1_spared_22, List.forall_mem_cons.mpr ⟨oX1_spared_23, List.forall_mem_cons.mpr ⟨oX1_spared_26, List.forall_mem_cons.mpr ⟨oX1_spared_29, List.forall_mem_cons.mpr ⟨oX1_spared_30, List.forall_mem_cons.mpr ⟨oX1_spared_31, List.forall_mem_cons.mpr ⟨oX1_spared_32, List.forall_mem_cons.mpr ⟨oX1_spared_35, List.forall_mem_cons.mpr ⟨oX1_spared_38, List.forall_mem_cons.mpr ⟨oX1_spared_39, List.forall_mem_cons.mpr ⟨oX1_spared_40, List.forall_mem_cons.mpr ⟨oX1_spared_41, List.forall_mem_cons.mpr ⟨oX1_spared_42, List.forall_mem_cons.mpr ⟨oX1_spared_43, List.forall_mem_cons.mpr ⟨oX1_spared_44, List.forall_mem_cons.mpr ⟨oX1_spared_45, List.forall_mem_cons.mpr ⟨oX1_spared_48, List.forall_mem_cons.mpr ⟨oX1_spared_49, List.forall_mem_cons.mpr ⟨oX1_spared_50, List.forall_mem_cons.mpr ⟨oX1_spared_53, List.forall_mem_cons.mpr ⟨oX1_spared_56, List.forall_mem_cons.mpr ⟨oX1_spared_59, List.forall_mem_cons.mpr ⟨oX1_spared_62, List.forall_mem_cons.mpr ⟨oX1_spared_63, List.forall_mem_cons.mpr ⟨oX1_spared_64, List.forall_mem_cons.mpr ⟨oX1_spared_65, List.forall_mem_cons.mpr ⟨oX1_spared_66, List.forall_mem_cons.mpr ⟨oX1_spared_67, List.forall_mem_cons.mpr ⟨oX1_spared_68, List.forall_mem_cons.mpr ⟨oX1_spared_71, List.forall_mem_cons.mpr ⟨oX1_spared_74, List.forall_mem_cons.mpr ⟨oX1_spared_75, fun _ h => absurd h List.not_mem_nil⟩⟩⟩⟩⟩⟩⟩⟩⟩⟩⟩⟩⟩⟩⟩⟩⟩⟩⟩⟩⟩⟩⟩⟩⟩⟩⟩⟩⟩⟩⟩⟩⟩⟩⟩⟩⟩⟩⟩⟩⟩⟩⟩⟩⟩⟩
def dkwX1_opened_3 : List UInt8 := [132, 4, 1, 167, 255, 204, 27, 172]
abbrev dktX1_opened_3 : List UInt8 := dkwX1_opened_3 ++ []
def dkwX1_opened_2 : List UInt8 := [182, 1, 70, 29, 163, 0, 6, 167, 0, 17, 21, 4, 60, 42, 28, 4, 21, 4, 120, 128, 182, 1, 70, 62]
abbrev dktX1_opened_2 : List UInt8 := dkwX1_opened_2 ++ dktX1_opened_3
def dkwX1_opened_1 : List UInt8 := [182, 0, 159, 162, 0, 49, 28, 21, 4, 184, 1, 30, 154, 0, 34, 42, 28, 4, 21, 4, 120, 128]
abbrev dktX1_opened_1 : List UInt8 := dkwX1_opened_1 ++ dktX1_opened_2
def dkwX1_opened_0 : List UInt8 := [2, 60, 42, 42, 180, 0, 51, 182, 1, 40, 61, 42, 28, 182, 1, 70, 62, 3, 54, 4, 21, 4, 42]
abbrev dktX1_opened_0 : List UInt8 := dkwX1_opened_0 ++ dktX1_opened_1
theorem dksX1_opened_0 : bcX1_opened.data.toList.drop 0 = dktX1_opened_0 := by decide +kernel
theorem dksX1_opened_1 : bcX1_opened.data.toList.drop 23 = dktX1_opened_1 := dk_seg dksX1_opened_0 23 rfl rfl
theorem dksX1_opened_2 : bcX1_opened.data.toList.drop 45 = dktX1_opened_2 := dk_seg dksX1_opened_1 22 rfl rfl
theorem dksX1_opened_3 : bcX1_opened.data.toList.drop 69 = dktX1_opened_3 := dk_seg dksX1_opened_2 24 rfl rfl
theorem dX1_opened_0 : decode bcX1_opened 0 = .ok (.iconst (-1), 1) := dk_2 (dk_at dksX1_opened_0 0 rfl rfl)
theorem dX1_opened_1 : decode bcX1_opened 1 = .ok (.istore_n 1, 1) := dk_60 (dk_at dksX1_opened_0 1 rfl rfl)
theorem dX1_opened_2 : decode bcX1_opened 2 = .ok (.aload_n 0, 1) := dk_42 (dk_at dksX1_opened_0 2 rfl rfl)
theorem dX1_opened_3 : decode bcX1_opened 3 = .ok (.aload_n 0, 1) := dk_42 (dk_at dksX1_opened_0 3 rfl rfl)
theorem dX1_opened_4 : decode bcX1_opened 4 = .ok (.getfield 51, 3) := dk_180 0 51 (dk_at dksX1_opened_0 4 rfl rfl)
theorem dX1_opened_7 : decode bcX1_opened 7 = .ok (.invokevirtual 296, 3) := dk_182 1 40 (dk_at dksX1_opened_0 7 rfl rfl)
theorem dX1_opened_10 : decode bcX1_opened 10 = .ok (.istore_n 2, 1) := dk_61 (dk_at dksX1_opened_0 10 rfl rfl)
theorem dX1_opened_11 : decode bcX1_opened 11 = .ok (.aload_n 0, 1) := dk_42 (dk_at dksX1_opened_0 11 rfl rfl)
theorem dX1_opened_12 : decode bcX1_opened 12 = .ok (.iload_n 2, 1) := dk_28 (dk_at dksX1_opened_0 12 rfl rfl)
theorem dX1_opened_13 : decode bcX1_opened 13 = .ok (.invokevirtual 326, 3) := dk_182 1 70 (dk_at dksX1_opened_0 13 rfl rfl)
theorem dX1_opened_16 : decode bcX1_opened 16 = .ok (.istore_n 3, 1) := dk_62 (dk_at dksX1_opened_0 16 rfl rfl)
theorem dX1_opened_17 : decode bcX1_opened 17 = .ok (.iconst 0, 1) := dk_3 (dk_at dksX1_opened_0 17 rfl rfl)
theorem dX1_opened_18 : decode bcX1_opened 18 = .ok (.istore 4, 2) := dk_54 4 (dk_at dksX1_opened_0 18 rfl rfl)
theorem dX1_opened_20 : decode bcX1_opened 20 = .ok (.iload 4, 2) := dk_21 4 (dk_at dksX1_opened_0 20 rfl rfl)
theorem dX1_opened_22 : decode bcX1_opened 22 = .ok (.aload_n 0, 1) := dk_42 (dk_at dksX1_opened_0 22 rfl rfl)
theorem dX1_opened_23 : decode bcX1_opened 23 = .ok (.invokevirtual 159, 3) := dk_182 0 159 (dk_at dksX1_opened_1 0 rfl rfl)
theorem dX1_opened_26 : decode bcX1_opened 26 = .ok (.if_icmp .ge 49, 3) := dk_162 0 49 (dk_at dksX1_opened_1 3 rfl rfl)
theorem dX1_opened_29 : decode bcX1_opened 29 = .ok (.iload_n 2, 1) := dk_28 (dk_at dksX1_opened_1 6 rfl rfl)
theorem dX1_opened_30 : decode bcX1_opened 30 = .ok (.iload 4, 2) := dk_21 4 (dk_at dksX1_opened_1 7 rfl rfl)
theorem dX1_opened_32 : decode bcX1_opened 32 = .ok (.invokestatic 286, 3) := dk_184 1 30 (dk_at dksX1_opened_1 9 rfl rfl)
theorem dX1_opened_35 : decode bcX1_opened 35 = .ok (.ifCond .ne 34, 3) := dk_154 0 34 (dk_at dksX1_opened_1 12 rfl rfl)
theorem dX1_opened_38 : decode bcX1_opened 38 = .ok (.aload_n 0, 1) := dk_42 (dk_at dksX1_opened_1 15 rfl rfl)
theorem dX1_opened_39 : decode bcX1_opened 39 = .ok (.iload_n 2, 1) := dk_28 (dk_at dksX1_opened_1 16 rfl rfl)
theorem dX1_opened_40 : decode bcX1_opened 40 = .ok (.iconst 1, 1) := dk_4 (dk_at dksX1_opened_1 17 rfl rfl)
theorem dX1_opened_41 : decode bcX1_opened 41 = .ok (.iload 4, 2) := dk_21 4 (dk_at dksX1_opened_1 18 rfl rfl)
theorem dX1_opened_43 : decode bcX1_opened 43 = .ok (.ishl, 1) := dk_120 (dk_at dksX1_opened_1 20 rfl rfl)
theorem dX1_opened_44 : decode bcX1_opened 44 = .ok (.ior, 1) := dk_128 (dk_at dksX1_opened_1 21 rfl rfl)
theorem dX1_opened_45 : decode bcX1_opened 45 = .ok (.invokevirtual 326, 3) := dk_182 1 70 (dk_at dksX1_opened_2 0 rfl rfl)
theorem dX1_opened_48 : decode bcX1_opened 48 = .ok (.iload_n 3, 1) := dk_29 (dk_at dksX1_opened_2 3 rfl rfl)
theorem dX1_opened_49 : decode bcX1_opened 49 = .ok (.if_icmp .gt 6, 3) := dk_163 0 6 (dk_at dksX1_opened_2 4 rfl rfl)
theorem dX1_opened_52 : decode bcX1_opened 52 = .ok (.goto 17, 3) := dk_167 0 17 (dk_at dksX1_opened_2 7 rfl rfl)
theorem dX1_opened_55 : decode bcX1_opened 55 = .ok (.iload 4, 2) := dk_21 4 (dk_at dksX1_opened_2 10 rfl rfl)
theorem dX1_opened_57 : decode bcX1_opened 57 = .ok (.istore_n 1, 1) := dk_60 (dk_at dksX1_opened_2 12 rfl rfl)
theorem dX1_opened_58 : decode bcX1_opened 58 = .ok (.aload_n 0, 1) := dk_42 (dk_at dksX1_opened_2 13 rfl rfl)
theorem dX1_opened_59 : decode bcX1_opened 59 = .ok (.iload_n 2, 1) := dk_28 (dk_at dksX1_opened_2 14 rfl rfl)
theorem dX1_opened_60 : decode bcX1_opened 60 = .ok (.iconst 1, 1) := dk_4 (dk_at dksX1_opened_2 15 rfl rfl)
theorem dX1_opened_61 : decode bcX1_opened 61 = .ok (.iload 4, 2) := dk_21 4 (dk_at dksX1_opened_2 16 rfl rfl)
theorem dX1_opened_63 : decode bcX1_opened 63 = .ok (.ishl, 1) := dk_120 (dk_at dksX1_opened_2 18 rfl rfl)
theorem dX1_opened_64 : decode bcX1_opened 64 = .ok (.ior, 1) := dk_128 (dk_at dksX1_opened_2 19 rfl rfl)
theorem dX1_opened_65 : decode bcX1_opened 65 = .ok (.invokevirtual 326, 3) := dk_182 1 70 (dk_at dksX1_opened_2 20 rfl rfl)
theorem dX1_opened_68 : decode bcX1_opened 68 = .ok (.istore_n 3, 1) := dk_62 (dk_at dksX1_opened_2 23 rfl rfl)
theorem dX1_opened_69 : decode bcX1_opened 69 = .ok (.iinc 4 1, 3) := dk_132 4 1 (dk_at dksX1_opened_3 0 rfl rfl)
theorem dX1_opened_72 : decode bcX1_opened 72 = .ok (.goto (-52), 3) := dk_167 255 204 (dk_at dksX1_opened_3 3 rfl rfl)
theorem dX1_opened_75 : decode bcX1_opened 75 = .ok (.iload_n 1, 1) := dk_27 (dk_at dksX1_opened_3 6 rfl rfl)
theorem dX1_opened_76 : decode bcX1_opened 76 = .ok (.ireturn, 1) := dk_172 (dk_at dksX1_opened_3 7 rfl rfl)
abbrev SX1_opened (pc : Nat) (i : xI) : Prop := Snd "SwollenHouse" "opened" prog_1_method_71_code 5 (Option.some Jvm.ClassFile.FieldType.int) [] pc i
theorem oX1_opened_0 : SX1_opened 0 (i_const (.int (-1)) 1) := snd_iconst dX1_opened_0 (by decide)
theorem oX1_opened_1 : SX1_opened 1 (i_istore 1 2) := snd_istore_n dX1_opened_1 rfl (by decide)
theorem oX1_opened_2 : SX1_opened 2 (i_aload 0 3) := snd_aload_n dX1_opened_2 rfl
theorem oX1_opened_3 : SX1_opened 3 (i_aload 0 4) := snd_aload_n dX1_opened_3 rfl
theorem oX1_opened_4 : SX1_opened 4 (i_getf 0 4 7) := snd_getf dX1_opened_4 rfl (by decide) in_X1 (Or.inl q350) (Or.inl rfl) (by decide)
theorem oX1_opened_7 : SX1_opened 7 (i_cv 0 121 1 10) := snd_cv rfl infX1_open (by decide) rfl (xVm_V dX1_opened_7 rfl q1385 q1387 qs43 q127 q1388 pdX1_open)
theorem oX1_opened_10 : SX1_opened 10 (i_istore 2 11) := snd_istore_n dX1_opened_10 rfl (by decide)
theorem oX1_opened_11 : SX1_opened 11 (i_aload 0 12) := snd_aload_n dX1_opened_11 rfl
theorem oX1_opened_12 : SX1_opened 12 (i_iload 2 13) := snd_iload_n dX1_opened_12 rfl
theorem oX1_opened_13 : SX1_opened 13 (i_cv 0 155 1 16) := snd_cv rfl infX1_pairs (by decide) rfl (xVm_V dX1_opened_13 rfl q1522 q1524 qs53 q127 q1525 pdX1_pairs)
theorem oX1_opened_16 : SX1_opened 16 (i_istore 3 17) := snd_istore_n dX1_opened_16 rfl (by decide)
theorem oX1_opened_17 : SX1_opened 17 (i_const (.int (nI 0)) 18) := snd_iconst dX1_opened_17 (by decide)
theorem oX1_opened_18 : SX1_opened 18 (i_istore 4 20) := snd_istore dX1_opened_18 (by decide)
theorem oX1_opened_20 : SX1_opened 20 (i_iload 4 22) := snd_iload dX1_opened_20
theorem oX1_opened_22 : SX1_opened 22 (i_aload 0 23) := snd_aload_n dX1_opened_22 rfl
theorem oX1_opened_23 : SX1_opened 23 (i_cv 0 96 0 26) := snd_cv rfl infX1_doors (by decide) rfl (xVm_V dX1_opened_23 rfl q1140 q1142 qs30 q127 q1143 pdX1_doors)
theorem oX1_opened_26 : SX1_opened 26 (i_if2 (fun x y => y ≤ x) 75 29) := snd_icmp_ge dX1_opened_26 (by decide)
theorem oX1_opened_29 : SX1_opened 29 (i_iload 2 30) := snd_iload_n dX1_opened_29 rfl
theorem oX1_opened_30 : SX1_opened 30 (i_iload 4 32) := snd_iload dX1_opened_30
theorem oX1_opened_32 : SX1_opened 32 (i_cs 98 2 35) := snd_cs rfl infX1_isIn (by decide) (xSm_S dX1_opened_32 q1397 q1172 q127 q1173 pdX1_isIn)
theorem oX1_opened_35 : SX1_opened 35 (i_if1 (fun x => ¬ x = 0) 69 38) := snd_if_ne dX1_opened_35 (by decide)
theorem oX1_opened_38 : SX1_opened 38 (i_aload 0 39) := snd_aload_n dX1_opened_38 rfl
theorem oX1_opened_39 : SX1_opened 39 (i_iload 2 40) := snd_iload_n dX1_opened_39 rfl
theorem oX1_opened_40 : SX1_opened 40 (i_const (.int (nI 1)) 41) := snd_iconst dX1_opened_40 (by decide)
theorem oX1_opened_41 : SX1_opened 41 (i_iload 4 43) := snd_iload dX1_opened_41
theorem oX1_opened_43 : SX1_opened 43 (i_ii (fun x y => x <<< (y &&& 31)) 44) := snd_ishl dX1_opened_43
theorem oX1_opened_44 : SX1_opened 44 (i_ii (fun x y => x ||| y) 45) := snd_ior dX1_opened_44
theorem oX1_opened_45 : SX1_opened 45 (i_cv 0 155 1 48) := snd_cv rfl infX1_pairs (by decide) rfl (xVm_V dX1_opened_45 rfl q1522 q1524 qs53 q127 q1525 pdX1_pairs)
theorem oX1_opened_48 : SX1_opened 48 (i_iload 3 49) := snd_iload_n dX1_opened_48 rfl
theorem oX1_opened_49 : SX1_opened 49 (i_if2 (fun x y => y < x) 55 52) := snd_icmp_gt dX1_opened_49 (by decide)
theorem oX1_opened_52 : SX1_opened 52 (i_goto 69) := snd_goto dX1_opened_52 (by decide)
theorem oX1_opened_55 : SX1_opened 55 (i_iload 4 57) := snd_iload dX1_opened_55
theorem oX1_opened_57 : SX1_opened 57 (i_istore 1 58) := snd_istore_n dX1_opened_57 rfl (by decide)
theorem oX1_opened_58 : SX1_opened 58 (i_aload 0 59) := snd_aload_n dX1_opened_58 rfl
theorem oX1_opened_59 : SX1_opened 59 (i_iload 2 60) := snd_iload_n dX1_opened_59 rfl
theorem oX1_opened_60 : SX1_opened 60 (i_const (.int (nI 1)) 61) := snd_iconst dX1_opened_60 (by decide)
theorem oX1_opened_61 : SX1_opened 61 (i_iload 4 63) := snd_iload dX1_opened_61
theorem oX1_opened_63 : SX1_opened 63 (i_ii (fun x y => x <<< (y &&& 31)) 64) := snd_ishl dX1_opened_63
theorem oX1_opened_64 : SX1_opened 64 (i_ii (fun x y => x ||| y) 65) := snd_ior dX1_opened_64
theorem oX1_opened_65 : SX1_opened 65 (i_cv 0 155 1 68) := snd_cv rfl infX1_pairs (by decide) rfl (xVm_V dX1_opened_65 rfl q1522 q1524 qs53 q127 q1525 pdX1_pairs)
theorem oX1_opened_68 : SX1_opened 68 (i_istore 3 69) := snd_istore_n dX1_opened_68 rfl (by decide)
theorem oX1_opened_69 : SX1_opened 69 (i_iinc 4 (nI 1) 72) := snd_iinc dX1_opened_69 (by decide) (by decide)
theorem oX1_opened_72 : SX1_opened 72 (i_goto 20) := snd_goto dX1_opened_72 (by decide)
theorem oX1_opened_75 : SX1_opened 75 (i_iload 1 76) := snd_iload_n dX1_opened_75 rfl
theorem oX1_opened_76 : SX1_opened 76 (i_iret) := snd_iret dX1_opened_76 rfl
theorem okX1_opened : ∀ q ∈ cX1_opened, SX1_opened q.1 q.2 := List.forall_mem_cons.mpr ⟨oX1_opened_0, List.forall_mem_cons.mpr ⟨oX1_opened_1, List.forall_mem_cons.mpr ⟨oX1_opened_2, List.forall_mem_cons.mpr ⟨oX1_opened_3, List.forall_mem_cons.mpr ⟨oX1_opened_4, List.forall_mem_cons.mpr ⟨oX1_opened_7, List.forall_mem_cons.mpr ⟨oX1_opened_10, List.forall_mem_cons.mpr ⟨oX1_opened_11, List.forall_mem_cons.mpr ⟨oX1_opened_12, List.forall_mem_cons.mpr ⟨oX1_opened_13, List.forall_mem_cons.mpr ⟨oX1_opened_16, List.forall_mem_cons.mpr ⟨oX1_opened_17, List.forall_mem_cons.mpr ⟨oX1_opened_18, List.forall_mem_cons.mpr ⟨oX1_opened_20, List.forall_mem_cons.mpr ⟨oX1_opened_22, List.forall_mem_cons.mpr ⟨oX1_opened_23, List.forall_mem_cons.mpr ⟨oX1_opened_26, List.forall_mem_cons.mpr ⟨oX1_opened_29, List.forall_mem_cons.mpr ⟨oX1_opened_30, List.forall_mem_cons.mpr ⟨oX1_opened_32, List.forall_mem_cons.mpr ⟨oX1_opened_35, List.forall_mem_cons.mpr ⟨oX1_opened_38, List.forall_mem_cons.mpr ⟨oX1_opened_39, List.forall_mem_cons.mpr ⟨oX1_opened_40, List.forall_mem_cons.mpr ⟨oX1_opened_41, List.forall_mem_cons.mpr ⟨oX1_opened_43, List.forall_mem_cons.mpr ⟨oX1_opened_44, List.forall_mem_cons.mpr ⟨oX1_opened_45, List.forall_mem_cons.mpr ⟨oX1_opened_48, List.forall_mem_cons.mpr ⟨oX1_opened_49, List.forall_mem_cons.mpr ⟨oX1_opened_52, List.forall_mem_cons.mpr ⟨oX1_opened_55, List.forall_mem_cons.mpr ⟨oX1_opened_57, List.forall_mem_cons.mpr ⟨oX1_opened_58, List.forall_mem_cons.mpr ⟨oX1_opened_59, List.forall_mem_cons.mpr ⟨oX1_opened_60, List.forall_mem_cons.mpr ⟨oX1_opened_61, List.forall_mem_cons.mpr ⟨oX1_opened_63, List.forall_mem_cons.mpr ⟨oX1_opened_64, List.forall_mem_cons.mpr ⟨oX1_opened_65, List.forall_mem_cons.mpr ⟨oX1_opened_68, List.forall_mem_cons.mpr ⟨oX1_opened_69, List.forall_mem_cons.mpr ⟨oX1_opened_72, List.forall_mem_cons.mpr ⟨oX1_opened_75, List.forall_mem_cons.mpr ⟨oX1_opened_76, fun _ h => absurd h List.not_mem_nil⟩⟩⟩⟩⟩⟩⟩⟩⟩⟩⟩⟩⟩⟩⟩⟩⟩⟩⟩⟩⟩⟩⟩⟩⟩⟩⟩⟩⟩⟩⟩⟩⟩⟩⟩⟩⟩⟩⟩⟩⟩⟩⟩⟩⟩
def dkwX1_pairs_2 : List UInt8 := [184, 1, 30, 153, 0, 6, 132, 2, 1, 132, 4, 1, 167, 255, 214, 132, 3, 1, 167, 255, 197, 28, 172]
abbrev dktX1_pairs_2 : List UInt8 := dkwX1_pairs_2 ++ []
def dkwX1_pairs_1 : List UInt8 := [180, 0, 51, 180, 0, 229, 29, 46, 27, 182, 1, 43, 42, 180, 0, 51, 180, 0, 229, 21, 4, 46]
abbrev dktX1_pairs_1 : List UInt8 := dkwX1_pairs_1 ++ dktX1_pairs_2
def dkwX1_pairs_0 : List UInt8 := [3, 61, 3, 62, 29, 42, 182, 0, 161, 162, 0, 57, 3, 54, 4, 21, 4, 29, 162, 0, 42, 42, 42]
abbrev dktX1_pairs_0 : List UInt8 := dkwX1_pairs_0 ++ dktX1_pairs_1
theorem dksX1_pairs_0 : bcX1_pairs.data.toList.drop 0 = dktX1_pairs_0 := by decide +kernel
theorem dksX1_pairs_1 : bcX1_pairs.data.toList.drop 23 = dktX1_pairs_1 := dk_seg dksX1_pairs_0 23 rfl rfl
theorem dksX1_pairs_2 : bcX1_pairs.data.toList.drop 45 = dktX1_pairs_2 := dk_seg dksX1_pairs_1 22 rfl rfl
theorem dX1_pairs_0 : decode bcX1_pairs 0 = .ok (.iconst 0, 1) := dk_3 (dk_at dksX1_pairs_0 0 rfl rfl)
theorem dX1_pairs_1 : decode bcX1_pairs 1 = .ok (.istore_n 2, 1) := dk_61 (dk_at dksX1_pairs_0 1 rfl rfl)
theorem dX1_pairs_2 : decode bcX1_pairs 2 = .ok (.iconst 0, 1) := dk_3 (dk_at dksX1_pairs_0 2 rfl rfl)
theorem dX1_pairs_3 : decode bcX1_pairs 3 = .ok (.istore_n 3, 1) := dk_62 (dk_at dksX1_pairs_0 3 rfl rfl)
theorem dX1_pairs_4 : decode bcX1_pairs 4 = .ok (.iload_n 3, 1) := dk_29 (dk_at dksX1_pairs_0 4 rfl rfl)
theorem dX1_pairs_5 : decode bcX1_pairs 5 = .ok (.aload_n 0, 1) := dk_42 (dk_at dksX1_pairs_0 5 rfl rfl)
theorem dX1_pairs_6 : decode bcX1_pairs 6 = .ok (.invokevirtual 161, 3) := dk_182 0 161 (dk_at dksX1_pairs_0 6 rfl rfl)
theorem dX1_pairs_9 : decode bcX1_pairs 9 = .ok (.if_icmp .ge 57, 3) := dk_162 0 57 (dk_at dksX1_pairs_0 9 rfl rfl)
theorem dX1_pairs_12 : decode bcX1_pairs 12 = .ok (.iconst 0, 1) := dk_3 (dk_at dksX1_pairs_0 12 rfl rfl)
theorem dX1_pairs_13 : decode bcX1_pairs 13 = .ok (.istore 4, 2) := dk_54 4 (dk_at dksX1_pairs_0 13 rfl rfl)
theorem dX1_pairs_15 : decode bcX1_pairs 15 = .ok (.iload 4, 2) := dk_21 4 (dk_at dksX1_pairs_0 15 rfl rfl)
theorem dX1_pairs_17 : decode bcX1_pairs 17 = .ok (.iload_n 3, 1) := dk_29 (dk_at dksX1_pairs_0 17 rfl rfl)
theorem dX1_pairs_18 : decode bcX1_pairs 18 = .ok (.if_icmp .ge 42, 3) := dk_162 0 42 (dk_at dksX1_pairs_0 18 rfl rfl)
theorem dX1_pairs_21 : decode bcX1_pairs 21 = .ok (.aload_n 0, 1) := dk_42 (dk_at dksX1_pairs_0 21 rfl rfl)
theorem dX1_pairs_22 : decode bcX1_pairs 22 = .ok (.aload_n 0, 1) := dk_42 (dk_at dksX1_pairs_0 22 rfl rfl)
theorem dX1_pairs_23 : decode bcX1_pairs 23 = .ok (.getfield 51, 3) := dk_180 0 51 (dk_at dksX1_pairs_1 0 rfl rfl)
theorem dX1_pairs_26 : decode bcX1_pairs 26 = .ok (.getfield 229, 3) := dk_180 0 229 (dk_at dksX1_pairs_1 3 rfl rfl)
theorem dX1_pairs_29 : decode bcX1_pairs 29 = .ok (.iload_n 3, 1) := dk_29 (dk_at dksX1_pairs_1 6 rfl rfl)
theorem dX1_pairs_30 : decode bcX1_pairs 30 = .ok (.iaload, 1) := dk_46 (dk_at dksX1_pairs_1 7 rfl rfl)
theorem dX1_pairs_31 : decode bcX1_pairs 31 = .ok (.iload_n 1, 1) := dk_27 (dk_at dksX1_pairs_1 8 rfl rfl)
theorem dX1_pairs_32 : decode bcX1_pairs 32 = .ok (.invokevirtual 299, 3) := dk_182 1 43 (dk_at dksX1_pairs_1 9 rfl rfl)
theorem dX1_pairs_35 : decode bcX1_pairs 35 = .ok (.aload_n 0, 1) := dk_42 (dk_at dksX1_pairs_1 12 rfl rfl)
theorem dX1_pairs_36 : decode bcX1_pairs 36 = .ok (.getfield 51, 3) := dk_180 0 51 (dk_at dksX1_pairs_1 13 rfl rfl)
theorem dX1_pairs_39 : decode bcX1_pairs 39 = .ok (.getfield 229, 3) := dk_180 0 229 (dk_at dksX1_pairs_1 16 rfl rfl)
theorem dX1_pairs_42 : decode bcX1_pairs 42 = .ok (.iload 4, 2) := dk_21 4 (dk_at dksX1_pairs_1 19 rfl rfl)
theorem dX1_pairs_44 : decode bcX1_pairs 44 = .ok (.iaload, 1) := dk_46 (dk_at dksX1_pairs_1 21 rfl rfl)
theorem dX1_pairs_45 : decode bcX1_pairs 45 = .ok (.invokestatic 286, 3) := dk_184 1 30 (dk_at dksX1_pairs_2 0 rfl rfl)
theorem dX1_pairs_48 : decode bcX1_pairs 48 = .ok (.ifCond .eq 6, 3) := dk_153 0 6 (dk_at dksX1_pairs_2 3 rfl rfl)
theorem dX1_pairs_51 : decode bcX1_pairs 51 = .ok (.iinc 2 1, 3) := dk_132 2 1 (dk_at dksX1_pairs_2 6 rfl rfl)
theorem dX1_pairs_54 : decode bcX1_pairs 54 = .ok (.iinc 4 1, 3) := dk_132 4 1 (dk_at dksX1_pairs_2 9 rfl rfl)
theorem dX1_pairs_57 : decode bcX1_pairs 57 = .ok (.goto (-42), 3) := dk_167 255 214 (dk_at dksX1_pairs_2 12 rfl rfl)
theorem dX1_pairs_60 : decode bcX1_pairs 60 = .ok (.iinc 3 1, 3) := dk_132 3 1 (dk_at dksX1_pairs_2 15 rfl rfl)
theorem dX1_pairs_63 : decode bcX1_pairs 63 = .ok (.goto (-59), 3) := dk_167 255 197 (dk_at dksX1_pairs_2 18 rfl rfl)
theorem dX1_pairs_66 : decode bcX1_pairs 66 = .ok (.iload_n 2, 1) := dk_28 (dk_at dksX1_pairs_2 21 rfl rfl)
theorem dX1_pairs_67 : decode bcX1_pairs 67 = .ok (.ireturn, 1) := dk_172 (dk_at dksX1_pairs_2 22 rfl rfl)
abbrev SX1_pairs (pc : Nat) (i : xI) : Prop := Snd "SwollenHouse" "pairs" prog_1_method_70_code 5 (Option.some Jvm.ClassFile.FieldType.int) [] pc i
theorem oX1_pairs_0 : SX1_pairs 0 (i_const (.int (nI 0)) 1) := snd_iconst dX1_pairs_0 (by decide)
theorem oX1_pairs_1 : SX1_pairs 1 (i_istore 2 2) := snd_istore_n dX1_pairs_1 rfl (by decide)
theorem oX1_pairs_2 : SX1_pairs 2 (i_const (.int (nI 0)) 3) := snd_iconst dX1_pairs_2 (by decide)
theorem oX1_pairs_3 : SX1_pairs 3 (i_istore 3 4) := snd_istore_n dX1_pairs_3 rfl (by decide)
theorem oX1_pairs_4 : SX1_pairs 4 (i_iload 3 5) := snd_iload_n dX1_pairs_4 rfl
theorem oX1_pairs_5 : SX1_pairs 5 (i_aload 0 6) := snd_aload_n dX1_pairs_5 rfl
theorem oX1_pairs_6 : SX1_pairs 6 (i_cv 0 101 0 9) := snd_cv rfl infX1_people (by decide) rfl (xVm_V dX1_pairs_6 rfl q1182 q1184 qs33 q127 q1185 pdX1_people)
theorem oX1_pairs_9 : SX1_pairs 9 (i_if2 (fun x y => y ≤ x) 66 12) := snd_icmp_ge dX1_pairs_9 (by decide)
theorem oX1_pairs_12 : SX1_pairs 12 (i_const (.int (nI 0)) 13) := snd_iconst dX1_pairs_12 (by decide)
theorem oX1_pairs_13 : SX1_pairs 13 (i_istore 4 15) := snd_istore dX1_pairs_13 (by decide)
theorem oX1_pairs_15 : SX1_pairs 15 (i_iload 4 17) := snd_iload dX1_pairs_15
theorem oX1_pairs_17 : SX1_pairs 17 (i_iload 3 18) := snd_iload_n dX1_pairs_17 rfl
theorem oX1_pairs_18 : SX1_pairs 18 (i_if2 (fun x y => y ≤ x) 60 21) := snd_icmp_ge dX1_pairs_18 (by decide)
theorem oX1_pairs_21 : SX1_pairs 21 (i_aload 0 22) := snd_aload_n dX1_pairs_21 rfl
theorem oX1_pairs_22 : SX1_pairs 22 (i_aload 0 23) := snd_aload_n dX1_pairs_22 rfl
theorem oX1_pairs_23 : SX1_pairs 23 (i_getf 0 4 26) := snd_getf dX1_pairs_23 rfl (by decide) in_X1 (Or.inl q350) (Or.inl rfl) (by decide)
theorem oX1_pairs_26 : SX1_pairs 26 (i_getf 3 2 29) := snd_getf dX1_pairs_26 rfl (by decide) in_X4 (Or.inr ⟨_, q296⟩) (Or.inl rfl) (by decide)
theorem oX1_pairs_29 : SX1_pairs 29 (i_iload 3 30) := snd_iload_n dX1_pairs_29 rfl
theorem oX1_pairs_30 : SX1_pairs 30 (i_ai 0 31) := snd_ai0 dX1_pairs_30
theorem oX1_pairs_31 : SX1_pairs 31 (i_iload 1 32) := snd_iload_n dX1_pairs_31 rfl
theorem oX1_pairs_32 : SX1_pairs 32 (i_cv 0 122 2 35) := snd_cv rfl infX1_range_2 (by decide) rfl (xVm_V dX1_pairs_32 rfl q1389 q1391 qs44 q127 q1392 pdX1_range_2)
theorem oX1_pairs_35 : SX1_pairs 35 (i_aload 0 36) := snd_aload_n dX1_pairs_35 rfl
theorem oX1_pairs_36 : SX1_pairs 36 (i_getf 0 4 39) := snd_getf dX1_pairs_36 rfl (by decide) in_X1 (Or.inl q350) (Or.inl rfl) (by decide)
theorem oX1_pairs_39 : SX1_pairs 39 (i_getf 3 2 42) := snd_getf dX1_pairs_39 rfl (by decide) in_X4 (Or.inr ⟨_, q296⟩) (Or.inl rfl) (by decide)
theorem oX1_pairs_42 : SX1_pairs 42 (i_iload 4 44) := snd_iload dX1_pairs_42
theorem oX1_pairs_44 : SX1_pairs 44 (i_ai 0 45) := snd_ai0 dX1_pairs_44
theorem oX1_pairs_45 : SX1_pairs 45 (i_cs 98 2 48) := snd_cs rfl infX1_isIn (by decide) (xSm_S dX1_pairs_45 q1397 q1172 q127 q1173 pdX1_isIn)
theorem oX1_pairs_48 : SX1_pairs 48 (i_if1 (fun x => x = 0) 54 51) := snd_if_eq dX1_pairs_48 (by decide)
theorem oX1_pairs_51 : SX1_pairs 51 (i_iinc 2 (nI 1) 54) := snd_iinc dX1_pairs_51 (by decide) (by decide)
theorem oX1_pairs_54 : SX1_pairs 54 (i_iinc 4 (nI 1) 57) := snd_iinc dX1_pairs_54 (by decide) (by decide)
theorem oX1_pairs_57 : SX1_pairs 57 (i_goto 15) := snd_goto dX1_pairs_57 (by decide)
theorem oX1_pairs_60 : SX1_pairs 60 (i_iinc 3 (nI 1) 63) := snd_iinc dX1_pairs_60 (by decide) (by decide)
theorem oX1_pairs_63 : SX1_pairs 63 (i_goto 4) := snd_goto dX1_pairs_63 (by decide)
theorem oX1_pairs_66 : SX1_pairs 66 (i_iload 2 67) := snd_iload_n dX1_pairs_66 rfl
theorem oX1_pairs_67 : SX1_pairs 67 (i_iret) := snd_iret dX1_pairs_67 rfl
theorem okX1_pairs : ∀ q ∈ cX1_pairs, SX1_pairs q.1 q.2 := List.forall_mem_cons.mpr ⟨oX1_pairs_0, List.forall_mem_cons.mpr ⟨oX1_pairs_1, List.forall_mem_cons.mpr ⟨oX1_pairs_2, List.forall_mem_cons.mpr ⟨oX1_pairs_3, List.forall_mem_cons.mpr ⟨oX1_pairs_4, List.forall_mem_cons.mpr ⟨oX1_pairs_5, List.forall_mem_cons.mpr ⟨oX1_pairs_6, List.forall_mem_cons.mpr ⟨oX1_pairs_9, List.forall_mem_cons.mpr ⟨oX1_pairs_12, List.forall_mem_cons.mpr ⟨oX1_pairs_13, List.forall_mem_cons.mpr ⟨oX1_pairs_15, List.forall_mem_cons.mpr ⟨oX1_pairs_17, List.forall_mem_cons.mpr ⟨oX1_pairs_18, List.forall_mem_cons.mpr ⟨oX1_pairs_21, List.forall_mem_cons.mpr ⟨oX1_pairs_22, List.forall_mem_cons.mpr ⟨oX1_pairs_23, List.forall_mem_cons.mpr ⟨oX1_pairs_26, List.forall_mem_cons.mpr ⟨oX1_pairs_29, List.forall_mem_cons.mpr ⟨oX1_pairs_30, List.forall_mem_cons.mpr ⟨oX1_pairs_31, List.forall_mem_cons.mpr ⟨oX1_pairs_32, List.forall_mem_cons.mpr ⟨oX1_pairs_35, List.forall_mem_cons.mpr ⟨oX1_pairs_36, List.forall_mem_cons.mpr ⟨oX1_pairs_39, List.forall_mem_cons.mpr ⟨oX1_pairs_42, List.forall_mem_cons.mpr ⟨oX1_pairs_44, List.forall_mem_cons.mpr ⟨oX1_pairs_45, List.forall_mem_cons.mpr ⟨oX1_pairs_48, List.forall_mem_cons.mpr ⟨oX1_pairs_51, List.forall_mem_cons.mpr ⟨oX1_pairs_54, List.forall_mem_cons.mpr ⟨oX1_pairs_57, List.forall_mem_cons.mpr ⟨oX1_pairs_60, List.forall_mem_cons.mpr ⟨oX1_pairs_63, List.forall_mem_cons.mpr ⟨oX1_pairs_66, List.forall_mem_cons.mpr ⟨oX1_pairs_67, fun _ h => absurd h List.not_mem_nil⟩⟩⟩⟩⟩⟩⟩⟩⟩⟩⟩⟩⟩⟩⟩⟩⟩⟩⟩⟩⟩⟩⟩⟩⟩⟩⟩⟩⟩⟩⟩⟩⟩⟩⟩
def dkwX1_chance_7 : List UInt8 := [22, 9, 97, 55, 4, 132, 8, 1, 167, 255, 149, 22, 4, 20, 1, 75, 105, 22, 6, 109, 136, 172]
abbrev dktX1_chance_7 : List UInt8 := dkwX1_chance_7 ++ []
def dkwX1_chance_6 : List UInt8 := [3, 182, 0, 212, 132, 11, 1, 167, 255, 198, 42, 180, 0, 55, 27, 182, 0, 219, 153, 0, 10, 22, 4]
abbrev dktX1_chance_6 : List UInt8 := dkwX1_chance_6 ++ dktX1_chance_7
def dkwX1_chance_5 : List UInt8 := [133, 105, 55, 9, 42, 42, 180, 0, 55, 21, 8, 21, 11, 184, 1, 30, 153, 0, 8, 16, 9, 167, 0, 4]
abbrev dktX1_chance_5 : List UInt8 := dkwX1_chance_5 ++ dktX1_chance_6
def dkwX1_chance_4 : List UInt8 := [162, 0, 58, 22, 9, 21, 8, 21, 11, 184, 1, 30, 153, 0, 8, 29, 133, 167, 0, 8, 16, 10, 29, 100]
abbrev dktX1_chance_4 : List UInt8 := dkwX1_chance_4 ++ dktX1_chance_5
def dkwX1_chance_3 : List UInt8 := [162, 0, 105, 10, 55, 9, 42, 180, 0, 55, 42, 180, 0, 51, 182, 0, 253, 3, 54, 11, 21, 11, 28]
abbrev dktX1_chance_3 : List UInt8 := dkwX1_chance_3 ++ dktX1_chance_4
def dkwX1_chance_2 : List UInt8 := [22, 6, 20, 1, 73, 105, 55, 6, 132, 8, 1, 167, 255, 239, 3, 54, 8, 21, 8, 4, 28, 120]
abbrev dktX1_chance_2 : List UInt8 := dkwX1_chance_2 ++ dktX1_chance_3
def dkwX1_chance_1 : List UInt8 := [184, 0, 155, 154, 0, 5, 2, 172, 9, 55, 4, 10, 55, 6, 3, 54, 8, 21, 8, 28, 162, 0, 17]
abbrev dktX1_chance_1 : List UInt8 := dkwX1_chance_1 ++ dktX1_chance_2
def dkwX1_chance_0 : List UInt8 := [42, 27, 182, 0, 226, 153, 0, 23, 28, 4, 16, 6, 184, 0, 155, 153, 0, 13, 29, 3, 16, 10]
abbrev dktX1_chance_0 : List UInt8 := dkwX1_chance_0 ++ dktX1_chance_1
theorem dksX1_chance_0 : bcX1_chance.data.toList.drop 0 = dktX1_chance_0 := by decide +kernel
theorem dksX1_chance_1 : bcX1_chance.data.toList.drop 22 = dktX1_chance_1 := dk_seg dksX1_chance_0 22 rfl rfl
theorem dksX1_chance_2 : bcX1_chance.data.toList.drop 45 = dktX1_chance_2 := dk_seg dksX1_chance_1 23 rfl rfl
theorem dksX1_chance_3 : bcX1_chance.data.toList.drop 67 = dktX1_chance_3 := dk_seg dksX1_chance_2 22 rfl rfl
theorem dksX1_chance_4 : bcX1_chance.data.toList.drop 90 = dktX1_chance_4 := dk_seg dksX1_chance_3 23 rfl rfl
theorem dksX1_chance_5 : bcX1_chance.data.toList.drop 114 = dktX1_chance_5 := dk_seg dksX1_chance_4 24 rfl rfl
theorem dksX1_chance_6 : bcX1_chance.data.toList.drop 138 = dktX1_chance_6 := dk_seg dksX1_chance_5 24 rfl rfl
theorem dksX1_chance_7 : bcX1_chance.data.toList.drop 161 = dktX1_chance_7 := dk_seg dksX1_chance_6 23 rfl rfl
theorem dX1_chance_0 : decode bcX1_chance 0 = .ok (.aload_n 0, 1) := dk_42 (dk_at dksX1_chance_0 0 rfl rfl)
theorem dX1_chance_1 : decode bcX1_chance 1 = .ok (.iload_n 1, 1) := dk_27 (dk_at dksX1_chance_0 1 rfl rfl)
theorem dX1_chance_2 : decode bcX1_chance 2 = .ok (.invokevirtual 226, 3) := dk_182 0 226 (dk_at dksX1_chance_0 2 rfl rfl)
theorem dX1_chance_5 : decode bcX1_chance 5 = .ok (.ifCond .eq 23, 3) := dk_153 0 23 (dk_at dksX1_chance_0 5 rfl rfl)
theorem dX1_chance_8 : decode bcX1_chance 8 = .ok (.iload_n 2, 1) := dk_28 (dk_at dksX1_chance_0 8 rfl rfl)
theorem dX1_chance_9 : decode bcX1_chance 9 = .ok (.iconst 1, 1) := dk_4 (dk_at dksX1_chance_0 9 rfl rfl)
theorem dX1_chance_10 : decode bcX1_chance 10 = .ok (.bipush 6, 2) := dk_16 6 (dk_at dksX1_chance_0 10 rfl rfl)
theorem dX1_chance_12 : decode bcX1_chance 12 = .ok (.invokestatic 155, 3) := dk_184 0 155 (dk_at dksX1_chance_0 12 rfl rfl)
theorem dX1_chance_15 : decode bcX1_chance 15 = .ok (.ifCond .eq 13, 3) := dk_153 0 13 (dk_at dksX1_chance_0 15 rfl rfl)
theorem dX1_chance_18 : decode bcX1_chance 18 = .ok (.iload_n 3, 1) := dk_29 (dk_at dksX1_chance_0 18 rfl rfl)
theorem dX1_chance_19 : decode bcX1_chance 19 = .ok (.iconst 0, 1) := dk_3 (dk_at dksX1_chance_0 19 rfl rfl)
theorem dX1_chance_20 : decode bcX1_chance 20 = .ok (.bipush 10, 2) := dk_16 10 (dk_at dksX1_chance_0 20 rfl rfl)
theorem dX1_chance_22 : decode bcX1_chance 22 = .ok (.invokestatic 155, 3) := dk_184 0 155 (dk_at dksX1_chance_1 0 rfl rfl)
theorem dX1_chance_25 : decode bcX1_chance 25 = .ok (.ifCond .ne 5, 3) := dk_154 0 5 (dk_at dksX1_chance_1 3 rfl rfl)
theorem dX1_chance_28 : decode bcX1_chance 28 = .ok (.iconst (-1), 1) := dk_2 (dk_at dksX1_chance_1 6 rfl rfl)
theorem dX1_chance_29 : decode bcX1_chance 29 = .ok (.ireturn, 1) := dk_172 (dk_at dksX1_chance_1 7 rfl rfl)
theorem dX1_chance_30 : decode bcX1_chance 30 = .ok (.lconst 0, 1) := dk_9 (dk_at dksX1_chance_1 8 rfl rfl)
theorem dX1_chance_31 : decode bcX1_chance 31 = .ok (.lstore 4, 2) := dk_55 4 (dk_at dksX1_chance_1 9 rfl rfl)
theorem dX1_chance_33 : decode bcX1_chance 33 = .ok (.lconst 1, 1) := dk_10 (dk_at dksX1_chance_1 11 rfl rfl)
theorem dX1_chance_34 : decode bcX1_chance 34 = .ok (.lstore 6, 2) := dk_55 6 (dk_at dksX1_chance_1 12 rfl rfl)
theorem dX1_chance_36 : decode bcX1_chance 36 = .ok (.iconst 0, 1) := dk_3 (dk_at dksX1_chance_1 14 rfl rfl)
theorem dX1_chance_37 : decode bcX1_chance 37 = .ok (.istore 8, 2) := dk_54 8 (dk_at dksX1_chance_1 15 rfl rfl)
theorem dX1_chance_39 : decode bcX1_chance 39 = .ok (.iload 8, 2) := dk_21 8 (dk_at dksX1_chance_1 17 rfl rfl)
theorem dX1_chance_41 : decode bcX1_chance 41 = .ok (.iload_n 2, 1) := dk_28 (dk_at dksX1_chance_1 19 rfl rfl)
theorem dX1_chance_42 : decode bcX1_chance 42 = .ok (.if_icmp .ge 17, 3) := dk_162 0 17 (dk_at dksX1_chance_1 20 rfl rfl)
theorem dX1_chance_45 : decode bcX1_chance 45 = .ok (.lload 6, 2) := dk_22 6 (dk_at dksX1_chance_2 0 rfl rfl)
theorem dX1_chance_47 : decode bcX1_chance 47 = .ok (.ldc2_w 329, 3) := dk_20 1 73 (dk_at dksX1_chance_2 2 rfl rfl)
theorem dX1_chance_50 : decode bcX1_chance 50 = .ok (.lmul, 1) := dk_105 (dk_at dksX1_chance_2 5 rfl rfl)
theorem dX1_chance_51 : decode bcX1_chance 51 = .ok (.lstore 6, 2) := dk_55 6 (dk_at dksX1_chance_2 6 rfl rfl)
theorem dX1_chance_53 : decode bcX1_chance 53 = .ok (.iinc 8 1, 3) := dk_132 8 1 (dk_at dksX1_chance_2 8 rfl rfl)
theorem dX1_chance_56 : decode bcX1_chance 56 = .ok (.goto (-17), 3) := dk_167 255 239 (dk_at dksX1_chance_2 11 rfl rfl)
theorem dX1_chance_59 : decode bcX1_chance 59 = .ok (.iconst 0, 1) := dk_3 (dk_at dksX1_chance_2 14 rfl rfl)
theorem dX1_chance_60 : decode bcX1_chance 60 = .ok (.istore 8, 2) := dk_54 8 (dk_at dksX1_chance_2 15 rfl rfl)
theorem dX1_chance_62 : decode bcX1_chance 62 = .ok (.iload 8, 2) := dk_21 8 (dk_at dksX1_chance_2 17 rfl rfl)
theorem dX1_chance_64 : decode bcX1_chance 64 = .ok (.iconst 1, 1) := dk_4 (dk_at dksX1_chance_2 19 rfl rfl)
theorem dX1_chance_65 : decode bcX1_chance 65 = .ok (.iload_n 2, 1) := dk_28 (dk_at dksX1_chance_2 20 rfl rfl)
theorem dX1_chance_66 : decode bcX1_chance 66 = .ok (.ishl, 1) := dk_120 (dk_at dksX1_chance_2 21 rfl rfl)
theorem dX1_chance_67 : decode bcX1_chance 67 = .ok (.if_icmp .ge 105, 3) := dk_162 0 105 (dk_at dksX1_chance_3 0 rfl rfl)
theorem dX1_chance_70 : decode bcX1_chance 70 = .ok (.lconst 1, 1) := dk_10 (dk_at dksX1_chance_3 3 rfl rfl)
theorem dX1_chance_71 : decode bcX1_chance 71 = .ok (.lstore 9, 2) := dk_55 9 (dk_at dksX1_chance_3 4 rfl rfl)
theorem dX1_chance_73 : decode bcX1_chance 73 = .ok (.aload_n 0, 1) := dk_42 (dk_at dksX1_chance_3 6 rfl rfl)
theorem dX1_chance_74 : decode bcX1_chance 74 = .ok (.getfield 55, 3) := dk_180 0 55 (dk_at dksX1_chance_3 7 rfl rfl)
theorem dX1_chance_77 : decode bcX1_chance 77 = .ok (.aload_n 0, 1) := dk_42 (dk_at dksX1_chance_3 10 rfl rfl)
theorem dX1_chance_78 : decode bcX1_chance 78 = .ok (.getfield 51, 3) := dk_180 0 51 (dk_at dksX1_chance_3 11 rfl rfl)
theorem dX1_chance_81 : decode bcX1_chance 81 = .ok (.invokevirtual 253, 3) := dk_182 0 253 (dk_at dksX1_chance_3 14 rfl rfl)
theorem dX1_chance_84 : decode bcX1_chance 84 = .ok (.iconst 0, 1) := dk_3 (dk_at dksX1_chance_3 17 rfl rfl)
theorem dX1_chance_85 : decode bcX1_chance 85 = .ok (.istore 11, 2) := dk_54 11 (dk_at dksX1_chance_3 18 rfl rfl)
theorem dX1_chance_87 : decode bcX1_chance 87 = .ok (.iload 11, 2) := dk_21 11 (dk_at dksX1_chance_3 20 rfl rfl)
theorem dX1_chance_89 : decode bcX1_chance 89 = .ok (.iload_n 2, 1) := dk_28 (dk_at dksX1_chance_3 22 rfl rfl)
theorem dX1_chance_90 : decode bcX1_chance 90 = .ok (.if_icmp .ge 58, 3) := dk_162 0 58 (dk_at dksX1_chance_4 0 rfl rfl)
theorem dX1_chance_93 : decode bcX1_chance 93 = .ok (.lload 9, 2) := dk_22 9 (dk_at dksX1_chance_4 3 rfl rfl)
theorem dX1_chance_95 : decode bcX1_chance 95 = .ok (.iload 8, 2) := dk_21 8 (dk_at dksX1_chance_4 5 rfl rfl)
theorem dX1_chance_97 : decode bcX1_chance 97 = .ok (.iload 11, 2) := dk_21 11 (dk_at dksX1_chance_4 7 rfl rfl)
theorem dX1_chance_99 : decode bcX1_chance 99 = .ok (.invokestatic 286, 3) := dk_184 1 30 (dk_at dksX1_chance_4 9 rfl rfl)
theorem dX1_chance_102 : decode bcX1_chance 102 = .ok (.ifCond .eq 8, 3) := dk_153 0 8 (dk_at dksX1_chance_4 12 rfl rfl)
theorem dX1_chance_105 : decode bcX1_chance 105 = .ok (.iload_n 3, 1) := dk_29 (dk_at dksX1_chance_4 15 rfl rfl)
theorem dX1_chance_106 : decode bcX1_chance 106 = .ok (.i2l, 1) := dk_133 (dk_at dksX1_chance_4 16 rfl rfl)
theorem dX1_chance_107 : decode bcX1_chance 107 = .ok (.goto 8, 3) := dk_167 0 8 (dk_at dksX1_chance_4 17 rfl rfl)
theorem dX1_chance_110 : decode bcX1_chance 110 = .ok (.bipush 10, 2) := dk_16 10 (dk_at dksX1_chance_4 20 rfl rfl)
theorem dX1_chance_112 : decode bcX1_chance 112 = .ok (.iload_n 3, 1) := dk_29 (dk_at dksX1_chance_4 22 rfl rfl)
theorem dX1_chance_113 : decode bcX1_chance 113 = .ok (.isub, 1) := dk_100 (dk_at dksX1_chance_4 23 rfl rfl)
theorem dX1_chance_114 : decode bcX1_chance 114 = .ok (.i2l, 1) := dk_133 (dk_at dksX1_chance_5 0 rfl rfl)
theorem dX1_chance_115 : decode bcX1_chance 115 = .ok (.lmul, 1) := dk_105 (dk_at dksX1_chance_5 1 rfl rfl)
theorem dX1_chance_116 : decode bcX1_chance 116 = .ok (.lstore 9, 2) := dk_55 9 (dk_at dksX1_chance_5 2 rfl rfl)
theorem dX1_chance_118 : decode bcX1_chance 118 = .ok (.aload_n 0, 1) := dk_42 (dk_at dksX1_chance_5 4 rfl rfl)
theorem dX1_chance_119 : decode bcX1_chance 119 = .ok (.aload_n 0, 1) := dk_42 (dk_at dksX1_chance_5 5 rfl rfl)
theorem dX1_chance_120 : decode bcX1_chance 120 = .ok (.getfield 55, 3) := dk_180 0 55 (dk_at dksX1_chance_5 6 rfl rfl)
theorem dX1_chance_123 : decode bcX1_chance 123 = .ok (.iload 8, 2) := dk_21 8 (dk_at dksX1_chance_5 9 rfl rfl)
theorem dX1_chance_125 : decode bcX1_chance 125 = .ok (.iload 11, 2) := dk_21 11 (dk_at dksX1_chance_5 11 rfl rfl)
theorem dX1_chance_127 : decode bcX1_chance 127 = .ok (.invokestatic 286, 3) := dk_184 1 30 (dk_at dksX1_chance_5 13 rfl rfl)
theorem dX1_chance_130 : decode bcX1_chance 130 = .ok (.ifCond .eq 8, 3) := dk_153 0 8 (dk_at dksX1_chance_5 16 rfl rfl)
theorem dX1_chance_133 : decode bcX1_chance 133 = .ok (.bipush 9, 2) := dk_16 9 (dk_at dksX1_chance_5 19 rfl rfl)
theorem dX1_chance_135 : decode bcX1_chance 135 = .ok (.goto 4, 3) := dk_167 0 4 (dk_at dksX1_chance_5 21 rfl rfl)
theorem dX1_chance_138 : decode bcX1_chance 138 = .ok (.iconst 0, 1) := dk_3 (dk_at dksX1_chance_6 0 rfl rfl)
theorem dX1_chance_139 : decode bcX1_chance 139 = .ok (.invokevirtual 212, 3) := dk_182 0 212 (dk_at dksX1_chance_6 1 rfl rfl)
theorem dX1_chance_142 : decode bcX1_chance 142 = .ok (.iinc 11 1, 3) := dk_132 11 1 (dk_at dksX1_chance_6 4 rfl rfl)
theorem dX1_chance_145 : decode bcX1_chance 145 = .ok (.goto (-58), 3) := dk_167 255 198 (dk_at dksX1_chance_6 7 rfl rfl)
theorem dX1_chance_148 : decode bcX1_chance 148 = .ok (.aload_n 0, 1) := dk_42 (dk_at dksX1_chance_6 10 rfl rfl)
theorem dX1_chance_149 : decode bcX1_chance 149 = .ok (.getfield 55, 3) := dk_180 0 55 (dk_at dksX1_chance_6 11 rfl rfl)
theorem dX1_chance_152 : decode bcX1_chance 152 = .ok (.iload_n 1, 1) := dk_27 (dk_at dksX1_chance_6 14 rfl rfl)
theorem dX1_chance_153 : decode bcX1_chance 153 = .ok (.invokevirtual 219, 3) := dk_182 0 219 (dk_at dksX1_chance_6 15 rfl rfl)
theorem dX1_chance_156 : decode bcX1_chance 156 = .ok (.ifCond .eq 10, 3) := dk_153 0 10 (dk_at dksX1_chance_6 18 rfl rfl)
theorem dX1_chance_159 : decode bcX1_chance 159 = .ok (.lload 4, 2) := dk_22 4 (dk_at dksX1_chance_6 21 rfl rfl)
theorem dX1_chance_161 : decode bcX1_chance 161 = .ok (.lload 9, 2) := dk_22 9 (dk_at dksX1_chance_7 0 rfl rfl)
theorem dX1_chance_163 : decode bcX1_chance 163 = .ok (.ladd, 1) := dk_97 (dk_at dksX1_chance_7 2 rfl rfl)
theorem dX1_chance_164 : decode bcX1_chance 164 = .ok (.lstore 4, 2) := dk_55 4 (dk_at dksX1_chance_7 3 rfl rfl)
theorem dX1_chance_166 : decode bcX1_chance 166 = .ok (.iinc 8 1, 3) := dk_132 8 1 (dk_at dksX1_chance_7 5 rfl rfl)
theorem dX1_chance_169 : decode bcX1_chance 169 = .ok (.goto (-107), 3) := dk_167 255 149 (dk_at dksX1_chance_7 8 rfl rfl)
theorem dX1_chance_172 : decode bcX1_chance 172 = .ok (.lload 4, 2) := dk_22 4 (dk_at dksX1_chance_7 11 rfl rfl)
theorem dX1_chance_174 : decode bcX1_chance 174 = .ok (.ldc2_w 331, 3) := dk_20 1 75 (dk_at dksX1_chance_7 13 rfl rfl)
theorem dX1_chance_177 : decode bcX1_chance 177 = .ok (.lmul, 1) := dk_105 (dk_at dksX1_chance_7 16 rfl rfl)
theorem dX1_chance_178 : decode bcX1_chance 178 = .ok (.lload 6, 2) := dk_22 6 (dk_at dksX1_chance_7 17 rfl rfl)
theorem dX1_chance_180 : decode bcX1_chance 180 = .ok (.ldiv, 1) := dk_109 (dk_at dksX1_chance_7 19 rfl rfl)
theorem dX1_chance_181 : decode bcX1_chance 181 = .ok (.l2i, 1) := dk_136 (dk_at dksX1_chance_7 20 rfl rfl)
theorem dX1_chance_182 : decode bcX1_chance 182 = .ok (.ireturn, 1) := dk_172 (dk_at dksX1_chance_7 21 rfl rfl)
abbrev SX1_chance (pc : Nat) (i : xI) : Prop := Snd "SwollenHouse" "chance" prog_1_method_72_code 12 (Option.some Jvm.ClassFile.FieldType.int) [] pc i
theorem oX1_chance_0 : SX1_chance 0 (i_aload 0 1) := snd_aload_n dX1_chance_0 rfl
theorem oX1_chance_1 : SX1_chance 1 (i_iload 1 2) := snd_iload_n dX1_chance_1 rfl
theorem oX1_chance_2 : SX1_chance 2 (i_cv 0 95 1 5) := snd_cv rfl infX1_isDoor (by decide) rfl (xVm_V dX1_chance_2 rfl q1136 q1138 qs29 q127 q1139 pdX1_isDoor)
theorem oX1_chance_5 : SX1_chance 5 (i_if1 (fun x => x = 0) 28 8) := snd_if_eq dX1_chance_5 (by decide)
theorem oX1_chance_8 : SX1_chance 8 (i_iload 2 9) := snd_iload_n dX1_chance_8 rfl
theorem oX1_chance_9 : SX1_chance 9 (i_const (.int (nI 1)) 10) := snd_iconst dX1_chance_9 (by decide)
theorem oX1_chance_10 : SX1_chance 10 (i_const (.int (nI 6)) 12) := snd_bipush dX1_chance_10 (by decide)
theorem oX1_chance_12 : SX1_chance 12 (i_cs 92 3 15) := snd_cs rfl infX1_in (by decide) (xSm_S dX1_chance_12 q1145 q982 q127 q983 pdX1_in)
theorem oX1_chance_15 : SX1_chance 15 (i_if1 (fun x => x = 0) 28 18) := snd_if_eq dX1_chance_15 (by decide)
theorem oX1_chance_18 : SX1_chance 18 (i_iload 3 19) := snd_iload_n dX1_chance_18 rfl
theorem oX1_chance_19 : SX1_chance 19 (i_const (.int (nI 0)) 20) := snd_iconst dX1_chance_19 (by decide)
theorem oX1_chance_20 : SX1_chance 20 (i_const (.int (nI 10)) 22) := snd_bipush dX1_chance_20 (by decide)
theorem oX1_chance_22 : SX1_chance 22 (i_cs 92 3 25) := snd_cs rfl infX1_in (by decide) (xSm_S dX1_chance_22 q1145 q982 q127 q983 pdX1_in)
theorem oX1_chance_25 : SX1_chance 25 (i_if1 (fun x => ¬ x = 0) 30 28) := snd_if_ne dX1_chance_25 (by decide)
theorem oX1_chance_28 : SX1_chance 28 (i_const (.int (-1)) 29) := snd_iconst dX1_chance_28 (by decide)
theorem oX1_chance_29 : SX1_chance 29 (i_iret) := snd_iret dX1_chance_29 rfl
theorem oX1_chance_30 : SX1_chance 30 (i_const (.long (lN 0)) 31) := snd_lconst dX1_chance_30 (by decide)
theorem oX1_chance_31 : SX1_chance 31 (i_lstore 4 33) := snd_lstore dX1_chance_31 (by decide)
theorem oX1_chance_33 : SX1_chance 33 (i_const (.long (lN 1)) 34) := snd_lconst dX1_chance_33 (by decide)
theorem oX1_chance_34 : SX1_chance 34 (i_lstore 6 36) := snd_lstore dX1_chance_34 (by decide)
theorem oX1_chance_36 : SX1_chance 36 (i_const (.int (nI 0)) 37) := snd_iconst dX1_chance_36 (by decide)
theorem oX1_chance_37 : SX1_chance 37 (i_istore 8 39) := snd_istore dX1_chance_37 (by decide)
theorem oX1_chance_39 : SX1_chance 39 (i_iload 8 41) := snd_iload dX1_chance_39
theorem oX1_chance_41 : SX1_chance 41 (i_iload 2 42) := snd_iload_n dX1_chance_41 rfl
theorem oX1_chance_42 : SX1_chance 42 (i_if2 (fun x y => y ≤ x) 59 45) := snd_icmp_ge dX1_chance_42 (by decide)
theorem oX1_chance_45 : SX1_chance 45 (i_lload 6 47) := snd_lload dX1_chance_45
theorem oX1_chance_47 : SX1_chance 47 (i_const (.long (lN 10)) 50) := snd_ldc2 dX1_chance_47 q1530
theorem oX1_chance_50 : SX1_chance 50 (i_ll (fun x y => x * y) 51) := snd_lmul dX1_chance_50
theorem oX1_chance_51 : SX1_chance 51 (i_lstore 6 53) := snd_lstore dX1_chance_51 (by decide)
theorem oX1_chance_53 : SX1_chance 53 (i_iinc 8 (nI 1) 56) := snd_iinc dX1_chance_53 (by decide) (by decide)
theorem oX1_chance_56 : SX1_chance 56 (i_goto 39) := snd_goto dX1_chance_56 (by decide)
theorem oX1_chance_59 : SX1_chance 59 (i_const (.int (nI 0)) 60) := snd_iconst dX1_chance_59 (by decide)
theorem oX1_chance_60 : SX1_chance 60 (i_istore 8 62) := snd_istore dX1_chance_60 (by decide)
theorem oX1_chance_62 : SX1_chance 62 (i_iload 8 64) := snd_iload dX1_chance_62
theorem oX1_chance_64 : SX1_chance 64 (i_const (.int (nI 1)) 65) := snd_iconst dX1_chance_64 (by decide)
theorem oX1_chance_65 : SX1_chance 65 (i_iload 2 66) := snd_iload_n dX1_chance_65 rfl
theorem oX1_chance_66 : SX1_chance 66 (i_ii (fun x y => x <<< (y &&& 31)) 67) := snd_ishl dX1_chance_66
theorem oX1_chance_67 : SX1_chance 67 (i_if2 (fun x y => y ≤ x) 172 70) := snd_icmp_ge dX1_chance_67 (by decide)
theorem oX1_chance_70 : SX1_chance 70 (i_const (.long (lN 1)) 71) := snd_lconst dX1_chance_70 (by decide)
theorem oX1_chance_71 : SX1_chance 71 (i_lstore 9 73) := snd_lstore dX1_chance_71 (by decide)
theorem oX1_chance_73 : SX1_chance 73 (i_aload 0 74) := snd_aload_n dX1_chance_73 rfl
theorem oX1_chance_74 : SX1_chance 74 (i_getf 0 5 77) := snd_getf dX1_chance_74 rfl (by decide) in_X1 (Or.inl q351) (Or.inl rfl) (by decide)
theorem oX1_chance_77 : SX1_chance 77 (i_aload 0 78) := snd_aload_n dX1_chance_77 rfl
theorem oX1_chance_78 : SX1_chance 78 (i_getf 0 4 81) := snd_getf dX1_chance_78 rfl (by decide) in_X1 (Or.inl q350) (Or.inl rfl) (by decide)
theorem oX1_chance_81 : SX1_chance 81 (i_cvv 3 239 1 84) := snd_cvv rfl infX4_be (by decide) rfl (xVm_V dX1_chance_81 rfl q1194 q1195 q1196 q133 q1197 pdX4_be)
theorem oX1_chance_84 : SX1_chance 84 (i_const (.int (nI 0)) 85) := snd_iconst dX1_chance_84 (by decide)
theorem oX1_chance_85 : SX1_chance 85 (i_istore 11 87) := snd_istore dX1_chance_85 (by decide)
theorem oX1_chance_87 : SX1_chance 87 (i_iload 11 89) := snd_iload dX1_chance_87
theorem oX1_chance_89 : SX1_chance 89 (i_iload 2 90) := snd_iload_n dX1_chance_89 rfl
theorem oX1_chance_90 : SX1_chance 90 (i_if2 (fun x y => y ≤ x) 148 93) := snd_icmp_ge dX1_chance_90 (by decide)
theorem oX1_chance_93 : SX1_chance 93 (i_lload 9 95) := snd_lload dX1_chance_93
theorem oX1_chance_95 : SX1_chance 95 (i_iload 8 97) := snd_iload dX1_chance_95
theorem oX1_chance_97 : SX1_chance 97 (i_iload 11 99) := snd_iload dX1_chance_97
theorem oX1_chance_99 : SX1_chance 99 (i_cs 98 2 102) := snd_cs rfl infX1_isIn (by decide) (xSm_S dX1_chance_99 q1397 q1172 q127 q1173 pdX1_isIn)
theorem oX1_chance_102 : SX1_chance 102 (i_if1 (fun x => x = 0) 110 105) := snd_if_eq dX1_chance_102 (by decide)
theorem oX1_chance_105 : SX1_chance 105 (i_iload 3 106) := snd_iload_n dX1_chance_105 rfl
theorem oX1_chance_106 : SX1_chance 106 (i_i2l 107) := snd_i2l dX1_chance_106
theorem oX1_chance_107 : SX1_chance 107 (i_goto 115) := snd_goto dX1_chance_107 (by decide)
theorem oX1_chance_110 : SX1_chance 110 (i_const (.int (nI 10)) 112) := snd_bipush dX1_chance_110 (by decide)
theorem oX1_chance_112 : SX1_chance 112 (i_iload 3 113) := snd_iload_n dX1_chance_112 rfl
theorem oX1_chance_113 : SX1_chance 113 (i_ii (fun x y => x - y) 114) := snd_isub dX1_chance_113
theorem oX1_chance_114 : SX1_chance 114 (i_i2l 115) := snd_i2l dX1_chance_114
theorem oX1_chance_115 : SX1_chance 115 (i_ll (fun x y => x * y) 116) := snd_lmul dX1_chance_115
theorem oX1_chance_116 : SX1_chance 116 (i_lstore 9 118) := snd_lstore dX1_chance_116 (by decide)
theorem oX1_chance_118 : SX1_chance 118 (i_aload 0 119) := snd_aload_n dX1_chance_118 rfl
theorem oX1_chance_119 : SX1_chance 119 (i_aload 0 120) := snd_aload_n dX1_chance_119 rfl
theorem oX1_chance_120 : SX1_chance 120 (i_getf 0 5 123) := snd_getf dX1_chance_120 rfl (by decide) in_X1 (Or.inl q351) (Or.inl rfl) (by decide)
theorem oX1_chance_123 : SX1_chance 123 (i_iload 8 125) := snd_iload dX1_chance_123
theorem oX1_chance_125 : SX1_chance 125 (i_iload 11 127) := snd_iload dX1_chance_125
theorem oX1_chance_127 : SX1_chance 127 (i_cs 98 2 130) := snd_cs rfl infX1_isIn (by decide) (xSm_S dX1_chance_127 q1397 q1172 q127 q1173 pdX1_isIn)
theorem oX1_chance_130 : SX1_chance 130 (i_if1 (fun x => x = 0) 138 133) := snd_if_eq dX1_chance_130 (by decide)
theorem oX1_chance_133 : SX1_chance 133 (i_const (.int (nI 9)) 135) := snd_bipush dX1_chance_133 (by decide)
theorem oX1_chance_135 : SX1_chance 135 (i_goto 139) := snd_goto dX1_chance_135 (by decide)
theorem oX1_chance_138 : SX1_chance 138 (i_const (.int (nI 0)) 139) := snd_iconst dX1_chance_138 (by decide)
theorem oX1_chance_139 : SX1_chance 139 (i_cvv 0 105 2 142) := snd_cvv rfl infX1_passes_2 (by decide) rfl (xVm_V dX1_chance_139 rfl q1206 q1208 qs36 q127 q1209 pdX1_passes_2)
theorem oX1_chance_142 : SX1_chance 142 (i_iinc 11 (nI 1) 145) := snd_iinc dX1_chance_142 (by decide) (by decide)
theorem oX1_chance_145 : SX1_chance 145 (i_goto 87) := snd_goto dX1_chance_145 (by decide)
theorem oX1_chance_148 : SX1_chance 148 (i_aload 0 149) := snd_aload_n dX1_chance_148 rfl
theorem oX1_chance_149 : SX1_chance 149 (i_getf 0 5 152) := snd_getf dX1_chance_149 rfl (by decide) in_X1 (Or.inl q351) (Or.inl rfl) (by decide)
theorem oX1_chance_152 : SX1_chance 152 (i_iload 1 153) := snd_iload_n dX1_chance_152 rfl
theorem oX1_chance_153 : SX1_chance 153 (i_cv 3 238 1 156) := snd_cv rfl infX4_sticks (by decide) rfl (xVm_V dX1_chance_153 rfl q1167 q1168 q1169 q133 q1170 pdX4_sticks)
theorem oX1_chance_156 : SX1_chance 156 (i_if1 (fun x => x = 0) 166 159) := snd_if_eq dX1_chance_156 (by decide)
theorem oX1_chance_159 : SX1_chance 159 (i_lload 4 161) := snd_lload dX1_chance_159
theorem oX1_chance_161 : SX1_chance 161 (i_lload 9 163) := snd_lload dX1_chance_161
theorem oX1_chance_163 : SX1_chance 163 (i_ll (fun x y => x + y) 164) := snd_ladd dX1_chance_163
theorem oX1_chance_164 : SX1_chance 164 (i_lstore 4 166) := snd_lstore dX1_chance_164 (by decide)
theorem oX1_chance_166 : SX1_chance 166 (i_iinc 8 (nI 1) 169) := snd_iinc dX1_chance_166 (by decide) (by decide)
theorem oX1_chance_169 : SX1_chance 169 (i_goto 62) := snd_goto dX1_chance_169 (by decide)
theorem oX1_chance_172 : SX1_chance 172 (i_lload 4 174) := snd_lload dX1_chance_172
theorem oX1_chance_174 : SX1_chance 174 (i_const (.long (lN 1000000)) 177) := snd_ldc2 dX1_chance_174 q1531
theorem oX1_chance_177 : SX1_chance 177 (i_ll (fun x y => x * y) 178) := snd_lmul dX1_chance_177
theorem oX1_chance_178 : SX1_chance 178 (i_lload 6 180) := snd_lload dX1_chance_178
theorem oX1_chance_180 : SX1_chance 180 (i_lz (fun x y => x / y) 181) := snd_ldiv dX1_chance_180
theorem oX1_chance_181 : SX1_chance 181 (i_l2i 182) := snd_l2i dX1_chance_181
theorem oX1_chance_182 : SX1_chance 182 (i_iret) := snd_iret dX1_chance_182 rfl
theorem okX1_chance : ∀ q ∈ cX1_chance, SX1_chance q.1 q.2 := List.forall_mem_cons.mpr ⟨oX1_chance_0, List.forall_mem_cons.mpr ⟨oX1_chance_1, List.forall_mem_cons.mpr ⟨oX1_chance_2, List.forall_mem_cons.mpr ⟨oX1_chance_5, List.forall_mem_cons.mpr ⟨oX1_chance_8, List.forall_mem_cons.mpr ⟨oX1_chance_9, List.forall_mem_cons.mpr ⟨oX1_chance_10, List.forall_mem_cons.mpr ⟨oX1_chance_12, List.forall_mem_cons.mpr ⟨oX1_chance_15, List.forall_mem_cons.mpr ⟨oX1_chance_18, List.forall_mem_cons.mpr ⟨oX1_chance_19, List.forall_mem_cons.mpr ⟨oX1_chance_20, List.forall_mem_cons.mpr ⟨oX1_chance_22, List.forall_mem_cons.mpr ⟨oX1_chance_25, List.forall_mem_cons.mpr ⟨oX1_chance_28, List.forall_mem_cons.mpr ⟨oX1_chance_29, List.forall_mem_cons.mpr ⟨oX1_chance_30, List.forall_mem_cons.mpr ⟨oX1_chance_31, List.forall_mem_cons.mpr ⟨oX1_chance_33, List.forall_mem_cons.mpr ⟨oX1_chance_34, List.forall_mem_cons.mpr ⟨oX1_chance_36, List.forall_mem_cons.mpr ⟨oX1_chance_37, List.forall_mem_cons.mpr ⟨oX1_chance_39, List.forall_mem_cons.mpr ⟨oX1_chance_41, List.forall_mem_cons.mpr ⟨oX1_chance_42, List.forall_mem_cons.mpr ⟨oX1_chance_45, List.forall_mem_cons.mpr ⟨oX1_chance_47, List.forall_mem_cons.mpr ⟨oX1_chance_50, List.forall_mem_cons.mpr ⟨oX1_chance_51, List.forall_mem_cons.mpr ⟨oX1_chance_53, List.forall_mem_cons.mpr ⟨oX1_chance_56, List.forall_mem_cons.mpr ⟨oX1_chance_59, List.forall_mem_cons.mpr ⟨oX1_chance_60, List.forall_mem_cons.mpr ⟨oX1_chance_62, List.forall_mem_cons.mpr ⟨oX1_chance_64, List.forall_mem_cons.mpr ⟨oX1_chance_65, List.forall_mem_cons.mpr ⟨oX1_chance_66, List.forall_mem_cons.mpr ⟨oX1_chance_67, List.forall_mem_cons.mpr ⟨oX1_chance_70, List.forall_mem_cons.mpr ⟨oX1_chance_71, List.forall_mem_cons.mpr ⟨oX1_chance_73, List.forall_mem_cons.mpr ⟨oX1_chance_74, List.forall_mem_cons.mpr ⟨oX1_chance_77, List.forall_mem_cons.mpr ⟨oX1_chance_78, List.forall_mem_cons.mpr ⟨oX1_chance_81, List.forall_mem_cons.mpr ⟨oX1_chance_84, List.forall_mem_cons.mpr ⟨oX1_chance_85, List.forall_mem_cons.mpr ⟨oX1_chance_87, List.forall_mem_cons.mpr ⟨oX1_chance_89, List.forall_mem_cons.mpr ⟨oX1_chance_90, List.forall_mem_cons.mpr ⟨oX1_chance_93, List.forall_mem_cons.mpr ⟨oX1_chance_95, List.forall_mem_cons.mpr ⟨oX1_chance_97, List.forall_mem_cons.mpr ⟨oX1_chance_99, List.forall_mem_cons.mpr ⟨oX1_chance_102, List.forall_mem_cons.mpr ⟨oX1_chance_105, List.forall_mem_cons.mpr ⟨oX1_chance_106, List.forall_mem_cons.mpr ⟨oX1_chance_107, List.forall_mem_cons.mpr ⟨oX1_chance_110, List.forall_mem_cons.mpr ⟨oX1_chance_112, List.forall_mem_cons.mpr ⟨oX1_chance_113, List.forall_mem_cons.mpr ⟨oX1_chance_114, List.forall_mem_cons.mpr ⟨oX1_chance_115, List.forall_mem_cons.mpr ⟨oX1_chance_116, List.forall_mem_cons.mpr ⟨oX1_chance_118, List.forall_mem_cons.mpr ⟨oX1_chance_119, List.forall_mem_cons.mpr ⟨oX1_chance_120, List.forall_mem_cons.mpr ⟨oX1_chance_123, List.forall_mem_cons.mpr ⟨oX1_chance_125, List.forall_mem_cons.mpr ⟨oX1_chance_127, List.forall_mem_cons.mpr ⟨oX1_chance_130, List.forall_mem_cons.mpr ⟨oX1_chance_133, List.forall_mem_cons.mpr ⟨oX1_chance_135, List.forall_mem_cons.mpr ⟨oX1_chance_138, List.forall_mem_cons.mpr ⟨oX1_chance_139, List.forall_mem_cons.mpr ⟨oX1_chance_142, List.forall_mem_cons.mpr ⟨oX1_chance_145, List.forall_mem_cons.mpr ⟨oX1_chance_148, List.forall_mem_cons.mpr ⟨oX1_chance_149, List.forall_mem_cons.mpr ⟨oX1_chance_152, List.forall_mem_cons.mpr ⟨oX1_chance_153, List.forall_mem_cons.mpr ⟨oX1_chance_156, List.forall_mem_cons.mpr ⟨oX1_chance_159, List.forall_mem_cons.mpr ⟨oX1_chance_161, List.forall_mem_cons.mpr ⟨oX1_chance_163, List.forall_mem_cons.mpr ⟨oX1_chance_164, List.forall_mem_cons.mpr ⟨oX1_chance_166, List.forall_mem_cons.mpr ⟨oX1_chance_169, List.forall_mem_cons.mpr ⟨oX1_chance_172, List.forall_mem_cons.mpr ⟨oX1_chance_174, List.forall_mem_cons.mpr ⟨oX1_chance_177, List.forall_mem_cons.mpr ⟨oX1_chance_178, List.forall_mem_cons.mpr ⟨oX1_chance_180, List.forall_mem_cons.mpr ⟨oX1_chance_181, List.forall_mem_cons.mpr ⟨oX1_chance_182, fun _ h => absurd h List.not_mem_nil⟩⟩⟩⟩⟩⟩⟩⟩⟩⟩⟩⟩⟩⟩⟩⟩⟩⟩⟩⟩⟩⟩⟩⟩⟩⟩⟩⟩⟩⟩⟩⟩⟩⟩⟩⟩⟩⟩⟩⟩⟩⟩⟩⟩⟩⟩⟩⟩⟩⟩⟩⟩⟩⟩⟩⟩⟩⟩⟩⟩⟩⟩⟩⟩⟩⟩⟩⟩⟩⟩⟩⟩⟩⟩⟩⟩⟩⟩⟩⟩⟩⟩⟩⟩⟩⟩⟩⟩⟩⟩⟩⟩⟩⟩⟩
def dkwX1_years_5 : List UInt8 := [182, 0, 222, 184, 1, 25, 167, 0, 13, 42, 180, 0, 55, 180, 0, 176, 184, 1, 103, 172]
abbrev dktX1_years_5 : List UInt8 := dkwX1_years_5 ++ []
def dkwX1_years_4 : List UInt8 := [167, 255, 218, 29, 154, 0, 8, 21, 4, 167, 0, 32, 29, 4, 160, 0, 17, 42, 42, 180, 0, 55]
abbrev dktX1_years_4 : List UInt8 := dkwX1_years_4 ++ dktX1_years_5
def dkwX1_years_3 : List UInt8 := [180, 0, 55, 182, 1, 100, 153, 0, 6, 132, 4, 1, 42, 42, 180, 0, 55, 182, 0, 216, 132, 5, 1]
abbrev dktX1_years_3 : List UInt8 := dkwX1_years_3 ++ dktX1_years_4
def dkwX1_years_2 : List UInt8 := [180, 0, 51, 182, 0, 253, 3, 54, 5, 21, 5, 28, 162, 0, 38, 42, 182, 0, 159, 158, 0, 17, 42, 42]
abbrev dktX1_years_2 : List UInt8 := dkwX1_years_2 ++ dktX1_years_3
def dkwX1_years_1 : List UInt8 := [184, 0, 155, 154, 0, 5, 2, 172, 42, 27, 133, 181, 1, 85, 3, 54, 4, 42, 180, 0, 55, 42]
abbrev dktX1_years_1 : List UInt8 := dkwX1_years_1 ++ dktX1_years_2
def dkwX1_years_0 : List UInt8 := [27, 3, 17, 39, 15, 184, 0, 155, 153, 0, 22, 28, 4, 16, 99, 184, 0, 155, 153, 0, 12, 29, 3, 5]
abbrev dktX1_years_0 : List UInt8 := dkwX1_years_0 ++ dktX1_years_1
theorem dksX1_years_0 : bcX1_years.data.toList.drop 0 = dktX1_years_0 := by decide +kernel
theorem dksX1_years_1 : bcX1_years.data.toList.drop 24 = dktX1_years_1 := dk_seg dksX1_years_0 24 rfl rfl
theorem dksX1_years_2 : bcX1_years.data.toList.drop 46 = dktX1_years_2 := dk_seg dksX1_years_1 22 rfl rfl
theorem dksX1_years_3 : bcX1_years.data.toList.drop 70 = dktX1_years_3 := dk_seg dksX1_years_2 24 rfl rfl
theorem dksX1_years_4 : bcX1_years.data.toList.drop 93 = dktX1_years_4 := dk_seg dksX1_years_3 23 rfl rfl
theorem dksX1_years_5 : bcX1_years.data.toList.drop 115 = dktX1_years_5 := dk_seg dksX1_years_4 22 rfl rfl
theorem dX1_years_0 : decode bcX1_years 0 = .ok (.iload_n 1, 1) := dk_27 (dk_at dksX1_years_0 0 rfl rfl)
theorem dX1_years_1 : decode bcX1_years 1 = .ok (.iconst 0, 1) := dk_3 (dk_at dksX1_years_0 1 rfl rfl)
theorem dX1_years_2 : decode bcX1_years 2 = .ok (.sipush 9999, 3) := dk_17 39 15 (dk_at dksX1_years_0 2 rfl rfl)
theorem dX1_years_5 : decode bcX1_years 5 = .ok (.invokestatic 155, 3) := dk_184 0 155 (dk_at dksX1_years_0 5 rfl rfl)
theorem dX1_years_8 : decode bcX1_years 8 = .ok (.ifCond .eq 22, 3) := dk_153 0 22 (dk_at dksX1_years_0 8 rfl rfl)
theorem dX1_years_11 : decode bcX1_years 11 = .ok (.iload_n 2, 1) := dk_28 (dk_at dksX1_years_0 11 rfl rfl)
theorem dX1_years_12 : decode bcX1_years 12 = .ok (.iconst 1, 1) := dk_4 (dk_at dksX1_years_0 12 rfl rfl)
theorem dX1_years_13 : decode bcX1_years 13 = .ok (.bipush 99, 2) := dk_16 99 (dk_at dksX1_years_0 13 rfl rfl)
theorem dX1_years_15 : decode bcX1_years 15 = .ok (.invokestatic 155, 3) := dk_184 0 155 (dk_at dksX1_years_0 15 rfl rfl)
theorem dX1_years_18 : decode bcX1_years 18 = .ok (.ifCond .eq 12, 3) := dk_153 0 12 (dk_at dksX1_years_0 18 rfl rfl)
theorem dX1_years_21 : decode bcX1_years 21 = .ok (.iload_n 3, 1) := dk_29 (dk_at dksX1_years_0 21 rfl rfl)
theorem dX1_years_22 : decode bcX1_years 22 = .ok (.iconst 0, 1) := dk_3 (dk_at dksX1_years_0 22 rfl rfl)
theorem dX1_years_23 : decode bcX1_years 23 = .ok (.iconst 2, 1) := dk_5 (dk_at dksX1_years_0 23 rfl rfl)
theorem dX1_years_24 : decode bcX1_years 24 = .ok (.invokestatic 155, 3) := dk_184 0 155 (dk_at dksX1_years_1 0 rfl rfl)
theorem dX1_years_27 : decode bcX1_years 27 = .ok (.ifCond .ne 5, 3) := dk_154 0 5 (dk_at dksX1_years_1 3 rfl rfl)
theorem dX1_years_30 : decode bcX1_years 30 = .ok (.iconst (-1), 1) := dk_2 (dk_at dksX1_years_1 6 rfl rfl)
theorem dX1_years_31 : decode bcX1_years 31 = .ok (.ireturn, 1) := dk_172 (dk_at dksX1_years_1 7 rfl rfl)
theorem dX1_years_32 : decode bcX1_years 32 = .ok (.aload_n 0, 1) := dk_42 (dk_at dksX1_years_1 8 rfl rfl)
theorem dX1_years_33 : decode bcX1_years 33 = .ok (.iload_n 1, 1) := dk_27 (dk_at dksX1_years_1 9 rfl rfl)
theorem dX1_years_34 : decode bcX1_years 34 = .ok (.i2l, 1) := dk_133 (dk_at dksX1_years_1 10 rfl rfl)
theorem dX1_years_35 : decode bcX1_years 35 = .ok (.putfield 341, 3) := dk_181 1 85 (dk_at dksX1_years_1 11 rfl rfl)
theorem dX1_years_38 : decode bcX1_years 38 = .ok (.iconst 0, 1) := dk_3 (dk_at dksX1_years_1 14 rfl rfl)
theorem dX1_years_39 : decode bcX1_years 39 = .ok (.istore 4, 2) := dk_54 4 (dk_at dksX1_years_1 15 rfl rfl)
theorem dX1_years_41 : decode bcX1_years 41 = .ok (.aload_n 0, 1) := dk_42 (dk_at dksX1_years_1 17 rfl rfl)
theorem dX1_years_42 : decode bcX1_years 42 = .ok (.getfield 55, 3) := dk_180 0 55 (dk_at dksX1_years_1 18 rfl rfl)
theorem dX1_years_45 : decode bcX1_years 45 = .ok (.aload_n 0, 1) := dk_42 (dk_at dksX1_years_1 21 rfl rfl)
theorem dX1_years_46 : decode bcX1_years 46 = .ok (.getfield 51, 3) := dk_180 0 51 (dk_at dksX1_years_2 0 rfl rfl)
theorem dX1_years_49 : decode bcX1_years 49 = .ok (.invokevirtual 253, 3) := dk_182 0 253 (dk_at dksX1_years_2 3 rfl rfl)
theorem dX1_years_52 : decode bcX1_years 52 = .ok (.iconst 0, 1) := dk_3 (dk_at dksX1_years_2 6 rfl rfl)
theorem dX1_years_53 : decode bcX1_years 53 = .ok (.istore 5, 2) := dk_54 5 (dk_at dksX1_years_2 7 rfl rfl)
theorem dX1_years_55 : decode bcX1_years 55 = .ok (.iload 5, 2) := dk_21 5 (dk_at dksX1_years_2 9 rfl rfl)
theorem dX1_years_57 : decode bcX1_years 57 = .ok (.iload_n 2, 1) := dk_28 (dk_at dksX1_years_2 11 rfl rfl)
theorem dX1_years_58 : decode bcX1_years 58 = .ok (.if_icmp .ge 38, 3) := dk_162 0 38 (dk_at dksX1_years_2 12 rfl rfl)
theorem dX1_years_61 : decode bcX1_years 61 = .ok (.aload_n 0, 1) := dk_42 (dk_at dksX1_years_2 15 rfl rfl)
theorem dX1_years_62 : decode bcX1_years 62 = .ok (.invokevirtual 159, 3) := dk_182 0 159 (dk_at dksX1_years_2 16 rfl rfl)
theorem dX1_years_65 : decode bcX1_years 65 = .ok (.ifCond .le 17, 3) := dk_158 0 17 (dk_at dksX1_years_2 19 rfl rfl)
theorem dX1_years_68 : decode bcX1_years 68 = .ok (.aload_n 0, 1) := dk_42 (dk_at dksX1_years_2 22 rfl rfl)
theorem dX1_years_69 : decode bcX1_years 69 = .ok (.aload_n 0, 1) := dk_42 (dk_at dksX1_years_2 23 rfl rfl)
theorem dX1_years_70 : decode bcX1_years 70 = .ok (.getfield 55, 3) := dk_180 0 55 (dk_at dksX1_years_3 0 rfl rfl)
theorem dX1_years_73 : decode bcX1_years 73 = .ok (.invokevirtual 356, 3) := dk_182 1 100 (dk_at dksX1_years_3 3 rfl rfl)
theorem dX1_years_76 : decode bcX1_years 76 = .ok (.ifCond .eq 6, 3) := dk_153 0 6 (dk_at dksX1_years_3 6 rfl rfl)
theorem dX1_years_79 : decode bcX1_years 79 = .ok (.iinc 4 1, 3) := dk_132 4 1 (dk_at dksX1_years_3 9 rfl rfl)
theorem dX1_years_82 : decode bcX1_years 82 = .ok (.aload_n 0, 1) := dk_42 (dk_at dksX1_years_3 12 rfl rfl)
theorem dX1_years_83 : decode bcX1_years 83 = .ok (.aload_n 0, 1) := dk_42 (dk_at dksX1_years_3 13 rfl rfl)
theorem dX1_years_84 : decode bcX1_years 84 = .ok (.getfield 55, 3) := dk_180 0 55 (dk_at dksX1_years_3 14 rfl rfl)
theorem dX1_years_87 : decode bcX1_years 87 = .ok (.invokevirtual 216, 3) := dk_182 0 216 (dk_at dksX1_years_3 17 rfl rfl)
theorem dX1_years_90 : decode bcX1_years 90 = .ok (.iinc 5 1, 3) := dk_132 5 1 (dk_at dksX1_years_3 20 rfl rfl)
theorem dX1_years_93 : decode bcX1_years 93 = .ok (.goto (-38), 3) := dk_167 255 218 (dk_at dksX1_years_4 0 rfl rfl)
theorem dX1_years_96 : decode bcX1_years 96 = .ok (.iload_n 3, 1) := dk_29 (dk_at dksX1_years_4 3 rfl rfl)
theorem dX1_years_97 : decode bcX1_years 97 = .ok (.ifCond .ne 8, 3) := dk_154 0 8 (dk_at dksX1_years_4 4 rfl rfl)
theorem dX1_years_100 : decode bcX1_years 100 = .ok (.iload 4, 2) := dk_21 4 (dk_at dksX1_years_4 7 rfl rfl)
theorem dX1_years_102 : decode bcX1_years 102 = .ok (.goto 32, 3) := dk_167 0 32 (dk_at dksX1_years_4 9 rfl rfl)
theorem dX1_years_105 : decode bcX1_years 105 = .ok (.iload_n 3, 1) := dk_29 (dk_at dksX1_years_4 12 rfl rfl)
theorem dX1_years_106 : decode bcX1_years 106 = .ok (.iconst 1, 1) := dk_4 (dk_at dksX1_years_4 13 rfl rfl)
theorem dX1_years_107 : decode bcX1_years 107 = .ok (.if_icmp .ne 17, 3) := dk_160 0 17 (dk_at dksX1_years_4 14 rfl rfl)
theorem dX1_years_110 : decode bcX1_years 110 = .ok (.aload_n 0, 1) := dk_42 (dk_at dksX1_years_4 17 rfl rfl)
theorem dX1_years_111 : decode bcX1_years 111 = .ok (.aload_n 0, 1) := dk_42 (dk_at dksX1_years_4 18 rfl rfl)
theorem dX1_years_112 : decode bcX1_years 112 = .ok (.getfield 55, 3) := dk_180 0 55 (dk_at dksX1_years_4 19 rfl rfl)
theorem dX1_years_115 : decode bcX1_years 115 = .ok (.invokevirtual 222, 3) := dk_182 0 222 (dk_at dksX1_years_5 0 rfl rfl)
theorem dX1_years_118 : decode bcX1_years 118 = .ok (.invokestatic 281, 3) := dk_184 1 25 (dk_at dksX1_years_5 3 rfl rfl)
theorem dX1_years_121 : decode bcX1_years 121 = .ok (.goto 13, 3) := dk_167 0 13 (dk_at dksX1_years_5 6 rfl rfl)
theorem dX1_years_124 : decode bcX1_years 124 = .ok (.aload_n 0, 1) := dk_42 (dk_at dksX1_years_5 9 rfl rfl)
theorem dX1_years_125 : decode bcX1_years 125 = .ok (.getfield 55, 3) := dk_180 0 55 (dk_at dksX1_years_5 10 rfl rfl)
theorem dX1_years_128 : decode bcX1_years 128 = .ok (.getfield 176, 3) := dk_180 0 176 (dk_at dksX1_years_5 13 rfl rfl)
theorem dX1_years_131 : decode bcX1_years 131 = .ok (.invokestatic 359, 3) := dk_184 1 103 (dk_at dksX1_years_5 16 rfl rfl)
theorem dX1_years_134 : decode bcX1_years 134 = .ok (.ireturn, 1) := dk_172 (dk_at dksX1_years_5 19 rfl rfl)
abbrev SX1_years (pc : Nat) (i : xI) : Prop := Snd "SwollenHouse" "years" prog_1_method_77_code 6 (Option.some Jvm.ClassFile.FieldType.int) [] pc i
theorem oX1_years_0 : SX1_years 0 (i_iload 1 1) := snd_iload_n dX1_years_0 rfl
theorem oX1_years_1 : SX1_years 1 (i_const (.int (nI 0)) 2) := snd_iconst dX1_years_1 (by decide)
theorem oX1_years_2 : SX1_years 2 (i_const (.int (nI 9999)) 5) := snd_sipush dX1_years_2 (by decide)
theorem oX1_years_5 : SX1_years 5 (i_cs 92 3 8) := snd_cs rfl infX1_in (by decide) (xSm_S dX1_years_5 q1145 q982 q127 q983 pdX1_in)
theorem oX1_years_8 : SX1_years 8 (i_if1 (fun x => x = 0) 30 11) := snd_if_eq dX1_years_8 (by decide)
theorem oX1_years_11 : SX1_years 11 (i_iload 2 12) := snd_iload_n dX1_years_11 rfl
theorem oX1_years_12 : SX1_years 12 (i_const (.int (nI 1)) 13) := snd_iconst dX1_years_12 (by decide)
theorem oX1_years_13 : SX1_years 13 (i_const (.int (nI 99)) 15) := snd_bipush dX1_years_13 (by decide)
theorem oX1_years_15 : SX1_years 15 (i_cs 92 3 18) := snd_cs rfl infX1_in (by decide) (xSm_S dX1_years_15 q1145 q982 q127 q983 pdX1_in)
theorem oX1_years_18 : SX1_years 18 (i_if1 (fun x => x = 0) 30 21) := snd_if_eq dX1_years_18 (by decide)
theorem oX1_years_21 : SX1_years 21 (i_iload 3 22) := snd_iload_n dX1_years_21 rfl
theorem oX1_years_22 : SX1_years 22 (i_const (.int (nI 0)) 23) := snd_iconst dX1_years_22 (by decide)
theorem oX1_years_23 : SX1_years 23 (i_const (.int (nI 2)) 24) := snd_iconst dX1_years_23 (by decide)
theorem oX1_years_24 : SX1_years 24 (i_cs 92 3 27) := snd_cs rfl infX1_in (by decide) (xSm_S dX1_years_24 q1145 q982 q127 q983 pdX1_in)
theorem oX1_years_27 : SX1_years 27 (i_if1 (fun x => ¬ x = 0) 32 30) := snd_if_ne dX1_years_27 (by decide)
theorem oX1_years_30 : SX1_years 30 (i_const (.int (-1)) 31) := snd_iconst dX1_years_30 (by decide)
theorem oX1_years_31 : SX1_years 31 (i_iret) := snd_iret dX1_years_31 rfl
theorem oX1_years_32 : SX1_years 32 (i_aload 0 33) := snd_aload_n dX1_years_32 rfl
theorem oX1_years_33 : SX1_years 33 (i_iload 1 34) := snd_iload_n dX1_years_33 rfl
theorem oX1_years_34 : SX1_years 34 (i_i2l 35) := snd_i2l dX1_years_34
theorem oX1_years_35 : SX1_years 35 (i_putfl 0 20 38) := snd_putfl dX1_years_35 rfl (by decide) in_X1 tyX1 tyX1_ok nmX1 (Or.inl ⟨rfl, q366⟩) (Or.inl rfl) rfl
theorem oX1_years_38 : SX1_years 38 (i_const (.int (nI 0)) 39) := snd_iconst dX1_years_38 (by decide)
theorem oX1_years_39 : SX1_years 39 (i_istore 4 41) := snd_istore dX1_years_39 (by decide)
theorem oX1_years_41 : SX1_years 41 (i_aload 0 42) := snd_aload_n dX1_years_41 rfl
theorem oX1_years_42 : SX1_years 42 (i_getf 0 5 45) := snd_getf dX1_years_42 rfl (by decide) in_X1 (Or.inl q351) (Or.inl rfl) (by decide)
theorem oX1_years_45 : SX1_years 45 (i_aload 0 46) := snd_aload_n dX1_years_45 rfl
theorem oX1_years_46 : SX1_years 46 (i_getf 0 4 49) := snd_getf dX1_years_46 rfl (by decide) in_X1 (Or.inl q350) (Or.inl rfl) (by decide)
theorem oX1_years_49 : SX1_years 49 (i_cvv 3 239 1 52) := snd_cvv rfl infX4_be (by decide) rfl (xVm_V dX1_years_49 rfl q1194 q1195 q1196 q133 q1197 pdX4_be)
theorem oX1_years_52 : SX1_years 52 (i_const (.int (nI 0)) 53) := snd_iconst dX1_years_52 (by decide)
theorem oX1_years_53 : SX1_years 53 (i_istore 5 55) := snd_istore dX1_years_53 (by decide)
theorem oX1_years_55 : SX1_years 55 (i_iload 5 57) := snd_iload dX1_years_55
theorem oX1_years_57 : SX1_years 57 (i_iload 2 58) := snd_iload_n dX1_years_57 rfl
theorem oX1_years_58 : SX1_years 58 (i_if2 (fun x y => y ≤ x) 96 61) := snd_icmp_ge dX1_years_58 (by decide)
theorem oX1_years_61 : SX1_years 61 (i_aload 0 62) := snd_aload_n dX1_years_61 rfl
theorem oX1_years_62 : SX1_years 62 (i_cv 0 96 0 65) := snd_cv rfl infX1_doors (by decide) rfl (xVm_V dX1_years_62 rfl q1140 q1142 qs30 q127 q1143 pdX1_doors)
theorem oX1_years_65 : SX1_years 65 (i_if1 (fun x => x ≤ 0) 82 68) := snd_if_le dX1_years_65 (by decide)
theorem oX1_years_68 : SX1_years 68 (i_aload 0 69) := snd_aload_n dX1_years_68 rfl
theorem oX1_years_69 : SX1_years 69 (i_aload 0 70) := snd_aload_n dX1_years_69 rfl
theorem oX1_years_70 : SX1_years 70 (i_getf 0 5 73) := snd_getf dX1_years_70 rfl (by decide) in_X1 (Or.inl q351) (Or.inl rfl) (by decide)
theorem oX1_years_73 : SX1_years 73 (i_cv 0 158 1 76) := snd_cv rfl infX1_befalls (by decide) rfl (xVm_V dX1_years_73 rfl q1536 q1538 qs54 q127 q1539 pdX1_befalls)
theorem oX1_years_76 : SX1_years 76 (i_if1 (fun x => x = 0) 82 79) := snd_if_eq dX1_years_76 (by decide)
theorem oX1_years_79 : SX1_years 79 (i_iinc 4 (nI 1) 82) := snd_iinc dX1_years_79 (by decide) (by decide)
theorem oX1_years_82 : SX1_years 82 (i_aload 0 83) := snd_aload_n dX1_years_82 rfl
theorem oX1_years_83 : SX1_years 83 (i_aload 0 84) := snd_aload_n dX1_years_83 rfl
theorem oX1_years_84 : SX1_years 84 (i_getf 0 5 87) := snd_getf dX1_years_84 rfl (by decide) in_X1 (Or.inl q351) (Or.inl rfl) (by decide)
theorem oX1_years_87 : SX1_years 87 (i_cvv 0 104 1 90) := snd_cvv rfl infX1_passes (by decide) rfl (xVm_V dX1_years_87 rfl q1198 q1200 qs35 q127 q1201 pdX1_passes)
theorem oX1_years_90 : SX1_years 90 (i_iinc 5 (nI 1) 93) := snd_iinc dX1_years_90 (by decide) (by decide)
theorem oX1_years_93 : SX1_years 93 (i_goto 55) := snd_goto dX1_years_93 (by decide)
theorem oX1_years_96 : SX1_years 96 (i_iload 3 97) := snd_iload_n dX1_years_96 rfl
theorem oX1_years_97 : SX1_years 97 (i_if1 (fun x => ¬ x = 0) 105 100) := snd_if_ne dX1_years_97 (by decide)
theorem oX1_years_100 : SX1_years 100 (i_iload 4 102) := snd_iload dX1_years_100
theorem oX1_years_102 : SX1_years 102 (i_goto 134) := snd_goto dX1_years_102 (by decide)
theorem oX1_years_105 : SX1_years 105 (i_iload 3 106) := snd_iload_n dX1_years_105 rfl
theorem oX1_years_106 : SX1_years 106 (i_const (.int (nI 1)) 107) := snd_iconst dX1_years_106 (by decide)
theorem oX1_years_107 : SX1_years 107 (i_if2 (fun x y => ¬ x = y) 124 110) := snd_icmp_ne dX1_years_107 (by decide)
theorem oX1_years_110 : SX1_years 110 (i_aload 0 111) := snd_aload_n dX1_years_110 rfl
theorem oX1_years_111 : SX1_years 111 (i_aload 0 112) := snd_aload_n dX1_years_111 rfl
theorem oX1_years_112 : SX1_years 112 (i_getf 0 5 115) := snd_getf dX1_years_112 rfl (by decide) in_X1 (Or.inl q351) (Or.inl rfl) (by decide)
theorem oX1_years_115 : SX1_years 115 (i_cv 0 108 1 118) := snd_cv rfl infX1_sticking (by decide) rfl (xVm_V dX1_years_115 rfl q1281 q1283 qs38 q127 q1284 pdX1_sticking)
theorem oX1_years_118 : SX1_years 118 (i_cs 28 1 121) := snd_cs rfl infJ17_bitCount (by decide) (xSm_S dX1_years_118 q1363 q1364 q168 q1365 pdJ17_bitCount)
theorem oX1_years_121 : SX1_years 121 (i_goto 134) := snd_goto dX1_years_121 (by decide)
theorem oX1_years_124 : SX1_years 124 (i_aload 0 125) := snd_aload_n dX1_years_124 rfl
theorem oX1_years_125 : SX1_years 125 (i_getf 0 5 128) := snd_getf dX1_years_125 rfl (by decide) in_X1 (Or.inl q351) (Or.inl rfl) (by decide)
theorem oX1_years_128 : SX1_years 128 (i_getf 3 0 131) := snd_getf dX1_years_128 rfl (by decide) in_X4 (Or.inr ⟨_, q290⟩) (Or.inl rfl) (by decide)
theorem oX1_years_131 : SX1_years 131 (i_cs 160 1 134) := snd_cs rfl infX1_sum (by decide) (xSm_S dX1_years_131 q1548 q1549 q127 q1550 pdX1_sum)
theorem oX1_years_134 : SX1_years 134 (i_iret) := snd_iret dX1_years_134 rfl
theorem okX1_years : ∀ q ∈ cX1_years, SX1_years q.1 q.2 := List.forall_mem_cons.mpr ⟨oX1_years_0, List.forall_mem_cons.mpr ⟨oX1_years_1, List.forall_mem_cons.mpr ⟨oX1_years_2, List.forall_mem_cons.mpr ⟨oX1_years_5, List.forall_mem_cons.mpr ⟨oX1_years_8, List.forall_mem_cons.mpr ⟨oX1_years_11, List.forall_mem_cons.mpr ⟨oX1_years_12, List.forall_mem_cons.mpr ⟨oX1_years_13, List.forall_mem_cons.mpr ⟨oX1_years_15, List.forall_mem_cons.mpr ⟨oX1_years_18, List.forall_mem_cons.mpr ⟨oX1_years_21, List.forall_mem_cons.mpr ⟨oX1_years_22, List.forall_mem_cons.mpr ⟨oX1_years_23, List.forall_mem_cons.mpr ⟨oX1_years_24, List.forall_mem_cons.mpr ⟨oX1_years_27, List.forall_mem_cons.mpr ⟨oX1_years_30, List.forall_mem_cons.mpr ⟨oX1_years_31, List.forall_mem_cons.mpr ⟨oX1_years_32, List.forall_mem_cons.mpr ⟨oX1_years_33, List.forall_mem_cons.mpr ⟨oX1_years_34, List.forall_mem_cons.mpr ⟨oX1_years_35, List.forall_mem_cons.mpr ⟨oX1_years_38, List.forall_mem_cons.mpr ⟨oX1_years_39, List.forall_mem_cons.mpr ⟨oX1_years_41, List.forall_mem_cons.mpr ⟨oX1_years_42, List.forall_mem_cons.mpr ⟨oX1_years_45, List.forall_mem_cons.mpr ⟨oX1_years_46, List.forall_mem_cons.mpr ⟨oX1_years_49, List.forall_mem_cons.mpr ⟨oX1_years_52, List.forall_mem_cons.mpr ⟨oX1_years_53, List.forall_mem_cons.mpr ⟨oX1_years_55, List.forall_mem_cons.mpr ⟨oX1_years_57, List.forall_mem_cons.mpr ⟨oX1_years_58, List.forall_mem_cons.mpr ⟨oX1_years_61, List.forall_mem_cons.mpr ⟨oX1_years_62, List.forall_mem_cons.mpr ⟨oX1_years_65, List.forall_mem_cons.mpr ⟨oX1_years_68, List.forall_mem_cons.mpr ⟨oX1_years_69, List.forall_mem_cons.mpr ⟨oX1_years_70, List.forall_mem_cons.mpr ⟨oX1_years_73, List.forall_mem_cons.mpr ⟨oX1_years_76, List.forall_mem_cons.mpr ⟨oX1_years_79, List.forall_mem_cons.mpr ⟨oX1_years_82, List.forall_mem_cons.mpr ⟨oX1_years_83, List.forall_mem_cons.mpr ⟨oX1_years_84, List.forall_mem_cons.mpr ⟨oX1_years_87, List.forall_mem_cons.mpr ⟨oX1_years_90, List.forall_mem_cons.mpr ⟨oX1_years_93, List.forall_mem_cons.mpr ⟨oX1_years_96, List.forall_mem_cons.mpr ⟨oX1_years_97, List.forall_mem_cons.mpr ⟨oX1_years_100, List.forall_mem_cons.mpr ⟨oX1_years_102, List.forall_mem_cons.mpr ⟨oX1_years_105, List.forall_mem_cons.mpr ⟨oX1_years_106, List.forall_mem_cons.mpr ⟨oX1_years_107, List.forall_mem_cons.mpr ⟨oX1_years_110, List.forall_mem_cons.mpr ⟨oX1_years_111, List.forall_mem_cons.mpr ⟨oX1_years_112, List.forall_mem_cons.mpr ⟨oX1_years_115, List.forall_mem_cons.mpr ⟨oX1_years_118, List.forall_mem_cons.mpr ⟨oX1_years_121, List.forall_mem_cons.mpr ⟨oX1_years_124, List.forall_mem_cons.mpr ⟨oX1_years_125, List.forall_mem_cons.mpr ⟨oX1_years_128, List.forall_mem_cons.mpr ⟨oX1_years_131, List.forall_mem_cons.mpr ⟨oX1_years_134, fun _ h => absurd h List.not_mem_nil⟩⟩⟩⟩⟩⟩⟩⟩⟩⟩⟩⟩⟩⟩⟩⟩⟩⟩⟩⟩⟩⟩⟩⟩⟩⟩⟩⟩⟩⟩⟩⟩⟩⟩⟩⟩⟩⟩⟩⟩⟩⟩⟩⟩⟩⟩⟩⟩⟩⟩⟩⟩⟩⟩⟩⟩⟩⟩⟩⟩⟩⟩⟩⟩⟩⟩
def dkwX1_befalls_5 : List UInt8 := [153, 0, 7, 4, 167, 0, 4, 3, 172]
abbrev dktX1_befalls_5 : List UInt8 := dkwX1_befalls_5 ++ []
def dkwX1_befalls_4 : List UInt8 := [21, 4, 43, 180, 0, 176, 21, 4, 46, 79, 28, 4, 160, 0, 18, 42, 43, 29, 21, 4, 182, 1, 3]
abbrev dktX1_befalls_4 : List UInt8 := dkwX1_befalls_4 ++ dktX1_befalls_5
def dkwX1_befalls_3 : List UInt8 := [92, 46, 4, 96, 79, 28, 5, 160, 0, 26, 43, 21, 4, 182, 1, 13, 153, 0, 17, 43, 180, 0, 195]
abbrev dktX1_befalls_3 : List UInt8 := dkwX1_befalls_3 ++ dktX1_befalls_4
def dkwX1_befalls_2 : List UInt8 := [182, 1, 97, 54, 4, 28, 154, 0, 23, 43, 21, 4, 182, 1, 7, 153, 0, 14, 43, 180, 0, 195, 21, 4]
abbrev dktX1_befalls_2 : List UInt8 := dkwX1_befalls_2 ++ dktX1_befalls_3
def dkwX1_befalls_1 : List UInt8 := [172, 28, 4, 160, 0, 14, 42, 42, 182, 0, 161, 182, 1, 97, 167, 0, 4, 2, 62, 42, 42, 182, 0, 159]
abbrev dktX1_befalls_1 : List UInt8 := dkwX1_befalls_1 ++ dktX1_befalls_2
def dkwX1_befalls_0 : List UInt8 := [42, 8, 182, 1, 97, 61, 28, 5, 163, 0, 15, 28, 4, 160, 0, 12, 42, 182, 0, 161, 154, 0, 5, 3]
abbrev dktX1_befalls_0 : List UInt8 := dkwX1_befalls_0 ++ dktX1_befalls_1
theorem dksX1_befalls_0 : bcX1_befalls.data.toList.drop 0 = dktX1_befalls_0 := by decide +kernel
theorem dksX1_befalls_1 : bcX1_befalls.data.toList.drop 24 = dktX1_befalls_1 := dk_seg dksX1_befalls_0 24 rfl rfl
theorem dksX1_befalls_2 : bcX1_befalls.data.toList.drop 48 = dktX1_befalls_2 := dk_seg dksX1_befalls_1 24 rfl rfl
theorem dksX1_befalls_3 : bcX1_befalls.data.toList.drop 72 = dktX1_befalls_3 := dk_seg dksX1_befalls_2 24 rfl rfl
theorem dksX1_befalls_4 : bcX1_befalls.data.toList.drop 95 = dktX1_befalls_4 := dk_seg dksX1_befalls_3 23 rfl rfl
theorem dksX1_befalls_5 : bcX1_befalls.data.toList.drop 118 = dktX1_befalls_5 := dk_seg dksX1_befalls_4 23 rfl rfl
theorem dX1_befalls_0 : decode bcX1_befalls 0 = .ok (.aload_n 0, 1) := dk_42 (dk_at dksX1_befalls_0 0 rfl rfl)
theorem dX1_befalls_1 : decode bcX1_befalls 1 = .ok (.iconst 5, 1) := dk_8 (dk_at dksX1_befalls_0 1 rfl rfl)
theorem dX1_befalls_2 : decode bcX1_befalls 2 = .ok (.invokevirtual 353, 3) := dk_182 1 97 (dk_at dksX1_befalls_0 2 rfl rfl)
theorem dX1_befalls_5 : decode bcX1_befalls 5 = .ok (.istore_n 2, 1) := dk_61 (dk_at dksX1_befalls_0 5 rfl rfl)
theorem dX1_befalls_6 : decode bcX1_befalls 6 = .ok (.iload_n 2, 1) := dk_28 (dk_at dksX1_befalls_0 6 rfl rfl)
theorem dX1_befalls_7 : decode bcX1_befalls 7 = .ok (.iconst 2, 1) := dk_5 (dk_at dksX1_befalls_0 7 rfl rfl)
theorem dX1_befalls_8 : decode bcX1_befalls 8 = .ok (.if_icmp .gt 15, 3) := dk_163 0 15 (dk_at dksX1_befalls_0 8 rfl rfl)
theorem dX1_befalls_11 : decode bcX1_befalls 11 = .ok (.iload_n 2, 1) := dk_28 (dk_at dksX1_befalls_0 11 rfl rfl)
theorem dX1_befalls_12 : decode bcX1_befalls 12 = .ok (.iconst 1, 1) := dk_4 (dk_at dksX1_befalls_0 12 rfl rfl)
theorem dX1_befalls_13 : decode bcX1_befalls 13 = .ok (.if_icmp .ne 12, 3) := dk_160 0 12 (dk_at dksX1_befalls_0 13 rfl rfl)
theorem dX1_befalls_16 : decode bcX1_befalls 16 = .ok (.aload_n 0, 1) := dk_42 (dk_at dksX1_befalls_0 16 rfl rfl)
theorem dX1_befalls_17 : decode bcX1_befalls 17 = .ok (.invokevirtual 161, 3) := dk_182 0 161 (dk_at dksX1_befalls_0 17 rfl rfl)
theorem dX1_befalls_20 : decode bcX1_befalls 20 = .ok (.ifCond .ne 5, 3) := dk_154 0 5 (dk_at dksX1_befalls_0 20 rfl rfl)
theorem dX1_befalls_23 : decode bcX1_befalls 23 = .ok (.iconst 0, 1) := dk_3 (dk_at dksX1_befalls_0 23 rfl rfl)
theorem dX1_befalls_24 : decode bcX1_befalls 24 = .ok (.ireturn, 1) := dk_172 (dk_at dksX1_befalls_1 0 rfl rfl)
theorem dX1_befalls_25 : decode bcX1_befalls 25 = .ok (.iload_n 2, 1) := dk_28 (dk_at dksX1_befalls_1 1 rfl rfl)
theorem dX1_befalls_26 : decode bcX1_befalls 26 = .ok (.iconst 1, 1) := dk_4 (dk_at dksX1_befalls_1 2 rfl rfl)
theorem dX1_befalls_27 : decode bcX1_befalls 27 = .ok (.if_icmp .ne 14, 3) := dk_160 0 14 (dk_at dksX1_befalls_1 3 rfl rfl)
theorem dX1_befalls_30 : decode bcX1_befalls 30 = .ok (.aload_n 0, 1) := dk_42 (dk_at dksX1_befalls_1 6 rfl rfl)
theorem dX1_befalls_31 : decode bcX1_befalls 31 = .ok (.aload_n 0, 1) := dk_42 (dk_at dksX1_befalls_1 7 rfl rfl)
theorem dX1_befalls_32 : decode bcX1_befalls 32 = .ok (.invokevirtual 161, 3) := dk_182 0 161 (dk_at dksX1_befalls_1 8 rfl rfl)
theorem dX1_befalls_35 : decode bcX1_befalls 35 = .ok (.invokevirtual 353, 3) := dk_182 1 97 (dk_at dksX1_befalls_1 11 rfl rfl)
theorem dX1_befalls_38 : decode bcX1_befalls 38 = .ok (.goto 4, 3) := dk_167 0 4 (dk_at dksX1_befalls_1 14 rfl rfl)
theorem dX1_befalls_41 : decode bcX1_befalls 41 = .ok (.iconst (-1), 1) := dk_2 (dk_at dksX1_befalls_1 17 rfl rfl)
theorem dX1_befalls_42 : decode bcX1_befalls 42 = .ok (.istore_n 3, 1) := dk_62 (dk_at dksX1_befalls_1 18 rfl rfl)
theorem dX1_befalls_43 : decode bcX1_befalls 43 = .ok (.aload_n 0, 1) := dk_42 (dk_at dksX1_befalls_1 19 rfl rfl)
theorem dX1_befalls_44 : decode bcX1_befalls 44 = .ok (.aload_n 0, 1) := dk_42 (dk_at dksX1_befalls_1 20 rfl rfl)
theorem dX1_befalls_45 : decode bcX1_befalls 45 = .ok (.invokevirtual 159, 3) := dk_182 0 159 (dk_at dksX1_befalls_1 21 rfl rfl)
theorem dX1_befalls_48 : decode bcX1_befalls 48 = .ok (.invokevirtual 353, 3) := dk_182 1 97 (dk_at dksX1_befalls_2 0 rfl rfl)
theorem dX1_befalls_51 : decode bcX1_befalls 51 = .ok (.istore 4, 2) := dk_54 4 (dk_at dksX1_befalls_2 3 rfl rfl)
theorem dX1_befalls_53 : decode bcX1_befalls 53 = .ok (.iload_n 2, 1) := dk_28 (dk_at dksX1_befalls_2 5 rfl rfl)
theorem dX1_befalls_54 : decode bcX1_befalls 54 = .ok (.ifCond .ne 23, 3) := dk_154 0 23 (dk_at dksX1_befalls_2 6 rfl rfl)
theorem dX1_befalls_57 : decode bcX1_befalls 57 = .ok (.aload_n 1, 1) := dk_43 (dk_at dksX1_befalls_2 9 rfl rfl)
theorem dX1_befalls_58 : decode bcX1_befalls 58 = .ok (.iload 4, 2) := dk_21 4 (dk_at dksX1_befalls_2 10 rfl rfl)
theorem dX1_befalls_60 : decode bcX1_befalls 60 = .ok (.invokevirtual 263, 3) := dk_182 1 7 (dk_at dksX1_befalls_2 12 rfl rfl)
theorem dX1_befalls_63 : decode bcX1_befalls 63 = .ok (.ifCond .eq 14, 3) := dk_153 0 14 (dk_at dksX1_befalls_2 15 rfl rfl)
theorem dX1_befalls_66 : decode bcX1_befalls 66 = .ok (.aload_n 1, 1) := dk_43 (dk_at dksX1_befalls_2 18 rfl rfl)
theorem dX1_befalls_67 : decode bcX1_befalls 67 = .ok (.getfield 195, 3) := dk_180 0 195 (dk_at dksX1_befalls_2 19 rfl rfl)
theorem dX1_befalls_70 : decode bcX1_befalls 70 = .ok (.iload 4, 2) := dk_21 4 (dk_at dksX1_befalls_2 22 rfl rfl)
theorem dX1_befalls_72 : decode bcX1_befalls 72 = .ok (.dup2, 1) := dk_92 (dk_at dksX1_befalls_3 0 rfl rfl)
theorem dX1_befalls_73 : decode bcX1_befalls 73 = .ok (.iaload, 1) := dk_46 (dk_at dksX1_befalls_3 1 rfl rfl)
theorem dX1_befalls_74 : decode bcX1_befalls 74 = .ok (.iconst 1, 1) := dk_4 (dk_at dksX1_befalls_3 2 rfl rfl)
theorem dX1_befalls_75 : decode bcX1_befalls 75 = .ok (.iadd, 1) := dk_96 (dk_at dksX1_befalls_3 3 rfl rfl)
theorem dX1_befalls_76 : decode bcX1_befalls 76 = .ok (.iastore, 1) := dk_79 (dk_at dksX1_befalls_3 4 rfl rfl)
theorem dX1_befalls_77 : decode bcX1_befalls 77 = .ok (.iload_n 2, 1) := dk_28 (dk_at dksX1_befalls_3 5 rfl rfl)
theorem dX1_befalls_78 : decode bcX1_befalls 78 = .ok (.iconst 2, 1) := dk_5 (dk_at dksX1_befalls_3 6 rfl rfl)
theorem dX1_befalls_79 : decode bcX1_befalls 79 = .ok (.if_icmp .ne 26, 3) := dk_160 0 26 (dk_at dksX1_befalls_3 7 rfl rfl)
theorem dX1_befalls_82 : decode bcX1_befalls 82 = .ok (.aload_n 1, 1) := dk_43 (dk_at dksX1_befalls_3 10 rfl rfl)
theorem dX1_befalls_83 : decode bcX1_befalls 83 = .ok (.iload 4, 2) := dk_21 4 (dk_at dksX1_befalls_3 11 rfl rfl)
theorem dX1_befalls_85 : decode bcX1_befalls 85 = .ok (.invokevirtual 269, 3) := dk_182 1 13 (dk_at dksX1_befalls_3 13 rfl rfl)
theorem dX1_befalls_88 : decode bcX1_befalls 88 = .ok (.ifCond .eq 17, 3) := dk_153 0 17 (dk_at dksX1_befalls_3 16 rfl rfl)
theorem dX1_befalls_91 : decode bcX1_befalls 91 = .ok (.aload_n 1, 1) := dk_43 (dk_at dksX1_befalls_3 19 rfl rfl)
theorem dX1_befalls_92 : decode bcX1_befalls 92 = .ok (.getfield 195, 3) := dk_180 0 195 (dk_at dksX1_befalls_3 20 rfl rfl)
theorem dX1_befalls_95 : decode bcX1_befalls 95 = .ok (.iload 4, 2) := dk_21 4 (dk_at dksX1_befalls_4 0 rfl rfl)
theorem dX1_befalls_97 : decode bcX1_befalls 97 = .ok (.aload_n 1, 1) := dk_43 (dk_at dksX1_befalls_4 2 rfl rfl)
theorem dX1_befalls_98 : decode bcX1_befalls 98 = .ok (.getfield 176, 3) := dk_180 0 176 (dk_at dksX1_befalls_4 3 rfl rfl)
theorem dX1_befalls_101 : decode bcX1_befalls 101 = .ok (.iload 4, 2) := dk_21 4 (dk_at dksX1_befalls_4 6 rfl rfl)
theorem dX1_befalls_103 : decode bcX1_befalls 103 = .ok (.iaload, 1) := dk_46 (dk_at dksX1_befalls_4 8 rfl rfl)
theorem dX1_befalls_104 : decode bcX1_befalls 104 = .ok (.iastore, 1) := dk_79 (dk_at dksX1_befalls_4 9 rfl rfl)
theorem dX1_befalls_105 : decode bcX1_befalls 105 = .ok (.iload_n 2, 1) := dk_28 (dk_at dksX1_befalls_4 10 rfl rfl)
theorem dX1_befalls_106 : decode bcX1_befalls 106 = .ok (.iconst 1, 1) := dk_4 (dk_at dksX1_befalls_4 11 rfl rfl)
theorem dX1_befalls_107 : decode bcX1_befalls 107 = .ok (.if_icmp .ne 18, 3) := dk_160 0 18 (dk_at dksX1_befalls_4 12 rfl rfl)
theorem dX1_befalls_110 : decode bcX1_befalls 110 = .ok (.aload_n 0, 1) := dk_42 (dk_at dksX1_befalls_4 15 rfl rfl)
theorem dX1_befalls_111 : decode bcX1_befalls 111 = .ok (.aload_n 1, 1) := dk_43 (dk_at dksX1_befalls_4 16 rfl rfl)
theorem dX1_befalls_112 : decode bcX1_befalls 112 = .ok (.iload_n 3, 1) := dk_29 (dk_at dksX1_befalls_4 17 rfl rfl)
theorem dX1_befalls_113 : decode bcX1_befalls 113 = .ok (.iload 4, 2) := dk_21 4 (dk_at dksX1_befalls_4 18 rfl rfl)
theorem dX1_befalls_115 : decode bcX1_befalls 115 = .ok (.invokevirtual 259, 3) := dk_182 1 3 (dk_at dksX1_befalls_4 20 rfl rfl)
theorem dX1_befalls_118 : decode bcX1_befalls 118 = .ok (.ifCond .eq 7, 3) := dk_153 0 7 (dk_at dksX1_befalls_5 0 rfl rfl)
theorem dX1_befalls_121 : decode bcX1_befalls 121 = .ok (.iconst 1, 1) := dk_4 (dk_at dksX1_befalls_5 3 rfl rfl)
theorem dX1_befalls_122 : decode bcX1_befalls 122 = .ok (.goto 4, 3) := dk_167 0 4 (dk_at dksX1_befalls_5 4 rfl rfl)
theorem dX1_befalls_125 : decode bcX1_befalls 125 = .ok (.iconst 0, 1) := dk_3 (dk_at dksX1_befalls_5 7 rfl rfl)
theorem dX1_befalls_126 : decode bcX1_befalls 126 = .ok (.ireturn, 1) := dk_172 (dk_at dksX1_befalls_5 8 rfl rfl)
abbrev SX1_befalls (pc : Nat) (i : xI) : Prop := Snd "SwollenHouse" "befalls" prog_1_method_76_code 5 (Option.some Jvm.ClassFile.FieldType.boolean) [] pc i
theorem oX1_befalls_0 : SX1_befalls 0 (i_aload 0 1) := snd_aload_n dX1_befalls_0 rfl
theorem oX1_befalls_1 : SX1_befalls 1 (i_const (.int (nI 5)) 2) := snd_iconst dX1_befalls_1 (by decide)
theorem oX1_befalls_2 : SX1_befalls 2 (i_cv 0 159 1 5) := snd_cv rfl infX1_draws (by decide) rfl (xVm_V dX1_befalls_2 rfl q1540 q1542 qs55 q127 q1543 pdX1_draws)
theorem oX1_befalls_5 : SX1_befalls 5 (i_istore 2 6) := snd_istore_n dX1_befalls_5 rfl (by decide)
theorem oX1_befalls_6 : SX1_befalls 6 (i_iload 2 7) := snd_iload_n dX1_befalls_6 rfl
theorem oX1_befalls_7 : SX1_befalls 7 (i_const (.int (nI 2)) 8) := snd_iconst dX1_befalls_7 (by decide)
theorem oX1_befalls_8 : SX1_befalls 8 (i_if2 (fun x y => y < x) 23 11) := snd_icmp_gt dX1_befalls_8 (by decide)
theorem oX1_befalls_11 : SX1_befalls 11 (i_iload 2 12) := snd_iload_n dX1_befalls_11 rfl
theorem oX1_befalls_12 : SX1_befalls 12 (i_const (.int (nI 1)) 13) := snd_iconst dX1_befalls_12 (by decide)
theorem oX1_befalls_13 : SX1_befalls 13 (i_if2 (fun x y => ¬ x = y) 25 16) := snd_icmp_ne dX1_befalls_13 (by decide)
theorem oX1_befalls_16 : SX1_befalls 16 (i_aload 0 17) := snd_aload_n dX1_befalls_16 rfl
theorem oX1_befalls_17 : SX1_befalls 17 (i_cv 0 101 0 20) := snd_cv rfl infX1_people (by decide) rfl (xVm_V dX1_befalls_17 rfl q1182 q1184 qs33 q127 q1185 pdX1_people)
theorem oX1_befalls_20 : SX1_befalls 20 (i_if1 (fun x => ¬ x = 0) 25 23) := snd_if_ne dX1_befalls_20 (by decide)
theorem oX1_befalls_23 : SX1_befalls 23 (i_const (.int (nI 0)) 24) := snd_iconst dX1_befalls_23 (by decide)
theorem oX1_befalls_24 : SX1_befalls 24 (i_zret) := snd_zret dX1_befalls_24 rfl
theorem oX1_befalls_25 : SX1_befalls 25 (i_iload 2 26) := snd_iload_n dX1_befalls_25 rfl
theorem oX1_befalls_26 : SX1_befalls 26 (i_const (.int (nI 1)) 27) := snd_iconst dX1_befalls_26 (by decide)
theorem oX1_befalls_27 : SX1_befalls 27 (i_if2 (fun x y => ¬ x = y) 41 30) := snd_icmp_ne dX1_befalls_27 (by decide)
theorem oX1_befalls_30 : SX1_befalls 30 (i_aload 0 31) := snd_aload_n dX1_befalls_30 rfl
theorem oX1_befalls_31 : SX1_befalls 31 (i_aload 0 32) := snd_aload_n dX1_befalls_31 rfl
theorem oX1_befalls_32 : SX1_befalls 32 (i_cv 0 101 0 35) := snd_cv rfl infX1_people (by decide) rfl (xVm_V dX1_befalls_32 rfl q1182 q1184 qs33 q127 q1185 pdX1_people)
theorem oX1_befalls_35 : SX1_befalls 35 (i_cv 0 159 1 38) := snd_cv rfl infX1_draws (by decide) rfl (xVm_V dX1_befalls_35 rfl q1540 q1542 qs55 q127 q1543 pdX1_draws)
theorem oX1_befalls_38 : SX1_befalls 38 (i_goto 42) := snd_goto dX1_befalls_38 (by decide)
theorem oX1_befalls_41 : SX1_befalls 41 (i_const (.int (-1)) 42) := snd_iconst dX1_befalls_41 (by decide)
theorem oX1_befalls_42 : SX1_befalls 42 (i_istore 3 43) := snd_istore_n dX1_befalls_42 rfl (by decide)
theorem oX1_befalls_43 : SX1_befalls 43 (i_aload 0 44) := snd_aload_n dX1_befalls_43 rfl
theorem oX1_befalls_44 : SX1_befalls 44 (i_aload 0 45) := snd_aload_n dX1_befalls_44 rfl
theorem oX1_befalls_45 : SX1_befalls 45 (i_cv 0 96 0 48) := snd_cv rfl infX1_doors (by decide) rfl (xVm_V dX1_befalls_45 rfl q1140 q1142 qs30 q127 q1143 pdX1_doors)
theorem oX1_befalls_48 : SX1_befalls 48 (i_cv 0 159 1 51) := snd_cv rfl infX1_draws (by decide) rfl (xVm_V dX1_befalls_48 rfl q1540 q1542 qs55 q127 q1543 pdX1_draws)
theorem oX1_befalls_51 : SX1_befalls 51 (i_istore 4 53) := snd_istore dX1_befalls_51 (by decide)
theorem oX1_befalls_53 : SX1_befalls 53 (i_iload 2 54) := snd_iload_n dX1_befalls_53 rfl
theorem oX1_befalls_54 : SX1_befalls 54 (i_if1 (fun x => ¬ x = 0) 77 57) := snd_if_ne dX1_befalls_54 (by decide)
theorem oX1_befalls_57 : SX1_befalls 57 (i_aload 1 58) := snd_aload_n dX1_befalls_57 rfl
theorem oX1_befalls_58 : SX1_befalls 58 (i_iload 4 60) := snd_iload dX1_befalls_58
theorem oX1_befalls_60 : SX1_befalls 60 (i_cv 3 240 1 63) := snd_cv rfl infX4_canPlane (by decide) rfl (xVm_V dX1_befalls_60 rfl q1302 q1303 q1304 q133 q1305 pdX4_canPlane)
theorem oX1_befalls_63 : SX1_befalls 63 (i_if1 (fun x => x = 0) 77 66) := snd_if_eq dX1_befalls_63 (by decide)
theorem oX1_befalls_66 : SX1_befalls 66 (i_aload 1 67) := snd_aload_n dX1_befalls_66 rfl
theorem oX1_befalls_67 : SX1_befalls 67 (i_getf 3 1 70) := snd_getf dX1_befalls_67 rfl (by decide) in_X4 (Or.inr ⟨_, q294⟩) (Or.inl rfl) (by decide)
theorem oX1_befalls_70 : SX1_befalls 70 (i_iload 4 72) := snd_iload dX1_befalls_70
theorem oX1_befalls_72 : SX1_befalls 72 (i_dup2 73) := snd_dup2 dX1_befalls_72
theorem oX1_befalls_73 : SX1_befalls 73 (i_ai 0 74) := snd_ai0 dX1_befalls_73
theorem oX1_befalls_74 : SX1_befalls 74 (i_const (.int (nI 1)) 75) := snd_iconst dX1_befalls_74 (by decide)
theorem oX1_befalls_75 : SX1_befalls 75 (i_ii (fun x y => x + y) 76) := snd_iadd dX1_befalls_75
theorem oX1_befalls_76 : SX1_befalls 76 (i_si (fun v => v) 0 77) := snd_si0 dX1_befalls_76
theorem oX1_befalls_77 : SX1_befalls 77 (i_iload 2 78) := snd_iload_n dX1_befalls_77 rfl
theorem oX1_befalls_78 : SX1_befalls 78 (i_const (.int (nI 2)) 79) := snd_iconst dX1_befalls_78 (by decide)
theorem oX1_befalls_79 : SX1_befalls 79 (i_if2 (fun x y => ¬ x = y) 105 82) := snd_icmp_ne dX1_befalls_79 (by decide)
theorem oX1_befalls_82 : SX1_befalls 82 (i_aload 1 83) := snd_aload_n dX1_befalls_82 rfl
theorem oX1_befalls_83 : SX1_befalls 83 (i_iload 4 85) := snd_iload dX1_befalls_83
theorem oX1_befalls_85 : SX1_befalls 85 (i_cv 3 242 1 88) := snd_cv rfl infX4_canForce (by decide) rfl (xVm_V dX1_befalls_85 rfl q1319 q1320 q1321 q133 q1322 pdX4_canForce)
theorem oX1_befalls_88 : SX1_befalls 88 (i_if1 (fun x => x = 0) 105 91) := snd_if_eq dX1_befalls_88 (by decide)
theorem oX1_befalls_91 : SX1_befalls 91 (i_aload 1 92) := snd_aload_n dX1_befalls_91 rfl
theorem oX1_befalls_92 : SX1_befalls 92 (i_getf 3 1 95) := snd_getf dX1_befalls_92 rfl (by decide) in_X4 (Or.inr ⟨_, q294⟩) (Or.inl rfl) (by decide)
theorem oX1_befalls_95 : SX1_befalls 95 (i_iload 4 97) := snd_iload dX1_befalls_95
theorem oX1_befalls_97 : SX1_befalls 97 (i_aload 1 98) := snd_aload_n dX1_befalls_97 rfl
theorem oX1_befalls_98 : SX1_befalls 98 (i_getf 3 0 101) := snd_getf dX1_befalls_98 rfl (by decide) in_X4 (Or.inr ⟨_, q290⟩) (Or.inl rfl) (by decide)
theorem oX1_befalls_101 : SX1_befalls 101 (i_iload 4 103) := snd_iload dX1_befalls_101
theorem oX1_befalls_103 : SX1_befalls 103 (i_ai 0 104) := snd_ai0 dX1_befalls_103
theorem oX1_befalls_104 : SX1_befalls 104 (i_si (fun v => v) 0 105) := snd_si0 dX1_befalls_104
theorem oX1_befalls_105 : SX1_befalls 105 (i_iload 2 106) := snd_iload_n dX1_befalls_105 rfl
theorem oX1_befalls_106 : SX1_befalls 106 (i_const (.int (nI 1)) 107) := snd_iconst dX1_befalls_106 (by decide)
theorem oX1_befalls_107 : SX1_befalls 107 (i_if2 (fun x y => ¬ x = y) 125 110) := snd_icmp_ne dX1_befalls_107 (by decide)
theorem oX1_befalls_110 : SX1_befalls 110 (i_aload 0 111) := snd_aload_n dX1_befalls_110 rfl
theorem oX1_befalls_111 : SX1_befalls 111 (i_aload 1 112) := snd_aload_n dX1_befalls_111 rfl
theorem oX1_befalls_112 : SX1_befalls 112 (i_iload 3 113) := snd_iload_n dX1_befalls_112 rfl
theorem oX1_befalls_113 : SX1_befalls 113 (i_iload 4 115) := snd_iload dX1_befalls_113
theorem oX1_befalls_115 : SX1_befalls 115 (i_cv 0 110 3 118) := snd_cv rfl infX1_isWalked (by decide) rfl (xVm_V dX1_befalls_115 rfl q1290 q1292 qs39 q127 q1293 pdX1_isWalked)
theorem oX1_befalls_118 : SX1_befalls 118 (i_if1 (fun x => x = 0) 125 121) := snd_if_eq dX1_befalls_118 (by decide)
theorem oX1_befalls_121 : SX1_befalls 121 (i_const (.int (nI 1)) 122) := snd_iconst dX1_befalls_121 (by decide)
theorem oX1_befalls_122 : SX1_befalls 122 (i_goto 126) := snd_goto dX1_befalls_122 (by decide)
theorem oX1_befalls_125 : SX1_befalls 125 (i_const (.int (nI 0)) 126) := snd_iconst dX1_befalls_125 (by decide)
theorem oX1_befalls_126 : SX1_befalls 126 (i_zret) := snd_zret dX1_befalls_126 rfl
theorem okX1_befalls : ∀ q ∈ cX1_befalls, SX1_befalls q.1 q.2 := List.forall_mem_cons.mpr ⟨oX1_befalls_0, List.forall_mem_cons.mpr ⟨oX1_befalls_1, List.forall_mem_cons.mpr ⟨oX1_befalls_2, List.forall_mem_cons.mpr ⟨oX1_befalls_5, List.forall_mem_cons.mpr ⟨oX1_befalls_6, List.forall_mem_cons.mpr ⟨oX1_befalls_7, List.forall_mem_cons.mpr ⟨oX1_befalls_8, List.forall_mem_cons.mpr ⟨oX1_befalls_11, List.forall_mem_cons.mpr ⟨oX1_befalls_12, List.forall_mem_cons.mpr ⟨oX1_befalls_13, List.forall_mem_cons.mpr ⟨oX1_befalls_16, List.forall_mem_cons.mpr ⟨oX1_befalls_17, List.forall_mem_cons.mpr ⟨oX1_befalls_20, List.forall_mem_cons.mpr ⟨oX1_befalls_23, List.forall_mem_cons.mpr ⟨oX1_befalls_24, List.forall_mem_cons.mpr ⟨oX1_befalls_25, List.forall_mem_cons.mpr ⟨oX1_befalls_26, List.forall_mem_cons.mpr ⟨oX1_befalls_27, List.forall_mem_cons.mpr ⟨oX1_befalls_30, List.forall_mem_cons.mpr ⟨oX1_befalls_31, List.forall_mem_cons.mpr ⟨oX1_befalls_32, List.forall_mem_cons.mpr ⟨oX1_befalls_35, List.forall_mem_cons.mpr ⟨oX1_befalls_38, List.forall_mem_cons.mpr ⟨oX1_befalls_41, List.forall_mem_cons.mpr ⟨oX1_befalls_42, List.forall_mem_cons.mpr ⟨oX1_befalls_43, List.forall_mem_cons.mpr ⟨oX1_befalls_44, List.forall_mem_cons.mpr ⟨oX1_befalls_45, List.forall_mem_cons.mpr ⟨oX1_befalls_48, List.forall_mem_cons.mpr ⟨oX1_befalls_51, List.forall_mem_cons.mpr ⟨oX1_befalls_53, List.forall_mem_cons.mpr ⟨oX1_befalls_54, List.forall_mem_cons.mpr ⟨oX1_befalls_57, List.forall_mem_cons.mpr ⟨oX1_befalls_58, List.forall_mem_cons.mpr ⟨oX1_befalls_60, List.forall_mem_cons.mpr ⟨oX1_befalls_63, List.forall_mem_cons.mpr ⟨oX1_befalls_66, List.forall_mem_cons.mpr ⟨oX1_befalls_67, List.forall_mem_cons.mpr ⟨oX1_befalls_70, List.forall_mem_cons.mpr ⟨oX1_befalls_72, List.forall_mem_cons.mpr ⟨oX1_befalls_73, List.forall_mem_cons.mpr ⟨oX1_befalls_74, List.forall_mem_cons.mpr ⟨oX1_befalls_75, List.forall_mem_cons.mpr ⟨oX1_befalls_76, List.forall_mem_cons.mpr ⟨oX1_befalls_77, List.forall_mem_cons.mpr ⟨oX1_befalls_78, List.forall_mem_cons.mpr ⟨oX1_befalls_79, List.forall_mem_cons.mpr ⟨oX1_befalls_82, List.forall_mem_cons.mpr ⟨oX1_befalls_83, List.forall_mem_cons.mpr ⟨oX1_befalls_85, List.forall_mem_cons.mpr ⟨oX1_befalls_88, List.forall_mem_cons.mpr ⟨oX1_befalls_91, List.forall_mem_cons.mpr ⟨oX1_befalls_92, List.forall_mem_cons.mpr ⟨oX1_befalls_95, List.forall_mem_cons.mpr ⟨oX1_befalls_97, List.forall_mem_cons.mpr ⟨oX1_befalls_98, List.forall_mem_cons.mpr ⟨oX1_befalls_101, List.forall_mem_cons.mpr ⟨oX1_befalls_103, List.forall_mem_cons.mpr ⟨oX1_befalls_104, List.forall_mem_cons.mpr ⟨oX1_befalls_105, List.forall_mem_cons.mpr ⟨oX1_befalls_106, List.forall_mem_cons.mpr ⟨oX1_befalls_107, List.forall_mem_cons.mpr ⟨oX1_befalls_110, List.forall_mem_cons.mpr ⟨oX1_befalls_111, List.forall_mem_cons.mpr ⟨oX1_befalls_112, List.forall_mem_cons.mpr ⟨oX1_befalls_113, List.forall_mem_cons.mpr ⟨oX1_befalls_115, List.forall_mem_cons.mpr ⟨oX1_befalls_118, List.forall_mem_cons.mpr ⟨oX1_befalls_121, List.forall_mem_cons.mpr ⟨oX1_befalls_122, List.forall_mem_cons.mpr ⟨oX1_befalls_125, List.forall_mem_cons.mpr ⟨oX1_befalls_126, fun _ h => absurd h List.not_mem_nil⟩⟩⟩⟩⟩⟩⟩⟩⟩⟩⟩⟩⟩⟩⟩⟩⟩⟩⟩⟩⟩⟩⟩⟩⟩⟩⟩⟩⟩⟩⟩⟩⟩⟩⟩⟩⟩⟩⟩⟩⟩⟩⟩⟩⟩⟩⟩⟩⟩⟩⟩⟩⟩⟩⟩⟩⟩⟩⟩⟩⟩⟩⟩⟩⟩⟩⟩⟩⟩⟩⟩⟩
def dkwX1_draws_1 : List UInt8 := [20, 1, 95, 109, 27, 133, 113, 136, 172]
abbrev dktX1_draws_1 : List UInt8 := dkwX1_draws_1 ++ []
def dkwX1_draws_0 : List UInt8 := [42, 42, 180, 1, 85, 20, 1, 89, 105, 20, 1, 91, 97, 20, 1, 93, 113, 181, 1, 85, 42, 180, 1, 85]
abbrev dktX1_draws_0 : List UInt8 := dkwX1_draws_0 ++ dktX1_draws_1
theorem dksX1_draws_0 : bcX1_draws.data.toList.drop 0 = dktX1_draws_0 := by decide +kernel
theorem dksX1_draws_1 : bcX1_draws.data.toList.drop 24 = dktX1_draws_1 := dk_seg dksX1_draws_0 24 rfl rfl
theorem dX1_draws_0 : decode bcX1_draws 0 = .ok (.aload_n 0, 1) := dk_42 (dk_at dksX1_draws_0 0 rfl rfl)
theorem dX1_draws_1 : decode bcX1_draws 1 = .ok (.aload_n 0, 1) := dk_42 (dk_at dksX1_draws_0 1 rfl rfl)
theorem dX1_draws_2 : decode bcX1_draws 2 = .ok (.getfield 341, 3) := dk_180 1 85 (dk_at dksX1_draws_0 2 rfl rfl)
theorem dX1_draws_5 : decode bcX1_draws 5 = .ok (.ldc2_w 345, 3) := dk_20 1 89 (dk_at dksX1_draws_0 5 rfl rfl)
theorem dX1_draws_8 : decode bcX1_draws 8 = .ok (.lmul, 1) := dk_105 (dk_at dksX1_draws_0 8 rfl rfl)
theorem dX1_draws_9 : decode bcX1_draws 9 = .ok (.ldc2_w 347, 3) := dk_20 1 91 (dk_at dksX1_draws_0 9 rfl rfl)
theorem dX1_draws_12 : decode bcX1_draws 12 = .ok (.ladd, 1) := dk_97 (dk_at dksX1_draws_0 12 rfl rfl)
theorem dX1_draws_13 : decode bcX1_draws 13 = .ok (.ldc2_w 349, 3) := dk_20 1 93 (dk_at dksX1_draws_0 13 rfl rfl)
theorem dX1_draws_16 : decode bcX1_draws 16 = .ok (.lrem, 1) := dk_113 (dk_at dksX1_draws_0 16 rfl rfl)
theorem dX1_draws_17 : decode bcX1_draws 17 = .ok (.putfield 341, 3) := dk_181 1 85 (dk_at dksX1_draws_0 17 rfl rfl)
theorem dX1_draws_20 : decode bcX1_draws 20 = .ok (.aload_n 0, 1) := dk_42 (dk_at dksX1_draws_0 20 rfl rfl)
theorem dX1_draws_21 : decode bcX1_draws 21 = .ok (.getfield 341, 3) := dk_180 1 85 (dk_at dksX1_draws_0 21 rfl rfl)
theorem dX1_draws_24 : decode bcX1_draws 24 = .ok (.ldc2_w 351, 3) := dk_20 1 95 (dk_at dksX1_draws_1 0 rfl rfl)
theorem dX1_draws_27 : decode bcX1_draws 27 = .ok (.ldiv, 1) := dk_109 (dk_at dksX1_draws_1 3 rfl rfl)
theorem dX1_draws_28 : decode bcX1_draws 28 = .ok (.iload_n 1, 1) := dk_27 (dk_at dksX1_draws_1 4 rfl rfl)
theorem dX1_draws_29 : decode bcX1_draws 29 = .ok (.i2l, 1) := dk_133 (dk_at dksX1_draws_1 5 rfl rfl)
theorem dX1_draws_30 : decode bcX1_draws 30 = .ok (.lrem, 1) := dk_113 (dk_at dksX1_draws_1 6 rfl rfl)
theorem dX1_draws_31 : decode bcX1_draws 31 = .ok (.l2i, 1) := dk_136 (dk_at dksX1_draws_1 7 rfl rfl)
theorem dX1_draws_32 : decode bcX1_draws 32 = .ok (.ireturn, 1) := dk_172 (dk_at dksX1_draws_1 8 rfl rfl)
abbrev SX1_draws (pc : Nat) (i : xI) : Prop := Snd "SwollenHouse" "draws" prog_1_method_75_code 2 (Option.some Jvm.ClassFile.FieldType.int) [] pc i
theorem oX1_draws_0 : SX1_draws 0 (i_aload 0 1) := snd_aload_n dX1_draws_0 rfl
theorem oX1_draws_1 : SX1_draws 1 (i_aload 0 2) := snd_aload_n dX1_draws_1 rfl
theorem oX1_draws_2 : SX1_draws 2 (i_getf 0 20 5) := snd_getf dX1_draws_2 rfl (by decide) in_X1 (Or.inl q366) (Or.inl rfl) (by decide)
theorem oX1_draws_5 : SX1_draws 5 (i_const (.long (lN 1103515245)) 8) := snd_ldc2 dX1_draws_5 q1544
theorem oX1_draws_8 : SX1_draws 8 (i_ll (fun x y => x * y) 9) := snd_lmul dX1_draws_8
theorem oX1_draws_9 : SX1_draws 9 (i_const (.long (lN 12345)) 12) := snd_ldc2 dX1_draws_9 q1545
theorem oX1_draws_12 : SX1_draws 12 (i_ll (fun x y => x + y) 13) := snd_ladd dX1_draws_12
theorem oX1_draws_13 : SX1_draws 13 (i_const (.long (lN 2147483648)) 16) := snd_ldc2 dX1_draws_13 q1546
theorem oX1_draws_16 : SX1_draws 16 (i_lz (fun x y => x - x / y * y) 17) := snd_lrem dX1_draws_16
theorem oX1_draws_17 : SX1_draws 17 (i_putfl 0 20 20) := snd_putfl dX1_draws_17 rfl (by decide) in_X1 tyX1 tyX1_ok nmX1 (Or.inl ⟨rfl, q366⟩) (Or.inl rfl) rfl
theorem oX1_draws_20 : SX1_draws 20 (i_aload 0 21) := snd_aload_n dX1_draws_20 rfl
theorem oX1_draws_21 : SX1_draws 21 (i_getf 0 20 24) := snd_getf dX1_draws_21 rfl (by decide) in_X1 (Or.inl q366) (Or.inl rfl) (by decide)
theorem oX1_draws_24 : SX1_draws 24 (i_const (.long (lN 65536)) 27) := snd_ldc2 dX1_draws_24 q1547
theorem oX1_draws_27 : SX1_draws 27 (i_lz (fun x y => x / y) 28) := snd_ldiv dX1_draws_27
theorem oX1_draws_28 : SX1_draws 28 (i_iload 1 29) := snd_iload_n dX1_draws_28 rfl
theorem oX1_draws_29 : SX1_draws 29 (i_i2l 30) := snd_i2l dX1_draws_29
theorem oX1_draws_30 : SX1_draws 30 (i_lz (fun x y => x - x / y * y) 31) := snd_lrem dX1_draws_30
theorem oX1_draws_31 : SX1_draws 31 (i_l2i 32) := snd_l2i dX1_draws_31
theorem oX1_draws_32 : SX1_draws 32 (i_iret) := snd_iret dX1_draws_32 rfl
theorem okX1_draws : ∀ q ∈ cX1_draws, SX1_draws q.1 q.2 := List.forall_mem_cons.mpr ⟨oX1_draws_0, List.forall_mem_cons.mpr ⟨oX1_draws_1, List.forall_mem_cons.mpr ⟨oX1_draws_2, List.forall_mem_cons.mpr ⟨oX1_draws_5, List.forall_mem_cons.mpr ⟨oX1_draws_8, List.forall_mem_cons.mpr ⟨oX1_draws_9, List.forall_mem_cons.mpr ⟨oX1_draws_12, List.forall_mem_cons.mpr ⟨oX1_draws_13, List.forall_mem_cons.mpr ⟨oX1_draws_16, List.forall_mem_cons.mpr ⟨oX1_draws_17, List.forall_mem_cons.mpr ⟨oX1_draws_20, List.forall_mem_cons.mpr ⟨oX1_draws_21, List.forall_mem_cons.mpr ⟨oX1_draws_24, List.forall_mem_cons.mpr ⟨oX1_draws_27, List.forall_mem_cons.mpr ⟨oX1_draws_28, List.forall_mem_cons.mpr ⟨oX1_draws_29, List.forall_mem_cons.mpr ⟨oX1_draws_30, List.forall_mem_cons.mpr ⟨oX1_draws_31, List.forall_mem_cons.mpr ⟨oX1_draws_32, fun _ h => absurd h List.not_mem_nil⟩⟩⟩⟩⟩⟩⟩⟩⟩⟩⟩⟩⟩⟩⟩⟩⟩⟩⟩
def dkwX1_sum_0 : List UInt8 := [3, 60, 3, 61, 28, 42, 190, 162, 0, 15, 27, 42, 28, 46, 96, 60, 132, 2, 1, 167, 255, 241, 27, 172]
abbrev dktX1_sum_0 : List UInt8 := dkwX1_sum_0 ++ []
theorem dksX1_sum_0 : bcX1_sum.data.toList.drop 0 = dktX1_sum_0 := by decide +kernel
theorem dX1_sum_0 : decode bcX1_sum 0 = .ok (.iconst 0, 1) := dk_3 (dk_at dksX1_sum_0 0 rfl rfl)
theorem dX1_sum_1 : decode bcX1_sum 1 = .ok (.istore_n 1, 1) := dk_60 (dk_at dksX1_sum_0 1 rfl rfl)
theorem dX1_sum_2 : decode bcX1_sum 2 = .ok (.iconst 0, 1) := dk_3 (dk_at dksX1_sum_0 2 rfl rfl)
theorem dX1_sum_3 : decode bcX1_sum 3 = .ok (.istore_n 2, 1) := dk_61 (dk_at dksX1_sum_0 3 rfl rfl)
theorem dX1_sum_4 : decode bcX1_sum 4 = .ok (.iload_n 2, 1) := dk_28 (dk_at dksX1_sum_0 4 rfl rfl)
theorem dX1_sum_5 : decode bcX1_sum 5 = .ok (.aload_n 0, 1) := dk_42 (dk_at dksX1_sum_0 5 rfl rfl)
theorem dX1_sum_6 : decode bcX1_sum 6 = .ok (.arraylength, 1) := dk_190 (dk_at dksX1_sum_0 6 rfl rfl)
theorem dX1_sum_7 : decode bcX1_sum 7 = .ok (.if_icmp .ge 15, 3) := dk_162 0 15 (dk_at dksX1_sum_0 7 rfl rfl)
theorem dX1_sum_10 : decode bcX1_sum 10 = .ok (.iload_n 1, 1) := dk_27 (dk_at dksX1_sum_0 10 rfl rfl)
theorem dX1_sum_11 : decode bcX1_sum 11 = .ok (.aload_n 0, 1) := dk_42 (dk_at dksX1_sum_0 11 rfl rfl)
theorem dX1_sum_12 : decode bcX1_sum 12 = .ok (.iload_n 2, 1) := dk_28 (dk_at dksX1_sum_0 12 rfl rfl)
theorem dX1_sum_13 : decode bcX1_sum 13 = .ok (.iaload, 1) := dk_46 (dk_at dksX1_sum_0 13 rfl rfl)
theorem dX1_sum_14 : decode bcX1_sum 14 = .ok (.iadd, 1) := dk_96 (dk_at dksX1_sum_0 14 rfl rfl)
theorem dX1_sum_15 : decode bcX1_sum 15 = .ok (.istore_n 1, 1) := dk_60 (dk_at dksX1_sum_0 15 rfl rfl)
theorem dX1_sum_16 : decode bcX1_sum 16 = .ok (.iinc 2 1, 3) := dk_132 2 1 (dk_at dksX1_sum_0 16 rfl rfl)
theorem dX1_sum_19 : decode bcX1_sum 19 = .ok (.goto (-15), 3) := dk_167 255 241 (dk_at dksX1_sum_0 19 rfl rfl)
theorem dX1_sum_22 : decode bcX1_sum 22 = .ok (.iload_n 1, 1) := dk_27 (dk_at dksX1_sum_0 22 rfl rfl)
theorem dX1_sum_23 : decode bcX1_sum 23 = .ok (.ireturn, 1) := dk_172 (dk_at dksX1_sum_0 23 rfl rfl)
abbrev SX1_sum (pc : Nat) (i : xI) : Prop := Snd "SwollenHouse" "sum" prog_1_method_6_code 3 (Option.some Jvm.ClassFile.FieldType.int) [] pc i
theorem oX1_sum_0 : SX1_sum 0 (i_const (.int (nI 0)) 1) := snd_iconst dX1_sum_0 (by decide)
theorem oX1_sum_1 : SX1_sum 1 (i_istore 1 2) := snd_istore_n dX1_sum_1 rfl (by decide)
theorem oX1_sum_2 : SX1_sum 2 (i_const (.int (nI 0)) 3) := snd_iconst dX1_sum_2 (by decide)
theorem oX1_sum_3 : SX1_sum 3 (i_istore 2 4) := snd_istore_n dX1_sum_3 rfl (by decide)
theorem oX1_sum_4 : SX1_sum 4 (i_iload 2 5) := snd_iload_n dX1_sum_4 rfl
theorem oX1_sum_5 : SX1_sum 5 (i_aload 0 6) := snd_aload_n dX1_sum_5 rfl
theorem oX1_sum_6 : SX1_sum 6 (i_len 7) := snd_len dX1_sum_6
theorem oX1_sum_7 : SX1_sum 7 (i_if2 (fun x y => y ≤ x) 22 10) := snd_icmp_ge dX1_sum_7 (by decide)
theorem oX1_sum_10 : SX1_sum 10 (i_iload 1 11) := snd_iload_n dX1_sum_10 rfl
theorem oX1_sum_11 : SX1_sum 11 (i_aload 0 12) := snd_aload_n dX1_sum_11 rfl
theorem oX1_sum_12 : SX1_sum 12 (i_iload 2 13) := snd_iload_n dX1_sum_12 rfl
theorem oX1_sum_13 : SX1_sum 13 (i_ai 0 14) := snd_ai0 dX1_sum_13
theorem oX1_sum_14 : SX1_sum 14 (i_ii (fun x y => x + y) 15) := snd_iadd dX1_sum_14
theorem oX1_sum_15 : SX1_sum 15 (i_istore 1 16) := snd_istore_n dX1_sum_15 rfl (by decide)
theorem oX1_sum_16 : SX1_sum 16 (i_iinc 2 (nI 1) 19) := snd_iinc dX1_sum_16 (by decide) (by decide)
theorem oX1_sum_19 : SX1_sum 19 (i_goto 4) := snd_goto dX1_sum_19 (by decide)
theorem oX1_sum_22 : SX1_sum 22 (i_iload 1 23) := snd_iload_n dX1_sum_22 rfl
theorem oX1_sum_23 : SX1_sum 23 (i_iret) := snd_iret dX1_sum_23 rfl
theorem okX1_sum : ∀ q ∈ cX1_sum, SX1_sum q.1 q.2 := List.forall_mem_cons.mpr ⟨oX1_sum_0, List.forall_mem_cons.mpr ⟨oX1_sum_1, List.forall_mem_cons.mpr ⟨oX1_sum_2, List.forall_mem_cons.mpr ⟨oX1_sum_3, List.forall_mem_cons.mpr ⟨oX1_sum_4, List.forall_mem_cons.mpr ⟨oX1_sum_5, List.forall_mem_cons.mpr ⟨oX1_sum_6, List.forall_mem_cons.mpr ⟨oX1_sum_7, List.forall_mem_cons.mpr ⟨oX1_sum_10, List.forall_mem_cons.mpr ⟨oX1_sum_11, List.forall_mem_cons.mpr ⟨oX1_sum_12, List.forall_mem_cons.mpr ⟨oX1_sum_13, List.forall_mem_cons.mpr ⟨oX1_sum_14, List.forall_mem_cons.mpr ⟨oX1_sum_15, List.forall_mem_cons.mpr ⟨oX1_sum_16, List.forall_mem_cons.mpr ⟨oX1_sum_19, List.forall_mem_cons.mpr ⟨oX1_sum_22, List.forall_mem_cons.mpr ⟨oX1_sum_23, fun _ h => absurd h List.not_mem_nil⟩⟩⟩⟩⟩⟩⟩⟩⟩⟩⟩⟩⟩⟩⟩⟩⟩⟩
def dkwX1_mark_11 : List UInt8 := [132, 4, 1, 167, 255, 211, 4, 172]
abbrev dktX1_mark_11 : List UInt8 := dkwX1_mark_11 ++ []
def dkwX1_mark_10 : List UInt8 := [180, 1, 126, 21, 4, 51, 84, 167, 0, 17, 45, 180, 1, 126, 21, 4, 42, 180, 0, 78, 21, 4, 51, 84]
abbrev dktX1_mark_10 : List UInt8 := dkwX1_mark_10 ++ dktX1_mark_11
def dkwX1_mark_9 : List UInt8 := [181, 1, 123, 3, 54, 4, 21, 4, 16, 8, 162, 0, 44, 28, 153, 0, 20, 42, 180, 0, 78, 21, 4, 45]
abbrev dktX1_mark_9 : List UInt8 := dkwX1_mark_9 ++ dktX1_mark_10
def dkwX1_mark_8 : List UInt8 := [180, 0, 90, 45, 180, 1, 118, 184, 1, 109, 45, 42, 180, 0, 121, 181, 1, 120, 45, 42, 180, 0, 124]
abbrev dktX1_mark_8 : List UInt8 := dkwX1_mark_8 ++ dktX1_mark_9
def dkwX1_mark_7 : List UInt8 := [180, 0, 75, 45, 180, 1, 113, 184, 1, 109, 42, 180, 0, 87, 45, 180, 1, 115, 184, 1, 109, 42]
abbrev dktX1_mark_7 : List UInt8 := dkwX1_mark_7 ++ dktX1_mark_8
def dkwX1_mark_6 : List UInt8 := [180, 1, 107, 42, 180, 0, 51, 182, 0, 253, 42, 180, 0, 72, 45, 180, 1, 108, 184, 1, 109, 42]
abbrev dktX1_mark_6 : List UInt8 := dkwX1_mark_6 ++ dktX1_mark_7
def dkwX1_mark_5 : List UInt8 := [180, 1, 120, 181, 0, 121, 42, 45, 180, 1, 123, 181, 0, 124, 42, 3, 181, 0, 127, 167, 0, 74, 45]
abbrev dktX1_mark_5 : List UInt8 := dkwX1_mark_5 ++ dktX1_mark_6
def dkwX1_mark_4 : List UInt8 := [180, 1, 115, 42, 180, 0, 87, 184, 1, 109, 45, 180, 1, 118, 42, 180, 0, 90, 184, 1, 109, 42, 45]
abbrev dktX1_mark_4 : List UInt8 := dkwX1_mark_4 ++ dktX1_mark_5
def dkwX1_mark_3 : List UInt8 := [180, 1, 108, 42, 180, 0, 72, 184, 1, 109, 45, 180, 1, 113, 42, 180, 0, 75, 184, 1, 109, 45]
abbrev dktX1_mark_3 : List UInt8 := dkwX1_mark_3 ++ dktX1_mark_4
def dkwX1_mark_2 : List UInt8 := [180, 0, 95, 27, 50, 78, 28, 153, 0, 82, 42, 180, 0, 51, 45, 180, 1, 107, 182, 0, 253, 45]
abbrev dktX1_mark_2 : List UInt8 := dkwX1_mark_2 ++ dktX1_mark_3
def dkwX1_mark_1 : List UInt8 := [42, 180, 0, 95, 27, 50, 199, 0, 16, 42, 180, 0, 95, 27, 187, 0, 93, 89, 183, 1, 106, 83, 42]
abbrev dktX1_mark_1 : List UInt8 := dkwX1_mark_1 ++ dktX1_mark_2
def dkwX1_mark_0 : List UInt8 := [27, 3, 6, 184, 0, 155, 153, 0, 16, 28, 153, 0, 14, 42, 180, 0, 95, 27, 50, 199, 0, 5, 3, 172]
abbrev dktX1_mark_0 : List UInt8 := dkwX1_mark_0 ++ dktX1_mark_1
theorem dksX1_mark_0 : bcX1_mark.data.toList.drop 0 = dktX1_mark_0 := by decide +kernel
theorem dksX1_mark_1 : bcX1_mark.data.toList.drop 24 = dktX1_mark_1 := dk_seg dksX1_mark_0 24 rfl rfl
theorem dksX1_mark_2 : bcX1_mark.data.toList.drop 47 = dktX1_mark_2 := dk_seg dksX1_mark_1 23 rfl rfl
theorem dksX1_mark_3 : bcX1_mark.data.toList.drop 69 = dktX1_mark_3 := dk_seg dksX1_mark_2 22 rfl rfl
theorem dksX1_mark_4 : bcX1_mark.data.toList.drop 91 = dktX1_mark_4 := dk_seg dksX1_mark_3 22 rfl rfl
theorem dksX1_mark_5 : bcX1_mark.data.toList.drop 114 = dktX1_mark_5 := dk_seg dksX1_mark_4 23 rfl rfl
theorem dksX1_mark_6 : bcX1_mark.data.toList.drop 137 = dktX1_mark_6 := dk_seg dksX1_mark_5 23 rfl rfl
theorem dksX1_mark_7 : bcX1_mark.data.toList.drop 159 = dktX1_mark_7 := dk_seg dksX1_mark_6 22 rfl rfl
theorem dksX1_mark_8 : bcX1_mark.data.toList.drop 181 = dktX1_mark_8 := dk_seg dksX1_mark_7 22 rfl rfl
theorem dksX1_mark_9 : bcX1_mark.data.toList.drop 204 = dktX1_mark_9 := dk_seg dksX1_mark_8 23 rfl rfl
theorem dksX1_mark_10 : bcX1_mark.data.toList.drop 228 = dktX1_mark_10 := dk_seg dksX1_mark_9 24 rfl rfl
theorem dksX1_mark_11 : bcX1_mark.data.toList.drop 252 = dktX1_mark_11 := dk_seg dksX1_mark_10 24 rfl rfl
theorem dX1_mark_0 : decode bcX1_mark 0 = .ok (.iload_n 1, 1) := dk_27 (dk_at dksX1_mark_0 0 rfl rfl)
theorem dX1_mark_1 : decode bcX1_mark 1 = .ok (.iconst 0, 1) := dk_3 (dk_at dksX1_mark_0 1 rfl rfl)
theorem dX1_mark_2 : decode bcX1_mark 2 = .ok (.iconst 3, 1) := dk_6 (dk_at dksX1_mark_0 2 rfl rfl)
theorem dX1_mark_3 : decode bcX1_mark 3 = .ok (.invokestatic 155, 3) := dk_184 0 155 (dk_at dksX1_mark_0 3 rfl rfl)
theorem dX1_mark_6 : decode bcX1_mark 6 = .ok (.ifCond .eq 16, 3) := dk_153 0 16 (dk_at dksX1_mark_0 6 rfl rfl)
theorem dX1_mark_9 : decode bcX1_mark 9 = .ok (.iload_n 2, 1) := dk_28 (dk_at dksX1_mark_0 9 rfl rfl)
theorem dX1_mark_10 : decode bcX1_mark 10 = .ok (.ifCond .eq 14, 3) := dk_153 0 14 (dk_at dksX1_mark_0 10 rfl rfl)
theorem dX1_mark_13 : decode bcX1_mark 13 = .ok (.aload_n 0, 1) := dk_42 (dk_at dksX1_mark_0 13 rfl rfl)
theorem dX1_mark_14 : decode bcX1_mark 14 = .ok (.getfield 95, 3) := dk_180 0 95 (dk_at dksX1_mark_0 14 rfl rfl)
theorem dX1_mark_17 : decode bcX1_mark 17 = .ok (.iload_n 1, 1) := dk_27 (dk_at dksX1_mark_0 17 rfl rfl)
theorem dX1_mark_18 : decode bcX1_mark 18 = .ok (.aaload, 1) := dk_50 (dk_at dksX1_mark_0 18 rfl rfl)
theorem dX1_mark_19 : decode bcX1_mark 19 = .ok (.ifnonnull 5, 3) := dk_199 0 5 (dk_at dksX1_mark_0 19 rfl rfl)
theorem dX1_mark_22 : decode bcX1_mark 22 = .ok (.iconst 0, 1) := dk_3 (dk_at dksX1_mark_0 22 rfl rfl)
theorem dX1_mark_23 : decode bcX1_mark 23 = .ok (.ireturn, 1) := dk_172 (dk_at dksX1_mark_0 23 rfl rfl)
theorem dX1_mark_24 : decode bcX1_mark 24 = .ok (.aload_n 0, 1) := dk_42 (dk_at dksX1_mark_1 0 rfl rfl)
theorem dX1_mark_25 : decode bcX1_mark 25 = .ok (.getfield 95, 3) := dk_180 0 95 (dk_at dksX1_mark_1 1 rfl rfl)
theorem dX1_mark_28 : decode bcX1_mark 28 = .ok (.iload_n 1, 1) := dk_27 (dk_at dksX1_mark_1 4 rfl rfl)
theorem dX1_mark_29 : decode bcX1_mark 29 = .ok (.aaload, 1) := dk_50 (dk_at dksX1_mark_1 5 rfl rfl)
theorem dX1_mark_30 : decode bcX1_mark 30 = .ok (.ifnonnull 16, 3) := dk_199 0 16 (dk_at dksX1_mark_1 6 rfl rfl)
theorem dX1_mark_33 : decode bcX1_mark 33 = .ok (.aload_n 0, 1) := dk_42 (dk_at dksX1_mark_1 9 rfl rfl)
theorem dX1_mark_34 : decode bcX1_mark 34 = .ok (.getfield 95, 3) := dk_180 0 95 (dk_at dksX1_mark_1 10 rfl rfl)
theorem dX1_mark_37 : decode bcX1_mark 37 = .ok (.iload_n 1, 1) := dk_27 (dk_at dksX1_mark_1 13 rfl rfl)
theorem dX1_mark_38 : decode bcX1_mark 38 = .ok (.new 93, 3) := dk_187 0 93 (dk_at dksX1_mark_1 14 rfl rfl)
theorem dX1_mark_41 : decode bcX1_mark 41 = .ok (.dup, 1) := dk_89 (dk_at dksX1_mark_1 17 rfl rfl)
theorem dX1_mark_42 : decode bcX1_mark 42 = .ok (.invokespecial 362, 3) := dk_183 1 106 (dk_at dksX1_mark_1 18 rfl rfl)
theorem dX1_mark_45 : decode bcX1_mark 45 = .ok (.aastore, 1) := dk_83 (dk_at dksX1_mark_1 21 rfl rfl)
theorem dX1_mark_46 : decode bcX1_mark 46 = .ok (.aload_n 0, 1) := dk_42 (dk_at dksX1_mark_1 22 rfl rfl)
theorem dX1_mark_47 : decode bcX1_mark 47 = .ok (.getfield 95, 3) := dk_180 0 95 (dk_at dksX1_mark_2 0 rfl rfl)
theorem dX1_mark_50 : decode bcX1_mark 50 = .ok (.iload_n 1, 1) := dk_27 (dk_at dksX1_mark_2 3 rfl rfl)
theorem dX1_mark_51 : decode bcX1_mark 51 = .ok (.aaload, 1) := dk_50 (dk_at dksX1_mark_2 4 rfl rfl)
theorem dX1_mark_52 : decode bcX1_mark 52 = .ok (.astore_n 3, 1) := dk_78 (dk_at dksX1_mark_2 5 rfl rfl)
theorem dX1_mark_53 : decode bcX1_mark 53 = .ok (.iload_n 2, 1) := dk_28 (dk_at dksX1_mark_2 6 rfl rfl)
theorem dX1_mark_54 : decode bcX1_mark 54 = .ok (.ifCond .eq 82, 3) := dk_153 0 82 (dk_at dksX1_mark_2 7 rfl rfl)
theorem dX1_mark_57 : decode bcX1_mark 57 = .ok (.aload_n 0, 1) := dk_42 (dk_at dksX1_mark_2 10 rfl rfl)
theorem dX1_mark_58 : decode bcX1_mark 58 = .ok (.getfield 51, 3) := dk_180 0 51 (dk_at dksX1_mark_2 11 rfl rfl)
theorem dX1_mark_61 : decode bcX1_mark 61 = .ok (.aload_n 3, 1) := dk_45 (dk_at dksX1_mark_2 14 rfl rfl)
theorem dX1_mark_62 : decode bcX1_mark 62 = .ok (.getfield 363, 3) := dk_180 1 107 (dk_at dksX1_mark_2 15 rfl rfl)
theorem dX1_mark_65 : decode bcX1_mark 65 = .ok (.invokevirtual 253, 3) := dk_182 0 253 (dk_at dksX1_mark_2 18 rfl rfl)
theorem dX1_mark_68 : decode bcX1_mark 68 = .ok (.aload_n 3, 1) := dk_45 (dk_at dksX1_mark_2 21 rfl rfl)
theorem dX1_mark_69 : decode bcX1_mark 69 = .ok (.getfield 364, 3) := dk_180 1 108 (dk_at dksX1_mark_3 0 rfl rfl)
theorem dX1_mark_72 : decode bcX1_mark 72 = .ok (.aload_n 0, 1) := dk_42 (dk_at dksX1_mark_3 3 rfl rfl)
theorem dX1_mark_73 : decode bcX1_mark 73 = .ok (.getfield 72, 3) := dk_180 0 72 (dk_at dksX1_mark_3 4 rfl rfl)
theorem dX1_mark_76 : decode bcX1_mark 76 = .ok (.invokestatic 365, 3) := dk_184 1 109 (dk_at dksX1_mark_3 7 rfl rfl)
theorem dX1_mark_79 : decode bcX1_mark 79 = .ok (.aload_n 3, 1) := dk_45 (dk_at dksX1_mark_3 10 rfl rfl)
theorem dX1_mark_80 : decode bcX1_mark 80 = .ok (.getfield 369, 3) := dk_180 1 113 (dk_at dksX1_mark_3 11 rfl rfl)
theorem dX1_mark_83 : decode bcX1_mark 83 = .ok (.aload_n 0, 1) := dk_42 (dk_at dksX1_mark_3 14 rfl rfl)
theorem dX1_mark_84 : decode bcX1_mark 84 = .ok (.getfield 75, 3) := dk_180 0 75 (dk_at dksX1_mark_3 15 rfl rfl)
theorem dX1_mark_87 : decode bcX1_mark 87 = .ok (.invokestatic 365, 3) := dk_184 1 109 (dk_at dksX1_mark_3 18 rfl rfl)
theorem dX1_mark_90 : decode bcX1_mark 90 = .ok (.aload_n 3, 1) := dk_45 (dk_at dksX1_mark_3 21 rfl rfl)
theorem dX1_mark_91 : decode bcX1_mark 91 = .ok (.getfield 371, 3) := dk_180 1 115 (dk_at dksX1_mark_4 0 rfl rfl)
theorem dX1_mark_94 : decode bcX1_mark 94 = .ok (.aload_n 0, 1) := dk_42 (dk_at dksX1_mark_4 3 rfl rfl)
theorem dX1_mark_95 : decode bcX1_mark 95 = .ok (.getfield 87, 3) := dk_180 0 87 (dk_at dksX1_mark_4 4 rfl rfl)
theorem dX1_mark_98 : decode bcX1_mark 98 = .ok (.invokestatic 365, 3) := dk_184 1 109 (dk_at dksX1_mark_4 7 rfl rfl)
theorem dX1_mark_101 : decode bcX1_mark 101 = .ok (.aload_n 3, 1) := dk_45 (dk_at dksX1_mark_4 10 rfl rfl)
theorem dX1_mark_102 : decode bcX1_mark 102 = .ok (.getfield 374, 3) := dk_180 1 118 (dk_at dksX1_mark_4 11 rfl rfl)
theorem dX1_mark_105 : decode bcX1_mark 105 = .ok (.aload_n 0, 1) := dk_42 (dk_at dksX1_mark_4 14 rfl rfl)
theorem dX1_mark_106 : decode bcX1_mark 106 = .ok (.getfield 90, 3) := dk_180 0 90 (dk_at dksX1_mark_4 15 rfl rfl)
theorem dX1_mark_109 : decode bcX1_mark 109 = .ok (.invokestatic 365, 3) := dk_184 1 109 (dk_at dksX1_mark_4 18 rfl rfl)
theorem dX1_mark_112 : decode bcX1_mark 112 = .ok (.aload_n 0, 1) := dk_42 (dk_at dksX1_mark_4 21 rfl rfl)
theorem dX1_mark_113 : decode bcX1_mark 113 = .ok (.aload_n 3, 1) := dk_45 (dk_at dksX1_mark_4 22 rfl rfl)
theorem dX1_mark_114 : decode bcX1_mark 114 = .ok (.getfield 376, 3) := dk_180 1 120 (dk_at dksX1_mark_5 0 rfl rfl)
theorem dX1_mark_117 : decode bcX1_mark 117 = .ok (.putfield 121, 3) := dk_181 0 121 (dk_at dksX1_mark_5 3 rfl rfl)
theorem dX1_mark_120 : decode bcX1_mark 120 = .ok (.aload_n 0, 1) := dk_42 (dk_at dksX1_mark_5 6 rfl rfl)
theorem dX1_mark_121 : decode bcX1_mark 121 = .ok (.aload_n 3, 1) := dk_45 (dk_at dksX1_mark_5 7 rfl rfl)
theorem dX1_mark_122 : decode bcX1_mark 122 = .ok (.getfield 379, 3) := dk_180 1 123 (dk_at dksX1_mark_5 8 rfl rfl)
theorem dX1_mark_125 : decode bcX1_mark 125 = .ok (.putfield 124, 3) := dk_181 0 124 (dk_at dksX1_mark_5 11 rfl rfl)
theorem dX1_mark_128 : decode bcX1_mark 128 = .ok (.aload_n 0, 1) := dk_42 (dk_at dksX1_mark_5 14 rfl rfl)
theorem dX1_mark_129 : decode bcX1_mark 129 = .ok (.iconst 0, 1) := dk_3 (dk_at dksX1_mark_5 15 rfl rfl)
theorem dX1_mark_130 : decode bcX1_mark 130 = .ok (.putfield 127, 3) := dk_181 0 127 (dk_at dksX1_mark_5 16 rfl rfl)
theorem dX1_mark_133 : decode bcX1_mark 133 = .ok (.goto 74, 3) := dk_167 0 74 (dk_at dksX1_mark_5 19 rfl rfl)
theorem dX1_mark_136 : decode bcX1_mark 136 = .ok (.aload_n 3, 1) := dk_45 (dk_at dksX1_mark_5 22 rfl rfl)
theorem dX1_mark_137 : decode bcX1_mark 137 = .ok (.getfield 363, 3) := dk_180 1 107 (dk_at dksX1_mark_6 0 rfl rfl)
theorem dX1_mark_140 : decode bcX1_mark 140 = .ok (.aload_n 0, 1) := dk_42 (dk_at dksX1_mark_6 3 rfl rfl)
theorem dX1_mark_141 : decode bcX1_mark 141 = .ok (.getfield 51, 3) := dk_180 0 51 (dk_at dksX1_mark_6 4 rfl rfl)
theorem dX1_mark_144 : decode bcX1_mark 144 = .ok (.invokevirtual 253, 3) := dk_182 0 253 (dk_at dksX1_mark_6 7 rfl rfl)
theorem dX1_mark_147 : decode bcX1_mark 147 = .ok (.aload_n 0, 1) := dk_42 (dk_at dksX1_mark_6 10 rfl rfl)
theorem dX1_mark_148 : decode bcX1_mark 148 = .ok (.getfield 72, 3) := dk_180 0 72 (dk_at dksX1_mark_6 11 rfl rfl)
theorem dX1_mark_151 : decode bcX1_mark 151 = .ok (.aload_n 3, 1) := dk_45 (dk_at dksX1_mark_6 14 rfl rfl)
theorem dX1_mark_152 : decode bcX1_mark 152 = .ok (.getfield 364, 3) := dk_180 1 108 (dk_at dksX1_mark_6 15 rfl rfl)
theorem dX1_mark_155 : decode bcX1_mark 155 = .ok (.invokestatic 365, 3) := dk_184 1 109 (dk_at dksX1_mark_6 18 rfl rfl)
theorem dX1_mark_158 : decode bcX1_mark 158 = .ok (.aload_n 0, 1) := dk_42 (dk_at dksX1_mark_6 21 rfl rfl)
theorem dX1_mark_159 : decode bcX1_mark 159 = .ok (.getfield 75, 3) := dk_180 0 75 (dk_at dksX1_mark_7 0 rfl rfl)
theorem dX1_mark_162 : decode bcX1_mark 162 = .ok (.aload_n 3, 1) := dk_45 (dk_at dksX1_mark_7 3 rfl rfl)
theorem dX1_mark_163 : decode bcX1_mark 163 = .ok (.getfield 369, 3) := dk_180 1 113 (dk_at dksX1_mark_7 4 rfl rfl)
theorem dX1_mark_166 : decode bcX1_mark 166 = .ok (.invokestatic 365, 3) := dk_184 1 109 (dk_at dksX1_mark_7 7 rfl rfl)
theorem dX1_mark_169 : decode bcX1_mark 169 = .ok (.aload_n 0, 1) := dk_42 (dk_at dksX1_mark_7 10 rfl rfl)
theorem dX1_mark_170 : decode bcX1_mark 170 = .ok (.getfield 87, 3) := dk_180 0 87 (dk_at dksX1_mark_7 11 rfl rfl)
theorem dX1_mark_173 : decode bcX1_mark 173 = .ok (.aload_n 3, 1) := dk_45 (dk_at dksX1_mark_7 14 rfl rfl)
theorem dX1_mark_174 : decode bcX1_mark 174 = .ok (.getfield 371, 3) := dk_180 1 115 (dk_at dksX1_mark_7 15 rfl rfl)
theorem dX1_mark_177 : decode bcX1_mark 177 = .ok (.invokestatic 365, 3) := dk_184 1 109 (dk_at dksX1_mark_7 18 rfl rfl)
theorem dX1_mark_180 : decode bcX1_mark 180 = .ok (.aload_n 0, 1) := dk_42 (dk_at dksX1_mark_7 21 rfl rfl)
theorem dX1_mark_181 : decode bcX1_mark 181 = .ok (.getfield 90, 3) := dk_180 0 90 (dk_at dksX1_mark_8 0 rfl rfl)
theorem dX1_mark_184 : decode bcX1_mark 184 = .ok (.aload_n 3, 1) := dk_45 (dk_at dksX1_mark_8 3 rfl rfl)
theorem dX1_mark_185 : decode bcX1_mark 185 = .ok (.getfield 374, 3) := dk_180 1 118 (dk_at dksX1_mark_8 4 rfl rfl)
theorem dX1_mark_188 : decode bcX1_mark 188 = .ok (.invokestatic 365, 3) := dk_184 1 109 (dk_at dksX1_mark_8 7 rfl rfl)
theorem dX1_mark_191 : decode bcX1_mark 191 = .ok (.aload_n 3, 1) := dk_45 (dk_at dksX1_mark_8 10 rfl rfl)
theorem dX1_mark_192 : decode bcX1_mark 192 = .ok (.aload_n 0, 1) := dk_42 (dk_at dksX1_mark_8 11 rfl rfl)
theorem dX1_mark_193 : decode bcX1_mark 193 = .ok (.getfield 121, 3) := dk_180 0 121 (dk_at dksX1_mark_8 12 rfl rfl)
theorem dX1_mark_196 : decode bcX1_mark 196 = .ok (.putfield 376, 3) := dk_181 1 120 (dk_at dksX1_mark_8 15 rfl rfl)
theorem dX1_mark_199 : decode bcX1_mark 199 = .ok (.aload_n 3, 1) := dk_45 (dk_at dksX1_mark_8 18 rfl rfl)
theorem dX1_mark_200 : decode bcX1_mark 200 = .ok (.aload_n 0, 1) := dk_42 (dk_at dksX1_mark_8 19 rfl rfl)
theorem dX1_mark_201 : decode bcX1_mark 201 = .ok (.getfield 124, 3) := dk_180 0 124 (dk_at dksX1_mark_8 20 rfl rfl)
theorem dX1_mark_204 : decode bcX1_mark 204 = .ok (.putfield 379, 3) := dk_181 1 123 (dk_at dksX1_mark_9 0 rfl rfl)
theorem dX1_mark_207 : decode bcX1_mark 207 = .ok (.iconst 0, 1) := dk_3 (dk_at dksX1_mark_9 3 rfl rfl)
theorem dX1_mark_208 : decode bcX1_mark 208 = .ok (.istore 4, 2) := dk_54 4 (dk_at dksX1_mark_9 4 rfl rfl)
theorem dX1_mark_210 : decode bcX1_mark 210 = .ok (.iload 4, 2) := dk_21 4 (dk_at dksX1_mark_9 6 rfl rfl)
theorem dX1_mark_212 : decode bcX1_mark 212 = .ok (.bipush 8, 2) := dk_16 8 (dk_at dksX1_mark_9 8 rfl rfl)
theorem dX1_mark_214 : decode bcX1_mark 214 = .ok (.if_icmp .ge 44, 3) := dk_162 0 44 (dk_at dksX1_mark_9 10 rfl rfl)
theorem dX1_mark_217 : decode bcX1_mark 217 = .ok (.iload_n 2, 1) := dk_28 (dk_at dksX1_mark_9 13 rfl rfl)
theorem dX1_mark_218 : decode bcX1_mark 218 = .ok (.ifCond .eq 20, 3) := dk_153 0 20 (dk_at dksX1_mark_9 14 rfl rfl)
theorem dX1_mark_221 : decode bcX1_mark 221 = .ok (.aload_n 0, 1) := dk_42 (dk_at dksX1_mark_9 17 rfl rfl)
theorem dX1_mark_222 : decode bcX1_mark 222 = .ok (.getfield 78, 3) := dk_180 0 78 (dk_at dksX1_mark_9 18 rfl rfl)
theorem dX1_mark_225 : decode bcX1_mark 225 = .ok (.iload 4, 2) := dk_21 4 (dk_at dksX1_mark_9 21 rfl rfl)
theorem dX1_mark_227 : decode bcX1_mark 227 = .ok (.aload_n 3, 1) := dk_45 (dk_at dksX1_mark_9 23 rfl rfl)
theorem dX1_mark_228 : decode bcX1_mark 228 = .ok (.getfield 382, 3) := dk_180 1 126 (dk_at dksX1_mark_10 0 rfl rfl)
theorem dX1_mark_231 : decode bcX1_mark 231 = .ok (.iload 4, 2) := dk_21 4 (dk_at dksX1_mark_10 3 rfl rfl)
theorem dX1_mark_233 : decode bcX1_mark 233 = .ok (.baload, 1) := dk_51 (dk_at dksX1_mark_10 5 rfl rfl)
theorem dX1_mark_234 : decode bcX1_mark 234 = .ok (.bastore, 1) := dk_84 (dk_at dksX1_mark_10 6 rfl rfl)
theorem dX1_mark_235 : decode bcX1_mark 235 = .ok (.goto 17, 3) := dk_167 0 17 (dk_at dksX1_mark_10 7 rfl rfl)
theorem dX1_mark_238 : decode bcX1_mark 238 = .ok (.aload_n 3, 1) := dk_45 (dk_at dksX1_mark_10 10 rfl rfl)
theorem dX1_mark_239 : decode bcX1_mark 239 = .ok (.getfield 382, 3) := dk_180 1 126 (dk_at dksX1_mark_10 11 rfl rfl)
theorem dX1_mark_242 : decode bcX1_mark 242 = .ok (.iload 4, 2) := dk_21 4 (dk_at dksX1_mark_10 14 rfl rfl)
theorem dX1_mark_244 : decode bcX1_mark 244 = .ok (.aload_n 0, 1) := dk_42 (dk_at dksX1_mark_10 16 rfl rfl)
theorem dX1_mark_245 : decode bcX1_mark 245 = .ok (.getfield 78, 3) := dk_180 0 78 (dk_at dksX1_mark_10 17 rfl rfl)
theorem dX1_mark_248 : decode bcX1_mark 248 = .ok (.iload 4, 2) := dk_21 4 (dk_at dksX1_mark_10 20 rfl rfl)
theorem dX1_mark_250 : decode bcX1_mark 250 = .ok (.baload, 1) := dk_51 (dk_at dksX1_mark_10 22 rfl rfl)
theorem dX1_mark_251 : decode bcX1_mark 251 = .ok (.bastore, 1) := dk_84 (dk_at dksX1_mark_10 23 rfl rfl)
theorem dX1_mark_252 : decode bcX1_mark 252 = .ok (.iinc 4 1, 3) := dk_132 4 1 (dk_at dksX1_mark_11 0 rfl rfl)
theorem dX1_mark_255 : decode bcX1_mark 255 = .ok (.goto (-45), 3) := dk_167 255 211 (dk_at dksX1_mark_11 3 rfl rfl)
theorem dX1_mark_258 : decode bcX1_mark 258 = .ok (.iconst 1, 1) := dk_4 (dk_at dksX1_mark_11 6 rfl rfl)
theorem dX1_mark_259 : decode bcX1_mark 259 = .ok (.ireturn, 1) := dk_172 (dk_at dksX1_mark_11 7 rfl rfl)
abbrev SX1_mark (pc : Nat) (i : xI) : Prop := Snd "SwollenHouse" "mark" prog_1_method_78_code 5 (Option.some Jvm.ClassFile.FieldType.boolean) [] pc i
theorem oX1_mark_0 : SX1_mark 0 (i_iload 1 1) := snd_iload_n dX1_mark_0 rfl
theorem oX1_mark_1 : SX1_mark 1 (i_const (.int (nI 0)) 2) := snd_iconst dX1_mark_1 (by decide)
theorem oX1_mark_2 : SX1_mark 2 (i_const (.int (nI 3)) 3) := snd_iconst dX1_mark_2 (by decide)
theorem oX1_mark_3 : SX1_mark 3 (i_cs 92 3 6) := snd_cs rfl infX1_in (by decide) (xSm_S dX1_mark_3 q1145 q982 q127 q983 pdX1_in)
theorem oX1_mark_6 : SX1_mark 6 (i_if1 (fun x => x = 0) 22 9) := snd_if_eq dX1_mark_6 (by decide)
theorem oX1_mark_9 : SX1_mark 9 (i_iload 2 10) := snd_iload_n dX1_mark_9 rfl
theorem oX1_mark_10 : SX1_mark 10 (i_if1 (fun x => x = 0) 24 13) := snd_if_eq dX1_mark_10 (by decide)
theorem oX1_mark_13 : SX1_mark 13 (i_aload 0 14) := snd_aload_n dX1_mark_13 rfl
theorem oX1_mark_14 : SX1_mark 14 (i_getf 0 21 17) := snd_getf dX1_mark_14 rfl (by decide) in_X1 (Or.inl q367) (Or.inl rfl) (by decide)
theorem oX1_mark_17 : SX1_mark 17 (i_iload 1 18) := snd_iload_n dX1_mark_17 rfl
theorem oX1_mark_18 : SX1_mark 18 (i_aq 7 19) := snd_aq dX1_mark_18 (fun _ => rfl) rfl
theorem oX1_mark_19 : SX1_mark 19 (i_ifnonnull 24 22) := snd_ifnonnull dX1_mark_19 (by decide)
theorem oX1_mark_22 : SX1_mark 22 (i_const (.int (nI 0)) 23) := snd_iconst dX1_mark_22 (by decide)
theorem oX1_mark_23 : SX1_mark 23 (i_zret) := snd_zret dX1_mark_23 rfl
theorem oX1_mark_24 : SX1_mark 24 (i_aload 0 25) := snd_aload_n dX1_mark_24 rfl
theorem oX1_mark_25 : SX1_mark 25 (i_getf 0 21 28) := snd_getf dX1_mark_25 rfl (by decide) in_X1 (Or.inl q367) (Or.inl rfl) (by decide)
theorem oX1_mark_28 : SX1_mark 28 (i_iload 1 29) := snd_iload_n dX1_mark_28 rfl
theorem oX1_mark_29 : SX1_mark 29 (i_aq 7 30) := snd_aq dX1_mark_29 (fun _ => rfl) rfl
theorem oX1_mark_30 : SX1_mark 30 (i_ifnonnull 46 33) := snd_ifnonnull dX1_mark_30 (by decide)
theorem oX1_mark_33 : SX1_mark 33 (i_aload 0 34) := snd_aload_n dX1_mark_33 rfl
theorem oX1_mark_34 : SX1_mark 34 (i_getf 0 21 37) := snd_getf dX1_mark_34 rfl (by decide) in_X1 (Or.inl q367) (Or.inl rfl) (by decide)
theorem oX1_mark_37 : SX1_mark 37 (i_iload 1 38) := snd_iload_n dX1_mark_37 rfl
theorem oX1_mark_38 : SX1_mark 38 (i_new 20 8 zX24 41) := snd_new dX1_mark_38 rfl in_X24 tyX24 tyX24_ok (by decide) q317 q1555 q170
theorem oX1_mark_41 : SX1_mark 41 (i_dup 42) := snd_dup dX1_mark_41
theorem oX1_mark_42 : SX1_mark 42 (i_ci [20] 231 0 45) := snd_ci rfl infX24_init (by decide) (xcls_ok _ (by decide)) (xIm_N dX1_mark_42 rfl q1556 q1557 q170 q1558 pdX24_init)
theorem oX1_mark_45 : SX1_mark 45 (i_sq [20] 7 46) := snd_sq dX1_mark_45 (by decide) rfl okcs_7
theorem oX1_mark_46 : SX1_mark 46 (i_aload 0 47) := snd_aload_n dX1_mark_46 rfl
theorem oX1_mark_47 : SX1_mark 47 (i_getf 0 21 50) := snd_getf dX1_mark_47 rfl (by decide) in_X1 (Or.inl q367) (Or.inl rfl) (by decide)
theorem oX1_mark_50 : SX1_mark 50 (i_iload 1 51) := snd_iload_n dX1_mark_50 rfl
theorem oX1_mark_51 : SX1_mark 51 (i_aq 7 52) := snd_aq dX1_mark_51 (fun _ => rfl) rfl
theorem oX1_mark_52 : SX1_mark 52 (i_astore 3 53) := snd_astore_n dX1_mark_52 rfl (by decide)
theorem oX1_mark_53 : SX1_mark 53 (i_iload 2 54) := snd_iload_n dX1_mark_53 rfl
theorem oX1_mark_54 : SX1_mark 54 (i_if1 (fun x => x = 0) 136 57) := snd_if_eq dX1_mark_54 (by decide)
theorem oX1_mark_57 : SX1_mark 57 (i_aload 0 58) := snd_aload_n dX1_mark_57 rfl
theorem oX1_mark_58 : SX1_mark 58 (i_getf 0 4 61) := snd_getf dX1_mark_58 rfl (by decide) in_X1 (Or.inl q350) (Or.inl rfl) (by decide)
theorem oX1_mark_61 : SX1_mark 61 (i_aload 3 62) := snd_aload_n dX1_mark_61 rfl
theorem oX1_mark_62 : SX1_mark 62 (i_getf 20 0 65) := snd_getf dX1_mark_62 rfl (by decide) in_X24 (Or.inr ⟨_, q1563⟩) (Or.inl rfl) (by decide)
theorem oX1_mark_65 : SX1_mark 65 (i_cvv 3 239 1 68) := snd_cvv rfl infX4_be (by decide) rfl (xVm_V dX1_mark_65 rfl q1194 q1195 q1196 q133 q1197 pdX4_be)
theorem oX1_mark_68 : SX1_mark 68 (i_aload 3 69) := snd_aload_n dX1_mark_68 rfl
theorem oX1_mark_69 : SX1_mark 69 (i_getf 20 1 72) := snd_getf dX1_mark_69 rfl (by decide) in_X24 (Or.inr ⟨_, q1565⟩) (Or.inl rfl) (by decide)
theorem oX1_mark_72 : SX1_mark 72 (i_aload 0 73) := snd_aload_n dX1_mark_72 rfl
theorem oX1_mark_73 : SX1_mark 73 (i_getf 0 12 76) := snd_getf dX1_mark_73 rfl (by decide) in_X1 (Or.inl q358) (Or.inl rfl) (by decide)
theorem oX1_mark_76 : SX1_mark 76 (i_csv 88 2 79) := snd_csv rfl infX1_copies (by decide) (xSm_S dX1_mark_76 q1593 q343 q127 q344 pdX1_copies)
theorem oX1_mark_79 : SX1_mark 79 (i_aload 3 80) := snd_aload_n dX1_mark_79 rfl
theorem oX1_mark_80 : SX1_mark 80 (i_getf 20 2 83) := snd_getf dX1_mark_80 rfl (by decide) in_X24 (Or.inr ⟨_, q1567⟩) (Or.inl rfl) (by decide)
theorem oX1_mark_83 : SX1_mark 83 (i_aload 0 84) := snd_aload_n dX1_mark_83 rfl
theorem oX1_mark_84 : SX1_mark 84 (i_getf 0 13 87) := snd_getf dX1_mark_84 rfl (by decide) in_X1 (Or.inl q359) (Or.inl rfl) (by decide)
theorem oX1_mark_87 : SX1_mark 87 (i_csv 88 2 90) := snd_csv rfl infX1_copies (by decide) (xSm_S dX1_mark_87 q1593 q343 q127 q344 pdX1_copies)
theorem oX1_mark_90 : SX1_mark 90 (i_aload 3 91) := snd_aload_n dX1_mark_90 rfl
theorem oX1_mark_91 : SX1_mark 91 (i_getf 20 3 94) := snd_getf dX1_mark_91 rfl (by decide) in_X24 (Or.inr ⟨_, q1569⟩) (Or.inl rfl) (by decide)
theorem oX1_mark_94 : SX1_mark 94 (i_aload 0 95) := snd_aload_n dX1_mark_94 rfl
theorem oX1_mark_95 : SX1_mark 95 (i_getf 0 17 98) := snd_getf dX1_mark_95 rfl (by decide) in_X1 (Or.inl q363) (Or.inl rfl) (by decide)
theorem oX1_mark_98 : SX1_mark 98 (i_csv 88 2 101) := snd_csv rfl infX1_copies (by decide) (xSm_S dX1_mark_98 q1593 q343 q127 q344 pdX1_copies)
theorem oX1_mark_101 : SX1_mark 101 (i_aload 3 102) := snd_aload_n dX1_mark_101 rfl
theorem oX1_mark_102 : SX1_mark 102 (i_getf 20 4 105) := snd_getf dX1_mark_102 rfl (by decide) in_X24 (Or.inr ⟨_, q1571⟩) (Or.inl rfl) (by decide)
theorem oX1_mark_105 : SX1_mark 105 (i_aload 0 106) := snd_aload_n dX1_mark_105 rfl
theorem oX1_mark_106 : SX1_mark 106 (i_getf 0 18 109) := snd_getf dX1_mark_106 rfl (by decide) in_X1 (Or.inl q364) (Or.inl rfl) (by decide)
theorem oX1_mark_109 : SX1_mark 109 (i_csv 88 2 112) := snd_csv rfl infX1_copies (by decide) (xSm_S dX1_mark_109 q1593 q343 q127 q344 pdX1_copies)
theorem oX1_mark_112 : SX1_mark 112 (i_aload 0 113) := snd_aload_n dX1_mark_112 rfl
theorem oX1_mark_113 : SX1_mark 113 (i_aload 3 114) := snd_aload_n dX1_mark_113 rfl
theorem oX1_mark_114 : SX1_mark 114 (i_getf 20 6 117) := snd_getf dX1_mark_114 rfl (by decide) in_X24 (Or.inr ⟨_, q1574⟩) (Or.inl rfl) (by decide)
theorem oX1_mark_117 : SX1_mark 117 (i_putfi 0 15 120) := snd_putfi dX1_mark_117 rfl (by decide) in_X1 tyX1 tyX1_ok nmX1 (Or.inl ⟨rfl, q361⟩) (Or.inl rfl) rfl
theorem oX1_mark_120 : SX1_mark 120 (i_aload 0 121) := snd_aload_n dX1_mark_120 rfl
theorem oX1_mark_121 : SX1_mark 121 (i_aload 3 122) := snd_aload_n dX1_mark_121 rfl
theorem oX1_mark_122 : SX1_mark 122 (i_getf 20 7 125) := snd_getf dX1_mark_122 rfl (by decide) in_X24 (Or.inr ⟨_, q1575⟩) (Or.inl rfl) (by decide)
theorem oX1_mark_125 : SX1_mark 125 (i_putfi 0 19 128) := snd_putfi dX1_mark_125 rfl (by decide) in_X1 tyX1 tyX1_ok nmX1 (Or.inl ⟨rfl, q365⟩) (Or.inl rfl) rfl
theorem oX1_mark_128 : SX1_mark 128 (i_aload 0 129) := snd_aload_n dX1_mark_128 rfl
theorem oX1_mark_129 : SX1_mark 129 (i_const (.int (nI 0)) 130) := snd_iconst dX1_mark_129 (by decide)
theorem oX1_mark_130 : SX1_mark 130 (i_putfi 0 9 133) := snd_putfi dX1_mark_130 rfl (by decide) in_X1 tyX1 tyX1_ok nmX1 (Or.inl ⟨rfl, q355⟩) (Or.inl rfl) rfl
theorem oX1_mark_133 : SX1_mark 133 (i_goto 207) := snd_goto dX1_mark_133 (by decide)
theorem oX1_mark_136 : SX1_mark 136 (i_aload 3 137) := snd_aload_n dX1_mark_136 rfl
theorem oX1_mark_137 : SX1_mark 137 (i_getf 20 0 140) := snd_getf dX1_mark_137 rfl (by decide) in_X24 (Or.inr ⟨_, q1563⟩) (Or.inl rfl) (by decide)
theorem oX1_mark_140 : SX1_mark 140 (i_aload 0 141) := snd_aload_n dX1_mark_140 rfl
theorem oX1_mark_141 : SX1_mark 141 (i_getf 0 4 144) := snd_getf dX1_mark_141 rfl (by decide) in_X1 (Or.inl q350) (Or.inl rfl) (by decide)
theorem oX1_mark_144 : SX1_mark 144 (i_cvv 3 239 1 147) := snd_cvv rfl infX4_be (by decide) rfl (xVm_V dX1_mark_144 rfl q1194 q1195 q1196 q133 q1197 pdX4_be)
theorem oX1_mark_147 : SX1_mark 147 (i_aload 0 148) := snd_aload_n dX1_mark_147 rfl
theorem oX1_mark_148 : SX1_mark 148 (i_getf 0 12 151) := snd_getf dX1_mark_148 rfl (by decide) in_X1 (Or.inl q358) (Or.inl rfl) (by decide)
theorem oX1_mark_151 : SX1_mark 151 (i_aload 3 152) := snd_aload_n dX1_mark_151 rfl
theorem oX1_mark_152 : SX1_mark 152 (i_getf 20 1 155) := snd_getf dX1_mark_152 rfl (by decide) in_X24 (Or.inr ⟨_, q1565⟩) (Or.inl rfl) (by decide)
theorem oX1_mark_155 : SX1_mark 155 (i_csv 88 2 158) := snd_csv rfl infX1_copies (by decide) (xSm_S dX1_mark_155 q1593 q343 q127 q344 pdX1_copies)
theorem oX1_mark_158 : SX1_mark 158 (i_aload 0 159) := snd_aload_n dX1_mark_158 rfl
theorem oX1_mark_159 : SX1_mark 159 (i_getf 0 13 162) := snd_getf dX1_mark_159 rfl (by decide) in_X1 (Or.inl q359) (Or.inl rfl) (by decide)
theorem oX1_mark_162 : SX1_mark 162 (i_aload 3 163) := snd_aload_n dX1_mark_162 rfl
theorem oX1_mark_163 : SX1_mark 163 (i_getf 20 2 166) := snd_getf dX1_mark_163 rfl (by decide) in_X24 (Or.inr ⟨_, q1567⟩) (Or.inl rfl) (by decide)
theorem oX1_mark_166 : SX1_mark 166 (i_csv 88 2 169) := snd_csv rfl infX1_copies (by decide) (xSm_S dX1_mark_166 q1593 q343 q127 q344 pdX1_copies)
theorem oX1_mark_169 : SX1_mark 169 (i_aload 0 170) := snd_aload_n dX1_mark_169 rfl
theorem oX1_mark_170 : SX1_mark 170 (i_getf 0 17 173) := snd_getf dX1_mark_170 rfl (by decide) in_X1 (Or.inl q363) (Or.inl rfl) (by decide)
theorem oX1_mark_173 : SX1_mark 173 (i_aload 3 174) := snd_aload_n dX1_mark_173 rfl
theorem oX1_mark_174 : SX1_mark 174 (i_getf 20 3 177) := snd_getf dX1_mark_174 rfl (by decide) in_X24 (Or.inr ⟨_, q1569⟩) (Or.inl rfl) (by decide)
theorem oX1_mark_177 : SX1_mark 177 (i_csv 88 2 180) := snd_csv rfl infX1_copies (by decide) (xSm_S dX1_mark_177 q1593 q343 q127 q344 pdX1_copies)
theorem oX1_mark_180 : SX1_mark 180 (i_aload 0 181) := snd_aload_n dX1_mark_180 rfl
theorem oX1_mark_181 : SX1_mark 181 (i_getf 0 18 184) := snd_getf dX1_mark_181 rfl (by decide) in_X1 (Or.inl q364) (Or.inl rfl) (by decide)
theorem oX1_mark_184 : SX1_mark 184 (i_aload 3 185) := snd_aload_n dX1_mark_184 rfl
theorem oX1_mark_185 : SX1_mark 185 (i_getf 20 4 188) := snd_getf dX1_mark_185 rfl (by decide) in_X24 (Or.inr ⟨_, q1571⟩) (Or.inl rfl) (by decide)
theorem oX1_mark_188 : SX1_mark 188 (i_csv 88 2 191) := snd_csv rfl infX1_copies (by decide) (xSm_S dX1_mark_188 q1593 q343 q127 q344 pdX1_copies)
theorem oX1_mark_191 : SX1_mark 191 (i_aload 3 192) := snd_aload_n dX1_mark_191 rfl
theorem oX1_mark_192 : SX1_mark 192 (i_aload 0 193) := snd_aload_n dX1_mark_192 rfl
theorem oX1_mark_193 : SX1_mark 193 (i_getf 0 15 196) := snd_getf dX1_mark_193 rfl (by decide) in_X1 (Or.inl q361) (Or.inl rfl) (by decide)
theorem oX1_mark_196 : SX1_mark 196 (i_putfi 20 6 199) := snd_putfi dX1_mark_196 rfl (by decide) in_X24 tyX24 tyX24_ok nmX24 (Or.inr (Or.inr ⟨rfl, _, q1574⟩)) (Or.inl rfl) rfl
theorem oX1_mark_199 : SX1_mark 199 (i_aload 3 200) := snd_aload_n dX1_mark_199 rfl
theorem oX1_mark_200 : SX1_mark 200 (i_aload 0 201) := snd_aload_n dX1_mark_200 rfl
theorem oX1_mark_201 : SX1_mark 201 (i_getf 0 19 204) := snd_getf dX1_mark_201 rfl (by decide) in_X1 (Or.inl q365) (Or.inl rfl) (by decide)
theorem oX1_mark_204 : SX1_mark 204 (i_putfi 20 7 207) := snd_putfi dX1_mark_204 rfl (by decide) in_X24 tyX24 tyX24_ok nmX24 (Or.inr (Or.inr ⟨rfl, _, q1575⟩)) (Or.inl rfl) rfl
theorem oX1_mark_207 : SX1_mark 207 (i_const (.int (nI 0)) 208) := snd_iconst dX1_mark_207 (by decide)
theorem oX1_mark_208 : SX1_mark 208 (i_istore 4 210) := snd_istore dX1_mark_208 (by decide)
theorem oX1_mark_210 : SX1_mark 210 (i_iload 4 212) := snd_iload dX1_mark_210
theorem oX1_mark_212 : SX1_mark 212 (i_const (.int (nI 8)) 214) := snd_bipush dX1_mark_212 (by decide)
theorem oX1_mark_214 : SX1_mark 214 (i_if2 (fun x y => y ≤ x) 258 217) := snd_icmp_ge dX1_mark_214 (by decide)
theorem oX1_mark_217 : SX1_mark 217 (i_iload 2 218) := snd_iload_n dX1_mark_217 rfl
theorem oX1_mark_218 : SX1_mark 218 (i_if1 (fun x => x = 0) 238 221) := snd_if_eq dX1_mark_218 (by decide)
theorem oX1_mark_221 : SX1_mark 221 (i_aload 0 222) := snd_aload_n dX1_mark_221 rfl
theorem oX1_mark_222 : SX1_mark 222 (i_getf 0 14 225) := snd_getf dX1_mark_222 rfl (by decide) in_X1 (Or.inl q360) (Or.inl rfl) (by decide)
theorem oX1_mark_225 : SX1_mark 225 (i_iload 4 227) := snd_iload dX1_mark_225
theorem oX1_mark_227 : SX1_mark 227 (i_aload 3 228) := snd_aload_n dX1_mark_227 rfl
theorem oX1_mark_228 : SX1_mark 228 (i_getf 20 5 231) := snd_getf dX1_mark_228 rfl (by decide) in_X24 (Or.inr ⟨_, q1573⟩) (Or.inl rfl) (by decide)
theorem oX1_mark_231 : SX1_mark 231 (i_iload 4 233) := snd_iload dX1_mark_231
theorem oX1_mark_233 : SX1_mark 233 (i_ai 2 234) := snd_ai2 dX1_mark_233
theorem oX1_mark_234 : SX1_mark 234 (i_si (fun v => vp_nar .boolean v) 2 235) := snd_si2 dX1_mark_234
theorem oX1_mark_235 : SX1_mark 235 (i_goto 252) := snd_goto dX1_mark_235 (by decide)
theorem oX1_mark_238 : SX1_mark 238 (i_aload 3 239) := snd_aload_n dX1_mark_238 rfl
theorem oX1_mark_239 : SX1_mark 239 (i_getf 20 5 242) := snd_getf dX1_mark_239 rfl (by decide) in_X24 (Or.inr ⟨_, q1573⟩) (Or.inl rfl) (by decide)
theorem oX1_mark_242 : SX1_mark 242 (i_iload 4 244) := snd_iload dX1_mark_242
theorem oX1_mark_244 : SX1_mark 244 (i_aload 0 245) := snd_aload_n dX1_mark_244 rfl
theorem oX1_mark_245 : SX1_mark 245 (i_getf 0 14 248) := snd_getf dX1_mark_245 rfl (by decide) in_X1 (Or.inl q360) (Or.inl rfl) (by decide)
theorem oX1_mark_248 : SX1_mark 248 (i_iload 4 250) := snd_iload dX1_mark_248
theorem oX1_mark_250 : SX1_mark 250 (i_ai 2 251) := snd_ai2 dX1_mark_250
theorem oX1_mark_251 : SX1_mark 251 (i_si (fun v => vp_nar .boolean v) 2 252) := snd_si2 dX1_mark_251
theorem oX1_mark_252 : SX1_mark 252 (i_iinc 4 (nI 1) 255) := snd_iinc dX1_mark_252 (by decide) (by decide)
theorem oX1_mark_255 : SX1_mark 255 (i_goto 210) := snd_goto dX1_mark_255 (by decide)
theorem oX1_mark_258 : SX1_mark 258 (i_const (.int (nI 1)) 259) := snd_iconst dX1_mark_258 (by decide)
theorem oX1_mark_259 : SX1_mark 259 (i_zret) := snd_zret dX1_mark_259 rfl
theorem okX1_mark : ∀ q ∈ cX1_mark, SX1_mark q.1 q.2 := List.forall_mem_cons.mpr ⟨oX1_mark_0, List.forall_mem_cons.mpr ⟨oX1_mark_1, List.forall_mem_cons.mpr ⟨oX1_mark_2, List.forall_mem_cons.mpr ⟨oX1_mark_3, List.forall_mem_cons.mpr ⟨oX1_mark_6, List.forall_mem_cons.mpr ⟨oX1_mark_9, List.forall_mem_cons.mpr ⟨oX1_mark_10, List.forall_mem_cons.mpr ⟨oX1_mark_13, List.forall_mem_cons.mpr ⟨oX1_mark_14, List.forall_mem_cons.mpr ⟨oX1_mark_17, List.forall_mem_cons.mpr ⟨oX1_mark_18, List.forall_mem_cons.mpr ⟨oX1_mark_19, List.forall_mem_cons.mpr ⟨oX1_mark_22, List.forall_mem_cons.mpr ⟨oX1_mark_23, List.forall_mem_cons.mpr ⟨oX1_mark_24, List.forall_mem_cons.mpr ⟨oX1_mark_25, List.forall_mem_cons.mpr ⟨oX1_mark_28, List.forall_mem_cons.mpr ⟨oX1_mark_29, List.forall_mem_cons.mpr ⟨oX1_mark_30, List.forall_mem_cons.mpr ⟨oX1_mark_33, List.forall_mem_cons.mpr ⟨oX1_mark_34, List.forall_mem_cons.mpr ⟨oX1_mark_37, List.forall_mem_cons.mpr ⟨oX1_mark_38, List.forall_mem_cons.mpr ⟨oX1_mark_41, List.forall_mem_cons.mpr ⟨oX1_mark_42, List.forall_mem_cons.mpr ⟨oX1_mark_45, List.forall_mem_cons.mpr ⟨oX1_mark_46, List.forall_mem_cons.mpr ⟨oX1_mark_47, List.forall_mem_cons.mpr ⟨oX1_mark_50, List.forall_mem_cons.mpr ⟨oX1_mark_51, List.forall_mem_cons.mpr ⟨oX1_mark_52, List.forall_mem_cons.mpr ⟨oX1_mark_53, List.forall_mem_cons.mpr ⟨oX1_mark_54, List.forall_mem_cons.mpr ⟨oX1_mark_57, List.forall_mem_cons.mpr ⟨oX1_mark_58, List.forall_mem_cons.mpr ⟨oX1_mark_61, List.forall_mem_cons.mpr ⟨oX1_mark_62, List.forall_mem_cons.mpr ⟨oX1_mark_65, List.forall_mem_cons.mpr ⟨oX1_mark_68, List.forall_mem_cons.mpr ⟨oX1_mark_69, List.forall_mem_cons.mpr ⟨oX1_mark_72, List.forall_mem_cons.mpr ⟨oX1_mark_73, List.forall_mem_cons.mpr ⟨oX1_mark_76, List.forall_mem_cons.mpr ⟨oX1_mark_79, List.forall_mem_cons.mpr ⟨oX1_mark_80, List.forall_mem_cons.mpr ⟨oX1_mark_83, List.forall_mem_cons.mpr ⟨oX1_mark_84, List.forall_mem_cons.mpr ⟨oX1_mark_87, List.forall_mem_cons.mpr ⟨oX1_mark_90, List.forall_mem_cons.mpr ⟨oX1_mark_91, List.forall_mem_cons.mpr ⟨oX1_mark_94, List.forall_mem_cons.mpr ⟨oX1_mark_95, List.forall_mem_cons.mpr ⟨oX1_mark_98, List.forall_mem_cons.mpr ⟨oX1_mark_101, List.forall_mem_cons.mpr ⟨oX1_mark_102, List.forall_mem_cons.mpr ⟨oX1_mark_105, List.forall_mem_cons.mpr ⟨oX1_mark_106, List.forall_mem_cons.mpr ⟨oX1_mark_109, List.forall_mem_cons.mpr ⟨oX1_mark_112, List.forall_mem_cons.mpr ⟨oX1_mark_113, List.forall_mem_cons.mpr ⟨oX1_mark_114, List.forall_mem_cons.mpr ⟨oX1_mark_117, List.forall_mem_cons.mpr ⟨oX1_mark_120, List.forall_mem_cons.mpr ⟨oX1_mark_121, List.forall_mem_cons.mpr ⟨oX1_mark_122, List.forall_mem_cons.mpr ⟨oX1_mark_125, List.forall_mem_cons.mpr ⟨oX1_mark_128, List.forall_mem_cons.mpr ⟨oX1_mark_129, List.forall_mem_cons.mpr ⟨oX1_mark_130, List.forall_mem_cons.mpr ⟨oX1_mark_133, List.forall_mem_cons.mpr ⟨oX1_mark_136, List.forall_mem_cons.mpr ⟨oX1_mark_137, List.forall_mem_cons.mpr ⟨oX1_mark_140, List.forall_mem_cons.mpr ⟨oX1_mark_141, List.forall_mem_cons.mpr ⟨oX1_mark_144, List.forall_mem_cons.mpr ⟨oX1_mark_147, List.forall_mem_cons.mpr ⟨oX1_mark_148, List.forall_mem_cons.mpr ⟨oX1_mark_151, List.forall_mem_cons.mpr ⟨oX1_mark_152, List.forall_mem_cons.mpr ⟨oX1_mark_155, List.forall_mem_cons.mpr ⟨oX1_mark_158, List.forall_mem_cons.mpr ⟨oX1_mark_159, List.forall_mem_cons.mpr ⟨oX1_mark_162, List.forall_mem_cons.mpr ⟨oX1_mark_163, List.forall_mem_cons.mpr ⟨oX1_mark_166, List.forall_mem_cons.mpr ⟨oX1_mark_169, List.forall_mem_cons.mpr ⟨oX1_mark_170, List.forall_mem_cons.mpr ⟨oX1_mark_173, List.forall_mem_cons.mpr ⟨oX1_mark_174, List.forall_mem_cons.mpr ⟨oX1_mark_177, List.forall_mem_cons.mpr ⟨oX1_mark_180, List.forall_mem_cons.mpr ⟨oX1_mark_181, List.forall_mem_cons.mpr ⟨oX1_mark_184, List.forall_mem_cons.mpr ⟨oX1_mark_185, List.forall_mem_cons.mpr ⟨oX1_mark_188, List.forall_mem_cons.mpr ⟨oX1_mark_191, List.forall_mem_cons.mpr ⟨oX1_mark_192, List.forall_mem_cons.mpr ⟨oX1_mark_193, List.forall_mem_cons.mpr ⟨oX1_mark_196, List.forall_mem_cons.mpr ⟨oX1_mark_199, List.forall_mem_cons.mpr ⟨oX1_mark_200, List.forall_mem_cons.mpr ⟨oX1_mark_201, List.forall_mem_cons.mpr ⟨oX1_mark_204, List.forall_mem_cons.mpr ⟨oX1_mark_207, List.forall_mem_cons.mpr ⟨oX1_mark_208, List.forall_mem_cons.mpr ⟨oX1_mark_210, List.forall_mem_cons.mpr ⟨oX1_mark_212, List.forall_mem_cons.mpr ⟨oX1_mark_214, List.forall_mem_cons.mpr ⟨oX1_mark_217, List.forall_mem_cons.mpr ⟨oX1_mark_218, List.forall_mem_cons.mpr ⟨oX1_mark_221, List.forall_mem_cons.mpr ⟨oX1_mark_222, List.forall_mem_cons.mpr ⟨oX1_mark_225, List.forall_mem_cons.mpr ⟨oX1_mark_227, List.forall_mem_cons.mpr ⟨oX1_mark_228, List.forall_mem_cons.mpr ⟨oX1_mark_231, List.forall_mem_cons.mpr ⟨oX1_mark_233, List.forall_mem_cons.mpr ⟨oX1_mark_234, List.forall_mem_cons.mpr ⟨oX1_mark_235, List.forall_mem_cons.mpr ⟨oX1_mark_238, List.forall_mem_cons.mpr ⟨oX1_mark_239, List.forall_mem_cons.mpr ⟨oX1_mark_242, List.forall_mem_cons.mpr ⟨oX1_mark_244, List.forall_mem_cons.mpr ⟨oX1_mark_245, List.forall_mem_cons.mpr ⟨oX1_mark_248, List.forall_mem_cons.mpr ⟨oX1_mark_250, List.forall_mem_cons.mpr ⟨oX1_mark_251, List.forall_mem_cons.mpr ⟨oX1_mark_252, List.forall_mem_cons.mpr ⟨oX1_mark_255, List.forall_mem_cons.mpr ⟨oX1_mark_258, List.forall_mem_cons.mpr ⟨oX1_mark_259, fun _ h => absurd h List.not_mem_nil⟩⟩⟩⟩⟩⟩⟩⟩⟩⟩⟩⟩⟩⟩⟩⟩⟩⟩⟩⟩⟩⟩⟩⟩⟩⟩⟩⟩⟩⟩⟩⟩⟩⟩⟩⟩⟩⟩⟩⟩⟩⟩⟩⟩⟩⟩⟩⟩⟩⟩⟩⟩⟩⟩⟩⟩⟩⟩⟩⟩⟩⟩⟩⟩⟩⟩⟩⟩⟩⟩⟩⟩⟩⟩⟩⟩⟩⟩⟩⟩⟩⟩⟩⟩⟩⟩⟩⟩⟩⟩⟩⟩⟩⟩⟩⟩⟩⟩⟩⟩⟩⟩⟩⟩⟩⟩⟩⟩⟩⟩⟩⟩⟩⟩⟩⟩⟩⟩⟩⟩⟩⟩⟩⟩⟩⟩⟩⟩⟩⟩⟩
def dkwX1_count_6 : List UInt8 := [2, 172]
abbrev dktX1_count_6 : List UInt8 := dkwX1_count_6 ++ []
def dkwX1_count_5 : List UInt8 := [182, 0, 137, 172, 42, 180, 0, 121, 172, 42, 180, 0, 124, 172, 42, 180, 0, 127, 172, 42, 180, 0, 103, 172]
abbrev dktX1_count_5 : List UInt8 := dkwX1_count_5 ++ dktX1_count_6
def dkwX1_count_4 : List UInt8 := [180, 0, 51, 180, 0, 247, 172, 42, 180, 0, 51, 180, 0, 176, 184, 1, 103, 172, 42, 180, 0, 44]
abbrev dktX1_count_4 : List UInt8 := dkwX1_count_4 ++ dktX1_count_5
def dkwX1_count_3 : List UInt8 := [180, 0, 35, 42, 180, 0, 51, 180, 0, 189, 182, 0, 208, 172, 42, 42, 180, 0, 51, 182, 0, 222, 172, 42]
abbrev dktX1_count_3 : List UInt8 := dkwX1_count_3 ++ dktX1_count_4
def dkwX1_count_2 : List UInt8 := [42, 182, 0, 153, 172, 42, 182, 0, 159, 172, 42, 182, 0, 161, 172, 42, 180, 0, 51, 180, 0, 189, 172, 42]
abbrev dktX1_count_2 : List UInt8 := dkwX1_count_2 ++ dktX1_count_3
def dkwX1_count_1 : List UInt8 := [170, 0, 0, 0, 0, 0, 161, 0, 0, 0, 0, 0, 0, 0, 12, 0, 0, 0, 67, 0, 0, 0, 72, 0, 0, 0, 77, 0, 0, 0, 82, 0, 0, 0, 90, 0, 0, 0, 105, 0, 0, 0, 114, 0, 0, 0, 122, 0, 0, 0, 133, 0, 0, 0, 141, 0, 0, 0, 146, 0, 0, 0, 151, 0, 0, 0, 156]
abbrev dktX1_count_1 : List UInt8 := dkwX1_count_1 ++ dktX1_count_2
def dkwX1_count_0 : List UInt8 := [27]
abbrev dktX1_count_0 : List UInt8 := dkwX1_count_0 ++ dktX1_count_1
theorem dksX1_count_0 : bcX1_count.data.toList.drop 0 = dktX1_count_0 := by decide +kernel
theorem dksX1_count_1 : bcX1_count.data.toList.drop 1 = dktX1_count_1 := dk_seg dksX1_count_0 1 rfl rfl
theorem dksX1_count_2 : bcX1_count.data.toList.drop 68 = dktX1_count_2 := dk_seg dksX1_count_1 67 rfl rfl
theorem dksX1_count_3 : bcX1_count.data.toList.drop 92 = dktX1_count_3 := dk_seg dksX1_count_2 24 rfl rfl
theorem dksX1_count_4 : bcX1_count.data.toList.drop 116 = dktX1_count_4 := dk_seg dksX1_count_3 24 rfl rfl
theorem dksX1_count_5 : bcX1_count.data.toList.drop 138 = dktX1_count_5 := dk_seg dksX1_count_4 22 rfl rfl
theorem dksX1_count_6 : bcX1_count.data.toList.drop 162 = dktX1_count_6 := dk_seg dksX1_count_5 24 rfl rfl
theorem dX1_count_0 : decode bcX1_count 0 = .ok (.iload_n 1, 1) := dk_27 (dk_at dksX1_count_0 0 rfl rfl)
theorem dX1_count_1 : decode bcX1_count 1 = .ok (.tableswitch 161 0 12 #[67, 72, 77, 82, 90, 105, 114, 122, 133, 141, 146, 151, 156], 67) := by decide +kernel
theorem dX1_count_68 : decode bcX1_count 68 = .ok (.aload_n 0, 1) := dk_42 (dk_at dksX1_count_2 0 rfl rfl)
theorem dX1_count_69 : decode bcX1_count 69 = .ok (.invokevirtual 153, 3) := dk_182 0 153 (dk_at dksX1_count_2 1 rfl rfl)
theorem dX1_count_72 : decode bcX1_count 72 = .ok (.ireturn, 1) := dk_172 (dk_at dksX1_count_2 4 rfl rfl)
theorem dX1_count_73 : decode bcX1_count 73 = .ok (.aload_n 0, 1) := dk_42 (dk_at dksX1_count_2 5 rfl rfl)
theorem dX1_count_74 : decode bcX1_count 74 = .ok (.invokevirtual 159, 3) := dk_182 0 159 (dk_at dksX1_count_2 6 rfl rfl)
theorem dX1_count_77 : decode bcX1_count 77 = .ok (.ireturn, 1) := dk_172 (dk_at dksX1_count_2 9 rfl rfl)
theorem dX1_count_78 : decode bcX1_count 78 = .ok (.aload_n 0, 1) := dk_42 (dk_at dksX1_count_2 10 rfl rfl)
theorem dX1_count_79 : decode bcX1_count 79 = .ok (.invokevirtual 161, 3) := dk_182 0 161 (dk_at dksX1_count_2 11 rfl rfl)
theorem dX1_count_82 : decode bcX1_count 82 = .ok (.ireturn, 1) := dk_172 (dk_at dksX1_count_2 14 rfl rfl)
theorem dX1_count_83 : decode bcX1_count 83 = .ok (.aload_n 0, 1) := dk_42 (dk_at dksX1_count_2 15 rfl rfl)
theorem dX1_count_84 : decode bcX1_count 84 = .ok (.getfield 51, 3) := dk_180 0 51 (dk_at dksX1_count_2 16 rfl rfl)
theorem dX1_count_87 : decode bcX1_count 87 = .ok (.getfield 189, 3) := dk_180 0 189 (dk_at dksX1_count_2 19 rfl rfl)
theorem dX1_count_90 : decode bcX1_count 90 = .ok (.ireturn, 1) := dk_172 (dk_at dksX1_count_2 22 rfl rfl)
theorem dX1_count_91 : decode bcX1_count 91 = .ok (.aload_n 0, 1) := dk_42 (dk_at dksX1_count_2 23 rfl rfl)
theorem dX1_count_92 : decode bcX1_count 92 = .ok (.getfield 35, 3) := dk_180 0 35 (dk_at dksX1_count_3 0 rfl rfl)
theorem dX1_count_95 : decode bcX1_count 95 = .ok (.aload_n 0, 1) := dk_42 (dk_at dksX1_count_3 3 rfl rfl)
theorem dX1_count_96 : decode bcX1_count 96 = .ok (.getfield 51, 3) := dk_180 0 51 (dk_at dksX1_count_3 4 rfl rfl)
theorem dX1_count_99 : decode bcX1_count 99 = .ok (.getfield 189, 3) := dk_180 0 189 (dk_at dksX1_count_3 7 rfl rfl)
theorem dX1_count_102 : decode bcX1_count 102 = .ok (.invokevirtual 208, 3) := dk_182 0 208 (dk_at dksX1_count_3 10 rfl rfl)
theorem dX1_count_105 : decode bcX1_count 105 = .ok (.ireturn, 1) := dk_172 (dk_at dksX1_count_3 13 rfl rfl)
theorem dX1_count_106 : decode bcX1_count 106 = .ok (.aload_n 0, 1) := dk_42 (dk_at dksX1_count_3 14 rfl rfl)
theorem dX1_count_107 : decode bcX1_count 107 = .ok (.aload_n 0, 1) := dk_42 (dk_at dksX1_count_3 15 rfl rfl)
theorem dX1_count_108 : decode bcX1_count 108 = .ok (.getfield 51, 3) := dk_180 0 51 (dk_at dksX1_count_3 16 rfl rfl)
theorem dX1_count_111 : decode bcX1_count 111 = .ok (.invokevirtual 222, 3) := dk_182 0 222 (dk_at dksX1_count_3 19 rfl rfl)
theorem dX1_count_114 : decode bcX1_count 114 = .ok (.ireturn, 1) := dk_172 (dk_at dksX1_count_3 22 rfl rfl)
theorem dX1_count_115 : decode bcX1_count 115 = .ok (.aload_n 0, 1) := dk_42 (dk_at dksX1_count_3 23 rfl rfl)
theorem dX1_count_116 : decode bcX1_count 116 = .ok (.getfield 51, 3) := dk_180 0 51 (dk_at dksX1_count_4 0 rfl rfl)
theorem dX1_count_119 : decode bcX1_count 119 = .ok (.getfield 247, 3) := dk_180 0 247 (dk_at dksX1_count_4 3 rfl rfl)
theorem dX1_count_122 : decode bcX1_count 122 = .ok (.ireturn, 1) := dk_172 (dk_at dksX1_count_4 6 rfl rfl)
theorem dX1_count_123 : decode bcX1_count 123 = .ok (.aload_n 0, 1) := dk_42 (dk_at dksX1_count_4 7 rfl rfl)
theorem dX1_count_124 : decode bcX1_count 124 = .ok (.getfield 51, 3) := dk_180 0 51 (dk_at dksX1_count_4 8 rfl rfl)
theorem dX1_count_127 : decode bcX1_count 127 = .ok (.getfield 176, 3) := dk_180 0 176 (dk_at dksX1_count_4 11 rfl rfl)
theorem dX1_count_130 : decode bcX1_count 130 = .ok (.invokestatic 359, 3) := dk_184 1 103 (dk_at dksX1_count_4 14 rfl rfl)
theorem dX1_count_133 : decode bcX1_count 133 = .ok (.ireturn, 1) := dk_172 (dk_at dksX1_count_4 17 rfl rfl)
theorem dX1_count_134 : decode bcX1_count 134 = .ok (.aload_n 0, 1) := dk_42 (dk_at dksX1_count_4 18 rfl rfl)
theorem dX1_count_135 : decode bcX1_count 135 = .ok (.getfield 44, 3) := dk_180 0 44 (dk_at dksX1_count_4 19 rfl rfl)
theorem dX1_count_138 : decode bcX1_count 138 = .ok (.invokevirtual 137, 3) := dk_182 0 137 (dk_at dksX1_count_5 0 rfl rfl)
theorem dX1_count_141 : decode bcX1_count 141 = .ok (.ireturn, 1) := dk_172 (dk_at dksX1_count_5 3 rfl rfl)
theorem dX1_count_142 : decode bcX1_count 142 = .ok (.aload_n 0, 1) := dk_42 (dk_at dksX1_count_5 4 rfl rfl)
theorem dX1_count_143 : decode bcX1_count 143 = .ok (.getfield 121, 3) := dk_180 0 121 (dk_at dksX1_count_5 5 rfl rfl)
theorem dX1_count_146 : decode bcX1_count 146 = .ok (.ireturn, 1) := dk_172 (dk_at dksX1_count_5 8 rfl rfl)
theorem dX1_count_147 : decode bcX1_count 147 = .ok (.aload_n 0, 1) := dk_42 (dk_at dksX1_count_5 9 rfl rfl)
theorem dX1_count_148 : decode bcX1_count 148 = .ok (.getfield 124, 3) := dk_180 0 124 (dk_at dksX1_count_5 10 rfl rfl)
theorem dX1_count_151 : decode bcX1_count 151 = .ok (.ireturn, 1) := dk_172 (dk_at dksX1_count_5 13 rfl rfl)
theorem dX1_count_152 : decode bcX1_count 152 = .ok (.aload_n 0, 1) := dk_42 (dk_at dksX1_count_5 14 rfl rfl)
theorem dX1_count_153 : decode bcX1_count 153 = .ok (.getfield 127, 3) := dk_180 0 127 (dk_at dksX1_count_5 15 rfl rfl)
theorem dX1_count_156 : decode bcX1_count 156 = .ok (.ireturn, 1) := dk_172 (dk_at dksX1_count_5 18 rfl rfl)
theorem dX1_count_157 : decode bcX1_count 157 = .ok (.aload_n 0, 1) := dk_42 (dk_at dksX1_count_5 19 rfl rfl)
theorem dX1_count_158 : decode bcX1_count 158 = .ok (.getfield 103, 3) := dk_180 0 103 (dk_at dksX1_count_5 20 rfl rfl)
theorem dX1_count_161 : decode bcX1_count 161 = .ok (.ireturn, 1) := dk_172 (dk_at dksX1_count_5 23 rfl rfl)
theorem dX1_count_162 : decode bcX1_count 162 = .ok (.iconst (-1), 1) := dk_2 (dk_at dksX1_count_6 0 rfl rfl)
theorem dX1_count_163 : decode bcX1_count 163 = .ok (.ireturn, 1) := dk_172 (dk_at dksX1_count_6 1 rfl rfl)
abbrev SX1_count (pc : Nat) (i : xI) : Prop := Snd "SwollenHouse" "count" prog_1_method_79_code 2 (Option.some Jvm.ClassFile.FieldType.int) [] pc i
theorem oX1_count_0 : SX1_count 0 (i_iload 1 1) := snd_iload_n dX1_count_0 rfl
theorem oX1_count_1 : SX1_count 1 (i_tsw 0 [68, 73, 78, 83, 91, 106, 115, 123, 134, 142, 147, 152, 157] 162) := snd_tsw dX1_count_1 (by decide) (by decide) (by decide)
theorem oX1_count_68 : SX1_count 68 (i_aload 0 69) := snd_aload_n dX1_count_68 rfl
theorem oX1_count_69 : SX1_count 69 (i_cv 0 120 0 72) := snd_cv rfl infX1_rooms (by decide) rfl (xVm_V dX1_count_69 rfl q1381 q1383 qs42 q127 q1384 pdX1_rooms)
theorem oX1_count_72 : SX1_count 72 (i_iret) := snd_iret dX1_count_72 rfl
theorem oX1_count_73 : SX1_count 73 (i_aload 0 74) := snd_aload_n dX1_count_73 rfl
theorem oX1_count_74 : SX1_count 74 (i_cv 0 96 0 77) := snd_cv rfl infX1_doors (by decide) rfl (xVm_V dX1_count_74 rfl q1140 q1142 qs30 q127 q1143 pdX1_doors)
theorem oX1_count_77 : SX1_count 77 (i_iret) := snd_iret dX1_count_77 rfl
theorem oX1_count_78 : SX1_count 78 (i_aload 0 79) := snd_aload_n dX1_count_78 rfl
theorem oX1_count_79 : SX1_count 79 (i_cv 0 101 0 82) := snd_cv rfl infX1_people (by decide) rfl (xVm_V dX1_count_79 rfl q1182 q1184 qs33 q127 q1185 pdX1_people)
theorem oX1_count_82 : SX1_count 82 (i_iret) := snd_iret dX1_count_82 rfl
theorem oX1_count_83 : SX1_count 83 (i_aload 0 84) := snd_aload_n dX1_count_83 rfl
theorem oX1_count_84 : SX1_count 84 (i_getf 0 4 87) := snd_getf dX1_count_84 rfl (by decide) in_X1 (Or.inl q350) (Or.inl rfl) (by decide)
theorem oX1_count_87 : SX1_count 87 (i_getf 3 4 90) := snd_getf dX1_count_87 rfl (by decide) in_X4 (Or.inr ⟨_, q302⟩) (Or.inl rfl) (by decide)
theorem oX1_count_90 : SX1_count 90 (i_iret) := snd_iret dX1_count_90 rfl
theorem oX1_count_91 : SX1_count 91 (i_aload 0 92) := snd_aload_n dX1_count_91 rfl
theorem oX1_count_92 : SX1_count 92 (i_getf 0 2 95) := snd_getf dX1_count_92 rfl (by decide) in_X1 (Or.inl q348) (Or.inl rfl) (by decide)
theorem oX1_count_95 : SX1_count 95 (i_aload 0 96) := snd_aload_n dX1_count_95 rfl
theorem oX1_count_96 : SX1_count 96 (i_getf 0 4 99) := snd_getf dX1_count_96 rfl (by decide) in_X1 (Or.inl q350) (Or.inl rfl) (by decide)
theorem oX1_count_99 : SX1_count 99 (i_getf 3 4 102) := snd_getf dX1_count_99 rfl (by decide) in_X4 (Or.inr ⟨_, q302⟩) (Or.inl rfl) (by decide)
theorem oX1_count_102 : SX1_count 102 (i_cv 2 235 1 105) := snd_cv rfl infX3_damp (by decide) rfl (xVm_V dX1_count_102 rfl q1202 q1203 q1204 q129 q1205 pdX3_damp)
theorem oX1_count_105 : SX1_count 105 (i_iret) := snd_iret dX1_count_105 rfl
theorem oX1_count_106 : SX1_count 106 (i_aload 0 107) := snd_aload_n dX1_count_106 rfl
theorem oX1_count_107 : SX1_count 107 (i_aload 0 108) := snd_aload_n dX1_count_107 rfl
theorem oX1_count_108 : SX1_count 108 (i_getf 0 4 111) := snd_getf dX1_count_108 rfl (by decide) in_X1 (Or.inl q350) (Or.inl rfl) (by decide)
theorem oX1_count_111 : SX1_count 111 (i_cv 0 108 1 114) := snd_cv rfl infX1_sticking (by decide) rfl (xVm_V dX1_count_111 rfl q1281 q1283 qs38 q127 q1284 pdX1_sticking)
theorem oX1_count_114 : SX1_count 114 (i_iret) := snd_iret dX1_count_114 rfl
theorem oX1_count_115 : SX1_count 115 (i_aload 0 116) := snd_aload_n dX1_count_115 rfl
theorem oX1_count_116 : SX1_count 116 (i_getf 0 4 119) := snd_getf dX1_count_116 rfl (by decide) in_X1 (Or.inl q350) (Or.inl rfl) (by decide)
theorem oX1_count_119 : SX1_count 119 (i_getf 3 3 122) := snd_getf dX1_count_119 rfl (by decide) in_X4 (Or.inr ⟨_, q299⟩) (Or.inl rfl) (by decide)
theorem oX1_count_122 : SX1_count 122 (i_iret) := snd_iret dX1_count_122 rfl
theorem oX1_count_123 : SX1_count 123 (i_aload 0 124) := snd_aload_n dX1_count_123 rfl
theorem oX1_count_124 : SX1_count 124 (i_getf 0 4 127) := snd_getf dX1_count_124 rfl (by decide) in_X1 (Or.inl q350) (Or.inl rfl) (by decide)
theorem oX1_count_127 : SX1_count 127 (i_getf 3 0 130) := snd_getf dX1_count_127 rfl (by decide) in_X4 (Or.inr ⟨_, q290⟩) (Or.inl rfl) (by decide)
theorem oX1_count_130 : SX1_count 130 (i_cs 160 1 133) := snd_cs rfl infX1_sum (by decide) (xSm_S dX1_count_130 q1548 q1549 q127 q1550 pdX1_sum)
theorem oX1_count_133 : SX1_count 133 (i_iret) := snd_iret dX1_count_133 rfl
theorem oX1_count_134 : SX1_count 134 (i_aload 0 135) := snd_aload_n dX1_count_134 rfl
theorem oX1_count_135 : SX1_count 135 (i_getf 0 3 138) := snd_getf dX1_count_135 rfl (by decide) in_X1 (Or.inl q349) (Or.inl rfl) (by decide)
theorem oX1_count_138 : SX1_count 138 (i_cv 21 32 0 141) := snd_cv rfl infJ2_size (by decide) rfl (xVm_V dX1_count_138 rfl q1144 q324 q325 q132 q326 pdJ2_size)
theorem oX1_count_141 : SX1_count 141 (i_iret) := snd_iret dX1_count_141 rfl
theorem oX1_count_142 : SX1_count 142 (i_aload 0 143) := snd_aload_n dX1_count_142 rfl
theorem oX1_count_143 : SX1_count 143 (i_getf 0 15 146) := snd_getf dX1_count_143 rfl (by decide) in_X1 (Or.inl q361) (Or.inl rfl) (by decide)
theorem oX1_count_146 : SX1_count 146 (i_iret) := snd_iret dX1_count_146 rfl
theorem oX1_count_147 : SX1_count 147 (i_aload 0 148) := snd_aload_n dX1_count_147 rfl
theorem oX1_count_148 : SX1_count 148 (i_getf 0 19 151) := snd_getf dX1_count_148 rfl (by decide) in_X1 (Or.inl q365) (Or.inl rfl) (by decide)
theorem oX1_count_151 : SX1_count 151 (i_iret) := snd_iret dX1_count_151 rfl
theorem oX1_count_152 : SX1_count 152 (i_aload 0 153) := snd_aload_n dX1_count_152 rfl
theorem oX1_count_153 : SX1_count 153 (i_getf 0 9 156) := snd_getf dX1_count_153 rfl (by decide) in_X1 (Or.inl q355) (Or.inl rfl) (by decide)
theorem oX1_count_156 : SX1_count 156 (i_iret) := snd_iret dX1_count_156 rfl
theorem oX1_count_157 : SX1_count 157 (i_aload 0 158) := snd_aload_n dX1_count_157 rfl
theorem oX1_count_158 : SX1_count 158 (i_getf 0 7 161) := snd_getf dX1_count_158 rfl (by decide) in_X1 (Or.inl q353) (Or.inl rfl) (by decide)
theorem oX1_count_161 : SX1_count 161 (i_iret) := snd_iret dX1_count_161 rfl
theorem oX1_count_162 : SX1_count 162 (i_const (.int (-1)) 163) := snd_iconst dX1_count_162 (by decide)
theorem oX1_count_163 : SX1_count 163 (i_iret) := snd_iret dX1_count_163 rfl
theorem okX1_count : ∀ q ∈ cX1_count, SX1_count q.1 q.2 := List.forall_mem_cons.mpr ⟨oX1_count_0, List.forall_mem_cons.mpr ⟨oX1_count_1, List.forall_mem_cons.mpr ⟨oX1_count_68, List.forall_mem_cons.mpr ⟨oX1_count_69, List.forall_mem_cons.mpr ⟨oX1_count_72, List.forall_mem_cons.mpr ⟨oX1_count_73, List.forall_mem_cons.mpr ⟨oX1_count_74, List.forall_mem_cons.mpr ⟨oX1_count_77, List.forall_mem_cons.mpr ⟨oX1_count_78, List.forall_mem_cons.mpr ⟨oX1_count_79, List.forall_mem_cons.mpr ⟨oX1_count_82, List.forall_mem_cons.mpr ⟨oX1_count_83, List.forall_mem_cons.mpr ⟨oX1_count_84, List.forall_mem_cons.mpr ⟨oX1_count_87, List.forall_mem_cons.mpr ⟨oX1_count_90, List.forall_mem_cons.mpr ⟨oX1_count_91, List.forall_mem_cons.mpr ⟨oX1_count_92, List.forall_mem_cons.mpr ⟨oX1_count_95, List.forall_mem_cons.mpr ⟨oX1_count_96, List.forall_mem_cons.mpr ⟨oX1_count_99, List.forall_mem_cons.mpr ⟨oX1_count_102, List.forall_mem_cons.mpr ⟨oX1_count_105, List.forall_mem_cons.mpr ⟨oX1_count_106, List.forall_mem_cons.mpr ⟨oX1_count_107, List.forall_mem_cons.mpr ⟨oX1_count_108, List.forall_mem_cons.mpr ⟨oX1_count_111, List.forall_mem_cons.mpr ⟨oX1_count_114, List.forall_mem_cons.mpr ⟨oX1_count_115, List.forall_mem_cons.mpr ⟨oX1_count_116, List.forall_mem_cons.mpr ⟨oX1_count_119, List.forall_mem_cons.mpr ⟨oX1_count_122, List.forall_mem_cons.mpr ⟨oX1_count_123, List.forall_mem_cons.mpr ⟨oX1_count_124, List.forall_mem_cons.mpr ⟨oX1_count_127, List.forall_mem_cons.mpr ⟨oX1_count_130, List.forall_mem_cons.mpr ⟨oX1_count_133, List.forall_mem_cons.mpr ⟨oX1_count_134, List.forall_mem_cons.mpr ⟨oX1_count_135, List.forall_mem_cons.mpr ⟨oX1_count_138, List.forall_mem_cons.mpr ⟨oX1_count_141, List.forall_mem_cons.mpr ⟨oX1_count_142, List.forall_mem_cons.mpr ⟨oX1_count_143, List.forall_mem_cons.mpr ⟨oX1_count_146, List.forall_mem_cons.mpr ⟨oX1_count_147, List.forall_mem_cons.mpr ⟨oX1_count_148, List.forall_mem_cons.mpr ⟨oX1_count_151, List.forall_mem_cons.mpr ⟨oX1_count_152, List.forall_mem_cons.mpr ⟨oX1_count_153, List.forall_mem_cons.mpr ⟨oX1_count_156, List.forall_mem_cons.mpr ⟨oX1_count_157, List.forall_mem_cons.mpr ⟨oX1_count_158, List.forall_mem_cons.mpr ⟨oX1_count_161, List.forall_mem_cons.mpr ⟨oX1_count_162, List.forall_mem_cons.mpr ⟨oX1_count_163, fun _ h => absurd h List.not_mem_nil⟩⟩⟩⟩⟩⟩⟩⟩⟩⟩⟩⟩⟩⟩⟩⟩⟩⟩⟩⟩⟩⟩⟩⟩⟩⟩⟩⟩⟩⟩⟩⟩⟩⟩⟩⟩⟩⟩⟩⟩⟩⟩⟩⟩⟩⟩⟩⟩⟩⟩⟩⟩⟩⟩
def dkwX1_rests_6 : List UInt8 := [2, 160, 0, 7, 4, 167, 0, 4, 3, 184, 1, 77, 21, 5, 172]
abbrev dktX1_rests_6 : List UInt8 := dkwX1_rests_6 ++ []
def dkwX1_rests_5 : List UInt8 := [167, 0, 16, 21, 5, 21, 4, 160, 0, 6, 21, 6, 172, 132, 5, 1, 132, 6, 1, 167, 255, 169, 21, 4]
abbrev dktX1_rests_5 : List UInt8 := dkwX1_rests_5 ++ dktX1_rests_6
def dkwX1_rests_4 : List UInt8 := [4, 21, 8, 100, 21, 7, 184, 1, 81, 27, 28, 29, 21, 8, 21, 7, 184, 1, 81, 164, 0, 6]
abbrev dktX1_rests_4 : List UInt8 := dkwX1_rests_4 ++ dktX1_rests_5
def dkwX1_rests_3 : List UInt8 := [21, 7, 100, 21, 8, 184, 1, 81, 27, 28, 29, 21, 7, 21, 8, 184, 1, 81, 163, 0, 44, 27, 28, 29]
abbrev dktX1_rests_3 : List UInt8 := dkwX1_rests_3 ++ dktX1_rests_4
def dkwX1_rests_2 : List UInt8 := [54, 6, 21, 6, 7, 162, 0, 87, 21, 6, 5, 108, 54, 7, 21, 6, 5, 112, 54, 8, 27, 28, 29, 4]
abbrev dktX1_rests_2 : List UInt8 := dkwX1_rests_2 ++ dktX1_rests_3
def dkwX1_rests_1 : List UInt8 := [184, 0, 155, 153, 0, 13, 21, 4, 2, 161, 0, 7, 4, 167, 0, 4, 3, 184, 1, 77, 3, 54, 5, 3]
abbrev dktX1_rests_1 : List UInt8 := dkwX1_rests_1 ++ dktX1_rests_2
def dkwX1_rests_0 : List UInt8 := [27, 3, 16, 9, 184, 0, 155, 153, 0, 33, 28, 3, 16, 9, 184, 0, 155, 153, 0, 23, 29, 3, 16, 9]
abbrev dktX1_rests_0 : List UInt8 := dkwX1_rests_0 ++ dktX1_rests_1
theorem dksX1_rests_0 : bcX1_rests.data.toList.drop 0 = dktX1_rests_0 := by decide +kernel
theorem dksX1_rests_1 : bcX1_rests.data.toList.drop 24 = dktX1_rests_1 := dk_seg dksX1_rests_0 24 rfl rfl
theorem dksX1_rests_2 : bcX1_rests.data.toList.drop 48 = dktX1_rests_2 := dk_seg dksX1_rests_1 24 rfl rfl
theorem dksX1_rests_3 : bcX1_rests.data.toList.drop 72 = dktX1_rests_3 := dk_seg dksX1_rests_2 24 rfl rfl
theorem dksX1_rests_4 : bcX1_rests.data.toList.drop 96 = dktX1_rests_4 := dk_seg dksX1_rests_3 24 rfl rfl
theorem dksX1_rests_5 : bcX1_rests.data.toList.drop 118 = dktX1_rests_5 := dk_seg dksX1_rests_4 22 rfl rfl
theorem dksX1_rests_6 : bcX1_rests.data.toList.drop 142 = dktX1_rests_6 := dk_seg dksX1_rests_5 24 rfl rfl
theorem dX1_rests_0 : decode bcX1_rests 0 = .ok (.iload_n 1, 1) := dk_27 (dk_at dksX1_rests_0 0 rfl rfl)
theorem dX1_rests_1 : decode bcX1_rests 1 = .ok (.iconst 0, 1) := dk_3 (dk_at dksX1_rests_0 1 rfl rfl)
theorem dX1_rests_2 : decode bcX1_rests 2 = .ok (.bipush 9, 2) := dk_16 9 (dk_at dksX1_rests_0 2 rfl rfl)
theorem dX1_rests_4 : decode bcX1_rests 4 = .ok (.invokestatic 155, 3) := dk_184 0 155 (dk_at dksX1_rests_0 4 rfl rfl)
theorem dX1_rests_7 : decode bcX1_rests 7 = .ok (.ifCond .eq 33, 3) := dk_153 0 33 (dk_at dksX1_rests_0 7 rfl rfl)
theorem dX1_rests_10 : decode bcX1_rests 10 = .ok (.iload_n 2, 1) := dk_28 (dk_at dksX1_rests_0 10 rfl rfl)
theorem dX1_rests_11 : decode bcX1_rests 11 = .ok (.iconst 0, 1) := dk_3 (dk_at dksX1_rests_0 11 rfl rfl)
theorem dX1_rests_12 : decode bcX1_rests 12 = .ok (.bipush 9, 2) := dk_16 9 (dk_at dksX1_rests_0 12 rfl rfl)
theorem dX1_rests_14 : decode bcX1_rests 14 = .ok (.invokestatic 155, 3) := dk_184 0 155 (dk_at dksX1_rests_0 14 rfl rfl)
theorem dX1_rests_17 : decode bcX1_rests 17 = .ok (.ifCond .eq 23, 3) := dk_153 0 23 (dk_at dksX1_rests_0 17 rfl rfl)
theorem dX1_rests_20 : decode bcX1_rests 20 = .ok (.iload_n 3, 1) := dk_29 (dk_at dksX1_rests_0 20 rfl rfl)
theorem dX1_rests_21 : decode bcX1_rests 21 = .ok (.iconst 0, 1) := dk_3 (dk_at dksX1_rests_0 21 rfl rfl)
theorem dX1_rests_22 : decode bcX1_rests 22 = .ok (.bipush 9, 2) := dk_16 9 (dk_at dksX1_rests_0 22 rfl rfl)
theorem dX1_rests_24 : decode bcX1_rests 24 = .ok (.invokestatic 155, 3) := dk_184 0 155 (dk_at dksX1_rests_1 0 rfl rfl)
theorem dX1_rests_27 : decode bcX1_rests 27 = .ok (.ifCond .eq 13, 3) := dk_153 0 13 (dk_at dksX1_rests_1 3 rfl rfl)
theorem dX1_rests_30 : decode bcX1_rests 30 = .ok (.iload 4, 2) := dk_21 4 (dk_at dksX1_rests_1 6 rfl rfl)
theorem dX1_rests_32 : decode bcX1_rests 32 = .ok (.iconst (-1), 1) := dk_2 (dk_at dksX1_rests_1 8 rfl rfl)
theorem dX1_rests_33 : decode bcX1_rests 33 = .ok (.if_icmp .lt 7, 3) := dk_161 0 7 (dk_at dksX1_rests_1 9 rfl rfl)
theorem dX1_rests_36 : decode bcX1_rests 36 = .ok (.iconst 1, 1) := dk_4 (dk_at dksX1_rests_1 12 rfl rfl)
theorem dX1_rests_37 : decode bcX1_rests 37 = .ok (.goto 4, 3) := dk_167 0 4 (dk_at dksX1_rests_1 13 rfl rfl)
theorem dX1_rests_40 : decode bcX1_rests 40 = .ok (.iconst 0, 1) := dk_3 (dk_at dksX1_rests_1 16 rfl rfl)
theorem dX1_rests_41 : decode bcX1_rests 41 = .ok (.invokestatic 333, 3) := dk_184 1 77 (dk_at dksX1_rests_1 17 rfl rfl)
theorem dX1_rests_44 : decode bcX1_rests 44 = .ok (.iconst 0, 1) := dk_3 (dk_at dksX1_rests_1 20 rfl rfl)
theorem dX1_rests_45 : decode bcX1_rests 45 = .ok (.istore 5, 2) := dk_54 5 (dk_at dksX1_rests_1 21 rfl rfl)
theorem dX1_rests_47 : decode bcX1_rests 47 = .ok (.iconst 0, 1) := dk_3 (dk_at dksX1_rests_1 23 rfl rfl)
theorem dX1_rests_48 : decode bcX1_rests 48 = .ok (.istore 6, 2) := dk_54 6 (dk_at dksX1_rests_2 0 rfl rfl)
theorem dX1_rests_50 : decode bcX1_rests 50 = .ok (.iload 6, 2) := dk_21 6 (dk_at dksX1_rests_2 2 rfl rfl)
theorem dX1_rests_52 : decode bcX1_rests 52 = .ok (.iconst 4, 1) := dk_7 (dk_at dksX1_rests_2 4 rfl rfl)
theorem dX1_rests_53 : decode bcX1_rests 53 = .ok (.if_icmp .ge 87, 3) := dk_162 0 87 (dk_at dksX1_rests_2 5 rfl rfl)
theorem dX1_rests_56 : decode bcX1_rests 56 = .ok (.iload 6, 2) := dk_21 6 (dk_at dksX1_rests_2 8 rfl rfl)
theorem dX1_rests_58 : decode bcX1_rests 58 = .ok (.iconst 2, 1) := dk_5 (dk_at dksX1_rests_2 10 rfl rfl)
theorem dX1_rests_59 : decode bcX1_rests 59 = .ok (.idiv, 1) := dk_108 (dk_at dksX1_rests_2 11 rfl rfl)
theorem dX1_rests_60 : decode bcX1_rests 60 = .ok (.istore 7, 2) := dk_54 7 (dk_at dksX1_rests_2 12 rfl rfl)
theorem dX1_rests_62 : decode bcX1_rests 62 = .ok (.iload 6, 2) := dk_21 6 (dk_at dksX1_rests_2 14 rfl rfl)
theorem dX1_rests_64 : decode bcX1_rests 64 = .ok (.iconst 2, 1) := dk_5 (dk_at dksX1_rests_2 16 rfl rfl)
theorem dX1_rests_65 : decode bcX1_rests 65 = .ok (.irem, 1) := dk_112 (dk_at dksX1_rests_2 17 rfl rfl)
theorem dX1_rests_66 : decode bcX1_rests 66 = .ok (.istore 8, 2) := dk_54 8 (dk_at dksX1_rests_2 18 rfl rfl)
theorem dX1_rests_68 : decode bcX1_rests 68 = .ok (.iload_n 1, 1) := dk_27 (dk_at dksX1_rests_2 20 rfl rfl)
theorem dX1_rests_69 : decode bcX1_rests 69 = .ok (.iload_n 2, 1) := dk_28 (dk_at dksX1_rests_2 21 rfl rfl)
theorem dX1_rests_70 : decode bcX1_rests 70 = .ok (.iload_n 3, 1) := dk_29 (dk_at dksX1_rests_2 22 rfl rfl)
theorem dX1_rests_71 : decode bcX1_rests 71 = .ok (.iconst 1, 1) := dk_4 (dk_at dksX1_rests_2 23 rfl rfl)
theorem dX1_rests_72 : decode bcX1_rests 72 = .ok (.iload 7, 2) := dk_21 7 (dk_at dksX1_rests_3 0 rfl rfl)
theorem dX1_rests_74 : decode bcX1_rests 74 = .ok (.isub, 1) := dk_100 (dk_at dksX1_rests_3 2 rfl rfl)
theorem dX1_rests_75 : decode bcX1_rests 75 = .ok (.iload 8, 2) := dk_21 8 (dk_at dksX1_rests_3 3 rfl rfl)
theorem dX1_rests_77 : decode bcX1_rests 77 = .ok (.invokestatic 337, 3) := dk_184 1 81 (dk_at dksX1_rests_3 5 rfl rfl)
theorem dX1_rests_80 : decode bcX1_rests 80 = .ok (.iload_n 1, 1) := dk_27 (dk_at dksX1_rests_3 8 rfl rfl)
theorem dX1_rests_81 : decode bcX1_rests 81 = .ok (.iload_n 2, 1) := dk_28 (dk_at dksX1_rests_3 9 rfl rfl)
theorem dX1_rests_82 : decode bcX1_rests 82 = .ok (.iload_n 3, 1) := dk_29 (dk_at dksX1_rests_3 10 rfl rfl)
theorem dX1_rests_83 : decode bcX1_rests 83 = .ok (.iload 7, 2) := dk_21 7 (dk_at dksX1_rests_3 11 rfl rfl)
theorem dX1_rests_85 : decode bcX1_rests 85 = .ok (.iload 8, 2) := dk_21 8 (dk_at dksX1_rests_3 13 rfl rfl)
theorem dX1_rests_87 : decode bcX1_rests 87 = .ok (.invokestatic 337, 3) := dk_184 1 81 (dk_at dksX1_rests_3 15 rfl rfl)
theorem dX1_rests_90 : decode bcX1_rests 90 = .ok (.if_icmp .gt 44, 3) := dk_163 0 44 (dk_at dksX1_rests_3 18 rfl rfl)
theorem dX1_rests_93 : decode bcX1_rests 93 = .ok (.iload_n 1, 1) := dk_27 (dk_at dksX1_rests_3 21 rfl rfl)
theorem dX1_rests_94 : decode bcX1_rests 94 = .ok (.iload_n 2, 1) := dk_28 (dk_at dksX1_rests_3 22 rfl rfl)
theorem dX1_rests_95 : decode bcX1_rests 95 = .ok (.iload_n 3, 1) := dk_29 (dk_at dksX1_rests_3 23 rfl rfl)
theorem dX1_rests_96 : decode bcX1_rests 96 = .ok (.iconst 1, 1) := dk_4 (dk_at dksX1_rests_4 0 rfl rfl)
theorem dX1_rests_97 : decode bcX1_rests 97 = .ok (.iload 8, 2) := dk_21 8 (dk_at dksX1_rests_4 1 rfl rfl)
theorem dX1_rests_99 : decode bcX1_rests 99 = .ok (.isub, 1) := dk_100 (dk_at dksX1_rests_4 3 rfl rfl)
theorem dX1_rests_100 : decode bcX1_rests 100 = .ok (.iload 7, 2) := dk_21 7 (dk_at dksX1_rests_4 4 rfl rfl)
theorem dX1_rests_102 : decode bcX1_rests 102 = .ok (.invokestatic 337, 3) := dk_184 1 81 (dk_at dksX1_rests_4 6 rfl rfl)
theorem dX1_rests_105 : decode bcX1_rests 105 = .ok (.iload_n 1, 1) := dk_27 (dk_at dksX1_rests_4 9 rfl rfl)
theorem dX1_rests_106 : decode bcX1_rests 106 = .ok (.iload_n 2, 1) := dk_28 (dk_at dksX1_rests_4 10 rfl rfl)
theorem dX1_rests_107 : decode bcX1_rests 107 = .ok (.iload_n 3, 1) := dk_29 (dk_at dksX1_rests_4 11 rfl rfl)
theorem dX1_rests_108 : decode bcX1_rests 108 = .ok (.iload 8, 2) := dk_21 8 (dk_at dksX1_rests_4 12 rfl rfl)
theorem dX1_rests_110 : decode bcX1_rests 110 = .ok (.iload 7, 2) := dk_21 7 (dk_at dksX1_rests_4 14 rfl rfl)
theorem dX1_rests_112 : decode bcX1_rests 112 = .ok (.invokestatic 337, 3) := dk_184 1 81 (dk_at dksX1_rests_4 16 rfl rfl)
theorem dX1_rests_115 : decode bcX1_rests 115 = .ok (.if_icmp .le 6, 3) := dk_164 0 6 (dk_at dksX1_rests_4 19 rfl rfl)
theorem dX1_rests_118 : decode bcX1_rests 118 = .ok (.goto 16, 3) := dk_167 0 16 (dk_at dksX1_rests_5 0 rfl rfl)
theorem dX1_rests_121 : decode bcX1_rests 121 = .ok (.iload 5, 2) := dk_21 5 (dk_at dksX1_rests_5 3 rfl rfl)
theorem dX1_rests_123 : decode bcX1_rests 123 = .ok (.iload 4, 2) := dk_21 4 (dk_at dksX1_rests_5 5 rfl rfl)
theorem dX1_rests_125 : decode bcX1_rests 125 = .ok (.if_icmp .ne 6, 3) := dk_160 0 6 (dk_at dksX1_rests_5 7 rfl rfl)
theorem dX1_rests_128 : decode bcX1_rests 128 = .ok (.iload 6, 2) := dk_21 6 (dk_at dksX1_rests_5 10 rfl rfl)
theorem dX1_rests_130 : decode bcX1_rests 130 = .ok (.ireturn, 1) := dk_172 (dk_at dksX1_rests_5 12 rfl rfl)
theorem dX1_rests_131 : decode bcX1_rests 131 = .ok (.iinc 5 1, 3) := dk_132 5 1 (dk_at dksX1_rests_5 13 rfl rfl)
theorem dX1_rests_134 : decode bcX1_rests 134 = .ok (.iinc 6 1, 3) := dk_132 6 1 (dk_at dksX1_rests_5 16 rfl rfl)
theorem dX1_rests_137 : decode bcX1_rests 137 = .ok (.goto (-87), 3) := dk_167 255 169 (dk_at dksX1_rests_5 19 rfl rfl)
theorem dX1_rests_140 : decode bcX1_rests 140 = .ok (.iload 4, 2) := dk_21 4 (dk_at dksX1_rests_5 22 rfl rfl)
theorem dX1_rests_142 : decode bcX1_rests 142 = .ok (.iconst (-1), 1) := dk_2 (dk_at dksX1_rests_6 0 rfl rfl)
theorem dX1_rests_143 : decode bcX1_rests 143 = .ok (.if_icmp .ne 7, 3) := dk_160 0 7 (dk_at dksX1_rests_6 1 rfl rfl)
theorem dX1_rests_146 : decode bcX1_rests 146 = .ok (.iconst 1, 1) := dk_4 (dk_at dksX1_rests_6 4 rfl rfl)
theorem dX1_rests_147 : decode bcX1_rests 147 = .ok (.goto 4, 3) := dk_167 0 4 (dk_at dksX1_rests_6 5 rfl rfl)
theorem dX1_rests_150 : decode bcX1_rests 150 = .ok (.iconst 0, 1) := dk_3 (dk_at dksX1_rests_6 8 rfl rfl)
theorem dX1_rests_151 : decode bcX1_rests 151 = .ok (.invokestatic 333, 3) := dk_184 1 77 (dk_at dksX1_rests_6 9 rfl rfl)
theorem dX1_rests_154 : decode bcX1_rests 154 = .ok (.iload 5, 2) := dk_21 5 (dk_at dksX1_rests_6 12 rfl rfl)
theorem dX1_rests_156 : decode bcX1_rests 156 = .ok (.ireturn, 1) := dk_172 (dk_at dksX1_rests_6 14 rfl rfl)
abbrev SX1_rests (pc : Nat) (i : xI) : Prop := Snd "SwollenHouse" "rests" prog_1_method_74_code 9 (Option.some Jvm.ClassFile.FieldType.int) [] pc i
theorem oX1_rests_0 : SX1_rests 0 (i_iload 1 1) := snd_iload_n dX1_rests_0 rfl
theorem oX1_rests_1 : SX1_rests 1 (i_const (.int (nI 0)) 2) := snd_iconst dX1_rests_1 (by decide)
theorem oX1_rests_2 : SX1_rests 2 (i_const (.int (nI 9)) 4) := snd_bipush dX1_rests_2 (by decide)
theorem oX1_rests_4 : SX1_rests 4 (i_cs 92 3 7) := snd_cs rfl infX1_in (by decide) (xSm_S dX1_rests_4 q1145 q982 q127 q983 pdX1_in)
theorem oX1_rests_7 : SX1_rests 7 (i_if1 (fun x => x = 0) 40 10) := snd_if_eq dX1_rests_7 (by decide)
theorem oX1_rests_10 : SX1_rests 10 (i_iload 2 11) := snd_iload_n dX1_rests_10 rfl
theorem oX1_rests_11 : SX1_rests 11 (i_const (.int (nI 0)) 12) := snd_iconst dX1_rests_11 (by decide)
theorem oX1_rests_12 : SX1_rests 12 (i_const (.int (nI 9)) 14) := snd_bipush dX1_rests_12 (by decide)
theorem oX1_rests_14 : SX1_rests 14 (i_cs 92 3 17) := snd_cs rfl infX1_in (by decide) (xSm_S dX1_rests_14 q1145 q982 q127 q983 pdX1_in)
theorem oX1_rests_17 : SX1_rests 17 (i_if1 (fun x => x = 0) 40 20) := snd_if_eq dX1_rests_17 (by decide)
theorem oX1_rests_20 : SX1_rests 20 (i_iload 3 21) := snd_iload_n dX1_rests_20 rfl
theorem oX1_rests_21 : SX1_rests 21 (i_const (.int (nI 0)) 22) := snd_iconst dX1_rests_21 (by decide)
theorem oX1_rests_22 : SX1_rests 22 (i_const (.int (nI 9)) 24) := snd_bipush dX1_rests_22 (by decide)
theorem oX1_rests_24 : SX1_rests 24 (i_cs 92 3 27) := snd_cs rfl infX1_in (by decide) (xSm_S dX1_rests_24 q1145 q982 q127 q983 pdX1_in)
theorem oX1_rests_27 : SX1_rests 27 (i_if1 (fun x => x = 0) 40 30) := snd_if_eq dX1_rests_27 (by decide)
theorem oX1_rests_30 : SX1_rests 30 (i_iload 4 32) := snd_iload dX1_rests_30
theorem oX1_rests_32 : SX1_rests 32 (i_const (.int (-1)) 33) := snd_iconst dX1_rests_32 (by decide)
theorem oX1_rests_33 : SX1_rests 33 (i_if2 (fun x y => x < y) 40 36) := snd_icmp_lt dX1_rests_33 (by decide)
theorem oX1_rests_36 : SX1_rests 36 (i_const (.int (nI 1)) 37) := snd_iconst dX1_rests_36 (by decide)
theorem oX1_rests_37 : SX1_rests 37 (i_goto 41) := snd_goto dX1_rests_37 (by decide)
theorem oX1_rests_40 : SX1_rests 40 (i_const (.int (nI 0)) 41) := snd_iconst dX1_rests_40 (by decide)
theorem oX1_rests_41 : SX1_rests 41 (i_csv 164 1 44) := snd_csv rfl infX1_need (by decide) (xSm_S dX1_rests_41 q1606 q1607 q127 q1608 pdX1_need)
theorem oX1_rests_44 : SX1_rests 44 (i_const (.int (nI 0)) 45) := snd_iconst dX1_rests_44 (by decide)
theorem oX1_rests_45 : SX1_rests 45 (i_istore 5 47) := snd_istore dX1_rests_45 (by decide)
theorem oX1_rests_47 : SX1_rests 47 (i_const (.int (nI 0)) 48) := snd_iconst dX1_rests_47 (by decide)
theorem oX1_rests_48 : SX1_rests 48 (i_istore 6 50) := snd_istore dX1_rests_48 (by decide)
theorem oX1_rests_50 : SX1_rests 50 (i_iload 6 52) := snd_iload dX1_rests_50
theorem oX1_rests_52 : SX1_rests 52 (i_const (.int (nI 4)) 53) := snd_iconst dX1_rests_52 (by decide)
theorem oX1_rests_53 : SX1_rests 53 (i_if2 (fun x y => y ≤ x) 140 56) := snd_icmp_ge dX1_rests_53 (by decide)
theorem oX1_rests_56 : SX1_rests 56 (i_iload 6 58) := snd_iload dX1_rests_56
theorem oX1_rests_58 : SX1_rests 58 (i_const (.int (nI 2)) 59) := snd_iconst dX1_rests_58 (by decide)
theorem oX1_rests_59 : SX1_rests 59 (i_iz (fun x y => x / y) 60) := snd_idiv dX1_rests_59
theorem oX1_rests_60 : SX1_rests 60 (i_istore 7 62) := snd_istore dX1_rests_60 (by decide)
theorem oX1_rests_62 : SX1_rests 62 (i_iload 6 64) := snd_iload dX1_rests_62
theorem oX1_rests_64 : SX1_rests 64 (i_const (.int (nI 2)) 65) := snd_iconst dX1_rests_64 (by decide)
theorem oX1_rests_65 : SX1_rests 65 (i_iz (fun x y => x - x / y * y) 66) := snd_irem dX1_rests_65
theorem oX1_rests_66 : SX1_rests 66 (i_istore 8 68) := snd_istore dX1_rests_66 (by decide)
theorem oX1_rests_68 : SX1_rests 68 (i_iload 1 69) := snd_iload_n dX1_rests_68 rfl
theorem oX1_rests_69 : SX1_rests 69 (i_iload 2 70) := snd_iload_n dX1_rests_69 rfl
theorem oX1_rests_70 : SX1_rests 70 (i_iload 3 71) := snd_iload_n dX1_rests_70 rfl
theorem oX1_rests_71 : SX1_rests 71 (i_const (.int (nI 1)) 72) := snd_iconst dX1_rests_71 (by decide)
theorem oX1_rests_72 : SX1_rests 72 (i_iload 7 74) := snd_iload dX1_rests_72
theorem oX1_rests_74 : SX1_rests 74 (i_ii (fun x y => x - y) 75) := snd_isub dX1_rests_74
theorem oX1_rests_75 : SX1_rests 75 (i_iload 8 77) := snd_iload dX1_rests_75
theorem oX1_rests_77 : SX1_rests 77 (i_cs 165 5 80) := snd_cs rfl infX1_gets (by decide) (xSm_S dX1_rests_77 q1630 q1631 q127 q1632 pdX1_gets)
theorem oX1_rests_80 : SX1_rests 80 (i_iload 1 81) := snd_iload_n dX1_rests_80 rfl
theorem oX1_rests_81 : SX1_rests 81 (i_iload 2 82) := snd_iload_n dX1_rests_81 rfl
theorem oX1_rests_82 : SX1_rests 82 (i_iload 3 83) := snd_iload_n dX1_rests_82 rfl
theorem oX1_rests_83 : SX1_rests 83 (i_iload 7 85) := snd_iload dX1_rests_83
theorem oX1_rests_85 : SX1_rests 85 (i_iload 8 87) := snd_iload dX1_rests_85
theorem oX1_rests_87 : SX1_rests 87 (i_cs 165 5 90) := snd_cs rfl infX1_gets (by decide) (xSm_S dX1_rests_87 q1630 q1631 q127 q1632 pdX1_gets)
theorem oX1_rests_90 : SX1_rests 90 (i_if2 (fun x y => y < x) 134 93) := snd_icmp_gt dX1_rests_90 (by decide)
theorem oX1_rests_93 : SX1_rests 93 (i_iload 1 94) := snd_iload_n dX1_rests_93 rfl
theorem oX1_rests_94 : SX1_rests 94 (i_iload 2 95) := snd_iload_n dX1_rests_94 rfl
theorem oX1_rests_95 : SX1_rests 95 (i_iload 3 96) := snd_iload_n dX1_rests_95 rfl
theorem oX1_rests_96 : SX1_rests 96 (i_const (.int (nI 1)) 97) := snd_iconst dX1_rests_96 (by decide)
theorem oX1_rests_97 : SX1_rests 97 (i_iload 8 99) := snd_iload dX1_rests_97
theorem oX1_rests_99 : SX1_rests 99 (i_ii (fun x y => x - y) 100) := snd_isub dX1_rests_99
theorem oX1_rests_100 : SX1_rests 100 (i_iload 7 102) := snd_iload dX1_rests_100
theorem oX1_rests_102 : SX1_rests 102 (i_cs 165 5 105) := snd_cs rfl infX1_gets (by decide) (xSm_S dX1_rests_102 q1630 q1631 q127 q1632 pdX1_gets)
theorem oX1_rests_105 : SX1_rests 105 (i_iload 1 106) := snd_iload_n dX1_rests_105 rfl
theorem oX1_rests_106 : SX1_rests 106 (i_iload 2 107) := snd_iload_n dX1_rests_106 rfl
theorem oX1_rests_107 : SX1_rests 107 (i_iload 3 108) := snd_iload_n dX1_rests_107 rfl
theorem oX1_rests_108 : SX1_rests 108 (i_iload 8 110) := snd_iload dX1_rests_108
theorem oX1_rests_110 : SX1_rests 110 (i_iload 7 112) := snd_iload dX1_rests_110
theorem oX1_rests_112 : SX1_rests 112 (i_cs 165 5 115) := snd_cs rfl infX1_gets (by decide) (xSm_S dX1_rests_112 q1630 q1631 q127 q1632 pdX1_gets)
theorem oX1_rests_115 : SX1_rests 115 (i_if2 (fun x y => x ≤ y) 121 118) := snd_icmp_le dX1_rests_115 (by decide)
theorem oX1_rests_118 : SX1_rests 118 (i_goto 134) := snd_goto dX1_rests_118 (by decide)
theorem oX1_rests_121 : SX1_rests 121 (i_iload 5 123) := snd_iload dX1_rests_121
theorem oX1_rests_123 : SX1_rests 123 (i_iload 4 125) := snd_iload dX1_rests_123
theorem oX1_rests_125 : SX1_rests 125 (i_if2 (fun x y => ¬ x = y) 131 128) := snd_icmp_ne dX1_rests_125 (by decide)
theorem oX1_rests_128 : SX1_rests 128 (i_iload 6 130) := snd_iload dX1_rests_128
theorem oX1_rests_130 : SX1_rests 130 (i_iret) := snd_iret dX1_rests_130 rfl
theorem oX1_rests_131 : SX1_rests 131 (i_iinc 5 (nI 1) 134) := snd_iinc dX1_rests_131 (by decide) (by decide)
theorem oX1_rests_134 : SX1_rests 134 (i_iinc 6 (nI 1) 137) := snd_iinc dX1_rests_134 (by decide) (by decide)
theorem oX1_rests_137 : SX1_rests 137 (i_goto 50) := snd_goto dX1_rests_137 (by decide)
theorem oX1_rests_140 : SX1_rests 140 (i_iload 4 142) := snd_iload dX1_rests_140
theorem oX1_rests_142 : SX1_rests 142 (i_const (.int (-1)) 143) := snd_iconst dX1_rests_142 (by decide)
theorem oX1_rests_143 : SX1_rests 143 (i_if2 (fun x y => ¬ x = y) 150 146) := snd_icmp_ne dX1_rests_143 (by decide)
theorem oX1_rests_146 : SX1_rests 146 (i_const (.int (nI 1)) 147) := snd_iconst dX1_rests_146 (by decide)
theorem oX1_rests_147 : SX1_rests 147 (i_goto 151) := snd_goto dX1_rests_147 (by decide)
theorem oX1_rests_150 : SX1_rests 150 (i_const (.int (nI 0)) 151) := snd_iconst dX1_rests_150 (by decide)
theorem oX1_rests_151 : SX1_rests 151 (i_csv 164 1 154) := snd_csv rfl infX1_need (by decide) (xSm_S dX1_rests_151 q1606 q1607 q127 q1608 pdX1_need)
theorem oX1_rests_154 : SX1_rests 154 (i_iload 5 156) := snd_iload dX1_rests_154
theorem oX1_rests_156 : SX1_rests 156 (i_iret) := snd_iret dX1_rests_156 rfl
theorem okX1_rests : ∀ q ∈ cX1_rests, SX1_rests q.1 q.2 := List.forall_mem_cons.mpr ⟨oX1_rests_0, List.forall_mem_cons.mpr ⟨oX1_rests_1, List.forall_mem_cons.mpr ⟨oX1_rests_2, List.forall_mem_cons.mpr ⟨oX1_rests_4, List.forall_mem_cons.mpr ⟨oX1_rests_7, List.forall_mem_cons.mpr ⟨oX1_rests_10, List.forall_mem_cons.mpr ⟨oX1_rests_11, List.forall_mem_cons.mpr ⟨oX1_rests_12, List.forall_mem_cons.mpr ⟨oX1_rests_14, List.forall_mem_cons.mpr ⟨oX1_rests_17, List.forall_mem_cons.mpr ⟨oX1_rests_20, List.forall_mem_cons.mpr ⟨oX1_rests_21, List.forall_mem_cons.mpr ⟨oX1_rests_22, List.forall_mem_cons.mpr ⟨oX1_rests_24, List.forall_mem_cons.mpr ⟨oX1_rests_27, List.forall_mem_cons.mpr ⟨oX1_rests_30, List.forall_mem_cons.mpr ⟨oX1_rests_32, List.forall_mem_cons.mpr ⟨oX1_rests_33, List.forall_mem_cons.mpr ⟨oX1_rests_36, List.forall_mem_cons.mpr ⟨oX1_rests_37, List.forall_mem_cons.mpr ⟨oX1_rests_40, List.forall_mem_cons.mpr ⟨oX1_rests_41, List.forall_mem_cons.mpr ⟨oX1_rests_44, List.forall_mem_cons.mpr ⟨oX1_rests_45, List.forall_mem_cons.mpr ⟨oX1_rests_47, List.forall_mem_cons.mpr ⟨oX1_rests_48, List.forall_mem_cons.mpr ⟨oX1_rests_50, List.forall_mem_cons.mpr ⟨oX1_rests_52, List.forall_mem_cons.mpr ⟨oX1_rests_53, List.forall_mem_cons.mpr ⟨oX1_rests_56, List.forall_mem_cons.mpr ⟨oX1_rests_58, List.forall_mem_cons.mpr ⟨oX1_rests_59, List.forall_mem_cons.mpr ⟨oX1_rests_60, List.forall_mem_cons.mpr ⟨oX1_rests_62, List.forall_mem_cons.mpr ⟨oX1_rests_64, List.forall_mem_cons.mpr ⟨oX1_rests_65, List.forall_mem_cons.mpr ⟨oX1_rests_66, List.forall_mem_cons.mpr ⟨oX1_rests_68, List.forall_mem_cons.mpr ⟨oX1_rests_69, List.forall_mem_cons.mpr ⟨oX1_rests_70, List.forall_mem_cons.mpr ⟨oX1_rests_71, List.forall_mem_cons.mpr ⟨oX1_rests_72, List.forall_mem_cons.mpr ⟨oX1_rests_74, List.forall_mem_cons.mpr ⟨oX1_rests_75, List.forall_mem_cons.mpr ⟨oX1_rests_77, List.forall_mem_cons.mpr ⟨oX1_rests_80, List.forall_mem_cons.mpr ⟨oX1_rests_81, List.forall_mem_cons.mpr ⟨oX1_rests_82, List.forall_mem_cons.mpr ⟨oX1_rests_83, List.forall_mem_cons.mpr ⟨oX1_rests_85, List.forall_mem_cons.mpr ⟨oX1_rests_87, List.forall_mem_cons.mpr ⟨oX1_rests_90, List.forall_mem_cons.mpr ⟨oX1_rests_93, List.forall_mem_cons.mpr ⟨oX1_rests_94, List.forall_mem_cons.mpr ⟨oX1_rests_95, List.forall_mem_cons.mpr ⟨oX1_rests_96, List.forall_mem_cons.mpr ⟨oX1_rests_97, List.forall_mem_cons.mpr ⟨oX1_rests_99, List.forall_mem_cons.mpr ⟨oX1_rests_100, List.forall_mem_cons.mpr ⟨oX1_rests_102, List.forall_mem_cons.mpr ⟨oX1_rests_105, List.forall_mem_cons.mpr ⟨oX1_rests_106, List.forall_mem_cons.mpr ⟨oX1_rests_107, List.forall_mem_cons.mpr ⟨oX1_rests_108, List.forall_mem_cons.mpr ⟨oX1_rests_110, List.forall_mem_cons.mpr ⟨oX1_rests_112, List.forall_mem_cons.mpr ⟨oX1_rests_115, List.forall_mem_cons.mpr ⟨oX1_rests_118, List.forall_mem_cons.mpr ⟨oX1_rests_121, List.forall_mem_cons.mpr ⟨oX1_rests_123, List.forall_mem_cons.mpr ⟨oX1_rests_125, List.forall_mem_cons.mpr ⟨oX1_rests_128, List.forall_mem_cons.mpr ⟨oX1_rests_130, List.forall_mem_cons.mpr ⟨oX1_rests_131, List.forall_mem_cons.mpr ⟨oX1_rests_134, List.forall_mem_cons.mpr ⟨oX1_rests_137, List.forall_mem_cons.mpr ⟨oX1_rests_140, List.forall_mem_cons.mpr ⟨oX1_rests_142, List.forall_mem_cons.mpr ⟨oX1_rests_143, List.forall_mem_cons.mpr ⟨oX1_rests_146, List.forall_mem_cons.mpr ⟨oX1_rests_147, List.forall_mem_cons.mpr ⟨oX1_rests_150, List.forall_mem_cons.mpr ⟨oX1_rests_151, List.forall_mem_cons.mpr ⟨oX1_rests_154, List.forall_mem_cons.mpr ⟨oX1_rests_156, fun _ h => absurd h List.not_mem_nil⟩⟩⟩⟩⟩⟩⟩⟩⟩⟩⟩⟩⟩⟩⟩⟩⟩⟩⟩⟩⟩⟩⟩⟩⟩⟩⟩⟩⟩⟩⟩⟩⟩⟩⟩⟩⟩⟩⟩⟩⟩⟩⟩⟩⟩⟩⟩⟩⟩⟩⟩⟩⟩⟩⟩⟩⟩⟩⟩⟩⟩⟩⟩⟩⟩⟩⟩⟩⟩⟩⟩⟩⟩⟩⟩⟩⟩⟩⟩⟩⟩⟩⟩⟩⟩
