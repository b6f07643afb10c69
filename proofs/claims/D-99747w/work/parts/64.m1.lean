set_option maxRecDepth 100000
def dkwX5_readOnce_4 : List UInt8 := [3, 3, 182, 0, 250, 177]
abbrev dktX5_readOnce_4 : List UInt8 := dkwX5_readOnce_4 ++ []
def dkwX5_readOnce_3 : List UInt8 := [42, 182, 0, 244, 167, 0, 25, 42, 180, 0, 83, 16, 64, 42, 180, 0, 211, 79, 42, 3, 182, 0, 247, 42]
abbrev dktX5_readOnce_3 : List UInt8 := dkwX5_readOnce_3 ++ dktX5_readOnce_4
def dkwX5_readOnce_2 : List UInt8 := [180, 0, 214, 4, 27, 120, 128, 181, 0, 214, 42, 89, 180, 0, 162, 4, 96, 181, 0, 162, 27, 154, 0, 10]
abbrev dktX5_readOnce_2 : List UInt8 := dkwX5_readOnce_2 ++ dktX5_readOnce_3
def dkwX5_readOnce_1 : List UInt8 := [122, 4, 126, 4, 160, 0, 8, 42, 6, 182, 0, 171, 42, 180, 0, 165, 158, 0, 4, 177, 42, 89]
abbrev dktX5_readOnce_1 : List UInt8 := dkwX5_readOnce_1 ++ dktX5_readOnce_2
def dkwX5_readOnce_0 : List UInt8 := [42, 8, 5, 182, 0, 187, 60, 27, 156, 0, 11, 42, 4, 182, 0, 171, 167, 0, 20, 42, 180, 0, 214, 27]
abbrev dktX5_readOnce_0 : List UInt8 := dkwX5_readOnce_0 ++ dktX5_readOnce_1
theorem dksX5_readOnce_0 : bcX5_readOnce.data.toList.drop 0 = dktX5_readOnce_0 := by decide +kernel
theorem dksX5_readOnce_1 : bcX5_readOnce.data.toList.drop 24 = dktX5_readOnce_1 := dk_seg dksX5_readOnce_0 24 rfl rfl
theorem dksX5_readOnce_2 : bcX5_readOnce.data.toList.drop 46 = dktX5_readOnce_2 := dk_seg dksX5_readOnce_1 22 rfl rfl
theorem dksX5_readOnce_3 : bcX5_readOnce.data.toList.drop 70 = dktX5_readOnce_3 := dk_seg dksX5_readOnce_2 24 rfl rfl
theorem dksX5_readOnce_4 : bcX5_readOnce.data.toList.drop 94 = dktX5_readOnce_4 := dk_seg dksX5_readOnce_3 24 rfl rfl
theorem dX5_readOnce_0 : decode bcX5_readOnce 0 = .ok (.aload_n 0, 1) := dk_42 (dk_at dksX5_readOnce_0 0 rfl rfl)
theorem dX5_readOnce_1 : decode bcX5_readOnce 1 = .ok (.iconst 5, 1) := dk_8 (dk_at dksX5_readOnce_0 1 rfl rfl)
theorem dX5_readOnce_2 : decode bcX5_readOnce 2 = .ok (.iconst 2, 1) := dk_5 (dk_at dksX5_readOnce_0 2 rfl rfl)
theorem dX5_readOnce_3 : decode bcX5_readOnce 3 = .ok (.invokevirtual 187, 3) := dk_182 0 187 (dk_at dksX5_readOnce_0 3 rfl rfl)
theorem dX5_readOnce_6 : decode bcX5_readOnce 6 = .ok (.istore_n 1, 1) := dk_60 (dk_at dksX5_readOnce_0 6 rfl rfl)
theorem dX5_readOnce_7 : decode bcX5_readOnce 7 = .ok (.iload_n 1, 1) := dk_27 (dk_at dksX5_readOnce_0 7 rfl rfl)
theorem dX5_readOnce_8 : decode bcX5_readOnce 8 = .ok (.ifCond .ge 11, 3) := dk_156 0 11 (dk_at dksX5_readOnce_0 8 rfl rfl)
theorem dX5_readOnce_11 : decode bcX5_readOnce 11 = .ok (.aload_n 0, 1) := dk_42 (dk_at dksX5_readOnce_0 11 rfl rfl)
theorem dX5_readOnce_12 : decode bcX5_readOnce 12 = .ok (.iconst 1, 1) := dk_4 (dk_at dksX5_readOnce_0 12 rfl rfl)
theorem dX5_readOnce_13 : decode bcX5_readOnce 13 = .ok (.invokevirtual 171, 3) := dk_182 0 171 (dk_at dksX5_readOnce_0 13 rfl rfl)
theorem dX5_readOnce_16 : decode bcX5_readOnce 16 = .ok (.goto 20, 3) := dk_167 0 20 (dk_at dksX5_readOnce_0 16 rfl rfl)
theorem dX5_readOnce_19 : decode bcX5_readOnce 19 = .ok (.aload_n 0, 1) := dk_42 (dk_at dksX5_readOnce_0 19 rfl rfl)
theorem dX5_readOnce_20 : decode bcX5_readOnce 20 = .ok (.getfield 214, 3) := dk_180 0 214 (dk_at dksX5_readOnce_0 20 rfl rfl)
theorem dX5_readOnce_23 : decode bcX5_readOnce 23 = .ok (.iload_n 1, 1) := dk_27 (dk_at dksX5_readOnce_0 23 rfl rfl)
theorem dX5_readOnce_24 : decode bcX5_readOnce 24 = .ok (.ishr, 1) := dk_122 (dk_at dksX5_readOnce_1 0 rfl rfl)
theorem dX5_readOnce_25 : decode bcX5_readOnce 25 = .ok (.iconst 1, 1) := dk_4 (dk_at dksX5_readOnce_1 1 rfl rfl)
theorem dX5_readOnce_26 : decode bcX5_readOnce 26 = .ok (.iand, 1) := dk_126 (dk_at dksX5_readOnce_1 2 rfl rfl)
theorem dX5_readOnce_27 : decode bcX5_readOnce 27 = .ok (.iconst 1, 1) := dk_4 (dk_at dksX5_readOnce_1 3 rfl rfl)
theorem dX5_readOnce_28 : decode bcX5_readOnce 28 = .ok (.if_icmp .ne 8, 3) := dk_160 0 8 (dk_at dksX5_readOnce_1 4 rfl rfl)
theorem dX5_readOnce_31 : decode bcX5_readOnce 31 = .ok (.aload_n 0, 1) := dk_42 (dk_at dksX5_readOnce_1 7 rfl rfl)
theorem dX5_readOnce_32 : decode bcX5_readOnce 32 = .ok (.iconst 3, 1) := dk_6 (dk_at dksX5_readOnce_1 8 rfl rfl)
theorem dX5_readOnce_33 : decode bcX5_readOnce 33 = .ok (.invokevirtual 171, 3) := dk_182 0 171 (dk_at dksX5_readOnce_1 9 rfl rfl)
theorem dX5_readOnce_36 : decode bcX5_readOnce 36 = .ok (.aload_n 0, 1) := dk_42 (dk_at dksX5_readOnce_1 12 rfl rfl)
theorem dX5_readOnce_37 : decode bcX5_readOnce 37 = .ok (.getfield 165, 3) := dk_180 0 165 (dk_at dksX5_readOnce_1 13 rfl rfl)
theorem dX5_readOnce_40 : decode bcX5_readOnce 40 = .ok (.ifCond .le 4, 3) := dk_158 0 4 (dk_at dksX5_readOnce_1 16 rfl rfl)
theorem dX5_readOnce_43 : decode bcX5_readOnce 43 = .ok (.return_, 1) := dk_177 (dk_at dksX5_readOnce_1 19 rfl rfl)
theorem dX5_readOnce_44 : decode bcX5_readOnce 44 = .ok (.aload_n 0, 1) := dk_42 (dk_at dksX5_readOnce_1 20 rfl rfl)
theorem dX5_readOnce_45 : decode bcX5_readOnce 45 = .ok (.dup, 1) := dk_89 (dk_at dksX5_readOnce_1 21 rfl rfl)
theorem dX5_readOnce_46 : decode bcX5_readOnce 46 = .ok (.getfield 214, 3) := dk_180 0 214 (dk_at dksX5_readOnce_2 0 rfl rfl)
theorem dX5_readOnce_49 : decode bcX5_readOnce 49 = .ok (.iconst 1, 1) := dk_4 (dk_at dksX5_readOnce_2 3 rfl rfl)
theorem dX5_readOnce_50 : decode bcX5_readOnce 50 = .ok (.iload_n 1, 1) := dk_27 (dk_at dksX5_readOnce_2 4 rfl rfl)
theorem dX5_readOnce_51 : decode bcX5_readOnce 51 = .ok (.ishl, 1) := dk_120 (dk_at dksX5_readOnce_2 5 rfl rfl)
theorem dX5_readOnce_52 : decode bcX5_readOnce 52 = .ok (.ior, 1) := dk_128 (dk_at dksX5_readOnce_2 6 rfl rfl)
theorem dX5_readOnce_53 : decode bcX5_readOnce 53 = .ok (.putfield 214, 3) := dk_181 0 214 (dk_at dksX5_readOnce_2 7 rfl rfl)
theorem dX5_readOnce_56 : decode bcX5_readOnce 56 = .ok (.aload_n 0, 1) := dk_42 (dk_at dksX5_readOnce_2 10 rfl rfl)
theorem dX5_readOnce_57 : decode bcX5_readOnce 57 = .ok (.dup, 1) := dk_89 (dk_at dksX5_readOnce_2 11 rfl rfl)
theorem dX5_readOnce_58 : decode bcX5_readOnce 58 = .ok (.getfield 162, 3) := dk_180 0 162 (dk_at dksX5_readOnce_2 12 rfl rfl)
theorem dX5_readOnce_61 : decode bcX5_readOnce 61 = .ok (.iconst 1, 1) := dk_4 (dk_at dksX5_readOnce_2 15 rfl rfl)
theorem dX5_readOnce_62 : decode bcX5_readOnce 62 = .ok (.iadd, 1) := dk_96 (dk_at dksX5_readOnce_2 16 rfl rfl)
theorem dX5_readOnce_63 : decode bcX5_readOnce 63 = .ok (.putfield 162, 3) := dk_181 0 162 (dk_at dksX5_readOnce_2 17 rfl rfl)
theorem dX5_readOnce_66 : decode bcX5_readOnce 66 = .ok (.iload_n 1, 1) := dk_27 (dk_at dksX5_readOnce_2 20 rfl rfl)
theorem dX5_readOnce_67 : decode bcX5_readOnce 67 = .ok (.ifCond .ne 10, 3) := dk_154 0 10 (dk_at dksX5_readOnce_2 21 rfl rfl)
theorem dX5_readOnce_70 : decode bcX5_readOnce 70 = .ok (.aload_n 0, 1) := dk_42 (dk_at dksX5_readOnce_3 0 rfl rfl)
theorem dX5_readOnce_71 : decode bcX5_readOnce 71 = .ok (.invokevirtual 244, 3) := dk_182 0 244 (dk_at dksX5_readOnce_3 1 rfl rfl)
theorem dX5_readOnce_74 : decode bcX5_readOnce 74 = .ok (.goto 25, 3) := dk_167 0 25 (dk_at dksX5_readOnce_3 4 rfl rfl)
theorem dX5_readOnce_77 : decode bcX5_readOnce 77 = .ok (.aload_n 0, 1) := dk_42 (dk_at dksX5_readOnce_3 7 rfl rfl)
theorem dX5_readOnce_78 : decode bcX5_readOnce 78 = .ok (.getfield 83, 3) := dk_180 0 83 (dk_at dksX5_readOnce_3 8 rfl rfl)
theorem dX5_readOnce_81 : decode bcX5_readOnce 81 = .ok (.bipush 64, 2) := dk_16 64 (dk_at dksX5_readOnce_3 11 rfl rfl)
theorem dX5_readOnce_83 : decode bcX5_readOnce 83 = .ok (.aload_n 0, 1) := dk_42 (dk_at dksX5_readOnce_3 13 rfl rfl)
theorem dX5_readOnce_84 : decode bcX5_readOnce 84 = .ok (.getfield 211, 3) := dk_180 0 211 (dk_at dksX5_readOnce_3 14 rfl rfl)
theorem dX5_readOnce_87 : decode bcX5_readOnce 87 = .ok (.iastore, 1) := dk_79 (dk_at dksX5_readOnce_3 17 rfl rfl)
theorem dX5_readOnce_88 : decode bcX5_readOnce 88 = .ok (.aload_n 0, 1) := dk_42 (dk_at dksX5_readOnce_3 18 rfl rfl)
theorem dX5_readOnce_89 : decode bcX5_readOnce 89 = .ok (.iconst 0, 1) := dk_3 (dk_at dksX5_readOnce_3 19 rfl rfl)
theorem dX5_readOnce_90 : decode bcX5_readOnce 90 = .ok (.invokevirtual 247, 3) := dk_182 0 247 (dk_at dksX5_readOnce_3 20 rfl rfl)
theorem dX5_readOnce_93 : decode bcX5_readOnce 93 = .ok (.aload_n 0, 1) := dk_42 (dk_at dksX5_readOnce_3 23 rfl rfl)
theorem dX5_readOnce_94 : decode bcX5_readOnce 94 = .ok (.iconst 0, 1) := dk_3 (dk_at dksX5_readOnce_4 0 rfl rfl)
theorem dX5_readOnce_95 : decode bcX5_readOnce 95 = .ok (.iconst 0, 1) := dk_3 (dk_at dksX5_readOnce_4 1 rfl rfl)
theorem dX5_readOnce_96 : decode bcX5_readOnce 96 = .ok (.invokevirtual 250, 3) := dk_182 0 250 (dk_at dksX5_readOnce_4 2 rfl rfl)
theorem dX5_readOnce_99 : decode bcX5_readOnce 99 = .ok (.return_, 1) := dk_177 (dk_at dksX5_readOnce_4 5 rfl rfl)
abbrev SX5_readOnce (pc : Nat) (i : xI) : Prop := Snd "SwollenHouseModel" "readOnce" prog_25_method_30_code 2 (Option.none : Option Jvm.ClassFile.FieldType) [] pc i
theorem oX5_readOnce_0 : SX5_readOnce 0 (i_aload 0 1) := snd_aload_n dX5_readOnce_0 rfl
theorem oX5_readOnce_1 : SX5_readOnce 1 (i_const (.int (nI 5)) 2) := snd_iconst dX5_readOnce_1 (by decide)
theorem oX5_readOnce_2 : SX5_readOnce 2 (i_const (.int (nI 2)) 3) := snd_iconst dX5_readOnce_2 (by decide)
theorem oX5_readOnce_3 : SX5_readOnce 3 (i_cv 4 264 2 6) := snd_cv rfl infX5_wordHere (by decide) rfl (xVm_V dX5_readOnce_3 rfl q1839 q1841 qs69 q136 q1842 pdX5_wordHere)
theorem oX5_readOnce_6 : SX5_readOnce 6 (i_istore 1 7) := snd_istore_n dX5_readOnce_6 rfl (by decide)
theorem oX5_readOnce_7 : SX5_readOnce 7 (i_iload 1 8) := snd_iload_n dX5_readOnce_7 rfl
theorem oX5_readOnce_8 : SX5_readOnce 8 (i_if1 (fun x => 0 ≤ x) 19 11) := snd_if_ge dX5_readOnce_8 (by decide)
theorem oX5_readOnce_11 : SX5_readOnce 11 (i_aload 0 12) := snd_aload_n dX5_readOnce_11 rfl
theorem oX5_readOnce_12 : SX5_readOnce 12 (i_const (.int (nI 1)) 13) := snd_iconst dX5_readOnce_12 (by decide)
theorem oX5_readOnce_13 : SX5_readOnce 13 (i_cvv 4 262 1 16) := snd_cvv rfl infX5_wrong (by decide) rfl (xVm_V dX5_readOnce_13 rfl q1831 q1833 qs67 q136 q1834 pdX5_wrong)
theorem oX5_readOnce_16 : SX5_readOnce 16 (i_goto 36) := snd_goto dX5_readOnce_16 (by decide)
theorem oX5_readOnce_19 : SX5_readOnce 19 (i_aload 0 20) := snd_aload_n dX5_readOnce_19 rfl
theorem oX5_readOnce_20 : SX5_readOnce 20 (i_getf 4 20 23) := snd_getf dX5_readOnce_20 rfl (by decide) in_X5 (Or.inl q1718) (Or.inl rfl) (by decide)
theorem oX5_readOnce_23 : SX5_readOnce 23 (i_iload 1 24) := snd_iload_n dX5_readOnce_23 rfl
theorem oX5_readOnce_24 : SX5_readOnce 24 (i_ii (fun x y => x >>> (y &&& 31)) 25) := snd_ishr dX5_readOnce_24
theorem oX5_readOnce_25 : SX5_readOnce 25 (i_const (.int (nI 1)) 26) := snd_iconst dX5_readOnce_25 (by decide)
theorem oX5_readOnce_26 : SX5_readOnce 26 (i_ii (fun x y => x &&& y) 27) := snd_iand dX5_readOnce_26
theorem oX5_readOnce_27 : SX5_readOnce 27 (i_const (.int (nI 1)) 28) := snd_iconst dX5_readOnce_27 (by decide)
theorem oX5_readOnce_28 : SX5_readOnce 28 (i_if2 (fun x y => ¬ x = y) 36 31) := snd_icmp_ne dX5_readOnce_28 (by decide)
theorem oX5_readOnce_31 : SX5_readOnce 31 (i_aload 0 32) := snd_aload_n dX5_readOnce_31 rfl
theorem oX5_readOnce_32 : SX5_readOnce 32 (i_const (.int (nI 3)) 33) := snd_iconst dX5_readOnce_32 (by decide)
theorem oX5_readOnce_33 : SX5_readOnce 33 (i_cvv 4 262 1 36) := snd_cvv rfl infX5_wrong (by decide) rfl (xVm_V dX5_readOnce_33 rfl q1831 q1833 qs67 q136 q1834 pdX5_wrong)
theorem oX5_readOnce_36 : SX5_readOnce 36 (i_aload 0 37) := snd_aload_n dX5_readOnce_36 rfl
theorem oX5_readOnce_37 : SX5_readOnce 37 (i_getf 4 8 40) := snd_getf dX5_readOnce_37 rfl (by decide) in_X5 (Or.inl q1706) (Or.inl rfl) (by decide)
theorem oX5_readOnce_40 : SX5_readOnce 40 (i_if1 (fun x => x ≤ 0) 44 43) := snd_if_le dX5_readOnce_40 (by decide)
theorem oX5_readOnce_43 : SX5_readOnce 43 (i_vret) := snd_vret dX5_readOnce_43 rfl
theorem oX5_readOnce_44 : SX5_readOnce 44 (i_aload 0 45) := snd_aload_n dX5_readOnce_44 rfl
theorem oX5_readOnce_45 : SX5_readOnce 45 (i_dup 46) := snd_dup dX5_readOnce_45
theorem oX5_readOnce_46 : SX5_readOnce 46 (i_getf 4 20 49) := snd_getf dX5_readOnce_46 rfl (by decide) in_X5 (Or.inl q1718) (Or.inl rfl) (by decide)
theorem oX5_readOnce_49 : SX5_readOnce 49 (i_const (.int (nI 1)) 50) := snd_iconst dX5_readOnce_49 (by decide)
theorem oX5_readOnce_50 : SX5_readOnce 50 (i_iload 1 51) := snd_iload_n dX5_readOnce_50 rfl
theorem oX5_readOnce_51 : SX5_readOnce 51 (i_ii (fun x y => x <<< (y &&& 31)) 52) := snd_ishl dX5_readOnce_51
theorem oX5_readOnce_52 : SX5_readOnce 52 (i_ii (fun x y => x ||| y) 53) := snd_ior dX5_readOnce_52
theorem oX5_readOnce_53 : SX5_readOnce 53 (i_putfi 4 20 56) := snd_putfi dX5_readOnce_53 rfl (by decide) in_X5 tyX5 tyX5_ok nmX5 (Or.inl ⟨rfl, q1718⟩) (Or.inl rfl) rfl
theorem oX5_readOnce_56 : SX5_readOnce 56 (i_aload 0 57) := snd_aload_n dX5_readOnce_56 rfl
theorem oX5_readOnce_57 : SX5_readOnce 57 (i_dup 58) := snd_dup dX5_readOnce_57
theorem oX5_readOnce_58 : SX5_readOnce 58 (i_getf 4 7 61) := snd_getf dX5_readOnce_58 rfl (by decide) in_X5 (Or.inl q1705) (Or.inl rfl) (by decide)
theorem oX5_readOnce_61 : SX5_readOnce 61 (i_const (.int (nI 1)) 62) := snd_iconst dX5_readOnce_61 (by decide)
theorem oX5_readOnce_62 : SX5_readOnce 62 (i_ii (fun x y => x + y) 63) := snd_iadd dX5_readOnce_62
theorem oX5_readOnce_63 : SX5_readOnce 63 (i_putfi 4 7 66) := snd_putfi dX5_readOnce_63 rfl (by decide) in_X5 tyX5 tyX5_ok nmX5 (Or.inl ⟨rfl, q1705⟩) (Or.inl rfl) rfl
theorem oX5_readOnce_66 : SX5_readOnce 66 (i_iload 1 67) := snd_iload_n dX5_readOnce_66 rfl
theorem oX5_readOnce_67 : SX5_readOnce 67 (i_if1 (fun x => ¬ x = 0) 77 70) := snd_if_ne dX5_readOnce_67 (by decide)
theorem oX5_readOnce_70 : SX5_readOnce 70 (i_aload 0 71) := snd_aload_n dX5_readOnce_70 rfl
theorem oX5_readOnce_71 : SX5_readOnce 71 (i_cvv 4 275 0 74) := snd_cvv rfl infX5_readDamp (by decide) rfl (xVm_V dX5_readOnce_71 rfl q1882 q1884 qs79 q136 q1885 pdX5_readDamp)
theorem oX5_readOnce_74 : SX5_readOnce 74 (i_goto 99) := snd_goto dX5_readOnce_74 (by decide)
theorem oX5_readOnce_77 : SX5_readOnce 77 (i_aload 0 78) := snd_aload_n dX5_readOnce_77 rfl
theorem oX5_readOnce_78 : SX5_readOnce 78 (i_getf 4 10 81) := snd_getf dX5_readOnce_78 rfl (by decide) in_X5 (Or.inl q1708) (Or.inl rfl) (by decide)
theorem oX5_readOnce_81 : SX5_readOnce 81 (i_const (.int (nI 64)) 83) := snd_bipush dX5_readOnce_81 (by decide)
theorem oX5_readOnce_83 : SX5_readOnce 83 (i_aload 0 84) := snd_aload_n dX5_readOnce_83 rfl
theorem oX5_readOnce_84 : SX5_readOnce 84 (i_getf 4 13 87) := snd_getf dX5_readOnce_84 rfl (by decide) in_X5 (Or.inl q1711) (Or.inl rfl) (by decide)
theorem oX5_readOnce_87 : SX5_readOnce 87 (i_si (fun v => v) 0 88) := snd_si0 dX5_readOnce_87
theorem oX5_readOnce_88 : SX5_readOnce 88 (i_aload 0 89) := snd_aload_n dX5_readOnce_88 rfl
theorem oX5_readOnce_89 : SX5_readOnce 89 (i_const (.int (nI 0)) 90) := snd_iconst dX5_readOnce_89 (by decide)
theorem oX5_readOnce_90 : SX5_readOnce 90 (i_cvv 4 276 1 93) := snd_cvv rfl infX5_whole (by decide) rfl (xVm_V dX5_readOnce_90 rfl q1886 q1888 qs80 q136 q1889 pdX5_whole)
theorem oX5_readOnce_93 : SX5_readOnce 93 (i_aload 0 94) := snd_aload_n dX5_readOnce_93 rfl
theorem oX5_readOnce_94 : SX5_readOnce 94 (i_const (.int (nI 0)) 95) := snd_iconst dX5_readOnce_94 (by decide)
theorem oX5_readOnce_95 : SX5_readOnce 95 (i_const (.int (nI 0)) 96) := snd_iconst dX5_readOnce_95 (by decide)
theorem oX5_readOnce_96 : SX5_readOnce 96 (i_cvv 4 282 2 99) := snd_cvv rfl infX5_emit (by decide) rfl (xVm_V dX5_readOnce_96 rfl q1910 q1912 qs86 q136 q1913 pdX5_emit)
theorem oX5_readOnce_99 : SX5_readOnce 99 (i_vret) := snd_vret dX5_readOnce_99 rfl
theorem okX5_readOnce : ∀ q ∈ cX5_readOnce, SX5_readOnce q.1 q.2 := List.forall_mem_cons.mpr ⟨oX5_readOnce_0, List.forall_mem_cons.mpr ⟨oX5_readOnce_1, List.forall_mem_cons.mpr ⟨oX5_readOnce_2, List.forall_mem_cons.mpr ⟨oX5_readOnce_3, List.forall_mem_cons.mpr ⟨oX5_readOnce_6, List.forall_mem_cons.mpr ⟨oX5_readOnce_7, List.forall_mem_cons.mpr ⟨oX5_readOnce_8, List.forall_mem_cons.mpr ⟨oX5_readOnce_11, List.forall_mem_cons.mpr ⟨oX5_readOnce_12, List.forall_mem_cons.mpr ⟨oX5_readOnce_13, List.forall_mem_cons.mpr ⟨oX5_readOnce_16, List.forall_mem_cons.mpr ⟨oX5_readOnce_19, List.forall_mem_cons.mpr ⟨oX5_readOnce_20, List.forall_mem_cons.mpr ⟨oX5_readOnce_23, List.forall_mem_cons.mpr ⟨oX5_readOnce_24, List.forall_mem_cons.mpr ⟨oX5_readOnce_25, List.forall_mem_cons.mpr ⟨oX5_readOnce_26, List.forall_mem_cons.mpr ⟨oX5_readOnce_27, List.forall_mem_cons.mpr ⟨oX5_readOnce_28, List.forall_mem_cons.mpr ⟨oX5_readOnce_31, List.forall_mem_cons.mpr ⟨oX5_readOnce_32, List.forall_mem_cons.mpr ⟨oX5_readOnce_33, List.forall_mem_cons.mpr ⟨oX5_readOnce_36, List.forall_mem_cons.mpr ⟨oX5_readOnce_37, List.forall_mem_cons.mpr ⟨oX5_readOnce_40, List.forall_mem_cons.mpr ⟨oX5_readOnce_43, List.forall_mem_cons.mpr ⟨oX5_readOnce_44, List.forall_mem_cons.mpr ⟨oX5_readOnce_45, List.forall_mem_cons.mpr ⟨oX5_readOnce_46, List.forall_mem_cons.mpr ⟨oX5_readOnce_49, List.forall_mem_cons.mpr ⟨oX5_readOnce_50, List.forall_mem_cons.mpr ⟨oX5_readOnce_51, List.forall_mem_cons.mpr ⟨oX5_readOnce_52, List.forall_mem_cons.mpr ⟨oX5_readOnce_53, List.forall_mem_cons.mpr ⟨oX5_readOnce_56, List.forall_mem_cons.mpr ⟨oX5_readOnce_57, List.forall_mem_cons.mpr ⟨oX5_readOnce_58, List.forall_mem_cons.mpr ⟨oX5_readOnce_61, List.forall_mem_cons.mpr ⟨oX5_readOnce_62, List.forall_mem_cons.mpr ⟨oX5_readOnce_63, List.forall_mem_cons.mpr ⟨oX5_readOnce_66, List.forall_mem_cons.mpr ⟨oX5_readOnce_67, List.forall_mem_cons.mpr ⟨oX5_readOnce_70, List.forall_mem_cons.mpr ⟨oX5_readOnce_71, List.forall_mem_cons.mpr ⟨oX5_readOnce_74, List.forall_mem_cons.mpr ⟨oX5_readOnce_77, List.forall_mem_cons.mpr ⟨oX5_readOnce_78, List.forall_mem_cons.mpr ⟨oX5_readOnce_81, List.forall_mem_cons.mpr ⟨oX5_readOnce_83, List.forall_mem_cons.mpr ⟨oX5_readOnce_84, List.forall_mem_cons.mpr ⟨oX5_readOnce_87, List.forall_mem_cons.mpr ⟨oX5_readOnce_88, List.forall_mem_cons.mpr ⟨oX5_readOnce_89, List.forall_mem_cons.mpr ⟨oX5_readOnce_90, List.forall_mem_cons.mpr ⟨oX5_readOnce_93, List.forall_mem_cons.mpr ⟨oX5_readOnce_94, List.forall_mem_cons.mpr ⟨oX5_readOnce_95, List.forall_mem_cons.mpr ⟨oX5_readOnce_96, List.forall_mem_cons.mpr ⟨oX5_readOnce_99, fun _ h => absurd h List.not_mem_nil⟩⟩⟩⟩⟩⟩⟩⟩⟩⟩⟩⟩⟩⟩⟩⟩⟩⟩⟩⟩⟩⟩⟩⟩⟩⟩⟩⟩⟩⟩⟩⟩⟩⟩⟩⟩⟩⟩⟩⟩⟩⟩⟩⟩⟩⟩⟩⟩⟩⟩⟩⟩⟩⟩⟩⟩⟩⟩⟩
def dkwX5_readDamp_4 : List UInt8 := [16, 63, 27, 79, 177]
abbrev dktX5_readDamp_4 : List UInt8 := dkwX5_readDamp_4 ++ []
def dkwX5_readDamp_3 : List UInt8 := [154, 0, 16, 42, 180, 0, 83, 16, 102, 27, 96, 28, 79, 132, 1, 1, 167, 255, 173, 42, 180, 0, 83]
abbrev dktX5_readDamp_3 : List UInt8 := dkwX5_readDamp_3 ++ dktX5_readDamp_4
def dkwX5_readDamp_2 : List UInt8 := [42, 89, 180, 0, 162, 4, 100, 181, 0, 162, 42, 8, 182, 0, 171, 167, 0, 23, 42, 180, 0, 165]
abbrev dktX5_readDamp_2 : List UInt8 := dkwX5_readDamp_2 ++ dktX5_readDamp_3
def dkwX5_readDamp_1 : List UInt8 := [160, 0, 65, 42, 3, 16, 9, 182, 0, 183, 61, 42, 180, 0, 165, 154, 0, 27, 27, 16, 12, 160, 0, 21]
abbrev dktX5_readDamp_1 : List UInt8 := dkwX5_readDamp_1 ++ dktX5_readDamp_2
def dkwX5_readDamp_0 : List UInt8 := [3, 60, 42, 180, 0, 165, 154, 0, 82, 27, 153, 0, 16, 42, 180, 0, 24, 42, 180, 0, 162, 46, 5]
abbrev dktX5_readDamp_0 : List UInt8 := dkwX5_readDamp_0 ++ dktX5_readDamp_1
theorem dksX5_readDamp_0 : bcX5_readDamp.data.toList.drop 0 = dktX5_readDamp_0 := by decide +kernel
theorem dksX5_readDamp_1 : bcX5_readDamp.data.toList.drop 23 = dktX5_readDamp_1 := dk_seg dksX5_readDamp_0 23 rfl rfl
theorem dksX5_readDamp_2 : bcX5_readDamp.data.toList.drop 47 = dktX5_readDamp_2 := dk_seg dksX5_readDamp_1 24 rfl rfl
theorem dksX5_readDamp_3 : bcX5_readDamp.data.toList.drop 69 = dktX5_readDamp_3 := dk_seg dksX5_readDamp_2 22 rfl rfl
theorem dksX5_readDamp_4 : bcX5_readDamp.data.toList.drop 92 = dktX5_readDamp_4 := dk_seg dksX5_readDamp_3 23 rfl rfl
theorem dX5_readDamp_0 : decode bcX5_readDamp 0 = .ok (.iconst 0, 1) := dk_3 (dk_at dksX5_readDamp_0 0 rfl rfl)
theorem dX5_readDamp_1 : decode bcX5_readDamp 1 = .ok (.istore_n 1, 1) := dk_60 (dk_at dksX5_readDamp_0 1 rfl rfl)
theorem dX5_readDamp_2 : decode bcX5_readDamp 2 = .ok (.aload_n 0, 1) := dk_42 (dk_at dksX5_readDamp_0 2 rfl rfl)
theorem dX5_readDamp_3 : decode bcX5_readDamp 3 = .ok (.getfield 165, 3) := dk_180 0 165 (dk_at dksX5_readDamp_0 3 rfl rfl)
theorem dX5_readDamp_6 : decode bcX5_readDamp 6 = .ok (.ifCond .ne 82, 3) := dk_154 0 82 (dk_at dksX5_readDamp_0 6 rfl rfl)
theorem dX5_readDamp_9 : decode bcX5_readDamp 9 = .ok (.iload_n 1, 1) := dk_27 (dk_at dksX5_readDamp_0 9 rfl rfl)
theorem dX5_readDamp_10 : decode bcX5_readDamp 10 = .ok (.ifCond .eq 16, 3) := dk_153 0 16 (dk_at dksX5_readDamp_0 10 rfl rfl)
theorem dX5_readDamp_13 : decode bcX5_readDamp 13 = .ok (.aload_n 0, 1) := dk_42 (dk_at dksX5_readDamp_0 13 rfl rfl)
theorem dX5_readDamp_14 : decode bcX5_readDamp 14 = .ok (.getfield 24, 3) := dk_180 0 24 (dk_at dksX5_readDamp_0 14 rfl rfl)
theorem dX5_readDamp_17 : decode bcX5_readDamp 17 = .ok (.aload_n 0, 1) := dk_42 (dk_at dksX5_readDamp_0 17 rfl rfl)
theorem dX5_readDamp_18 : decode bcX5_readDamp 18 = .ok (.getfield 162, 3) := dk_180 0 162 (dk_at dksX5_readDamp_0 18 rfl rfl)
theorem dX5_readDamp_21 : decode bcX5_readDamp 21 = .ok (.iaload, 1) := dk_46 (dk_at dksX5_readDamp_0 21 rfl rfl)
theorem dX5_readDamp_22 : decode bcX5_readDamp 22 = .ok (.iconst 2, 1) := dk_5 (dk_at dksX5_readDamp_0 22 rfl rfl)
theorem dX5_readDamp_23 : decode bcX5_readDamp 23 = .ok (.if_icmp .ne 65, 3) := dk_160 0 65 (dk_at dksX5_readDamp_1 0 rfl rfl)
theorem dX5_readDamp_26 : decode bcX5_readDamp 26 = .ok (.aload_n 0, 1) := dk_42 (dk_at dksX5_readDamp_1 3 rfl rfl)
theorem dX5_readDamp_27 : decode bcX5_readDamp 27 = .ok (.iconst 0, 1) := dk_3 (dk_at dksX5_readDamp_1 4 rfl rfl)
theorem dX5_readDamp_28 : decode bcX5_readDamp 28 = .ok (.bipush 9, 2) := dk_16 9 (dk_at dksX5_readDamp_1 5 rfl rfl)
theorem dX5_readDamp_30 : decode bcX5_readDamp 30 = .ok (.invokevirtual 183, 3) := dk_182 0 183 (dk_at dksX5_readDamp_1 7 rfl rfl)
theorem dX5_readDamp_33 : decode bcX5_readDamp 33 = .ok (.istore_n 2, 1) := dk_61 (dk_at dksX5_readDamp_1 10 rfl rfl)
theorem dX5_readDamp_34 : decode bcX5_readDamp 34 = .ok (.aload_n 0, 1) := dk_42 (dk_at dksX5_readDamp_1 11 rfl rfl)
theorem dX5_readDamp_35 : decode bcX5_readDamp 35 = .ok (.getfield 165, 3) := dk_180 0 165 (dk_at dksX5_readDamp_1 12 rfl rfl)
theorem dX5_readDamp_38 : decode bcX5_readDamp 38 = .ok (.ifCond .ne 27, 3) := dk_154 0 27 (dk_at dksX5_readDamp_1 15 rfl rfl)
theorem dX5_readDamp_41 : decode bcX5_readDamp 41 = .ok (.iload_n 1, 1) := dk_27 (dk_at dksX5_readDamp_1 18 rfl rfl)
theorem dX5_readDamp_42 : decode bcX5_readDamp 42 = .ok (.bipush 12, 2) := dk_16 12 (dk_at dksX5_readDamp_1 19 rfl rfl)
theorem dX5_readDamp_44 : decode bcX5_readDamp 44 = .ok (.if_icmp .ne 21, 3) := dk_160 0 21 (dk_at dksX5_readDamp_1 21 rfl rfl)
theorem dX5_readDamp_47 : decode bcX5_readDamp 47 = .ok (.aload_n 0, 1) := dk_42 (dk_at dksX5_readDamp_2 0 rfl rfl)
theorem dX5_readDamp_48 : decode bcX5_readDamp 48 = .ok (.dup, 1) := dk_89 (dk_at dksX5_readDamp_2 1 rfl rfl)
theorem dX5_readDamp_49 : decode bcX5_readDamp 49 = .ok (.getfield 162, 3) := dk_180 0 162 (dk_at dksX5_readDamp_2 2 rfl rfl)
theorem dX5_readDamp_52 : decode bcX5_readDamp 52 = .ok (.iconst 1, 1) := dk_4 (dk_at dksX5_readDamp_2 5 rfl rfl)
theorem dX5_readDamp_53 : decode bcX5_readDamp 53 = .ok (.isub, 1) := dk_100 (dk_at dksX5_readDamp_2 6 rfl rfl)
theorem dX5_readDamp_54 : decode bcX5_readDamp 54 = .ok (.putfield 162, 3) := dk_181 0 162 (dk_at dksX5_readDamp_2 7 rfl rfl)
theorem dX5_readDamp_57 : decode bcX5_readDamp 57 = .ok (.aload_n 0, 1) := dk_42 (dk_at dksX5_readDamp_2 10 rfl rfl)
theorem dX5_readDamp_58 : decode bcX5_readDamp 58 = .ok (.iconst 5, 1) := dk_8 (dk_at dksX5_readDamp_2 11 rfl rfl)
theorem dX5_readDamp_59 : decode bcX5_readDamp 59 = .ok (.invokevirtual 171, 3) := dk_182 0 171 (dk_at dksX5_readDamp_2 12 rfl rfl)
theorem dX5_readDamp_62 : decode bcX5_readDamp 62 = .ok (.goto 23, 3) := dk_167 0 23 (dk_at dksX5_readDamp_2 15 rfl rfl)
theorem dX5_readDamp_65 : decode bcX5_readDamp 65 = .ok (.aload_n 0, 1) := dk_42 (dk_at dksX5_readDamp_2 18 rfl rfl)
theorem dX5_readDamp_66 : decode bcX5_readDamp 66 = .ok (.getfield 165, 3) := dk_180 0 165 (dk_at dksX5_readDamp_2 19 rfl rfl)
theorem dX5_readDamp_69 : decode bcX5_readDamp 69 = .ok (.ifCond .ne 16, 3) := dk_154 0 16 (dk_at dksX5_readDamp_3 0 rfl rfl)
theorem dX5_readDamp_72 : decode bcX5_readDamp 72 = .ok (.aload_n 0, 1) := dk_42 (dk_at dksX5_readDamp_3 3 rfl rfl)
theorem dX5_readDamp_73 : decode bcX5_readDamp 73 = .ok (.getfield 83, 3) := dk_180 0 83 (dk_at dksX5_readDamp_3 4 rfl rfl)
theorem dX5_readDamp_76 : decode bcX5_readDamp 76 = .ok (.bipush 102, 2) := dk_16 102 (dk_at dksX5_readDamp_3 7 rfl rfl)
theorem dX5_readDamp_78 : decode bcX5_readDamp 78 = .ok (.iload_n 1, 1) := dk_27 (dk_at dksX5_readDamp_3 9 rfl rfl)
theorem dX5_readDamp_79 : decode bcX5_readDamp 79 = .ok (.iadd, 1) := dk_96 (dk_at dksX5_readDamp_3 10 rfl rfl)
theorem dX5_readDamp_80 : decode bcX5_readDamp 80 = .ok (.iload_n 2, 1) := dk_28 (dk_at dksX5_readDamp_3 11 rfl rfl)
theorem dX5_readDamp_81 : decode bcX5_readDamp 81 = .ok (.iastore, 1) := dk_79 (dk_at dksX5_readDamp_3 12 rfl rfl)
theorem dX5_readDamp_82 : decode bcX5_readDamp 82 = .ok (.iinc 1 1, 3) := dk_132 1 1 (dk_at dksX5_readDamp_3 13 rfl rfl)
theorem dX5_readDamp_85 : decode bcX5_readDamp 85 = .ok (.goto (-83), 3) := dk_167 255 173 (dk_at dksX5_readDamp_3 16 rfl rfl)
theorem dX5_readDamp_88 : decode bcX5_readDamp 88 = .ok (.aload_n 0, 1) := dk_42 (dk_at dksX5_readDamp_3 19 rfl rfl)
theorem dX5_readDamp_89 : decode bcX5_readDamp 89 = .ok (.getfield 83, 3) := dk_180 0 83 (dk_at dksX5_readDamp_3 20 rfl rfl)
theorem dX5_readDamp_92 : decode bcX5_readDamp 92 = .ok (.bipush 63, 2) := dk_16 63 (dk_at dksX5_readDamp_4 0 rfl rfl)
theorem dX5_readDamp_94 : decode bcX5_readDamp 94 = .ok (.iload_n 1, 1) := dk_27 (dk_at dksX5_readDamp_4 2 rfl rfl)
theorem dX5_readDamp_95 : decode bcX5_readDamp 95 = .ok (.iastore, 1) := dk_79 (dk_at dksX5_readDamp_4 3 rfl rfl)
theorem dX5_readDamp_96 : decode bcX5_readDamp 96 = .ok (.return_, 1) := dk_177 (dk_at dksX5_readDamp_4 4 rfl rfl)
abbrev SX5_readDamp (pc : Nat) (i : xI) : Prop := Snd "SwollenHouseModel" "readDamp" prog_25_method_31_code 3 (Option.none : Option Jvm.ClassFile.FieldType) [] pc i
theorem oX5_readDamp_0 : SX5_readDamp 0 (i_const (.int (nI 0)) 1) := snd_iconst dX5_readDamp_0 (by decide)
theorem oX5_readDamp_1 : SX5_readDamp 1 (i_istore 1 2) := snd_istore_n dX5_readDamp_1 rfl (by decide)
theorem oX5_readDamp_2 : SX5_readDamp 2 (i_aload 0 3) := snd_aload_n dX5_readDamp_2 rfl
theorem oX5_readDamp_3 : SX5_readDamp 3 (i_getf 4 8 6) := snd_getf dX5_readDamp_3 rfl (by decide) in_X5 (Or.inl q1706) (Or.inl rfl) (by decide)
theorem oX5_readDamp_6 : SX5_readDamp 6 (i_if1 (fun x => ¬ x = 0) 88 9) := snd_if_ne dX5_readDamp_6 (by decide)
theorem oX5_readDamp_9 : SX5_readDamp 9 (i_iload 1 10) := snd_iload_n dX5_readDamp_9 rfl
theorem oX5_readDamp_10 : SX5_readDamp 10 (i_if1 (fun x => x = 0) 26 13) := snd_if_eq dX5_readDamp_10 (by decide)
theorem oX5_readDamp_13 : SX5_readDamp 13 (i_aload 0 14) := snd_aload_n dX5_readDamp_13 rfl
theorem oX5_readDamp_14 : SX5_readDamp 14 (i_getf 4 4 17) := snd_getf dX5_readDamp_14 rfl (by decide) in_X5 (Or.inl q1702) (Or.inl rfl) (by decide)
theorem oX5_readDamp_17 : SX5_readDamp 17 (i_aload 0 18) := snd_aload_n dX5_readDamp_17 rfl
theorem oX5_readDamp_18 : SX5_readDamp 18 (i_getf 4 7 21) := snd_getf dX5_readDamp_18 rfl (by decide) in_X5 (Or.inl q1705) (Or.inl rfl) (by decide)
theorem oX5_readDamp_21 : SX5_readDamp 21 (i_ai 0 22) := snd_ai0 dX5_readDamp_21
theorem oX5_readDamp_22 : SX5_readDamp 22 (i_const (.int (nI 2)) 23) := snd_iconst dX5_readDamp_22 (by decide)
theorem oX5_readDamp_23 : SX5_readDamp 23 (i_if2 (fun x y => ¬ x = y) 88 26) := snd_icmp_ne dX5_readDamp_23 (by decide)
theorem oX5_readDamp_26 : SX5_readDamp 26 (i_aload 0 27) := snd_aload_n dX5_readDamp_26 rfl
theorem oX5_readDamp_27 : SX5_readDamp 27 (i_const (.int (nI 0)) 28) := snd_iconst dX5_readDamp_27 (by decide)
theorem oX5_readDamp_28 : SX5_readDamp 28 (i_const (.int (nI 9)) 30) := snd_bipush dX5_readDamp_28 (by decide)
theorem oX5_readDamp_30 : SX5_readDamp 30 (i_cv 4 273 2 33) := snd_cv rfl infX5_takeNumber (by decide) rfl (xVm_V dX5_readDamp_30 rfl q1874 q1876 qs77 q136 q1877 pdX5_takeNumber)
theorem oX5_readDamp_33 : SX5_readDamp 33 (i_istore 2 34) := snd_istore_n dX5_readDamp_33 rfl (by decide)
theorem oX5_readDamp_34 : SX5_readDamp 34 (i_aload 0 35) := snd_aload_n dX5_readDamp_34 rfl
theorem oX5_readDamp_35 : SX5_readDamp 35 (i_getf 4 8 38) := snd_getf dX5_readDamp_35 rfl (by decide) in_X5 (Or.inl q1706) (Or.inl rfl) (by decide)
theorem oX5_readDamp_38 : SX5_readDamp 38 (i_if1 (fun x => ¬ x = 0) 65 41) := snd_if_ne dX5_readDamp_38 (by decide)
theorem oX5_readDamp_41 : SX5_readDamp 41 (i_iload 1 42) := snd_iload_n dX5_readDamp_41 rfl
theorem oX5_readDamp_42 : SX5_readDamp 42 (i_const (.int (nI 12)) 44) := snd_bipush dX5_readDamp_42 (by decide)
theorem oX5_readDamp_44 : SX5_readDamp 44 (i_if2 (fun x y => ¬ x = y) 65 47) := snd_icmp_ne dX5_readDamp_44 (by decide)
theorem oX5_readDamp_47 : SX5_readDamp 47 (i_aload 0 48) := snd_aload_n dX5_readDamp_47 rfl
theorem oX5_readDamp_48 : SX5_readDamp 48 (i_dup 49) := snd_dup dX5_readDamp_48
theorem oX5_readDamp_49 : SX5_readDamp 49 (i_getf 4 7 52) := snd_getf dX5_readDamp_49 rfl (by decide) in_X5 (Or.inl q1705) (Or.inl rfl) (by decide)
theorem oX5_readDamp_52 : SX5_readDamp 52 (i_const (.int (nI 1)) 53) := snd_iconst dX5_readDamp_52 (by decide)
theorem oX5_readDamp_53 : SX5_readDamp 53 (i_ii (fun x y => x - y) 54) := snd_isub dX5_readDamp_53
theorem oX5_readDamp_54 : SX5_readDamp 54 (i_putfi 4 7 57) := snd_putfi dX5_readDamp_54 rfl (by decide) in_X5 tyX5 tyX5_ok nmX5 (Or.inl ⟨rfl, q1705⟩) (Or.inl rfl) rfl
theorem oX5_readDamp_57 : SX5_readDamp 57 (i_aload 0 58) := snd_aload_n dX5_readDamp_57 rfl
theorem oX5_readDamp_58 : SX5_readDamp 58 (i_const (.int (nI 5)) 59) := snd_iconst dX5_readDamp_58 (by decide)
theorem oX5_readDamp_59 : SX5_readDamp 59 (i_cvv 4 262 1 62) := snd_cvv rfl infX5_wrong (by decide) rfl (xVm_V dX5_readDamp_59 rfl q1831 q1833 qs67 q136 q1834 pdX5_wrong)
theorem oX5_readDamp_62 : SX5_readDamp 62 (i_goto 85) := snd_goto dX5_readDamp_62 (by decide)
theorem oX5_readDamp_65 : SX5_readDamp 65 (i_aload 0 66) := snd_aload_n dX5_readDamp_65 rfl
theorem oX5_readDamp_66 : SX5_readDamp 66 (i_getf 4 8 69) := snd_getf dX5_readDamp_66 rfl (by decide) in_X5 (Or.inl q1706) (Or.inl rfl) (by decide)
theorem oX5_readDamp_69 : SX5_readDamp 69 (i_if1 (fun x => ¬ x = 0) 85 72) := snd_if_ne dX5_readDamp_69 (by decide)
theorem oX5_readDamp_72 : SX5_readDamp 72 (i_aload 0 73) := snd_aload_n dX5_readDamp_72 rfl
theorem oX5_readDamp_73 : SX5_readDamp 73 (i_getf 4 10 76) := snd_getf dX5_readDamp_73 rfl (by decide) in_X5 (Or.inl q1708) (Or.inl rfl) (by decide)
theorem oX5_readDamp_76 : SX5_readDamp 76 (i_const (.int (nI 102)) 78) := snd_bipush dX5_readDamp_76 (by decide)
theorem oX5_readDamp_78 : SX5_readDamp 78 (i_iload 1 79) := snd_iload_n dX5_readDamp_78 rfl
theorem oX5_readDamp_79 : SX5_readDamp 79 (i_ii (fun x y => x + y) 80) := snd_iadd dX5_readDamp_79
theorem oX5_readDamp_80 : SX5_readDamp 80 (i_iload 2 81) := snd_iload_n dX5_readDamp_80 rfl
theorem oX5_readDamp_81 : SX5_readDamp 81 (i_si (fun v => v) 0 82) := snd_si0 dX5_readDamp_81
theorem oX5_readDamp_82 : SX5_readDamp 82 (i_iinc 1 (nI 1) 85) := snd_iinc dX5_readDamp_82 (by decide) (by decide)
theorem oX5_readDamp_85 : SX5_readDamp 85 (i_goto 2) := snd_goto dX5_readDamp_85 (by decide)
theorem oX5_readDamp_88 : SX5_readDamp 88 (i_aload 0 89) := snd_aload_n dX5_readDamp_88 rfl
theorem oX5_readDamp_89 : SX5_readDamp 89 (i_getf 4 10 92) := snd_getf dX5_readDamp_89 rfl (by decide) in_X5 (Or.inl q1708) (Or.inl rfl) (by decide)
theorem oX5_readDamp_92 : SX5_readDamp 92 (i_const (.int (nI 63)) 94) := snd_bipush dX5_readDamp_92 (by decide)
theorem oX5_readDamp_94 : SX5_readDamp 94 (i_iload 1 95) := snd_iload_n dX5_readDamp_94 rfl
theorem oX5_readDamp_95 : SX5_readDamp 95 (i_si (fun v => v) 0 96) := snd_si0 dX5_readDamp_95
theorem oX5_readDamp_96 : SX5_readDamp 96 (i_vret) := snd_vret dX5_readDamp_96 rfl
theorem okX5_readDamp : ∀ q ∈ cX5_readDamp, SX5_readDamp q.1 q.2 := List.forall_mem_cons.mpr ⟨oX5_readDamp_0, List.forall_mem_cons.mpr ⟨oX5_readDamp_1, List.forall_mem_cons.mpr ⟨oX5_readDamp_2, List.forall_mem_cons.mpr ⟨oX5_readDamp_3, List.forall_mem_cons.mpr ⟨oX5_readDamp_6, List.forall_mem_cons.mpr ⟨oX5_readDamp_9, List.forall_mem_cons.mpr ⟨oX5_readDamp_10, List.forall_mem_cons.mpr ⟨oX5_readDamp_13, List.forall_mem_cons.mpr ⟨oX5_readDamp_14, List.forall_mem_cons.mpr ⟨oX5_readDamp_17, List.forall_mem_cons.mpr ⟨oX5_readDamp_18, List.forall_mem_cons.mpr ⟨oX5_readDamp_21, List.forall_mem_cons.mpr ⟨oX5_readDamp_22, List.forall_mem_cons.mpr ⟨oX5_readDamp_23, List.forall_mem_cons.mpr ⟨oX5_readDamp_26, List.forall_mem_cons.mpr ⟨oX5_readDamp_27, List.forall_mem_cons.mpr ⟨oX5_readDamp_28, List.forall_mem_cons.mpr ⟨oX5_readDamp_30, List.forall_mem_cons.mpr ⟨oX5_readDamp_33, List.forall_mem_cons.mpr ⟨oX5_readDamp_34, List.forall_mem_cons.mpr ⟨oX5_readDamp_35, List.forall_mem_cons.mpr ⟨oX5_readDamp_38, List.forall_mem_cons.mpr ⟨oX5_readDamp_41, List.forall_mem_cons.mpr ⟨oX5_readDamp_42, List.forall_mem_cons.mpr ⟨oX5_readDamp_44, List.forall_mem_cons.mpr ⟨oX5_readDamp_47, List.forall_mem_cons.mpr ⟨oX5_readDamp_48, List.forall_mem_cons.mpr ⟨oX5_readDamp_49, List.forall_mem_cons.mpr ⟨oX5_readDamp_52, List.forall_mem_cons.mpr ⟨oX5_readDamp_53, List.forall_mem_cons.mpr ⟨oX5_readDamp_54, List.forall_mem_cons.mpr ⟨oX5_readDamp_57, List.forall_mem_cons.mpr ⟨oX5_readDamp_58, List.forall_mem_cons.mpr ⟨oX5_readDamp_59, List.forall_mem_cons.mpr ⟨oX5_readDamp_62, List.forall_mem_cons.mpr ⟨oX5_readDamp_65, List.forall_mem_cons.mpr ⟨oX5_readDamp_66, List.forall_mem_cons.mpr ⟨oX5_readDamp_69, List.forall_mem_cons.mpr ⟨oX5_readDamp_72, List.forall_mem_cons.mpr ⟨oX5_readDamp_73, List.forall_mem_cons.mpr ⟨oX5_readDamp_76, List.forall_mem_cons.mpr ⟨oX5_readDamp_78, List.forall_mem_cons.mpr ⟨oX5_readDamp_79, List.forall_mem_cons.mpr ⟨oX5_readDamp_80, List.forall_mem_cons.mpr ⟨oX5_readDamp_81, List.forall_mem_cons.mpr ⟨oX5_readDamp_82, List.forall_mem_cons.mpr ⟨oX5_readDamp_85, List.forall_mem_cons.mpr ⟨oX5_readDamp_88, List.forall_mem_cons.mpr ⟨oX5_readDamp_89, List.forall_mem_cons.mpr ⟨oX5_readDamp_92, List.forall_mem_cons.mpr ⟨oX5_readDamp_94, List.forall_mem_cons.mpr ⟨oX5_readDamp_95, List.forall_mem_cons.mpr ⟨oX5_readDamp_96, fun _ h => absurd h List.not_mem_nil⟩⟩⟩⟩⟩⟩⟩⟩⟩⟩⟩⟩⟩⟩⟩⟩⟩⟩⟩⟩⟩⟩⟩⟩⟩⟩⟩⟩⟩⟩⟩⟩⟩⟩⟩⟩⟩⟩⟩⟩⟩⟩⟩⟩⟩⟩⟩⟩⟩⟩⟩⟩⟩
def dkwX5_whole_2 : List UInt8 := [153, 0, 8, 16, 9, 167, 0, 5, 16, 10, 3, 182, 0, 250, 167, 255, 200, 177]
abbrev dktX5_whole_2 : List UInt8 := dkwX5_whole_2 ++ []
def dkwX5_whole_1 : List UInt8 := [16, 17, 182, 0, 174, 61, 42, 89, 180, 0, 162, 4, 96, 181, 0, 162, 42, 27, 182, 0, 254, 42, 28]
abbrev dktX5_whole_1 : List UInt8 := dkwX5_whole_1 ++ dktX5_whole_2
def dkwX5_whole_0 : List UInt8 := [42, 27, 182, 0, 254, 42, 16, 17, 182, 0, 174, 154, 0, 12, 42, 16, 18, 182, 0, 174, 153, 0, 44, 42]
abbrev dktX5_whole_0 : List UInt8 := dkwX5_whole_0 ++ dktX5_whole_1
theorem dksX5_whole_0 : bcX5_whole.data.toList.drop 0 = dktX5_whole_0 := by decide +kernel
theorem dksX5_whole_1 : bcX5_whole.data.toList.drop 24 = dktX5_whole_1 := dk_seg dksX5_whole_0 24 rfl rfl
theorem dksX5_whole_2 : bcX5_whole.data.toList.drop 47 = dktX5_whole_2 := dk_seg dksX5_whole_1 23 rfl rfl
theorem dX5_whole_0 : decode bcX5_whole 0 = .ok (.aload_n 0, 1) := dk_42 (dk_at dksX5_whole_0 0 rfl rfl)
theorem dX5_whole_1 : decode bcX5_whole 1 = .ok (.iload_n 1, 1) := dk_27 (dk_at dksX5_whole_0 1 rfl rfl)
theorem dX5_whole_2 : decode bcX5_whole 2 = .ok (.invokevirtual 254, 3) := dk_182 0 254 (dk_at dksX5_whole_0 2 rfl rfl)
theorem dX5_whole_5 : decode bcX5_whole 5 = .ok (.aload_n 0, 1) := dk_42 (dk_at dksX5_whole_0 5 rfl rfl)
theorem dX5_whole_6 : decode bcX5_whole 6 = .ok (.bipush 17, 2) := dk_16 17 (dk_at dksX5_whole_0 6 rfl rfl)
theorem dX5_whole_8 : decode bcX5_whole 8 = .ok (.invokevirtual 174, 3) := dk_182 0 174 (dk_at dksX5_whole_0 8 rfl rfl)
theorem dX5_whole_11 : decode bcX5_whole 11 = .ok (.ifCond .ne 12, 3) := dk_154 0 12 (dk_at dksX5_whole_0 11 rfl rfl)
theorem dX5_whole_14 : decode bcX5_whole 14 = .ok (.aload_n 0, 1) := dk_42 (dk_at dksX5_whole_0 14 rfl rfl)
theorem dX5_whole_15 : decode bcX5_whole 15 = .ok (.bipush 18, 2) := dk_16 18 (dk_at dksX5_whole_0 15 rfl rfl)
theorem dX5_whole_17 : decode bcX5_whole 17 = .ok (.invokevirtual 174, 3) := dk_182 0 174 (dk_at dksX5_whole_0 17 rfl rfl)
theorem dX5_whole_20 : decode bcX5_whole 20 = .ok (.ifCond .eq 44, 3) := dk_153 0 44 (dk_at dksX5_whole_0 20 rfl rfl)
theorem dX5_whole_23 : decode bcX5_whole 23 = .ok (.aload_n 0, 1) := dk_42 (dk_at dksX5_whole_0 23 rfl rfl)
theorem dX5_whole_24 : decode bcX5_whole 24 = .ok (.bipush 17, 2) := dk_16 17 (dk_at dksX5_whole_1 0 rfl rfl)
theorem dX5_whole_26 : decode bcX5_whole 26 = .ok (.invokevirtual 174, 3) := dk_182 0 174 (dk_at dksX5_whole_1 2 rfl rfl)
theorem dX5_whole_29 : decode bcX5_whole 29 = .ok (.istore_n 2, 1) := dk_61 (dk_at dksX5_whole_1 5 rfl rfl)
theorem dX5_whole_30 : decode bcX5_whole 30 = .ok (.aload_n 0, 1) := dk_42 (dk_at dksX5_whole_1 6 rfl rfl)
theorem dX5_whole_31 : decode bcX5_whole 31 = .ok (.dup, 1) := dk_89 (dk_at dksX5_whole_1 7 rfl rfl)
theorem dX5_whole_32 : decode bcX5_whole 32 = .ok (.getfield 162, 3) := dk_180 0 162 (dk_at dksX5_whole_1 8 rfl rfl)
theorem dX5_whole_35 : decode bcX5_whole 35 = .ok (.iconst 1, 1) := dk_4 (dk_at dksX5_whole_1 11 rfl rfl)
theorem dX5_whole_36 : decode bcX5_whole 36 = .ok (.iadd, 1) := dk_96 (dk_at dksX5_whole_1 12 rfl rfl)
theorem dX5_whole_37 : decode bcX5_whole 37 = .ok (.putfield 162, 3) := dk_181 0 162 (dk_at dksX5_whole_1 13 rfl rfl)
theorem dX5_whole_40 : decode bcX5_whole 40 = .ok (.aload_n 0, 1) := dk_42 (dk_at dksX5_whole_1 16 rfl rfl)
theorem dX5_whole_41 : decode bcX5_whole 41 = .ok (.iload_n 1, 1) := dk_27 (dk_at dksX5_whole_1 17 rfl rfl)
theorem dX5_whole_42 : decode bcX5_whole 42 = .ok (.invokevirtual 254, 3) := dk_182 0 254 (dk_at dksX5_whole_1 18 rfl rfl)
theorem dX5_whole_45 : decode bcX5_whole 45 = .ok (.aload_n 0, 1) := dk_42 (dk_at dksX5_whole_1 21 rfl rfl)
theorem dX5_whole_46 : decode bcX5_whole 46 = .ok (.iload_n 2, 1) := dk_28 (dk_at dksX5_whole_1 22 rfl rfl)
theorem dX5_whole_47 : decode bcX5_whole 47 = .ok (.ifCond .eq 8, 3) := dk_153 0 8 (dk_at dksX5_whole_2 0 rfl rfl)
theorem dX5_whole_50 : decode bcX5_whole 50 = .ok (.bipush 9, 2) := dk_16 9 (dk_at dksX5_whole_2 3 rfl rfl)
theorem dX5_whole_52 : decode bcX5_whole 52 = .ok (.goto 5, 3) := dk_167 0 5 (dk_at dksX5_whole_2 5 rfl rfl)
theorem dX5_whole_55 : decode bcX5_whole 55 = .ok (.bipush 10, 2) := dk_16 10 (dk_at dksX5_whole_2 8 rfl rfl)
theorem dX5_whole_57 : decode bcX5_whole 57 = .ok (.iconst 0, 1) := dk_3 (dk_at dksX5_whole_2 10 rfl rfl)
theorem dX5_whole_58 : decode bcX5_whole 58 = .ok (.invokevirtual 250, 3) := dk_182 0 250 (dk_at dksX5_whole_2 11 rfl rfl)
theorem dX5_whole_61 : decode bcX5_whole 61 = .ok (.goto (-56), 3) := dk_167 255 200 (dk_at dksX5_whole_2 14 rfl rfl)
theorem dX5_whole_64 : decode bcX5_whole 64 = .ok (.return_, 1) := dk_177 (dk_at dksX5_whole_2 17 rfl rfl)
abbrev SX5_whole (pc : Nat) (i : xI) : Prop := Snd "SwollenHouseModel" "whole" prog_25_method_34_code 3 (Option.none : Option Jvm.ClassFile.FieldType) [] pc i
theorem oX5_whole_0 : SX5_whole 0 (i_aload 0 1) := snd_aload_n dX5_whole_0 rfl
theorem oX5_whole_1 : SX5_whole 1 (i_iload 1 2) := snd_iload_n dX5_whole_1 rfl
theorem oX5_whole_2 : SX5_whole 2 (i_cvv 4 277 1 5) := snd_cvv rfl infX5_test (by decide) rfl (xVm_V dX5_whole_2 rfl q1890 q1892 qs81 q136 q1893 pdX5_test)
theorem oX5_whole_5 : SX5_whole 5 (i_aload 0 6) := snd_aload_n dX5_whole_5 rfl
theorem oX5_whole_6 : SX5_whole 6 (i_const (.int (nI 17)) 8) := snd_bipush dX5_whole_6 (by decide)
theorem oX5_whole_8 : SX5_whole 8 (i_cv 4 260 1 11) := snd_cv rfl infX5_isWord (by decide) rfl (xVm_V dX5_whole_8 rfl q1823 q1825 qs65 q136 q1826 pdX5_isWord)
theorem oX5_whole_11 : SX5_whole 11 (i_if1 (fun x => ¬ x = 0) 23 14) := snd_if_ne dX5_whole_11 (by decide)
theorem oX5_whole_14 : SX5_whole 14 (i_aload 0 15) := snd_aload_n dX5_whole_14 rfl
theorem oX5_whole_15 : SX5_whole 15 (i_const (.int (nI 18)) 17) := snd_bipush dX5_whole_15 (by decide)
theorem oX5_whole_17 : SX5_whole 17 (i_cv 4 260 1 20) := snd_cv rfl infX5_isWord (by decide) rfl (xVm_V dX5_whole_17 rfl q1823 q1825 qs65 q136 q1826 pdX5_isWord)
theorem oX5_whole_20 : SX5_whole 20 (i_if1 (fun x => x = 0) 64 23) := snd_if_eq dX5_whole_20 (by decide)
theorem oX5_whole_23 : SX5_whole 23 (i_aload 0 24) := snd_aload_n dX5_whole_23 rfl
theorem oX5_whole_24 : SX5_whole 24 (i_const (.int (nI 17)) 26) := snd_bipush dX5_whole_24 (by decide)
theorem oX5_whole_26 : SX5_whole 26 (i_cv 4 260 1 29) := snd_cv rfl infX5_isWord (by decide) rfl (xVm_V dX5_whole_26 rfl q1823 q1825 qs65 q136 q1826 pdX5_isWord)
theorem oX5_whole_29 : SX5_whole 29 (i_istore 2 30) := snd_istore_n dX5_whole_29 rfl (by decide)
theorem oX5_whole_30 : SX5_whole 30 (i_aload 0 31) := snd_aload_n dX5_whole_30 rfl
theorem oX5_whole_31 : SX5_whole 31 (i_dup 32) := snd_dup dX5_whole_31
theorem oX5_whole_32 : SX5_whole 32 (i_getf 4 7 35) := snd_getf dX5_whole_32 rfl (by decide) in_X5 (Or.inl q1705) (Or.inl rfl) (by decide)
theorem oX5_whole_35 : SX5_whole 35 (i_const (.int (nI 1)) 36) := snd_iconst dX5_whole_35 (by decide)
theorem oX5_whole_36 : SX5_whole 36 (i_ii (fun x y => x + y) 37) := snd_iadd dX5_whole_36
theorem oX5_whole_37 : SX5_whole 37 (i_putfi 4 7 40) := snd_putfi dX5_whole_37 rfl (by decide) in_X5 tyX5 tyX5_ok nmX5 (Or.inl ⟨rfl, q1705⟩) (Or.inl rfl) rfl
theorem oX5_whole_40 : SX5_whole 40 (i_aload 0 41) := snd_aload_n dX5_whole_40 rfl
theorem oX5_whole_41 : SX5_whole 41 (i_iload 1 42) := snd_iload_n dX5_whole_41 rfl
theorem oX5_whole_42 : SX5_whole 42 (i_cvv 4 277 1 45) := snd_cvv rfl infX5_test (by decide) rfl (xVm_V dX5_whole_42 rfl q1890 q1892 qs81 q136 q1893 pdX5_test)
theorem oX5_whole_45 : SX5_whole 45 (i_aload 0 46) := snd_aload_n dX5_whole_45 rfl
theorem oX5_whole_46 : SX5_whole 46 (i_iload 2 47) := snd_iload_n dX5_whole_46 rfl
theorem oX5_whole_47 : SX5_whole 47 (i_if1 (fun x => x = 0) 55 50) := snd_if_eq dX5_whole_47 (by decide)
theorem oX5_whole_50 : SX5_whole 50 (i_const (.int (nI 9)) 52) := snd_bipush dX5_whole_50 (by decide)
theorem oX5_whole_52 : SX5_whole 52 (i_goto 57) := snd_goto dX5_whole_52 (by decide)
theorem oX5_whole_55 : SX5_whole 55 (i_const (.int (nI 10)) 57) := snd_bipush dX5_whole_55 (by decide)
theorem oX5_whole_57 : SX5_whole 57 (i_const (.int (nI 0)) 58) := snd_iconst dX5_whole_57 (by decide)
theorem oX5_whole_58 : SX5_whole 58 (i_cvv 4 282 2 61) := snd_cvv rfl infX5_emit (by decide) rfl (xVm_V dX5_whole_58 rfl q1910 q1912 qs86 q136 q1913 pdX5_emit)
theorem oX5_whole_61 : SX5_whole 61 (i_goto 5) := snd_goto dX5_whole_61 (by decide)
theorem oX5_whole_64 : SX5_whole 64 (i_vret) := snd_vret dX5_whole_64 rfl
theorem okX5_whole : ∀ q ∈ cX5_whole, SX5_whole q.1 q.2 := List.forall_mem_cons.mpr ⟨oX5_whole_0, List.forall_mem_cons.mpr ⟨oX5_whole_1, List.forall_mem_cons.mpr ⟨oX5_whole_2, List.forall_mem_cons.mpr ⟨oX5_whole_5, List.forall_mem_cons.mpr ⟨oX5_whole_6, List.forall_mem_cons.mpr ⟨oX5_whole_8, List.forall_mem_cons.mpr ⟨oX5_whole_11, List.forall_mem_cons.mpr ⟨oX5_whole_14, List.forall_mem_cons.mpr ⟨oX5_whole_15, List.forall_mem_cons.mpr ⟨oX5_whole_17, List.forall_mem_cons.mpr ⟨oX5_whole_20, List.forall_mem_cons.mpr ⟨oX5_whole_23, List.forall_mem_cons.mpr ⟨oX5_whole_24, List.forall_mem_cons.mpr ⟨oX5_whole_26, List.forall_mem_cons.mpr ⟨oX5_whole_29, List.forall_mem_cons.mpr ⟨oX5_whole_30, List.forall_mem_cons.mpr ⟨oX5_whole_31, List.forall_mem_cons.mpr ⟨oX5_whole_32, List.forall_mem_cons.mpr ⟨oX5_whole_35, List.forall_mem_cons.mpr ⟨oX5_whole_36, List.forall_mem_cons.mpr ⟨oX5_whole_37, List.forall_mem_cons.mpr ⟨oX5_whole_40, List.forall_mem_cons.mpr ⟨oX5_whole_41, List.forall_mem_cons.mpr ⟨oX5_whole_42, List.forall_mem_cons.mpr ⟨oX5_whole_45, List.forall_mem_cons.mpr ⟨oX5_whole_46, List.forall_mem_cons.mpr ⟨oX5_whole_47, List.forall_mem_cons.mpr ⟨oX5_whole_50, List.forall_mem_cons.mpr ⟨oX5_whole_52, List.forall_mem_cons.mpr ⟨oX5_whole_55, List.forall_mem_cons.mpr ⟨oX5_whole_57, List.forall_mem_cons.mpr ⟨oX5_whole_58, List.forall_mem_cons.mpr ⟨oX5_whole_61, List.forall_mem_cons.mpr ⟨oX5_whole_64, fun _ h => absurd h List.not_mem_nil⟩⟩⟩⟩⟩⟩⟩⟩⟩⟩⟩⟩⟩⟩⟩⟩⟩⟩⟩⟩⟩⟩⟩⟩⟩⟩⟩⟩⟩⟩⟩⟩⟩⟩
def dkwX5_test_2 : List UInt8 := [182, 0, 250, 177]
abbrev dktX5_test_2 : List UInt8 := dkwX5_test_2 ++ []
def dkwX5_test_1 : List UInt8 := [182, 1, 4, 153, 0, 24, 42, 27, 182, 1, 1, 42, 28, 153, 0, 8, 16, 7, 167, 0, 5, 16, 8, 3]
abbrev dktX5_test_1 : List UInt8 := dkwX5_test_1 ++ dktX5_test_2
def dkwX5_test_0 : List UInt8 := [42, 27, 182, 1, 1, 42, 16, 60, 182, 0, 168, 61, 42, 16, 60, 182, 1, 4, 154, 0, 12, 42, 16, 61]
abbrev dktX5_test_0 : List UInt8 := dkwX5_test_0 ++ dktX5_test_1
theorem dksX5_test_0 : bcX5_test.data.toList.drop 0 = dktX5_test_0 := by decide +kernel
theorem dksX5_test_1 : bcX5_test.data.toList.drop 24 = dktX5_test_1 := dk_seg dksX5_test_0 24 rfl rfl
theorem dksX5_test_2 : bcX5_test.data.toList.drop 48 = dktX5_test_2 := dk_seg dksX5_test_1 24 rfl rfl
theorem dX5_test_0 : decode bcX5_test 0 = .ok (.aload_n 0, 1) := dk_42 (dk_at dksX5_test_0 0 rfl rfl)
theorem dX5_test_1 : decode bcX5_test 1 = .ok (.iload_n 1, 1) := dk_27 (dk_at dksX5_test_0 1 rfl rfl)
theorem dX5_test_2 : decode bcX5_test 2 = .ok (.invokevirtual 257, 3) := dk_182 1 1 (dk_at dksX5_test_0 2 rfl rfl)
theorem dX5_test_5 : decode bcX5_test 5 = .ok (.aload_n 0, 1) := dk_42 (dk_at dksX5_test_0 5 rfl rfl)
theorem dX5_test_6 : decode bcX5_test 6 = .ok (.bipush 60, 2) := dk_16 60 (dk_at dksX5_test_0 6 rfl rfl)
theorem dX5_test_8 : decode bcX5_test 8 = .ok (.invokevirtual 168, 3) := dk_182 0 168 (dk_at dksX5_test_0 8 rfl rfl)
theorem dX5_test_11 : decode bcX5_test 11 = .ok (.istore_n 2, 1) := dk_61 (dk_at dksX5_test_0 11 rfl rfl)
theorem dX5_test_12 : decode bcX5_test 12 = .ok (.aload_n 0, 1) := dk_42 (dk_at dksX5_test_0 12 rfl rfl)
theorem dX5_test_13 : decode bcX5_test 13 = .ok (.bipush 60, 2) := dk_16 60 (dk_at dksX5_test_0 13 rfl rfl)
theorem dX5_test_15 : decode bcX5_test 15 = .ok (.invokevirtual 260, 3) := dk_182 1 4 (dk_at dksX5_test_0 15 rfl rfl)
theorem dX5_test_18 : decode bcX5_test 18 = .ok (.ifCond .ne 12, 3) := dk_154 0 12 (dk_at dksX5_test_0 18 rfl rfl)
theorem dX5_test_21 : decode bcX5_test 21 = .ok (.aload_n 0, 1) := dk_42 (dk_at dksX5_test_0 21 rfl rfl)
theorem dX5_test_22 : decode bcX5_test 22 = .ok (.bipush 61, 2) := dk_16 61 (dk_at dksX5_test_0 22 rfl rfl)
theorem dX5_test_24 : decode bcX5_test 24 = .ok (.invokevirtual 260, 3) := dk_182 1 4 (dk_at dksX5_test_1 0 rfl rfl)
theorem dX5_test_27 : decode bcX5_test 27 = .ok (.ifCond .eq 24, 3) := dk_153 0 24 (dk_at dksX5_test_1 3 rfl rfl)
theorem dX5_test_30 : decode bcX5_test 30 = .ok (.aload_n 0, 1) := dk_42 (dk_at dksX5_test_1 6 rfl rfl)
theorem dX5_test_31 : decode bcX5_test 31 = .ok (.iload_n 1, 1) := dk_27 (dk_at dksX5_test_1 7 rfl rfl)
theorem dX5_test_32 : decode bcX5_test 32 = .ok (.invokevirtual 257, 3) := dk_182 1 1 (dk_at dksX5_test_1 8 rfl rfl)
theorem dX5_test_35 : decode bcX5_test 35 = .ok (.aload_n 0, 1) := dk_42 (dk_at dksX5_test_1 11 rfl rfl)
theorem dX5_test_36 : decode bcX5_test 36 = .ok (.iload_n 2, 1) := dk_28 (dk_at dksX5_test_1 12 rfl rfl)
theorem dX5_test_37 : decode bcX5_test 37 = .ok (.ifCond .eq 8, 3) := dk_153 0 8 (dk_at dksX5_test_1 13 rfl rfl)
theorem dX5_test_40 : decode bcX5_test 40 = .ok (.bipush 7, 2) := dk_16 7 (dk_at dksX5_test_1 16 rfl rfl)
theorem dX5_test_42 : decode bcX5_test 42 = .ok (.goto 5, 3) := dk_167 0 5 (dk_at dksX5_test_1 18 rfl rfl)
theorem dX5_test_45 : decode bcX5_test 45 = .ok (.bipush 8, 2) := dk_16 8 (dk_at dksX5_test_1 21 rfl rfl)
theorem dX5_test_47 : decode bcX5_test 47 = .ok (.iconst 0, 1) := dk_3 (dk_at dksX5_test_1 23 rfl rfl)
theorem dX5_test_48 : decode bcX5_test 48 = .ok (.invokevirtual 250, 3) := dk_182 0 250 (dk_at dksX5_test_2 0 rfl rfl)
theorem dX5_test_51 : decode bcX5_test 51 = .ok (.return_, 1) := dk_177 (dk_at dksX5_test_2 3 rfl rfl)
abbrev SX5_test (pc : Nat) (i : xI) : Prop := Snd "SwollenHouseModel" "test" prog_25_method_35_code 3 (Option.none : Option Jvm.ClassFile.FieldType) [] pc i
theorem oX5_test_0 : SX5_test 0 (i_aload 0 1) := snd_aload_n dX5_test_0 rfl
theorem oX5_test_1 : SX5_test 1 (i_iload 1 2) := snd_iload_n dX5_test_1 rfl
theorem oX5_test_2 : SX5_test 2 (i_cvv 4 278 1 5) := snd_cvv rfl infX5_sums (by decide) rfl (xVm_V dX5_test_2 rfl q1894 q1896 qs82 q136 q1897 pdX5_sums)
theorem oX5_test_5 : SX5_test 5 (i_aload 0 6) := snd_aload_n dX5_test_5 rfl
theorem oX5_test_6 : SX5_test 6 (i_const (.int (nI 60)) 8) := snd_bipush dX5_test_6 (by decide)
theorem oX5_test_8 : SX5_test 8 (i_cv 4 281 1 11) := snd_cv rfl infX5_isSign (by decide) rfl (xVm_V dX5_test_8 rfl q1906 q1908 qs85 q136 q1909 pdX5_isSign)
theorem oX5_test_11 : SX5_test 11 (i_istore 2 12) := snd_istore_n dX5_test_11 rfl (by decide)
theorem oX5_test_12 : SX5_test 12 (i_aload 0 13) := snd_aload_n dX5_test_12 rfl
theorem oX5_test_13 : SX5_test 13 (i_const (.int (nI 60)) 15) := snd_bipush dX5_test_13 (by decide)
theorem oX5_test_15 : SX5_test 15 (i_cv 4 283 1 18) := snd_cv rfl infX5_hasSign (by decide) rfl (xVm_V dX5_test_15 rfl q1914 q1916 qs87 q136 q1917 pdX5_hasSign)
theorem oX5_test_18 : SX5_test 18 (i_if1 (fun x => ¬ x = 0) 30 21) := snd_if_ne dX5_test_18 (by decide)
theorem oX5_test_21 : SX5_test 21 (i_aload 0 22) := snd_aload_n dX5_test_21 rfl
theorem oX5_test_22 : SX5_test 22 (i_const (.int (nI 61)) 24) := snd_bipush dX5_test_22 (by decide)
theorem oX5_test_24 : SX5_test 24 (i_cv 4 283 1 27) := snd_cv rfl infX5_hasSign (by decide) rfl (xVm_V dX5_test_24 rfl q1914 q1916 qs87 q136 q1917 pdX5_hasSign)
theorem oX5_test_27 : SX5_test 27 (i_if1 (fun x => x = 0) 51 30) := snd_if_eq dX5_test_27 (by decide)
theorem oX5_test_30 : SX5_test 30 (i_aload 0 31) := snd_aload_n dX5_test_30 rfl
theorem oX5_test_31 : SX5_test 31 (i_iload 1 32) := snd_iload_n dX5_test_31 rfl
theorem oX5_test_32 : SX5_test 32 (i_cvv 4 278 1 35) := snd_cvv rfl infX5_sums (by decide) rfl (xVm_V dX5_test_32 rfl q1894 q1896 qs82 q136 q1897 pdX5_sums)
theorem oX5_test_35 : SX5_test 35 (i_aload 0 36) := snd_aload_n dX5_test_35 rfl
theorem oX5_test_36 : SX5_test 36 (i_iload 2 37) := snd_iload_n dX5_test_36 rfl
theorem oX5_test_37 : SX5_test 37 (i_if1 (fun x => x = 0) 45 40) := snd_if_eq dX5_test_37 (by decide)
theorem oX5_test_40 : SX5_test 40 (i_const (.int (nI 7)) 42) := snd_bipush dX5_test_40 (by decide)
theorem oX5_test_42 : SX5_test 42 (i_goto 47) := snd_goto dX5_test_42 (by decide)
theorem oX5_test_45 : SX5_test 45 (i_const (.int (nI 8)) 47) := snd_bipush dX5_test_45 (by decide)
theorem oX5_test_47 : SX5_test 47 (i_const (.int (nI 0)) 48) := snd_iconst dX5_test_47 (by decide)
theorem oX5_test_48 : SX5_test 48 (i_cvv 4 282 2 51) := snd_cvv rfl infX5_emit (by decide) rfl (xVm_V dX5_test_48 rfl q1910 q1912 qs86 q136 q1913 pdX5_emit)
theorem oX5_test_51 : SX5_test 51 (i_vret) := snd_vret dX5_test_51 rfl
theorem okX5_test : ∀ q ∈ cX5_test, SX5_test q.1 q.2 := List.forall_mem_cons.mpr ⟨oX5_test_0, List.forall_mem_cons.mpr ⟨oX5_test_1, List.forall_mem_cons.mpr ⟨oX5_test_2, List.forall_mem_cons.mpr ⟨oX5_test_5, List.forall_mem_cons.mpr ⟨oX5_test_6, List.forall_mem_cons.mpr ⟨oX5_test_8, List.forall_mem_cons.mpr ⟨oX5_test_11, List.forall_mem_cons.mpr ⟨oX5_test_12, List.forall_mem_cons.mpr ⟨oX5_test_13, List.forall_mem_cons.mpr ⟨oX5_test_15, List.forall_mem_cons.mpr ⟨oX5_test_18, List.forall_mem_cons.mpr ⟨oX5_test_21, List.forall_mem_cons.mpr ⟨oX5_test_22, List.forall_mem_cons.mpr ⟨oX5_test_24, List.forall_mem_cons.mpr ⟨oX5_test_27, List.forall_mem_cons.mpr ⟨oX5_test_30, List.forall_mem_cons.mpr ⟨oX5_test_31, List.forall_mem_cons.mpr ⟨oX5_test_32, List.forall_mem_cons.mpr ⟨oX5_test_35, List.forall_mem_cons.mpr ⟨oX5_test_36, List.forall_mem_cons.mpr ⟨oX5_test_37, List.forall_mem_cons.mpr ⟨oX5_test_40, List.forall_mem_cons.mpr ⟨oX5_test_42, List.forall_mem_cons.mpr ⟨oX5_test_45, List.forall_mem_cons.mpr ⟨oX5_test_47, List.forall_mem_cons.mpr ⟨oX5_test_48, List.forall_mem_cons.mpr ⟨oX5_test_51, fun _ h => absurd h List.not_mem_nil⟩⟩⟩⟩⟩⟩⟩⟩⟩⟩⟩⟩⟩⟩⟩⟩⟩⟩⟩⟩⟩⟩⟩⟩⟩⟩⟩
def dkwX5_sums_2 : List UInt8 := [153, 0, 7, 7, 167, 0, 4, 8, 3, 182, 0, 250, 167, 255, 202, 177]
abbrev dktX5_sums_2 : List UInt8 := dkwX5_sums_2 ++ []
def dkwX5_sums_1 : List UInt8 := [16, 43, 182, 0, 168, 61, 42, 89, 180, 0, 162, 4, 96, 181, 0, 162, 42, 27, 182, 1, 7, 42, 28]
abbrev dktX5_sums_1 : List UInt8 := dkwX5_sums_1 ++ dktX5_sums_2
def dkwX5_sums_0 : List UInt8 := [42, 27, 182, 1, 7, 42, 16, 43, 182, 0, 168, 154, 0, 12, 42, 16, 45, 182, 0, 168, 153, 0, 42, 42]
abbrev dktX5_sums_0 : List UInt8 := dkwX5_sums_0 ++ dktX5_sums_1
theorem dksX5_sums_0 : bcX5_sums.data.toList.drop 0 = dktX5_sums_0 := by decide +kernel
theorem dksX5_sums_1 : bcX5_sums.data.toList.drop 24 = dktX5_sums_1 := dk_seg dksX5_sums_0 24 rfl rfl
theorem dksX5_sums_2 : bcX5_sums.data.toList.drop 47 = dktX5_sums_2 := dk_seg dksX5_sums_1 23 rfl rfl
theorem dX5_sums_0 : decode bcX5_sums 0 = .ok (.aload_n 0, 1) := dk_42 (dk_at dksX5_sums_0 0 rfl rfl)
theorem dX5_sums_1 : decode bcX5_sums 1 = .ok (.iload_n 1, 1) := dk_27 (dk_at dksX5_sums_0 1 rfl rfl)
theorem dX5_sums_2 : decode bcX5_sums 2 = .ok (.invokevirtual 263, 3) := dk_182 1 7 (dk_at dksX5_sums_0 2 rfl rfl)
theorem dX5_sums_5 : decode bcX5_sums 5 = .ok (.aload_n 0, 1) := dk_42 (dk_at dksX5_sums_0 5 rfl rfl)
theorem dX5_sums_6 : decode bcX5_sums 6 = .ok (.bipush 43, 2) := dk_16 43 (dk_at dksX5_sums_0 6 rfl rfl)
theorem dX5_sums_8 : decode bcX5_sums 8 = .ok (.invokevirtual 168, 3) := dk_182 0 168 (dk_at dksX5_sums_0 8 rfl rfl)
theorem dX5_sums_11 : decode bcX5_sums 11 = .ok (.ifCond .ne 12, 3) := dk_154 0 12 (dk_at dksX5_sums_0 11 rfl rfl)
theorem dX5_sums_14 : decode bcX5_sums 14 = .ok (.aload_n 0, 1) := dk_42 (dk_at dksX5_sums_0 14 rfl rfl)
theorem dX5_sums_15 : decode bcX5_sums 15 = .ok (.bipush 45, 2) := dk_16 45 (dk_at dksX5_sums_0 15 rfl rfl)
theorem dX5_sums_17 : decode bcX5_sums 17 = .ok (.invokevirtual 168, 3) := dk_182 0 168 (dk_at dksX5_sums_0 17 rfl rfl)
theorem dX5_sums_20 : decode bcX5_sums 20 = .ok (.ifCond .eq 42, 3) := dk_153 0 42 (dk_at dksX5_sums_0 20 rfl rfl)
theorem dX5_sums_23 : decode bcX5_sums 23 = .ok (.aload_n 0, 1) := dk_42 (dk_at dksX5_sums_0 23 rfl rfl)
theorem dX5_sums_24 : decode bcX5_sums 24 = .ok (.bipush 43, 2) := dk_16 43 (dk_at dksX5_sums_1 0 rfl rfl)
theorem dX5_sums_26 : decode bcX5_sums 26 = .ok (.invokevirtual 168, 3) := dk_182 0 168 (dk_at dksX5_sums_1 2 rfl rfl)
theorem dX5_sums_29 : decode bcX5_sums 29 = .ok (.istore_n 2, 1) := dk_61 (dk_at dksX5_sums_1 5 rfl rfl)
theorem dX5_sums_30 : decode bcX5_sums 30 = .ok (.aload_n 0, 1) := dk_42 (dk_at dksX5_sums_1 6 rfl rfl)
theorem dX5_sums_31 : decode bcX5_sums 31 = .ok (.dup, 1) := dk_89 (dk_at dksX5_sums_1 7 rfl rfl)
theorem dX5_sums_32 : decode bcX5_sums 32 = .ok (.getfield 162, 3) := dk_180 0 162 (dk_at dksX5_sums_1 8 rfl rfl)
theorem dX5_sums_35 : decode bcX5_sums 35 = .ok (.iconst 1, 1) := dk_4 (dk_at dksX5_sums_1 11 rfl rfl)
theorem dX5_sums_36 : decode bcX5_sums 36 = .ok (.iadd, 1) := dk_96 (dk_at dksX5_sums_1 12 rfl rfl)
theorem dX5_sums_37 : decode bcX5_sums 37 = .ok (.putfield 162, 3) := dk_181 0 162 (dk_at dksX5_sums_1 13 rfl rfl)
theorem dX5_sums_40 : decode bcX5_sums 40 = .ok (.aload_n 0, 1) := dk_42 (dk_at dksX5_sums_1 16 rfl rfl)
theorem dX5_sums_41 : decode bcX5_sums 41 = .ok (.iload_n 1, 1) := dk_27 (dk_at dksX5_sums_1 17 rfl rfl)
theorem dX5_sums_42 : decode bcX5_sums 42 = .ok (.invokevirtual 263, 3) := dk_182 1 7 (dk_at dksX5_sums_1 18 rfl rfl)
theorem dX5_sums_45 : decode bcX5_sums 45 = .ok (.aload_n 0, 1) := dk_42 (dk_at dksX5_sums_1 21 rfl rfl)
theorem dX5_sums_46 : decode bcX5_sums 46 = .ok (.iload_n 2, 1) := dk_28 (dk_at dksX5_sums_1 22 rfl rfl)
theorem dX5_sums_47 : decode bcX5_sums 47 = .ok (.ifCond .eq 7, 3) := dk_153 0 7 (dk_at dksX5_sums_2 0 rfl rfl)
theorem dX5_sums_50 : decode bcX5_sums 50 = .ok (.iconst 4, 1) := dk_7 (dk_at dksX5_sums_2 3 rfl rfl)
theorem dX5_sums_51 : decode bcX5_sums 51 = .ok (.goto 4, 3) := dk_167 0 4 (dk_at dksX5_sums_2 4 rfl rfl)
theorem dX5_sums_54 : decode bcX5_sums 54 = .ok (.iconst 5, 1) := dk_8 (dk_at dksX5_sums_2 7 rfl rfl)
theorem dX5_sums_55 : decode bcX5_sums 55 = .ok (.iconst 0, 1) := dk_3 (dk_at dksX5_sums_2 8 rfl rfl)
theorem dX5_sums_56 : decode bcX5_sums 56 = .ok (.invokevirtual 250, 3) := dk_182 0 250 (dk_at dksX5_sums_2 9 rfl rfl)
theorem dX5_sums_59 : decode bcX5_sums 59 = .ok (.goto (-54), 3) := dk_167 255 202 (dk_at dksX5_sums_2 12 rfl rfl)
theorem dX5_sums_62 : decode bcX5_sums 62 = .ok (.return_, 1) := dk_177 (dk_at dksX5_sums_2 15 rfl rfl)
abbrev SX5_sums (pc : Nat) (i : xI) : Prop := Snd "SwollenHouseModel" "sums" prog_25_method_36_code 3 (Option.none : Option Jvm.ClassFile.FieldType) [] pc i
theorem oX5_sums_0 : SX5_sums 0 (i_aload 0 1) := snd_aload_n dX5_sums_0 rfl
theorem oX5_sums_1 : SX5_sums 1 (i_iload 1 2) := snd_iload_n dX5_sums_1 rfl
theorem oX5_sums_2 : SX5_sums 2 (i_cvv 4 279 1 5) := snd_cvv rfl infX5_products (by decide) rfl (xVm_V dX5_sums_2 rfl q1898 q1900 qs83 q136 q1901 pdX5_products)
theorem oX5_sums_5 : SX5_sums 5 (i_aload 0 6) := snd_aload_n dX5_sums_5 rfl
theorem oX5_sums_6 : SX5_sums 6 (i_const (.int (nI 43)) 8) := snd_bipush dX5_sums_6 (by decide)
theorem oX5_sums_8 : SX5_sums 8 (i_cv 4 281 1 11) := snd_cv rfl infX5_isSign (by decide) rfl (xVm_V dX5_sums_8 rfl q1906 q1908 qs85 q136 q1909 pdX5_isSign)
theorem oX5_sums_11 : SX5_sums 11 (i_if1 (fun x => ¬ x = 0) 23 14) := snd_if_ne dX5_sums_11 (by decide)
theorem oX5_sums_14 : SX5_sums 14 (i_aload 0 15) := snd_aload_n dX5_sums_14 rfl
theorem oX5_sums_15 : SX5_sums 15 (i_const (.int (nI 45)) 17) := snd_bipush dX5_sums_15 (by decide)
theorem oX5_sums_17 : SX5_sums 17 (i_cv 4 281 1 20) := snd_cv rfl infX5_isSign (by decide) rfl (xVm_V dX5_sums_17 rfl q1906 q1908 qs85 q136 q1909 pdX5_isSign)
theorem oX5_sums_20 : SX5_sums 20 (i_if1 (fun x => x = 0) 62 23) := snd_if_eq dX5_sums_20 (by decide)
theorem oX5_sums_23 : SX5_sums 23 (i_aload 0 24) := snd_aload_n dX5_sums_23 rfl
theorem oX5_sums_24 : SX5_sums 24 (i_const (.int (nI 43)) 26) := snd_bipush dX5_sums_24 (by decide)
theorem oX5_sums_26 : SX5_sums 26 (i_cv 4 281 1 29) := snd_cv rfl infX5_isSign (by decide) rfl (xVm_V dX5_sums_26 rfl q1906 q1908 qs85 q136 q1909 pdX5_isSign)
theorem oX5_sums_29 : SX5_sums 29 (i_istore 2 30) := snd_istore_n dX5_sums_29 rfl (by decide)
theorem oX5_sums_30 : SX5_sums 30 (i_aload 0 31) := snd_aload_n dX5_sums_30 rfl
theorem oX5_sums_31 : SX5_sums 31 (i_dup 32) := snd_dup dX5_sums_31
theorem oX5_sums_32 : SX5_sums 32 (i_getf 4 7 35) := snd_getf dX5_sums_32 rfl (by decide) in_X5 (Or.inl q1705) (Or.inl rfl) (by decide)
theorem oX5_sums_35 : SX5_sums 35 (i_const (.int (nI 1)) 36) := snd_iconst dX5_sums_35 (by decide)
theorem oX5_sums_36 : SX5_sums 36 (i_ii (fun x y => x + y) 37) := snd_iadd dX5_sums_36
theorem oX5_sums_37 : SX5_sums 37 (i_putfi 4 7 40) := snd_putfi dX5_sums_37 rfl (by decide) in_X5 tyX5 tyX5_ok nmX5 (Or.inl ⟨rfl, q1705⟩) (Or.inl rfl) rfl
theorem oX5_sums_40 : SX5_sums 40 (i_aload 0 41) := snd_aload_n dX5_sums_40 rfl
theorem oX5_sums_41 : SX5_sums 41 (i_iload 1 42) := snd_iload_n dX5_sums_41 rfl
theorem oX5_sums_42 : SX5_sums 42 (i_cvv 4 279 1 45) := snd_cvv rfl infX5_products (by decide) rfl (xVm_V dX5_sums_42 rfl q1898 q1900 qs83 q136 q1901 pdX5_products)
theorem oX5_sums_45 : SX5_sums 45 (i_aload 0 46) := snd_aload_n dX5_sums_45 rfl
theorem oX5_sums_46 : SX5_sums 46 (i_iload 2 47) := snd_iload_n dX5_sums_46 rfl
theorem oX5_sums_47 : SX5_sums 47 (i_if1 (fun x => x = 0) 54 50) := snd_if_eq dX5_sums_47 (by decide)
theorem oX5_sums_50 : SX5_sums 50 (i_const (.int (nI 4)) 51) := snd_iconst dX5_sums_50 (by decide)
theorem oX5_sums_51 : SX5_sums 51 (i_goto 55) := snd_goto dX5_sums_51 (by decide)
theorem oX5_sums_54 : SX5_sums 54 (i_const (.int (nI 5)) 55) := snd_iconst dX5_sums_54 (by decide)
theorem oX5_sums_55 : SX5_sums 55 (i_const (.int (nI 0)) 56) := snd_iconst dX5_sums_55 (by decide)
theorem oX5_sums_56 : SX5_sums 56 (i_cvv 4 282 2 59) := snd_cvv rfl infX5_emit (by decide) rfl (xVm_V dX5_sums_56 rfl q1910 q1912 qs86 q136 q1913 pdX5_emit)
theorem oX5_sums_59 : SX5_sums 59 (i_goto 5) := snd_goto dX5_sums_59 (by decide)
theorem oX5_sums_62 : SX5_sums 62 (i_vret) := snd_vret dX5_sums_62 rfl
theorem okX5_sums : ∀ q ∈ cX5_sums, SX5_sums q.1 q.2 := List.forall_mem_cons.mpr ⟨oX5_sums_0, List.forall_mem_cons.mpr ⟨oX5_sums_1, List.forall_mem_cons.mpr ⟨oX5_sums_2, List.forall_mem_cons.mpr ⟨oX5_sums_5, List.forall_mem_cons.mpr ⟨oX5_sums_6, List.forall_mem_cons.mpr ⟨oX5_sums_8, List.forall_mem_cons.mpr ⟨oX5_sums_11, List.forall_mem_cons.mpr ⟨oX5_sums_14, List.forall_mem_cons.mpr ⟨oX5_sums_15, List.forall_mem_cons.mpr ⟨oX5_sums_17, List.forall_mem_cons.mpr ⟨oX5_sums_20, List.forall_mem_cons.mpr ⟨oX5_sums_23, List.forall_mem_cons.mpr ⟨oX5_sums_24, List.forall_mem_cons.mpr ⟨oX5_sums_26, List.forall_mem_cons.mpr ⟨oX5_sums_29, List.forall_mem_cons.mpr ⟨oX5_sums_30, List.forall_mem_cons.mpr ⟨oX5_sums_31, List.forall_mem_cons.mpr ⟨oX5_sums_32, List.forall_mem_cons.mpr ⟨oX5_sums_35, List.forall_mem_cons.mpr ⟨oX5_sums_36, List.forall_mem_cons.mpr ⟨oX5_sums_37, List.forall_mem_cons.mpr ⟨oX5_sums_40, List.forall_mem_cons.mpr ⟨oX5_sums_41, List.forall_mem_cons.mpr ⟨oX5_sums_42, List.forall_mem_cons.mpr ⟨oX5_sums_45, List.forall_mem_cons.mpr ⟨oX5_sums_46, List.forall_mem_cons.mpr ⟨oX5_sums_47, List.forall_mem_cons.mpr ⟨oX5_sums_50, List.forall_mem_cons.mpr ⟨oX5_sums_51, List.forall_mem_cons.mpr ⟨oX5_sums_54, List.forall_mem_cons.mpr ⟨oX5_sums_55, List.forall_mem_cons.mpr ⟨oX5_sums_56, List.forall_mem_cons.mpr ⟨oX5_sums_59, List.forall_mem_cons.mpr ⟨oX5_sums_62, fun _ h => absurd h List.not_mem_nil⟩⟩⟩⟩⟩⟩⟩⟩⟩⟩⟩⟩⟩⟩⟩⟩⟩⟩⟩⟩⟩⟩⟩⟩⟩⟩⟩⟩⟩⟩⟩⟩⟩⟩
def dkwX5_products_1 : List UInt8 := [182, 0, 250, 167, 255, 235, 177]
abbrev dktX5_products_1 : List UInt8 := dkwX5_products_1 ++ []
def dkwX5_products_0 : List UInt8 := [42, 27, 182, 1, 10, 42, 16, 42, 182, 1, 4, 153, 0, 18, 42, 27, 182, 1, 10, 42, 16, 6, 3]
abbrev dktX5_products_0 : List UInt8 := dkwX5_products_0 ++ dktX5_products_1
theorem dksX5_products_0 : bcX5_products.data.toList.drop 0 = dktX5_products_0 := by decide +kernel
theorem dksX5_products_1 : bcX5_products.data.toList.drop 23 = dktX5_products_1 := dk_seg dksX5_products_0 23 rfl rfl
theorem dX5_products_0 : decode bcX5_products 0 = .ok (.aload_n 0, 1) := dk_42 (dk_at dksX5_products_0 0 rfl rfl)
theorem dX5_products_1 : decode bcX5_products 1 = .ok (.iload_n 1, 1) := dk_27 (dk_at dksX5_products_0 1 rfl rfl)
theorem dX5_products_2 : decode bcX5_products 2 = .ok (.invokevirtual 266, 3) := dk_182 1 10 (dk_at dksX5_products_0 2 rfl rfl)
theorem dX5_products_5 : decode bcX5_products 5 = .ok (.aload_n 0, 1) := dk_42 (dk_at dksX5_products_0 5 rfl rfl)
theorem dX5_products_6 : decode bcX5_products 6 = .ok (.bipush 42, 2) := dk_16 42 (dk_at dksX5_products_0 6 rfl rfl)
theorem dX5_products_8 : decode bcX5_products 8 = .ok (.invokevirtual 260, 3) := dk_182 1 4 (dk_at dksX5_products_0 8 rfl rfl)
theorem dX5_products_11 : decode bcX5_products 11 = .ok (.ifCond .eq 18, 3) := dk_153 0 18 (dk_at dksX5_products_0 11 rfl rfl)
theorem dX5_products_14 : decode bcX5_products 14 = .ok (.aload_n 0, 1) := dk_42 (dk_at dksX5_products_0 14 rfl rfl)
theorem dX5_products_15 : decode bcX5_products 15 = .ok (.iload_n 1, 1) := dk_27 (dk_at dksX5_products_0 15 rfl rfl)
theorem dX5_products_16 : decode bcX5_products 16 = .ok (.invokevirtual 266, 3) := dk_182 1 10 (dk_at dksX5_products_0 16 rfl rfl)
theorem dX5_products_19 : decode bcX5_products 19 = .ok (.aload_n 0, 1) := dk_42 (dk_at dksX5_products_0 19 rfl rfl)
theorem dX5_products_20 : decode bcX5_products 20 = .ok (.bipush 6, 2) := dk_16 6 (dk_at dksX5_products_0 20 rfl rfl)
theorem dX5_products_22 : decode bcX5_products 22 = .ok (.iconst 0, 1) := dk_3 (dk_at dksX5_products_0 22 rfl rfl)
theorem dX5_products_23 : decode bcX5_products 23 = .ok (.invokevirtual 250, 3) := dk_182 0 250 (dk_at dksX5_products_1 0 rfl rfl)
theorem dX5_products_26 : decode bcX5_products 26 = .ok (.goto (-21), 3) := dk_167 255 235 (dk_at dksX5_products_1 3 rfl rfl)
theorem dX5_products_29 : decode bcX5_products 29 = .ok (.return_, 1) := dk_177 (dk_at dksX5_products_1 6 rfl rfl)
abbrev SX5_products (pc : Nat) (i : xI) : Prop := Snd "SwollenHouseModel" "products" prog_25_method_37_code 2 (Option.none : Option Jvm.ClassFile.FieldType) [] pc i
theorem oX5_products_0 : SX5_products 0 (i_aload 0 1) := snd_aload_n dX5_products_0 rfl
theorem oX5_products_1 : SX5_products 1 (i_iload 1 2) := snd_iload_n dX5_products_1 rfl
theorem oX5_products_2 : SX5_products 2 (i_cvv 4 280 1 5) := snd_cvv rfl infX5_takePart (by decide) rfl (xVm_V dX5_products_2 rfl q1902 q1904 qs84 q136 q1905 pdX5_takePart)
theorem oX5_products_5 : SX5_products 5 (i_aload 0 6) := snd_aload_n dX5_products_5 rfl
theorem oX5_products_6 : SX5_products 6 (i_const (.int (nI 42)) 8) := snd_bipush dX5_products_6 (by decide)
theorem oX5_products_8 : SX5_products 8 (i_cv 4 283 1 11) := snd_cv rfl infX5_hasSign (by decide) rfl (xVm_V dX5_products_8 rfl q1914 q1916 qs87 q136 q1917 pdX5_hasSign)
theorem oX5_products_11 : SX5_products 11 (i_if1 (fun x => x = 0) 29 14) := snd_if_eq dX5_products_11 (by decide)
theorem oX5_products_14 : SX5_products 14 (i_aload 0 15) := snd_aload_n dX5_products_14 rfl
theorem oX5_products_15 : SX5_products 15 (i_iload 1 16) := snd_iload_n dX5_products_15 rfl
theorem oX5_products_16 : SX5_products 16 (i_cvv 4 280 1 19) := snd_cvv rfl infX5_takePart (by decide) rfl (xVm_V dX5_products_16 rfl q1902 q1904 qs84 q136 q1905 pdX5_takePart)
theorem oX5_products_19 : SX5_products 19 (i_aload 0 20) := snd_aload_n dX5_products_19 rfl
theorem oX5_products_20 : SX5_products 20 (i_const (.int (nI 6)) 22) := snd_bipush dX5_products_20 (by decide)
theorem oX5_products_22 : SX5_products 22 (i_const (.int (nI 0)) 23) := snd_iconst dX5_products_22 (by decide)
theorem oX5_products_23 : SX5_products 23 (i_cvv 4 282 2 26) := snd_cvv rfl infX5_emit (by decide) rfl (xVm_V dX5_products_23 rfl q1910 q1912 qs86 q136 q1913 pdX5_emit)
theorem oX5_products_26 : SX5_products 26 (i_goto 5) := snd_goto dX5_products_26 (by decide)
theorem oX5_products_29 : SX5_products 29 (i_vret) := snd_vret dX5_products_29 rfl
theorem okX5_products : ∀ q ∈ cX5_products, SX5_products q.1 q.2 := List.forall_mem_cons.mpr ⟨oX5_products_0, List.forall_mem_cons.mpr ⟨oX5_products_1, List.forall_mem_cons.mpr ⟨oX5_products_2, List.forall_mem_cons.mpr ⟨oX5_products_5, List.forall_mem_cons.mpr ⟨oX5_products_6, List.forall_mem_cons.mpr ⟨oX5_products_8, List.forall_mem_cons.mpr ⟨oX5_products_11, List.forall_mem_cons.mpr ⟨oX5_products_14, List.forall_mem_cons.mpr ⟨oX5_products_15, List.forall_mem_cons.mpr ⟨oX5_products_16, List.forall_mem_cons.mpr ⟨oX5_products_19, List.forall_mem_cons.mpr ⟨oX5_products_20, List.forall_mem_cons.mpr ⟨oX5_products_22, List.forall_mem_cons.mpr ⟨oX5_products_23, List.forall_mem_cons.mpr ⟨oX5_products_26, List.forall_mem_cons.mpr ⟨oX5_products_29, fun _ h => absurd h List.not_mem_nil⟩⟩⟩⟩⟩⟩⟩⟩⟩⟩⟩⟩⟩⟩⟩⟩
def dkwX5_takePart_7 : List UInt8 := [167, 0, 4, 29, 182, 0, 250, 42, 89, 180, 0, 162, 4, 96, 181, 0, 162, 177]
abbrev dktX5_takePart_7 : List UInt8 := dkwX5_takePart_7 ++ []
def dkwX5_takePart_6 : List UInt8 := [153, 0, 7, 4, 167, 0, 4, 5, 28, 153, 0, 16, 42, 180, 0, 30, 42, 180, 0, 162, 47, 136]
abbrev dktX5_takePart_6 : List UInt8 := dkwX5_takePart_6 ++ dktX5_takePart_7
def dkwX5_takePart_5 : List UInt8 := [182, 1, 4, 153, 0, 19, 42, 27, 4, 96, 182, 0, 247, 42, 16, 41, 182, 0, 220, 167, 0, 44, 42, 28]
abbrev dktX5_takePart_5 : List UInt8 := dkwX5_takePart_5 ++ dktX5_takePart_6
def dkwX5_takePart_4 : List UInt8 := [153, 0, 19, 42, 27, 4, 96, 182, 1, 10, 42, 6, 3, 182, 0, 250, 167, 0, 69, 42, 16, 40]
abbrev dktX5_takePart_4 : List UInt8 := dkwX5_takePart_4 ++ dktX5_takePart_5
def dkwX5_takePart_3 : List UInt8 := [8, 160, 0, 8, 42, 8, 182, 0, 171, 42, 180, 0, 165, 158, 0, 4, 177, 42, 16, 16, 182, 0, 177]
abbrev dktX5_takePart_3 : List UInt8 := dkwX5_takePart_3 ++ dktX5_takePart_4
def dkwX5_takePart_2 : List UInt8 := [182, 0, 168, 154, 0, 20, 42, 16, 16, 182, 0, 174, 154, 0, 11, 42, 4, 182, 0, 171, 167, 0, 13, 27]
abbrev dktX5_takePart_2 : List UInt8 := dkwX5_takePart_2 ++ dktX5_takePart_3
def dkwX5_takePart_1 : List UInt8 := [167, 0, 4, 3, 61, 42, 16, 19, 7, 182, 0, 187, 62, 29, 156, 0, 33, 28, 154, 0, 29, 42, 16, 40]
abbrev dktX5_takePart_1 : List UInt8 := dkwX5_takePart_1 ++ dktX5_takePart_2
def dkwX5_takePart_0 : List UInt8 := [42, 180, 0, 165, 158, 0, 4, 177, 42, 180, 0, 24, 42, 180, 0, 162, 46, 5, 160, 0, 7, 4]
abbrev dktX5_takePart_0 : List UInt8 := dkwX5_takePart_0 ++ dktX5_takePart_1
theorem dksX5_takePart_0 : bcX5_takePart.data.toList.drop 0 = dktX5_takePart_0 := by decide +kernel
theorem dksX5_takePart_1 : bcX5_takePart.data.toList.drop 22 = dktX5_takePart_1 := dk_seg dksX5_takePart_0 22 rfl rfl
theorem dksX5_takePart_2 : bcX5_takePart.data.toList.drop 46 = dktX5_takePart_2 := dk_seg dksX5_takePart_1 24 rfl rfl
theorem dksX5_takePart_3 : bcX5_takePart.data.toList.drop 70 = dktX5_takePart_3 := dk_seg dksX5_takePart_2 24 rfl rfl
theorem dksX5_takePart_4 : bcX5_takePart.data.toList.drop 93 = dktX5_takePart_4 := dk_seg dksX5_takePart_3 23 rfl rfl
theorem dksX5_takePart_5 : bcX5_takePart.data.toList.drop 115 = dktX5_takePart_5 := dk_seg dksX5_takePart_4 22 rfl rfl
theorem dksX5_takePart_6 : bcX5_takePart.data.toList.drop 139 = dktX5_takePart_6 := dk_seg dksX5_takePart_5 24 rfl rfl
theorem dksX5_takePart_7 : bcX5_takePart.data.toList.drop 161 = dktX5_takePart_7 := dk_seg dksX5_takePart_6 22 rfl rfl
theorem dX5_takePart_0 : decode bcX5_takePart 0 = .ok (.aload_n 0, 1) := dk_42 (dk_at dksX5_takePart_0 0 rfl rfl)
theorem dX5_takePart_1 : decode bcX5_takePart 1 = .ok (.getfield 165, 3) := dk_180 0 165 (dk_at dksX5_takePart_0 1 rfl rfl)
theorem dX5_takePart_4 : decode bcX5_takePart 4 = .ok (.ifCond .le 4, 3) := dk_158 0 4 (dk_at dksX5_takePart_0 4 rfl rfl)
theorem dX5_takePart_7 : decode bcX5_takePart 7 = .ok (.return_, 1) := dk_177 (dk_at dksX5_takePart_0 7 rfl rfl)
theorem dX5_takePart_8 : decode bcX5_takePart 8 = .ok (.aload_n 0, 1) := dk_42 (dk_at dksX5_takePart_0 8 rfl rfl)
theorem dX5_takePart_9 : decode bcX5_takePart 9 = .ok (.getfield 24, 3) := dk_180 0 24 (dk_at dksX5_takePart_0 9 rfl rfl)
theorem dX5_takePart_12 : decode bcX5_takePart 12 = .ok (.aload_n 0, 1) := dk_42 (dk_at dksX5_takePart_0 12 rfl rfl)
theorem dX5_takePart_13 : decode bcX5_takePart 13 = .ok (.getfield 162, 3) := dk_180 0 162 (dk_at dksX5_takePart_0 13 rfl rfl)
theorem dX5_takePart_16 : decode bcX5_takePart 16 = .ok (.iaload, 1) := dk_46 (dk_at dksX5_takePart_0 16 rfl rfl)
theorem dX5_takePart_17 : decode bcX5_takePart 17 = .ok (.iconst 2, 1) := dk_5 (dk_at dksX5_takePart_0 17 rfl rfl)
theorem dX5_takePart_18 : decode bcX5_takePart 18 = .ok (.if_icmp .ne 7, 3) := dk_160 0 7 (dk_at dksX5_takePart_0 18 rfl rfl)
theorem dX5_takePart_21 : decode bcX5_takePart 21 = .ok (.iconst 1, 1) := dk_4 (dk_at dksX5_takePart_0 21 rfl rfl)
theorem dX5_takePart_22 : decode bcX5_takePart 22 = .ok (.goto 4, 3) := dk_167 0 4 (dk_at dksX5_takePart_1 0 rfl rfl)
theorem dX5_takePart_25 : decode bcX5_takePart 25 = .ok (.iconst 0, 1) := dk_3 (dk_at dksX5_takePart_1 3 rfl rfl)
theorem dX5_takePart_26 : decode bcX5_takePart 26 = .ok (.istore_n 2, 1) := dk_61 (dk_at dksX5_takePart_1 4 rfl rfl)
theorem dX5_takePart_27 : decode bcX5_takePart 27 = .ok (.aload_n 0, 1) := dk_42 (dk_at dksX5_takePart_1 5 rfl rfl)
theorem dX5_takePart_28 : decode bcX5_takePart 28 = .ok (.bipush 19, 2) := dk_16 19 (dk_at dksX5_takePart_1 6 rfl rfl)
theorem dX5_takePart_30 : decode bcX5_takePart 30 = .ok (.iconst 4, 1) := dk_7 (dk_at dksX5_takePart_1 8 rfl rfl)
theorem dX5_takePart_31 : decode bcX5_takePart 31 = .ok (.invokevirtual 187, 3) := dk_182 0 187 (dk_at dksX5_takePart_1 9 rfl rfl)
theorem dX5_takePart_34 : decode bcX5_takePart 34 = .ok (.istore_n 3, 1) := dk_62 (dk_at dksX5_takePart_1 12 rfl rfl)
theorem dX5_takePart_35 : decode bcX5_takePart 35 = .ok (.iload_n 3, 1) := dk_29 (dk_at dksX5_takePart_1 13 rfl rfl)
theorem dX5_takePart_36 : decode bcX5_takePart 36 = .ok (.ifCond .ge 33, 3) := dk_156 0 33 (dk_at dksX5_takePart_1 14 rfl rfl)
theorem dX5_takePart_39 : decode bcX5_takePart 39 = .ok (.iload_n 2, 1) := dk_28 (dk_at dksX5_takePart_1 17 rfl rfl)
theorem dX5_takePart_40 : decode bcX5_takePart 40 = .ok (.ifCond .ne 29, 3) := dk_154 0 29 (dk_at dksX5_takePart_1 18 rfl rfl)
theorem dX5_takePart_43 : decode bcX5_takePart 43 = .ok (.aload_n 0, 1) := dk_42 (dk_at dksX5_takePart_1 21 rfl rfl)
theorem dX5_takePart_44 : decode bcX5_takePart 44 = .ok (.bipush 40, 2) := dk_16 40 (dk_at dksX5_takePart_1 22 rfl rfl)
theorem dX5_takePart_46 : decode bcX5_takePart 46 = .ok (.invokevirtual 168, 3) := dk_182 0 168 (dk_at dksX5_takePart_2 0 rfl rfl)
theorem dX5_takePart_49 : decode bcX5_takePart 49 = .ok (.ifCond .ne 20, 3) := dk_154 0 20 (dk_at dksX5_takePart_2 3 rfl rfl)
theorem dX5_takePart_52 : decode bcX5_takePart 52 = .ok (.aload_n 0, 1) := dk_42 (dk_at dksX5_takePart_2 6 rfl rfl)
theorem dX5_takePart_53 : decode bcX5_takePart 53 = .ok (.bipush 16, 2) := dk_16 16 (dk_at dksX5_takePart_2 7 rfl rfl)
theorem dX5_takePart_55 : decode bcX5_takePart 55 = .ok (.invokevirtual 174, 3) := dk_182 0 174 (dk_at dksX5_takePart_2 9 rfl rfl)
theorem dX5_takePart_58 : decode bcX5_takePart 58 = .ok (.ifCond .ne 11, 3) := dk_154 0 11 (dk_at dksX5_takePart_2 12 rfl rfl)
theorem dX5_takePart_61 : decode bcX5_takePart 61 = .ok (.aload_n 0, 1) := dk_42 (dk_at dksX5_takePart_2 15 rfl rfl)
theorem dX5_takePart_62 : decode bcX5_takePart 62 = .ok (.iconst 1, 1) := dk_4 (dk_at dksX5_takePart_2 16 rfl rfl)
theorem dX5_takePart_63 : decode bcX5_takePart 63 = .ok (.invokevirtual 171, 3) := dk_182 0 171 (dk_at dksX5_takePart_2 17 rfl rfl)
theorem dX5_takePart_66 : decode bcX5_takePart 66 = .ok (.goto 13, 3) := dk_167 0 13 (dk_at dksX5_takePart_2 20 rfl rfl)
theorem dX5_takePart_69 : decode bcX5_takePart 69 = .ok (.iload_n 1, 1) := dk_27 (dk_at dksX5_takePart_2 23 rfl rfl)
theorem dX5_takePart_70 : decode bcX5_takePart 70 = .ok (.iconst 5, 1) := dk_8 (dk_at dksX5_takePart_3 0 rfl rfl)
theorem dX5_takePart_71 : decode bcX5_takePart 71 = .ok (.if_icmp .ne 8, 3) := dk_160 0 8 (dk_at dksX5_takePart_3 1 rfl rfl)
theorem dX5_takePart_74 : decode bcX5_takePart 74 = .ok (.aload_n 0, 1) := dk_42 (dk_at dksX5_takePart_3 4 rfl rfl)
theorem dX5_takePart_75 : decode bcX5_takePart 75 = .ok (.iconst 5, 1) := dk_8 (dk_at dksX5_takePart_3 5 rfl rfl)
theorem dX5_takePart_76 : decode bcX5_takePart 76 = .ok (.invokevirtual 171, 3) := dk_182 0 171 (dk_at dksX5_takePart_3 6 rfl rfl)
theorem dX5_takePart_79 : decode bcX5_takePart 79 = .ok (.aload_n 0, 1) := dk_42 (dk_at dksX5_takePart_3 9 rfl rfl)
theorem dX5_takePart_80 : decode bcX5_takePart 80 = .ok (.getfield 165, 3) := dk_180 0 165 (dk_at dksX5_takePart_3 10 rfl rfl)
theorem dX5_takePart_83 : decode bcX5_takePart 83 = .ok (.ifCond .le 4, 3) := dk_158 0 4 (dk_at dksX5_takePart_3 13 rfl rfl)
theorem dX5_takePart_86 : decode bcX5_takePart 86 = .ok (.return_, 1) := dk_177 (dk_at dksX5_takePart_3 16 rfl rfl)
theorem dX5_takePart_87 : decode bcX5_takePart 87 = .ok (.aload_n 0, 1) := dk_42 (dk_at dksX5_takePart_3 17 rfl rfl)
theorem dX5_takePart_88 : decode bcX5_takePart 88 = .ok (.bipush 16, 2) := dk_16 16 (dk_at dksX5_takePart_3 18 rfl rfl)
theorem dX5_takePart_90 : decode bcX5_takePart 90 = .ok (.invokevirtual 177, 3) := dk_182 0 177 (dk_at dksX5_takePart_3 20 rfl rfl)
theorem dX5_takePart_93 : decode bcX5_takePart 93 = .ok (.ifCond .eq 19, 3) := dk_153 0 19 (dk_at dksX5_takePart_4 0 rfl rfl)
theorem dX5_takePart_96 : decode bcX5_takePart 96 = .ok (.aload_n 0, 1) := dk_42 (dk_at dksX5_takePart_4 3 rfl rfl)
theorem dX5_takePart_97 : decode bcX5_takePart 97 = .ok (.iload_n 1, 1) := dk_27 (dk_at dksX5_takePart_4 4 rfl rfl)
theorem dX5_takePart_98 : decode bcX5_takePart 98 = .ok (.iconst 1, 1) := dk_4 (dk_at dksX5_takePart_4 5 rfl rfl)
theorem dX5_takePart_99 : decode bcX5_takePart 99 = .ok (.iadd, 1) := dk_96 (dk_at dksX5_takePart_4 6 rfl rfl)
theorem dX5_takePart_100 : decode bcX5_takePart 100 = .ok (.invokevirtual 266, 3) := dk_182 1 10 (dk_at dksX5_takePart_4 7 rfl rfl)
theorem dX5_takePart_103 : decode bcX5_takePart 103 = .ok (.aload_n 0, 1) := dk_42 (dk_at dksX5_takePart_4 10 rfl rfl)
theorem dX5_takePart_104 : decode bcX5_takePart 104 = .ok (.iconst 3, 1) := dk_6 (dk_at dksX5_takePart_4 11 rfl rfl)
theorem dX5_takePart_105 : decode bcX5_takePart 105 = .ok (.iconst 0, 1) := dk_3 (dk_at dksX5_takePart_4 12 rfl rfl)
theorem dX5_takePart_106 : decode bcX5_takePart 106 = .ok (.invokevirtual 250, 3) := dk_182 0 250 (dk_at dksX5_takePart_4 13 rfl rfl)
theorem dX5_takePart_109 : decode bcX5_takePart 109 = .ok (.goto 69, 3) := dk_167 0 69 (dk_at dksX5_takePart_4 16 rfl rfl)
theorem dX5_takePart_112 : decode bcX5_takePart 112 = .ok (.aload_n 0, 1) := dk_42 (dk_at dksX5_takePart_4 19 rfl rfl)
theorem dX5_takePart_113 : decode bcX5_takePart 113 = .ok (.bipush 40, 2) := dk_16 40 (dk_at dksX5_takePart_4 20 rfl rfl)
theorem dX5_takePart_115 : decode bcX5_takePart 115 = .ok (.invokevirtual 260, 3) := dk_182 1 4 (dk_at dksX5_takePart_5 0 rfl rfl)
theorem dX5_takePart_118 : decode bcX5_takePart 118 = .ok (.ifCond .eq 19, 3) := dk_153 0 19 (dk_at dksX5_takePart_5 3 rfl rfl)
theorem dX5_takePart_121 : decode bcX5_takePart 121 = .ok (.aload_n 0, 1) := dk_42 (dk_at dksX5_takePart_5 6 rfl rfl)
theorem dX5_takePart_122 : decode bcX5_takePart 122 = .ok (.iload_n 1, 1) := dk_27 (dk_at dksX5_takePart_5 7 rfl rfl)
theorem dX5_takePart_123 : decode bcX5_takePart 123 = .ok (.iconst 1, 1) := dk_4 (dk_at dksX5_takePart_5 8 rfl rfl)
theorem dX5_takePart_124 : decode bcX5_takePart 124 = .ok (.iadd, 1) := dk_96 (dk_at dksX5_takePart_5 9 rfl rfl)
theorem dX5_takePart_125 : decode bcX5_takePart 125 = .ok (.invokevirtual 247, 3) := dk_182 0 247 (dk_at dksX5_takePart_5 10 rfl rfl)
theorem dX5_takePart_128 : decode bcX5_takePart 128 = .ok (.aload_n 0, 1) := dk_42 (dk_at dksX5_takePart_5 13 rfl rfl)
theorem dX5_takePart_129 : decode bcX5_takePart 129 = .ok (.bipush 41, 2) := dk_16 41 (dk_at dksX5_takePart_5 14 rfl rfl)
theorem dX5_takePart_131 : decode bcX5_takePart 131 = .ok (.invokevirtual 220, 3) := dk_182 0 220 (dk_at dksX5_takePart_5 16 rfl rfl)
theorem dX5_takePart_134 : decode bcX5_takePart 134 = .ok (.goto 44, 3) := dk_167 0 44 (dk_at dksX5_takePart_5 19 rfl rfl)
theorem dX5_takePart_137 : decode bcX5_takePart 137 = .ok (.aload_n 0, 1) := dk_42 (dk_at dksX5_takePart_5 22 rfl rfl)
theorem dX5_takePart_138 : decode bcX5_takePart 138 = .ok (.iload_n 2, 1) := dk_28 (dk_at dksX5_takePart_5 23 rfl rfl)
theorem dX5_takePart_139 : decode bcX5_takePart 139 = .ok (.ifCond .eq 7, 3) := dk_153 0 7 (dk_at dksX5_takePart_6 0 rfl rfl)
theorem dX5_takePart_142 : decode bcX5_takePart 142 = .ok (.iconst 1, 1) := dk_4 (dk_at dksX5_takePart_6 3 rfl rfl)
theorem dX5_takePart_143 : decode bcX5_takePart 143 = .ok (.goto 4, 3) := dk_167 0 4 (dk_at dksX5_takePart_6 4 rfl rfl)
theorem dX5_takePart_146 : decode bcX5_takePart 146 = .ok (.iconst 2, 1) := dk_5 (dk_at dksX5_takePart_6 7 rfl rfl)
theorem dX5_takePart_147 : decode bcX5_takePart 147 = .ok (.iload_n 2, 1) := dk_28 (dk_at dksX5_takePart_6 8 rfl rfl)
theorem dX5_takePart_148 : decode bcX5_takePart 148 = .ok (.ifCond .eq 16, 3) := dk_153 0 16 (dk_at dksX5_takePart_6 9 rfl rfl)
theorem dX5_takePart_151 : decode bcX5_takePart 151 = .ok (.aload_n 0, 1) := dk_42 (dk_at dksX5_takePart_6 12 rfl rfl)
theorem dX5_takePart_152 : decode bcX5_takePart 152 = .ok (.getfield 30, 3) := dk_180 0 30 (dk_at dksX5_takePart_6 13 rfl rfl)
theorem dX5_takePart_155 : decode bcX5_takePart 155 = .ok (.aload_n 0, 1) := dk_42 (dk_at dksX5_takePart_6 16 rfl rfl)
theorem dX5_takePart_156 : decode bcX5_takePart 156 = .ok (.getfield 162, 3) := dk_180 0 162 (dk_at dksX5_takePart_6 17 rfl rfl)
theorem dX5_takePart_159 : decode bcX5_takePart 159 = .ok (.laload, 1) := dk_47 (dk_at dksX5_takePart_6 20 rfl rfl)
theorem dX5_takePart_160 : decode bcX5_takePart 160 = .ok (.l2i, 1) := dk_136 (dk_at dksX5_takePart_6 21 rfl rfl)
theorem dX5_takePart_161 : decode bcX5_takePart 161 = .ok (.goto 4, 3) := dk_167 0 4 (dk_at dksX5_takePart_7 0 rfl rfl)
theorem dX5_takePart_164 : decode bcX5_takePart 164 = .ok (.iload_n 3, 1) := dk_29 (dk_at dksX5_takePart_7 3 rfl rfl)
theorem dX5_takePart_165 : decode bcX5_takePart 165 = .ok (.invokevirtual 250, 3) := dk_182 0 250 (dk_at dksX5_takePart_7 4 rfl rfl)
theorem dX5_takePart_168 : decode bcX5_takePart 168 = .ok (.aload_n 0, 1) := dk_42 (dk_at dksX5_takePart_7 7 rfl rfl)
theorem dX5_takePart_169 : decode bcX5_takePart 169 = .ok (.dup, 1) := dk_89 (dk_at dksX5_takePart_7 8 rfl rfl)
theorem dX5_takePart_170 : decode bcX5_takePart 170 = .ok (.getfield 162, 3) := dk_180 0 162 (dk_at dksX5_takePart_7 9 rfl rfl)
theorem dX5_takePart_173 : decode bcX5_takePart 173 = .ok (.iconst 1, 1) := dk_4 (dk_at dksX5_takePart_7 12 rfl rfl)
theorem dX5_takePart_174 : decode bcX5_takePart 174 = .ok (.iadd, 1) := dk_96 (dk_at dksX5_takePart_7 13 rfl rfl)
theorem dX5_takePart_175 : decode bcX5_takePart 175 = .ok (.putfield 162, 3) := dk_181 0 162 (dk_at dksX5_takePart_7 14 rfl rfl)
theorem dX5_takePart_178 : decode bcX5_takePart 178 = .ok (.return_, 1) := dk_177 (dk_at dksX5_takePart_7 17 rfl rfl)
abbrev SX5_takePart (pc : Nat) (i : xI) : Prop := Snd "SwollenHouseModel" "takePart" prog_25_method_38_code 4 (Option.none : Option Jvm.ClassFile.FieldType) [] pc i
theorem oX5_takePart_0 : SX5_takePart 0 (i_aload 0 1) := snd_aload_n dX5_takePart_0 rfl
theorem oX5_takePart_1 : SX5_takePart 1 (i_getf 4 8 4) := snd_getf dX5_takePart_1 rfl (by decide) in_X5 (Or.inl q1706) (Or.inl rfl) (by decide)
theorem oX5_takePart_4 : SX5_takePart 4 (i_if1 (fun x => x ≤ 0) 8 7) := snd_if_le dX5_takePart_4 (by decide)
theorem oX5_takePart_7 : SX5_takePart 7 (i_vret) := snd_vret dX5_takePart_7 rfl
theorem oX5_takePart_8 : SX5_takePart 8 (i_aload 0 9) := snd_aload_n dX5_takePart_8 rfl
theorem oX5_takePart_9 : SX5_takePart 9 (i_getf 4 4 12) := snd_getf dX5_takePart_9 rfl (by decide) in_X5 (Or.inl q1702) (Or.inl rfl) (by decide)
theorem oX5_takePart_12 : SX5_takePart 12 (i_aload 0 13) := snd_aload_n dX5_takePart_12 rfl
theorem oX5_takePart_13 : SX5_takePart 13 (i_getf 4 7 16) := snd_getf dX5_takePart_13 rfl (by decide) in_X5 (Or.inl q1705) (Or.inl rfl) (by decide)
theorem oX5_takePart_16 : SX5_takePart 16 (i_ai 0 17) := snd_ai0 dX5_takePart_16
theorem oX5_takePart_17 : SX5_takePart 17 (i_const (.int (nI 2)) 18) := snd_iconst dX5_takePart_17 (by decide)
theorem oX5_takePart_18 : SX5_takePart 18 (i_if2 (fun x y => ¬ x = y) 25 21) := snd_icmp_ne dX5_takePart_18 (by decide)
theorem oX5_takePart_21 : SX5_takePart 21 (i_const (.int (nI 1)) 22) := snd_iconst dX5_takePart_21 (by decide)
theorem oX5_takePart_22 : SX5_takePart 22 (i_goto 26) := snd_goto dX5_takePart_22 (by decide)
theorem oX5_takePart_25 : SX5_takePart 25 (i_const (.int (nI 0)) 26) := snd_iconst dX5_takePart_25 (by decide)
theorem oX5_takePart_26 : SX5_takePart 26 (i_istore 2 27) := snd_istore_n dX5_takePart_26 rfl (by decide)
theorem oX5_takePart_27 : SX5_takePart 27 (i_aload 0 28) := snd_aload_n dX5_takePart_27 rfl
theorem oX5_takePart_28 : SX5_takePart 28 (i_const (.int (nI 19)) 30) := snd_bipush dX5_takePart_28 (by decide)
theorem oX5_takePart_30 : SX5_takePart 30 (i_const (.int (nI 4)) 31) := snd_iconst dX5_takePart_30 (by decide)
theorem oX5_takePart_31 : SX5_takePart 31 (i_cv 4 264 2 34) := snd_cv rfl infX5_wordHere (by decide) rfl (xVm_V dX5_takePart_31 rfl q1839 q1841 qs69 q136 q1842 pdX5_wordHere)
theorem oX5_takePart_34 : SX5_takePart 34 (i_istore 3 35) := snd_istore_n dX5_takePart_34 rfl (by decide)
theorem oX5_takePart_35 : SX5_takePart 35 (i_iload 3 36) := snd_iload_n dX5_takePart_35 rfl
theorem oX5_takePart_36 : SX5_takePart 36 (i_if1 (fun x => 0 ≤ x) 69 39) := snd_if_ge dX5_takePart_36 (by decide)
theorem oX5_takePart_39 : SX5_takePart 39 (i_iload 2 40) := snd_iload_n dX5_takePart_39 rfl
theorem oX5_takePart_40 : SX5_takePart 40 (i_if1 (fun x => ¬ x = 0) 69 43) := snd_if_ne dX5_takePart_40 (by decide)
theorem oX5_takePart_43 : SX5_takePart 43 (i_aload 0 44) := snd_aload_n dX5_takePart_43 rfl
theorem oX5_takePart_44 : SX5_takePart 44 (i_const (.int (nI 40)) 46) := snd_bipush dX5_takePart_44 (by decide)
theorem oX5_takePart_46 : SX5_takePart 46 (i_cv 4 281 1 49) := snd_cv rfl infX5_isSign (by decide) rfl (xVm_V dX5_takePart_46 rfl q1906 q1908 qs85 q136 q1909 pdX5_isSign)
theorem oX5_takePart_49 : SX5_takePart 49 (i_if1 (fun x => ¬ x = 0) 69 52) := snd_if_ne dX5_takePart_49 (by decide)
theorem oX5_takePart_52 : SX5_takePart 52 (i_aload 0 53) := snd_aload_n dX5_takePart_52 rfl
theorem oX5_takePart_53 : SX5_takePart 53 (i_const (.int (nI 16)) 55) := snd_bipush dX5_takePart_53 (by decide)
theorem oX5_takePart_55 : SX5_takePart 55 (i_cv 4 260 1 58) := snd_cv rfl infX5_isWord (by decide) rfl (xVm_V dX5_takePart_55 rfl q1823 q1825 qs65 q136 q1826 pdX5_isWord)
theorem oX5_takePart_58 : SX5_takePart 58 (i_if1 (fun x => ¬ x = 0) 69 61) := snd_if_ne dX5_takePart_58 (by decide)
theorem oX5_takePart_61 : SX5_takePart 61 (i_aload 0 62) := snd_aload_n dX5_takePart_61 rfl
theorem oX5_takePart_62 : SX5_takePart 62 (i_const (.int (nI 1)) 63) := snd_iconst dX5_takePart_62 (by decide)
theorem oX5_takePart_63 : SX5_takePart 63 (i_cvv 4 262 1 66) := snd_cvv rfl infX5_wrong (by decide) rfl (xVm_V dX5_takePart_63 rfl q1831 q1833 qs67 q136 q1834 pdX5_wrong)
theorem oX5_takePart_66 : SX5_takePart 66 (i_goto 79) := snd_goto dX5_takePart_66 (by decide)
theorem oX5_takePart_69 : SX5_takePart 69 (i_iload 1 70) := snd_iload_n dX5_takePart_69 rfl
theorem oX5_takePart_70 : SX5_takePart 70 (i_const (.int (nI 5)) 71) := snd_iconst dX5_takePart_70 (by decide)
theorem oX5_takePart_71 : SX5_takePart 71 (i_if2 (fun x y => ¬ x = y) 79 74) := snd_icmp_ne dX5_takePart_71 (by decide)
theorem oX5_takePart_74 : SX5_takePart 74 (i_aload 0 75) := snd_aload_n dX5_takePart_74 rfl
theorem oX5_takePart_75 : SX5_takePart 75 (i_const (.int (nI 5)) 76) := snd_iconst dX5_takePart_75 (by decide)
theorem oX5_takePart_76 : SX5_takePart 76 (i_cvv 4 262 1 79) := snd_cvv rfl infX5_wrong (by decide) rfl (xVm_V dX5_takePart_76 rfl q1831 q1833 qs67 q136 q1834 pdX5_wrong)
theorem oX5_takePart_79 : SX5_takePart 79 (i_aload 0 80) := snd_aload_n dX5_takePart_79 rfl
theorem oX5_takePart_80 : SX5_takePart 80 (i_getf 4 8 83) := snd_getf dX5_takePart_80 rfl (by decide) in_X5 (Or.inl q1706) (Or.inl rfl) (by decide)
theorem oX5_takePart_83 : SX5_takePart 83 (i_if1 (fun x => x ≤ 0) 87 86) := snd_if_le dX5_takePart_83 (by decide)
theorem oX5_takePart_86 : SX5_takePart 86 (i_vret) := snd_vret dX5_takePart_86 rfl
theorem oX5_takePart_87 : SX5_takePart 87 (i_aload 0 88) := snd_aload_n dX5_takePart_87 rfl
theorem oX5_takePart_88 : SX5_takePart 88 (i_const (.int (nI 16)) 90) := snd_bipush dX5_takePart_88 (by decide)
theorem oX5_takePart_90 : SX5_takePart 90 (i_cv 4 272 1 93) := snd_cv rfl infX5_hasWord (by decide) rfl (xVm_V dX5_takePart_90 rfl q1870 q1872 qs76 q136 q1873 pdX5_hasWord)
theorem oX5_takePart_93 : SX5_takePart 93 (i_if1 (fun x => x = 0) 112 96) := snd_if_eq dX5_takePart_93 (by decide)
theorem oX5_takePart_96 : SX5_takePart 96 (i_aload 0 97) := snd_aload_n dX5_takePart_96 rfl
theorem oX5_takePart_97 : SX5_takePart 97 (i_iload 1 98) := snd_iload_n dX5_takePart_97 rfl
theorem oX5_takePart_98 : SX5_takePart 98 (i_const (.int (nI 1)) 99) := snd_iconst dX5_takePart_98 (by decide)
theorem oX5_takePart_99 : SX5_takePart 99 (i_ii (fun x y => x + y) 100) := snd_iadd dX5_takePart_99
theorem oX5_takePart_100 : SX5_takePart 100 (i_cvv 4 280 1 103) := snd_cvv rfl infX5_takePart (by decide) rfl (xVm_V dX5_takePart_100 rfl q1902 q1904 qs84 q136 q1905 pdX5_takePart)
theorem oX5_takePart_103 : SX5_takePart 103 (i_aload 0 104) := snd_aload_n dX5_takePart_103 rfl
theorem oX5_takePart_104 : SX5_takePart 104 (i_const (.int (nI 3)) 105) := snd_iconst dX5_takePart_104 (by decide)
theorem oX5_takePart_105 : SX5_takePart 105 (i_const (.int (nI 0)) 106) := snd_iconst dX5_takePart_105 (by decide)
theorem oX5_takePart_106 : SX5_takePart 106 (i_cvv 4 282 2 109) := snd_cvv rfl infX5_emit (by decide) rfl (xVm_V dX5_takePart_106 rfl q1910 q1912 qs86 q136 q1913 pdX5_emit)
theorem oX5_takePart_109 : SX5_takePart 109 (i_goto 178) := snd_goto dX5_takePart_109 (by decide)
theorem oX5_takePart_112 : SX5_takePart 112 (i_aload 0 113) := snd_aload_n dX5_takePart_112 rfl
theorem oX5_takePart_113 : SX5_takePart 113 (i_const (.int (nI 40)) 115) := snd_bipush dX5_takePart_113 (by decide)
theorem oX5_takePart_115 : SX5_takePart 115 (i_cv 4 283 1 118) := snd_cv rfl infX5_hasSign (by decide) rfl (xVm_V dX5_takePart_115 rfl q1914 q1916 qs87 q136 q1917 pdX5_hasSign)
theorem oX5_takePart_118 : SX5_takePart 118 (i_if1 (fun x => x = 0) 137 121) := snd_if_eq dX5_takePart_118 (by decide)
theorem oX5_takePart_121 : SX5_takePart 121 (i_aload 0 122) := snd_aload_n dX5_takePart_121 rfl
theorem oX5_takePart_122 : SX5_takePart 122 (i_iload 1 123) := snd_iload_n dX5_takePart_122 rfl
theorem oX5_takePart_123 : SX5_takePart 123 (i_const (.int (nI 1)) 124) := snd_iconst dX5_takePart_123 (by decide)
theorem oX5_takePart_124 : SX5_takePart 124 (i_ii (fun x y => x + y) 125) := snd_iadd dX5_takePart_124
theorem oX5_takePart_125 : SX5_takePart 125 (i_cvv 4 276 1 128) := snd_cvv rfl infX5_whole (by decide) rfl (xVm_V dX5_takePart_125 rfl q1886 q1888 qs80 q136 q1889 pdX5_whole)
theorem oX5_takePart_128 : SX5_takePart 128 (i_aload 0 129) := snd_aload_n dX5_takePart_128 rfl
theorem oX5_takePart_129 : SX5_takePart 129 (i_const (.int (nI 41)) 131) := snd_bipush dX5_takePart_129 (by decide)
theorem oX5_takePart_131 : SX5_takePart 131 (i_cvv 4 284 1 134) := snd_cvv rfl infX5_takeSign (by decide) rfl (xVm_V dX5_takePart_131 rfl q1918 q1920 qs88 q136 q1921 pdX5_takeSign)
theorem oX5_takePart_134 : SX5_takePart 134 (i_goto 178) := snd_goto dX5_takePart_134 (by decide)
theorem oX5_takePart_137 : SX5_takePart 137 (i_aload 0 138) := snd_aload_n dX5_takePart_137 rfl
theorem oX5_takePart_138 : SX5_takePart 138 (i_iload 2 139) := snd_iload_n dX5_takePart_138 rfl
theorem oX5_takePart_139 : SX5_takePart 139 (i_if1 (fun x => x = 0) 146 142) := snd_if_eq dX5_takePart_139 (by decide)
theorem oX5_takePart_142 : SX5_takePart 142 (i_const (.int (nI 1)) 143) := snd_iconst dX5_takePart_142 (by decide)
theorem oX5_takePart_143 : SX5_takePart 143 (i_goto 147) := snd_goto dX5_takePart_143 (by decide)
theorem oX5_takePart_146 : SX5_takePart 146 (i_const (.int (nI 2)) 147) := snd_iconst dX5_takePart_146 (by decide)
theorem oX5_takePart_147 : SX5_takePart 147 (i_iload 2 148) := snd_iload_n dX5_takePart_147 rfl
theorem oX5_takePart_148 : SX5_takePart 148 (i_if1 (fun x => x = 0) 164 151) := snd_if_eq dX5_takePart_148 (by decide)
theorem oX5_takePart_151 : SX5_takePart 151 (i_aload 0 152) := snd_aload_n dX5_takePart_151 rfl
theorem oX5_takePart_152 : SX5_takePart 152 (i_getf 4 6 155) := snd_getf dX5_takePart_152 rfl (by decide) in_X5 (Or.inl q1704) (Or.inl rfl) (by decide)
theorem oX5_takePart_155 : SX5_takePart 155 (i_aload 0 156) := snd_aload_n dX5_takePart_155 rfl
theorem oX5_takePart_156 : SX5_takePart 156 (i_getf 4 7 159) := snd_getf dX5_takePart_156 rfl (by decide) in_X5 (Or.inl q1705) (Or.inl rfl) (by decide)
theorem oX5_takePart_159 : SX5_takePart 159 (i_al 3 160) := snd_al3 dX5_takePart_159
theorem oX5_takePart_160 : SX5_takePart 160 (i_l2i 161) := snd_l2i dX5_takePart_160
theorem oX5_takePart_161 : SX5_takePart 161 (i_goto 165) := snd_goto dX5_takePart_161 (by decide)
theorem oX5_takePart_164 : SX5_takePart 164 (i_iload 3 165) := snd_iload_n dX5_takePart_164 rfl
theorem oX5_takePart_165 : SX5_takePart 165 (i_cvv 4 282 2 168) := snd_cvv rfl infX5_emit (by decide) rfl (xVm_V dX5_takePart_165 rfl q1910 q1912 qs86 q136 q1913 pdX5_emit)
theorem oX5_takePart_168 : SX5_takePart 168 (i_aload 0 169) := snd_aload_n dX5_takePart_168 rfl
theorem oX5_takePart_169 : SX5_takePart 169 (i_dup 170) := snd_dup dX5_takePart_169
theorem oX5_takePart_170 : SX5_takePart 170 (i_getf 4 7 173) := snd_getf dX5_takePart_170 rfl (by decide) in_X5 (Or.inl q1705) (Or.inl rfl) (by decide)
theorem oX5_takePart_173 : SX5_takePart 173 (i_const (.int (nI 1)) 174) := snd_iconst dX5_takePart_173 (by decide)
theorem oX5_takePart_174 : SX5_takePart 174 (i_ii (fun x y => x + y) 175) := snd_iadd dX5_takePart_174
theorem oX5_takePart_175 : SX5_takePart 175 (i_putfi 4 7 178) := snd_putfi dX5_takePart_175 rfl (by decide) in_X5 tyX5 tyX5_ok nmX5 (Or.inl ⟨rfl, q1705⟩) (Or.inl rfl) rfl
theorem oX5_takePart_178 : SX5_takePart 178 (i_vret) := snd_vret dX5_takePart_178 rfl
theorem okX5_takePart : ∀ q ∈ cX5_takePart, SX5_takePart q.1 q.2 := List.forall_mem_cons.mpr ⟨oX5_takePart_0, List.forall_mem_cons.mpr ⟨oX5_takePart_1, List.forall_mem_cons.mpr ⟨oX5_takePart_4, List.forall_mem_cons.mpr ⟨oX5_takePart_7, List.forall_mem_cons.mpr ⟨oX5_takePart_8, List.forall_mem_cons.mpr ⟨oX5_takePart_9, List.forall_mem_cons.mpr ⟨oX5_takePart_12, List.forall_mem_cons.mpr ⟨oX5_takePart_13, List.forall_mem_cons.mpr ⟨oX5_takePart_16, List.forall_mem_cons.mpr ⟨oX5_takePart_17, List.forall_mem_cons.mpr ⟨oX5_takePart_18, List.forall_mem_cons.mpr ⟨oX5_takePart_21, List.forall_mem_cons.mpr ⟨oX5_takePart_22, List.forall_mem_cons.mpr ⟨oX5_takePart_25, List.forall_mem_cons.mpr ⟨oX5_takePart_26, List.forall_mem_cons.mpr ⟨oX5_takePart_27, List.forall_mem_cons.mpr ⟨oX5_takePart_28, List.forall_mem_cons.mpr ⟨oX5_takePart_30, List.forall_mem_cons.mpr ⟨oX5_takePart_31, List.forall_mem_cons.mpr ⟨oX5_takePart_34, List.forall_mem_cons.mpr ⟨oX5_takePart_35, List.forall_mem_cons.mpr ⟨oX5_takePart_36, List.forall_mem_cons.mpr ⟨oX5_takePart_39, List.forall_mem_cons.mpr ⟨oX5_takePart_40, List.forall_mem_cons.mpr ⟨oX5_takePart_43, List.forall_mem_cons.mpr ⟨oX5_takePart_44, List.forall_mem_cons.mpr ⟨oX5_takePart_46, List.forall_mem_cons.mpr ⟨oX5_takePart_49, List.forall_mem_cons.mpr ⟨oX5_takePart_52, List.forall_mem_cons.mpr ⟨oX5_takePart_53, List.forall_mem_cons.mpr ⟨oX5_takePart_55, List.forall_mem_cons.mpr ⟨oX5_takePart_58, List.forall_mem_cons.mpr ⟨oX5_takePart_61, List.forall_mem_cons.mpr ⟨oX5_takePart_62, List.forall_mem_cons.mpr ⟨oX5_takePart_63, List.forall_mem_cons.mpr ⟨oX5_takePart_66, List.forall_mem_cons.mpr ⟨oX5_takePart_69, List.forall_mem_cons.mpr ⟨oX5_takePart_70, List.forall_mem_cons.mpr ⟨oX5_takePart_71, List.forall_mem_cons.mpr ⟨oX5_takePart_74, List.forall_mem_cons.mpr ⟨oX5_takePart_75, List.forall_mem_cons.mpr ⟨oX5_takePart_76, List.forall_mem_cons.mpr ⟨oX5_takePart_79, List.forall_mem_cons.mpr ⟨oX5_takePart_80, List.forall_mem_cons.mpr ⟨oX5_takePart_83, List.forall_mem_cons.mpr ⟨oX5_takePart_86, List.forall_mem_cons.mpr ⟨oX5_takePart_87, List.forall_mem_cons.mpr ⟨oX5_takePart_88, List.forall_mem_cons.mpr ⟨oX5_takePart_90, List.forall_mem_cons.mpr ⟨oX5_takePart_93, List.forall_mem_cons.mpr ⟨oX5_takePart_96, List.forall_mem_cons.mpr ⟨oX5_takePart_97, List.forall_mem_cons.mpr ⟨oX5_takePart_98, List.forall_mem_cons.mpr ⟨oX5_takePart_99, List.forall_mem_cons.mpr ⟨oX5_takePart_100, List.forall_mem_cons.mpr ⟨oX5_takePart_103, List.forall_mem_cons.mpr ⟨oX5_takePart_104, List.forall_mem_cons.mpr ⟨oX5_takePart_105, List.forall_mem_cons.mpr ⟨oX5_takePart_106, List.forall_mem_cons.mpr ⟨oX5_takePart_109, List.forall_mem_cons.mpr ⟨oX5_takePart_112, List.forall_mem_cons.mpr ⟨oX5_takePart_113, List.forall_mem_cons.mpr ⟨oX5_takePart_115, List.forall_mem_cons.mpr ⟨oX5_takePart_118, List.forall_mem_cons.mpr ⟨oX5_takePart_121, List.forall_mem_cons.mpr ⟨oX5_takePart_122, List.forall_mem_cons.mpr ⟨oX5_takePart_123, List.forall_mem_cons.mpr ⟨oX5_takePart_124, List.forall_mem_cons.mpr ⟨oX5_takePart_125, List.forall_mem_cons.mpr ⟨oX5_takePart_128, List.forall_mem_cons.mpr ⟨oX5_takePart_129, List.forall_mem_cons.mpr ⟨oX5_takePart_131, List.forall_mem_cons.mpr ⟨oX5_takePart_134, List.forall_mem_cons.mpr ⟨oX5_takePart_137, List.forall_mem_cons.mpr ⟨oX5_takePart_138, List.forall_mem_cons.mpr ⟨oX5_takePart_139, List.forall_mem_cons.mpr ⟨oX5_takePart_142, List.forall_mem_cons.mpr ⟨oX5_takePart_143, List.forall_mem_cons.mpr ⟨oX5_takePart_146, List.forall_mem_cons.mpr ⟨oX5_takePart_147, List.forall_mem_cons.mpr ⟨oX5_takePart_148, List.forall_mem_cons.mpr ⟨oX5_takePart_151, List.forall_mem_cons.mpr ⟨oX5_takePart_152, List.forall_mem_cons.mpr ⟨oX5_takePart_155, List.forall_mem_cons.mpr ⟨oX5_takePart_156, List.forall_mem_cons.mpr ⟨oX5_takePart_159, List.forall_mem_cons.mpr ⟨oX5_takePart_160, List.forall_mem_cons.mpr ⟨oX5_takePart_161, List.forall_mem_cons.mpr ⟨oX5_takePart_164, List.forall_mem_cons.mpr ⟨oX5_takePart_165, List.forall_mem_cons.mpr ⟨oX5_takePart_168, List.forall_mem_cons.mpr ⟨oX5_takePart_169, List.forall_mem_cons.mpr ⟨oX5_takePart_170, List.forall_mem_cons.mpr ⟨oX5_takePart_173, List.forall_mem_cons.mpr ⟨oX5_takePart_174, List.forall_mem_cons.mpr ⟨oX5_takePart_175, List.forall_mem_cons.mpr ⟨oX5_takePart_178, fun _ h => absurd h List.not_mem_nil⟩⟩⟩⟩⟩⟩⟩⟩⟩⟩⟩⟩⟩⟩⟩⟩⟩⟩⟩⟩⟩⟩⟩⟩⟩⟩⟩⟩⟩⟩⟩⟩⟩⟩⟩⟩⟩⟩⟩⟩⟩⟩⟩⟩⟩⟩⟩⟩⟩⟩⟩⟩⟩⟩⟩⟩⟩⟩⟩⟩⟩⟩⟩⟩⟩⟩⟩⟩⟩⟩⟩⟩⟩⟩⟩⟩⟩⟩⟩⟩⟩⟩⟩⟩⟩⟩⟩⟩⟩⟩⟩⟩⟩⟩⟩⟩⟩
def dkwX5_isSign_1 : List UInt8 := [42, 180, 0, 162, 47, 27, 133, 148, 154, 0, 7, 4, 167, 0, 4, 3, 172]
abbrev dktX5_isSign_1 : List UInt8 := dkwX5_isSign_1 ++ []
def dkwX5_isSign_0 : List UInt8 := [42, 180, 0, 165, 154, 0, 35, 42, 180, 0, 24, 42, 180, 0, 162, 46, 6, 160, 0, 22, 42, 180, 0, 30]
abbrev dktX5_isSign_0 : List UInt8 := dkwX5_isSign_0 ++ dktX5_isSign_1
theorem dksX5_isSign_0 : bcX5_isSign.data.toList.drop 0 = dktX5_isSign_0 := by decide +kernel
theorem dksX5_isSign_1 : bcX5_isSign.data.toList.drop 24 = dktX5_isSign_1 := dk_seg dksX5_isSign_0 24 rfl rfl
theorem dX5_isSign_0 : decode bcX5_isSign 0 = .ok (.aload_n 0, 1) := dk_42 (dk_at dksX5_isSign_0 0 rfl rfl)
theorem dX5_isSign_1 : decode bcX5_isSign 1 = .ok (.getfield 165, 3) := dk_180 0 165 (dk_at dksX5_isSign_0 1 rfl rfl)
theorem dX5_isSign_4 : decode bcX5_isSign 4 = .ok (.ifCond .ne 35, 3) := dk_154 0 35 (dk_at dksX5_isSign_0 4 rfl rfl)
theorem dX5_isSign_7 : decode bcX5_isSign 7 = .ok (.aload_n 0, 1) := dk_42 (dk_at dksX5_isSign_0 7 rfl rfl)
theorem dX5_isSign_8 : decode bcX5_isSign 8 = .ok (.getfield 24, 3) := dk_180 0 24 (dk_at dksX5_isSign_0 8 rfl rfl)
theorem dX5_isSign_11 : decode bcX5_isSign 11 = .ok (.aload_n 0, 1) := dk_42 (dk_at dksX5_isSign_0 11 rfl rfl)
theorem dX5_isSign_12 : decode bcX5_isSign 12 = .ok (.getfield 162, 3) := dk_180 0 162 (dk_at dksX5_isSign_0 12 rfl rfl)
theorem dX5_isSign_15 : decode bcX5_isSign 15 = .ok (.iaload, 1) := dk_46 (dk_at dksX5_isSign_0 15 rfl rfl)
theorem dX5_isSign_16 : decode bcX5_isSign 16 = .ok (.iconst 3, 1) := dk_6 (dk_at dksX5_isSign_0 16 rfl rfl)
theorem dX5_isSign_17 : decode bcX5_isSign 17 = .ok (.if_icmp .ne 22, 3) := dk_160 0 22 (dk_at dksX5_isSign_0 17 rfl rfl)
theorem dX5_isSign_20 : decode bcX5_isSign 20 = .ok (.aload_n 0, 1) := dk_42 (dk_at dksX5_isSign_0 20 rfl rfl)
theorem dX5_isSign_21 : decode bcX5_isSign 21 = .ok (.getfield 30, 3) := dk_180 0 30 (dk_at dksX5_isSign_0 21 rfl rfl)
theorem dX5_isSign_24 : decode bcX5_isSign 24 = .ok (.aload_n 0, 1) := dk_42 (dk_at dksX5_isSign_1 0 rfl rfl)
theorem dX5_isSign_25 : decode bcX5_isSign 25 = .ok (.getfield 162, 3) := dk_180 0 162 (dk_at dksX5_isSign_1 1 rfl rfl)
theorem dX5_isSign_28 : decode bcX5_isSign 28 = .ok (.laload, 1) := dk_47 (dk_at dksX5_isSign_1 4 rfl rfl)
theorem dX5_isSign_29 : decode bcX5_isSign 29 = .ok (.iload_n 1, 1) := dk_27 (dk_at dksX5_isSign_1 5 rfl rfl)
theorem dX5_isSign_30 : decode bcX5_isSign 30 = .ok (.i2l, 1) := dk_133 (dk_at dksX5_isSign_1 6 rfl rfl)
theorem dX5_isSign_31 : decode bcX5_isSign 31 = .ok (.lcmp, 1) := dk_148 (dk_at dksX5_isSign_1 7 rfl rfl)
theorem dX5_isSign_32 : decode bcX5_isSign 32 = .ok (.ifCond .ne 7, 3) := dk_154 0 7 (dk_at dksX5_isSign_1 8 rfl rfl)
theorem dX5_isSign_35 : decode bcX5_isSign 35 = .ok (.iconst 1, 1) := dk_4 (dk_at dksX5_isSign_1 11 rfl rfl)
theorem dX5_isSign_36 : decode bcX5_isSign 36 = .ok (.goto 4, 3) := dk_167 0 4 (dk_at dksX5_isSign_1 12 rfl rfl)
theorem dX5_isSign_39 : decode bcX5_isSign 39 = .ok (.iconst 0, 1) := dk_3 (dk_at dksX5_isSign_1 15 rfl rfl)
theorem dX5_isSign_40 : decode bcX5_isSign 40 = .ok (.ireturn, 1) := dk_172 (dk_at dksX5_isSign_1 16 rfl rfl)
abbrev SX5_isSign (pc : Nat) (i : xI) : Prop := Snd "SwollenHouseModel" "isSign" prog_25_method_11_code 2 (Option.some Jvm.ClassFile.FieldType.boolean) [] pc i
theorem oX5_isSign_0 : SX5_isSign 0 (i_aload 0 1) := snd_aload_n dX5_isSign_0 rfl
theorem oX5_isSign_1 : SX5_isSign 1 (i_getf 4 8 4) := snd_getf dX5_isSign_1 rfl (by decide) in_X5 (Or.inl q1706) (Or.inl rfl) (by decide)
theorem oX5_isSign_4 : SX5_isSign 4 (i_if1 (fun x => ¬ x = 0) 39 7) := snd_if_ne dX5_isSign_4 (by decide)
theorem oX5_isSign_7 : SX5_isSign 7 (i_aload 0 8) := snd_aload_n dX5_isSign_7 rfl
theorem oX5_isSign_8 : SX5_isSign 8 (i_getf 4 4 11) := snd_getf dX5_isSign_8 rfl (by decide) in_X5 (Or.inl q1702) (Or.inl rfl) (by decide)
theorem oX5_isSign_11 : SX5_isSign 11 (i_aload 0 12) := snd_aload_n dX5_isSign_11 rfl
theorem oX5_isSign_12 : SX5_isSign 12 (i_getf 4 7 15) := snd_getf dX5_isSign_12 rfl (by decide) in_X5 (Or.inl q1705) (Or.inl rfl) (by decide)
theorem oX5_isSign_15 : SX5_isSign 15 (i_ai 0 16) := snd_ai0 dX5_isSign_15
theorem oX5_isSign_16 : SX5_isSign 16 (i_const (.int (nI 3)) 17) := snd_iconst dX5_isSign_16 (by decide)
theorem oX5_isSign_17 : SX5_isSign 17 (i_if2 (fun x y => ¬ x = y) 39 20) := snd_icmp_ne dX5_isSign_17 (by decide)
theorem oX5_isSign_20 : SX5_isSign 20 (i_aload 0 21) := snd_aload_n dX5_isSign_20 rfl
theorem oX5_isSign_21 : SX5_isSign 21 (i_getf 4 6 24) := snd_getf dX5_isSign_21 rfl (by decide) in_X5 (Or.inl q1704) (Or.inl rfl) (by decide)
theorem oX5_isSign_24 : SX5_isSign 24 (i_aload 0 25) := snd_aload_n dX5_isSign_24 rfl
theorem oX5_isSign_25 : SX5_isSign 25 (i_getf 4 7 28) := snd_getf dX5_isSign_25 rfl (by decide) in_X5 (Or.inl q1705) (Or.inl rfl) (by decide)
theorem oX5_isSign_28 : SX5_isSign 28 (i_al 3 29) := snd_al3 dX5_isSign_28
theorem oX5_isSign_29 : SX5_isSign 29 (i_iload 1 30) := snd_iload_n dX5_isSign_29 rfl
theorem oX5_isSign_30 : SX5_isSign 30 (i_i2l 31) := snd_i2l dX5_isSign_30
theorem oX5_isSign_31 : SX5_isSign 31 (i_lcmp 32) := snd_lcmp dX5_isSign_31
theorem oX5_isSign_32 : SX5_isSign 32 (i_if1 (fun x => ¬ x = 0) 39 35) := snd_if_ne dX5_isSign_32 (by decide)
theorem oX5_isSign_35 : SX5_isSign 35 (i_const (.int (nI 1)) 36) := snd_iconst dX5_isSign_35 (by decide)
theorem oX5_isSign_36 : SX5_isSign 36 (i_goto 40) := snd_goto dX5_isSign_36 (by decide)
theorem oX5_isSign_39 : SX5_isSign 39 (i_const (.int (nI 0)) 40) := snd_iconst dX5_isSign_39 (by decide)
theorem oX5_isSign_40 : SX5_isSign 40 (i_zret) := snd_zret dX5_isSign_40 rfl
theorem okX5_isSign : ∀ q ∈ cX5_isSign, SX5_isSign q.1 q.2 := List.forall_mem_cons.mpr ⟨oX5_isSign_0, List.forall_mem_cons.mpr ⟨oX5_isSign_1, List.forall_mem_cons.mpr ⟨oX5_isSign_4, List.forall_mem_cons.mpr ⟨oX5_isSign_7, List.forall_mem_cons.mpr ⟨oX5_isSign_8, List.forall_mem_cons.mpr ⟨oX5_isSign_11, List.forall_mem_cons.mpr ⟨oX5_isSign_12, List.forall_mem_cons.mpr ⟨oX5_isSign_15, List.forall_mem_cons.mpr ⟨oX5_isSign_16, List.forall_mem_cons.mpr ⟨oX5_isSign_17, List.forall_mem_cons.mpr ⟨oX5_isSign_20, List.forall_mem_cons.mpr ⟨oX5_isSign_21, List.forall_mem_cons.mpr ⟨oX5_isSign_24, List.forall_mem_cons.mpr ⟨oX5_isSign_25, List.forall_mem_cons.mpr ⟨oX5_isSign_28, List.forall_mem_cons.mpr ⟨oX5_isSign_29, List.forall_mem_cons.mpr ⟨oX5_isSign_30, List.forall_mem_cons.mpr ⟨oX5_isSign_31, List.forall_mem_cons.mpr ⟨oX5_isSign_32, List.forall_mem_cons.mpr ⟨oX5_isSign_35, List.forall_mem_cons.mpr ⟨oX5_isSign_36, List.forall_mem_cons.mpr ⟨oX5_isSign_39, List.forall_mem_cons.mpr ⟨oX5_isSign_40, fun _ h => absurd h List.not_mem_nil⟩⟩⟩⟩⟩⟩⟩⟩⟩⟩⟩⟩⟩⟩⟩⟩⟩⟩⟩⟩⟩⟩⟩
def dkwX5_emit_1 : List UInt8 := [180, 0, 211, 96, 28, 79, 42, 89, 180, 0, 211, 4, 96, 181, 0, 211, 177]
abbrev dktX5_emit_1 : List UInt8 := dkwX5_emit_1 ++ []
def dkwX5_emit_0 : List UInt8 := [42, 180, 0, 86, 17, 4, 76, 42, 180, 0, 211, 96, 27, 79, 42, 180, 0, 89, 17, 4, 76, 42]
abbrev dktX5_emit_0 : List UInt8 := dkwX5_emit_0 ++ dktX5_emit_1
theorem dksX5_emit_0 : bcX5_emit.data.toList.drop 0 = dktX5_emit_0 := by decide +kernel
theorem dksX5_emit_1 : bcX5_emit.data.toList.drop 22 = dktX5_emit_1 := dk_seg dksX5_emit_0 22 rfl rfl
theorem dX5_emit_0 : decode bcX5_emit 0 = .ok (.aload_n 0, 1) := dk_42 (dk_at dksX5_emit_0 0 rfl rfl)
theorem dX5_emit_1 : decode bcX5_emit 1 = .ok (.getfield 86, 3) := dk_180 0 86 (dk_at dksX5_emit_0 1 rfl rfl)
theorem dX5_emit_4 : decode bcX5_emit 4 = .ok (.sipush 1100, 3) := dk_17 4 76 (dk_at dksX5_emit_0 4 rfl rfl)
theorem dX5_emit_7 : decode bcX5_emit 7 = .ok (.aload_n 0, 1) := dk_42 (dk_at dksX5_emit_0 7 rfl rfl)
theorem dX5_emit_8 : decode bcX5_emit 8 = .ok (.getfield 211, 3) := dk_180 0 211 (dk_at dksX5_emit_0 8 rfl rfl)
theorem dX5_emit_11 : decode bcX5_emit 11 = .ok (.iadd, 1) := dk_96 (dk_at dksX5_emit_0 11 rfl rfl)
theorem dX5_emit_12 : decode bcX5_emit 12 = .ok (.iload_n 1, 1) := dk_27 (dk_at dksX5_emit_0 12 rfl rfl)
theorem dX5_emit_13 : decode bcX5_emit 13 = .ok (.iastore, 1) := dk_79 (dk_at dksX5_emit_0 13 rfl rfl)
theorem dX5_emit_14 : decode bcX5_emit 14 = .ok (.aload_n 0, 1) := dk_42 (dk_at dksX5_emit_0 14 rfl rfl)
theorem dX5_emit_15 : decode bcX5_emit 15 = .ok (.getfield 89, 3) := dk_180 0 89 (dk_at dksX5_emit_0 15 rfl rfl)
theorem dX5_emit_18 : decode bcX5_emit 18 = .ok (.sipush 1100, 3) := dk_17 4 76 (dk_at dksX5_emit_0 18 rfl rfl)
theorem dX5_emit_21 : decode bcX5_emit 21 = .ok (.aload_n 0, 1) := dk_42 (dk_at dksX5_emit_0 21 rfl rfl)
theorem dX5_emit_22 : decode bcX5_emit 22 = .ok (.getfield 211, 3) := dk_180 0 211 (dk_at dksX5_emit_1 0 rfl rfl)
theorem dX5_emit_25 : decode bcX5_emit 25 = .ok (.iadd, 1) := dk_96 (dk_at dksX5_emit_1 3 rfl rfl)
theorem dX5_emit_26 : decode bcX5_emit 26 = .ok (.iload_n 2, 1) := dk_28 (dk_at dksX5_emit_1 4 rfl rfl)
theorem dX5_emit_27 : decode bcX5_emit 27 = .ok (.iastore, 1) := dk_79 (dk_at dksX5_emit_1 5 rfl rfl)
theorem dX5_emit_28 : decode bcX5_emit 28 = .ok (.aload_n 0, 1) := dk_42 (dk_at dksX5_emit_1 6 rfl rfl)
theorem dX5_emit_29 : decode bcX5_emit 29 = .ok (.dup, 1) := dk_89 (dk_at dksX5_emit_1 7 rfl rfl)
theorem dX5_emit_30 : decode bcX5_emit 30 = .ok (.getfield 211, 3) := dk_180 0 211 (dk_at dksX5_emit_1 8 rfl rfl)
theorem dX5_emit_33 : decode bcX5_emit 33 = .ok (.iconst 1, 1) := dk_4 (dk_at dksX5_emit_1 11 rfl rfl)
theorem dX5_emit_34 : decode bcX5_emit 34 = .ok (.iadd, 1) := dk_96 (dk_at dksX5_emit_1 12 rfl rfl)
theorem dX5_emit_35 : decode bcX5_emit 35 = .ok (.putfield 211, 3) := dk_181 0 211 (dk_at dksX5_emit_1 13 rfl rfl)
theorem dX5_emit_38 : decode bcX5_emit 38 = .ok (.return_, 1) := dk_177 (dk_at dksX5_emit_1 16 rfl rfl)
abbrev SX5_emit (pc : Nat) (i : xI) : Prop := Snd "SwollenHouseModel" "emit" prog_25_method_33_code 3 (Option.none : Option Jvm.ClassFile.FieldType) [] pc i
theorem oX5_emit_0 : SX5_emit 0 (i_aload 0 1) := snd_aload_n dX5_emit_0 rfl
theorem oX5_emit_1 : SX5_emit 1 (i_getf 4 11 4) := snd_getf dX5_emit_1 rfl (by decide) in_X5 (Or.inl q1709) (Or.inl rfl) (by decide)
theorem oX5_emit_4 : SX5_emit 4 (i_const (.int (nI 1100)) 7) := snd_sipush dX5_emit_4 (by decide)
theorem oX5_emit_7 : SX5_emit 7 (i_aload 0 8) := snd_aload_n dX5_emit_7 rfl
theorem oX5_emit_8 : SX5_emit 8 (i_getf 4 13 11) := snd_getf dX5_emit_8 rfl (by decide) in_X5 (Or.inl q1711) (Or.inl rfl) (by decide)
theorem oX5_emit_11 : SX5_emit 11 (i_ii (fun x y => x + y) 12) := snd_iadd dX5_emit_11
theorem oX5_emit_12 : SX5_emit 12 (i_iload 1 13) := snd_iload_n dX5_emit_12 rfl
theorem oX5_emit_13 : SX5_emit 13 (i_si (fun v => v) 0 14) := snd_si0 dX5_emit_13
theorem oX5_emit_14 : SX5_emit 14 (i_aload 0 15) := snd_aload_n dX5_emit_14 rfl
theorem oX5_emit_15 : SX5_emit 15 (i_getf 4 12 18) := snd_getf dX5_emit_15 rfl (by decide) in_X5 (Or.inl q1710) (Or.inl rfl) (by decide)
theorem oX5_emit_18 : SX5_emit 18 (i_const (.int (nI 1100)) 21) := snd_sipush dX5_emit_18 (by decide)
theorem oX5_emit_21 : SX5_emit 21 (i_aload 0 22) := snd_aload_n dX5_emit_21 rfl
theorem oX5_emit_22 : SX5_emit 22 (i_getf 4 13 25) := snd_getf dX5_emit_22 rfl (by decide) in_X5 (Or.inl q1711) (Or.inl rfl) (by decide)
theorem oX5_emit_25 : SX5_emit 25 (i_ii (fun x y => x + y) 26) := snd_iadd dX5_emit_25
theorem oX5_emit_26 : SX5_emit 26 (i_iload 2 27) := snd_iload_n dX5_emit_26 rfl
theorem oX5_emit_27 : SX5_emit 27 (i_si (fun v => v) 0 28) := snd_si0 dX5_emit_27
theorem oX5_emit_28 : SX5_emit 28 (i_aload 0 29) := snd_aload_n dX5_emit_28 rfl
theorem oX5_emit_29 : SX5_emit 29 (i_dup 30) := snd_dup dX5_emit_29
theorem oX5_emit_30 : SX5_emit 30 (i_getf 4 13 33) := snd_getf dX5_emit_30 rfl (by decide) in_X5 (Or.inl q1711) (Or.inl rfl) (by decide)
theorem oX5_emit_33 : SX5_emit 33 (i_const (.int (nI 1)) 34) := snd_iconst dX5_emit_33 (by decide)
theorem oX5_emit_34 : SX5_emit 34 (i_ii (fun x y => x + y) 35) := snd_iadd dX5_emit_34
theorem oX5_emit_35 : SX5_emit 35 (i_putfi 4 13 38) := snd_putfi dX5_emit_35 rfl (by decide) in_X5 tyX5 tyX5_ok nmX5 (Or.inl ⟨rfl, q1711⟩) (Or.inl rfl) rfl
theorem oX5_emit_38 : SX5_emit 38 (i_vret) := snd_vret dX5_emit_38 rfl
theorem okX5_emit : ∀ q ∈ cX5_emit, SX5_emit q.1 q.2 := List.forall_mem_cons.mpr ⟨oX5_emit_0, List.forall_mem_cons.mpr ⟨oX5_emit_1, List.forall_mem_cons.mpr ⟨oX5_emit_4, List.forall_mem_cons.mpr ⟨oX5_emit_7, List.forall_mem_cons.mpr ⟨oX5_emit_8, List.forall_mem_cons.mpr ⟨oX5_emit_11, List.forall_mem_cons.mpr ⟨oX5_emit_12, List.forall_mem_cons.mpr ⟨oX5_emit_13, List.forall_mem_cons.mpr ⟨oX5_emit_14, List.forall_mem_cons.mpr ⟨oX5_emit_15, List.forall_mem_cons.mpr ⟨oX5_emit_18, List.forall_mem_cons.mpr ⟨oX5_emit_21, List.forall_mem_cons.mpr ⟨oX5_emit_22, List.forall_mem_cons.mpr ⟨oX5_emit_25, List.forall_mem_cons.mpr ⟨oX5_emit_26, List.forall_mem_cons.mpr ⟨oX5_emit_27, List.forall_mem_cons.mpr ⟨oX5_emit_28, List.forall_mem_cons.mpr ⟨oX5_emit_29, List.forall_mem_cons.mpr ⟨oX5_emit_30, List.forall_mem_cons.mpr ⟨oX5_emit_33, List.forall_mem_cons.mpr ⟨oX5_emit_34, List.forall_mem_cons.mpr ⟨oX5_emit_35, List.forall_mem_cons.mpr ⟨oX5_emit_38, fun _ h => absurd h List.not_mem_nil⟩⟩⟩⟩⟩⟩⟩⟩⟩⟩⟩⟩⟩⟩⟩⟩⟩⟩⟩⟩⟩⟩⟩
def dkwX5_hasSign_1 : List UInt8 := [28, 172]
abbrev dktX5_hasSign_1 : List UInt8 := dkwX5_hasSign_1 ++ []
def dkwX5_hasSign_0 : List UInt8 := [42, 27, 182, 0, 168, 61, 42, 89, 180, 0, 162, 28, 153, 0, 7, 4, 167, 0, 4, 3, 96, 181, 0, 162]
abbrev dktX5_hasSign_0 : List UInt8 := dkwX5_hasSign_0 ++ dktX5_hasSign_1
theorem dksX5_hasSign_0 : bcX5_hasSign.data.toList.drop 0 = dktX5_hasSign_0 := by decide +kernel
theorem dksX5_hasSign_1 : bcX5_hasSign.data.toList.drop 24 = dktX5_hasSign_1 := dk_seg dksX5_hasSign_0 24 rfl rfl
theorem dX5_hasSign_0 : decode bcX5_hasSign 0 = .ok (.aload_n 0, 1) := dk_42 (dk_at dksX5_hasSign_0 0 rfl rfl)
theorem dX5_hasSign_1 : decode bcX5_hasSign 1 = .ok (.iload_n 1, 1) := dk_27 (dk_at dksX5_hasSign_0 1 rfl rfl)
theorem dX5_hasSign_2 : decode bcX5_hasSign 2 = .ok (.invokevirtual 168, 3) := dk_182 0 168 (dk_at dksX5_hasSign_0 2 rfl rfl)
theorem dX5_hasSign_5 : decode bcX5_hasSign 5 = .ok (.istore_n 2, 1) := dk_61 (dk_at dksX5_hasSign_0 5 rfl rfl)
theorem dX5_hasSign_6 : decode bcX5_hasSign 6 = .ok (.aload_n 0, 1) := dk_42 (dk_at dksX5_hasSign_0 6 rfl rfl)
theorem dX5_hasSign_7 : decode bcX5_hasSign 7 = .ok (.dup, 1) := dk_89 (dk_at dksX5_hasSign_0 7 rfl rfl)
theorem dX5_hasSign_8 : decode bcX5_hasSign 8 = .ok (.getfield 162, 3) := dk_180 0 162 (dk_at dksX5_hasSign_0 8 rfl rfl)
theorem dX5_hasSign_11 : decode bcX5_hasSign 11 = .ok (.iload_n 2, 1) := dk_28 (dk_at dksX5_hasSign_0 11 rfl rfl)
theorem dX5_hasSign_12 : decode bcX5_hasSign 12 = .ok (.ifCond .eq 7, 3) := dk_153 0 7 (dk_at dksX5_hasSign_0 12 rfl rfl)
theorem dX5_hasSign_15 : decode bcX5_hasSign 15 = .ok (.iconst 1, 1) := dk_4 (dk_at dksX5_hasSign_0 15 rfl rfl)
theorem dX5_hasSign_16 : decode bcX5_hasSign 16 = .ok (.goto 4, 3) := dk_167 0 4 (dk_at dksX5_hasSign_0 16 rfl rfl)
theorem dX5_hasSign_19 : decode bcX5_hasSign 19 = .ok (.iconst 0, 1) := dk_3 (dk_at dksX5_hasSign_0 19 rfl rfl)
theorem dX5_hasSign_20 : decode bcX5_hasSign 20 = .ok (.iadd, 1) := dk_96 (dk_at dksX5_hasSign_0 20 rfl rfl)
theorem dX5_hasSign_21 : decode bcX5_hasSign 21 = .ok (.putfield 162, 3) := dk_181 0 162 (dk_at dksX5_hasSign_0 21 rfl rfl)
theorem dX5_hasSign_24 : decode bcX5_hasSign 24 = .ok (.iload_n 2, 1) := dk_28 (dk_at dksX5_hasSign_1 0 rfl rfl)
theorem dX5_hasSign_25 : decode bcX5_hasSign 25 = .ok (.ireturn, 1) := dk_172 (dk_at dksX5_hasSign_1 1 rfl rfl)
abbrev SX5_hasSign (pc : Nat) (i : xI) : Prop := Snd "SwollenHouseModel" "hasSign" prog_25_method_14_code 3 (Option.some Jvm.ClassFile.FieldType.boolean) [] pc i
theorem oX5_hasSign_0 : SX5_hasSign 0 (i_aload 0 1) := snd_aload_n dX5_hasSign_0 rfl
theorem oX5_hasSign_1 : SX5_hasSign 1 (i_iload 1 2) := snd_iload_n dX5_hasSign_1 rfl
theorem oX5_hasSign_2 : SX5_hasSign 2 (i_cv 4 281 1 5) := snd_cv rfl infX5_isSign (by decide) rfl (xVm_V dX5_hasSign_2 rfl q1906 q1908 qs85 q136 q1909 pdX5_isSign)
theorem oX5_hasSign_5 : SX5_hasSign 5 (i_istore 2 6) := snd_istore_n dX5_hasSign_5 rfl (by decide)
theorem oX5_hasSign_6 : SX5_hasSign 6 (i_aload 0 7) := snd_aload_n dX5_hasSign_6 rfl
theorem oX5_hasSign_7 : SX5_hasSign 7 (i_dup 8) := snd_dup dX5_hasSign_7
theorem oX5_hasSign_8 : SX5_hasSign 8 (i_getf 4 7 11) := snd_getf dX5_hasSign_8 rfl (by decide) in_X5 (Or.inl q1705) (Or.inl rfl) (by decide)
theorem oX5_hasSign_11 : SX5_hasSign 11 (i_iload 2 12) := snd_iload_n dX5_hasSign_11 rfl
theorem oX5_hasSign_12 : SX5_hasSign 12 (i_if1 (fun x => x = 0) 19 15) := snd_if_eq dX5_hasSign_12 (by decide)
theorem oX5_hasSign_15 : SX5_hasSign 15 (i_const (.int (nI 1)) 16) := snd_iconst dX5_hasSign_15 (by decide)
theorem oX5_hasSign_16 : SX5_hasSign 16 (i_goto 20) := snd_goto dX5_hasSign_16 (by decide)
theorem oX5_hasSign_19 : SX5_hasSign 19 (i_const (.int (nI 0)) 20) := snd_iconst dX5_hasSign_19 (by decide)
theorem oX5_hasSign_20 : SX5_hasSign 20 (i_ii (fun x y => x + y) 21) := snd_iadd dX5_hasSign_20
theorem oX5_hasSign_21 : SX5_hasSign 21 (i_putfi 4 7 24) := snd_putfi dX5_hasSign_21 rfl (by decide) in_X5 tyX5 tyX5_ok nmX5 (Or.inl ⟨rfl, q1705⟩) (Or.inl rfl) rfl
theorem oX5_hasSign_24 : SX5_hasSign 24 (i_iload 2 25) := snd_iload_n dX5_hasSign_24 rfl
theorem oX5_hasSign_25 : SX5_hasSign 25 (i_zret) := snd_zret dX5_hasSign_25 rfl
theorem okX5_hasSign : ∀ q ∈ cX5_hasSign, SX5_hasSign q.1 q.2 := List.forall_mem_cons.mpr ⟨oX5_hasSign_0, List.forall_mem_cons.mpr ⟨oX5_hasSign_1, List.forall_mem_cons.mpr ⟨oX5_hasSign_2, List.forall_mem_cons.mpr ⟨oX5_hasSign_5, List.forall_mem_cons.mpr ⟨oX5_hasSign_6, List.forall_mem_cons.mpr ⟨oX5_hasSign_7, List.forall_mem_cons.mpr ⟨oX5_hasSign_8, List.forall_mem_cons.mpr ⟨oX5_hasSign_11, List.forall_mem_cons.mpr ⟨oX5_hasSign_12, List.forall_mem_cons.mpr ⟨oX5_hasSign_15, List.forall_mem_cons.mpr ⟨oX5_hasSign_16, List.forall_mem_cons.mpr ⟨oX5_hasSign_19, List.forall_mem_cons.mpr ⟨oX5_hasSign_20, List.forall_mem_cons.mpr ⟨oX5_hasSign_21, List.forall_mem_cons.mpr ⟨oX5_hasSign_24, List.forall_mem_cons.mpr ⟨oX5_hasSign_25, fun _ h => absurd h List.not_mem_nil⟩⟩⟩⟩⟩⟩⟩⟩⟩⟩⟩⟩⟩⟩⟩⟩
def dkwX5_takeSign_1 : List UInt8 := [182, 0, 171, 177]
abbrev dktX5_takeSign_1 : List UInt8 := dkwX5_takeSign_1 ++ []
def dkwX5_takeSign_0 : List UInt8 := [42, 27, 182, 0, 168, 153, 0, 16, 42, 89, 180, 0, 162, 4, 96, 181, 0, 162, 167, 0, 8, 42, 4]
abbrev dktX5_takeSign_0 : List UInt8 := dkwX5_takeSign_0 ++ dktX5_takeSign_1
theorem dksX5_takeSign_0 : bcX5_takeSign.data.toList.drop 0 = dktX5_takeSign_0 := by decide +kernel
theorem dksX5_takeSign_1 : bcX5_takeSign.data.toList.drop 23 = dktX5_takeSign_1 := dk_seg dksX5_takeSign_0 23 rfl rfl
theorem dX5_takeSign_0 : decode bcX5_takeSign 0 = .ok (.aload_n 0, 1) := dk_42 (dk_at dksX5_takeSign_0 0 rfl rfl)
theorem dX5_takeSign_1 : decode bcX5_takeSign 1 = .ok (.iload_n 1, 1) := dk_27 (dk_at dksX5_takeSign_0 1 rfl rfl)
theorem dX5_takeSign_2 : decode bcX5_takeSign 2 = .ok (.invokevirtual 168, 3) := dk_182 0 168 (dk_at dksX5_takeSign_0 2 rfl rfl)
theorem dX5_takeSign_5 : decode bcX5_takeSign 5 = .ok (.ifCond .eq 16, 3) := dk_153 0 16 (dk_at dksX5_takeSign_0 5 rfl rfl)
theorem dX5_takeSign_8 : decode bcX5_takeSign 8 = .ok (.aload_n 0, 1) := dk_42 (dk_at dksX5_takeSign_0 8 rfl rfl)
theorem dX5_takeSign_9 : decode bcX5_takeSign 9 = .ok (.dup, 1) := dk_89 (dk_at dksX5_takeSign_0 9 rfl rfl)
theorem dX5_takeSign_10 : decode bcX5_takeSign 10 = .ok (.getfield 162, 3) := dk_180 0 162 (dk_at dksX5_takeSign_0 10 rfl rfl)
theorem dX5_takeSign_13 : decode bcX5_takeSign 13 = .ok (.iconst 1, 1) := dk_4 (dk_at dksX5_takeSign_0 13 rfl rfl)
theorem dX5_takeSign_14 : decode bcX5_takeSign 14 = .ok (.iadd, 1) := dk_96 (dk_at dksX5_takeSign_0 14 rfl rfl)
theorem dX5_takeSign_15 : decode bcX5_takeSign 15 = .ok (.putfield 162, 3) := dk_181 0 162 (dk_at dksX5_takeSign_0 15 rfl rfl)
theorem dX5_takeSign_18 : decode bcX5_takeSign 18 = .ok (.goto 8, 3) := dk_167 0 8 (dk_at dksX5_takeSign_0 18 rfl rfl)
theorem dX5_takeSign_21 : decode bcX5_takeSign 21 = .ok (.aload_n 0, 1) := dk_42 (dk_at dksX5_takeSign_0 21 rfl rfl)
theorem dX5_takeSign_22 : decode bcX5_takeSign 22 = .ok (.iconst 1, 1) := dk_4 (dk_at dksX5_takeSign_0 22 rfl rfl)
theorem dX5_takeSign_23 : decode bcX5_takeSign 23 = .ok (.invokevirtual 171, 3) := dk_182 0 171 (dk_at dksX5_takeSign_1 0 rfl rfl)
theorem dX5_takeSign_26 : decode bcX5_takeSign 26 = .ok (.return_, 1) := dk_177 (dk_at dksX5_takeSign_1 3 rfl rfl)
abbrev SX5_takeSign (pc : Nat) (i : xI) : Prop := Snd "SwollenHouseModel" "takeSign" prog_25_method_13_code 2 (Option.none : Option Jvm.ClassFile.FieldType) [] pc i
theorem oX5_takeSign_0 : SX5_takeSign 0 (i_aload 0 1) := snd_aload_n dX5_takeSign_0 rfl
theorem oX5_takeSign_1 : SX5_takeSign 1 (i_iload 1 2) := snd_iload_n dX5_takeSign_1 rfl
theorem oX5_takeSign_2 : SX5_takeSign 2 (i_cv 4 281 1 5) := snd_cv rfl infX5_isSign (by decide) rfl (xVm_V dX5_takeSign_2 rfl q1906 q1908 qs85 q136 q1909 pdX5_isSign)
theorem oX5_takeSign_5 : SX5_takeSign 5 (i_if1 (fun x => x = 0) 21 8) := snd_if_eq dX5_takeSign_5 (by decide)
theorem oX5_takeSign_8 : SX5_takeSign 8 (i_aload 0 9) := snd_aload_n dX5_takeSign_8 rfl
theorem oX5_takeSign_9 : SX5_takeSign 9 (i_dup 10) := snd_dup dX5_takeSign_9
theorem oX5_takeSign_10 : SX5_takeSign 10 (i_getf 4 7 13) := snd_getf dX5_takeSign_10 rfl (by decide) in_X5 (Or.inl q1705) (Or.inl rfl) (by decide)
theorem oX5_takeSign_13 : SX5_takeSign 13 (i_const (.int (nI 1)) 14) := snd_iconst dX5_takeSign_13 (by decide)
theorem oX5_takeSign_14 : SX5_takeSign 14 (i_ii (fun x y => x + y) 15) := snd_iadd dX5_takeSign_14
theorem oX5_takeSign_15 : SX5_takeSign 15 (i_putfi 4 7 18) := snd_putfi dX5_takeSign_15 rfl (by decide) in_X5 tyX5 tyX5_ok nmX5 (Or.inl ⟨rfl, q1705⟩) (Or.inl rfl) rfl
theorem oX5_takeSign_18 : SX5_takeSign 18 (i_goto 26) := snd_goto dX5_takeSign_18 (by decide)
theorem oX5_takeSign_21 : SX5_takeSign 21 (i_aload 0 22) := snd_aload_n dX5_takeSign_21 rfl
theorem oX5_takeSign_22 : SX5_takeSign 22 (i_const (.int (nI 1)) 23) := snd_iconst dX5_takeSign_22 (by decide)
theorem oX5_takeSign_23 : SX5_takeSign 23 (i_cvv 4 262 1 26) := snd_cvv rfl infX5_wrong (by decide) rfl (xVm_V dX5_takeSign_23 rfl q1831 q1833 qs67 q136 q1834 pdX5_wrong)
theorem oX5_takeSign_26 : SX5_takeSign 26 (i_vret) := snd_vret dX5_takeSign_26 rfl
theorem okX5_takeSign : ∀ q ∈ cX5_takeSign, SX5_takeSign q.1 q.2 := List.forall_mem_cons.mpr ⟨oX5_takeSign_0, List.forall_mem_cons.mpr ⟨oX5_takeSign_1, List.forall_mem_cons.mpr ⟨oX5_takeSign_2, List.forall_mem_cons.mpr ⟨oX5_takeSign_5, List.forall_mem_cons.mpr ⟨oX5_takeSign_8, List.forall_mem_cons.mpr ⟨oX5_takeSign_9, List.forall_mem_cons.mpr ⟨oX5_takeSign_10, List.forall_mem_cons.mpr ⟨oX5_takeSign_13, List.forall_mem_cons.mpr ⟨oX5_takeSign_14, List.forall_mem_cons.mpr ⟨oX5_takeSign_15, List.forall_mem_cons.mpr ⟨oX5_takeSign_18, List.forall_mem_cons.mpr ⟨oX5_takeSign_21, List.forall_mem_cons.mpr ⟨oX5_takeSign_22, List.forall_mem_cons.mpr ⟨oX5_takeSign_23, List.forall_mem_cons.mpr ⟨oX5_takeSign_26, fun _ h => absurd h List.not_mem_nil⟩⟩⟩⟩⟩⟩⟩⟩⟩⟩⟩⟩⟩⟩⟩
def dkwX5_days_8 : List UInt8 := [96, 46, 79, 132, 2, 1, 167, 255, 229, 3, 172]
abbrev dktX5_days_8 : List UInt8 := dkwX5_days_8 ++ []
def dkwX5_days_7 : List UInt8 := [79, 3, 61, 28, 6, 27, 104, 162, 0, 26, 42, 180, 0, 104, 4, 28, 96, 42, 180, 0, 104, 16, 125, 28]
abbrev dktX5_days_7 : List UInt8 := dkwX5_days_7 ++ dktX5_days_8
def dkwX5_days_6 : List UInt8 := [182, 0, 220, 167, 255, 122, 42, 180, 0, 165, 158, 0, 8, 42, 180, 0, 165, 172, 42, 180, 0, 104, 3, 27]
abbrev dktX5_days_6 : List UInt8 := dkwX5_days_6 ++ dktX5_days_7
def dkwX5_days_5 : List UInt8 := [96, 28, 154, 0, 7, 3, 167, 0, 10, 42, 3, 16, 7, 182, 0, 183, 79, 132, 1, 1, 42, 16, 59]
abbrev dktX5_days_5 : List UInt8 := dkwX5_days_5 ++ dktX5_days_6
def dkwX5_days_4 : List UInt8 := [28, 4, 160, 0, 14, 42, 3, 16, 20, 3, 182, 0, 230, 167, 0, 4, 3, 79, 42, 180, 0, 104, 29, 4]
abbrev dktX5_days_4 : List UInt8 := dkwX5_days_4 ++ dktX5_days_5
def dkwX5_days_3 : List UInt8 := [181, 0, 162, 16, 125, 6, 27, 104, 96, 62, 42, 180, 0, 104, 29, 28, 79, 42, 180, 0, 104, 29, 5, 96]
abbrev dktX5_days_3 : List UInt8 := dkwX5_days_3 ++ dktX5_days_4
def dkwX5_days_2 : List UInt8 := [167, 0, 92, 27, 16, 40, 160, 0, 11, 42, 8, 182, 0, 171, 167, 0, 78, 42, 89, 180, 0, 162, 4, 96]
abbrev dktX5_days_2 : List UInt8 := dkwX5_days_2 ++ dktX5_days_3
def dkwX5_days_1 : List UInt8 := [180, 0, 162, 46, 153, 0, 121, 42, 16, 7, 8, 182, 0, 187, 61, 28, 156, 0, 11, 42, 4, 182, 0, 171]
abbrev dktX5_days_1 : List UInt8 := dkwX5_days_1 ++ dktX5_days_2
def dkwX5_days_0 : List UInt8 := [42, 3, 181, 0, 1, 42, 182, 0, 208, 3, 60, 42, 180, 0, 165, 154, 0, 133, 42, 180, 0, 24, 42]
abbrev dktX5_days_0 : List UInt8 := dkwX5_days_0 ++ dktX5_days_1
theorem dksX5_days_0 : bcX5_days.data.toList.drop 0 = dktX5_days_0 := by decide +kernel
theorem dksX5_days_1 : bcX5_days.data.toList.drop 23 = dktX5_days_1 := dk_seg dksX5_days_0 23 rfl rfl
theorem dksX5_days_2 : bcX5_days.data.toList.drop 47 = dktX5_days_2 := dk_seg dksX5_days_1 24 rfl rfl
theorem dksX5_days_3 : bcX5_days.data.toList.drop 71 = dktX5_days_3 := dk_seg dksX5_days_2 24 rfl rfl
theorem dksX5_days_4 : bcX5_days.data.toList.drop 95 = dktX5_days_4 := dk_seg dksX5_days_3 24 rfl rfl
theorem dksX5_days_5 : bcX5_days.data.toList.drop 119 = dktX5_days_5 := dk_seg dksX5_days_4 24 rfl rfl
theorem dksX5_days_6 : bcX5_days.data.toList.drop 142 = dktX5_days_6 := dk_seg dksX5_days_5 23 rfl rfl
theorem dksX5_days_7 : bcX5_days.data.toList.drop 166 = dktX5_days_7 := dk_seg dksX5_days_6 24 rfl rfl
theorem dksX5_days_8 : bcX5_days.data.toList.drop 190 = dktX5_days_8 := dk_seg dksX5_days_7 24 rfl rfl
theorem dX5_days_0 : decode bcX5_days 0 = .ok (.aload_n 0, 1) := dk_42 (dk_at dksX5_days_0 0 rfl rfl)
theorem dX5_days_1 : decode bcX5_days 1 = .ok (.iconst 0, 1) := dk_3 (dk_at dksX5_days_0 1 rfl rfl)
theorem dX5_days_2 : decode bcX5_days 2 = .ok (.putfield 1, 3) := dk_181 0 1 (dk_at dksX5_days_0 2 rfl rfl)
theorem dX5_days_5 : decode bcX5_days 5 = .ok (.aload_n 0, 1) := dk_42 (dk_at dksX5_days_0 5 rfl rfl)
theorem dX5_days_6 : decode bcX5_days 6 = .ok (.invokevirtual 208, 3) := dk_182 0 208 (dk_at dksX5_days_0 6 rfl rfl)
theorem dX5_days_9 : decode bcX5_days 9 = .ok (.iconst 0, 1) := dk_3 (dk_at dksX5_days_0 9 rfl rfl)
theorem dX5_days_10 : decode bcX5_days 10 = .ok (.istore_n 1, 1) := dk_60 (dk_at dksX5_days_0 10 rfl rfl)
theorem dX5_days_11 : decode bcX5_days 11 = .ok (.aload_n 0, 1) := dk_42 (dk_at dksX5_days_0 11 rfl rfl)
theorem dX5_days_12 : decode bcX5_days 12 = .ok (.getfield 165, 3) := dk_180 0 165 (dk_at dksX5_days_0 12 rfl rfl)
theorem dX5_days_15 : decode bcX5_days 15 = .ok (.ifCond .ne 133, 3) := dk_154 0 133 (dk_at dksX5_days_0 15 rfl rfl)
theorem dX5_days_18 : decode bcX5_days 18 = .ok (.aload_n 0, 1) := dk_42 (dk_at dksX5_days_0 18 rfl rfl)
theorem dX5_days_19 : decode bcX5_days 19 = .ok (.getfield 24, 3) := dk_180 0 24 (dk_at dksX5_days_0 19 rfl rfl)
theorem dX5_days_22 : decode bcX5_days 22 = .ok (.aload_n 0, 1) := dk_42 (dk_at dksX5_days_0 22 rfl rfl)
theorem dX5_days_23 : decode bcX5_days 23 = .ok (.getfield 162, 3) := dk_180 0 162 (dk_at dksX5_days_1 0 rfl rfl)
theorem dX5_days_26 : decode bcX5_days 26 = .ok (.iaload, 1) := dk_46 (dk_at dksX5_days_1 3 rfl rfl)
theorem dX5_days_27 : decode bcX5_days 27 = .ok (.ifCond .eq 121, 3) := dk_153 0 121 (dk_at dksX5_days_1 4 rfl rfl)
theorem dX5_days_30 : decode bcX5_days 30 = .ok (.aload_n 0, 1) := dk_42 (dk_at dksX5_days_1 7 rfl rfl)
theorem dX5_days_31 : decode bcX5_days 31 = .ok (.bipush 7, 2) := dk_16 7 (dk_at dksX5_days_1 8 rfl rfl)
theorem dX5_days_33 : decode bcX5_days 33 = .ok (.iconst 5, 1) := dk_8 (dk_at dksX5_days_1 10 rfl rfl)
theorem dX5_days_34 : decode bcX5_days 34 = .ok (.invokevirtual 187, 3) := dk_182 0 187 (dk_at dksX5_days_1 11 rfl rfl)
theorem dX5_days_37 : decode bcX5_days 37 = .ok (.istore_n 2, 1) := dk_61 (dk_at dksX5_days_1 14 rfl rfl)
theorem dX5_days_38 : decode bcX5_days 38 = .ok (.iload_n 2, 1) := dk_28 (dk_at dksX5_days_1 15 rfl rfl)
theorem dX5_days_39 : decode bcX5_days 39 = .ok (.ifCond .ge 11, 3) := dk_156 0 11 (dk_at dksX5_days_1 16 rfl rfl)
theorem dX5_days_42 : decode bcX5_days 42 = .ok (.aload_n 0, 1) := dk_42 (dk_at dksX5_days_1 19 rfl rfl)
theorem dX5_days_43 : decode bcX5_days 43 = .ok (.iconst 1, 1) := dk_4 (dk_at dksX5_days_1 20 rfl rfl)
theorem dX5_days_44 : decode bcX5_days 44 = .ok (.invokevirtual 171, 3) := dk_182 0 171 (dk_at dksX5_days_1 21 rfl rfl)
theorem dX5_days_47 : decode bcX5_days 47 = .ok (.goto 92, 3) := dk_167 0 92 (dk_at dksX5_days_2 0 rfl rfl)
theorem dX5_days_50 : decode bcX5_days 50 = .ok (.iload_n 1, 1) := dk_27 (dk_at dksX5_days_2 3 rfl rfl)
theorem dX5_days_51 : decode bcX5_days 51 = .ok (.bipush 40, 2) := dk_16 40 (dk_at dksX5_days_2 4 rfl rfl)
theorem dX5_days_53 : decode bcX5_days 53 = .ok (.if_icmp .ne 11, 3) := dk_160 0 11 (dk_at dksX5_days_2 6 rfl rfl)
theorem dX5_days_56 : decode bcX5_days 56 = .ok (.aload_n 0, 1) := dk_42 (dk_at dksX5_days_2 9 rfl rfl)
theorem dX5_days_57 : decode bcX5_days 57 = .ok (.iconst 5, 1) := dk_8 (dk_at dksX5_days_2 10 rfl rfl)
theorem dX5_days_58 : decode bcX5_days 58 = .ok (.invokevirtual 171, 3) := dk_182 0 171 (dk_at dksX5_days_2 11 rfl rfl)
theorem dX5_days_61 : decode bcX5_days 61 = .ok (.goto 78, 3) := dk_167 0 78 (dk_at dksX5_days_2 14 rfl rfl)
theorem dX5_days_64 : decode bcX5_days 64 = .ok (.aload_n 0, 1) := dk_42 (dk_at dksX5_days_2 17 rfl rfl)
theorem dX5_days_65 : decode bcX5_days 65 = .ok (.dup, 1) := dk_89 (dk_at dksX5_days_2 18 rfl rfl)
theorem dX5_days_66 : decode bcX5_days 66 = .ok (.getfield 162, 3) := dk_180 0 162 (dk_at dksX5_days_2 19 rfl rfl)
theorem dX5_days_69 : decode bcX5_days 69 = .ok (.iconst 1, 1) := dk_4 (dk_at dksX5_days_2 22 rfl rfl)
theorem dX5_days_70 : decode bcX5_days 70 = .ok (.iadd, 1) := dk_96 (dk_at dksX5_days_2 23 rfl rfl)
theorem dX5_days_71 : decode bcX5_days 71 = .ok (.putfield 162, 3) := dk_181 0 162 (dk_at dksX5_days_3 0 rfl rfl)
theorem dX5_days_74 : decode bcX5_days 74 = .ok (.bipush 125, 2) := dk_16 125 (dk_at dksX5_days_3 3 rfl rfl)
theorem dX5_days_76 : decode bcX5_days 76 = .ok (.iconst 3, 1) := dk_6 (dk_at dksX5_days_3 5 rfl rfl)
theorem dX5_days_77 : decode bcX5_days 77 = .ok (.iload_n 1, 1) := dk_27 (dk_at dksX5_days_3 6 rfl rfl)
theorem dX5_days_78 : decode bcX5_days 78 = .ok (.imul, 1) := dk_104 (dk_at dksX5_days_3 7 rfl rfl)
theorem dX5_days_79 : decode bcX5_days 79 = .ok (.iadd, 1) := dk_96 (dk_at dksX5_days_3 8 rfl rfl)
theorem dX5_days_80 : decode bcX5_days 80 = .ok (.istore_n 3, 1) := dk_62 (dk_at dksX5_days_3 9 rfl rfl)
theorem dX5_days_81 : decode bcX5_days 81 = .ok (.aload_n 0, 1) := dk_42 (dk_at dksX5_days_3 10 rfl rfl)
theorem dX5_days_82 : decode bcX5_days 82 = .ok (.getfield 104, 3) := dk_180 0 104 (dk_at dksX5_days_3 11 rfl rfl)
theorem dX5_days_85 : decode bcX5_days 85 = .ok (.iload_n 3, 1) := dk_29 (dk_at dksX5_days_3 14 rfl rfl)
theorem dX5_days_86 : decode bcX5_days 86 = .ok (.iload_n 2, 1) := dk_28 (dk_at dksX5_days_3 15 rfl rfl)
theorem dX5_days_87 : decode bcX5_days 87 = .ok (.iastore, 1) := dk_79 (dk_at dksX5_days_3 16 rfl rfl)
theorem dX5_days_88 : decode bcX5_days 88 = .ok (.aload_n 0, 1) := dk_42 (dk_at dksX5_days_3 17 rfl rfl)
theorem dX5_days_89 : decode bcX5_days 89 = .ok (.getfield 104, 3) := dk_180 0 104 (dk_at dksX5_days_3 18 rfl rfl)
theorem dX5_days_92 : decode bcX5_days 92 = .ok (.iload_n 3, 1) := dk_29 (dk_at dksX5_days_3 21 rfl rfl)
theorem dX5_days_93 : decode bcX5_days 93 = .ok (.iconst 2, 1) := dk_5 (dk_at dksX5_days_3 22 rfl rfl)
theorem dX5_days_94 : decode bcX5_days 94 = .ok (.iadd, 1) := dk_96 (dk_at dksX5_days_3 23 rfl rfl)
theorem dX5_days_95 : decode bcX5_days 95 = .ok (.iload_n 2, 1) := dk_28 (dk_at dksX5_days_4 0 rfl rfl)
theorem dX5_days_96 : decode bcX5_days 96 = .ok (.iconst 1, 1) := dk_4 (dk_at dksX5_days_4 1 rfl rfl)
theorem dX5_days_97 : decode bcX5_days 97 = .ok (.if_icmp .ne 14, 3) := dk_160 0 14 (dk_at dksX5_days_4 2 rfl rfl)
theorem dX5_days_100 : decode bcX5_days 100 = .ok (.aload_n 0, 1) := dk_42 (dk_at dksX5_days_4 5 rfl rfl)
theorem dX5_days_101 : decode bcX5_days 101 = .ok (.iconst 0, 1) := dk_3 (dk_at dksX5_days_4 6 rfl rfl)
theorem dX5_days_102 : decode bcX5_days 102 = .ok (.bipush 20, 2) := dk_16 20 (dk_at dksX5_days_4 7 rfl rfl)
theorem dX5_days_104 : decode bcX5_days 104 = .ok (.iconst 0, 1) := dk_3 (dk_at dksX5_days_4 9 rfl rfl)
theorem dX5_days_105 : decode bcX5_days 105 = .ok (.invokevirtual 230, 3) := dk_182 0 230 (dk_at dksX5_days_4 10 rfl rfl)
theorem dX5_days_108 : decode bcX5_days 108 = .ok (.goto 4, 3) := dk_167 0 4 (dk_at dksX5_days_4 13 rfl rfl)
theorem dX5_days_111 : decode bcX5_days 111 = .ok (.iconst 0, 1) := dk_3 (dk_at dksX5_days_4 16 rfl rfl)
theorem dX5_days_112 : decode bcX5_days 112 = .ok (.iastore, 1) := dk_79 (dk_at dksX5_days_4 17 rfl rfl)
theorem dX5_days_113 : decode bcX5_days 113 = .ok (.aload_n 0, 1) := dk_42 (dk_at dksX5_days_4 18 rfl rfl)
theorem dX5_days_114 : decode bcX5_days 114 = .ok (.getfield 104, 3) := dk_180 0 104 (dk_at dksX5_days_4 19 rfl rfl)
theorem dX5_days_117 : decode bcX5_days 117 = .ok (.iload_n 3, 1) := dk_29 (dk_at dksX5_days_4 22 rfl rfl)
theorem dX5_days_118 : decode bcX5_days 118 = .ok (.iconst 1, 1) := dk_4 (dk_at dksX5_days_4 23 rfl rfl)
theorem dX5_days_119 : decode bcX5_days 119 = .ok (.iadd, 1) := dk_96 (dk_at dksX5_days_5 0 rfl rfl)
theorem dX5_days_120 : decode bcX5_days 120 = .ok (.iload_n 2, 1) := dk_28 (dk_at dksX5_days_5 1 rfl rfl)
theorem dX5_days_121 : decode bcX5_days 121 = .ok (.ifCond .ne 7, 3) := dk_154 0 7 (dk_at dksX5_days_5 2 rfl rfl)
theorem dX5_days_124 : decode bcX5_days 124 = .ok (.iconst 0, 1) := dk_3 (dk_at dksX5_days_5 5 rfl rfl)
theorem dX5_days_125 : decode bcX5_days 125 = .ok (.goto 10, 3) := dk_167 0 10 (dk_at dksX5_days_5 6 rfl rfl)
theorem dX5_days_128 : decode bcX5_days 128 = .ok (.aload_n 0, 1) := dk_42 (dk_at dksX5_days_5 9 rfl rfl)
theorem dX5_days_129 : decode bcX5_days 129 = .ok (.iconst 0, 1) := dk_3 (dk_at dksX5_days_5 10 rfl rfl)
theorem dX5_days_130 : decode bcX5_days 130 = .ok (.bipush 7, 2) := dk_16 7 (dk_at dksX5_days_5 11 rfl rfl)
theorem dX5_days_132 : decode bcX5_days 132 = .ok (.invokevirtual 183, 3) := dk_182 0 183 (dk_at dksX5_days_5 13 rfl rfl)
theorem dX5_days_135 : decode bcX5_days 135 = .ok (.iastore, 1) := dk_79 (dk_at dksX5_days_5 16 rfl rfl)
theorem dX5_days_136 : decode bcX5_days 136 = .ok (.iinc 1 1, 3) := dk_132 1 1 (dk_at dksX5_days_5 17 rfl rfl)
theorem dX5_days_139 : decode bcX5_days 139 = .ok (.aload_n 0, 1) := dk_42 (dk_at dksX5_days_5 20 rfl rfl)
theorem dX5_days_140 : decode bcX5_days 140 = .ok (.bipush 59, 2) := dk_16 59 (dk_at dksX5_days_5 21 rfl rfl)
theorem dX5_days_142 : decode bcX5_days 142 = .ok (.invokevirtual 220, 3) := dk_182 0 220 (dk_at dksX5_days_6 0 rfl rfl)
theorem dX5_days_145 : decode bcX5_days 145 = .ok (.goto (-134), 3) := dk_167 255 122 (dk_at dksX5_days_6 3 rfl rfl)
theorem dX5_days_148 : decode bcX5_days 148 = .ok (.aload_n 0, 1) := dk_42 (dk_at dksX5_days_6 6 rfl rfl)
theorem dX5_days_149 : decode bcX5_days 149 = .ok (.getfield 165, 3) := dk_180 0 165 (dk_at dksX5_days_6 7 rfl rfl)
theorem dX5_days_152 : decode bcX5_days 152 = .ok (.ifCond .le 8, 3) := dk_158 0 8 (dk_at dksX5_days_6 10 rfl rfl)
theorem dX5_days_155 : decode bcX5_days 155 = .ok (.aload_n 0, 1) := dk_42 (dk_at dksX5_days_6 13 rfl rfl)
theorem dX5_days_156 : decode bcX5_days 156 = .ok (.getfield 165, 3) := dk_180 0 165 (dk_at dksX5_days_6 14 rfl rfl)
theorem dX5_days_159 : decode bcX5_days 159 = .ok (.ireturn, 1) := dk_172 (dk_at dksX5_days_6 17 rfl rfl)
theorem dX5_days_160 : decode bcX5_days 160 = .ok (.aload_n 0, 1) := dk_42 (dk_at dksX5_days_6 18 rfl rfl)
theorem dX5_days_161 : decode bcX5_days 161 = .ok (.getfield 104, 3) := dk_180 0 104 (dk_at dksX5_days_6 19 rfl rfl)
theorem dX5_days_164 : decode bcX5_days 164 = .ok (.iconst 0, 1) := dk_3 (dk_at dksX5_days_6 22 rfl rfl)
theorem dX5_days_165 : decode bcX5_days 165 = .ok (.iload_n 1, 1) := dk_27 (dk_at dksX5_days_6 23 rfl rfl)
theorem dX5_days_166 : decode bcX5_days 166 = .ok (.iastore, 1) := dk_79 (dk_at dksX5_days_7 0 rfl rfl)
theorem dX5_days_167 : decode bcX5_days 167 = .ok (.iconst 0, 1) := dk_3 (dk_at dksX5_days_7 1 rfl rfl)
theorem dX5_days_168 : decode bcX5_days 168 = .ok (.istore_n 2, 1) := dk_61 (dk_at dksX5_days_7 2 rfl rfl)
theorem dX5_days_169 : decode bcX5_days 169 = .ok (.iload_n 2, 1) := dk_28 (dk_at dksX5_days_7 3 rfl rfl)
theorem dX5_days_170 : decode bcX5_days 170 = .ok (.iconst 3, 1) := dk_6 (dk_at dksX5_days_7 4 rfl rfl)
theorem dX5_days_171 : decode bcX5_days 171 = .ok (.iload_n 1, 1) := dk_27 (dk_at dksX5_days_7 5 rfl rfl)
theorem dX5_days_172 : decode bcX5_days 172 = .ok (.imul, 1) := dk_104 (dk_at dksX5_days_7 6 rfl rfl)
theorem dX5_days_173 : decode bcX5_days 173 = .ok (.if_icmp .ge 26, 3) := dk_162 0 26 (dk_at dksX5_days_7 7 rfl rfl)
theorem dX5_days_176 : decode bcX5_days 176 = .ok (.aload_n 0, 1) := dk_42 (dk_at dksX5_days_7 10 rfl rfl)
theorem dX5_days_177 : decode bcX5_days 177 = .ok (.getfield 104, 3) := dk_180 0 104 (dk_at dksX5_days_7 11 rfl rfl)
theorem dX5_days_180 : decode bcX5_days 180 = .ok (.iconst 1, 1) := dk_4 (dk_at dksX5_days_7 14 rfl rfl)
theorem dX5_days_181 : decode bcX5_days 181 = .ok (.iload_n 2, 1) := dk_28 (dk_at dksX5_days_7 15 rfl rfl)
theorem dX5_days_182 : decode bcX5_days 182 = .ok (.iadd, 1) := dk_96 (dk_at dksX5_days_7 16 rfl rfl)
theorem dX5_days_183 : decode bcX5_days 183 = .ok (.aload_n 0, 1) := dk_42 (dk_at dksX5_days_7 17 rfl rfl)
theorem dX5_days_184 : decode bcX5_days 184 = .ok (.getfield 104, 3) := dk_180 0 104 (dk_at dksX5_days_7 18 rfl rfl)
theorem dX5_days_187 : decode bcX5_days 187 = .ok (.bipush 125, 2) := dk_16 125 (dk_at dksX5_days_7 21 rfl rfl)
theorem dX5_days_189 : decode bcX5_days 189 = .ok (.iload_n 2, 1) := dk_28 (dk_at dksX5_days_7 23 rfl rfl)
theorem dX5_days_190 : decode bcX5_days 190 = .ok (.iadd, 1) := dk_96 (dk_at dksX5_days_8 0 rfl rfl)
theorem dX5_days_191 : decode bcX5_days 191 = .ok (.iaload, 1) := dk_46 (dk_at dksX5_days_8 1 rfl rfl)
theorem dX5_days_192 : decode bcX5_days 192 = .ok (.iastore, 1) := dk_79 (dk_at dksX5_days_8 2 rfl rfl)
theorem dX5_days_193 : decode bcX5_days 193 = .ok (.iinc 2 1, 3) := dk_132 2 1 (dk_at dksX5_days_8 3 rfl rfl)
theorem dX5_days_196 : decode bcX5_days 196 = .ok (.goto (-27), 3) := dk_167 255 229 (dk_at dksX5_days_8 6 rfl rfl)
theorem dX5_days_199 : decode bcX5_days 199 = .ok (.iconst 0, 1) := dk_3 (dk_at dksX5_days_8 9 rfl rfl)
theorem dX5_days_200 : decode bcX5_days 200 = .ok (.ireturn, 1) := dk_172 (dk_at dksX5_days_8 10 rfl rfl)
abbrev SX5_days (pc : Nat) (i : xI) : Prop := Snd "SwollenHouseModel" "days" prog_25_method_32_code 4 (Option.some Jvm.ClassFile.FieldType.int) [] pc i
theorem oX5_days_0 : SX5_days 0 (i_aload 0 1) := snd_aload_n dX5_days_0 rfl
theorem oX5_days_1 : SX5_days 1 (i_const (.int (nI 0)) 2) := snd_iconst dX5_days_1 (by decide)
theorem oX5_days_2 : SX5_days 2 (i_putfi 4 0 5) := snd_putfi dX5_days_2 rfl (by decide) in_X5 tyX5 tyX5_ok nmX5 (Or.inl ⟨rfl, q1698⟩) (Or.inl rfl) rfl
theorem oX5_days_5 : SX5_days 5 (i_aload 0 6) := snd_aload_n dX5_days_5 rfl
theorem oX5_days_6 : SX5_days 6 (i_cvv 4 254 0 9) := snd_cvv rfl infX5_cutAll (by decide) rfl (xVm_V dX5_days_6 rfl q1800 q1802 qs63 q136 q1803 pdX5_cutAll)
theorem oX5_days_9 : SX5_days 9 (i_const (.int (nI 0)) 10) := snd_iconst dX5_days_9 (by decide)
theorem oX5_days_10 : SX5_days 10 (i_istore 1 11) := snd_istore_n dX5_days_10 rfl (by decide)
theorem oX5_days_11 : SX5_days 11 (i_aload 0 12) := snd_aload_n dX5_days_11 rfl
theorem oX5_days_12 : SX5_days 12 (i_getf 4 8 15) := snd_getf dX5_days_12 rfl (by decide) in_X5 (Or.inl q1706) (Or.inl rfl) (by decide)
theorem oX5_days_15 : SX5_days 15 (i_if1 (fun x => ¬ x = 0) 148 18) := snd_if_ne dX5_days_15 (by decide)
theorem oX5_days_18 : SX5_days 18 (i_aload 0 19) := snd_aload_n dX5_days_18 rfl
theorem oX5_days_19 : SX5_days 19 (i_getf 4 4 22) := snd_getf dX5_days_19 rfl (by decide) in_X5 (Or.inl q1702) (Or.inl rfl) (by decide)
theorem oX5_days_22 : SX5_days 22 (i_aload 0 23) := snd_aload_n dX5_days_22 rfl
theorem oX5_days_23 : SX5_days 23 (i_getf 4 7 26) := snd_getf dX5_days_23 rfl (by decide) in_X5 (Or.inl q1705) (Or.inl rfl) (by decide)
theorem oX5_days_26 : SX5_days 26 (i_ai 0 27) := snd_ai0 dX5_days_26
theorem oX5_days_27 : SX5_days 27 (i_if1 (fun x => x = 0) 148 30) := snd_if_eq dX5_days_27 (by decide)
theorem oX5_days_30 : SX5_days 30 (i_aload 0 31) := snd_aload_n dX5_days_30 rfl
theorem oX5_days_31 : SX5_days 31 (i_const (.int (nI 7)) 33) := snd_bipush dX5_days_31 (by decide)
theorem oX5_days_33 : SX5_days 33 (i_const (.int (nI 5)) 34) := snd_iconst dX5_days_33 (by decide)
theorem oX5_days_34 : SX5_days 34 (i_cv 4 264 2 37) := snd_cv rfl infX5_wordHere (by decide) rfl (xVm_V dX5_days_34 rfl q1839 q1841 qs69 q136 q1842 pdX5_wordHere)
theorem oX5_days_37 : SX5_days 37 (i_istore 2 38) := snd_istore_n dX5_days_37 rfl (by decide)
theorem oX5_days_38 : SX5_days 38 (i_iload 2 39) := snd_iload_n dX5_days_38 rfl
theorem oX5_days_39 : SX5_days 39 (i_if1 (fun x => 0 ≤ x) 50 42) := snd_if_ge dX5_days_39 (by decide)
theorem oX5_days_42 : SX5_days 42 (i_aload 0 43) := snd_aload_n dX5_days_42 rfl
theorem oX5_days_43 : SX5_days 43 (i_const (.int (nI 1)) 44) := snd_iconst dX5_days_43 (by decide)
theorem oX5_days_44 : SX5_days 44 (i_cvv 4 262 1 47) := snd_cvv rfl infX5_wrong (by decide) rfl (xVm_V dX5_days_44 rfl q1831 q1833 qs67 q136 q1834 pdX5_wrong)
theorem oX5_days_47 : SX5_days 47 (i_goto 139) := snd_goto dX5_days_47 (by decide)
theorem oX5_days_50 : SX5_days 50 (i_iload 1 51) := snd_iload_n dX5_days_50 rfl
theorem oX5_days_51 : SX5_days 51 (i_const (.int (nI 40)) 53) := snd_bipush dX5_days_51 (by decide)
theorem oX5_days_53 : SX5_days 53 (i_if2 (fun x y => ¬ x = y) 64 56) := snd_icmp_ne dX5_days_53 (by decide)
theorem oX5_days_56 : SX5_days 56 (i_aload 0 57) := snd_aload_n dX5_days_56 rfl
theorem oX5_days_57 : SX5_days 57 (i_const (.int (nI 5)) 58) := snd_iconst dX5_days_57 (by decide)
theorem oX5_days_58 : SX5_days 58 (i_cvv 4 262 1 61) := snd_cvv rfl infX5_wrong (by decide) rfl (xVm_V dX5_days_58 rfl q1831 q1833 qs67 q136 q1834 pdX5_wrong)
theorem oX5_days_61 : SX5_days 61 (i_goto 139) := snd_goto dX5_days_61 (by decide)
theorem oX5_days_64 : SX5_days 64 (i_aload 0 65) := snd_aload_n dX5_days_64 rfl
theorem oX5_days_65 : SX5_days 65 (i_dup 66) := snd_dup dX5_days_65
theorem oX5_days_66 : SX5_days 66 (i_getf 4 7 69) := snd_getf dX5_days_66 rfl (by decide) in_X5 (Or.inl q1705) (Or.inl rfl) (by decide)
theorem oX5_days_69 : SX5_days 69 (i_const (.int (nI 1)) 70) := snd_iconst dX5_days_69 (by decide)
theorem oX5_days_70 : SX5_days 70 (i_ii (fun x y => x + y) 71) := snd_iadd dX5_days_70
theorem oX5_days_71 : SX5_days 71 (i_putfi 4 7 74) := snd_putfi dX5_days_71 rfl (by decide) in_X5 tyX5 tyX5_ok nmX5 (Or.inl ⟨rfl, q1705⟩) (Or.inl rfl) rfl
theorem oX5_days_74 : SX5_days 74 (i_const (.int (nI 125)) 76) := snd_bipush dX5_days_74 (by decide)
theorem oX5_days_76 : SX5_days 76 (i_const (.int (nI 3)) 77) := snd_iconst dX5_days_76 (by decide)
theorem oX5_days_77 : SX5_days 77 (i_iload 1 78) := snd_iload_n dX5_days_77 rfl
theorem oX5_days_78 : SX5_days 78 (i_ii (fun x y => x * y) 79) := snd_imul dX5_days_78
theorem oX5_days_79 : SX5_days 79 (i_ii (fun x y => x + y) 80) := snd_iadd dX5_days_79
theorem oX5_days_80 : SX5_days 80 (i_istore 3 81) := snd_istore_n dX5_days_80 rfl (by decide)
theorem oX5_days_81 : SX5_days 81 (i_aload 0 82) := snd_aload_n dX5_days_81 rfl
theorem oX5_days_82 : SX5_days 82 (i_getf 4 21 85) := snd_getf dX5_days_82 rfl (by decide) in_X5 (Or.inl q1719) (Or.inl rfl) (by decide)
theorem oX5_days_85 : SX5_days 85 (i_iload 3 86) := snd_iload_n dX5_days_85 rfl
theorem oX5_days_86 : SX5_days 86 (i_iload 2 87) := snd_iload_n dX5_days_86 rfl
theorem oX5_days_87 : SX5_days 87 (i_si (fun v => v) 0 88) := snd_si0 dX5_days_87
theorem oX5_days_88 : SX5_days 88 (i_aload 0 89) := snd_aload_n dX5_days_88 rfl
theorem oX5_days_89 : SX5_days 89 (i_getf 4 21 92) := snd_getf dX5_days_89 rfl (by decide) in_X5 (Or.inl q1719) (Or.inl rfl) (by decide)
theorem oX5_days_92 : SX5_days 92 (i_iload 3 93) := snd_iload_n dX5_days_92 rfl
theorem oX5_days_93 : SX5_days 93 (i_const (.int (nI 2)) 94) := snd_iconst dX5_days_93 (by decide)
theorem oX5_days_94 : SX5_days 94 (i_ii (fun x y => x + y) 95) := snd_iadd dX5_days_94
theorem oX5_days_95 : SX5_days 95 (i_iload 2 96) := snd_iload_n dX5_days_95 rfl
theorem oX5_days_96 : SX5_days 96 (i_const (.int (nI 1)) 97) := snd_iconst dX5_days_96 (by decide)
theorem oX5_days_97 : SX5_days 97 (i_if2 (fun x y => ¬ x = y) 111 100) := snd_icmp_ne dX5_days_97 (by decide)
theorem oX5_days_100 : SX5_days 100 (i_aload 0 101) := snd_aload_n dX5_days_100 rfl
theorem oX5_days_101 : SX5_days 101 (i_const (.int (nI 0)) 102) := snd_iconst dX5_days_101 (by decide)
theorem oX5_days_102 : SX5_days 102 (i_const (.int (nI 20)) 104) := snd_bipush dX5_days_102 (by decide)
theorem oX5_days_104 : SX5_days 104 (i_const (.int (nI 0)) 105) := snd_iconst dX5_days_104 (by decide)
theorem oX5_days_105 : SX5_days 105 (i_cv 4 267 3 108) := snd_cv rfl infX5_takeTold (by decide) rfl (xVm_V dX5_days_105 rfl q1851 q1853 qs72 q136 q1854 pdX5_takeTold)
theorem oX5_days_108 : SX5_days 108 (i_goto 112) := snd_goto dX5_days_108 (by decide)
theorem oX5_days_111 : SX5_days 111 (i_const (.int (nI 0)) 112) := snd_iconst dX5_days_111 (by decide)
theorem oX5_days_112 : SX5_days 112 (i_si (fun v => v) 0 113) := snd_si0 dX5_days_112
theorem oX5_days_113 : SX5_days 113 (i_aload 0 114) := snd_aload_n dX5_days_113 rfl
theorem oX5_days_114 : SX5_days 114 (i_getf 4 21 117) := snd_getf dX5_days_114 rfl (by decide) in_X5 (Or.inl q1719) (Or.inl rfl) (by decide)
theorem oX5_days_117 : SX5_days 117 (i_iload 3 118) := snd_iload_n dX5_days_117 rfl
theorem oX5_days_118 : SX5_days 118 (i_const (.int (nI 1)) 119) := snd_iconst dX5_days_118 (by decide)
theorem oX5_days_119 : SX5_days 119 (i_ii (fun x y => x + y) 120) := snd_iadd dX5_days_119
theorem oX5_days_120 : SX5_days 120 (i_iload 2 121) := snd_iload_n dX5_days_120 rfl
theorem oX5_days_121 : SX5_days 121 (i_if1 (fun x => ¬ x = 0) 128 124) := snd_if_ne dX5_days_121 (by decide)
theorem oX5_days_124 : SX5_days 124 (i_const (.int (nI 0)) 125) := snd_iconst dX5_days_124 (by decide)
theorem oX5_days_125 : SX5_days 125 (i_goto 135) := snd_goto dX5_days_125 (by decide)
theorem oX5_days_128 : SX5_days 128 (i_aload 0 129) := snd_aload_n dX5_days_128 rfl
theorem oX5_days_129 : SX5_days 129 (i_const (.int (nI 0)) 130) := snd_iconst dX5_days_129 (by decide)
theorem oX5_days_130 : SX5_days 130 (i_const (.int (nI 7)) 132) := snd_bipush dX5_days_130 (by decide)
theorem oX5_days_132 : SX5_days 132 (i_cv 4 273 2 135) := snd_cv rfl infX5_takeNumber (by decide) rfl (xVm_V dX5_days_132 rfl q1874 q1876 qs77 q136 q1877 pdX5_takeNumber)
theorem oX5_days_135 : SX5_days 135 (i_si (fun v => v) 0 136) := snd_si0 dX5_days_135
theorem oX5_days_136 : SX5_days 136 (i_iinc 1 (nI 1) 139) := snd_iinc dX5_days_136 (by decide) (by decide)
theorem oX5_days_139 : SX5_days 139 (i_aload 0 140) := snd_aload_n dX5_days_139 rfl
theorem oX5_days_140 : SX5_days 140 (i_const (.int (nI 59)) 142) := snd_bipush dX5_days_140 (by decide)
theorem oX5_days_142 : SX5_days 142 (i_cvv 4 284 1 145) := snd_cvv rfl infX5_takeSign (by decide) rfl (xVm_V dX5_days_142 rfl q1918 q1920 qs88 q136 q1921 pdX5_takeSign)
theorem oX5_days_145 : SX5_days 145 (i_goto 11) := snd_goto dX5_days_145 (by decide)
theorem oX5_days_148 : SX5_days 148 (i_aload 0 149) := snd_aload_n dX5_days_148 rfl
theorem oX5_days_149 : SX5_days 149 (i_getf 4 8 152) := snd_getf dX5_days_149 rfl (by decide) in_X5 (Or.inl q1706) (Or.inl rfl) (by decide)
theorem oX5_days_152 : SX5_days 152 (i_if1 (fun x => x ≤ 0) 160 155) := snd_if_le dX5_days_152 (by decide)
theorem oX5_days_155 : SX5_days 155 (i_aload 0 156) := snd_aload_n dX5_days_155 rfl
theorem oX5_days_156 : SX5_days 156 (i_getf 4 8 159) := snd_getf dX5_days_156 rfl (by decide) in_X5 (Or.inl q1706) (Or.inl rfl) (by decide)
theorem oX5_days_159 : SX5_days 159 (i_iret) := snd_iret dX5_days_159 rfl
theorem oX5_days_160 : SX5_days 160 (i_aload 0 161) := snd_aload_n dX5_days_160 rfl
theorem oX5_days_161 : SX5_days 161 (i_getf 4 21 164) := snd_getf dX5_days_161 rfl (by decide) in_X5 (Or.inl q1719) (Or.inl rfl) (by decide)
theorem oX5_days_164 : SX5_days 164 (i_const (.int (nI 0)) 165) := snd_iconst dX5_days_164 (by decide)
theorem oX5_days_165 : SX5_days 165 (i_iload 1 166) := snd_iload_n dX5_days_165 rfl
theorem oX5_days_166 : SX5_days 166 (i_si (fun v => v) 0 167) := snd_si0 dX5_days_166
theorem oX5_days_167 : SX5_days 167 (i_const (.int (nI 0)) 168) := snd_iconst dX5_days_167 (by decide)
theorem oX5_days_168 : SX5_days 168 (i_istore 2 169) := snd_istore_n dX5_days_168 rfl (by decide)
theorem oX5_days_169 : SX5_days 169 (i_iload 2 170) := snd_iload_n dX5_days_169 rfl
theorem oX5_days_170 : SX5_days 170 (i_const (.int (nI 3)) 171) := snd_iconst dX5_days_170 (by decide)
theorem oX5_days_171 : SX5_days 171 (i_iload 1 172) := snd_iload_n dX5_days_171 rfl
theorem oX5_days_172 : SX5_days 172 (i_ii (fun x y => x * y) 173) := snd_imul dX5_days_172
theorem oX5_days_173 : SX5_days 173 (i_if2 (fun x y => y ≤ x) 199 176) := snd_icmp_ge dX5_days_173 (by decide)
theorem oX5_days_176 : SX5_days 176 (i_aload 0 177) := snd_aload_n dX5_days_176 rfl
theorem oX5_days_177 : SX5_days 177 (i_getf 4 21 180) := snd_getf dX5_days_177 rfl (by decide) in_X5 (Or.inl q1719) (Or.inl rfl) (by decide)
theorem oX5_days_180 : SX5_days 180 (i_const (.int (nI 1)) 181) := snd_iconst dX5_days_180 (by decide)
theorem oX5_days_181 : SX5_days 181 (i_iload 2 182) := snd_iload_n dX5_days_181 rfl
theorem oX5_days_182 : SX5_days 182 (i_ii (fun x y => x + y) 183) := snd_iadd dX5_days_182
theorem oX5_days_183 : SX5_days 183 (i_aload 0 184) := snd_aload_n dX5_days_183 rfl
theorem oX5_days_184 : SX5_days 184 (i_getf 4 21 187) := snd_getf dX5_days_184 rfl (by decide) in_X5 (Or.inl q1719) (Or.inl rfl) (by decide)
theorem oX5_days_187 : SX5_days 187 (i_const (.int (nI 125)) 189) := snd_bipush dX5_days_187 (by decide)
theorem oX5_days_189 : SX5_days 189 (i_iload 2 190) := snd_iload_n dX5_days_189 rfl
theorem oX5_days_190 : SX5_days 190 (i_ii (fun x y => x + y) 191) := snd_iadd dX5_days_190
theorem oX5_days_191 : SX5_days 191 (i_ai 0 192) := snd_ai0 dX5_days_191
theorem oX5_days_192 : SX5_days 192 (i_si (fun v => v) 0 193) := snd_si0 dX5_days_192
theorem oX5_days_193 : SX5_days 193 (i_iinc 2 (nI 1) 196) := snd_iinc dX5_days_193 (by decide) (by decide)
theorem oX5_days_196 : SX5_days 196 (i_goto 169) := snd_goto dX5_days_196 (by decide)
theorem oX5_days_199 : SX5_days 199 (i_const (.int (nI 0)) 200) := snd_iconst dX5_days_199 (by decide)
theorem oX5_days_200 : SX5_days 200 (i_iret) := snd_iret dX5_days_200 rfl
theorem okX5_days : ∀ q ∈ cX5_days, SX5_days q.1 q.2 := List.forall_mem_cons.mpr ⟨oX5_days_0, List.forall_mem_cons.mpr ⟨oX5_days_1, List.forall_mem_cons.mpr ⟨oX5_days_2, List.forall_mem_cons.mpr ⟨oX5_days_5, List.forall_mem_cons.mpr ⟨oX5_days_6, List.forall_mem_cons.mpr ⟨oX5_days_9, List.forall_mem_cons.mpr ⟨oX5_days_10, List.forall_mem_cons.mpr ⟨oX5_days_11, List.forall_mem_cons.mpr ⟨oX5_days_12, List.forall_mem_cons.mpr ⟨oX5_days_15, List.forall_mem_cons.mpr ⟨oX5_days_18, List.forall_mem_cons.mpr ⟨oX5_days_19, List.forall_mem_cons.mpr ⟨oX5_days_22, List.forall_mem_cons.mpr ⟨oX5_days_23, List.forall_mem_cons.mpr ⟨oX5_days_26, List.forall_mem_cons.mpr ⟨oX5_days_27, List.forall_mem_cons.mpr ⟨oX5_days_30, List.forall_mem_cons.mpr ⟨oX5_days_31, List.forall_mem_cons.mpr ⟨oX5_days_33, List.forall_mem_cons.mpr ⟨oX5_days_34, List.forall_mem_cons.mpr ⟨oX5_days_37, List.forall_mem_cons.mpr ⟨oX5_days_38, List.forall_mem_cons.mpr ⟨oX5_days_39, List.forall_mem_cons.mpr ⟨oX5_days_42, List.forall_mem_cons.mpr ⟨oX5_days_43, List.forall_mem_cons.mpr ⟨oX5_days_44, List.forall_mem_cons.mpr ⟨oX5_days_47, List.forall_mem_cons.mpr ⟨oX5_days_50, List.forall_mem_cons.mpr ⟨oX5_days_51, List.forall_mem_cons.mpr ⟨oX5_days_53, List.forall_mem_cons.mpr ⟨oX5_days_56, List.forall_mem_cons.mpr ⟨oX5_days_57, List.forall_mem_cons.mpr ⟨oX5_days_58, List.forall_mem_cons.mpr ⟨oX5_days_61, List.forall_mem_cons.mpr ⟨oX5_days_64, List.forall_mem_cons.mpr ⟨oX5_days_65, List.forall_mem_cons.mpr ⟨oX5_days_66, List.forall_mem_cons.mpr ⟨oX5_days_69, List.forall_mem_cons.mpr ⟨oX5_days_70, List.forall_mem_cons.mpr ⟨oX5_days_71, List.forall_mem_cons.mpr ⟨oX5_days_74, List.forall_mem_cons.mpr ⟨oX5_days_76, List.forall_mem_cons.mpr ⟨oX5_days_77, List.forall_mem_cons.mpr ⟨oX5_days_78, List.forall_mem_cons.mpr ⟨oX5_days_79, List.forall_mem_cons.mpr ⟨oX5_days_80, List.forall_mem_cons.mpr ⟨oX5_days_81, List.forall_mem_cons.mpr ⟨oX5_days_82, List.forall_mem_cons.mpr ⟨oX5_days_85, List.forall_mem_cons.mpr ⟨oX5_days_86, List.forall_mem_cons.mpr ⟨oX5_days_87, List.forall_mem_cons.mpr ⟨oX5_days_88, List.forall_mem_cons.mpr ⟨oX5_days_89, List.forall_mem_cons.mpr ⟨oX5_days_92, List.forall_mem_cons.mpr ⟨oX5_days_93, List.forall_mem_cons.mpr ⟨oX5_days_94, List.forall_mem_cons.mpr ⟨oX5_days_95, List.forall_mem_cons.mpr ⟨oX5_days_96, List.forall_mem_cons.mpr ⟨oX5_days_97, List.forall_mem_cons.mpr ⟨oX5_days_100, List.forall_mem_cons.mpr ⟨oX5_days_101, List.forall_mem_cons.mpr ⟨oX5_days_102, List.forall_mem_cons.mpr ⟨oX5_days_104, List.forall_mem_cons.mpr ⟨oX5_days_105, List.forall_mem_cons.mpr ⟨oX5_days_108, List.forall_mem_cons.mpr ⟨oX5_days_111, List.forall_mem_cons.mpr ⟨oX5_days_112, List.forall_mem_cons.mpr ⟨oX5_days_113, List.forall_mem_cons.mpr ⟨oX5_days_114, List.forall_mem_cons.mpr ⟨oX5_days_117, List.forall_mem_cons.mpr ⟨oX5_days_118, List.forall_mem_cons.mpr ⟨oX5_days_119, List.forall_mem_cons.mpr ⟨oX5_days_120, List.forall_mem_cons.mpr ⟨oX5_days_121, List.forall_mem_cons.mpr ⟨oX5_days_124, List.forall_mem_cons.mpr ⟨oX5_days_125, List.forall_mem_cons.mpr ⟨oX5_days_128, List.forall_mem_cons.mpr ⟨oX5_days_129, List.forall_mem_cons.mpr ⟨oX5_days_130, List.forall_mem_cons.mpr ⟨oX5_days_132, List.forall_mem_cons.mpr ⟨oX5_days_135, List.forall_mem_cons.mpr ⟨oX5_days_136, List.forall_mem_cons.mpr ⟨oX5_days_139, List.forall_mem_cons.mpr ⟨oX5_days_140, List.forall_mem_cons.mpr ⟨oX5_days_142, List.forall_mem_cons.mpr ⟨oX5_days_145, List.forall_mem_cons.mpr ⟨oX5_days_148, List.forall_mem_cons.mpr ⟨oX5_days_149, List.forall_mem_cons.mpr ⟨oX5_days_152, List.forall_mem_cons.mpr ⟨oX5_days_155, List.forall_mem_cons.mpr ⟨oX5_days_156, List.forall_mem_cons.mpr ⟨oX5_days_159, List.forall_mem_cons.mpr ⟨oX5_days_160, List.forall_mem_cons.mpr ⟨oX5_days_161, List.forall_mem_cons.mpr ⟨oX5_days_164, List.forall_mem_cons.mpr ⟨oX5_days_165, List.forall_mem_cons.mpr ⟨oX5_days_166, List.forall_mem_cons.mpr ⟨oX5_days_167, List.forall_mem_cons.mpr ⟨oX5_days_168, List.forall_mem_cons.mpr ⟨oX5_days_169, List.forall_mem_cons.mpr ⟨oX5_days_170, List.forall_mem_cons.mpr ⟨oX5_days_171, List.forall_mem_cons.mpr ⟨oX5_days_172, List.forall_mem_cons.mpr ⟨oX5_days_173, List.forall_mem_cons.mpr ⟨oX5_days_176, List.forall_mem_cons.mpr ⟨oX5_days_177, List.forall_mem_cons.mpr ⟨oX5_days_180, List.forall_mem_cons.mpr ⟨oX5_days_181, List.forall_mem_cons.mpr ⟨oX5_days_182, List.forall_mem_cons.mpr ⟨oX5_days_183, List.forall_mem_cons.mpr ⟨oX5_days_184, List.forall_mem_cons.mpr ⟨oX5_days_187, List.forall_mem_cons.mpr ⟨oX5_days_189, List.forall_mem_cons.mpr ⟨oX5_days_190, List.forall_mem_cons.mpr ⟨oX5_days_191, List.forall_mem_cons.mpr ⟨oX5_days_192, List.forall_mem_cons.mpr ⟨oX5_days_193, List.forall_mem_cons.mpr ⟨oX5_days_196, List.forall_mem_cons.mpr ⟨oX5_days_199, List.forall_mem_cons.mpr ⟨oX5_days_200, fun _ h => absurd h List.not_mem_nil⟩⟩⟩⟩⟩⟩⟩⟩⟩⟩⟩⟩⟩⟩⟩⟩⟩⟩⟩⟩⟩⟩⟩⟩⟩⟩⟩⟩⟩⟩⟩⟩⟩⟩⟩⟩⟩⟩⟩⟩⟩⟩⟩⟩⟩⟩⟩⟩⟩⟩⟩⟩⟩⟩⟩⟩⟩⟩⟩⟩⟩⟩⟩⟩⟩⟩⟩⟩⟩⟩⟩⟩⟩⟩⟩⟩⟩⟩⟩⟩⟩⟩⟩⟩⟩⟩⟩⟩⟩⟩⟩⟩⟩⟩⟩⟩⟩⟩⟩⟩⟩⟩⟩⟩⟩⟩⟩⟩⟩⟩⟩⟩⟩⟩⟩⟩⟩⟩⟩⟩
def dkwX5_door_5 : List UInt8 := [167, 0, 4, 3, 172, 42, 27, 28, 182, 1, 20, 172]
abbrev dktX5_door_5 : List UInt8 := dkwX5_door_5 ++ []
def dkwX5_door_4 : List UInt8 := [182, 1, 41, 153, 0, 7, 4, 167, 0, 4, 3, 172, 42, 3, 27, 182, 1, 45, 153, 0, 7, 4]
abbrev dktX5_door_4 : List UInt8 := dkwX5_door_4 ++ dktX5_door_5
def dkwX5_door_3 : List UInt8 := [42, 180, 0, 113, 5, 27, 96, 46, 172, 42, 180, 0, 113, 16, 10, 27, 96, 46, 172, 42, 3, 27]
abbrev dktX5_door_3 : List UInt8 := dkwX5_door_3 ++ dktX5_door_4
def dkwX5_door_2 : List UInt8 := [170, 0, 0, 0, 78, 0, 0, 0, 3, 0, 0, 0, 6, 0, 0, 0, 29, 0, 0, 0, 38, 0, 0, 0, 48, 0, 0, 0, 63]
abbrev dktX5_door_2 : List UInt8 := dkwX5_door_2 ++ dktX5_door_3
def dkwX5_door_1 : List UInt8 := [16, 254, 172, 28]
abbrev dktX5_door_1 : List UInt8 := dkwX5_door_1 ++ dktX5_door_2
def dkwX5_door_0 : List UInt8 := [42, 3, 181, 0, 1, 42, 27, 182, 1, 63, 153, 0, 13, 28, 3, 16, 6, 184, 0, 204, 154, 0, 6]
abbrev dktX5_door_0 : List UInt8 := dkwX5_door_0 ++ dktX5_door_1
theorem dksX5_door_0 : bcX5_door.data.toList.drop 0 = dktX5_door_0 := by decide +kernel
theorem dksX5_door_1 : bcX5_door.data.toList.drop 23 = dktX5_door_1 := dk_seg dksX5_door_0 23 rfl rfl
theorem dksX5_door_2 : bcX5_door.data.toList.drop 27 = dktX5_door_2 := dk_seg dksX5_door_1 4 rfl rfl
theorem dksX5_door_3 : bcX5_door.data.toList.drop 56 = dktX5_door_3 := dk_seg dksX5_door_2 29 rfl rfl
theorem dksX5_door_4 : bcX5_door.data.toList.drop 78 = dktX5_door_4 := dk_seg dksX5_door_3 22 rfl rfl
theorem dksX5_door_5 : bcX5_door.data.toList.drop 100 = dktX5_door_5 := dk_seg dksX5_door_4 22 rfl rfl
theorem dX5_door_0 : decode bcX5_door 0 = .ok (.aload_n 0, 1) := dk_42 (dk_at dksX5_door_0 0 rfl rfl)
theorem dX5_door_1 : decode bcX5_door 1 = .ok (.iconst 0, 1) := dk_3 (dk_at dksX5_door_0 1 rfl rfl)
theorem dX5_door_2 : decode bcX5_door 2 = .ok (.putfield 1, 3) := dk_181 0 1 (dk_at dksX5_door_0 2 rfl rfl)
theorem dX5_door_5 : decode bcX5_door 5 = .ok (.aload_n 0, 1) := dk_42 (dk_at dksX5_door_0 5 rfl rfl)
theorem dX5_door_6 : decode bcX5_door 6 = .ok (.iload_n 1, 1) := dk_27 (dk_at dksX5_door_0 6 rfl rfl)
theorem dX5_door_7 : decode bcX5_door 7 = .ok (.invokevirtual 319, 3) := dk_182 1 63 (dk_at dksX5_door_0 7 rfl rfl)
theorem dX5_door_10 : decode bcX5_door 10 = .ok (.ifCond .eq 13, 3) := dk_153 0 13 (dk_at dksX5_door_0 10 rfl rfl)
theorem dX5_door_13 : decode bcX5_door 13 = .ok (.iload_n 2, 1) := dk_28 (dk_at dksX5_door_0 13 rfl rfl)
theorem dX5_door_14 : decode bcX5_door 14 = .ok (.iconst 0, 1) := dk_3 (dk_at dksX5_door_0 14 rfl rfl)
theorem dX5_door_15 : decode bcX5_door 15 = .ok (.bipush 6, 2) := dk_16 6 (dk_at dksX5_door_0 15 rfl rfl)
theorem dX5_door_17 : decode bcX5_door 17 = .ok (.invokestatic 204, 3) := dk_184 0 204 (dk_at dksX5_door_0 17 rfl rfl)
theorem dX5_door_20 : decode bcX5_door 20 = .ok (.ifCond .ne 6, 3) := dk_154 0 6 (dk_at dksX5_door_0 20 rfl rfl)
theorem dX5_door_23 : decode bcX5_door 23 = .ok (.bipush (-2), 2) := dk_16 254 (dk_at dksX5_door_1 0 rfl rfl)
theorem dX5_door_25 : decode bcX5_door 25 = .ok (.ireturn, 1) := dk_172 (dk_at dksX5_door_1 2 rfl rfl)
theorem dX5_door_26 : decode bcX5_door 26 = .ok (.iload_n 2, 1) := dk_28 (dk_at dksX5_door_1 3 rfl rfl)
theorem dX5_door_27 : decode bcX5_door 27 = .ok (.tableswitch 78 3 6 #[29, 38, 48, 63], 29) := by decide +kernel
theorem dX5_door_56 : decode bcX5_door 56 = .ok (.aload_n 0, 1) := dk_42 (dk_at dksX5_door_3 0 rfl rfl)
theorem dX5_door_57 : decode bcX5_door 57 = .ok (.getfield 113, 3) := dk_180 0 113 (dk_at dksX5_door_3 1 rfl rfl)
theorem dX5_door_60 : decode bcX5_door 60 = .ok (.iconst 2, 1) := dk_5 (dk_at dksX5_door_3 4 rfl rfl)
theorem dX5_door_61 : decode bcX5_door 61 = .ok (.iload_n 1, 1) := dk_27 (dk_at dksX5_door_3 5 rfl rfl)
theorem dX5_door_62 : decode bcX5_door 62 = .ok (.iadd, 1) := dk_96 (dk_at dksX5_door_3 6 rfl rfl)
theorem dX5_door_63 : decode bcX5_door 63 = .ok (.iaload, 1) := dk_46 (dk_at dksX5_door_3 7 rfl rfl)
theorem dX5_door_64 : decode bcX5_door 64 = .ok (.ireturn, 1) := dk_172 (dk_at dksX5_door_3 8 rfl rfl)
theorem dX5_door_65 : decode bcX5_door 65 = .ok (.aload_n 0, 1) := dk_42 (dk_at dksX5_door_3 9 rfl rfl)
theorem dX5_door_66 : decode bcX5_door 66 = .ok (.getfield 113, 3) := dk_180 0 113 (dk_at dksX5_door_3 10 rfl rfl)
theorem dX5_door_69 : decode bcX5_door 69 = .ok (.bipush 10, 2) := dk_16 10 (dk_at dksX5_door_3 13 rfl rfl)
theorem dX5_door_71 : decode bcX5_door 71 = .ok (.iload_n 1, 1) := dk_27 (dk_at dksX5_door_3 15 rfl rfl)
theorem dX5_door_72 : decode bcX5_door 72 = .ok (.iadd, 1) := dk_96 (dk_at dksX5_door_3 16 rfl rfl)
theorem dX5_door_73 : decode bcX5_door 73 = .ok (.iaload, 1) := dk_46 (dk_at dksX5_door_3 17 rfl rfl)
theorem dX5_door_74 : decode bcX5_door 74 = .ok (.ireturn, 1) := dk_172 (dk_at dksX5_door_3 18 rfl rfl)
theorem dX5_door_75 : decode bcX5_door 75 = .ok (.aload_n 0, 1) := dk_42 (dk_at dksX5_door_3 19 rfl rfl)
theorem dX5_door_76 : decode bcX5_door 76 = .ok (.iconst 0, 1) := dk_3 (dk_at dksX5_door_3 20 rfl rfl)
theorem dX5_door_77 : decode bcX5_door 77 = .ok (.iload_n 1, 1) := dk_27 (dk_at dksX5_door_3 21 rfl rfl)
theorem dX5_door_78 : decode bcX5_door 78 = .ok (.invokevirtual 297, 3) := dk_182 1 41 (dk_at dksX5_door_4 0 rfl rfl)
theorem dX5_door_81 : decode bcX5_door 81 = .ok (.ifCond .eq 7, 3) := dk_153 0 7 (dk_at dksX5_door_4 3 rfl rfl)
theorem dX5_door_84 : decode bcX5_door 84 = .ok (.iconst 1, 1) := dk_4 (dk_at dksX5_door_4 6 rfl rfl)
theorem dX5_door_85 : decode bcX5_door 85 = .ok (.goto 4, 3) := dk_167 0 4 (dk_at dksX5_door_4 7 rfl rfl)
theorem dX5_door_88 : decode bcX5_door 88 = .ok (.iconst 0, 1) := dk_3 (dk_at dksX5_door_4 10 rfl rfl)
theorem dX5_door_89 : decode bcX5_door 89 = .ok (.ireturn, 1) := dk_172 (dk_at dksX5_door_4 11 rfl rfl)
theorem dX5_door_90 : decode bcX5_door 90 = .ok (.aload_n 0, 1) := dk_42 (dk_at dksX5_door_4 12 rfl rfl)
theorem dX5_door_91 : decode bcX5_door 91 = .ok (.iconst 0, 1) := dk_3 (dk_at dksX5_door_4 13 rfl rfl)
theorem dX5_door_92 : decode bcX5_door 92 = .ok (.iload_n 1, 1) := dk_27 (dk_at dksX5_door_4 14 rfl rfl)
theorem dX5_door_93 : decode bcX5_door 93 = .ok (.invokevirtual 301, 3) := dk_182 1 45 (dk_at dksX5_door_4 15 rfl rfl)
theorem dX5_door_96 : decode bcX5_door 96 = .ok (.ifCond .eq 7, 3) := dk_153 0 7 (dk_at dksX5_door_4 18 rfl rfl)
theorem dX5_door_99 : decode bcX5_door 99 = .ok (.iconst 1, 1) := dk_4 (dk_at dksX5_door_4 21 rfl rfl)
theorem dX5_door_100 : decode bcX5_door 100 = .ok (.goto 4, 3) := dk_167 0 4 (dk_at dksX5_door_5 0 rfl rfl)
theorem dX5_door_103 : decode bcX5_door 103 = .ok (.iconst 0, 1) := dk_3 (dk_at dksX5_door_5 3 rfl rfl)
theorem dX5_door_104 : decode bcX5_door 104 = .ok (.ireturn, 1) := dk_172 (dk_at dksX5_door_5 4 rfl rfl)
theorem dX5_door_105 : decode bcX5_door 105 = .ok (.aload_n 0, 1) := dk_42 (dk_at dksX5_door_5 5 rfl rfl)
theorem dX5_door_106 : decode bcX5_door 106 = .ok (.iload_n 1, 1) := dk_27 (dk_at dksX5_door_5 6 rfl rfl)
theorem dX5_door_107 : decode bcX5_door 107 = .ok (.iload_n 2, 1) := dk_28 (dk_at dksX5_door_5 7 rfl rfl)
theorem dX5_door_108 : decode bcX5_door 108 = .ok (.invokevirtual 276, 3) := dk_182 1 20 (dk_at dksX5_door_5 8 rfl rfl)
theorem dX5_door_111 : decode bcX5_door 111 = .ok (.ireturn, 1) := dk_172 (dk_at dksX5_door_5 11 rfl rfl)
abbrev SX5_door (pc : Nat) (i : xI) : Prop := Snd "SwollenHouseModel" "door" prog_25_method_67_code 3 (Option.some Jvm.ClassFile.FieldType.int) [] pc i
theorem oX5_door_0 : SX5_door 0 (i_aload 0 1) := snd_aload_n dX5_door_0 rfl
theorem oX5_door_1 : SX5_door 1 (i_const (.int (nI 0)) 2) := snd_iconst dX5_door_1 (by decide)
theorem oX5_door_2 : SX5_door 2 (i_putfi 4 0 5) := snd_putfi dX5_door_2 rfl (by decide) in_X5 tyX5 tyX5_ok nmX5 (Or.inl ⟨rfl, q1698⟩) (Or.inl rfl) rfl
theorem oX5_door_5 : SX5_door 5 (i_aload 0 6) := snd_aload_n dX5_door_5 rfl
theorem oX5_door_6 : SX5_door 6 (i_iload 1 7) := snd_iload_n dX5_door_6 rfl
theorem oX5_door_7 : SX5_door 7 (i_cv 4 287 1 10) := snd_cv rfl infX5_isDoor (by decide) rfl (xVm_V dX5_door_7 rfl q1930 q1932 qs89 q136 q1933 pdX5_isDoor)
theorem oX5_door_10 : SX5_door 10 (i_if1 (fun x => x = 0) 23 13) := snd_if_eq dX5_door_10 (by decide)
theorem oX5_door_13 : SX5_door 13 (i_iload 2 14) := snd_iload_n dX5_door_13 rfl
theorem oX5_door_14 : SX5_door 14 (i_const (.int (nI 0)) 15) := snd_iconst dX5_door_14 (by decide)
theorem oX5_door_15 : SX5_door 15 (i_const (.int (nI 6)) 17) := snd_bipush dX5_door_15 (by decide)
theorem oX5_door_17 : SX5_door 17 (i_cs 268 3 20) := snd_cs rfl infX5_within (by decide) (xSm_S dX5_door_17 q1855 q1856 q136 q1857 pdX5_within)
theorem oX5_door_20 : SX5_door 20 (i_if1 (fun x => ¬ x = 0) 26 23) := snd_if_ne dX5_door_20 (by decide)
theorem oX5_door_23 : SX5_door 23 (i_const (.int (-2)) 25) := snd_bipush dX5_door_23 (by decide)
theorem oX5_door_25 : SX5_door 25 (i_iret) := snd_iret dX5_door_25 rfl
theorem oX5_door_26 : SX5_door 26 (i_iload 2 27) := snd_iload_n dX5_door_26 rfl
theorem oX5_door_27 : SX5_door 27 (i_tsw 3 [56, 65, 75, 90] 105) := snd_tsw dX5_door_27 (by decide) (by decide) (by decide)
theorem oX5_door_56 : SX5_door 56 (i_aload 0 57) := snd_aload_n dX5_door_56 rfl
theorem oX5_door_57 : SX5_door 57 (i_getf 4 24 60) := snd_getf dX5_door_57 rfl (by decide) in_X5 (Or.inl q1722) (Or.inl rfl) (by decide)
theorem oX5_door_60 : SX5_door 60 (i_const (.int (nI 2)) 61) := snd_iconst dX5_door_60 (by decide)
theorem oX5_door_61 : SX5_door 61 (i_iload 1 62) := snd_iload_n dX5_door_61 rfl
theorem oX5_door_62 : SX5_door 62 (i_ii (fun x y => x + y) 63) := snd_iadd dX5_door_62
theorem oX5_door_63 : SX5_door 63 (i_ai 0 64) := snd_ai0 dX5_door_63
theorem oX5_door_64 : SX5_door 64 (i_iret) := snd_iret dX5_door_64 rfl
theorem oX5_door_65 : SX5_door 65 (i_aload 0 66) := snd_aload_n dX5_door_65 rfl
theorem oX5_door_66 : SX5_door 66 (i_getf 4 24 69) := snd_getf dX5_door_66 rfl (by decide) in_X5 (Or.inl q1722) (Or.inl rfl) (by decide)
theorem oX5_door_69 : SX5_door 69 (i_const (.int (nI 10)) 71) := snd_bipush dX5_door_69 (by decide)
theorem oX5_door_71 : SX5_door 71 (i_iload 1 72) := snd_iload_n dX5_door_71 rfl
theorem oX5_door_72 : SX5_door 72 (i_ii (fun x y => x + y) 73) := snd_iadd dX5_door_72
theorem oX5_door_73 : SX5_door 73 (i_ai 0 74) := snd_ai0 dX5_door_73
theorem oX5_door_74 : SX5_door 74 (i_iret) := snd_iret dX5_door_74 rfl
theorem oX5_door_75 : SX5_door 75 (i_aload 0 76) := snd_aload_n dX5_door_75 rfl
theorem oX5_door_76 : SX5_door 76 (i_const (.int (nI 0)) 77) := snd_iconst dX5_door_76 (by decide)
theorem oX5_door_77 : SX5_door 77 (i_iload 1 78) := snd_iload_n dX5_door_77 rfl
theorem oX5_door_78 : SX5_door 78 (i_cv 4 288 2 81) := snd_cv rfl infX5_isWedged (by decide) rfl (xVm_V dX5_door_78 rfl q1934 q1936 qs90 q136 q1937 pdX5_isWedged)
theorem oX5_door_81 : SX5_door 81 (i_if1 (fun x => x = 0) 88 84) := snd_if_eq dX5_door_81 (by decide)
theorem oX5_door_84 : SX5_door 84 (i_const (.int (nI 1)) 85) := snd_iconst dX5_door_84 (by decide)
theorem oX5_door_85 : SX5_door 85 (i_goto 89) := snd_goto dX5_door_85 (by decide)
theorem oX5_door_88 : SX5_door 88 (i_const (.int (nI 0)) 89) := snd_iconst dX5_door_88 (by decide)
theorem oX5_door_89 : SX5_door 89 (i_iret) := snd_iret dX5_door_89 rfl
theorem oX5_door_90 : SX5_door 90 (i_aload 0 91) := snd_aload_n dX5_door_90 rfl
theorem oX5_door_91 : SX5_door 91 (i_const (.int (nI 0)) 92) := snd_iconst dX5_door_91 (by decide)
theorem oX5_door_92 : SX5_door 92 (i_iload 1 93) := snd_iload_n dX5_door_92 rfl
theorem oX5_door_93 : SX5_door 93 (i_cv 4 289 2 96) := snd_cv rfl infX5_doesStick (by decide) rfl (xVm_V dX5_door_93 rfl q1938 q1940 qs91 q136 q1941 pdX5_doesStick)
theorem oX5_door_96 : SX5_door 96 (i_if1 (fun x => x = 0) 103 99) := snd_if_eq dX5_door_96 (by decide)
theorem oX5_door_99 : SX5_door 99 (i_const (.int (nI 1)) 100) := snd_iconst dX5_door_99 (by decide)
theorem oX5_door_100 : SX5_door 100 (i_goto 104) := snd_goto dX5_door_100 (by decide)
theorem oX5_door_103 : SX5_door 103 (i_const (.int (nI 0)) 104) := snd_iconst dX5_door_103 (by decide)
theorem oX5_door_104 : SX5_door 104 (i_iret) := snd_iret dX5_door_104 rfl
theorem oX5_door_105 : SX5_door 105 (i_aload 0 106) := snd_aload_n dX5_door_105 rfl
theorem oX5_door_106 : SX5_door 106 (i_iload 1 107) := snd_iload_n dX5_door_106 rfl
theorem oX5_door_107 : SX5_door 107 (i_iload 2 108) := snd_iload_n dX5_door_107 rfl
theorem oX5_door_108 : SX5_door 108 (i_cv 4 251 2 111) := snd_cv rfl infX5_doorOf (by decide) rfl (xVm_V dX5_door_108 rfl q1690 q1692 qs61 q136 q1693 pdX5_doorOf)
theorem oX5_door_111 : SX5_door 111 (i_iret) := snd_iret dX5_door_111 rfl
theorem okX5_door : ∀ q ∈ cX5_door, SX5_door q.1 q.2 := List.forall_mem_cons.mpr ⟨oX5_door_0, List.forall_mem_cons.mpr ⟨oX5_door_1, List.forall_mem_cons.mpr ⟨oX5_door_2, List.forall_mem_cons.mpr ⟨oX5_door_5, List.forall_mem_cons.mpr ⟨oX5_door_6, List.forall_mem_cons.mpr ⟨oX5_door_7, List.forall_mem_cons.mpr ⟨oX5_door_10, List.forall_mem_cons.mpr ⟨oX5_door_13, List.forall_mem_cons.mpr ⟨oX5_door_14, List.forall_mem_cons.mpr ⟨oX5_door_15, List.forall_mem_cons.mpr ⟨oX5_door_17, List.forall_mem_cons.mpr ⟨oX5_door_20, List.forall_mem_cons.mpr ⟨oX5_door_23, List.forall_mem_cons.mpr ⟨oX5_door_25, List.forall_mem_cons.mpr ⟨oX5_door_26, List.forall_mem_cons.mpr ⟨oX5_door_27, List.forall_mem_cons.mpr ⟨oX5_door_56, List.forall_mem_cons.mpr ⟨oX5_door_57, List.forall_mem_cons.mpr ⟨oX5_door_60, List.forall_mem_cons.mpr ⟨oX5_door_61, List.forall_mem_cons.mpr ⟨oX5_door_62, List.forall_mem_cons.mpr ⟨oX5_door_63, List.forall_mem_cons.mpr ⟨oX5_door_64, List.forall_mem_cons.mpr ⟨oX5_door_65, List.forall_mem_cons.mpr ⟨oX5_door_66, List.forall_mem_cons.mpr ⟨oX5_door_69, List.forall_mem_cons.mpr ⟨oX5_door_71, List.forall_mem_cons.mpr ⟨oX5_door_72, List.forall_mem_cons.mpr ⟨oX5_door_73, List.forall_mem_cons.mpr ⟨oX5_door_74, List.forall_mem_cons.mpr ⟨oX5_door_75, List.forall_mem_cons.mpr ⟨oX5_door_76, List.forall_mem_cons.mpr ⟨oX5_door_77, List.forall_mem_cons.mpr ⟨oX5_door_78, List.forall_mem_cons.mpr ⟨oX5_door_81, List.forall_mem_cons.mpr ⟨oX5_door_84, List.forall_mem_cons.mpr ⟨oX5_door_85, List.forall_mem_cons.mpr ⟨oX5_door_88, List.forall_mem_cons.mpr ⟨oX5_door_89, List.forall_mem_cons.mpr ⟨oX5_door_90, List.forall_mem_cons.mpr ⟨oX5_door_91, List.forall_mem_cons.mpr ⟨oX5_door_92, List.forall_mem_cons.mpr ⟨oX5_door_93, List.forall_mem_cons.mpr ⟨oX5_door_96, List.forall_mem_cons.mpr ⟨oX5_door_99, List.forall_mem_cons.mpr ⟨oX5_door_100, List.forall_mem_cons.mpr ⟨oX5_door_103, List.forall_mem_cons.mpr ⟨oX5_door_104, List.forall_mem_cons.mpr ⟨oX5_door_105, List.forall_mem_cons.mpr ⟨oX5_door_106, List.forall_mem_cons.mpr ⟨oX5_door_107, List.forall_mem_cons.mpr ⟨oX5_door_108, List.forall_mem_cons.mpr ⟨oX5_door_111, fun _ h => absurd h List.not_mem_nil⟩⟩⟩⟩⟩⟩⟩⟩⟩⟩⟩⟩⟩⟩⟩⟩⟩⟩⟩⟩⟩⟩⟩⟩⟩⟩⟩⟩⟩⟩⟩⟩⟩⟩⟩⟩⟩⟩⟩⟩⟩⟩⟩⟩⟩⟩⟩⟩⟩⟩⟩⟩⟩
def dkwX5_isDoor_0 : List UInt8 := [27, 155, 0, 15, 27, 42, 182, 1, 16, 162, 0, 7, 4, 167, 0, 4, 3, 172]
abbrev dktX5_isDoor_0 : List UInt8 := dkwX5_isDoor_0 ++ []
theorem dksX5_isDoor_0 : bcX5_isDoor.data.toList.drop 0 = dktX5_isDoor_0 := by decide +kernel
theorem dX5_isDoor_0 : decode bcX5_isDoor 0 = .ok (.iload_n 1, 1) := dk_27 (dk_at dksX5_isDoor_0 0 rfl rfl)
theorem dX5_isDoor_1 : decode bcX5_isDoor 1 = .ok (.ifCond .lt 15, 3) := dk_155 0 15 (dk_at dksX5_isDoor_0 1 rfl rfl)
theorem dX5_isDoor_4 : decode bcX5_isDoor 4 = .ok (.iload_n 1, 1) := dk_27 (dk_at dksX5_isDoor_0 4 rfl rfl)
theorem dX5_isDoor_5 : decode bcX5_isDoor 5 = .ok (.aload_n 0, 1) := dk_42 (dk_at dksX5_isDoor_0 5 rfl rfl)
theorem dX5_isDoor_6 : decode bcX5_isDoor 6 = .ok (.invokevirtual 272, 3) := dk_182 1 16 (dk_at dksX5_isDoor_0 6 rfl rfl)
theorem dX5_isDoor_9 : decode bcX5_isDoor 9 = .ok (.if_icmp .ge 7, 3) := dk_162 0 7 (dk_at dksX5_isDoor_0 9 rfl rfl)
theorem dX5_isDoor_12 : decode bcX5_isDoor 12 = .ok (.iconst 1, 1) := dk_4 (dk_at dksX5_isDoor_0 12 rfl rfl)
theorem dX5_isDoor_13 : decode bcX5_isDoor 13 = .ok (.goto 4, 3) := dk_167 0 4 (dk_at dksX5_isDoor_0 13 rfl rfl)
theorem dX5_isDoor_16 : decode bcX5_isDoor 16 = .ok (.iconst 0, 1) := dk_3 (dk_at dksX5_isDoor_0 16 rfl rfl)
theorem dX5_isDoor_17 : decode bcX5_isDoor 17 = .ok (.ireturn, 1) := dk_172 (dk_at dksX5_isDoor_0 17 rfl rfl)
abbrev SX5_isDoor (pc : Nat) (i : xI) : Prop := Snd "SwollenHouseModel" "isDoor" prog_25_method_50_code 2 (Option.some Jvm.ClassFile.FieldType.boolean) [] pc i
theorem oX5_isDoor_0 : SX5_isDoor 0 (i_iload 1 1) := snd_iload_n dX5_isDoor_0 rfl
theorem oX5_isDoor_1 : SX5_isDoor 1 (i_if1 (fun x => x < 0) 16 4) := snd_if_lt dX5_isDoor_1 (by decide)
theorem oX5_isDoor_4 : SX5_isDoor 4 (i_iload 1 5) := snd_iload_n dX5_isDoor_4 rfl
theorem oX5_isDoor_5 : SX5_isDoor 5 (i_aload 0 6) := snd_aload_n dX5_isDoor_5 rfl
theorem oX5_isDoor_6 : SX5_isDoor 6 (i_cv 4 250 0 9) := snd_cv rfl infX5_doors (by decide) rfl (xVm_V dX5_isDoor_6 rfl q1686 q1688 qs60 q136 q1689 pdX5_doors)
theorem oX5_isDoor_9 : SX5_isDoor 9 (i_if2 (fun x y => y ≤ x) 16 12) := snd_icmp_ge dX5_isDoor_9 (by decide)
theorem oX5_isDoor_12 : SX5_isDoor 12 (i_const (.int (nI 1)) 13) := snd_iconst dX5_isDoor_12 (by decide)
theorem oX5_isDoor_13 : SX5_isDoor 13 (i_goto 17) := snd_goto dX5_isDoor_13 (by decide)
theorem oX5_isDoor_16 : SX5_isDoor 16 (i_const (.int (nI 0)) 17) := snd_iconst dX5_isDoor_16 (by decide)
theorem oX5_isDoor_17 : SX5_isDoor 17 (i_zret) := snd_zret dX5_isDoor_17 rfl
theorem okX5_isDoor : ∀ q ∈ cX5_isDoor, SX5_isDoor q.1 q.2 := List.forall_mem_cons.mpr ⟨oX5_isDoor_0, List.forall_mem_cons.mpr ⟨oX5_isDoor_1, List.forall_mem_cons.mpr ⟨oX5_isDoor_4, List.forall_mem_cons.mpr ⟨oX5_isDoor_5, List.forall_mem_cons.mpr ⟨oX5_isDoor_6, List.forall_mem_cons.mpr ⟨oX5_isDoor_9, List.forall_mem_cons.mpr ⟨oX5_isDoor_12, List.forall_mem_cons.mpr ⟨oX5_isDoor_13, List.forall_mem_cons.mpr ⟨oX5_isDoor_16, List.forall_mem_cons.mpr ⟨oX5_isDoor_17, fun _ h => absurd h List.not_mem_nil⟩⟩⟩⟩⟩⟩⟩⟩⟩⟩
def dkwX5_isWedged_0 : List UInt8 := [42, 180, 0, 113, 27, 4, 96, 46, 28, 122, 4, 126, 4, 160, 0, 7, 4, 167, 0, 4, 3, 172]
abbrev dktX5_isWedged_0 : List UInt8 := dkwX5_isWedged_0 ++ []
theorem dksX5_isWedged_0 : bcX5_isWedged.data.toList.drop 0 = dktX5_isWedged_0 := by decide +kernel
theorem dX5_isWedged_0 : decode bcX5_isWedged 0 = .ok (.aload_n 0, 1) := dk_42 (dk_at dksX5_isWedged_0 0 rfl rfl)
theorem dX5_isWedged_1 : decode bcX5_isWedged 1 = .ok (.getfield 113, 3) := dk_180 0 113 (dk_at dksX5_isWedged_0 1 rfl rfl)
theorem dX5_isWedged_4 : decode bcX5_isWedged 4 = .ok (.iload_n 1, 1) := dk_27 (dk_at dksX5_isWedged_0 4 rfl rfl)
theorem dX5_isWedged_5 : decode bcX5_isWedged 5 = .ok (.iconst 1, 1) := dk_4 (dk_at dksX5_isWedged_0 5 rfl rfl)
theorem dX5_isWedged_6 : decode bcX5_isWedged 6 = .ok (.iadd, 1) := dk_96 (dk_at dksX5_isWedged_0 6 rfl rfl)
theorem dX5_isWedged_7 : decode bcX5_isWedged 7 = .ok (.iaload, 1) := dk_46 (dk_at dksX5_isWedged_0 7 rfl rfl)
theorem dX5_isWedged_8 : decode bcX5_isWedged 8 = .ok (.iload_n 2, 1) := dk_28 (dk_at dksX5_isWedged_0 8 rfl rfl)
theorem dX5_isWedged_9 : decode bcX5_isWedged 9 = .ok (.ishr, 1) := dk_122 (dk_at dksX5_isWedged_0 9 rfl rfl)
theorem dX5_isWedged_10 : decode bcX5_isWedged 10 = .ok (.iconst 1, 1) := dk_4 (dk_at dksX5_isWedged_0 10 rfl rfl)
theorem dX5_isWedged_11 : decode bcX5_isWedged 11 = .ok (.iand, 1) := dk_126 (dk_at dksX5_isWedged_0 11 rfl rfl)
theorem dX5_isWedged_12 : decode bcX5_isWedged 12 = .ok (.iconst 1, 1) := dk_4 (dk_at dksX5_isWedged_0 12 rfl rfl)
theorem dX5_isWedged_13 : decode bcX5_isWedged 13 = .ok (.if_icmp .ne 7, 3) := dk_160 0 7 (dk_at dksX5_isWedged_0 13 rfl rfl)
theorem dX5_isWedged_16 : decode bcX5_isWedged 16 = .ok (.iconst 1, 1) := dk_4 (dk_at dksX5_isWedged_0 16 rfl rfl)
theorem dX5_isWedged_17 : decode bcX5_isWedged 17 = .ok (.goto 4, 3) := dk_167 0 4 (dk_at dksX5_isWedged_0 17 rfl rfl)
theorem dX5_isWedged_20 : decode bcX5_isWedged 20 = .ok (.iconst 0, 1) := dk_3 (dk_at dksX5_isWedged_0 20 rfl rfl)
theorem dX5_isWedged_21 : decode bcX5_isWedged 21 = .ok (.ireturn, 1) := dk_172 (dk_at dksX5_isWedged_0 21 rfl rfl)
abbrev SX5_isWedged (pc : Nat) (i : xI) : Prop := Snd "SwollenHouseModel" "isWedged" prog_25_method_54_code 3 (Option.some Jvm.ClassFile.FieldType.boolean) [] pc i
theorem oX5_isWedged_0 : SX5_isWedged 0 (i_aload 0 1) := snd_aload_n dX5_isWedged_0 rfl
theorem oX5_isWedged_1 : SX5_isWedged 1 (i_getf 4 24 4) := snd_getf dX5_isWedged_1 rfl (by decide) in_X5 (Or.inl q1722) (Or.inl rfl) (by decide)
theorem oX5_isWedged_4 : SX5_isWedged 4 (i_iload 1 5) := snd_iload_n dX5_isWedged_4 rfl
theorem oX5_isWedged_5 : SX5_isWedged 5 (i_const (.int (nI 1)) 6) := snd_iconst dX5_isWedged_5 (by decide)
theorem oX5_isWedged_6 : SX5_isWedged 6 (i_ii (fun x y => x + y) 7) := snd_iadd dX5_isWedged_6
theorem oX5_isWedged_7 : SX5_isWedged 7 (i_ai 0 8) := snd_ai0 dX5_isWedged_7
theorem oX5_isWedged_8 : SX5_isWedged 8 (i_iload 2 9) := snd_iload_n dX5_isWedged_8 rfl
theorem oX5_isWedged_9 : SX5_isWedged 9 (i_ii (fun x y => x >>> (y &&& 31)) 10) := snd_ishr dX5_isWedged_9
theorem oX5_isWedged_10 : SX5_isWedged 10 (i_const (.int (nI 1)) 11) := snd_iconst dX5_isWedged_10 (by decide)
theorem oX5_isWedged_11 : SX5_isWedged 11 (i_ii (fun x y => x &&& y) 12) := snd_iand dX5_isWedged_11
theorem oX5_isWedged_12 : SX5_isWedged 12 (i_const (.int (nI 1)) 13) := snd_iconst dX5_isWedged_12 (by decide)
theorem oX5_isWedged_13 : SX5_isWedged 13 (i_if2 (fun x y => ¬ x = y) 20 16) := snd_icmp_ne dX5_isWedged_13 (by decide)
theorem oX5_isWedged_16 : SX5_isWedged 16 (i_const (.int (nI 1)) 17) := snd_iconst dX5_isWedged_16 (by decide)
theorem oX5_isWedged_17 : SX5_isWedged 17 (i_goto 21) := snd_goto dX5_isWedged_17 (by decide)
theorem oX5_isWedged_20 : SX5_isWedged 20 (i_const (.int (nI 0)) 21) := snd_iconst dX5_isWedged_20 (by decide)
theorem oX5_isWedged_21 : SX5_isWedged 21 (i_zret) := snd_zret dX5_isWedged_21 rfl
theorem okX5_isWedged : ∀ q ∈ cX5_isWedged, SX5_isWedged q.1 q.2 := List.forall_mem_cons.mpr ⟨oX5_isWedged_0, List.forall_mem_cons.mpr ⟨oX5_isWedged_1, List.forall_mem_cons.mpr ⟨oX5_isWedged_4, List.forall_mem_cons.mpr ⟨oX5_isWedged_5, List.forall_mem_cons.mpr ⟨oX5_isWedged_6, List.forall_mem_cons.mpr ⟨oX5_isWedged_7, List.forall_mem_cons.mpr ⟨oX5_isWedged_8, List.forall_mem_cons.mpr ⟨oX5_isWedged_9, List.forall_mem_cons.mpr ⟨oX5_isWedged_10, List.forall_mem_cons.mpr ⟨oX5_isWedged_11, List.forall_mem_cons.mpr ⟨oX5_isWedged_12, List.forall_mem_cons.mpr ⟨oX5_isWedged_13, List.forall_mem_cons.mpr ⟨oX5_isWedged_16, List.forall_mem_cons.mpr ⟨oX5_isWedged_17, List.forall_mem_cons.mpr ⟨oX5_isWedged_20, List.forall_mem_cons.mpr ⟨oX5_isWedged_21, fun _ h => absurd h List.not_mem_nil⟩⟩⟩⟩⟩⟩⟩⟩⟩⟩⟩⟩⟩⟩⟩⟩
def dkwX5_doesStick_0 : List UInt8 := [42, 27, 28, 182, 1, 38, 158, 0, 16, 42, 27, 28, 182, 1, 41, 154, 0, 7, 4, 167, 0, 4, 3, 172]
abbrev dktX5_doesStick_0 : List UInt8 := dkwX5_doesStick_0 ++ []
theorem dksX5_doesStick_0 : bcX5_doesStick.data.toList.drop 0 = dktX5_doesStick_0 := by decide +kernel
theorem dX5_doesStick_0 : decode bcX5_doesStick 0 = .ok (.aload_n 0, 1) := dk_42 (dk_at dksX5_doesStick_0 0 rfl rfl)
theorem dX5_doesStick_1 : decode bcX5_doesStick 1 = .ok (.iload_n 1, 1) := dk_27 (dk_at dksX5_doesStick_0 1 rfl rfl)
theorem dX5_doesStick_2 : decode bcX5_doesStick 2 = .ok (.iload_n 2, 1) := dk_28 (dk_at dksX5_doesStick_0 2 rfl rfl)
theorem dX5_doesStick_3 : decode bcX5_doesStick 3 = .ok (.invokevirtual 294, 3) := dk_182 1 38 (dk_at dksX5_doesStick_0 3 rfl rfl)
theorem dX5_doesStick_6 : decode bcX5_doesStick 6 = .ok (.ifCond .le 16, 3) := dk_158 0 16 (dk_at dksX5_doesStick_0 6 rfl rfl)
theorem dX5_doesStick_9 : decode bcX5_doesStick 9 = .ok (.aload_n 0, 1) := dk_42 (dk_at dksX5_doesStick_0 9 rfl rfl)
theorem dX5_doesStick_10 : decode bcX5_doesStick 10 = .ok (.iload_n 1, 1) := dk_27 (dk_at dksX5_doesStick_0 10 rfl rfl)
theorem dX5_doesStick_11 : decode bcX5_doesStick 11 = .ok (.iload_n 2, 1) := dk_28 (dk_at dksX5_doesStick_0 11 rfl rfl)
theorem dX5_doesStick_12 : decode bcX5_doesStick 12 = .ok (.invokevirtual 297, 3) := dk_182 1 41 (dk_at dksX5_doesStick_0 12 rfl rfl)
theorem dX5_doesStick_15 : decode bcX5_doesStick 15 = .ok (.ifCond .ne 7, 3) := dk_154 0 7 (dk_at dksX5_doesStick_0 15 rfl rfl)
theorem dX5_doesStick_18 : decode bcX5_doesStick 18 = .ok (.iconst 1, 1) := dk_4 (dk_at dksX5_doesStick_0 18 rfl rfl)
theorem dX5_doesStick_19 : decode bcX5_doesStick 19 = .ok (.goto 4, 3) := dk_167 0 4 (dk_at dksX5_doesStick_0 19 rfl rfl)
theorem dX5_doesStick_22 : decode bcX5_doesStick 22 = .ok (.iconst 0, 1) := dk_3 (dk_at dksX5_doesStick_0 22 rfl rfl)
theorem dX5_doesStick_23 : decode bcX5_doesStick 23 = .ok (.ireturn, 1) := dk_172 (dk_at dksX5_doesStick_0 23 rfl rfl)
abbrev SX5_doesStick (pc : Nat) (i : xI) : Prop := Snd "SwollenHouseModel" "doesStick" prog_25_method_55_code 3 (Option.some Jvm.ClassFile.FieldType.boolean) [] pc i
theorem oX5_doesStick_0 : SX5_doesStick 0 (i_aload 0 1) := snd_aload_n dX5_doesStick_0 rfl
theorem oX5_doesStick_1 : SX5_doesStick 1 (i_iload 1 2) := snd_iload_n dX5_doesStick_1 rfl
theorem oX5_doesStick_2 : SX5_doesStick 2 (i_iload 2 3) := snd_iload_n dX5_doesStick_2 rfl
theorem oX5_doesStick_3 : SX5_doesStick 3 (i_cv 4 290 2 6) := snd_cv rfl infX5_overOf (by decide) rfl (xVm_V dX5_doesStick_3 rfl q1942 q1944 qs92 q136 q1945 pdX5_overOf)
theorem oX5_doesStick_6 : SX5_doesStick 6 (i_if1 (fun x => x ≤ 0) 22 9) := snd_if_le dX5_doesStick_6 (by decide)
theorem oX5_doesStick_9 : SX5_doesStick 9 (i_aload 0 10) := snd_aload_n dX5_doesStick_9 rfl
theorem oX5_doesStick_10 : SX5_doesStick 10 (i_iload 1 11) := snd_iload_n dX5_doesStick_10 rfl
theorem oX5_doesStick_11 : SX5_doesStick 11 (i_iload 2 12) := snd_iload_n dX5_doesStick_11 rfl
theorem oX5_doesStick_12 : SX5_doesStick 12 (i_cv 4 288 2 15) := snd_cv rfl infX5_isWedged (by decide) rfl (xVm_V dX5_doesStick_12 rfl q1934 q1936 qs90 q136 q1937 pdX5_isWedged)
theorem oX5_doesStick_15 : SX5_doesStick 15 (i_if1 (fun x => ¬ x = 0) 22 18) := snd_if_ne dX5_doesStick_15 (by decide)
theorem oX5_doesStick_18 : SX5_doesStick 18 (i_const (.int (nI 1)) 19) := snd_iconst dX5_doesStick_18 (by decide)
theorem oX5_doesStick_19 : SX5_doesStick 19 (i_goto 23) := snd_goto dX5_doesStick_19 (by decide)
theorem oX5_doesStick_22 : SX5_doesStick 22 (i_const (.int (nI 0)) 23) := snd_iconst dX5_doesStick_22 (by decide)
theorem oX5_doesStick_23 : SX5_doesStick 23 (i_zret) := snd_zret dX5_doesStick_23 rfl
theorem okX5_doesStick : ∀ q ∈ cX5_doesStick, SX5_doesStick q.1 q.2 := List.forall_mem_cons.mpr ⟨oX5_doesStick_0, List.forall_mem_cons.mpr ⟨oX5_doesStick_1, List.forall_mem_cons.mpr ⟨oX5_doesStick_2, List.forall_mem_cons.mpr ⟨oX5_doesStick_3, List.forall_mem_cons.mpr ⟨oX5_doesStick_6, List.forall_mem_cons.mpr ⟨oX5_doesStick_9, List.forall_mem_cons.mpr ⟨oX5_doesStick_10, List.forall_mem_cons.mpr ⟨oX5_doesStick_11, List.forall_mem_cons.mpr ⟨oX5_doesStick_12, List.forall_mem_cons.mpr ⟨oX5_doesStick_15, List.forall_mem_cons.mpr ⟨oX5_doesStick_18, List.forall_mem_cons.mpr ⟨oX5_doesStick_19, List.forall_mem_cons.mpr ⟨oX5_doesStick_22, List.forall_mem_cons.mpr ⟨oX5_doesStick_23, fun _ h => absurd h List.not_mem_nil⟩⟩⟩⟩⟩⟩⟩⟩⟩⟩⟩⟩⟩⟩
def dkwX5_overOf_0 : List UInt8 := [42, 180, 0, 113, 27, 16, 10, 96, 28, 96, 46, 42, 180, 0, 113, 27, 5, 96, 28, 96, 46, 100, 172]
abbrev dktX5_overOf_0 : List UInt8 := dkwX5_overOf_0 ++ []
theorem dksX5_overOf_0 : bcX5_overOf.data.toList.drop 0 = dktX5_overOf_0 := by decide +kernel
theorem dX5_overOf_0 : decode bcX5_overOf 0 = .ok (.aload_n 0, 1) := dk_42 (dk_at dksX5_overOf_0 0 rfl rfl)
theorem dX5_overOf_1 : decode bcX5_overOf 1 = .ok (.getfield 113, 3) := dk_180 0 113 (dk_at dksX5_overOf_0 1 rfl rfl)
theorem dX5_overOf_4 : decode bcX5_overOf 4 = .ok (.iload_n 1, 1) := dk_27 (dk_at dksX5_overOf_0 4 rfl rfl)
theorem dX5_overOf_5 : decode bcX5_overOf 5 = .ok (.bipush 10, 2) := dk_16 10 (dk_at dksX5_overOf_0 5 rfl rfl)
theorem dX5_overOf_7 : decode bcX5_overOf 7 = .ok (.iadd, 1) := dk_96 (dk_at dksX5_overOf_0 7 rfl rfl)
theorem dX5_overOf_8 : decode bcX5_overOf 8 = .ok (.iload_n 2, 1) := dk_28 (dk_at dksX5_overOf_0 8 rfl rfl)
theorem dX5_overOf_9 : decode bcX5_overOf 9 = .ok (.iadd, 1) := dk_96 (dk_at dksX5_overOf_0 9 rfl rfl)
theorem dX5_overOf_10 : decode bcX5_overOf 10 = .ok (.iaload, 1) := dk_46 (dk_at dksX5_overOf_0 10 rfl rfl)
theorem dX5_overOf_11 : decode bcX5_overOf 11 = .ok (.aload_n 0, 1) := dk_42 (dk_at dksX5_overOf_0 11 rfl rfl)
theorem dX5_overOf_12 : decode bcX5_overOf 12 = .ok (.getfield 113, 3) := dk_180 0 113 (dk_at dksX5_overOf_0 12 rfl rfl)
theorem dX5_overOf_15 : decode bcX5_overOf 15 = .ok (.iload_n 1, 1) := dk_27 (dk_at dksX5_overOf_0 15 rfl rfl)
theorem dX5_overOf_16 : decode bcX5_overOf 16 = .ok (.iconst 2, 1) := dk_5 (dk_at dksX5_overOf_0 16 rfl rfl)
theorem dX5_overOf_17 : decode bcX5_overOf 17 = .ok (.iadd, 1) := dk_96 (dk_at dksX5_overOf_0 17 rfl rfl)
theorem dX5_overOf_18 : decode bcX5_overOf 18 = .ok (.iload_n 2, 1) := dk_28 (dk_at dksX5_overOf_0 18 rfl rfl)
theorem dX5_overOf_19 : decode bcX5_overOf 19 = .ok (.iadd, 1) := dk_96 (dk_at dksX5_overOf_0 19 rfl rfl)
theorem dX5_overOf_20 : decode bcX5_overOf 20 = .ok (.iaload, 1) := dk_46 (dk_at dksX5_overOf_0 20 rfl rfl)
theorem dX5_overOf_21 : decode bcX5_overOf 21 = .ok (.isub, 1) := dk_100 (dk_at dksX5_overOf_0 21 rfl rfl)
theorem dX5_overOf_22 : decode bcX5_overOf 22 = .ok (.ireturn, 1) := dk_172 (dk_at dksX5_overOf_0 22 rfl rfl)
abbrev SX5_overOf (pc : Nat) (i : xI) : Prop := Snd "SwollenHouseModel" "overOf" prog_25_method_53_code 3 (Option.some Jvm.ClassFile.FieldType.int) [] pc i
theorem oX5_overOf_0 : SX5_overOf 0 (i_aload 0 1) := snd_aload_n dX5_overOf_0 rfl
theorem oX5_overOf_1 : SX5_overOf 1 (i_getf 4 24 4) := snd_getf dX5_overOf_1 rfl (by decide) in_X5 (Or.inl q1722) (Or.inl rfl) (by decide)
theorem oX5_overOf_4 : SX5_overOf 4 (i_iload 1 5) := snd_iload_n dX5_overOf_4 rfl
theorem oX5_overOf_5 : SX5_overOf 5 (i_const (.int (nI 10)) 7) := snd_bipush dX5_overOf_5 (by decide)
theorem oX5_overOf_7 : SX5_overOf 7 (i_ii (fun x y => x + y) 8) := snd_iadd dX5_overOf_7
theorem oX5_overOf_8 : SX5_overOf 8 (i_iload 2 9) := snd_iload_n dX5_overOf_8 rfl
theorem oX5_overOf_9 : SX5_overOf 9 (i_ii (fun x y => x + y) 10) := snd_iadd dX5_overOf_9
theorem oX5_overOf_10 : SX5_overOf 10 (i_ai 0 11) := snd_ai0 dX5_overOf_10
theorem oX5_overOf_11 : SX5_overOf 11 (i_aload 0 12) := snd_aload_n dX5_overOf_11 rfl
theorem oX5_overOf_12 : SX5_overOf 12 (i_getf 4 24 15) := snd_getf dX5_overOf_12 rfl (by decide) in_X5 (Or.inl q1722) (Or.inl rfl) (by decide)
theorem oX5_overOf_15 : SX5_overOf 15 (i_iload 1 16) := snd_iload_n dX5_overOf_15 rfl
theorem oX5_overOf_16 : SX5_overOf 16 (i_const (.int (nI 2)) 17) := snd_iconst dX5_overOf_16 (by decide)
theorem oX5_overOf_17 : SX5_overOf 17 (i_ii (fun x y => x + y) 18) := snd_iadd dX5_overOf_17
theorem oX5_overOf_18 : SX5_overOf 18 (i_iload 2 19) := snd_iload_n dX5_overOf_18 rfl
theorem oX5_overOf_19 : SX5_overOf 19 (i_ii (fun x y => x + y) 20) := snd_iadd dX5_overOf_19
theorem oX5_overOf_20 : SX5_overOf 20 (i_ai 0 21) := snd_ai0 dX5_overOf_20
theorem oX5_overOf_21 : SX5_overOf 21 (i_ii (fun x y => x - y) 22) := snd_isub dX5_overOf_21
theorem oX5_overOf_22 : SX5_overOf 22 (i_iret) := snd_iret dX5_overOf_22 rfl
theorem okX5_overOf : ∀ q ∈ cX5_overOf, SX5_overOf q.1 q.2 := List.forall_mem_cons.mpr ⟨oX5_overOf_0, List.forall_mem_cons.mpr ⟨oX5_overOf_1, List.forall_mem_cons.mpr ⟨oX5_overOf_4, List.forall_mem_cons.mpr ⟨oX5_overOf_5, List.forall_mem_cons.mpr ⟨oX5_overOf_7, List.forall_mem_cons.mpr ⟨oX5_overOf_8, List.forall_mem_cons.mpr ⟨oX5_overOf_9, List.forall_mem_cons.mpr ⟨oX5_overOf_10, List.forall_mem_cons.mpr ⟨oX5_overOf_11, List.forall_mem_cons.mpr ⟨oX5_overOf_12, List.forall_mem_cons.mpr ⟨oX5_overOf_15, List.forall_mem_cons.mpr ⟨oX5_overOf_16, List.forall_mem_cons.mpr ⟨oX5_overOf_17, List.forall_mem_cons.mpr ⟨oX5_overOf_18, List.forall_mem_cons.mpr ⟨oX5_overOf_19, List.forall_mem_cons.mpr ⟨oX5_overOf_20, List.forall_mem_cons.mpr ⟨oX5_overOf_21, List.forall_mem_cons.mpr ⟨oX5_overOf_22, fun _ h => absurd h List.not_mem_nil⟩⟩⟩⟩⟩⟩⟩⟩⟩⟩⟩⟩⟩⟩⟩⟩⟩⟩
def dkwX5_person_1 : List UInt8 := [167, 0, 4, 2, 172]
abbrev dktX5_person_1 : List UInt8 := dkwX5_person_1 ++ []
def dkwX5_person_0 : List UInt8 := [42, 3, 181, 0, 1, 42, 27, 182, 1, 66, 153, 0, 15, 42, 180, 0, 113, 16, 18, 27, 96, 46]
abbrev dktX5_person_0 : List UInt8 := dkwX5_person_0 ++ dktX5_person_1
theorem dksX5_person_0 : bcX5_person.data.toList.drop 0 = dktX5_person_0 := by decide +kernel
theorem dksX5_person_1 : bcX5_person.data.toList.drop 22 = dktX5_person_1 := dk_seg dksX5_person_0 22 rfl rfl
theorem dX5_person_0 : decode bcX5_person 0 = .ok (.aload_n 0, 1) := dk_42 (dk_at dksX5_person_0 0 rfl rfl)
theorem dX5_person_1 : decode bcX5_person 1 = .ok (.iconst 0, 1) := dk_3 (dk_at dksX5_person_0 1 rfl rfl)
theorem dX5_person_2 : decode bcX5_person 2 = .ok (.putfield 1, 3) := dk_181 0 1 (dk_at dksX5_person_0 2 rfl rfl)
theorem dX5_person_5 : decode bcX5_person 5 = .ok (.aload_n 0, 1) := dk_42 (dk_at dksX5_person_0 5 rfl rfl)
theorem dX5_person_6 : decode bcX5_person 6 = .ok (.iload_n 1, 1) := dk_27 (dk_at dksX5_person_0 6 rfl rfl)
theorem dX5_person_7 : decode bcX5_person 7 = .ok (.invokevirtual 322, 3) := dk_182 1 66 (dk_at dksX5_person_0 7 rfl rfl)
theorem dX5_person_10 : decode bcX5_person 10 = .ok (.ifCond .eq 15, 3) := dk_153 0 15 (dk_at dksX5_person_0 10 rfl rfl)
theorem dX5_person_13 : decode bcX5_person 13 = .ok (.aload_n 0, 1) := dk_42 (dk_at dksX5_person_0 13 rfl rfl)
theorem dX5_person_14 : decode bcX5_person 14 = .ok (.getfield 113, 3) := dk_180 0 113 (dk_at dksX5_person_0 14 rfl rfl)
theorem dX5_person_17 : decode bcX5_person 17 = .ok (.bipush 18, 2) := dk_16 18 (dk_at dksX5_person_0 17 rfl rfl)
theorem dX5_person_19 : decode bcX5_person 19 = .ok (.iload_n 1, 1) := dk_27 (dk_at dksX5_person_0 19 rfl rfl)
theorem dX5_person_20 : decode bcX5_person 20 = .ok (.iadd, 1) := dk_96 (dk_at dksX5_person_0 20 rfl rfl)
theorem dX5_person_21 : decode bcX5_person 21 = .ok (.iaload, 1) := dk_46 (dk_at dksX5_person_0 21 rfl rfl)
theorem dX5_person_22 : decode bcX5_person 22 = .ok (.goto 4, 3) := dk_167 0 4 (dk_at dksX5_person_1 0 rfl rfl)
theorem dX5_person_25 : decode bcX5_person 25 = .ok (.iconst (-1), 1) := dk_2 (dk_at dksX5_person_1 3 rfl rfl)
theorem dX5_person_26 : decode bcX5_person 26 = .ok (.ireturn, 1) := dk_172 (dk_at dksX5_person_1 4 rfl rfl)
abbrev SX5_person (pc : Nat) (i : xI) : Prop := Snd "SwollenHouseModel" "person" prog_25_method_68_code 2 (Option.some Jvm.ClassFile.FieldType.int) [] pc i
theorem oX5_person_0 : SX5_person 0 (i_aload 0 1) := snd_aload_n dX5_person_0 rfl
theorem oX5_person_1 : SX5_person 1 (i_const (.int (nI 0)) 2) := snd_iconst dX5_person_1 (by decide)
theorem oX5_person_2 : SX5_person 2 (i_putfi 4 0 5) := snd_putfi dX5_person_2 rfl (by decide) in_X5 tyX5 tyX5_ok nmX5 (Or.inl ⟨rfl, q1698⟩) (Or.inl rfl) rfl
theorem oX5_person_5 : SX5_person 5 (i_aload 0 6) := snd_aload_n dX5_person_5 rfl
theorem oX5_person_6 : SX5_person 6 (i_iload 1 7) := snd_iload_n dX5_person_6 rfl
theorem oX5_person_7 : SX5_person 7 (i_cv 4 292 1 10) := snd_cv rfl infX5_isPerson (by decide) rfl (xVm_V dX5_person_7 rfl q1950 q1952 qs93 q136 q1953 pdX5_isPerson)
theorem oX5_person_10 : SX5_person 10 (i_if1 (fun x => x = 0) 25 13) := snd_if_eq dX5_person_10 (by decide)
theorem oX5_person_13 : SX5_person 13 (i_aload 0 14) := snd_aload_n dX5_person_13 rfl
theorem oX5_person_14 : SX5_person 14 (i_getf 4 24 17) := snd_getf dX5_person_14 rfl (by decide) in_X5 (Or.inl q1722) (Or.inl rfl) (by decide)
theorem oX5_person_17 : SX5_person 17 (i_const (.int (nI 18)) 19) := snd_bipush dX5_person_17 (by decide)
theorem oX5_person_19 : SX5_person 19 (i_iload 1 20) := snd_iload_n dX5_person_19 rfl
theorem oX5_person_20 : SX5_person 20 (i_ii (fun x y => x + y) 21) := snd_iadd dX5_person_20
theorem oX5_person_21 : SX5_person 21 (i_ai 0 22) := snd_ai0 dX5_person_21
theorem oX5_person_22 : SX5_person 22 (i_goto 26) := snd_goto dX5_person_22 (by decide)
theorem oX5_person_25 : SX5_person 25 (i_const (.int (-1)) 26) := snd_iconst dX5_person_25 (by decide)
theorem oX5_person_26 : SX5_person 26 (i_iret) := snd_iret dX5_person_26 rfl
theorem okX5_person : ∀ q ∈ cX5_person, SX5_person q.1 q.2 := List.forall_mem_cons.mpr ⟨oX5_person_0, List.forall_mem_cons.mpr ⟨oX5_person_1, List.forall_mem_cons.mpr ⟨oX5_person_2, List.forall_mem_cons.mpr ⟨oX5_person_5, List.forall_mem_cons.mpr ⟨oX5_person_6, List.forall_mem_cons.mpr ⟨oX5_person_7, List.forall_mem_cons.mpr ⟨oX5_person_10, List.forall_mem_cons.mpr ⟨oX5_person_13, List.forall_mem_cons.mpr ⟨oX5_person_14, List.forall_mem_cons.mpr ⟨oX5_person_17, List.forall_mem_cons.mpr ⟨oX5_person_19, List.forall_mem_cons.mpr ⟨oX5_person_20, List.forall_mem_cons.mpr ⟨oX5_person_21, List.forall_mem_cons.mpr ⟨oX5_person_22, List.forall_mem_cons.mpr ⟨oX5_person_25, List.forall_mem_cons.mpr ⟨oX5_person_26, fun _ h => absurd h List.not_mem_nil⟩⟩⟩⟩⟩⟩⟩⟩⟩⟩⟩⟩⟩⟩⟩⟩
def dkwX5_isPerson_0 : List UInt8 := [27, 155, 0, 15, 27, 42, 182, 1, 23, 162, 0, 7, 4, 167, 0, 4, 3, 172]
abbrev dktX5_isPerson_0 : List UInt8 := dkwX5_isPerson_0 ++ []
theorem dksX5_isPerson_0 : bcX5_isPerson.data.toList.drop 0 = dktX5_isPerson_0 := by decide +kernel
theorem dX5_isPerson_0 : decode bcX5_isPerson 0 = .ok (.iload_n 1, 1) := dk_27 (dk_at dksX5_isPerson_0 0 rfl rfl)
theorem dX5_isPerson_1 : decode bcX5_isPerson 1 = .ok (.ifCond .lt 15, 3) := dk_155 0 15 (dk_at dksX5_isPerson_0 1 rfl rfl)
theorem dX5_isPerson_4 : decode bcX5_isPerson 4 = .ok (.iload_n 1, 1) := dk_27 (dk_at dksX5_isPerson_0 4 rfl rfl)
theorem dX5_isPerson_5 : decode bcX5_isPerson 5 = .ok (.aload_n 0, 1) := dk_42 (dk_at dksX5_isPerson_0 5 rfl rfl)
theorem dX5_isPerson_6 : decode bcX5_isPerson 6 = .ok (.invokevirtual 279, 3) := dk_182 1 23 (dk_at dksX5_isPerson_0 6 rfl rfl)
theorem dX5_isPerson_9 : decode bcX5_isPerson 9 = .ok (.if_icmp .ge 7, 3) := dk_162 0 7 (dk_at dksX5_isPerson_0 9 rfl rfl)
theorem dX5_isPerson_12 : decode bcX5_isPerson 12 = .ok (.iconst 1, 1) := dk_4 (dk_at dksX5_isPerson_0 12 rfl rfl)
theorem dX5_isPerson_13 : decode bcX5_isPerson 13 = .ok (.goto 4, 3) := dk_167 0 4 (dk_at dksX5_isPerson_0 13 rfl rfl)
theorem dX5_isPerson_16 : decode bcX5_isPerson 16 = .ok (.iconst 0, 1) := dk_3 (dk_at dksX5_isPerson_0 16 rfl rfl)
theorem dX5_isPerson_17 : decode bcX5_isPerson 17 = .ok (.ireturn, 1) := dk_172 (dk_at dksX5_isPerson_0 17 rfl rfl)
abbrev SX5_isPerson (pc : Nat) (i : xI) : Prop := Snd "SwollenHouseModel" "isPerson" prog_25_method_51_code 2 (Option.some Jvm.ClassFile.FieldType.boolean) [] pc i
theorem oX5_isPerson_0 : SX5_isPerson 0 (i_iload 1 1) := snd_iload_n dX5_isPerson_0 rfl
theorem oX5_isPerson_1 : SX5_isPerson 1 (i_if1 (fun x => x < 0) 16 4) := snd_if_lt dX5_isPerson_1 (by decide)
theorem oX5_isPerson_4 : SX5_isPerson 4 (i_iload 1 5) := snd_iload_n dX5_isPerson_4 rfl
theorem oX5_isPerson_5 : SX5_isPerson 5 (i_aload 0 6) := snd_aload_n dX5_isPerson_5 rfl
theorem oX5_isPerson_6 : SX5_isPerson 6 (i_cv 4 252 0 9) := snd_cv rfl infX5_persons (by decide) rfl (xVm_V dX5_isPerson_6 rfl q1694 q1696 qs62 q136 q1697 pdX5_persons)
theorem oX5_isPerson_9 : SX5_isPerson 9 (i_if2 (fun x y => y ≤ x) 16 12) := snd_icmp_ge dX5_isPerson_9 (by decide)
theorem oX5_isPerson_12 : SX5_isPerson 12 (i_const (.int (nI 1)) 13) := snd_iconst dX5_isPerson_12 (by decide)
theorem oX5_isPerson_13 : SX5_isPerson 13 (i_goto 17) := snd_goto dX5_isPerson_13 (by decide)
theorem oX5_isPerson_16 : SX5_isPerson 16 (i_const (.int (nI 0)) 17) := snd_iconst dX5_isPerson_16 (by decide)
theorem oX5_isPerson_17 : SX5_isPerson 17 (i_zret) := snd_zret dX5_isPerson_17 rfl
theorem okX5_isPerson : ∀ q ∈ cX5_isPerson, SX5_isPerson q.1 q.2 := List.forall_mem_cons.mpr ⟨oX5_isPerson_0, List.forall_mem_cons.mpr ⟨oX5_isPerson_1, List.forall_mem_cons.mpr ⟨oX5_isPerson_4, List.forall_mem_cons.mpr ⟨oX5_isPerson_5, List.forall_mem_cons.mpr ⟨oX5_isPerson_6, List.forall_mem_cons.mpr ⟨oX5_isPerson_9, List.forall_mem_cons.mpr ⟨oX5_isPerson_12, List.forall_mem_cons.mpr ⟨oX5_isPerson_13, List.forall_mem_cons.mpr ⟨oX5_isPerson_16, List.forall_mem_cons.mpr ⟨oX5_isPerson_17, fun _ h => absurd h List.not_mem_nil⟩⟩⟩⟩⟩⟩⟩⟩⟩⟩
def dkwX5_day_0 : List UInt8 := [42, 3, 181, 0, 1, 42, 182, 1, 69, 42, 3, 182, 1, 72, 42, 3, 182, 1, 74, 172]
abbrev dktX5_day_0 : List UInt8 := dkwX5_day_0 ++ []
theorem dksX5_day_0 : bcX5_day.data.toList.drop 0 = dktX5_day_0 := by decide +kernel
theorem dX5_day_0 : decode bcX5_day 0 = .ok (.aload_n 0, 1) := dk_42 (dk_at dksX5_day_0 0 rfl rfl)
theorem dX5_day_1 : decode bcX5_day 1 = .ok (.iconst 0, 1) := dk_3 (dk_at dksX5_day_0 1 rfl rfl)
theorem dX5_day_2 : decode bcX5_day 2 = .ok (.putfield 1, 3) := dk_181 0 1 (dk_at dksX5_day_0 2 rfl rfl)
theorem dX5_day_5 : decode bcX5_day 5 = .ok (.aload_n 0, 1) := dk_42 (dk_at dksX5_day_0 5 rfl rfl)
theorem dX5_day_6 : decode bcX5_day 6 = .ok (.invokevirtual 325, 3) := dk_182 1 69 (dk_at dksX5_day_0 6 rfl rfl)
theorem dX5_day_9 : decode bcX5_day 9 = .ok (.aload_n 0, 1) := dk_42 (dk_at dksX5_day_0 9 rfl rfl)
theorem dX5_day_10 : decode bcX5_day 10 = .ok (.iconst 0, 1) := dk_3 (dk_at dksX5_day_0 10 rfl rfl)
theorem dX5_day_11 : decode bcX5_day 11 = .ok (.invokevirtual 328, 3) := dk_182 1 72 (dk_at dksX5_day_0 11 rfl rfl)
theorem dX5_day_14 : decode bcX5_day 14 = .ok (.aload_n 0, 1) := dk_42 (dk_at dksX5_day_0 14 rfl rfl)
theorem dX5_day_15 : decode bcX5_day 15 = .ok (.iconst 0, 1) := dk_3 (dk_at dksX5_day_0 15 rfl rfl)
theorem dX5_day_16 : decode bcX5_day 16 = .ok (.invokevirtual 330, 3) := dk_182 1 74 (dk_at dksX5_day_0 16 rfl rfl)
theorem dX5_day_19 : decode bcX5_day 19 = .ok (.ireturn, 1) := dk_172 (dk_at dksX5_day_0 19 rfl rfl)
abbrev SX5_day (pc : Nat) (i : xI) : Prop := Snd "SwollenHouseModel" "day" prog_25_method_69_code 1 (Option.some Jvm.ClassFile.FieldType.int) [] pc i
theorem oX5_day_0 : SX5_day 0 (i_aload 0 1) := snd_aload_n dX5_day_0 rfl
theorem oX5_day_1 : SX5_day 1 (i_const (.int (nI 0)) 2) := snd_iconst dX5_day_1 (by decide)
theorem oX5_day_2 : SX5_day 2 (i_putfi 4 0 5) := snd_putfi dX5_day_2 rfl (by decide) in_X5 tyX5 tyX5_ok nmX5 (Or.inl ⟨rfl, q1698⟩) (Or.inl rfl) rfl
theorem oX5_day_5 : SX5_day 5 (i_aload 0 6) := snd_aload_n dX5_day_5 rfl
theorem oX5_day_6 : SX5_day 6 (i_cvv 4 294 0 9) := snd_cvv rfl infX5_keeps (by decide) rfl (xVm_V dX5_day_6 rfl q1958 q1960 qs94 q136 q1961 pdX5_keeps)
theorem oX5_day_9 : SX5_day 9 (i_aload 0 10) := snd_aload_n dX5_day_9 rfl
theorem oX5_day_10 : SX5_day 10 (i_const (.int (nI 0)) 11) := snd_iconst dX5_day_10 (by decide)
theorem oX5_day_11 : SX5_day 11 (i_cvv 4 296 1 14) := snd_cvv rfl infX5_passes (by decide) rfl (xVm_V dX5_day_11 rfl q1966 q1968 qs96 q136 q1969 pdX5_passes)
theorem oX5_day_14 : SX5_day 14 (i_aload 0 15) := snd_aload_n dX5_day_14 rfl
theorem oX5_day_15 : SX5_day 15 (i_const (.int (nI 0)) 16) := snd_iconst dX5_day_15 (by decide)
theorem oX5_day_16 : SX5_day 16 (i_cv 4 302 1 19) := snd_cv rfl infX5_sticking (by decide) rfl (xVm_V dX5_day_16 rfl q1989 q1991 qs101 q136 q1992 pdX5_sticking)
theorem oX5_day_19 : SX5_day 19 (i_iret) := snd_iret dX5_day_19 rfl
theorem okX5_day : ∀ q ∈ cX5_day, SX5_day q.1 q.2 := List.forall_mem_cons.mpr ⟨oX5_day_0, List.forall_mem_cons.mpr ⟨oX5_day_1, List.forall_mem_cons.mpr ⟨oX5_day_2, List.forall_mem_cons.mpr ⟨oX5_day_5, List.forall_mem_cons.mpr ⟨oX5_day_6, List.forall_mem_cons.mpr ⟨oX5_day_9, List.forall_mem_cons.mpr ⟨oX5_day_10, List.forall_mem_cons.mpr ⟨oX5_day_11, List.forall_mem_cons.mpr ⟨oX5_day_14, List.forall_mem_cons.mpr ⟨oX5_day_15, List.forall_mem_cons.mpr ⟨oX5_day_16, List.forall_mem_cons.mpr ⟨oX5_day_19, fun _ h => absurd h List.not_mem_nil⟩⟩⟩⟩⟩⟩⟩⟩⟩⟩⟩⟩
def dkwX5_keeps_3 : List UInt8 := [180, 1, 29, 4, 96, 181, 1, 29, 177]
abbrev dktX5_keeps_3 : List UInt8 := dkwX5_keeps_3 ++ []
def dkwX5_keeps_2 : List UInt8 := [4, 100, 181, 1, 29, 42, 3, 16, 65, 8, 42, 180, 1, 29, 96, 104, 16, 23, 182, 1, 32, 42, 89]
abbrev dktX5_keeps_2 : List UInt8 := dkwX5_keeps_2 ++ dktX5_keeps_3
def dkwX5_keeps_1 : List UInt8 := [16, 65, 8, 27, 96, 4, 100, 104, 16, 23, 182, 1, 32, 132, 1, 1, 167, 255, 227, 42, 89, 180, 1, 29]
abbrev dktX5_keeps_1 : List UInt8 := dkwX5_keeps_1 ++ dktX5_keeps_2
def dkwX5_keeps_0 : List UInt8 := [42, 180, 1, 29, 16, 16, 160, 0, 47, 4, 60, 27, 16, 16, 162, 0, 29, 42, 16, 65, 8, 27, 96, 104]
abbrev dktX5_keeps_0 : List UInt8 := dkwX5_keeps_0 ++ dktX5_keeps_1
theorem dksX5_keeps_0 : bcX5_keeps.data.toList.drop 0 = dktX5_keeps_0 := by decide +kernel
theorem dksX5_keeps_1 : bcX5_keeps.data.toList.drop 24 = dktX5_keeps_1 := dk_seg dksX5_keeps_0 24 rfl rfl
theorem dksX5_keeps_2 : bcX5_keeps.data.toList.drop 48 = dktX5_keeps_2 := dk_seg dksX5_keeps_1 24 rfl rfl
theorem dksX5_keeps_3 : bcX5_keeps.data.toList.drop 71 = dktX5_keeps_3 := dk_seg dksX5_keeps_2 23 rfl rfl
theorem dX5_keeps_0 : decode bcX5_keeps 0 = .ok (.aload_n 0, 1) := dk_42 (dk_at dksX5_keeps_0 0 rfl rfl)
theorem dX5_keeps_1 : decode bcX5_keeps 1 = .ok (.getfield 285, 3) := dk_180 1 29 (dk_at dksX5_keeps_0 1 rfl rfl)
theorem dX5_keeps_4 : decode bcX5_keeps 4 = .ok (.bipush 16, 2) := dk_16 16 (dk_at dksX5_keeps_0 4 rfl rfl)
theorem dX5_keeps_6 : decode bcX5_keeps 6 = .ok (.if_icmp .ne 47, 3) := dk_160 0 47 (dk_at dksX5_keeps_0 6 rfl rfl)
theorem dX5_keeps_9 : decode bcX5_keeps 9 = .ok (.iconst 1, 1) := dk_4 (dk_at dksX5_keeps_0 9 rfl rfl)
theorem dX5_keeps_10 : decode bcX5_keeps 10 = .ok (.istore_n 1, 1) := dk_60 (dk_at dksX5_keeps_0 10 rfl rfl)
theorem dX5_keeps_11 : decode bcX5_keeps 11 = .ok (.iload_n 1, 1) := dk_27 (dk_at dksX5_keeps_0 11 rfl rfl)
theorem dX5_keeps_12 : decode bcX5_keeps 12 = .ok (.bipush 16, 2) := dk_16 16 (dk_at dksX5_keeps_0 12 rfl rfl)
theorem dX5_keeps_14 : decode bcX5_keeps 14 = .ok (.if_icmp .ge 29, 3) := dk_162 0 29 (dk_at dksX5_keeps_0 14 rfl rfl)
theorem dX5_keeps_17 : decode bcX5_keeps 17 = .ok (.aload_n 0, 1) := dk_42 (dk_at dksX5_keeps_0 17 rfl rfl)
theorem dX5_keeps_18 : decode bcX5_keeps 18 = .ok (.bipush 65, 2) := dk_16 65 (dk_at dksX5_keeps_0 18 rfl rfl)
theorem dX5_keeps_20 : decode bcX5_keeps 20 = .ok (.iconst 5, 1) := dk_8 (dk_at dksX5_keeps_0 20 rfl rfl)
theorem dX5_keeps_21 : decode bcX5_keeps 21 = .ok (.iload_n 1, 1) := dk_27 (dk_at dksX5_keeps_0 21 rfl rfl)
theorem dX5_keeps_22 : decode bcX5_keeps 22 = .ok (.iadd, 1) := dk_96 (dk_at dksX5_keeps_0 22 rfl rfl)
theorem dX5_keeps_23 : decode bcX5_keeps 23 = .ok (.imul, 1) := dk_104 (dk_at dksX5_keeps_0 23 rfl rfl)
theorem dX5_keeps_24 : decode bcX5_keeps 24 = .ok (.bipush 65, 2) := dk_16 65 (dk_at dksX5_keeps_1 0 rfl rfl)
theorem dX5_keeps_26 : decode bcX5_keeps 26 = .ok (.iconst 5, 1) := dk_8 (dk_at dksX5_keeps_1 2 rfl rfl)
theorem dX5_keeps_27 : decode bcX5_keeps 27 = .ok (.iload_n 1, 1) := dk_27 (dk_at dksX5_keeps_1 3 rfl rfl)
theorem dX5_keeps_28 : decode bcX5_keeps 28 = .ok (.iadd, 1) := dk_96 (dk_at dksX5_keeps_1 4 rfl rfl)
theorem dX5_keeps_29 : decode bcX5_keeps 29 = .ok (.iconst 1, 1) := dk_4 (dk_at dksX5_keeps_1 5 rfl rfl)
theorem dX5_keeps_30 : decode bcX5_keeps 30 = .ok (.isub, 1) := dk_100 (dk_at dksX5_keeps_1 6 rfl rfl)
theorem dX5_keeps_31 : decode bcX5_keeps 31 = .ok (.imul, 1) := dk_104 (dk_at dksX5_keeps_1 7 rfl rfl)
theorem dX5_keeps_32 : decode bcX5_keeps 32 = .ok (.bipush 23, 2) := dk_16 23 (dk_at dksX5_keeps_1 8 rfl rfl)
theorem dX5_keeps_34 : decode bcX5_keeps 34 = .ok (.invokevirtual 288, 3) := dk_182 1 32 (dk_at dksX5_keeps_1 10 rfl rfl)
theorem dX5_keeps_37 : decode bcX5_keeps 37 = .ok (.iinc 1 1, 3) := dk_132 1 1 (dk_at dksX5_keeps_1 13 rfl rfl)
theorem dX5_keeps_40 : decode bcX5_keeps 40 = .ok (.goto (-29), 3) := dk_167 255 227 (dk_at dksX5_keeps_1 16 rfl rfl)
theorem dX5_keeps_43 : decode bcX5_keeps 43 = .ok (.aload_n 0, 1) := dk_42 (dk_at dksX5_keeps_1 19 rfl rfl)
theorem dX5_keeps_44 : decode bcX5_keeps 44 = .ok (.dup, 1) := dk_89 (dk_at dksX5_keeps_1 20 rfl rfl)
theorem dX5_keeps_45 : decode bcX5_keeps 45 = .ok (.getfield 285, 3) := dk_180 1 29 (dk_at dksX5_keeps_1 21 rfl rfl)
theorem dX5_keeps_48 : decode bcX5_keeps 48 = .ok (.iconst 1, 1) := dk_4 (dk_at dksX5_keeps_2 0 rfl rfl)
theorem dX5_keeps_49 : decode bcX5_keeps 49 = .ok (.isub, 1) := dk_100 (dk_at dksX5_keeps_2 1 rfl rfl)
theorem dX5_keeps_50 : decode bcX5_keeps 50 = .ok (.putfield 285, 3) := dk_181 1 29 (dk_at dksX5_keeps_2 2 rfl rfl)
theorem dX5_keeps_53 : decode bcX5_keeps 53 = .ok (.aload_n 0, 1) := dk_42 (dk_at dksX5_keeps_2 5 rfl rfl)
theorem dX5_keeps_54 : decode bcX5_keeps 54 = .ok (.iconst 0, 1) := dk_3 (dk_at dksX5_keeps_2 6 rfl rfl)
theorem dX5_keeps_55 : decode bcX5_keeps 55 = .ok (.bipush 65, 2) := dk_16 65 (dk_at dksX5_keeps_2 7 rfl rfl)
theorem dX5_keeps_57 : decode bcX5_keeps 57 = .ok (.iconst 5, 1) := dk_8 (dk_at dksX5_keeps_2 9 rfl rfl)
theorem dX5_keeps_58 : decode bcX5_keeps 58 = .ok (.aload_n 0, 1) := dk_42 (dk_at dksX5_keeps_2 10 rfl rfl)
theorem dX5_keeps_59 : decode bcX5_keeps 59 = .ok (.getfield 285, 3) := dk_180 1 29 (dk_at dksX5_keeps_2 11 rfl rfl)
theorem dX5_keeps_62 : decode bcX5_keeps 62 = .ok (.iadd, 1) := dk_96 (dk_at dksX5_keeps_2 14 rfl rfl)
theorem dX5_keeps_63 : decode bcX5_keeps 63 = .ok (.imul, 1) := dk_104 (dk_at dksX5_keeps_2 15 rfl rfl)
theorem dX5_keeps_64 : decode bcX5_keeps 64 = .ok (.bipush 23, 2) := dk_16 23 (dk_at dksX5_keeps_2 16 rfl rfl)
theorem dX5_keeps_66 : decode bcX5_keeps 66 = .ok (.invokevirtual 288, 3) := dk_182 1 32 (dk_at dksX5_keeps_2 18 rfl rfl)
theorem dX5_keeps_69 : decode bcX5_keeps 69 = .ok (.aload_n 0, 1) := dk_42 (dk_at dksX5_keeps_2 21 rfl rfl)
theorem dX5_keeps_70 : decode bcX5_keeps 70 = .ok (.dup, 1) := dk_89 (dk_at dksX5_keeps_2 22 rfl rfl)
theorem dX5_keeps_71 : decode bcX5_keeps 71 = .ok (.getfield 285, 3) := dk_180 1 29 (dk_at dksX5_keeps_3 0 rfl rfl)
theorem dX5_keeps_74 : decode bcX5_keeps 74 = .ok (.iconst 1, 1) := dk_4 (dk_at dksX5_keeps_3 3 rfl rfl)
theorem dX5_keeps_75 : decode bcX5_keeps 75 = .ok (.iadd, 1) := dk_96 (dk_at dksX5_keeps_3 4 rfl rfl)
theorem dX5_keeps_76 : decode bcX5_keeps 76 = .ok (.putfield 285, 3) := dk_181 1 29 (dk_at dksX5_keeps_3 5 rfl rfl)
theorem dX5_keeps_79 : decode bcX5_keeps 79 = .ok (.return_, 1) := dk_177 (dk_at dksX5_keeps_3 8 rfl rfl)
abbrev SX5_keeps (pc : Nat) (i : xI) : Prop := Snd "SwollenHouseModel" "keeps" prog_25_method_44_code 2 (Option.none : Option Jvm.ClassFile.FieldType) [] pc i
theorem oX5_keeps_0 : SX5_keeps 0 (i_aload 0 1) := snd_aload_n dX5_keeps_0 rfl
theorem oX5_keeps_1 : SX5_keeps 1 (i_getf 4 25 4) := snd_getf dX5_keeps_1 rfl (by decide) in_X5 (Or.inl q1723) (Or.inl rfl) (by decide)
theorem oX5_keeps_4 : SX5_keeps 4 (i_const (.int (nI 16)) 6) := snd_bipush dX5_keeps_4 (by decide)
theorem oX5_keeps_6 : SX5_keeps 6 (i_if2 (fun x y => ¬ x = y) 53 9) := snd_icmp_ne dX5_keeps_6 (by decide)
theorem oX5_keeps_9 : SX5_keeps 9 (i_const (.int (nI 1)) 10) := snd_iconst dX5_keeps_9 (by decide)
theorem oX5_keeps_10 : SX5_keeps 10 (i_istore 1 11) := snd_istore_n dX5_keeps_10 rfl (by decide)
theorem oX5_keeps_11 : SX5_keeps 11 (i_iload 1 12) := snd_iload_n dX5_keeps_11 rfl
theorem oX5_keeps_12 : SX5_keeps 12 (i_const (.int (nI 16)) 14) := snd_bipush dX5_keeps_12 (by decide)
theorem oX5_keeps_14 : SX5_keeps 14 (i_if2 (fun x y => y ≤ x) 43 17) := snd_icmp_ge dX5_keeps_14 (by decide)
theorem oX5_keeps_17 : SX5_keeps 17 (i_aload 0 18) := snd_aload_n dX5_keeps_17 rfl
theorem oX5_keeps_18 : SX5_keeps 18 (i_const (.int (nI 65)) 20) := snd_bipush dX5_keeps_18 (by decide)
theorem oX5_keeps_20 : SX5_keeps 20 (i_const (.int (nI 5)) 21) := snd_iconst dX5_keeps_20 (by decide)
theorem oX5_keeps_21 : SX5_keeps 21 (i_iload 1 22) := snd_iload_n dX5_keeps_21 rfl
theorem oX5_keeps_22 : SX5_keeps 22 (i_ii (fun x y => x + y) 23) := snd_iadd dX5_keeps_22
theorem oX5_keeps_23 : SX5_keeps 23 (i_ii (fun x y => x * y) 24) := snd_imul dX5_keeps_23
theorem oX5_keeps_24 : SX5_keeps 24 (i_const (.int (nI 65)) 26) := snd_bipush dX5_keeps_24 (by decide)
theorem oX5_keeps_26 : SX5_keeps 26 (i_const (.int (nI 5)) 27) := snd_iconst dX5_keeps_26 (by decide)
theorem oX5_keeps_27 : SX5_keeps 27 (i_iload 1 28) := snd_iload_n dX5_keeps_27 rfl
theorem oX5_keeps_28 : SX5_keeps 28 (i_ii (fun x y => x + y) 29) := snd_iadd dX5_keeps_28
theorem oX5_keeps_29 : SX5_keeps 29 (i_const (.int (nI 1)) 30) := snd_iconst dX5_keeps_29 (by decide)
theorem oX5_keeps_30 : SX5_keeps 30 (i_ii (fun x y => x - y) 31) := snd_isub dX5_keeps_30
theorem oX5_keeps_31 : SX5_keeps 31 (i_ii (fun x y => x * y) 32) := snd_imul dX5_keeps_31
theorem oX5_keeps_32 : SX5_keeps 32 (i_const (.int (nI 23)) 34) := snd_bipush dX5_keeps_32 (by decide)
theorem oX5_keeps_34 : SX5_keeps 34 (i_cvv 4 295 3 37) := snd_cvv rfl infX5_copies (by decide) rfl (xVm_V dX5_keeps_34 rfl q1962 q1964 qs95 q136 q1965 pdX5_copies)
theorem oX5_keeps_37 : SX5_keeps 37 (i_iinc 1 (nI 1) 40) := snd_iinc dX5_keeps_37 (by decide) (by decide)
theorem oX5_keeps_40 : SX5_keeps 40 (i_goto 11) := snd_goto dX5_keeps_40 (by decide)
theorem oX5_keeps_43 : SX5_keeps 43 (i_aload 0 44) := snd_aload_n dX5_keeps_43 rfl
theorem oX5_keeps_44 : SX5_keeps 44 (i_dup 45) := snd_dup dX5_keeps_44
theorem oX5_keeps_45 : SX5_keeps 45 (i_getf 4 25 48) := snd_getf dX5_keeps_45 rfl (by decide) in_X5 (Or.inl q1723) (Or.inl rfl) (by decide)
theorem oX5_keeps_48 : SX5_keeps 48 (i_const (.int (nI 1)) 49) := snd_iconst dX5_keeps_48 (by decide)
theorem oX5_keeps_49 : SX5_keeps 49 (i_ii (fun x y => x - y) 50) := snd_isub dX5_keeps_49
theorem oX5_keeps_50 : SX5_keeps 50 (i_putfi 4 25 53) := snd_putfi dX5_keeps_50 rfl (by decide) in_X5 tyX5 tyX5_ok nmX5 (Or.inl ⟨rfl, q1723⟩) (Or.inl rfl) rfl
theorem oX5_keeps_53 : SX5_keeps 53 (i_aload 0 54) := snd_aload_n dX5_keeps_53 rfl
theorem oX5_keeps_54 : SX5_keeps 54 (i_const (.int (nI 0)) 55) := snd_iconst dX5_keeps_54 (by decide)
theorem oX5_keeps_55 : SX5_keeps 55 (i_const (.int (nI 65)) 57) := snd_bipush dX5_keeps_55 (by decide)
theorem oX5_keeps_57 : SX5_keeps 57 (i_const (.int (nI 5)) 58) := snd_iconst dX5_keeps_57 (by decide)
theorem oX5_keeps_58 : SX5_keeps 58 (i_aload 0 59) := snd_aload_n dX5_keeps_58 rfl
theorem oX5_keeps_59 : SX5_keeps 59 (i_getf 4 25 62) := snd_getf dX5_keeps_59 rfl (by decide) in_X5 (Or.inl q1723) (Or.inl rfl) (by decide)
theorem oX5_keeps_62 : SX5_keeps 62 (i_ii (fun x y => x + y) 63) := snd_iadd dX5_keeps_62
theorem oX5_keeps_63 : SX5_keeps 63 (i_ii (fun x y => x * y) 64) := snd_imul dX5_keeps_63
theorem oX5_keeps_64 : SX5_keeps 64 (i_const (.int (nI 23)) 66) := snd_bipush dX5_keeps_64 (by decide)
theorem oX5_keeps_66 : SX5_keeps 66 (i_cvv 4 295 3 69) := snd_cvv rfl infX5_copies (by decide) rfl (xVm_V dX5_keeps_66 rfl q1962 q1964 qs95 q136 q1965 pdX5_copies)
theorem oX5_keeps_69 : SX5_keeps 69 (i_aload 0 70) := snd_aload_n dX5_keeps_69 rfl
theorem oX5_keeps_70 : SX5_keeps 70 (i_dup 71) := snd_dup dX5_keeps_70
theorem oX5_keeps_71 : SX5_keeps 71 (i_getf 4 25 74) := snd_getf dX5_keeps_71 rfl (by decide) in_X5 (Or.inl q1723) (Or.inl rfl) (by decide)
theorem oX5_keeps_74 : SX5_keeps 74 (i_const (.int (nI 1)) 75) := snd_iconst dX5_keeps_74 (by decide)
theorem oX5_keeps_75 : SX5_keeps 75 (i_ii (fun x y => x + y) 76) := snd_iadd dX5_keeps_75
theorem oX5_keeps_76 : SX5_keeps 76 (i_putfi 4 25 79) := snd_putfi dX5_keeps_76 rfl (by decide) in_X5 tyX5 tyX5_ok nmX5 (Or.inl ⟨rfl, q1723⟩) (Or.inl rfl) rfl
theorem oX5_keeps_79 : SX5_keeps 79 (i_vret) := snd_vret dX5_keeps_79 rfl
theorem okX5_keeps : ∀ q ∈ cX5_keeps, SX5_keeps q.1 q.2 := List.forall_mem_cons.mpr ⟨oX5_keeps_0, List.forall_mem_cons.mpr ⟨oX5_keeps_1, List.forall_mem_cons.mpr ⟨oX5_keeps_4, List.forall_mem_cons.mpr ⟨oX5_keeps_6, List.forall_mem_cons.mpr ⟨oX5_keeps_9, List.forall_mem_cons.mpr ⟨oX5_keeps_10, List.forall_mem_cons.mpr ⟨oX5_keeps_11, List.forall_mem_cons.mpr ⟨oX5_keeps_12, List.forall_mem_cons.mpr ⟨oX5_keeps_14, List.forall_mem_cons.mpr ⟨oX5_keeps_17, List.forall_mem_cons.mpr ⟨oX5_keeps_18, List.forall_mem_cons.mpr ⟨oX5_keeps_20, List.forall_mem_cons.mpr ⟨oX5_keeps_21, List.forall_mem_cons.mpr ⟨oX5_keeps_22, List.forall_mem_cons.mpr ⟨oX5_keeps_23, List.forall_mem_cons.mpr ⟨oX5_keeps_24, List.forall_mem_cons.mpr ⟨oX5_keeps_26, List.forall_mem_cons.mpr ⟨oX5_keeps_27, List.forall_mem_cons.mpr ⟨oX5_keeps_28, List.forall_mem_cons.mpr ⟨oX5_keeps_29, List.forall_mem_cons.mpr ⟨oX5_keeps_30, List.forall_mem_cons.mpr ⟨oX5_keeps_31, List.forall_mem_cons.mpr ⟨oX5_keeps_32, List.forall_mem_cons.mpr ⟨oX5_keeps_34, List.forall_mem_cons.mpr ⟨oX5_keeps_37, List.forall_mem_cons.mpr ⟨oX5_keeps_40, List.forall_mem_cons.mpr ⟨oX5_keeps_43, List.forall_mem_cons.mpr ⟨oX5_keeps_44, List.forall_mem_cons.mpr ⟨oX5_keeps_45, List.forall_mem_cons.mpr ⟨oX5_keeps_48, List.forall_mem_cons.mpr ⟨oX5_keeps_49, List.forall_mem_cons.mpr ⟨oX5_keeps_50, List.forall_mem_cons.mpr ⟨oX5_keeps_53, List.forall_mem_cons.mpr ⟨oX5_keeps_54, List.forall_mem_cons.mpr ⟨oX5_keeps_55, List.forall_mem_cons.mpr ⟨oX5_keeps_57, List.forall_mem_cons.mpr ⟨oX5_keeps_58, List.forall_mem_cons.mpr ⟨oX5_keeps_59, List.forall_mem_cons.mpr ⟨oX5_keeps_62, List.forall_mem_cons.mpr ⟨oX5_keeps_63, List.forall_mem_cons.mpr ⟨oX5_keeps_64, List.forall_mem_cons.mpr ⟨oX5_keeps_66, List.forall_mem_cons.mpr ⟨oX5_keeps_69, List.forall_mem_cons.mpr ⟨oX5_keeps_70, List.forall_mem_cons.mpr ⟨oX5_keeps_71, List.forall_mem_cons.mpr ⟨oX5_keeps_74, List.forall_mem_cons.mpr ⟨oX5_keeps_75, List.forall_mem_cons.mpr ⟨oX5_keeps_76, List.forall_mem_cons.mpr ⟨oX5_keeps_79, fun _ h => absurd h List.not_mem_nil⟩⟩⟩⟩⟩⟩⟩⟩⟩⟩⟩⟩⟩⟩⟩⟩⟩⟩⟩⟩⟩⟩⟩⟩⟩⟩⟩⟩⟩⟩⟩⟩⟩⟩⟩⟩⟩⟩⟩⟩⟩⟩⟩⟩⟩⟩⟩⟩⟩
def dkwX5_copies_1 : List UInt8 := [96, 46, 79, 132, 4, 1, 167, 255, 229, 177]
abbrev dktX5_copies_1 : List UInt8 := dkwX5_copies_1 ++ []
def dkwX5_copies_0 : List UInt8 := [3, 54, 4, 21, 4, 29, 162, 0, 27, 42, 180, 0, 113, 28, 21, 4, 96, 42, 180, 0, 113, 27, 21, 4]
abbrev dktX5_copies_0 : List UInt8 := dkwX5_copies_0 ++ dktX5_copies_1
theorem dksX5_copies_0 : bcX5_copies.data.toList.drop 0 = dktX5_copies_0 := by decide +kernel
theorem dksX5_copies_1 : bcX5_copies.data.toList.drop 24 = dktX5_copies_1 := dk_seg dksX5_copies_0 24 rfl rfl
theorem dX5_copies_0 : decode bcX5_copies 0 = .ok (.iconst 0, 1) := dk_3 (dk_at dksX5_copies_0 0 rfl rfl)
theorem dX5_copies_1 : decode bcX5_copies 1 = .ok (.istore 4, 2) := dk_54 4 (dk_at dksX5_copies_0 1 rfl rfl)
theorem dX5_copies_3 : decode bcX5_copies 3 = .ok (.iload 4, 2) := dk_21 4 (dk_at dksX5_copies_0 3 rfl rfl)
theorem dX5_copies_5 : decode bcX5_copies 5 = .ok (.iload_n 3, 1) := dk_29 (dk_at dksX5_copies_0 5 rfl rfl)
theorem dX5_copies_6 : decode bcX5_copies 6 = .ok (.if_icmp .ge 27, 3) := dk_162 0 27 (dk_at dksX5_copies_0 6 rfl rfl)
theorem dX5_copies_9 : decode bcX5_copies 9 = .ok (.aload_n 0, 1) := dk_42 (dk_at dksX5_copies_0 9 rfl rfl)
theorem dX5_copies_10 : decode bcX5_copies 10 = .ok (.getfield 113, 3) := dk_180 0 113 (dk_at dksX5_copies_0 10 rfl rfl)
theorem dX5_copies_13 : decode bcX5_copies 13 = .ok (.iload_n 2, 1) := dk_28 (dk_at dksX5_copies_0 13 rfl rfl)
theorem dX5_copies_14 : decode bcX5_copies 14 = .ok (.iload 4, 2) := dk_21 4 (dk_at dksX5_copies_0 14 rfl rfl)
theorem dX5_copies_16 : decode bcX5_copies 16 = .ok (.iadd, 1) := dk_96 (dk_at dksX5_copies_0 16 rfl rfl)
theorem dX5_copies_17 : decode bcX5_copies 17 = .ok (.aload_n 0, 1) := dk_42 (dk_at dksX5_copies_0 17 rfl rfl)
theorem dX5_copies_18 : decode bcX5_copies 18 = .ok (.getfield 113, 3) := dk_180 0 113 (dk_at dksX5_copies_0 18 rfl rfl)
theorem dX5_copies_21 : decode bcX5_copies 21 = .ok (.iload_n 1, 1) := dk_27 (dk_at dksX5_copies_0 21 rfl rfl)
theorem dX5_copies_22 : decode bcX5_copies 22 = .ok (.iload 4, 2) := dk_21 4 (dk_at dksX5_copies_0 22 rfl rfl)
theorem dX5_copies_24 : decode bcX5_copies 24 = .ok (.iadd, 1) := dk_96 (dk_at dksX5_copies_1 0 rfl rfl)
theorem dX5_copies_25 : decode bcX5_copies 25 = .ok (.iaload, 1) := dk_46 (dk_at dksX5_copies_1 1 rfl rfl)
theorem dX5_copies_26 : decode bcX5_copies 26 = .ok (.iastore, 1) := dk_79 (dk_at dksX5_copies_1 2 rfl rfl)
theorem dX5_copies_27 : decode bcX5_copies 27 = .ok (.iinc 4 1, 3) := dk_132 4 1 (dk_at dksX5_copies_1 3 rfl rfl)
theorem dX5_copies_30 : decode bcX5_copies 30 = .ok (.goto (-27), 3) := dk_167 255 229 (dk_at dksX5_copies_1 6 rfl rfl)
theorem dX5_copies_33 : decode bcX5_copies 33 = .ok (.return_, 1) := dk_177 (dk_at dksX5_copies_1 9 rfl rfl)
abbrev SX5_copies (pc : Nat) (i : xI) : Prop := Snd "SwollenHouseModel" "copies" prog_25_method_41_code 5 (Option.none : Option Jvm.ClassFile.FieldType) [] pc i
theorem oX5_copies_0 : SX5_copies 0 (i_const (.int (nI 0)) 1) := snd_iconst dX5_copies_0 (by decide)
theorem oX5_copies_1 : SX5_copies 1 (i_istore 4 3) := snd_istore dX5_copies_1 (by decide)
theorem oX5_copies_3 : SX5_copies 3 (i_iload 4 5) := snd_iload dX5_copies_3
theorem oX5_copies_5 : SX5_copies 5 (i_iload 3 6) := snd_iload_n dX5_copies_5 rfl
theorem oX5_copies_6 : SX5_copies 6 (i_if2 (fun x y => y ≤ x) 33 9) := snd_icmp_ge dX5_copies_6 (by decide)
theorem oX5_copies_9 : SX5_copies 9 (i_aload 0 10) := snd_aload_n dX5_copies_9 rfl
theorem oX5_copies_10 : SX5_copies 10 (i_getf 4 24 13) := snd_getf dX5_copies_10 rfl (by decide) in_X5 (Or.inl q1722) (Or.inl rfl) (by decide)
theorem oX5_copies_13 : SX5_copies 13 (i_iload 2 14) := snd_iload_n dX5_copies_13 rfl
theorem oX5_copies_14 : SX5_copies 14 (i_iload 4 16) := snd_iload dX5_copies_14
theorem oX5_copies_16 : SX5_copies 16 (i_ii (fun x y => x + y) 17) := snd_iadd dX5_copies_16
theorem oX5_copies_17 : SX5_copies 17 (i_aload 0 18) := snd_aload_n dX5_copies_17 rfl
theorem oX5_copies_18 : SX5_copies 18 (i_getf 4 24 21) := snd_getf dX5_copies_18 rfl (by decide) in_X5 (Or.inl q1722) (Or.inl rfl) (by decide)
theorem oX5_copies_21 : SX5_copies 21 (i_iload 1 22) := snd_iload_n dX5_copies_21 rfl
theorem oX5_copies_22 : SX5_copies 22 (i_iload 4 24) := snd_iload dX5_copies_22
theorem oX5_copies_24 : SX5_copies 24 (i_ii (fun x y => x + y) 25) := snd_iadd dX5_copies_24
theorem oX5_copies_25 : SX5_copies 25 (i_ai 0 26) := snd_ai0 dX5_copies_25
theorem oX5_copies_26 : SX5_copies 26 (i_si (fun v => v) 0 27) := snd_si0 dX5_copies_26
theorem oX5_copies_27 : SX5_copies 27 (i_iinc 4 (nI 1) 30) := snd_iinc dX5_copies_27 (by decide) (by decide)
theorem oX5_copies_30 : SX5_copies 30 (i_goto 3) := snd_goto dX5_copies_30 (by decide)
theorem oX5_copies_33 : SX5_copies 33 (i_vret) := snd_vret dX5_copies_33 rfl
theorem okX5_copies : ∀ q ∈ cX5_copies, SX5_copies q.1 q.2 := List.forall_mem_cons.mpr ⟨oX5_copies_0, List.forall_mem_cons.mpr ⟨oX5_copies_1, List.forall_mem_cons.mpr ⟨oX5_copies_3, List.forall_mem_cons.mpr ⟨oX5_copies_5, List.forall_mem_cons.mpr ⟨oX5_copies_6, List.forall_mem_cons.mpr ⟨oX5_copies_9, List.forall_mem_cons.mpr ⟨oX5_copies_10, List.forall_mem_cons.mpr ⟨oX5_copies_13, List.forall_mem_cons.mpr ⟨oX5_copies_14, List.forall_mem_cons.mpr ⟨oX5_copies_16, List.forall_mem_cons.mpr ⟨oX5_copies_17, List.forall_mem_cons.mpr ⟨oX5_copies_18, List.forall_mem_cons.mpr ⟨oX5_copies_21, List.forall_mem_cons.mpr ⟨oX5_copies_22, List.forall_mem_cons.mpr ⟨oX5_copies_24, List.forall_mem_cons.mpr ⟨oX5_copies_25, List.forall_mem_cons.mpr ⟨oX5_copies_26, List.forall_mem_cons.mpr ⟨oX5_copies_27, List.forall_mem_cons.mpr ⟨oX5_copies_30, List.forall_mem_cons.mpr ⟨oX5_copies_33, fun _ h => absurd h List.not_mem_nil⟩⟩⟩⟩⟩⟩⟩⟩⟩⟩⟩⟩⟩⟩⟩⟩⟩⟩⟩⟩
def dkwX5_passes_0 : List UInt8 := [42, 27, 42, 42, 180, 0, 113, 27, 3, 96, 46, 182, 1, 54, 182, 1, 57, 177]
abbrev dktX5_passes_0 : List UInt8 := dkwX5_passes_0 ++ []
theorem dksX5_passes_0 : bcX5_passes.data.toList.drop 0 = dktX5_passes_0 := by decide +kernel
theorem dX5_passes_0 : decode bcX5_passes 0 = .ok (.aload_n 0, 1) := dk_42 (dk_at dksX5_passes_0 0 rfl rfl)
theorem dX5_passes_1 : decode bcX5_passes 1 = .ok (.iload_n 1, 1) := dk_27 (dk_at dksX5_passes_0 1 rfl rfl)
theorem dX5_passes_2 : decode bcX5_passes 2 = .ok (.aload_n 0, 1) := dk_42 (dk_at dksX5_passes_0 2 rfl rfl)
theorem dX5_passes_3 : decode bcX5_passes 3 = .ok (.aload_n 0, 1) := dk_42 (dk_at dksX5_passes_0 3 rfl rfl)
theorem dX5_passes_4 : decode bcX5_passes 4 = .ok (.getfield 113, 3) := dk_180 0 113 (dk_at dksX5_passes_0 4 rfl rfl)
theorem dX5_passes_7 : decode bcX5_passes 7 = .ok (.iload_n 1, 1) := dk_27 (dk_at dksX5_passes_0 7 rfl rfl)
theorem dX5_passes_8 : decode bcX5_passes 8 = .ok (.iconst 0, 1) := dk_3 (dk_at dksX5_passes_0 8 rfl rfl)
theorem dX5_passes_9 : decode bcX5_passes 9 = .ok (.iadd, 1) := dk_96 (dk_at dksX5_passes_0 9 rfl rfl)
theorem dX5_passes_10 : decode bcX5_passes 10 = .ok (.iaload, 1) := dk_46 (dk_at dksX5_passes_0 10 rfl rfl)
theorem dX5_passes_11 : decode bcX5_passes 11 = .ok (.invokevirtual 310, 3) := dk_182 1 54 (dk_at dksX5_passes_0 11 rfl rfl)
theorem dX5_passes_14 : decode bcX5_passes 14 = .ok (.invokevirtual 313, 3) := dk_182 1 57 (dk_at dksX5_passes_0 14 rfl rfl)
theorem dX5_passes_17 : decode bcX5_passes 17 = .ok (.return_, 1) := dk_177 (dk_at dksX5_passes_0 17 rfl rfl)
abbrev SX5_passes (pc : Nat) (i : xI) : Prop := Snd "SwollenHouseModel" "passes" prog_25_method_59_code 2 (Option.none : Option Jvm.ClassFile.FieldType) [] pc i
theorem oX5_passes_0 : SX5_passes 0 (i_aload 0 1) := snd_aload_n dX5_passes_0 rfl
theorem oX5_passes_1 : SX5_passes 1 (i_iload 1 2) := snd_iload_n dX5_passes_1 rfl
theorem oX5_passes_2 : SX5_passes 2 (i_aload 0 3) := snd_aload_n dX5_passes_2 rfl
theorem oX5_passes_3 : SX5_passes 3 (i_aload 0 4) := snd_aload_n dX5_passes_3 rfl
theorem oX5_passes_4 : SX5_passes 4 (i_getf 4 24 7) := snd_getf dX5_passes_4 rfl (by decide) in_X5 (Or.inl q1722) (Or.inl rfl) (by decide)
theorem oX5_passes_7 : SX5_passes 7 (i_iload 1 8) := snd_iload_n dX5_passes_7 rfl
theorem oX5_passes_8 : SX5_passes 8 (i_const (.int (nI 0)) 9) := snd_iconst dX5_passes_8 (by decide)
theorem oX5_passes_9 : SX5_passes 9 (i_ii (fun x y => x + y) 10) := snd_iadd dX5_passes_9
theorem oX5_passes_10 : SX5_passes 10 (i_ai 0 11) := snd_ai0 dX5_passes_10
theorem oX5_passes_11 : SX5_passes 11 (i_cv 4 297 1 14) := snd_cv rfl infX5_dampOn (by decide) rfl (xVm_V dX5_passes_11 rfl q1970 q1972 qs97 q136 q1973 pdX5_dampOn)
theorem oX5_passes_14 : SX5_passes 14 (i_cvv 4 298 2 17) := snd_cvv rfl infX5_passes_2 (by decide) rfl (xVm_V dX5_passes_14 rfl q1974 q1976 qs98 q136 q1977 pdX5_passes_2)
theorem oX5_passes_17 : SX5_passes 17 (i_vret) := snd_vret dX5_passes_17 rfl
theorem okX5_passes : ∀ q ∈ cX5_passes, SX5_passes q.1 q.2 := List.forall_mem_cons.mpr ⟨oX5_passes_0, List.forall_mem_cons.mpr ⟨oX5_passes_1, List.forall_mem_cons.mpr ⟨oX5_passes_2, List.forall_mem_cons.mpr ⟨oX5_passes_3, List.forall_mem_cons.mpr ⟨oX5_passes_4, List.forall_mem_cons.mpr ⟨oX5_passes_7, List.forall_mem_cons.mpr ⟨oX5_passes_8, List.forall_mem_cons.mpr ⟨oX5_passes_9, List.forall_mem_cons.mpr ⟨oX5_passes_10, List.forall_mem_cons.mpr ⟨oX5_passes_11, List.forall_mem_cons.mpr ⟨oX5_passes_14, List.forall_mem_cons.mpr ⟨oX5_passes_17, fun _ h => absurd h List.not_mem_nil⟩⟩⟩⟩⟩⟩⟩⟩⟩⟩⟩⟩
def dkwX5_dampOn_0 : List UInt8 := [42, 180, 0, 83, 16, 42, 27, 42, 180, 0, 83, 6, 46, 112, 96, 46, 172]
abbrev dktX5_dampOn_0 : List UInt8 := dkwX5_dampOn_0 ++ []
theorem dksX5_dampOn_0 : bcX5_dampOn.data.toList.drop 0 = dktX5_dampOn_0 := by decide +kernel
theorem dX5_dampOn_0 : decode bcX5_dampOn 0 = .ok (.aload_n 0, 1) := dk_42 (dk_at dksX5_dampOn_0 0 rfl rfl)
theorem dX5_dampOn_1 : decode bcX5_dampOn 1 = .ok (.getfield 83, 3) := dk_180 0 83 (dk_at dksX5_dampOn_0 1 rfl rfl)
theorem dX5_dampOn_4 : decode bcX5_dampOn 4 = .ok (.bipush 42, 2) := dk_16 42 (dk_at dksX5_dampOn_0 4 rfl rfl)
theorem dX5_dampOn_6 : decode bcX5_dampOn 6 = .ok (.iload_n 1, 1) := dk_27 (dk_at dksX5_dampOn_0 6 rfl rfl)
theorem dX5_dampOn_7 : decode bcX5_dampOn 7 = .ok (.aload_n 0, 1) := dk_42 (dk_at dksX5_dampOn_0 7 rfl rfl)
theorem dX5_dampOn_8 : decode bcX5_dampOn 8 = .ok (.getfield 83, 3) := dk_180 0 83 (dk_at dksX5_dampOn_0 8 rfl rfl)
theorem dX5_dampOn_11 : decode bcX5_dampOn 11 = .ok (.iconst 3, 1) := dk_6 (dk_at dksX5_dampOn_0 11 rfl rfl)
theorem dX5_dampOn_12 : decode bcX5_dampOn 12 = .ok (.iaload, 1) := dk_46 (dk_at dksX5_dampOn_0 12 rfl rfl)
theorem dX5_dampOn_13 : decode bcX5_dampOn 13 = .ok (.irem, 1) := dk_112 (dk_at dksX5_dampOn_0 13 rfl rfl)
theorem dX5_dampOn_14 : decode bcX5_dampOn 14 = .ok (.iadd, 1) := dk_96 (dk_at dksX5_dampOn_0 14 rfl rfl)
theorem dX5_dampOn_15 : decode bcX5_dampOn 15 = .ok (.iaload, 1) := dk_46 (dk_at dksX5_dampOn_0 15 rfl rfl)
theorem dX5_dampOn_16 : decode bcX5_dampOn 16 = .ok (.ireturn, 1) := dk_172 (dk_at dksX5_dampOn_0 16 rfl rfl)
abbrev SX5_dampOn (pc : Nat) (i : xI) : Prop := Snd "SwollenHouseModel" "dampOn" prog_25_method_52_code 2 (Option.some Jvm.ClassFile.FieldType.int) [] pc i
theorem oX5_dampOn_0 : SX5_dampOn 0 (i_aload 0 1) := snd_aload_n dX5_dampOn_0 rfl
theorem oX5_dampOn_1 : SX5_dampOn 1 (i_getf 4 10 4) := snd_getf dX5_dampOn_1 rfl (by decide) in_X5 (Or.inl q1708) (Or.inl rfl) (by decide)
theorem oX5_dampOn_4 : SX5_dampOn 4 (i_const (.int (nI 42)) 6) := snd_bipush dX5_dampOn_4 (by decide)
theorem oX5_dampOn_6 : SX5_dampOn 6 (i_iload 1 7) := snd_iload_n dX5_dampOn_6 rfl
theorem oX5_dampOn_7 : SX5_dampOn 7 (i_aload 0 8) := snd_aload_n dX5_dampOn_7 rfl
theorem oX5_dampOn_8 : SX5_dampOn 8 (i_getf 4 10 11) := snd_getf dX5_dampOn_8 rfl (by decide) in_X5 (Or.inl q1708) (Or.inl rfl) (by decide)
theorem oX5_dampOn_11 : SX5_dampOn 11 (i_const (.int (nI 3)) 12) := snd_iconst dX5_dampOn_11 (by decide)
theorem oX5_dampOn_12 : SX5_dampOn 12 (i_ai 0 13) := snd_ai0 dX5_dampOn_12
theorem oX5_dampOn_13 : SX5_dampOn 13 (i_iz (fun x y => x - x / y * y) 14) := snd_irem dX5_dampOn_13
theorem oX5_dampOn_14 : SX5_dampOn 14 (i_ii (fun x y => x + y) 15) := snd_iadd dX5_dampOn_14
theorem oX5_dampOn_15 : SX5_dampOn 15 (i_ai 0 16) := snd_ai0 dX5_dampOn_15
theorem oX5_dampOn_16 : SX5_dampOn 16 (i_iret) := snd_iret dX5_dampOn_16 rfl
theorem okX5_dampOn : ∀ q ∈ cX5_dampOn, SX5_dampOn q.1 q.2 := List.forall_mem_cons.mpr ⟨oX5_dampOn_0, List.forall_mem_cons.mpr ⟨oX5_dampOn_1, List.forall_mem_cons.mpr ⟨oX5_dampOn_4, List.forall_mem_cons.mpr ⟨oX5_dampOn_6, List.forall_mem_cons.mpr ⟨oX5_dampOn_7, List.forall_mem_cons.mpr ⟨oX5_dampOn_8, List.forall_mem_cons.mpr ⟨oX5_dampOn_11, List.forall_mem_cons.mpr ⟨oX5_dampOn_12, List.forall_mem_cons.mpr ⟨oX5_dampOn_13, List.forall_mem_cons.mpr ⟨oX5_dampOn_14, List.forall_mem_cons.mpr ⟨oX5_dampOn_15, List.forall_mem_cons.mpr ⟨oX5_dampOn_16, fun _ h => absurd h List.not_mem_nil⟩⟩⟩⟩⟩⟩⟩⟩⟩⟩⟩⟩
def dkwX5_passes_2_3 : List UInt8 := [42, 180, 0, 113, 27, 3, 96, 92, 46, 4, 96, 79, 177]
abbrev dktX5_passes_2_3 : List UInt8 := dkwX5_passes_2_3 ++ []
def dkwX5_passes_2_2 : List UInt8 := [167, 0, 17, 21, 4, 16, 30, 164, 0, 8, 16, 30, 167, 0, 5, 21, 4, 79, 132, 3, 1, 167, 255, 190]
abbrev dktX5_passes_2_2 : List UInt8 := dkwX5_passes_2_2 ++ dktX5_passes_2_3
def dkwX5_passes_2_1 : List UInt8 := [28, 182, 1, 51, 96, 54, 4, 42, 180, 0, 113, 27, 16, 10, 96, 29, 96, 21, 4, 156, 0, 7, 3]
abbrev dktX5_passes_2_1 : List UInt8 := dkwX5_passes_2_1 ++ dktX5_passes_2_2
def dkwX5_passes_2_0 : List UInt8 := [3, 62, 29, 42, 182, 1, 16, 162, 0, 64, 42, 180, 0, 113, 27, 16, 10, 96, 29, 96, 46, 42, 27, 29]
abbrev dktX5_passes_2_0 : List UInt8 := dkwX5_passes_2_0 ++ dktX5_passes_2_1
theorem dksX5_passes_2_0 : bcX5_passes_2.data.toList.drop 0 = dktX5_passes_2_0 := by decide +kernel
theorem dksX5_passes_2_1 : bcX5_passes_2.data.toList.drop 24 = dktX5_passes_2_1 := dk_seg dksX5_passes_2_0 24 rfl rfl
theorem dksX5_passes_2_2 : bcX5_passes_2.data.toList.drop 47 = dktX5_passes_2_2 := dk_seg dksX5_passes_2_1 23 rfl rfl
theorem dksX5_passes_2_3 : bcX5_passes_2.data.toList.drop 71 = dktX5_passes_2_3 := dk_seg dksX5_passes_2_2 24 rfl rfl
theorem dX5_passes_2_0 : decode bcX5_passes_2 0 = .ok (.iconst 0, 1) := dk_3 (dk_at dksX5_passes_2_0 0 rfl rfl)
theorem dX5_passes_2_1 : decode bcX5_passes_2 1 = .ok (.istore_n 3, 1) := dk_62 (dk_at dksX5_passes_2_0 1 rfl rfl)
theorem dX5_passes_2_2 : decode bcX5_passes_2 2 = .ok (.iload_n 3, 1) := dk_29 (dk_at dksX5_passes_2_0 2 rfl rfl)
theorem dX5_passes_2_3 : decode bcX5_passes_2 3 = .ok (.aload_n 0, 1) := dk_42 (dk_at dksX5_passes_2_0 3 rfl rfl)
theorem dX5_passes_2_4 : decode bcX5_passes_2 4 = .ok (.invokevirtual 272, 3) := dk_182 1 16 (dk_at dksX5_passes_2_0 4 rfl rfl)
theorem dX5_passes_2_7 : decode bcX5_passes_2 7 = .ok (.if_icmp .ge 64, 3) := dk_162 0 64 (dk_at dksX5_passes_2_0 7 rfl rfl)
theorem dX5_passes_2_10 : decode bcX5_passes_2 10 = .ok (.aload_n 0, 1) := dk_42 (dk_at dksX5_passes_2_0 10 rfl rfl)
theorem dX5_passes_2_11 : decode bcX5_passes_2 11 = .ok (.getfield 113, 3) := dk_180 0 113 (dk_at dksX5_passes_2_0 11 rfl rfl)
theorem dX5_passes_2_14 : decode bcX5_passes_2 14 = .ok (.iload_n 1, 1) := dk_27 (dk_at dksX5_passes_2_0 14 rfl rfl)
theorem dX5_passes_2_15 : decode bcX5_passes_2 15 = .ok (.bipush 10, 2) := dk_16 10 (dk_at dksX5_passes_2_0 15 rfl rfl)
theorem dX5_passes_2_17 : decode bcX5_passes_2 17 = .ok (.iadd, 1) := dk_96 (dk_at dksX5_passes_2_0 17 rfl rfl)
theorem dX5_passes_2_18 : decode bcX5_passes_2 18 = .ok (.iload_n 3, 1) := dk_29 (dk_at dksX5_passes_2_0 18 rfl rfl)
theorem dX5_passes_2_19 : decode bcX5_passes_2 19 = .ok (.iadd, 1) := dk_96 (dk_at dksX5_passes_2_0 19 rfl rfl)
theorem dX5_passes_2_20 : decode bcX5_passes_2 20 = .ok (.iaload, 1) := dk_46 (dk_at dksX5_passes_2_0 20 rfl rfl)
theorem dX5_passes_2_21 : decode bcX5_passes_2 21 = .ok (.aload_n 0, 1) := dk_42 (dk_at dksX5_passes_2_0 21 rfl rfl)
theorem dX5_passes_2_22 : decode bcX5_passes_2 22 = .ok (.iload_n 1, 1) := dk_27 (dk_at dksX5_passes_2_0 22 rfl rfl)
theorem dX5_passes_2_23 : decode bcX5_passes_2 23 = .ok (.iload_n 3, 1) := dk_29 (dk_at dksX5_passes_2_0 23 rfl rfl)
theorem dX5_passes_2_24 : decode bcX5_passes_2 24 = .ok (.iload_n 2, 1) := dk_28 (dk_at dksX5_passes_2_1 0 rfl rfl)
theorem dX5_passes_2_25 : decode bcX5_passes_2 25 = .ok (.invokevirtual 307, 3) := dk_182 1 51 (dk_at dksX5_passes_2_1 1 rfl rfl)
theorem dX5_passes_2_28 : decode bcX5_passes_2 28 = .ok (.iadd, 1) := dk_96 (dk_at dksX5_passes_2_1 4 rfl rfl)
theorem dX5_passes_2_29 : decode bcX5_passes_2 29 = .ok (.istore 4, 2) := dk_54 4 (dk_at dksX5_passes_2_1 5 rfl rfl)
theorem dX5_passes_2_31 : decode bcX5_passes_2 31 = .ok (.aload_n 0, 1) := dk_42 (dk_at dksX5_passes_2_1 7 rfl rfl)
theorem dX5_passes_2_32 : decode bcX5_passes_2 32 = .ok (.getfield 113, 3) := dk_180 0 113 (dk_at dksX5_passes_2_1 8 rfl rfl)
theorem dX5_passes_2_35 : decode bcX5_passes_2 35 = .ok (.iload_n 1, 1) := dk_27 (dk_at dksX5_passes_2_1 11 rfl rfl)
theorem dX5_passes_2_36 : decode bcX5_passes_2 36 = .ok (.bipush 10, 2) := dk_16 10 (dk_at dksX5_passes_2_1 12 rfl rfl)
theorem dX5_passes_2_38 : decode bcX5_passes_2 38 = .ok (.iadd, 1) := dk_96 (dk_at dksX5_passes_2_1 14 rfl rfl)
theorem dX5_passes_2_39 : decode bcX5_passes_2 39 = .ok (.iload_n 3, 1) := dk_29 (dk_at dksX5_passes_2_1 15 rfl rfl)
theorem dX5_passes_2_40 : decode bcX5_passes_2 40 = .ok (.iadd, 1) := dk_96 (dk_at dksX5_passes_2_1 16 rfl rfl)
theorem dX5_passes_2_41 : decode bcX5_passes_2 41 = .ok (.iload 4, 2) := dk_21 4 (dk_at dksX5_passes_2_1 17 rfl rfl)
theorem dX5_passes_2_43 : decode bcX5_passes_2 43 = .ok (.ifCond .ge 7, 3) := dk_156 0 7 (dk_at dksX5_passes_2_1 19 rfl rfl)
theorem dX5_passes_2_46 : decode bcX5_passes_2 46 = .ok (.iconst 0, 1) := dk_3 (dk_at dksX5_passes_2_1 22 rfl rfl)
theorem dX5_passes_2_47 : decode bcX5_passes_2 47 = .ok (.goto 17, 3) := dk_167 0 17 (dk_at dksX5_passes_2_2 0 rfl rfl)
theorem dX5_passes_2_50 : decode bcX5_passes_2 50 = .ok (.iload 4, 2) := dk_21 4 (dk_at dksX5_passes_2_2 3 rfl rfl)
theorem dX5_passes_2_52 : decode bcX5_passes_2 52 = .ok (.bipush 30, 2) := dk_16 30 (dk_at dksX5_passes_2_2 5 rfl rfl)
theorem dX5_passes_2_54 : decode bcX5_passes_2 54 = .ok (.if_icmp .le 8, 3) := dk_164 0 8 (dk_at dksX5_passes_2_2 7 rfl rfl)
theorem dX5_passes_2_57 : decode bcX5_passes_2 57 = .ok (.bipush 30, 2) := dk_16 30 (dk_at dksX5_passes_2_2 10 rfl rfl)
theorem dX5_passes_2_59 : decode bcX5_passes_2 59 = .ok (.goto 5, 3) := dk_167 0 5 (dk_at dksX5_passes_2_2 12 rfl rfl)
theorem dX5_passes_2_62 : decode bcX5_passes_2 62 = .ok (.iload 4, 2) := dk_21 4 (dk_at dksX5_passes_2_2 15 rfl rfl)
theorem dX5_passes_2_64 : decode bcX5_passes_2 64 = .ok (.iastore, 1) := dk_79 (dk_at dksX5_passes_2_2 17 rfl rfl)
theorem dX5_passes_2_65 : decode bcX5_passes_2 65 = .ok (.iinc 3 1, 3) := dk_132 3 1 (dk_at dksX5_passes_2_2 18 rfl rfl)
theorem dX5_passes_2_68 : decode bcX5_passes_2 68 = .ok (.goto (-66), 3) := dk_167 255 190 (dk_at dksX5_passes_2_2 21 rfl rfl)
theorem dX5_passes_2_71 : decode bcX5_passes_2 71 = .ok (.aload_n 0, 1) := dk_42 (dk_at dksX5_passes_2_3 0 rfl rfl)
theorem dX5_passes_2_72 : decode bcX5_passes_2 72 = .ok (.getfield 113, 3) := dk_180 0 113 (dk_at dksX5_passes_2_3 1 rfl rfl)
theorem dX5_passes_2_75 : decode bcX5_passes_2 75 = .ok (.iload_n 1, 1) := dk_27 (dk_at dksX5_passes_2_3 4 rfl rfl)
theorem dX5_passes_2_76 : decode bcX5_passes_2 76 = .ok (.iconst 0, 1) := dk_3 (dk_at dksX5_passes_2_3 5 rfl rfl)
theorem dX5_passes_2_77 : decode bcX5_passes_2 77 = .ok (.iadd, 1) := dk_96 (dk_at dksX5_passes_2_3 6 rfl rfl)
theorem dX5_passes_2_78 : decode bcX5_passes_2 78 = .ok (.dup2, 1) := dk_92 (dk_at dksX5_passes_2_3 7 rfl rfl)
theorem dX5_passes_2_79 : decode bcX5_passes_2 79 = .ok (.iaload, 1) := dk_46 (dk_at dksX5_passes_2_3 8 rfl rfl)
theorem dX5_passes_2_80 : decode bcX5_passes_2 80 = .ok (.iconst 1, 1) := dk_4 (dk_at dksX5_passes_2_3 9 rfl rfl)
theorem dX5_passes_2_81 : decode bcX5_passes_2 81 = .ok (.iadd, 1) := dk_96 (dk_at dksX5_passes_2_3 10 rfl rfl)
theorem dX5_passes_2_82 : decode bcX5_passes_2 82 = .ok (.iastore, 1) := dk_79 (dk_at dksX5_passes_2_3 11 rfl rfl)
theorem dX5_passes_2_83 : decode bcX5_passes_2 83 = .ok (.return_, 1) := dk_177 (dk_at dksX5_passes_2_3 12 rfl rfl)
abbrev SX5_passes_2 (pc : Nat) (i : xI) : Prop := Snd "SwollenHouseModel" "passes" prog_25_method_58_code 5 (Option.none : Option Jvm.ClassFile.FieldType) [] pc i
theorem oX5_passes_2_0 : SX5_passes_2 0 (i_const (.int (nI 0)) 1) := snd_iconst dX5_passes_2_0 (by decide)
theorem oX5_passes_2_1 : SX5_passes_2 1 (i_istore 3 2) := snd_istore_n dX5_passes_2_1 rfl (by decide)
theorem oX5_passes_2_2 : SX5_passes_2 2 (i_iload 3 3) := snd_iload_n dX5_passes_2_2 rfl
theorem oX5_passes_2_3 : SX5_passes_2 3 (i_aload 0 4) := snd_aload_n dX5_passes_2_3 rfl
theorem oX5_passes_2_4 : SX5_passes_2 4 (i_cv 4 250 0 7) := snd_cv rfl infX5_doors (by decide) rfl (xVm_V dX5_passes_2_4 rfl q1686 q1688 qs60 q136 q1689 pdX5_doors)
theorem oX5_passes_2_7 : SX5_passes_2 7 (i_if2 (fun x y => y ≤ x) 71 10) := snd_icmp_ge dX5_passes_2_7 (by decide)
theorem oX5_passes_2_10 : SX5_passes_2 10 (i_aload 0 11) := snd_aload_n dX5_passes_2_10 rfl
theorem oX5_passes_2_11 : SX5_passes_2 11 (i_getf 4 24 14) := snd_getf dX5_passes_2_11 rfl (by decide) in_X5 (Or.inl q1722) (Or.inl rfl) (by decide)
theorem oX5_passes_2_14 : SX5_passes_2 14 (i_iload 1 15) := snd_iload_n dX5_passes_2_14 rfl
theorem oX5_passes_2_15 : SX5_passes_2 15 (i_const (.int (nI 10)) 17) := snd_bipush dX5_passes_2_15 (by decide)
theorem oX5_passes_2_17 : SX5_passes_2 17 (i_ii (fun x y => x + y) 18) := snd_iadd dX5_passes_2_17
theorem oX5_passes_2_18 : SX5_passes_2 18 (i_iload 3 19) := snd_iload_n dX5_passes_2_18 rfl
theorem oX5_passes_2_19 : SX5_passes_2 19 (i_ii (fun x y => x + y) 20) := snd_iadd dX5_passes_2_19
theorem oX5_passes_2_20 : SX5_passes_2 20 (i_ai 0 21) := snd_ai0 dX5_passes_2_20
theorem oX5_passes_2_21 : SX5_passes_2 21 (i_aload 0 22) := snd_aload_n dX5_passes_2_21 rfl
theorem oX5_passes_2_22 : SX5_passes_2 22 (i_iload 1 23) := snd_iload_n dX5_passes_2_22 rfl
theorem oX5_passes_2_23 : SX5_passes_2 23 (i_iload 3 24) := snd_iload_n dX5_passes_2_23 rfl
theorem oX5_passes_2_24 : SX5_passes_2 24 (i_iload 2 25) := snd_iload_n dX5_passes_2_24 rfl
theorem oX5_passes_2_25 : SX5_passes_2 25 (i_cv 4 299 3 28) := snd_cv rfl infX5_moves (by decide) rfl (xVm_V dX5_passes_2_25 rfl q1978 q1980 qs99 q136 q1981 pdX5_moves)
theorem oX5_passes_2_28 : SX5_passes_2 28 (i_ii (fun x y => x + y) 29) := snd_iadd dX5_passes_2_28
theorem oX5_passes_2_29 : SX5_passes_2 29 (i_istore 4 31) := snd_istore dX5_passes_2_29 (by decide)
theorem oX5_passes_2_31 : SX5_passes_2 31 (i_aload 0 32) := snd_aload_n dX5_passes_2_31 rfl
theorem oX5_passes_2_32 : SX5_passes_2 32 (i_getf 4 24 35) := snd_getf dX5_passes_2_32 rfl (by decide) in_X5 (Or.inl q1722) (Or.inl rfl) (by decide)
theorem oX5_passes_2_35 : SX5_passes_2 35 (i_iload 1 36) := snd_iload_n dX5_passes_2_35 rfl
theorem oX5_passes_2_36 : SX5_passes_2 36 (i_const (.int (nI 10)) 38) := snd_bipush dX5_passes_2_36 (by decide)
theorem oX5_passes_2_38 : SX5_passes_2 38 (i_ii (fun x y => x + y) 39) := snd_iadd dX5_passes_2_38
theorem oX5_passes_2_39 : SX5_passes_2 39 (i_iload 3 40) := snd_iload_n dX5_passes_2_39 rfl
theorem oX5_passes_2_40 : SX5_passes_2 40 (i_ii (fun x y => x + y) 41) := snd_iadd dX5_passes_2_40
theorem oX5_passes_2_41 : SX5_passes_2 41 (i_iload 4 43) := snd_iload dX5_passes_2_41
theorem oX5_passes_2_43 : SX5_passes_2 43 (i_if1 (fun x => 0 ≤ x) 50 46) := snd_if_ge dX5_passes_2_43 (by decide)
theorem oX5_passes_2_46 : SX5_passes_2 46 (i_const (.int (nI 0)) 47) := snd_iconst dX5_passes_2_46 (by decide)
theorem oX5_passes_2_47 : SX5_passes_2 47 (i_goto 64) := snd_goto dX5_passes_2_47 (by decide)
theorem oX5_passes_2_50 : SX5_passes_2 50 (i_iload 4 52) := snd_iload dX5_passes_2_50
theorem oX5_passes_2_52 : SX5_passes_2 52 (i_const (.int (nI 30)) 54) := snd_bipush dX5_passes_2_52 (by decide)
theorem oX5_passes_2_54 : SX5_passes_2 54 (i_if2 (fun x y => x ≤ y) 62 57) := snd_icmp_le dX5_passes_2_54 (by decide)
theorem oX5_passes_2_57 : SX5_passes_2 57 (i_const (.int (nI 30)) 59) := snd_bipush dX5_passes_2_57 (by decide)
theorem oX5_passes_2_59 : SX5_passes_2 59 (i_goto 64) := snd_goto dX5_passes_2_59 (by decide)
theorem oX5_passes_2_62 : SX5_passes_2 62 (i_iload 4 64) := snd_iload dX5_passes_2_62
theorem oX5_passes_2_64 : SX5_passes_2 64 (i_si (fun v => v) 0 65) := snd_si0 dX5_passes_2_64
theorem oX5_passes_2_65 : SX5_passes_2 65 (i_iinc 3 (nI 1) 68) := snd_iinc dX5_passes_2_65 (by decide) (by decide)
theorem oX5_passes_2_68 : SX5_passes_2 68 (i_goto 2) := snd_goto dX5_passes_2_68 (by decide)
theorem oX5_passes_2_71 : SX5_passes_2 71 (i_aload 0 72) := snd_aload_n dX5_passes_2_71 rfl
theorem oX5_passes_2_72 : SX5_passes_2 72 (i_getf 4 24 75) := snd_getf dX5_passes_2_72 rfl (by decide) in_X5 (Or.inl q1722) (Or.inl rfl) (by decide)
theorem oX5_passes_2_75 : SX5_passes_2 75 (i_iload 1 76) := snd_iload_n dX5_passes_2_75 rfl
theorem oX5_passes_2_76 : SX5_passes_2 76 (i_const (.int (nI 0)) 77) := snd_iconst dX5_passes_2_76 (by decide)
theorem oX5_passes_2_77 : SX5_passes_2 77 (i_ii (fun x y => x + y) 78) := snd_iadd dX5_passes_2_77
theorem oX5_passes_2_78 : SX5_passes_2 78 (i_dup2 79) := snd_dup2 dX5_passes_2_78
theorem oX5_passes_2_79 : SX5_passes_2 79 (i_ai 0 80) := snd_ai0 dX5_passes_2_79
theorem oX5_passes_2_80 : SX5_passes_2 80 (i_const (.int (nI 1)) 81) := snd_iconst dX5_passes_2_80 (by decide)
theorem oX5_passes_2_81 : SX5_passes_2 81 (i_ii (fun x y => x + y) 82) := snd_iadd dX5_passes_2_81
theorem oX5_passes_2_82 : SX5_passes_2 82 (i_si (fun v => v) 0 83) := snd_si0 dX5_passes_2_82
theorem oX5_passes_2_83 : SX5_passes_2 83 (i_vret) := snd_vret dX5_passes_2_83 rfl
theorem okX5_passes_2 : ∀ q ∈ cX5_passes_2, SX5_passes_2 q.1 q.2 := List.forall_mem_cons.mpr ⟨oX5_passes_2_0, List.forall_mem_cons.mpr ⟨oX5_passes_2_1, List.forall_mem_cons.mpr ⟨oX5_passes_2_2, List.forall_mem_cons.mpr ⟨oX5_passes_2_3, List.forall_mem_cons.mpr ⟨oX5_passes_2_4, List.forall_mem_cons.mpr ⟨oX5_passes_2_7, List.forall_mem_cons.mpr ⟨oX5_passes_2_10, List.forall_mem_cons.mpr ⟨oX5_passes_2_11, List.forall_mem_cons.mpr ⟨oX5_passes_2_14, List.forall_mem_cons.mpr ⟨oX5_passes_2_15, List.forall_mem_cons.mpr ⟨oX5_passes_2_17, List.forall_mem_cons.mpr ⟨oX5_passes_2_18, List.forall_mem_cons.mpr ⟨oX5_passes_2_19, List.forall_mem_cons.mpr ⟨oX5_passes_2_20, List.forall_mem_cons.mpr ⟨oX5_passes_2_21, List.forall_mem_cons.mpr ⟨oX5_passes_2_22, List.forall_mem_cons.mpr ⟨oX5_passes_2_23, List.forall_mem_cons.mpr ⟨oX5_passes_2_24, List.forall_mem_cons.mpr ⟨oX5_passes_2_25, List.forall_mem_cons.mpr ⟨oX5_passes_2_28, List.forall_mem_cons.mpr ⟨oX5_passes_2_29, List.forall_mem_cons.mpr ⟨oX5_passes_2_31, List.forall_mem_cons.mpr ⟨oX5_passes_2_32, List.forall_mem_cons.mpr ⟨oX5_passes_2_35, List.forall_mem_cons.mpr ⟨oX5_passes_2_36, List.forall_mem_cons.mpr ⟨oX5_passes_2_38, List.forall_mem_cons.mpr ⟨oX5_passes_2_39, List.forall_mem_cons.mpr ⟨oX5_passes_2_40, List.forall_mem_cons.mpr ⟨oX5_passes_2_41, List.forall_mem_cons.mpr ⟨oX5_passes_2_43, List.forall_mem_cons.mpr ⟨oX5_passes_2_46, List.forall_mem_cons.mpr ⟨oX5_passes_2_47, List.forall_mem_cons.mpr ⟨oX5_passes_2_50, List.forall_mem_cons.mpr ⟨oX5_passes_2_52, List.forall_mem_cons.mpr ⟨oX5_passes_2_54, List.forall_mem_cons.mpr ⟨oX5_passes_2_57, List.forall_mem_cons.mpr ⟨oX5_passes_2_59, List.forall_mem_cons.mpr ⟨oX5_passes_2_62, List.forall_mem_cons.mpr ⟨oX5_passes_2_64, List.forall_mem_cons.mpr ⟨oX5_passes_2_65, List.forall_mem_cons.mpr ⟨oX5_passes_2_68, List.forall_mem_cons.mpr ⟨oX5_passes_2_71, List.forall_mem_cons.mpr ⟨oX5_passes_2_72, List.forall_mem_cons.mpr ⟨oX5_passes_2_75, List.forall_mem_cons.mpr ⟨oX5_passes_2_76, List.forall_mem_cons.mpr ⟨oX5_passes_2_77, List.forall_mem_cons.mpr ⟨oX5_passes_2_78, List.forall_mem_cons.mpr ⟨oX5_passes_2_79, List.forall_mem_cons.mpr ⟨oX5_passes_2_80, List.forall_mem_cons.mpr ⟨oX5_passes_2_81, List.forall_mem_cons.mpr ⟨oX5_passes_2_82, List.forall_mem_cons.mpr ⟨oX5_passes_2_83, fun _ h => absurd h List.not_mem_nil⟩⟩⟩⟩⟩⟩⟩⟩⟩⟩⟩⟩⟩⟩⟩⟩⟩⟩⟩⟩⟩⟩⟩⟩⟩⟩⟩⟩⟩⟩⟩⟩⟩⟩⟩⟩⟩⟩⟩⟩⟩⟩⟩⟩⟩⟩⟩⟩⟩⟩⟩⟩
def dkwX5_moves_9 : List UInt8 := [21, 7, 172]
abbrev dktX5_moves_9 : List UInt8 := dkwX5_moves_9 ++ []
def dkwX5_moves_8 : List UInt8 := [54, 7, 21, 7, 156, 0, 7, 3, 167, 0, 17, 21, 7, 16, 9, 164, 0, 8, 16, 9, 167, 0, 5]
abbrev dktX5_moves_8 : List UInt8 := dkwX5_moves_8 ++ dktX5_moves_9
def dkwX5_moves_7 : List UInt8 := [42, 180, 0, 83, 7, 46, 156, 0, 7, 4, 167, 0, 13, 42, 42, 180, 0, 83, 7, 46, 182, 1, 48]
abbrev dktX5_moves_7 : List UInt8 := dkwX5_moves_7 ++ dktX5_moves_8
def dkwX5_moves_6 : List UInt8 := [180, 0, 113, 27, 5, 96, 28, 96, 46, 79, 42, 180, 0, 107, 6, 42, 180, 0, 113, 27, 3, 96, 46, 79]
abbrev dktX5_moves_6 : List UInt8 := dkwX5_moves_6 ++ dktX5_moves_7
def dkwX5_moves_5 : List UInt8 := [79, 42, 180, 0, 107, 4, 42, 180, 0, 113, 27, 16, 10, 96, 28, 96, 46, 79, 42, 180, 0, 107, 5, 42]
abbrev dktX5_moves_5 : List UInt8 := dkwX5_moves_5 ++ dktX5_moves_6
def dkwX5_moves_4 : List UInt8 := [16, 254, 167, 0, 15, 21, 4, 5, 160, 0, 8, 16, 253, 167, 0, 4, 2, 172, 42, 180, 0, 107, 3, 29]
abbrev dktX5_moves_4 : List UInt8 := dkwX5_moves_4 ++ dktX5_moves_5
def dkwX5_moves_3 : List UInt8 := [54, 6, 29, 21, 5, 163, 0, 37, 29, 21, 6, 161, 0, 7, 3, 167, 0, 26, 21, 4, 4, 160, 0, 8]
abbrev dktX5_moves_3 : List UInt8 := dkwX5_moves_3 ++ dktX5_moves_4
def dkwX5_moves_2 : List UInt8 := [167, 0, 24, 21, 4, 4, 160, 0, 7, 7, 167, 0, 14, 21, 4, 5, 160, 0, 7, 4, 167, 0, 4, 6]
abbrev dktX5_moves_2 : List UInt8 := dkwX5_moves_2 ++ dktX5_moves_3
def dkwX5_moves_1 : List UInt8 := [7, 167, 0, 14, 21, 4, 5, 160, 0, 7, 8, 167, 0, 4, 6, 54, 5, 21, 4, 154, 0, 7, 5]
abbrev dktX5_moves_1 : List UInt8 := dkwX5_moves_1 ++ dktX5_moves_2
def dkwX5_moves_0 : List UInt8 := [42, 28, 5, 182, 1, 20, 54, 4, 21, 4, 154, 0, 8, 16, 6, 167, 0, 24, 21, 4, 4, 160, 0, 7]
abbrev dktX5_moves_0 : List UInt8 := dkwX5_moves_0 ++ dktX5_moves_1
theorem dksX5_moves_0 : bcX5_moves.data.toList.drop 0 = dktX5_moves_0 := by decide +kernel
theorem dksX5_moves_1 : bcX5_moves.data.toList.drop 24 = dktX5_moves_1 := dk_seg dksX5_moves_0 24 rfl rfl
theorem dksX5_moves_2 : bcX5_moves.data.toList.drop 47 = dktX5_moves_2 := dk_seg dksX5_moves_1 23 rfl rfl
theorem dksX5_moves_3 : bcX5_moves.data.toList.drop 71 = dktX5_moves_3 := dk_seg dksX5_moves_2 24 rfl rfl
theorem dksX5_moves_4 : bcX5_moves.data.toList.drop 95 = dktX5_moves_4 := dk_seg dksX5_moves_3 24 rfl rfl
theorem dksX5_moves_5 : bcX5_moves.data.toList.drop 119 = dktX5_moves_5 := dk_seg dksX5_moves_4 24 rfl rfl
theorem dksX5_moves_6 : bcX5_moves.data.toList.drop 143 = dktX5_moves_6 := dk_seg dksX5_moves_5 24 rfl rfl
theorem dksX5_moves_7 : bcX5_moves.data.toList.drop 167 = dktX5_moves_7 := dk_seg dksX5_moves_6 24 rfl rfl
theorem dksX5_moves_8 : bcX5_moves.data.toList.drop 190 = dktX5_moves_8 := dk_seg dksX5_moves_7 23 rfl rfl
theorem dksX5_moves_9 : bcX5_moves.data.toList.drop 213 = dktX5_moves_9 := dk_seg dksX5_moves_8 23 rfl rfl
theorem dX5_moves_0 : decode bcX5_moves 0 = .ok (.aload_n 0, 1) := dk_42 (dk_at dksX5_moves_0 0 rfl rfl)
theorem dX5_moves_1 : decode bcX5_moves 1 = .ok (.iload_n 2, 1) := dk_28 (dk_at dksX5_moves_0 1 rfl rfl)
theorem dX5_moves_2 : decode bcX5_moves 2 = .ok (.iconst 2, 1) := dk_5 (dk_at dksX5_moves_0 2 rfl rfl)
theorem dX5_moves_3 : decode bcX5_moves 3 = .ok (.invokevirtual 276, 3) := dk_182 1 20 (dk_at dksX5_moves_0 3 rfl rfl)
theorem dX5_moves_6 : decode bcX5_moves 6 = .ok (.istore 4, 2) := dk_54 4 (dk_at dksX5_moves_0 6 rfl rfl)
theorem dX5_moves_8 : decode bcX5_moves 8 = .ok (.iload 4, 2) := dk_21 4 (dk_at dksX5_moves_0 8 rfl rfl)
theorem dX5_moves_10 : decode bcX5_moves 10 = .ok (.ifCond .ne 8, 3) := dk_154 0 8 (dk_at dksX5_moves_0 10 rfl rfl)
theorem dX5_moves_13 : decode bcX5_moves 13 = .ok (.bipush 6, 2) := dk_16 6 (dk_at dksX5_moves_0 13 rfl rfl)
theorem dX5_moves_15 : decode bcX5_moves 15 = .ok (.goto 24, 3) := dk_167 0 24 (dk_at dksX5_moves_0 15 rfl rfl)
theorem dX5_moves_18 : decode bcX5_moves 18 = .ok (.iload 4, 2) := dk_21 4 (dk_at dksX5_moves_0 18 rfl rfl)
theorem dX5_moves_20 : decode bcX5_moves 20 = .ok (.iconst 1, 1) := dk_4 (dk_at dksX5_moves_0 20 rfl rfl)
theorem dX5_moves_21 : decode bcX5_moves 21 = .ok (.if_icmp .ne 7, 3) := dk_160 0 7 (dk_at dksX5_moves_0 21 rfl rfl)
theorem dX5_moves_24 : decode bcX5_moves 24 = .ok (.iconst 4, 1) := dk_7 (dk_at dksX5_moves_1 0 rfl rfl)
theorem dX5_moves_25 : decode bcX5_moves 25 = .ok (.goto 14, 3) := dk_167 0 14 (dk_at dksX5_moves_1 1 rfl rfl)
theorem dX5_moves_28 : decode bcX5_moves 28 = .ok (.iload 4, 2) := dk_21 4 (dk_at dksX5_moves_1 4 rfl rfl)
theorem dX5_moves_30 : decode bcX5_moves 30 = .ok (.iconst 2, 1) := dk_5 (dk_at dksX5_moves_1 6 rfl rfl)
theorem dX5_moves_31 : decode bcX5_moves 31 = .ok (.if_icmp .ne 7, 3) := dk_160 0 7 (dk_at dksX5_moves_1 7 rfl rfl)
theorem dX5_moves_34 : decode bcX5_moves 34 = .ok (.iconst 5, 1) := dk_8 (dk_at dksX5_moves_1 10 rfl rfl)
theorem dX5_moves_35 : decode bcX5_moves 35 = .ok (.goto 4, 3) := dk_167 0 4 (dk_at dksX5_moves_1 11 rfl rfl)
theorem dX5_moves_38 : decode bcX5_moves 38 = .ok (.iconst 3, 1) := dk_6 (dk_at dksX5_moves_1 14 rfl rfl)
theorem dX5_moves_39 : decode bcX5_moves 39 = .ok (.istore 5, 2) := dk_54 5 (dk_at dksX5_moves_1 15 rfl rfl)
theorem dX5_moves_41 : decode bcX5_moves 41 = .ok (.iload 4, 2) := dk_21 4 (dk_at dksX5_moves_1 17 rfl rfl)
theorem dX5_moves_43 : decode bcX5_moves 43 = .ok (.ifCond .ne 7, 3) := dk_154 0 7 (dk_at dksX5_moves_1 19 rfl rfl)
theorem dX5_moves_46 : decode bcX5_moves 46 = .ok (.iconst 2, 1) := dk_5 (dk_at dksX5_moves_1 22 rfl rfl)
theorem dX5_moves_47 : decode bcX5_moves 47 = .ok (.goto 24, 3) := dk_167 0 24 (dk_at dksX5_moves_2 0 rfl rfl)
theorem dX5_moves_50 : decode bcX5_moves 50 = .ok (.iload 4, 2) := dk_21 4 (dk_at dksX5_moves_2 3 rfl rfl)
theorem dX5_moves_52 : decode bcX5_moves 52 = .ok (.iconst 1, 1) := dk_4 (dk_at dksX5_moves_2 5 rfl rfl)
theorem dX5_moves_53 : decode bcX5_moves 53 = .ok (.if_icmp .ne 7, 3) := dk_160 0 7 (dk_at dksX5_moves_2 6 rfl rfl)
theorem dX5_moves_56 : decode bcX5_moves 56 = .ok (.iconst 4, 1) := dk_7 (dk_at dksX5_moves_2 9 rfl rfl)
theorem dX5_moves_57 : decode bcX5_moves 57 = .ok (.goto 14, 3) := dk_167 0 14 (dk_at dksX5_moves_2 10 rfl rfl)
theorem dX5_moves_60 : decode bcX5_moves 60 = .ok (.iload 4, 2) := dk_21 4 (dk_at dksX5_moves_2 13 rfl rfl)
theorem dX5_moves_62 : decode bcX5_moves 62 = .ok (.iconst 2, 1) := dk_5 (dk_at dksX5_moves_2 15 rfl rfl)
theorem dX5_moves_63 : decode bcX5_moves 63 = .ok (.if_icmp .ne 7, 3) := dk_160 0 7 (dk_at dksX5_moves_2 16 rfl rfl)
theorem dX5_moves_66 : decode bcX5_moves 66 = .ok (.iconst 1, 1) := dk_4 (dk_at dksX5_moves_2 19 rfl rfl)
theorem dX5_moves_67 : decode bcX5_moves 67 = .ok (.goto 4, 3) := dk_167 0 4 (dk_at dksX5_moves_2 20 rfl rfl)
theorem dX5_moves_70 : decode bcX5_moves 70 = .ok (.iconst 3, 1) := dk_6 (dk_at dksX5_moves_2 23 rfl rfl)
theorem dX5_moves_71 : decode bcX5_moves 71 = .ok (.istore 6, 2) := dk_54 6 (dk_at dksX5_moves_3 0 rfl rfl)
theorem dX5_moves_73 : decode bcX5_moves 73 = .ok (.iload_n 3, 1) := dk_29 (dk_at dksX5_moves_3 2 rfl rfl)
theorem dX5_moves_74 : decode bcX5_moves 74 = .ok (.iload 5, 2) := dk_21 5 (dk_at dksX5_moves_3 3 rfl rfl)
theorem dX5_moves_76 : decode bcX5_moves 76 = .ok (.if_icmp .gt 37, 3) := dk_163 0 37 (dk_at dksX5_moves_3 5 rfl rfl)
theorem dX5_moves_79 : decode bcX5_moves 79 = .ok (.iload_n 3, 1) := dk_29 (dk_at dksX5_moves_3 8 rfl rfl)
theorem dX5_moves_80 : decode bcX5_moves 80 = .ok (.iload 6, 2) := dk_21 6 (dk_at dksX5_moves_3 9 rfl rfl)
theorem dX5_moves_82 : decode bcX5_moves 82 = .ok (.if_icmp .lt 7, 3) := dk_161 0 7 (dk_at dksX5_moves_3 11 rfl rfl)
theorem dX5_moves_85 : decode bcX5_moves 85 = .ok (.iconst 0, 1) := dk_3 (dk_at dksX5_moves_3 14 rfl rfl)
theorem dX5_moves_86 : decode bcX5_moves 86 = .ok (.goto 26, 3) := dk_167 0 26 (dk_at dksX5_moves_3 15 rfl rfl)
theorem dX5_moves_89 : decode bcX5_moves 89 = .ok (.iload 4, 2) := dk_21 4 (dk_at dksX5_moves_3 18 rfl rfl)
theorem dX5_moves_91 : decode bcX5_moves 91 = .ok (.iconst 1, 1) := dk_4 (dk_at dksX5_moves_3 20 rfl rfl)
theorem dX5_moves_92 : decode bcX5_moves 92 = .ok (.if_icmp .ne 8, 3) := dk_160 0 8 (dk_at dksX5_moves_3 21 rfl rfl)
theorem dX5_moves_95 : decode bcX5_moves 95 = .ok (.bipush (-2), 2) := dk_16 254 (dk_at dksX5_moves_4 0 rfl rfl)
theorem dX5_moves_97 : decode bcX5_moves 97 = .ok (.goto 15, 3) := dk_167 0 15 (dk_at dksX5_moves_4 2 rfl rfl)
theorem dX5_moves_100 : decode bcX5_moves 100 = .ok (.iload 4, 2) := dk_21 4 (dk_at dksX5_moves_4 5 rfl rfl)
theorem dX5_moves_102 : decode bcX5_moves 102 = .ok (.iconst 2, 1) := dk_5 (dk_at dksX5_moves_4 7 rfl rfl)
theorem dX5_moves_103 : decode bcX5_moves 103 = .ok (.if_icmp .ne 8, 3) := dk_160 0 8 (dk_at dksX5_moves_4 8 rfl rfl)
theorem dX5_moves_106 : decode bcX5_moves 106 = .ok (.bipush (-3), 2) := dk_16 253 (dk_at dksX5_moves_4 11 rfl rfl)
theorem dX5_moves_108 : decode bcX5_moves 108 = .ok (.goto 4, 3) := dk_167 0 4 (dk_at dksX5_moves_4 13 rfl rfl)
theorem dX5_moves_111 : decode bcX5_moves 111 = .ok (.iconst (-1), 1) := dk_2 (dk_at dksX5_moves_4 16 rfl rfl)
theorem dX5_moves_112 : decode bcX5_moves 112 = .ok (.ireturn, 1) := dk_172 (dk_at dksX5_moves_4 17 rfl rfl)
theorem dX5_moves_113 : decode bcX5_moves 113 = .ok (.aload_n 0, 1) := dk_42 (dk_at dksX5_moves_4 18 rfl rfl)
theorem dX5_moves_114 : decode bcX5_moves 114 = .ok (.getfield 107, 3) := dk_180 0 107 (dk_at dksX5_moves_4 19 rfl rfl)
theorem dX5_moves_117 : decode bcX5_moves 117 = .ok (.iconst 0, 1) := dk_3 (dk_at dksX5_moves_4 22 rfl rfl)
theorem dX5_moves_118 : decode bcX5_moves 118 = .ok (.iload_n 3, 1) := dk_29 (dk_at dksX5_moves_4 23 rfl rfl)
theorem dX5_moves_119 : decode bcX5_moves 119 = .ok (.iastore, 1) := dk_79 (dk_at dksX5_moves_5 0 rfl rfl)
theorem dX5_moves_120 : decode bcX5_moves 120 = .ok (.aload_n 0, 1) := dk_42 (dk_at dksX5_moves_5 1 rfl rfl)
theorem dX5_moves_121 : decode bcX5_moves 121 = .ok (.getfield 107, 3) := dk_180 0 107 (dk_at dksX5_moves_5 2 rfl rfl)
theorem dX5_moves_124 : decode bcX5_moves 124 = .ok (.iconst 1, 1) := dk_4 (dk_at dksX5_moves_5 5 rfl rfl)
theorem dX5_moves_125 : decode bcX5_moves 125 = .ok (.aload_n 0, 1) := dk_42 (dk_at dksX5_moves_5 6 rfl rfl)
theorem dX5_moves_126 : decode bcX5_moves 126 = .ok (.getfield 113, 3) := dk_180 0 113 (dk_at dksX5_moves_5 7 rfl rfl)
theorem dX5_moves_129 : decode bcX5_moves 129 = .ok (.iload_n 1, 1) := dk_27 (dk_at dksX5_moves_5 10 rfl rfl)
theorem dX5_moves_130 : decode bcX5_moves 130 = .ok (.bipush 10, 2) := dk_16 10 (dk_at dksX5_moves_5 11 rfl rfl)
theorem dX5_moves_132 : decode bcX5_moves 132 = .ok (.iadd, 1) := dk_96 (dk_at dksX5_moves_5 13 rfl rfl)
theorem dX5_moves_133 : decode bcX5_moves 133 = .ok (.iload_n 2, 1) := dk_28 (dk_at dksX5_moves_5 14 rfl rfl)
theorem dX5_moves_134 : decode bcX5_moves 134 = .ok (.iadd, 1) := dk_96 (dk_at dksX5_moves_5 15 rfl rfl)
theorem dX5_moves_135 : decode bcX5_moves 135 = .ok (.iaload, 1) := dk_46 (dk_at dksX5_moves_5 16 rfl rfl)
theorem dX5_moves_136 : decode bcX5_moves 136 = .ok (.iastore, 1) := dk_79 (dk_at dksX5_moves_5 17 rfl rfl)
theorem dX5_moves_137 : decode bcX5_moves 137 = .ok (.aload_n 0, 1) := dk_42 (dk_at dksX5_moves_5 18 rfl rfl)
theorem dX5_moves_138 : decode bcX5_moves 138 = .ok (.getfield 107, 3) := dk_180 0 107 (dk_at dksX5_moves_5 19 rfl rfl)
theorem dX5_moves_141 : decode bcX5_moves 141 = .ok (.iconst 2, 1) := dk_5 (dk_at dksX5_moves_5 22 rfl rfl)
theorem dX5_moves_142 : decode bcX5_moves 142 = .ok (.aload_n 0, 1) := dk_42 (dk_at dksX5_moves_5 23 rfl rfl)
theorem dX5_moves_143 : decode bcX5_moves 143 = .ok (.getfield 113, 3) := dk_180 0 113 (dk_at dksX5_moves_6 0 rfl rfl)
theorem dX5_moves_146 : decode bcX5_moves 146 = .ok (.iload_n 1, 1) := dk_27 (dk_at dksX5_moves_6 3 rfl rfl)
theorem dX5_moves_147 : decode bcX5_moves 147 = .ok (.iconst 2, 1) := dk_5 (dk_at dksX5_moves_6 4 rfl rfl)
theorem dX5_moves_148 : decode bcX5_moves 148 = .ok (.iadd, 1) := dk_96 (dk_at dksX5_moves_6 5 rfl rfl)
theorem dX5_moves_149 : decode bcX5_moves 149 = .ok (.iload_n 2, 1) := dk_28 (dk_at dksX5_moves_6 6 rfl rfl)
theorem dX5_moves_150 : decode bcX5_moves 150 = .ok (.iadd, 1) := dk_96 (dk_at dksX5_moves_6 7 rfl rfl)
theorem dX5_moves_151 : decode bcX5_moves 151 = .ok (.iaload, 1) := dk_46 (dk_at dksX5_moves_6 8 rfl rfl)
theorem dX5_moves_152 : decode bcX5_moves 152 = .ok (.iastore, 1) := dk_79 (dk_at dksX5_moves_6 9 rfl rfl)
theorem dX5_moves_153 : decode bcX5_moves 153 = .ok (.aload_n 0, 1) := dk_42 (dk_at dksX5_moves_6 10 rfl rfl)
theorem dX5_moves_154 : decode bcX5_moves 154 = .ok (.getfield 107, 3) := dk_180 0 107 (dk_at dksX5_moves_6 11 rfl rfl)
theorem dX5_moves_157 : decode bcX5_moves 157 = .ok (.iconst 3, 1) := dk_6 (dk_at dksX5_moves_6 14 rfl rfl)
theorem dX5_moves_158 : decode bcX5_moves 158 = .ok (.aload_n 0, 1) := dk_42 (dk_at dksX5_moves_6 15 rfl rfl)
theorem dX5_moves_159 : decode bcX5_moves 159 = .ok (.getfield 113, 3) := dk_180 0 113 (dk_at dksX5_moves_6 16 rfl rfl)
theorem dX5_moves_162 : decode bcX5_moves 162 = .ok (.iload_n 1, 1) := dk_27 (dk_at dksX5_moves_6 19 rfl rfl)
theorem dX5_moves_163 : decode bcX5_moves 163 = .ok (.iconst 0, 1) := dk_3 (dk_at dksX5_moves_6 20 rfl rfl)
theorem dX5_moves_164 : decode bcX5_moves 164 = .ok (.iadd, 1) := dk_96 (dk_at dksX5_moves_6 21 rfl rfl)
theorem dX5_moves_165 : decode bcX5_moves 165 = .ok (.iaload, 1) := dk_46 (dk_at dksX5_moves_6 22 rfl rfl)
theorem dX5_moves_166 : decode bcX5_moves 166 = .ok (.iastore, 1) := dk_79 (dk_at dksX5_moves_6 23 rfl rfl)
theorem dX5_moves_167 : decode bcX5_moves 167 = .ok (.aload_n 0, 1) := dk_42 (dk_at dksX5_moves_7 0 rfl rfl)
theorem dX5_moves_168 : decode bcX5_moves 168 = .ok (.getfield 83, 3) := dk_180 0 83 (dk_at dksX5_moves_7 1 rfl rfl)
theorem dX5_moves_171 : decode bcX5_moves 171 = .ok (.iconst 4, 1) := dk_7 (dk_at dksX5_moves_7 4 rfl rfl)
theorem dX5_moves_172 : decode bcX5_moves 172 = .ok (.iaload, 1) := dk_46 (dk_at dksX5_moves_7 5 rfl rfl)
theorem dX5_moves_173 : decode bcX5_moves 173 = .ok (.ifCond .ge 7, 3) := dk_156 0 7 (dk_at dksX5_moves_7 6 rfl rfl)
theorem dX5_moves_176 : decode bcX5_moves 176 = .ok (.iconst 1, 1) := dk_4 (dk_at dksX5_moves_7 9 rfl rfl)
theorem dX5_moves_177 : decode bcX5_moves 177 = .ok (.goto 13, 3) := dk_167 0 13 (dk_at dksX5_moves_7 10 rfl rfl)
theorem dX5_moves_180 : decode bcX5_moves 180 = .ok (.aload_n 0, 1) := dk_42 (dk_at dksX5_moves_7 13 rfl rfl)
theorem dX5_moves_181 : decode bcX5_moves 181 = .ok (.aload_n 0, 1) := dk_42 (dk_at dksX5_moves_7 14 rfl rfl)
theorem dX5_moves_182 : decode bcX5_moves 182 = .ok (.getfield 83, 3) := dk_180 0 83 (dk_at dksX5_moves_7 15 rfl rfl)
theorem dX5_moves_185 : decode bcX5_moves 185 = .ok (.iconst 4, 1) := dk_7 (dk_at dksX5_moves_7 18 rfl rfl)
theorem dX5_moves_186 : decode bcX5_moves 186 = .ok (.iaload, 1) := dk_46 (dk_at dksX5_moves_7 19 rfl rfl)
theorem dX5_moves_187 : decode bcX5_moves 187 = .ok (.invokevirtual 304, 3) := dk_182 1 48 (dk_at dksX5_moves_7 20 rfl rfl)
theorem dX5_moves_190 : decode bcX5_moves 190 = .ok (.istore 7, 2) := dk_54 7 (dk_at dksX5_moves_8 0 rfl rfl)
theorem dX5_moves_192 : decode bcX5_moves 192 = .ok (.iload 7, 2) := dk_21 7 (dk_at dksX5_moves_8 2 rfl rfl)
theorem dX5_moves_194 : decode bcX5_moves 194 = .ok (.ifCond .ge 7, 3) := dk_156 0 7 (dk_at dksX5_moves_8 4 rfl rfl)
theorem dX5_moves_197 : decode bcX5_moves 197 = .ok (.iconst 0, 1) := dk_3 (dk_at dksX5_moves_8 7 rfl rfl)
theorem dX5_moves_198 : decode bcX5_moves 198 = .ok (.goto 17, 3) := dk_167 0 17 (dk_at dksX5_moves_8 8 rfl rfl)
theorem dX5_moves_201 : decode bcX5_moves 201 = .ok (.iload 7, 2) := dk_21 7 (dk_at dksX5_moves_8 11 rfl rfl)
theorem dX5_moves_203 : decode bcX5_moves 203 = .ok (.bipush 9, 2) := dk_16 9 (dk_at dksX5_moves_8 13 rfl rfl)
theorem dX5_moves_205 : decode bcX5_moves 205 = .ok (.if_icmp .le 8, 3) := dk_164 0 8 (dk_at dksX5_moves_8 15 rfl rfl)
theorem dX5_moves_208 : decode bcX5_moves 208 = .ok (.bipush 9, 2) := dk_16 9 (dk_at dksX5_moves_8 18 rfl rfl)
theorem dX5_moves_210 : decode bcX5_moves 210 = .ok (.goto 5, 3) := dk_167 0 5 (dk_at dksX5_moves_8 20 rfl rfl)
theorem dX5_moves_213 : decode bcX5_moves 213 = .ok (.iload 7, 2) := dk_21 7 (dk_at dksX5_moves_9 0 rfl rfl)
theorem dX5_moves_215 : decode bcX5_moves 215 = .ok (.ireturn, 1) := dk_172 (dk_at dksX5_moves_9 2 rfl rfl)
abbrev SX5_moves (pc : Nat) (i : xI) : Prop := Snd "SwollenHouseModel" "moves" prog_25_method_57_code 8 (Option.some Jvm.ClassFile.FieldType.int) [] pc i
theorem oX5_moves_0 : SX5_moves 0 (i_aload 0 1) := snd_aload_n dX5_moves_0 rfl
theorem oX5_moves_1 : SX5_moves 1 (i_iload 2 2) := snd_iload_n dX5_moves_1 rfl
theorem oX5_moves_2 : SX5_moves 2 (i_const (.int (nI 2)) 3) := snd_iconst dX5_moves_2 (by decide)
theorem oX5_moves_3 : SX5_moves 3 (i_cv 4 251 2 6) := snd_cv rfl infX5_doorOf (by decide) rfl (xVm_V dX5_moves_3 rfl q1690 q1692 qs61 q136 q1693 pdX5_doorOf)
theorem oX5_moves_6 : SX5_moves 6 (i_istore 4 8) := snd_istore dX5_moves_6 (by decide)
theorem oX5_moves_8 : SX5_moves 8 (i_iload 4 10) := snd_iload dX5_moves_8
theorem oX5_moves_10 : SX5_moves 10 (i_if1 (fun x => ¬ x = 0) 18 13) := snd_if_ne dX5_moves_10 (by decide)
theorem oX5_moves_13 : SX5_moves 13 (i_const (.int (nI 6)) 15) := snd_bipush dX5_moves_13 (by decide)
theorem oX5_moves_15 : SX5_moves 15 (i_goto 39) := snd_goto dX5_moves_15 (by decide)
theorem oX5_moves_18 : SX5_moves 18 (i_iload 4 20) := snd_iload dX5_moves_18
theorem oX5_moves_20 : SX5_moves 20 (i_const (.int (nI 1)) 21) := snd_iconst dX5_moves_20 (by decide)
theorem oX5_moves_21 : SX5_moves 21 (i_if2 (fun x y => ¬ x = y) 28 24) := snd_icmp_ne dX5_moves_21 (by decide)
theorem oX5_moves_24 : SX5_moves 24 (i_const (.int (nI 4)) 25) := snd_iconst dX5_moves_24 (by decide)
theorem oX5_moves_25 : SX5_moves 25 (i_goto 39) := snd_goto dX5_moves_25 (by decide)
theorem oX5_moves_28 : SX5_moves 28 (i_iload 4 30) := snd_iload dX5_moves_28
theorem oX5_moves_30 : SX5_moves 30 (i_const (.int (nI 2)) 31) := snd_iconst dX5_moves_30 (by decide)
theorem oX5_moves_31 : SX5_moves 31 (i_if2 (fun x y => ¬ x = y) 38 34) := snd_icmp_ne dX5_moves_31 (by decide)
theorem oX5_moves_34 : SX5_moves 34 (i_const (.int (nI 5)) 35) := snd_iconst dX5_moves_34 (by decide)
theorem oX5_moves_35 : SX5_moves 35 (i_goto 39) := snd_goto dX5_moves_35 (by decide)
theorem oX5_moves_38 : SX5_moves 38 (i_const (.int (nI 3)) 39) := snd_iconst dX5_moves_38 (by decide)
theorem oX5_moves_39 : SX5_moves 39 (i_istore 5 41) := snd_istore dX5_moves_39 (by decide)
theorem oX5_moves_41 : SX5_moves 41 (i_iload 4 43) := snd_iload dX5_moves_41
theorem oX5_moves_43 : SX5_moves 43 (i_if1 (fun x => ¬ x = 0) 50 46) := snd_if_ne dX5_moves_43 (by decide)
theorem oX5_moves_46 : SX5_moves 46 (i_const (.int (nI 2)) 47) := snd_iconst dX5_moves_46 (by decide)
theorem oX5_moves_47 : SX5_moves 47 (i_goto 71) := snd_goto dX5_moves_47 (by decide)
theorem oX5_moves_50 : SX5_moves 50 (i_iload 4 52) := snd_iload dX5_moves_50
theorem oX5_moves_52 : SX5_moves 52 (i_const (.int (nI 1)) 53) := snd_iconst dX5_moves_52 (by decide)
theorem oX5_moves_53 : SX5_moves 53 (i_if2 (fun x y => ¬ x = y) 60 56) := snd_icmp_ne dX5_moves_53 (by decide)
theorem oX5_moves_56 : SX5_moves 56 (i_const (.int (nI 4)) 57) := snd_iconst dX5_moves_56 (by decide)
theorem oX5_moves_57 : SX5_moves 57 (i_goto 71) := snd_goto dX5_moves_57 (by decide)
theorem oX5_moves_60 : SX5_moves 60 (i_iload 4 62) := snd_iload dX5_moves_60
theorem oX5_moves_62 : SX5_moves 62 (i_const (.int (nI 2)) 63) := snd_iconst dX5_moves_62 (by decide)
theorem oX5_moves_63 : SX5_moves 63 (i_if2 (fun x y => ¬ x = y) 70 66) := snd_icmp_ne dX5_moves_63 (by decide)
theorem oX5_moves_66 : SX5_moves 66 (i_const (.int (nI 1)) 67) := snd_iconst dX5_moves_66 (by decide)
theorem oX5_moves_67 : SX5_moves 67 (i_goto 71) := snd_goto dX5_moves_67 (by decide)
theorem oX5_moves_70 : SX5_moves 70 (i_const (.int (nI 3)) 71) := snd_iconst dX5_moves_70 (by decide)
theorem oX5_moves_71 : SX5_moves 71 (i_istore 6 73) := snd_istore dX5_moves_71 (by decide)
theorem oX5_moves_73 : SX5_moves 73 (i_iload 3 74) := snd_iload_n dX5_moves_73 rfl
theorem oX5_moves_74 : SX5_moves 74 (i_iload 5 76) := snd_iload dX5_moves_74
theorem oX5_moves_76 : SX5_moves 76 (i_if2 (fun x y => y < x) 113 79) := snd_icmp_gt dX5_moves_76 (by decide)
theorem oX5_moves_79 : SX5_moves 79 (i_iload 3 80) := snd_iload_n dX5_moves_79 rfl
theorem oX5_moves_80 : SX5_moves 80 (i_iload 6 82) := snd_iload dX5_moves_80
theorem oX5_moves_82 : SX5_moves 82 (i_if2 (fun x y => x < y) 89 85) := snd_icmp_lt dX5_moves_82 (by decide)
theorem oX5_moves_85 : SX5_moves 85 (i_const (.int (nI 0)) 86) := snd_iconst dX5_moves_85 (by decide)
theorem oX5_moves_86 : SX5_moves 86 (i_goto 112) := snd_goto dX5_moves_86 (by decide)
theorem oX5_moves_89 : SX5_moves 89 (i_iload 4 91) := snd_iload dX5_moves_89
theorem oX5_moves_91 : SX5_moves 91 (i_const (.int (nI 1)) 92) := snd_iconst dX5_moves_91 (by decide)
theorem oX5_moves_92 : SX5_moves 92 (i_if2 (fun x y => ¬ x = y) 100 95) := snd_icmp_ne dX5_moves_92 (by decide)
theorem oX5_moves_95 : SX5_moves 95 (i_const (.int (-2)) 97) := snd_bipush dX5_moves_95 (by decide)
theorem oX5_moves_97 : SX5_moves 97 (i_goto 112) := snd_goto dX5_moves_97 (by decide)
theorem oX5_moves_100 : SX5_moves 100 (i_iload 4 102) := snd_iload dX5_moves_100
theorem oX5_moves_102 : SX5_moves 102 (i_const (.int (nI 2)) 103) := snd_iconst dX5_moves_102 (by decide)
theorem oX5_moves_103 : SX5_moves 103 (i_if2 (fun x y => ¬ x = y) 111 106) := snd_icmp_ne dX5_moves_103 (by decide)
theorem oX5_moves_106 : SX5_moves 106 (i_const (.int (-3)) 108) := snd_bipush dX5_moves_106 (by decide)
theorem oX5_moves_108 : SX5_moves 108 (i_goto 112) := snd_goto dX5_moves_108 (by decide)
theorem oX5_moves_111 : SX5_moves 111 (i_const (.int (-1)) 112) := snd_iconst dX5_moves_111 (by decide)
theorem oX5_moves_112 : SX5_moves 112 (i_iret) := snd_iret dX5_moves_112 rfl
theorem oX5_moves_113 : SX5_moves 113 (i_aload 0 114) := snd_aload_n dX5_moves_113 rfl
theorem oX5_moves_114 : SX5_moves 114 (i_getf 4 22 117) := snd_getf dX5_moves_114 rfl (by decide) in_X5 (Or.inl q1720) (Or.inl rfl) (by decide)
theorem oX5_moves_117 : SX5_moves 117 (i_const (.int (nI 0)) 118) := snd_iconst dX5_moves_117 (by decide)
theorem oX5_moves_118 : SX5_moves 118 (i_iload 3 119) := snd_iload_n dX5_moves_118 rfl
theorem oX5_moves_119 : SX5_moves 119 (i_si (fun v => v) 0 120) := snd_si0 dX5_moves_119
theorem oX5_moves_120 : SX5_moves 120 (i_aload 0 121) := snd_aload_n dX5_moves_120 rfl
theorem oX5_moves_121 : SX5_moves 121 (i_getf 4 22 124) := snd_getf dX5_moves_121 rfl (by decide) in_X5 (Or.inl q1720) (Or.inl rfl) (by decide)
theorem oX5_moves_124 : SX5_moves 124 (i_const (.int (nI 1)) 125) := snd_iconst dX5_moves_124 (by decide)
theorem oX5_moves_125 : SX5_moves 125 (i_aload 0 126) := snd_aload_n dX5_moves_125 rfl
theorem oX5_moves_126 : SX5_moves 126 (i_getf 4 24 129) := snd_getf dX5_moves_126 rfl (by decide) in_X5 (Or.inl q1722) (Or.inl rfl) (by decide)
theorem oX5_moves_129 : SX5_moves 129 (i_iload 1 130) := snd_iload_n dX5_moves_129 rfl
theorem oX5_moves_130 : SX5_moves 130 (i_const (.int (nI 10)) 132) := snd_bipush dX5_moves_130 (by decide)
theorem oX5_moves_132 : SX5_moves 132 (i_ii (fun x y => x + y) 133) := snd_iadd dX5_moves_132
theorem oX5_moves_133 : SX5_moves 133 (i_iload 2 134) := snd_iload_n dX5_moves_133 rfl
theorem oX5_moves_134 : SX5_moves 134 (i_ii (fun x y => x + y) 135) := snd_iadd dX5_moves_134
theorem oX5_moves_135 : SX5_moves 135 (i_ai 0 136) := snd_ai0 dX5_moves_135
theorem oX5_moves_136 : SX5_moves 136 (i_si (fun v => v) 0 137) := snd_si0 dX5_moves_136
theorem oX5_moves_137 : SX5_moves 137 (i_aload 0 138) := snd_aload_n dX5_moves_137 rfl
theorem oX5_moves_138 : SX5_moves 138 (i_getf 4 22 141) := snd_getf dX5_moves_138 rfl (by decide) in_X5 (Or.inl q1720) (Or.inl rfl) (by decide)
theorem oX5_moves_141 : SX5_moves 141 (i_const (.int (nI 2)) 142) := snd_iconst dX5_moves_141 (by decide)
theorem oX5_moves_142 : SX5_moves 142 (i_aload 0 143) := snd_aload_n dX5_moves_142 rfl
theorem oX5_moves_143 : SX5_moves 143 (i_getf 4 24 146) := snd_getf dX5_moves_143 rfl (by decide) in_X5 (Or.inl q1722) (Or.inl rfl) (by decide)
theorem oX5_moves_146 : SX5_moves 146 (i_iload 1 147) := snd_iload_n dX5_moves_146 rfl
theorem oX5_moves_147 : SX5_moves 147 (i_const (.int (nI 2)) 148) := snd_iconst dX5_moves_147 (by decide)
theorem oX5_moves_148 : SX5_moves 148 (i_ii (fun x y => x + y) 149) := snd_iadd dX5_moves_148
theorem oX5_moves_149 : SX5_moves 149 (i_iload 2 150) := snd_iload_n dX5_moves_149 rfl
theorem oX5_moves_150 : SX5_moves 150 (i_ii (fun x y => x + y) 151) := snd_iadd dX5_moves_150
theorem oX5_moves_151 : SX5_moves 151 (i_ai 0 152) := snd_ai0 dX5_moves_151
theorem oX5_moves_152 : SX5_moves 152 (i_si (fun v => v) 0 153) := snd_si0 dX5_moves_152
theorem oX5_moves_153 : SX5_moves 153 (i_aload 0 154) := snd_aload_n dX5_moves_153 rfl
theorem oX5_moves_154 : SX5_moves 154 (i_getf 4 22 157) := snd_getf dX5_moves_154 rfl (by decide) in_X5 (Or.inl q1720) (Or.inl rfl) (by decide)
theorem oX5_moves_157 : SX5_moves 157 (i_const (.int (nI 3)) 158) := snd_iconst dX5_moves_157 (by decide)
theorem oX5_moves_158 : SX5_moves 158 (i_aload 0 159) := snd_aload_n dX5_moves_158 rfl
theorem oX5_moves_159 : SX5_moves 159 (i_getf 4 24 162) := snd_getf dX5_moves_159 rfl (by decide) in_X5 (Or.inl q1722) (Or.inl rfl) (by decide)
theorem oX5_moves_162 : SX5_moves 162 (i_iload 1 163) := snd_iload_n dX5_moves_162 rfl
theorem oX5_moves_163 : SX5_moves 163 (i_const (.int (nI 0)) 164) := snd_iconst dX5_moves_163 (by decide)
theorem oX5_moves_164 : SX5_moves 164 (i_ii (fun x y => x + y) 165) := snd_iadd dX5_moves_164
theorem oX5_moves_165 : SX5_moves 165 (i_ai 0 166) := snd_ai0 dX5_moves_165
theorem oX5_moves_166 : SX5_moves 166 (i_si (fun v => v) 0 167) := snd_si0 dX5_moves_166
theorem oX5_moves_167 : SX5_moves 167 (i_aload 0 168) := snd_aload_n dX5_moves_167 rfl
theorem oX5_moves_168 : SX5_moves 168 (i_getf 4 10 171) := snd_getf dX5_moves_168 rfl (by decide) in_X5 (Or.inl q1708) (Or.inl rfl) (by decide)
theorem oX5_moves_171 : SX5_moves 171 (i_const (.int (nI 4)) 172) := snd_iconst dX5_moves_171 (by decide)
theorem oX5_moves_172 : SX5_moves 172 (i_ai 0 173) := snd_ai0 dX5_moves_172
theorem oX5_moves_173 : SX5_moves 173 (i_if1 (fun x => 0 ≤ x) 180 176) := snd_if_ge dX5_moves_173 (by decide)
theorem oX5_moves_176 : SX5_moves 176 (i_const (.int (nI 1)) 177) := snd_iconst dX5_moves_176 (by decide)
theorem oX5_moves_177 : SX5_moves 177 (i_goto 190) := snd_goto dX5_moves_177 (by decide)
theorem oX5_moves_180 : SX5_moves 180 (i_aload 0 181) := snd_aload_n dX5_moves_180 rfl
theorem oX5_moves_181 : SX5_moves 181 (i_aload 0 182) := snd_aload_n dX5_moves_181 rfl
theorem oX5_moves_182 : SX5_moves 182 (i_getf 4 10 185) := snd_getf dX5_moves_182 rfl (by decide) in_X5 (Or.inl q1708) (Or.inl rfl) (by decide)
theorem oX5_moves_185 : SX5_moves 185 (i_const (.int (nI 4)) 186) := snd_iconst dX5_moves_185 (by decide)
theorem oX5_moves_186 : SX5_moves 186 (i_ai 0 187) := snd_ai0 dX5_moves_186
theorem oX5_moves_187 : SX5_moves 187 (i_cv 4 300 1 190) := snd_cv rfl infX5_worthAt (by decide) rfl (xVm_V dX5_moves_187 rfl q1982 q1984 qs100 q136 q1985 pdX5_worthAt)
theorem oX5_moves_190 : SX5_moves 190 (i_istore 7 192) := snd_istore dX5_moves_190 (by decide)
theorem oX5_moves_192 : SX5_moves 192 (i_iload 7 194) := snd_iload dX5_moves_192
theorem oX5_moves_194 : SX5_moves 194 (i_if1 (fun x => 0 ≤ x) 201 197) := snd_if_ge dX5_moves_194 (by decide)
theorem oX5_moves_197 : SX5_moves 197 (i_const (.int (nI 0)) 198) := snd_iconst dX5_moves_197 (by decide)
theorem oX5_moves_198 : SX5_moves 198 (i_goto 215) := snd_goto dX5_moves_198 (by decide)
theorem oX5_moves_201 : SX5_moves 201 (i_iload 7 203) := snd_iload dX5_moves_201
theorem oX5_moves_203 : SX5_moves 203 (i_const (.int (nI 9)) 205) := snd_bipush dX5_moves_203 (by decide)
theorem oX5_moves_205 : SX5_moves 205 (i_if2 (fun x y => x ≤ y) 213 208) := snd_icmp_le dX5_moves_205 (by decide)
theorem oX5_moves_208 : SX5_moves 208 (i_const (.int (nI 9)) 210) := snd_bipush dX5_moves_208 (by decide)
theorem oX5_moves_210 : SX5_moves 210 (i_goto 215) := snd_goto dX5_moves_210 (by decide)
theorem oX5_moves_213 : SX5_moves 213 (i_iload 7 215) := snd_iload dX5_moves_213
theorem oX5_moves_215 : SX5_moves 215 (i_iret) := snd_iret dX5_moves_215 rfl
theorem okX5_moves : ∀ q ∈ cX5_moves, SX5_moves q.1 q.2 := List.forall_mem_cons.mpr ⟨oX5_moves_0, List.forall_mem_cons.mpr ⟨oX5_moves_1, List.forall_mem_cons.mpr ⟨oX5_moves_2, List.forall_mem_cons.mpr ⟨oX5_moves_3, List.forall_mem_cons.mpr ⟨oX5_moves_6, List.forall_mem_cons.mpr ⟨oX5_moves_8, List.forall_mem_cons.mpr ⟨oX5_moves_10, List.forall_mem_cons.mpr ⟨oX5_moves_13, List.forall_mem_cons.mpr ⟨oX5_moves_15, List.forall_mem_cons.mpr ⟨oX5_moves_18, List.forall_mem_cons.mpr ⟨oX5_moves_20, List.forall_mem_cons.mpr ⟨oX5_moves_21, List.forall_mem_cons.mpr ⟨oX5_moves_24, List.forall_mem_cons.mpr ⟨oX5_moves_25, List.forall_mem_cons.mpr ⟨oX5_moves_28, List.forall_mem_cons.mpr ⟨oX5_moves_30, List.forall_mem_cons.mpr ⟨oX5_moves_31, List.forall_mem_cons.mpr ⟨oX5_moves_34, List.forall_mem_cons.mpr ⟨oX5_moves_35, List.forall_mem_cons.mpr ⟨oX5_moves_38, List.forall_mem_cons.mpr ⟨oX5_moves_39, List.forall_mem_cons.mpr ⟨oX5_moves_41, List.forall_mem_cons.mpr ⟨oX5_moves_43, List.forall_mem_cons.mpr ⟨oX5_moves_46, List.forall_mem_cons.mpr ⟨oX5_moves_47, List.forall_mem_cons.mpr ⟨oX5_moves_50, List.forall_mem_cons.mpr ⟨oX5_moves_52, List.forall_mem_cons.mpr ⟨oX5_moves_53, List.forall_mem_cons.mpr ⟨oX5_moves_56, List.forall_mem_cons.mpr ⟨oX5_moves_57, List.forall_mem_cons.mpr ⟨oX5_moves_60, List.forall_mem_cons.mpr ⟨oX5_moves_62, List.forall_mem_cons.mpr ⟨oX5_moves_63, List.forall_mem_cons.mpr ⟨oX5_moves_66, List.forall_mem_cons.mpr ⟨oX5_moves_67, List.forall_mem_cons.mpr ⟨oX5_moves_70, List.forall_mem_cons.mpr ⟨oX5_moves_71, List.forall_mem_cons.mpr ⟨oX5_moves_73, List.forall_mem_cons.mpr ⟨oX5_moves_74, List.forall_mem_cons.mpr ⟨oX5_moves_76, List.forall_mem_cons.mpr ⟨oX5_moves_79, List.forall_mem_cons.mpr ⟨oX5_moves_80, List.forall_mem_cons.mpr ⟨oX5_moves_82, List.forall_mem_cons.mpr ⟨oX5_moves_85, List.forall_mem_cons.mpr ⟨oX5_moves_86, List.forall_mem_cons.mpr ⟨oX5_moves_89, List.forall_mem_cons.mpr ⟨oX5_moves_91, List.forall_mem_cons.mpr ⟨oX5_moves_92, List.forall_mem_cons.mpr ⟨oX5_moves_95, List.forall_mem_cons.mpr ⟨oX5_moves_97, List.forall_mem_cons.mpr ⟨oX5_moves_100, List.forall_mem_cons.mpr ⟨oX5_moves_102, List.forall_mem_cons.mpr ⟨oX5_moves_103, List.forall_mem_cons.mpr ⟨oX5_moves_106, List.forall_mem_cons.mpr ⟨oX5_moves_108, List.forall_mem_cons.mpr ⟨oX5_moves_111, List.forall_mem_cons.mpr ⟨oX5_moves_112, List.forall_mem_cons.mpr ⟨oX5_moves_113, List.forall_mem_cons.mpr ⟨oX5_moves_114, List.forall_mem_cons.mpr ⟨oX5_moves_117, List.forall_mem_cons.mpr ⟨oX5_moves_118, List.forall_mem_cons.mpr ⟨oX5_moves_119, List.forall_mem_cons.mpr ⟨oX5_moves_120, List.forall_mem_cons.mpr ⟨oX5_moves_121, List.forall_mem_cons.mpr ⟨oX5_moves_124, List.forall_mem_cons.mpr ⟨oX5_moves_125, List.forall_mem_cons.mpr ⟨oX5_moves_126, List.forall_mem_cons.mpr ⟨oX5_moves_129, List.forall_mem_cons.mpr ⟨oX5_moves_130, List.forall_mem_cons.mpr ⟨oX5_moves_132, List.forall_mem_cons.mpr ⟨oX5_moves_133, List.forall_mem_cons.mpr ⟨oX5_moves_134, List.forall_mem_cons.mpr ⟨oX5_moves_135, List.forall_mem_cons.mpr ⟨oX5_moves_136, List.forall_mem_cons.mpr ⟨oX5_moves_137, List.forall_mem_cons.mpr ⟨oX5_moves_138, List.forall_mem_cons.mpr ⟨oX5_moves_141, List.forall_mem_cons.mpr ⟨oX5_moves_142, List.forall_mem_cons.mpr ⟨oX5_moves_143, List.forall_mem_cons.mpr ⟨oX5_moves_146, List.forall_mem_cons.mpr ⟨oX5_moves_147, List.forall_mem_cons.mpr ⟨oX5_moves_148, List.forall_mem_cons.mpr ⟨oX5_moves_149, List.forall_mem_cons.mpr ⟨oX5_moves_150, List.forall_mem_cons.mpr ⟨oX5_moves_151, List.forall_mem_cons.mpr ⟨oX5_moves_152, List.forall_mem_cons.mpr ⟨oX5_moves_153, List.forall_mem_cons.mpr ⟨oX5_moves_154, List.forall_mem_cons.mpr ⟨oX5_moves_157, List.forall_mem_cons.mpr ⟨oX5_moves_158, List.forall_mem_cons.mpr ⟨oX5_moves_159, List.forall_mem_cons.mpr ⟨oX5_moves_162, List.forall_mem_cons.mpr ⟨oX5_moves_163, List.forall_mem_cons.mpr ⟨oX5_moves_164, List.forall_mem_cons.mpr ⟨oX5_moves_165, List.forall_mem_cons.mpr ⟨oX5_moves_166, List.forall_mem_cons.mpr ⟨oX5_moves_167, List.forall_mem_cons.mpr ⟨oX5_moves_168, List.forall_mem_cons.mpr ⟨oX5_moves_171, List.forall_mem_cons.mpr ⟨oX5_moves_172, List.forall_mem_cons.mpr ⟨oX5_moves_173, List.forall_mem_cons.mpr ⟨oX5_moves_176, List.forall_mem_cons.mpr ⟨oX5_moves_177, List.forall_mem_cons.mpr ⟨oX5_moves_180, List.forall_mem_cons.mpr ⟨oX5_moves_181, List.forall_mem_cons.mpr ⟨oX5_moves_182, List.forall_mem_cons.mpr ⟨oX5_moves_185, List.forall_mem_cons.mpr ⟨oX5_moves_186, List.forall_mem_cons.mpr ⟨oX5_moves_187, List.forall_mem_cons.mpr ⟨oX5_moves_190, List.forall_mem_cons.mpr ⟨oX5_moves_192, List.forall_mem_cons.mpr ⟨oX5_moves_194, List.forall_mem_cons.mpr ⟨oX5_moves_197, List.forall_mem_cons.mpr ⟨oX5_moves_198, List.forall_mem_cons.mpr ⟨oX5_moves_201, List.forall_mem_cons.mpr ⟨oX5_moves_203, List.forall_mem_cons.mpr ⟨oX5_moves_205, List.forall_mem_cons.mpr ⟨oX5_moves_208, List.forall_mem_cons.mpr ⟨oX5_moves_210, List.forall_mem_cons.mpr ⟨oX5_moves_213, List.forall_mem_cons.mpr ⟨oX5_moves_215, fun _ h => absurd h List.not_mem_nil⟩⟩⟩⟩⟩⟩⟩⟩⟩⟩⟩⟩⟩⟩⟩⟩⟩⟩⟩⟩⟩⟩⟩⟩⟩⟩⟩⟩⟩⟩⟩⟩⟩⟩⟩⟩⟩⟩⟩⟩⟩⟩⟩⟩⟩⟩⟩⟩⟩⟩⟩⟩⟩⟩⟩⟩⟩⟩⟩⟩⟩⟩⟩⟩⟩⟩⟩⟩⟩⟩⟩⟩⟩⟩⟩⟩⟩⟩⟩⟩⟩⟩⟩⟩⟩⟩⟩⟩⟩⟩⟩⟩⟩⟩⟩⟩⟩⟩⟩⟩⟩⟩⟩⟩⟩⟩⟩⟩⟩⟩⟩⟩⟩⟩⟩⟩⟩⟩⟩⟩⟩
def dkwX5_worthAt_6 : List UInt8 := [180, 0, 110, 3, 46, 172]
abbrev dktX5_worthAt_6 : List UInt8 := dkwX5_worthAt_6 ++ []
def dkwX5_worthAt_5 : List UInt8 := [180, 0, 110, 28, 4, 100, 46, 42, 180, 0, 110, 28, 46, 184, 1, 13, 79, 132, 3, 1, 167, 255, 123, 42]
abbrev dktX5_worthAt_5 : List UInt8 := dkwX5_worthAt_5 ++ dktX5_worthAt_6
def dkwX5_worthAt_4 : List UInt8 := [4, 167, 0, 4, 3, 79, 167, 0, 33, 132, 2, 255, 42, 180, 0, 110, 28, 4, 100, 21, 4, 42]
abbrev dktX5_worthAt_4 : List UInt8 := dkwX5_worthAt_4 ++ dktX5_worthAt_5
def dkwX5_worthAt_3 : List UInt8 := [21, 4, 6, 160, 0, 30, 42, 180, 0, 110, 28, 4, 100, 42, 180, 0, 110, 28, 4, 100, 46, 154, 0, 7]
abbrev dktX5_worthAt_3 : List UInt8 := dkwX5_worthAt_3 ++ dktX5_worthAt_4
def dkwX5_worthAt_2 : List UInt8 := [29, 46, 167, 0, 14, 42, 180, 0, 107, 42, 180, 0, 89, 29, 46, 46, 79, 132, 2, 1, 167, 0, 66]
abbrev dktX5_worthAt_2 : List UInt8 := dkwX5_worthAt_2 ++ dktX5_worthAt_3
def dkwX5_worthAt_1 : List UInt8 := [159, 0, 9, 21, 4, 5, 160, 0, 41, 42, 180, 0, 110, 28, 21, 4, 4, 160, 0, 12, 42, 180, 0, 89]
abbrev dktX5_worthAt_1 : List UInt8 := dkwX5_worthAt_1 ++ dktX5_worthAt_2
def dkwX5_worthAt_0 : List UInt8 := [3, 61, 27, 62, 42, 180, 0, 86, 29, 46, 153, 0, 130, 42, 180, 0, 86, 29, 46, 54, 4, 21, 4, 4]
abbrev dktX5_worthAt_0 : List UInt8 := dkwX5_worthAt_0 ++ dktX5_worthAt_1
theorem dksX5_worthAt_0 : bcX5_worthAt.data.toList.drop 0 = dktX5_worthAt_0 := by decide +kernel
theorem dksX5_worthAt_1 : bcX5_worthAt.data.toList.drop 24 = dktX5_worthAt_1 := dk_seg dksX5_worthAt_0 24 rfl rfl
theorem dksX5_worthAt_2 : bcX5_worthAt.data.toList.drop 48 = dktX5_worthAt_2 := dk_seg dksX5_worthAt_1 24 rfl rfl
theorem dksX5_worthAt_3 : bcX5_worthAt.data.toList.drop 71 = dktX5_worthAt_3 := dk_seg dksX5_worthAt_2 23 rfl rfl
theorem dksX5_worthAt_4 : bcX5_worthAt.data.toList.drop 95 = dktX5_worthAt_4 := dk_seg dksX5_worthAt_3 24 rfl rfl
theorem dksX5_worthAt_5 : bcX5_worthAt.data.toList.drop 117 = dktX5_worthAt_5 := dk_seg dksX5_worthAt_4 22 rfl rfl
theorem dksX5_worthAt_6 : bcX5_worthAt.data.toList.drop 141 = dktX5_worthAt_6 := dk_seg dksX5_worthAt_5 24 rfl rfl
theorem dX5_worthAt_0 : decode bcX5_worthAt 0 = .ok (.iconst 0, 1) := dk_3 (dk_at dksX5_worthAt_0 0 rfl rfl)
theorem dX5_worthAt_1 : decode bcX5_worthAt 1 = .ok (.istore_n 2, 1) := dk_61 (dk_at dksX5_worthAt_0 1 rfl rfl)
theorem dX5_worthAt_2 : decode bcX5_worthAt 2 = .ok (.iload_n 1, 1) := dk_27 (dk_at dksX5_worthAt_0 2 rfl rfl)
theorem dX5_worthAt_3 : decode bcX5_worthAt 3 = .ok (.istore_n 3, 1) := dk_62 (dk_at dksX5_worthAt_0 3 rfl rfl)
theorem dX5_worthAt_4 : decode bcX5_worthAt 4 = .ok (.aload_n 0, 1) := dk_42 (dk_at dksX5_worthAt_0 4 rfl rfl)
theorem dX5_worthAt_5 : decode bcX5_worthAt 5 = .ok (.getfield 86, 3) := dk_180 0 86 (dk_at dksX5_worthAt_0 5 rfl rfl)
theorem dX5_worthAt_8 : decode bcX5_worthAt 8 = .ok (.iload_n 3, 1) := dk_29 (dk_at dksX5_worthAt_0 8 rfl rfl)
theorem dX5_worthAt_9 : decode bcX5_worthAt 9 = .ok (.iaload, 1) := dk_46 (dk_at dksX5_worthAt_0 9 rfl rfl)
theorem dX5_worthAt_10 : decode bcX5_worthAt 10 = .ok (.ifCond .eq 130, 3) := dk_153 0 130 (dk_at dksX5_worthAt_0 10 rfl rfl)
theorem dX5_worthAt_13 : decode bcX5_worthAt 13 = .ok (.aload_n 0, 1) := dk_42 (dk_at dksX5_worthAt_0 13 rfl rfl)
theorem dX5_worthAt_14 : decode bcX5_worthAt 14 = .ok (.getfield 86, 3) := dk_180 0 86 (dk_at dksX5_worthAt_0 14 rfl rfl)
theorem dX5_worthAt_17 : decode bcX5_worthAt 17 = .ok (.iload_n 3, 1) := dk_29 (dk_at dksX5_worthAt_0 17 rfl rfl)
theorem dX5_worthAt_18 : decode bcX5_worthAt 18 = .ok (.iaload, 1) := dk_46 (dk_at dksX5_worthAt_0 18 rfl rfl)
theorem dX5_worthAt_19 : decode bcX5_worthAt 19 = .ok (.istore 4, 2) := dk_54 4 (dk_at dksX5_worthAt_0 19 rfl rfl)
theorem dX5_worthAt_21 : decode bcX5_worthAt 21 = .ok (.iload 4, 2) := dk_21 4 (dk_at dksX5_worthAt_0 21 rfl rfl)
theorem dX5_worthAt_23 : decode bcX5_worthAt 23 = .ok (.iconst 1, 1) := dk_4 (dk_at dksX5_worthAt_0 23 rfl rfl)
theorem dX5_worthAt_24 : decode bcX5_worthAt 24 = .ok (.if_icmp .eq 9, 3) := dk_159 0 9 (dk_at dksX5_worthAt_1 0 rfl rfl)
theorem dX5_worthAt_27 : decode bcX5_worthAt 27 = .ok (.iload 4, 2) := dk_21 4 (dk_at dksX5_worthAt_1 3 rfl rfl)
theorem dX5_worthAt_29 : decode bcX5_worthAt 29 = .ok (.iconst 2, 1) := dk_5 (dk_at dksX5_worthAt_1 5 rfl rfl)
theorem dX5_worthAt_30 : decode bcX5_worthAt 30 = .ok (.if_icmp .ne 41, 3) := dk_160 0 41 (dk_at dksX5_worthAt_1 6 rfl rfl)
theorem dX5_worthAt_33 : decode bcX5_worthAt 33 = .ok (.aload_n 0, 1) := dk_42 (dk_at dksX5_worthAt_1 9 rfl rfl)
theorem dX5_worthAt_34 : decode bcX5_worthAt 34 = .ok (.getfield 110, 3) := dk_180 0 110 (dk_at dksX5_worthAt_1 10 rfl rfl)
theorem dX5_worthAt_37 : decode bcX5_worthAt 37 = .ok (.iload_n 2, 1) := dk_28 (dk_at dksX5_worthAt_1 13 rfl rfl)
theorem dX5_worthAt_38 : decode bcX5_worthAt 38 = .ok (.iload 4, 2) := dk_21 4 (dk_at dksX5_worthAt_1 14 rfl rfl)
theorem dX5_worthAt_40 : decode bcX5_worthAt 40 = .ok (.iconst 1, 1) := dk_4 (dk_at dksX5_worthAt_1 16 rfl rfl)
theorem dX5_worthAt_41 : decode bcX5_worthAt 41 = .ok (.if_icmp .ne 12, 3) := dk_160 0 12 (dk_at dksX5_worthAt_1 17 rfl rfl)
theorem dX5_worthAt_44 : decode bcX5_worthAt 44 = .ok (.aload_n 0, 1) := dk_42 (dk_at dksX5_worthAt_1 20 rfl rfl)
theorem dX5_worthAt_45 : decode bcX5_worthAt 45 = .ok (.getfield 89, 3) := dk_180 0 89 (dk_at dksX5_worthAt_1 21 rfl rfl)
theorem dX5_worthAt_48 : decode bcX5_worthAt 48 = .ok (.iload_n 3, 1) := dk_29 (dk_at dksX5_worthAt_2 0 rfl rfl)
theorem dX5_worthAt_49 : decode bcX5_worthAt 49 = .ok (.iaload, 1) := dk_46 (dk_at dksX5_worthAt_2 1 rfl rfl)
theorem dX5_worthAt_50 : decode bcX5_worthAt 50 = .ok (.goto 14, 3) := dk_167 0 14 (dk_at dksX5_worthAt_2 2 rfl rfl)
theorem dX5_worthAt_53 : decode bcX5_worthAt 53 = .ok (.aload_n 0, 1) := dk_42 (dk_at dksX5_worthAt_2 5 rfl rfl)
theorem dX5_worthAt_54 : decode bcX5_worthAt 54 = .ok (.getfield 107, 3) := dk_180 0 107 (dk_at dksX5_worthAt_2 6 rfl rfl)
theorem dX5_worthAt_57 : decode bcX5_worthAt 57 = .ok (.aload_n 0, 1) := dk_42 (dk_at dksX5_worthAt_2 9 rfl rfl)
theorem dX5_worthAt_58 : decode bcX5_worthAt 58 = .ok (.getfield 89, 3) := dk_180 0 89 (dk_at dksX5_worthAt_2 10 rfl rfl)
theorem dX5_worthAt_61 : decode bcX5_worthAt 61 = .ok (.iload_n 3, 1) := dk_29 (dk_at dksX5_worthAt_2 13 rfl rfl)
theorem dX5_worthAt_62 : decode bcX5_worthAt 62 = .ok (.iaload, 1) := dk_46 (dk_at dksX5_worthAt_2 14 rfl rfl)
theorem dX5_worthAt_63 : decode bcX5_worthAt 63 = .ok (.iaload, 1) := dk_46 (dk_at dksX5_worthAt_2 15 rfl rfl)
theorem dX5_worthAt_64 : decode bcX5_worthAt 64 = .ok (.iastore, 1) := dk_79 (dk_at dksX5_worthAt_2 16 rfl rfl)
theorem dX5_worthAt_65 : decode bcX5_worthAt 65 = .ok (.iinc 2 1, 3) := dk_132 2 1 (dk_at dksX5_worthAt_2 17 rfl rfl)
theorem dX5_worthAt_68 : decode bcX5_worthAt 68 = .ok (.goto 66, 3) := dk_167 0 66 (dk_at dksX5_worthAt_2 20 rfl rfl)
theorem dX5_worthAt_71 : decode bcX5_worthAt 71 = .ok (.iload 4, 2) := dk_21 4 (dk_at dksX5_worthAt_3 0 rfl rfl)
theorem dX5_worthAt_73 : decode bcX5_worthAt 73 = .ok (.iconst 3, 1) := dk_6 (dk_at dksX5_worthAt_3 2 rfl rfl)
theorem dX5_worthAt_74 : decode bcX5_worthAt 74 = .ok (.if_icmp .ne 30, 3) := dk_160 0 30 (dk_at dksX5_worthAt_3 3 rfl rfl)
theorem dX5_worthAt_77 : decode bcX5_worthAt 77 = .ok (.aload_n 0, 1) := dk_42 (dk_at dksX5_worthAt_3 6 rfl rfl)
theorem dX5_worthAt_78 : decode bcX5_worthAt 78 = .ok (.getfield 110, 3) := dk_180 0 110 (dk_at dksX5_worthAt_3 7 rfl rfl)
theorem dX5_worthAt_81 : decode bcX5_worthAt 81 = .ok (.iload_n 2, 1) := dk_28 (dk_at dksX5_worthAt_3 10 rfl rfl)
theorem dX5_worthAt_82 : decode bcX5_worthAt 82 = .ok (.iconst 1, 1) := dk_4 (dk_at dksX5_worthAt_3 11 rfl rfl)
theorem dX5_worthAt_83 : decode bcX5_worthAt 83 = .ok (.isub, 1) := dk_100 (dk_at dksX5_worthAt_3 12 rfl rfl)
theorem dX5_worthAt_84 : decode bcX5_worthAt 84 = .ok (.aload_n 0, 1) := dk_42 (dk_at dksX5_worthAt_3 13 rfl rfl)
theorem dX5_worthAt_85 : decode bcX5_worthAt 85 = .ok (.getfield 110, 3) := dk_180 0 110 (dk_at dksX5_worthAt_3 14 rfl rfl)
theorem dX5_worthAt_88 : decode bcX5_worthAt 88 = .ok (.iload_n 2, 1) := dk_28 (dk_at dksX5_worthAt_3 17 rfl rfl)
theorem dX5_worthAt_89 : decode bcX5_worthAt 89 = .ok (.iconst 1, 1) := dk_4 (dk_at dksX5_worthAt_3 18 rfl rfl)
theorem dX5_worthAt_90 : decode bcX5_worthAt 90 = .ok (.isub, 1) := dk_100 (dk_at dksX5_worthAt_3 19 rfl rfl)
theorem dX5_worthAt_91 : decode bcX5_worthAt 91 = .ok (.iaload, 1) := dk_46 (dk_at dksX5_worthAt_3 20 rfl rfl)
theorem dX5_worthAt_92 : decode bcX5_worthAt 92 = .ok (.ifCond .ne 7, 3) := dk_154 0 7 (dk_at dksX5_worthAt_3 21 rfl rfl)
theorem dX5_worthAt_95 : decode bcX5_worthAt 95 = .ok (.iconst 1, 1) := dk_4 (dk_at dksX5_worthAt_4 0 rfl rfl)
theorem dX5_worthAt_96 : decode bcX5_worthAt 96 = .ok (.goto 4, 3) := dk_167 0 4 (dk_at dksX5_worthAt_4 1 rfl rfl)
theorem dX5_worthAt_99 : decode bcX5_worthAt 99 = .ok (.iconst 0, 1) := dk_3 (dk_at dksX5_worthAt_4 4 rfl rfl)
theorem dX5_worthAt_100 : decode bcX5_worthAt 100 = .ok (.iastore, 1) := dk_79 (dk_at dksX5_worthAt_4 5 rfl rfl)
theorem dX5_worthAt_101 : decode bcX5_worthAt 101 = .ok (.goto 33, 3) := dk_167 0 33 (dk_at dksX5_worthAt_4 6 rfl rfl)
theorem dX5_worthAt_104 : decode bcX5_worthAt 104 = .ok (.iinc 2 (-1), 3) := dk_132 2 255 (dk_at dksX5_worthAt_4 9 rfl rfl)
theorem dX5_worthAt_107 : decode bcX5_worthAt 107 = .ok (.aload_n 0, 1) := dk_42 (dk_at dksX5_worthAt_4 12 rfl rfl)
theorem dX5_worthAt_108 : decode bcX5_worthAt 108 = .ok (.getfield 110, 3) := dk_180 0 110 (dk_at dksX5_worthAt_4 13 rfl rfl)
theorem dX5_worthAt_111 : decode bcX5_worthAt 111 = .ok (.iload_n 2, 1) := dk_28 (dk_at dksX5_worthAt_4 16 rfl rfl)
theorem dX5_worthAt_112 : decode bcX5_worthAt 112 = .ok (.iconst 1, 1) := dk_4 (dk_at dksX5_worthAt_4 17 rfl rfl)
theorem dX5_worthAt_113 : decode bcX5_worthAt 113 = .ok (.isub, 1) := dk_100 (dk_at dksX5_worthAt_4 18 rfl rfl)
theorem dX5_worthAt_114 : decode bcX5_worthAt 114 = .ok (.iload 4, 2) := dk_21 4 (dk_at dksX5_worthAt_4 19 rfl rfl)
theorem dX5_worthAt_116 : decode bcX5_worthAt 116 = .ok (.aload_n 0, 1) := dk_42 (dk_at dksX5_worthAt_4 21 rfl rfl)
theorem dX5_worthAt_117 : decode bcX5_worthAt 117 = .ok (.getfield 110, 3) := dk_180 0 110 (dk_at dksX5_worthAt_5 0 rfl rfl)
theorem dX5_worthAt_120 : decode bcX5_worthAt 120 = .ok (.iload_n 2, 1) := dk_28 (dk_at dksX5_worthAt_5 3 rfl rfl)
theorem dX5_worthAt_121 : decode bcX5_worthAt 121 = .ok (.iconst 1, 1) := dk_4 (dk_at dksX5_worthAt_5 4 rfl rfl)
theorem dX5_worthAt_122 : decode bcX5_worthAt 122 = .ok (.isub, 1) := dk_100 (dk_at dksX5_worthAt_5 5 rfl rfl)
theorem dX5_worthAt_123 : decode bcX5_worthAt 123 = .ok (.iaload, 1) := dk_46 (dk_at dksX5_worthAt_5 6 rfl rfl)
theorem dX5_worthAt_124 : decode bcX5_worthAt 124 = .ok (.aload_n 0, 1) := dk_42 (dk_at dksX5_worthAt_5 7 rfl rfl)
theorem dX5_worthAt_125 : decode bcX5_worthAt 125 = .ok (.getfield 110, 3) := dk_180 0 110 (dk_at dksX5_worthAt_5 8 rfl rfl)
theorem dX5_worthAt_128 : decode bcX5_worthAt 128 = .ok (.iload_n 2, 1) := dk_28 (dk_at dksX5_worthAt_5 11 rfl rfl)
theorem dX5_worthAt_129 : decode bcX5_worthAt 129 = .ok (.iaload, 1) := dk_46 (dk_at dksX5_worthAt_5 12 rfl rfl)
theorem dX5_worthAt_130 : decode bcX5_worthAt 130 = .ok (.invokestatic 269, 3) := dk_184 1 13 (dk_at dksX5_worthAt_5 13 rfl rfl)
theorem dX5_worthAt_133 : decode bcX5_worthAt 133 = .ok (.iastore, 1) := dk_79 (dk_at dksX5_worthAt_5 16 rfl rfl)
theorem dX5_worthAt_134 : decode bcX5_worthAt 134 = .ok (.iinc 3 1, 3) := dk_132 3 1 (dk_at dksX5_worthAt_5 17 rfl rfl)
theorem dX5_worthAt_137 : decode bcX5_worthAt 137 = .ok (.goto (-133), 3) := dk_167 255 123 (dk_at dksX5_worthAt_5 20 rfl rfl)
theorem dX5_worthAt_140 : decode bcX5_worthAt 140 = .ok (.aload_n 0, 1) := dk_42 (dk_at dksX5_worthAt_5 23 rfl rfl)
theorem dX5_worthAt_141 : decode bcX5_worthAt 141 = .ok (.getfield 110, 3) := dk_180 0 110 (dk_at dksX5_worthAt_6 0 rfl rfl)
theorem dX5_worthAt_144 : decode bcX5_worthAt 144 = .ok (.iconst 0, 1) := dk_3 (dk_at dksX5_worthAt_6 3 rfl rfl)
theorem dX5_worthAt_145 : decode bcX5_worthAt 145 = .ok (.iaload, 1) := dk_46 (dk_at dksX5_worthAt_6 4 rfl rfl)
theorem dX5_worthAt_146 : decode bcX5_worthAt 146 = .ok (.ireturn, 1) := dk_172 (dk_at dksX5_worthAt_6 5 rfl rfl)
abbrev SX5_worthAt (pc : Nat) (i : xI) : Prop := Snd "SwollenHouseModel" "worthAt" prog_25_method_39_code 5 (Option.some Jvm.ClassFile.FieldType.int) [] pc i
theorem oX5_worthAt_0 : SX5_worthAt 0 (i_const (.int (nI 0)) 1) := snd_iconst dX5_worthAt_0 (by decide)
theorem oX5_worthAt_1 : SX5_worthAt 1 (i_istore 2 2) := snd_istore_n dX5_worthAt_1 rfl (by decide)
theorem oX5_worthAt_2 : SX5_worthAt 2 (i_iload 1 3) := snd_iload_n dX5_worthAt_2 rfl
theorem oX5_worthAt_3 : SX5_worthAt 3 (i_istore 3 4) := snd_istore_n dX5_worthAt_3 rfl (by decide)
theorem oX5_worthAt_4 : SX5_worthAt 4 (i_aload 0 5) := snd_aload_n dX5_worthAt_4 rfl
theorem oX5_worthAt_5 : SX5_worthAt 5 (i_getf 4 11 8) := snd_getf dX5_worthAt_5 rfl (by decide) in_X5 (Or.inl q1709) (Or.inl rfl) (by decide)
theorem oX5_worthAt_8 : SX5_worthAt 8 (i_iload 3 9) := snd_iload_n dX5_worthAt_8 rfl
theorem oX5_worthAt_9 : SX5_worthAt 9 (i_ai 0 10) := snd_ai0 dX5_worthAt_9
theorem oX5_worthAt_10 : SX5_worthAt 10 (i_if1 (fun x => x = 0) 140 13) := snd_if_eq dX5_worthAt_10 (by decide)
theorem oX5_worthAt_13 : SX5_worthAt 13 (i_aload 0 14) := snd_aload_n dX5_worthAt_13 rfl
theorem oX5_worthAt_14 : SX5_worthAt 14 (i_getf 4 11 17) := snd_getf dX5_worthAt_14 rfl (by decide) in_X5 (Or.inl q1709) (Or.inl rfl) (by decide)
theorem oX5_worthAt_17 : SX5_worthAt 17 (i_iload 3 18) := snd_iload_n dX5_worthAt_17 rfl
theorem oX5_worthAt_18 : SX5_worthAt 18 (i_ai 0 19) := snd_ai0 dX5_worthAt_18
theorem oX5_worthAt_19 : SX5_worthAt 19 (i_istore 4 21) := snd_istore dX5_worthAt_19 (by decide)
theorem oX5_worthAt_21 : SX5_worthAt 21 (i_iload 4 23) := snd_iload dX5_worthAt_21
theorem oX5_worthAt_23 : SX5_worthAt 23 (i_const (.int (nI 1)) 24) := snd_iconst dX5_worthAt_23 (by decide)
theorem oX5_worthAt_24 : SX5_worthAt 24 (i_if2 (fun x y => x = y) 33 27) := snd_icmp_eq dX5_worthAt_24 (by decide)
theorem oX5_worthAt_27 : SX5_worthAt 27 (i_iload 4 29) := snd_iload dX5_worthAt_27
theorem oX5_worthAt_29 : SX5_worthAt 29 (i_const (.int (nI 2)) 30) := snd_iconst dX5_worthAt_29 (by decide)
theorem oX5_worthAt_30 : SX5_worthAt 30 (i_if2 (fun x y => ¬ x = y) 71 33) := snd_icmp_ne dX5_worthAt_30 (by decide)
theorem oX5_worthAt_33 : SX5_worthAt 33 (i_aload 0 34) := snd_aload_n dX5_worthAt_33 rfl
theorem oX5_worthAt_34 : SX5_worthAt 34 (i_getf 4 23 37) := snd_getf dX5_worthAt_34 rfl (by decide) in_X5 (Or.inl q1721) (Or.inl rfl) (by decide)
theorem oX5_worthAt_37 : SX5_worthAt 37 (i_iload 2 38) := snd_iload_n dX5_worthAt_37 rfl
theorem oX5_worthAt_38 : SX5_worthAt 38 (i_iload 4 40) := snd_iload dX5_worthAt_38
theorem oX5_worthAt_40 : SX5_worthAt 40 (i_const (.int (nI 1)) 41) := snd_iconst dX5_worthAt_40 (by decide)
theorem oX5_worthAt_41 : SX5_worthAt 41 (i_if2 (fun x y => ¬ x = y) 53 44) := snd_icmp_ne dX5_worthAt_41 (by decide)
theorem oX5_worthAt_44 : SX5_worthAt 44 (i_aload 0 45) := snd_aload_n dX5_worthAt_44 rfl
theorem oX5_worthAt_45 : SX5_worthAt 45 (i_getf 4 12 48) := snd_getf dX5_worthAt_45 rfl (by decide) in_X5 (Or.inl q1710) (Or.inl rfl) (by decide)
theorem oX5_worthAt_48 : SX5_worthAt 48 (i_iload 3 49) := snd_iload_n dX5_worthAt_48 rfl
theorem oX5_worthAt_49 : SX5_worthAt 49 (i_ai 0 50) := snd_ai0 dX5_worthAt_49
theorem oX5_worthAt_50 : SX5_worthAt 50 (i_goto 64) := snd_goto dX5_worthAt_50 (by decide)
theorem oX5_worthAt_53 : SX5_worthAt 53 (i_aload 0 54) := snd_aload_n dX5_worthAt_53 rfl
theorem oX5_worthAt_54 : SX5_worthAt 54 (i_getf 4 22 57) := snd_getf dX5_worthAt_54 rfl (by decide) in_X5 (Or.inl q1720) (Or.inl rfl) (by decide)
theorem oX5_worthAt_57 : SX5_worthAt 57 (i_aload 0 58) := snd_aload_n dX5_worthAt_57 rfl
theorem oX5_worthAt_58 : SX5_worthAt 58 (i_getf 4 12 61) := snd_getf dX5_worthAt_58 rfl (by decide) in_X5 (Or.inl q1710) (Or.inl rfl) (by decide)
theorem oX5_worthAt_61 : SX5_worthAt 61 (i_iload 3 62) := snd_iload_n dX5_worthAt_61 rfl
theorem oX5_worthAt_62 : SX5_worthAt 62 (i_ai 0 63) := snd_ai0 dX5_worthAt_62
theorem oX5_worthAt_63 : SX5_worthAt 63 (i_ai 0 64) := snd_ai0 dX5_worthAt_63
theorem oX5_worthAt_64 : SX5_worthAt 64 (i_si (fun v => v) 0 65) := snd_si0 dX5_worthAt_64
theorem oX5_worthAt_65 : SX5_worthAt 65 (i_iinc 2 (nI 1) 68) := snd_iinc dX5_worthAt_65 (by decide) (by decide)
theorem oX5_worthAt_68 : SX5_worthAt 68 (i_goto 134) := snd_goto dX5_worthAt_68 (by decide)
theorem oX5_worthAt_71 : SX5_worthAt 71 (i_iload 4 73) := snd_iload dX5_worthAt_71
theorem oX5_worthAt_73 : SX5_worthAt 73 (i_const (.int (nI 3)) 74) := snd_iconst dX5_worthAt_73 (by decide)
theorem oX5_worthAt_74 : SX5_worthAt 74 (i_if2 (fun x y => ¬ x = y) 104 77) := snd_icmp_ne dX5_worthAt_74 (by decide)
theorem oX5_worthAt_77 : SX5_worthAt 77 (i_aload 0 78) := snd_aload_n dX5_worthAt_77 rfl
theorem oX5_worthAt_78 : SX5_worthAt 78 (i_getf 4 23 81) := snd_getf dX5_worthAt_78 rfl (by decide) in_X5 (Or.inl q1721) (Or.inl rfl) (by decide)
theorem oX5_worthAt_81 : SX5_worthAt 81 (i_iload 2 82) := snd_iload_n dX5_worthAt_81 rfl
theorem oX5_worthAt_82 : SX5_worthAt 82 (i_const (.int (nI 1)) 83) := snd_iconst dX5_worthAt_82 (by decide)
theorem oX5_worthAt_83 : SX5_worthAt 83 (i_ii (fun x y => x - y) 84) := snd_isub dX5_worthAt_83
theorem oX5_worthAt_84 : SX5_worthAt 84 (i_aload 0 85) := snd_aload_n dX5_worthAt_84 rfl
theorem oX5_worthAt_85 : SX5_worthAt 85 (i_getf 4 23 88) := snd_getf dX5_worthAt_85 rfl (by decide) in_X5 (Or.inl q1721) (Or.inl rfl) (by decide)
theorem oX5_worthAt_88 : SX5_worthAt 88 (i_iload 2 89) := snd_iload_n dX5_worthAt_88 rfl
theorem oX5_worthAt_89 : SX5_worthAt 89 (i_const (.int (nI 1)) 90) := snd_iconst dX5_worthAt_89 (by decide)
theorem oX5_worthAt_90 : SX5_worthAt 90 (i_ii (fun x y => x - y) 91) := snd_isub dX5_worthAt_90
theorem oX5_worthAt_91 : SX5_worthAt 91 (i_ai 0 92) := snd_ai0 dX5_worthAt_91
theorem oX5_worthAt_92 : SX5_worthAt 92 (i_if1 (fun x => ¬ x = 0) 99 95) := snd_if_ne dX5_worthAt_92 (by decide)
theorem oX5_worthAt_95 : SX5_worthAt 95 (i_const (.int (nI 1)) 96) := snd_iconst dX5_worthAt_95 (by decide)
theorem oX5_worthAt_96 : SX5_worthAt 96 (i_goto 100) := snd_goto dX5_worthAt_96 (by decide)
theorem oX5_worthAt_99 : SX5_worthAt 99 (i_const (.int (nI 0)) 100) := snd_iconst dX5_worthAt_99 (by decide)
theorem oX5_worthAt_100 : SX5_worthAt 100 (i_si (fun v => v) 0 101) := snd_si0 dX5_worthAt_100
theorem oX5_worthAt_101 : SX5_worthAt 101 (i_goto 134) := snd_goto dX5_worthAt_101 (by decide)
theorem oX5_worthAt_104 : SX5_worthAt 104 (i_iinc 2 (-1) 107) := snd_iinc dX5_worthAt_104 (by decide) (by decide)
theorem oX5_worthAt_107 : SX5_worthAt 107 (i_aload 0 108) := snd_aload_n dX5_worthAt_107 rfl
theorem oX5_worthAt_108 : SX5_worthAt 108 (i_getf 4 23 111) := snd_getf dX5_worthAt_108 rfl (by decide) in_X5 (Or.inl q1721) (Or.inl rfl) (by decide)
theorem oX5_worthAt_111 : SX5_worthAt 111 (i_iload 2 112) := snd_iload_n dX5_worthAt_111 rfl
theorem oX5_worthAt_112 : SX5_worthAt 112 (i_const (.int (nI 1)) 113) := snd_iconst dX5_worthAt_112 (by decide)
theorem oX5_worthAt_113 : SX5_worthAt 113 (i_ii (fun x y => x - y) 114) := snd_isub dX5_worthAt_113
theorem oX5_worthAt_114 : SX5_worthAt 114 (i_iload 4 116) := snd_iload dX5_worthAt_114
theorem oX5_worthAt_116 : SX5_worthAt 116 (i_aload 0 117) := snd_aload_n dX5_worthAt_116 rfl
theorem oX5_worthAt_117 : SX5_worthAt 117 (i_getf 4 23 120) := snd_getf dX5_worthAt_117 rfl (by decide) in_X5 (Or.inl q1721) (Or.inl rfl) (by decide)
theorem oX5_worthAt_120 : SX5_worthAt 120 (i_iload 2 121) := snd_iload_n dX5_worthAt_120 rfl
theorem oX5_worthAt_121 : SX5_worthAt 121 (i_const (.int (nI 1)) 122) := snd_iconst dX5_worthAt_121 (by decide)
theorem oX5_worthAt_122 : SX5_worthAt 122 (i_ii (fun x y => x - y) 123) := snd_isub dX5_worthAt_122
theorem oX5_worthAt_123 : SX5_worthAt 123 (i_ai 0 124) := snd_ai0 dX5_worthAt_123
theorem oX5_worthAt_124 : SX5_worthAt 124 (i_aload 0 125) := snd_aload_n dX5_worthAt_124 rfl
theorem oX5_worthAt_125 : SX5_worthAt 125 (i_getf 4 23 128) := snd_getf dX5_worthAt_125 rfl (by decide) in_X5 (Or.inl q1721) (Or.inl rfl) (by decide)
theorem oX5_worthAt_128 : SX5_worthAt 128 (i_iload 2 129) := snd_iload_n dX5_worthAt_128 rfl
theorem oX5_worthAt_129 : SX5_worthAt 129 (i_ai 0 130) := snd_ai0 dX5_worthAt_129
theorem oX5_worthAt_130 : SX5_worthAt 130 (i_cs 301 3 133) := snd_cs rfl infX5_both (by decide) (xSm_S dX5_worthAt_130 q1986 q1987 q136 q1988 pdX5_both)
theorem oX5_worthAt_133 : SX5_worthAt 133 (i_si (fun v => v) 0 134) := snd_si0 dX5_worthAt_133
theorem oX5_worthAt_134 : SX5_worthAt 134 (i_iinc 3 (nI 1) 137) := snd_iinc dX5_worthAt_134 (by decide) (by decide)
theorem oX5_worthAt_137 : SX5_worthAt 137 (i_goto 4) := snd_goto dX5_worthAt_137 (by decide)
theorem oX5_worthAt_140 : SX5_worthAt 140 (i_aload 0 141) := snd_aload_n dX5_worthAt_140 rfl
theorem oX5_worthAt_141 : SX5_worthAt 141 (i_getf 4 23 144) := snd_getf dX5_worthAt_141 rfl (by decide) in_X5 (Or.inl q1721) (Or.inl rfl) (by decide)
theorem oX5_worthAt_144 : SX5_worthAt 144 (i_const (.int (nI 0)) 145) := snd_iconst dX5_worthAt_144 (by decide)
theorem oX5_worthAt_145 : SX5_worthAt 145 (i_ai 0 146) := snd_ai0 dX5_worthAt_145
theorem oX5_worthAt_146 : SX5_worthAt 146 (i_iret) := snd_iret dX5_worthAt_146 rfl
theorem okX5_worthAt : ∀ q ∈ cX5_worthAt, SX5_worthAt q.1 q.2 := List.forall_mem_cons.mpr ⟨oX5_worthAt_0, List.forall_mem_cons.mpr ⟨oX5_worthAt_1, List.forall_mem_cons.mpr ⟨oX5_worthAt_2, List.forall_mem_cons.mpr ⟨oX5_worthAt_3, List.forall_mem_cons.mpr ⟨oX5_worthAt_4, List.forall_mem_cons.mpr ⟨oX5_worthAt_5, List.forall_mem_cons.mpr ⟨oX5_worthAt_8, List.forall_mem_cons.mpr ⟨oX5_worthAt_9, List.forall_mem_cons.mpr ⟨oX5_worthAt_10, List.forall_mem_cons.mpr ⟨oX5_worthAt_13, List.forall_mem_cons.mpr ⟨oX5_worthAt_14, List.forall_mem_cons.mpr ⟨oX5_worthAt_17, List.forall_mem_cons.mpr ⟨oX5_worthAt_18, List.forall_mem_cons.mpr ⟨oX5_worthAt_19, List.forall_mem_cons.mpr ⟨oX5_worthAt_21, List.forall_mem_cons.mpr ⟨oX5_worthAt_23, List.forall_mem_cons.mpr ⟨oX5_worthAt_24, List.forall_mem_cons.mpr ⟨oX5_worthAt_27, List.forall_mem_cons.mpr ⟨oX5_worthAt_29, List.forall_mem_cons.mpr ⟨oX5_worthAt_30, List.forall_mem_cons.mpr ⟨oX5_worthAt_33, List.forall_mem_cons.mpr ⟨oX5_worthAt_34, List.forall_mem_cons.mpr ⟨oX5_worthAt_37, List.forall_mem_cons.mpr ⟨oX5_worthAt_38, List.forall_mem_cons.mpr ⟨oX5_worthAt_40, List.forall_mem_cons.mpr ⟨oX5_worthAt_41, List.forall_mem_cons.mpr ⟨oX5_worthAt_44, List.forall_mem_cons.mpr ⟨oX5_worthAt_45, List.forall_mem_cons.mpr ⟨oX5_worthAt_48, List.forall_mem_cons.mpr ⟨oX5_worthAt_49, List.forall_mem_cons.mpr ⟨oX5_worthAt_50, List.forall_mem_cons.mpr ⟨oX5_worthAt_53, List.forall_mem_cons.mpr ⟨oX5_worthAt_54, List.forall_mem_cons.mpr ⟨oX5_worthAt_57, List.forall_mem_cons.mpr ⟨oX5_worthAt_58, List.forall_mem_cons.mpr ⟨oX5_worthAt_61, List.forall_mem_cons.mpr ⟨oX5_worthAt_62, List.forall_mem_cons.mpr ⟨oX5_worthAt_63, List.forall_mem_cons.mpr ⟨oX5_worthAt_64, List.forall_mem_cons.mpr ⟨oX5_worthAt_65, List.forall_mem_cons.mpr ⟨oX5_worthAt_68, List.forall_mem_cons.mpr ⟨oX5_worthAt_71, List.forall_mem_cons.mpr ⟨oX5_worthAt_73, List.forall_mem_cons.mpr ⟨oX5_worthAt_74, List.forall_mem_cons.mpr ⟨oX5_worthAt_77, List.forall_mem_cons.mpr ⟨oX5_worthAt_78, List.forall_mem_cons.mpr ⟨oX5_worthAt_81, List.forall_mem_cons.mpr ⟨oX5_worthAt_82, List.forall_mem_cons.mpr ⟨oX5_worthAt_83, List.forall_mem_cons.mpr ⟨oX5_worthAt_84, List.forall_mem_cons.mpr ⟨oX5_worthAt_85, List.forall_mem_cons.mpr ⟨oX5_worthAt_88, List.forall_mem_cons.mpr ⟨oX5_worthAt_89, List.forall_mem_cons.mpr ⟨oX5_worthAt_90, List.forall_mem_cons.mpr ⟨oX5_worthAt_91, List.forall_mem_cons.mpr ⟨oX5_worthAt_92, List.forall_mem_cons.mpr ⟨oX5_worthAt_95, List.forall_mem_cons.mpr ⟨oX5_worthAt_96, List.forall_mem_cons.mpr ⟨oX5_worthAt_99, List.forall_mem_cons.mpr ⟨oX5_worthAt_100, List.forall_mem_cons.mpr ⟨oX5_worthAt_101, List.forall_mem_cons.mpr ⟨oX5_worthAt_104, List.forall_mem_cons.mpr ⟨oX5_worthAt_107, List.forall_mem_cons.mpr ⟨oX5_worthAt_108, List.forall_mem_cons.mpr ⟨oX5_worthAt_111, List.forall_mem_cons.mpr ⟨oX5_worthAt_112, List.forall_mem_cons.mpr ⟨oX5_worthAt_113, List.forall_mem_cons.mpr ⟨oX5_worthAt_114, List.forall_mem_cons.mpr ⟨oX5_worthAt_116, List.forall_mem_cons.mpr ⟨oX5_worthAt_117, List.forall_mem_cons.mpr ⟨oX5_worthAt_120, List.forall_mem_cons.mpr ⟨oX5_worthAt_121, List.forall_mem_cons.mpr ⟨oX5_worthAt_122, List.forall_mem_cons.mpr ⟨oX5_worthAt_123, List.forall_mem_cons.mpr ⟨oX5_worthAt_124, List.forall_mem_cons.mpr ⟨oX5_worthAt_125, List.forall_mem_cons.mpr ⟨oX5_worthAt_128, List.forall_mem_cons.mpr ⟨oX5_worthAt_129, List.forall_mem_cons.mpr ⟨oX5_worthAt_130, List.forall_mem_cons.mpr ⟨oX5_worthAt_133, List.forall_mem_cons.mpr ⟨oX5_worthAt_134, List.forall_mem_cons.mpr ⟨oX5_worthAt_137, List.forall_mem_cons.mpr ⟨oX5_worthAt_140, List.forall_mem_cons.mpr ⟨oX5_worthAt_141, List.forall_mem_cons.mpr ⟨oX5_worthAt_144, List.forall_mem_cons.mpr ⟨oX5_worthAt_145, List.forall_mem_cons.mpr ⟨oX5_worthAt_146, fun _ h => absurd h List.not_mem_nil⟩⟩⟩⟩⟩⟩⟩⟩⟩⟩⟩⟩⟩⟩⟩⟩⟩⟩⟩⟩⟩⟩⟩⟩⟩⟩⟩⟩⟩⟩⟩⟩⟩⟩⟩⟩⟩⟩⟩⟩⟩⟩⟩⟩⟩⟩⟩⟩⟩⟩⟩⟩⟩⟩⟩⟩⟩⟩⟩⟩⟩⟩⟩⟩⟩⟩⟩⟩⟩⟩⟩⟩⟩⟩⟩⟩⟩⟩⟩⟩⟩⟩⟩⟩⟩⟩⟩
def dkwX5_both_4 : List UInt8 := [27, 154, 0, 7, 28, 153, 0, 7, 4, 167, 0, 4, 3, 172]
abbrev dktX5_both_4 : List UInt8 := dkwX5_both_4 ++ []
def dkwX5_both_3 : List UInt8 := [28, 160, 0, 7, 4, 167, 0, 4, 3, 172, 27, 153, 0, 11, 28, 153, 0, 7, 4, 167, 0, 4, 3, 172]
abbrev dktX5_both_3 : List UInt8 := dkwX5_both_3 ++ dktX5_both_4
def dkwX5_both_2 : List UInt8 := [27, 28, 96, 172, 27, 28, 100, 172, 27, 28, 104, 172, 27, 28, 162, 0, 7, 4, 167, 0, 4, 3, 172, 27]
abbrev dktX5_both_2 : List UInt8 := dkwX5_both_2 ++ dktX5_both_3
def dkwX5_both_1 : List UInt8 := [170, 0, 0, 0, 0, 0, 87, 0, 0, 0, 4, 0, 0, 0, 9, 0, 0, 0, 39, 0, 0, 0, 43, 0, 0, 0, 47, 0, 0, 0, 51, 0, 0, 0, 62, 0, 0, 0, 73]
abbrev dktX5_both_1 : List UInt8 := dkwX5_both_1 ++ dktX5_both_2
def dkwX5_both_0 : List UInt8 := [26]
abbrev dktX5_both_0 : List UInt8 := dkwX5_both_0 ++ dktX5_both_1
theorem dksX5_both_0 : bcX5_both.data.toList.drop 0 = dktX5_both_0 := by decide +kernel
theorem dksX5_both_1 : bcX5_both.data.toList.drop 1 = dktX5_both_1 := dk_seg dksX5_both_0 1 rfl rfl
theorem dksX5_both_2 : bcX5_both.data.toList.drop 40 = dktX5_both_2 := dk_seg dksX5_both_1 39 rfl rfl
theorem dksX5_both_3 : bcX5_both.data.toList.drop 64 = dktX5_both_3 := dk_seg dksX5_both_2 24 rfl rfl
theorem dksX5_both_4 : bcX5_both.data.toList.drop 88 = dktX5_both_4 := dk_seg dksX5_both_3 24 rfl rfl
theorem dX5_both_0 : decode bcX5_both 0 = .ok (.iload_n 0, 1) := dk_26 (dk_at dksX5_both_0 0 rfl rfl)
theorem dX5_both_1 : decode bcX5_both 1 = .ok (.tableswitch 87 4 9 #[39, 43, 47, 51, 62, 73], 39) := by decide +kernel
theorem dX5_both_40 : decode bcX5_both 40 = .ok (.iload_n 1, 1) := dk_27 (dk_at dksX5_both_2 0 rfl rfl)
theorem dX5_both_41 : decode bcX5_both 41 = .ok (.iload_n 2, 1) := dk_28 (dk_at dksX5_both_2 1 rfl rfl)
theorem dX5_both_42 : decode bcX5_both 42 = .ok (.iadd, 1) := dk_96 (dk_at dksX5_both_2 2 rfl rfl)
theorem dX5_both_43 : decode bcX5_both 43 = .ok (.ireturn, 1) := dk_172 (dk_at dksX5_both_2 3 rfl rfl)
theorem dX5_both_44 : decode bcX5_both 44 = .ok (.iload_n 1, 1) := dk_27 (dk_at dksX5_both_2 4 rfl rfl)
theorem dX5_both_45 : decode bcX5_both 45 = .ok (.iload_n 2, 1) := dk_28 (dk_at dksX5_both_2 5 rfl rfl)
theorem dX5_both_46 : decode bcX5_both 46 = .ok (.isub, 1) := dk_100 (dk_at dksX5_both_2 6 rfl rfl)
theorem dX5_both_47 : decode bcX5_both 47 = .ok (.ireturn, 1) := dk_172 (dk_at dksX5_both_2 7 rfl rfl)
theorem dX5_both_48 : decode bcX5_both 48 = .ok (.iload_n 1, 1) := dk_27 (dk_at dksX5_both_2 8 rfl rfl)
theorem dX5_both_49 : decode bcX5_both 49 = .ok (.iload_n 2, 1) := dk_28 (dk_at dksX5_both_2 9 rfl rfl)
theorem dX5_both_50 : decode bcX5_both 50 = .ok (.imul, 1) := dk_104 (dk_at dksX5_both_2 10 rfl rfl)
theorem dX5_both_51 : decode bcX5_both 51 = .ok (.ireturn, 1) := dk_172 (dk_at dksX5_both_2 11 rfl rfl)
theorem dX5_both_52 : decode bcX5_both 52 = .ok (.iload_n 1, 1) := dk_27 (dk_at dksX5_both_2 12 rfl rfl)
theorem dX5_both_53 : decode bcX5_both 53 = .ok (.iload_n 2, 1) := dk_28 (dk_at dksX5_both_2 13 rfl rfl)
theorem dX5_both_54 : decode bcX5_both 54 = .ok (.if_icmp .ge 7, 3) := dk_162 0 7 (dk_at dksX5_both_2 14 rfl rfl)
theorem dX5_both_57 : decode bcX5_both 57 = .ok (.iconst 1, 1) := dk_4 (dk_at dksX5_both_2 17 rfl rfl)
theorem dX5_both_58 : decode bcX5_both 58 = .ok (.goto 4, 3) := dk_167 0 4 (dk_at dksX5_both_2 18 rfl rfl)
theorem dX5_both_61 : decode bcX5_both 61 = .ok (.iconst 0, 1) := dk_3 (dk_at dksX5_both_2 21 rfl rfl)
theorem dX5_both_62 : decode bcX5_both 62 = .ok (.ireturn, 1) := dk_172 (dk_at dksX5_both_2 22 rfl rfl)
theorem dX5_both_63 : decode bcX5_both 63 = .ok (.iload_n 1, 1) := dk_27 (dk_at dksX5_both_2 23 rfl rfl)
theorem dX5_both_64 : decode bcX5_both 64 = .ok (.iload_n 2, 1) := dk_28 (dk_at dksX5_both_3 0 rfl rfl)
theorem dX5_both_65 : decode bcX5_both 65 = .ok (.if_icmp .ne 7, 3) := dk_160 0 7 (dk_at dksX5_both_3 1 rfl rfl)
theorem dX5_both_68 : decode bcX5_both 68 = .ok (.iconst 1, 1) := dk_4 (dk_at dksX5_both_3 4 rfl rfl)
theorem dX5_both_69 : decode bcX5_both 69 = .ok (.goto 4, 3) := dk_167 0 4 (dk_at dksX5_both_3 5 rfl rfl)
theorem dX5_both_72 : decode bcX5_both 72 = .ok (.iconst 0, 1) := dk_3 (dk_at dksX5_both_3 8 rfl rfl)
theorem dX5_both_73 : decode bcX5_both 73 = .ok (.ireturn, 1) := dk_172 (dk_at dksX5_both_3 9 rfl rfl)
theorem dX5_both_74 : decode bcX5_both 74 = .ok (.iload_n 1, 1) := dk_27 (dk_at dksX5_both_3 10 rfl rfl)
theorem dX5_both_75 : decode bcX5_both 75 = .ok (.ifCond .eq 11, 3) := dk_153 0 11 (dk_at dksX5_both_3 11 rfl rfl)
theorem dX5_both_78 : decode bcX5_both 78 = .ok (.iload_n 2, 1) := dk_28 (dk_at dksX5_both_3 14 rfl rfl)
theorem dX5_both_79 : decode bcX5_both 79 = .ok (.ifCond .eq 7, 3) := dk_153 0 7 (dk_at dksX5_both_3 15 rfl rfl)
theorem dX5_both_82 : decode bcX5_both 82 = .ok (.iconst 1, 1) := dk_4 (dk_at dksX5_both_3 18 rfl rfl)
theorem dX5_both_83 : decode bcX5_both 83 = .ok (.goto 4, 3) := dk_167 0 4 (dk_at dksX5_both_3 19 rfl rfl)
theorem dX5_both_86 : decode bcX5_both 86 = .ok (.iconst 0, 1) := dk_3 (dk_at dksX5_both_3 22 rfl rfl)
theorem dX5_both_87 : decode bcX5_both 87 = .ok (.ireturn, 1) := dk_172 (dk_at dksX5_both_3 23 rfl rfl)
theorem dX5_both_88 : decode bcX5_both 88 = .ok (.iload_n 1, 1) := dk_27 (dk_at dksX5_both_4 0 rfl rfl)
theorem dX5_both_89 : decode bcX5_both 89 = .ok (.ifCond .ne 7, 3) := dk_154 0 7 (dk_at dksX5_both_4 1 rfl rfl)
theorem dX5_both_92 : decode bcX5_both 92 = .ok (.iload_n 2, 1) := dk_28 (dk_at dksX5_both_4 4 rfl rfl)
theorem dX5_both_93 : decode bcX5_both 93 = .ok (.ifCond .eq 7, 3) := dk_153 0 7 (dk_at dksX5_both_4 5 rfl rfl)
theorem dX5_both_96 : decode bcX5_both 96 = .ok (.iconst 1, 1) := dk_4 (dk_at dksX5_both_4 8 rfl rfl)
theorem dX5_both_97 : decode bcX5_both 97 = .ok (.goto 4, 3) := dk_167 0 4 (dk_at dksX5_both_4 9 rfl rfl)
theorem dX5_both_100 : decode bcX5_both 100 = .ok (.iconst 0, 1) := dk_3 (dk_at dksX5_both_4 12 rfl rfl)
theorem dX5_both_101 : decode bcX5_both 101 = .ok (.ireturn, 1) := dk_172 (dk_at dksX5_both_4 13 rfl rfl)
abbrev SX5_both (pc : Nat) (i : xI) : Prop := Snd "SwollenHouseModel" "both" prog_25_method_40_code 3 (Option.some Jvm.ClassFile.FieldType.int) [] pc i
theorem oX5_both_0 : SX5_both 0 (i_iload 0 1) := snd_iload_n dX5_both_0 rfl
theorem oX5_both_1 : SX5_both 1 (i_tsw 4 [40, 44, 48, 52, 63, 74] 88) := snd_tsw dX5_both_1 (by decide) (by decide) (by decide)
theorem oX5_both_40 : SX5_both 40 (i_iload 1 41) := snd_iload_n dX5_both_40 rfl
theorem oX5_both_41 : SX5_both 41 (i_iload 2 42) := snd_iload_n dX5_both_41 rfl
theorem oX5_both_42 : SX5_both 42 (i_ii (fun x y => x + y) 43) := snd_iadd dX5_both_42
theorem oX5_both_43 : SX5_both 43 (i_iret) := snd_iret dX5_both_43 rfl
theorem oX5_both_44 : SX5_both 44 (i_iload 1 45) := snd_iload_n dX5_both_44 rfl
theorem oX5_both_45 : SX5_both 45 (i_iload 2 46) := snd_iload_n dX5_both_45 rfl
theorem oX5_both_46 : SX5_both 46 (i_ii (fun x y => x - y) 47) := snd_isub dX5_both_46
theorem oX5_both_47 : SX5_both 47 (i_iret) := snd_iret dX5_both_47 rfl
theorem oX5_both_48 : SX5_both 48 (i_iload 1 49) := snd_iload_n dX5_both_48 rfl
theorem oX5_both_49 : SX5_both 49 (i_iload 2 50) := snd_iload_n dX5_both_49 rfl
theorem oX5_both_50 : SX5_both 50 (i_ii (fun x y => x * y) 51) := snd_imul dX5_both_50
theorem oX5_both_51 : SX5_both 51 (i_iret) := snd_iret dX5_both_51 rfl
theorem oX5_both_52 : SX5_both 52 (i_iload 1 53) := snd_iload_n dX5_both_52 rfl
theorem oX5_both_53 : SX5_both 53 (i_iload 2 54) := snd_iload_n dX5_both_53 rfl
theorem oX5_both_54 : SX5_both 54 (i_if2 (fun x y => y ≤ x) 61 57) := snd_icmp_ge dX5_both_54 (by decide)
theorem oX5_both_57 : SX5_both 57 (i_const (.int (nI 1)) 58) := snd_iconst dX5_both_57 (by decide)
theorem oX5_both_58 : SX5_both 58 (i_goto 62) := snd_goto dX5_both_58 (by decide)
theorem oX5_both_61 : SX5_both 61 (i_const (.int (nI 0)) 62) := snd_iconst dX5_both_61 (by decide)
theorem oX5_both_62 : SX5_both 62 (i_iret) := snd_iret dX5_both_62 rfl
theorem oX5_both_63 : SX5_both 63 (i_iload 1 64) := snd_iload_n dX5_both_63 rfl
theorem oX5_both_64 : SX5_both 64 (i_iload 2 65) := snd_iload_n dX5_both_64 rfl
theorem oX5_both_65 : SX5_both 65 (i_if2 (fun x y => ¬ x = y) 72 68) := snd_icmp_ne dX5_both_65 (by decide)
theorem oX5_both_68 : SX5_both 68 (i_const (.int (nI 1)) 69) := snd_iconst dX5_both_68 (by decide)
theorem oX5_both_69 : SX5_both 69 (i_goto 73) := snd_goto dX5_both_69 (by decide)
theorem oX5_both_72 : SX5_both 72 (i_const (.int (nI 0)) 73) := snd_iconst dX5_both_72 (by decide)
theorem oX5_both_73 : SX5_both 73 (i_iret) := snd_iret dX5_both_73 rfl
theorem oX5_both_74 : SX5_both 74 (i_iload 1 75) := snd_iload_n dX5_both_74 rfl
theorem oX5_both_75 : SX5_both 75 (i_if1 (fun x => x = 0) 86 78) := snd_if_eq dX5_both_75 (by decide)
theorem oX5_both_78 : SX5_both 78 (i_iload 2 79) := snd_iload_n dX5_both_78 rfl
theorem oX5_both_79 : SX5_both 79 (i_if1 (fun x => x = 0) 86 82) := snd_if_eq dX5_both_79 (by decide)
theorem oX5_both_82 : SX5_both 82 (i_const (.int (nI 1)) 83) := snd_iconst dX5_both_82 (by decide)
theorem oX5_both_83 : SX5_both 83 (i_goto 87) := snd_goto dX5_both_83 (by decide)
theorem oX5_both_86 : SX5_both 86 (i_const (.int (nI 0)) 87) := snd_iconst dX5_both_86 (by decide)
theorem oX5_both_87 : SX5_both 87 (i_iret) := snd_iret dX5_both_87 rfl
theorem oX5_both_88 : SX5_both 88 (i_iload 1 89) := snd_iload_n dX5_both_88 rfl
theorem oX5_both_89 : SX5_both 89 (i_if1 (fun x => ¬ x = 0) 96 92) := snd_if_ne dX5_both_89 (by decide)
theorem oX5_both_92 : SX5_both 92 (i_iload 2 93) := snd_iload_n dX5_both_92 rfl
theorem oX5_both_93 : SX5_both 93 (i_if1 (fun x => x = 0) 100 96) := snd_if_eq dX5_both_93 (by decide)
theorem oX5_both_96 : SX5_both 96 (i_const (.int (nI 1)) 97) := snd_iconst dX5_both_96 (by decide)
theorem oX5_both_97 : SX5_both 97 (i_goto 101) := snd_goto dX5_both_97 (by decide)
theorem oX5_both_100 : SX5_both 100 (i_const (.int (nI 0)) 101) := snd_iconst dX5_both_100 (by decide)
theorem oX5_both_101 : SX5_both 101 (i_iret) := snd_iret dX5_both_101 rfl
theorem okX5_both : ∀ q ∈ cX5_both, SX5_both q.1 q.2 := List.forall_mem_cons.mpr ⟨oX5_both_0, List.forall_mem_cons.mpr ⟨oX5_both_1, List.forall_mem_cons.mpr ⟨oX5_both_40, List.forall_mem_cons.mpr ⟨oX5_both_41, List.forall_mem_cons.mpr ⟨oX5_both_42, List.forall_mem_cons.mpr ⟨oX5_both_43, List.forall_mem_cons.mpr ⟨oX5_both_44, List.forall_mem_cons.mpr ⟨oX5_both_45, List.forall_mem_cons.mpr ⟨oX5_both_46, List.forall_mem_cons.mpr ⟨oX5_both_47, List.forall_mem_cons.mpr ⟨oX5_both_48, List.forall_mem_cons.mpr ⟨oX5_both_49, List.forall_mem_cons.mpr ⟨oX5_both_50, List.forall_mem_cons.mpr ⟨oX5_both_51, List.forall_mem_cons.mpr ⟨oX5_both_52, List.forall_mem_cons.mpr ⟨oX5_both_53, List.forall_mem_cons.mpr ⟨oX5_both_54, List.forall_mem_cons.mpr ⟨oX5_both_57, List.forall_mem_cons.mpr ⟨oX5_both_58, List.forall_mem_cons.mpr ⟨oX5_both_61, List.forall_mem_cons.mpr ⟨oX5_both_62, List.forall_mem_cons.mpr ⟨oX5_both_63, List.forall_mem_cons.mpr ⟨oX5_both_64, List.forall_mem_cons.mpr ⟨oX5_both_65, List.forall_mem_cons.mpr ⟨oX5_both_68, List.forall_mem_cons.mpr ⟨oX5_both_69, List.forall_mem_cons.mpr ⟨oX5_both_72, List.forall_mem_cons.mpr ⟨oX5_both_73, List.forall_mem_cons.mpr ⟨oX5_both_74, List.forall_mem_cons.mpr ⟨oX5_both_75, List.forall_mem_cons.mpr ⟨oX5_both_78, List.forall_mem_cons.mpr ⟨oX5_both_79, List.forall_mem_cons.mpr ⟨oX5_both_82, List.forall_mem_cons.mpr ⟨oX5_both_83, List.forall_mem_cons.mpr ⟨oX5_both_86, List.forall_mem_cons.mpr ⟨oX5_both_87, List.forall_mem_cons.mpr ⟨oX5_both_88, List.forall_mem_cons.mpr ⟨oX5_both_89, List.forall_mem_cons.mpr ⟨oX5_both_92, List.forall_mem_cons.mpr ⟨oX5_both_93, List.forall_mem_cons.mpr ⟨oX5_both_96, List.forall_mem_cons.mpr ⟨oX5_both_97, List.forall_mem_cons.mpr ⟨oX5_both_100, List.forall_mem_cons.mpr ⟨oX5_both_101, fun _ h => absurd h List.not_mem_nil⟩⟩⟩⟩⟩⟩⟩⟩⟩⟩⟩⟩⟩⟩⟩⟩⟩⟩⟩⟩⟩⟩⟩⟩⟩⟩⟩⟩⟩⟩⟩⟩⟩⟩⟩⟩⟩⟩⟩⟩⟩⟩⟩⟩
def dkwX5_sticking_1 : List UInt8 := [120, 167, 0, 4, 3, 128, 61, 132, 3, 1, 167, 255, 226, 28, 172]
abbrev dktX5_sticking_1 : List UInt8 := dkwX5_sticking_1 ++ []
def dkwX5_sticking_0 : List UInt8 := [3, 61, 3, 62, 29, 42, 182, 1, 16, 162, 0, 28, 28, 42, 27, 29, 182, 1, 45, 153, 0, 9, 4, 29]
abbrev dktX5_sticking_0 : List UInt8 := dkwX5_sticking_0 ++ dktX5_sticking_1
theorem dksX5_sticking_0 : bcX5_sticking.data.toList.drop 0 = dktX5_sticking_0 := by decide +kernel
theorem dksX5_sticking_1 : bcX5_sticking.data.toList.drop 24 = dktX5_sticking_1 := dk_seg dksX5_sticking_0 24 rfl rfl
theorem dX5_sticking_0 : decode bcX5_sticking 0 = .ok (.iconst 0, 1) := dk_3 (dk_at dksX5_sticking_0 0 rfl rfl)
theorem dX5_sticking_1 : decode bcX5_sticking 1 = .ok (.istore_n 2, 1) := dk_61 (dk_at dksX5_sticking_0 1 rfl rfl)
theorem dX5_sticking_2 : decode bcX5_sticking 2 = .ok (.iconst 0, 1) := dk_3 (dk_at dksX5_sticking_0 2 rfl rfl)
theorem dX5_sticking_3 : decode bcX5_sticking 3 = .ok (.istore_n 3, 1) := dk_62 (dk_at dksX5_sticking_0 3 rfl rfl)
theorem dX5_sticking_4 : decode bcX5_sticking 4 = .ok (.iload_n 3, 1) := dk_29 (dk_at dksX5_sticking_0 4 rfl rfl)
theorem dX5_sticking_5 : decode bcX5_sticking 5 = .ok (.aload_n 0, 1) := dk_42 (dk_at dksX5_sticking_0 5 rfl rfl)
theorem dX5_sticking_6 : decode bcX5_sticking 6 = .ok (.invokevirtual 272, 3) := dk_182 1 16 (dk_at dksX5_sticking_0 6 rfl rfl)
theorem dX5_sticking_9 : decode bcX5_sticking 9 = .ok (.if_icmp .ge 28, 3) := dk_162 0 28 (dk_at dksX5_sticking_0 9 rfl rfl)
theorem dX5_sticking_12 : decode bcX5_sticking 12 = .ok (.iload_n 2, 1) := dk_28 (dk_at dksX5_sticking_0 12 rfl rfl)
theorem dX5_sticking_13 : decode bcX5_sticking 13 = .ok (.aload_n 0, 1) := dk_42 (dk_at dksX5_sticking_0 13 rfl rfl)
theorem dX5_sticking_14 : decode bcX5_sticking 14 = .ok (.iload_n 1, 1) := dk_27 (dk_at dksX5_sticking_0 14 rfl rfl)
theorem dX5_sticking_15 : decode bcX5_sticking 15 = .ok (.iload_n 3, 1) := dk_29 (dk_at dksX5_sticking_0 15 rfl rfl)
theorem dX5_sticking_16 : decode bcX5_sticking 16 = .ok (.invokevirtual 301, 3) := dk_182 1 45 (dk_at dksX5_sticking_0 16 rfl rfl)
theorem dX5_sticking_19 : decode bcX5_sticking 19 = .ok (.ifCond .eq 9, 3) := dk_153 0 9 (dk_at dksX5_sticking_0 19 rfl rfl)
theorem dX5_sticking_22 : decode bcX5_sticking 22 = .ok (.iconst 1, 1) := dk_4 (dk_at dksX5_sticking_0 22 rfl rfl)
theorem dX5_sticking_23 : decode bcX5_sticking 23 = .ok (.iload_n 3, 1) := dk_29 (dk_at dksX5_sticking_0 23 rfl rfl)
theorem dX5_sticking_24 : decode bcX5_sticking 24 = .ok (.ishl, 1) := dk_120 (dk_at dksX5_sticking_1 0 rfl rfl)
theorem dX5_sticking_25 : decode bcX5_sticking 25 = .ok (.goto 4, 3) := dk_167 0 4 (dk_at dksX5_sticking_1 1 rfl rfl)
theorem dX5_sticking_28 : decode bcX5_sticking 28 = .ok (.iconst 0, 1) := dk_3 (dk_at dksX5_sticking_1 4 rfl rfl)
theorem dX5_sticking_29 : decode bcX5_sticking 29 = .ok (.ior, 1) := dk_128 (dk_at dksX5_sticking_1 5 rfl rfl)
theorem dX5_sticking_30 : decode bcX5_sticking 30 = .ok (.istore_n 2, 1) := dk_61 (dk_at dksX5_sticking_1 6 rfl rfl)
theorem dX5_sticking_31 : decode bcX5_sticking 31 = .ok (.iinc 3 1, 3) := dk_132 3 1 (dk_at dksX5_sticking_1 7 rfl rfl)
theorem dX5_sticking_34 : decode bcX5_sticking 34 = .ok (.goto (-30), 3) := dk_167 255 226 (dk_at dksX5_sticking_1 10 rfl rfl)
theorem dX5_sticking_37 : decode bcX5_sticking 37 = .ok (.iload_n 2, 1) := dk_28 (dk_at dksX5_sticking_1 13 rfl rfl)
theorem dX5_sticking_38 : decode bcX5_sticking 38 = .ok (.ireturn, 1) := dk_172 (dk_at dksX5_sticking_1 14 rfl rfl)
abbrev SX5_sticking (pc : Nat) (i : xI) : Prop := Snd "SwollenHouseModel" "sticking" prog_25_method_56_code 4 (Option.some Jvm.ClassFile.FieldType.int) [] pc i
theorem oX5_sticking_0 : SX5_sticking 0 (i_const (.int (nI 0)) 1) := snd_iconst dX5_sticking_0 (by decide)
theorem oX5_sticking_1 : SX5_sticking 1 (i_istore 2 2) := snd_istore_n dX5_sticking_1 rfl (by decide)
theorem oX5_sticking_2 : SX5_sticking 2 (i_const (.int (nI 0)) 3) := snd_iconst dX5_sticking_2 (by decide)
theorem oX5_sticking_3 : SX5_sticking 3 (i_istore 3 4) := snd_istore_n dX5_sticking_3 rfl (by decide)
theorem oX5_sticking_4 : SX5_sticking 4 (i_iload 3 5) := snd_iload_n dX5_sticking_4 rfl
theorem oX5_sticking_5 : SX5_sticking 5 (i_aload 0 6) := snd_aload_n dX5_sticking_5 rfl
theorem oX5_sticking_6 : SX5_sticking 6 (i_cv 4 250 0 9) := snd_cv rfl infX5_doors (by decide) rfl (xVm_V dX5_sticking_6 rfl q1686 q1688 qs60 q136 q1689 pdX5_doors)
theorem oX5_sticking_9 : SX5_sticking 9 (i_if2 (fun x y => y ≤ x) 37 12) := snd_icmp_ge dX5_sticking_9 (by decide)
theorem oX5_sticking_12 : SX5_sticking 12 (i_iload 2 13) := snd_iload_n dX5_sticking_12 rfl
theorem oX5_sticking_13 : SX5_sticking 13 (i_aload 0 14) := snd_aload_n dX5_sticking_13 rfl
theorem oX5_sticking_14 : SX5_sticking 14 (i_iload 1 15) := snd_iload_n dX5_sticking_14 rfl
theorem oX5_sticking_15 : SX5_sticking 15 (i_iload 3 16) := snd_iload_n dX5_sticking_15 rfl
theorem oX5_sticking_16 : SX5_sticking 16 (i_cv 4 289 2 19) := snd_cv rfl infX5_doesStick (by decide) rfl (xVm_V dX5_sticking_16 rfl q1938 q1940 qs91 q136 q1941 pdX5_doesStick)
theorem oX5_sticking_19 : SX5_sticking 19 (i_if1 (fun x => x = 0) 28 22) := snd_if_eq dX5_sticking_19 (by decide)
theorem oX5_sticking_22 : SX5_sticking 22 (i_const (.int (nI 1)) 23) := snd_iconst dX5_sticking_22 (by decide)
theorem oX5_sticking_23 : SX5_sticking 23 (i_iload 3 24) := snd_iload_n dX5_sticking_23 rfl
theorem oX5_sticking_24 : SX5_sticking 24 (i_ii (fun x y => x <<< (y &&& 31)) 25) := snd_ishl dX5_sticking_24
theorem oX5_sticking_25 : SX5_sticking 25 (i_goto 29) := snd_goto dX5_sticking_25 (by decide)
theorem oX5_sticking_28 : SX5_sticking 28 (i_const (.int (nI 0)) 29) := snd_iconst dX5_sticking_28 (by decide)
theorem oX5_sticking_29 : SX5_sticking 29 (i_ii (fun x y => x ||| y) 30) := snd_ior dX5_sticking_29
theorem oX5_sticking_30 : SX5_sticking 30 (i_istore 2 31) := snd_istore_n dX5_sticking_30 rfl (by decide)
theorem oX5_sticking_31 : SX5_sticking 31 (i_iinc 3 (nI 1) 34) := snd_iinc dX5_sticking_31 (by decide) (by decide)
theorem oX5_sticking_34 : SX5_sticking 34 (i_goto 4) := snd_goto dX5_sticking_34 (by decide)
theorem oX5_sticking_37 : SX5_sticking 37 (i_iload 2 38) := snd_iload_n dX5_sticking_37 rfl
theorem oX5_sticking_38 : SX5_sticking 38 (i_iret) := snd_iret dX5_sticking_38 rfl
theorem okX5_sticking : ∀ q ∈ cX5_sticking, SX5_sticking q.1 q.2 := List.forall_mem_cons.mpr ⟨oX5_sticking_0, List.forall_mem_cons.mpr ⟨oX5_sticking_1, List.forall_mem_cons.mpr ⟨oX5_sticking_2, List.forall_mem_cons.mpr ⟨oX5_sticking_3, List.forall_mem_cons.mpr ⟨oX5_sticking_4, List.forall_mem_cons.mpr ⟨oX5_sticking_5, List.forall_mem_cons.mpr ⟨oX5_sticking_6, List.forall_mem_cons.mpr ⟨oX5_sticking_9, List.forall_mem_cons.mpr ⟨oX5_sticking_12, List.forall_mem_cons.mpr ⟨oX5_sticking_13, List.forall_mem_cons.mpr ⟨oX5_sticking_14, List.forall_mem_cons.mpr ⟨oX5_sticking_15, List.forall_mem_cons.mpr ⟨oX5_sticking_16, List.forall_mem_cons.mpr ⟨oX5_sticking_19, List.forall_mem_cons.mpr ⟨oX5_sticking_22, List.forall_mem_cons.mpr ⟨oX5_sticking_23, List.forall_mem_cons.mpr ⟨oX5_sticking_24, List.forall_mem_cons.mpr ⟨oX5_sticking_25, List.forall_mem_cons.mpr ⟨oX5_sticking_28, List.forall_mem_cons.mpr ⟨oX5_sticking_29, List.forall_mem_cons.mpr ⟨oX5_sticking_30, List.forall_mem_cons.mpr ⟨oX5_sticking_31, List.forall_mem_cons.mpr ⟨oX5_sticking_34, List.forall_mem_cons.mpr ⟨oX5_sticking_37, List.forall_mem_cons.mpr ⟨oX5_sticking_38, fun _ h => absurd h List.not_mem_nil⟩⟩⟩⟩⟩⟩⟩⟩⟩⟩⟩⟩⟩⟩⟩⟩⟩⟩⟩⟩⟩⟩⟩⟩⟩
def dkwX5_walk_2 : List UInt8 := [16, 18, 27, 96, 46, 172]
abbrev dktX5_walk_2 : List UInt8 := dkwX5_walk_2 ++ []
def dkwX5_walk_1 : List UInt8 := [28, 182, 1, 77, 154, 0, 5, 2, 172, 42, 182, 1, 69, 42, 3, 27, 28, 182, 1, 80, 42, 180, 0, 113]
abbrev dktX5_walk_1 : List UInt8 := dkwX5_walk_1 ++ dktX5_walk_2
def dkwX5_walk_0 : List UInt8 := [42, 3, 181, 0, 1, 42, 27, 182, 1, 66, 153, 0, 21, 42, 28, 182, 1, 63, 153, 0, 13, 42, 3, 27]
abbrev dktX5_walk_0 : List UInt8 := dkwX5_walk_0 ++ dktX5_walk_1
theorem dksX5_walk_0 : bcX5_walk.data.toList.drop 0 = dktX5_walk_0 := by decide +kernel
theorem dksX5_walk_1 : bcX5_walk.data.toList.drop 24 = dktX5_walk_1 := dk_seg dksX5_walk_0 24 rfl rfl
theorem dksX5_walk_2 : bcX5_walk.data.toList.drop 48 = dktX5_walk_2 := dk_seg dksX5_walk_1 24 rfl rfl
theorem dX5_walk_0 : decode bcX5_walk 0 = .ok (.aload_n 0, 1) := dk_42 (dk_at dksX5_walk_0 0 rfl rfl)
theorem dX5_walk_1 : decode bcX5_walk 1 = .ok (.iconst 0, 1) := dk_3 (dk_at dksX5_walk_0 1 rfl rfl)
theorem dX5_walk_2 : decode bcX5_walk 2 = .ok (.putfield 1, 3) := dk_181 0 1 (dk_at dksX5_walk_0 2 rfl rfl)
theorem dX5_walk_5 : decode bcX5_walk 5 = .ok (.aload_n 0, 1) := dk_42 (dk_at dksX5_walk_0 5 rfl rfl)
theorem dX5_walk_6 : decode bcX5_walk 6 = .ok (.iload_n 1, 1) := dk_27 (dk_at dksX5_walk_0 6 rfl rfl)
theorem dX5_walk_7 : decode bcX5_walk 7 = .ok (.invokevirtual 322, 3) := dk_182 1 66 (dk_at dksX5_walk_0 7 rfl rfl)
theorem dX5_walk_10 : decode bcX5_walk 10 = .ok (.ifCond .eq 21, 3) := dk_153 0 21 (dk_at dksX5_walk_0 10 rfl rfl)
theorem dX5_walk_13 : decode bcX5_walk 13 = .ok (.aload_n 0, 1) := dk_42 (dk_at dksX5_walk_0 13 rfl rfl)
theorem dX5_walk_14 : decode bcX5_walk 14 = .ok (.iload_n 2, 1) := dk_28 (dk_at dksX5_walk_0 14 rfl rfl)
theorem dX5_walk_15 : decode bcX5_walk 15 = .ok (.invokevirtual 319, 3) := dk_182 1 63 (dk_at dksX5_walk_0 15 rfl rfl)
theorem dX5_walk_18 : decode bcX5_walk 18 = .ok (.ifCond .eq 13, 3) := dk_153 0 13 (dk_at dksX5_walk_0 18 rfl rfl)
theorem dX5_walk_21 : decode bcX5_walk 21 = .ok (.aload_n 0, 1) := dk_42 (dk_at dksX5_walk_0 21 rfl rfl)
theorem dX5_walk_22 : decode bcX5_walk 22 = .ok (.iconst 0, 1) := dk_3 (dk_at dksX5_walk_0 22 rfl rfl)
theorem dX5_walk_23 : decode bcX5_walk 23 = .ok (.iload_n 1, 1) := dk_27 (dk_at dksX5_walk_0 23 rfl rfl)
theorem dX5_walk_24 : decode bcX5_walk 24 = .ok (.iload_n 2, 1) := dk_28 (dk_at dksX5_walk_1 0 rfl rfl)
theorem dX5_walk_25 : decode bcX5_walk 25 = .ok (.invokevirtual 333, 3) := dk_182 1 77 (dk_at dksX5_walk_1 1 rfl rfl)
theorem dX5_walk_28 : decode bcX5_walk 28 = .ok (.ifCond .ne 5, 3) := dk_154 0 5 (dk_at dksX5_walk_1 4 rfl rfl)
theorem dX5_walk_31 : decode bcX5_walk 31 = .ok (.iconst (-1), 1) := dk_2 (dk_at dksX5_walk_1 7 rfl rfl)
theorem dX5_walk_32 : decode bcX5_walk 32 = .ok (.ireturn, 1) := dk_172 (dk_at dksX5_walk_1 8 rfl rfl)
theorem dX5_walk_33 : decode bcX5_walk 33 = .ok (.aload_n 0, 1) := dk_42 (dk_at dksX5_walk_1 9 rfl rfl)
theorem dX5_walk_34 : decode bcX5_walk 34 = .ok (.invokevirtual 325, 3) := dk_182 1 69 (dk_at dksX5_walk_1 10 rfl rfl)
theorem dX5_walk_37 : decode bcX5_walk 37 = .ok (.aload_n 0, 1) := dk_42 (dk_at dksX5_walk_1 13 rfl rfl)
theorem dX5_walk_38 : decode bcX5_walk 38 = .ok (.iconst 0, 1) := dk_3 (dk_at dksX5_walk_1 14 rfl rfl)
theorem dX5_walk_39 : decode bcX5_walk 39 = .ok (.iload_n 1, 1) := dk_27 (dk_at dksX5_walk_1 15 rfl rfl)
theorem dX5_walk_40 : decode bcX5_walk 40 = .ok (.iload_n 2, 1) := dk_28 (dk_at dksX5_walk_1 16 rfl rfl)
theorem dX5_walk_41 : decode bcX5_walk 41 = .ok (.invokevirtual 336, 3) := dk_182 1 80 (dk_at dksX5_walk_1 17 rfl rfl)
theorem dX5_walk_44 : decode bcX5_walk 44 = .ok (.aload_n 0, 1) := dk_42 (dk_at dksX5_walk_1 20 rfl rfl)
theorem dX5_walk_45 : decode bcX5_walk 45 = .ok (.getfield 113, 3) := dk_180 0 113 (dk_at dksX5_walk_1 21 rfl rfl)
theorem dX5_walk_48 : decode bcX5_walk 48 = .ok (.bipush 18, 2) := dk_16 18 (dk_at dksX5_walk_2 0 rfl rfl)
theorem dX5_walk_50 : decode bcX5_walk 50 = .ok (.iload_n 1, 1) := dk_27 (dk_at dksX5_walk_2 2 rfl rfl)
theorem dX5_walk_51 : decode bcX5_walk 51 = .ok (.iadd, 1) := dk_96 (dk_at dksX5_walk_2 3 rfl rfl)
theorem dX5_walk_52 : decode bcX5_walk 52 = .ok (.iaload, 1) := dk_46 (dk_at dksX5_walk_2 4 rfl rfl)
theorem dX5_walk_53 : decode bcX5_walk 53 = .ok (.ireturn, 1) := dk_172 (dk_at dksX5_walk_2 5 rfl rfl)
abbrev SX5_walk (pc : Nat) (i : xI) : Prop := Snd "SwollenHouseModel" "walk" prog_25_method_70_code 3 (Option.some Jvm.ClassFile.FieldType.int) [] pc i
theorem oX5_walk_0 : SX5_walk 0 (i_aload 0 1) := snd_aload_n dX5_walk_0 rfl
theorem oX5_walk_1 : SX5_walk 1 (i_const (.int (nI 0)) 2) := snd_iconst dX5_walk_1 (by decide)
theorem oX5_walk_2 : SX5_walk 2 (i_putfi 4 0 5) := snd_putfi dX5_walk_2 rfl (by decide) in_X5 tyX5 tyX5_ok nmX5 (Or.inl ⟨rfl, q1698⟩) (Or.inl rfl) rfl
theorem oX5_walk_5 : SX5_walk 5 (i_aload 0 6) := snd_aload_n dX5_walk_5 rfl
theorem oX5_walk_6 : SX5_walk 6 (i_iload 1 7) := snd_iload_n dX5_walk_6 rfl
theorem oX5_walk_7 : SX5_walk 7 (i_cv 4 292 1 10) := snd_cv rfl infX5_isPerson (by decide) rfl (xVm_V dX5_walk_7 rfl q1950 q1952 qs93 q136 q1953 pdX5_isPerson)
theorem oX5_walk_10 : SX5_walk 10 (i_if1 (fun x => x = 0) 31 13) := snd_if_eq dX5_walk_10 (by decide)
theorem oX5_walk_13 : SX5_walk 13 (i_aload 0 14) := snd_aload_n dX5_walk_13 rfl
theorem oX5_walk_14 : SX5_walk 14 (i_iload 2 15) := snd_iload_n dX5_walk_14 rfl
theorem oX5_walk_15 : SX5_walk 15 (i_cv 4 287 1 18) := snd_cv rfl infX5_isDoor (by decide) rfl (xVm_V dX5_walk_15 rfl q1930 q1932 qs89 q136 q1933 pdX5_isDoor)
theorem oX5_walk_18 : SX5_walk 18 (i_if1 (fun x => x = 0) 31 21) := snd_if_eq dX5_walk_18 (by decide)
theorem oX5_walk_21 : SX5_walk 21 (i_aload 0 22) := snd_aload_n dX5_walk_21 rfl
theorem oX5_walk_22 : SX5_walk 22 (i_const (.int (nI 0)) 23) := snd_iconst dX5_walk_22 (by decide)
theorem oX5_walk_23 : SX5_walk 23 (i_iload 1 24) := snd_iload_n dX5_walk_23 rfl
theorem oX5_walk_24 : SX5_walk 24 (i_iload 2 25) := snd_iload_n dX5_walk_24 rfl
theorem oX5_walk_25 : SX5_walk 25 (i_cv 4 304 3 28) := snd_cv rfl infX5_mayWalk (by decide) rfl (xVm_V dX5_walk_25 rfl q1997 q1999 qs102 q136 q2000 pdX5_mayWalk)
theorem oX5_walk_28 : SX5_walk 28 (i_if1 (fun x => ¬ x = 0) 33 31) := snd_if_ne dX5_walk_28 (by decide)
theorem oX5_walk_31 : SX5_walk 31 (i_const (.int (-1)) 32) := snd_iconst dX5_walk_31 (by decide)
theorem oX5_walk_32 : SX5_walk 32 (i_iret) := snd_iret dX5_walk_32 rfl
theorem oX5_walk_33 : SX5_walk 33 (i_aload 0 34) := snd_aload_n dX5_walk_33 rfl
theorem oX5_walk_34 : SX5_walk 34 (i_cvv 4 294 0 37) := snd_cvv rfl infX5_keeps (by decide) rfl (xVm_V dX5_walk_34 rfl q1958 q1960 qs94 q136 q1961 pdX5_keeps)
theorem oX5_walk_37 : SX5_walk 37 (i_aload 0 38) := snd_aload_n dX5_walk_37 rfl
theorem oX5_walk_38 : SX5_walk 38 (i_const (.int (nI 0)) 39) := snd_iconst dX5_walk_38 (by decide)
theorem oX5_walk_39 : SX5_walk 39 (i_iload 1 40) := snd_iload_n dX5_walk_39 rfl
theorem oX5_walk_40 : SX5_walk 40 (i_iload 2 41) := snd_iload_n dX5_walk_40 rfl
theorem oX5_walk_41 : SX5_walk 41 (i_cvv 4 306 3 44) := snd_cvv rfl infX5_walks (by decide) rfl (xVm_V dX5_walk_41 rfl q2005 q2007 qs104 q136 q2008 pdX5_walks)
theorem oX5_walk_44 : SX5_walk 44 (i_aload 0 45) := snd_aload_n dX5_walk_44 rfl
theorem oX5_walk_45 : SX5_walk 45 (i_getf 4 24 48) := snd_getf dX5_walk_45 rfl (by decide) in_X5 (Or.inl q1722) (Or.inl rfl) (by decide)
theorem oX5_walk_48 : SX5_walk 48 (i_const (.int (nI 18)) 50) := snd_bipush dX5_walk_48 (by decide)
theorem oX5_walk_50 : SX5_walk 50 (i_iload 1 51) := snd_iload_n dX5_walk_50 rfl
theorem oX5_walk_51 : SX5_walk 51 (i_ii (fun x y => x + y) 52) := snd_iadd dX5_walk_51
theorem oX5_walk_52 : SX5_walk 52 (i_ai 0 53) := snd_ai0 dX5_walk_52
theorem oX5_walk_53 : SX5_walk 53 (i_iret) := snd_iret dX5_walk_53 rfl
theorem okX5_walk : ∀ q ∈ cX5_walk, SX5_walk q.1 q.2 := List.forall_mem_cons.mpr ⟨oX5_walk_0, List.forall_mem_cons.mpr ⟨oX5_walk_1, List.forall_mem_cons.mpr ⟨oX5_walk_2, List.forall_mem_cons.mpr ⟨oX5_walk_5, List.forall_mem_cons.mpr ⟨oX5_walk_6, List.forall_mem_cons.mpr ⟨oX5_walk_7, List.forall_mem_cons.mpr ⟨oX5_walk_10, List.forall_mem_cons.mpr ⟨oX5_walk_13, List.forall_mem_cons.mpr ⟨oX5_walk_14, List.forall_mem_cons.mpr ⟨oX5_walk_15, List.forall_mem_cons.mpr ⟨oX5_walk_18, List.forall_mem_cons.mpr ⟨oX5_walk_21, List.forall_mem_cons.mpr ⟨oX5_walk_22, List.forall_mem_cons.mpr ⟨oX5_walk_23, List.forall_mem_cons.mpr ⟨oX5_walk_24, List.forall_mem_cons.mpr ⟨oX5_walk_25, List.forall_mem_cons.mpr ⟨oX5_walk_28, List.forall_mem_cons.mpr ⟨oX5_walk_31, List.forall_mem_cons.mpr ⟨oX5_walk_32, List.forall_mem_cons.mpr ⟨oX5_walk_33, List.forall_mem_cons.mpr ⟨oX5_walk_34, List.forall_mem_cons.mpr ⟨oX5_walk_37, List.forall_mem_cons.mpr ⟨oX5_walk_38, List.forall_mem_cons.mpr ⟨oX5_walk_39, List.forall_mem_cons.mpr ⟨oX5_walk_40, List.forall_mem_cons.mpr ⟨oX5_walk_41, List.forall_mem_cons.mpr ⟨oX5_walk_44, List.forall_mem_cons.mpr ⟨oX5_walk_45, List.forall_mem_cons.mpr ⟨oX5_walk_48, List.forall_mem_cons.mpr ⟨oX5_walk_50, List.forall_mem_cons.mpr ⟨oX5_walk_51, List.forall_mem_cons.mpr ⟨oX5_walk_52, List.forall_mem_cons.mpr ⟨oX5_walk_53, fun _ h => absurd h List.not_mem_nil⟩⟩⟩⟩⟩⟩⟩⟩⟩⟩⟩⟩⟩⟩⟩⟩⟩⟩⟩⟩⟩⟩⟩⟩⟩⟩⟩⟩⟩⟩⟩⟩⟩
def dkwX5_mayWalk_1 : List UInt8 := [182, 1, 60, 155, 0, 7, 4, 167, 0, 4, 3, 172]
abbrev dktX5_mayWalk_1 : List UInt8 := dkwX5_mayWalk_1 ++ []
def dkwX5_mayWalk_0 : List UInt8 := [42, 27, 29, 182, 1, 45, 154, 0, 26, 42, 29, 42, 180, 0, 113, 27, 16, 18, 96, 28, 96, 46]
abbrev dktX5_mayWalk_0 : List UInt8 := dkwX5_mayWalk_0 ++ dktX5_mayWalk_1
theorem dksX5_mayWalk_0 : bcX5_mayWalk.data.toList.drop 0 = dktX5_mayWalk_0 := by decide +kernel
theorem dksX5_mayWalk_1 : bcX5_mayWalk.data.toList.drop 22 = dktX5_mayWalk_1 := dk_seg dksX5_mayWalk_0 22 rfl rfl
theorem dX5_mayWalk_0 : decode bcX5_mayWalk 0 = .ok (.aload_n 0, 1) := dk_42 (dk_at dksX5_mayWalk_0 0 rfl rfl)
theorem dX5_mayWalk_1 : decode bcX5_mayWalk 1 = .ok (.iload_n 1, 1) := dk_27 (dk_at dksX5_mayWalk_0 1 rfl rfl)
theorem dX5_mayWalk_2 : decode bcX5_mayWalk 2 = .ok (.iload_n 3, 1) := dk_29 (dk_at dksX5_mayWalk_0 2 rfl rfl)
theorem dX5_mayWalk_3 : decode bcX5_mayWalk 3 = .ok (.invokevirtual 301, 3) := dk_182 1 45 (dk_at dksX5_mayWalk_0 3 rfl rfl)
theorem dX5_mayWalk_6 : decode bcX5_mayWalk 6 = .ok (.ifCond .ne 26, 3) := dk_154 0 26 (dk_at dksX5_mayWalk_0 6 rfl rfl)
theorem dX5_mayWalk_9 : decode bcX5_mayWalk 9 = .ok (.aload_n 0, 1) := dk_42 (dk_at dksX5_mayWalk_0 9 rfl rfl)
theorem dX5_mayWalk_10 : decode bcX5_mayWalk 10 = .ok (.iload_n 3, 1) := dk_29 (dk_at dksX5_mayWalk_0 10 rfl rfl)
theorem dX5_mayWalk_11 : decode bcX5_mayWalk 11 = .ok (.aload_n 0, 1) := dk_42 (dk_at dksX5_mayWalk_0 11 rfl rfl)
theorem dX5_mayWalk_12 : decode bcX5_mayWalk 12 = .ok (.getfield 113, 3) := dk_180 0 113 (dk_at dksX5_mayWalk_0 12 rfl rfl)
theorem dX5_mayWalk_15 : decode bcX5_mayWalk 15 = .ok (.iload_n 1, 1) := dk_27 (dk_at dksX5_mayWalk_0 15 rfl rfl)
theorem dX5_mayWalk_16 : decode bcX5_mayWalk 16 = .ok (.bipush 18, 2) := dk_16 18 (dk_at dksX5_mayWalk_0 16 rfl rfl)
theorem dX5_mayWalk_18 : decode bcX5_mayWalk 18 = .ok (.iadd, 1) := dk_96 (dk_at dksX5_mayWalk_0 18 rfl rfl)
theorem dX5_mayWalk_19 : decode bcX5_mayWalk 19 = .ok (.iload_n 2, 1) := dk_28 (dk_at dksX5_mayWalk_0 19 rfl rfl)
theorem dX5_mayWalk_20 : decode bcX5_mayWalk 20 = .ok (.iadd, 1) := dk_96 (dk_at dksX5_mayWalk_0 20 rfl rfl)
theorem dX5_mayWalk_21 : decode bcX5_mayWalk 21 = .ok (.iaload, 1) := dk_46 (dk_at dksX5_mayWalk_0 21 rfl rfl)
theorem dX5_mayWalk_22 : decode bcX5_mayWalk 22 = .ok (.invokevirtual 316, 3) := dk_182 1 60 (dk_at dksX5_mayWalk_1 0 rfl rfl)
theorem dX5_mayWalk_25 : decode bcX5_mayWalk 25 = .ok (.ifCond .lt 7, 3) := dk_155 0 7 (dk_at dksX5_mayWalk_1 3 rfl rfl)
theorem dX5_mayWalk_28 : decode bcX5_mayWalk 28 = .ok (.iconst 1, 1) := dk_4 (dk_at dksX5_mayWalk_1 6 rfl rfl)
theorem dX5_mayWalk_29 : decode bcX5_mayWalk 29 = .ok (.goto 4, 3) := dk_167 0 4 (dk_at dksX5_mayWalk_1 7 rfl rfl)
theorem dX5_mayWalk_32 : decode bcX5_mayWalk 32 = .ok (.iconst 0, 1) := dk_3 (dk_at dksX5_mayWalk_1 10 rfl rfl)
theorem dX5_mayWalk_33 : decode bcX5_mayWalk 33 = .ok (.ireturn, 1) := dk_172 (dk_at dksX5_mayWalk_1 11 rfl rfl)
abbrev SX5_mayWalk (pc : Nat) (i : xI) : Prop := Snd "SwollenHouseModel" "mayWalk" prog_25_method_61_code 4 (Option.some Jvm.ClassFile.FieldType.boolean) [] pc i
theorem oX5_mayWalk_0 : SX5_mayWalk 0 (i_aload 0 1) := snd_aload_n dX5_mayWalk_0 rfl
theorem oX5_mayWalk_1 : SX5_mayWalk 1 (i_iload 1 2) := snd_iload_n dX5_mayWalk_1 rfl
theorem oX5_mayWalk_2 : SX5_mayWalk 2 (i_iload 3 3) := snd_iload_n dX5_mayWalk_2 rfl
theorem oX5_mayWalk_3 : SX5_mayWalk 3 (i_cv 4 289 2 6) := snd_cv rfl infX5_doesStick (by decide) rfl (xVm_V dX5_mayWalk_3 rfl q1938 q1940 qs91 q136 q1941 pdX5_doesStick)
theorem oX5_mayWalk_6 : SX5_mayWalk 6 (i_if1 (fun x => ¬ x = 0) 32 9) := snd_if_ne dX5_mayWalk_6 (by decide)
theorem oX5_mayWalk_9 : SX5_mayWalk 9 (i_aload 0 10) := snd_aload_n dX5_mayWalk_9 rfl
theorem oX5_mayWalk_10 : SX5_mayWalk 10 (i_iload 3 11) := snd_iload_n dX5_mayWalk_10 rfl
theorem oX5_mayWalk_11 : SX5_mayWalk 11 (i_aload 0 12) := snd_aload_n dX5_mayWalk_11 rfl
theorem oX5_mayWalk_12 : SX5_mayWalk 12 (i_getf 4 24 15) := snd_getf dX5_mayWalk_12 rfl (by decide) in_X5 (Or.inl q1722) (Or.inl rfl) (by decide)
theorem oX5_mayWalk_15 : SX5_mayWalk 15 (i_iload 1 16) := snd_iload_n dX5_mayWalk_15 rfl
theorem oX5_mayWalk_16 : SX5_mayWalk 16 (i_const (.int (nI 18)) 18) := snd_bipush dX5_mayWalk_16 (by decide)
theorem oX5_mayWalk_18 : SX5_mayWalk 18 (i_ii (fun x y => x + y) 19) := snd_iadd dX5_mayWalk_18
theorem oX5_mayWalk_19 : SX5_mayWalk 19 (i_iload 2 20) := snd_iload_n dX5_mayWalk_19 rfl
theorem oX5_mayWalk_20 : SX5_mayWalk 20 (i_ii (fun x y => x + y) 21) := snd_iadd dX5_mayWalk_20
theorem oX5_mayWalk_21 : SX5_mayWalk 21 (i_ai 0 22) := snd_ai0 dX5_mayWalk_21
theorem oX5_mayWalk_22 : SX5_mayWalk 22 (i_cv 4 305 2 25) := snd_cv rfl infX5_behind (by decide) rfl (xVm_V dX5_mayWalk_22 rfl q2001 q2003 qs103 q136 q2004 pdX5_behind)
theorem oX5_mayWalk_25 : SX5_mayWalk 25 (i_if1 (fun x => x < 0) 32 28) := snd_if_lt dX5_mayWalk_25 (by decide)
theorem oX5_mayWalk_28 : SX5_mayWalk 28 (i_const (.int (nI 1)) 29) := snd_iconst dX5_mayWalk_28 (by decide)
theorem oX5_mayWalk_29 : SX5_mayWalk 29 (i_goto 33) := snd_goto dX5_mayWalk_29 (by decide)
theorem oX5_mayWalk_32 : SX5_mayWalk 32 (i_const (.int (nI 0)) 33) := snd_iconst dX5_mayWalk_32 (by decide)
theorem oX5_mayWalk_33 : SX5_mayWalk 33 (i_zret) := snd_zret dX5_mayWalk_33 rfl
theorem okX5_mayWalk : ∀ q ∈ cX5_mayWalk, SX5_mayWalk q.1 q.2 := List.forall_mem_cons.mpr ⟨oX5_mayWalk_0, List.forall_mem_cons.mpr ⟨oX5_mayWalk_1, List.forall_mem_cons.mpr ⟨oX5_mayWalk_2, List.forall_mem_cons.mpr ⟨oX5_mayWalk_3, List.forall_mem_cons.mpr ⟨oX5_mayWalk_6, List.forall_mem_cons.mpr ⟨oX5_mayWalk_9, List.forall_mem_cons.mpr ⟨oX5_mayWalk_10, List.forall_mem_cons.mpr ⟨oX5_mayWalk_11, List.forall_mem_cons.mpr ⟨oX5_mayWalk_12, List.forall_mem_cons.mpr ⟨oX5_mayWalk_15, List.forall_mem_cons.mpr ⟨oX5_mayWalk_16, List.forall_mem_cons.mpr ⟨oX5_mayWalk_18, List.forall_mem_cons.mpr ⟨oX5_mayWalk_19, List.forall_mem_cons.mpr ⟨oX5_mayWalk_20, List.forall_mem_cons.mpr ⟨oX5_mayWalk_21, List.forall_mem_cons.mpr ⟨oX5_mayWalk_22, List.forall_mem_cons.mpr ⟨oX5_mayWalk_25, List.forall_mem_cons.mpr ⟨oX5_mayWalk_28, List.forall_mem_cons.mpr ⟨oX5_mayWalk_29, List.forall_mem_cons.mpr ⟨oX5_mayWalk_32, List.forall_mem_cons.mpr ⟨oX5_mayWalk_33, fun _ h => absurd h List.not_mem_nil⟩⟩⟩⟩⟩⟩⟩⟩⟩⟩⟩⟩⟩⟩⟩⟩⟩⟩⟩⟩⟩
def dkwX5_behind_1 : List UInt8 := [182, 1, 20, 28, 160, 0, 12, 42, 27, 3, 182, 1, 20, 167, 0, 4, 2, 172]
abbrev dktX5_behind_1 : List UInt8 := dkwX5_behind_1 ++ []
def dkwX5_behind_0 : List UInt8 := [42, 27, 3, 182, 1, 20, 28, 160, 0, 12, 42, 27, 4, 182, 1, 20, 167, 0, 23, 42, 27, 4]
abbrev dktX5_behind_0 : List UInt8 := dkwX5_behind_0 ++ dktX5_behind_1
theorem dksX5_behind_0 : bcX5_behind.data.toList.drop 0 = dktX5_behind_0 := by decide +kernel
theorem dksX5_behind_1 : bcX5_behind.data.toList.drop 22 = dktX5_behind_1 := dk_seg dksX5_behind_0 22 rfl rfl
theorem dX5_behind_0 : decode bcX5_behind 0 = .ok (.aload_n 0, 1) := dk_42 (dk_at dksX5_behind_0 0 rfl rfl)
theorem dX5_behind_1 : decode bcX5_behind 1 = .ok (.iload_n 1, 1) := dk_27 (dk_at dksX5_behind_0 1 rfl rfl)
theorem dX5_behind_2 : decode bcX5_behind 2 = .ok (.iconst 0, 1) := dk_3 (dk_at dksX5_behind_0 2 rfl rfl)
theorem dX5_behind_3 : decode bcX5_behind 3 = .ok (.invokevirtual 276, 3) := dk_182 1 20 (dk_at dksX5_behind_0 3 rfl rfl)
theorem dX5_behind_6 : decode bcX5_behind 6 = .ok (.iload_n 2, 1) := dk_28 (dk_at dksX5_behind_0 6 rfl rfl)
theorem dX5_behind_7 : decode bcX5_behind 7 = .ok (.if_icmp .ne 12, 3) := dk_160 0 12 (dk_at dksX5_behind_0 7 rfl rfl)
theorem dX5_behind_10 : decode bcX5_behind 10 = .ok (.aload_n 0, 1) := dk_42 (dk_at dksX5_behind_0 10 rfl rfl)
theorem dX5_behind_11 : decode bcX5_behind 11 = .ok (.iload_n 1, 1) := dk_27 (dk_at dksX5_behind_0 11 rfl rfl)
theorem dX5_behind_12 : decode bcX5_behind 12 = .ok (.iconst 1, 1) := dk_4 (dk_at dksX5_behind_0 12 rfl rfl)
theorem dX5_behind_13 : decode bcX5_behind 13 = .ok (.invokevirtual 276, 3) := dk_182 1 20 (dk_at dksX5_behind_0 13 rfl rfl)
theorem dX5_behind_16 : decode bcX5_behind 16 = .ok (.goto 23, 3) := dk_167 0 23 (dk_at dksX5_behind_0 16 rfl rfl)
theorem dX5_behind_19 : decode bcX5_behind 19 = .ok (.aload_n 0, 1) := dk_42 (dk_at dksX5_behind_0 19 rfl rfl)
theorem dX5_behind_20 : decode bcX5_behind 20 = .ok (.iload_n 1, 1) := dk_27 (dk_at dksX5_behind_0 20 rfl rfl)
theorem dX5_behind_21 : decode bcX5_behind 21 = .ok (.iconst 1, 1) := dk_4 (dk_at dksX5_behind_0 21 rfl rfl)
theorem dX5_behind_22 : decode bcX5_behind 22 = .ok (.invokevirtual 276, 3) := dk_182 1 20 (dk_at dksX5_behind_1 0 rfl rfl)
theorem dX5_behind_25 : decode bcX5_behind 25 = .ok (.iload_n 2, 1) := dk_28 (dk_at dksX5_behind_1 3 rfl rfl)
theorem dX5_behind_26 : decode bcX5_behind 26 = .ok (.if_icmp .ne 12, 3) := dk_160 0 12 (dk_at dksX5_behind_1 4 rfl rfl)
theorem dX5_behind_29 : decode bcX5_behind 29 = .ok (.aload_n 0, 1) := dk_42 (dk_at dksX5_behind_1 7 rfl rfl)
theorem dX5_behind_30 : decode bcX5_behind 30 = .ok (.iload_n 1, 1) := dk_27 (dk_at dksX5_behind_1 8 rfl rfl)
theorem dX5_behind_31 : decode bcX5_behind 31 = .ok (.iconst 0, 1) := dk_3 (dk_at dksX5_behind_1 9 rfl rfl)
theorem dX5_behind_32 : decode bcX5_behind 32 = .ok (.invokevirtual 276, 3) := dk_182 1 20 (dk_at dksX5_behind_1 10 rfl rfl)
theorem dX5_behind_35 : decode bcX5_behind 35 = .ok (.goto 4, 3) := dk_167 0 4 (dk_at dksX5_behind_1 13 rfl rfl)
theorem dX5_behind_38 : decode bcX5_behind 38 = .ok (.iconst (-1), 1) := dk_2 (dk_at dksX5_behind_1 16 rfl rfl)
theorem dX5_behind_39 : decode bcX5_behind 39 = .ok (.ireturn, 1) := dk_172 (dk_at dksX5_behind_1 17 rfl rfl)
abbrev SX5_behind (pc : Nat) (i : xI) : Prop := Snd "SwollenHouseModel" "behind" prog_25_method_60_code 3 (Option.some Jvm.ClassFile.FieldType.int) [] pc i
theorem oX5_behind_0 : SX5_behind 0 (i_aload 0 1) := snd_aload_n dX5_behind_0 rfl
theorem oX5_behind_1 : SX5_behind 1 (i_iload 1 2) := snd_iload_n dX5_behind_1 rfl
theorem oX5_behind_2 : SX5_behind 2 (i_const (.int (nI 0)) 3) := snd_iconst dX5_behind_2 (by decide)
theorem oX5_behind_3 : SX5_behind 3 (i_cv 4 251 2 6) := snd_cv rfl infX5_doorOf (by decide) rfl (xVm_V dX5_behind_3 rfl q1690 q1692 qs61 q136 q1693 pdX5_doorOf)
theorem oX5_behind_6 : SX5_behind 6 (i_iload 2 7) := snd_iload_n dX5_behind_6 rfl
theorem oX5_behind_7 : SX5_behind 7 (i_if2 (fun x y => ¬ x = y) 19 10) := snd_icmp_ne dX5_behind_7 (by decide)
theorem oX5_behind_10 : SX5_behind 10 (i_aload 0 11) := snd_aload_n dX5_behind_10 rfl
theorem oX5_behind_11 : SX5_behind 11 (i_iload 1 12) := snd_iload_n dX5_behind_11 rfl
theorem oX5_behind_12 : SX5_behind 12 (i_const (.int (nI 1)) 13) := snd_iconst dX5_behind_12 (by decide)
theorem oX5_behind_13 : SX5_behind 13 (i_cv 4 251 2 16) := snd_cv rfl infX5_doorOf (by decide) rfl (xVm_V dX5_behind_13 rfl q1690 q1692 qs61 q136 q1693 pdX5_doorOf)
theorem oX5_behind_16 : SX5_behind 16 (i_goto 39) := snd_goto dX5_behind_16 (by decide)
theorem oX5_behind_19 : SX5_behind 19 (i_aload 0 20) := snd_aload_n dX5_behind_19 rfl
theorem oX5_behind_20 : SX5_behind 20 (i_iload 1 21) := snd_iload_n dX5_behind_20 rfl
theorem oX5_behind_21 : SX5_behind 21 (i_const (.int (nI 1)) 22) := snd_iconst dX5_behind_21 (by decide)
theorem oX5_behind_22 : SX5_behind 22 (i_cv 4 251 2 25) := snd_cv rfl infX5_doorOf (by decide) rfl (xVm_V dX5_behind_22 rfl q1690 q1692 qs61 q136 q1693 pdX5_doorOf)
theorem oX5_behind_25 : SX5_behind 25 (i_iload 2 26) := snd_iload_n dX5_behind_25 rfl
theorem oX5_behind_26 : SX5_behind 26 (i_if2 (fun x y => ¬ x = y) 38 29) := snd_icmp_ne dX5_behind_26 (by decide)
theorem oX5_behind_29 : SX5_behind 29 (i_aload 0 30) := snd_aload_n dX5_behind_29 rfl
theorem oX5_behind_30 : SX5_behind 30 (i_iload 1 31) := snd_iload_n dX5_behind_30 rfl
theorem oX5_behind_31 : SX5_behind 31 (i_const (.int (nI 0)) 32) := snd_iconst dX5_behind_31 (by decide)
theorem oX5_behind_32 : SX5_behind 32 (i_cv 4 251 2 35) := snd_cv rfl infX5_doorOf (by decide) rfl (xVm_V dX5_behind_32 rfl q1690 q1692 qs61 q136 q1693 pdX5_doorOf)
theorem oX5_behind_35 : SX5_behind 35 (i_goto 39) := snd_goto dX5_behind_35 (by decide)
theorem oX5_behind_38 : SX5_behind 38 (i_const (.int (-1)) 39) := snd_iconst dX5_behind_38 (by decide)
theorem oX5_behind_39 : SX5_behind 39 (i_iret) := snd_iret dX5_behind_39 rfl
theorem okX5_behind : ∀ q ∈ cX5_behind, SX5_behind q.1 q.2 := List.forall_mem_cons.mpr ⟨oX5_behind_0, List.forall_mem_cons.mpr ⟨oX5_behind_1, List.forall_mem_cons.mpr ⟨oX5_behind_2, List.forall_mem_cons.mpr ⟨oX5_behind_3, List.forall_mem_cons.mpr ⟨oX5_behind_6, List.forall_mem_cons.mpr ⟨oX5_behind_7, List.forall_mem_cons.mpr ⟨oX5_behind_10, List.forall_mem_cons.mpr ⟨oX5_behind_11, List.forall_mem_cons.mpr ⟨oX5_behind_12, List.forall_mem_cons.mpr ⟨oX5_behind_13, List.forall_mem_cons.mpr ⟨oX5_behind_16, List.forall_mem_cons.mpr ⟨oX5_behind_19, List.forall_mem_cons.mpr ⟨oX5_behind_20, List.forall_mem_cons.mpr ⟨oX5_behind_21, List.forall_mem_cons.mpr ⟨oX5_behind_22, List.forall_mem_cons.mpr ⟨oX5_behind_25, List.forall_mem_cons.mpr ⟨oX5_behind_26, List.forall_mem_cons.mpr ⟨oX5_behind_29, List.forall_mem_cons.mpr ⟨oX5_behind_30, List.forall_mem_cons.mpr ⟨oX5_behind_31, List.forall_mem_cons.mpr ⟨oX5_behind_32, List.forall_mem_cons.mpr ⟨oX5_behind_35, List.forall_mem_cons.mpr ⟨oX5_behind_38, List.forall_mem_cons.mpr ⟨oX5_behind_39, fun _ h => absurd h List.not_mem_nil⟩⟩⟩⟩⟩⟩⟩⟩⟩⟩⟩⟩⟩⟩⟩⟩⟩⟩⟩⟩⟩⟩⟩⟩
def dkwX5_walks_1 : List UInt8 := [182, 1, 60, 79, 177]
abbrev dktX5_walks_1 : List UInt8 := dkwX5_walks_1 ++ []
def dkwX5_walks_0 : List UInt8 := [42, 180, 0, 113, 27, 16, 18, 96, 28, 96, 42, 29, 42, 180, 0, 113, 27, 16, 18, 96, 28, 96, 46]
abbrev dktX5_walks_0 : List UInt8 := dkwX5_walks_0 ++ dktX5_walks_1
theorem dksX5_walks_0 : bcX5_walks.data.toList.drop 0 = dktX5_walks_0 := by decide +kernel
theorem dksX5_walks_1 : bcX5_walks.data.toList.drop 23 = dktX5_walks_1 := dk_seg dksX5_walks_0 23 rfl rfl
theorem dX5_walks_0 : decode bcX5_walks 0 = .ok (.aload_n 0, 1) := dk_42 (dk_at dksX5_walks_0 0 rfl rfl)
theorem dX5_walks_1 : decode bcX5_walks 1 = .ok (.getfield 113, 3) := dk_180 0 113 (dk_at dksX5_walks_0 1 rfl rfl)
theorem dX5_walks_4 : decode bcX5_walks 4 = .ok (.iload_n 1, 1) := dk_27 (dk_at dksX5_walks_0 4 rfl rfl)
theorem dX5_walks_5 : decode bcX5_walks 5 = .ok (.bipush 18, 2) := dk_16 18 (dk_at dksX5_walks_0 5 rfl rfl)
theorem dX5_walks_7 : decode bcX5_walks 7 = .ok (.iadd, 1) := dk_96 (dk_at dksX5_walks_0 7 rfl rfl)
theorem dX5_walks_8 : decode bcX5_walks 8 = .ok (.iload_n 2, 1) := dk_28 (dk_at dksX5_walks_0 8 rfl rfl)
theorem dX5_walks_9 : decode bcX5_walks 9 = .ok (.iadd, 1) := dk_96 (dk_at dksX5_walks_0 9 rfl rfl)
theorem dX5_walks_10 : decode bcX5_walks 10 = .ok (.aload_n 0, 1) := dk_42 (dk_at dksX5_walks_0 10 rfl rfl)
theorem dX5_walks_11 : decode bcX5_walks 11 = .ok (.iload_n 3, 1) := dk_29 (dk_at dksX5_walks_0 11 rfl rfl)
theorem dX5_walks_12 : decode bcX5_walks 12 = .ok (.aload_n 0, 1) := dk_42 (dk_at dksX5_walks_0 12 rfl rfl)
theorem dX5_walks_13 : decode bcX5_walks 13 = .ok (.getfield 113, 3) := dk_180 0 113 (dk_at dksX5_walks_0 13 rfl rfl)
theorem dX5_walks_16 : decode bcX5_walks 16 = .ok (.iload_n 1, 1) := dk_27 (dk_at dksX5_walks_0 16 rfl rfl)
theorem dX5_walks_17 : decode bcX5_walks 17 = .ok (.bipush 18, 2) := dk_16 18 (dk_at dksX5_walks_0 17 rfl rfl)
theorem dX5_walks_19 : decode bcX5_walks 19 = .ok (.iadd, 1) := dk_96 (dk_at dksX5_walks_0 19 rfl rfl)
theorem dX5_walks_20 : decode bcX5_walks 20 = .ok (.iload_n 2, 1) := dk_28 (dk_at dksX5_walks_0 20 rfl rfl)
theorem dX5_walks_21 : decode bcX5_walks 21 = .ok (.iadd, 1) := dk_96 (dk_at dksX5_walks_0 21 rfl rfl)
theorem dX5_walks_22 : decode bcX5_walks 22 = .ok (.iaload, 1) := dk_46 (dk_at dksX5_walks_0 22 rfl rfl)
theorem dX5_walks_23 : decode bcX5_walks 23 = .ok (.invokevirtual 316, 3) := dk_182 1 60 (dk_at dksX5_walks_1 0 rfl rfl)
theorem dX5_walks_26 : decode bcX5_walks 26 = .ok (.iastore, 1) := dk_79 (dk_at dksX5_walks_1 3 rfl rfl)
theorem dX5_walks_27 : decode bcX5_walks 27 = .ok (.return_, 1) := dk_177 (dk_at dksX5_walks_1 4 rfl rfl)
abbrev SX5_walks (pc : Nat) (i : xI) : Prop := Snd "SwollenHouseModel" "walks" prog_25_method_64_code 4 (Option.none : Option Jvm.ClassFile.FieldType) [] pc i
theorem oX5_walks_0 : SX5_walks 0 (i_aload 0 1) := snd_aload_n dX5_walks_0 rfl
theorem oX5_walks_1 : SX5_walks 1 (i_getf 4 24 4) := snd_getf dX5_walks_1 rfl (by decide) in_X5 (Or.inl q1722) (Or.inl rfl) (by decide)
theorem oX5_walks_4 : SX5_walks 4 (i_iload 1 5) := snd_iload_n dX5_walks_4 rfl
theorem oX5_walks_5 : SX5_walks 5 (i_const (.int (nI 18)) 7) := snd_bipush dX5_walks_5 (by decide)
theorem oX5_walks_7 : SX5_walks 7 (i_ii (fun x y => x + y) 8) := snd_iadd dX5_walks_7
theorem oX5_walks_8 : SX5_walks 8 (i_iload 2 9) := snd_iload_n dX5_walks_8 rfl
theorem oX5_walks_9 : SX5_walks 9 (i_ii (fun x y => x + y) 10) := snd_iadd dX5_walks_9
theorem oX5_walks_10 : SX5_walks 10 (i_aload 0 11) := snd_aload_n dX5_walks_10 rfl
theorem oX5_walks_11 : SX5_walks 11 (i_iload 3 12) := snd_iload_n dX5_walks_11 rfl
theorem oX5_walks_12 : SX5_walks 12 (i_aload 0 13) := snd_aload_n dX5_walks_12 rfl
theorem oX5_walks_13 : SX5_walks 13 (i_getf 4 24 16) := snd_getf dX5_walks_13 rfl (by decide) in_X5 (Or.inl q1722) (Or.inl rfl) (by decide)
theorem oX5_walks_16 : SX5_walks 16 (i_iload 1 17) := snd_iload_n dX5_walks_16 rfl
theorem oX5_walks_17 : SX5_walks 17 (i_const (.int (nI 18)) 19) := snd_bipush dX5_walks_17 (by decide)
theorem oX5_walks_19 : SX5_walks 19 (i_ii (fun x y => x + y) 20) := snd_iadd dX5_walks_19
theorem oX5_walks_20 : SX5_walks 20 (i_iload 2 21) := snd_iload_n dX5_walks_20 rfl
theorem oX5_walks_21 : SX5_walks 21 (i_ii (fun x y => x + y) 22) := snd_iadd dX5_walks_21
theorem oX5_walks_22 : SX5_walks 22 (i_ai 0 23) := snd_ai0 dX5_walks_22
theorem oX5_walks_23 : SX5_walks 23 (i_cv 4 305 2 26) := snd_cv rfl infX5_behind (by decide) rfl (xVm_V dX5_walks_23 rfl q2001 q2003 qs103 q136 q2004 pdX5_behind)
theorem oX5_walks_26 : SX5_walks 26 (i_si (fun v => v) 0 27) := snd_si0 dX5_walks_26
theorem oX5_walks_27 : SX5_walks 27 (i_vret) := snd_vret dX5_walks_27 rfl
theorem okX5_walks : ∀ q ∈ cX5_walks, SX5_walks q.1 q.2 := List.forall_mem_cons.mpr ⟨oX5_walks_0, List.forall_mem_cons.mpr ⟨oX5_walks_1, List.forall_mem_cons.mpr ⟨oX5_walks_4, List.forall_mem_cons.mpr ⟨oX5_walks_5, List.forall_mem_cons.mpr ⟨oX5_walks_7, List.forall_mem_cons.mpr ⟨oX5_walks_8, List.forall_mem_cons.mpr ⟨oX5_walks_9, List.forall_mem_cons.mpr ⟨oX5_walks_10, List.forall_mem_cons.mpr ⟨oX5_walks_11, List.forall_mem_cons.mpr ⟨oX5_walks_12, List.forall_mem_cons.mpr ⟨oX5_walks_13, List.forall_mem_cons.mpr ⟨oX5_walks_16, List.forall_mem_cons.mpr ⟨oX5_walks_17, List.forall_mem_cons.mpr ⟨oX5_walks_19, List.forall_mem_cons.mpr ⟨oX5_walks_20, List.forall_mem_cons.mpr ⟨oX5_walks_21, List.forall_mem_cons.mpr ⟨oX5_walks_22, List.forall_mem_cons.mpr ⟨oX5_walks_23, List.forall_mem_cons.mpr ⟨oX5_walks_26, List.forall_mem_cons.mpr ⟨oX5_walks_27, fun _ h => absurd h List.not_mem_nil⟩⟩⟩⟩⟩⟩⟩⟩⟩⟩⟩⟩⟩⟩⟩⟩⟩⟩⟩⟩
def dkwX5_plane_2 : List UInt8 := [180, 0, 113, 5, 27, 96, 46, 172]
abbrev dktX5_plane_2 : List UInt8 := dkwX5_plane_2 ++ []
def dkwX5_plane_1 : List UInt8 := [161, 0, 5, 2, 172, 42, 182, 1, 69, 42, 180, 0, 113, 5, 27, 96, 92, 46, 4, 96, 79, 42]
abbrev dktX5_plane_1 : List UInt8 := dkwX5_plane_1 ++ dktX5_plane_2
def dkwX5_plane_0 : List UInt8 := [42, 3, 181, 0, 1, 42, 27, 182, 1, 63, 153, 0, 16, 42, 180, 0, 113, 5, 27, 96, 46, 16, 20]
abbrev dktX5_plane_0 : List UInt8 := dkwX5_plane_0 ++ dktX5_plane_1
theorem dksX5_plane_0 : bcX5_plane.data.toList.drop 0 = dktX5_plane_0 := by decide +kernel
theorem dksX5_plane_1 : bcX5_plane.data.toList.drop 23 = dktX5_plane_1 := dk_seg dksX5_plane_0 23 rfl rfl
theorem dksX5_plane_2 : bcX5_plane.data.toList.drop 45 = dktX5_plane_2 := dk_seg dksX5_plane_1 22 rfl rfl
theorem dX5_plane_0 : decode bcX5_plane 0 = .ok (.aload_n 0, 1) := dk_42 (dk_at dksX5_plane_0 0 rfl rfl)
theorem dX5_plane_1 : decode bcX5_plane 1 = .ok (.iconst 0, 1) := dk_3 (dk_at dksX5_plane_0 1 rfl rfl)
theorem dX5_plane_2 : decode bcX5_plane 2 = .ok (.putfield 1, 3) := dk_181 0 1 (dk_at dksX5_plane_0 2 rfl rfl)
theorem dX5_plane_5 : decode bcX5_plane 5 = .ok (.aload_n 0, 1) := dk_42 (dk_at dksX5_plane_0 5 rfl rfl)
theorem dX5_plane_6 : decode bcX5_plane 6 = .ok (.iload_n 1, 1) := dk_27 (dk_at dksX5_plane_0 6 rfl rfl)
theorem dX5_plane_7 : decode bcX5_plane 7 = .ok (.invokevirtual 319, 3) := dk_182 1 63 (dk_at dksX5_plane_0 7 rfl rfl)
theorem dX5_plane_10 : decode bcX5_plane 10 = .ok (.ifCond .eq 16, 3) := dk_153 0 16 (dk_at dksX5_plane_0 10 rfl rfl)
theorem dX5_plane_13 : decode bcX5_plane 13 = .ok (.aload_n 0, 1) := dk_42 (dk_at dksX5_plane_0 13 rfl rfl)
theorem dX5_plane_14 : decode bcX5_plane 14 = .ok (.getfield 113, 3) := dk_180 0 113 (dk_at dksX5_plane_0 14 rfl rfl)
theorem dX5_plane_17 : decode bcX5_plane 17 = .ok (.iconst 2, 1) := dk_5 (dk_at dksX5_plane_0 17 rfl rfl)
theorem dX5_plane_18 : decode bcX5_plane 18 = .ok (.iload_n 1, 1) := dk_27 (dk_at dksX5_plane_0 18 rfl rfl)
theorem dX5_plane_19 : decode bcX5_plane 19 = .ok (.iadd, 1) := dk_96 (dk_at dksX5_plane_0 19 rfl rfl)
theorem dX5_plane_20 : decode bcX5_plane 20 = .ok (.iaload, 1) := dk_46 (dk_at dksX5_plane_0 20 rfl rfl)
theorem dX5_plane_21 : decode bcX5_plane 21 = .ok (.bipush 20, 2) := dk_16 20 (dk_at dksX5_plane_0 21 rfl rfl)
theorem dX5_plane_23 : decode bcX5_plane 23 = .ok (.if_icmp .lt 5, 3) := dk_161 0 5 (dk_at dksX5_plane_1 0 rfl rfl)
theorem dX5_plane_26 : decode bcX5_plane 26 = .ok (.iconst (-1), 1) := dk_2 (dk_at dksX5_plane_1 3 rfl rfl)
theorem dX5_plane_27 : decode bcX5_plane 27 = .ok (.ireturn, 1) := dk_172 (dk_at dksX5_plane_1 4 rfl rfl)
theorem dX5_plane_28 : decode bcX5_plane 28 = .ok (.aload_n 0, 1) := dk_42 (dk_at dksX5_plane_1 5 rfl rfl)
theorem dX5_plane_29 : decode bcX5_plane 29 = .ok (.invokevirtual 325, 3) := dk_182 1 69 (dk_at dksX5_plane_1 6 rfl rfl)
theorem dX5_plane_32 : decode bcX5_plane 32 = .ok (.aload_n 0, 1) := dk_42 (dk_at dksX5_plane_1 9 rfl rfl)
theorem dX5_plane_33 : decode bcX5_plane 33 = .ok (.getfield 113, 3) := dk_180 0 113 (dk_at dksX5_plane_1 10 rfl rfl)
theorem dX5_plane_36 : decode bcX5_plane 36 = .ok (.iconst 2, 1) := dk_5 (dk_at dksX5_plane_1 13 rfl rfl)
theorem dX5_plane_37 : decode bcX5_plane 37 = .ok (.iload_n 1, 1) := dk_27 (dk_at dksX5_plane_1 14 rfl rfl)
theorem dX5_plane_38 : decode bcX5_plane 38 = .ok (.iadd, 1) := dk_96 (dk_at dksX5_plane_1 15 rfl rfl)
theorem dX5_plane_39 : decode bcX5_plane 39 = .ok (.dup2, 1) := dk_92 (dk_at dksX5_plane_1 16 rfl rfl)
theorem dX5_plane_40 : decode bcX5_plane 40 = .ok (.iaload, 1) := dk_46 (dk_at dksX5_plane_1 17 rfl rfl)
theorem dX5_plane_41 : decode bcX5_plane 41 = .ok (.iconst 1, 1) := dk_4 (dk_at dksX5_plane_1 18 rfl rfl)
theorem dX5_plane_42 : decode bcX5_plane 42 = .ok (.iadd, 1) := dk_96 (dk_at dksX5_plane_1 19 rfl rfl)
theorem dX5_plane_43 : decode bcX5_plane 43 = .ok (.iastore, 1) := dk_79 (dk_at dksX5_plane_1 20 rfl rfl)
theorem dX5_plane_44 : decode bcX5_plane 44 = .ok (.aload_n 0, 1) := dk_42 (dk_at dksX5_plane_1 21 rfl rfl)
theorem dX5_plane_45 : decode bcX5_plane 45 = .ok (.getfield 113, 3) := dk_180 0 113 (dk_at dksX5_plane_2 0 rfl rfl)
theorem dX5_plane_48 : decode bcX5_plane 48 = .ok (.iconst 2, 1) := dk_5 (dk_at dksX5_plane_2 3 rfl rfl)
theorem dX5_plane_49 : decode bcX5_plane 49 = .ok (.iload_n 1, 1) := dk_27 (dk_at dksX5_plane_2 4 rfl rfl)
theorem dX5_plane_50 : decode bcX5_plane 50 = .ok (.iadd, 1) := dk_96 (dk_at dksX5_plane_2 5 rfl rfl)
theorem dX5_plane_51 : decode bcX5_plane 51 = .ok (.iaload, 1) := dk_46 (dk_at dksX5_plane_2 6 rfl rfl)
theorem dX5_plane_52 : decode bcX5_plane 52 = .ok (.ireturn, 1) := dk_172 (dk_at dksX5_plane_2 7 rfl rfl)
abbrev SX5_plane (pc : Nat) (i : xI) : Prop := Snd "SwollenHouseModel" "plane" prog_25_method_71_code 2 (Option.some Jvm.ClassFile.FieldType.int) [] pc i
theorem oX5_plane_0 : SX5_plane 0 (i_aload 0 1) := snd_aload_n dX5_plane_0 rfl
theorem oX5_plane_1 : SX5_plane 1 (i_const (.int (nI 0)) 2) := snd_iconst dX5_plane_1 (by decide)
theorem oX5_plane_2 : SX5_plane 2 (i_putfi 4 0 5) := snd_putfi dX5_plane_2 rfl (by decide) in_X5 tyX5 tyX5_ok nmX5 (Or.inl ⟨rfl, q1698⟩) (Or.inl rfl) rfl
theorem oX5_plane_5 : SX5_plane 5 (i_aload 0 6) := snd_aload_n dX5_plane_5 rfl
theorem oX5_plane_6 : SX5_plane 6 (i_iload 1 7) := snd_iload_n dX5_plane_6 rfl
theorem oX5_plane_7 : SX5_plane 7 (i_cv 4 287 1 10) := snd_cv rfl infX5_isDoor (by decide) rfl (xVm_V dX5_plane_7 rfl q1930 q1932 qs89 q136 q1933 pdX5_isDoor)
theorem oX5_plane_10 : SX5_plane 10 (i_if1 (fun x => x = 0) 26 13) := snd_if_eq dX5_plane_10 (by decide)
theorem oX5_plane_13 : SX5_plane 13 (i_aload 0 14) := snd_aload_n dX5_plane_13 rfl
theorem oX5_plane_14 : SX5_plane 14 (i_getf 4 24 17) := snd_getf dX5_plane_14 rfl (by decide) in_X5 (Or.inl q1722) (Or.inl rfl) (by decide)
theorem oX5_plane_17 : SX5_plane 17 (i_const (.int (nI 2)) 18) := snd_iconst dX5_plane_17 (by decide)
theorem oX5_plane_18 : SX5_plane 18 (i_iload 1 19) := snd_iload_n dX5_plane_18 rfl
theorem oX5_plane_19 : SX5_plane 19 (i_ii (fun x y => x + y) 20) := snd_iadd dX5_plane_19
theorem oX5_plane_20 : SX5_plane 20 (i_ai 0 21) := snd_ai0 dX5_plane_20
theorem oX5_plane_21 : SX5_plane 21 (i_const (.int (nI 20)) 23) := snd_bipush dX5_plane_21 (by decide)
theorem oX5_plane_23 : SX5_plane 23 (i_if2 (fun x y => x < y) 28 26) := snd_icmp_lt dX5_plane_23 (by decide)
theorem oX5_plane_26 : SX5_plane 26 (i_const (.int (-1)) 27) := snd_iconst dX5_plane_26 (by decide)
theorem oX5_plane_27 : SX5_plane 27 (i_iret) := snd_iret dX5_plane_27 rfl
theorem oX5_plane_28 : SX5_plane 28 (i_aload 0 29) := snd_aload_n dX5_plane_28 rfl
theorem oX5_plane_29 : SX5_plane 29 (i_cvv 4 294 0 32) := snd_cvv rfl infX5_keeps (by decide) rfl (xVm_V dX5_plane_29 rfl q1958 q1960 qs94 q136 q1961 pdX5_keeps)
theorem oX5_plane_32 : SX5_plane 32 (i_aload 0 33) := snd_aload_n dX5_plane_32 rfl
theorem oX5_plane_33 : SX5_plane 33 (i_getf 4 24 36) := snd_getf dX5_plane_33 rfl (by decide) in_X5 (Or.inl q1722) (Or.inl rfl) (by decide)
theorem oX5_plane_36 : SX5_plane 36 (i_const (.int (nI 2)) 37) := snd_iconst dX5_plane_36 (by decide)
theorem oX5_plane_37 : SX5_plane 37 (i_iload 1 38) := snd_iload_n dX5_plane_37 rfl
theorem oX5_plane_38 : SX5_plane 38 (i_ii (fun x y => x + y) 39) := snd_iadd dX5_plane_38
theorem oX5_plane_39 : SX5_plane 39 (i_dup2 40) := snd_dup2 dX5_plane_39
theorem oX5_plane_40 : SX5_plane 40 (i_ai 0 41) := snd_ai0 dX5_plane_40
theorem oX5_plane_41 : SX5_plane 41 (i_const (.int (nI 1)) 42) := snd_iconst dX5_plane_41 (by decide)
theorem oX5_plane_42 : SX5_plane 42 (i_ii (fun x y => x + y) 43) := snd_iadd dX5_plane_42
theorem oX5_plane_43 : SX5_plane 43 (i_si (fun v => v) 0 44) := snd_si0 dX5_plane_43
theorem oX5_plane_44 : SX5_plane 44 (i_aload 0 45) := snd_aload_n dX5_plane_44 rfl
theorem oX5_plane_45 : SX5_plane 45 (i_getf 4 24 48) := snd_getf dX5_plane_45 rfl (by decide) in_X5 (Or.inl q1722) (Or.inl rfl) (by decide)
theorem oX5_plane_48 : SX5_plane 48 (i_const (.int (nI 2)) 49) := snd_iconst dX5_plane_48 (by decide)
theorem oX5_plane_49 : SX5_plane 49 (i_iload 1 50) := snd_iload_n dX5_plane_49 rfl
theorem oX5_plane_50 : SX5_plane 50 (i_ii (fun x y => x + y) 51) := snd_iadd dX5_plane_50
theorem oX5_plane_51 : SX5_plane 51 (i_ai 0 52) := snd_ai0 dX5_plane_51
theorem oX5_plane_52 : SX5_plane 52 (i_iret) := snd_iret dX5_plane_52 rfl
theorem okX5_plane : ∀ q ∈ cX5_plane, SX5_plane q.1 q.2 := List.forall_mem_cons.mpr ⟨oX5_plane_0, List.forall_mem_cons.mpr ⟨oX5_plane_1, List.forall_mem_cons.mpr ⟨oX5_plane_2, List.forall_mem_cons.mpr ⟨oX5_plane_5, List.forall_mem_cons.mpr ⟨oX5_plane_6, List.forall_mem_cons.mpr ⟨oX5_plane_7, List.forall_mem_cons.mpr ⟨oX5_plane_10, List.forall_mem_cons.mpr ⟨oX5_plane_13, List.forall_mem_cons.mpr ⟨oX5_plane_14, List.forall_mem_cons.mpr ⟨oX5_plane_17, List.forall_mem_cons.mpr ⟨oX5_plane_18, List.forall_mem_cons.mpr ⟨oX5_plane_19, List.forall_mem_cons.mpr ⟨oX5_plane_20, List.forall_mem_cons.mpr ⟨oX5_plane_21, List.forall_mem_cons.mpr ⟨oX5_plane_23, List.forall_mem_cons.mpr ⟨oX5_plane_26, List.forall_mem_cons.mpr ⟨oX5_plane_27, List.forall_mem_cons.mpr ⟨oX5_plane_28, List.forall_mem_cons.mpr ⟨oX5_plane_29, List.forall_mem_cons.mpr ⟨oX5_plane_32, List.forall_mem_cons.mpr ⟨oX5_plane_33, List.forall_mem_cons.mpr ⟨oX5_plane_36, List.forall_mem_cons.mpr ⟨oX5_plane_37, List.forall_mem_cons.mpr ⟨oX5_plane_38, List.forall_mem_cons.mpr ⟨oX5_plane_39, List.forall_mem_cons.mpr ⟨oX5_plane_40, List.forall_mem_cons.mpr ⟨oX5_plane_41, List.forall_mem_cons.mpr ⟨oX5_plane_42, List.forall_mem_cons.mpr ⟨oX5_plane_43, List.forall_mem_cons.mpr ⟨oX5_plane_44, List.forall_mem_cons.mpr ⟨oX5_plane_45, List.forall_mem_cons.mpr ⟨oX5_plane_48, List.forall_mem_cons.mpr ⟨oX5_plane_49, List.forall_mem_cons.mpr ⟨oX5_plane_50, List.forall_mem_cons.mpr ⟨oX5_plane_51, List.forall_mem_cons.mpr ⟨oX5_plane_52, fun _ h => absurd h List.not_mem_nil⟩⟩⟩⟩⟩⟩⟩⟩⟩⟩⟩⟩⟩⟩⟩⟩⟩⟩⟩⟩⟩⟩⟩⟩⟩⟩⟩⟩⟩⟩⟩⟩⟩⟩⟩⟩
def dkwX5_wedge_2 : List UInt8 := [4, 126, 172]
abbrev dktX5_wedge_2 : List UInt8 := dkwX5_wedge_2 ++ []
def dkwX5_wedge_1 : List UInt8 := [42, 182, 1, 69, 42, 180, 0, 113, 4, 92, 46, 4, 27, 120, 130, 79, 42, 180, 0, 113, 4, 46, 27, 122]
abbrev dktX5_wedge_1 : List UInt8 := dkwX5_wedge_1 ++ dktX5_wedge_2
def dkwX5_wedge_0 : List UInt8 := [42, 3, 181, 0, 1, 42, 27, 182, 1, 63, 153, 0, 12, 42, 3, 27, 182, 1, 83, 154, 0, 5, 2, 172]
abbrev dktX5_wedge_0 : List UInt8 := dkwX5_wedge_0 ++ dktX5_wedge_1
theorem dksX5_wedge_0 : bcX5_wedge.data.toList.drop 0 = dktX5_wedge_0 := by decide +kernel
theorem dksX5_wedge_1 : bcX5_wedge.data.toList.drop 24 = dktX5_wedge_1 := dk_seg dksX5_wedge_0 24 rfl rfl
theorem dksX5_wedge_2 : bcX5_wedge.data.toList.drop 48 = dktX5_wedge_2 := dk_seg dksX5_wedge_1 24 rfl rfl
theorem dX5_wedge_0 : decode bcX5_wedge 0 = .ok (.aload_n 0, 1) := dk_42 (dk_at dksX5_wedge_0 0 rfl rfl)
theorem dX5_wedge_1 : decode bcX5_wedge 1 = .ok (.iconst 0, 1) := dk_3 (dk_at dksX5_wedge_0 1 rfl rfl)
theorem dX5_wedge_2 : decode bcX5_wedge 2 = .ok (.putfield 1, 3) := dk_181 0 1 (dk_at dksX5_wedge_0 2 rfl rfl)
theorem dX5_wedge_5 : decode bcX5_wedge 5 = .ok (.aload_n 0, 1) := dk_42 (dk_at dksX5_wedge_0 5 rfl rfl)
theorem dX5_wedge_6 : decode bcX5_wedge 6 = .ok (.iload_n 1, 1) := dk_27 (dk_at dksX5_wedge_0 6 rfl rfl)
theorem dX5_wedge_7 : decode bcX5_wedge 7 = .ok (.invokevirtual 319, 3) := dk_182 1 63 (dk_at dksX5_wedge_0 7 rfl rfl)
theorem dX5_wedge_10 : decode bcX5_wedge 10 = .ok (.ifCond .eq 12, 3) := dk_153 0 12 (dk_at dksX5_wedge_0 10 rfl rfl)
theorem dX5_wedge_13 : decode bcX5_wedge 13 = .ok (.aload_n 0, 1) := dk_42 (dk_at dksX5_wedge_0 13 rfl rfl)
theorem dX5_wedge_14 : decode bcX5_wedge 14 = .ok (.iconst 0, 1) := dk_3 (dk_at dksX5_wedge_0 14 rfl rfl)
theorem dX5_wedge_15 : decode bcX5_wedge 15 = .ok (.iload_n 1, 1) := dk_27 (dk_at dksX5_wedge_0 15 rfl rfl)
theorem dX5_wedge_16 : decode bcX5_wedge 16 = .ok (.invokevirtual 339, 3) := dk_182 1 83 (dk_at dksX5_wedge_0 16 rfl rfl)
theorem dX5_wedge_19 : decode bcX5_wedge 19 = .ok (.ifCond .ne 5, 3) := dk_154 0 5 (dk_at dksX5_wedge_0 19 rfl rfl)
theorem dX5_wedge_22 : decode bcX5_wedge 22 = .ok (.iconst (-1), 1) := dk_2 (dk_at dksX5_wedge_0 22 rfl rfl)
theorem dX5_wedge_23 : decode bcX5_wedge 23 = .ok (.ireturn, 1) := dk_172 (dk_at dksX5_wedge_0 23 rfl rfl)
theorem dX5_wedge_24 : decode bcX5_wedge 24 = .ok (.aload_n 0, 1) := dk_42 (dk_at dksX5_wedge_1 0 rfl rfl)
theorem dX5_wedge_25 : decode bcX5_wedge 25 = .ok (.invokevirtual 325, 3) := dk_182 1 69 (dk_at dksX5_wedge_1 1 rfl rfl)
theorem dX5_wedge_28 : decode bcX5_wedge 28 = .ok (.aload_n 0, 1) := dk_42 (dk_at dksX5_wedge_1 4 rfl rfl)
theorem dX5_wedge_29 : decode bcX5_wedge 29 = .ok (.getfield 113, 3) := dk_180 0 113 (dk_at dksX5_wedge_1 5 rfl rfl)
theorem dX5_wedge_32 : decode bcX5_wedge 32 = .ok (.iconst 1, 1) := dk_4 (dk_at dksX5_wedge_1 8 rfl rfl)
theorem dX5_wedge_33 : decode bcX5_wedge 33 = .ok (.dup2, 1) := dk_92 (dk_at dksX5_wedge_1 9 rfl rfl)
theorem dX5_wedge_34 : decode bcX5_wedge 34 = .ok (.iaload, 1) := dk_46 (dk_at dksX5_wedge_1 10 rfl rfl)
theorem dX5_wedge_35 : decode bcX5_wedge 35 = .ok (.iconst 1, 1) := dk_4 (dk_at dksX5_wedge_1 11 rfl rfl)
theorem dX5_wedge_36 : decode bcX5_wedge 36 = .ok (.iload_n 1, 1) := dk_27 (dk_at dksX5_wedge_1 12 rfl rfl)
theorem dX5_wedge_37 : decode bcX5_wedge 37 = .ok (.ishl, 1) := dk_120 (dk_at dksX5_wedge_1 13 rfl rfl)
theorem dX5_wedge_38 : decode bcX5_wedge 38 = .ok (.ixor, 1) := dk_130 (dk_at dksX5_wedge_1 14 rfl rfl)
theorem dX5_wedge_39 : decode bcX5_wedge 39 = .ok (.iastore, 1) := dk_79 (dk_at dksX5_wedge_1 15 rfl rfl)
theorem dX5_wedge_40 : decode bcX5_wedge 40 = .ok (.aload_n 0, 1) := dk_42 (dk_at dksX5_wedge_1 16 rfl rfl)
theorem dX5_wedge_41 : decode bcX5_wedge 41 = .ok (.getfield 113, 3) := dk_180 0 113 (dk_at dksX5_wedge_1 17 rfl rfl)
theorem dX5_wedge_44 : decode bcX5_wedge 44 = .ok (.iconst 1, 1) := dk_4 (dk_at dksX5_wedge_1 20 rfl rfl)
theorem dX5_wedge_45 : decode bcX5_wedge 45 = .ok (.iaload, 1) := dk_46 (dk_at dksX5_wedge_1 21 rfl rfl)
theorem dX5_wedge_46 : decode bcX5_wedge 46 = .ok (.iload_n 1, 1) := dk_27 (dk_at dksX5_wedge_1 22 rfl rfl)
theorem dX5_wedge_47 : decode bcX5_wedge 47 = .ok (.ishr, 1) := dk_122 (dk_at dksX5_wedge_1 23 rfl rfl)
theorem dX5_wedge_48 : decode bcX5_wedge 48 = .ok (.iconst 1, 1) := dk_4 (dk_at dksX5_wedge_2 0 rfl rfl)
theorem dX5_wedge_49 : decode bcX5_wedge 49 = .ok (.iand, 1) := dk_126 (dk_at dksX5_wedge_2 1 rfl rfl)
theorem dX5_wedge_50 : decode bcX5_wedge 50 = .ok (.ireturn, 1) := dk_172 (dk_at dksX5_wedge_2 2 rfl rfl)
abbrev SX5_wedge (pc : Nat) (i : xI) : Prop := Snd "SwollenHouseModel" "wedge" prog_25_method_72_code 2 (Option.some Jvm.ClassFile.FieldType.int) [] pc i
theorem oX5_wedge_0 : SX5_wedge 0 (i_aload 0 1) := snd_aload_n dX5_wedge_0 rfl
theorem oX5_wedge_1 : SX5_wedge 1 (i_const (.int (nI 0)) 2) := snd_iconst dX5_wedge_1 (by decide)
theorem oX5_wedge_2 : SX5_wedge 2 (i_putfi 4 0 5) := snd_putfi dX5_wedge_2 rfl (by decide) in_X5 tyX5 tyX5_ok nmX5 (Or.inl ⟨rfl, q1698⟩) (Or.inl rfl) rfl
theorem oX5_wedge_5 : SX5_wedge 5 (i_aload 0 6) := snd_aload_n dX5_wedge_5 rfl
theorem oX5_wedge_6 : SX5_wedge 6 (i_iload 1 7) := snd_iload_n dX5_wedge_6 rfl
theorem oX5_wedge_7 : SX5_wedge 7 (i_cv 4 287 1 10) := snd_cv rfl infX5_isDoor (by decide) rfl (xVm_V dX5_wedge_7 rfl q1930 q1932 qs89 q136 q1933 pdX5_isDoor)
theorem oX5_wedge_10 : SX5_wedge 10 (i_if1 (fun x => x = 0) 22 13) := snd_if_eq dX5_wedge_10 (by decide)
theorem oX5_wedge_13 : SX5_wedge 13 (i_aload 0 14) := snd_aload_n dX5_wedge_13 rfl
theorem oX5_wedge_14 : SX5_wedge 14 (i_const (.int (nI 0)) 15) := snd_iconst dX5_wedge_14 (by decide)
theorem oX5_wedge_15 : SX5_wedge 15 (i_iload 1 16) := snd_iload_n dX5_wedge_15 rfl
theorem oX5_wedge_16 : SX5_wedge 16 (i_cv 4 309 2 19) := snd_cv rfl infX5_mayWedge (by decide) rfl (xVm_V dX5_wedge_16 rfl q2017 q2019 qs105 q136 q2020 pdX5_mayWedge)
theorem oX5_wedge_19 : SX5_wedge 19 (i_if1 (fun x => ¬ x = 0) 24 22) := snd_if_ne dX5_wedge_19 (by decide)
theorem oX5_wedge_22 : SX5_wedge 22 (i_const (.int (-1)) 23) := snd_iconst dX5_wedge_22 (by decide)
theorem oX5_wedge_23 : SX5_wedge 23 (i_iret) := snd_iret dX5_wedge_23 rfl
theorem oX5_wedge_24 : SX5_wedge 24 (i_aload 0 25) := snd_aload_n dX5_wedge_24 rfl
theorem oX5_wedge_25 : SX5_wedge 25 (i_cvv 4 294 0 28) := snd_cvv rfl infX5_keeps (by decide) rfl (xVm_V dX5_wedge_25 rfl q1958 q1960 qs94 q136 q1961 pdX5_keeps)
theorem oX5_wedge_28 : SX5_wedge 28 (i_aload 0 29) := snd_aload_n dX5_wedge_28 rfl
theorem oX5_wedge_29 : SX5_wedge 29 (i_getf 4 24 32) := snd_getf dX5_wedge_29 rfl (by decide) in_X5 (Or.inl q1722) (Or.inl rfl) (by decide)
theorem oX5_wedge_32 : SX5_wedge 32 (i_const (.int (nI 1)) 33) := snd_iconst dX5_wedge_32 (by decide)
theorem oX5_wedge_33 : SX5_wedge 33 (i_dup2 34) := snd_dup2 dX5_wedge_33
theorem oX5_wedge_34 : SX5_wedge 34 (i_ai 0 35) := snd_ai0 dX5_wedge_34
theorem oX5_wedge_35 : SX5_wedge 35 (i_const (.int (nI 1)) 36) := snd_iconst dX5_wedge_35 (by decide)
theorem oX5_wedge_36 : SX5_wedge 36 (i_iload 1 37) := snd_iload_n dX5_wedge_36 rfl
theorem oX5_wedge_37 : SX5_wedge 37 (i_ii (fun x y => x <<< (y &&& 31)) 38) := snd_ishl dX5_wedge_37
theorem oX5_wedge_38 : SX5_wedge 38 (i_ii (fun x y => x ^^^ y) 39) := snd_ixor dX5_wedge_38
theorem oX5_wedge_39 : SX5_wedge 39 (i_si (fun v => v) 0 40) := snd_si0 dX5_wedge_39
theorem oX5_wedge_40 : SX5_wedge 40 (i_aload 0 41) := snd_aload_n dX5_wedge_40 rfl
theorem oX5_wedge_41 : SX5_wedge 41 (i_getf 4 24 44) := snd_getf dX5_wedge_41 rfl (by decide) in_X5 (Or.inl q1722) (Or.inl rfl) (by decide)
theorem oX5_wedge_44 : SX5_wedge 44 (i_const (.int (nI 1)) 45) := snd_iconst dX5_wedge_44 (by decide)
theorem oX5_wedge_45 : SX5_wedge 45 (i_ai 0 46) := snd_ai0 dX5_wedge_45
theorem oX5_wedge_46 : SX5_wedge 46 (i_iload 1 47) := snd_iload_n dX5_wedge_46 rfl
theorem oX5_wedge_47 : SX5_wedge 47 (i_ii (fun x y => x >>> (y &&& 31)) 48) := snd_ishr dX5_wedge_47
theorem oX5_wedge_48 : SX5_wedge 48 (i_const (.int (nI 1)) 49) := snd_iconst dX5_wedge_48 (by decide)
theorem oX5_wedge_49 : SX5_wedge 49 (i_ii (fun x y => x &&& y) 50) := snd_iand dX5_wedge_49
theorem oX5_wedge_50 : SX5_wedge 50 (i_iret) := snd_iret dX5_wedge_50 rfl
theorem okX5_wedge : ∀ q ∈ cX5_wedge, SX5_wedge q.1 q.2 := List.forall_mem_cons.mpr ⟨oX5_wedge_0, List.forall_mem_cons.mpr ⟨oX5_wedge_1, List.forall_mem_cons.mpr ⟨oX5_wedge_2, List.forall_mem_cons.mpr ⟨oX5_wedge_5, List.forall_mem_cons.mpr ⟨oX5_wedge_6, List.forall_mem_cons.mpr ⟨oX5_wedge_7, List.forall_mem_cons.mpr ⟨oX5_wedge_10, List.forall_mem_cons.mpr ⟨oX5_wedge_13, List.forall_mem_cons.mpr ⟨oX5_wedge_14, List.forall_mem_cons.mpr ⟨oX5_wedge_15, List.forall_mem_cons.mpr ⟨oX5_wedge_16, List.forall_mem_cons.mpr ⟨oX5_wedge_19, List.forall_mem_cons.mpr ⟨oX5_wedge_22, List.forall_mem_cons.mpr ⟨oX5_wedge_23, List.forall_mem_cons.mpr ⟨oX5_wedge_24, List.forall_mem_cons.mpr ⟨oX5_wedge_25, List.forall_mem_cons.mpr ⟨oX5_wedge_28, List.forall_mem_cons.mpr ⟨oX5_wedge_29, List.forall_mem_cons.mpr ⟨oX5_wedge_32, List.forall_mem_cons.mpr ⟨oX5_wedge_33, List.forall_mem_cons.mpr ⟨oX5_wedge_34, List.forall_mem_cons.mpr ⟨oX5_wedge_35, List.forall_mem_cons.mpr ⟨oX5_wedge_36, List.forall_mem_cons.mpr ⟨oX5_wedge_37, List.forall_mem_cons.mpr ⟨oX5_wedge_38, List.forall_mem_cons.mpr ⟨oX5_wedge_39, List.forall_mem_cons.mpr ⟨oX5_wedge_40, List.forall_mem_cons.mpr ⟨oX5_wedge_41, List.forall_mem_cons.mpr ⟨oX5_wedge_44, List.forall_mem_cons.mpr ⟨oX5_wedge_45, List.forall_mem_cons.mpr ⟨oX5_wedge_46, List.forall_mem_cons.mpr ⟨oX5_wedge_47, List.forall_mem_cons.mpr ⟨oX5_wedge_48, List.forall_mem_cons.mpr ⟨oX5_wedge_49, List.forall_mem_cons.mpr ⟨oX5_wedge_50, fun _ h => absurd h List.not_mem_nil⟩⟩⟩⟩⟩⟩⟩⟩⟩⟩⟩⟩⟩⟩⟩⟩⟩⟩⟩⟩⟩⟩⟩⟩⟩⟩⟩⟩⟩⟩⟩⟩⟩⟩⟩
def dkwX5_mayWedge_0 : List UInt8 := [42, 27, 28, 182, 1, 41, 154, 0, 12, 42, 27, 28, 182, 1, 45, 154, 0, 7, 4, 167, 0, 4, 3, 172]
abbrev dktX5_mayWedge_0 : List UInt8 := dkwX5_mayWedge_0 ++ []
theorem dksX5_mayWedge_0 : bcX5_mayWedge.data.toList.drop 0 = dktX5_mayWedge_0 := by decide +kernel
theorem dX5_mayWedge_0 : decode bcX5_mayWedge 0 = .ok (.aload_n 0, 1) := dk_42 (dk_at dksX5_mayWedge_0 0 rfl rfl)
theorem dX5_mayWedge_1 : decode bcX5_mayWedge 1 = .ok (.iload_n 1, 1) := dk_27 (dk_at dksX5_mayWedge_0 1 rfl rfl)
theorem dX5_mayWedge_2 : decode bcX5_mayWedge 2 = .ok (.iload_n 2, 1) := dk_28 (dk_at dksX5_mayWedge_0 2 rfl rfl)
theorem dX5_mayWedge_3 : decode bcX5_mayWedge 3 = .ok (.invokevirtual 297, 3) := dk_182 1 41 (dk_at dksX5_mayWedge_0 3 rfl rfl)
theorem dX5_mayWedge_6 : decode bcX5_mayWedge 6 = .ok (.ifCond .ne 12, 3) := dk_154 0 12 (dk_at dksX5_mayWedge_0 6 rfl rfl)
theorem dX5_mayWedge_9 : decode bcX5_mayWedge 9 = .ok (.aload_n 0, 1) := dk_42 (dk_at dksX5_mayWedge_0 9 rfl rfl)
theorem dX5_mayWedge_10 : decode bcX5_mayWedge 10 = .ok (.iload_n 1, 1) := dk_27 (dk_at dksX5_mayWedge_0 10 rfl rfl)
theorem dX5_mayWedge_11 : decode bcX5_mayWedge 11 = .ok (.iload_n 2, 1) := dk_28 (dk_at dksX5_mayWedge_0 11 rfl rfl)
theorem dX5_mayWedge_12 : decode bcX5_mayWedge 12 = .ok (.invokevirtual 301, 3) := dk_182 1 45 (dk_at dksX5_mayWedge_0 12 rfl rfl)
theorem dX5_mayWedge_15 : decode bcX5_mayWedge 15 = .ok (.ifCond .ne 7, 3) := dk_154 0 7 (dk_at dksX5_mayWedge_0 15 rfl rfl)
theorem dX5_mayWedge_18 : decode bcX5_mayWedge 18 = .ok (.iconst 1, 1) := dk_4 (dk_at dksX5_mayWedge_0 18 rfl rfl)
theorem dX5_mayWedge_19 : decode bcX5_mayWedge 19 = .ok (.goto 4, 3) := dk_167 0 4 (dk_at dksX5_mayWedge_0 19 rfl rfl)
theorem dX5_mayWedge_22 : decode bcX5_mayWedge 22 = .ok (.iconst 0, 1) := dk_3 (dk_at dksX5_mayWedge_0 22 rfl rfl)
theorem dX5_mayWedge_23 : decode bcX5_mayWedge 23 = .ok (.ireturn, 1) := dk_172 (dk_at dksX5_mayWedge_0 23 rfl rfl)
abbrev SX5_mayWedge (pc : Nat) (i : xI) : Prop := Snd "SwollenHouseModel" "mayWedge" prog_25_method_63_code 3 (Option.some Jvm.ClassFile.FieldType.boolean) [] pc i
theorem oX5_mayWedge_0 : SX5_mayWedge 0 (i_aload 0 1) := snd_aload_n dX5_mayWedge_0 rfl
theorem oX5_mayWedge_1 : SX5_mayWedge 1 (i_iload 1 2) := snd_iload_n dX5_mayWedge_1 rfl
theorem oX5_mayWedge_2 : SX5_mayWedge 2 (i_iload 2 3) := snd_iload_n dX5_mayWedge_2 rfl
theorem oX5_mayWedge_3 : SX5_mayWedge 3 (i_cv 4 288 2 6) := snd_cv rfl infX5_isWedged (by decide) rfl (xVm_V dX5_mayWedge_3 rfl q1934 q1936 qs90 q136 q1937 pdX5_isWedged)
theorem oX5_mayWedge_6 : SX5_mayWedge 6 (i_if1 (fun x => ¬ x = 0) 18 9) := snd_if_ne dX5_mayWedge_6 (by decide)
theorem oX5_mayWedge_9 : SX5_mayWedge 9 (i_aload 0 10) := snd_aload_n dX5_mayWedge_9 rfl
theorem oX5_mayWedge_10 : SX5_mayWedge 10 (i_iload 1 11) := snd_iload_n dX5_mayWedge_10 rfl
theorem oX5_mayWedge_11 : SX5_mayWedge 11 (i_iload 2 12) := snd_iload_n dX5_mayWedge_11 rfl
theorem oX5_mayWedge_12 : SX5_mayWedge 12 (i_cv 4 289 2 15) := snd_cv rfl infX5_doesStick (by decide) rfl (xVm_V dX5_mayWedge_12 rfl q1938 q1940 qs91 q136 q1941 pdX5_doesStick)
theorem oX5_mayWedge_15 : SX5_mayWedge 15 (i_if1 (fun x => ¬ x = 0) 22 18) := snd_if_ne dX5_mayWedge_15 (by decide)
theorem oX5_mayWedge_18 : SX5_mayWedge 18 (i_const (.int (nI 1)) 19) := snd_iconst dX5_mayWedge_18 (by decide)
theorem oX5_mayWedge_19 : SX5_mayWedge 19 (i_goto 23) := snd_goto dX5_mayWedge_19 (by decide)
theorem oX5_mayWedge_22 : SX5_mayWedge 22 (i_const (.int (nI 0)) 23) := snd_iconst dX5_mayWedge_22 (by decide)
theorem oX5_mayWedge_23 : SX5_mayWedge 23 (i_zret) := snd_zret dX5_mayWedge_23 rfl
theorem okX5_mayWedge : ∀ q ∈ cX5_mayWedge, SX5_mayWedge q.1 q.2 := List.forall_mem_cons.mpr ⟨oX5_mayWedge_0, List.forall_mem_cons.mpr ⟨oX5_mayWedge_1, List.forall_mem_cons.mpr ⟨oX5_mayWedge_2, List.forall_mem_cons.mpr ⟨oX5_mayWedge_3, List.forall_mem_cons.mpr ⟨oX5_mayWedge_6, List.forall_mem_cons.mpr ⟨oX5_mayWedge_9, List.forall_mem_cons.mpr ⟨oX5_mayWedge_10, List.forall_mem_cons.mpr ⟨oX5_mayWedge_11, List.forall_mem_cons.mpr ⟨oX5_mayWedge_12, List.forall_mem_cons.mpr ⟨oX5_mayWedge_15, List.forall_mem_cons.mpr ⟨oX5_mayWedge_18, List.forall_mem_cons.mpr ⟨oX5_mayWedge_19, List.forall_mem_cons.mpr ⟨oX5_mayWedge_22, List.forall_mem_cons.mpr ⟨oX5_mayWedge_23, fun _ h => absurd h List.not_mem_nil⟩⟩⟩⟩⟩⟩⟩⟩⟩⟩⟩⟩⟩⟩
def dkwX5_force_2 : List UInt8 := [180, 0, 113, 5, 27, 96, 46, 172]
abbrev dktX5_force_2 : List UInt8 := dkwX5_force_2 ++ []
def dkwX5_force_1 : List UInt8 := [42, 182, 1, 69, 42, 180, 0, 113, 5, 27, 96, 42, 180, 0, 113, 16, 10, 27, 96, 46, 79, 42]
abbrev dktX5_force_1 : List UInt8 := dkwX5_force_1 ++ dktX5_force_2
def dkwX5_force_0 : List UInt8 := [42, 3, 181, 0, 1, 42, 27, 182, 1, 63, 153, 0, 12, 42, 3, 27, 182, 1, 86, 154, 0, 5, 2, 172]
abbrev dktX5_force_0 : List UInt8 := dkwX5_force_0 ++ dktX5_force_1
theorem dksX5_force_0 : bcX5_force.data.toList.drop 0 = dktX5_force_0 := by decide +kernel
theorem dksX5_force_1 : bcX5_force.data.toList.drop 24 = dktX5_force_1 := dk_seg dksX5_force_0 24 rfl rfl
theorem dksX5_force_2 : bcX5_force.data.toList.drop 46 = dktX5_force_2 := dk_seg dksX5_force_1 22 rfl rfl
theorem dX5_force_0 : decode bcX5_force 0 = .ok (.aload_n 0, 1) := dk_42 (dk_at dksX5_force_0 0 rfl rfl)
theorem dX5_force_1 : decode bcX5_force 1 = .ok (.iconst 0, 1) := dk_3 (dk_at dksX5_force_0 1 rfl rfl)
theorem dX5_force_2 : decode bcX5_force 2 = .ok (.putfield 1, 3) := dk_181 0 1 (dk_at dksX5_force_0 2 rfl rfl)
theorem dX5_force_5 : decode bcX5_force 5 = .ok (.aload_n 0, 1) := dk_42 (dk_at dksX5_force_0 5 rfl rfl)
theorem dX5_force_6 : decode bcX5_force 6 = .ok (.iload_n 1, 1) := dk_27 (dk_at dksX5_force_0 6 rfl rfl)
theorem dX5_force_7 : decode bcX5_force 7 = .ok (.invokevirtual 319, 3) := dk_182 1 63 (dk_at dksX5_force_0 7 rfl rfl)
theorem dX5_force_10 : decode bcX5_force 10 = .ok (.ifCond .eq 12, 3) := dk_153 0 12 (dk_at dksX5_force_0 10 rfl rfl)
theorem dX5_force_13 : decode bcX5_force 13 = .ok (.aload_n 0, 1) := dk_42 (dk_at dksX5_force_0 13 rfl rfl)
theorem dX5_force_14 : decode bcX5_force 14 = .ok (.iconst 0, 1) := dk_3 (dk_at dksX5_force_0 14 rfl rfl)
theorem dX5_force_15 : decode bcX5_force 15 = .ok (.iload_n 1, 1) := dk_27 (dk_at dksX5_force_0 15 rfl rfl)
theorem dX5_force_16 : decode bcX5_force 16 = .ok (.invokevirtual 342, 3) := dk_182 1 86 (dk_at dksX5_force_0 16 rfl rfl)
theorem dX5_force_19 : decode bcX5_force 19 = .ok (.ifCond .ne 5, 3) := dk_154 0 5 (dk_at dksX5_force_0 19 rfl rfl)
theorem dX5_force_22 : decode bcX5_force 22 = .ok (.iconst (-1), 1) := dk_2 (dk_at dksX5_force_0 22 rfl rfl)
theorem dX5_force_23 : decode bcX5_force 23 = .ok (.ireturn, 1) := dk_172 (dk_at dksX5_force_0 23 rfl rfl)
theorem dX5_force_24 : decode bcX5_force 24 = .ok (.aload_n 0, 1) := dk_42 (dk_at dksX5_force_1 0 rfl rfl)
theorem dX5_force_25 : decode bcX5_force 25 = .ok (.invokevirtual 325, 3) := dk_182 1 69 (dk_at dksX5_force_1 1 rfl rfl)
theorem dX5_force_28 : decode bcX5_force 28 = .ok (.aload_n 0, 1) := dk_42 (dk_at dksX5_force_1 4 rfl rfl)
theorem dX5_force_29 : decode bcX5_force 29 = .ok (.getfield 113, 3) := dk_180 0 113 (dk_at dksX5_force_1 5 rfl rfl)
theorem dX5_force_32 : decode bcX5_force 32 = .ok (.iconst 2, 1) := dk_5 (dk_at dksX5_force_1 8 rfl rfl)
theorem dX5_force_33 : decode bcX5_force 33 = .ok (.iload_n 1, 1) := dk_27 (dk_at dksX5_force_1 9 rfl rfl)
theorem dX5_force_34 : decode bcX5_force 34 = .ok (.iadd, 1) := dk_96 (dk_at dksX5_force_1 10 rfl rfl)
theorem dX5_force_35 : decode bcX5_force 35 = .ok (.aload_n 0, 1) := dk_42 (dk_at dksX5_force_1 11 rfl rfl)
theorem dX5_force_36 : decode bcX5_force 36 = .ok (.getfield 113, 3) := dk_180 0 113 (dk_at dksX5_force_1 12 rfl rfl)
theorem dX5_force_39 : decode bcX5_force 39 = .ok (.bipush 10, 2) := dk_16 10 (dk_at dksX5_force_1 15 rfl rfl)
theorem dX5_force_41 : decode bcX5_force 41 = .ok (.iload_n 1, 1) := dk_27 (dk_at dksX5_force_1 17 rfl rfl)
theorem dX5_force_42 : decode bcX5_force 42 = .ok (.iadd, 1) := dk_96 (dk_at dksX5_force_1 18 rfl rfl)
theorem dX5_force_43 : decode bcX5_force 43 = .ok (.iaload, 1) := dk_46 (dk_at dksX5_force_1 19 rfl rfl)
theorem dX5_force_44 : decode bcX5_force 44 = .ok (.iastore, 1) := dk_79 (dk_at dksX5_force_1 20 rfl rfl)
theorem dX5_force_45 : decode bcX5_force 45 = .ok (.aload_n 0, 1) := dk_42 (dk_at dksX5_force_1 21 rfl rfl)
theorem dX5_force_46 : decode bcX5_force 46 = .ok (.getfield 113, 3) := dk_180 0 113 (dk_at dksX5_force_2 0 rfl rfl)
theorem dX5_force_49 : decode bcX5_force 49 = .ok (.iconst 2, 1) := dk_5 (dk_at dksX5_force_2 3 rfl rfl)
theorem dX5_force_50 : decode bcX5_force 50 = .ok (.iload_n 1, 1) := dk_27 (dk_at dksX5_force_2 4 rfl rfl)
theorem dX5_force_51 : decode bcX5_force 51 = .ok (.iadd, 1) := dk_96 (dk_at dksX5_force_2 5 rfl rfl)
theorem dX5_force_52 : decode bcX5_force 52 = .ok (.iaload, 1) := dk_46 (dk_at dksX5_force_2 6 rfl rfl)
theorem dX5_force_53 : decode bcX5_force 53 = .ok (.ireturn, 1) := dk_172 (dk_at dksX5_force_2 7 rfl rfl)
abbrev SX5_force (pc : Nat) (i : xI) : Prop := Snd "SwollenHouseModel" "force" prog_25_method_73_code 2 (Option.some Jvm.ClassFile.FieldType.int) [] pc i
theorem oX5_force_0 : SX5_force 0 (i_aload 0 1) := snd_aload_n dX5_force_0 rfl
theorem oX5_force_1 : SX5_force 1 (i_const (.int (nI 0)) 2) := snd_iconst dX5_force_1 (by decide)
theorem oX5_force_2 : SX5_force 2 (i_putfi 4 0 5) := snd_putfi dX5_force_2 rfl (by decide) in_X5 tyX5 tyX5_ok nmX5 (Or.inl ⟨rfl, q1698⟩) (Or.inl rfl) rfl
theorem oX5_force_5 : SX5_force 5 (i_aload 0 6) := snd_aload_n dX5_force_5 rfl
theorem oX5_force_6 : SX5_force 6 (i_iload 1 7) := snd_iload_n dX5_force_6 rfl
theorem oX5_force_7 : SX5_force 7 (i_cv 4 287 1 10) := snd_cv rfl infX5_isDoor (by decide) rfl (xVm_V dX5_force_7 rfl q1930 q1932 qs89 q136 q1933 pdX5_isDoor)
theorem oX5_force_10 : SX5_force 10 (i_if1 (fun x => x = 0) 22 13) := snd_if_eq dX5_force_10 (by decide)
theorem oX5_force_13 : SX5_force 13 (i_aload 0 14) := snd_aload_n dX5_force_13 rfl
theorem oX5_force_14 : SX5_force 14 (i_const (.int (nI 0)) 15) := snd_iconst dX5_force_14 (by decide)
theorem oX5_force_15 : SX5_force 15 (i_iload 1 16) := snd_iload_n dX5_force_15 rfl
theorem oX5_force_16 : SX5_force 16 (i_cv 4 311 2 19) := snd_cv rfl infX5_mayForce (by decide) rfl (xVm_V dX5_force_16 rfl q2025 q2027 qs106 q136 q2028 pdX5_mayForce)
theorem oX5_force_19 : SX5_force 19 (i_if1 (fun x => ¬ x = 0) 24 22) := snd_if_ne dX5_force_19 (by decide)
theorem oX5_force_22 : SX5_force 22 (i_const (.int (-1)) 23) := snd_iconst dX5_force_22 (by decide)
theorem oX5_force_23 : SX5_force 23 (i_iret) := snd_iret dX5_force_23 rfl
theorem oX5_force_24 : SX5_force 24 (i_aload 0 25) := snd_aload_n dX5_force_24 rfl
theorem oX5_force_25 : SX5_force 25 (i_cvv 4 294 0 28) := snd_cvv rfl infX5_keeps (by decide) rfl (xVm_V dX5_force_25 rfl q1958 q1960 qs94 q136 q1961 pdX5_keeps)
theorem oX5_force_28 : SX5_force 28 (i_aload 0 29) := snd_aload_n dX5_force_28 rfl
theorem oX5_force_29 : SX5_force 29 (i_getf 4 24 32) := snd_getf dX5_force_29 rfl (by decide) in_X5 (Or.inl q1722) (Or.inl rfl) (by decide)
theorem oX5_force_32 : SX5_force 32 (i_const (.int (nI 2)) 33) := snd_iconst dX5_force_32 (by decide)
theorem oX5_force_33 : SX5_force 33 (i_iload 1 34) := snd_iload_n dX5_force_33 rfl
theorem oX5_force_34 : SX5_force 34 (i_ii (fun x y => x + y) 35) := snd_iadd dX5_force_34
theorem oX5_force_35 : SX5_force 35 (i_aload 0 36) := snd_aload_n dX5_force_35 rfl
theorem oX5_force_36 : SX5_force 36 (i_getf 4 24 39) := snd_getf dX5_force_36 rfl (by decide) in_X5 (Or.inl q1722) (Or.inl rfl) (by decide)
theorem oX5_force_39 : SX5_force 39 (i_const (.int (nI 10)) 41) := snd_bipush dX5_force_39 (by decide)
theorem oX5_force_41 : SX5_force 41 (i_iload 1 42) := snd_iload_n dX5_force_41 rfl
theorem oX5_force_42 : SX5_force 42 (i_ii (fun x y => x + y) 43) := snd_iadd dX5_force_42
theorem oX5_force_43 : SX5_force 43 (i_ai 0 44) := snd_ai0 dX5_force_43
theorem oX5_force_44 : SX5_force 44 (i_si (fun v => v) 0 45) := snd_si0 dX5_force_44
theorem oX5_force_45 : SX5_force 45 (i_aload 0 46) := snd_aload_n dX5_force_45 rfl
theorem oX5_force_46 : SX5_force 46 (i_getf 4 24 49) := snd_getf dX5_force_46 rfl (by decide) in_X5 (Or.inl q1722) (Or.inl rfl) (by decide)
theorem oX5_force_49 : SX5_force 49 (i_const (.int (nI 2)) 50) := snd_iconst dX5_force_49 (by decide)
theorem oX5_force_50 : SX5_force 50 (i_iload 1 51) := snd_iload_n dX5_force_50 rfl
theorem oX5_force_51 : SX5_force 51 (i_ii (fun x y => x + y) 52) := snd_iadd dX5_force_51
theorem oX5_force_52 : SX5_force 52 (i_ai 0 53) := snd_ai0 dX5_force_52
theorem oX5_force_53 : SX5_force 53 (i_iret) := snd_iret dX5_force_53 rfl
theorem okX5_force : ∀ q ∈ cX5_force, SX5_force q.1 q.2 := List.forall_mem_cons.mpr ⟨oX5_force_0, List.forall_mem_cons.mpr ⟨oX5_force_1, List.forall_mem_cons.mpr ⟨oX5_force_2, List.forall_mem_cons.mpr ⟨oX5_force_5, List.forall_mem_cons.mpr ⟨oX5_force_6, List.forall_mem_cons.mpr ⟨oX5_force_7, List.forall_mem_cons.mpr ⟨oX5_force_10, List.forall_mem_cons.mpr ⟨oX5_force_13, List.forall_mem_cons.mpr ⟨oX5_force_14, List.forall_mem_cons.mpr ⟨oX5_force_15, List.forall_mem_cons.mpr ⟨oX5_force_16, List.forall_mem_cons.mpr ⟨oX5_force_19, List.forall_mem_cons.mpr ⟨oX5_force_22, List.forall_mem_cons.mpr ⟨oX5_force_23, List.forall_mem_cons.mpr ⟨oX5_force_24, List.forall_mem_cons.mpr ⟨oX5_force_25, List.forall_mem_cons.mpr ⟨oX5_force_28, List.forall_mem_cons.mpr ⟨oX5_force_29, List.forall_mem_cons.mpr ⟨oX5_force_32, List.forall_mem_cons.mpr ⟨oX5_force_33, List.forall_mem_cons.mpr ⟨oX5_force_34, List.forall_mem_cons.mpr ⟨oX5_force_35, List.forall_mem_cons.mpr ⟨oX5_force_36, List.forall_mem_cons.mpr ⟨oX5_force_39, List.forall_mem_cons.mpr ⟨oX5_force_41, List.forall_mem_cons.mpr ⟨oX5_force_42, List.forall_mem_cons.mpr ⟨oX5_force_43, List.forall_mem_cons.mpr ⟨oX5_force_44, List.forall_mem_cons.mpr ⟨oX5_force_45, List.forall_mem_cons.mpr ⟨oX5_force_46, List.forall_mem_cons.mpr ⟨oX5_force_49, List.forall_mem_cons.mpr ⟨oX5_force_50, List.forall_mem_cons.mpr ⟨oX5_force_51, List.forall_mem_cons.mpr ⟨oX5_force_52, List.forall_mem_cons.mpr ⟨oX5_force_53, fun _ h => absurd h List.not_mem_nil⟩⟩⟩⟩⟩⟩⟩⟩⟩⟩⟩⟩⟩⟩⟩⟩⟩⟩⟩⟩⟩⟩⟩⟩⟩⟩⟩⟩⟩⟩⟩⟩⟩⟩⟩
